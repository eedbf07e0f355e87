/-! ThirtyThreeBelowModel -/
set_option maxRecDepth 100000
def RX5 : String := "ThirtyThreeBelowModel"
def TX5 : u_T := fun k => match k with
  | 0 => ("ThirtyThreeBelowModel", "code", "I", false)
  | 1 => ("ThirtyThreeBelowModel", "hour", "I", false)
  | 2 => ("ThirtyThreeBelowModel", "harder", "[I", true)
  | 3 => ("ThirtyThreeBelowModel", "isOpen", "[Z", true)
  | 4 => ("ThirtyThreeBelowModel", "bodies", "I", false)
  | 5 => ("ThirtyThreeBelowModel", "kind", "[I", true)
  | 6 => ("ThirtyThreeBelowModel", "column", "[I", true)
  | 7 => ("ThirtyThreeBelowModel", "width", "[I", true)
  | 8 => ("ThirtyThreeBelowModel", "trueColumn", "[I", true)
  | 9 => ("ThirtyThreeBelowModel", "toldYards", "[I", true)
  | 10 => ("ThirtyThreeBelowModel", "bored", "[I", true)
  | 11 => ("ThirtyThreeBelowModel", "kept", "[I", true)
  | 12 => ("ThirtyThreeBelowModel", "throughOn", "[I", true)
  | 13 => ("ThirtyThreeBelowModel", "lean", "[I", true)
  | 14 => ("ThirtyThreeBelowModel", "metAt", "[I", true)
  | 15 => ("ThirtyThreeBelowModel", "isLogged", "[Z", true)
  | 16 => ("ThirtyThreeBelowModel", "logged", "[I", true)
  | 17 => ("ThirtyThreeBelowModel", "strength", "[I", true)
  | 18 => ("ThirtyThreeBelowModel", "skill", "[I", true)
  | 19 => ("ThirtyThreeBelowModel", "ill", "[I", true)
  | 20 => ("ThirtyThreeBelowModel", "isBelow", "[Z", true)
  | 21 => ("ThirtyThreeBelowModel", "theShelter", "I", false)
  | 22 => ("ThirtyThreeBelowModel", "shelterA", "I", false)
  | 23 => ("ThirtyThreeBelowModel", "shelterB", "I", false)
  | 24 => ("ThirtyThreeBelowModel", "shelterYard", "I", false)
  | 25 => ("ThirtyThreeBelowModel", "shelterMoved", "Z", false)
  | 26 => ("ThirtyThreeBelowModel", "speedOf", "[I", true)
  | 27 => ("ThirtyThreeBelowModel", "holeOf", "[I", true)
  | 28 => ("ThirtyThreeBelowModel", "brokenTill", "[I", true)
  | 29 => ("ThirtyThreeBelowModel", "spreadIs", "I", false)
  | 30 => ("ThirtyThreeBelowModel", "maps", "I", false)
  | 31 => ("ThirtyThreeBelowModel", "mapA", "[I", true)
  | 32 => ("ThirtyThreeBelowModel", "mapB", "[I", true)
  | 33 => ("ThirtyThreeBelowModel", "mapYard", "[I", true)
  | 34 => ("ThirtyThreeBelowModel", "olds", "[I", true)
  | 35 => ("ThirtyThreeBelowModel", "oldCell", "[I", true)
  | 36 => ("ThirtyThreeBelowModel", "tape", "[B", true)
  | 37 => ("ThirtyThreeBelowModel", "taped", "I", false)
  | 38 => ("ThirtyThreeBelowModel", "texts", "I", false)
  | 39 => ("ThirtyThreeBelowModel", "textWhat", "[I", true)
  | 40 => ("ThirtyThreeBelowModel", "made", "[I", true)
  | 41 => ("ThirtyThreeBelowModel", "textFrom", "[I", true)
  | 42 => ("ThirtyThreeBelowModel", "lineMany", "[I", true)
  | 43 => ("ThirtyThreeBelowModel", "testEnd", "[I", true)
  | 44 => ("ThirtyThreeBelowModel", "lineEnd", "[I", true)
  | 45 => ("ThirtyThreeBelowModel", "act", "[I", true)
  | 46 => ("ThirtyThreeBelowModel", "with", "[I", true)
  | 47 => ("ThirtyThreeBelowModel", "here", "I", false)
  | 48 => ("ThirtyThreeBelowModel", "fault", "I", false)
  | 49 => ("ThirtyThreeBelowModel", "open", "I", false)
  | 50 => ("ThirtyThreeBelowModel", "row", "I", false)
  | 51 => ("ThirtyThreeBelowModel", "laid", "I", false)
  | 52 => ("ThirtyThreeBelowModel", "facts", "[I", true)
  | 53 => ("ThirtyThreeBelowModel", "pile", "[I", true)
  | 54 => ("ThirtyThreeBelowModel", "spoonsBelow", "I", false)
  | 55 => ("ThirtyThreeBelowModel", "eaten", "I", false)
  | 56 => ("ThirtyThreeBelowModel", "moveMany", "I", false)
  | 57 => ("ThirtyThreeBelowModel", "moveCell", "[I", true)
  | 58 => ("ThirtyThreeBelowModel", "moveHour", "[I", true)
  | 59 => ("ThirtyThreeBelowModel", "mayBore", "[Z", true)
  | 60 => ("ThirtyThreeBelowModel", "boreSpeed", "[I", true)
  | 61 => ("ThirtyThreeBelowModel", "trialStrength", "[I", true)
  | 62 => ("ThirtyThreeBelowModel", "ways", "I", false)
  | 63 => ("ThirtyThreeBelowModel", "wayWhat", "[I", true)
  | 64 => ("ThirtyThreeBelowModel", "wayHour", "[I", true)
  | 65 => ("ThirtyThreeBelowModel", "tubeFree", "[I", true)
  | 66 => ("ThirtyThreeBelowModel", "stuffBelow", "[I", true)
  | 67 => ("ThirtyThreeBelowModel", "needs", "I", false)
  | 68 => ("ThirtyThreeBelowModel", "needHours", "[I", true)
  | 69 => ("ThirtyThreeBelowModel", "needWeight", "[I", true)
  | 70 => ("ThirtyThreeBelowModel", "needBy", "[I", true)
  | 71 => ("ThirtyThreeBelowModel", "leastOf", "[I", true)
  | 72 => ("ThirtyThreeBelowModel", "orderMany", "I", false)
  | 73 => ("ThirtyThreeBelowModel", "orderRow", "[I", true)
  | 74 => ("ThirtyThreeBelowModel", "watchPlaces", "I", false)
  | 75 => ("ThirtyThreeBelowModel", "watcher", "[I", true)
  | 76 => ("ThirtyThreeBelowModel", "aims", "I", false)
  | 77 => ("ThirtyThreeBelowModel", "aimMisses", "[I", true)
  | 78 => ("ThirtyThreeBelowModel", "rocks", "[I", true)
  | 79 => ("ThirtyThreeBelowModel", "aimedMany", "I", false)
  | 80 => ("ThirtyThreeBelowModel", "aimedPlace", "[I", true)
  | 81 => ("ThirtyThreeBelowModel", "aimedMachine", "[I", true)
  | 82 => ("ThirtyThreeBelowModel", "upMany", "I", false)
  | 83 => ("ThirtyThreeBelowModel", "capsuleHour", "I", false)
  | 84 => ("ThirtyThreeBelowModel", "upMan", "[I", true)
  | 85 => ("ThirtyThreeBelowModel", "upValue", "[I", true)
  | 86 => ("ThirtyThreeBelowModel", "upHour", "[I", true)
  | 87 => ("ThirtyThreeBelowModel", "traces", "I", false)
  | 88 => ("ThirtyThreeBelowModel", "traced", "[I", true)
  | 89 => ("ThirtyThreeBelowModel", "holds", "[I", true)
  | 90 => ("ThirtyThreeBelowModel", "size", "[I", true)
  | 91 => ("ThirtyThreeBelowModel", "elements", "[J", true)
  | 92 => ("ThirtyThreeBelowModel", "isBlank", "[Z", true)
  | 93 => ("ThirtyThreeBelowModel", "shifted", "[J", true)
  | _ => ("ThirtyThreeBelowModel", "shiftedBlank", "[Z", true)
def tyX5 : Nat → FieldType := fun k => match k with
  | 0 => .int
  | 1 => .int
  | 2 => .array .int
  | 3 => .array .boolean
  | 4 => .int
  | 5 => .array .int
  | 6 => .array .int
  | 7 => .array .int
  | 8 => .array .int
  | 9 => .array .int
  | 10 => .array .int
  | 11 => .array .int
  | 12 => .array .int
  | 13 => .array .int
  | 14 => .array .int
  | 15 => .array .boolean
  | 16 => .array .int
  | 17 => .array .int
  | 18 => .array .int
  | 19 => .array .int
  | 20 => .array .boolean
  | 21 => .int
  | 22 => .int
  | 23 => .int
  | 24 => .int
  | 25 => .boolean
  | 26 => .array .int
  | 27 => .array .int
  | 28 => .array .int
  | 29 => .int
  | 30 => .int
  | 31 => .array .int
  | 32 => .array .int
  | 33 => .array .int
  | 34 => .array .int
  | 35 => .array .int
  | 36 => .array .byte
  | 37 => .int
  | 38 => .int
  | 39 => .array .int
  | 40 => .array .int
  | 41 => .array .int
  | 42 => .array .int
  | 43 => .array .int
  | 44 => .array .int
  | 45 => .array .int
  | 46 => .array .int
  | 47 => .int
  | 48 => .int
  | 49 => .int
  | 50 => .int
  | 51 => .int
  | 52 => .array .int
  | 53 => .array .int
  | 54 => .int
  | 55 => .int
  | 56 => .int
  | 57 => .array .int
  | 58 => .array .int
  | 59 => .array .boolean
  | 60 => .array .int
  | 61 => .array .int
  | 62 => .int
  | 63 => .array .int
  | 64 => .array .int
  | 65 => .array .int
  | 66 => .array .int
  | 67 => .int
  | 68 => .array .int
  | 69 => .array .int
  | 70 => .array .int
  | 71 => .array .int
  | 72 => .int
  | 73 => .array .int
  | 74 => .int
  | 75 => .array .int
  | 76 => .int
  | 77 => .array .int
  | 78 => .array .int
  | 79 => .int
  | 80 => .array .int
  | 81 => .array .int
  | 82 => .int
  | 83 => .int
  | 84 => .array .int
  | 85 => .array .int
  | 86 => .array .int
  | 87 => .int
  | 88 => .array .int
  | 89 => .array .int
  | 90 => .array .int
  | 91 => .array .long
  | 92 => .array .boolean
  | 93 => .array .long
  | _ => .array .boolean
abbrev wsX50 : List Cond := u_ws RX5 TX5 95
set_option maxRecDepth 100000 in
theorem nmX5 : ∀ a, a < 95 → ∀ b, b < 95 → a ≠ b → (TX5 a).2.1 ≠ (TX5 b).2.1 := by decide +kernel
set_option maxRecDepth 100000 in
theorem tyX5_ok : ∀ k, k < 95 → parseFieldDescriptor (TX5 k).2.2.1 = some (tyX5 k) := by decide +kernel
abbrev cX5_init : ByteArray := prog_22_method_1_code
def yX5_init : MethodName := ⟨RX5, "<init>", "()V"⟩
def dkwX5_init_31 : List UInt8 := [181, 0, 221, 42, 16, 60, 188, 4, 181, 0, 224, 177]
abbrev dktX5_init_31 : List UInt8 := dkwX5_init_31 ++ []
def dkwX5_init_30 : List UInt8 := [17, 1, 104, 188, 11, 181, 0, 214, 42, 17, 1, 104, 188, 4, 181, 0, 218, 42, 16, 60, 188, 11]
abbrev dktX5_init_30 : List UInt8 := dkwX5_init_30 ++ dktX5_init_31
def dkwX5_init_29 : List UInt8 := [89, 6, 2, 79, 89, 7, 2, 79, 89, 8, 2, 79, 181, 0, 208, 42, 16, 6, 188, 10, 181, 0, 211, 42]
abbrev dktX5_init_29 : List UInt8 := dkwX5_init_29 ++ dktX5_init_30
def dkwX5_init_28 : List UInt8 := [16, 24, 188, 10, 181, 0, 205, 42, 16, 6, 188, 10, 89, 3, 2, 79, 89, 4, 2, 79, 89, 5, 2, 79]
abbrev dktX5_init_28 : List UInt8 := dkwX5_init_28 ++ dktX5_init_29
def dkwX5_init_27 : List UInt8 := [16, 120, 188, 10, 181, 0, 196, 42, 16, 120, 188, 10, 181, 0, 199, 42, 16, 120, 188, 10, 181, 0, 202, 42]
abbrev dktX5_init_27 : List UInt8 := dkwX5_init_27 ++ dktX5_init_28
def dkwX5_init_26 : List UInt8 := [181, 0, 184, 42, 5, 188, 10, 181, 0, 187, 42, 5, 188, 10, 181, 0, 190, 42, 2, 181, 0, 193, 42]
abbrev dktX5_init_26 : List UInt8 := dkwX5_init_26 ++ dktX5_init_27
def dkwX5_init_25 : List UInt8 := [16, 19, 4, 79, 89, 16, 20, 4, 79, 89, 16, 21, 4, 79, 89, 16, 22, 4, 79, 89, 16, 23, 4, 79]
abbrev dktX5_init_25 : List UInt8 := dkwX5_init_25 ++ dktX5_init_26
def dkwX5_init_24 : List UInt8 := [4, 79, 89, 16, 15, 4, 79, 89, 16, 16, 4, 79, 89, 16, 17, 4, 79, 89, 16, 18, 4, 79, 89]
abbrev dktX5_init_24 : List UInt8 := dkwX5_init_24 ++ dktX5_init_25
def dkwX5_init_23 : List UInt8 := [79, 89, 16, 10, 4, 79, 89, 16, 11, 4, 79, 89, 16, 12, 4, 79, 89, 16, 13, 4, 79, 89, 16, 14]
abbrev dktX5_init_23 : List UInt8 := dkwX5_init_23 ++ dktX5_init_24
def dkwX5_init_22 : List UInt8 := [79, 89, 8, 4, 79, 89, 16, 6, 4, 79, 89, 16, 7, 4, 79, 89, 16, 8, 4, 79, 89, 16, 9, 4]
abbrev dktX5_init_22 : List UInt8 := dkwX5_init_22 ++ dktX5_init_23
def dkwX5_init_21 : List UInt8 := [42, 16, 24, 188, 10, 89, 3, 4, 79, 89, 4, 4, 79, 89, 5, 4, 79, 89, 6, 4, 79, 89, 7, 4]
abbrev dktX5_init_21 : List UInt8 := dkwX5_init_21 ++ dktX5_init_22
def dkwX5_init_20 : List UInt8 := [181, 0, 172, 42, 2, 181, 0, 175, 42, 16, 9, 188, 10, 181, 0, 178, 42, 16, 6, 188, 10, 181, 0, 181]
abbrev dktX5_init_20 : List UInt8 := dkwX5_init_20 ++ dktX5_init_21
def dkwX5_init_19 : List UInt8 := [188, 10, 181, 0, 163, 42, 17, 4, 0, 188, 10, 181, 0, 166, 42, 2, 181, 0, 169, 42, 16, 10, 188, 10]
abbrev dktX5_init_19 : List UInt8 := dkwX5_init_19 ++ dktX5_init_20
def dkwX5_init_18 : List UInt8 := [188, 10, 181, 0, 154, 42, 16, 10, 188, 10, 181, 0, 157, 42, 16, 10, 188, 10, 181, 0, 160, 42, 16, 10]
abbrev dktX5_init_18 : List UInt8 := dkwX5_init_18 ++ dktX5_init_19
def dkwX5_init_17 : List UInt8 := [188, 10, 181, 0, 145, 42, 16, 40, 188, 10, 181, 0, 148, 42, 16, 120, 188, 10, 181, 0, 151, 42, 16, 10]
abbrev dktX5_init_17 : List UInt8 := dkwX5_init_17 ++ dktX5_init_18
def dkwX5_init_16 : List UInt8 := [188, 4, 181, 0, 136, 42, 16, 120, 188, 10, 181, 0, 139, 42, 16, 120, 188, 10, 181, 0, 142, 42, 16, 40]
abbrev dktX5_init_16 : List UInt8 := dkwX5_init_16 ++ dktX5_init_17
def dkwX5_init_15 : List UInt8 := [188, 10, 181, 0, 127, 42, 16, 60, 188, 10, 181, 0, 130, 42, 16, 60, 188, 10, 181, 0, 133, 42, 16, 120]
abbrev dktX5_init_15 : List UInt8 := dkwX5_init_15 ++ dktX5_init_16
def dkwX5_init_14 : List UInt8 := [181, 0, 118, 42, 17, 11, 74, 188, 10, 181, 0, 121, 42, 16, 8, 188, 10, 181, 0, 124, 42, 17, 0, 170]
abbrev dktX5_init_14 : List UInt8 := dkwX5_init_14 ++ dktX5_init_15
def dkwX5_init_13 : List UInt8 := [17, 5, 250, 188, 10, 181, 0, 112, 42, 17, 5, 250, 188, 10, 181, 0, 115, 42, 17, 11, 74, 188, 10]
abbrev dktX5_init_13 : List UInt8 := dkwX5_init_13 ++ dktX5_init_14
def dkwX5_init_12 : List UInt8 := [16, 16, 188, 10, 181, 0, 103, 42, 16, 16, 188, 10, 181, 0, 106, 42, 16, 17, 188, 10, 181, 0, 109, 42]
abbrev dktX5_init_12 : List UInt8 := dkwX5_init_12 ++ dktX5_init_13
def dkwX5_init_11 : List UInt8 := [188, 10, 181, 0, 93, 42, 17, 0, 160, 188, 8, 181, 0, 96, 42, 16, 16, 188, 10, 181, 0, 100, 42]
abbrev dktX5_init_11 : List UInt8 := dkwX5_init_11 ++ dktX5_init_12
def dkwX5_init_10 : List UInt8 := [181, 0, 84, 42, 16, 8, 188, 10, 181, 0, 87, 42, 16, 8, 188, 10, 181, 0, 90, 42, 17, 1, 64]
abbrev dktX5_init_10 : List UInt8 := dkwX5_init_10 ++ dktX5_init_11
def dkwX5_init_9 : List UInt8 := [79, 181, 0, 75, 42, 5, 181, 0, 78, 42, 16, 8, 188, 10, 181, 0, 81, 42, 16, 8, 188, 10]
abbrev dktX5_init_9 : List UInt8 := dkwX5_init_9 ++ dktX5_init_10
def dkwX5_init_8 : List UInt8 := [2, 79, 89, 5, 2, 79, 181, 0, 72, 42, 6, 188, 10, 89, 3, 2, 79, 89, 4, 2, 79, 89, 5, 2]
abbrev dktX5_init_8 : List UInt8 := dkwX5_init_8 ++ dktX5_init_9
def dkwX5_init_7 : List UInt8 := [79, 89, 4, 16, 20, 79, 89, 5, 16, 20, 79, 181, 0, 69, 42, 6, 188, 10, 89, 3, 2, 79, 89, 4]
abbrev dktX5_init_7 : List UInt8 := dkwX5_init_7 ++ dktX5_init_8
def dkwX5_init_6 : List UInt8 := [181, 0, 59, 42, 16, 120, 188, 4, 181, 0, 62, 42, 2, 181, 0, 65, 42, 6, 188, 10, 89, 3, 16, 20]
abbrev dktX5_init_6 : List UInt8 := dkwX5_init_6 ++ dktX5_init_7
def dkwX5_init_5 : List UInt8 := [181, 0, 50, 42, 16, 120, 188, 10, 181, 0, 53, 42, 16, 120, 188, 10, 181, 0, 56, 42, 16, 120, 188, 10]
abbrev dktX5_init_5 : List UInt8 := dkwX5_init_5 ++ dktX5_init_6
def dkwX5_init_4 : List UInt8 := [42, 17, 28, 152, 188, 10, 181, 0, 44, 42, 17, 28, 152, 188, 4, 181, 0, 47, 42, 17, 28, 152, 188, 10]
abbrev dktX5_init_4 : List UInt8 := dkwX5_init_4 ++ dktX5_init_5
def dkwX5_init_3 : List UInt8 := [16, 120, 188, 10, 181, 0, 35, 42, 16, 120, 188, 10, 181, 0, 38, 42, 17, 28, 152, 188, 10, 181, 0, 41]
abbrev dktX5_init_3 : List UInt8 := dkwX5_init_3 ++ dktX5_init_4
def dkwX5_init_2 : List UInt8 := [16, 120, 188, 10, 181, 0, 26, 42, 16, 120, 188, 10, 181, 0, 29, 42, 16, 120, 188, 10, 181, 0, 32, 42]
abbrev dktX5_init_2 : List UInt8 := dkwX5_init_2 ++ dktX5_init_3
def dkwX5_init_1 : List UInt8 := [16, 120, 188, 10, 181, 0, 17, 42, 16, 120, 188, 10, 181, 0, 20, 42, 16, 120, 188, 10, 181, 0, 23, 42]
abbrev dktX5_init_1 : List UInt8 := dkwX5_init_1 ++ dktX5_init_2
def dkwX5_init_0 : List UInt8 := [42, 183, 0, 1, 42, 17, 7, 160, 188, 10, 181, 0, 7, 42, 17, 7, 160, 188, 4, 181, 0, 13, 42]
abbrev dktX5_init_0 : List UInt8 := dkwX5_init_0 ++ dktX5_init_1
theorem dksX5_init_0 : cX5_init.data.toList.drop 0 = dktX5_init_0 := by decide +kernel
theorem dksX5_init_1 : cX5_init.data.toList.drop 23 = dktX5_init_1 := dk_seg dksX5_init_0 23 rfl rfl
theorem dksX5_init_2 : cX5_init.data.toList.drop 47 = dktX5_init_2 := dk_seg dksX5_init_1 24 rfl rfl
theorem dksX5_init_3 : cX5_init.data.toList.drop 71 = dktX5_init_3 := dk_seg dksX5_init_2 24 rfl rfl
theorem dksX5_init_4 : cX5_init.data.toList.drop 95 = dktX5_init_4 := dk_seg dksX5_init_3 24 rfl rfl
theorem dksX5_init_5 : cX5_init.data.toList.drop 119 = dktX5_init_5 := dk_seg dksX5_init_4 24 rfl rfl
theorem dksX5_init_6 : cX5_init.data.toList.drop 143 = dktX5_init_6 := dk_seg dksX5_init_5 24 rfl rfl
theorem dksX5_init_7 : cX5_init.data.toList.drop 167 = dktX5_init_7 := dk_seg dksX5_init_6 24 rfl rfl
theorem dksX5_init_8 : cX5_init.data.toList.drop 191 = dktX5_init_8 := dk_seg dksX5_init_7 24 rfl rfl
theorem dksX5_init_9 : cX5_init.data.toList.drop 215 = dktX5_init_9 := dk_seg dksX5_init_8 24 rfl rfl
theorem dksX5_init_10 : cX5_init.data.toList.drop 237 = dktX5_init_10 := dk_seg dksX5_init_9 22 rfl rfl
theorem dksX5_init_11 : cX5_init.data.toList.drop 260 = dktX5_init_11 := dk_seg dksX5_init_10 23 rfl rfl
theorem dksX5_init_12 : cX5_init.data.toList.drop 283 = dktX5_init_12 := dk_seg dksX5_init_11 23 rfl rfl
theorem dksX5_init_13 : cX5_init.data.toList.drop 307 = dktX5_init_13 := dk_seg dksX5_init_12 24 rfl rfl
theorem dksX5_init_14 : cX5_init.data.toList.drop 330 = dktX5_init_14 := dk_seg dksX5_init_13 23 rfl rfl
theorem dksX5_init_15 : cX5_init.data.toList.drop 354 = dktX5_init_15 := dk_seg dksX5_init_14 24 rfl rfl
theorem dksX5_init_16 : cX5_init.data.toList.drop 378 = dktX5_init_16 := dk_seg dksX5_init_15 24 rfl rfl
theorem dksX5_init_17 : cX5_init.data.toList.drop 402 = dktX5_init_17 := dk_seg dksX5_init_16 24 rfl rfl
theorem dksX5_init_18 : cX5_init.data.toList.drop 426 = dktX5_init_18 := dk_seg dksX5_init_17 24 rfl rfl
theorem dksX5_init_19 : cX5_init.data.toList.drop 450 = dktX5_init_19 := dk_seg dksX5_init_18 24 rfl rfl
theorem dksX5_init_20 : cX5_init.data.toList.drop 474 = dktX5_init_20 := dk_seg dksX5_init_19 24 rfl rfl
theorem dksX5_init_21 : cX5_init.data.toList.drop 498 = dktX5_init_21 := dk_seg dksX5_init_20 24 rfl rfl
theorem dksX5_init_22 : cX5_init.data.toList.drop 522 = dktX5_init_22 := dk_seg dksX5_init_21 24 rfl rfl
theorem dksX5_init_23 : cX5_init.data.toList.drop 546 = dktX5_init_23 := dk_seg dksX5_init_22 24 rfl rfl
theorem dksX5_init_24 : cX5_init.data.toList.drop 570 = dktX5_init_24 := dk_seg dksX5_init_23 24 rfl rfl
theorem dksX5_init_25 : cX5_init.data.toList.drop 593 = dktX5_init_25 := dk_seg dksX5_init_24 23 rfl rfl
theorem dksX5_init_26 : cX5_init.data.toList.drop 617 = dktX5_init_26 := dk_seg dksX5_init_25 24 rfl rfl
theorem dksX5_init_27 : cX5_init.data.toList.drop 640 = dktX5_init_27 := dk_seg dksX5_init_26 23 rfl rfl
theorem dksX5_init_28 : cX5_init.data.toList.drop 664 = dktX5_init_28 := dk_seg dksX5_init_27 24 rfl rfl
theorem dksX5_init_29 : cX5_init.data.toList.drop 688 = dktX5_init_29 := dk_seg dksX5_init_28 24 rfl rfl
theorem dksX5_init_30 : cX5_init.data.toList.drop 712 = dktX5_init_30 := dk_seg dksX5_init_29 24 rfl rfl
theorem dksX5_init_31 : cX5_init.data.toList.drop 734 = dktX5_init_31 := dk_seg dksX5_init_30 22 rfl rfl
theorem dX5_init_0 : decode cX5_init 0 = .ok (.aload_n 0, 1) := dk_42 (dk_at dksX5_init_0 0 rfl rfl)
theorem dX5_init_1 : decode cX5_init 1 = .ok (.invokespecial 1, 3) := dk_183 0 1 (dk_at dksX5_init_0 1 rfl rfl)
theorem dX5_init_4 : decode cX5_init 4 = .ok (.aload_n 0, 1) := dk_42 (dk_at dksX5_init_0 4 rfl rfl)
theorem dX5_init_5 : decode cX5_init 5 = .ok (.sipush 1952, 3) := dk_17 7 160 (dk_at dksX5_init_0 5 rfl rfl)
theorem dX5_init_8 : decode cX5_init 8 = .ok (.newarray .int, 2) := dk_188_10 (dk_at dksX5_init_0 8 rfl rfl)
theorem dX5_init_10 : decode cX5_init 10 = .ok (.putfield 7, 3) := dk_181 0 7 (dk_at dksX5_init_0 10 rfl rfl)
theorem dX5_init_13 : decode cX5_init 13 = .ok (.aload_n 0, 1) := dk_42 (dk_at dksX5_init_0 13 rfl rfl)
theorem dX5_init_14 : decode cX5_init 14 = .ok (.sipush 1952, 3) := dk_17 7 160 (dk_at dksX5_init_0 14 rfl rfl)
theorem dX5_init_17 : decode cX5_init 17 = .ok (.newarray .boolean, 2) := dk_188_4 (dk_at dksX5_init_0 17 rfl rfl)
theorem dX5_init_19 : decode cX5_init 19 = .ok (.putfield 13, 3) := dk_181 0 13 (dk_at dksX5_init_0 19 rfl rfl)
theorem dX5_init_22 : decode cX5_init 22 = .ok (.aload_n 0, 1) := dk_42 (dk_at dksX5_init_0 22 rfl rfl)
theorem dX5_init_23 : decode cX5_init 23 = .ok (.bipush 120, 2) := dk_16 120 (dk_at dksX5_init_1 0 rfl rfl)
theorem dX5_init_25 : decode cX5_init 25 = .ok (.newarray .int, 2) := dk_188_10 (dk_at dksX5_init_1 2 rfl rfl)
theorem dX5_init_27 : decode cX5_init 27 = .ok (.putfield 17, 3) := dk_181 0 17 (dk_at dksX5_init_1 4 rfl rfl)
theorem dX5_init_30 : decode cX5_init 30 = .ok (.aload_n 0, 1) := dk_42 (dk_at dksX5_init_1 7 rfl rfl)
theorem dX5_init_31 : decode cX5_init 31 = .ok (.bipush 120, 2) := dk_16 120 (dk_at dksX5_init_1 8 rfl rfl)
theorem dX5_init_33 : decode cX5_init 33 = .ok (.newarray .int, 2) := dk_188_10 (dk_at dksX5_init_1 10 rfl rfl)
theorem dX5_init_35 : decode cX5_init 35 = .ok (.putfield 20, 3) := dk_181 0 20 (dk_at dksX5_init_1 12 rfl rfl)
theorem dX5_init_38 : decode cX5_init 38 = .ok (.aload_n 0, 1) := dk_42 (dk_at dksX5_init_1 15 rfl rfl)
theorem dX5_init_39 : decode cX5_init 39 = .ok (.bipush 120, 2) := dk_16 120 (dk_at dksX5_init_1 16 rfl rfl)
theorem dX5_init_41 : decode cX5_init 41 = .ok (.newarray .int, 2) := dk_188_10 (dk_at dksX5_init_1 18 rfl rfl)
theorem dX5_init_43 : decode cX5_init 43 = .ok (.putfield 23, 3) := dk_181 0 23 (dk_at dksX5_init_1 20 rfl rfl)
theorem dX5_init_46 : decode cX5_init 46 = .ok (.aload_n 0, 1) := dk_42 (dk_at dksX5_init_1 23 rfl rfl)
theorem dX5_init_47 : decode cX5_init 47 = .ok (.bipush 120, 2) := dk_16 120 (dk_at dksX5_init_2 0 rfl rfl)
theorem dX5_init_49 : decode cX5_init 49 = .ok (.newarray .int, 2) := dk_188_10 (dk_at dksX5_init_2 2 rfl rfl)
theorem dX5_init_51 : decode cX5_init 51 = .ok (.putfield 26, 3) := dk_181 0 26 (dk_at dksX5_init_2 4 rfl rfl)
theorem dX5_init_54 : decode cX5_init 54 = .ok (.aload_n 0, 1) := dk_42 (dk_at dksX5_init_2 7 rfl rfl)
theorem dX5_init_55 : decode cX5_init 55 = .ok (.bipush 120, 2) := dk_16 120 (dk_at dksX5_init_2 8 rfl rfl)
theorem dX5_init_57 : decode cX5_init 57 = .ok (.newarray .int, 2) := dk_188_10 (dk_at dksX5_init_2 10 rfl rfl)
theorem dX5_init_59 : decode cX5_init 59 = .ok (.putfield 29, 3) := dk_181 0 29 (dk_at dksX5_init_2 12 rfl rfl)
theorem dX5_init_62 : decode cX5_init 62 = .ok (.aload_n 0, 1) := dk_42 (dk_at dksX5_init_2 15 rfl rfl)
theorem dX5_init_63 : decode cX5_init 63 = .ok (.bipush 120, 2) := dk_16 120 (dk_at dksX5_init_2 16 rfl rfl)
theorem dX5_init_65 : decode cX5_init 65 = .ok (.newarray .int, 2) := dk_188_10 (dk_at dksX5_init_2 18 rfl rfl)
theorem dX5_init_67 : decode cX5_init 67 = .ok (.putfield 32, 3) := dk_181 0 32 (dk_at dksX5_init_2 20 rfl rfl)
theorem dX5_init_70 : decode cX5_init 70 = .ok (.aload_n 0, 1) := dk_42 (dk_at dksX5_init_2 23 rfl rfl)
theorem dX5_init_71 : decode cX5_init 71 = .ok (.bipush 120, 2) := dk_16 120 (dk_at dksX5_init_3 0 rfl rfl)
theorem dX5_init_73 : decode cX5_init 73 = .ok (.newarray .int, 2) := dk_188_10 (dk_at dksX5_init_3 2 rfl rfl)
theorem dX5_init_75 : decode cX5_init 75 = .ok (.putfield 35, 3) := dk_181 0 35 (dk_at dksX5_init_3 4 rfl rfl)
theorem dX5_init_78 : decode cX5_init 78 = .ok (.aload_n 0, 1) := dk_42 (dk_at dksX5_init_3 7 rfl rfl)
theorem dX5_init_79 : decode cX5_init 79 = .ok (.bipush 120, 2) := dk_16 120 (dk_at dksX5_init_3 8 rfl rfl)
theorem dX5_init_81 : decode cX5_init 81 = .ok (.newarray .int, 2) := dk_188_10 (dk_at dksX5_init_3 10 rfl rfl)
theorem dX5_init_83 : decode cX5_init 83 = .ok (.putfield 38, 3) := dk_181 0 38 (dk_at dksX5_init_3 12 rfl rfl)
theorem dX5_init_86 : decode cX5_init 86 = .ok (.aload_n 0, 1) := dk_42 (dk_at dksX5_init_3 15 rfl rfl)
theorem dX5_init_87 : decode cX5_init 87 = .ok (.sipush 7320, 3) := dk_17 28 152 (dk_at dksX5_init_3 16 rfl rfl)
theorem dX5_init_90 : decode cX5_init 90 = .ok (.newarray .int, 2) := dk_188_10 (dk_at dksX5_init_3 19 rfl rfl)
theorem dX5_init_92 : decode cX5_init 92 = .ok (.putfield 41, 3) := dk_181 0 41 (dk_at dksX5_init_3 21 rfl rfl)
theorem dX5_init_95 : decode cX5_init 95 = .ok (.aload_n 0, 1) := dk_42 (dk_at dksX5_init_4 0 rfl rfl)
theorem dX5_init_96 : decode cX5_init 96 = .ok (.sipush 7320, 3) := dk_17 28 152 (dk_at dksX5_init_4 1 rfl rfl)
theorem dX5_init_99 : decode cX5_init 99 = .ok (.newarray .int, 2) := dk_188_10 (dk_at dksX5_init_4 4 rfl rfl)
theorem dX5_init_101 : decode cX5_init 101 = .ok (.putfield 44, 3) := dk_181 0 44 (dk_at dksX5_init_4 6 rfl rfl)
theorem dX5_init_104 : decode cX5_init 104 = .ok (.aload_n 0, 1) := dk_42 (dk_at dksX5_init_4 9 rfl rfl)
theorem dX5_init_105 : decode cX5_init 105 = .ok (.sipush 7320, 3) := dk_17 28 152 (dk_at dksX5_init_4 10 rfl rfl)
theorem dX5_init_108 : decode cX5_init 108 = .ok (.newarray .boolean, 2) := dk_188_4 (dk_at dksX5_init_4 13 rfl rfl)
theorem dX5_init_110 : decode cX5_init 110 = .ok (.putfield 47, 3) := dk_181 0 47 (dk_at dksX5_init_4 15 rfl rfl)
theorem dX5_init_113 : decode cX5_init 113 = .ok (.aload_n 0, 1) := dk_42 (dk_at dksX5_init_4 18 rfl rfl)
theorem dX5_init_114 : decode cX5_init 114 = .ok (.sipush 7320, 3) := dk_17 28 152 (dk_at dksX5_init_4 19 rfl rfl)
theorem dX5_init_117 : decode cX5_init 117 = .ok (.newarray .int, 2) := dk_188_10 (dk_at dksX5_init_4 22 rfl rfl)
theorem dX5_init_119 : decode cX5_init 119 = .ok (.putfield 50, 3) := dk_181 0 50 (dk_at dksX5_init_5 0 rfl rfl)
theorem dX5_init_122 : decode cX5_init 122 = .ok (.aload_n 0, 1) := dk_42 (dk_at dksX5_init_5 3 rfl rfl)
theorem dX5_init_123 : decode cX5_init 123 = .ok (.bipush 120, 2) := dk_16 120 (dk_at dksX5_init_5 4 rfl rfl)
theorem dX5_init_125 : decode cX5_init 125 = .ok (.newarray .int, 2) := dk_188_10 (dk_at dksX5_init_5 6 rfl rfl)
theorem dX5_init_127 : decode cX5_init 127 = .ok (.putfield 53, 3) := dk_181 0 53 (dk_at dksX5_init_5 8 rfl rfl)
theorem dX5_init_130 : decode cX5_init 130 = .ok (.aload_n 0, 1) := dk_42 (dk_at dksX5_init_5 11 rfl rfl)
theorem dX5_init_131 : decode cX5_init 131 = .ok (.bipush 120, 2) := dk_16 120 (dk_at dksX5_init_5 12 rfl rfl)
theorem dX5_init_133 : decode cX5_init 133 = .ok (.newarray .int, 2) := dk_188_10 (dk_at dksX5_init_5 14 rfl rfl)
theorem dX5_init_135 : decode cX5_init 135 = .ok (.putfield 56, 3) := dk_181 0 56 (dk_at dksX5_init_5 16 rfl rfl)
theorem dX5_init_138 : decode cX5_init 138 = .ok (.aload_n 0, 1) := dk_42 (dk_at dksX5_init_5 19 rfl rfl)
theorem dX5_init_139 : decode cX5_init 139 = .ok (.bipush 120, 2) := dk_16 120 (dk_at dksX5_init_5 20 rfl rfl)
theorem dX5_init_141 : decode cX5_init 141 = .ok (.newarray .int, 2) := dk_188_10 (dk_at dksX5_init_5 22 rfl rfl)
theorem dX5_init_143 : decode cX5_init 143 = .ok (.putfield 59, 3) := dk_181 0 59 (dk_at dksX5_init_6 0 rfl rfl)
theorem dX5_init_146 : decode cX5_init 146 = .ok (.aload_n 0, 1) := dk_42 (dk_at dksX5_init_6 3 rfl rfl)
theorem dX5_init_147 : decode cX5_init 147 = .ok (.bipush 120, 2) := dk_16 120 (dk_at dksX5_init_6 4 rfl rfl)
theorem dX5_init_149 : decode cX5_init 149 = .ok (.newarray .boolean, 2) := dk_188_4 (dk_at dksX5_init_6 6 rfl rfl)
theorem dX5_init_151 : decode cX5_init 151 = .ok (.putfield 62, 3) := dk_181 0 62 (dk_at dksX5_init_6 8 rfl rfl)
theorem dX5_init_154 : decode cX5_init 154 = .ok (.aload_n 0, 1) := dk_42 (dk_at dksX5_init_6 11 rfl rfl)
theorem dX5_init_155 : decode cX5_init 155 = .ok (.iconst (-1), 1) := dk_2 (dk_at dksX5_init_6 12 rfl rfl)
theorem dX5_init_156 : decode cX5_init 156 = .ok (.putfield 65, 3) := dk_181 0 65 (dk_at dksX5_init_6 13 rfl rfl)
theorem dX5_init_159 : decode cX5_init 159 = .ok (.aload_n 0, 1) := dk_42 (dk_at dksX5_init_6 16 rfl rfl)
theorem dX5_init_160 : decode cX5_init 160 = .ok (.iconst 3, 1) := dk_6 (dk_at dksX5_init_6 17 rfl rfl)
theorem dX5_init_161 : decode cX5_init 161 = .ok (.newarray .int, 2) := dk_188_10 (dk_at dksX5_init_6 18 rfl rfl)
theorem dX5_init_163 : decode cX5_init 163 = .ok (.dup, 1) := dk_89 (dk_at dksX5_init_6 20 rfl rfl)
theorem dX5_init_164 : decode cX5_init 164 = .ok (.iconst 0, 1) := dk_3 (dk_at dksX5_init_6 21 rfl rfl)
theorem dX5_init_165 : decode cX5_init 165 = .ok (.bipush 20, 2) := dk_16 20 (dk_at dksX5_init_6 22 rfl rfl)
theorem dX5_init_167 : decode cX5_init 167 = .ok (.iastore, 1) := dk_79 (dk_at dksX5_init_7 0 rfl rfl)
theorem dX5_init_168 : decode cX5_init 168 = .ok (.dup, 1) := dk_89 (dk_at dksX5_init_7 1 rfl rfl)
theorem dX5_init_169 : decode cX5_init 169 = .ok (.iconst 1, 1) := dk_4 (dk_at dksX5_init_7 2 rfl rfl)
theorem dX5_init_170 : decode cX5_init 170 = .ok (.bipush 20, 2) := dk_16 20 (dk_at dksX5_init_7 3 rfl rfl)
theorem dX5_init_172 : decode cX5_init 172 = .ok (.iastore, 1) := dk_79 (dk_at dksX5_init_7 5 rfl rfl)
theorem dX5_init_173 : decode cX5_init 173 = .ok (.dup, 1) := dk_89 (dk_at dksX5_init_7 6 rfl rfl)
theorem dX5_init_174 : decode cX5_init 174 = .ok (.iconst 2, 1) := dk_5 (dk_at dksX5_init_7 7 rfl rfl)
theorem dX5_init_175 : decode cX5_init 175 = .ok (.bipush 20, 2) := dk_16 20 (dk_at dksX5_init_7 8 rfl rfl)
theorem dX5_init_177 : decode cX5_init 177 = .ok (.iastore, 1) := dk_79 (dk_at dksX5_init_7 10 rfl rfl)
theorem dX5_init_178 : decode cX5_init 178 = .ok (.putfield 69, 3) := dk_181 0 69 (dk_at dksX5_init_7 11 rfl rfl)
theorem dX5_init_181 : decode cX5_init 181 = .ok (.aload_n 0, 1) := dk_42 (dk_at dksX5_init_7 14 rfl rfl)
theorem dX5_init_182 : decode cX5_init 182 = .ok (.iconst 3, 1) := dk_6 (dk_at dksX5_init_7 15 rfl rfl)
theorem dX5_init_183 : decode cX5_init 183 = .ok (.newarray .int, 2) := dk_188_10 (dk_at dksX5_init_7 16 rfl rfl)
theorem dX5_init_185 : decode cX5_init 185 = .ok (.dup, 1) := dk_89 (dk_at dksX5_init_7 18 rfl rfl)
theorem dX5_init_186 : decode cX5_init 186 = .ok (.iconst 0, 1) := dk_3 (dk_at dksX5_init_7 19 rfl rfl)
theorem dX5_init_187 : decode cX5_init 187 = .ok (.iconst (-1), 1) := dk_2 (dk_at dksX5_init_7 20 rfl rfl)
theorem dX5_init_188 : decode cX5_init 188 = .ok (.iastore, 1) := dk_79 (dk_at dksX5_init_7 21 rfl rfl)
theorem dX5_init_189 : decode cX5_init 189 = .ok (.dup, 1) := dk_89 (dk_at dksX5_init_7 22 rfl rfl)
theorem dX5_init_190 : decode cX5_init 190 = .ok (.iconst 1, 1) := dk_4 (dk_at dksX5_init_7 23 rfl rfl)
theorem dX5_init_191 : decode cX5_init 191 = .ok (.iconst (-1), 1) := dk_2 (dk_at dksX5_init_8 0 rfl rfl)
theorem dX5_init_192 : decode cX5_init 192 = .ok (.iastore, 1) := dk_79 (dk_at dksX5_init_8 1 rfl rfl)
theorem dX5_init_193 : decode cX5_init 193 = .ok (.dup, 1) := dk_89 (dk_at dksX5_init_8 2 rfl rfl)
theorem dX5_init_194 : decode cX5_init 194 = .ok (.iconst 2, 1) := dk_5 (dk_at dksX5_init_8 3 rfl rfl)
theorem dX5_init_195 : decode cX5_init 195 = .ok (.iconst (-1), 1) := dk_2 (dk_at dksX5_init_8 4 rfl rfl)
theorem dX5_init_196 : decode cX5_init 196 = .ok (.iastore, 1) := dk_79 (dk_at dksX5_init_8 5 rfl rfl)
theorem dX5_init_197 : decode cX5_init 197 = .ok (.putfield 72, 3) := dk_181 0 72 (dk_at dksX5_init_8 6 rfl rfl)
theorem dX5_init_200 : decode cX5_init 200 = .ok (.aload_n 0, 1) := dk_42 (dk_at dksX5_init_8 9 rfl rfl)
theorem dX5_init_201 : decode cX5_init 201 = .ok (.iconst 3, 1) := dk_6 (dk_at dksX5_init_8 10 rfl rfl)
theorem dX5_init_202 : decode cX5_init 202 = .ok (.newarray .int, 2) := dk_188_10 (dk_at dksX5_init_8 11 rfl rfl)
theorem dX5_init_204 : decode cX5_init 204 = .ok (.dup, 1) := dk_89 (dk_at dksX5_init_8 13 rfl rfl)
theorem dX5_init_205 : decode cX5_init 205 = .ok (.iconst 0, 1) := dk_3 (dk_at dksX5_init_8 14 rfl rfl)
theorem dX5_init_206 : decode cX5_init 206 = .ok (.iconst (-1), 1) := dk_2 (dk_at dksX5_init_8 15 rfl rfl)
theorem dX5_init_207 : decode cX5_init 207 = .ok (.iastore, 1) := dk_79 (dk_at dksX5_init_8 16 rfl rfl)
theorem dX5_init_208 : decode cX5_init 208 = .ok (.dup, 1) := dk_89 (dk_at dksX5_init_8 17 rfl rfl)
theorem dX5_init_209 : decode cX5_init 209 = .ok (.iconst 1, 1) := dk_4 (dk_at dksX5_init_8 18 rfl rfl)
theorem dX5_init_210 : decode cX5_init 210 = .ok (.iconst (-1), 1) := dk_2 (dk_at dksX5_init_8 19 rfl rfl)
theorem dX5_init_211 : decode cX5_init 211 = .ok (.iastore, 1) := dk_79 (dk_at dksX5_init_8 20 rfl rfl)
theorem dX5_init_212 : decode cX5_init 212 = .ok (.dup, 1) := dk_89 (dk_at dksX5_init_8 21 rfl rfl)
theorem dX5_init_213 : decode cX5_init 213 = .ok (.iconst 2, 1) := dk_5 (dk_at dksX5_init_8 22 rfl rfl)
theorem dX5_init_214 : decode cX5_init 214 = .ok (.iconst (-1), 1) := dk_2 (dk_at dksX5_init_8 23 rfl rfl)
theorem dX5_init_215 : decode cX5_init 215 = .ok (.iastore, 1) := dk_79 (dk_at dksX5_init_9 0 rfl rfl)
theorem dX5_init_216 : decode cX5_init 216 = .ok (.putfield 75, 3) := dk_181 0 75 (dk_at dksX5_init_9 1 rfl rfl)
theorem dX5_init_219 : decode cX5_init 219 = .ok (.aload_n 0, 1) := dk_42 (dk_at dksX5_init_9 4 rfl rfl)
theorem dX5_init_220 : decode cX5_init 220 = .ok (.iconst 2, 1) := dk_5 (dk_at dksX5_init_9 5 rfl rfl)
theorem dX5_init_221 : decode cX5_init 221 = .ok (.putfield 78, 3) := dk_181 0 78 (dk_at dksX5_init_9 6 rfl rfl)
theorem dX5_init_224 : decode cX5_init 224 = .ok (.aload_n 0, 1) := dk_42 (dk_at dksX5_init_9 9 rfl rfl)
theorem dX5_init_225 : decode cX5_init 225 = .ok (.bipush 8, 2) := dk_16 8 (dk_at dksX5_init_9 10 rfl rfl)
theorem dX5_init_227 : decode cX5_init 227 = .ok (.newarray .int, 2) := dk_188_10 (dk_at dksX5_init_9 12 rfl rfl)
theorem dX5_init_229 : decode cX5_init 229 = .ok (.putfield 81, 3) := dk_181 0 81 (dk_at dksX5_init_9 14 rfl rfl)
theorem dX5_init_232 : decode cX5_init 232 = .ok (.aload_n 0, 1) := dk_42 (dk_at dksX5_init_9 17 rfl rfl)
theorem dX5_init_233 : decode cX5_init 233 = .ok (.bipush 8, 2) := dk_16 8 (dk_at dksX5_init_9 18 rfl rfl)
theorem dX5_init_235 : decode cX5_init 235 = .ok (.newarray .int, 2) := dk_188_10 (dk_at dksX5_init_9 20 rfl rfl)
theorem dX5_init_237 : decode cX5_init 237 = .ok (.putfield 84, 3) := dk_181 0 84 (dk_at dksX5_init_10 0 rfl rfl)
theorem dX5_init_240 : decode cX5_init 240 = .ok (.aload_n 0, 1) := dk_42 (dk_at dksX5_init_10 3 rfl rfl)
theorem dX5_init_241 : decode cX5_init 241 = .ok (.bipush 8, 2) := dk_16 8 (dk_at dksX5_init_10 4 rfl rfl)
theorem dX5_init_243 : decode cX5_init 243 = .ok (.newarray .int, 2) := dk_188_10 (dk_at dksX5_init_10 6 rfl rfl)
theorem dX5_init_245 : decode cX5_init 245 = .ok (.putfield 87, 3) := dk_181 0 87 (dk_at dksX5_init_10 8 rfl rfl)
theorem dX5_init_248 : decode cX5_init 248 = .ok (.aload_n 0, 1) := dk_42 (dk_at dksX5_init_10 11 rfl rfl)
theorem dX5_init_249 : decode cX5_init 249 = .ok (.bipush 8, 2) := dk_16 8 (dk_at dksX5_init_10 12 rfl rfl)
theorem dX5_init_251 : decode cX5_init 251 = .ok (.newarray .int, 2) := dk_188_10 (dk_at dksX5_init_10 14 rfl rfl)
theorem dX5_init_253 : decode cX5_init 253 = .ok (.putfield 90, 3) := dk_181 0 90 (dk_at dksX5_init_10 16 rfl rfl)
theorem dX5_init_256 : decode cX5_init 256 = .ok (.aload_n 0, 1) := dk_42 (dk_at dksX5_init_10 19 rfl rfl)
theorem dX5_init_257 : decode cX5_init 257 = .ok (.sipush 320, 3) := dk_17 1 64 (dk_at dksX5_init_10 20 rfl rfl)
theorem dX5_init_260 : decode cX5_init 260 = .ok (.newarray .int, 2) := dk_188_10 (dk_at dksX5_init_11 0 rfl rfl)
theorem dX5_init_262 : decode cX5_init 262 = .ok (.putfield 93, 3) := dk_181 0 93 (dk_at dksX5_init_11 2 rfl rfl)
theorem dX5_init_265 : decode cX5_init 265 = .ok (.aload_n 0, 1) := dk_42 (dk_at dksX5_init_11 5 rfl rfl)
theorem dX5_init_266 : decode cX5_init 266 = .ok (.sipush 160, 3) := dk_17 0 160 (dk_at dksX5_init_11 6 rfl rfl)
theorem dX5_init_269 : decode cX5_init 269 = .ok (.newarray .byte, 2) := dk_188_8 (dk_at dksX5_init_11 9 rfl rfl)
theorem dX5_init_271 : decode cX5_init 271 = .ok (.putfield 96, 3) := dk_181 0 96 (dk_at dksX5_init_11 11 rfl rfl)
theorem dX5_init_274 : decode cX5_init 274 = .ok (.aload_n 0, 1) := dk_42 (dk_at dksX5_init_11 14 rfl rfl)
theorem dX5_init_275 : decode cX5_init 275 = .ok (.bipush 16, 2) := dk_16 16 (dk_at dksX5_init_11 15 rfl rfl)
theorem dX5_init_277 : decode cX5_init 277 = .ok (.newarray .int, 2) := dk_188_10 (dk_at dksX5_init_11 17 rfl rfl)
theorem dX5_init_279 : decode cX5_init 279 = .ok (.putfield 100, 3) := dk_181 0 100 (dk_at dksX5_init_11 19 rfl rfl)
theorem dX5_init_282 : decode cX5_init 282 = .ok (.aload_n 0, 1) := dk_42 (dk_at dksX5_init_11 22 rfl rfl)
theorem dX5_init_283 : decode cX5_init 283 = .ok (.bipush 16, 2) := dk_16 16 (dk_at dksX5_init_12 0 rfl rfl)
theorem dX5_init_285 : decode cX5_init 285 = .ok (.newarray .int, 2) := dk_188_10 (dk_at dksX5_init_12 2 rfl rfl)
theorem dX5_init_287 : decode cX5_init 287 = .ok (.putfield 103, 3) := dk_181 0 103 (dk_at dksX5_init_12 4 rfl rfl)
theorem dX5_init_290 : decode cX5_init 290 = .ok (.aload_n 0, 1) := dk_42 (dk_at dksX5_init_12 7 rfl rfl)
theorem dX5_init_291 : decode cX5_init 291 = .ok (.bipush 16, 2) := dk_16 16 (dk_at dksX5_init_12 8 rfl rfl)
theorem dX5_init_293 : decode cX5_init 293 = .ok (.newarray .int, 2) := dk_188_10 (dk_at dksX5_init_12 10 rfl rfl)
theorem dX5_init_295 : decode cX5_init 295 = .ok (.putfield 106, 3) := dk_181 0 106 (dk_at dksX5_init_12 12 rfl rfl)
theorem dX5_init_298 : decode cX5_init 298 = .ok (.aload_n 0, 1) := dk_42 (dk_at dksX5_init_12 15 rfl rfl)
theorem dX5_init_299 : decode cX5_init 299 = .ok (.bipush 17, 2) := dk_16 17 (dk_at dksX5_init_12 16 rfl rfl)
theorem dX5_init_301 : decode cX5_init 301 = .ok (.newarray .int, 2) := dk_188_10 (dk_at dksX5_init_12 18 rfl rfl)
theorem dX5_init_303 : decode cX5_init 303 = .ok (.putfield 109, 3) := dk_181 0 109 (dk_at dksX5_init_12 20 rfl rfl)
theorem dX5_init_306 : decode cX5_init 306 = .ok (.aload_n 0, 1) := dk_42 (dk_at dksX5_init_12 23 rfl rfl)
theorem dX5_init_307 : decode cX5_init 307 = .ok (.sipush 1530, 3) := dk_17 5 250 (dk_at dksX5_init_13 0 rfl rfl)
theorem dX5_init_310 : decode cX5_init 310 = .ok (.newarray .int, 2) := dk_188_10 (dk_at dksX5_init_13 3 rfl rfl)
theorem dX5_init_312 : decode cX5_init 312 = .ok (.putfield 112, 3) := dk_181 0 112 (dk_at dksX5_init_13 5 rfl rfl)
theorem dX5_init_315 : decode cX5_init 315 = .ok (.aload_n 0, 1) := dk_42 (dk_at dksX5_init_13 8 rfl rfl)
theorem dX5_init_316 : decode cX5_init 316 = .ok (.sipush 1530, 3) := dk_17 5 250 (dk_at dksX5_init_13 9 rfl rfl)
theorem dX5_init_319 : decode cX5_init 319 = .ok (.newarray .int, 2) := dk_188_10 (dk_at dksX5_init_13 12 rfl rfl)
theorem dX5_init_321 : decode cX5_init 321 = .ok (.putfield 115, 3) := dk_181 0 115 (dk_at dksX5_init_13 14 rfl rfl)
theorem dX5_init_324 : decode cX5_init 324 = .ok (.aload_n 0, 1) := dk_42 (dk_at dksX5_init_13 17 rfl rfl)
theorem dX5_init_325 : decode cX5_init 325 = .ok (.sipush 2890, 3) := dk_17 11 74 (dk_at dksX5_init_13 18 rfl rfl)
theorem dX5_init_328 : decode cX5_init 328 = .ok (.newarray .int, 2) := dk_188_10 (dk_at dksX5_init_13 21 rfl rfl)
theorem dX5_init_330 : decode cX5_init 330 = .ok (.putfield 118, 3) := dk_181 0 118 (dk_at dksX5_init_14 0 rfl rfl)
theorem dX5_init_333 : decode cX5_init 333 = .ok (.aload_n 0, 1) := dk_42 (dk_at dksX5_init_14 3 rfl rfl)
theorem dX5_init_334 : decode cX5_init 334 = .ok (.sipush 2890, 3) := dk_17 11 74 (dk_at dksX5_init_14 4 rfl rfl)
theorem dX5_init_337 : decode cX5_init 337 = .ok (.newarray .int, 2) := dk_188_10 (dk_at dksX5_init_14 7 rfl rfl)
theorem dX5_init_339 : decode cX5_init 339 = .ok (.putfield 121, 3) := dk_181 0 121 (dk_at dksX5_init_14 9 rfl rfl)
theorem dX5_init_342 : decode cX5_init 342 = .ok (.aload_n 0, 1) := dk_42 (dk_at dksX5_init_14 12 rfl rfl)
theorem dX5_init_343 : decode cX5_init 343 = .ok (.bipush 8, 2) := dk_16 8 (dk_at dksX5_init_14 13 rfl rfl)
theorem dX5_init_345 : decode cX5_init 345 = .ok (.newarray .int, 2) := dk_188_10 (dk_at dksX5_init_14 15 rfl rfl)
theorem dX5_init_347 : decode cX5_init 347 = .ok (.putfield 124, 3) := dk_181 0 124 (dk_at dksX5_init_14 17 rfl rfl)
theorem dX5_init_350 : decode cX5_init 350 = .ok (.aload_n 0, 1) := dk_42 (dk_at dksX5_init_14 20 rfl rfl)
theorem dX5_init_351 : decode cX5_init 351 = .ok (.sipush 170, 3) := dk_17 0 170 (dk_at dksX5_init_14 21 rfl rfl)
theorem dX5_init_354 : decode cX5_init 354 = .ok (.newarray .int, 2) := dk_188_10 (dk_at dksX5_init_15 0 rfl rfl)
theorem dX5_init_356 : decode cX5_init 356 = .ok (.putfield 127, 3) := dk_181 0 127 (dk_at dksX5_init_15 2 rfl rfl)
theorem dX5_init_359 : decode cX5_init 359 = .ok (.aload_n 0, 1) := dk_42 (dk_at dksX5_init_15 5 rfl rfl)
theorem dX5_init_360 : decode cX5_init 360 = .ok (.bipush 60, 2) := dk_16 60 (dk_at dksX5_init_15 6 rfl rfl)
theorem dX5_init_362 : decode cX5_init 362 = .ok (.newarray .int, 2) := dk_188_10 (dk_at dksX5_init_15 8 rfl rfl)
theorem dX5_init_364 : decode cX5_init 364 = .ok (.putfield 130, 3) := dk_181 0 130 (dk_at dksX5_init_15 10 rfl rfl)
theorem dX5_init_367 : decode cX5_init 367 = .ok (.aload_n 0, 1) := dk_42 (dk_at dksX5_init_15 13 rfl rfl)
theorem dX5_init_368 : decode cX5_init 368 = .ok (.bipush 60, 2) := dk_16 60 (dk_at dksX5_init_15 14 rfl rfl)
theorem dX5_init_370 : decode cX5_init 370 = .ok (.newarray .int, 2) := dk_188_10 (dk_at dksX5_init_15 16 rfl rfl)
theorem dX5_init_372 : decode cX5_init 372 = .ok (.putfield 133, 3) := dk_181 0 133 (dk_at dksX5_init_15 18 rfl rfl)
theorem dX5_init_375 : decode cX5_init 375 = .ok (.aload_n 0, 1) := dk_42 (dk_at dksX5_init_15 21 rfl rfl)
theorem dX5_init_376 : decode cX5_init 376 = .ok (.bipush 120, 2) := dk_16 120 (dk_at dksX5_init_15 22 rfl rfl)
theorem dX5_init_378 : decode cX5_init 378 = .ok (.newarray .boolean, 2) := dk_188_4 (dk_at dksX5_init_16 0 rfl rfl)
theorem dX5_init_380 : decode cX5_init 380 = .ok (.putfield 136, 3) := dk_181 0 136 (dk_at dksX5_init_16 2 rfl rfl)
theorem dX5_init_383 : decode cX5_init 383 = .ok (.aload_n 0, 1) := dk_42 (dk_at dksX5_init_16 5 rfl rfl)
theorem dX5_init_384 : decode cX5_init 384 = .ok (.bipush 120, 2) := dk_16 120 (dk_at dksX5_init_16 6 rfl rfl)
theorem dX5_init_386 : decode cX5_init 386 = .ok (.newarray .int, 2) := dk_188_10 (dk_at dksX5_init_16 8 rfl rfl)
theorem dX5_init_388 : decode cX5_init 388 = .ok (.putfield 139, 3) := dk_181 0 139 (dk_at dksX5_init_16 10 rfl rfl)
theorem dX5_init_391 : decode cX5_init 391 = .ok (.aload_n 0, 1) := dk_42 (dk_at dksX5_init_16 13 rfl rfl)
theorem dX5_init_392 : decode cX5_init 392 = .ok (.bipush 120, 2) := dk_16 120 (dk_at dksX5_init_16 14 rfl rfl)
theorem dX5_init_394 : decode cX5_init 394 = .ok (.newarray .int, 2) := dk_188_10 (dk_at dksX5_init_16 16 rfl rfl)
theorem dX5_init_396 : decode cX5_init 396 = .ok (.putfield 142, 3) := dk_181 0 142 (dk_at dksX5_init_16 18 rfl rfl)
theorem dX5_init_399 : decode cX5_init 399 = .ok (.aload_n 0, 1) := dk_42 (dk_at dksX5_init_16 21 rfl rfl)
theorem dX5_init_400 : decode cX5_init 400 = .ok (.bipush 40, 2) := dk_16 40 (dk_at dksX5_init_16 22 rfl rfl)
theorem dX5_init_402 : decode cX5_init 402 = .ok (.newarray .int, 2) := dk_188_10 (dk_at dksX5_init_17 0 rfl rfl)
theorem dX5_init_404 : decode cX5_init 404 = .ok (.putfield 145, 3) := dk_181 0 145 (dk_at dksX5_init_17 2 rfl rfl)
theorem dX5_init_407 : decode cX5_init 407 = .ok (.aload_n 0, 1) := dk_42 (dk_at dksX5_init_17 5 rfl rfl)
theorem dX5_init_408 : decode cX5_init 408 = .ok (.bipush 40, 2) := dk_16 40 (dk_at dksX5_init_17 6 rfl rfl)
theorem dX5_init_410 : decode cX5_init 410 = .ok (.newarray .int, 2) := dk_188_10 (dk_at dksX5_init_17 8 rfl rfl)
theorem dX5_init_412 : decode cX5_init 412 = .ok (.putfield 148, 3) := dk_181 0 148 (dk_at dksX5_init_17 10 rfl rfl)
theorem dX5_init_415 : decode cX5_init 415 = .ok (.aload_n 0, 1) := dk_42 (dk_at dksX5_init_17 13 rfl rfl)
theorem dX5_init_416 : decode cX5_init 416 = .ok (.bipush 120, 2) := dk_16 120 (dk_at dksX5_init_17 14 rfl rfl)
theorem dX5_init_418 : decode cX5_init 418 = .ok (.newarray .int, 2) := dk_188_10 (dk_at dksX5_init_17 16 rfl rfl)
theorem dX5_init_420 : decode cX5_init 420 = .ok (.putfield 151, 3) := dk_181 0 151 (dk_at dksX5_init_17 18 rfl rfl)
theorem dX5_init_423 : decode cX5_init 423 = .ok (.aload_n 0, 1) := dk_42 (dk_at dksX5_init_17 21 rfl rfl)
theorem dX5_init_424 : decode cX5_init 424 = .ok (.bipush 10, 2) := dk_16 10 (dk_at dksX5_init_17 22 rfl rfl)
theorem dX5_init_426 : decode cX5_init 426 = .ok (.newarray .int, 2) := dk_188_10 (dk_at dksX5_init_18 0 rfl rfl)
theorem dX5_init_428 : decode cX5_init 428 = .ok (.putfield 154, 3) := dk_181 0 154 (dk_at dksX5_init_18 2 rfl rfl)
theorem dX5_init_431 : decode cX5_init 431 = .ok (.aload_n 0, 1) := dk_42 (dk_at dksX5_init_18 5 rfl rfl)
theorem dX5_init_432 : decode cX5_init 432 = .ok (.bipush 10, 2) := dk_16 10 (dk_at dksX5_init_18 6 rfl rfl)
theorem dX5_init_434 : decode cX5_init 434 = .ok (.newarray .int, 2) := dk_188_10 (dk_at dksX5_init_18 8 rfl rfl)
theorem dX5_init_436 : decode cX5_init 436 = .ok (.putfield 157, 3) := dk_181 0 157 (dk_at dksX5_init_18 10 rfl rfl)
theorem dX5_init_439 : decode cX5_init 439 = .ok (.aload_n 0, 1) := dk_42 (dk_at dksX5_init_18 13 rfl rfl)
theorem dX5_init_440 : decode cX5_init 440 = .ok (.bipush 10, 2) := dk_16 10 (dk_at dksX5_init_18 14 rfl rfl)
theorem dX5_init_442 : decode cX5_init 442 = .ok (.newarray .int, 2) := dk_188_10 (dk_at dksX5_init_18 16 rfl rfl)
theorem dX5_init_444 : decode cX5_init 444 = .ok (.putfield 160, 3) := dk_181 0 160 (dk_at dksX5_init_18 18 rfl rfl)
theorem dX5_init_447 : decode cX5_init 447 = .ok (.aload_n 0, 1) := dk_42 (dk_at dksX5_init_18 21 rfl rfl)
theorem dX5_init_448 : decode cX5_init 448 = .ok (.bipush 10, 2) := dk_16 10 (dk_at dksX5_init_18 22 rfl rfl)
theorem dX5_init_450 : decode cX5_init 450 = .ok (.newarray .int, 2) := dk_188_10 (dk_at dksX5_init_19 0 rfl rfl)
theorem dX5_init_452 : decode cX5_init 452 = .ok (.putfield 163, 3) := dk_181 0 163 (dk_at dksX5_init_19 2 rfl rfl)
theorem dX5_init_455 : decode cX5_init 455 = .ok (.aload_n 0, 1) := dk_42 (dk_at dksX5_init_19 5 rfl rfl)
theorem dX5_init_456 : decode cX5_init 456 = .ok (.sipush 1024, 3) := dk_17 4 0 (dk_at dksX5_init_19 6 rfl rfl)
theorem dX5_init_459 : decode cX5_init 459 = .ok (.newarray .int, 2) := dk_188_10 (dk_at dksX5_init_19 9 rfl rfl)
theorem dX5_init_461 : decode cX5_init 461 = .ok (.putfield 166, 3) := dk_181 0 166 (dk_at dksX5_init_19 11 rfl rfl)
theorem dX5_init_464 : decode cX5_init 464 = .ok (.aload_n 0, 1) := dk_42 (dk_at dksX5_init_19 14 rfl rfl)
theorem dX5_init_465 : decode cX5_init 465 = .ok (.iconst (-1), 1) := dk_2 (dk_at dksX5_init_19 15 rfl rfl)
theorem dX5_init_466 : decode cX5_init 466 = .ok (.putfield 169, 3) := dk_181 0 169 (dk_at dksX5_init_19 16 rfl rfl)
theorem dX5_init_469 : decode cX5_init 469 = .ok (.aload_n 0, 1) := dk_42 (dk_at dksX5_init_19 19 rfl rfl)
theorem dX5_init_470 : decode cX5_init 470 = .ok (.bipush 10, 2) := dk_16 10 (dk_at dksX5_init_19 20 rfl rfl)
theorem dX5_init_472 : decode cX5_init 472 = .ok (.newarray .int, 2) := dk_188_10 (dk_at dksX5_init_19 22 rfl rfl)
theorem dX5_init_474 : decode cX5_init 474 = .ok (.putfield 172, 3) := dk_181 0 172 (dk_at dksX5_init_20 0 rfl rfl)
theorem dX5_init_477 : decode cX5_init 477 = .ok (.aload_n 0, 1) := dk_42 (dk_at dksX5_init_20 3 rfl rfl)
theorem dX5_init_478 : decode cX5_init 478 = .ok (.iconst (-1), 1) := dk_2 (dk_at dksX5_init_20 4 rfl rfl)
theorem dX5_init_479 : decode cX5_init 479 = .ok (.putfield 175, 3) := dk_181 0 175 (dk_at dksX5_init_20 5 rfl rfl)
theorem dX5_init_482 : decode cX5_init 482 = .ok (.aload_n 0, 1) := dk_42 (dk_at dksX5_init_20 8 rfl rfl)
theorem dX5_init_483 : decode cX5_init 483 = .ok (.bipush 9, 2) := dk_16 9 (dk_at dksX5_init_20 9 rfl rfl)
theorem dX5_init_485 : decode cX5_init 485 = .ok (.newarray .int, 2) := dk_188_10 (dk_at dksX5_init_20 11 rfl rfl)
theorem dX5_init_487 : decode cX5_init 487 = .ok (.putfield 178, 3) := dk_181 0 178 (dk_at dksX5_init_20 13 rfl rfl)
theorem dX5_init_490 : decode cX5_init 490 = .ok (.aload_n 0, 1) := dk_42 (dk_at dksX5_init_20 16 rfl rfl)
theorem dX5_init_491 : decode cX5_init 491 = .ok (.bipush 6, 2) := dk_16 6 (dk_at dksX5_init_20 17 rfl rfl)
theorem dX5_init_493 : decode cX5_init 493 = .ok (.newarray .int, 2) := dk_188_10 (dk_at dksX5_init_20 19 rfl rfl)
theorem dX5_init_495 : decode cX5_init 495 = .ok (.putfield 181, 3) := dk_181 0 181 (dk_at dksX5_init_20 21 rfl rfl)
theorem dX5_init_498 : decode cX5_init 498 = .ok (.aload_n 0, 1) := dk_42 (dk_at dksX5_init_21 0 rfl rfl)
theorem dX5_init_499 : decode cX5_init 499 = .ok (.bipush 24, 2) := dk_16 24 (dk_at dksX5_init_21 1 rfl rfl)
theorem dX5_init_501 : decode cX5_init 501 = .ok (.newarray .int, 2) := dk_188_10 (dk_at dksX5_init_21 3 rfl rfl)
theorem dX5_init_503 : decode cX5_init 503 = .ok (.dup, 1) := dk_89 (dk_at dksX5_init_21 5 rfl rfl)
theorem dX5_init_504 : decode cX5_init 504 = .ok (.iconst 0, 1) := dk_3 (dk_at dksX5_init_21 6 rfl rfl)
theorem dX5_init_505 : decode cX5_init 505 = .ok (.iconst 1, 1) := dk_4 (dk_at dksX5_init_21 7 rfl rfl)
theorem dX5_init_506 : decode cX5_init 506 = .ok (.iastore, 1) := dk_79 (dk_at dksX5_init_21 8 rfl rfl)
theorem dX5_init_507 : decode cX5_init 507 = .ok (.dup, 1) := dk_89 (dk_at dksX5_init_21 9 rfl rfl)
theorem dX5_init_508 : decode cX5_init 508 = .ok (.iconst 1, 1) := dk_4 (dk_at dksX5_init_21 10 rfl rfl)
theorem dX5_init_509 : decode cX5_init 509 = .ok (.iconst 1, 1) := dk_4 (dk_at dksX5_init_21 11 rfl rfl)
theorem dX5_init_510 : decode cX5_init 510 = .ok (.iastore, 1) := dk_79 (dk_at dksX5_init_21 12 rfl rfl)
theorem dX5_init_511 : decode cX5_init 511 = .ok (.dup, 1) := dk_89 (dk_at dksX5_init_21 13 rfl rfl)
theorem dX5_init_512 : decode cX5_init 512 = .ok (.iconst 2, 1) := dk_5 (dk_at dksX5_init_21 14 rfl rfl)
theorem dX5_init_513 : decode cX5_init 513 = .ok (.iconst 1, 1) := dk_4 (dk_at dksX5_init_21 15 rfl rfl)
theorem dX5_init_514 : decode cX5_init 514 = .ok (.iastore, 1) := dk_79 (dk_at dksX5_init_21 16 rfl rfl)
theorem dX5_init_515 : decode cX5_init 515 = .ok (.dup, 1) := dk_89 (dk_at dksX5_init_21 17 rfl rfl)
theorem dX5_init_516 : decode cX5_init 516 = .ok (.iconst 3, 1) := dk_6 (dk_at dksX5_init_21 18 rfl rfl)
theorem dX5_init_517 : decode cX5_init 517 = .ok (.iconst 1, 1) := dk_4 (dk_at dksX5_init_21 19 rfl rfl)
theorem dX5_init_518 : decode cX5_init 518 = .ok (.iastore, 1) := dk_79 (dk_at dksX5_init_21 20 rfl rfl)
theorem dX5_init_519 : decode cX5_init 519 = .ok (.dup, 1) := dk_89 (dk_at dksX5_init_21 21 rfl rfl)
theorem dX5_init_520 : decode cX5_init 520 = .ok (.iconst 4, 1) := dk_7 (dk_at dksX5_init_21 22 rfl rfl)
theorem dX5_init_521 : decode cX5_init 521 = .ok (.iconst 1, 1) := dk_4 (dk_at dksX5_init_21 23 rfl rfl)
theorem dX5_init_522 : decode cX5_init 522 = .ok (.iastore, 1) := dk_79 (dk_at dksX5_init_22 0 rfl rfl)
theorem dX5_init_523 : decode cX5_init 523 = .ok (.dup, 1) := dk_89 (dk_at dksX5_init_22 1 rfl rfl)
theorem dX5_init_524 : decode cX5_init 524 = .ok (.iconst 5, 1) := dk_8 (dk_at dksX5_init_22 2 rfl rfl)
theorem dX5_init_525 : decode cX5_init 525 = .ok (.iconst 1, 1) := dk_4 (dk_at dksX5_init_22 3 rfl rfl)
theorem dX5_init_526 : decode cX5_init 526 = .ok (.iastore, 1) := dk_79 (dk_at dksX5_init_22 4 rfl rfl)
theorem dX5_init_527 : decode cX5_init 527 = .ok (.dup, 1) := dk_89 (dk_at dksX5_init_22 5 rfl rfl)
theorem dX5_init_528 : decode cX5_init 528 = .ok (.bipush 6, 2) := dk_16 6 (dk_at dksX5_init_22 6 rfl rfl)
theorem dX5_init_530 : decode cX5_init 530 = .ok (.iconst 1, 1) := dk_4 (dk_at dksX5_init_22 8 rfl rfl)
theorem dX5_init_531 : decode cX5_init 531 = .ok (.iastore, 1) := dk_79 (dk_at dksX5_init_22 9 rfl rfl)
theorem dX5_init_532 : decode cX5_init 532 = .ok (.dup, 1) := dk_89 (dk_at dksX5_init_22 10 rfl rfl)
theorem dX5_init_533 : decode cX5_init 533 = .ok (.bipush 7, 2) := dk_16 7 (dk_at dksX5_init_22 11 rfl rfl)
theorem dX5_init_535 : decode cX5_init 535 = .ok (.iconst 1, 1) := dk_4 (dk_at dksX5_init_22 13 rfl rfl)
theorem dX5_init_536 : decode cX5_init 536 = .ok (.iastore, 1) := dk_79 (dk_at dksX5_init_22 14 rfl rfl)
theorem dX5_init_537 : decode cX5_init 537 = .ok (.dup, 1) := dk_89 (dk_at dksX5_init_22 15 rfl rfl)
theorem dX5_init_538 : decode cX5_init 538 = .ok (.bipush 8, 2) := dk_16 8 (dk_at dksX5_init_22 16 rfl rfl)
theorem dX5_init_540 : decode cX5_init 540 = .ok (.iconst 1, 1) := dk_4 (dk_at dksX5_init_22 18 rfl rfl)
theorem dX5_init_541 : decode cX5_init 541 = .ok (.iastore, 1) := dk_79 (dk_at dksX5_init_22 19 rfl rfl)
theorem dX5_init_542 : decode cX5_init 542 = .ok (.dup, 1) := dk_89 (dk_at dksX5_init_22 20 rfl rfl)
theorem dX5_init_543 : decode cX5_init 543 = .ok (.bipush 9, 2) := dk_16 9 (dk_at dksX5_init_22 21 rfl rfl)
theorem dX5_init_545 : decode cX5_init 545 = .ok (.iconst 1, 1) := dk_4 (dk_at dksX5_init_22 23 rfl rfl)
theorem dX5_init_546 : decode cX5_init 546 = .ok (.iastore, 1) := dk_79 (dk_at dksX5_init_23 0 rfl rfl)
theorem dX5_init_547 : decode cX5_init 547 = .ok (.dup, 1) := dk_89 (dk_at dksX5_init_23 1 rfl rfl)
theorem dX5_init_548 : decode cX5_init 548 = .ok (.bipush 10, 2) := dk_16 10 (dk_at dksX5_init_23 2 rfl rfl)
theorem dX5_init_550 : decode cX5_init 550 = .ok (.iconst 1, 1) := dk_4 (dk_at dksX5_init_23 4 rfl rfl)
theorem dX5_init_551 : decode cX5_init 551 = .ok (.iastore, 1) := dk_79 (dk_at dksX5_init_23 5 rfl rfl)
theorem dX5_init_552 : decode cX5_init 552 = .ok (.dup, 1) := dk_89 (dk_at dksX5_init_23 6 rfl rfl)
theorem dX5_init_553 : decode cX5_init 553 = .ok (.bipush 11, 2) := dk_16 11 (dk_at dksX5_init_23 7 rfl rfl)
theorem dX5_init_555 : decode cX5_init 555 = .ok (.iconst 1, 1) := dk_4 (dk_at dksX5_init_23 9 rfl rfl)
theorem dX5_init_556 : decode cX5_init 556 = .ok (.iastore, 1) := dk_79 (dk_at dksX5_init_23 10 rfl rfl)
theorem dX5_init_557 : decode cX5_init 557 = .ok (.dup, 1) := dk_89 (dk_at dksX5_init_23 11 rfl rfl)
theorem dX5_init_558 : decode cX5_init 558 = .ok (.bipush 12, 2) := dk_16 12 (dk_at dksX5_init_23 12 rfl rfl)
theorem dX5_init_560 : decode cX5_init 560 = .ok (.iconst 1, 1) := dk_4 (dk_at dksX5_init_23 14 rfl rfl)
theorem dX5_init_561 : decode cX5_init 561 = .ok (.iastore, 1) := dk_79 (dk_at dksX5_init_23 15 rfl rfl)
theorem dX5_init_562 : decode cX5_init 562 = .ok (.dup, 1) := dk_89 (dk_at dksX5_init_23 16 rfl rfl)
theorem dX5_init_563 : decode cX5_init 563 = .ok (.bipush 13, 2) := dk_16 13 (dk_at dksX5_init_23 17 rfl rfl)
theorem dX5_init_565 : decode cX5_init 565 = .ok (.iconst 1, 1) := dk_4 (dk_at dksX5_init_23 19 rfl rfl)
theorem dX5_init_566 : decode cX5_init 566 = .ok (.iastore, 1) := dk_79 (dk_at dksX5_init_23 20 rfl rfl)
theorem dX5_init_567 : decode cX5_init 567 = .ok (.dup, 1) := dk_89 (dk_at dksX5_init_23 21 rfl rfl)
theorem dX5_init_568 : decode cX5_init 568 = .ok (.bipush 14, 2) := dk_16 14 (dk_at dksX5_init_23 22 rfl rfl)
theorem dX5_init_570 : decode cX5_init 570 = .ok (.iconst 1, 1) := dk_4 (dk_at dksX5_init_24 0 rfl rfl)
theorem dX5_init_571 : decode cX5_init 571 = .ok (.iastore, 1) := dk_79 (dk_at dksX5_init_24 1 rfl rfl)
theorem dX5_init_572 : decode cX5_init 572 = .ok (.dup, 1) := dk_89 (dk_at dksX5_init_24 2 rfl rfl)
theorem dX5_init_573 : decode cX5_init 573 = .ok (.bipush 15, 2) := dk_16 15 (dk_at dksX5_init_24 3 rfl rfl)
theorem dX5_init_575 : decode cX5_init 575 = .ok (.iconst 1, 1) := dk_4 (dk_at dksX5_init_24 5 rfl rfl)
theorem dX5_init_576 : decode cX5_init 576 = .ok (.iastore, 1) := dk_79 (dk_at dksX5_init_24 6 rfl rfl)
theorem dX5_init_577 : decode cX5_init 577 = .ok (.dup, 1) := dk_89 (dk_at dksX5_init_24 7 rfl rfl)
theorem dX5_init_578 : decode cX5_init 578 = .ok (.bipush 16, 2) := dk_16 16 (dk_at dksX5_init_24 8 rfl rfl)
theorem dX5_init_580 : decode cX5_init 580 = .ok (.iconst 1, 1) := dk_4 (dk_at dksX5_init_24 10 rfl rfl)
theorem dX5_init_581 : decode cX5_init 581 = .ok (.iastore, 1) := dk_79 (dk_at dksX5_init_24 11 rfl rfl)
theorem dX5_init_582 : decode cX5_init 582 = .ok (.dup, 1) := dk_89 (dk_at dksX5_init_24 12 rfl rfl)
theorem dX5_init_583 : decode cX5_init 583 = .ok (.bipush 17, 2) := dk_16 17 (dk_at dksX5_init_24 13 rfl rfl)
theorem dX5_init_585 : decode cX5_init 585 = .ok (.iconst 1, 1) := dk_4 (dk_at dksX5_init_24 15 rfl rfl)
theorem dX5_init_586 : decode cX5_init 586 = .ok (.iastore, 1) := dk_79 (dk_at dksX5_init_24 16 rfl rfl)
theorem dX5_init_587 : decode cX5_init 587 = .ok (.dup, 1) := dk_89 (dk_at dksX5_init_24 17 rfl rfl)
theorem dX5_init_588 : decode cX5_init 588 = .ok (.bipush 18, 2) := dk_16 18 (dk_at dksX5_init_24 18 rfl rfl)
theorem dX5_init_590 : decode cX5_init 590 = .ok (.iconst 1, 1) := dk_4 (dk_at dksX5_init_24 20 rfl rfl)
theorem dX5_init_591 : decode cX5_init 591 = .ok (.iastore, 1) := dk_79 (dk_at dksX5_init_24 21 rfl rfl)
theorem dX5_init_592 : decode cX5_init 592 = .ok (.dup, 1) := dk_89 (dk_at dksX5_init_24 22 rfl rfl)
theorem dX5_init_593 : decode cX5_init 593 = .ok (.bipush 19, 2) := dk_16 19 (dk_at dksX5_init_25 0 rfl rfl)
theorem dX5_init_595 : decode cX5_init 595 = .ok (.iconst 1, 1) := dk_4 (dk_at dksX5_init_25 2 rfl rfl)
theorem dX5_init_596 : decode cX5_init 596 = .ok (.iastore, 1) := dk_79 (dk_at dksX5_init_25 3 rfl rfl)
theorem dX5_init_597 : decode cX5_init 597 = .ok (.dup, 1) := dk_89 (dk_at dksX5_init_25 4 rfl rfl)
theorem dX5_init_598 : decode cX5_init 598 = .ok (.bipush 20, 2) := dk_16 20 (dk_at dksX5_init_25 5 rfl rfl)
theorem dX5_init_600 : decode cX5_init 600 = .ok (.iconst 1, 1) := dk_4 (dk_at dksX5_init_25 7 rfl rfl)
theorem dX5_init_601 : decode cX5_init 601 = .ok (.iastore, 1) := dk_79 (dk_at dksX5_init_25 8 rfl rfl)
theorem dX5_init_602 : decode cX5_init 602 = .ok (.dup, 1) := dk_89 (dk_at dksX5_init_25 9 rfl rfl)
theorem dX5_init_603 : decode cX5_init 603 = .ok (.bipush 21, 2) := dk_16 21 (dk_at dksX5_init_25 10 rfl rfl)
theorem dX5_init_605 : decode cX5_init 605 = .ok (.iconst 1, 1) := dk_4 (dk_at dksX5_init_25 12 rfl rfl)
theorem dX5_init_606 : decode cX5_init 606 = .ok (.iastore, 1) := dk_79 (dk_at dksX5_init_25 13 rfl rfl)
theorem dX5_init_607 : decode cX5_init 607 = .ok (.dup, 1) := dk_89 (dk_at dksX5_init_25 14 rfl rfl)
theorem dX5_init_608 : decode cX5_init 608 = .ok (.bipush 22, 2) := dk_16 22 (dk_at dksX5_init_25 15 rfl rfl)
theorem dX5_init_610 : decode cX5_init 610 = .ok (.iconst 1, 1) := dk_4 (dk_at dksX5_init_25 17 rfl rfl)
theorem dX5_init_611 : decode cX5_init 611 = .ok (.iastore, 1) := dk_79 (dk_at dksX5_init_25 18 rfl rfl)
theorem dX5_init_612 : decode cX5_init 612 = .ok (.dup, 1) := dk_89 (dk_at dksX5_init_25 19 rfl rfl)
theorem dX5_init_613 : decode cX5_init 613 = .ok (.bipush 23, 2) := dk_16 23 (dk_at dksX5_init_25 20 rfl rfl)
theorem dX5_init_615 : decode cX5_init 615 = .ok (.iconst 1, 1) := dk_4 (dk_at dksX5_init_25 22 rfl rfl)
theorem dX5_init_616 : decode cX5_init 616 = .ok (.iastore, 1) := dk_79 (dk_at dksX5_init_25 23 rfl rfl)
theorem dX5_init_617 : decode cX5_init 617 = .ok (.putfield 184, 3) := dk_181 0 184 (dk_at dksX5_init_26 0 rfl rfl)
theorem dX5_init_620 : decode cX5_init 620 = .ok (.aload_n 0, 1) := dk_42 (dk_at dksX5_init_26 3 rfl rfl)
theorem dX5_init_621 : decode cX5_init 621 = .ok (.iconst 2, 1) := dk_5 (dk_at dksX5_init_26 4 rfl rfl)
theorem dX5_init_622 : decode cX5_init 622 = .ok (.newarray .int, 2) := dk_188_10 (dk_at dksX5_init_26 5 rfl rfl)
theorem dX5_init_624 : decode cX5_init 624 = .ok (.putfield 187, 3) := dk_181 0 187 (dk_at dksX5_init_26 7 rfl rfl)
theorem dX5_init_627 : decode cX5_init 627 = .ok (.aload_n 0, 1) := dk_42 (dk_at dksX5_init_26 10 rfl rfl)
theorem dX5_init_628 : decode cX5_init 628 = .ok (.iconst 2, 1) := dk_5 (dk_at dksX5_init_26 11 rfl rfl)
theorem dX5_init_629 : decode cX5_init 629 = .ok (.newarray .int, 2) := dk_188_10 (dk_at dksX5_init_26 12 rfl rfl)
theorem dX5_init_631 : decode cX5_init 631 = .ok (.putfield 190, 3) := dk_181 0 190 (dk_at dksX5_init_26 14 rfl rfl)
theorem dX5_init_634 : decode cX5_init 634 = .ok (.aload_n 0, 1) := dk_42 (dk_at dksX5_init_26 17 rfl rfl)
theorem dX5_init_635 : decode cX5_init 635 = .ok (.iconst (-1), 1) := dk_2 (dk_at dksX5_init_26 18 rfl rfl)
theorem dX5_init_636 : decode cX5_init 636 = .ok (.putfield 193, 3) := dk_181 0 193 (dk_at dksX5_init_26 19 rfl rfl)
theorem dX5_init_639 : decode cX5_init 639 = .ok (.aload_n 0, 1) := dk_42 (dk_at dksX5_init_26 22 rfl rfl)
theorem dX5_init_640 : decode cX5_init 640 = .ok (.bipush 120, 2) := dk_16 120 (dk_at dksX5_init_27 0 rfl rfl)
theorem dX5_init_642 : decode cX5_init 642 = .ok (.newarray .int, 2) := dk_188_10 (dk_at dksX5_init_27 2 rfl rfl)
theorem dX5_init_644 : decode cX5_init 644 = .ok (.putfield 196, 3) := dk_181 0 196 (dk_at dksX5_init_27 4 rfl rfl)
theorem dX5_init_647 : decode cX5_init 647 = .ok (.aload_n 0, 1) := dk_42 (dk_at dksX5_init_27 7 rfl rfl)
theorem dX5_init_648 : decode cX5_init 648 = .ok (.bipush 120, 2) := dk_16 120 (dk_at dksX5_init_27 8 rfl rfl)
theorem dX5_init_650 : decode cX5_init 650 = .ok (.newarray .int, 2) := dk_188_10 (dk_at dksX5_init_27 10 rfl rfl)
theorem dX5_init_652 : decode cX5_init 652 = .ok (.putfield 199, 3) := dk_181 0 199 (dk_at dksX5_init_27 12 rfl rfl)
theorem dX5_init_655 : decode cX5_init 655 = .ok (.aload_n 0, 1) := dk_42 (dk_at dksX5_init_27 15 rfl rfl)
theorem dX5_init_656 : decode cX5_init 656 = .ok (.bipush 120, 2) := dk_16 120 (dk_at dksX5_init_27 16 rfl rfl)
theorem dX5_init_658 : decode cX5_init 658 = .ok (.newarray .int, 2) := dk_188_10 (dk_at dksX5_init_27 18 rfl rfl)
theorem dX5_init_660 : decode cX5_init 660 = .ok (.putfield 202, 3) := dk_181 0 202 (dk_at dksX5_init_27 20 rfl rfl)
theorem dX5_init_663 : decode cX5_init 663 = .ok (.aload_n 0, 1) := dk_42 (dk_at dksX5_init_27 23 rfl rfl)
theorem dX5_init_664 : decode cX5_init 664 = .ok (.bipush 24, 2) := dk_16 24 (dk_at dksX5_init_28 0 rfl rfl)
theorem dX5_init_666 : decode cX5_init 666 = .ok (.newarray .int, 2) := dk_188_10 (dk_at dksX5_init_28 2 rfl rfl)
theorem dX5_init_668 : decode cX5_init 668 = .ok (.putfield 205, 3) := dk_181 0 205 (dk_at dksX5_init_28 4 rfl rfl)
theorem dX5_init_671 : decode cX5_init 671 = .ok (.aload_n 0, 1) := dk_42 (dk_at dksX5_init_28 7 rfl rfl)
theorem dX5_init_672 : decode cX5_init 672 = .ok (.bipush 6, 2) := dk_16 6 (dk_at dksX5_init_28 8 rfl rfl)
theorem dX5_init_674 : decode cX5_init 674 = .ok (.newarray .int, 2) := dk_188_10 (dk_at dksX5_init_28 10 rfl rfl)
theorem dX5_init_676 : decode cX5_init 676 = .ok (.dup, 1) := dk_89 (dk_at dksX5_init_28 12 rfl rfl)
theorem dX5_init_677 : decode cX5_init 677 = .ok (.iconst 0, 1) := dk_3 (dk_at dksX5_init_28 13 rfl rfl)
theorem dX5_init_678 : decode cX5_init 678 = .ok (.iconst (-1), 1) := dk_2 (dk_at dksX5_init_28 14 rfl rfl)
theorem dX5_init_679 : decode cX5_init 679 = .ok (.iastore, 1) := dk_79 (dk_at dksX5_init_28 15 rfl rfl)
theorem dX5_init_680 : decode cX5_init 680 = .ok (.dup, 1) := dk_89 (dk_at dksX5_init_28 16 rfl rfl)
theorem dX5_init_681 : decode cX5_init 681 = .ok (.iconst 1, 1) := dk_4 (dk_at dksX5_init_28 17 rfl rfl)
theorem dX5_init_682 : decode cX5_init 682 = .ok (.iconst (-1), 1) := dk_2 (dk_at dksX5_init_28 18 rfl rfl)
theorem dX5_init_683 : decode cX5_init 683 = .ok (.iastore, 1) := dk_79 (dk_at dksX5_init_28 19 rfl rfl)
theorem dX5_init_684 : decode cX5_init 684 = .ok (.dup, 1) := dk_89 (dk_at dksX5_init_28 20 rfl rfl)
theorem dX5_init_685 : decode cX5_init 685 = .ok (.iconst 2, 1) := dk_5 (dk_at dksX5_init_28 21 rfl rfl)
theorem dX5_init_686 : decode cX5_init 686 = .ok (.iconst (-1), 1) := dk_2 (dk_at dksX5_init_28 22 rfl rfl)
theorem dX5_init_687 : decode cX5_init 687 = .ok (.iastore, 1) := dk_79 (dk_at dksX5_init_28 23 rfl rfl)
theorem dX5_init_688 : decode cX5_init 688 = .ok (.dup, 1) := dk_89 (dk_at dksX5_init_29 0 rfl rfl)
theorem dX5_init_689 : decode cX5_init 689 = .ok (.iconst 3, 1) := dk_6 (dk_at dksX5_init_29 1 rfl rfl)
theorem dX5_init_690 : decode cX5_init 690 = .ok (.iconst (-1), 1) := dk_2 (dk_at dksX5_init_29 2 rfl rfl)
theorem dX5_init_691 : decode cX5_init 691 = .ok (.iastore, 1) := dk_79 (dk_at dksX5_init_29 3 rfl rfl)
theorem dX5_init_692 : decode cX5_init 692 = .ok (.dup, 1) := dk_89 (dk_at dksX5_init_29 4 rfl rfl)
theorem dX5_init_693 : decode cX5_init 693 = .ok (.iconst 4, 1) := dk_7 (dk_at dksX5_init_29 5 rfl rfl)
theorem dX5_init_694 : decode cX5_init 694 = .ok (.iconst (-1), 1) := dk_2 (dk_at dksX5_init_29 6 rfl rfl)
theorem dX5_init_695 : decode cX5_init 695 = .ok (.iastore, 1) := dk_79 (dk_at dksX5_init_29 7 rfl rfl)
theorem dX5_init_696 : decode cX5_init 696 = .ok (.dup, 1) := dk_89 (dk_at dksX5_init_29 8 rfl rfl)
theorem dX5_init_697 : decode cX5_init 697 = .ok (.iconst 5, 1) := dk_8 (dk_at dksX5_init_29 9 rfl rfl)
theorem dX5_init_698 : decode cX5_init 698 = .ok (.iconst (-1), 1) := dk_2 (dk_at dksX5_init_29 10 rfl rfl)
theorem dX5_init_699 : decode cX5_init 699 = .ok (.iastore, 1) := dk_79 (dk_at dksX5_init_29 11 rfl rfl)
theorem dX5_init_700 : decode cX5_init 700 = .ok (.putfield 208, 3) := dk_181 0 208 (dk_at dksX5_init_29 12 rfl rfl)
theorem dX5_init_703 : decode cX5_init 703 = .ok (.aload_n 0, 1) := dk_42 (dk_at dksX5_init_29 15 rfl rfl)
theorem dX5_init_704 : decode cX5_init 704 = .ok (.bipush 6, 2) := dk_16 6 (dk_at dksX5_init_29 16 rfl rfl)
theorem dX5_init_706 : decode cX5_init 706 = .ok (.newarray .int, 2) := dk_188_10 (dk_at dksX5_init_29 18 rfl rfl)
theorem dX5_init_708 : decode cX5_init 708 = .ok (.putfield 211, 3) := dk_181 0 211 (dk_at dksX5_init_29 20 rfl rfl)
theorem dX5_init_711 : decode cX5_init 711 = .ok (.aload_n 0, 1) := dk_42 (dk_at dksX5_init_29 23 rfl rfl)
theorem dX5_init_712 : decode cX5_init 712 = .ok (.sipush 360, 3) := dk_17 1 104 (dk_at dksX5_init_30 0 rfl rfl)
theorem dX5_init_715 : decode cX5_init 715 = .ok (.newarray .long, 2) := dk_188_11 (dk_at dksX5_init_30 3 rfl rfl)
theorem dX5_init_717 : decode cX5_init 717 = .ok (.putfield 214, 3) := dk_181 0 214 (dk_at dksX5_init_30 5 rfl rfl)
theorem dX5_init_720 : decode cX5_init 720 = .ok (.aload_n 0, 1) := dk_42 (dk_at dksX5_init_30 8 rfl rfl)
theorem dX5_init_721 : decode cX5_init 721 = .ok (.sipush 360, 3) := dk_17 1 104 (dk_at dksX5_init_30 9 rfl rfl)
theorem dX5_init_724 : decode cX5_init 724 = .ok (.newarray .boolean, 2) := dk_188_4 (dk_at dksX5_init_30 12 rfl rfl)
theorem dX5_init_726 : decode cX5_init 726 = .ok (.putfield 218, 3) := dk_181 0 218 (dk_at dksX5_init_30 14 rfl rfl)
theorem dX5_init_729 : decode cX5_init 729 = .ok (.aload_n 0, 1) := dk_42 (dk_at dksX5_init_30 17 rfl rfl)
theorem dX5_init_730 : decode cX5_init 730 = .ok (.bipush 60, 2) := dk_16 60 (dk_at dksX5_init_30 18 rfl rfl)
theorem dX5_init_732 : decode cX5_init 732 = .ok (.newarray .long, 2) := dk_188_11 (dk_at dksX5_init_30 20 rfl rfl)
theorem dX5_init_734 : decode cX5_init 734 = .ok (.putfield 221, 3) := dk_181 0 221 (dk_at dksX5_init_31 0 rfl rfl)
theorem dX5_init_737 : decode cX5_init 737 = .ok (.aload_n 0, 1) := dk_42 (dk_at dksX5_init_31 3 rfl rfl)
theorem dX5_init_738 : decode cX5_init 738 = .ok (.bipush 60, 2) := dk_16 60 (dk_at dksX5_init_31 4 rfl rfl)
theorem dX5_init_740 : decode cX5_init 740 = .ok (.newarray .boolean, 2) := dk_188_4 (dk_at dksX5_init_31 6 rfl rfl)
theorem dX5_init_742 : decode cX5_init 742 = .ok (.putfield 224, 3) := dk_181 0 224 (dk_at dksX5_init_31 8 rfl rfl)
theorem dX5_init_745 : decode cX5_init 745 = .ok (.return_, 1) := dk_177 (dk_at dksX5_init_31 11 rfl rfl)
abbrev cX5_hard : ByteArray := prog_22_method_8_code
def yX5_hard : MethodName := ⟨RX5, "hard", "(II)I"⟩
def dkwX5_hard_1 : List UInt8 := [27, 184, 0, 238, 46, 96, 62, 42, 180, 0, 7, 27, 184, 0, 238, 28, 6, 100, 79, 29, 172]
abbrev dktX5_hard_1 : List UInt8 := dkwX5_hard_1 ++ []
def dkwX5_hard_0 : List UInt8 := [27, 184, 0, 234, 153, 0, 13, 28, 4, 16, 9, 184, 0, 230, 154, 0, 5, 2, 172, 6, 42, 180, 0, 7]
abbrev dktX5_hard_0 : List UInt8 := dkwX5_hard_0 ++ dktX5_hard_1
theorem dksX5_hard_0 : cX5_hard.data.toList.drop 0 = dktX5_hard_0 := by decide +kernel
theorem dksX5_hard_1 : cX5_hard.data.toList.drop 24 = dktX5_hard_1 := dk_seg dksX5_hard_0 24 rfl rfl
theorem dX5_hard_0 : decode cX5_hard 0 = .ok (.iload_n 1, 1) := dk_27 (dk_at dksX5_hard_0 0 rfl rfl)
theorem dX5_hard_1 : decode cX5_hard 1 = .ok (.invokestatic 234, 3) := dk_184 0 234 (dk_at dksX5_hard_0 1 rfl rfl)
theorem dX5_hard_4 : decode cX5_hard 4 = .ok (.ifCond .eq 13, 3) := dk_153 0 13 (dk_at dksX5_hard_0 4 rfl rfl)
theorem dX5_hard_7 : decode cX5_hard 7 = .ok (.iload_n 2, 1) := dk_28 (dk_at dksX5_hard_0 7 rfl rfl)
theorem dX5_hard_8 : decode cX5_hard 8 = .ok (.iconst 1, 1) := dk_4 (dk_at dksX5_hard_0 8 rfl rfl)
theorem dX5_hard_9 : decode cX5_hard 9 = .ok (.bipush 9, 2) := dk_16 9 (dk_at dksX5_hard_0 9 rfl rfl)
theorem dX5_hard_11 : decode cX5_hard 11 = .ok (.invokestatic 230, 3) := dk_184 0 230 (dk_at dksX5_hard_0 11 rfl rfl)
theorem dX5_hard_14 : decode cX5_hard 14 = .ok (.ifCond .ne 5, 3) := dk_154 0 5 (dk_at dksX5_hard_0 14 rfl rfl)
theorem dX5_hard_17 : decode cX5_hard 17 = .ok (.iconst (-1), 1) := dk_2 (dk_at dksX5_hard_0 17 rfl rfl)
theorem dX5_hard_18 : decode cX5_hard 18 = .ok (.ireturn, 1) := dk_172 (dk_at dksX5_hard_0 18 rfl rfl)
theorem dX5_hard_19 : decode cX5_hard 19 = .ok (.iconst 3, 1) := dk_6 (dk_at dksX5_hard_0 19 rfl rfl)
theorem dX5_hard_20 : decode cX5_hard 20 = .ok (.aload_n 0, 1) := dk_42 (dk_at dksX5_hard_0 20 rfl rfl)
theorem dX5_hard_21 : decode cX5_hard 21 = .ok (.getfield 7, 3) := dk_180 0 7 (dk_at dksX5_hard_0 21 rfl rfl)
theorem dX5_hard_24 : decode cX5_hard 24 = .ok (.iload_n 1, 1) := dk_27 (dk_at dksX5_hard_1 0 rfl rfl)
theorem dX5_hard_25 : decode cX5_hard 25 = .ok (.invokestatic 238, 3) := dk_184 0 238 (dk_at dksX5_hard_1 1 rfl rfl)
theorem dX5_hard_28 : decode cX5_hard 28 = .ok (.iaload, 1) := dk_46 (dk_at dksX5_hard_1 4 rfl rfl)
theorem dX5_hard_29 : decode cX5_hard 29 = .ok (.iadd, 1) := dk_96 (dk_at dksX5_hard_1 5 rfl rfl)
theorem dX5_hard_30 : decode cX5_hard 30 = .ok (.istore_n 3, 1) := dk_62 (dk_at dksX5_hard_1 6 rfl rfl)
theorem dX5_hard_31 : decode cX5_hard 31 = .ok (.aload_n 0, 1) := dk_42 (dk_at dksX5_hard_1 7 rfl rfl)
theorem dX5_hard_32 : decode cX5_hard 32 = .ok (.getfield 7, 3) := dk_180 0 7 (dk_at dksX5_hard_1 8 rfl rfl)
theorem dX5_hard_35 : decode cX5_hard 35 = .ok (.iload_n 1, 1) := dk_27 (dk_at dksX5_hard_1 11 rfl rfl)
theorem dX5_hard_36 : decode cX5_hard 36 = .ok (.invokestatic 238, 3) := dk_184 0 238 (dk_at dksX5_hard_1 12 rfl rfl)
theorem dX5_hard_39 : decode cX5_hard 39 = .ok (.iload_n 2, 1) := dk_28 (dk_at dksX5_hard_1 15 rfl rfl)
theorem dX5_hard_40 : decode cX5_hard 40 = .ok (.iconst 3, 1) := dk_6 (dk_at dksX5_hard_1 16 rfl rfl)
theorem dX5_hard_41 : decode cX5_hard 41 = .ok (.isub, 1) := dk_100 (dk_at dksX5_hard_1 17 rfl rfl)
theorem dX5_hard_42 : decode cX5_hard 42 = .ok (.iastore, 1) := dk_79 (dk_at dksX5_hard_1 18 rfl rfl)
theorem dX5_hard_43 : decode cX5_hard 43 = .ok (.iload_n 3, 1) := dk_29 (dk_at dksX5_hard_1 19 rfl rfl)
theorem dX5_hard_44 : decode cX5_hard 44 = .ok (.ireturn, 1) := dk_172 (dk_at dksX5_hard_1 20 rfl rfl)
abbrev cX5_isCell : ByteArray := prog_22_method_6_code
def yX5_isCell : MethodName := ⟨RX5, "isCell", "(I)Z"⟩
def dkwX5_isCell_1 : List UInt8 := [153, 0, 7, 4, 167, 0, 4, 3, 172]
abbrev dktX5_isCell_1 : List UInt8 := dkwX5_isCell_1 ++ []
def dkwX5_isCell_0 : List UInt8 := [26, 155, 0, 29, 26, 16, 100, 108, 16, 32, 162, 0, 20, 26, 16, 100, 112, 4, 16, 60, 184, 0, 230]
abbrev dktX5_isCell_0 : List UInt8 := dkwX5_isCell_0 ++ dktX5_isCell_1
theorem dksX5_isCell_0 : cX5_isCell.data.toList.drop 0 = dktX5_isCell_0 := by decide +kernel
theorem dksX5_isCell_1 : cX5_isCell.data.toList.drop 23 = dktX5_isCell_1 := dk_seg dksX5_isCell_0 23 rfl rfl
theorem dX5_isCell_0 : decode cX5_isCell 0 = .ok (.iload_n 0, 1) := dk_26 (dk_at dksX5_isCell_0 0 rfl rfl)
theorem dX5_isCell_1 : decode cX5_isCell 1 = .ok (.ifCond .lt 29, 3) := dk_155 0 29 (dk_at dksX5_isCell_0 1 rfl rfl)
theorem dX5_isCell_4 : decode cX5_isCell 4 = .ok (.iload_n 0, 1) := dk_26 (dk_at dksX5_isCell_0 4 rfl rfl)
theorem dX5_isCell_5 : decode cX5_isCell 5 = .ok (.bipush 100, 2) := dk_16 100 (dk_at dksX5_isCell_0 5 rfl rfl)
theorem dX5_isCell_7 : decode cX5_isCell 7 = .ok (.idiv, 1) := dk_108 (dk_at dksX5_isCell_0 7 rfl rfl)
theorem dX5_isCell_8 : decode cX5_isCell 8 = .ok (.bipush 32, 2) := dk_16 32 (dk_at dksX5_isCell_0 8 rfl rfl)
theorem dX5_isCell_10 : decode cX5_isCell 10 = .ok (.if_icmp .ge 20, 3) := dk_162 0 20 (dk_at dksX5_isCell_0 10 rfl rfl)
theorem dX5_isCell_13 : decode cX5_isCell 13 = .ok (.iload_n 0, 1) := dk_26 (dk_at dksX5_isCell_0 13 rfl rfl)
theorem dX5_isCell_14 : decode cX5_isCell 14 = .ok (.bipush 100, 2) := dk_16 100 (dk_at dksX5_isCell_0 14 rfl rfl)
theorem dX5_isCell_16 : decode cX5_isCell 16 = .ok (.irem, 1) := dk_112 (dk_at dksX5_isCell_0 16 rfl rfl)
theorem dX5_isCell_17 : decode cX5_isCell 17 = .ok (.iconst 1, 1) := dk_4 (dk_at dksX5_isCell_0 17 rfl rfl)
theorem dX5_isCell_18 : decode cX5_isCell 18 = .ok (.bipush 60, 2) := dk_16 60 (dk_at dksX5_isCell_0 18 rfl rfl)
theorem dX5_isCell_20 : decode cX5_isCell 20 = .ok (.invokestatic 230, 3) := dk_184 0 230 (dk_at dksX5_isCell_0 20 rfl rfl)
theorem dX5_isCell_23 : decode cX5_isCell 23 = .ok (.ifCond .eq 7, 3) := dk_153 0 7 (dk_at dksX5_isCell_1 0 rfl rfl)
theorem dX5_isCell_26 : decode cX5_isCell 26 = .ok (.iconst 1, 1) := dk_4 (dk_at dksX5_isCell_1 3 rfl rfl)
theorem dX5_isCell_27 : decode cX5_isCell 27 = .ok (.goto 4, 3) := dk_167 0 4 (dk_at dksX5_isCell_1 4 rfl rfl)
theorem dX5_isCell_30 : decode cX5_isCell 30 = .ok (.iconst 0, 1) := dk_3 (dk_at dksX5_isCell_1 7 rfl rfl)
theorem dX5_isCell_31 : decode cX5_isCell 31 = .ok (.ireturn, 1) := dk_172 (dk_at dksX5_isCell_1 8 rfl rfl)
abbrev cX5_in : ByteArray := prog_22_method_3_code
def yX5_in : MethodName := ⟨RX5, "in", "(III)Z"⟩
def dkwX5_in_0 : List UInt8 := [26, 27, 161, 0, 12, 26, 28, 163, 0, 7, 4, 167, 0, 4, 3, 172]
abbrev dktX5_in_0 : List UInt8 := dkwX5_in_0 ++ []
theorem dksX5_in_0 : cX5_in.data.toList.drop 0 = dktX5_in_0 := by decide +kernel
theorem dX5_in_0 : decode cX5_in 0 = .ok (.iload_n 0, 1) := dk_26 (dk_at dksX5_in_0 0 rfl rfl)
theorem dX5_in_1 : decode cX5_in 1 = .ok (.iload_n 1, 1) := dk_27 (dk_at dksX5_in_0 1 rfl rfl)
theorem dX5_in_2 : decode cX5_in 2 = .ok (.if_icmp .lt 12, 3) := dk_161 0 12 (dk_at dksX5_in_0 2 rfl rfl)
theorem dX5_in_5 : decode cX5_in 5 = .ok (.iload_n 0, 1) := dk_26 (dk_at dksX5_in_0 5 rfl rfl)
theorem dX5_in_6 : decode cX5_in 6 = .ok (.iload_n 2, 1) := dk_28 (dk_at dksX5_in_0 6 rfl rfl)
theorem dX5_in_7 : decode cX5_in 7 = .ok (.if_icmp .gt 7, 3) := dk_163 0 7 (dk_at dksX5_in_0 7 rfl rfl)
theorem dX5_in_10 : decode cX5_in 10 = .ok (.iconst 1, 1) := dk_4 (dk_at dksX5_in_0 10 rfl rfl)
theorem dX5_in_11 : decode cX5_in 11 = .ok (.goto 4, 3) := dk_167 0 4 (dk_at dksX5_in_0 11 rfl rfl)
theorem dX5_in_14 : decode cX5_in 14 = .ok (.iconst 0, 1) := dk_3 (dk_at dksX5_in_0 14 rfl rfl)
theorem dX5_in_15 : decode cX5_in 15 = .ok (.ireturn, 1) := dk_172 (dk_at dksX5_in_0 15 rfl rfl)
abbrev cX5_placeOf : ByteArray := prog_22_method_7_code
def yX5_placeOf : MethodName := ⟨RX5, "placeOf", "(I)I"⟩
def dkwX5_placeOf_0 : List UInt8 := [16, 61, 26, 16, 100, 108, 104, 26, 16, 100, 112, 96, 172]
abbrev dktX5_placeOf_0 : List UInt8 := dkwX5_placeOf_0 ++ []
theorem dksX5_placeOf_0 : cX5_placeOf.data.toList.drop 0 = dktX5_placeOf_0 := by decide +kernel
theorem dX5_placeOf_0 : decode cX5_placeOf 0 = .ok (.bipush 61, 2) := dk_16 61 (dk_at dksX5_placeOf_0 0 rfl rfl)
theorem dX5_placeOf_2 : decode cX5_placeOf 2 = .ok (.iload_n 0, 1) := dk_26 (dk_at dksX5_placeOf_0 2 rfl rfl)
theorem dX5_placeOf_3 : decode cX5_placeOf 3 = .ok (.bipush 100, 2) := dk_16 100 (dk_at dksX5_placeOf_0 3 rfl rfl)
theorem dX5_placeOf_5 : decode cX5_placeOf 5 = .ok (.idiv, 1) := dk_108 (dk_at dksX5_placeOf_0 5 rfl rfl)
theorem dX5_placeOf_6 : decode cX5_placeOf 6 = .ok (.imul, 1) := dk_104 (dk_at dksX5_placeOf_0 6 rfl rfl)
theorem dX5_placeOf_7 : decode cX5_placeOf 7 = .ok (.iload_n 0, 1) := dk_26 (dk_at dksX5_placeOf_0 7 rfl rfl)
theorem dX5_placeOf_8 : decode cX5_placeOf 8 = .ok (.bipush 100, 2) := dk_16 100 (dk_at dksX5_placeOf_0 8 rfl rfl)
theorem dX5_placeOf_10 : decode cX5_placeOf 10 = .ok (.irem, 1) := dk_112 (dk_at dksX5_placeOf_0 10 rfl rfl)
theorem dX5_placeOf_11 : decode cX5_placeOf 11 = .ok (.iadd, 1) := dk_96 (dk_at dksX5_placeOf_0 11 rfl rfl)
theorem dX5_placeOf_12 : decode cX5_placeOf 12 = .ok (.ireturn, 1) := dk_172 (dk_at dksX5_placeOf_0 12 rfl rfl)
abbrev cX5_open : ByteArray := prog_22_method_9_code
def yX5_open : MethodName := ⟨RX5, "open", "(II)I"⟩
def dkwX5_open_2 : List UInt8 := [160, 0, 7, 4, 167, 0, 4, 3, 84, 29, 172]
abbrev dktX5_open_2 : List UInt8 := dkwX5_open_2 ++ []
def dkwX5_open_1 : List UInt8 := [184, 0, 238, 51, 153, 0, 7, 4, 167, 0, 4, 3, 62, 42, 180, 0, 13, 27, 184, 0, 238, 28, 4]
abbrev dktX5_open_1 : List UInt8 := dkwX5_open_1 ++ dktX5_open_2
def dkwX5_open_0 : List UInt8 := [27, 184, 0, 234, 153, 0, 12, 28, 3, 4, 184, 0, 230, 154, 0, 5, 2, 172, 42, 180, 0, 13, 27]
abbrev dktX5_open_0 : List UInt8 := dkwX5_open_0 ++ dktX5_open_1
theorem dksX5_open_0 : cX5_open.data.toList.drop 0 = dktX5_open_0 := by decide +kernel
theorem dksX5_open_1 : cX5_open.data.toList.drop 23 = dktX5_open_1 := dk_seg dksX5_open_0 23 rfl rfl
theorem dksX5_open_2 : cX5_open.data.toList.drop 46 = dktX5_open_2 := dk_seg dksX5_open_1 23 rfl rfl
theorem dX5_open_0 : decode cX5_open 0 = .ok (.iload_n 1, 1) := dk_27 (dk_at dksX5_open_0 0 rfl rfl)
theorem dX5_open_1 : decode cX5_open 1 = .ok (.invokestatic 234, 3) := dk_184 0 234 (dk_at dksX5_open_0 1 rfl rfl)
theorem dX5_open_4 : decode cX5_open 4 = .ok (.ifCond .eq 12, 3) := dk_153 0 12 (dk_at dksX5_open_0 4 rfl rfl)
theorem dX5_open_7 : decode cX5_open 7 = .ok (.iload_n 2, 1) := dk_28 (dk_at dksX5_open_0 7 rfl rfl)
theorem dX5_open_8 : decode cX5_open 8 = .ok (.iconst 0, 1) := dk_3 (dk_at dksX5_open_0 8 rfl rfl)
theorem dX5_open_9 : decode cX5_open 9 = .ok (.iconst 1, 1) := dk_4 (dk_at dksX5_open_0 9 rfl rfl)
theorem dX5_open_10 : decode cX5_open 10 = .ok (.invokestatic 230, 3) := dk_184 0 230 (dk_at dksX5_open_0 10 rfl rfl)
theorem dX5_open_13 : decode cX5_open 13 = .ok (.ifCond .ne 5, 3) := dk_154 0 5 (dk_at dksX5_open_0 13 rfl rfl)
theorem dX5_open_16 : decode cX5_open 16 = .ok (.iconst (-1), 1) := dk_2 (dk_at dksX5_open_0 16 rfl rfl)
theorem dX5_open_17 : decode cX5_open 17 = .ok (.ireturn, 1) := dk_172 (dk_at dksX5_open_0 17 rfl rfl)
theorem dX5_open_18 : decode cX5_open 18 = .ok (.aload_n 0, 1) := dk_42 (dk_at dksX5_open_0 18 rfl rfl)
theorem dX5_open_19 : decode cX5_open 19 = .ok (.getfield 13, 3) := dk_180 0 13 (dk_at dksX5_open_0 19 rfl rfl)
theorem dX5_open_22 : decode cX5_open 22 = .ok (.iload_n 1, 1) := dk_27 (dk_at dksX5_open_0 22 rfl rfl)
theorem dX5_open_23 : decode cX5_open 23 = .ok (.invokestatic 238, 3) := dk_184 0 238 (dk_at dksX5_open_1 0 rfl rfl)
theorem dX5_open_26 : decode cX5_open 26 = .ok (.baload, 1) := dk_51 (dk_at dksX5_open_1 3 rfl rfl)
theorem dX5_open_27 : decode cX5_open 27 = .ok (.ifCond .eq 7, 3) := dk_153 0 7 (dk_at dksX5_open_1 4 rfl rfl)
theorem dX5_open_30 : decode cX5_open 30 = .ok (.iconst 1, 1) := dk_4 (dk_at dksX5_open_1 7 rfl rfl)
theorem dX5_open_31 : decode cX5_open 31 = .ok (.goto 4, 3) := dk_167 0 4 (dk_at dksX5_open_1 8 rfl rfl)
theorem dX5_open_34 : decode cX5_open 34 = .ok (.iconst 0, 1) := dk_3 (dk_at dksX5_open_1 11 rfl rfl)
theorem dX5_open_35 : decode cX5_open 35 = .ok (.istore_n 3, 1) := dk_62 (dk_at dksX5_open_1 12 rfl rfl)
theorem dX5_open_36 : decode cX5_open 36 = .ok (.aload_n 0, 1) := dk_42 (dk_at dksX5_open_1 13 rfl rfl)
theorem dX5_open_37 : decode cX5_open 37 = .ok (.getfield 13, 3) := dk_180 0 13 (dk_at dksX5_open_1 14 rfl rfl)
theorem dX5_open_40 : decode cX5_open 40 = .ok (.iload_n 1, 1) := dk_27 (dk_at dksX5_open_1 17 rfl rfl)
theorem dX5_open_41 : decode cX5_open 41 = .ok (.invokestatic 238, 3) := dk_184 0 238 (dk_at dksX5_open_1 18 rfl rfl)
theorem dX5_open_44 : decode cX5_open 44 = .ok (.iload_n 2, 1) := dk_28 (dk_at dksX5_open_1 21 rfl rfl)
theorem dX5_open_45 : decode cX5_open 45 = .ok (.iconst 1, 1) := dk_4 (dk_at dksX5_open_1 22 rfl rfl)
theorem dX5_open_46 : decode cX5_open 46 = .ok (.if_icmp .ne 7, 3) := dk_160 0 7 (dk_at dksX5_open_2 0 rfl rfl)
theorem dX5_open_49 : decode cX5_open 49 = .ok (.iconst 1, 1) := dk_4 (dk_at dksX5_open_2 3 rfl rfl)
theorem dX5_open_50 : decode cX5_open 50 = .ok (.goto 4, 3) := dk_167 0 4 (dk_at dksX5_open_2 4 rfl rfl)
theorem dX5_open_53 : decode cX5_open 53 = .ok (.iconst 0, 1) := dk_3 (dk_at dksX5_open_2 7 rfl rfl)
theorem dX5_open_54 : decode cX5_open 54 = .ok (.bastore, 1) := dk_84 (dk_at dksX5_open_2 8 rfl rfl)
theorem dX5_open_55 : decode cX5_open 55 = .ok (.iload_n 3, 1) := dk_29 (dk_at dksX5_open_2 9 rfl rfl)
theorem dX5_open_56 : decode cX5_open 56 = .ok (.ireturn, 1) := dk_172 (dk_at dksX5_open_2 10 rfl rfl)
abbrev cX5_ofCell : ByteArray := prog_22_method_10_code
def yX5_ofCell : MethodName := ⟨RX5, "ofCell", "(II)I"⟩
def dkwX5_ofCell_2 : List UInt8 := [153, 0, 7, 4, 167, 0, 4, 3, 172]
abbrev dktX5_ofCell_2 : List UInt8 := dkwX5_ofCell_2 ++ []
def dkwX5_ofCell_1 : List UInt8 := [6, 42, 180, 0, 7, 27, 184, 0, 238, 46, 96, 167, 0, 20, 42, 180, 0, 13, 27, 184, 0, 238, 51]
abbrev dktX5_ofCell_1 : List UInt8 := dkwX5_ofCell_1 ++ dktX5_ofCell_2
def dkwX5_ofCell_0 : List UInt8 := [27, 184, 0, 234, 153, 0, 12, 28, 3, 4, 184, 0, 230, 154, 0, 7, 2, 167, 0, 38, 28, 154, 0, 17]
abbrev dktX5_ofCell_0 : List UInt8 := dkwX5_ofCell_0 ++ dktX5_ofCell_1
theorem dksX5_ofCell_0 : cX5_ofCell.data.toList.drop 0 = dktX5_ofCell_0 := by decide +kernel
theorem dksX5_ofCell_1 : cX5_ofCell.data.toList.drop 24 = dktX5_ofCell_1 := dk_seg dksX5_ofCell_0 24 rfl rfl
theorem dksX5_ofCell_2 : cX5_ofCell.data.toList.drop 47 = dktX5_ofCell_2 := dk_seg dksX5_ofCell_1 23 rfl rfl
theorem dX5_ofCell_0 : decode cX5_ofCell 0 = .ok (.iload_n 1, 1) := dk_27 (dk_at dksX5_ofCell_0 0 rfl rfl)
theorem dX5_ofCell_1 : decode cX5_ofCell 1 = .ok (.invokestatic 234, 3) := dk_184 0 234 (dk_at dksX5_ofCell_0 1 rfl rfl)
theorem dX5_ofCell_4 : decode cX5_ofCell 4 = .ok (.ifCond .eq 12, 3) := dk_153 0 12 (dk_at dksX5_ofCell_0 4 rfl rfl)
theorem dX5_ofCell_7 : decode cX5_ofCell 7 = .ok (.iload_n 2, 1) := dk_28 (dk_at dksX5_ofCell_0 7 rfl rfl)
theorem dX5_ofCell_8 : decode cX5_ofCell 8 = .ok (.iconst 0, 1) := dk_3 (dk_at dksX5_ofCell_0 8 rfl rfl)
theorem dX5_ofCell_9 : decode cX5_ofCell 9 = .ok (.iconst 1, 1) := dk_4 (dk_at dksX5_ofCell_0 9 rfl rfl)
theorem dX5_ofCell_10 : decode cX5_ofCell 10 = .ok (.invokestatic 230, 3) := dk_184 0 230 (dk_at dksX5_ofCell_0 10 rfl rfl)
theorem dX5_ofCell_13 : decode cX5_ofCell 13 = .ok (.ifCond .ne 7, 3) := dk_154 0 7 (dk_at dksX5_ofCell_0 13 rfl rfl)
theorem dX5_ofCell_16 : decode cX5_ofCell 16 = .ok (.iconst (-1), 1) := dk_2 (dk_at dksX5_ofCell_0 16 rfl rfl)
theorem dX5_ofCell_17 : decode cX5_ofCell 17 = .ok (.goto 38, 3) := dk_167 0 38 (dk_at dksX5_ofCell_0 17 rfl rfl)
theorem dX5_ofCell_20 : decode cX5_ofCell 20 = .ok (.iload_n 2, 1) := dk_28 (dk_at dksX5_ofCell_0 20 rfl rfl)
theorem dX5_ofCell_21 : decode cX5_ofCell 21 = .ok (.ifCond .ne 17, 3) := dk_154 0 17 (dk_at dksX5_ofCell_0 21 rfl rfl)
theorem dX5_ofCell_24 : decode cX5_ofCell 24 = .ok (.iconst 3, 1) := dk_6 (dk_at dksX5_ofCell_1 0 rfl rfl)
theorem dX5_ofCell_25 : decode cX5_ofCell 25 = .ok (.aload_n 0, 1) := dk_42 (dk_at dksX5_ofCell_1 1 rfl rfl)
theorem dX5_ofCell_26 : decode cX5_ofCell 26 = .ok (.getfield 7, 3) := dk_180 0 7 (dk_at dksX5_ofCell_1 2 rfl rfl)
theorem dX5_ofCell_29 : decode cX5_ofCell 29 = .ok (.iload_n 1, 1) := dk_27 (dk_at dksX5_ofCell_1 5 rfl rfl)
theorem dX5_ofCell_30 : decode cX5_ofCell 30 = .ok (.invokestatic 238, 3) := dk_184 0 238 (dk_at dksX5_ofCell_1 6 rfl rfl)
theorem dX5_ofCell_33 : decode cX5_ofCell 33 = .ok (.iaload, 1) := dk_46 (dk_at dksX5_ofCell_1 9 rfl rfl)
theorem dX5_ofCell_34 : decode cX5_ofCell 34 = .ok (.iadd, 1) := dk_96 (dk_at dksX5_ofCell_1 10 rfl rfl)
theorem dX5_ofCell_35 : decode cX5_ofCell 35 = .ok (.goto 20, 3) := dk_167 0 20 (dk_at dksX5_ofCell_1 11 rfl rfl)
theorem dX5_ofCell_38 : decode cX5_ofCell 38 = .ok (.aload_n 0, 1) := dk_42 (dk_at dksX5_ofCell_1 14 rfl rfl)
theorem dX5_ofCell_39 : decode cX5_ofCell 39 = .ok (.getfield 13, 3) := dk_180 0 13 (dk_at dksX5_ofCell_1 15 rfl rfl)
theorem dX5_ofCell_42 : decode cX5_ofCell 42 = .ok (.iload_n 1, 1) := dk_27 (dk_at dksX5_ofCell_1 18 rfl rfl)
theorem dX5_ofCell_43 : decode cX5_ofCell 43 = .ok (.invokestatic 238, 3) := dk_184 0 238 (dk_at dksX5_ofCell_1 19 rfl rfl)
theorem dX5_ofCell_46 : decode cX5_ofCell 46 = .ok (.baload, 1) := dk_51 (dk_at dksX5_ofCell_1 22 rfl rfl)
theorem dX5_ofCell_47 : decode cX5_ofCell 47 = .ok (.ifCond .eq 7, 3) := dk_153 0 7 (dk_at dksX5_ofCell_2 0 rfl rfl)
theorem dX5_ofCell_50 : decode cX5_ofCell 50 = .ok (.iconst 1, 1) := dk_4 (dk_at dksX5_ofCell_2 3 rfl rfl)
theorem dX5_ofCell_51 : decode cX5_ofCell 51 = .ok (.goto 4, 3) := dk_167 0 4 (dk_at dksX5_ofCell_2 4 rfl rfl)
theorem dX5_ofCell_54 : decode cX5_ofCell 54 = .ok (.iconst 0, 1) := dk_3 (dk_at dksX5_ofCell_2 7 rfl rfl)
theorem dX5_ofCell_55 : decode cX5_ofCell 55 = .ok (.ireturn, 1) := dk_172 (dk_at dksX5_ofCell_2 8 rfl rfl)
abbrev cX5_body : ByteArray := prog_22_method_16_code
def yX5_body : MethodName := ⟨RX5, "body", "(I)I"⟩
def dkwX5_body_1 : List UInt8 := [167, 0, 8, 42, 27, 182, 0, 252, 172]
abbrev dktX5_body_1 : List UInt8 := dkwX5_body_1 ++ []
def dkwX5_body_0 : List UInt8 := [27, 3, 4, 184, 0, 230, 154, 0, 5, 2, 172, 42, 180, 0, 242, 16, 120, 160, 0, 8, 16, 253]
abbrev dktX5_body_0 : List UInt8 := dkwX5_body_0 ++ dktX5_body_1
theorem dksX5_body_0 : cX5_body.data.toList.drop 0 = dktX5_body_0 := by decide +kernel
theorem dksX5_body_1 : cX5_body.data.toList.drop 22 = dktX5_body_1 := dk_seg dksX5_body_0 22 rfl rfl
theorem dX5_body_0 : decode cX5_body 0 = .ok (.iload_n 1, 1) := dk_27 (dk_at dksX5_body_0 0 rfl rfl)
theorem dX5_body_1 : decode cX5_body 1 = .ok (.iconst 0, 1) := dk_3 (dk_at dksX5_body_0 1 rfl rfl)
theorem dX5_body_2 : decode cX5_body 2 = .ok (.iconst 1, 1) := dk_4 (dk_at dksX5_body_0 2 rfl rfl)
theorem dX5_body_3 : decode cX5_body 3 = .ok (.invokestatic 230, 3) := dk_184 0 230 (dk_at dksX5_body_0 3 rfl rfl)
theorem dX5_body_6 : decode cX5_body 6 = .ok (.ifCond .ne 5, 3) := dk_154 0 5 (dk_at dksX5_body_0 6 rfl rfl)
theorem dX5_body_9 : decode cX5_body 9 = .ok (.iconst (-1), 1) := dk_2 (dk_at dksX5_body_0 9 rfl rfl)
theorem dX5_body_10 : decode cX5_body 10 = .ok (.ireturn, 1) := dk_172 (dk_at dksX5_body_0 10 rfl rfl)
theorem dX5_body_11 : decode cX5_body 11 = .ok (.aload_n 0, 1) := dk_42 (dk_at dksX5_body_0 11 rfl rfl)
theorem dX5_body_12 : decode cX5_body 12 = .ok (.getfield 242, 3) := dk_180 0 242 (dk_at dksX5_body_0 12 rfl rfl)
theorem dX5_body_15 : decode cX5_body 15 = .ok (.bipush 120, 2) := dk_16 120 (dk_at dksX5_body_0 15 rfl rfl)
theorem dX5_body_17 : decode cX5_body 17 = .ok (.if_icmp .ne 8, 3) := dk_160 0 8 (dk_at dksX5_body_0 17 rfl rfl)
theorem dX5_body_20 : decode cX5_body 20 = .ok (.bipush (-3), 2) := dk_16 253 (dk_at dksX5_body_0 20 rfl rfl)
theorem dX5_body_22 : decode cX5_body 22 = .ok (.goto 8, 3) := dk_167 0 8 (dk_at dksX5_body_1 0 rfl rfl)
theorem dX5_body_25 : decode cX5_body 25 = .ok (.aload_n 0, 1) := dk_42 (dk_at dksX5_body_1 3 rfl rfl)
theorem dX5_body_26 : decode cX5_body 26 = .ok (.iload_n 1, 1) := dk_27 (dk_at dksX5_body_1 4 rfl rfl)
theorem dX5_body_27 : decode cX5_body 27 = .ok (.invokevirtual 252, 3) := dk_182 0 252 (dk_at dksX5_body_1 5 rfl rfl)
theorem dX5_body_30 : decode cX5_body 30 = .ok (.ireturn, 1) := dk_172 (dk_at dksX5_body_1 8 rfl rfl)
abbrev cX5_add : ByteArray := prog_22_method_15_code
def yX5_add : MethodName := ⟨RX5, "add", "(I)I"⟩
def dkwX5_add_1 : List UInt8 := [4, 100, 172]
abbrev dktX5_add_1 : List UInt8 := dkwX5_add_1 ++ []
def dkwX5_add_0 : List UInt8 := [42, 180, 0, 17, 42, 180, 0, 242, 27, 79, 42, 89, 180, 0, 242, 4, 96, 181, 0, 242, 42, 180, 0, 242]
abbrev dktX5_add_0 : List UInt8 := dkwX5_add_0 ++ dktX5_add_1
theorem dksX5_add_0 : cX5_add.data.toList.drop 0 = dktX5_add_0 := by decide +kernel
theorem dksX5_add_1 : cX5_add.data.toList.drop 24 = dktX5_add_1 := dk_seg dksX5_add_0 24 rfl rfl
theorem dX5_add_0 : decode cX5_add 0 = .ok (.aload_n 0, 1) := dk_42 (dk_at dksX5_add_0 0 rfl rfl)
theorem dX5_add_1 : decode cX5_add 1 = .ok (.getfield 17, 3) := dk_180 0 17 (dk_at dksX5_add_0 1 rfl rfl)
theorem dX5_add_4 : decode cX5_add 4 = .ok (.aload_n 0, 1) := dk_42 (dk_at dksX5_add_0 4 rfl rfl)
theorem dX5_add_5 : decode cX5_add 5 = .ok (.getfield 242, 3) := dk_180 0 242 (dk_at dksX5_add_0 5 rfl rfl)
theorem dX5_add_8 : decode cX5_add 8 = .ok (.iload_n 1, 1) := dk_27 (dk_at dksX5_add_0 8 rfl rfl)
theorem dX5_add_9 : decode cX5_add 9 = .ok (.iastore, 1) := dk_79 (dk_at dksX5_add_0 9 rfl rfl)
theorem dX5_add_10 : decode cX5_add 10 = .ok (.aload_n 0, 1) := dk_42 (dk_at dksX5_add_0 10 rfl rfl)
theorem dX5_add_11 : decode cX5_add 11 = .ok (.dup, 1) := dk_89 (dk_at dksX5_add_0 11 rfl rfl)
theorem dX5_add_12 : decode cX5_add 12 = .ok (.getfield 242, 3) := dk_180 0 242 (dk_at dksX5_add_0 12 rfl rfl)
theorem dX5_add_15 : decode cX5_add 15 = .ok (.iconst 1, 1) := dk_4 (dk_at dksX5_add_0 15 rfl rfl)
theorem dX5_add_16 : decode cX5_add 16 = .ok (.iadd, 1) := dk_96 (dk_at dksX5_add_0 16 rfl rfl)
theorem dX5_add_17 : decode cX5_add 17 = .ok (.putfield 242, 3) := dk_181 0 242 (dk_at dksX5_add_0 17 rfl rfl)
theorem dX5_add_20 : decode cX5_add 20 = .ok (.aload_n 0, 1) := dk_42 (dk_at dksX5_add_0 20 rfl rfl)
theorem dX5_add_21 : decode cX5_add 21 = .ok (.getfield 242, 3) := dk_180 0 242 (dk_at dksX5_add_0 21 rfl rfl)
theorem dX5_add_24 : decode cX5_add 24 = .ok (.iconst 1, 1) := dk_4 (dk_at dksX5_add_1 0 rfl rfl)
theorem dX5_add_25 : decode cX5_add 25 = .ok (.isub, 1) := dk_100 (dk_at dksX5_add_1 1 rfl rfl)
theorem dX5_add_26 : decode cX5_add 26 = .ok (.ireturn, 1) := dk_172 (dk_at dksX5_add_1 2 rfl rfl)
abbrev cX5_hole : ByteArray := prog_22_method_17_code
def yX5_hole : MethodName := ⟨RX5, "hole", "(II)I"⟩
def dkwX5_hole_3 : List UInt8 := [42, 180, 0, 23, 29, 28, 16, 100, 112, 79, 29, 172]
abbrev dktX5_hole_3 : List UInt8 := dkwX5_hole_3 ++ []
def dkwX5_hole_2 : List UInt8 := [182, 0, 252, 62, 42, 180, 0, 20, 29, 28, 16, 100, 108, 79, 42, 180, 0, 26, 29, 28, 16, 100, 108, 79]
abbrev dktX5_hole_2 : List UInt8 := dkwX5_hole_2 ++ dktX5_hole_3
def dkwX5_hole_1 : List UInt8 := [16, 100, 112, 154, 0, 5, 2, 172, 42, 180, 0, 242, 16, 120, 160, 0, 6, 16, 253, 172, 42, 27]
abbrev dktX5_hole_1 : List UInt8 := dkwX5_hole_1 ++ dktX5_hole_2
def dkwX5_hole_0 : List UInt8 := [27, 5, 8, 184, 0, 230, 153, 0, 23, 28, 155, 0, 19, 28, 16, 100, 108, 16, 32, 162, 0, 10, 28]
abbrev dktX5_hole_0 : List UInt8 := dkwX5_hole_0 ++ dktX5_hole_1
theorem dksX5_hole_0 : cX5_hole.data.toList.drop 0 = dktX5_hole_0 := by decide +kernel
theorem dksX5_hole_1 : cX5_hole.data.toList.drop 23 = dktX5_hole_1 := dk_seg dksX5_hole_0 23 rfl rfl
theorem dksX5_hole_2 : cX5_hole.data.toList.drop 45 = dktX5_hole_2 := dk_seg dksX5_hole_1 22 rfl rfl
theorem dksX5_hole_3 : cX5_hole.data.toList.drop 69 = dktX5_hole_3 := dk_seg dksX5_hole_2 24 rfl rfl
theorem dX5_hole_0 : decode cX5_hole 0 = .ok (.iload_n 1, 1) := dk_27 (dk_at dksX5_hole_0 0 rfl rfl)
theorem dX5_hole_1 : decode cX5_hole 1 = .ok (.iconst 2, 1) := dk_5 (dk_at dksX5_hole_0 1 rfl rfl)
theorem dX5_hole_2 : decode cX5_hole 2 = .ok (.iconst 5, 1) := dk_8 (dk_at dksX5_hole_0 2 rfl rfl)
theorem dX5_hole_3 : decode cX5_hole 3 = .ok (.invokestatic 230, 3) := dk_184 0 230 (dk_at dksX5_hole_0 3 rfl rfl)
theorem dX5_hole_6 : decode cX5_hole 6 = .ok (.ifCond .eq 23, 3) := dk_153 0 23 (dk_at dksX5_hole_0 6 rfl rfl)
theorem dX5_hole_9 : decode cX5_hole 9 = .ok (.iload_n 2, 1) := dk_28 (dk_at dksX5_hole_0 9 rfl rfl)
theorem dX5_hole_10 : decode cX5_hole 10 = .ok (.ifCond .lt 19, 3) := dk_155 0 19 (dk_at dksX5_hole_0 10 rfl rfl)
theorem dX5_hole_13 : decode cX5_hole 13 = .ok (.iload_n 2, 1) := dk_28 (dk_at dksX5_hole_0 13 rfl rfl)
theorem dX5_hole_14 : decode cX5_hole 14 = .ok (.bipush 100, 2) := dk_16 100 (dk_at dksX5_hole_0 14 rfl rfl)
theorem dX5_hole_16 : decode cX5_hole 16 = .ok (.idiv, 1) := dk_108 (dk_at dksX5_hole_0 16 rfl rfl)
theorem dX5_hole_17 : decode cX5_hole 17 = .ok (.bipush 32, 2) := dk_16 32 (dk_at dksX5_hole_0 17 rfl rfl)
theorem dX5_hole_19 : decode cX5_hole 19 = .ok (.if_icmp .ge 10, 3) := dk_162 0 10 (dk_at dksX5_hole_0 19 rfl rfl)
theorem dX5_hole_22 : decode cX5_hole 22 = .ok (.iload_n 2, 1) := dk_28 (dk_at dksX5_hole_0 22 rfl rfl)
theorem dX5_hole_23 : decode cX5_hole 23 = .ok (.bipush 100, 2) := dk_16 100 (dk_at dksX5_hole_1 0 rfl rfl)
theorem dX5_hole_25 : decode cX5_hole 25 = .ok (.irem, 1) := dk_112 (dk_at dksX5_hole_1 2 rfl rfl)
theorem dX5_hole_26 : decode cX5_hole 26 = .ok (.ifCond .ne 5, 3) := dk_154 0 5 (dk_at dksX5_hole_1 3 rfl rfl)
theorem dX5_hole_29 : decode cX5_hole 29 = .ok (.iconst (-1), 1) := dk_2 (dk_at dksX5_hole_1 6 rfl rfl)
theorem dX5_hole_30 : decode cX5_hole 30 = .ok (.ireturn, 1) := dk_172 (dk_at dksX5_hole_1 7 rfl rfl)
theorem dX5_hole_31 : decode cX5_hole 31 = .ok (.aload_n 0, 1) := dk_42 (dk_at dksX5_hole_1 8 rfl rfl)
theorem dX5_hole_32 : decode cX5_hole 32 = .ok (.getfield 242, 3) := dk_180 0 242 (dk_at dksX5_hole_1 9 rfl rfl)
theorem dX5_hole_35 : decode cX5_hole 35 = .ok (.bipush 120, 2) := dk_16 120 (dk_at dksX5_hole_1 12 rfl rfl)
theorem dX5_hole_37 : decode cX5_hole 37 = .ok (.if_icmp .ne 6, 3) := dk_160 0 6 (dk_at dksX5_hole_1 14 rfl rfl)
theorem dX5_hole_40 : decode cX5_hole 40 = .ok (.bipush (-3), 2) := dk_16 253 (dk_at dksX5_hole_1 17 rfl rfl)
theorem dX5_hole_42 : decode cX5_hole 42 = .ok (.ireturn, 1) := dk_172 (dk_at dksX5_hole_1 19 rfl rfl)
theorem dX5_hole_43 : decode cX5_hole 43 = .ok (.aload_n 0, 1) := dk_42 (dk_at dksX5_hole_1 20 rfl rfl)
theorem dX5_hole_44 : decode cX5_hole 44 = .ok (.iload_n 1, 1) := dk_27 (dk_at dksX5_hole_1 21 rfl rfl)
theorem dX5_hole_45 : decode cX5_hole 45 = .ok (.invokevirtual 252, 3) := dk_182 0 252 (dk_at dksX5_hole_2 0 rfl rfl)
theorem dX5_hole_48 : decode cX5_hole 48 = .ok (.istore_n 3, 1) := dk_62 (dk_at dksX5_hole_2 3 rfl rfl)
theorem dX5_hole_49 : decode cX5_hole 49 = .ok (.aload_n 0, 1) := dk_42 (dk_at dksX5_hole_2 4 rfl rfl)
theorem dX5_hole_50 : decode cX5_hole 50 = .ok (.getfield 20, 3) := dk_180 0 20 (dk_at dksX5_hole_2 5 rfl rfl)
theorem dX5_hole_53 : decode cX5_hole 53 = .ok (.iload_n 3, 1) := dk_29 (dk_at dksX5_hole_2 8 rfl rfl)
theorem dX5_hole_54 : decode cX5_hole 54 = .ok (.iload_n 2, 1) := dk_28 (dk_at dksX5_hole_2 9 rfl rfl)
theorem dX5_hole_55 : decode cX5_hole 55 = .ok (.bipush 100, 2) := dk_16 100 (dk_at dksX5_hole_2 10 rfl rfl)
theorem dX5_hole_57 : decode cX5_hole 57 = .ok (.idiv, 1) := dk_108 (dk_at dksX5_hole_2 12 rfl rfl)
theorem dX5_hole_58 : decode cX5_hole 58 = .ok (.iastore, 1) := dk_79 (dk_at dksX5_hole_2 13 rfl rfl)
theorem dX5_hole_59 : decode cX5_hole 59 = .ok (.aload_n 0, 1) := dk_42 (dk_at dksX5_hole_2 14 rfl rfl)
theorem dX5_hole_60 : decode cX5_hole 60 = .ok (.getfield 26, 3) := dk_180 0 26 (dk_at dksX5_hole_2 15 rfl rfl)
theorem dX5_hole_63 : decode cX5_hole 63 = .ok (.iload_n 3, 1) := dk_29 (dk_at dksX5_hole_2 18 rfl rfl)
theorem dX5_hole_64 : decode cX5_hole 64 = .ok (.iload_n 2, 1) := dk_28 (dk_at dksX5_hole_2 19 rfl rfl)
theorem dX5_hole_65 : decode cX5_hole 65 = .ok (.bipush 100, 2) := dk_16 100 (dk_at dksX5_hole_2 20 rfl rfl)
theorem dX5_hole_67 : decode cX5_hole 67 = .ok (.idiv, 1) := dk_108 (dk_at dksX5_hole_2 22 rfl rfl)
theorem dX5_hole_68 : decode cX5_hole 68 = .ok (.iastore, 1) := dk_79 (dk_at dksX5_hole_2 23 rfl rfl)
theorem dX5_hole_69 : decode cX5_hole 69 = .ok (.aload_n 0, 1) := dk_42 (dk_at dksX5_hole_3 0 rfl rfl)
theorem dX5_hole_70 : decode cX5_hole 70 = .ok (.getfield 23, 3) := dk_180 0 23 (dk_at dksX5_hole_3 1 rfl rfl)
theorem dX5_hole_73 : decode cX5_hole 73 = .ok (.iload_n 3, 1) := dk_29 (dk_at dksX5_hole_3 4 rfl rfl)
theorem dX5_hole_74 : decode cX5_hole 74 = .ok (.iload_n 2, 1) := dk_28 (dk_at dksX5_hole_3 5 rfl rfl)
theorem dX5_hole_75 : decode cX5_hole 75 = .ok (.bipush 100, 2) := dk_16 100 (dk_at dksX5_hole_3 6 rfl rfl)
theorem dX5_hole_77 : decode cX5_hole 77 = .ok (.irem, 1) := dk_112 (dk_at dksX5_hole_3 8 rfl rfl)
theorem dX5_hole_78 : decode cX5_hole 78 = .ok (.iastore, 1) := dk_79 (dk_at dksX5_hole_3 9 rfl rfl)
theorem dX5_hole_79 : decode cX5_hole 79 = .ok (.iload_n 3, 1) := dk_29 (dk_at dksX5_hole_3 10 rfl rfl)
theorem dX5_hole_80 : decode cX5_hole 80 = .ok (.ireturn, 1) := dk_172 (dk_at dksX5_hole_3 11 rfl rfl)
abbrev cX5_shelter : ByteArray := prog_22_method_19_code
def yX5_shelter : MethodName := ⟨RX5, "shelter", "(II)I"⟩
def dkwX5_shelter_3 : List UInt8 := [181, 1, 8, 42, 180, 0, 65, 172]
abbrev dktX5_shelter_3 : List UInt8 := dkwX5_shelter_3 ++ []
def dkwX5_shelter_2 : List UInt8 := [182, 0, 252, 181, 0, 65, 42, 27, 16, 100, 108, 181, 1, 2, 42, 27, 16, 100, 112, 181, 1, 5, 42, 28]
abbrev dktX5_shelter_2 : List UInt8 := dkwX5_shelter_2 ++ dktX5_shelter_3
def dkwX5_shelter_1 : List UInt8 := [155, 0, 6, 16, 254, 172, 42, 180, 0, 242, 16, 120, 160, 0, 6, 16, 253, 172, 42, 42, 16, 6]
abbrev dktX5_shelter_1 : List UInt8 := dkwX5_shelter_1 ++ dktX5_shelter_2
def dkwX5_shelter_0 : List UInt8 := [27, 184, 0, 255, 153, 0, 13, 28, 4, 16, 60, 184, 0, 230, 154, 0, 5, 2, 172, 42, 180, 0, 65]
abbrev dktX5_shelter_0 : List UInt8 := dkwX5_shelter_0 ++ dktX5_shelter_1
theorem dksX5_shelter_0 : cX5_shelter.data.toList.drop 0 = dktX5_shelter_0 := by decide +kernel
theorem dksX5_shelter_1 : cX5_shelter.data.toList.drop 23 = dktX5_shelter_1 := dk_seg dksX5_shelter_0 23 rfl rfl
theorem dksX5_shelter_2 : cX5_shelter.data.toList.drop 45 = dktX5_shelter_2 := dk_seg dksX5_shelter_1 22 rfl rfl
theorem dksX5_shelter_3 : cX5_shelter.data.toList.drop 69 = dktX5_shelter_3 := dk_seg dksX5_shelter_2 24 rfl rfl
theorem dX5_shelter_0 : decode cX5_shelter 0 = .ok (.iload_n 1, 1) := dk_27 (dk_at dksX5_shelter_0 0 rfl rfl)
theorem dX5_shelter_1 : decode cX5_shelter 1 = .ok (.invokestatic 255, 3) := dk_184 0 255 (dk_at dksX5_shelter_0 1 rfl rfl)
theorem dX5_shelter_4 : decode cX5_shelter 4 = .ok (.ifCond .eq 13, 3) := dk_153 0 13 (dk_at dksX5_shelter_0 4 rfl rfl)
theorem dX5_shelter_7 : decode cX5_shelter 7 = .ok (.iload_n 2, 1) := dk_28 (dk_at dksX5_shelter_0 7 rfl rfl)
theorem dX5_shelter_8 : decode cX5_shelter 8 = .ok (.iconst 1, 1) := dk_4 (dk_at dksX5_shelter_0 8 rfl rfl)
theorem dX5_shelter_9 : decode cX5_shelter 9 = .ok (.bipush 60, 2) := dk_16 60 (dk_at dksX5_shelter_0 9 rfl rfl)
theorem dX5_shelter_11 : decode cX5_shelter 11 = .ok (.invokestatic 230, 3) := dk_184 0 230 (dk_at dksX5_shelter_0 11 rfl rfl)
theorem dX5_shelter_14 : decode cX5_shelter 14 = .ok (.ifCond .ne 5, 3) := dk_154 0 5 (dk_at dksX5_shelter_0 14 rfl rfl)
theorem dX5_shelter_17 : decode cX5_shelter 17 = .ok (.iconst (-1), 1) := dk_2 (dk_at dksX5_shelter_0 17 rfl rfl)
theorem dX5_shelter_18 : decode cX5_shelter 18 = .ok (.ireturn, 1) := dk_172 (dk_at dksX5_shelter_0 18 rfl rfl)
theorem dX5_shelter_19 : decode cX5_shelter 19 = .ok (.aload_n 0, 1) := dk_42 (dk_at dksX5_shelter_0 19 rfl rfl)
theorem dX5_shelter_20 : decode cX5_shelter 20 = .ok (.getfield 65, 3) := dk_180 0 65 (dk_at dksX5_shelter_0 20 rfl rfl)
theorem dX5_shelter_23 : decode cX5_shelter 23 = .ok (.ifCond .lt 6, 3) := dk_155 0 6 (dk_at dksX5_shelter_1 0 rfl rfl)
theorem dX5_shelter_26 : decode cX5_shelter 26 = .ok (.bipush (-2), 2) := dk_16 254 (dk_at dksX5_shelter_1 3 rfl rfl)
theorem dX5_shelter_28 : decode cX5_shelter 28 = .ok (.ireturn, 1) := dk_172 (dk_at dksX5_shelter_1 5 rfl rfl)
theorem dX5_shelter_29 : decode cX5_shelter 29 = .ok (.aload_n 0, 1) := dk_42 (dk_at dksX5_shelter_1 6 rfl rfl)
theorem dX5_shelter_30 : decode cX5_shelter 30 = .ok (.getfield 242, 3) := dk_180 0 242 (dk_at dksX5_shelter_1 7 rfl rfl)
theorem dX5_shelter_33 : decode cX5_shelter 33 = .ok (.bipush 120, 2) := dk_16 120 (dk_at dksX5_shelter_1 10 rfl rfl)
theorem dX5_shelter_35 : decode cX5_shelter 35 = .ok (.if_icmp .ne 6, 3) := dk_160 0 6 (dk_at dksX5_shelter_1 12 rfl rfl)
theorem dX5_shelter_38 : decode cX5_shelter 38 = .ok (.bipush (-3), 2) := dk_16 253 (dk_at dksX5_shelter_1 15 rfl rfl)
theorem dX5_shelter_40 : decode cX5_shelter 40 = .ok (.ireturn, 1) := dk_172 (dk_at dksX5_shelter_1 17 rfl rfl)
theorem dX5_shelter_41 : decode cX5_shelter 41 = .ok (.aload_n 0, 1) := dk_42 (dk_at dksX5_shelter_1 18 rfl rfl)
theorem dX5_shelter_42 : decode cX5_shelter 42 = .ok (.aload_n 0, 1) := dk_42 (dk_at dksX5_shelter_1 19 rfl rfl)
theorem dX5_shelter_43 : decode cX5_shelter 43 = .ok (.bipush 6, 2) := dk_16 6 (dk_at dksX5_shelter_1 20 rfl rfl)
theorem dX5_shelter_45 : decode cX5_shelter 45 = .ok (.invokevirtual 252, 3) := dk_182 0 252 (dk_at dksX5_shelter_2 0 rfl rfl)
theorem dX5_shelter_48 : decode cX5_shelter 48 = .ok (.putfield 65, 3) := dk_181 0 65 (dk_at dksX5_shelter_2 3 rfl rfl)
theorem dX5_shelter_51 : decode cX5_shelter 51 = .ok (.aload_n 0, 1) := dk_42 (dk_at dksX5_shelter_2 6 rfl rfl)
theorem dX5_shelter_52 : decode cX5_shelter 52 = .ok (.iload_n 1, 1) := dk_27 (dk_at dksX5_shelter_2 7 rfl rfl)
theorem dX5_shelter_53 : decode cX5_shelter 53 = .ok (.bipush 100, 2) := dk_16 100 (dk_at dksX5_shelter_2 8 rfl rfl)
theorem dX5_shelter_55 : decode cX5_shelter 55 = .ok (.idiv, 1) := dk_108 (dk_at dksX5_shelter_2 10 rfl rfl)
theorem dX5_shelter_56 : decode cX5_shelter 56 = .ok (.putfield 258, 3) := dk_181 1 2 (dk_at dksX5_shelter_2 11 rfl rfl)
theorem dX5_shelter_59 : decode cX5_shelter 59 = .ok (.aload_n 0, 1) := dk_42 (dk_at dksX5_shelter_2 14 rfl rfl)
theorem dX5_shelter_60 : decode cX5_shelter 60 = .ok (.iload_n 1, 1) := dk_27 (dk_at dksX5_shelter_2 15 rfl rfl)
theorem dX5_shelter_61 : decode cX5_shelter 61 = .ok (.bipush 100, 2) := dk_16 100 (dk_at dksX5_shelter_2 16 rfl rfl)
theorem dX5_shelter_63 : decode cX5_shelter 63 = .ok (.irem, 1) := dk_112 (dk_at dksX5_shelter_2 18 rfl rfl)
theorem dX5_shelter_64 : decode cX5_shelter 64 = .ok (.putfield 261, 3) := dk_181 1 5 (dk_at dksX5_shelter_2 19 rfl rfl)
theorem dX5_shelter_67 : decode cX5_shelter 67 = .ok (.aload_n 0, 1) := dk_42 (dk_at dksX5_shelter_2 22 rfl rfl)
theorem dX5_shelter_68 : decode cX5_shelter 68 = .ok (.iload_n 2, 1) := dk_28 (dk_at dksX5_shelter_2 23 rfl rfl)
theorem dX5_shelter_69 : decode cX5_shelter 69 = .ok (.putfield 264, 3) := dk_181 1 8 (dk_at dksX5_shelter_3 0 rfl rfl)
theorem dX5_shelter_72 : decode cX5_shelter 72 = .ok (.aload_n 0, 1) := dk_42 (dk_at dksX5_shelter_3 3 rfl rfl)
theorem dX5_shelter_73 : decode cX5_shelter 73 = .ok (.getfield 65, 3) := dk_180 0 65 (dk_at dksX5_shelter_3 4 rfl rfl)
theorem dX5_shelter_76 : decode cX5_shelter 76 = .ok (.ireturn, 1) := dk_172 (dk_at dksX5_shelter_3 7 rfl rfl)
abbrev cX5_isSpan : ByteArray := prog_22_method_18_code
def yX5_isSpan : MethodName := ⟨RX5, "isSpan", "(I)Z"⟩
def dkwX5_isSpan_1 : List UInt8 := [4, 167, 0, 4, 3, 172]
abbrev dktX5_isSpan_1 : List UInt8 := dkwX5_isSpan_1 ++ []
def dkwX5_isSpan_0 : List UInt8 := [26, 155, 0, 27, 26, 16, 100, 108, 26, 16, 100, 112, 163, 0, 16, 26, 16, 100, 112, 16, 32, 162, 0, 7]
abbrev dktX5_isSpan_0 : List UInt8 := dkwX5_isSpan_0 ++ dktX5_isSpan_1
theorem dksX5_isSpan_0 : cX5_isSpan.data.toList.drop 0 = dktX5_isSpan_0 := by decide +kernel
theorem dksX5_isSpan_1 : cX5_isSpan.data.toList.drop 24 = dktX5_isSpan_1 := dk_seg dksX5_isSpan_0 24 rfl rfl
theorem dX5_isSpan_0 : decode cX5_isSpan 0 = .ok (.iload_n 0, 1) := dk_26 (dk_at dksX5_isSpan_0 0 rfl rfl)
theorem dX5_isSpan_1 : decode cX5_isSpan 1 = .ok (.ifCond .lt 27, 3) := dk_155 0 27 (dk_at dksX5_isSpan_0 1 rfl rfl)
theorem dX5_isSpan_4 : decode cX5_isSpan 4 = .ok (.iload_n 0, 1) := dk_26 (dk_at dksX5_isSpan_0 4 rfl rfl)
theorem dX5_isSpan_5 : decode cX5_isSpan 5 = .ok (.bipush 100, 2) := dk_16 100 (dk_at dksX5_isSpan_0 5 rfl rfl)
theorem dX5_isSpan_7 : decode cX5_isSpan 7 = .ok (.idiv, 1) := dk_108 (dk_at dksX5_isSpan_0 7 rfl rfl)
theorem dX5_isSpan_8 : decode cX5_isSpan 8 = .ok (.iload_n 0, 1) := dk_26 (dk_at dksX5_isSpan_0 8 rfl rfl)
theorem dX5_isSpan_9 : decode cX5_isSpan 9 = .ok (.bipush 100, 2) := dk_16 100 (dk_at dksX5_isSpan_0 9 rfl rfl)
theorem dX5_isSpan_11 : decode cX5_isSpan 11 = .ok (.irem, 1) := dk_112 (dk_at dksX5_isSpan_0 11 rfl rfl)
theorem dX5_isSpan_12 : decode cX5_isSpan 12 = .ok (.if_icmp .gt 16, 3) := dk_163 0 16 (dk_at dksX5_isSpan_0 12 rfl rfl)
theorem dX5_isSpan_15 : decode cX5_isSpan 15 = .ok (.iload_n 0, 1) := dk_26 (dk_at dksX5_isSpan_0 15 rfl rfl)
theorem dX5_isSpan_16 : decode cX5_isSpan 16 = .ok (.bipush 100, 2) := dk_16 100 (dk_at dksX5_isSpan_0 16 rfl rfl)
theorem dX5_isSpan_18 : decode cX5_isSpan 18 = .ok (.irem, 1) := dk_112 (dk_at dksX5_isSpan_0 18 rfl rfl)
theorem dX5_isSpan_19 : decode cX5_isSpan 19 = .ok (.bipush 32, 2) := dk_16 32 (dk_at dksX5_isSpan_0 19 rfl rfl)
theorem dX5_isSpan_21 : decode cX5_isSpan 21 = .ok (.if_icmp .ge 7, 3) := dk_162 0 7 (dk_at dksX5_isSpan_0 21 rfl rfl)
theorem dX5_isSpan_24 : decode cX5_isSpan 24 = .ok (.iconst 1, 1) := dk_4 (dk_at dksX5_isSpan_1 0 rfl rfl)
theorem dX5_isSpan_25 : decode cX5_isSpan 25 = .ok (.goto 4, 3) := dk_167 0 4 (dk_at dksX5_isSpan_1 1 rfl rfl)
theorem dX5_isSpan_28 : decode cX5_isSpan 28 = .ok (.iconst 0, 1) := dk_3 (dk_at dksX5_isSpan_1 4 rfl rfl)
theorem dX5_isSpan_29 : decode cX5_isSpan 29 = .ok (.ireturn, 1) := dk_172 (dk_at dksX5_isSpan_1 5 rfl rfl)
abbrev cX5_man : ByteArray := prog_22_method_20_code
def yX5_man : MethodName := ⟨RX5, "man", "(II)I"⟩
def dkwX5_man_3 : List UInt8 := [180, 0, 62, 29, 4, 84, 29, 172]
abbrev dktX5_man_3 : List UInt8 := dkwX5_man_3 ++ []
def dkwX5_man_2 : List UInt8 := [79, 42, 180, 0, 56, 29, 28, 16, 10, 108, 79, 42, 180, 0, 59, 29, 28, 16, 10, 112, 79, 42]
abbrev dktX5_man_2 : List UInt8 := dkwX5_man_2 ++ dktX5_man_3
def dkwX5_man_1 : List UInt8 := [180, 0, 242, 16, 120, 160, 0, 6, 16, 253, 172, 42, 16, 7, 182, 0, 252, 62, 42, 180, 0, 53, 29, 27]
abbrev dktX5_man_1 : List UInt8 := dkwX5_man_1 ++ dktX5_man_2
def dkwX5_man_0 : List UInt8 := [27, 3, 17, 3, 231, 184, 0, 230, 153, 0, 13, 28, 3, 16, 99, 184, 0, 230, 154, 0, 5, 2, 172, 42]
abbrev dktX5_man_0 : List UInt8 := dkwX5_man_0 ++ dktX5_man_1
theorem dksX5_man_0 : cX5_man.data.toList.drop 0 = dktX5_man_0 := by decide +kernel
theorem dksX5_man_1 : cX5_man.data.toList.drop 24 = dktX5_man_1 := dk_seg dksX5_man_0 24 rfl rfl
theorem dksX5_man_2 : cX5_man.data.toList.drop 48 = dktX5_man_2 := dk_seg dksX5_man_1 24 rfl rfl
theorem dksX5_man_3 : cX5_man.data.toList.drop 70 = dktX5_man_3 := dk_seg dksX5_man_2 22 rfl rfl
theorem dX5_man_0 : decode cX5_man 0 = .ok (.iload_n 1, 1) := dk_27 (dk_at dksX5_man_0 0 rfl rfl)
theorem dX5_man_1 : decode cX5_man 1 = .ok (.iconst 0, 1) := dk_3 (dk_at dksX5_man_0 1 rfl rfl)
theorem dX5_man_2 : decode cX5_man 2 = .ok (.sipush 999, 3) := dk_17 3 231 (dk_at dksX5_man_0 2 rfl rfl)
theorem dX5_man_5 : decode cX5_man 5 = .ok (.invokestatic 230, 3) := dk_184 0 230 (dk_at dksX5_man_0 5 rfl rfl)
theorem dX5_man_8 : decode cX5_man 8 = .ok (.ifCond .eq 13, 3) := dk_153 0 13 (dk_at dksX5_man_0 8 rfl rfl)
theorem dX5_man_11 : decode cX5_man 11 = .ok (.iload_n 2, 1) := dk_28 (dk_at dksX5_man_0 11 rfl rfl)
theorem dX5_man_12 : decode cX5_man 12 = .ok (.iconst 0, 1) := dk_3 (dk_at dksX5_man_0 12 rfl rfl)
theorem dX5_man_13 : decode cX5_man 13 = .ok (.bipush 99, 2) := dk_16 99 (dk_at dksX5_man_0 13 rfl rfl)
theorem dX5_man_15 : decode cX5_man 15 = .ok (.invokestatic 230, 3) := dk_184 0 230 (dk_at dksX5_man_0 15 rfl rfl)
theorem dX5_man_18 : decode cX5_man 18 = .ok (.ifCond .ne 5, 3) := dk_154 0 5 (dk_at dksX5_man_0 18 rfl rfl)
theorem dX5_man_21 : decode cX5_man 21 = .ok (.iconst (-1), 1) := dk_2 (dk_at dksX5_man_0 21 rfl rfl)
theorem dX5_man_22 : decode cX5_man 22 = .ok (.ireturn, 1) := dk_172 (dk_at dksX5_man_0 22 rfl rfl)
theorem dX5_man_23 : decode cX5_man 23 = .ok (.aload_n 0, 1) := dk_42 (dk_at dksX5_man_0 23 rfl rfl)
theorem dX5_man_24 : decode cX5_man 24 = .ok (.getfield 242, 3) := dk_180 0 242 (dk_at dksX5_man_1 0 rfl rfl)
theorem dX5_man_27 : decode cX5_man 27 = .ok (.bipush 120, 2) := dk_16 120 (dk_at dksX5_man_1 3 rfl rfl)
theorem dX5_man_29 : decode cX5_man 29 = .ok (.if_icmp .ne 6, 3) := dk_160 0 6 (dk_at dksX5_man_1 5 rfl rfl)
theorem dX5_man_32 : decode cX5_man 32 = .ok (.bipush (-3), 2) := dk_16 253 (dk_at dksX5_man_1 8 rfl rfl)
theorem dX5_man_34 : decode cX5_man 34 = .ok (.ireturn, 1) := dk_172 (dk_at dksX5_man_1 10 rfl rfl)
theorem dX5_man_35 : decode cX5_man 35 = .ok (.aload_n 0, 1) := dk_42 (dk_at dksX5_man_1 11 rfl rfl)
theorem dX5_man_36 : decode cX5_man 36 = .ok (.bipush 7, 2) := dk_16 7 (dk_at dksX5_man_1 12 rfl rfl)
theorem dX5_man_38 : decode cX5_man 38 = .ok (.invokevirtual 252, 3) := dk_182 0 252 (dk_at dksX5_man_1 14 rfl rfl)
theorem dX5_man_41 : decode cX5_man 41 = .ok (.istore_n 3, 1) := dk_62 (dk_at dksX5_man_1 17 rfl rfl)
theorem dX5_man_42 : decode cX5_man 42 = .ok (.aload_n 0, 1) := dk_42 (dk_at dksX5_man_1 18 rfl rfl)
theorem dX5_man_43 : decode cX5_man 43 = .ok (.getfield 53, 3) := dk_180 0 53 (dk_at dksX5_man_1 19 rfl rfl)
theorem dX5_man_46 : decode cX5_man 46 = .ok (.iload_n 3, 1) := dk_29 (dk_at dksX5_man_1 22 rfl rfl)
theorem dX5_man_47 : decode cX5_man 47 = .ok (.iload_n 1, 1) := dk_27 (dk_at dksX5_man_1 23 rfl rfl)
theorem dX5_man_48 : decode cX5_man 48 = .ok (.iastore, 1) := dk_79 (dk_at dksX5_man_2 0 rfl rfl)
theorem dX5_man_49 : decode cX5_man 49 = .ok (.aload_n 0, 1) := dk_42 (dk_at dksX5_man_2 1 rfl rfl)
theorem dX5_man_50 : decode cX5_man 50 = .ok (.getfield 56, 3) := dk_180 0 56 (dk_at dksX5_man_2 2 rfl rfl)
theorem dX5_man_53 : decode cX5_man 53 = .ok (.iload_n 3, 1) := dk_29 (dk_at dksX5_man_2 5 rfl rfl)
theorem dX5_man_54 : decode cX5_man 54 = .ok (.iload_n 2, 1) := dk_28 (dk_at dksX5_man_2 6 rfl rfl)
theorem dX5_man_55 : decode cX5_man 55 = .ok (.bipush 10, 2) := dk_16 10 (dk_at dksX5_man_2 7 rfl rfl)
theorem dX5_man_57 : decode cX5_man 57 = .ok (.idiv, 1) := dk_108 (dk_at dksX5_man_2 9 rfl rfl)
theorem dX5_man_58 : decode cX5_man 58 = .ok (.iastore, 1) := dk_79 (dk_at dksX5_man_2 10 rfl rfl)
theorem dX5_man_59 : decode cX5_man 59 = .ok (.aload_n 0, 1) := dk_42 (dk_at dksX5_man_2 11 rfl rfl)
theorem dX5_man_60 : decode cX5_man 60 = .ok (.getfield 59, 3) := dk_180 0 59 (dk_at dksX5_man_2 12 rfl rfl)
theorem dX5_man_63 : decode cX5_man 63 = .ok (.iload_n 3, 1) := dk_29 (dk_at dksX5_man_2 15 rfl rfl)
theorem dX5_man_64 : decode cX5_man 64 = .ok (.iload_n 2, 1) := dk_28 (dk_at dksX5_man_2 16 rfl rfl)
theorem dX5_man_65 : decode cX5_man 65 = .ok (.bipush 10, 2) := dk_16 10 (dk_at dksX5_man_2 17 rfl rfl)
theorem dX5_man_67 : decode cX5_man 67 = .ok (.irem, 1) := dk_112 (dk_at dksX5_man_2 19 rfl rfl)
theorem dX5_man_68 : decode cX5_man 68 = .ok (.iastore, 1) := dk_79 (dk_at dksX5_man_2 20 rfl rfl)
theorem dX5_man_69 : decode cX5_man 69 = .ok (.aload_n 0, 1) := dk_42 (dk_at dksX5_man_2 21 rfl rfl)
theorem dX5_man_70 : decode cX5_man 70 = .ok (.getfield 62, 3) := dk_180 0 62 (dk_at dksX5_man_3 0 rfl rfl)
theorem dX5_man_73 : decode cX5_man 73 = .ok (.iload_n 3, 1) := dk_29 (dk_at dksX5_man_3 3 rfl rfl)
theorem dX5_man_74 : decode cX5_man 74 = .ok (.iconst 1, 1) := dk_4 (dk_at dksX5_man_3 4 rfl rfl)
theorem dX5_man_75 : decode cX5_man 75 = .ok (.bastore, 1) := dk_84 (dk_at dksX5_man_3 5 rfl rfl)
theorem dX5_man_76 : decode cX5_man 76 = .ok (.iload_n 3, 1) := dk_29 (dk_at dksX5_man_3 6 rfl rfl)
theorem dX5_man_77 : decode cX5_man 77 = .ok (.ireturn, 1) := dk_172 (dk_at dksX5_man_3 7 rfl rfl)
abbrev cX5_ofBody : ByteArray := prog_22_method_21_code
def yX5_ofBody : MethodName := ⟨RX5, "ofBody", "(II)I"⟩
def dkwX5_ofBody_12 : List UInt8 := [167, 0, 6, 19, 1, 11, 172]
abbrev dktX5_ofBody_12 : List UInt8 := dkwX5_ofBody_12 ++ []
def dkwX5_ofBody_11 : List UInt8 := [167, 0, 28, 28, 7, 160, 0, 20, 42, 180, 0, 62, 27, 51, 153, 0, 7, 4, 167, 0, 10, 3]
abbrev dktX5_ofBody_11 : List UInt8 := dkwX5_ofBody_11 ++ dktX5_ofBody_12
def dkwX5_ofBody_10 : List UInt8 := [5, 160, 0, 12, 42, 180, 0, 56, 27, 46, 167, 0, 42, 28, 6, 160, 0, 12, 42, 180, 0, 59, 27, 46]
abbrev dktX5_ofBody_10 : List UInt8 := dkwX5_ofBody_10 ++ dktX5_ofBody_11
def dkwX5_ofBody_9 : List UInt8 := [16, 7, 159, 0, 7, 19, 1, 11, 172, 28, 4, 160, 0, 12, 42, 180, 0, 53, 27, 46, 167, 0, 56, 28]
abbrev dktX5_ofBody_9 : List UInt8 := dkwX5_ofBody_9 ++ dktX5_ofBody_10
def dkwX5_ofBody_8 : List UInt8 := [180, 1, 15, 153, 0, 7, 4, 167, 0, 10, 3, 167, 0, 6, 19, 1, 11, 172, 42, 180, 0, 17, 27, 46]
abbrev dktX5_ofBody_8 : List UInt8 := dkwX5_ofBody_8 ++ dktX5_ofBody_9
def dkwX5_ofBody_7 : List UInt8 := [180, 1, 5, 167, 0, 38, 28, 6, 160, 0, 10, 42, 180, 1, 8, 167, 0, 26, 28, 7, 160, 0, 18, 42]
abbrev dktX5_ofBody_7 : List UInt8 := dkwX5_ofBody_7 ++ dktX5_ofBody_8
def dkwX5_ofBody_6 : List UInt8 := [16, 6, 160, 0, 63, 28, 4, 160, 0, 10, 42, 180, 1, 2, 167, 0, 50, 28, 5, 160, 0, 10, 42]
abbrev dktX5_ofBody_6 : List UInt8 := dkwX5_ofBody_6 ++ dktX5_ofBody_7
def dkwX5_ofBody_5 : List UInt8 := [180, 0, 35, 27, 46, 172, 42, 180, 0, 29, 27, 46, 172, 19, 1, 11, 172, 42, 180, 0, 17, 27, 46]
abbrev dktX5_ofBody_5 : List UInt8 := dkwX5_ofBody_5 ++ dktX5_ofBody_6
def dkwX5_ofBody_4 : List UInt8 := [180, 0, 26, 27, 46, 172, 42, 180, 0, 38, 27, 46, 158, 0, 7, 4, 167, 0, 4, 3, 172, 42]
abbrev dktX5_ofBody_4 : List UInt8 := dkwX5_ofBody_4 ++ dktX5_ofBody_5
def dkwX5_ofBody_3 : List UInt8 := [42, 180, 0, 20, 27, 46, 172, 42, 180, 0, 23, 27, 46, 172, 42, 180, 0, 32, 27, 46, 172, 42]
abbrev dktX5_ofBody_3 : List UInt8 := dkwX5_ofBody_3 ++ dktX5_ofBody_4
def dkwX5_ofBody_2 : List UInt8 := [170, 0, 0, 0, 0, 0, 0, 101, 0, 0, 0, 1, 0, 0, 0, 7, 0, 0, 0, 44, 0, 0, 0, 51, 0, 0, 0, 58, 0, 0, 0, 65, 0, 0, 0, 72, 0, 0, 0, 87, 0, 0, 0, 94]
abbrev dktX5_ofBody_2 : List UInt8 := dkwX5_ofBody_2 ++ dktX5_ofBody_3
def dkwX5_ofBody_1 : List UInt8 := [27, 182, 1, 12, 153, 0, 109, 28]
abbrev dktX5_ofBody_1 : List UInt8 := dkwX5_ofBody_1 ++ dktX5_ofBody_2
def dkwX5_ofBody_0 : List UInt8 := [42, 27, 182, 0, 245, 154, 0, 7, 19, 1, 11, 172, 28, 154, 0, 10, 42, 180, 0, 17, 27, 46, 172, 42]
abbrev dktX5_ofBody_0 : List UInt8 := dkwX5_ofBody_0 ++ dktX5_ofBody_1
theorem dksX5_ofBody_0 : cX5_ofBody.data.toList.drop 0 = dktX5_ofBody_0 := by decide +kernel
theorem dksX5_ofBody_1 : cX5_ofBody.data.toList.drop 24 = dktX5_ofBody_1 := dk_seg dksX5_ofBody_0 24 rfl rfl
theorem dksX5_ofBody_2 : cX5_ofBody.data.toList.drop 32 = dktX5_ofBody_2 := dk_seg dksX5_ofBody_1 8 rfl rfl
theorem dksX5_ofBody_3 : cX5_ofBody.data.toList.drop 76 = dktX5_ofBody_3 := dk_seg dksX5_ofBody_2 44 rfl rfl
theorem dksX5_ofBody_4 : cX5_ofBody.data.toList.drop 98 = dktX5_ofBody_4 := dk_seg dksX5_ofBody_3 22 rfl rfl
theorem dksX5_ofBody_5 : cX5_ofBody.data.toList.drop 120 = dktX5_ofBody_5 := dk_seg dksX5_ofBody_4 22 rfl rfl
theorem dksX5_ofBody_6 : cX5_ofBody.data.toList.drop 143 = dktX5_ofBody_6 := dk_seg dksX5_ofBody_5 23 rfl rfl
theorem dksX5_ofBody_7 : cX5_ofBody.data.toList.drop 166 = dktX5_ofBody_7 := dk_seg dksX5_ofBody_6 23 rfl rfl
theorem dksX5_ofBody_8 : cX5_ofBody.data.toList.drop 190 = dktX5_ofBody_8 := dk_seg dksX5_ofBody_7 24 rfl rfl
theorem dksX5_ofBody_9 : cX5_ofBody.data.toList.drop 214 = dktX5_ofBody_9 := dk_seg dksX5_ofBody_8 24 rfl rfl
theorem dksX5_ofBody_10 : cX5_ofBody.data.toList.drop 238 = dktX5_ofBody_10 := dk_seg dksX5_ofBody_9 24 rfl rfl
theorem dksX5_ofBody_11 : cX5_ofBody.data.toList.drop 262 = dktX5_ofBody_11 := dk_seg dksX5_ofBody_10 24 rfl rfl
theorem dksX5_ofBody_12 : cX5_ofBody.data.toList.drop 284 = dktX5_ofBody_12 := dk_seg dksX5_ofBody_11 22 rfl rfl
theorem dX5_ofBody_0 : decode cX5_ofBody 0 = .ok (.aload_n 0, 1) := dk_42 (dk_at dksX5_ofBody_0 0 rfl rfl)
theorem dX5_ofBody_1 : decode cX5_ofBody 1 = .ok (.iload_n 1, 1) := dk_27 (dk_at dksX5_ofBody_0 1 rfl rfl)
theorem dX5_ofBody_2 : decode cX5_ofBody 2 = .ok (.invokevirtual 245, 3) := dk_182 0 245 (dk_at dksX5_ofBody_0 2 rfl rfl)
theorem dX5_ofBody_5 : decode cX5_ofBody 5 = .ok (.ifCond .ne 7, 3) := dk_154 0 7 (dk_at dksX5_ofBody_0 5 rfl rfl)
theorem dX5_ofBody_8 : decode cX5_ofBody 8 = .ok (.ldc_w 267, 3) := dk_19 1 11 (dk_at dksX5_ofBody_0 8 rfl rfl)
theorem dX5_ofBody_11 : decode cX5_ofBody 11 = .ok (.ireturn, 1) := dk_172 (dk_at dksX5_ofBody_0 11 rfl rfl)
theorem dX5_ofBody_12 : decode cX5_ofBody 12 = .ok (.iload_n 2, 1) := dk_28 (dk_at dksX5_ofBody_0 12 rfl rfl)
theorem dX5_ofBody_13 : decode cX5_ofBody 13 = .ok (.ifCond .ne 10, 3) := dk_154 0 10 (dk_at dksX5_ofBody_0 13 rfl rfl)
theorem dX5_ofBody_16 : decode cX5_ofBody 16 = .ok (.aload_n 0, 1) := dk_42 (dk_at dksX5_ofBody_0 16 rfl rfl)
theorem dX5_ofBody_17 : decode cX5_ofBody 17 = .ok (.getfield 17, 3) := dk_180 0 17 (dk_at dksX5_ofBody_0 17 rfl rfl)
theorem dX5_ofBody_20 : decode cX5_ofBody 20 = .ok (.iload_n 1, 1) := dk_27 (dk_at dksX5_ofBody_0 20 rfl rfl)
theorem dX5_ofBody_21 : decode cX5_ofBody 21 = .ok (.iaload, 1) := dk_46 (dk_at dksX5_ofBody_0 21 rfl rfl)
theorem dX5_ofBody_22 : decode cX5_ofBody 22 = .ok (.ireturn, 1) := dk_172 (dk_at dksX5_ofBody_0 22 rfl rfl)
theorem dX5_ofBody_23 : decode cX5_ofBody 23 = .ok (.aload_n 0, 1) := dk_42 (dk_at dksX5_ofBody_0 23 rfl rfl)
theorem dX5_ofBody_24 : decode cX5_ofBody 24 = .ok (.iload_n 1, 1) := dk_27 (dk_at dksX5_ofBody_1 0 rfl rfl)
theorem dX5_ofBody_25 : decode cX5_ofBody 25 = .ok (.invokevirtual 268, 3) := dk_182 1 12 (dk_at dksX5_ofBody_1 1 rfl rfl)
theorem dX5_ofBody_28 : decode cX5_ofBody 28 = .ok (.ifCond .eq 109, 3) := dk_153 0 109 (dk_at dksX5_ofBody_1 4 rfl rfl)
theorem dX5_ofBody_31 : decode cX5_ofBody 31 = .ok (.iload_n 2, 1) := dk_28 (dk_at dksX5_ofBody_1 7 rfl rfl)
theorem dX5_ofBody_32 : decode cX5_ofBody 32 = .ok (.tableswitch 101 1 7 #[44, 51, 58, 65, 72, 87, 94], 44) := by decide +kernel
theorem dX5_ofBody_76 : decode cX5_ofBody 76 = .ok (.aload_n 0, 1) := dk_42 (dk_at dksX5_ofBody_3 0 rfl rfl)
theorem dX5_ofBody_77 : decode cX5_ofBody 77 = .ok (.getfield 20, 3) := dk_180 0 20 (dk_at dksX5_ofBody_3 1 rfl rfl)
theorem dX5_ofBody_80 : decode cX5_ofBody 80 = .ok (.iload_n 1, 1) := dk_27 (dk_at dksX5_ofBody_3 4 rfl rfl)
theorem dX5_ofBody_81 : decode cX5_ofBody 81 = .ok (.iaload, 1) := dk_46 (dk_at dksX5_ofBody_3 5 rfl rfl)
theorem dX5_ofBody_82 : decode cX5_ofBody 82 = .ok (.ireturn, 1) := dk_172 (dk_at dksX5_ofBody_3 6 rfl rfl)
theorem dX5_ofBody_83 : decode cX5_ofBody 83 = .ok (.aload_n 0, 1) := dk_42 (dk_at dksX5_ofBody_3 7 rfl rfl)
theorem dX5_ofBody_84 : decode cX5_ofBody 84 = .ok (.getfield 23, 3) := dk_180 0 23 (dk_at dksX5_ofBody_3 8 rfl rfl)
theorem dX5_ofBody_87 : decode cX5_ofBody 87 = .ok (.iload_n 1, 1) := dk_27 (dk_at dksX5_ofBody_3 11 rfl rfl)
theorem dX5_ofBody_88 : decode cX5_ofBody 88 = .ok (.iaload, 1) := dk_46 (dk_at dksX5_ofBody_3 12 rfl rfl)
theorem dX5_ofBody_89 : decode cX5_ofBody 89 = .ok (.ireturn, 1) := dk_172 (dk_at dksX5_ofBody_3 13 rfl rfl)
theorem dX5_ofBody_90 : decode cX5_ofBody 90 = .ok (.aload_n 0, 1) := dk_42 (dk_at dksX5_ofBody_3 14 rfl rfl)
theorem dX5_ofBody_91 : decode cX5_ofBody 91 = .ok (.getfield 32, 3) := dk_180 0 32 (dk_at dksX5_ofBody_3 15 rfl rfl)
theorem dX5_ofBody_94 : decode cX5_ofBody 94 = .ok (.iload_n 1, 1) := dk_27 (dk_at dksX5_ofBody_3 18 rfl rfl)
theorem dX5_ofBody_95 : decode cX5_ofBody 95 = .ok (.iaload, 1) := dk_46 (dk_at dksX5_ofBody_3 19 rfl rfl)
theorem dX5_ofBody_96 : decode cX5_ofBody 96 = .ok (.ireturn, 1) := dk_172 (dk_at dksX5_ofBody_3 20 rfl rfl)
theorem dX5_ofBody_97 : decode cX5_ofBody 97 = .ok (.aload_n 0, 1) := dk_42 (dk_at dksX5_ofBody_3 21 rfl rfl)
theorem dX5_ofBody_98 : decode cX5_ofBody 98 = .ok (.getfield 26, 3) := dk_180 0 26 (dk_at dksX5_ofBody_4 0 rfl rfl)
theorem dX5_ofBody_101 : decode cX5_ofBody 101 = .ok (.iload_n 1, 1) := dk_27 (dk_at dksX5_ofBody_4 3 rfl rfl)
theorem dX5_ofBody_102 : decode cX5_ofBody 102 = .ok (.iaload, 1) := dk_46 (dk_at dksX5_ofBody_4 4 rfl rfl)
theorem dX5_ofBody_103 : decode cX5_ofBody 103 = .ok (.ireturn, 1) := dk_172 (dk_at dksX5_ofBody_4 5 rfl rfl)
theorem dX5_ofBody_104 : decode cX5_ofBody 104 = .ok (.aload_n 0, 1) := dk_42 (dk_at dksX5_ofBody_4 6 rfl rfl)
theorem dX5_ofBody_105 : decode cX5_ofBody 105 = .ok (.getfield 38, 3) := dk_180 0 38 (dk_at dksX5_ofBody_4 7 rfl rfl)
theorem dX5_ofBody_108 : decode cX5_ofBody 108 = .ok (.iload_n 1, 1) := dk_27 (dk_at dksX5_ofBody_4 10 rfl rfl)
theorem dX5_ofBody_109 : decode cX5_ofBody 109 = .ok (.iaload, 1) := dk_46 (dk_at dksX5_ofBody_4 11 rfl rfl)
theorem dX5_ofBody_110 : decode cX5_ofBody 110 = .ok (.ifCond .le 7, 3) := dk_158 0 7 (dk_at dksX5_ofBody_4 12 rfl rfl)
theorem dX5_ofBody_113 : decode cX5_ofBody 113 = .ok (.iconst 1, 1) := dk_4 (dk_at dksX5_ofBody_4 15 rfl rfl)
theorem dX5_ofBody_114 : decode cX5_ofBody 114 = .ok (.goto 4, 3) := dk_167 0 4 (dk_at dksX5_ofBody_4 16 rfl rfl)
theorem dX5_ofBody_117 : decode cX5_ofBody 117 = .ok (.iconst 0, 1) := dk_3 (dk_at dksX5_ofBody_4 19 rfl rfl)
theorem dX5_ofBody_118 : decode cX5_ofBody 118 = .ok (.ireturn, 1) := dk_172 (dk_at dksX5_ofBody_4 20 rfl rfl)
theorem dX5_ofBody_119 : decode cX5_ofBody 119 = .ok (.aload_n 0, 1) := dk_42 (dk_at dksX5_ofBody_4 21 rfl rfl)
theorem dX5_ofBody_120 : decode cX5_ofBody 120 = .ok (.getfield 35, 3) := dk_180 0 35 (dk_at dksX5_ofBody_5 0 rfl rfl)
theorem dX5_ofBody_123 : decode cX5_ofBody 123 = .ok (.iload_n 1, 1) := dk_27 (dk_at dksX5_ofBody_5 3 rfl rfl)
theorem dX5_ofBody_124 : decode cX5_ofBody 124 = .ok (.iaload, 1) := dk_46 (dk_at dksX5_ofBody_5 4 rfl rfl)
theorem dX5_ofBody_125 : decode cX5_ofBody 125 = .ok (.ireturn, 1) := dk_172 (dk_at dksX5_ofBody_5 5 rfl rfl)
theorem dX5_ofBody_126 : decode cX5_ofBody 126 = .ok (.aload_n 0, 1) := dk_42 (dk_at dksX5_ofBody_5 6 rfl rfl)
theorem dX5_ofBody_127 : decode cX5_ofBody 127 = .ok (.getfield 29, 3) := dk_180 0 29 (dk_at dksX5_ofBody_5 7 rfl rfl)
theorem dX5_ofBody_130 : decode cX5_ofBody 130 = .ok (.iload_n 1, 1) := dk_27 (dk_at dksX5_ofBody_5 10 rfl rfl)
theorem dX5_ofBody_131 : decode cX5_ofBody 131 = .ok (.iaload, 1) := dk_46 (dk_at dksX5_ofBody_5 11 rfl rfl)
theorem dX5_ofBody_132 : decode cX5_ofBody 132 = .ok (.ireturn, 1) := dk_172 (dk_at dksX5_ofBody_5 12 rfl rfl)
theorem dX5_ofBody_133 : decode cX5_ofBody 133 = .ok (.ldc_w 267, 3) := dk_19 1 11 (dk_at dksX5_ofBody_5 13 rfl rfl)
theorem dX5_ofBody_136 : decode cX5_ofBody 136 = .ok (.ireturn, 1) := dk_172 (dk_at dksX5_ofBody_5 16 rfl rfl)
theorem dX5_ofBody_137 : decode cX5_ofBody 137 = .ok (.aload_n 0, 1) := dk_42 (dk_at dksX5_ofBody_5 17 rfl rfl)
theorem dX5_ofBody_138 : decode cX5_ofBody 138 = .ok (.getfield 17, 3) := dk_180 0 17 (dk_at dksX5_ofBody_5 18 rfl rfl)
theorem dX5_ofBody_141 : decode cX5_ofBody 141 = .ok (.iload_n 1, 1) := dk_27 (dk_at dksX5_ofBody_5 21 rfl rfl)
theorem dX5_ofBody_142 : decode cX5_ofBody 142 = .ok (.iaload, 1) := dk_46 (dk_at dksX5_ofBody_5 22 rfl rfl)
theorem dX5_ofBody_143 : decode cX5_ofBody 143 = .ok (.bipush 6, 2) := dk_16 6 (dk_at dksX5_ofBody_6 0 rfl rfl)
theorem dX5_ofBody_145 : decode cX5_ofBody 145 = .ok (.if_icmp .ne 63, 3) := dk_160 0 63 (dk_at dksX5_ofBody_6 2 rfl rfl)
theorem dX5_ofBody_148 : decode cX5_ofBody 148 = .ok (.iload_n 2, 1) := dk_28 (dk_at dksX5_ofBody_6 5 rfl rfl)
theorem dX5_ofBody_149 : decode cX5_ofBody 149 = .ok (.iconst 1, 1) := dk_4 (dk_at dksX5_ofBody_6 6 rfl rfl)
theorem dX5_ofBody_150 : decode cX5_ofBody 150 = .ok (.if_icmp .ne 10, 3) := dk_160 0 10 (dk_at dksX5_ofBody_6 7 rfl rfl)
theorem dX5_ofBody_153 : decode cX5_ofBody 153 = .ok (.aload_n 0, 1) := dk_42 (dk_at dksX5_ofBody_6 10 rfl rfl)
theorem dX5_ofBody_154 : decode cX5_ofBody 154 = .ok (.getfield 258, 3) := dk_180 1 2 (dk_at dksX5_ofBody_6 11 rfl rfl)
theorem dX5_ofBody_157 : decode cX5_ofBody 157 = .ok (.goto 50, 3) := dk_167 0 50 (dk_at dksX5_ofBody_6 14 rfl rfl)
theorem dX5_ofBody_160 : decode cX5_ofBody 160 = .ok (.iload_n 2, 1) := dk_28 (dk_at dksX5_ofBody_6 17 rfl rfl)
theorem dX5_ofBody_161 : decode cX5_ofBody 161 = .ok (.iconst 2, 1) := dk_5 (dk_at dksX5_ofBody_6 18 rfl rfl)
theorem dX5_ofBody_162 : decode cX5_ofBody 162 = .ok (.if_icmp .ne 10, 3) := dk_160 0 10 (dk_at dksX5_ofBody_6 19 rfl rfl)
theorem dX5_ofBody_165 : decode cX5_ofBody 165 = .ok (.aload_n 0, 1) := dk_42 (dk_at dksX5_ofBody_6 22 rfl rfl)
theorem dX5_ofBody_166 : decode cX5_ofBody 166 = .ok (.getfield 261, 3) := dk_180 1 5 (dk_at dksX5_ofBody_7 0 rfl rfl)
theorem dX5_ofBody_169 : decode cX5_ofBody 169 = .ok (.goto 38, 3) := dk_167 0 38 (dk_at dksX5_ofBody_7 3 rfl rfl)
theorem dX5_ofBody_172 : decode cX5_ofBody 172 = .ok (.iload_n 2, 1) := dk_28 (dk_at dksX5_ofBody_7 6 rfl rfl)
theorem dX5_ofBody_173 : decode cX5_ofBody 173 = .ok (.iconst 3, 1) := dk_6 (dk_at dksX5_ofBody_7 7 rfl rfl)
theorem dX5_ofBody_174 : decode cX5_ofBody 174 = .ok (.if_icmp .ne 10, 3) := dk_160 0 10 (dk_at dksX5_ofBody_7 8 rfl rfl)
theorem dX5_ofBody_177 : decode cX5_ofBody 177 = .ok (.aload_n 0, 1) := dk_42 (dk_at dksX5_ofBody_7 11 rfl rfl)
theorem dX5_ofBody_178 : decode cX5_ofBody 178 = .ok (.getfield 264, 3) := dk_180 1 8 (dk_at dksX5_ofBody_7 12 rfl rfl)
theorem dX5_ofBody_181 : decode cX5_ofBody 181 = .ok (.goto 26, 3) := dk_167 0 26 (dk_at dksX5_ofBody_7 15 rfl rfl)
theorem dX5_ofBody_184 : decode cX5_ofBody 184 = .ok (.iload_n 2, 1) := dk_28 (dk_at dksX5_ofBody_7 18 rfl rfl)
theorem dX5_ofBody_185 : decode cX5_ofBody 185 = .ok (.iconst 4, 1) := dk_7 (dk_at dksX5_ofBody_7 19 rfl rfl)
theorem dX5_ofBody_186 : decode cX5_ofBody 186 = .ok (.if_icmp .ne 18, 3) := dk_160 0 18 (dk_at dksX5_ofBody_7 20 rfl rfl)
theorem dX5_ofBody_189 : decode cX5_ofBody 189 = .ok (.aload_n 0, 1) := dk_42 (dk_at dksX5_ofBody_7 23 rfl rfl)
theorem dX5_ofBody_190 : decode cX5_ofBody 190 = .ok (.getfield 271, 3) := dk_180 1 15 (dk_at dksX5_ofBody_8 0 rfl rfl)
theorem dX5_ofBody_193 : decode cX5_ofBody 193 = .ok (.ifCond .eq 7, 3) := dk_153 0 7 (dk_at dksX5_ofBody_8 3 rfl rfl)
theorem dX5_ofBody_196 : decode cX5_ofBody 196 = .ok (.iconst 1, 1) := dk_4 (dk_at dksX5_ofBody_8 6 rfl rfl)
theorem dX5_ofBody_197 : decode cX5_ofBody 197 = .ok (.goto 10, 3) := dk_167 0 10 (dk_at dksX5_ofBody_8 7 rfl rfl)
theorem dX5_ofBody_200 : decode cX5_ofBody 200 = .ok (.iconst 0, 1) := dk_3 (dk_at dksX5_ofBody_8 10 rfl rfl)
theorem dX5_ofBody_201 : decode cX5_ofBody 201 = .ok (.goto 6, 3) := dk_167 0 6 (dk_at dksX5_ofBody_8 11 rfl rfl)
theorem dX5_ofBody_204 : decode cX5_ofBody 204 = .ok (.ldc_w 267, 3) := dk_19 1 11 (dk_at dksX5_ofBody_8 14 rfl rfl)
theorem dX5_ofBody_207 : decode cX5_ofBody 207 = .ok (.ireturn, 1) := dk_172 (dk_at dksX5_ofBody_8 17 rfl rfl)
theorem dX5_ofBody_208 : decode cX5_ofBody 208 = .ok (.aload_n 0, 1) := dk_42 (dk_at dksX5_ofBody_8 18 rfl rfl)
theorem dX5_ofBody_209 : decode cX5_ofBody 209 = .ok (.getfield 17, 3) := dk_180 0 17 (dk_at dksX5_ofBody_8 19 rfl rfl)
theorem dX5_ofBody_212 : decode cX5_ofBody 212 = .ok (.iload_n 1, 1) := dk_27 (dk_at dksX5_ofBody_8 22 rfl rfl)
theorem dX5_ofBody_213 : decode cX5_ofBody 213 = .ok (.iaload, 1) := dk_46 (dk_at dksX5_ofBody_8 23 rfl rfl)
theorem dX5_ofBody_214 : decode cX5_ofBody 214 = .ok (.bipush 7, 2) := dk_16 7 (dk_at dksX5_ofBody_9 0 rfl rfl)
theorem dX5_ofBody_216 : decode cX5_ofBody 216 = .ok (.if_icmp .eq 7, 3) := dk_159 0 7 (dk_at dksX5_ofBody_9 2 rfl rfl)
theorem dX5_ofBody_219 : decode cX5_ofBody 219 = .ok (.ldc_w 267, 3) := dk_19 1 11 (dk_at dksX5_ofBody_9 5 rfl rfl)
theorem dX5_ofBody_222 : decode cX5_ofBody 222 = .ok (.ireturn, 1) := dk_172 (dk_at dksX5_ofBody_9 8 rfl rfl)
theorem dX5_ofBody_223 : decode cX5_ofBody 223 = .ok (.iload_n 2, 1) := dk_28 (dk_at dksX5_ofBody_9 9 rfl rfl)
theorem dX5_ofBody_224 : decode cX5_ofBody 224 = .ok (.iconst 1, 1) := dk_4 (dk_at dksX5_ofBody_9 10 rfl rfl)
theorem dX5_ofBody_225 : decode cX5_ofBody 225 = .ok (.if_icmp .ne 12, 3) := dk_160 0 12 (dk_at dksX5_ofBody_9 11 rfl rfl)
theorem dX5_ofBody_228 : decode cX5_ofBody 228 = .ok (.aload_n 0, 1) := dk_42 (dk_at dksX5_ofBody_9 14 rfl rfl)
theorem dX5_ofBody_229 : decode cX5_ofBody 229 = .ok (.getfield 53, 3) := dk_180 0 53 (dk_at dksX5_ofBody_9 15 rfl rfl)
theorem dX5_ofBody_232 : decode cX5_ofBody 232 = .ok (.iload_n 1, 1) := dk_27 (dk_at dksX5_ofBody_9 18 rfl rfl)
theorem dX5_ofBody_233 : decode cX5_ofBody 233 = .ok (.iaload, 1) := dk_46 (dk_at dksX5_ofBody_9 19 rfl rfl)
theorem dX5_ofBody_234 : decode cX5_ofBody 234 = .ok (.goto 56, 3) := dk_167 0 56 (dk_at dksX5_ofBody_9 20 rfl rfl)
theorem dX5_ofBody_237 : decode cX5_ofBody 237 = .ok (.iload_n 2, 1) := dk_28 (dk_at dksX5_ofBody_9 23 rfl rfl)
theorem dX5_ofBody_238 : decode cX5_ofBody 238 = .ok (.iconst 2, 1) := dk_5 (dk_at dksX5_ofBody_10 0 rfl rfl)
theorem dX5_ofBody_239 : decode cX5_ofBody 239 = .ok (.if_icmp .ne 12, 3) := dk_160 0 12 (dk_at dksX5_ofBody_10 1 rfl rfl)
theorem dX5_ofBody_242 : decode cX5_ofBody 242 = .ok (.aload_n 0, 1) := dk_42 (dk_at dksX5_ofBody_10 4 rfl rfl)
theorem dX5_ofBody_243 : decode cX5_ofBody 243 = .ok (.getfield 56, 3) := dk_180 0 56 (dk_at dksX5_ofBody_10 5 rfl rfl)
theorem dX5_ofBody_246 : decode cX5_ofBody 246 = .ok (.iload_n 1, 1) := dk_27 (dk_at dksX5_ofBody_10 8 rfl rfl)
theorem dX5_ofBody_247 : decode cX5_ofBody 247 = .ok (.iaload, 1) := dk_46 (dk_at dksX5_ofBody_10 9 rfl rfl)
theorem dX5_ofBody_248 : decode cX5_ofBody 248 = .ok (.goto 42, 3) := dk_167 0 42 (dk_at dksX5_ofBody_10 10 rfl rfl)
theorem dX5_ofBody_251 : decode cX5_ofBody 251 = .ok (.iload_n 2, 1) := dk_28 (dk_at dksX5_ofBody_10 13 rfl rfl)
theorem dX5_ofBody_252 : decode cX5_ofBody 252 = .ok (.iconst 3, 1) := dk_6 (dk_at dksX5_ofBody_10 14 rfl rfl)
theorem dX5_ofBody_253 : decode cX5_ofBody 253 = .ok (.if_icmp .ne 12, 3) := dk_160 0 12 (dk_at dksX5_ofBody_10 15 rfl rfl)
theorem dX5_ofBody_256 : decode cX5_ofBody 256 = .ok (.aload_n 0, 1) := dk_42 (dk_at dksX5_ofBody_10 18 rfl rfl)
theorem dX5_ofBody_257 : decode cX5_ofBody 257 = .ok (.getfield 59, 3) := dk_180 0 59 (dk_at dksX5_ofBody_10 19 rfl rfl)
theorem dX5_ofBody_260 : decode cX5_ofBody 260 = .ok (.iload_n 1, 1) := dk_27 (dk_at dksX5_ofBody_10 22 rfl rfl)
theorem dX5_ofBody_261 : decode cX5_ofBody 261 = .ok (.iaload, 1) := dk_46 (dk_at dksX5_ofBody_10 23 rfl rfl)
theorem dX5_ofBody_262 : decode cX5_ofBody 262 = .ok (.goto 28, 3) := dk_167 0 28 (dk_at dksX5_ofBody_11 0 rfl rfl)
theorem dX5_ofBody_265 : decode cX5_ofBody 265 = .ok (.iload_n 2, 1) := dk_28 (dk_at dksX5_ofBody_11 3 rfl rfl)
theorem dX5_ofBody_266 : decode cX5_ofBody 266 = .ok (.iconst 4, 1) := dk_7 (dk_at dksX5_ofBody_11 4 rfl rfl)
theorem dX5_ofBody_267 : decode cX5_ofBody 267 = .ok (.if_icmp .ne 20, 3) := dk_160 0 20 (dk_at dksX5_ofBody_11 5 rfl rfl)
theorem dX5_ofBody_270 : decode cX5_ofBody 270 = .ok (.aload_n 0, 1) := dk_42 (dk_at dksX5_ofBody_11 8 rfl rfl)
theorem dX5_ofBody_271 : decode cX5_ofBody 271 = .ok (.getfield 62, 3) := dk_180 0 62 (dk_at dksX5_ofBody_11 9 rfl rfl)
theorem dX5_ofBody_274 : decode cX5_ofBody 274 = .ok (.iload_n 1, 1) := dk_27 (dk_at dksX5_ofBody_11 12 rfl rfl)
theorem dX5_ofBody_275 : decode cX5_ofBody 275 = .ok (.baload, 1) := dk_51 (dk_at dksX5_ofBody_11 13 rfl rfl)
theorem dX5_ofBody_276 : decode cX5_ofBody 276 = .ok (.ifCond .eq 7, 3) := dk_153 0 7 (dk_at dksX5_ofBody_11 14 rfl rfl)
theorem dX5_ofBody_279 : decode cX5_ofBody 279 = .ok (.iconst 1, 1) := dk_4 (dk_at dksX5_ofBody_11 17 rfl rfl)
theorem dX5_ofBody_280 : decode cX5_ofBody 280 = .ok (.goto 10, 3) := dk_167 0 10 (dk_at dksX5_ofBody_11 18 rfl rfl)
theorem dX5_ofBody_283 : decode cX5_ofBody 283 = .ok (.iconst 0, 1) := dk_3 (dk_at dksX5_ofBody_11 21 rfl rfl)
theorem dX5_ofBody_284 : decode cX5_ofBody 284 = .ok (.goto 6, 3) := dk_167 0 6 (dk_at dksX5_ofBody_12 0 rfl rfl)
theorem dX5_ofBody_287 : decode cX5_ofBody 287 = .ok (.ldc_w 267, 3) := dk_19 1 11 (dk_at dksX5_ofBody_12 3 rfl rfl)
theorem dX5_ofBody_290 : decode cX5_ofBody 290 = .ok (.ireturn, 1) := dk_172 (dk_at dksX5_ofBody_12 6 rfl rfl)
abbrev cX5_isBody : ByteArray := prog_22_method_11_code
def yX5_isBody : MethodName := ⟨RX5, "isBody", "(I)Z"⟩
def dkwX5_isBody_0 : List UInt8 := [27, 3, 42, 180, 0, 242, 4, 100, 184, 0, 230, 172]
abbrev dktX5_isBody_0 : List UInt8 := dkwX5_isBody_0 ++ []
theorem dksX5_isBody_0 : cX5_isBody.data.toList.drop 0 = dktX5_isBody_0 := by decide +kernel
theorem dX5_isBody_0 : decode cX5_isBody 0 = .ok (.iload_n 1, 1) := dk_27 (dk_at dksX5_isBody_0 0 rfl rfl)
theorem dX5_isBody_1 : decode cX5_isBody 1 = .ok (.iconst 0, 1) := dk_3 (dk_at dksX5_isBody_0 1 rfl rfl)
theorem dX5_isBody_2 : decode cX5_isBody 2 = .ok (.aload_n 0, 1) := dk_42 (dk_at dksX5_isBody_0 2 rfl rfl)
theorem dX5_isBody_3 : decode cX5_isBody 3 = .ok (.getfield 242, 3) := dk_180 0 242 (dk_at dksX5_isBody_0 3 rfl rfl)
theorem dX5_isBody_6 : decode cX5_isBody 6 = .ok (.iconst 1, 1) := dk_4 (dk_at dksX5_isBody_0 6 rfl rfl)
theorem dX5_isBody_7 : decode cX5_isBody 7 = .ok (.isub, 1) := dk_100 (dk_at dksX5_isBody_0 7 rfl rfl)
theorem dX5_isBody_8 : decode cX5_isBody 8 = .ok (.invokestatic 230, 3) := dk_184 0 230 (dk_at dksX5_isBody_0 8 rfl rfl)
theorem dX5_isBody_11 : decode cX5_isBody 11 = .ok (.ireturn, 1) := dk_172 (dk_at dksX5_isBody_0 11 rfl rfl)
abbrev cX5_isHole : ByteArray := prog_22_method_13_code
def yX5_isHole : MethodName := ⟨RX5, "isHole", "(I)Z"⟩
def dkwX5_isHole_1 : List UInt8 := [167, 0, 4, 3, 172]
abbrev dktX5_isHole_1 : List UInt8 := dkwX5_isHole_1 ++ []
def dkwX5_isHole_0 : List UInt8 := [42, 27, 182, 0, 245, 153, 0, 20, 42, 180, 0, 17, 27, 46, 5, 184, 0, 248, 153, 0, 7, 4]
abbrev dktX5_isHole_0 : List UInt8 := dkwX5_isHole_0 ++ dktX5_isHole_1
theorem dksX5_isHole_0 : cX5_isHole.data.toList.drop 0 = dktX5_isHole_0 := by decide +kernel
theorem dksX5_isHole_1 : cX5_isHole.data.toList.drop 22 = dktX5_isHole_1 := dk_seg dksX5_isHole_0 22 rfl rfl
theorem dX5_isHole_0 : decode cX5_isHole 0 = .ok (.aload_n 0, 1) := dk_42 (dk_at dksX5_isHole_0 0 rfl rfl)
theorem dX5_isHole_1 : decode cX5_isHole 1 = .ok (.iload_n 1, 1) := dk_27 (dk_at dksX5_isHole_0 1 rfl rfl)
theorem dX5_isHole_2 : decode cX5_isHole 2 = .ok (.invokevirtual 245, 3) := dk_182 0 245 (dk_at dksX5_isHole_0 2 rfl rfl)
theorem dX5_isHole_5 : decode cX5_isHole 5 = .ok (.ifCond .eq 20, 3) := dk_153 0 20 (dk_at dksX5_isHole_0 5 rfl rfl)
theorem dX5_isHole_8 : decode cX5_isHole 8 = .ok (.aload_n 0, 1) := dk_42 (dk_at dksX5_isHole_0 8 rfl rfl)
theorem dX5_isHole_9 : decode cX5_isHole 9 = .ok (.getfield 17, 3) := dk_180 0 17 (dk_at dksX5_isHole_0 9 rfl rfl)
theorem dX5_isHole_12 : decode cX5_isHole 12 = .ok (.iload_n 1, 1) := dk_27 (dk_at dksX5_isHole_0 12 rfl rfl)
theorem dX5_isHole_13 : decode cX5_isHole 13 = .ok (.iaload, 1) := dk_46 (dk_at dksX5_isHole_0 13 rfl rfl)
theorem dX5_isHole_14 : decode cX5_isHole 14 = .ok (.iconst 2, 1) := dk_5 (dk_at dksX5_isHole_0 14 rfl rfl)
theorem dX5_isHole_15 : decode cX5_isHole 15 = .ok (.invokestatic 248, 3) := dk_184 0 248 (dk_at dksX5_isHole_0 15 rfl rfl)
theorem dX5_isHole_18 : decode cX5_isHole 18 = .ok (.ifCond .eq 7, 3) := dk_153 0 7 (dk_at dksX5_isHole_0 18 rfl rfl)
theorem dX5_isHole_21 : decode cX5_isHole 21 = .ok (.iconst 1, 1) := dk_4 (dk_at dksX5_isHole_0 21 rfl rfl)
theorem dX5_isHole_22 : decode cX5_isHole 22 = .ok (.goto 4, 3) := dk_167 0 4 (dk_at dksX5_isHole_1 0 rfl rfl)
theorem dX5_isHole_25 : decode cX5_isHole 25 = .ok (.iconst 0, 1) := dk_3 (dk_at dksX5_isHole_1 3 rfl rfl)
theorem dX5_isHole_26 : decode cX5_isHole 26 = .ok (.ireturn, 1) := dk_172 (dk_at dksX5_isHole_1 4 rfl rfl)
abbrev cX5_isUnder : ByteArray := prog_22_method_12_code
def yX5_isUnder : MethodName := ⟨RX5, "isUnder", "(II)Z"⟩
def dkwX5_isUnder_3 : List UInt8 := [167, 0, 4, 3, 172, 27, 7, 160, 0, 12, 26, 8, 160, 0, 7, 4, 167, 0, 4, 3, 172]
abbrev dktX5_isUnder_3 : List UInt8 := dkwX5_isUnder_3 ++ []
def dkwX5_isUnder_2 : List UInt8 := [172, 27, 5, 160, 0, 24, 26, 6, 159, 0, 13, 26, 7, 159, 0, 8, 26, 8, 160, 0, 7, 4]
abbrev dktX5_isUnder_2 : List UInt8 := dkwX5_isUnder_2 ++ dktX5_isUnder_3
def dkwX5_isUnder_1 : List UInt8 := [159, 0, 19, 26, 7, 159, 0, 14, 26, 8, 159, 0, 9, 26, 16, 6, 160, 0, 7, 4, 167, 0, 4, 3]
abbrev dktX5_isUnder_1 : List UInt8 := dkwX5_isUnder_1 ++ dktX5_isUnder_2
def dkwX5_isUnder_0 : List UInt8 := [27, 153, 0, 8, 26, 27, 160, 0, 5, 4, 172, 27, 4, 160, 0, 35, 26, 5, 159, 0, 24, 26, 6]
abbrev dktX5_isUnder_0 : List UInt8 := dkwX5_isUnder_0 ++ dktX5_isUnder_1
theorem dksX5_isUnder_0 : cX5_isUnder.data.toList.drop 0 = dktX5_isUnder_0 := by decide +kernel
theorem dksX5_isUnder_1 : cX5_isUnder.data.toList.drop 23 = dktX5_isUnder_1 := dk_seg dksX5_isUnder_0 23 rfl rfl
theorem dksX5_isUnder_2 : cX5_isUnder.data.toList.drop 47 = dktX5_isUnder_2 := dk_seg dksX5_isUnder_1 24 rfl rfl
theorem dksX5_isUnder_3 : cX5_isUnder.data.toList.drop 69 = dktX5_isUnder_3 := dk_seg dksX5_isUnder_2 22 rfl rfl
theorem dX5_isUnder_0 : decode cX5_isUnder 0 = .ok (.iload_n 1, 1) := dk_27 (dk_at dksX5_isUnder_0 0 rfl rfl)
theorem dX5_isUnder_1 : decode cX5_isUnder 1 = .ok (.ifCond .eq 8, 3) := dk_153 0 8 (dk_at dksX5_isUnder_0 1 rfl rfl)
theorem dX5_isUnder_4 : decode cX5_isUnder 4 = .ok (.iload_n 0, 1) := dk_26 (dk_at dksX5_isUnder_0 4 rfl rfl)
theorem dX5_isUnder_5 : decode cX5_isUnder 5 = .ok (.iload_n 1, 1) := dk_27 (dk_at dksX5_isUnder_0 5 rfl rfl)
theorem dX5_isUnder_6 : decode cX5_isUnder 6 = .ok (.if_icmp .ne 5, 3) := dk_160 0 5 (dk_at dksX5_isUnder_0 6 rfl rfl)
theorem dX5_isUnder_9 : decode cX5_isUnder 9 = .ok (.iconst 1, 1) := dk_4 (dk_at dksX5_isUnder_0 9 rfl rfl)
theorem dX5_isUnder_10 : decode cX5_isUnder 10 = .ok (.ireturn, 1) := dk_172 (dk_at dksX5_isUnder_0 10 rfl rfl)
theorem dX5_isUnder_11 : decode cX5_isUnder 11 = .ok (.iload_n 1, 1) := dk_27 (dk_at dksX5_isUnder_0 11 rfl rfl)
theorem dX5_isUnder_12 : decode cX5_isUnder 12 = .ok (.iconst 1, 1) := dk_4 (dk_at dksX5_isUnder_0 12 rfl rfl)
theorem dX5_isUnder_13 : decode cX5_isUnder 13 = .ok (.if_icmp .ne 35, 3) := dk_160 0 35 (dk_at dksX5_isUnder_0 13 rfl rfl)
theorem dX5_isUnder_16 : decode cX5_isUnder 16 = .ok (.iload_n 0, 1) := dk_26 (dk_at dksX5_isUnder_0 16 rfl rfl)
theorem dX5_isUnder_17 : decode cX5_isUnder 17 = .ok (.iconst 2, 1) := dk_5 (dk_at dksX5_isUnder_0 17 rfl rfl)
theorem dX5_isUnder_18 : decode cX5_isUnder 18 = .ok (.if_icmp .eq 24, 3) := dk_159 0 24 (dk_at dksX5_isUnder_0 18 rfl rfl)
theorem dX5_isUnder_21 : decode cX5_isUnder 21 = .ok (.iload_n 0, 1) := dk_26 (dk_at dksX5_isUnder_0 21 rfl rfl)
theorem dX5_isUnder_22 : decode cX5_isUnder 22 = .ok (.iconst 3, 1) := dk_6 (dk_at dksX5_isUnder_0 22 rfl rfl)
theorem dX5_isUnder_23 : decode cX5_isUnder 23 = .ok (.if_icmp .eq 19, 3) := dk_159 0 19 (dk_at dksX5_isUnder_1 0 rfl rfl)
theorem dX5_isUnder_26 : decode cX5_isUnder 26 = .ok (.iload_n 0, 1) := dk_26 (dk_at dksX5_isUnder_1 3 rfl rfl)
theorem dX5_isUnder_27 : decode cX5_isUnder 27 = .ok (.iconst 4, 1) := dk_7 (dk_at dksX5_isUnder_1 4 rfl rfl)
theorem dX5_isUnder_28 : decode cX5_isUnder 28 = .ok (.if_icmp .eq 14, 3) := dk_159 0 14 (dk_at dksX5_isUnder_1 5 rfl rfl)
theorem dX5_isUnder_31 : decode cX5_isUnder 31 = .ok (.iload_n 0, 1) := dk_26 (dk_at dksX5_isUnder_1 8 rfl rfl)
theorem dX5_isUnder_32 : decode cX5_isUnder 32 = .ok (.iconst 5, 1) := dk_8 (dk_at dksX5_isUnder_1 9 rfl rfl)
theorem dX5_isUnder_33 : decode cX5_isUnder 33 = .ok (.if_icmp .eq 9, 3) := dk_159 0 9 (dk_at dksX5_isUnder_1 10 rfl rfl)
theorem dX5_isUnder_36 : decode cX5_isUnder 36 = .ok (.iload_n 0, 1) := dk_26 (dk_at dksX5_isUnder_1 13 rfl rfl)
theorem dX5_isUnder_37 : decode cX5_isUnder 37 = .ok (.bipush 6, 2) := dk_16 6 (dk_at dksX5_isUnder_1 14 rfl rfl)
theorem dX5_isUnder_39 : decode cX5_isUnder 39 = .ok (.if_icmp .ne 7, 3) := dk_160 0 7 (dk_at dksX5_isUnder_1 16 rfl rfl)
theorem dX5_isUnder_42 : decode cX5_isUnder 42 = .ok (.iconst 1, 1) := dk_4 (dk_at dksX5_isUnder_1 19 rfl rfl)
theorem dX5_isUnder_43 : decode cX5_isUnder 43 = .ok (.goto 4, 3) := dk_167 0 4 (dk_at dksX5_isUnder_1 20 rfl rfl)
theorem dX5_isUnder_46 : decode cX5_isUnder 46 = .ok (.iconst 0, 1) := dk_3 (dk_at dksX5_isUnder_1 23 rfl rfl)
theorem dX5_isUnder_47 : decode cX5_isUnder 47 = .ok (.ireturn, 1) := dk_172 (dk_at dksX5_isUnder_2 0 rfl rfl)
theorem dX5_isUnder_48 : decode cX5_isUnder 48 = .ok (.iload_n 1, 1) := dk_27 (dk_at dksX5_isUnder_2 1 rfl rfl)
theorem dX5_isUnder_49 : decode cX5_isUnder 49 = .ok (.iconst 2, 1) := dk_5 (dk_at dksX5_isUnder_2 2 rfl rfl)
theorem dX5_isUnder_50 : decode cX5_isUnder 50 = .ok (.if_icmp .ne 24, 3) := dk_160 0 24 (dk_at dksX5_isUnder_2 3 rfl rfl)
theorem dX5_isUnder_53 : decode cX5_isUnder 53 = .ok (.iload_n 0, 1) := dk_26 (dk_at dksX5_isUnder_2 6 rfl rfl)
theorem dX5_isUnder_54 : decode cX5_isUnder 54 = .ok (.iconst 3, 1) := dk_6 (dk_at dksX5_isUnder_2 7 rfl rfl)
theorem dX5_isUnder_55 : decode cX5_isUnder 55 = .ok (.if_icmp .eq 13, 3) := dk_159 0 13 (dk_at dksX5_isUnder_2 8 rfl rfl)
theorem dX5_isUnder_58 : decode cX5_isUnder 58 = .ok (.iload_n 0, 1) := dk_26 (dk_at dksX5_isUnder_2 11 rfl rfl)
theorem dX5_isUnder_59 : decode cX5_isUnder 59 = .ok (.iconst 4, 1) := dk_7 (dk_at dksX5_isUnder_2 12 rfl rfl)
theorem dX5_isUnder_60 : decode cX5_isUnder 60 = .ok (.if_icmp .eq 8, 3) := dk_159 0 8 (dk_at dksX5_isUnder_2 13 rfl rfl)
theorem dX5_isUnder_63 : decode cX5_isUnder 63 = .ok (.iload_n 0, 1) := dk_26 (dk_at dksX5_isUnder_2 16 rfl rfl)
theorem dX5_isUnder_64 : decode cX5_isUnder 64 = .ok (.iconst 5, 1) := dk_8 (dk_at dksX5_isUnder_2 17 rfl rfl)
theorem dX5_isUnder_65 : decode cX5_isUnder 65 = .ok (.if_icmp .ne 7, 3) := dk_160 0 7 (dk_at dksX5_isUnder_2 18 rfl rfl)
theorem dX5_isUnder_68 : decode cX5_isUnder 68 = .ok (.iconst 1, 1) := dk_4 (dk_at dksX5_isUnder_2 21 rfl rfl)
theorem dX5_isUnder_69 : decode cX5_isUnder 69 = .ok (.goto 4, 3) := dk_167 0 4 (dk_at dksX5_isUnder_3 0 rfl rfl)
theorem dX5_isUnder_72 : decode cX5_isUnder 72 = .ok (.iconst 0, 1) := dk_3 (dk_at dksX5_isUnder_3 3 rfl rfl)
theorem dX5_isUnder_73 : decode cX5_isUnder 73 = .ok (.ireturn, 1) := dk_172 (dk_at dksX5_isUnder_3 4 rfl rfl)
theorem dX5_isUnder_74 : decode cX5_isUnder 74 = .ok (.iload_n 1, 1) := dk_27 (dk_at dksX5_isUnder_3 5 rfl rfl)
theorem dX5_isUnder_75 : decode cX5_isUnder 75 = .ok (.iconst 4, 1) := dk_7 (dk_at dksX5_isUnder_3 6 rfl rfl)
theorem dX5_isUnder_76 : decode cX5_isUnder 76 = .ok (.if_icmp .ne 12, 3) := dk_160 0 12 (dk_at dksX5_isUnder_3 7 rfl rfl)
theorem dX5_isUnder_79 : decode cX5_isUnder 79 = .ok (.iload_n 0, 1) := dk_26 (dk_at dksX5_isUnder_3 10 rfl rfl)
theorem dX5_isUnder_80 : decode cX5_isUnder 80 = .ok (.iconst 5, 1) := dk_8 (dk_at dksX5_isUnder_3 11 rfl rfl)
theorem dX5_isUnder_81 : decode cX5_isUnder 81 = .ok (.if_icmp .ne 7, 3) := dk_160 0 7 (dk_at dksX5_isUnder_3 12 rfl rfl)
theorem dX5_isUnder_84 : decode cX5_isUnder 84 = .ok (.iconst 1, 1) := dk_4 (dk_at dksX5_isUnder_3 15 rfl rfl)
theorem dX5_isUnder_85 : decode cX5_isUnder 85 = .ok (.goto 4, 3) := dk_167 0 4 (dk_at dksX5_isUnder_3 16 rfl rfl)
theorem dX5_isUnder_88 : decode cX5_isUnder 88 = .ok (.iconst 0, 1) := dk_3 (dk_at dksX5_isUnder_3 19 rfl rfl)
theorem dX5_isUnder_89 : decode cX5_isUnder 89 = .ok (.ireturn, 1) := dk_172 (dk_at dksX5_isUnder_3 20 rfl rfl)
abbrev cX5_ill : ByteArray := prog_22_method_22_code
def yX5_ill : MethodName := ⟨RX5, "ill", "(II)I"⟩
def dkwX5_ill_1 : List UInt8 := [27, 46, 62, 42, 180, 0, 59, 27, 28, 79, 29, 172]
abbrev dktX5_ill_1 : List UInt8 := dkwX5_ill_1 ++ []
def dkwX5_ill_0 : List UInt8 := [42, 27, 182, 1, 19, 153, 0, 13, 28, 3, 16, 9, 184, 0, 230, 154, 0, 5, 2, 172, 42, 180, 0, 59]
abbrev dktX5_ill_0 : List UInt8 := dkwX5_ill_0 ++ dktX5_ill_1
theorem dksX5_ill_0 : cX5_ill.data.toList.drop 0 = dktX5_ill_0 := by decide +kernel
theorem dksX5_ill_1 : cX5_ill.data.toList.drop 24 = dktX5_ill_1 := dk_seg dksX5_ill_0 24 rfl rfl
theorem dX5_ill_0 : decode cX5_ill 0 = .ok (.aload_n 0, 1) := dk_42 (dk_at dksX5_ill_0 0 rfl rfl)
theorem dX5_ill_1 : decode cX5_ill 1 = .ok (.iload_n 1, 1) := dk_27 (dk_at dksX5_ill_0 1 rfl rfl)
theorem dX5_ill_2 : decode cX5_ill 2 = .ok (.invokevirtual 275, 3) := dk_182 1 19 (dk_at dksX5_ill_0 2 rfl rfl)
theorem dX5_ill_5 : decode cX5_ill 5 = .ok (.ifCond .eq 13, 3) := dk_153 0 13 (dk_at dksX5_ill_0 5 rfl rfl)
theorem dX5_ill_8 : decode cX5_ill 8 = .ok (.iload_n 2, 1) := dk_28 (dk_at dksX5_ill_0 8 rfl rfl)
theorem dX5_ill_9 : decode cX5_ill 9 = .ok (.iconst 0, 1) := dk_3 (dk_at dksX5_ill_0 9 rfl rfl)
theorem dX5_ill_10 : decode cX5_ill 10 = .ok (.bipush 9, 2) := dk_16 9 (dk_at dksX5_ill_0 10 rfl rfl)
theorem dX5_ill_12 : decode cX5_ill 12 = .ok (.invokestatic 230, 3) := dk_184 0 230 (dk_at dksX5_ill_0 12 rfl rfl)
theorem dX5_ill_15 : decode cX5_ill 15 = .ok (.ifCond .ne 5, 3) := dk_154 0 5 (dk_at dksX5_ill_0 15 rfl rfl)
theorem dX5_ill_18 : decode cX5_ill 18 = .ok (.iconst (-1), 1) := dk_2 (dk_at dksX5_ill_0 18 rfl rfl)
theorem dX5_ill_19 : decode cX5_ill 19 = .ok (.ireturn, 1) := dk_172 (dk_at dksX5_ill_0 19 rfl rfl)
theorem dX5_ill_20 : decode cX5_ill 20 = .ok (.aload_n 0, 1) := dk_42 (dk_at dksX5_ill_0 20 rfl rfl)
theorem dX5_ill_21 : decode cX5_ill 21 = .ok (.getfield 59, 3) := dk_180 0 59 (dk_at dksX5_ill_0 21 rfl rfl)
theorem dX5_ill_24 : decode cX5_ill 24 = .ok (.iload_n 1, 1) := dk_27 (dk_at dksX5_ill_1 0 rfl rfl)
theorem dX5_ill_25 : decode cX5_ill 25 = .ok (.iaload, 1) := dk_46 (dk_at dksX5_ill_1 1 rfl rfl)
theorem dX5_ill_26 : decode cX5_ill 26 = .ok (.istore_n 3, 1) := dk_62 (dk_at dksX5_ill_1 2 rfl rfl)
theorem dX5_ill_27 : decode cX5_ill 27 = .ok (.aload_n 0, 1) := dk_42 (dk_at dksX5_ill_1 3 rfl rfl)
theorem dX5_ill_28 : decode cX5_ill 28 = .ok (.getfield 59, 3) := dk_180 0 59 (dk_at dksX5_ill_1 4 rfl rfl)
theorem dX5_ill_31 : decode cX5_ill 31 = .ok (.iload_n 1, 1) := dk_27 (dk_at dksX5_ill_1 7 rfl rfl)
theorem dX5_ill_32 : decode cX5_ill 32 = .ok (.iload_n 2, 1) := dk_28 (dk_at dksX5_ill_1 8 rfl rfl)
theorem dX5_ill_33 : decode cX5_ill 33 = .ok (.iastore, 1) := dk_79 (dk_at dksX5_ill_1 9 rfl rfl)
theorem dX5_ill_34 : decode cX5_ill 34 = .ok (.iload_n 3, 1) := dk_29 (dk_at dksX5_ill_1 10 rfl rfl)
theorem dX5_ill_35 : decode cX5_ill 35 = .ok (.ireturn, 1) := dk_172 (dk_at dksX5_ill_1 11 rfl rfl)
abbrev cX5_isMan : ByteArray := prog_22_method_14_code
def yX5_isMan : MethodName := ⟨RX5, "isMan", "(I)Z"⟩
def dkwX5_isMan_1 : List UInt8 := [172]
abbrev dktX5_isMan_1 : List UInt8 := dkwX5_isMan_1 ++ []
def dkwX5_isMan_0 : List UInt8 := [42, 27, 182, 0, 245, 153, 0, 18, 42, 180, 0, 17, 27, 46, 16, 7, 160, 0, 7, 4, 167, 0, 4, 3]
abbrev dktX5_isMan_0 : List UInt8 := dkwX5_isMan_0 ++ dktX5_isMan_1
theorem dksX5_isMan_0 : cX5_isMan.data.toList.drop 0 = dktX5_isMan_0 := by decide +kernel
theorem dksX5_isMan_1 : cX5_isMan.data.toList.drop 24 = dktX5_isMan_1 := dk_seg dksX5_isMan_0 24 rfl rfl
theorem dX5_isMan_0 : decode cX5_isMan 0 = .ok (.aload_n 0, 1) := dk_42 (dk_at dksX5_isMan_0 0 rfl rfl)
theorem dX5_isMan_1 : decode cX5_isMan 1 = .ok (.iload_n 1, 1) := dk_27 (dk_at dksX5_isMan_0 1 rfl rfl)
theorem dX5_isMan_2 : decode cX5_isMan 2 = .ok (.invokevirtual 245, 3) := dk_182 0 245 (dk_at dksX5_isMan_0 2 rfl rfl)
theorem dX5_isMan_5 : decode cX5_isMan 5 = .ok (.ifCond .eq 18, 3) := dk_153 0 18 (dk_at dksX5_isMan_0 5 rfl rfl)
theorem dX5_isMan_8 : decode cX5_isMan 8 = .ok (.aload_n 0, 1) := dk_42 (dk_at dksX5_isMan_0 8 rfl rfl)
theorem dX5_isMan_9 : decode cX5_isMan 9 = .ok (.getfield 17, 3) := dk_180 0 17 (dk_at dksX5_isMan_0 9 rfl rfl)
theorem dX5_isMan_12 : decode cX5_isMan 12 = .ok (.iload_n 1, 1) := dk_27 (dk_at dksX5_isMan_0 12 rfl rfl)
theorem dX5_isMan_13 : decode cX5_isMan 13 = .ok (.iaload, 1) := dk_46 (dk_at dksX5_isMan_0 13 rfl rfl)
theorem dX5_isMan_14 : decode cX5_isMan 14 = .ok (.bipush 7, 2) := dk_16 7 (dk_at dksX5_isMan_0 14 rfl rfl)
theorem dX5_isMan_16 : decode cX5_isMan 16 = .ok (.if_icmp .ne 7, 3) := dk_160 0 7 (dk_at dksX5_isMan_0 16 rfl rfl)
theorem dX5_isMan_19 : decode cX5_isMan 19 = .ok (.iconst 1, 1) := dk_4 (dk_at dksX5_isMan_0 19 rfl rfl)
theorem dX5_isMan_20 : decode cX5_isMan 20 = .ok (.goto 4, 3) := dk_167 0 4 (dk_at dksX5_isMan_0 20 rfl rfl)
theorem dX5_isMan_23 : decode cX5_isMan 23 = .ok (.iconst 0, 1) := dk_3 (dk_at dksX5_isMan_0 23 rfl rfl)
theorem dX5_isMan_24 : decode cX5_isMan 24 = .ok (.ireturn, 1) := dk_172 (dk_at dksX5_isMan_1 0 rfl rfl)
abbrev cX5_speed : ByteArray := prog_22_method_25_code
def yX5_speed : MethodName := ⟨RX5, "speed", "(II)I"⟩
def dkwX5_speed_1 : List UInt8 := [27, 46, 62, 42, 180, 0, 69, 27, 28, 79, 29, 172]
abbrev dktX5_speed_1 : List UInt8 := dkwX5_speed_1 ++ []
def dkwX5_speed_0 : List UInt8 := [27, 184, 1, 22, 153, 0, 14, 28, 16, 10, 16, 60, 184, 0, 230, 154, 0, 5, 2, 172, 42, 180, 0, 69]
abbrev dktX5_speed_0 : List UInt8 := dkwX5_speed_0 ++ dktX5_speed_1
theorem dksX5_speed_0 : cX5_speed.data.toList.drop 0 = dktX5_speed_0 := by decide +kernel
theorem dksX5_speed_1 : cX5_speed.data.toList.drop 24 = dktX5_speed_1 := dk_seg dksX5_speed_0 24 rfl rfl
theorem dX5_speed_0 : decode cX5_speed 0 = .ok (.iload_n 1, 1) := dk_27 (dk_at dksX5_speed_0 0 rfl rfl)
theorem dX5_speed_1 : decode cX5_speed 1 = .ok (.invokestatic 278, 3) := dk_184 1 22 (dk_at dksX5_speed_0 1 rfl rfl)
theorem dX5_speed_4 : decode cX5_speed 4 = .ok (.ifCond .eq 14, 3) := dk_153 0 14 (dk_at dksX5_speed_0 4 rfl rfl)
theorem dX5_speed_7 : decode cX5_speed 7 = .ok (.iload_n 2, 1) := dk_28 (dk_at dksX5_speed_0 7 rfl rfl)
theorem dX5_speed_8 : decode cX5_speed 8 = .ok (.bipush 10, 2) := dk_16 10 (dk_at dksX5_speed_0 8 rfl rfl)
theorem dX5_speed_10 : decode cX5_speed 10 = .ok (.bipush 60, 2) := dk_16 60 (dk_at dksX5_speed_0 10 rfl rfl)
theorem dX5_speed_12 : decode cX5_speed 12 = .ok (.invokestatic 230, 3) := dk_184 0 230 (dk_at dksX5_speed_0 12 rfl rfl)
theorem dX5_speed_15 : decode cX5_speed 15 = .ok (.ifCond .ne 5, 3) := dk_154 0 5 (dk_at dksX5_speed_0 15 rfl rfl)
theorem dX5_speed_18 : decode cX5_speed 18 = .ok (.iconst (-1), 1) := dk_2 (dk_at dksX5_speed_0 18 rfl rfl)
theorem dX5_speed_19 : decode cX5_speed 19 = .ok (.ireturn, 1) := dk_172 (dk_at dksX5_speed_0 19 rfl rfl)
theorem dX5_speed_20 : decode cX5_speed 20 = .ok (.aload_n 0, 1) := dk_42 (dk_at dksX5_speed_0 20 rfl rfl)
theorem dX5_speed_21 : decode cX5_speed 21 = .ok (.getfield 69, 3) := dk_180 0 69 (dk_at dksX5_speed_0 21 rfl rfl)
theorem dX5_speed_24 : decode cX5_speed 24 = .ok (.iload_n 1, 1) := dk_27 (dk_at dksX5_speed_1 0 rfl rfl)
theorem dX5_speed_25 : decode cX5_speed 25 = .ok (.iaload, 1) := dk_46 (dk_at dksX5_speed_1 1 rfl rfl)
theorem dX5_speed_26 : decode cX5_speed 26 = .ok (.istore_n 3, 1) := dk_62 (dk_at dksX5_speed_1 2 rfl rfl)
theorem dX5_speed_27 : decode cX5_speed 27 = .ok (.aload_n 0, 1) := dk_42 (dk_at dksX5_speed_1 3 rfl rfl)
theorem dX5_speed_28 : decode cX5_speed 28 = .ok (.getfield 69, 3) := dk_180 0 69 (dk_at dksX5_speed_1 4 rfl rfl)
theorem dX5_speed_31 : decode cX5_speed 31 = .ok (.iload_n 1, 1) := dk_27 (dk_at dksX5_speed_1 7 rfl rfl)
theorem dX5_speed_32 : decode cX5_speed 32 = .ok (.iload_n 2, 1) := dk_28 (dk_at dksX5_speed_1 8 rfl rfl)
theorem dX5_speed_33 : decode cX5_speed 33 = .ok (.iastore, 1) := dk_79 (dk_at dksX5_speed_1 9 rfl rfl)
theorem dX5_speed_34 : decode cX5_speed 34 = .ok (.iload_n 3, 1) := dk_29 (dk_at dksX5_speed_1 10 rfl rfl)
theorem dX5_speed_35 : decode cX5_speed 35 = .ok (.ireturn, 1) := dk_172 (dk_at dksX5_speed_1 11 rfl rfl)
abbrev cX5_isMachine : ByteArray := prog_22_method_24_code
def yX5_isMachine : MethodName := ⟨RX5, "isMachine", "(I)Z"⟩
def dkwX5_isMachine_0 : List UInt8 := [26, 3, 5, 184, 0, 230, 172]
abbrev dktX5_isMachine_0 : List UInt8 := dkwX5_isMachine_0 ++ []
theorem dksX5_isMachine_0 : cX5_isMachine.data.toList.drop 0 = dktX5_isMachine_0 := by decide +kernel
theorem dX5_isMachine_0 : decode cX5_isMachine 0 = .ok (.iload_n 0, 1) := dk_26 (dk_at dksX5_isMachine_0 0 rfl rfl)
theorem dX5_isMachine_1 : decode cX5_isMachine 1 = .ok (.iconst 0, 1) := dk_3 (dk_at dksX5_isMachine_0 1 rfl rfl)
theorem dX5_isMachine_2 : decode cX5_isMachine 2 = .ok (.iconst 2, 1) := dk_5 (dk_at dksX5_isMachine_0 2 rfl rfl)
theorem dX5_isMachine_3 : decode cX5_isMachine 3 = .ok (.invokestatic 230, 3) := dk_184 0 230 (dk_at dksX5_isMachine_0 3 rfl rfl)
theorem dX5_isMachine_6 : decode cX5_isMachine 6 = .ok (.ireturn, 1) := dk_172 (dk_at dksX5_isMachine_0 6 rfl rfl)
abbrev cX5_set : ByteArray := prog_22_method_26_code
def yX5_set : MethodName := ⟨RX5, "set", "(II)I"⟩
def dkwX5_set_3 : List UInt8 := [27, 28, 79, 29, 172]
abbrev dktX5_set_3 : List UInt8 := dkwX5_set_3 ++ []
def dkwX5_set_2 : List UInt8 := [160, 0, 7, 19, 1, 11, 172, 132, 3, 1, 167, 255, 225, 42, 180, 0, 72, 27, 46, 62, 42, 180, 0, 72]
abbrev dktX5_set_2 : List UInt8 := dkwX5_set_2 ++ dktX5_set_3
def dkwX5_set_1 : List UInt8 := [3, 62, 29, 6, 162, 0, 32, 29, 27, 159, 0, 21, 28, 155, 0, 17, 42, 180, 0, 72, 29, 46, 28]
abbrev dktX5_set_1 : List UInt8 := dkwX5_set_1 ++ dktX5_set_2
def dkwX5_set_0 : List UInt8 := [27, 184, 1, 22, 153, 0, 16, 28, 2, 159, 0, 15, 42, 28, 182, 1, 12, 154, 0, 7, 19, 1, 11, 172]
abbrev dktX5_set_0 : List UInt8 := dkwX5_set_0 ++ dktX5_set_1
theorem dksX5_set_0 : cX5_set.data.toList.drop 0 = dktX5_set_0 := by decide +kernel
theorem dksX5_set_1 : cX5_set.data.toList.drop 24 = dktX5_set_1 := dk_seg dksX5_set_0 24 rfl rfl
theorem dksX5_set_2 : cX5_set.data.toList.drop 47 = dktX5_set_2 := dk_seg dksX5_set_1 23 rfl rfl
theorem dksX5_set_3 : cX5_set.data.toList.drop 71 = dktX5_set_3 := dk_seg dksX5_set_2 24 rfl rfl
theorem dX5_set_0 : decode cX5_set 0 = .ok (.iload_n 1, 1) := dk_27 (dk_at dksX5_set_0 0 rfl rfl)
theorem dX5_set_1 : decode cX5_set 1 = .ok (.invokestatic 278, 3) := dk_184 1 22 (dk_at dksX5_set_0 1 rfl rfl)
theorem dX5_set_4 : decode cX5_set 4 = .ok (.ifCond .eq 16, 3) := dk_153 0 16 (dk_at dksX5_set_0 4 rfl rfl)
theorem dX5_set_7 : decode cX5_set 7 = .ok (.iload_n 2, 1) := dk_28 (dk_at dksX5_set_0 7 rfl rfl)
theorem dX5_set_8 : decode cX5_set 8 = .ok (.iconst (-1), 1) := dk_2 (dk_at dksX5_set_0 8 rfl rfl)
theorem dX5_set_9 : decode cX5_set 9 = .ok (.if_icmp .eq 15, 3) := dk_159 0 15 (dk_at dksX5_set_0 9 rfl rfl)
theorem dX5_set_12 : decode cX5_set 12 = .ok (.aload_n 0, 1) := dk_42 (dk_at dksX5_set_0 12 rfl rfl)
theorem dX5_set_13 : decode cX5_set 13 = .ok (.iload_n 2, 1) := dk_28 (dk_at dksX5_set_0 13 rfl rfl)
theorem dX5_set_14 : decode cX5_set 14 = .ok (.invokevirtual 268, 3) := dk_182 1 12 (dk_at dksX5_set_0 14 rfl rfl)
theorem dX5_set_17 : decode cX5_set 17 = .ok (.ifCond .ne 7, 3) := dk_154 0 7 (dk_at dksX5_set_0 17 rfl rfl)
theorem dX5_set_20 : decode cX5_set 20 = .ok (.ldc_w 267, 3) := dk_19 1 11 (dk_at dksX5_set_0 20 rfl rfl)
theorem dX5_set_23 : decode cX5_set 23 = .ok (.ireturn, 1) := dk_172 (dk_at dksX5_set_0 23 rfl rfl)
theorem dX5_set_24 : decode cX5_set 24 = .ok (.iconst 0, 1) := dk_3 (dk_at dksX5_set_1 0 rfl rfl)
theorem dX5_set_25 : decode cX5_set 25 = .ok (.istore_n 3, 1) := dk_62 (dk_at dksX5_set_1 1 rfl rfl)
theorem dX5_set_26 : decode cX5_set 26 = .ok (.iload_n 3, 1) := dk_29 (dk_at dksX5_set_1 2 rfl rfl)
theorem dX5_set_27 : decode cX5_set 27 = .ok (.iconst 3, 1) := dk_6 (dk_at dksX5_set_1 3 rfl rfl)
theorem dX5_set_28 : decode cX5_set 28 = .ok (.if_icmp .ge 32, 3) := dk_162 0 32 (dk_at dksX5_set_1 4 rfl rfl)
theorem dX5_set_31 : decode cX5_set 31 = .ok (.iload_n 3, 1) := dk_29 (dk_at dksX5_set_1 7 rfl rfl)
theorem dX5_set_32 : decode cX5_set 32 = .ok (.iload_n 1, 1) := dk_27 (dk_at dksX5_set_1 8 rfl rfl)
theorem dX5_set_33 : decode cX5_set 33 = .ok (.if_icmp .eq 21, 3) := dk_159 0 21 (dk_at dksX5_set_1 9 rfl rfl)
theorem dX5_set_36 : decode cX5_set 36 = .ok (.iload_n 2, 1) := dk_28 (dk_at dksX5_set_1 12 rfl rfl)
theorem dX5_set_37 : decode cX5_set 37 = .ok (.ifCond .lt 17, 3) := dk_155 0 17 (dk_at dksX5_set_1 13 rfl rfl)
theorem dX5_set_40 : decode cX5_set 40 = .ok (.aload_n 0, 1) := dk_42 (dk_at dksX5_set_1 16 rfl rfl)
theorem dX5_set_41 : decode cX5_set 41 = .ok (.getfield 72, 3) := dk_180 0 72 (dk_at dksX5_set_1 17 rfl rfl)
theorem dX5_set_44 : decode cX5_set 44 = .ok (.iload_n 3, 1) := dk_29 (dk_at dksX5_set_1 20 rfl rfl)
theorem dX5_set_45 : decode cX5_set 45 = .ok (.iaload, 1) := dk_46 (dk_at dksX5_set_1 21 rfl rfl)
theorem dX5_set_46 : decode cX5_set 46 = .ok (.iload_n 2, 1) := dk_28 (dk_at dksX5_set_1 22 rfl rfl)
theorem dX5_set_47 : decode cX5_set 47 = .ok (.if_icmp .ne 7, 3) := dk_160 0 7 (dk_at dksX5_set_2 0 rfl rfl)
theorem dX5_set_50 : decode cX5_set 50 = .ok (.ldc_w 267, 3) := dk_19 1 11 (dk_at dksX5_set_2 3 rfl rfl)
theorem dX5_set_53 : decode cX5_set 53 = .ok (.ireturn, 1) := dk_172 (dk_at dksX5_set_2 6 rfl rfl)
theorem dX5_set_54 : decode cX5_set 54 = .ok (.iinc 3 1, 3) := dk_132 3 1 (dk_at dksX5_set_2 7 rfl rfl)
theorem dX5_set_57 : decode cX5_set 57 = .ok (.goto (-31), 3) := dk_167 255 225 (dk_at dksX5_set_2 10 rfl rfl)
theorem dX5_set_60 : decode cX5_set 60 = .ok (.aload_n 0, 1) := dk_42 (dk_at dksX5_set_2 13 rfl rfl)
theorem dX5_set_61 : decode cX5_set 61 = .ok (.getfield 72, 3) := dk_180 0 72 (dk_at dksX5_set_2 14 rfl rfl)
theorem dX5_set_64 : decode cX5_set 64 = .ok (.iload_n 1, 1) := dk_27 (dk_at dksX5_set_2 17 rfl rfl)
theorem dX5_set_65 : decode cX5_set 65 = .ok (.iaload, 1) := dk_46 (dk_at dksX5_set_2 18 rfl rfl)
theorem dX5_set_66 : decode cX5_set 66 = .ok (.istore_n 3, 1) := dk_62 (dk_at dksX5_set_2 19 rfl rfl)
theorem dX5_set_67 : decode cX5_set 67 = .ok (.aload_n 0, 1) := dk_42 (dk_at dksX5_set_2 20 rfl rfl)
theorem dX5_set_68 : decode cX5_set 68 = .ok (.getfield 72, 3) := dk_180 0 72 (dk_at dksX5_set_2 21 rfl rfl)
theorem dX5_set_71 : decode cX5_set 71 = .ok (.iload_n 1, 1) := dk_27 (dk_at dksX5_set_3 0 rfl rfl)
theorem dX5_set_72 : decode cX5_set 72 = .ok (.iload_n 2, 1) := dk_28 (dk_at dksX5_set_3 1 rfl rfl)
theorem dX5_set_73 : decode cX5_set 73 = .ok (.iastore, 1) := dk_79 (dk_at dksX5_set_3 2 rfl rfl)
theorem dX5_set_74 : decode cX5_set 74 = .ok (.iload_n 3, 1) := dk_29 (dk_at dksX5_set_3 3 rfl rfl)
theorem dX5_set_75 : decode cX5_set 75 = .ok (.ireturn, 1) := dk_172 (dk_at dksX5_set_3 4 rfl rfl)
abbrev cX5_breaks : ByteArray := prog_22_method_27_code
def yX5_breaks : MethodName := ⟨RX5, "breaks", "(II)I"⟩
def dkwX5_breaks_1 : List UInt8 := [180, 0, 75, 27, 28, 79, 4, 172]
abbrev dktX5_breaks_1 : List UInt8 := dkwX5_breaks_1 ++ []
def dkwX5_breaks_0 : List UInt8 := [27, 184, 1, 22, 153, 0, 17, 28, 42, 180, 1, 25, 17, 6, 163, 184, 0, 230, 154, 0, 5, 2, 172, 42]
abbrev dktX5_breaks_0 : List UInt8 := dkwX5_breaks_0 ++ dktX5_breaks_1
theorem dksX5_breaks_0 : cX5_breaks.data.toList.drop 0 = dktX5_breaks_0 := by decide +kernel
theorem dksX5_breaks_1 : cX5_breaks.data.toList.drop 24 = dktX5_breaks_1 := dk_seg dksX5_breaks_0 24 rfl rfl
theorem dX5_breaks_0 : decode cX5_breaks 0 = .ok (.iload_n 1, 1) := dk_27 (dk_at dksX5_breaks_0 0 rfl rfl)
theorem dX5_breaks_1 : decode cX5_breaks 1 = .ok (.invokestatic 278, 3) := dk_184 1 22 (dk_at dksX5_breaks_0 1 rfl rfl)
theorem dX5_breaks_4 : decode cX5_breaks 4 = .ok (.ifCond .eq 17, 3) := dk_153 0 17 (dk_at dksX5_breaks_0 4 rfl rfl)
theorem dX5_breaks_7 : decode cX5_breaks 7 = .ok (.iload_n 2, 1) := dk_28 (dk_at dksX5_breaks_0 7 rfl rfl)
theorem dX5_breaks_8 : decode cX5_breaks 8 = .ok (.aload_n 0, 1) := dk_42 (dk_at dksX5_breaks_0 8 rfl rfl)
theorem dX5_breaks_9 : decode cX5_breaks 9 = .ok (.getfield 281, 3) := dk_180 1 25 (dk_at dksX5_breaks_0 9 rfl rfl)
theorem dX5_breaks_12 : decode cX5_breaks 12 = .ok (.sipush 1699, 3) := dk_17 6 163 (dk_at dksX5_breaks_0 12 rfl rfl)
theorem dX5_breaks_15 : decode cX5_breaks 15 = .ok (.invokestatic 230, 3) := dk_184 0 230 (dk_at dksX5_breaks_0 15 rfl rfl)
theorem dX5_breaks_18 : decode cX5_breaks 18 = .ok (.ifCond .ne 5, 3) := dk_154 0 5 (dk_at dksX5_breaks_0 18 rfl rfl)
theorem dX5_breaks_21 : decode cX5_breaks 21 = .ok (.iconst (-1), 1) := dk_2 (dk_at dksX5_breaks_0 21 rfl rfl)
theorem dX5_breaks_22 : decode cX5_breaks 22 = .ok (.ireturn, 1) := dk_172 (dk_at dksX5_breaks_0 22 rfl rfl)
theorem dX5_breaks_23 : decode cX5_breaks 23 = .ok (.aload_n 0, 1) := dk_42 (dk_at dksX5_breaks_0 23 rfl rfl)
theorem dX5_breaks_24 : decode cX5_breaks 24 = .ok (.getfield 75, 3) := dk_180 0 75 (dk_at dksX5_breaks_1 0 rfl rfl)
theorem dX5_breaks_27 : decode cX5_breaks 27 = .ok (.iload_n 1, 1) := dk_27 (dk_at dksX5_breaks_1 3 rfl rfl)
theorem dX5_breaks_28 : decode cX5_breaks 28 = .ok (.iload_n 2, 1) := dk_28 (dk_at dksX5_breaks_1 4 rfl rfl)
theorem dX5_breaks_29 : decode cX5_breaks 29 = .ok (.iastore, 1) := dk_79 (dk_at dksX5_breaks_1 5 rfl rfl)
theorem dX5_breaks_30 : decode cX5_breaks 30 = .ok (.iconst 1, 1) := dk_4 (dk_at dksX5_breaks_1 6 rfl rfl)
theorem dX5_breaks_31 : decode cX5_breaks 31 = .ok (.ireturn, 1) := dk_172 (dk_at dksX5_breaks_1 7 rfl rfl)
abbrev cX5_yard : ByteArray := prog_22_method_28_code
def yX5_yard : MethodName := ⟨RX5, "yard", "(II)I"⟩
def dkwX5_yard_3 : List UInt8 := [28, 79, 42, 180, 0, 29, 27, 46, 172]
abbrev dktX5_yard_3 : List UInt8 := dkwX5_yard_3 ++ []
def dkwX5_yard_2 : List UInt8 := [180, 0, 29, 27, 92, 46, 4, 96, 79, 42, 180, 0, 41, 16, 61, 27, 104, 42, 180, 0, 29, 27, 46, 96]
abbrev dktX5_yard_2 : List UInt8 := dkwX5_yard_2 ++ dktX5_yard_3
def dkwX5_yard_1 : List UInt8 := [27, 46, 158, 0, 6, 16, 254, 172, 42, 180, 0, 29, 27, 46, 16, 60, 160, 0, 6, 16, 253, 172, 42]
abbrev dktX5_yard_1 : List UInt8 := dkwX5_yard_1 ++ dktX5_yard_2
def dkwX5_yard_0 : List UInt8 := [42, 27, 182, 1, 12, 153, 0, 13, 28, 16, 254, 5, 184, 0, 230, 154, 0, 5, 2, 172, 42, 180, 0, 38]
abbrev dktX5_yard_0 : List UInt8 := dkwX5_yard_0 ++ dktX5_yard_1
theorem dksX5_yard_0 : cX5_yard.data.toList.drop 0 = dktX5_yard_0 := by decide +kernel
theorem dksX5_yard_1 : cX5_yard.data.toList.drop 24 = dktX5_yard_1 := dk_seg dksX5_yard_0 24 rfl rfl
theorem dksX5_yard_2 : cX5_yard.data.toList.drop 47 = dktX5_yard_2 := dk_seg dksX5_yard_1 23 rfl rfl
theorem dksX5_yard_3 : cX5_yard.data.toList.drop 71 = dktX5_yard_3 := dk_seg dksX5_yard_2 24 rfl rfl
theorem dX5_yard_0 : decode cX5_yard 0 = .ok (.aload_n 0, 1) := dk_42 (dk_at dksX5_yard_0 0 rfl rfl)
theorem dX5_yard_1 : decode cX5_yard 1 = .ok (.iload_n 1, 1) := dk_27 (dk_at dksX5_yard_0 1 rfl rfl)
theorem dX5_yard_2 : decode cX5_yard 2 = .ok (.invokevirtual 268, 3) := dk_182 1 12 (dk_at dksX5_yard_0 2 rfl rfl)
theorem dX5_yard_5 : decode cX5_yard 5 = .ok (.ifCond .eq 13, 3) := dk_153 0 13 (dk_at dksX5_yard_0 5 rfl rfl)
theorem dX5_yard_8 : decode cX5_yard 8 = .ok (.iload_n 2, 1) := dk_28 (dk_at dksX5_yard_0 8 rfl rfl)
theorem dX5_yard_9 : decode cX5_yard 9 = .ok (.bipush (-2), 2) := dk_16 254 (dk_at dksX5_yard_0 9 rfl rfl)
theorem dX5_yard_11 : decode cX5_yard 11 = .ok (.iconst 2, 1) := dk_5 (dk_at dksX5_yard_0 11 rfl rfl)
theorem dX5_yard_12 : decode cX5_yard 12 = .ok (.invokestatic 230, 3) := dk_184 0 230 (dk_at dksX5_yard_0 12 rfl rfl)
theorem dX5_yard_15 : decode cX5_yard 15 = .ok (.ifCond .ne 5, 3) := dk_154 0 5 (dk_at dksX5_yard_0 15 rfl rfl)
theorem dX5_yard_18 : decode cX5_yard 18 = .ok (.iconst (-1), 1) := dk_2 (dk_at dksX5_yard_0 18 rfl rfl)
theorem dX5_yard_19 : decode cX5_yard 19 = .ok (.ireturn, 1) := dk_172 (dk_at dksX5_yard_0 19 rfl rfl)
theorem dX5_yard_20 : decode cX5_yard 20 = .ok (.aload_n 0, 1) := dk_42 (dk_at dksX5_yard_0 20 rfl rfl)
theorem dX5_yard_21 : decode cX5_yard 21 = .ok (.getfield 38, 3) := dk_180 0 38 (dk_at dksX5_yard_0 21 rfl rfl)
theorem dX5_yard_24 : decode cX5_yard 24 = .ok (.iload_n 1, 1) := dk_27 (dk_at dksX5_yard_1 0 rfl rfl)
theorem dX5_yard_25 : decode cX5_yard 25 = .ok (.iaload, 1) := dk_46 (dk_at dksX5_yard_1 1 rfl rfl)
theorem dX5_yard_26 : decode cX5_yard 26 = .ok (.ifCond .le 6, 3) := dk_158 0 6 (dk_at dksX5_yard_1 2 rfl rfl)
theorem dX5_yard_29 : decode cX5_yard 29 = .ok (.bipush (-2), 2) := dk_16 254 (dk_at dksX5_yard_1 5 rfl rfl)
theorem dX5_yard_31 : decode cX5_yard 31 = .ok (.ireturn, 1) := dk_172 (dk_at dksX5_yard_1 7 rfl rfl)
theorem dX5_yard_32 : decode cX5_yard 32 = .ok (.aload_n 0, 1) := dk_42 (dk_at dksX5_yard_1 8 rfl rfl)
theorem dX5_yard_33 : decode cX5_yard 33 = .ok (.getfield 29, 3) := dk_180 0 29 (dk_at dksX5_yard_1 9 rfl rfl)
theorem dX5_yard_36 : decode cX5_yard 36 = .ok (.iload_n 1, 1) := dk_27 (dk_at dksX5_yard_1 12 rfl rfl)
theorem dX5_yard_37 : decode cX5_yard 37 = .ok (.iaload, 1) := dk_46 (dk_at dksX5_yard_1 13 rfl rfl)
theorem dX5_yard_38 : decode cX5_yard 38 = .ok (.bipush 60, 2) := dk_16 60 (dk_at dksX5_yard_1 14 rfl rfl)
theorem dX5_yard_40 : decode cX5_yard 40 = .ok (.if_icmp .ne 6, 3) := dk_160 0 6 (dk_at dksX5_yard_1 16 rfl rfl)
theorem dX5_yard_43 : decode cX5_yard 43 = .ok (.bipush (-3), 2) := dk_16 253 (dk_at dksX5_yard_1 19 rfl rfl)
theorem dX5_yard_45 : decode cX5_yard 45 = .ok (.ireturn, 1) := dk_172 (dk_at dksX5_yard_1 21 rfl rfl)
theorem dX5_yard_46 : decode cX5_yard 46 = .ok (.aload_n 0, 1) := dk_42 (dk_at dksX5_yard_1 22 rfl rfl)
theorem dX5_yard_47 : decode cX5_yard 47 = .ok (.getfield 29, 3) := dk_180 0 29 (dk_at dksX5_yard_2 0 rfl rfl)
theorem dX5_yard_50 : decode cX5_yard 50 = .ok (.iload_n 1, 1) := dk_27 (dk_at dksX5_yard_2 3 rfl rfl)
theorem dX5_yard_51 : decode cX5_yard 51 = .ok (.dup2, 1) := dk_92 (dk_at dksX5_yard_2 4 rfl rfl)
theorem dX5_yard_52 : decode cX5_yard 52 = .ok (.iaload, 1) := dk_46 (dk_at dksX5_yard_2 5 rfl rfl)
theorem dX5_yard_53 : decode cX5_yard 53 = .ok (.iconst 1, 1) := dk_4 (dk_at dksX5_yard_2 6 rfl rfl)
theorem dX5_yard_54 : decode cX5_yard 54 = .ok (.iadd, 1) := dk_96 (dk_at dksX5_yard_2 7 rfl rfl)
theorem dX5_yard_55 : decode cX5_yard 55 = .ok (.iastore, 1) := dk_79 (dk_at dksX5_yard_2 8 rfl rfl)
theorem dX5_yard_56 : decode cX5_yard 56 = .ok (.aload_n 0, 1) := dk_42 (dk_at dksX5_yard_2 9 rfl rfl)
theorem dX5_yard_57 : decode cX5_yard 57 = .ok (.getfield 41, 3) := dk_180 0 41 (dk_at dksX5_yard_2 10 rfl rfl)
theorem dX5_yard_60 : decode cX5_yard 60 = .ok (.bipush 61, 2) := dk_16 61 (dk_at dksX5_yard_2 13 rfl rfl)
theorem dX5_yard_62 : decode cX5_yard 62 = .ok (.iload_n 1, 1) := dk_27 (dk_at dksX5_yard_2 15 rfl rfl)
theorem dX5_yard_63 : decode cX5_yard 63 = .ok (.imul, 1) := dk_104 (dk_at dksX5_yard_2 16 rfl rfl)
theorem dX5_yard_64 : decode cX5_yard 64 = .ok (.aload_n 0, 1) := dk_42 (dk_at dksX5_yard_2 17 rfl rfl)
theorem dX5_yard_65 : decode cX5_yard 65 = .ok (.getfield 29, 3) := dk_180 0 29 (dk_at dksX5_yard_2 18 rfl rfl)
theorem dX5_yard_68 : decode cX5_yard 68 = .ok (.iload_n 1, 1) := dk_27 (dk_at dksX5_yard_2 21 rfl rfl)
theorem dX5_yard_69 : decode cX5_yard 69 = .ok (.iaload, 1) := dk_46 (dk_at dksX5_yard_2 22 rfl rfl)
theorem dX5_yard_70 : decode cX5_yard 70 = .ok (.iadd, 1) := dk_96 (dk_at dksX5_yard_2 23 rfl rfl)
theorem dX5_yard_71 : decode cX5_yard 71 = .ok (.iload_n 2, 1) := dk_28 (dk_at dksX5_yard_3 0 rfl rfl)
theorem dX5_yard_72 : decode cX5_yard 72 = .ok (.iastore, 1) := dk_79 (dk_at dksX5_yard_3 1 rfl rfl)
theorem dX5_yard_73 : decode cX5_yard 73 = .ok (.aload_n 0, 1) := dk_42 (dk_at dksX5_yard_3 2 rfl rfl)
theorem dX5_yard_74 : decode cX5_yard 74 = .ok (.getfield 29, 3) := dk_180 0 29 (dk_at dksX5_yard_3 3 rfl rfl)
theorem dX5_yard_77 : decode cX5_yard 77 = .ok (.iload_n 1, 1) := dk_27 (dk_at dksX5_yard_3 6 rfl rfl)
theorem dX5_yard_78 : decode cX5_yard 78 = .ok (.iaload, 1) := dk_46 (dk_at dksX5_yard_3 7 rfl rfl)
theorem dX5_yard_79 : decode cX5_yard 79 = .ok (.ireturn, 1) := dk_172 (dk_at dksX5_yard_3 8 rfl rfl)
abbrev cX5_met : ByteArray := prog_22_method_29_code
def yX5_met : MethodName := ⟨RX5, "met", "(II)I"⟩
def dkwX5_met_1 : List UInt8 := [180, 0, 44, 16, 61, 27, 104, 28, 96, 46, 167, 0, 4, 2, 172]
abbrev dktX5_met_1 : List UInt8 := dkwX5_met_1 ++ []
def dkwX5_met_0 : List UInt8 := [42, 27, 182, 1, 12, 153, 0, 31, 28, 4, 42, 180, 0, 32, 27, 46, 184, 0, 230, 153, 0, 17, 42]
abbrev dktX5_met_0 : List UInt8 := dkwX5_met_0 ++ dktX5_met_1
theorem dksX5_met_0 : cX5_met.data.toList.drop 0 = dktX5_met_0 := by decide +kernel
theorem dksX5_met_1 : cX5_met.data.toList.drop 23 = dktX5_met_1 := dk_seg dksX5_met_0 23 rfl rfl
theorem dX5_met_0 : decode cX5_met 0 = .ok (.aload_n 0, 1) := dk_42 (dk_at dksX5_met_0 0 rfl rfl)
theorem dX5_met_1 : decode cX5_met 1 = .ok (.iload_n 1, 1) := dk_27 (dk_at dksX5_met_0 1 rfl rfl)
theorem dX5_met_2 : decode cX5_met 2 = .ok (.invokevirtual 268, 3) := dk_182 1 12 (dk_at dksX5_met_0 2 rfl rfl)
theorem dX5_met_5 : decode cX5_met 5 = .ok (.ifCond .eq 31, 3) := dk_153 0 31 (dk_at dksX5_met_0 5 rfl rfl)
theorem dX5_met_8 : decode cX5_met 8 = .ok (.iload_n 2, 1) := dk_28 (dk_at dksX5_met_0 8 rfl rfl)
theorem dX5_met_9 : decode cX5_met 9 = .ok (.iconst 1, 1) := dk_4 (dk_at dksX5_met_0 9 rfl rfl)
theorem dX5_met_10 : decode cX5_met 10 = .ok (.aload_n 0, 1) := dk_42 (dk_at dksX5_met_0 10 rfl rfl)
theorem dX5_met_11 : decode cX5_met 11 = .ok (.getfield 32, 3) := dk_180 0 32 (dk_at dksX5_met_0 11 rfl rfl)
theorem dX5_met_14 : decode cX5_met 14 = .ok (.iload_n 1, 1) := dk_27 (dk_at dksX5_met_0 14 rfl rfl)
theorem dX5_met_15 : decode cX5_met 15 = .ok (.iaload, 1) := dk_46 (dk_at dksX5_met_0 15 rfl rfl)
theorem dX5_met_16 : decode cX5_met 16 = .ok (.invokestatic 230, 3) := dk_184 0 230 (dk_at dksX5_met_0 16 rfl rfl)
theorem dX5_met_19 : decode cX5_met 19 = .ok (.ifCond .eq 17, 3) := dk_153 0 17 (dk_at dksX5_met_0 19 rfl rfl)
theorem dX5_met_22 : decode cX5_met 22 = .ok (.aload_n 0, 1) := dk_42 (dk_at dksX5_met_0 22 rfl rfl)
theorem dX5_met_23 : decode cX5_met 23 = .ok (.getfield 44, 3) := dk_180 0 44 (dk_at dksX5_met_1 0 rfl rfl)
theorem dX5_met_26 : decode cX5_met 26 = .ok (.bipush 61, 2) := dk_16 61 (dk_at dksX5_met_1 3 rfl rfl)
theorem dX5_met_28 : decode cX5_met 28 = .ok (.iload_n 1, 1) := dk_27 (dk_at dksX5_met_1 5 rfl rfl)
theorem dX5_met_29 : decode cX5_met 29 = .ok (.imul, 1) := dk_104 (dk_at dksX5_met_1 6 rfl rfl)
theorem dX5_met_30 : decode cX5_met 30 = .ok (.iload_n 2, 1) := dk_28 (dk_at dksX5_met_1 7 rfl rfl)
theorem dX5_met_31 : decode cX5_met 31 = .ok (.iadd, 1) := dk_96 (dk_at dksX5_met_1 8 rfl rfl)
theorem dX5_met_32 : decode cX5_met 32 = .ok (.iaload, 1) := dk_46 (dk_at dksX5_met_1 9 rfl rfl)
theorem dX5_met_33 : decode cX5_met 33 = .ok (.goto 4, 3) := dk_167 0 4 (dk_at dksX5_met_1 10 rfl rfl)
theorem dX5_met_36 : decode cX5_met 36 = .ok (.iconst (-1), 1) := dk_2 (dk_at dksX5_met_1 13 rfl rfl)
theorem dX5_met_37 : decode cX5_met 37 = .ok (.ireturn, 1) := dk_172 (dk_at dksX5_met_1 14 rfl rfl)
abbrev cX5_spread : ByteArray := prog_22_method_32_code
def yX5_spread : MethodName := ⟨RX5, "spread", "(I)I"⟩
def dkwX5_spread_0 : List UInt8 := [27, 3, 16, 8, 184, 0, 230, 154, 0, 5, 2, 172, 42, 180, 0, 78, 61, 42, 27, 181, 0, 78, 28, 172]
abbrev dktX5_spread_0 : List UInt8 := dkwX5_spread_0 ++ []
theorem dksX5_spread_0 : cX5_spread.data.toList.drop 0 = dktX5_spread_0 := by decide +kernel
theorem dX5_spread_0 : decode cX5_spread 0 = .ok (.iload_n 1, 1) := dk_27 (dk_at dksX5_spread_0 0 rfl rfl)
theorem dX5_spread_1 : decode cX5_spread 1 = .ok (.iconst 0, 1) := dk_3 (dk_at dksX5_spread_0 1 rfl rfl)
theorem dX5_spread_2 : decode cX5_spread 2 = .ok (.bipush 8, 2) := dk_16 8 (dk_at dksX5_spread_0 2 rfl rfl)
theorem dX5_spread_4 : decode cX5_spread 4 = .ok (.invokestatic 230, 3) := dk_184 0 230 (dk_at dksX5_spread_0 4 rfl rfl)
theorem dX5_spread_7 : decode cX5_spread 7 = .ok (.ifCond .ne 5, 3) := dk_154 0 5 (dk_at dksX5_spread_0 7 rfl rfl)
theorem dX5_spread_10 : decode cX5_spread 10 = .ok (.iconst (-1), 1) := dk_2 (dk_at dksX5_spread_0 10 rfl rfl)
theorem dX5_spread_11 : decode cX5_spread 11 = .ok (.ireturn, 1) := dk_172 (dk_at dksX5_spread_0 11 rfl rfl)
theorem dX5_spread_12 : decode cX5_spread 12 = .ok (.aload_n 0, 1) := dk_42 (dk_at dksX5_spread_0 12 rfl rfl)
theorem dX5_spread_13 : decode cX5_spread 13 = .ok (.getfield 78, 3) := dk_180 0 78 (dk_at dksX5_spread_0 13 rfl rfl)
theorem dX5_spread_16 : decode cX5_spread 16 = .ok (.istore_n 2, 1) := dk_61 (dk_at dksX5_spread_0 16 rfl rfl)
theorem dX5_spread_17 : decode cX5_spread 17 = .ok (.aload_n 0, 1) := dk_42 (dk_at dksX5_spread_0 17 rfl rfl)
theorem dX5_spread_18 : decode cX5_spread 18 = .ok (.iload_n 1, 1) := dk_27 (dk_at dksX5_spread_0 18 rfl rfl)
theorem dX5_spread_19 : decode cX5_spread 19 = .ok (.putfield 78, 3) := dk_181 0 78 (dk_at dksX5_spread_0 19 rfl rfl)
theorem dX5_spread_22 : decode cX5_spread 22 = .ok (.iload_n 2, 1) := dk_28 (dk_at dksX5_spread_0 22 rfl rfl)
theorem dX5_spread_23 : decode cX5_spread 23 = .ok (.ireturn, 1) := dk_172 (dk_at dksX5_spread_0 23 rfl rfl)
abbrev cX5_log : ByteArray := prog_22_method_33_code
def yX5_log : MethodName := ⟨RX5, "log", "(IIIII)I"⟩
def dkwX5_log_11 : List UInt8 := [96, 4, 84, 132, 6, 1, 167, 255, 57, 21, 5, 172]
abbrev dktX5_log_11 : List UInt8 := dkwX5_log_11 ++ []
def dkwX5_log_10 : List UInt8 := [21, 11, 167, 0, 11, 42, 180, 0, 214, 21, 10, 47, 136, 79, 42, 180, 0, 47, 16, 61, 27, 104, 21, 7]
abbrev dktX5_log_10 : List UInt8 := dkwX5_log_10 ++ dktX5_log_11
def dkwX5_log_9 : List UInt8 := [54, 11, 42, 180, 0, 50, 16, 61, 27, 104, 21, 7, 96, 42, 180, 0, 218, 21, 10, 51, 153, 0, 8]
abbrev dktX5_log_9 : List UInt8 := dkwX5_log_9 ++ dktX5_log_10
def dkwX5_log_8 : List UInt8 := [4, 100, 51, 153, 0, 20, 42, 180, 0, 50, 16, 61, 27, 104, 21, 7, 96, 4, 100, 46, 167, 0, 4, 3]
abbrev dktX5_log_8 : List UInt8 := dkwX5_log_8 ++ dktX5_log_9
def dkwX5_log_7 : List UInt8 := [104, 22, 8, 136, 96, 54, 10, 21, 7, 4, 164, 0, 37, 42, 180, 0, 47, 16, 61, 27, 104, 21, 7, 96]
abbrev dktX5_log_7 : List UInt8 := dkwX5_log_7 ++ dktX5_log_8
def dkwX5_log_6 : List UInt8 := [180, 0, 47, 16, 61, 27, 104, 21, 10, 96, 3, 84, 132, 10, 1, 167, 255, 233, 21, 6, 172, 16, 60, 28]
abbrev dktX5_log_6 : List UInt8 := dkwX5_log_6 ++ dktX5_log_7
def dkwX5_log_5 : List UInt8 := [180, 0, 211, 28, 46, 133, 148, 155, 0, 36, 21, 7, 54, 10, 21, 10, 16, 60, 163, 0, 22, 42]
abbrev dktX5_log_5 : List UInt8 := dkwX5_log_5 ++ dktX5_log_6
def dkwX5_log_4 : List UInt8 := [55, 8, 42, 180, 0, 208, 28, 46, 2, 159, 0, 23, 22, 8, 9, 148, 155, 0, 16, 22, 8, 42]
abbrev dktX5_log_4 : List UInt8 := dkwX5_log_4 ++ dktX5_log_5
def dkwX5_log_3 : List UInt8 := [21, 4, 21, 6, 96, 54, 7, 21, 7, 16, 60, 164, 0, 6, 21, 6, 172, 29, 133, 21, 6, 133, 97]
abbrev dktX5_log_3 : List UInt8 := dkwX5_log_3 ++ dktX5_log_4
def dkwX5_log_2 : List UInt8 := [159, 0, 14, 42, 28, 182, 1, 35, 154, 0, 6, 16, 244, 172, 3, 54, 6, 21, 6, 21, 5, 162, 0, 198]
abbrev dktX5_log_2 : List UInt8 := dkwX5_log_2 ++ dktX5_log_3
def dkwX5_log_1 : List UInt8 := [153, 0, 14, 21, 5, 4, 16, 60, 184, 0, 230, 154, 0, 5, 2, 172, 42, 180, 0, 208, 28, 46, 2]
abbrev dktX5_log_1 : List UInt8 := dkwX5_log_1 ++ dktX5_log_2
def dkwX5_log_0 : List UInt8 := [42, 27, 182, 1, 12, 153, 0, 32, 28, 184, 1, 32, 153, 0, 25, 21, 4, 4, 16, 60, 184, 0, 230]
abbrev dktX5_log_0 : List UInt8 := dkwX5_log_0 ++ dktX5_log_1
theorem dksX5_log_0 : cX5_log.data.toList.drop 0 = dktX5_log_0 := by decide +kernel
theorem dksX5_log_1 : cX5_log.data.toList.drop 23 = dktX5_log_1 := dk_seg dksX5_log_0 23 rfl rfl
theorem dksX5_log_2 : cX5_log.data.toList.drop 46 = dktX5_log_2 := dk_seg dksX5_log_1 23 rfl rfl
theorem dksX5_log_3 : cX5_log.data.toList.drop 70 = dktX5_log_3 := dk_seg dksX5_log_2 24 rfl rfl
theorem dksX5_log_4 : cX5_log.data.toList.drop 93 = dktX5_log_4 := dk_seg dksX5_log_3 23 rfl rfl
theorem dksX5_log_5 : cX5_log.data.toList.drop 115 = dktX5_log_5 := dk_seg dksX5_log_4 22 rfl rfl
theorem dksX5_log_6 : cX5_log.data.toList.drop 137 = dktX5_log_6 := dk_seg dksX5_log_5 22 rfl rfl
theorem dksX5_log_7 : cX5_log.data.toList.drop 161 = dktX5_log_7 := dk_seg dksX5_log_6 24 rfl rfl
theorem dksX5_log_8 : cX5_log.data.toList.drop 185 = dktX5_log_8 := dk_seg dksX5_log_7 24 rfl rfl
theorem dksX5_log_9 : cX5_log.data.toList.drop 209 = dktX5_log_9 := dk_seg dksX5_log_8 24 rfl rfl
theorem dksX5_log_10 : cX5_log.data.toList.drop 232 = dktX5_log_10 := dk_seg dksX5_log_9 23 rfl rfl
theorem dksX5_log_11 : cX5_log.data.toList.drop 256 = dktX5_log_11 := dk_seg dksX5_log_10 24 rfl rfl
theorem dX5_log_0 : decode cX5_log 0 = .ok (.aload_n 0, 1) := dk_42 (dk_at dksX5_log_0 0 rfl rfl)
theorem dX5_log_1 : decode cX5_log 1 = .ok (.iload_n 1, 1) := dk_27 (dk_at dksX5_log_0 1 rfl rfl)
theorem dX5_log_2 : decode cX5_log 2 = .ok (.invokevirtual 268, 3) := dk_182 1 12 (dk_at dksX5_log_0 2 rfl rfl)
theorem dX5_log_5 : decode cX5_log 5 = .ok (.ifCond .eq 32, 3) := dk_153 0 32 (dk_at dksX5_log_0 5 rfl rfl)
theorem dX5_log_8 : decode cX5_log 8 = .ok (.iload_n 2, 1) := dk_28 (dk_at dksX5_log_0 8 rfl rfl)
theorem dX5_log_9 : decode cX5_log 9 = .ok (.invokestatic 288, 3) := dk_184 1 32 (dk_at dksX5_log_0 9 rfl rfl)
theorem dX5_log_12 : decode cX5_log 12 = .ok (.ifCond .eq 25, 3) := dk_153 0 25 (dk_at dksX5_log_0 12 rfl rfl)
theorem dX5_log_15 : decode cX5_log 15 = .ok (.iload 4, 2) := dk_21 4 (dk_at dksX5_log_0 15 rfl rfl)
theorem dX5_log_17 : decode cX5_log 17 = .ok (.iconst 1, 1) := dk_4 (dk_at dksX5_log_0 17 rfl rfl)
theorem dX5_log_18 : decode cX5_log 18 = .ok (.bipush 60, 2) := dk_16 60 (dk_at dksX5_log_0 18 rfl rfl)
theorem dX5_log_20 : decode cX5_log 20 = .ok (.invokestatic 230, 3) := dk_184 0 230 (dk_at dksX5_log_0 20 rfl rfl)
theorem dX5_log_23 : decode cX5_log 23 = .ok (.ifCond .eq 14, 3) := dk_153 0 14 (dk_at dksX5_log_1 0 rfl rfl)
theorem dX5_log_26 : decode cX5_log 26 = .ok (.iload 5, 2) := dk_21 5 (dk_at dksX5_log_1 3 rfl rfl)
theorem dX5_log_28 : decode cX5_log 28 = .ok (.iconst 1, 1) := dk_4 (dk_at dksX5_log_1 5 rfl rfl)
theorem dX5_log_29 : decode cX5_log 29 = .ok (.bipush 60, 2) := dk_16 60 (dk_at dksX5_log_1 6 rfl rfl)
theorem dX5_log_31 : decode cX5_log 31 = .ok (.invokestatic 230, 3) := dk_184 0 230 (dk_at dksX5_log_1 8 rfl rfl)
theorem dX5_log_34 : decode cX5_log 34 = .ok (.ifCond .ne 5, 3) := dk_154 0 5 (dk_at dksX5_log_1 11 rfl rfl)
theorem dX5_log_37 : decode cX5_log 37 = .ok (.iconst (-1), 1) := dk_2 (dk_at dksX5_log_1 14 rfl rfl)
theorem dX5_log_38 : decode cX5_log 38 = .ok (.ireturn, 1) := dk_172 (dk_at dksX5_log_1 15 rfl rfl)
theorem dX5_log_39 : decode cX5_log 39 = .ok (.aload_n 0, 1) := dk_42 (dk_at dksX5_log_1 16 rfl rfl)
theorem dX5_log_40 : decode cX5_log 40 = .ok (.getfield 208, 3) := dk_180 0 208 (dk_at dksX5_log_1 17 rfl rfl)
theorem dX5_log_43 : decode cX5_log 43 = .ok (.iload_n 2, 1) := dk_28 (dk_at dksX5_log_1 20 rfl rfl)
theorem dX5_log_44 : decode cX5_log 44 = .ok (.iaload, 1) := dk_46 (dk_at dksX5_log_1 21 rfl rfl)
theorem dX5_log_45 : decode cX5_log 45 = .ok (.iconst (-1), 1) := dk_2 (dk_at dksX5_log_1 22 rfl rfl)
theorem dX5_log_46 : decode cX5_log 46 = .ok (.if_icmp .eq 14, 3) := dk_159 0 14 (dk_at dksX5_log_2 0 rfl rfl)
theorem dX5_log_49 : decode cX5_log 49 = .ok (.aload_n 0, 1) := dk_42 (dk_at dksX5_log_2 3 rfl rfl)
theorem dX5_log_50 : decode cX5_log 50 = .ok (.iload_n 2, 1) := dk_28 (dk_at dksX5_log_2 4 rfl rfl)
theorem dX5_log_51 : decode cX5_log 51 = .ok (.invokevirtual 291, 3) := dk_182 1 35 (dk_at dksX5_log_2 5 rfl rfl)
theorem dX5_log_54 : decode cX5_log 54 = .ok (.ifCond .ne 6, 3) := dk_154 0 6 (dk_at dksX5_log_2 8 rfl rfl)
theorem dX5_log_57 : decode cX5_log 57 = .ok (.bipush (-12), 2) := dk_16 244 (dk_at dksX5_log_2 11 rfl rfl)
theorem dX5_log_59 : decode cX5_log 59 = .ok (.ireturn, 1) := dk_172 (dk_at dksX5_log_2 13 rfl rfl)
theorem dX5_log_60 : decode cX5_log 60 = .ok (.iconst 0, 1) := dk_3 (dk_at dksX5_log_2 14 rfl rfl)
theorem dX5_log_61 : decode cX5_log 61 = .ok (.istore 6, 2) := dk_54 6 (dk_at dksX5_log_2 15 rfl rfl)
theorem dX5_log_63 : decode cX5_log 63 = .ok (.iload 6, 2) := dk_21 6 (dk_at dksX5_log_2 17 rfl rfl)
theorem dX5_log_65 : decode cX5_log 65 = .ok (.iload 5, 2) := dk_21 5 (dk_at dksX5_log_2 19 rfl rfl)
theorem dX5_log_67 : decode cX5_log 67 = .ok (.if_icmp .ge 198, 3) := dk_162 0 198 (dk_at dksX5_log_2 21 rfl rfl)
theorem dX5_log_70 : decode cX5_log 70 = .ok (.iload 4, 2) := dk_21 4 (dk_at dksX5_log_3 0 rfl rfl)
theorem dX5_log_72 : decode cX5_log 72 = .ok (.iload 6, 2) := dk_21 6 (dk_at dksX5_log_3 2 rfl rfl)
theorem dX5_log_74 : decode cX5_log 74 = .ok (.iadd, 1) := dk_96 (dk_at dksX5_log_3 4 rfl rfl)
theorem dX5_log_75 : decode cX5_log 75 = .ok (.istore 7, 2) := dk_54 7 (dk_at dksX5_log_3 5 rfl rfl)
theorem dX5_log_77 : decode cX5_log 77 = .ok (.iload 7, 2) := dk_21 7 (dk_at dksX5_log_3 7 rfl rfl)
theorem dX5_log_79 : decode cX5_log 79 = .ok (.bipush 60, 2) := dk_16 60 (dk_at dksX5_log_3 9 rfl rfl)
theorem dX5_log_81 : decode cX5_log 81 = .ok (.if_icmp .le 6, 3) := dk_164 0 6 (dk_at dksX5_log_3 11 rfl rfl)
theorem dX5_log_84 : decode cX5_log 84 = .ok (.iload 6, 2) := dk_21 6 (dk_at dksX5_log_3 14 rfl rfl)
theorem dX5_log_86 : decode cX5_log 86 = .ok (.ireturn, 1) := dk_172 (dk_at dksX5_log_3 16 rfl rfl)
theorem dX5_log_87 : decode cX5_log 87 = .ok (.iload_n 3, 1) := dk_29 (dk_at dksX5_log_3 17 rfl rfl)
theorem dX5_log_88 : decode cX5_log 88 = .ok (.i2l, 1) := dk_133 (dk_at dksX5_log_3 18 rfl rfl)
theorem dX5_log_89 : decode cX5_log 89 = .ok (.iload 6, 2) := dk_21 6 (dk_at dksX5_log_3 19 rfl rfl)
theorem dX5_log_91 : decode cX5_log 91 = .ok (.i2l, 1) := dk_133 (dk_at dksX5_log_3 21 rfl rfl)
theorem dX5_log_92 : decode cX5_log 92 = .ok (.ladd, 1) := dk_97 (dk_at dksX5_log_3 22 rfl rfl)
theorem dX5_log_93 : decode cX5_log 93 = .ok (.lstore 8, 2) := dk_55 8 (dk_at dksX5_log_4 0 rfl rfl)
theorem dX5_log_95 : decode cX5_log 95 = .ok (.aload_n 0, 1) := dk_42 (dk_at dksX5_log_4 2 rfl rfl)
theorem dX5_log_96 : decode cX5_log 96 = .ok (.getfield 208, 3) := dk_180 0 208 (dk_at dksX5_log_4 3 rfl rfl)
theorem dX5_log_99 : decode cX5_log 99 = .ok (.iload_n 2, 1) := dk_28 (dk_at dksX5_log_4 6 rfl rfl)
theorem dX5_log_100 : decode cX5_log 100 = .ok (.iaload, 1) := dk_46 (dk_at dksX5_log_4 7 rfl rfl)
theorem dX5_log_101 : decode cX5_log 101 = .ok (.iconst (-1), 1) := dk_2 (dk_at dksX5_log_4 8 rfl rfl)
theorem dX5_log_102 : decode cX5_log 102 = .ok (.if_icmp .eq 23, 3) := dk_159 0 23 (dk_at dksX5_log_4 9 rfl rfl)
theorem dX5_log_105 : decode cX5_log 105 = .ok (.lload 8, 2) := dk_22 8 (dk_at dksX5_log_4 12 rfl rfl)
theorem dX5_log_107 : decode cX5_log 107 = .ok (.lconst 0, 1) := dk_9 (dk_at dksX5_log_4 14 rfl rfl)
theorem dX5_log_108 : decode cX5_log 108 = .ok (.lcmp, 1) := dk_148 (dk_at dksX5_log_4 15 rfl rfl)
theorem dX5_log_109 : decode cX5_log 109 = .ok (.ifCond .lt 16, 3) := dk_155 0 16 (dk_at dksX5_log_4 16 rfl rfl)
theorem dX5_log_112 : decode cX5_log 112 = .ok (.lload 8, 2) := dk_22 8 (dk_at dksX5_log_4 19 rfl rfl)
theorem dX5_log_114 : decode cX5_log 114 = .ok (.aload_n 0, 1) := dk_42 (dk_at dksX5_log_4 21 rfl rfl)
theorem dX5_log_115 : decode cX5_log 115 = .ok (.getfield 211, 3) := dk_180 0 211 (dk_at dksX5_log_5 0 rfl rfl)
theorem dX5_log_118 : decode cX5_log 118 = .ok (.iload_n 2, 1) := dk_28 (dk_at dksX5_log_5 3 rfl rfl)
theorem dX5_log_119 : decode cX5_log 119 = .ok (.iaload, 1) := dk_46 (dk_at dksX5_log_5 4 rfl rfl)
theorem dX5_log_120 : decode cX5_log 120 = .ok (.i2l, 1) := dk_133 (dk_at dksX5_log_5 5 rfl rfl)
theorem dX5_log_121 : decode cX5_log 121 = .ok (.lcmp, 1) := dk_148 (dk_at dksX5_log_5 6 rfl rfl)
theorem dX5_log_122 : decode cX5_log 122 = .ok (.ifCond .lt 36, 3) := dk_155 0 36 (dk_at dksX5_log_5 7 rfl rfl)
theorem dX5_log_125 : decode cX5_log 125 = .ok (.iload 7, 2) := dk_21 7 (dk_at dksX5_log_5 10 rfl rfl)
theorem dX5_log_127 : decode cX5_log 127 = .ok (.istore 10, 2) := dk_54 10 (dk_at dksX5_log_5 12 rfl rfl)
theorem dX5_log_129 : decode cX5_log 129 = .ok (.iload 10, 2) := dk_21 10 (dk_at dksX5_log_5 14 rfl rfl)
theorem dX5_log_131 : decode cX5_log 131 = .ok (.bipush 60, 2) := dk_16 60 (dk_at dksX5_log_5 16 rfl rfl)
theorem dX5_log_133 : decode cX5_log 133 = .ok (.if_icmp .gt 22, 3) := dk_163 0 22 (dk_at dksX5_log_5 18 rfl rfl)
theorem dX5_log_136 : decode cX5_log 136 = .ok (.aload_n 0, 1) := dk_42 (dk_at dksX5_log_5 21 rfl rfl)
theorem dX5_log_137 : decode cX5_log 137 = .ok (.getfield 47, 3) := dk_180 0 47 (dk_at dksX5_log_6 0 rfl rfl)
theorem dX5_log_140 : decode cX5_log 140 = .ok (.bipush 61, 2) := dk_16 61 (dk_at dksX5_log_6 3 rfl rfl)
theorem dX5_log_142 : decode cX5_log 142 = .ok (.iload_n 1, 1) := dk_27 (dk_at dksX5_log_6 5 rfl rfl)
theorem dX5_log_143 : decode cX5_log 143 = .ok (.imul, 1) := dk_104 (dk_at dksX5_log_6 6 rfl rfl)
theorem dX5_log_144 : decode cX5_log 144 = .ok (.iload 10, 2) := dk_21 10 (dk_at dksX5_log_6 7 rfl rfl)
theorem dX5_log_146 : decode cX5_log 146 = .ok (.iadd, 1) := dk_96 (dk_at dksX5_log_6 9 rfl rfl)
theorem dX5_log_147 : decode cX5_log 147 = .ok (.iconst 0, 1) := dk_3 (dk_at dksX5_log_6 10 rfl rfl)
theorem dX5_log_148 : decode cX5_log 148 = .ok (.bastore, 1) := dk_84 (dk_at dksX5_log_6 11 rfl rfl)
theorem dX5_log_149 : decode cX5_log 149 = .ok (.iinc 10 1, 3) := dk_132 10 1 (dk_at dksX5_log_6 12 rfl rfl)
theorem dX5_log_152 : decode cX5_log 152 = .ok (.goto (-23), 3) := dk_167 255 233 (dk_at dksX5_log_6 15 rfl rfl)
theorem dX5_log_155 : decode cX5_log 155 = .ok (.iload 6, 2) := dk_21 6 (dk_at dksX5_log_6 18 rfl rfl)
theorem dX5_log_157 : decode cX5_log 157 = .ok (.ireturn, 1) := dk_172 (dk_at dksX5_log_6 20 rfl rfl)
theorem dX5_log_158 : decode cX5_log 158 = .ok (.bipush 60, 2) := dk_16 60 (dk_at dksX5_log_6 21 rfl rfl)
theorem dX5_log_160 : decode cX5_log 160 = .ok (.iload_n 2, 1) := dk_28 (dk_at dksX5_log_6 23 rfl rfl)
theorem dX5_log_161 : decode cX5_log 161 = .ok (.imul, 1) := dk_104 (dk_at dksX5_log_7 0 rfl rfl)
theorem dX5_log_162 : decode cX5_log 162 = .ok (.lload 8, 2) := dk_22 8 (dk_at dksX5_log_7 1 rfl rfl)
theorem dX5_log_164 : decode cX5_log 164 = .ok (.l2i, 1) := dk_136 (dk_at dksX5_log_7 3 rfl rfl)
theorem dX5_log_165 : decode cX5_log 165 = .ok (.iadd, 1) := dk_96 (dk_at dksX5_log_7 4 rfl rfl)
theorem dX5_log_166 : decode cX5_log 166 = .ok (.istore 10, 2) := dk_54 10 (dk_at dksX5_log_7 5 rfl rfl)
theorem dX5_log_168 : decode cX5_log 168 = .ok (.iload 7, 2) := dk_21 7 (dk_at dksX5_log_7 7 rfl rfl)
theorem dX5_log_170 : decode cX5_log 170 = .ok (.iconst 1, 1) := dk_4 (dk_at dksX5_log_7 9 rfl rfl)
theorem dX5_log_171 : decode cX5_log 171 = .ok (.if_icmp .le 37, 3) := dk_164 0 37 (dk_at dksX5_log_7 10 rfl rfl)
theorem dX5_log_174 : decode cX5_log 174 = .ok (.aload_n 0, 1) := dk_42 (dk_at dksX5_log_7 13 rfl rfl)
theorem dX5_log_175 : decode cX5_log 175 = .ok (.getfield 47, 3) := dk_180 0 47 (dk_at dksX5_log_7 14 rfl rfl)
theorem dX5_log_178 : decode cX5_log 178 = .ok (.bipush 61, 2) := dk_16 61 (dk_at dksX5_log_7 17 rfl rfl)
theorem dX5_log_180 : decode cX5_log 180 = .ok (.iload_n 1, 1) := dk_27 (dk_at dksX5_log_7 19 rfl rfl)
theorem dX5_log_181 : decode cX5_log 181 = .ok (.imul, 1) := dk_104 (dk_at dksX5_log_7 20 rfl rfl)
theorem dX5_log_182 : decode cX5_log 182 = .ok (.iload 7, 2) := dk_21 7 (dk_at dksX5_log_7 21 rfl rfl)
theorem dX5_log_184 : decode cX5_log 184 = .ok (.iadd, 1) := dk_96 (dk_at dksX5_log_7 23 rfl rfl)
theorem dX5_log_185 : decode cX5_log 185 = .ok (.iconst 1, 1) := dk_4 (dk_at dksX5_log_8 0 rfl rfl)
theorem dX5_log_186 : decode cX5_log 186 = .ok (.isub, 1) := dk_100 (dk_at dksX5_log_8 1 rfl rfl)
theorem dX5_log_187 : decode cX5_log 187 = .ok (.baload, 1) := dk_51 (dk_at dksX5_log_8 2 rfl rfl)
theorem dX5_log_188 : decode cX5_log 188 = .ok (.ifCond .eq 20, 3) := dk_153 0 20 (dk_at dksX5_log_8 3 rfl rfl)
theorem dX5_log_191 : decode cX5_log 191 = .ok (.aload_n 0, 1) := dk_42 (dk_at dksX5_log_8 6 rfl rfl)
theorem dX5_log_192 : decode cX5_log 192 = .ok (.getfield 50, 3) := dk_180 0 50 (dk_at dksX5_log_8 7 rfl rfl)
theorem dX5_log_195 : decode cX5_log 195 = .ok (.bipush 61, 2) := dk_16 61 (dk_at dksX5_log_8 10 rfl rfl)
theorem dX5_log_197 : decode cX5_log 197 = .ok (.iload_n 1, 1) := dk_27 (dk_at dksX5_log_8 12 rfl rfl)
theorem dX5_log_198 : decode cX5_log 198 = .ok (.imul, 1) := dk_104 (dk_at dksX5_log_8 13 rfl rfl)
theorem dX5_log_199 : decode cX5_log 199 = .ok (.iload 7, 2) := dk_21 7 (dk_at dksX5_log_8 14 rfl rfl)
theorem dX5_log_201 : decode cX5_log 201 = .ok (.iadd, 1) := dk_96 (dk_at dksX5_log_8 16 rfl rfl)
theorem dX5_log_202 : decode cX5_log 202 = .ok (.iconst 1, 1) := dk_4 (dk_at dksX5_log_8 17 rfl rfl)
theorem dX5_log_203 : decode cX5_log 203 = .ok (.isub, 1) := dk_100 (dk_at dksX5_log_8 18 rfl rfl)
theorem dX5_log_204 : decode cX5_log 204 = .ok (.iaload, 1) := dk_46 (dk_at dksX5_log_8 19 rfl rfl)
theorem dX5_log_205 : decode cX5_log 205 = .ok (.goto 4, 3) := dk_167 0 4 (dk_at dksX5_log_8 20 rfl rfl)
theorem dX5_log_208 : decode cX5_log 208 = .ok (.iconst 0, 1) := dk_3 (dk_at dksX5_log_8 23 rfl rfl)
theorem dX5_log_209 : decode cX5_log 209 = .ok (.istore 11, 2) := dk_54 11 (dk_at dksX5_log_9 0 rfl rfl)
theorem dX5_log_211 : decode cX5_log 211 = .ok (.aload_n 0, 1) := dk_42 (dk_at dksX5_log_9 2 rfl rfl)
theorem dX5_log_212 : decode cX5_log 212 = .ok (.getfield 50, 3) := dk_180 0 50 (dk_at dksX5_log_9 3 rfl rfl)
theorem dX5_log_215 : decode cX5_log 215 = .ok (.bipush 61, 2) := dk_16 61 (dk_at dksX5_log_9 6 rfl rfl)
theorem dX5_log_217 : decode cX5_log 217 = .ok (.iload_n 1, 1) := dk_27 (dk_at dksX5_log_9 8 rfl rfl)
theorem dX5_log_218 : decode cX5_log 218 = .ok (.imul, 1) := dk_104 (dk_at dksX5_log_9 9 rfl rfl)
theorem dX5_log_219 : decode cX5_log 219 = .ok (.iload 7, 2) := dk_21 7 (dk_at dksX5_log_9 10 rfl rfl)
theorem dX5_log_221 : decode cX5_log 221 = .ok (.iadd, 1) := dk_96 (dk_at dksX5_log_9 12 rfl rfl)
theorem dX5_log_222 : decode cX5_log 222 = .ok (.aload_n 0, 1) := dk_42 (dk_at dksX5_log_9 13 rfl rfl)
theorem dX5_log_223 : decode cX5_log 223 = .ok (.getfield 218, 3) := dk_180 0 218 (dk_at dksX5_log_9 14 rfl rfl)
theorem dX5_log_226 : decode cX5_log 226 = .ok (.iload 10, 2) := dk_21 10 (dk_at dksX5_log_9 17 rfl rfl)
theorem dX5_log_228 : decode cX5_log 228 = .ok (.baload, 1) := dk_51 (dk_at dksX5_log_9 19 rfl rfl)
theorem dX5_log_229 : decode cX5_log 229 = .ok (.ifCond .eq 8, 3) := dk_153 0 8 (dk_at dksX5_log_9 20 rfl rfl)
theorem dX5_log_232 : decode cX5_log 232 = .ok (.iload 11, 2) := dk_21 11 (dk_at dksX5_log_10 0 rfl rfl)
theorem dX5_log_234 : decode cX5_log 234 = .ok (.goto 11, 3) := dk_167 0 11 (dk_at dksX5_log_10 2 rfl rfl)
theorem dX5_log_237 : decode cX5_log 237 = .ok (.aload_n 0, 1) := dk_42 (dk_at dksX5_log_10 5 rfl rfl)
theorem dX5_log_238 : decode cX5_log 238 = .ok (.getfield 214, 3) := dk_180 0 214 (dk_at dksX5_log_10 6 rfl rfl)
theorem dX5_log_241 : decode cX5_log 241 = .ok (.iload 10, 2) := dk_21 10 (dk_at dksX5_log_10 9 rfl rfl)
theorem dX5_log_243 : decode cX5_log 243 = .ok (.laload, 1) := dk_47 (dk_at dksX5_log_10 11 rfl rfl)
theorem dX5_log_244 : decode cX5_log 244 = .ok (.l2i, 1) := dk_136 (dk_at dksX5_log_10 12 rfl rfl)
theorem dX5_log_245 : decode cX5_log 245 = .ok (.iastore, 1) := dk_79 (dk_at dksX5_log_10 13 rfl rfl)
theorem dX5_log_246 : decode cX5_log 246 = .ok (.aload_n 0, 1) := dk_42 (dk_at dksX5_log_10 14 rfl rfl)
theorem dX5_log_247 : decode cX5_log 247 = .ok (.getfield 47, 3) := dk_180 0 47 (dk_at dksX5_log_10 15 rfl rfl)
theorem dX5_log_250 : decode cX5_log 250 = .ok (.bipush 61, 2) := dk_16 61 (dk_at dksX5_log_10 18 rfl rfl)
theorem dX5_log_252 : decode cX5_log 252 = .ok (.iload_n 1, 1) := dk_27 (dk_at dksX5_log_10 20 rfl rfl)
theorem dX5_log_253 : decode cX5_log 253 = .ok (.imul, 1) := dk_104 (dk_at dksX5_log_10 21 rfl rfl)
theorem dX5_log_254 : decode cX5_log 254 = .ok (.iload 7, 2) := dk_21 7 (dk_at dksX5_log_10 22 rfl rfl)
theorem dX5_log_256 : decode cX5_log 256 = .ok (.iadd, 1) := dk_96 (dk_at dksX5_log_11 0 rfl rfl)
theorem dX5_log_257 : decode cX5_log 257 = .ok (.iconst 1, 1) := dk_4 (dk_at dksX5_log_11 1 rfl rfl)
theorem dX5_log_258 : decode cX5_log 258 = .ok (.bastore, 1) := dk_84 (dk_at dksX5_log_11 2 rfl rfl)
theorem dX5_log_259 : decode cX5_log 259 = .ok (.iinc 6 1, 3) := dk_132 6 1 (dk_at dksX5_log_11 3 rfl rfl)
theorem dX5_log_262 : decode cX5_log 262 = .ok (.goto (-199), 3) := dk_167 255 57 (dk_at dksX5_log_11 6 rfl rfl)
theorem dX5_log_265 : decode cX5_log 265 = .ok (.iload 5, 2) := dk_21 5 (dk_at dksX5_log_11 9 rfl rfl)
theorem dX5_log_267 : decode cX5_log 267 = .ok (.ireturn, 1) := dk_172 (dk_at dksX5_log_11 11 rfl rfl)
abbrev cX5_isShelf : ByteArray := prog_22_method_107_code
def yX5_isShelf : MethodName := ⟨RX5, "isShelf", "(I)Z"⟩
def dkwX5_isShelf_0 : List UInt8 := [26, 3, 8, 184, 0, 230, 172]
abbrev dktX5_isShelf_0 : List UInt8 := dkwX5_isShelf_0 ++ []
theorem dksX5_isShelf_0 : cX5_isShelf.data.toList.drop 0 = dktX5_isShelf_0 := by decide +kernel
theorem dX5_isShelf_0 : decode cX5_isShelf 0 = .ok (.iload_n 0, 1) := dk_26 (dk_at dksX5_isShelf_0 0 rfl rfl)
theorem dX5_isShelf_1 : decode cX5_isShelf 1 = .ok (.iconst 0, 1) := dk_3 (dk_at dksX5_isShelf_0 1 rfl rfl)
theorem dX5_isShelf_2 : decode cX5_isShelf 2 = .ok (.iconst 5, 1) := dk_8 (dk_at dksX5_isShelf_0 2 rfl rfl)
theorem dX5_isShelf_3 : decode cX5_isShelf 3 = .ok (.invokestatic 230, 3) := dk_184 0 230 (dk_at dksX5_isShelf_0 3 rfl rfl)
theorem dX5_isShelf_6 : decode cX5_isShelf 6 = .ok (.ireturn, 1) := dk_172 (dk_at dksX5_isShelf_0 6 rfl rfl)
abbrev cX5_isReals : ByteArray := prog_22_method_108_code
def yX5_isReals : MethodName := ⟨RX5, "isReals", "(I)Z"⟩
def dkwX5_isReals_1 : List UInt8 := [167, 0, 4, 3, 172]
abbrev dktX5_isReals_1 : List UInt8 := dkwX5_isReals_1 ++ []
def dkwX5_isReals_0 : List UInt8 := [42, 180, 0, 208, 27, 46, 16, 251, 159, 0, 14, 42, 180, 0, 208, 27, 46, 16, 250, 160, 0, 7, 4]
abbrev dktX5_isReals_0 : List UInt8 := dkwX5_isReals_0 ++ dktX5_isReals_1
theorem dksX5_isReals_0 : cX5_isReals.data.toList.drop 0 = dktX5_isReals_0 := by decide +kernel
theorem dksX5_isReals_1 : cX5_isReals.data.toList.drop 23 = dktX5_isReals_1 := dk_seg dksX5_isReals_0 23 rfl rfl
theorem dX5_isReals_0 : decode cX5_isReals 0 = .ok (.aload_n 0, 1) := dk_42 (dk_at dksX5_isReals_0 0 rfl rfl)
theorem dX5_isReals_1 : decode cX5_isReals 1 = .ok (.getfield 208, 3) := dk_180 0 208 (dk_at dksX5_isReals_0 1 rfl rfl)
theorem dX5_isReals_4 : decode cX5_isReals 4 = .ok (.iload_n 1, 1) := dk_27 (dk_at dksX5_isReals_0 4 rfl rfl)
theorem dX5_isReals_5 : decode cX5_isReals 5 = .ok (.iaload, 1) := dk_46 (dk_at dksX5_isReals_0 5 rfl rfl)
theorem dX5_isReals_6 : decode cX5_isReals 6 = .ok (.bipush (-5), 2) := dk_16 251 (dk_at dksX5_isReals_0 6 rfl rfl)
theorem dX5_isReals_8 : decode cX5_isReals 8 = .ok (.if_icmp .eq 14, 3) := dk_159 0 14 (dk_at dksX5_isReals_0 8 rfl rfl)
theorem dX5_isReals_11 : decode cX5_isReals 11 = .ok (.aload_n 0, 1) := dk_42 (dk_at dksX5_isReals_0 11 rfl rfl)
theorem dX5_isReals_12 : decode cX5_isReals 12 = .ok (.getfield 208, 3) := dk_180 0 208 (dk_at dksX5_isReals_0 12 rfl rfl)
theorem dX5_isReals_15 : decode cX5_isReals 15 = .ok (.iload_n 1, 1) := dk_27 (dk_at dksX5_isReals_0 15 rfl rfl)
theorem dX5_isReals_16 : decode cX5_isReals 16 = .ok (.iaload, 1) := dk_46 (dk_at dksX5_isReals_0 16 rfl rfl)
theorem dX5_isReals_17 : decode cX5_isReals 17 = .ok (.bipush (-6), 2) := dk_16 250 (dk_at dksX5_isReals_0 17 rfl rfl)
theorem dX5_isReals_19 : decode cX5_isReals 19 = .ok (.if_icmp .ne 7, 3) := dk_160 0 7 (dk_at dksX5_isReals_0 19 rfl rfl)
theorem dX5_isReals_22 : decode cX5_isReals 22 = .ok (.iconst 1, 1) := dk_4 (dk_at dksX5_isReals_0 22 rfl rfl)
theorem dX5_isReals_23 : decode cX5_isReals 23 = .ok (.goto 4, 3) := dk_167 0 4 (dk_at dksX5_isReals_1 0 rfl rfl)
theorem dX5_isReals_26 : decode cX5_isReals 26 = .ok (.iconst 0, 1) := dk_3 (dk_at dksX5_isReals_1 3 rfl rfl)
theorem dX5_isReals_27 : decode cX5_isReals 27 = .ok (.ireturn, 1) := dk_172 (dk_at dksX5_isReals_1 4 rfl rfl)
abbrev cX5_canBe : ByteArray := prog_22_method_36_code
def yX5_canBe : MethodName := ⟨RX5, "canBe", "(III)I"⟩
def dkwX5_canBe_2 : List UInt8 := [167, 0, 4, 2, 172]
abbrev dktX5_canBe_2 : List UInt8 := dkwX5_canBe_2 ++ []
def dkwX5_canBe_1 : List UInt8 := [4, 184, 0, 230, 153, 0, 22, 42, 27, 28, 29, 4, 160, 0, 7, 4, 167, 0, 4, 3, 182, 1, 41]
abbrev dktX5_canBe_1 : List UInt8 := dkwX5_canBe_1 ++ dktX5_canBe_2
def dkwX5_canBe_0 : List UInt8 := [42, 27, 182, 1, 12, 153, 0, 45, 28, 4, 42, 180, 0, 32, 27, 46, 184, 0, 230, 153, 0, 31, 29, 3]
abbrev dktX5_canBe_0 : List UInt8 := dkwX5_canBe_0 ++ dktX5_canBe_1
theorem dksX5_canBe_0 : cX5_canBe.data.toList.drop 0 = dktX5_canBe_0 := by decide +kernel
theorem dksX5_canBe_1 : cX5_canBe.data.toList.drop 24 = dktX5_canBe_1 := dk_seg dksX5_canBe_0 24 rfl rfl
theorem dksX5_canBe_2 : cX5_canBe.data.toList.drop 47 = dktX5_canBe_2 := dk_seg dksX5_canBe_1 23 rfl rfl
theorem dX5_canBe_0 : decode cX5_canBe 0 = .ok (.aload_n 0, 1) := dk_42 (dk_at dksX5_canBe_0 0 rfl rfl)
theorem dX5_canBe_1 : decode cX5_canBe 1 = .ok (.iload_n 1, 1) := dk_27 (dk_at dksX5_canBe_0 1 rfl rfl)
theorem dX5_canBe_2 : decode cX5_canBe 2 = .ok (.invokevirtual 268, 3) := dk_182 1 12 (dk_at dksX5_canBe_0 2 rfl rfl)
theorem dX5_canBe_5 : decode cX5_canBe 5 = .ok (.ifCond .eq 45, 3) := dk_153 0 45 (dk_at dksX5_canBe_0 5 rfl rfl)
theorem dX5_canBe_8 : decode cX5_canBe 8 = .ok (.iload_n 2, 1) := dk_28 (dk_at dksX5_canBe_0 8 rfl rfl)
theorem dX5_canBe_9 : decode cX5_canBe 9 = .ok (.iconst 1, 1) := dk_4 (dk_at dksX5_canBe_0 9 rfl rfl)
theorem dX5_canBe_10 : decode cX5_canBe 10 = .ok (.aload_n 0, 1) := dk_42 (dk_at dksX5_canBe_0 10 rfl rfl)
theorem dX5_canBe_11 : decode cX5_canBe 11 = .ok (.getfield 32, 3) := dk_180 0 32 (dk_at dksX5_canBe_0 11 rfl rfl)
theorem dX5_canBe_14 : decode cX5_canBe 14 = .ok (.iload_n 1, 1) := dk_27 (dk_at dksX5_canBe_0 14 rfl rfl)
theorem dX5_canBe_15 : decode cX5_canBe 15 = .ok (.iaload, 1) := dk_46 (dk_at dksX5_canBe_0 15 rfl rfl)
theorem dX5_canBe_16 : decode cX5_canBe 16 = .ok (.invokestatic 230, 3) := dk_184 0 230 (dk_at dksX5_canBe_0 16 rfl rfl)
theorem dX5_canBe_19 : decode cX5_canBe 19 = .ok (.ifCond .eq 31, 3) := dk_153 0 31 (dk_at dksX5_canBe_0 19 rfl rfl)
theorem dX5_canBe_22 : decode cX5_canBe 22 = .ok (.iload_n 3, 1) := dk_29 (dk_at dksX5_canBe_0 22 rfl rfl)
theorem dX5_canBe_23 : decode cX5_canBe 23 = .ok (.iconst 0, 1) := dk_3 (dk_at dksX5_canBe_0 23 rfl rfl)
theorem dX5_canBe_24 : decode cX5_canBe 24 = .ok (.iconst 1, 1) := dk_4 (dk_at dksX5_canBe_1 0 rfl rfl)
theorem dX5_canBe_25 : decode cX5_canBe 25 = .ok (.invokestatic 230, 3) := dk_184 0 230 (dk_at dksX5_canBe_1 1 rfl rfl)
theorem dX5_canBe_28 : decode cX5_canBe 28 = .ok (.ifCond .eq 22, 3) := dk_153 0 22 (dk_at dksX5_canBe_1 4 rfl rfl)
theorem dX5_canBe_31 : decode cX5_canBe 31 = .ok (.aload_n 0, 1) := dk_42 (dk_at dksX5_canBe_1 7 rfl rfl)
theorem dX5_canBe_32 : decode cX5_canBe 32 = .ok (.iload_n 1, 1) := dk_27 (dk_at dksX5_canBe_1 8 rfl rfl)
theorem dX5_canBe_33 : decode cX5_canBe 33 = .ok (.iload_n 2, 1) := dk_28 (dk_at dksX5_canBe_1 9 rfl rfl)
theorem dX5_canBe_34 : decode cX5_canBe 34 = .ok (.iload_n 3, 1) := dk_29 (dk_at dksX5_canBe_1 10 rfl rfl)
theorem dX5_canBe_35 : decode cX5_canBe 35 = .ok (.iconst 1, 1) := dk_4 (dk_at dksX5_canBe_1 11 rfl rfl)
theorem dX5_canBe_36 : decode cX5_canBe 36 = .ok (.if_icmp .ne 7, 3) := dk_160 0 7 (dk_at dksX5_canBe_1 12 rfl rfl)
theorem dX5_canBe_39 : decode cX5_canBe 39 = .ok (.iconst 1, 1) := dk_4 (dk_at dksX5_canBe_1 15 rfl rfl)
theorem dX5_canBe_40 : decode cX5_canBe 40 = .ok (.goto 4, 3) := dk_167 0 4 (dk_at dksX5_canBe_1 16 rfl rfl)
theorem dX5_canBe_43 : decode cX5_canBe 43 = .ok (.iconst 0, 1) := dk_3 (dk_at dksX5_canBe_1 19 rfl rfl)
theorem dX5_canBe_44 : decode cX5_canBe 44 = .ok (.invokevirtual 297, 3) := dk_182 1 41 (dk_at dksX5_canBe_1 20 rfl rfl)
theorem dX5_canBe_47 : decode cX5_canBe 47 = .ok (.goto 4, 3) := dk_167 0 4 (dk_at dksX5_canBe_2 0 rfl rfl)
theorem dX5_canBe_50 : decode cX5_canBe 50 = .ok (.iconst (-1), 1) := dk_2 (dk_at dksX5_canBe_2 3 rfl rfl)
theorem dX5_canBe_51 : decode cX5_canBe 51 = .ok (.ireturn, 1) := dk_172 (dk_at dksX5_canBe_2 4 rfl rfl)
abbrev cX5_canBeAt : ByteArray := prog_22_method_35_code
def yX5_canBeAt : MethodName := ⟨RX5, "canBeAt", "(IIZ)I"⟩
def dkwX5_canBeAt_4 : List UInt8 := [184, 1, 38, 116, 167, 0, 8, 21, 4, 184, 1, 38, 3, 16, 31, 184, 1, 28, 172]
abbrev dktX5_canBeAt_4 : List UInt8 := dkwX5_canBeAt_4 ++ []
def dkwX5_canBeAt_3 : List UInt8 := [16, 8, 167, 0, 5, 16, 248, 96, 54, 4, 132, 5, 1, 167, 255, 185, 29, 153, 0, 13, 21, 4, 116]
abbrev dktX5_canBeAt_3 : List UInt8 := dkwX5_canBeAt_3 ++ dktX5_canBeAt_4
def dkwX5_canBeAt_2 : List UInt8 := [29, 153, 0, 10, 42, 180, 0, 78, 167, 0, 8, 42, 180, 0, 78, 116, 96, 167, 0, 14, 29, 153, 0, 8]
abbrev dktX5_canBeAt_2 : List UInt8 := dkwX5_canBeAt_2 ++ dktX5_canBeAt_3
def dkwX5_canBeAt_1 : List UInt8 := [21, 5, 96, 54, 6, 21, 4, 42, 180, 0, 47, 21, 6, 51, 153, 0, 30, 42, 180, 0, 50, 21, 6, 46]
abbrev dktX5_canBeAt_1 : List UInt8 := dkwX5_canBeAt_1 ++ dktX5_canBeAt_2
def dkwX5_canBeAt_0 : List UInt8 := [7, 42, 180, 0, 20, 27, 46, 104, 54, 4, 4, 54, 5, 21, 5, 28, 163, 0, 71, 16, 61, 27, 104]
abbrev dktX5_canBeAt_0 : List UInt8 := dkwX5_canBeAt_0 ++ dktX5_canBeAt_1
theorem dksX5_canBeAt_0 : cX5_canBeAt.data.toList.drop 0 = dktX5_canBeAt_0 := by decide +kernel
theorem dksX5_canBeAt_1 : cX5_canBeAt.data.toList.drop 23 = dktX5_canBeAt_1 := dk_seg dksX5_canBeAt_0 23 rfl rfl
theorem dksX5_canBeAt_2 : cX5_canBeAt.data.toList.drop 47 = dktX5_canBeAt_2 := dk_seg dksX5_canBeAt_1 24 rfl rfl
theorem dksX5_canBeAt_3 : cX5_canBeAt.data.toList.drop 71 = dktX5_canBeAt_3 := dk_seg dksX5_canBeAt_2 24 rfl rfl
theorem dksX5_canBeAt_4 : cX5_canBeAt.data.toList.drop 94 = dktX5_canBeAt_4 := dk_seg dksX5_canBeAt_3 23 rfl rfl
theorem dX5_canBeAt_0 : decode cX5_canBeAt 0 = .ok (.iconst 4, 1) := dk_7 (dk_at dksX5_canBeAt_0 0 rfl rfl)
theorem dX5_canBeAt_1 : decode cX5_canBeAt 1 = .ok (.aload_n 0, 1) := dk_42 (dk_at dksX5_canBeAt_0 1 rfl rfl)
theorem dX5_canBeAt_2 : decode cX5_canBeAt 2 = .ok (.getfield 20, 3) := dk_180 0 20 (dk_at dksX5_canBeAt_0 2 rfl rfl)
theorem dX5_canBeAt_5 : decode cX5_canBeAt 5 = .ok (.iload_n 1, 1) := dk_27 (dk_at dksX5_canBeAt_0 5 rfl rfl)
theorem dX5_canBeAt_6 : decode cX5_canBeAt 6 = .ok (.iaload, 1) := dk_46 (dk_at dksX5_canBeAt_0 6 rfl rfl)
theorem dX5_canBeAt_7 : decode cX5_canBeAt 7 = .ok (.imul, 1) := dk_104 (dk_at dksX5_canBeAt_0 7 rfl rfl)
theorem dX5_canBeAt_8 : decode cX5_canBeAt 8 = .ok (.istore 4, 2) := dk_54 4 (dk_at dksX5_canBeAt_0 8 rfl rfl)
theorem dX5_canBeAt_10 : decode cX5_canBeAt 10 = .ok (.iconst 1, 1) := dk_4 (dk_at dksX5_canBeAt_0 10 rfl rfl)
theorem dX5_canBeAt_11 : decode cX5_canBeAt 11 = .ok (.istore 5, 2) := dk_54 5 (dk_at dksX5_canBeAt_0 11 rfl rfl)
theorem dX5_canBeAt_13 : decode cX5_canBeAt 13 = .ok (.iload 5, 2) := dk_21 5 (dk_at dksX5_canBeAt_0 13 rfl rfl)
theorem dX5_canBeAt_15 : decode cX5_canBeAt 15 = .ok (.iload_n 2, 1) := dk_28 (dk_at dksX5_canBeAt_0 15 rfl rfl)
theorem dX5_canBeAt_16 : decode cX5_canBeAt 16 = .ok (.if_icmp .gt 71, 3) := dk_163 0 71 (dk_at dksX5_canBeAt_0 16 rfl rfl)
theorem dX5_canBeAt_19 : decode cX5_canBeAt 19 = .ok (.bipush 61, 2) := dk_16 61 (dk_at dksX5_canBeAt_0 19 rfl rfl)
theorem dX5_canBeAt_21 : decode cX5_canBeAt 21 = .ok (.iload_n 1, 1) := dk_27 (dk_at dksX5_canBeAt_0 21 rfl rfl)
theorem dX5_canBeAt_22 : decode cX5_canBeAt 22 = .ok (.imul, 1) := dk_104 (dk_at dksX5_canBeAt_0 22 rfl rfl)
theorem dX5_canBeAt_23 : decode cX5_canBeAt 23 = .ok (.iload 5, 2) := dk_21 5 (dk_at dksX5_canBeAt_1 0 rfl rfl)
theorem dX5_canBeAt_25 : decode cX5_canBeAt 25 = .ok (.iadd, 1) := dk_96 (dk_at dksX5_canBeAt_1 2 rfl rfl)
theorem dX5_canBeAt_26 : decode cX5_canBeAt 26 = .ok (.istore 6, 2) := dk_54 6 (dk_at dksX5_canBeAt_1 3 rfl rfl)
theorem dX5_canBeAt_28 : decode cX5_canBeAt 28 = .ok (.iload 4, 2) := dk_21 4 (dk_at dksX5_canBeAt_1 5 rfl rfl)
theorem dX5_canBeAt_30 : decode cX5_canBeAt 30 = .ok (.aload_n 0, 1) := dk_42 (dk_at dksX5_canBeAt_1 7 rfl rfl)
theorem dX5_canBeAt_31 : decode cX5_canBeAt 31 = .ok (.getfield 47, 3) := dk_180 0 47 (dk_at dksX5_canBeAt_1 8 rfl rfl)
theorem dX5_canBeAt_34 : decode cX5_canBeAt 34 = .ok (.iload 6, 2) := dk_21 6 (dk_at dksX5_canBeAt_1 11 rfl rfl)
theorem dX5_canBeAt_36 : decode cX5_canBeAt 36 = .ok (.baload, 1) := dk_51 (dk_at dksX5_canBeAt_1 13 rfl rfl)
theorem dX5_canBeAt_37 : decode cX5_canBeAt 37 = .ok (.ifCond .eq 30, 3) := dk_153 0 30 (dk_at dksX5_canBeAt_1 14 rfl rfl)
theorem dX5_canBeAt_40 : decode cX5_canBeAt 40 = .ok (.aload_n 0, 1) := dk_42 (dk_at dksX5_canBeAt_1 17 rfl rfl)
theorem dX5_canBeAt_41 : decode cX5_canBeAt 41 = .ok (.getfield 50, 3) := dk_180 0 50 (dk_at dksX5_canBeAt_1 18 rfl rfl)
theorem dX5_canBeAt_44 : decode cX5_canBeAt 44 = .ok (.iload 6, 2) := dk_21 6 (dk_at dksX5_canBeAt_1 21 rfl rfl)
theorem dX5_canBeAt_46 : decode cX5_canBeAt 46 = .ok (.iaload, 1) := dk_46 (dk_at dksX5_canBeAt_1 23 rfl rfl)
theorem dX5_canBeAt_47 : decode cX5_canBeAt 47 = .ok (.iload_n 3, 1) := dk_29 (dk_at dksX5_canBeAt_2 0 rfl rfl)
theorem dX5_canBeAt_48 : decode cX5_canBeAt 48 = .ok (.ifCond .eq 10, 3) := dk_153 0 10 (dk_at dksX5_canBeAt_2 1 rfl rfl)
theorem dX5_canBeAt_51 : decode cX5_canBeAt 51 = .ok (.aload_n 0, 1) := dk_42 (dk_at dksX5_canBeAt_2 4 rfl rfl)
theorem dX5_canBeAt_52 : decode cX5_canBeAt 52 = .ok (.getfield 78, 3) := dk_180 0 78 (dk_at dksX5_canBeAt_2 5 rfl rfl)
theorem dX5_canBeAt_55 : decode cX5_canBeAt 55 = .ok (.goto 8, 3) := dk_167 0 8 (dk_at dksX5_canBeAt_2 8 rfl rfl)
theorem dX5_canBeAt_58 : decode cX5_canBeAt 58 = .ok (.aload_n 0, 1) := dk_42 (dk_at dksX5_canBeAt_2 11 rfl rfl)
theorem dX5_canBeAt_59 : decode cX5_canBeAt 59 = .ok (.getfield 78, 3) := dk_180 0 78 (dk_at dksX5_canBeAt_2 12 rfl rfl)
theorem dX5_canBeAt_62 : decode cX5_canBeAt 62 = .ok (.ineg, 1) := dk_116 (dk_at dksX5_canBeAt_2 15 rfl rfl)
theorem dX5_canBeAt_63 : decode cX5_canBeAt 63 = .ok (.iadd, 1) := dk_96 (dk_at dksX5_canBeAt_2 16 rfl rfl)
theorem dX5_canBeAt_64 : decode cX5_canBeAt 64 = .ok (.goto 14, 3) := dk_167 0 14 (dk_at dksX5_canBeAt_2 17 rfl rfl)
theorem dX5_canBeAt_67 : decode cX5_canBeAt 67 = .ok (.iload_n 3, 1) := dk_29 (dk_at dksX5_canBeAt_2 20 rfl rfl)
theorem dX5_canBeAt_68 : decode cX5_canBeAt 68 = .ok (.ifCond .eq 8, 3) := dk_153 0 8 (dk_at dksX5_canBeAt_2 21 rfl rfl)
theorem dX5_canBeAt_71 : decode cX5_canBeAt 71 = .ok (.bipush 8, 2) := dk_16 8 (dk_at dksX5_canBeAt_3 0 rfl rfl)
theorem dX5_canBeAt_73 : decode cX5_canBeAt 73 = .ok (.goto 5, 3) := dk_167 0 5 (dk_at dksX5_canBeAt_3 2 rfl rfl)
theorem dX5_canBeAt_76 : decode cX5_canBeAt 76 = .ok (.bipush (-8), 2) := dk_16 248 (dk_at dksX5_canBeAt_3 5 rfl rfl)
theorem dX5_canBeAt_78 : decode cX5_canBeAt 78 = .ok (.iadd, 1) := dk_96 (dk_at dksX5_canBeAt_3 7 rfl rfl)
theorem dX5_canBeAt_79 : decode cX5_canBeAt 79 = .ok (.istore 4, 2) := dk_54 4 (dk_at dksX5_canBeAt_3 8 rfl rfl)
theorem dX5_canBeAt_81 : decode cX5_canBeAt 81 = .ok (.iinc 5 1, 3) := dk_132 5 1 (dk_at dksX5_canBeAt_3 10 rfl rfl)
theorem dX5_canBeAt_84 : decode cX5_canBeAt 84 = .ok (.goto (-71), 3) := dk_167 255 185 (dk_at dksX5_canBeAt_3 13 rfl rfl)
theorem dX5_canBeAt_87 : decode cX5_canBeAt 87 = .ok (.iload_n 3, 1) := dk_29 (dk_at dksX5_canBeAt_3 16 rfl rfl)
theorem dX5_canBeAt_88 : decode cX5_canBeAt 88 = .ok (.ifCond .eq 13, 3) := dk_153 0 13 (dk_at dksX5_canBeAt_3 17 rfl rfl)
theorem dX5_canBeAt_91 : decode cX5_canBeAt 91 = .ok (.iload 4, 2) := dk_21 4 (dk_at dksX5_canBeAt_3 20 rfl rfl)
theorem dX5_canBeAt_93 : decode cX5_canBeAt 93 = .ok (.ineg, 1) := dk_116 (dk_at dksX5_canBeAt_3 22 rfl rfl)
theorem dX5_canBeAt_94 : decode cX5_canBeAt 94 = .ok (.invokestatic 294, 3) := dk_184 1 38 (dk_at dksX5_canBeAt_4 0 rfl rfl)
theorem dX5_canBeAt_97 : decode cX5_canBeAt 97 = .ok (.ineg, 1) := dk_116 (dk_at dksX5_canBeAt_4 3 rfl rfl)
theorem dX5_canBeAt_98 : decode cX5_canBeAt 98 = .ok (.goto 8, 3) := dk_167 0 8 (dk_at dksX5_canBeAt_4 4 rfl rfl)
theorem dX5_canBeAt_101 : decode cX5_canBeAt 101 = .ok (.iload 4, 2) := dk_21 4 (dk_at dksX5_canBeAt_4 7 rfl rfl)
theorem dX5_canBeAt_103 : decode cX5_canBeAt 103 = .ok (.invokestatic 294, 3) := dk_184 1 38 (dk_at dksX5_canBeAt_4 9 rfl rfl)
theorem dX5_canBeAt_106 : decode cX5_canBeAt 106 = .ok (.iconst 0, 1) := dk_3 (dk_at dksX5_canBeAt_4 12 rfl rfl)
theorem dX5_canBeAt_107 : decode cX5_canBeAt 107 = .ok (.bipush 31, 2) := dk_16 31 (dk_at dksX5_canBeAt_4 13 rfl rfl)
theorem dX5_canBeAt_109 : decode cX5_canBeAt 109 = .ok (.invokestatic 284, 3) := dk_184 1 28 (dk_at dksX5_canBeAt_4 15 rfl rfl)
theorem dX5_canBeAt_112 : decode cX5_canBeAt 112 = .ok (.ireturn, 1) := dk_172 (dk_at dksX5_canBeAt_4 18 rfl rfl)
abbrev cX5_down4 : ByteArray := prog_22_method_34_code
def yX5_down4 : MethodName := ⟨RX5, "down4", "(I)I"⟩
def dkwX5_down4_0 : List UInt8 := [26, 155, 0, 9, 26, 7, 108, 167, 0, 9, 6, 26, 100, 7, 108, 116, 172]
abbrev dktX5_down4_0 : List UInt8 := dkwX5_down4_0 ++ []
theorem dksX5_down4_0 : cX5_down4.data.toList.drop 0 = dktX5_down4_0 := by decide +kernel
theorem dX5_down4_0 : decode cX5_down4 0 = .ok (.iload_n 0, 1) := dk_26 (dk_at dksX5_down4_0 0 rfl rfl)
theorem dX5_down4_1 : decode cX5_down4 1 = .ok (.ifCond .lt 9, 3) := dk_155 0 9 (dk_at dksX5_down4_0 1 rfl rfl)
theorem dX5_down4_4 : decode cX5_down4 4 = .ok (.iload_n 0, 1) := dk_26 (dk_at dksX5_down4_0 4 rfl rfl)
theorem dX5_down4_5 : decode cX5_down4 5 = .ok (.iconst 4, 1) := dk_7 (dk_at dksX5_down4_0 5 rfl rfl)
theorem dX5_down4_6 : decode cX5_down4 6 = .ok (.idiv, 1) := dk_108 (dk_at dksX5_down4_0 6 rfl rfl)
theorem dX5_down4_7 : decode cX5_down4 7 = .ok (.goto 9, 3) := dk_167 0 9 (dk_at dksX5_down4_0 7 rfl rfl)
theorem dX5_down4_10 : decode cX5_down4 10 = .ok (.iconst 3, 1) := dk_6 (dk_at dksX5_down4_0 10 rfl rfl)
theorem dX5_down4_11 : decode cX5_down4 11 = .ok (.iload_n 0, 1) := dk_26 (dk_at dksX5_down4_0 11 rfl rfl)
theorem dX5_down4_12 : decode cX5_down4 12 = .ok (.isub, 1) := dk_100 (dk_at dksX5_down4_0 12 rfl rfl)
theorem dX5_down4_13 : decode cX5_down4 13 = .ok (.iconst 4, 1) := dk_7 (dk_at dksX5_down4_0 13 rfl rfl)
theorem dX5_down4_14 : decode cX5_down4 14 = .ok (.idiv, 1) := dk_108 (dk_at dksX5_down4_0 14 rfl rfl)
theorem dX5_down4_15 : decode cX5_down4 15 = .ok (.ineg, 1) := dk_116 (dk_at dksX5_down4_0 15 rfl rfl)
theorem dX5_down4_16 : decode cX5_down4 16 = .ok (.ireturn, 1) := dk_172 (dk_at dksX5_down4_0 16 rfl rfl)
abbrev cX5_held : ByteArray := prog_22_method_5_code
def yX5_held : MethodName := ⟨RX5, "held", "(III)I"⟩
def dkwX5_held_0 : List UInt8 := [26, 27, 162, 0, 7, 27, 167, 0, 13, 26, 28, 164, 0, 7, 28, 167, 0, 4, 26, 172]
abbrev dktX5_held_0 : List UInt8 := dkwX5_held_0 ++ []
theorem dksX5_held_0 : cX5_held.data.toList.drop 0 = dktX5_held_0 := by decide +kernel
theorem dX5_held_0 : decode cX5_held 0 = .ok (.iload_n 0, 1) := dk_26 (dk_at dksX5_held_0 0 rfl rfl)
theorem dX5_held_1 : decode cX5_held 1 = .ok (.iload_n 1, 1) := dk_27 (dk_at dksX5_held_0 1 rfl rfl)
theorem dX5_held_2 : decode cX5_held 2 = .ok (.if_icmp .ge 7, 3) := dk_162 0 7 (dk_at dksX5_held_0 2 rfl rfl)
theorem dX5_held_5 : decode cX5_held 5 = .ok (.iload_n 1, 1) := dk_27 (dk_at dksX5_held_0 5 rfl rfl)
theorem dX5_held_6 : decode cX5_held 6 = .ok (.goto 13, 3) := dk_167 0 13 (dk_at dksX5_held_0 6 rfl rfl)
theorem dX5_held_9 : decode cX5_held 9 = .ok (.iload_n 0, 1) := dk_26 (dk_at dksX5_held_0 9 rfl rfl)
theorem dX5_held_10 : decode cX5_held 10 = .ok (.iload_n 2, 1) := dk_28 (dk_at dksX5_held_0 10 rfl rfl)
theorem dX5_held_11 : decode cX5_held 11 = .ok (.if_icmp .le 7, 3) := dk_164 0 7 (dk_at dksX5_held_0 11 rfl rfl)
theorem dX5_held_14 : decode cX5_held 14 = .ok (.iload_n 2, 1) := dk_28 (dk_at dksX5_held_0 14 rfl rfl)
theorem dX5_held_15 : decode cX5_held 15 = .ok (.goto 4, 3) := dk_167 0 4 (dk_at dksX5_held_0 15 rfl rfl)
theorem dX5_held_18 : decode cX5_held 18 = .ok (.iload_n 0, 1) := dk_26 (dk_at dksX5_held_0 18 rfl rfl)
theorem dX5_held_19 : decode cX5_held 19 = .ok (.ireturn, 1) := dk_172 (dk_at dksX5_held_0 19 rfl rfl)
abbrev cX5_map : ByteArray := prog_22_method_37_code
def yX5_map : MethodName := ⟨RX5, "map", "(II)I"⟩
def dkwX5_map_3 : List UInt8 := [180, 1, 45, 4, 96, 181, 1, 45, 42, 180, 1, 45, 4, 100, 172]
abbrev dktX5_map_3 : List UInt8 := dkwX5_map_3 ++ []
def dkwX5_map_2 : List UInt8 := [180, 0, 84, 42, 180, 1, 45, 27, 16, 100, 112, 79, 42, 180, 0, 87, 42, 180, 1, 45, 28, 79, 42, 89]
abbrev dktX5_map_2 : List UInt8 := dkwX5_map_2 ++ dktX5_map_3
def dkwX5_map_1 : List UInt8 := [16, 8, 160, 0, 6, 16, 253, 172, 42, 180, 0, 81, 42, 180, 1, 45, 27, 16, 100, 108, 79, 42]
abbrev dktX5_map_1 : List UInt8 := dkwX5_map_1 ++ dktX5_map_2
def dkwX5_map_0 : List UInt8 := [27, 184, 0, 255, 153, 0, 13, 28, 4, 16, 60, 184, 0, 230, 154, 0, 5, 2, 172, 42, 180, 1, 45]
abbrev dktX5_map_0 : List UInt8 := dkwX5_map_0 ++ dktX5_map_1
theorem dksX5_map_0 : cX5_map.data.toList.drop 0 = dktX5_map_0 := by decide +kernel
theorem dksX5_map_1 : cX5_map.data.toList.drop 23 = dktX5_map_1 := dk_seg dksX5_map_0 23 rfl rfl
theorem dksX5_map_2 : cX5_map.data.toList.drop 45 = dktX5_map_2 := dk_seg dksX5_map_1 22 rfl rfl
theorem dksX5_map_3 : cX5_map.data.toList.drop 69 = dktX5_map_3 := dk_seg dksX5_map_2 24 rfl rfl
theorem dX5_map_0 : decode cX5_map 0 = .ok (.iload_n 1, 1) := dk_27 (dk_at dksX5_map_0 0 rfl rfl)
theorem dX5_map_1 : decode cX5_map 1 = .ok (.invokestatic 255, 3) := dk_184 0 255 (dk_at dksX5_map_0 1 rfl rfl)
theorem dX5_map_4 : decode cX5_map 4 = .ok (.ifCond .eq 13, 3) := dk_153 0 13 (dk_at dksX5_map_0 4 rfl rfl)
theorem dX5_map_7 : decode cX5_map 7 = .ok (.iload_n 2, 1) := dk_28 (dk_at dksX5_map_0 7 rfl rfl)
theorem dX5_map_8 : decode cX5_map 8 = .ok (.iconst 1, 1) := dk_4 (dk_at dksX5_map_0 8 rfl rfl)
theorem dX5_map_9 : decode cX5_map 9 = .ok (.bipush 60, 2) := dk_16 60 (dk_at dksX5_map_0 9 rfl rfl)
theorem dX5_map_11 : decode cX5_map 11 = .ok (.invokestatic 230, 3) := dk_184 0 230 (dk_at dksX5_map_0 11 rfl rfl)
theorem dX5_map_14 : decode cX5_map 14 = .ok (.ifCond .ne 5, 3) := dk_154 0 5 (dk_at dksX5_map_0 14 rfl rfl)
theorem dX5_map_17 : decode cX5_map 17 = .ok (.iconst (-1), 1) := dk_2 (dk_at dksX5_map_0 17 rfl rfl)
theorem dX5_map_18 : decode cX5_map 18 = .ok (.ireturn, 1) := dk_172 (dk_at dksX5_map_0 18 rfl rfl)
theorem dX5_map_19 : decode cX5_map 19 = .ok (.aload_n 0, 1) := dk_42 (dk_at dksX5_map_0 19 rfl rfl)
theorem dX5_map_20 : decode cX5_map 20 = .ok (.getfield 301, 3) := dk_180 1 45 (dk_at dksX5_map_0 20 rfl rfl)
theorem dX5_map_23 : decode cX5_map 23 = .ok (.bipush 8, 2) := dk_16 8 (dk_at dksX5_map_1 0 rfl rfl)
theorem dX5_map_25 : decode cX5_map 25 = .ok (.if_icmp .ne 6, 3) := dk_160 0 6 (dk_at dksX5_map_1 2 rfl rfl)
theorem dX5_map_28 : decode cX5_map 28 = .ok (.bipush (-3), 2) := dk_16 253 (dk_at dksX5_map_1 5 rfl rfl)
theorem dX5_map_30 : decode cX5_map 30 = .ok (.ireturn, 1) := dk_172 (dk_at dksX5_map_1 7 rfl rfl)
theorem dX5_map_31 : decode cX5_map 31 = .ok (.aload_n 0, 1) := dk_42 (dk_at dksX5_map_1 8 rfl rfl)
theorem dX5_map_32 : decode cX5_map 32 = .ok (.getfield 81, 3) := dk_180 0 81 (dk_at dksX5_map_1 9 rfl rfl)
theorem dX5_map_35 : decode cX5_map 35 = .ok (.aload_n 0, 1) := dk_42 (dk_at dksX5_map_1 12 rfl rfl)
theorem dX5_map_36 : decode cX5_map 36 = .ok (.getfield 301, 3) := dk_180 1 45 (dk_at dksX5_map_1 13 rfl rfl)
theorem dX5_map_39 : decode cX5_map 39 = .ok (.iload_n 1, 1) := dk_27 (dk_at dksX5_map_1 16 rfl rfl)
theorem dX5_map_40 : decode cX5_map 40 = .ok (.bipush 100, 2) := dk_16 100 (dk_at dksX5_map_1 17 rfl rfl)
theorem dX5_map_42 : decode cX5_map 42 = .ok (.idiv, 1) := dk_108 (dk_at dksX5_map_1 19 rfl rfl)
theorem dX5_map_43 : decode cX5_map 43 = .ok (.iastore, 1) := dk_79 (dk_at dksX5_map_1 20 rfl rfl)
theorem dX5_map_44 : decode cX5_map 44 = .ok (.aload_n 0, 1) := dk_42 (dk_at dksX5_map_1 21 rfl rfl)
theorem dX5_map_45 : decode cX5_map 45 = .ok (.getfield 84, 3) := dk_180 0 84 (dk_at dksX5_map_2 0 rfl rfl)
theorem dX5_map_48 : decode cX5_map 48 = .ok (.aload_n 0, 1) := dk_42 (dk_at dksX5_map_2 3 rfl rfl)
theorem dX5_map_49 : decode cX5_map 49 = .ok (.getfield 301, 3) := dk_180 1 45 (dk_at dksX5_map_2 4 rfl rfl)
theorem dX5_map_52 : decode cX5_map 52 = .ok (.iload_n 1, 1) := dk_27 (dk_at dksX5_map_2 7 rfl rfl)
theorem dX5_map_53 : decode cX5_map 53 = .ok (.bipush 100, 2) := dk_16 100 (dk_at dksX5_map_2 8 rfl rfl)
theorem dX5_map_55 : decode cX5_map 55 = .ok (.irem, 1) := dk_112 (dk_at dksX5_map_2 10 rfl rfl)
theorem dX5_map_56 : decode cX5_map 56 = .ok (.iastore, 1) := dk_79 (dk_at dksX5_map_2 11 rfl rfl)
theorem dX5_map_57 : decode cX5_map 57 = .ok (.aload_n 0, 1) := dk_42 (dk_at dksX5_map_2 12 rfl rfl)
theorem dX5_map_58 : decode cX5_map 58 = .ok (.getfield 87, 3) := dk_180 0 87 (dk_at dksX5_map_2 13 rfl rfl)
theorem dX5_map_61 : decode cX5_map 61 = .ok (.aload_n 0, 1) := dk_42 (dk_at dksX5_map_2 16 rfl rfl)
theorem dX5_map_62 : decode cX5_map 62 = .ok (.getfield 301, 3) := dk_180 1 45 (dk_at dksX5_map_2 17 rfl rfl)
theorem dX5_map_65 : decode cX5_map 65 = .ok (.iload_n 2, 1) := dk_28 (dk_at dksX5_map_2 20 rfl rfl)
theorem dX5_map_66 : decode cX5_map 66 = .ok (.iastore, 1) := dk_79 (dk_at dksX5_map_2 21 rfl rfl)
theorem dX5_map_67 : decode cX5_map 67 = .ok (.aload_n 0, 1) := dk_42 (dk_at dksX5_map_2 22 rfl rfl)
theorem dX5_map_68 : decode cX5_map 68 = .ok (.dup, 1) := dk_89 (dk_at dksX5_map_2 23 rfl rfl)
theorem dX5_map_69 : decode cX5_map 69 = .ok (.getfield 301, 3) := dk_180 1 45 (dk_at dksX5_map_3 0 rfl rfl)
theorem dX5_map_72 : decode cX5_map 72 = .ok (.iconst 1, 1) := dk_4 (dk_at dksX5_map_3 3 rfl rfl)
theorem dX5_map_73 : decode cX5_map 73 = .ok (.iadd, 1) := dk_96 (dk_at dksX5_map_3 4 rfl rfl)
theorem dX5_map_74 : decode cX5_map 74 = .ok (.putfield 301, 3) := dk_181 1 45 (dk_at dksX5_map_3 5 rfl rfl)
theorem dX5_map_77 : decode cX5_map 77 = .ok (.aload_n 0, 1) := dk_42 (dk_at dksX5_map_3 8 rfl rfl)
theorem dX5_map_78 : decode cX5_map 78 = .ok (.getfield 301, 3) := dk_180 1 45 (dk_at dksX5_map_3 9 rfl rfl)
theorem dX5_map_81 : decode cX5_map 81 = .ok (.iconst 1, 1) := dk_4 (dk_at dksX5_map_3 12 rfl rfl)
theorem dX5_map_82 : decode cX5_map 82 = .ok (.isub, 1) := dk_100 (dk_at dksX5_map_3 13 rfl rfl)
theorem dX5_map_83 : decode cX5_map 83 = .ok (.ireturn, 1) := dk_172 (dk_at dksX5_map_3 14 rfl rfl)
abbrev cX5_old : ByteArray := prog_22_method_39_code
def yX5_old : MethodName := ⟨RX5, "old", "(II)I"⟩
def dkwX5_old_3 : List UInt8 := [96, 79, 42, 180, 0, 90, 27, 46, 172]
abbrev dktX5_old_3 : List UInt8 := dkwX5_old_3 ++ []
def dkwX5_old_2 : List UInt8 := [180, 0, 93, 16, 40, 27, 104, 42, 180, 0, 90, 27, 46, 96, 28, 79, 42, 180, 0, 90, 27, 92, 46, 4]
abbrev dktX5_old_2 : List UInt8 := dkwX5_old_2 ++ dktX5_old_3
def dkwX5_old_1 : List UInt8 := [182, 1, 48, 153, 0, 5, 2, 172, 42, 180, 0, 90, 27, 46, 16, 40, 160, 0, 6, 16, 253, 172, 42]
abbrev dktX5_old_1 : List UInt8 := dkwX5_old_1 ++ dktX5_old_2
def dkwX5_old_0 : List UInt8 := [27, 3, 42, 180, 1, 45, 4, 100, 184, 0, 230, 153, 0, 19, 28, 184, 0, 234, 153, 0, 12, 42, 27, 28]
abbrev dktX5_old_0 : List UInt8 := dkwX5_old_0 ++ dktX5_old_1
theorem dksX5_old_0 : cX5_old.data.toList.drop 0 = dktX5_old_0 := by decide +kernel
theorem dksX5_old_1 : cX5_old.data.toList.drop 24 = dktX5_old_1 := dk_seg dksX5_old_0 24 rfl rfl
theorem dksX5_old_2 : cX5_old.data.toList.drop 47 = dktX5_old_2 := dk_seg dksX5_old_1 23 rfl rfl
theorem dksX5_old_3 : cX5_old.data.toList.drop 71 = dktX5_old_3 := dk_seg dksX5_old_2 24 rfl rfl
theorem dX5_old_0 : decode cX5_old 0 = .ok (.iload_n 1, 1) := dk_27 (dk_at dksX5_old_0 0 rfl rfl)
theorem dX5_old_1 : decode cX5_old 1 = .ok (.iconst 0, 1) := dk_3 (dk_at dksX5_old_0 1 rfl rfl)
theorem dX5_old_2 : decode cX5_old 2 = .ok (.aload_n 0, 1) := dk_42 (dk_at dksX5_old_0 2 rfl rfl)
theorem dX5_old_3 : decode cX5_old 3 = .ok (.getfield 301, 3) := dk_180 1 45 (dk_at dksX5_old_0 3 rfl rfl)
theorem dX5_old_6 : decode cX5_old 6 = .ok (.iconst 1, 1) := dk_4 (dk_at dksX5_old_0 6 rfl rfl)
theorem dX5_old_7 : decode cX5_old 7 = .ok (.isub, 1) := dk_100 (dk_at dksX5_old_0 7 rfl rfl)
theorem dX5_old_8 : decode cX5_old 8 = .ok (.invokestatic 230, 3) := dk_184 0 230 (dk_at dksX5_old_0 8 rfl rfl)
theorem dX5_old_11 : decode cX5_old 11 = .ok (.ifCond .eq 19, 3) := dk_153 0 19 (dk_at dksX5_old_0 11 rfl rfl)
theorem dX5_old_14 : decode cX5_old 14 = .ok (.iload_n 2, 1) := dk_28 (dk_at dksX5_old_0 14 rfl rfl)
theorem dX5_old_15 : decode cX5_old 15 = .ok (.invokestatic 234, 3) := dk_184 0 234 (dk_at dksX5_old_0 15 rfl rfl)
theorem dX5_old_18 : decode cX5_old 18 = .ok (.ifCond .eq 12, 3) := dk_153 0 12 (dk_at dksX5_old_0 18 rfl rfl)
theorem dX5_old_21 : decode cX5_old 21 = .ok (.aload_n 0, 1) := dk_42 (dk_at dksX5_old_0 21 rfl rfl)
theorem dX5_old_22 : decode cX5_old 22 = .ok (.iload_n 1, 1) := dk_27 (dk_at dksX5_old_0 22 rfl rfl)
theorem dX5_old_23 : decode cX5_old 23 = .ok (.iload_n 2, 1) := dk_28 (dk_at dksX5_old_0 23 rfl rfl)
theorem dX5_old_24 : decode cX5_old 24 = .ok (.invokevirtual 304, 3) := dk_182 1 48 (dk_at dksX5_old_1 0 rfl rfl)
theorem dX5_old_27 : decode cX5_old 27 = .ok (.ifCond .eq 5, 3) := dk_153 0 5 (dk_at dksX5_old_1 3 rfl rfl)
theorem dX5_old_30 : decode cX5_old 30 = .ok (.iconst (-1), 1) := dk_2 (dk_at dksX5_old_1 6 rfl rfl)
theorem dX5_old_31 : decode cX5_old 31 = .ok (.ireturn, 1) := dk_172 (dk_at dksX5_old_1 7 rfl rfl)
theorem dX5_old_32 : decode cX5_old 32 = .ok (.aload_n 0, 1) := dk_42 (dk_at dksX5_old_1 8 rfl rfl)
theorem dX5_old_33 : decode cX5_old 33 = .ok (.getfield 90, 3) := dk_180 0 90 (dk_at dksX5_old_1 9 rfl rfl)
theorem dX5_old_36 : decode cX5_old 36 = .ok (.iload_n 1, 1) := dk_27 (dk_at dksX5_old_1 12 rfl rfl)
theorem dX5_old_37 : decode cX5_old 37 = .ok (.iaload, 1) := dk_46 (dk_at dksX5_old_1 13 rfl rfl)
theorem dX5_old_38 : decode cX5_old 38 = .ok (.bipush 40, 2) := dk_16 40 (dk_at dksX5_old_1 14 rfl rfl)
theorem dX5_old_40 : decode cX5_old 40 = .ok (.if_icmp .ne 6, 3) := dk_160 0 6 (dk_at dksX5_old_1 16 rfl rfl)
theorem dX5_old_43 : decode cX5_old 43 = .ok (.bipush (-3), 2) := dk_16 253 (dk_at dksX5_old_1 19 rfl rfl)
theorem dX5_old_45 : decode cX5_old 45 = .ok (.ireturn, 1) := dk_172 (dk_at dksX5_old_1 21 rfl rfl)
theorem dX5_old_46 : decode cX5_old 46 = .ok (.aload_n 0, 1) := dk_42 (dk_at dksX5_old_1 22 rfl rfl)
theorem dX5_old_47 : decode cX5_old 47 = .ok (.getfield 93, 3) := dk_180 0 93 (dk_at dksX5_old_2 0 rfl rfl)
theorem dX5_old_50 : decode cX5_old 50 = .ok (.bipush 40, 2) := dk_16 40 (dk_at dksX5_old_2 3 rfl rfl)
theorem dX5_old_52 : decode cX5_old 52 = .ok (.iload_n 1, 1) := dk_27 (dk_at dksX5_old_2 5 rfl rfl)
theorem dX5_old_53 : decode cX5_old 53 = .ok (.imul, 1) := dk_104 (dk_at dksX5_old_2 6 rfl rfl)
theorem dX5_old_54 : decode cX5_old 54 = .ok (.aload_n 0, 1) := dk_42 (dk_at dksX5_old_2 7 rfl rfl)
theorem dX5_old_55 : decode cX5_old 55 = .ok (.getfield 90, 3) := dk_180 0 90 (dk_at dksX5_old_2 8 rfl rfl)
theorem dX5_old_58 : decode cX5_old 58 = .ok (.iload_n 1, 1) := dk_27 (dk_at dksX5_old_2 11 rfl rfl)
theorem dX5_old_59 : decode cX5_old 59 = .ok (.iaload, 1) := dk_46 (dk_at dksX5_old_2 12 rfl rfl)
theorem dX5_old_60 : decode cX5_old 60 = .ok (.iadd, 1) := dk_96 (dk_at dksX5_old_2 13 rfl rfl)
theorem dX5_old_61 : decode cX5_old 61 = .ok (.iload_n 2, 1) := dk_28 (dk_at dksX5_old_2 14 rfl rfl)
theorem dX5_old_62 : decode cX5_old 62 = .ok (.iastore, 1) := dk_79 (dk_at dksX5_old_2 15 rfl rfl)
theorem dX5_old_63 : decode cX5_old 63 = .ok (.aload_n 0, 1) := dk_42 (dk_at dksX5_old_2 16 rfl rfl)
theorem dX5_old_64 : decode cX5_old 64 = .ok (.getfield 90, 3) := dk_180 0 90 (dk_at dksX5_old_2 17 rfl rfl)
theorem dX5_old_67 : decode cX5_old 67 = .ok (.iload_n 1, 1) := dk_27 (dk_at dksX5_old_2 20 rfl rfl)
theorem dX5_old_68 : decode cX5_old 68 = .ok (.dup2, 1) := dk_92 (dk_at dksX5_old_2 21 rfl rfl)
theorem dX5_old_69 : decode cX5_old 69 = .ok (.iaload, 1) := dk_46 (dk_at dksX5_old_2 22 rfl rfl)
theorem dX5_old_70 : decode cX5_old 70 = .ok (.iconst 1, 1) := dk_4 (dk_at dksX5_old_2 23 rfl rfl)
theorem dX5_old_71 : decode cX5_old 71 = .ok (.iadd, 1) := dk_96 (dk_at dksX5_old_3 0 rfl rfl)
theorem dX5_old_72 : decode cX5_old 72 = .ok (.iastore, 1) := dk_79 (dk_at dksX5_old_3 1 rfl rfl)
theorem dX5_old_73 : decode cX5_old 73 = .ok (.aload_n 0, 1) := dk_42 (dk_at dksX5_old_3 2 rfl rfl)
theorem dX5_old_74 : decode cX5_old 74 = .ok (.getfield 90, 3) := dk_180 0 90 (dk_at dksX5_old_3 3 rfl rfl)
theorem dX5_old_77 : decode cX5_old 77 = .ok (.iload_n 1, 1) := dk_27 (dk_at dksX5_old_3 6 rfl rfl)
theorem dX5_old_78 : decode cX5_old 78 = .ok (.iaload, 1) := dk_46 (dk_at dksX5_old_3 7 rfl rfl)
theorem dX5_old_79 : decode cX5_old 79 = .ok (.ireturn, 1) := dk_172 (dk_at dksX5_old_3 8 rfl rfl)
abbrev cX5_isOldBy : ByteArray := prog_22_method_38_code
def yX5_isOldBy : MethodName := ⟨RX5, "isOldBy", "(II)Z"⟩
def dkwX5_isOldBy_1 : List UInt8 := [160, 0, 5, 4, 172, 132, 3, 1, 167, 255, 226, 3, 172]
abbrev dktX5_isOldBy_1 : List UInt8 := dkwX5_isOldBy_1 ++ []
def dkwX5_isOldBy_0 : List UInt8 := [3, 62, 29, 42, 180, 0, 90, 27, 46, 162, 0, 26, 42, 180, 0, 93, 16, 40, 27, 104, 29, 96, 46, 28]
abbrev dktX5_isOldBy_0 : List UInt8 := dkwX5_isOldBy_0 ++ dktX5_isOldBy_1
theorem dksX5_isOldBy_0 : cX5_isOldBy.data.toList.drop 0 = dktX5_isOldBy_0 := by decide +kernel
theorem dksX5_isOldBy_1 : cX5_isOldBy.data.toList.drop 24 = dktX5_isOldBy_1 := dk_seg dksX5_isOldBy_0 24 rfl rfl
theorem dX5_isOldBy_0 : decode cX5_isOldBy 0 = .ok (.iconst 0, 1) := dk_3 (dk_at dksX5_isOldBy_0 0 rfl rfl)
theorem dX5_isOldBy_1 : decode cX5_isOldBy 1 = .ok (.istore_n 3, 1) := dk_62 (dk_at dksX5_isOldBy_0 1 rfl rfl)
theorem dX5_isOldBy_2 : decode cX5_isOldBy 2 = .ok (.iload_n 3, 1) := dk_29 (dk_at dksX5_isOldBy_0 2 rfl rfl)
theorem dX5_isOldBy_3 : decode cX5_isOldBy 3 = .ok (.aload_n 0, 1) := dk_42 (dk_at dksX5_isOldBy_0 3 rfl rfl)
theorem dX5_isOldBy_4 : decode cX5_isOldBy 4 = .ok (.getfield 90, 3) := dk_180 0 90 (dk_at dksX5_isOldBy_0 4 rfl rfl)
theorem dX5_isOldBy_7 : decode cX5_isOldBy 7 = .ok (.iload_n 1, 1) := dk_27 (dk_at dksX5_isOldBy_0 7 rfl rfl)
theorem dX5_isOldBy_8 : decode cX5_isOldBy 8 = .ok (.iaload, 1) := dk_46 (dk_at dksX5_isOldBy_0 8 rfl rfl)
theorem dX5_isOldBy_9 : decode cX5_isOldBy 9 = .ok (.if_icmp .ge 26, 3) := dk_162 0 26 (dk_at dksX5_isOldBy_0 9 rfl rfl)
theorem dX5_isOldBy_12 : decode cX5_isOldBy 12 = .ok (.aload_n 0, 1) := dk_42 (dk_at dksX5_isOldBy_0 12 rfl rfl)
theorem dX5_isOldBy_13 : decode cX5_isOldBy 13 = .ok (.getfield 93, 3) := dk_180 0 93 (dk_at dksX5_isOldBy_0 13 rfl rfl)
theorem dX5_isOldBy_16 : decode cX5_isOldBy 16 = .ok (.bipush 40, 2) := dk_16 40 (dk_at dksX5_isOldBy_0 16 rfl rfl)
theorem dX5_isOldBy_18 : decode cX5_isOldBy 18 = .ok (.iload_n 1, 1) := dk_27 (dk_at dksX5_isOldBy_0 18 rfl rfl)
theorem dX5_isOldBy_19 : decode cX5_isOldBy 19 = .ok (.imul, 1) := dk_104 (dk_at dksX5_isOldBy_0 19 rfl rfl)
theorem dX5_isOldBy_20 : decode cX5_isOldBy 20 = .ok (.iload_n 3, 1) := dk_29 (dk_at dksX5_isOldBy_0 20 rfl rfl)
theorem dX5_isOldBy_21 : decode cX5_isOldBy 21 = .ok (.iadd, 1) := dk_96 (dk_at dksX5_isOldBy_0 21 rfl rfl)
theorem dX5_isOldBy_22 : decode cX5_isOldBy 22 = .ok (.iaload, 1) := dk_46 (dk_at dksX5_isOldBy_0 22 rfl rfl)
theorem dX5_isOldBy_23 : decode cX5_isOldBy 23 = .ok (.iload_n 2, 1) := dk_28 (dk_at dksX5_isOldBy_0 23 rfl rfl)
theorem dX5_isOldBy_24 : decode cX5_isOldBy 24 = .ok (.if_icmp .ne 5, 3) := dk_160 0 5 (dk_at dksX5_isOldBy_1 0 rfl rfl)
theorem dX5_isOldBy_27 : decode cX5_isOldBy 27 = .ok (.iconst 1, 1) := dk_4 (dk_at dksX5_isOldBy_1 3 rfl rfl)
theorem dX5_isOldBy_28 : decode cX5_isOldBy 28 = .ok (.ireturn, 1) := dk_172 (dk_at dksX5_isOldBy_1 4 rfl rfl)
theorem dX5_isOldBy_29 : decode cX5_isOldBy 29 = .ok (.iinc 3 1, 3) := dk_132 3 1 (dk_at dksX5_isOldBy_1 5 rfl rfl)
theorem dX5_isOldBy_32 : decode cX5_isOldBy 32 = .ok (.goto (-30), 3) := dk_167 255 226 (dk_at dksX5_isOldBy_1 8 rfl rfl)
theorem dX5_isOldBy_35 : decode cX5_isOldBy 35 = .ok (.iconst 0, 1) := dk_3 (dk_at dksX5_isOldBy_1 11 rfl rfl)
theorem dX5_isOldBy_36 : decode cX5_isOldBy 36 = .ok (.ireturn, 1) := dk_172 (dk_at dksX5_isOldBy_1 12 rfl rfl)
abbrev cX5_wrong : ByteArray := prog_22_method_43_code
def yX5_wrong : MethodName := ⟨RX5, "wrong", "(I)I"⟩
def dkwX5_wrong_0 : List UInt8 := [27, 3, 42, 180, 1, 45, 4, 100, 184, 0, 230, 153, 0, 11, 42, 27, 182, 1, 57, 167, 0, 4, 2, 172]
abbrev dktX5_wrong_0 : List UInt8 := dkwX5_wrong_0 ++ []
theorem dksX5_wrong_0 : cX5_wrong.data.toList.drop 0 = dktX5_wrong_0 := by decide +kernel
theorem dX5_wrong_0 : decode cX5_wrong 0 = .ok (.iload_n 1, 1) := dk_27 (dk_at dksX5_wrong_0 0 rfl rfl)
theorem dX5_wrong_1 : decode cX5_wrong 1 = .ok (.iconst 0, 1) := dk_3 (dk_at dksX5_wrong_0 1 rfl rfl)
theorem dX5_wrong_2 : decode cX5_wrong 2 = .ok (.aload_n 0, 1) := dk_42 (dk_at dksX5_wrong_0 2 rfl rfl)
theorem dX5_wrong_3 : decode cX5_wrong 3 = .ok (.getfield 301, 3) := dk_180 1 45 (dk_at dksX5_wrong_0 3 rfl rfl)
theorem dX5_wrong_6 : decode cX5_wrong 6 = .ok (.iconst 1, 1) := dk_4 (dk_at dksX5_wrong_0 6 rfl rfl)
theorem dX5_wrong_7 : decode cX5_wrong 7 = .ok (.isub, 1) := dk_100 (dk_at dksX5_wrong_0 7 rfl rfl)
theorem dX5_wrong_8 : decode cX5_wrong 8 = .ok (.invokestatic 230, 3) := dk_184 0 230 (dk_at dksX5_wrong_0 8 rfl rfl)
theorem dX5_wrong_11 : decode cX5_wrong 11 = .ok (.ifCond .eq 11, 3) := dk_153 0 11 (dk_at dksX5_wrong_0 11 rfl rfl)
theorem dX5_wrong_14 : decode cX5_wrong 14 = .ok (.aload_n 0, 1) := dk_42 (dk_at dksX5_wrong_0 14 rfl rfl)
theorem dX5_wrong_15 : decode cX5_wrong 15 = .ok (.iload_n 1, 1) := dk_27 (dk_at dksX5_wrong_0 15 rfl rfl)
theorem dX5_wrong_16 : decode cX5_wrong 16 = .ok (.invokevirtual 313, 3) := dk_182 1 57 (dk_at dksX5_wrong_0 16 rfl rfl)
theorem dX5_wrong_19 : decode cX5_wrong 19 = .ok (.goto 4, 3) := dk_167 0 4 (dk_at dksX5_wrong_0 19 rfl rfl)
theorem dX5_wrong_22 : decode cX5_wrong 22 = .ok (.iconst (-1), 1) := dk_2 (dk_at dksX5_wrong_0 22 rfl rfl)
theorem dX5_wrong_23 : decode cX5_wrong 23 = .ok (.ireturn, 1) := dk_172 (dk_at dksX5_wrong_0 23 rfl rfl)
abbrev cX5_wrongBy : ByteArray := prog_22_method_42_code
def yX5_wrongBy : MethodName := ⟨RX5, "wrongBy", "(I)I"⟩
def dkwX5_wrongBy_2 : List UInt8 := [96, 172, 132, 3, 1, 167, 255, 226, 132, 2, 1, 167, 255, 199, 16, 254, 172]
abbrev dktX5_wrongBy_2 : List UInt8 := dkwX5_wrongBy_2 ++ []
def dkwX5_wrongBy_1 : List UInt8 := [42, 180, 0, 32, 28, 46, 163, 0, 26, 42, 27, 28, 29, 182, 1, 54, 153, 0, 10, 16, 100, 28, 104, 29]
abbrev dktX5_wrongBy_1 : List UInt8 := dkwX5_wrongBy_1 ++ dktX5_wrongBy_2
def dkwX5_wrongBy_0 : List UInt8 := [3, 61, 28, 42, 180, 0, 242, 162, 0, 55, 42, 28, 182, 1, 12, 154, 0, 6, 167, 0, 38, 4, 62, 29]
abbrev dktX5_wrongBy_0 : List UInt8 := dkwX5_wrongBy_0 ++ dktX5_wrongBy_1
theorem dksX5_wrongBy_0 : cX5_wrongBy.data.toList.drop 0 = dktX5_wrongBy_0 := by decide +kernel
theorem dksX5_wrongBy_1 : cX5_wrongBy.data.toList.drop 24 = dktX5_wrongBy_1 := dk_seg dksX5_wrongBy_0 24 rfl rfl
theorem dksX5_wrongBy_2 : cX5_wrongBy.data.toList.drop 48 = dktX5_wrongBy_2 := dk_seg dksX5_wrongBy_1 24 rfl rfl
theorem dX5_wrongBy_0 : decode cX5_wrongBy 0 = .ok (.iconst 0, 1) := dk_3 (dk_at dksX5_wrongBy_0 0 rfl rfl)
theorem dX5_wrongBy_1 : decode cX5_wrongBy 1 = .ok (.istore_n 2, 1) := dk_61 (dk_at dksX5_wrongBy_0 1 rfl rfl)
theorem dX5_wrongBy_2 : decode cX5_wrongBy 2 = .ok (.iload_n 2, 1) := dk_28 (dk_at dksX5_wrongBy_0 2 rfl rfl)
theorem dX5_wrongBy_3 : decode cX5_wrongBy 3 = .ok (.aload_n 0, 1) := dk_42 (dk_at dksX5_wrongBy_0 3 rfl rfl)
theorem dX5_wrongBy_4 : decode cX5_wrongBy 4 = .ok (.getfield 242, 3) := dk_180 0 242 (dk_at dksX5_wrongBy_0 4 rfl rfl)
theorem dX5_wrongBy_7 : decode cX5_wrongBy 7 = .ok (.if_icmp .ge 55, 3) := dk_162 0 55 (dk_at dksX5_wrongBy_0 7 rfl rfl)
theorem dX5_wrongBy_10 : decode cX5_wrongBy 10 = .ok (.aload_n 0, 1) := dk_42 (dk_at dksX5_wrongBy_0 10 rfl rfl)
theorem dX5_wrongBy_11 : decode cX5_wrongBy 11 = .ok (.iload_n 2, 1) := dk_28 (dk_at dksX5_wrongBy_0 11 rfl rfl)
theorem dX5_wrongBy_12 : decode cX5_wrongBy 12 = .ok (.invokevirtual 268, 3) := dk_182 1 12 (dk_at dksX5_wrongBy_0 12 rfl rfl)
theorem dX5_wrongBy_15 : decode cX5_wrongBy 15 = .ok (.ifCond .ne 6, 3) := dk_154 0 6 (dk_at dksX5_wrongBy_0 15 rfl rfl)
theorem dX5_wrongBy_18 : decode cX5_wrongBy 18 = .ok (.goto 38, 3) := dk_167 0 38 (dk_at dksX5_wrongBy_0 18 rfl rfl)
theorem dX5_wrongBy_21 : decode cX5_wrongBy 21 = .ok (.iconst 1, 1) := dk_4 (dk_at dksX5_wrongBy_0 21 rfl rfl)
theorem dX5_wrongBy_22 : decode cX5_wrongBy 22 = .ok (.istore_n 3, 1) := dk_62 (dk_at dksX5_wrongBy_0 22 rfl rfl)
theorem dX5_wrongBy_23 : decode cX5_wrongBy 23 = .ok (.iload_n 3, 1) := dk_29 (dk_at dksX5_wrongBy_0 23 rfl rfl)
theorem dX5_wrongBy_24 : decode cX5_wrongBy 24 = .ok (.aload_n 0, 1) := dk_42 (dk_at dksX5_wrongBy_1 0 rfl rfl)
theorem dX5_wrongBy_25 : decode cX5_wrongBy 25 = .ok (.getfield 32, 3) := dk_180 0 32 (dk_at dksX5_wrongBy_1 1 rfl rfl)
theorem dX5_wrongBy_28 : decode cX5_wrongBy 28 = .ok (.iload_n 2, 1) := dk_28 (dk_at dksX5_wrongBy_1 4 rfl rfl)
theorem dX5_wrongBy_29 : decode cX5_wrongBy 29 = .ok (.iaload, 1) := dk_46 (dk_at dksX5_wrongBy_1 5 rfl rfl)
theorem dX5_wrongBy_30 : decode cX5_wrongBy 30 = .ok (.if_icmp .gt 26, 3) := dk_163 0 26 (dk_at dksX5_wrongBy_1 6 rfl rfl)
theorem dX5_wrongBy_33 : decode cX5_wrongBy 33 = .ok (.aload_n 0, 1) := dk_42 (dk_at dksX5_wrongBy_1 9 rfl rfl)
theorem dX5_wrongBy_34 : decode cX5_wrongBy 34 = .ok (.iload_n 1, 1) := dk_27 (dk_at dksX5_wrongBy_1 10 rfl rfl)
theorem dX5_wrongBy_35 : decode cX5_wrongBy 35 = .ok (.iload_n 2, 1) := dk_28 (dk_at dksX5_wrongBy_1 11 rfl rfl)
theorem dX5_wrongBy_36 : decode cX5_wrongBy 36 = .ok (.iload_n 3, 1) := dk_29 (dk_at dksX5_wrongBy_1 12 rfl rfl)
theorem dX5_wrongBy_37 : decode cX5_wrongBy 37 = .ok (.invokevirtual 310, 3) := dk_182 1 54 (dk_at dksX5_wrongBy_1 13 rfl rfl)
theorem dX5_wrongBy_40 : decode cX5_wrongBy 40 = .ok (.ifCond .eq 10, 3) := dk_153 0 10 (dk_at dksX5_wrongBy_1 16 rfl rfl)
theorem dX5_wrongBy_43 : decode cX5_wrongBy 43 = .ok (.bipush 100, 2) := dk_16 100 (dk_at dksX5_wrongBy_1 19 rfl rfl)
theorem dX5_wrongBy_45 : decode cX5_wrongBy 45 = .ok (.iload_n 2, 1) := dk_28 (dk_at dksX5_wrongBy_1 21 rfl rfl)
theorem dX5_wrongBy_46 : decode cX5_wrongBy 46 = .ok (.imul, 1) := dk_104 (dk_at dksX5_wrongBy_1 22 rfl rfl)
theorem dX5_wrongBy_47 : decode cX5_wrongBy 47 = .ok (.iload_n 3, 1) := dk_29 (dk_at dksX5_wrongBy_1 23 rfl rfl)
theorem dX5_wrongBy_48 : decode cX5_wrongBy 48 = .ok (.iadd, 1) := dk_96 (dk_at dksX5_wrongBy_2 0 rfl rfl)
theorem dX5_wrongBy_49 : decode cX5_wrongBy 49 = .ok (.ireturn, 1) := dk_172 (dk_at dksX5_wrongBy_2 1 rfl rfl)
theorem dX5_wrongBy_50 : decode cX5_wrongBy 50 = .ok (.iinc 3 1, 3) := dk_132 3 1 (dk_at dksX5_wrongBy_2 2 rfl rfl)
theorem dX5_wrongBy_53 : decode cX5_wrongBy 53 = .ok (.goto (-30), 3) := dk_167 255 226 (dk_at dksX5_wrongBy_2 5 rfl rfl)
theorem dX5_wrongBy_56 : decode cX5_wrongBy 56 = .ok (.iinc 2 1, 3) := dk_132 2 1 (dk_at dksX5_wrongBy_2 8 rfl rfl)
theorem dX5_wrongBy_59 : decode cX5_wrongBy 59 = .ok (.goto (-57), 3) := dk_167 255 199 (dk_at dksX5_wrongBy_2 11 rfl rfl)
theorem dX5_wrongBy_62 : decode cX5_wrongBy 62 = .ok (.bipush (-2), 2) := dk_16 254 (dk_at dksX5_wrongBy_2 14 rfl rfl)
theorem dX5_wrongBy_64 : decode cX5_wrongBy 64 = .ok (.ireturn, 1) := dk_172 (dk_at dksX5_wrongBy_2 16 rfl rfl)
abbrev cX5_isUnlike : ByteArray := prog_22_method_41_code
def yX5_isUnlike : MethodName := ⟨RX5, "isUnlike", "(III)Z"⟩
def dkwX5_isUnlike_5 : List UInt8 := [3, 172, 132, 5, 1, 167, 255, 156, 4, 172]
abbrev dktX5_isUnlike_5 : List UInt8 := dkwX5_isUnlike_5 ++ []
def dkwX5_isUnlike_4 : List UInt8 := [167, 0, 17, 3, 167, 0, 13, 21, 7, 154, 0, 7, 4, 167, 0, 4, 3, 54, 8, 21, 8, 154, 0, 5]
abbrev dktX5_isUnlike_4 : List UInt8 := dkwX5_isUnlike_4 ++ dktX5_isUnlike_5
def dkwX5_isUnlike_3 : List UInt8 := [153, 0, 7, 4, 167, 0, 36, 3, 167, 0, 32, 21, 4, 4, 160, 0, 16, 21, 6, 154, 0, 7, 4]
abbrev dktX5_isUnlike_3 : List UInt8 := dkwX5_isUnlike_3 ++ dktX5_isUnlike_4
def dkwX5_isUnlike_2 : List UInt8 := [42, 27, 21, 5, 29, 182, 1, 51, 54, 7, 21, 4, 154, 0, 21, 21, 6, 154, 0, 8, 21, 7]
abbrev dktX5_isUnlike_2 : List UInt8 := dkwX5_isUnlike_2 ++ dktX5_isUnlike_3
def dkwX5_isUnlike_1 : List UInt8 := [42, 28, 29, 4, 182, 1, 41, 163, 0, 94, 42, 27, 16, 100, 21, 5, 104, 29, 96, 182, 1, 48, 54, 6]
abbrev dktX5_isUnlike_1 : List UInt8 := dkwX5_isUnlike_1 ++ dktX5_isUnlike_2
def dkwX5_isUnlike_0 : List UInt8 := [42, 180, 0, 44, 16, 61, 28, 104, 29, 96, 46, 54, 4, 42, 28, 29, 3, 182, 1, 41, 54, 5, 21, 5]
abbrev dktX5_isUnlike_0 : List UInt8 := dkwX5_isUnlike_0 ++ dktX5_isUnlike_1
theorem dksX5_isUnlike_0 : cX5_isUnlike.data.toList.drop 0 = dktX5_isUnlike_0 := by decide +kernel
theorem dksX5_isUnlike_1 : cX5_isUnlike.data.toList.drop 24 = dktX5_isUnlike_1 := dk_seg dksX5_isUnlike_0 24 rfl rfl
theorem dksX5_isUnlike_2 : cX5_isUnlike.data.toList.drop 48 = dktX5_isUnlike_2 := dk_seg dksX5_isUnlike_1 24 rfl rfl
theorem dksX5_isUnlike_3 : cX5_isUnlike.data.toList.drop 70 = dktX5_isUnlike_3 := dk_seg dksX5_isUnlike_2 22 rfl rfl
theorem dksX5_isUnlike_4 : cX5_isUnlike.data.toList.drop 93 = dktX5_isUnlike_4 := dk_seg dksX5_isUnlike_3 23 rfl rfl
theorem dksX5_isUnlike_5 : cX5_isUnlike.data.toList.drop 117 = dktX5_isUnlike_5 := dk_seg dksX5_isUnlike_4 24 rfl rfl
theorem dX5_isUnlike_0 : decode cX5_isUnlike 0 = .ok (.aload_n 0, 1) := dk_42 (dk_at dksX5_isUnlike_0 0 rfl rfl)
theorem dX5_isUnlike_1 : decode cX5_isUnlike 1 = .ok (.getfield 44, 3) := dk_180 0 44 (dk_at dksX5_isUnlike_0 1 rfl rfl)
theorem dX5_isUnlike_4 : decode cX5_isUnlike 4 = .ok (.bipush 61, 2) := dk_16 61 (dk_at dksX5_isUnlike_0 4 rfl rfl)
theorem dX5_isUnlike_6 : decode cX5_isUnlike 6 = .ok (.iload_n 2, 1) := dk_28 (dk_at dksX5_isUnlike_0 6 rfl rfl)
theorem dX5_isUnlike_7 : decode cX5_isUnlike 7 = .ok (.imul, 1) := dk_104 (dk_at dksX5_isUnlike_0 7 rfl rfl)
theorem dX5_isUnlike_8 : decode cX5_isUnlike 8 = .ok (.iload_n 3, 1) := dk_29 (dk_at dksX5_isUnlike_0 8 rfl rfl)
theorem dX5_isUnlike_9 : decode cX5_isUnlike 9 = .ok (.iadd, 1) := dk_96 (dk_at dksX5_isUnlike_0 9 rfl rfl)
theorem dX5_isUnlike_10 : decode cX5_isUnlike 10 = .ok (.iaload, 1) := dk_46 (dk_at dksX5_isUnlike_0 10 rfl rfl)
theorem dX5_isUnlike_11 : decode cX5_isUnlike 11 = .ok (.istore 4, 2) := dk_54 4 (dk_at dksX5_isUnlike_0 11 rfl rfl)
theorem dX5_isUnlike_13 : decode cX5_isUnlike 13 = .ok (.aload_n 0, 1) := dk_42 (dk_at dksX5_isUnlike_0 13 rfl rfl)
theorem dX5_isUnlike_14 : decode cX5_isUnlike 14 = .ok (.iload_n 2, 1) := dk_28 (dk_at dksX5_isUnlike_0 14 rfl rfl)
theorem dX5_isUnlike_15 : decode cX5_isUnlike 15 = .ok (.iload_n 3, 1) := dk_29 (dk_at dksX5_isUnlike_0 15 rfl rfl)
theorem dX5_isUnlike_16 : decode cX5_isUnlike 16 = .ok (.iconst 0, 1) := dk_3 (dk_at dksX5_isUnlike_0 16 rfl rfl)
theorem dX5_isUnlike_17 : decode cX5_isUnlike 17 = .ok (.invokevirtual 297, 3) := dk_182 1 41 (dk_at dksX5_isUnlike_0 17 rfl rfl)
theorem dX5_isUnlike_20 : decode cX5_isUnlike 20 = .ok (.istore 5, 2) := dk_54 5 (dk_at dksX5_isUnlike_0 20 rfl rfl)
theorem dX5_isUnlike_22 : decode cX5_isUnlike 22 = .ok (.iload 5, 2) := dk_21 5 (dk_at dksX5_isUnlike_0 22 rfl rfl)
theorem dX5_isUnlike_24 : decode cX5_isUnlike 24 = .ok (.aload_n 0, 1) := dk_42 (dk_at dksX5_isUnlike_1 0 rfl rfl)
theorem dX5_isUnlike_25 : decode cX5_isUnlike 25 = .ok (.iload_n 2, 1) := dk_28 (dk_at dksX5_isUnlike_1 1 rfl rfl)
theorem dX5_isUnlike_26 : decode cX5_isUnlike 26 = .ok (.iload_n 3, 1) := dk_29 (dk_at dksX5_isUnlike_1 2 rfl rfl)
theorem dX5_isUnlike_27 : decode cX5_isUnlike 27 = .ok (.iconst 1, 1) := dk_4 (dk_at dksX5_isUnlike_1 3 rfl rfl)
theorem dX5_isUnlike_28 : decode cX5_isUnlike 28 = .ok (.invokevirtual 297, 3) := dk_182 1 41 (dk_at dksX5_isUnlike_1 4 rfl rfl)
theorem dX5_isUnlike_31 : decode cX5_isUnlike 31 = .ok (.if_icmp .gt 94, 3) := dk_163 0 94 (dk_at dksX5_isUnlike_1 7 rfl rfl)
theorem dX5_isUnlike_34 : decode cX5_isUnlike 34 = .ok (.aload_n 0, 1) := dk_42 (dk_at dksX5_isUnlike_1 10 rfl rfl)
theorem dX5_isUnlike_35 : decode cX5_isUnlike 35 = .ok (.iload_n 1, 1) := dk_27 (dk_at dksX5_isUnlike_1 11 rfl rfl)
theorem dX5_isUnlike_36 : decode cX5_isUnlike 36 = .ok (.bipush 100, 2) := dk_16 100 (dk_at dksX5_isUnlike_1 12 rfl rfl)
theorem dX5_isUnlike_38 : decode cX5_isUnlike 38 = .ok (.iload 5, 2) := dk_21 5 (dk_at dksX5_isUnlike_1 14 rfl rfl)
theorem dX5_isUnlike_40 : decode cX5_isUnlike 40 = .ok (.imul, 1) := dk_104 (dk_at dksX5_isUnlike_1 16 rfl rfl)
theorem dX5_isUnlike_41 : decode cX5_isUnlike 41 = .ok (.iload_n 3, 1) := dk_29 (dk_at dksX5_isUnlike_1 17 rfl rfl)
theorem dX5_isUnlike_42 : decode cX5_isUnlike 42 = .ok (.iadd, 1) := dk_96 (dk_at dksX5_isUnlike_1 18 rfl rfl)
theorem dX5_isUnlike_43 : decode cX5_isUnlike 43 = .ok (.invokevirtual 304, 3) := dk_182 1 48 (dk_at dksX5_isUnlike_1 19 rfl rfl)
theorem dX5_isUnlike_46 : decode cX5_isUnlike 46 = .ok (.istore 6, 2) := dk_54 6 (dk_at dksX5_isUnlike_1 22 rfl rfl)
theorem dX5_isUnlike_48 : decode cX5_isUnlike 48 = .ok (.aload_n 0, 1) := dk_42 (dk_at dksX5_isUnlike_2 0 rfl rfl)
theorem dX5_isUnlike_49 : decode cX5_isUnlike 49 = .ok (.iload_n 1, 1) := dk_27 (dk_at dksX5_isUnlike_2 1 rfl rfl)
theorem dX5_isUnlike_50 : decode cX5_isUnlike 50 = .ok (.iload 5, 2) := dk_21 5 (dk_at dksX5_isUnlike_2 2 rfl rfl)
theorem dX5_isUnlike_52 : decode cX5_isUnlike 52 = .ok (.iload_n 3, 1) := dk_29 (dk_at dksX5_isUnlike_2 4 rfl rfl)
theorem dX5_isUnlike_53 : decode cX5_isUnlike 53 = .ok (.invokevirtual 307, 3) := dk_182 1 51 (dk_at dksX5_isUnlike_2 5 rfl rfl)
theorem dX5_isUnlike_56 : decode cX5_isUnlike 56 = .ok (.istore 7, 2) := dk_54 7 (dk_at dksX5_isUnlike_2 8 rfl rfl)
theorem dX5_isUnlike_58 : decode cX5_isUnlike 58 = .ok (.iload 4, 2) := dk_21 4 (dk_at dksX5_isUnlike_2 10 rfl rfl)
theorem dX5_isUnlike_60 : decode cX5_isUnlike 60 = .ok (.ifCond .ne 21, 3) := dk_154 0 21 (dk_at dksX5_isUnlike_2 12 rfl rfl)
theorem dX5_isUnlike_63 : decode cX5_isUnlike 63 = .ok (.iload 6, 2) := dk_21 6 (dk_at dksX5_isUnlike_2 15 rfl rfl)
theorem dX5_isUnlike_65 : decode cX5_isUnlike 65 = .ok (.ifCond .ne 8, 3) := dk_154 0 8 (dk_at dksX5_isUnlike_2 17 rfl rfl)
theorem dX5_isUnlike_68 : decode cX5_isUnlike 68 = .ok (.iload 7, 2) := dk_21 7 (dk_at dksX5_isUnlike_2 20 rfl rfl)
theorem dX5_isUnlike_70 : decode cX5_isUnlike 70 = .ok (.ifCond .eq 7, 3) := dk_153 0 7 (dk_at dksX5_isUnlike_3 0 rfl rfl)
theorem dX5_isUnlike_73 : decode cX5_isUnlike 73 = .ok (.iconst 1, 1) := dk_4 (dk_at dksX5_isUnlike_3 3 rfl rfl)
theorem dX5_isUnlike_74 : decode cX5_isUnlike 74 = .ok (.goto 36, 3) := dk_167 0 36 (dk_at dksX5_isUnlike_3 4 rfl rfl)
theorem dX5_isUnlike_77 : decode cX5_isUnlike 77 = .ok (.iconst 0, 1) := dk_3 (dk_at dksX5_isUnlike_3 7 rfl rfl)
theorem dX5_isUnlike_78 : decode cX5_isUnlike 78 = .ok (.goto 32, 3) := dk_167 0 32 (dk_at dksX5_isUnlike_3 8 rfl rfl)
theorem dX5_isUnlike_81 : decode cX5_isUnlike 81 = .ok (.iload 4, 2) := dk_21 4 (dk_at dksX5_isUnlike_3 11 rfl rfl)
theorem dX5_isUnlike_83 : decode cX5_isUnlike 83 = .ok (.iconst 1, 1) := dk_4 (dk_at dksX5_isUnlike_3 13 rfl rfl)
theorem dX5_isUnlike_84 : decode cX5_isUnlike 84 = .ok (.if_icmp .ne 16, 3) := dk_160 0 16 (dk_at dksX5_isUnlike_3 14 rfl rfl)
theorem dX5_isUnlike_87 : decode cX5_isUnlike 87 = .ok (.iload 6, 2) := dk_21 6 (dk_at dksX5_isUnlike_3 17 rfl rfl)
theorem dX5_isUnlike_89 : decode cX5_isUnlike 89 = .ok (.ifCond .ne 7, 3) := dk_154 0 7 (dk_at dksX5_isUnlike_3 19 rfl rfl)
theorem dX5_isUnlike_92 : decode cX5_isUnlike 92 = .ok (.iconst 1, 1) := dk_4 (dk_at dksX5_isUnlike_3 22 rfl rfl)
theorem dX5_isUnlike_93 : decode cX5_isUnlike 93 = .ok (.goto 17, 3) := dk_167 0 17 (dk_at dksX5_isUnlike_4 0 rfl rfl)
theorem dX5_isUnlike_96 : decode cX5_isUnlike 96 = .ok (.iconst 0, 1) := dk_3 (dk_at dksX5_isUnlike_4 3 rfl rfl)
theorem dX5_isUnlike_97 : decode cX5_isUnlike 97 = .ok (.goto 13, 3) := dk_167 0 13 (dk_at dksX5_isUnlike_4 4 rfl rfl)
theorem dX5_isUnlike_100 : decode cX5_isUnlike 100 = .ok (.iload 7, 2) := dk_21 7 (dk_at dksX5_isUnlike_4 7 rfl rfl)
theorem dX5_isUnlike_102 : decode cX5_isUnlike 102 = .ok (.ifCond .ne 7, 3) := dk_154 0 7 (dk_at dksX5_isUnlike_4 9 rfl rfl)
theorem dX5_isUnlike_105 : decode cX5_isUnlike 105 = .ok (.iconst 1, 1) := dk_4 (dk_at dksX5_isUnlike_4 12 rfl rfl)
theorem dX5_isUnlike_106 : decode cX5_isUnlike 106 = .ok (.goto 4, 3) := dk_167 0 4 (dk_at dksX5_isUnlike_4 13 rfl rfl)
theorem dX5_isUnlike_109 : decode cX5_isUnlike 109 = .ok (.iconst 0, 1) := dk_3 (dk_at dksX5_isUnlike_4 16 rfl rfl)
theorem dX5_isUnlike_110 : decode cX5_isUnlike 110 = .ok (.istore 8, 2) := dk_54 8 (dk_at dksX5_isUnlike_4 17 rfl rfl)
theorem dX5_isUnlike_112 : decode cX5_isUnlike 112 = .ok (.iload 8, 2) := dk_21 8 (dk_at dksX5_isUnlike_4 19 rfl rfl)
theorem dX5_isUnlike_114 : decode cX5_isUnlike 114 = .ok (.ifCond .ne 5, 3) := dk_154 0 5 (dk_at dksX5_isUnlike_4 21 rfl rfl)
theorem dX5_isUnlike_117 : decode cX5_isUnlike 117 = .ok (.iconst 0, 1) := dk_3 (dk_at dksX5_isUnlike_5 0 rfl rfl)
theorem dX5_isUnlike_118 : decode cX5_isUnlike 118 = .ok (.ireturn, 1) := dk_172 (dk_at dksX5_isUnlike_5 1 rfl rfl)
theorem dX5_isUnlike_119 : decode cX5_isUnlike 119 = .ok (.iinc 5 1, 3) := dk_132 5 1 (dk_at dksX5_isUnlike_5 2 rfl rfl)
theorem dX5_isUnlike_122 : decode cX5_isUnlike 122 = .ok (.goto (-100), 3) := dk_167 255 156 (dk_at dksX5_isUnlike_5 5 rfl rfl)
theorem dX5_isUnlike_125 : decode cX5_isUnlike 125 = .ok (.iconst 1, 1) := dk_4 (dk_at dksX5_isUnlike_5 8 rfl rfl)
theorem dX5_isUnlike_126 : decode cX5_isUnlike 126 = .ok (.ireturn, 1) := dk_172 (dk_at dksX5_isUnlike_5 9 rfl rfl)
abbrev cX5_isShelterBy : ByteArray := prog_22_method_40_code
def yX5_isShelterBy : MethodName := ⟨RX5, "isShelterBy", "(III)Z"⟩
def dkwX5_isShelterBy_1 : List UInt8 := [184, 0, 230, 153, 0, 7, 4, 167, 0, 4, 3, 172]
abbrev dktX5_isShelterBy_1 : List UInt8 := dkwX5_isShelterBy_1 ++ []
def dkwX5_isShelterBy_0 : List UInt8 := [29, 42, 180, 0, 87, 27, 46, 160, 0, 26, 28, 42, 180, 0, 81, 27, 46, 42, 180, 0, 84, 27, 46]
abbrev dktX5_isShelterBy_0 : List UInt8 := dkwX5_isShelterBy_0 ++ dktX5_isShelterBy_1
theorem dksX5_isShelterBy_0 : cX5_isShelterBy.data.toList.drop 0 = dktX5_isShelterBy_0 := by decide +kernel
theorem dksX5_isShelterBy_1 : cX5_isShelterBy.data.toList.drop 23 = dktX5_isShelterBy_1 := dk_seg dksX5_isShelterBy_0 23 rfl rfl
theorem dX5_isShelterBy_0 : decode cX5_isShelterBy 0 = .ok (.iload_n 3, 1) := dk_29 (dk_at dksX5_isShelterBy_0 0 rfl rfl)
theorem dX5_isShelterBy_1 : decode cX5_isShelterBy 1 = .ok (.aload_n 0, 1) := dk_42 (dk_at dksX5_isShelterBy_0 1 rfl rfl)
theorem dX5_isShelterBy_2 : decode cX5_isShelterBy 2 = .ok (.getfield 87, 3) := dk_180 0 87 (dk_at dksX5_isShelterBy_0 2 rfl rfl)
theorem dX5_isShelterBy_5 : decode cX5_isShelterBy 5 = .ok (.iload_n 1, 1) := dk_27 (dk_at dksX5_isShelterBy_0 5 rfl rfl)
theorem dX5_isShelterBy_6 : decode cX5_isShelterBy 6 = .ok (.iaload, 1) := dk_46 (dk_at dksX5_isShelterBy_0 6 rfl rfl)
theorem dX5_isShelterBy_7 : decode cX5_isShelterBy 7 = .ok (.if_icmp .ne 26, 3) := dk_160 0 26 (dk_at dksX5_isShelterBy_0 7 rfl rfl)
theorem dX5_isShelterBy_10 : decode cX5_isShelterBy 10 = .ok (.iload_n 2, 1) := dk_28 (dk_at dksX5_isShelterBy_0 10 rfl rfl)
theorem dX5_isShelterBy_11 : decode cX5_isShelterBy 11 = .ok (.aload_n 0, 1) := dk_42 (dk_at dksX5_isShelterBy_0 11 rfl rfl)
theorem dX5_isShelterBy_12 : decode cX5_isShelterBy 12 = .ok (.getfield 81, 3) := dk_180 0 81 (dk_at dksX5_isShelterBy_0 12 rfl rfl)
theorem dX5_isShelterBy_15 : decode cX5_isShelterBy 15 = .ok (.iload_n 1, 1) := dk_27 (dk_at dksX5_isShelterBy_0 15 rfl rfl)
theorem dX5_isShelterBy_16 : decode cX5_isShelterBy 16 = .ok (.iaload, 1) := dk_46 (dk_at dksX5_isShelterBy_0 16 rfl rfl)
theorem dX5_isShelterBy_17 : decode cX5_isShelterBy 17 = .ok (.aload_n 0, 1) := dk_42 (dk_at dksX5_isShelterBy_0 17 rfl rfl)
theorem dX5_isShelterBy_18 : decode cX5_isShelterBy 18 = .ok (.getfield 84, 3) := dk_180 0 84 (dk_at dksX5_isShelterBy_0 18 rfl rfl)
theorem dX5_isShelterBy_21 : decode cX5_isShelterBy 21 = .ok (.iload_n 1, 1) := dk_27 (dk_at dksX5_isShelterBy_0 21 rfl rfl)
theorem dX5_isShelterBy_22 : decode cX5_isShelterBy 22 = .ok (.iaload, 1) := dk_46 (dk_at dksX5_isShelterBy_0 22 rfl rfl)
theorem dX5_isShelterBy_23 : decode cX5_isShelterBy 23 = .ok (.invokestatic 230, 3) := dk_184 0 230 (dk_at dksX5_isShelterBy_1 0 rfl rfl)
theorem dX5_isShelterBy_26 : decode cX5_isShelterBy 26 = .ok (.ifCond .eq 7, 3) := dk_153 0 7 (dk_at dksX5_isShelterBy_1 3 rfl rfl)
theorem dX5_isShelterBy_29 : decode cX5_isShelterBy 29 = .ok (.iconst 1, 1) := dk_4 (dk_at dksX5_isShelterBy_1 6 rfl rfl)
theorem dX5_isShelterBy_30 : decode cX5_isShelterBy 30 = .ok (.goto 4, 3) := dk_167 0 4 (dk_at dksX5_isShelterBy_1 7 rfl rfl)
theorem dX5_isShelterBy_33 : decode cX5_isShelterBy 33 = .ok (.iconst 0, 1) := dk_3 (dk_at dksX5_isShelterBy_1 10 rfl rfl)
theorem dX5_isShelterBy_34 : decode cX5_isShelterBy 34 = .ok (.ireturn, 1) := dk_172 (dk_at dksX5_isShelterBy_1 11 rfl rfl)
abbrev cX5_known : ByteArray := prog_22_method_44_code
def yX5_known : MethodName := ⟨RX5, "known", "(I)I"⟩
def dkwX5_known_12 : List UInt8 := [16, 254, 172, 27, 7, 160, 0, 7, 29, 167, 0, 5, 21, 4, 172]
abbrev dktX5_known_12 : List UInt8 := dkwX5_known_12 ++ []
def dkwX5_known_11 : List UInt8 := [28, 172, 21, 5, 172, 21, 6, 172, 21, 7, 172, 21, 6, 21, 7, 160, 0, 9, 29, 21, 4, 164, 0, 6]
abbrev dktX5_known_11 : List UInt8 := dkwX5_known_11 ++ dktX5_known_12
def dkwX5_known_10 : List UInt8 := [170, 0, 0, 0, 0, 0, 42, 0, 0, 0, 0, 0, 0, 0, 3, 0, 0, 0, 31, 0, 0, 0, 33, 0, 0, 0, 36, 0, 0, 0, 39]
abbrev dktX5_known_10 : List UInt8 := dkwX5_known_10 ++ dktX5_known_11
def dkwX5_known_9 : List UInt8 := [132, 8, 1, 167, 255, 80, 21, 7, 154, 0, 6, 16, 254, 172, 27]
abbrev dktX5_known_9 : List UInt8 := dkwX5_known_9 ++ dktX5_known_10
def dkwX5_known_8 : List UInt8 := [21, 8, 46, 21, 7, 164, 0, 13, 42, 180, 0, 87, 21, 8, 46, 167, 0, 5, 21, 7, 54, 7]
abbrev dktX5_known_8 : List UInt8 := dkwX5_known_8 ++ dktX5_known_9
def dkwX5_known_7 : List UInt8 := [21, 6, 162, 0, 13, 42, 180, 0, 87, 21, 8, 46, 167, 0, 5, 21, 6, 54, 6, 42, 180, 0, 87]
abbrev dktX5_known_7 : List UInt8 := dkwX5_known_7 ++ dktX5_known_8
def dkwX5_known_6 : List UInt8 := [164, 0, 13, 42, 180, 0, 84, 21, 8, 46, 167, 0, 5, 21, 5, 54, 5, 42, 180, 0, 87, 21, 8, 46]
abbrev dktX5_known_6 : List UInt8 := dkwX5_known_6 ++ dktX5_known_7
def dkwX5_known_5 : List UInt8 := [180, 0, 84, 21, 8, 46, 167, 0, 5, 21, 4, 54, 4, 42, 180, 0, 84, 21, 8, 46, 21, 5]
abbrev dktX5_known_5 : List UInt8 := dkwX5_known_5 ++ dktX5_known_6
def dkwX5_known_4 : List UInt8 := [180, 0, 81, 21, 8, 46, 167, 0, 4, 29, 62, 42, 180, 0, 84, 21, 8, 46, 21, 4, 162, 0, 13, 42]
abbrev dktX5_known_4 : List UInt8 := dkwX5_known_4 ++ dktX5_known_5
def dkwX5_known_3 : List UInt8 := [180, 0, 81, 21, 8, 46, 167, 0, 4, 28, 61, 42, 180, 0, 81, 21, 8, 46, 29, 164, 0, 13, 42]
abbrev dktX5_known_3 : List UInt8 := dkwX5_known_3 ++ dktX5_known_4
def dkwX5_known_2 : List UInt8 := [182, 1, 57, 16, 254, 159, 0, 6, 167, 0, 153, 42, 180, 0, 81, 21, 8, 46, 28, 162, 0, 13, 42]
abbrev dktX5_known_2 : List UInt8 := dkwX5_known_2 ++ dktX5_known_3
def dkwX5_known_1 : List UInt8 := [16, 61, 54, 6, 3, 54, 7, 3, 54, 8, 21, 8, 42, 180, 1, 45, 162, 0, 173, 42, 21, 8]
abbrev dktX5_known_1 : List UInt8 := dkwX5_known_1 ++ dktX5_known_2
def dkwX5_known_0 : List UInt8 := [27, 3, 8, 184, 0, 230, 154, 0, 5, 2, 172, 16, 32, 61, 2, 62, 16, 32, 54, 4, 2, 54, 5]
abbrev dktX5_known_0 : List UInt8 := dkwX5_known_0 ++ dktX5_known_1
theorem dksX5_known_0 : cX5_known.data.toList.drop 0 = dktX5_known_0 := by decide +kernel
theorem dksX5_known_1 : cX5_known.data.toList.drop 23 = dktX5_known_1 := dk_seg dksX5_known_0 23 rfl rfl
theorem dksX5_known_2 : cX5_known.data.toList.drop 45 = dktX5_known_2 := dk_seg dksX5_known_1 22 rfl rfl
theorem dksX5_known_3 : cX5_known.data.toList.drop 68 = dktX5_known_3 := dk_seg dksX5_known_2 23 rfl rfl
theorem dksX5_known_4 : cX5_known.data.toList.drop 91 = dktX5_known_4 := dk_seg dksX5_known_3 23 rfl rfl
theorem dksX5_known_5 : cX5_known.data.toList.drop 115 = dktX5_known_5 := dk_seg dksX5_known_4 24 rfl rfl
theorem dksX5_known_6 : cX5_known.data.toList.drop 137 = dktX5_known_6 := dk_seg dksX5_known_5 22 rfl rfl
theorem dksX5_known_7 : cX5_known.data.toList.drop 161 = dktX5_known_7 := dk_seg dksX5_known_6 24 rfl rfl
theorem dksX5_known_8 : cX5_known.data.toList.drop 184 = dktX5_known_8 := dk_seg dksX5_known_7 23 rfl rfl
theorem dksX5_known_9 : cX5_known.data.toList.drop 206 = dktX5_known_9 := dk_seg dksX5_known_8 22 rfl rfl
theorem dksX5_known_10 : cX5_known.data.toList.drop 221 = dktX5_known_10 := dk_seg dksX5_known_9 15 rfl rfl
theorem dksX5_known_11 : cX5_known.data.toList.drop 252 = dktX5_known_11 := dk_seg dksX5_known_10 31 rfl rfl
theorem dksX5_known_12 : cX5_known.data.toList.drop 276 = dktX5_known_12 := dk_seg dksX5_known_11 24 rfl rfl
theorem dX5_known_0 : decode cX5_known 0 = .ok (.iload_n 1, 1) := dk_27 (dk_at dksX5_known_0 0 rfl rfl)
theorem dX5_known_1 : decode cX5_known 1 = .ok (.iconst 0, 1) := dk_3 (dk_at dksX5_known_0 1 rfl rfl)
theorem dX5_known_2 : decode cX5_known 2 = .ok (.iconst 5, 1) := dk_8 (dk_at dksX5_known_0 2 rfl rfl)
theorem dX5_known_3 : decode cX5_known 3 = .ok (.invokestatic 230, 3) := dk_184 0 230 (dk_at dksX5_known_0 3 rfl rfl)
theorem dX5_known_6 : decode cX5_known 6 = .ok (.ifCond .ne 5, 3) := dk_154 0 5 (dk_at dksX5_known_0 6 rfl rfl)
theorem dX5_known_9 : decode cX5_known 9 = .ok (.iconst (-1), 1) := dk_2 (dk_at dksX5_known_0 9 rfl rfl)
theorem dX5_known_10 : decode cX5_known 10 = .ok (.ireturn, 1) := dk_172 (dk_at dksX5_known_0 10 rfl rfl)
theorem dX5_known_11 : decode cX5_known 11 = .ok (.bipush 32, 2) := dk_16 32 (dk_at dksX5_known_0 11 rfl rfl)
theorem dX5_known_13 : decode cX5_known 13 = .ok (.istore_n 2, 1) := dk_61 (dk_at dksX5_known_0 13 rfl rfl)
theorem dX5_known_14 : decode cX5_known 14 = .ok (.iconst (-1), 1) := dk_2 (dk_at dksX5_known_0 14 rfl rfl)
theorem dX5_known_15 : decode cX5_known 15 = .ok (.istore_n 3, 1) := dk_62 (dk_at dksX5_known_0 15 rfl rfl)
theorem dX5_known_16 : decode cX5_known 16 = .ok (.bipush 32, 2) := dk_16 32 (dk_at dksX5_known_0 16 rfl rfl)
theorem dX5_known_18 : decode cX5_known 18 = .ok (.istore 4, 2) := dk_54 4 (dk_at dksX5_known_0 18 rfl rfl)
theorem dX5_known_20 : decode cX5_known 20 = .ok (.iconst (-1), 1) := dk_2 (dk_at dksX5_known_0 20 rfl rfl)
theorem dX5_known_21 : decode cX5_known 21 = .ok (.istore 5, 2) := dk_54 5 (dk_at dksX5_known_0 21 rfl rfl)
theorem dX5_known_23 : decode cX5_known 23 = .ok (.bipush 61, 2) := dk_16 61 (dk_at dksX5_known_1 0 rfl rfl)
theorem dX5_known_25 : decode cX5_known 25 = .ok (.istore 6, 2) := dk_54 6 (dk_at dksX5_known_1 2 rfl rfl)
theorem dX5_known_27 : decode cX5_known 27 = .ok (.iconst 0, 1) := dk_3 (dk_at dksX5_known_1 4 rfl rfl)
theorem dX5_known_28 : decode cX5_known 28 = .ok (.istore 7, 2) := dk_54 7 (dk_at dksX5_known_1 5 rfl rfl)
theorem dX5_known_30 : decode cX5_known 30 = .ok (.iconst 0, 1) := dk_3 (dk_at dksX5_known_1 7 rfl rfl)
theorem dX5_known_31 : decode cX5_known 31 = .ok (.istore 8, 2) := dk_54 8 (dk_at dksX5_known_1 8 rfl rfl)
theorem dX5_known_33 : decode cX5_known 33 = .ok (.iload 8, 2) := dk_21 8 (dk_at dksX5_known_1 10 rfl rfl)
theorem dX5_known_35 : decode cX5_known 35 = .ok (.aload_n 0, 1) := dk_42 (dk_at dksX5_known_1 12 rfl rfl)
theorem dX5_known_36 : decode cX5_known 36 = .ok (.getfield 301, 3) := dk_180 1 45 (dk_at dksX5_known_1 13 rfl rfl)
theorem dX5_known_39 : decode cX5_known 39 = .ok (.if_icmp .ge 173, 3) := dk_162 0 173 (dk_at dksX5_known_1 16 rfl rfl)
theorem dX5_known_42 : decode cX5_known 42 = .ok (.aload_n 0, 1) := dk_42 (dk_at dksX5_known_1 19 rfl rfl)
theorem dX5_known_43 : decode cX5_known 43 = .ok (.iload 8, 2) := dk_21 8 (dk_at dksX5_known_1 20 rfl rfl)
theorem dX5_known_45 : decode cX5_known 45 = .ok (.invokevirtual 313, 3) := dk_182 1 57 (dk_at dksX5_known_2 0 rfl rfl)
theorem dX5_known_48 : decode cX5_known 48 = .ok (.bipush (-2), 2) := dk_16 254 (dk_at dksX5_known_2 3 rfl rfl)
theorem dX5_known_50 : decode cX5_known 50 = .ok (.if_icmp .eq 6, 3) := dk_159 0 6 (dk_at dksX5_known_2 5 rfl rfl)
theorem dX5_known_53 : decode cX5_known 53 = .ok (.goto 153, 3) := dk_167 0 153 (dk_at dksX5_known_2 8 rfl rfl)
theorem dX5_known_56 : decode cX5_known 56 = .ok (.aload_n 0, 1) := dk_42 (dk_at dksX5_known_2 11 rfl rfl)
theorem dX5_known_57 : decode cX5_known 57 = .ok (.getfield 81, 3) := dk_180 0 81 (dk_at dksX5_known_2 12 rfl rfl)
theorem dX5_known_60 : decode cX5_known 60 = .ok (.iload 8, 2) := dk_21 8 (dk_at dksX5_known_2 15 rfl rfl)
theorem dX5_known_62 : decode cX5_known 62 = .ok (.iaload, 1) := dk_46 (dk_at dksX5_known_2 17 rfl rfl)
theorem dX5_known_63 : decode cX5_known 63 = .ok (.iload_n 2, 1) := dk_28 (dk_at dksX5_known_2 18 rfl rfl)
theorem dX5_known_64 : decode cX5_known 64 = .ok (.if_icmp .ge 13, 3) := dk_162 0 13 (dk_at dksX5_known_2 19 rfl rfl)
theorem dX5_known_67 : decode cX5_known 67 = .ok (.aload_n 0, 1) := dk_42 (dk_at dksX5_known_2 22 rfl rfl)
theorem dX5_known_68 : decode cX5_known 68 = .ok (.getfield 81, 3) := dk_180 0 81 (dk_at dksX5_known_3 0 rfl rfl)
theorem dX5_known_71 : decode cX5_known 71 = .ok (.iload 8, 2) := dk_21 8 (dk_at dksX5_known_3 3 rfl rfl)
theorem dX5_known_73 : decode cX5_known 73 = .ok (.iaload, 1) := dk_46 (dk_at dksX5_known_3 5 rfl rfl)
theorem dX5_known_74 : decode cX5_known 74 = .ok (.goto 4, 3) := dk_167 0 4 (dk_at dksX5_known_3 6 rfl rfl)
theorem dX5_known_77 : decode cX5_known 77 = .ok (.iload_n 2, 1) := dk_28 (dk_at dksX5_known_3 9 rfl rfl)
theorem dX5_known_78 : decode cX5_known 78 = .ok (.istore_n 2, 1) := dk_61 (dk_at dksX5_known_3 10 rfl rfl)
theorem dX5_known_79 : decode cX5_known 79 = .ok (.aload_n 0, 1) := dk_42 (dk_at dksX5_known_3 11 rfl rfl)
theorem dX5_known_80 : decode cX5_known 80 = .ok (.getfield 81, 3) := dk_180 0 81 (dk_at dksX5_known_3 12 rfl rfl)
theorem dX5_known_83 : decode cX5_known 83 = .ok (.iload 8, 2) := dk_21 8 (dk_at dksX5_known_3 15 rfl rfl)
theorem dX5_known_85 : decode cX5_known 85 = .ok (.iaload, 1) := dk_46 (dk_at dksX5_known_3 17 rfl rfl)
theorem dX5_known_86 : decode cX5_known 86 = .ok (.iload_n 3, 1) := dk_29 (dk_at dksX5_known_3 18 rfl rfl)
theorem dX5_known_87 : decode cX5_known 87 = .ok (.if_icmp .le 13, 3) := dk_164 0 13 (dk_at dksX5_known_3 19 rfl rfl)
theorem dX5_known_90 : decode cX5_known 90 = .ok (.aload_n 0, 1) := dk_42 (dk_at dksX5_known_3 22 rfl rfl)
theorem dX5_known_91 : decode cX5_known 91 = .ok (.getfield 81, 3) := dk_180 0 81 (dk_at dksX5_known_4 0 rfl rfl)
theorem dX5_known_94 : decode cX5_known 94 = .ok (.iload 8, 2) := dk_21 8 (dk_at dksX5_known_4 3 rfl rfl)
theorem dX5_known_96 : decode cX5_known 96 = .ok (.iaload, 1) := dk_46 (dk_at dksX5_known_4 5 rfl rfl)
theorem dX5_known_97 : decode cX5_known 97 = .ok (.goto 4, 3) := dk_167 0 4 (dk_at dksX5_known_4 6 rfl rfl)
theorem dX5_known_100 : decode cX5_known 100 = .ok (.iload_n 3, 1) := dk_29 (dk_at dksX5_known_4 9 rfl rfl)
theorem dX5_known_101 : decode cX5_known 101 = .ok (.istore_n 3, 1) := dk_62 (dk_at dksX5_known_4 10 rfl rfl)
theorem dX5_known_102 : decode cX5_known 102 = .ok (.aload_n 0, 1) := dk_42 (dk_at dksX5_known_4 11 rfl rfl)
theorem dX5_known_103 : decode cX5_known 103 = .ok (.getfield 84, 3) := dk_180 0 84 (dk_at dksX5_known_4 12 rfl rfl)
theorem dX5_known_106 : decode cX5_known 106 = .ok (.iload 8, 2) := dk_21 8 (dk_at dksX5_known_4 15 rfl rfl)
theorem dX5_known_108 : decode cX5_known 108 = .ok (.iaload, 1) := dk_46 (dk_at dksX5_known_4 17 rfl rfl)
theorem dX5_known_109 : decode cX5_known 109 = .ok (.iload 4, 2) := dk_21 4 (dk_at dksX5_known_4 18 rfl rfl)
theorem dX5_known_111 : decode cX5_known 111 = .ok (.if_icmp .ge 13, 3) := dk_162 0 13 (dk_at dksX5_known_4 20 rfl rfl)
theorem dX5_known_114 : decode cX5_known 114 = .ok (.aload_n 0, 1) := dk_42 (dk_at dksX5_known_4 23 rfl rfl)
theorem dX5_known_115 : decode cX5_known 115 = .ok (.getfield 84, 3) := dk_180 0 84 (dk_at dksX5_known_5 0 rfl rfl)
theorem dX5_known_118 : decode cX5_known 118 = .ok (.iload 8, 2) := dk_21 8 (dk_at dksX5_known_5 3 rfl rfl)
theorem dX5_known_120 : decode cX5_known 120 = .ok (.iaload, 1) := dk_46 (dk_at dksX5_known_5 5 rfl rfl)
theorem dX5_known_121 : decode cX5_known 121 = .ok (.goto 5, 3) := dk_167 0 5 (dk_at dksX5_known_5 6 rfl rfl)
theorem dX5_known_124 : decode cX5_known 124 = .ok (.iload 4, 2) := dk_21 4 (dk_at dksX5_known_5 9 rfl rfl)
theorem dX5_known_126 : decode cX5_known 126 = .ok (.istore 4, 2) := dk_54 4 (dk_at dksX5_known_5 11 rfl rfl)
theorem dX5_known_128 : decode cX5_known 128 = .ok (.aload_n 0, 1) := dk_42 (dk_at dksX5_known_5 13 rfl rfl)
theorem dX5_known_129 : decode cX5_known 129 = .ok (.getfield 84, 3) := dk_180 0 84 (dk_at dksX5_known_5 14 rfl rfl)
theorem dX5_known_132 : decode cX5_known 132 = .ok (.iload 8, 2) := dk_21 8 (dk_at dksX5_known_5 17 rfl rfl)
theorem dX5_known_134 : decode cX5_known 134 = .ok (.iaload, 1) := dk_46 (dk_at dksX5_known_5 19 rfl rfl)
theorem dX5_known_135 : decode cX5_known 135 = .ok (.iload 5, 2) := dk_21 5 (dk_at dksX5_known_5 20 rfl rfl)
theorem dX5_known_137 : decode cX5_known 137 = .ok (.if_icmp .le 13, 3) := dk_164 0 13 (dk_at dksX5_known_6 0 rfl rfl)
theorem dX5_known_140 : decode cX5_known 140 = .ok (.aload_n 0, 1) := dk_42 (dk_at dksX5_known_6 3 rfl rfl)
theorem dX5_known_141 : decode cX5_known 141 = .ok (.getfield 84, 3) := dk_180 0 84 (dk_at dksX5_known_6 4 rfl rfl)
theorem dX5_known_144 : decode cX5_known 144 = .ok (.iload 8, 2) := dk_21 8 (dk_at dksX5_known_6 7 rfl rfl)
theorem dX5_known_146 : decode cX5_known 146 = .ok (.iaload, 1) := dk_46 (dk_at dksX5_known_6 9 rfl rfl)
theorem dX5_known_147 : decode cX5_known 147 = .ok (.goto 5, 3) := dk_167 0 5 (dk_at dksX5_known_6 10 rfl rfl)
theorem dX5_known_150 : decode cX5_known 150 = .ok (.iload 5, 2) := dk_21 5 (dk_at dksX5_known_6 13 rfl rfl)
theorem dX5_known_152 : decode cX5_known 152 = .ok (.istore 5, 2) := dk_54 5 (dk_at dksX5_known_6 15 rfl rfl)
theorem dX5_known_154 : decode cX5_known 154 = .ok (.aload_n 0, 1) := dk_42 (dk_at dksX5_known_6 17 rfl rfl)
theorem dX5_known_155 : decode cX5_known 155 = .ok (.getfield 87, 3) := dk_180 0 87 (dk_at dksX5_known_6 18 rfl rfl)
theorem dX5_known_158 : decode cX5_known 158 = .ok (.iload 8, 2) := dk_21 8 (dk_at dksX5_known_6 21 rfl rfl)
theorem dX5_known_160 : decode cX5_known 160 = .ok (.iaload, 1) := dk_46 (dk_at dksX5_known_6 23 rfl rfl)
theorem dX5_known_161 : decode cX5_known 161 = .ok (.iload 6, 2) := dk_21 6 (dk_at dksX5_known_7 0 rfl rfl)
theorem dX5_known_163 : decode cX5_known 163 = .ok (.if_icmp .ge 13, 3) := dk_162 0 13 (dk_at dksX5_known_7 2 rfl rfl)
theorem dX5_known_166 : decode cX5_known 166 = .ok (.aload_n 0, 1) := dk_42 (dk_at dksX5_known_7 5 rfl rfl)
theorem dX5_known_167 : decode cX5_known 167 = .ok (.getfield 87, 3) := dk_180 0 87 (dk_at dksX5_known_7 6 rfl rfl)
theorem dX5_known_170 : decode cX5_known 170 = .ok (.iload 8, 2) := dk_21 8 (dk_at dksX5_known_7 9 rfl rfl)
theorem dX5_known_172 : decode cX5_known 172 = .ok (.iaload, 1) := dk_46 (dk_at dksX5_known_7 11 rfl rfl)
theorem dX5_known_173 : decode cX5_known 173 = .ok (.goto 5, 3) := dk_167 0 5 (dk_at dksX5_known_7 12 rfl rfl)
theorem dX5_known_176 : decode cX5_known 176 = .ok (.iload 6, 2) := dk_21 6 (dk_at dksX5_known_7 15 rfl rfl)
theorem dX5_known_178 : decode cX5_known 178 = .ok (.istore 6, 2) := dk_54 6 (dk_at dksX5_known_7 17 rfl rfl)
theorem dX5_known_180 : decode cX5_known 180 = .ok (.aload_n 0, 1) := dk_42 (dk_at dksX5_known_7 19 rfl rfl)
theorem dX5_known_181 : decode cX5_known 181 = .ok (.getfield 87, 3) := dk_180 0 87 (dk_at dksX5_known_7 20 rfl rfl)
theorem dX5_known_184 : decode cX5_known 184 = .ok (.iload 8, 2) := dk_21 8 (dk_at dksX5_known_8 0 rfl rfl)
theorem dX5_known_186 : decode cX5_known 186 = .ok (.iaload, 1) := dk_46 (dk_at dksX5_known_8 2 rfl rfl)
theorem dX5_known_187 : decode cX5_known 187 = .ok (.iload 7, 2) := dk_21 7 (dk_at dksX5_known_8 3 rfl rfl)
theorem dX5_known_189 : decode cX5_known 189 = .ok (.if_icmp .le 13, 3) := dk_164 0 13 (dk_at dksX5_known_8 5 rfl rfl)
theorem dX5_known_192 : decode cX5_known 192 = .ok (.aload_n 0, 1) := dk_42 (dk_at dksX5_known_8 8 rfl rfl)
theorem dX5_known_193 : decode cX5_known 193 = .ok (.getfield 87, 3) := dk_180 0 87 (dk_at dksX5_known_8 9 rfl rfl)
theorem dX5_known_196 : decode cX5_known 196 = .ok (.iload 8, 2) := dk_21 8 (dk_at dksX5_known_8 12 rfl rfl)
theorem dX5_known_198 : decode cX5_known 198 = .ok (.iaload, 1) := dk_46 (dk_at dksX5_known_8 14 rfl rfl)
theorem dX5_known_199 : decode cX5_known 199 = .ok (.goto 5, 3) := dk_167 0 5 (dk_at dksX5_known_8 15 rfl rfl)
theorem dX5_known_202 : decode cX5_known 202 = .ok (.iload 7, 2) := dk_21 7 (dk_at dksX5_known_8 18 rfl rfl)
theorem dX5_known_204 : decode cX5_known 204 = .ok (.istore 7, 2) := dk_54 7 (dk_at dksX5_known_8 20 rfl rfl)
theorem dX5_known_206 : decode cX5_known 206 = .ok (.iinc 8 1, 3) := dk_132 8 1 (dk_at dksX5_known_9 0 rfl rfl)
theorem dX5_known_209 : decode cX5_known 209 = .ok (.goto (-176), 3) := dk_167 255 80 (dk_at dksX5_known_9 3 rfl rfl)
theorem dX5_known_212 : decode cX5_known 212 = .ok (.iload 7, 2) := dk_21 7 (dk_at dksX5_known_9 6 rfl rfl)
theorem dX5_known_214 : decode cX5_known 214 = .ok (.ifCond .ne 6, 3) := dk_154 0 6 (dk_at dksX5_known_9 8 rfl rfl)
theorem dX5_known_217 : decode cX5_known 217 = .ok (.bipush (-2), 2) := dk_16 254 (dk_at dksX5_known_9 11 rfl rfl)
theorem dX5_known_219 : decode cX5_known 219 = .ok (.ireturn, 1) := dk_172 (dk_at dksX5_known_9 13 rfl rfl)
theorem dX5_known_220 : decode cX5_known 220 = .ok (.iload_n 1, 1) := dk_27 (dk_at dksX5_known_9 14 rfl rfl)
theorem dX5_known_221 : decode cX5_known 221 = .ok (.tableswitch 42 0 3 #[31, 33, 36, 39], 31) := by decide +kernel
theorem dX5_known_252 : decode cX5_known 252 = .ok (.iload_n 2, 1) := dk_28 (dk_at dksX5_known_11 0 rfl rfl)
theorem dX5_known_253 : decode cX5_known 253 = .ok (.ireturn, 1) := dk_172 (dk_at dksX5_known_11 1 rfl rfl)
theorem dX5_known_254 : decode cX5_known 254 = .ok (.iload 5, 2) := dk_21 5 (dk_at dksX5_known_11 2 rfl rfl)
theorem dX5_known_256 : decode cX5_known 256 = .ok (.ireturn, 1) := dk_172 (dk_at dksX5_known_11 4 rfl rfl)
theorem dX5_known_257 : decode cX5_known 257 = .ok (.iload 6, 2) := dk_21 6 (dk_at dksX5_known_11 5 rfl rfl)
theorem dX5_known_259 : decode cX5_known 259 = .ok (.ireturn, 1) := dk_172 (dk_at dksX5_known_11 7 rfl rfl)
theorem dX5_known_260 : decode cX5_known 260 = .ok (.iload 7, 2) := dk_21 7 (dk_at dksX5_known_11 8 rfl rfl)
theorem dX5_known_262 : decode cX5_known 262 = .ok (.ireturn, 1) := dk_172 (dk_at dksX5_known_11 10 rfl rfl)
theorem dX5_known_263 : decode cX5_known 263 = .ok (.iload 6, 2) := dk_21 6 (dk_at dksX5_known_11 11 rfl rfl)
theorem dX5_known_265 : decode cX5_known 265 = .ok (.iload 7, 2) := dk_21 7 (dk_at dksX5_known_11 13 rfl rfl)
theorem dX5_known_267 : decode cX5_known 267 = .ok (.if_icmp .ne 9, 3) := dk_160 0 9 (dk_at dksX5_known_11 15 rfl rfl)
theorem dX5_known_270 : decode cX5_known 270 = .ok (.iload_n 3, 1) := dk_29 (dk_at dksX5_known_11 18 rfl rfl)
theorem dX5_known_271 : decode cX5_known 271 = .ok (.iload 4, 2) := dk_21 4 (dk_at dksX5_known_11 19 rfl rfl)
theorem dX5_known_273 : decode cX5_known 273 = .ok (.if_icmp .le 6, 3) := dk_164 0 6 (dk_at dksX5_known_11 21 rfl rfl)
theorem dX5_known_276 : decode cX5_known 276 = .ok (.bipush (-2), 2) := dk_16 254 (dk_at dksX5_known_12 0 rfl rfl)
theorem dX5_known_278 : decode cX5_known 278 = .ok (.ireturn, 1) := dk_172 (dk_at dksX5_known_12 2 rfl rfl)
theorem dX5_known_279 : decode cX5_known 279 = .ok (.iload_n 1, 1) := dk_27 (dk_at dksX5_known_12 3 rfl rfl)
theorem dX5_known_280 : decode cX5_known 280 = .ok (.iconst 4, 1) := dk_7 (dk_at dksX5_known_12 4 rfl rfl)
theorem dX5_known_281 : decode cX5_known 281 = .ok (.if_icmp .ne 7, 3) := dk_160 0 7 (dk_at dksX5_known_12 5 rfl rfl)
theorem dX5_known_284 : decode cX5_known 284 = .ok (.iload_n 3, 1) := dk_29 (dk_at dksX5_known_12 8 rfl rfl)
theorem dX5_known_285 : decode cX5_known 285 = .ok (.goto 5, 3) := dk_167 0 5 (dk_at dksX5_known_12 9 rfl rfl)
theorem dX5_known_288 : decode cX5_known 288 = .ok (.iload 4, 2) := dk_21 4 (dk_at dksX5_known_12 12 rfl rfl)
theorem dX5_known_290 : decode cX5_known 290 = .ok (.ireturn, 1) := dk_172 (dk_at dksX5_known_12 14 rfl rfl)
abbrev cX5_feed : ByteArray := prog_22_method_45_code
def yX5_feed : MethodName := ⟨RX5, "feed", "(II)I"⟩
def dkwX5_feed_2 : List UInt8 := [145, 84, 42, 89, 180, 1, 60, 4, 96, 181, 1, 60, 132, 3, 1, 167, 255, 222, 42, 180, 1, 60, 172]
abbrev dktX5_feed_2 : List UInt8 := dkwX5_feed_2 ++ []
def dkwX5_feed_1 : List UInt8 := [16, 253, 172, 3, 62, 29, 27, 162, 0, 35, 42, 180, 0, 96, 42, 180, 1, 60, 28, 16, 8, 29, 104, 122]
abbrev dktX5_feed_1 : List UInt8 := dkwX5_feed_1 ++ dktX5_feed_2
def dkwX5_feed_0 : List UInt8 := [27, 4, 7, 184, 0, 230, 154, 0, 5, 2, 172, 42, 180, 1, 60, 27, 96, 17, 0, 160, 164, 0, 6]
abbrev dktX5_feed_0 : List UInt8 := dkwX5_feed_0 ++ dktX5_feed_1
theorem dksX5_feed_0 : cX5_feed.data.toList.drop 0 = dktX5_feed_0 := by decide +kernel
theorem dksX5_feed_1 : cX5_feed.data.toList.drop 23 = dktX5_feed_1 := dk_seg dksX5_feed_0 23 rfl rfl
theorem dksX5_feed_2 : cX5_feed.data.toList.drop 47 = dktX5_feed_2 := dk_seg dksX5_feed_1 24 rfl rfl
theorem dX5_feed_0 : decode cX5_feed 0 = .ok (.iload_n 1, 1) := dk_27 (dk_at dksX5_feed_0 0 rfl rfl)
theorem dX5_feed_1 : decode cX5_feed 1 = .ok (.iconst 1, 1) := dk_4 (dk_at dksX5_feed_0 1 rfl rfl)
theorem dX5_feed_2 : decode cX5_feed 2 = .ok (.iconst 4, 1) := dk_7 (dk_at dksX5_feed_0 2 rfl rfl)
theorem dX5_feed_3 : decode cX5_feed 3 = .ok (.invokestatic 230, 3) := dk_184 0 230 (dk_at dksX5_feed_0 3 rfl rfl)
theorem dX5_feed_6 : decode cX5_feed 6 = .ok (.ifCond .ne 5, 3) := dk_154 0 5 (dk_at dksX5_feed_0 6 rfl rfl)
theorem dX5_feed_9 : decode cX5_feed 9 = .ok (.iconst (-1), 1) := dk_2 (dk_at dksX5_feed_0 9 rfl rfl)
theorem dX5_feed_10 : decode cX5_feed 10 = .ok (.ireturn, 1) := dk_172 (dk_at dksX5_feed_0 10 rfl rfl)
theorem dX5_feed_11 : decode cX5_feed 11 = .ok (.aload_n 0, 1) := dk_42 (dk_at dksX5_feed_0 11 rfl rfl)
theorem dX5_feed_12 : decode cX5_feed 12 = .ok (.getfield 316, 3) := dk_180 1 60 (dk_at dksX5_feed_0 12 rfl rfl)
theorem dX5_feed_15 : decode cX5_feed 15 = .ok (.iload_n 1, 1) := dk_27 (dk_at dksX5_feed_0 15 rfl rfl)
theorem dX5_feed_16 : decode cX5_feed 16 = .ok (.iadd, 1) := dk_96 (dk_at dksX5_feed_0 16 rfl rfl)
theorem dX5_feed_17 : decode cX5_feed 17 = .ok (.sipush 160, 3) := dk_17 0 160 (dk_at dksX5_feed_0 17 rfl rfl)
theorem dX5_feed_20 : decode cX5_feed 20 = .ok (.if_icmp .le 6, 3) := dk_164 0 6 (dk_at dksX5_feed_0 20 rfl rfl)
theorem dX5_feed_23 : decode cX5_feed 23 = .ok (.bipush (-3), 2) := dk_16 253 (dk_at dksX5_feed_1 0 rfl rfl)
theorem dX5_feed_25 : decode cX5_feed 25 = .ok (.ireturn, 1) := dk_172 (dk_at dksX5_feed_1 2 rfl rfl)
theorem dX5_feed_26 : decode cX5_feed 26 = .ok (.iconst 0, 1) := dk_3 (dk_at dksX5_feed_1 3 rfl rfl)
theorem dX5_feed_27 : decode cX5_feed 27 = .ok (.istore_n 3, 1) := dk_62 (dk_at dksX5_feed_1 4 rfl rfl)
theorem dX5_feed_28 : decode cX5_feed 28 = .ok (.iload_n 3, 1) := dk_29 (dk_at dksX5_feed_1 5 rfl rfl)
theorem dX5_feed_29 : decode cX5_feed 29 = .ok (.iload_n 1, 1) := dk_27 (dk_at dksX5_feed_1 6 rfl rfl)
theorem dX5_feed_30 : decode cX5_feed 30 = .ok (.if_icmp .ge 35, 3) := dk_162 0 35 (dk_at dksX5_feed_1 7 rfl rfl)
theorem dX5_feed_33 : decode cX5_feed 33 = .ok (.aload_n 0, 1) := dk_42 (dk_at dksX5_feed_1 10 rfl rfl)
theorem dX5_feed_34 : decode cX5_feed 34 = .ok (.getfield 96, 3) := dk_180 0 96 (dk_at dksX5_feed_1 11 rfl rfl)
theorem dX5_feed_37 : decode cX5_feed 37 = .ok (.aload_n 0, 1) := dk_42 (dk_at dksX5_feed_1 14 rfl rfl)
theorem dX5_feed_38 : decode cX5_feed 38 = .ok (.getfield 316, 3) := dk_180 1 60 (dk_at dksX5_feed_1 15 rfl rfl)
theorem dX5_feed_41 : decode cX5_feed 41 = .ok (.iload_n 2, 1) := dk_28 (dk_at dksX5_feed_1 18 rfl rfl)
theorem dX5_feed_42 : decode cX5_feed 42 = .ok (.bipush 8, 2) := dk_16 8 (dk_at dksX5_feed_1 19 rfl rfl)
theorem dX5_feed_44 : decode cX5_feed 44 = .ok (.iload_n 3, 1) := dk_29 (dk_at dksX5_feed_1 21 rfl rfl)
theorem dX5_feed_45 : decode cX5_feed 45 = .ok (.imul, 1) := dk_104 (dk_at dksX5_feed_1 22 rfl rfl)
theorem dX5_feed_46 : decode cX5_feed 46 = .ok (.ishr, 1) := dk_122 (dk_at dksX5_feed_1 23 rfl rfl)
theorem dX5_feed_47 : decode cX5_feed 47 = .ok (.i2b, 1) := dk_145 (dk_at dksX5_feed_2 0 rfl rfl)
theorem dX5_feed_48 : decode cX5_feed 48 = .ok (.bastore, 1) := dk_84 (dk_at dksX5_feed_2 1 rfl rfl)
theorem dX5_feed_49 : decode cX5_feed 49 = .ok (.aload_n 0, 1) := dk_42 (dk_at dksX5_feed_2 2 rfl rfl)
theorem dX5_feed_50 : decode cX5_feed 50 = .ok (.dup, 1) := dk_89 (dk_at dksX5_feed_2 3 rfl rfl)
theorem dX5_feed_51 : decode cX5_feed 51 = .ok (.getfield 316, 3) := dk_180 1 60 (dk_at dksX5_feed_2 4 rfl rfl)
theorem dX5_feed_54 : decode cX5_feed 54 = .ok (.iconst 1, 1) := dk_4 (dk_at dksX5_feed_2 7 rfl rfl)
theorem dX5_feed_55 : decode cX5_feed 55 = .ok (.iadd, 1) := dk_96 (dk_at dksX5_feed_2 8 rfl rfl)
theorem dX5_feed_56 : decode cX5_feed 56 = .ok (.putfield 316, 3) := dk_181 1 60 (dk_at dksX5_feed_2 9 rfl rfl)
theorem dX5_feed_59 : decode cX5_feed 59 = .ok (.iinc 3 1, 3) := dk_132 3 1 (dk_at dksX5_feed_2 12 rfl rfl)
theorem dX5_feed_62 : decode cX5_feed 62 = .ok (.goto (-34), 3) := dk_167 255 222 (dk_at dksX5_feed_2 15 rfl rfl)
theorem dX5_feed_65 : decode cX5_feed 65 = .ok (.aload_n 0, 1) := dk_42 (dk_at dksX5_feed_2 18 rfl rfl)
theorem dX5_feed_66 : decode cX5_feed 66 = .ok (.getfield 316, 3) := dk_180 1 60 (dk_at dksX5_feed_2 19 rfl rfl)
theorem dX5_feed_69 : decode cX5_feed 69 = .ok (.ireturn, 1) := dk_172 (dk_at dksX5_feed_2 22 rfl rfl)
abbrev cX5_text : ByteArray := prog_22_method_59_code
def yX5_text : MethodName := ⟨RX5, "text", "(II)I"⟩
def dkwX5_text_8 : List UInt8 := [180, 1, 117, 4, 96, 181, 1, 117, 42, 180, 1, 117, 4, 100, 172]
abbrev dktX5_text_8 : List UInt8 := dkwX5_text_8 ++ []
def dkwX5_text_7 : List UInt8 := [180, 0, 103, 42, 180, 1, 117, 42, 180, 1, 25, 79, 42, 180, 0, 106, 42, 180, 1, 117, 28, 79, 42, 89]
abbrev dktX5_text_7 : List UInt8 := dkwX5_text_7 ++ dktX5_text_8
def dkwX5_text_6 : List UInt8 := [155, 0, 11, 16, 156, 42, 180, 1, 66, 100, 172, 42, 180, 0, 100, 42, 180, 1, 117, 27, 79, 42]
abbrev dktX5_text_6 : List UInt8 := dkwX5_text_6 ++ dktX5_text_7
def dkwX5_text_5 : List UInt8 := [180, 1, 63, 42, 180, 1, 60, 162, 0, 7, 42, 182, 1, 78, 42, 3, 181, 1, 60, 42, 180, 1, 66]
abbrev dktX5_text_5 : List UInt8 := dkwX5_text_5 ++ dktX5_text_6
def dkwX5_text_4 : List UInt8 := [89, 180, 1, 63, 4, 96, 181, 1, 63, 42, 182, 1, 120, 167, 255, 226, 42, 180, 1, 66, 156, 0, 18, 42]
abbrev dktX5_text_4 : List UInt8 := dkwX5_text_4 ++ dktX5_text_5
def dkwX5_text_3 : List UInt8 := [181, 1, 75, 42, 182, 1, 120, 42, 180, 1, 66, 156, 0, 29, 42, 182, 1, 81, 16, 59, 160, 0, 20, 42]
abbrev dktX5_text_3 : List UInt8 := dkwX5_text_3 ++ dktX5_text_4
def dkwX5_text_2 : List UInt8 := [180, 1, 69, 3, 79, 42, 3, 181, 1, 72, 42, 3, 181, 1, 63, 42, 2, 181, 1, 66, 42, 3]
abbrev dktX5_text_2 : List UInt8 := dkwX5_text_2 ++ dktX5_text_3
def dkwX5_text_1 : List UInt8 := [180, 1, 117, 16, 16, 160, 0, 6, 16, 253, 172, 42, 42, 180, 1, 117, 181, 1, 69, 42, 180, 0, 109, 42]
abbrev dktX5_text_1 : List UInt8 := dkwX5_text_1 ++ dktX5_text_2
def dkwX5_text_0 : List UInt8 := [27, 184, 1, 114, 153, 0, 17, 28, 42, 180, 1, 25, 17, 6, 163, 184, 0, 230, 154, 0, 5, 2, 172, 42]
abbrev dktX5_text_0 : List UInt8 := dkwX5_text_0 ++ dktX5_text_1
theorem dksX5_text_0 : cX5_text.data.toList.drop 0 = dktX5_text_0 := by decide +kernel
theorem dksX5_text_1 : cX5_text.data.toList.drop 24 = dktX5_text_1 := dk_seg dksX5_text_0 24 rfl rfl
theorem dksX5_text_2 : cX5_text.data.toList.drop 48 = dktX5_text_2 := dk_seg dksX5_text_1 24 rfl rfl
theorem dksX5_text_3 : cX5_text.data.toList.drop 70 = dktX5_text_3 := dk_seg dksX5_text_2 22 rfl rfl
theorem dksX5_text_4 : cX5_text.data.toList.drop 94 = dktX5_text_4 := dk_seg dksX5_text_3 24 rfl rfl
theorem dksX5_text_5 : cX5_text.data.toList.drop 118 = dktX5_text_5 := dk_seg dksX5_text_4 24 rfl rfl
theorem dksX5_text_6 : cX5_text.data.toList.drop 141 = dktX5_text_6 := dk_seg dksX5_text_5 23 rfl rfl
theorem dksX5_text_7 : cX5_text.data.toList.drop 163 = dktX5_text_7 := dk_seg dksX5_text_6 22 rfl rfl
theorem dksX5_text_8 : cX5_text.data.toList.drop 187 = dktX5_text_8 := dk_seg dksX5_text_7 24 rfl rfl
theorem dX5_text_0 : decode cX5_text 0 = .ok (.iload_n 1, 1) := dk_27 (dk_at dksX5_text_0 0 rfl rfl)
theorem dX5_text_1 : decode cX5_text 1 = .ok (.invokestatic 370, 3) := dk_184 1 114 (dk_at dksX5_text_0 1 rfl rfl)
theorem dX5_text_4 : decode cX5_text 4 = .ok (.ifCond .eq 17, 3) := dk_153 0 17 (dk_at dksX5_text_0 4 rfl rfl)
theorem dX5_text_7 : decode cX5_text 7 = .ok (.iload_n 2, 1) := dk_28 (dk_at dksX5_text_0 7 rfl rfl)
theorem dX5_text_8 : decode cX5_text 8 = .ok (.aload_n 0, 1) := dk_42 (dk_at dksX5_text_0 8 rfl rfl)
theorem dX5_text_9 : decode cX5_text 9 = .ok (.getfield 281, 3) := dk_180 1 25 (dk_at dksX5_text_0 9 rfl rfl)
theorem dX5_text_12 : decode cX5_text 12 = .ok (.sipush 1699, 3) := dk_17 6 163 (dk_at dksX5_text_0 12 rfl rfl)
theorem dX5_text_15 : decode cX5_text 15 = .ok (.invokestatic 230, 3) := dk_184 0 230 (dk_at dksX5_text_0 15 rfl rfl)
theorem dX5_text_18 : decode cX5_text 18 = .ok (.ifCond .ne 5, 3) := dk_154 0 5 (dk_at dksX5_text_0 18 rfl rfl)
theorem dX5_text_21 : decode cX5_text 21 = .ok (.iconst (-1), 1) := dk_2 (dk_at dksX5_text_0 21 rfl rfl)
theorem dX5_text_22 : decode cX5_text 22 = .ok (.ireturn, 1) := dk_172 (dk_at dksX5_text_0 22 rfl rfl)
theorem dX5_text_23 : decode cX5_text 23 = .ok (.aload_n 0, 1) := dk_42 (dk_at dksX5_text_0 23 rfl rfl)
theorem dX5_text_24 : decode cX5_text 24 = .ok (.getfield 373, 3) := dk_180 1 117 (dk_at dksX5_text_1 0 rfl rfl)
theorem dX5_text_27 : decode cX5_text 27 = .ok (.bipush 16, 2) := dk_16 16 (dk_at dksX5_text_1 3 rfl rfl)
theorem dX5_text_29 : decode cX5_text 29 = .ok (.if_icmp .ne 6, 3) := dk_160 0 6 (dk_at dksX5_text_1 5 rfl rfl)
theorem dX5_text_32 : decode cX5_text 32 = .ok (.bipush (-3), 2) := dk_16 253 (dk_at dksX5_text_1 8 rfl rfl)
theorem dX5_text_34 : decode cX5_text 34 = .ok (.ireturn, 1) := dk_172 (dk_at dksX5_text_1 10 rfl rfl)
theorem dX5_text_35 : decode cX5_text 35 = .ok (.aload_n 0, 1) := dk_42 (dk_at dksX5_text_1 11 rfl rfl)
theorem dX5_text_36 : decode cX5_text 36 = .ok (.aload_n 0, 1) := dk_42 (dk_at dksX5_text_1 12 rfl rfl)
theorem dX5_text_37 : decode cX5_text 37 = .ok (.getfield 373, 3) := dk_180 1 117 (dk_at dksX5_text_1 13 rfl rfl)
theorem dX5_text_40 : decode cX5_text 40 = .ok (.putfield 325, 3) := dk_181 1 69 (dk_at dksX5_text_1 16 rfl rfl)
theorem dX5_text_43 : decode cX5_text 43 = .ok (.aload_n 0, 1) := dk_42 (dk_at dksX5_text_1 19 rfl rfl)
theorem dX5_text_44 : decode cX5_text 44 = .ok (.getfield 109, 3) := dk_180 0 109 (dk_at dksX5_text_1 20 rfl rfl)
theorem dX5_text_47 : decode cX5_text 47 = .ok (.aload_n 0, 1) := dk_42 (dk_at dksX5_text_1 23 rfl rfl)
theorem dX5_text_48 : decode cX5_text 48 = .ok (.getfield 325, 3) := dk_180 1 69 (dk_at dksX5_text_2 0 rfl rfl)
theorem dX5_text_51 : decode cX5_text 51 = .ok (.iconst 0, 1) := dk_3 (dk_at dksX5_text_2 3 rfl rfl)
theorem dX5_text_52 : decode cX5_text 52 = .ok (.iastore, 1) := dk_79 (dk_at dksX5_text_2 4 rfl rfl)
theorem dX5_text_53 : decode cX5_text 53 = .ok (.aload_n 0, 1) := dk_42 (dk_at dksX5_text_2 5 rfl rfl)
theorem dX5_text_54 : decode cX5_text 54 = .ok (.iconst 0, 1) := dk_3 (dk_at dksX5_text_2 6 rfl rfl)
theorem dX5_text_55 : decode cX5_text 55 = .ok (.putfield 328, 3) := dk_181 1 72 (dk_at dksX5_text_2 7 rfl rfl)
theorem dX5_text_58 : decode cX5_text 58 = .ok (.aload_n 0, 1) := dk_42 (dk_at dksX5_text_2 10 rfl rfl)
theorem dX5_text_59 : decode cX5_text 59 = .ok (.iconst 0, 1) := dk_3 (dk_at dksX5_text_2 11 rfl rfl)
theorem dX5_text_60 : decode cX5_text 60 = .ok (.putfield 319, 3) := dk_181 1 63 (dk_at dksX5_text_2 12 rfl rfl)
theorem dX5_text_63 : decode cX5_text 63 = .ok (.aload_n 0, 1) := dk_42 (dk_at dksX5_text_2 15 rfl rfl)
theorem dX5_text_64 : decode cX5_text 64 = .ok (.iconst (-1), 1) := dk_2 (dk_at dksX5_text_2 16 rfl rfl)
theorem dX5_text_65 : decode cX5_text 65 = .ok (.putfield 322, 3) := dk_181 1 66 (dk_at dksX5_text_2 17 rfl rfl)
theorem dX5_text_68 : decode cX5_text 68 = .ok (.aload_n 0, 1) := dk_42 (dk_at dksX5_text_2 20 rfl rfl)
theorem dX5_text_69 : decode cX5_text 69 = .ok (.iconst 0, 1) := dk_3 (dk_at dksX5_text_2 21 rfl rfl)
theorem dX5_text_70 : decode cX5_text 70 = .ok (.putfield 331, 3) := dk_181 1 75 (dk_at dksX5_text_3 0 rfl rfl)
theorem dX5_text_73 : decode cX5_text 73 = .ok (.aload_n 0, 1) := dk_42 (dk_at dksX5_text_3 3 rfl rfl)
theorem dX5_text_74 : decode cX5_text 74 = .ok (.invokevirtual 376, 3) := dk_182 1 120 (dk_at dksX5_text_3 4 rfl rfl)
theorem dX5_text_77 : decode cX5_text 77 = .ok (.aload_n 0, 1) := dk_42 (dk_at dksX5_text_3 7 rfl rfl)
theorem dX5_text_78 : decode cX5_text 78 = .ok (.getfield 322, 3) := dk_180 1 66 (dk_at dksX5_text_3 8 rfl rfl)
theorem dX5_text_81 : decode cX5_text 81 = .ok (.ifCond .ge 29, 3) := dk_156 0 29 (dk_at dksX5_text_3 11 rfl rfl)
theorem dX5_text_84 : decode cX5_text 84 = .ok (.aload_n 0, 1) := dk_42 (dk_at dksX5_text_3 14 rfl rfl)
theorem dX5_text_85 : decode cX5_text 85 = .ok (.invokevirtual 337, 3) := dk_182 1 81 (dk_at dksX5_text_3 15 rfl rfl)
theorem dX5_text_88 : decode cX5_text 88 = .ok (.bipush 59, 2) := dk_16 59 (dk_at dksX5_text_3 18 rfl rfl)
theorem dX5_text_90 : decode cX5_text 90 = .ok (.if_icmp .ne 20, 3) := dk_160 0 20 (dk_at dksX5_text_3 20 rfl rfl)
theorem dX5_text_93 : decode cX5_text 93 = .ok (.aload_n 0, 1) := dk_42 (dk_at dksX5_text_3 23 rfl rfl)
theorem dX5_text_94 : decode cX5_text 94 = .ok (.dup, 1) := dk_89 (dk_at dksX5_text_4 0 rfl rfl)
theorem dX5_text_95 : decode cX5_text 95 = .ok (.getfield 319, 3) := dk_180 1 63 (dk_at dksX5_text_4 1 rfl rfl)
theorem dX5_text_98 : decode cX5_text 98 = .ok (.iconst 1, 1) := dk_4 (dk_at dksX5_text_4 4 rfl rfl)
theorem dX5_text_99 : decode cX5_text 99 = .ok (.iadd, 1) := dk_96 (dk_at dksX5_text_4 5 rfl rfl)
theorem dX5_text_100 : decode cX5_text 100 = .ok (.putfield 319, 3) := dk_181 1 63 (dk_at dksX5_text_4 6 rfl rfl)
theorem dX5_text_103 : decode cX5_text 103 = .ok (.aload_n 0, 1) := dk_42 (dk_at dksX5_text_4 9 rfl rfl)
theorem dX5_text_104 : decode cX5_text 104 = .ok (.invokevirtual 376, 3) := dk_182 1 120 (dk_at dksX5_text_4 10 rfl rfl)
theorem dX5_text_107 : decode cX5_text 107 = .ok (.goto (-30), 3) := dk_167 255 226 (dk_at dksX5_text_4 13 rfl rfl)
theorem dX5_text_110 : decode cX5_text 110 = .ok (.aload_n 0, 1) := dk_42 (dk_at dksX5_text_4 16 rfl rfl)
theorem dX5_text_111 : decode cX5_text 111 = .ok (.getfield 322, 3) := dk_180 1 66 (dk_at dksX5_text_4 17 rfl rfl)
theorem dX5_text_114 : decode cX5_text 114 = .ok (.ifCond .ge 18, 3) := dk_156 0 18 (dk_at dksX5_text_4 20 rfl rfl)
theorem dX5_text_117 : decode cX5_text 117 = .ok (.aload_n 0, 1) := dk_42 (dk_at dksX5_text_4 23 rfl rfl)
theorem dX5_text_118 : decode cX5_text 118 = .ok (.getfield 319, 3) := dk_180 1 63 (dk_at dksX5_text_5 0 rfl rfl)
theorem dX5_text_121 : decode cX5_text 121 = .ok (.aload_n 0, 1) := dk_42 (dk_at dksX5_text_5 3 rfl rfl)
theorem dX5_text_122 : decode cX5_text 122 = .ok (.getfield 316, 3) := dk_180 1 60 (dk_at dksX5_text_5 4 rfl rfl)
theorem dX5_text_125 : decode cX5_text 125 = .ok (.if_icmp .ge 7, 3) := dk_162 0 7 (dk_at dksX5_text_5 7 rfl rfl)
theorem dX5_text_128 : decode cX5_text 128 = .ok (.aload_n 0, 1) := dk_42 (dk_at dksX5_text_5 10 rfl rfl)
theorem dX5_text_129 : decode cX5_text 129 = .ok (.invokevirtual 334, 3) := dk_182 1 78 (dk_at dksX5_text_5 11 rfl rfl)
theorem dX5_text_132 : decode cX5_text 132 = .ok (.aload_n 0, 1) := dk_42 (dk_at dksX5_text_5 14 rfl rfl)
theorem dX5_text_133 : decode cX5_text 133 = .ok (.iconst 0, 1) := dk_3 (dk_at dksX5_text_5 15 rfl rfl)
theorem dX5_text_134 : decode cX5_text 134 = .ok (.putfield 316, 3) := dk_181 1 60 (dk_at dksX5_text_5 16 rfl rfl)
theorem dX5_text_137 : decode cX5_text 137 = .ok (.aload_n 0, 1) := dk_42 (dk_at dksX5_text_5 19 rfl rfl)
theorem dX5_text_138 : decode cX5_text 138 = .ok (.getfield 322, 3) := dk_180 1 66 (dk_at dksX5_text_5 20 rfl rfl)
theorem dX5_text_141 : decode cX5_text 141 = .ok (.ifCond .lt 11, 3) := dk_155 0 11 (dk_at dksX5_text_6 0 rfl rfl)
theorem dX5_text_144 : decode cX5_text 144 = .ok (.bipush (-100), 2) := dk_16 156 (dk_at dksX5_text_6 3 rfl rfl)
theorem dX5_text_146 : decode cX5_text 146 = .ok (.aload_n 0, 1) := dk_42 (dk_at dksX5_text_6 5 rfl rfl)
theorem dX5_text_147 : decode cX5_text 147 = .ok (.getfield 322, 3) := dk_180 1 66 (dk_at dksX5_text_6 6 rfl rfl)
theorem dX5_text_150 : decode cX5_text 150 = .ok (.isub, 1) := dk_100 (dk_at dksX5_text_6 9 rfl rfl)
theorem dX5_text_151 : decode cX5_text 151 = .ok (.ireturn, 1) := dk_172 (dk_at dksX5_text_6 10 rfl rfl)
theorem dX5_text_152 : decode cX5_text 152 = .ok (.aload_n 0, 1) := dk_42 (dk_at dksX5_text_6 11 rfl rfl)
theorem dX5_text_153 : decode cX5_text 153 = .ok (.getfield 100, 3) := dk_180 0 100 (dk_at dksX5_text_6 12 rfl rfl)
theorem dX5_text_156 : decode cX5_text 156 = .ok (.aload_n 0, 1) := dk_42 (dk_at dksX5_text_6 15 rfl rfl)
theorem dX5_text_157 : decode cX5_text 157 = .ok (.getfield 373, 3) := dk_180 1 117 (dk_at dksX5_text_6 16 rfl rfl)
theorem dX5_text_160 : decode cX5_text 160 = .ok (.iload_n 1, 1) := dk_27 (dk_at dksX5_text_6 19 rfl rfl)
theorem dX5_text_161 : decode cX5_text 161 = .ok (.iastore, 1) := dk_79 (dk_at dksX5_text_6 20 rfl rfl)
theorem dX5_text_162 : decode cX5_text 162 = .ok (.aload_n 0, 1) := dk_42 (dk_at dksX5_text_6 21 rfl rfl)
theorem dX5_text_163 : decode cX5_text 163 = .ok (.getfield 103, 3) := dk_180 0 103 (dk_at dksX5_text_7 0 rfl rfl)
theorem dX5_text_166 : decode cX5_text 166 = .ok (.aload_n 0, 1) := dk_42 (dk_at dksX5_text_7 3 rfl rfl)
theorem dX5_text_167 : decode cX5_text 167 = .ok (.getfield 373, 3) := dk_180 1 117 (dk_at dksX5_text_7 4 rfl rfl)
theorem dX5_text_170 : decode cX5_text 170 = .ok (.aload_n 0, 1) := dk_42 (dk_at dksX5_text_7 7 rfl rfl)
theorem dX5_text_171 : decode cX5_text 171 = .ok (.getfield 281, 3) := dk_180 1 25 (dk_at dksX5_text_7 8 rfl rfl)
theorem dX5_text_174 : decode cX5_text 174 = .ok (.iastore, 1) := dk_79 (dk_at dksX5_text_7 11 rfl rfl)
theorem dX5_text_175 : decode cX5_text 175 = .ok (.aload_n 0, 1) := dk_42 (dk_at dksX5_text_7 12 rfl rfl)
theorem dX5_text_176 : decode cX5_text 176 = .ok (.getfield 106, 3) := dk_180 0 106 (dk_at dksX5_text_7 13 rfl rfl)
theorem dX5_text_179 : decode cX5_text 179 = .ok (.aload_n 0, 1) := dk_42 (dk_at dksX5_text_7 16 rfl rfl)
theorem dX5_text_180 : decode cX5_text 180 = .ok (.getfield 373, 3) := dk_180 1 117 (dk_at dksX5_text_7 17 rfl rfl)
theorem dX5_text_183 : decode cX5_text 183 = .ok (.iload_n 2, 1) := dk_28 (dk_at dksX5_text_7 20 rfl rfl)
theorem dX5_text_184 : decode cX5_text 184 = .ok (.iastore, 1) := dk_79 (dk_at dksX5_text_7 21 rfl rfl)
theorem dX5_text_185 : decode cX5_text 185 = .ok (.aload_n 0, 1) := dk_42 (dk_at dksX5_text_7 22 rfl rfl)
theorem dX5_text_186 : decode cX5_text 186 = .ok (.dup, 1) := dk_89 (dk_at dksX5_text_7 23 rfl rfl)
theorem dX5_text_187 : decode cX5_text 187 = .ok (.getfield 373, 3) := dk_180 1 117 (dk_at dksX5_text_8 0 rfl rfl)
theorem dX5_text_190 : decode cX5_text 190 = .ok (.iconst 1, 1) := dk_4 (dk_at dksX5_text_8 3 rfl rfl)
theorem dX5_text_191 : decode cX5_text 191 = .ok (.iadd, 1) := dk_96 (dk_at dksX5_text_8 4 rfl rfl)
theorem dX5_text_192 : decode cX5_text 192 = .ok (.putfield 373, 3) := dk_181 1 117 (dk_at dksX5_text_8 5 rfl rfl)
theorem dX5_text_195 : decode cX5_text 195 = .ok (.aload_n 0, 1) := dk_42 (dk_at dksX5_text_8 8 rfl rfl)
theorem dX5_text_196 : decode cX5_text 196 = .ok (.getfield 373, 3) := dk_180 1 117 (dk_at dksX5_text_8 9 rfl rfl)
theorem dX5_text_199 : decode cX5_text 199 = .ok (.iconst 1, 1) := dk_4 (dk_at dksX5_text_8 12 rfl rfl)
theorem dX5_text_200 : decode cX5_text 200 = .ok (.isub, 1) := dk_100 (dk_at dksX5_text_8 13 rfl rfl)
theorem dX5_text_201 : decode cX5_text 201 = .ok (.ireturn, 1) := dk_172 (dk_at dksX5_text_8 14 rfl rfl)
abbrev cX5_isWhat : ByteArray := prog_22_method_58_code
def yX5_isWhat : MethodName := ⟨RX5, "isWhat", "(I)Z"⟩
def dkwX5_isWhat_0 : List UInt8 := [26, 3, 16, 12, 184, 0, 230, 153, 0, 15, 26, 16, 10, 112, 5, 163, 0, 7, 4, 167, 0, 4, 3, 172]
abbrev dktX5_isWhat_0 : List UInt8 := dkwX5_isWhat_0 ++ []
theorem dksX5_isWhat_0 : cX5_isWhat.data.toList.drop 0 = dktX5_isWhat_0 := by decide +kernel
theorem dX5_isWhat_0 : decode cX5_isWhat 0 = .ok (.iload_n 0, 1) := dk_26 (dk_at dksX5_isWhat_0 0 rfl rfl)
theorem dX5_isWhat_1 : decode cX5_isWhat 1 = .ok (.iconst 0, 1) := dk_3 (dk_at dksX5_isWhat_0 1 rfl rfl)
theorem dX5_isWhat_2 : decode cX5_isWhat 2 = .ok (.bipush 12, 2) := dk_16 12 (dk_at dksX5_isWhat_0 2 rfl rfl)
theorem dX5_isWhat_4 : decode cX5_isWhat 4 = .ok (.invokestatic 230, 3) := dk_184 0 230 (dk_at dksX5_isWhat_0 4 rfl rfl)
theorem dX5_isWhat_7 : decode cX5_isWhat 7 = .ok (.ifCond .eq 15, 3) := dk_153 0 15 (dk_at dksX5_isWhat_0 7 rfl rfl)
theorem dX5_isWhat_10 : decode cX5_isWhat 10 = .ok (.iload_n 0, 1) := dk_26 (dk_at dksX5_isWhat_0 10 rfl rfl)
theorem dX5_isWhat_11 : decode cX5_isWhat 11 = .ok (.bipush 10, 2) := dk_16 10 (dk_at dksX5_isWhat_0 11 rfl rfl)
theorem dX5_isWhat_13 : decode cX5_isWhat 13 = .ok (.irem, 1) := dk_112 (dk_at dksX5_isWhat_0 13 rfl rfl)
theorem dX5_isWhat_14 : decode cX5_isWhat 14 = .ok (.iconst 2, 1) := dk_5 (dk_at dksX5_isWhat_0 14 rfl rfl)
theorem dX5_isWhat_15 : decode cX5_isWhat 15 = .ok (.if_icmp .gt 7, 3) := dk_163 0 7 (dk_at dksX5_isWhat_0 15 rfl rfl)
theorem dX5_isWhat_18 : decode cX5_isWhat 18 = .ok (.iconst 1, 1) := dk_4 (dk_at dksX5_isWhat_0 18 rfl rfl)
theorem dX5_isWhat_19 : decode cX5_isWhat 19 = .ok (.goto 4, 3) := dk_167 0 4 (dk_at dksX5_isWhat_0 19 rfl rfl)
theorem dX5_isWhat_22 : decode cX5_isWhat 22 = .ok (.iconst 0, 1) := dk_3 (dk_at dksX5_isWhat_0 22 rfl rfl)
theorem dX5_isWhat_23 : decode cX5_isWhat 23 = .ok (.ireturn, 1) := dk_172 (dk_at dksX5_isWhat_0 23 rfl rfl)
abbrev cX5_readLine : ByteArray := prog_22_method_57_code
def yX5_readLine : MethodName := ⟨RX5, "readLine", "()V"⟩
def dkwX5_readLine_4 : List UInt8 := [96, 79, 177]
abbrev dktX5_readLine_4 : List UInt8 := dkwX5_readLine_4 ++ []
def dkwX5_readLine_3 : List UInt8 := [182, 1, 99, 42, 180, 0, 115, 27, 42, 180, 1, 72, 79, 42, 180, 0, 109, 42, 180, 1, 69, 92, 46, 4]
abbrev dktX5_readLine_3 : List UInt8 := dkwX5_readLine_3 ++ dktX5_readLine_4
def dkwX5_readLine_2 : List UInt8 := [160, 0, 27, 42, 89, 180, 1, 63, 4, 96, 181, 1, 63, 42, 180, 0, 112, 27, 42, 180, 1, 72, 79, 42]
abbrev dktX5_readLine_2 : List UInt8 := dkwX5_readLine_2 ++ dktX5_readLine_3
def dkwX5_readLine_1 : List UInt8 := [182, 1, 99, 42, 180, 0, 112, 27, 28, 79, 42, 180, 1, 66, 156, 0, 36, 42, 182, 1, 81, 16, 63]
abbrev dktX5_readLine_1 : List UInt8 := dkwX5_readLine_1 ++ dktX5_readLine_2
def dkwX5_readLine_0 : List UInt8 := [16, 90, 42, 180, 1, 69, 104, 42, 180, 0, 109, 42, 180, 1, 69, 46, 96, 60, 42, 180, 1, 72, 61, 42]
abbrev dktX5_readLine_0 : List UInt8 := dkwX5_readLine_0 ++ dktX5_readLine_1
theorem dksX5_readLine_0 : cX5_readLine.data.toList.drop 0 = dktX5_readLine_0 := by decide +kernel
theorem dksX5_readLine_1 : cX5_readLine.data.toList.drop 24 = dktX5_readLine_1 := dk_seg dksX5_readLine_0 24 rfl rfl
theorem dksX5_readLine_2 : cX5_readLine.data.toList.drop 47 = dktX5_readLine_2 := dk_seg dksX5_readLine_1 23 rfl rfl
theorem dksX5_readLine_3 : cX5_readLine.data.toList.drop 71 = dktX5_readLine_3 := dk_seg dksX5_readLine_2 24 rfl rfl
theorem dksX5_readLine_4 : cX5_readLine.data.toList.drop 95 = dktX5_readLine_4 := dk_seg dksX5_readLine_3 24 rfl rfl
theorem dX5_readLine_0 : decode cX5_readLine 0 = .ok (.bipush 90, 2) := dk_16 90 (dk_at dksX5_readLine_0 0 rfl rfl)
theorem dX5_readLine_2 : decode cX5_readLine 2 = .ok (.aload_n 0, 1) := dk_42 (dk_at dksX5_readLine_0 2 rfl rfl)
theorem dX5_readLine_3 : decode cX5_readLine 3 = .ok (.getfield 325, 3) := dk_180 1 69 (dk_at dksX5_readLine_0 3 rfl rfl)
theorem dX5_readLine_6 : decode cX5_readLine 6 = .ok (.imul, 1) := dk_104 (dk_at dksX5_readLine_0 6 rfl rfl)
theorem dX5_readLine_7 : decode cX5_readLine 7 = .ok (.aload_n 0, 1) := dk_42 (dk_at dksX5_readLine_0 7 rfl rfl)
theorem dX5_readLine_8 : decode cX5_readLine 8 = .ok (.getfield 109, 3) := dk_180 0 109 (dk_at dksX5_readLine_0 8 rfl rfl)
theorem dX5_readLine_11 : decode cX5_readLine 11 = .ok (.aload_n 0, 1) := dk_42 (dk_at dksX5_readLine_0 11 rfl rfl)
theorem dX5_readLine_12 : decode cX5_readLine 12 = .ok (.getfield 325, 3) := dk_180 1 69 (dk_at dksX5_readLine_0 12 rfl rfl)
theorem dX5_readLine_15 : decode cX5_readLine 15 = .ok (.iaload, 1) := dk_46 (dk_at dksX5_readLine_0 15 rfl rfl)
theorem dX5_readLine_16 : decode cX5_readLine 16 = .ok (.iadd, 1) := dk_96 (dk_at dksX5_readLine_0 16 rfl rfl)
theorem dX5_readLine_17 : decode cX5_readLine 17 = .ok (.istore_n 1, 1) := dk_60 (dk_at dksX5_readLine_0 17 rfl rfl)
theorem dX5_readLine_18 : decode cX5_readLine 18 = .ok (.aload_n 0, 1) := dk_42 (dk_at dksX5_readLine_0 18 rfl rfl)
theorem dX5_readLine_19 : decode cX5_readLine 19 = .ok (.getfield 328, 3) := dk_180 1 72 (dk_at dksX5_readLine_0 19 rfl rfl)
theorem dX5_readLine_22 : decode cX5_readLine 22 = .ok (.istore_n 2, 1) := dk_61 (dk_at dksX5_readLine_0 22 rfl rfl)
theorem dX5_readLine_23 : decode cX5_readLine 23 = .ok (.aload_n 0, 1) := dk_42 (dk_at dksX5_readLine_0 23 rfl rfl)
theorem dX5_readLine_24 : decode cX5_readLine 24 = .ok (.invokevirtual 355, 3) := dk_182 1 99 (dk_at dksX5_readLine_1 0 rfl rfl)
theorem dX5_readLine_27 : decode cX5_readLine 27 = .ok (.aload_n 0, 1) := dk_42 (dk_at dksX5_readLine_1 3 rfl rfl)
theorem dX5_readLine_28 : decode cX5_readLine 28 = .ok (.getfield 112, 3) := dk_180 0 112 (dk_at dksX5_readLine_1 4 rfl rfl)
theorem dX5_readLine_31 : decode cX5_readLine 31 = .ok (.iload_n 1, 1) := dk_27 (dk_at dksX5_readLine_1 7 rfl rfl)
theorem dX5_readLine_32 : decode cX5_readLine 32 = .ok (.iload_n 2, 1) := dk_28 (dk_at dksX5_readLine_1 8 rfl rfl)
theorem dX5_readLine_33 : decode cX5_readLine 33 = .ok (.iastore, 1) := dk_79 (dk_at dksX5_readLine_1 9 rfl rfl)
theorem dX5_readLine_34 : decode cX5_readLine 34 = .ok (.aload_n 0, 1) := dk_42 (dk_at dksX5_readLine_1 10 rfl rfl)
theorem dX5_readLine_35 : decode cX5_readLine 35 = .ok (.getfield 322, 3) := dk_180 1 66 (dk_at dksX5_readLine_1 11 rfl rfl)
theorem dX5_readLine_38 : decode cX5_readLine 38 = .ok (.ifCond .ge 36, 3) := dk_156 0 36 (dk_at dksX5_readLine_1 14 rfl rfl)
theorem dX5_readLine_41 : decode cX5_readLine 41 = .ok (.aload_n 0, 1) := dk_42 (dk_at dksX5_readLine_1 17 rfl rfl)
theorem dX5_readLine_42 : decode cX5_readLine 42 = .ok (.invokevirtual 337, 3) := dk_182 1 81 (dk_at dksX5_readLine_1 18 rfl rfl)
theorem dX5_readLine_45 : decode cX5_readLine 45 = .ok (.bipush 63, 2) := dk_16 63 (dk_at dksX5_readLine_1 21 rfl rfl)
theorem dX5_readLine_47 : decode cX5_readLine 47 = .ok (.if_icmp .ne 27, 3) := dk_160 0 27 (dk_at dksX5_readLine_2 0 rfl rfl)
theorem dX5_readLine_50 : decode cX5_readLine 50 = .ok (.aload_n 0, 1) := dk_42 (dk_at dksX5_readLine_2 3 rfl rfl)
theorem dX5_readLine_51 : decode cX5_readLine 51 = .ok (.dup, 1) := dk_89 (dk_at dksX5_readLine_2 4 rfl rfl)
theorem dX5_readLine_52 : decode cX5_readLine 52 = .ok (.getfield 319, 3) := dk_180 1 63 (dk_at dksX5_readLine_2 5 rfl rfl)
theorem dX5_readLine_55 : decode cX5_readLine 55 = .ok (.iconst 1, 1) := dk_4 (dk_at dksX5_readLine_2 8 rfl rfl)
theorem dX5_readLine_56 : decode cX5_readLine 56 = .ok (.iadd, 1) := dk_96 (dk_at dksX5_readLine_2 9 rfl rfl)
theorem dX5_readLine_57 : decode cX5_readLine 57 = .ok (.putfield 319, 3) := dk_181 1 63 (dk_at dksX5_readLine_2 10 rfl rfl)
theorem dX5_readLine_60 : decode cX5_readLine 60 = .ok (.aload_n 0, 1) := dk_42 (dk_at dksX5_readLine_2 13 rfl rfl)
theorem dX5_readLine_61 : decode cX5_readLine 61 = .ok (.getfield 112, 3) := dk_180 0 112 (dk_at dksX5_readLine_2 14 rfl rfl)
theorem dX5_readLine_64 : decode cX5_readLine 64 = .ok (.iload_n 1, 1) := dk_27 (dk_at dksX5_readLine_2 17 rfl rfl)
theorem dX5_readLine_65 : decode cX5_readLine 65 = .ok (.aload_n 0, 1) := dk_42 (dk_at dksX5_readLine_2 18 rfl rfl)
theorem dX5_readLine_66 : decode cX5_readLine 66 = .ok (.getfield 328, 3) := dk_180 1 72 (dk_at dksX5_readLine_2 19 rfl rfl)
theorem dX5_readLine_69 : decode cX5_readLine 69 = .ok (.iastore, 1) := dk_79 (dk_at dksX5_readLine_2 22 rfl rfl)
theorem dX5_readLine_70 : decode cX5_readLine 70 = .ok (.aload_n 0, 1) := dk_42 (dk_at dksX5_readLine_2 23 rfl rfl)
theorem dX5_readLine_71 : decode cX5_readLine 71 = .ok (.invokevirtual 355, 3) := dk_182 1 99 (dk_at dksX5_readLine_3 0 rfl rfl)
theorem dX5_readLine_74 : decode cX5_readLine 74 = .ok (.aload_n 0, 1) := dk_42 (dk_at dksX5_readLine_3 3 rfl rfl)
theorem dX5_readLine_75 : decode cX5_readLine 75 = .ok (.getfield 115, 3) := dk_180 0 115 (dk_at dksX5_readLine_3 4 rfl rfl)
theorem dX5_readLine_78 : decode cX5_readLine 78 = .ok (.iload_n 1, 1) := dk_27 (dk_at dksX5_readLine_3 7 rfl rfl)
theorem dX5_readLine_79 : decode cX5_readLine 79 = .ok (.aload_n 0, 1) := dk_42 (dk_at dksX5_readLine_3 8 rfl rfl)
theorem dX5_readLine_80 : decode cX5_readLine 80 = .ok (.getfield 328, 3) := dk_180 1 72 (dk_at dksX5_readLine_3 9 rfl rfl)
theorem dX5_readLine_83 : decode cX5_readLine 83 = .ok (.iastore, 1) := dk_79 (dk_at dksX5_readLine_3 12 rfl rfl)
theorem dX5_readLine_84 : decode cX5_readLine 84 = .ok (.aload_n 0, 1) := dk_42 (dk_at dksX5_readLine_3 13 rfl rfl)
theorem dX5_readLine_85 : decode cX5_readLine 85 = .ok (.getfield 109, 3) := dk_180 0 109 (dk_at dksX5_readLine_3 14 rfl rfl)
theorem dX5_readLine_88 : decode cX5_readLine 88 = .ok (.aload_n 0, 1) := dk_42 (dk_at dksX5_readLine_3 17 rfl rfl)
theorem dX5_readLine_89 : decode cX5_readLine 89 = .ok (.getfield 325, 3) := dk_180 1 69 (dk_at dksX5_readLine_3 18 rfl rfl)
theorem dX5_readLine_92 : decode cX5_readLine 92 = .ok (.dup2, 1) := dk_92 (dk_at dksX5_readLine_3 21 rfl rfl)
theorem dX5_readLine_93 : decode cX5_readLine 93 = .ok (.iaload, 1) := dk_46 (dk_at dksX5_readLine_3 22 rfl rfl)
theorem dX5_readLine_94 : decode cX5_readLine 94 = .ok (.iconst 1, 1) := dk_4 (dk_at dksX5_readLine_3 23 rfl rfl)
theorem dX5_readLine_95 : decode cX5_readLine 95 = .ok (.iadd, 1) := dk_96 (dk_at dksX5_readLine_4 0 rfl rfl)
theorem dX5_readLine_96 : decode cX5_readLine 96 = .ok (.iastore, 1) := dk_79 (dk_at dksX5_readLine_4 1 rfl rfl)
theorem dX5_readLine_97 : decode cX5_readLine 97 = .ok (.return_, 1) := dk_177 (dk_at dksX5_readLine_4 2 rfl rfl)
abbrev cX5_either : ByteArray := prog_22_method_56_code
def yX5_either : MethodName := ⟨RX5, "either", "()V"⟩
def dkwX5_either_1 : List UInt8 := [180, 1, 63, 4, 96, 181, 1, 63, 42, 182, 1, 111, 42, 16, 124, 3, 182, 1, 88, 167, 255, 219, 177]
abbrev dktX5_either_1 : List UInt8 := dkwX5_either_1 ++ []
def dkwX5_either_0 : List UInt8 := [42, 182, 1, 111, 42, 180, 1, 66, 156, 0, 36, 42, 182, 1, 81, 16, 124, 160, 0, 27, 42, 89]
abbrev dktX5_either_0 : List UInt8 := dkwX5_either_0 ++ dktX5_either_1
theorem dksX5_either_0 : cX5_either.data.toList.drop 0 = dktX5_either_0 := by decide +kernel
theorem dksX5_either_1 : cX5_either.data.toList.drop 22 = dktX5_either_1 := dk_seg dksX5_either_0 22 rfl rfl
theorem dX5_either_0 : decode cX5_either 0 = .ok (.aload_n 0, 1) := dk_42 (dk_at dksX5_either_0 0 rfl rfl)
theorem dX5_either_1 : decode cX5_either 1 = .ok (.invokevirtual 367, 3) := dk_182 1 111 (dk_at dksX5_either_0 1 rfl rfl)
theorem dX5_either_4 : decode cX5_either 4 = .ok (.aload_n 0, 1) := dk_42 (dk_at dksX5_either_0 4 rfl rfl)
theorem dX5_either_5 : decode cX5_either 5 = .ok (.getfield 322, 3) := dk_180 1 66 (dk_at dksX5_either_0 5 rfl rfl)
theorem dX5_either_8 : decode cX5_either 8 = .ok (.ifCond .ge 36, 3) := dk_156 0 36 (dk_at dksX5_either_0 8 rfl rfl)
theorem dX5_either_11 : decode cX5_either 11 = .ok (.aload_n 0, 1) := dk_42 (dk_at dksX5_either_0 11 rfl rfl)
theorem dX5_either_12 : decode cX5_either 12 = .ok (.invokevirtual 337, 3) := dk_182 1 81 (dk_at dksX5_either_0 12 rfl rfl)
theorem dX5_either_15 : decode cX5_either 15 = .ok (.bipush 124, 2) := dk_16 124 (dk_at dksX5_either_0 15 rfl rfl)
theorem dX5_either_17 : decode cX5_either 17 = .ok (.if_icmp .ne 27, 3) := dk_160 0 27 (dk_at dksX5_either_0 17 rfl rfl)
theorem dX5_either_20 : decode cX5_either 20 = .ok (.aload_n 0, 1) := dk_42 (dk_at dksX5_either_0 20 rfl rfl)
theorem dX5_either_21 : decode cX5_either 21 = .ok (.dup, 1) := dk_89 (dk_at dksX5_either_0 21 rfl rfl)
theorem dX5_either_22 : decode cX5_either 22 = .ok (.getfield 319, 3) := dk_180 1 63 (dk_at dksX5_either_1 0 rfl rfl)
theorem dX5_either_25 : decode cX5_either 25 = .ok (.iconst 1, 1) := dk_4 (dk_at dksX5_either_1 3 rfl rfl)
theorem dX5_either_26 : decode cX5_either 26 = .ok (.iadd, 1) := dk_96 (dk_at dksX5_either_1 4 rfl rfl)
theorem dX5_either_27 : decode cX5_either 27 = .ok (.putfield 319, 3) := dk_181 1 63 (dk_at dksX5_either_1 5 rfl rfl)
theorem dX5_either_30 : decode cX5_either 30 = .ok (.aload_n 0, 1) := dk_42 (dk_at dksX5_either_1 8 rfl rfl)
theorem dX5_either_31 : decode cX5_either 31 = .ok (.invokevirtual 367, 3) := dk_182 1 111 (dk_at dksX5_either_1 9 rfl rfl)
theorem dX5_either_34 : decode cX5_either 34 = .ok (.aload_n 0, 1) := dk_42 (dk_at dksX5_either_1 12 rfl rfl)
theorem dX5_either_35 : decode cX5_either 35 = .ok (.bipush 124, 2) := dk_16 124 (dk_at dksX5_either_1 13 rfl rfl)
theorem dX5_either_37 : decode cX5_either 37 = .ok (.iconst 0, 1) := dk_3 (dk_at dksX5_either_1 15 rfl rfl)
theorem dX5_either_38 : decode cX5_either 38 = .ok (.invokevirtual 344, 3) := dk_182 1 88 (dk_at dksX5_either_1 16 rfl rfl)
theorem dX5_either_41 : decode cX5_either 41 = .ok (.goto (-37), 3) := dk_167 255 219 (dk_at dksX5_either_1 19 rfl rfl)
theorem dX5_either_44 : decode cX5_either 44 = .ok (.return_, 1) := dk_177 (dk_at dksX5_either_1 22 rfl rfl)
abbrev cX5_all : ByteArray := prog_22_method_55_code
def yX5_all : MethodName := ⟨RX5, "all", "()V"⟩
def dkwX5_all_1 : List UInt8 := [180, 1, 63, 4, 96, 181, 1, 63, 42, 182, 1, 108, 42, 16, 38, 3, 182, 1, 88, 167, 255, 219, 177]
abbrev dktX5_all_1 : List UInt8 := dkwX5_all_1 ++ []
def dkwX5_all_0 : List UInt8 := [42, 182, 1, 108, 42, 180, 1, 66, 156, 0, 36, 42, 182, 1, 81, 16, 38, 160, 0, 27, 42, 89]
abbrev dktX5_all_0 : List UInt8 := dkwX5_all_0 ++ dktX5_all_1
theorem dksX5_all_0 : cX5_all.data.toList.drop 0 = dktX5_all_0 := by decide +kernel
theorem dksX5_all_1 : cX5_all.data.toList.drop 22 = dktX5_all_1 := dk_seg dksX5_all_0 22 rfl rfl
theorem dX5_all_0 : decode cX5_all 0 = .ok (.aload_n 0, 1) := dk_42 (dk_at dksX5_all_0 0 rfl rfl)
theorem dX5_all_1 : decode cX5_all 1 = .ok (.invokevirtual 364, 3) := dk_182 1 108 (dk_at dksX5_all_0 1 rfl rfl)
theorem dX5_all_4 : decode cX5_all 4 = .ok (.aload_n 0, 1) := dk_42 (dk_at dksX5_all_0 4 rfl rfl)
theorem dX5_all_5 : decode cX5_all 5 = .ok (.getfield 322, 3) := dk_180 1 66 (dk_at dksX5_all_0 5 rfl rfl)
theorem dX5_all_8 : decode cX5_all 8 = .ok (.ifCond .ge 36, 3) := dk_156 0 36 (dk_at dksX5_all_0 8 rfl rfl)
theorem dX5_all_11 : decode cX5_all 11 = .ok (.aload_n 0, 1) := dk_42 (dk_at dksX5_all_0 11 rfl rfl)
theorem dX5_all_12 : decode cX5_all 12 = .ok (.invokevirtual 337, 3) := dk_182 1 81 (dk_at dksX5_all_0 12 rfl rfl)
theorem dX5_all_15 : decode cX5_all 15 = .ok (.bipush 38, 2) := dk_16 38 (dk_at dksX5_all_0 15 rfl rfl)
theorem dX5_all_17 : decode cX5_all 17 = .ok (.if_icmp .ne 27, 3) := dk_160 0 27 (dk_at dksX5_all_0 17 rfl rfl)
theorem dX5_all_20 : decode cX5_all 20 = .ok (.aload_n 0, 1) := dk_42 (dk_at dksX5_all_0 20 rfl rfl)
theorem dX5_all_21 : decode cX5_all 21 = .ok (.dup, 1) := dk_89 (dk_at dksX5_all_0 21 rfl rfl)
theorem dX5_all_22 : decode cX5_all 22 = .ok (.getfield 319, 3) := dk_180 1 63 (dk_at dksX5_all_1 0 rfl rfl)
theorem dX5_all_25 : decode cX5_all 25 = .ok (.iconst 1, 1) := dk_4 (dk_at dksX5_all_1 3 rfl rfl)
theorem dX5_all_26 : decode cX5_all 26 = .ok (.iadd, 1) := dk_96 (dk_at dksX5_all_1 4 rfl rfl)
theorem dX5_all_27 : decode cX5_all 27 = .ok (.putfield 319, 3) := dk_181 1 63 (dk_at dksX5_all_1 5 rfl rfl)
theorem dX5_all_30 : decode cX5_all 30 = .ok (.aload_n 0, 1) := dk_42 (dk_at dksX5_all_1 8 rfl rfl)
theorem dX5_all_31 : decode cX5_all 31 = .ok (.invokevirtual 364, 3) := dk_182 1 108 (dk_at dksX5_all_1 9 rfl rfl)
theorem dX5_all_34 : decode cX5_all 34 = .ok (.aload_n 0, 1) := dk_42 (dk_at dksX5_all_1 12 rfl rfl)
theorem dX5_all_35 : decode cX5_all 35 = .ok (.bipush 38, 2) := dk_16 38 (dk_at dksX5_all_1 13 rfl rfl)
theorem dX5_all_37 : decode cX5_all 37 = .ok (.iconst 0, 1) := dk_3 (dk_at dksX5_all_1 15 rfl rfl)
theorem dX5_all_38 : decode cX5_all 38 = .ok (.invokevirtual 344, 3) := dk_182 1 88 (dk_at dksX5_all_1 16 rfl rfl)
theorem dX5_all_41 : decode cX5_all 41 = .ok (.goto (-37), 3) := dk_167 255 219 (dk_at dksX5_all_1 19 rfl rfl)
theorem dX5_all_44 : decode cX5_all 44 = .ok (.return_, 1) := dk_177 (dk_at dksX5_all_1 22 rfl rfl)
abbrev cX5_compared : ByteArray := prog_22_method_54_code
def yX5_compared : MethodName := ⟨RX5, "compared", "()V"⟩
def dkwX5_compared_2 : List UInt8 := [182, 1, 105, 42, 27, 3, 182, 1, 88, 177]
abbrev dktX5_compared_2 : List UInt8 := dkwX5_compared_2 ++ []
def dkwX5_compared_1 : List UInt8 := [16, 61, 159, 0, 10, 27, 16, 62, 159, 0, 4, 177, 42, 89, 180, 1, 63, 4, 96, 181, 1, 63, 42]
abbrev dktX5_compared_1 : List UInt8 := dkwX5_compared_1 ++ dktX5_compared_2
def dkwX5_compared_0 : List UInt8 := [42, 182, 1, 105, 42, 182, 1, 81, 60, 42, 180, 1, 66, 156, 0, 21, 27, 16, 60, 159, 0, 16, 27]
abbrev dktX5_compared_0 : List UInt8 := dkwX5_compared_0 ++ dktX5_compared_1
theorem dksX5_compared_0 : cX5_compared.data.toList.drop 0 = dktX5_compared_0 := by decide +kernel
theorem dksX5_compared_1 : cX5_compared.data.toList.drop 23 = dktX5_compared_1 := dk_seg dksX5_compared_0 23 rfl rfl
theorem dksX5_compared_2 : cX5_compared.data.toList.drop 46 = dktX5_compared_2 := dk_seg dksX5_compared_1 23 rfl rfl
theorem dX5_compared_0 : decode cX5_compared 0 = .ok (.aload_n 0, 1) := dk_42 (dk_at dksX5_compared_0 0 rfl rfl)
theorem dX5_compared_1 : decode cX5_compared 1 = .ok (.invokevirtual 361, 3) := dk_182 1 105 (dk_at dksX5_compared_0 1 rfl rfl)
theorem dX5_compared_4 : decode cX5_compared 4 = .ok (.aload_n 0, 1) := dk_42 (dk_at dksX5_compared_0 4 rfl rfl)
theorem dX5_compared_5 : decode cX5_compared 5 = .ok (.invokevirtual 337, 3) := dk_182 1 81 (dk_at dksX5_compared_0 5 rfl rfl)
theorem dX5_compared_8 : decode cX5_compared 8 = .ok (.istore_n 1, 1) := dk_60 (dk_at dksX5_compared_0 8 rfl rfl)
theorem dX5_compared_9 : decode cX5_compared 9 = .ok (.aload_n 0, 1) := dk_42 (dk_at dksX5_compared_0 9 rfl rfl)
theorem dX5_compared_10 : decode cX5_compared 10 = .ok (.getfield 322, 3) := dk_180 1 66 (dk_at dksX5_compared_0 10 rfl rfl)
theorem dX5_compared_13 : decode cX5_compared 13 = .ok (.ifCond .ge 21, 3) := dk_156 0 21 (dk_at dksX5_compared_0 13 rfl rfl)
theorem dX5_compared_16 : decode cX5_compared 16 = .ok (.iload_n 1, 1) := dk_27 (dk_at dksX5_compared_0 16 rfl rfl)
theorem dX5_compared_17 : decode cX5_compared 17 = .ok (.bipush 60, 2) := dk_16 60 (dk_at dksX5_compared_0 17 rfl rfl)
theorem dX5_compared_19 : decode cX5_compared 19 = .ok (.if_icmp .eq 16, 3) := dk_159 0 16 (dk_at dksX5_compared_0 19 rfl rfl)
theorem dX5_compared_22 : decode cX5_compared 22 = .ok (.iload_n 1, 1) := dk_27 (dk_at dksX5_compared_0 22 rfl rfl)
theorem dX5_compared_23 : decode cX5_compared 23 = .ok (.bipush 61, 2) := dk_16 61 (dk_at dksX5_compared_1 0 rfl rfl)
theorem dX5_compared_25 : decode cX5_compared 25 = .ok (.if_icmp .eq 10, 3) := dk_159 0 10 (dk_at dksX5_compared_1 2 rfl rfl)
theorem dX5_compared_28 : decode cX5_compared 28 = .ok (.iload_n 1, 1) := dk_27 (dk_at dksX5_compared_1 5 rfl rfl)
theorem dX5_compared_29 : decode cX5_compared 29 = .ok (.bipush 62, 2) := dk_16 62 (dk_at dksX5_compared_1 6 rfl rfl)
theorem dX5_compared_31 : decode cX5_compared 31 = .ok (.if_icmp .eq 4, 3) := dk_159 0 4 (dk_at dksX5_compared_1 8 rfl rfl)
theorem dX5_compared_34 : decode cX5_compared 34 = .ok (.return_, 1) := dk_177 (dk_at dksX5_compared_1 11 rfl rfl)
theorem dX5_compared_35 : decode cX5_compared 35 = .ok (.aload_n 0, 1) := dk_42 (dk_at dksX5_compared_1 12 rfl rfl)
theorem dX5_compared_36 : decode cX5_compared 36 = .ok (.dup, 1) := dk_89 (dk_at dksX5_compared_1 13 rfl rfl)
theorem dX5_compared_37 : decode cX5_compared 37 = .ok (.getfield 319, 3) := dk_180 1 63 (dk_at dksX5_compared_1 14 rfl rfl)
theorem dX5_compared_40 : decode cX5_compared 40 = .ok (.iconst 1, 1) := dk_4 (dk_at dksX5_compared_1 17 rfl rfl)
theorem dX5_compared_41 : decode cX5_compared 41 = .ok (.iadd, 1) := dk_96 (dk_at dksX5_compared_1 18 rfl rfl)
theorem dX5_compared_42 : decode cX5_compared 42 = .ok (.putfield 319, 3) := dk_181 1 63 (dk_at dksX5_compared_1 19 rfl rfl)
theorem dX5_compared_45 : decode cX5_compared 45 = .ok (.aload_n 0, 1) := dk_42 (dk_at dksX5_compared_1 22 rfl rfl)
theorem dX5_compared_46 : decode cX5_compared 46 = .ok (.invokevirtual 361, 3) := dk_182 1 105 (dk_at dksX5_compared_2 0 rfl rfl)
theorem dX5_compared_49 : decode cX5_compared 49 = .ok (.aload_n 0, 1) := dk_42 (dk_at dksX5_compared_2 3 rfl rfl)
theorem dX5_compared_50 : decode cX5_compared 50 = .ok (.iload_n 1, 1) := dk_27 (dk_at dksX5_compared_2 4 rfl rfl)
theorem dX5_compared_51 : decode cX5_compared 51 = .ok (.iconst 0, 1) := dk_3 (dk_at dksX5_compared_2 5 rfl rfl)
theorem dX5_compared_52 : decode cX5_compared 52 = .ok (.invokevirtual 344, 3) := dk_182 1 88 (dk_at dksX5_compared_2 6 rfl rfl)
theorem dX5_compared_55 : decode cX5_compared 55 = .ok (.return_, 1) := dk_177 (dk_at dksX5_compared_2 9 rfl rfl)
abbrev cX5_sum : ByteArray := prog_22_method_53_code
def yX5_sum : MethodName := ⟨RX5, "sum", "()V"⟩
def dkwX5_sum_2 : List UInt8 := [42, 27, 3, 182, 1, 88, 167, 255, 206, 177]
abbrev dktX5_sum_2 : List UInt8 := dkwX5_sum_2 ++ []
def dkwX5_sum_1 : List UInt8 := [16, 45, 160, 0, 31, 42, 182, 1, 81, 60, 42, 89, 180, 1, 63, 4, 96, 181, 1, 63, 42, 182, 1, 102]
abbrev dktX5_sum_1 : List UInt8 := dkwX5_sum_1 ++ dktX5_sum_2
def dkwX5_sum_0 : List UInt8 := [42, 182, 1, 102, 42, 180, 1, 66, 156, 0, 49, 42, 182, 1, 81, 16, 43, 159, 0, 12, 42, 182, 1, 81]
abbrev dktX5_sum_0 : List UInt8 := dkwX5_sum_0 ++ dktX5_sum_1
theorem dksX5_sum_0 : cX5_sum.data.toList.drop 0 = dktX5_sum_0 := by decide +kernel
theorem dksX5_sum_1 : cX5_sum.data.toList.drop 24 = dktX5_sum_1 := dk_seg dksX5_sum_0 24 rfl rfl
theorem dksX5_sum_2 : cX5_sum.data.toList.drop 48 = dktX5_sum_2 := dk_seg dksX5_sum_1 24 rfl rfl
theorem dX5_sum_0 : decode cX5_sum 0 = .ok (.aload_n 0, 1) := dk_42 (dk_at dksX5_sum_0 0 rfl rfl)
theorem dX5_sum_1 : decode cX5_sum 1 = .ok (.invokevirtual 358, 3) := dk_182 1 102 (dk_at dksX5_sum_0 1 rfl rfl)
theorem dX5_sum_4 : decode cX5_sum 4 = .ok (.aload_n 0, 1) := dk_42 (dk_at dksX5_sum_0 4 rfl rfl)
theorem dX5_sum_5 : decode cX5_sum 5 = .ok (.getfield 322, 3) := dk_180 1 66 (dk_at dksX5_sum_0 5 rfl rfl)
theorem dX5_sum_8 : decode cX5_sum 8 = .ok (.ifCond .ge 49, 3) := dk_156 0 49 (dk_at dksX5_sum_0 8 rfl rfl)
theorem dX5_sum_11 : decode cX5_sum 11 = .ok (.aload_n 0, 1) := dk_42 (dk_at dksX5_sum_0 11 rfl rfl)
theorem dX5_sum_12 : decode cX5_sum 12 = .ok (.invokevirtual 337, 3) := dk_182 1 81 (dk_at dksX5_sum_0 12 rfl rfl)
theorem dX5_sum_15 : decode cX5_sum 15 = .ok (.bipush 43, 2) := dk_16 43 (dk_at dksX5_sum_0 15 rfl rfl)
theorem dX5_sum_17 : decode cX5_sum 17 = .ok (.if_icmp .eq 12, 3) := dk_159 0 12 (dk_at dksX5_sum_0 17 rfl rfl)
theorem dX5_sum_20 : decode cX5_sum 20 = .ok (.aload_n 0, 1) := dk_42 (dk_at dksX5_sum_0 20 rfl rfl)
theorem dX5_sum_21 : decode cX5_sum 21 = .ok (.invokevirtual 337, 3) := dk_182 1 81 (dk_at dksX5_sum_0 21 rfl rfl)
theorem dX5_sum_24 : decode cX5_sum 24 = .ok (.bipush 45, 2) := dk_16 45 (dk_at dksX5_sum_1 0 rfl rfl)
theorem dX5_sum_26 : decode cX5_sum 26 = .ok (.if_icmp .ne 31, 3) := dk_160 0 31 (dk_at dksX5_sum_1 2 rfl rfl)
theorem dX5_sum_29 : decode cX5_sum 29 = .ok (.aload_n 0, 1) := dk_42 (dk_at dksX5_sum_1 5 rfl rfl)
theorem dX5_sum_30 : decode cX5_sum 30 = .ok (.invokevirtual 337, 3) := dk_182 1 81 (dk_at dksX5_sum_1 6 rfl rfl)
theorem dX5_sum_33 : decode cX5_sum 33 = .ok (.istore_n 1, 1) := dk_60 (dk_at dksX5_sum_1 9 rfl rfl)
theorem dX5_sum_34 : decode cX5_sum 34 = .ok (.aload_n 0, 1) := dk_42 (dk_at dksX5_sum_1 10 rfl rfl)
theorem dX5_sum_35 : decode cX5_sum 35 = .ok (.dup, 1) := dk_89 (dk_at dksX5_sum_1 11 rfl rfl)
theorem dX5_sum_36 : decode cX5_sum 36 = .ok (.getfield 319, 3) := dk_180 1 63 (dk_at dksX5_sum_1 12 rfl rfl)
theorem dX5_sum_39 : decode cX5_sum 39 = .ok (.iconst 1, 1) := dk_4 (dk_at dksX5_sum_1 15 rfl rfl)
theorem dX5_sum_40 : decode cX5_sum 40 = .ok (.iadd, 1) := dk_96 (dk_at dksX5_sum_1 16 rfl rfl)
theorem dX5_sum_41 : decode cX5_sum 41 = .ok (.putfield 319, 3) := dk_181 1 63 (dk_at dksX5_sum_1 17 rfl rfl)
theorem dX5_sum_44 : decode cX5_sum 44 = .ok (.aload_n 0, 1) := dk_42 (dk_at dksX5_sum_1 20 rfl rfl)
theorem dX5_sum_45 : decode cX5_sum 45 = .ok (.invokevirtual 358, 3) := dk_182 1 102 (dk_at dksX5_sum_1 21 rfl rfl)
theorem dX5_sum_48 : decode cX5_sum 48 = .ok (.aload_n 0, 1) := dk_42 (dk_at dksX5_sum_2 0 rfl rfl)
theorem dX5_sum_49 : decode cX5_sum 49 = .ok (.iload_n 1, 1) := dk_27 (dk_at dksX5_sum_2 1 rfl rfl)
theorem dX5_sum_50 : decode cX5_sum 50 = .ok (.iconst 0, 1) := dk_3 (dk_at dksX5_sum_2 2 rfl rfl)
theorem dX5_sum_51 : decode cX5_sum 51 = .ok (.invokevirtual 344, 3) := dk_182 1 88 (dk_at dksX5_sum_2 3 rfl rfl)
theorem dX5_sum_54 : decode cX5_sum 54 = .ok (.goto (-50), 3) := dk_167 255 206 (dk_at dksX5_sum_2 6 rfl rfl)
theorem dX5_sum_57 : decode cX5_sum 57 = .ok (.return_, 1) := dk_177 (dk_at dksX5_sum_2 9 rfl rfl)
abbrev cX5_product : ByteArray := prog_22_method_52_code
def yX5_product : MethodName := ⟨RX5, "product", "()V"⟩
def dkwX5_product_2 : List UInt8 := [4, 96, 181, 1, 63, 42, 182, 1, 96, 42, 27, 3, 182, 1, 88, 167, 255, 197, 177]
abbrev dktX5_product_2 : List UInt8 := dkwX5_product_2 ++ []
def dkwX5_product_1 : List UInt8 := [16, 47, 159, 0, 12, 42, 182, 1, 81, 16, 37, 160, 0, 31, 42, 182, 1, 81, 60, 42, 89, 180, 1, 63]
abbrev dktX5_product_1 : List UInt8 := dkwX5_product_1 ++ dktX5_product_2
def dkwX5_product_0 : List UInt8 := [42, 182, 1, 96, 42, 180, 1, 66, 156, 0, 58, 42, 182, 1, 81, 16, 42, 159, 0, 21, 42, 182, 1, 81]
abbrev dktX5_product_0 : List UInt8 := dkwX5_product_0 ++ dktX5_product_1
theorem dksX5_product_0 : cX5_product.data.toList.drop 0 = dktX5_product_0 := by decide +kernel
theorem dksX5_product_1 : cX5_product.data.toList.drop 24 = dktX5_product_1 := dk_seg dksX5_product_0 24 rfl rfl
theorem dksX5_product_2 : cX5_product.data.toList.drop 48 = dktX5_product_2 := dk_seg dksX5_product_1 24 rfl rfl
theorem dX5_product_0 : decode cX5_product 0 = .ok (.aload_n 0, 1) := dk_42 (dk_at dksX5_product_0 0 rfl rfl)
theorem dX5_product_1 : decode cX5_product 1 = .ok (.invokevirtual 352, 3) := dk_182 1 96 (dk_at dksX5_product_0 1 rfl rfl)
theorem dX5_product_4 : decode cX5_product 4 = .ok (.aload_n 0, 1) := dk_42 (dk_at dksX5_product_0 4 rfl rfl)
theorem dX5_product_5 : decode cX5_product 5 = .ok (.getfield 322, 3) := dk_180 1 66 (dk_at dksX5_product_0 5 rfl rfl)
theorem dX5_product_8 : decode cX5_product 8 = .ok (.ifCond .ge 58, 3) := dk_156 0 58 (dk_at dksX5_product_0 8 rfl rfl)
theorem dX5_product_11 : decode cX5_product 11 = .ok (.aload_n 0, 1) := dk_42 (dk_at dksX5_product_0 11 rfl rfl)
theorem dX5_product_12 : decode cX5_product 12 = .ok (.invokevirtual 337, 3) := dk_182 1 81 (dk_at dksX5_product_0 12 rfl rfl)
theorem dX5_product_15 : decode cX5_product 15 = .ok (.bipush 42, 2) := dk_16 42 (dk_at dksX5_product_0 15 rfl rfl)
theorem dX5_product_17 : decode cX5_product 17 = .ok (.if_icmp .eq 21, 3) := dk_159 0 21 (dk_at dksX5_product_0 17 rfl rfl)
theorem dX5_product_20 : decode cX5_product 20 = .ok (.aload_n 0, 1) := dk_42 (dk_at dksX5_product_0 20 rfl rfl)
theorem dX5_product_21 : decode cX5_product 21 = .ok (.invokevirtual 337, 3) := dk_182 1 81 (dk_at dksX5_product_0 21 rfl rfl)
theorem dX5_product_24 : decode cX5_product 24 = .ok (.bipush 47, 2) := dk_16 47 (dk_at dksX5_product_1 0 rfl rfl)
theorem dX5_product_26 : decode cX5_product 26 = .ok (.if_icmp .eq 12, 3) := dk_159 0 12 (dk_at dksX5_product_1 2 rfl rfl)
theorem dX5_product_29 : decode cX5_product 29 = .ok (.aload_n 0, 1) := dk_42 (dk_at dksX5_product_1 5 rfl rfl)
theorem dX5_product_30 : decode cX5_product 30 = .ok (.invokevirtual 337, 3) := dk_182 1 81 (dk_at dksX5_product_1 6 rfl rfl)
theorem dX5_product_33 : decode cX5_product 33 = .ok (.bipush 37, 2) := dk_16 37 (dk_at dksX5_product_1 9 rfl rfl)
theorem dX5_product_35 : decode cX5_product 35 = .ok (.if_icmp .ne 31, 3) := dk_160 0 31 (dk_at dksX5_product_1 11 rfl rfl)
theorem dX5_product_38 : decode cX5_product 38 = .ok (.aload_n 0, 1) := dk_42 (dk_at dksX5_product_1 14 rfl rfl)
theorem dX5_product_39 : decode cX5_product 39 = .ok (.invokevirtual 337, 3) := dk_182 1 81 (dk_at dksX5_product_1 15 rfl rfl)
theorem dX5_product_42 : decode cX5_product 42 = .ok (.istore_n 1, 1) := dk_60 (dk_at dksX5_product_1 18 rfl rfl)
theorem dX5_product_43 : decode cX5_product 43 = .ok (.aload_n 0, 1) := dk_42 (dk_at dksX5_product_1 19 rfl rfl)
theorem dX5_product_44 : decode cX5_product 44 = .ok (.dup, 1) := dk_89 (dk_at dksX5_product_1 20 rfl rfl)
theorem dX5_product_45 : decode cX5_product 45 = .ok (.getfield 319, 3) := dk_180 1 63 (dk_at dksX5_product_1 21 rfl rfl)
theorem dX5_product_48 : decode cX5_product 48 = .ok (.iconst 1, 1) := dk_4 (dk_at dksX5_product_2 0 rfl rfl)
theorem dX5_product_49 : decode cX5_product 49 = .ok (.iadd, 1) := dk_96 (dk_at dksX5_product_2 1 rfl rfl)
theorem dX5_product_50 : decode cX5_product 50 = .ok (.putfield 319, 3) := dk_181 1 63 (dk_at dksX5_product_2 2 rfl rfl)
theorem dX5_product_53 : decode cX5_product 53 = .ok (.aload_n 0, 1) := dk_42 (dk_at dksX5_product_2 5 rfl rfl)
theorem dX5_product_54 : decode cX5_product 54 = .ok (.invokevirtual 352, 3) := dk_182 1 96 (dk_at dksX5_product_2 6 rfl rfl)
theorem dX5_product_57 : decode cX5_product 57 = .ok (.aload_n 0, 1) := dk_42 (dk_at dksX5_product_2 9 rfl rfl)
theorem dX5_product_58 : decode cX5_product 58 = .ok (.iload_n 1, 1) := dk_27 (dk_at dksX5_product_2 10 rfl rfl)
theorem dX5_product_59 : decode cX5_product 59 = .ok (.iconst 0, 1) := dk_3 (dk_at dksX5_product_2 11 rfl rfl)
theorem dX5_product_60 : decode cX5_product 60 = .ok (.invokevirtual 344, 3) := dk_182 1 88 (dk_at dksX5_product_2 12 rfl rfl)
theorem dX5_product_63 : decode cX5_product 63 = .ok (.goto (-59), 3) := dk_167 255 197 (dk_at dksX5_product_2 15 rfl rfl)
theorem dX5_product_66 : decode cX5_product 66 = .ok (.return_, 1) := dk_177 (dk_at dksX5_product_2 18 rfl rfl)
abbrev cX5_operand : ByteArray := prog_22_method_51_code
def yX5_operand : MethodName := ⟨RX5, "operand", "()V"⟩
def dkwX5_operand_9 : List UInt8 := [16, 57, 184, 0, 230, 153, 0, 10, 42, 182, 1, 78, 167, 0, 9, 42, 4, 29, 182, 1, 88, 177]
abbrev dktX5_operand_9 : List UInt8 := dkwX5_operand_9 ++ []
def dkwX5_operand_8 : List UInt8 := [42, 89, 180, 1, 63, 4, 96, 181, 1, 63, 167, 255, 211, 28, 153, 0, 17, 42, 182, 1, 81, 16, 48]
abbrev dktX5_operand_8 : List UInt8 := dkwX5_operand_8 ++ dktX5_operand_9
def dkwX5_operand_7 : List UInt8 := [16, 57, 184, 0, 230, 153, 0, 32, 16, 10, 29, 104, 42, 182, 1, 81, 96, 16, 48, 100, 62, 132, 2, 1]
abbrev dktX5_operand_7 : List UInt8 := dkwX5_operand_7 ++ dktX5_operand_8
def dkwX5_operand_6 : List UInt8 := [180, 1, 63, 4, 96, 181, 1, 63, 177, 3, 61, 3, 62, 28, 8, 162, 0, 46, 42, 182, 1, 81, 16, 48]
abbrev dktX5_operand_6 : List UInt8 := dkwX5_operand_6 ++ dktX5_operand_7
def dkwX5_operand_5 : List UInt8 := [16, 41, 159, 0, 8, 42, 182, 1, 78, 177, 42, 89, 180, 1, 75, 4, 100, 181, 1, 75, 42, 89]
abbrev dktX5_operand_5 : List UInt8 := dkwX5_operand_5 ++ dktX5_operand_6
def dkwX5_operand_4 : List UInt8 := [182, 1, 92, 154, 0, 4, 177, 42, 182, 1, 99, 42, 180, 1, 66, 155, 0, 4, 177, 42, 182, 1, 81]
abbrev dktX5_operand_4 : List UInt8 := dkwX5_operand_4 ++ dktX5_operand_5
def dkwX5_operand_3 : List UInt8 := [16, 33, 160, 0, 7, 6, 167, 0, 4, 7, 3, 182, 1, 88, 177, 27, 16, 40, 160, 0, 58, 42]
abbrev dktX5_operand_3 : List UInt8 := dkwX5_operand_3 ++ dktX5_operand_4
def dkwX5_operand_2 : List UInt8 := [182, 1, 92, 154, 0, 4, 177, 42, 182, 1, 96, 42, 89, 180, 1, 75, 4, 100, 181, 1, 75, 42, 27]
abbrev dktX5_operand_2 : List UInt8 := dkwX5_operand_2 ++ dktX5_operand_3
def dkwX5_operand_1 : List UInt8 := [180, 1, 63, 4, 96, 181, 1, 63, 177, 27, 16, 33, 159, 0, 9, 27, 16, 45, 160, 0, 42, 42]
abbrev dktX5_operand_1 : List UInt8 := dkwX5_operand_1 ++ dktX5_operand_2
def dkwX5_operand_0 : List UInt8 := [42, 182, 1, 81, 60, 27, 184, 1, 85, 155, 0, 23, 42, 5, 27, 184, 1, 85, 182, 1, 88, 42, 89]
abbrev dktX5_operand_0 : List UInt8 := dkwX5_operand_0 ++ dktX5_operand_1
theorem dksX5_operand_0 : cX5_operand.data.toList.drop 0 = dktX5_operand_0 := by decide +kernel
theorem dksX5_operand_1 : cX5_operand.data.toList.drop 23 = dktX5_operand_1 := dk_seg dksX5_operand_0 23 rfl rfl
theorem dksX5_operand_2 : cX5_operand.data.toList.drop 45 = dktX5_operand_2 := dk_seg dksX5_operand_1 22 rfl rfl
theorem dksX5_operand_3 : cX5_operand.data.toList.drop 68 = dktX5_operand_3 := dk_seg dksX5_operand_2 23 rfl rfl
theorem dksX5_operand_4 : cX5_operand.data.toList.drop 90 = dktX5_operand_4 := dk_seg dksX5_operand_3 22 rfl rfl
theorem dksX5_operand_5 : cX5_operand.data.toList.drop 113 = dktX5_operand_5 := dk_seg dksX5_operand_4 23 rfl rfl
theorem dksX5_operand_6 : cX5_operand.data.toList.drop 135 = dktX5_operand_6 := dk_seg dksX5_operand_5 22 rfl rfl
theorem dksX5_operand_7 : cX5_operand.data.toList.drop 159 = dktX5_operand_7 := dk_seg dksX5_operand_6 24 rfl rfl
theorem dksX5_operand_8 : cX5_operand.data.toList.drop 183 = dktX5_operand_8 := dk_seg dksX5_operand_7 24 rfl rfl
theorem dksX5_operand_9 : cX5_operand.data.toList.drop 206 = dktX5_operand_9 := dk_seg dksX5_operand_8 23 rfl rfl
theorem dX5_operand_0 : decode cX5_operand 0 = .ok (.aload_n 0, 1) := dk_42 (dk_at dksX5_operand_0 0 rfl rfl)
theorem dX5_operand_1 : decode cX5_operand 1 = .ok (.invokevirtual 337, 3) := dk_182 1 81 (dk_at dksX5_operand_0 1 rfl rfl)
theorem dX5_operand_4 : decode cX5_operand 4 = .ok (.istore_n 1, 1) := dk_60 (dk_at dksX5_operand_0 4 rfl rfl)
theorem dX5_operand_5 : decode cX5_operand 5 = .ok (.iload_n 1, 1) := dk_27 (dk_at dksX5_operand_0 5 rfl rfl)
theorem dX5_operand_6 : decode cX5_operand 6 = .ok (.invokestatic 341, 3) := dk_184 1 85 (dk_at dksX5_operand_0 6 rfl rfl)
theorem dX5_operand_9 : decode cX5_operand 9 = .ok (.ifCond .lt 23, 3) := dk_155 0 23 (dk_at dksX5_operand_0 9 rfl rfl)
theorem dX5_operand_12 : decode cX5_operand 12 = .ok (.aload_n 0, 1) := dk_42 (dk_at dksX5_operand_0 12 rfl rfl)
theorem dX5_operand_13 : decode cX5_operand 13 = .ok (.iconst 2, 1) := dk_5 (dk_at dksX5_operand_0 13 rfl rfl)
theorem dX5_operand_14 : decode cX5_operand 14 = .ok (.iload_n 1, 1) := dk_27 (dk_at dksX5_operand_0 14 rfl rfl)
theorem dX5_operand_15 : decode cX5_operand 15 = .ok (.invokestatic 341, 3) := dk_184 1 85 (dk_at dksX5_operand_0 15 rfl rfl)
theorem dX5_operand_18 : decode cX5_operand 18 = .ok (.invokevirtual 344, 3) := dk_182 1 88 (dk_at dksX5_operand_0 18 rfl rfl)
theorem dX5_operand_21 : decode cX5_operand 21 = .ok (.aload_n 0, 1) := dk_42 (dk_at dksX5_operand_0 21 rfl rfl)
theorem dX5_operand_22 : decode cX5_operand 22 = .ok (.dup, 1) := dk_89 (dk_at dksX5_operand_0 22 rfl rfl)
theorem dX5_operand_23 : decode cX5_operand 23 = .ok (.getfield 319, 3) := dk_180 1 63 (dk_at dksX5_operand_1 0 rfl rfl)
theorem dX5_operand_26 : decode cX5_operand 26 = .ok (.iconst 1, 1) := dk_4 (dk_at dksX5_operand_1 3 rfl rfl)
theorem dX5_operand_27 : decode cX5_operand 27 = .ok (.iadd, 1) := dk_96 (dk_at dksX5_operand_1 4 rfl rfl)
theorem dX5_operand_28 : decode cX5_operand 28 = .ok (.putfield 319, 3) := dk_181 1 63 (dk_at dksX5_operand_1 5 rfl rfl)
theorem dX5_operand_31 : decode cX5_operand 31 = .ok (.return_, 1) := dk_177 (dk_at dksX5_operand_1 8 rfl rfl)
theorem dX5_operand_32 : decode cX5_operand 32 = .ok (.iload_n 1, 1) := dk_27 (dk_at dksX5_operand_1 9 rfl rfl)
theorem dX5_operand_33 : decode cX5_operand 33 = .ok (.bipush 33, 2) := dk_16 33 (dk_at dksX5_operand_1 10 rfl rfl)
theorem dX5_operand_35 : decode cX5_operand 35 = .ok (.if_icmp .eq 9, 3) := dk_159 0 9 (dk_at dksX5_operand_1 12 rfl rfl)
theorem dX5_operand_38 : decode cX5_operand 38 = .ok (.iload_n 1, 1) := dk_27 (dk_at dksX5_operand_1 15 rfl rfl)
theorem dX5_operand_39 : decode cX5_operand 39 = .ok (.bipush 45, 2) := dk_16 45 (dk_at dksX5_operand_1 16 rfl rfl)
theorem dX5_operand_41 : decode cX5_operand 41 = .ok (.if_icmp .ne 42, 3) := dk_160 0 42 (dk_at dksX5_operand_1 18 rfl rfl)
theorem dX5_operand_44 : decode cX5_operand 44 = .ok (.aload_n 0, 1) := dk_42 (dk_at dksX5_operand_1 21 rfl rfl)
theorem dX5_operand_45 : decode cX5_operand 45 = .ok (.invokevirtual 348, 3) := dk_182 1 92 (dk_at dksX5_operand_2 0 rfl rfl)
theorem dX5_operand_48 : decode cX5_operand 48 = .ok (.ifCond .ne 4, 3) := dk_154 0 4 (dk_at dksX5_operand_2 3 rfl rfl)
theorem dX5_operand_51 : decode cX5_operand 51 = .ok (.return_, 1) := dk_177 (dk_at dksX5_operand_2 6 rfl rfl)
theorem dX5_operand_52 : decode cX5_operand 52 = .ok (.aload_n 0, 1) := dk_42 (dk_at dksX5_operand_2 7 rfl rfl)
theorem dX5_operand_53 : decode cX5_operand 53 = .ok (.invokevirtual 352, 3) := dk_182 1 96 (dk_at dksX5_operand_2 8 rfl rfl)
theorem dX5_operand_56 : decode cX5_operand 56 = .ok (.aload_n 0, 1) := dk_42 (dk_at dksX5_operand_2 11 rfl rfl)
theorem dX5_operand_57 : decode cX5_operand 57 = .ok (.dup, 1) := dk_89 (dk_at dksX5_operand_2 12 rfl rfl)
theorem dX5_operand_58 : decode cX5_operand 58 = .ok (.getfield 331, 3) := dk_180 1 75 (dk_at dksX5_operand_2 13 rfl rfl)
theorem dX5_operand_61 : decode cX5_operand 61 = .ok (.iconst 1, 1) := dk_4 (dk_at dksX5_operand_2 16 rfl rfl)
theorem dX5_operand_62 : decode cX5_operand 62 = .ok (.isub, 1) := dk_100 (dk_at dksX5_operand_2 17 rfl rfl)
theorem dX5_operand_63 : decode cX5_operand 63 = .ok (.putfield 331, 3) := dk_181 1 75 (dk_at dksX5_operand_2 18 rfl rfl)
theorem dX5_operand_66 : decode cX5_operand 66 = .ok (.aload_n 0, 1) := dk_42 (dk_at dksX5_operand_2 21 rfl rfl)
theorem dX5_operand_67 : decode cX5_operand 67 = .ok (.iload_n 1, 1) := dk_27 (dk_at dksX5_operand_2 22 rfl rfl)
theorem dX5_operand_68 : decode cX5_operand 68 = .ok (.bipush 33, 2) := dk_16 33 (dk_at dksX5_operand_3 0 rfl rfl)
theorem dX5_operand_70 : decode cX5_operand 70 = .ok (.if_icmp .ne 7, 3) := dk_160 0 7 (dk_at dksX5_operand_3 2 rfl rfl)
theorem dX5_operand_73 : decode cX5_operand 73 = .ok (.iconst 3, 1) := dk_6 (dk_at dksX5_operand_3 5 rfl rfl)
theorem dX5_operand_74 : decode cX5_operand 74 = .ok (.goto 4, 3) := dk_167 0 4 (dk_at dksX5_operand_3 6 rfl rfl)
theorem dX5_operand_77 : decode cX5_operand 77 = .ok (.iconst 4, 1) := dk_7 (dk_at dksX5_operand_3 9 rfl rfl)
theorem dX5_operand_78 : decode cX5_operand 78 = .ok (.iconst 0, 1) := dk_3 (dk_at dksX5_operand_3 10 rfl rfl)
theorem dX5_operand_79 : decode cX5_operand 79 = .ok (.invokevirtual 344, 3) := dk_182 1 88 (dk_at dksX5_operand_3 11 rfl rfl)
theorem dX5_operand_82 : decode cX5_operand 82 = .ok (.return_, 1) := dk_177 (dk_at dksX5_operand_3 14 rfl rfl)
theorem dX5_operand_83 : decode cX5_operand 83 = .ok (.iload_n 1, 1) := dk_27 (dk_at dksX5_operand_3 15 rfl rfl)
theorem dX5_operand_84 : decode cX5_operand 84 = .ok (.bipush 40, 2) := dk_16 40 (dk_at dksX5_operand_3 16 rfl rfl)
theorem dX5_operand_86 : decode cX5_operand 86 = .ok (.if_icmp .ne 58, 3) := dk_160 0 58 (dk_at dksX5_operand_3 18 rfl rfl)
theorem dX5_operand_89 : decode cX5_operand 89 = .ok (.aload_n 0, 1) := dk_42 (dk_at dksX5_operand_3 21 rfl rfl)
theorem dX5_operand_90 : decode cX5_operand 90 = .ok (.invokevirtual 348, 3) := dk_182 1 92 (dk_at dksX5_operand_4 0 rfl rfl)
theorem dX5_operand_93 : decode cX5_operand 93 = .ok (.ifCond .ne 4, 3) := dk_154 0 4 (dk_at dksX5_operand_4 3 rfl rfl)
theorem dX5_operand_96 : decode cX5_operand 96 = .ok (.return_, 1) := dk_177 (dk_at dksX5_operand_4 6 rfl rfl)
theorem dX5_operand_97 : decode cX5_operand 97 = .ok (.aload_n 0, 1) := dk_42 (dk_at dksX5_operand_4 7 rfl rfl)
theorem dX5_operand_98 : decode cX5_operand 98 = .ok (.invokevirtual 355, 3) := dk_182 1 99 (dk_at dksX5_operand_4 8 rfl rfl)
theorem dX5_operand_101 : decode cX5_operand 101 = .ok (.aload_n 0, 1) := dk_42 (dk_at dksX5_operand_4 11 rfl rfl)
theorem dX5_operand_102 : decode cX5_operand 102 = .ok (.getfield 322, 3) := dk_180 1 66 (dk_at dksX5_operand_4 12 rfl rfl)
theorem dX5_operand_105 : decode cX5_operand 105 = .ok (.ifCond .lt 4, 3) := dk_155 0 4 (dk_at dksX5_operand_4 15 rfl rfl)
theorem dX5_operand_108 : decode cX5_operand 108 = .ok (.return_, 1) := dk_177 (dk_at dksX5_operand_4 18 rfl rfl)
theorem dX5_operand_109 : decode cX5_operand 109 = .ok (.aload_n 0, 1) := dk_42 (dk_at dksX5_operand_4 19 rfl rfl)
theorem dX5_operand_110 : decode cX5_operand 110 = .ok (.invokevirtual 337, 3) := dk_182 1 81 (dk_at dksX5_operand_4 20 rfl rfl)
theorem dX5_operand_113 : decode cX5_operand 113 = .ok (.bipush 41, 2) := dk_16 41 (dk_at dksX5_operand_5 0 rfl rfl)
theorem dX5_operand_115 : decode cX5_operand 115 = .ok (.if_icmp .eq 8, 3) := dk_159 0 8 (dk_at dksX5_operand_5 2 rfl rfl)
theorem dX5_operand_118 : decode cX5_operand 118 = .ok (.aload_n 0, 1) := dk_42 (dk_at dksX5_operand_5 5 rfl rfl)
theorem dX5_operand_119 : decode cX5_operand 119 = .ok (.invokevirtual 334, 3) := dk_182 1 78 (dk_at dksX5_operand_5 6 rfl rfl)
theorem dX5_operand_122 : decode cX5_operand 122 = .ok (.return_, 1) := dk_177 (dk_at dksX5_operand_5 9 rfl rfl)
theorem dX5_operand_123 : decode cX5_operand 123 = .ok (.aload_n 0, 1) := dk_42 (dk_at dksX5_operand_5 10 rfl rfl)
theorem dX5_operand_124 : decode cX5_operand 124 = .ok (.dup, 1) := dk_89 (dk_at dksX5_operand_5 11 rfl rfl)
theorem dX5_operand_125 : decode cX5_operand 125 = .ok (.getfield 331, 3) := dk_180 1 75 (dk_at dksX5_operand_5 12 rfl rfl)
theorem dX5_operand_128 : decode cX5_operand 128 = .ok (.iconst 1, 1) := dk_4 (dk_at dksX5_operand_5 15 rfl rfl)
theorem dX5_operand_129 : decode cX5_operand 129 = .ok (.isub, 1) := dk_100 (dk_at dksX5_operand_5 16 rfl rfl)
theorem dX5_operand_130 : decode cX5_operand 130 = .ok (.putfield 331, 3) := dk_181 1 75 (dk_at dksX5_operand_5 17 rfl rfl)
theorem dX5_operand_133 : decode cX5_operand 133 = .ok (.aload_n 0, 1) := dk_42 (dk_at dksX5_operand_5 20 rfl rfl)
theorem dX5_operand_134 : decode cX5_operand 134 = .ok (.dup, 1) := dk_89 (dk_at dksX5_operand_5 21 rfl rfl)
theorem dX5_operand_135 : decode cX5_operand 135 = .ok (.getfield 319, 3) := dk_180 1 63 (dk_at dksX5_operand_6 0 rfl rfl)
theorem dX5_operand_138 : decode cX5_operand 138 = .ok (.iconst 1, 1) := dk_4 (dk_at dksX5_operand_6 3 rfl rfl)
theorem dX5_operand_139 : decode cX5_operand 139 = .ok (.iadd, 1) := dk_96 (dk_at dksX5_operand_6 4 rfl rfl)
theorem dX5_operand_140 : decode cX5_operand 140 = .ok (.putfield 319, 3) := dk_181 1 63 (dk_at dksX5_operand_6 5 rfl rfl)
theorem dX5_operand_143 : decode cX5_operand 143 = .ok (.return_, 1) := dk_177 (dk_at dksX5_operand_6 8 rfl rfl)
theorem dX5_operand_144 : decode cX5_operand 144 = .ok (.iconst 0, 1) := dk_3 (dk_at dksX5_operand_6 9 rfl rfl)
theorem dX5_operand_145 : decode cX5_operand 145 = .ok (.istore_n 2, 1) := dk_61 (dk_at dksX5_operand_6 10 rfl rfl)
theorem dX5_operand_146 : decode cX5_operand 146 = .ok (.iconst 0, 1) := dk_3 (dk_at dksX5_operand_6 11 rfl rfl)
theorem dX5_operand_147 : decode cX5_operand 147 = .ok (.istore_n 3, 1) := dk_62 (dk_at dksX5_operand_6 12 rfl rfl)
theorem dX5_operand_148 : decode cX5_operand 148 = .ok (.iload_n 2, 1) := dk_28 (dk_at dksX5_operand_6 13 rfl rfl)
theorem dX5_operand_149 : decode cX5_operand 149 = .ok (.iconst 5, 1) := dk_8 (dk_at dksX5_operand_6 14 rfl rfl)
theorem dX5_operand_150 : decode cX5_operand 150 = .ok (.if_icmp .ge 46, 3) := dk_162 0 46 (dk_at dksX5_operand_6 15 rfl rfl)
theorem dX5_operand_153 : decode cX5_operand 153 = .ok (.aload_n 0, 1) := dk_42 (dk_at dksX5_operand_6 18 rfl rfl)
theorem dX5_operand_154 : decode cX5_operand 154 = .ok (.invokevirtual 337, 3) := dk_182 1 81 (dk_at dksX5_operand_6 19 rfl rfl)
theorem dX5_operand_157 : decode cX5_operand 157 = .ok (.bipush 48, 2) := dk_16 48 (dk_at dksX5_operand_6 22 rfl rfl)
theorem dX5_operand_159 : decode cX5_operand 159 = .ok (.bipush 57, 2) := dk_16 57 (dk_at dksX5_operand_7 0 rfl rfl)
theorem dX5_operand_161 : decode cX5_operand 161 = .ok (.invokestatic 230, 3) := dk_184 0 230 (dk_at dksX5_operand_7 2 rfl rfl)
theorem dX5_operand_164 : decode cX5_operand 164 = .ok (.ifCond .eq 32, 3) := dk_153 0 32 (dk_at dksX5_operand_7 5 rfl rfl)
theorem dX5_operand_167 : decode cX5_operand 167 = .ok (.bipush 10, 2) := dk_16 10 (dk_at dksX5_operand_7 8 rfl rfl)
theorem dX5_operand_169 : decode cX5_operand 169 = .ok (.iload_n 3, 1) := dk_29 (dk_at dksX5_operand_7 10 rfl rfl)
theorem dX5_operand_170 : decode cX5_operand 170 = .ok (.imul, 1) := dk_104 (dk_at dksX5_operand_7 11 rfl rfl)
theorem dX5_operand_171 : decode cX5_operand 171 = .ok (.aload_n 0, 1) := dk_42 (dk_at dksX5_operand_7 12 rfl rfl)
theorem dX5_operand_172 : decode cX5_operand 172 = .ok (.invokevirtual 337, 3) := dk_182 1 81 (dk_at dksX5_operand_7 13 rfl rfl)
theorem dX5_operand_175 : decode cX5_operand 175 = .ok (.iadd, 1) := dk_96 (dk_at dksX5_operand_7 16 rfl rfl)
theorem dX5_operand_176 : decode cX5_operand 176 = .ok (.bipush 48, 2) := dk_16 48 (dk_at dksX5_operand_7 17 rfl rfl)
theorem dX5_operand_178 : decode cX5_operand 178 = .ok (.isub, 1) := dk_100 (dk_at dksX5_operand_7 19 rfl rfl)
theorem dX5_operand_179 : decode cX5_operand 179 = .ok (.istore_n 3, 1) := dk_62 (dk_at dksX5_operand_7 20 rfl rfl)
theorem dX5_operand_180 : decode cX5_operand 180 = .ok (.iinc 2 1, 3) := dk_132 2 1 (dk_at dksX5_operand_7 21 rfl rfl)
theorem dX5_operand_183 : decode cX5_operand 183 = .ok (.aload_n 0, 1) := dk_42 (dk_at dksX5_operand_8 0 rfl rfl)
theorem dX5_operand_184 : decode cX5_operand 184 = .ok (.dup, 1) := dk_89 (dk_at dksX5_operand_8 1 rfl rfl)
theorem dX5_operand_185 : decode cX5_operand 185 = .ok (.getfield 319, 3) := dk_180 1 63 (dk_at dksX5_operand_8 2 rfl rfl)
theorem dX5_operand_188 : decode cX5_operand 188 = .ok (.iconst 1, 1) := dk_4 (dk_at dksX5_operand_8 5 rfl rfl)
theorem dX5_operand_189 : decode cX5_operand 189 = .ok (.iadd, 1) := dk_96 (dk_at dksX5_operand_8 6 rfl rfl)
theorem dX5_operand_190 : decode cX5_operand 190 = .ok (.putfield 319, 3) := dk_181 1 63 (dk_at dksX5_operand_8 7 rfl rfl)
theorem dX5_operand_193 : decode cX5_operand 193 = .ok (.goto (-45), 3) := dk_167 255 211 (dk_at dksX5_operand_8 10 rfl rfl)
theorem dX5_operand_196 : decode cX5_operand 196 = .ok (.iload_n 2, 1) := dk_28 (dk_at dksX5_operand_8 13 rfl rfl)
theorem dX5_operand_197 : decode cX5_operand 197 = .ok (.ifCond .eq 17, 3) := dk_153 0 17 (dk_at dksX5_operand_8 14 rfl rfl)
theorem dX5_operand_200 : decode cX5_operand 200 = .ok (.aload_n 0, 1) := dk_42 (dk_at dksX5_operand_8 17 rfl rfl)
theorem dX5_operand_201 : decode cX5_operand 201 = .ok (.invokevirtual 337, 3) := dk_182 1 81 (dk_at dksX5_operand_8 18 rfl rfl)
theorem dX5_operand_204 : decode cX5_operand 204 = .ok (.bipush 48, 2) := dk_16 48 (dk_at dksX5_operand_8 21 rfl rfl)
theorem dX5_operand_206 : decode cX5_operand 206 = .ok (.bipush 57, 2) := dk_16 57 (dk_at dksX5_operand_9 0 rfl rfl)
theorem dX5_operand_208 : decode cX5_operand 208 = .ok (.invokestatic 230, 3) := dk_184 0 230 (dk_at dksX5_operand_9 2 rfl rfl)
theorem dX5_operand_211 : decode cX5_operand 211 = .ok (.ifCond .eq 10, 3) := dk_153 0 10 (dk_at dksX5_operand_9 5 rfl rfl)
theorem dX5_operand_214 : decode cX5_operand 214 = .ok (.aload_n 0, 1) := dk_42 (dk_at dksX5_operand_9 8 rfl rfl)
theorem dX5_operand_215 : decode cX5_operand 215 = .ok (.invokevirtual 334, 3) := dk_182 1 78 (dk_at dksX5_operand_9 9 rfl rfl)
theorem dX5_operand_218 : decode cX5_operand 218 = .ok (.goto 9, 3) := dk_167 0 9 (dk_at dksX5_operand_9 12 rfl rfl)
theorem dX5_operand_221 : decode cX5_operand 221 = .ok (.aload_n 0, 1) := dk_42 (dk_at dksX5_operand_9 15 rfl rfl)
theorem dX5_operand_222 : decode cX5_operand 222 = .ok (.iconst 1, 1) := dk_4 (dk_at dksX5_operand_9 16 rfl rfl)
theorem dX5_operand_223 : decode cX5_operand 223 = .ok (.iload_n 3, 1) := dk_29 (dk_at dksX5_operand_9 17 rfl rfl)
theorem dX5_operand_224 : decode cX5_operand 224 = .ok (.invokevirtual 344, 3) := dk_182 1 88 (dk_at dksX5_operand_9 18 rfl rfl)
theorem dX5_operand_227 : decode cX5_operand 227 = .ok (.return_, 1) := dk_177 (dk_at dksX5_operand_9 21 rfl rfl)
abbrev cX5_look : ByteArray := prog_22_method_46_code
def yX5_look : MethodName := ⟨RX5, "look", "()I"⟩
def dkwX5_look_1 : List UInt8 := [172]
abbrev dktX5_look_1 : List UInt8 := dkwX5_look_1 ++ []
def dkwX5_look_0 : List UInt8 := [42, 180, 1, 63, 42, 180, 1, 60, 162, 0, 15, 42, 180, 0, 96, 42, 180, 1, 63, 51, 167, 0, 4, 2]
abbrev dktX5_look_0 : List UInt8 := dkwX5_look_0 ++ dktX5_look_1
theorem dksX5_look_0 : cX5_look.data.toList.drop 0 = dktX5_look_0 := by decide +kernel
theorem dksX5_look_1 : cX5_look.data.toList.drop 24 = dktX5_look_1 := dk_seg dksX5_look_0 24 rfl rfl
theorem dX5_look_0 : decode cX5_look 0 = .ok (.aload_n 0, 1) := dk_42 (dk_at dksX5_look_0 0 rfl rfl)
theorem dX5_look_1 : decode cX5_look 1 = .ok (.getfield 319, 3) := dk_180 1 63 (dk_at dksX5_look_0 1 rfl rfl)
theorem dX5_look_4 : decode cX5_look 4 = .ok (.aload_n 0, 1) := dk_42 (dk_at dksX5_look_0 4 rfl rfl)
theorem dX5_look_5 : decode cX5_look 5 = .ok (.getfield 316, 3) := dk_180 1 60 (dk_at dksX5_look_0 5 rfl rfl)
theorem dX5_look_8 : decode cX5_look 8 = .ok (.if_icmp .ge 15, 3) := dk_162 0 15 (dk_at dksX5_look_0 8 rfl rfl)
theorem dX5_look_11 : decode cX5_look 11 = .ok (.aload_n 0, 1) := dk_42 (dk_at dksX5_look_0 11 rfl rfl)
theorem dX5_look_12 : decode cX5_look 12 = .ok (.getfield 96, 3) := dk_180 0 96 (dk_at dksX5_look_0 12 rfl rfl)
theorem dX5_look_15 : decode cX5_look 15 = .ok (.aload_n 0, 1) := dk_42 (dk_at dksX5_look_0 15 rfl rfl)
theorem dX5_look_16 : decode cX5_look 16 = .ok (.getfield 319, 3) := dk_180 1 63 (dk_at dksX5_look_0 16 rfl rfl)
theorem dX5_look_19 : decode cX5_look 19 = .ok (.baload, 1) := dk_51 (dk_at dksX5_look_0 19 rfl rfl)
theorem dX5_look_20 : decode cX5_look 20 = .ok (.goto 4, 3) := dk_167 0 4 (dk_at dksX5_look_0 20 rfl rfl)
theorem dX5_look_23 : decode cX5_look 23 = .ok (.iconst (-1), 1) := dk_2 (dk_at dksX5_look_0 23 rfl rfl)
theorem dX5_look_24 : decode cX5_look 24 = .ok (.ireturn, 1) := dk_172 (dk_at dksX5_look_1 0 rfl rfl)
abbrev cX5_nameOf : ByteArray := prog_22_method_50_code
def yX5_nameOf : MethodName := ⟨RX5, "nameOf", "(I)I"⟩
def dkwX5_nameOf_2 : List UInt8 := [3, 172, 4, 172, 5, 172, 6, 172, 7, 172, 8, 172, 16, 6, 172, 16, 7, 172, 2, 172]
abbrev dktX5_nameOf_2 : List UInt8 := dkwX5_nameOf_2 ++ []
def dkwX5_nameOf_1 : List UInt8 := [170, 0, 0, 0, 0, 0, 101, 0, 0, 0, 100, 0, 0, 0, 116, 0, 0, 0, 85, 0, 0, 0, 101, 0, 0, 0, 95, 0, 0, 0, 101, 0, 0, 0, 83, 0, 0, 0, 91, 0, 0, 0, 101, 0, 0, 0, 89, 0, 0, 0, 101, 0, 0, 0, 101, 0, 0, 0, 93, 0, 0, 0, 101, 0, 0, 0, 101, 0, 0, 0, 101, 0, 0, 0, 101, 0, 0, 0, 87, 0, 0, 0, 98]
abbrev dktX5_nameOf_1 : List UInt8 := dkwX5_nameOf_1 ++ dktX5_nameOf_2
def dkwX5_nameOf_0 : List UInt8 := [26]
abbrev dktX5_nameOf_0 : List UInt8 := dkwX5_nameOf_0 ++ dktX5_nameOf_1
theorem dksX5_nameOf_0 : cX5_nameOf.data.toList.drop 0 = dktX5_nameOf_0 := by decide +kernel
theorem dksX5_nameOf_1 : cX5_nameOf.data.toList.drop 1 = dktX5_nameOf_1 := dk_seg dksX5_nameOf_0 1 rfl rfl
theorem dksX5_nameOf_2 : cX5_nameOf.data.toList.drop 84 = dktX5_nameOf_2 := dk_seg dksX5_nameOf_1 83 rfl rfl
theorem dX5_nameOf_0 : decode cX5_nameOf 0 = .ok (.iload_n 0, 1) := dk_26 (dk_at dksX5_nameOf_0 0 rfl rfl)
theorem dX5_nameOf_1 : decode cX5_nameOf 1 = .ok (.tableswitch 101 100 116 #[85, 101, 95, 101, 83, 91, 101, 89, 101, 101, 93, 101, 101, 101, 101, 87, 98], 83) := by decide +kernel
theorem dX5_nameOf_84 : decode cX5_nameOf 84 = .ok (.iconst 0, 1) := dk_3 (dk_at dksX5_nameOf_2 0 rfl rfl)
theorem dX5_nameOf_85 : decode cX5_nameOf 85 = .ok (.ireturn, 1) := dk_172 (dk_at dksX5_nameOf_2 1 rfl rfl)
theorem dX5_nameOf_86 : decode cX5_nameOf 86 = .ok (.iconst 1, 1) := dk_4 (dk_at dksX5_nameOf_2 2 rfl rfl)
theorem dX5_nameOf_87 : decode cX5_nameOf 87 = .ok (.ireturn, 1) := dk_172 (dk_at dksX5_nameOf_2 3 rfl rfl)
theorem dX5_nameOf_88 : decode cX5_nameOf 88 = .ok (.iconst 2, 1) := dk_5 (dk_at dksX5_nameOf_2 4 rfl rfl)
theorem dX5_nameOf_89 : decode cX5_nameOf 89 = .ok (.ireturn, 1) := dk_172 (dk_at dksX5_nameOf_2 5 rfl rfl)
theorem dX5_nameOf_90 : decode cX5_nameOf 90 = .ok (.iconst 3, 1) := dk_6 (dk_at dksX5_nameOf_2 6 rfl rfl)
theorem dX5_nameOf_91 : decode cX5_nameOf 91 = .ok (.ireturn, 1) := dk_172 (dk_at dksX5_nameOf_2 7 rfl rfl)
theorem dX5_nameOf_92 : decode cX5_nameOf 92 = .ok (.iconst 4, 1) := dk_7 (dk_at dksX5_nameOf_2 8 rfl rfl)
theorem dX5_nameOf_93 : decode cX5_nameOf 93 = .ok (.ireturn, 1) := dk_172 (dk_at dksX5_nameOf_2 9 rfl rfl)
theorem dX5_nameOf_94 : decode cX5_nameOf 94 = .ok (.iconst 5, 1) := dk_8 (dk_at dksX5_nameOf_2 10 rfl rfl)
theorem dX5_nameOf_95 : decode cX5_nameOf 95 = .ok (.ireturn, 1) := dk_172 (dk_at dksX5_nameOf_2 11 rfl rfl)
theorem dX5_nameOf_96 : decode cX5_nameOf 96 = .ok (.bipush 6, 2) := dk_16 6 (dk_at dksX5_nameOf_2 12 rfl rfl)
theorem dX5_nameOf_98 : decode cX5_nameOf 98 = .ok (.ireturn, 1) := dk_172 (dk_at dksX5_nameOf_2 14 rfl rfl)
theorem dX5_nameOf_99 : decode cX5_nameOf 99 = .ok (.bipush 7, 2) := dk_16 7 (dk_at dksX5_nameOf_2 15 rfl rfl)
theorem dX5_nameOf_101 : decode cX5_nameOf 101 = .ok (.ireturn, 1) := dk_172 (dk_at dksX5_nameOf_2 17 rfl rfl)
theorem dX5_nameOf_102 : decode cX5_nameOf 102 = .ok (.iconst (-1), 1) := dk_2 (dk_at dksX5_nameOf_2 18 rfl rfl)
theorem dX5_nameOf_103 : decode cX5_nameOf 103 = .ok (.ireturn, 1) := dk_172 (dk_at dksX5_nameOf_2 19 rfl rfl)
abbrev cX5_lay : ByteArray := prog_22_method_48_code
def yX5_lay : MethodName := ⟨RX5, "lay", "(II)V"⟩
def dkwX5_lay_2 : List UInt8 := [181, 1, 72, 177]
abbrev dktX5_lay_2 : List UInt8 := dkwX5_lay_2 ++ []
def dkwX5_lay_1 : List UInt8 := [17, 0, 170, 42, 180, 1, 69, 104, 42, 180, 1, 72, 96, 28, 79, 42, 89, 180, 1, 72, 4, 96]
abbrev dktX5_lay_1 : List UInt8 := dkwX5_lay_1 ++ dktX5_lay_2
def dkwX5_lay_0 : List UInt8 := [42, 180, 0, 118, 17, 0, 170, 42, 180, 1, 69, 104, 42, 180, 1, 72, 96, 27, 79, 42, 180, 0, 121]
abbrev dktX5_lay_0 : List UInt8 := dkwX5_lay_0 ++ dktX5_lay_1
theorem dksX5_lay_0 : cX5_lay.data.toList.drop 0 = dktX5_lay_0 := by decide +kernel
theorem dksX5_lay_1 : cX5_lay.data.toList.drop 23 = dktX5_lay_1 := dk_seg dksX5_lay_0 23 rfl rfl
theorem dksX5_lay_2 : cX5_lay.data.toList.drop 45 = dktX5_lay_2 := dk_seg dksX5_lay_1 22 rfl rfl
theorem dX5_lay_0 : decode cX5_lay 0 = .ok (.aload_n 0, 1) := dk_42 (dk_at dksX5_lay_0 0 rfl rfl)
theorem dX5_lay_1 : decode cX5_lay 1 = .ok (.getfield 118, 3) := dk_180 0 118 (dk_at dksX5_lay_0 1 rfl rfl)
theorem dX5_lay_4 : decode cX5_lay 4 = .ok (.sipush 170, 3) := dk_17 0 170 (dk_at dksX5_lay_0 4 rfl rfl)
theorem dX5_lay_7 : decode cX5_lay 7 = .ok (.aload_n 0, 1) := dk_42 (dk_at dksX5_lay_0 7 rfl rfl)
theorem dX5_lay_8 : decode cX5_lay 8 = .ok (.getfield 325, 3) := dk_180 1 69 (dk_at dksX5_lay_0 8 rfl rfl)
theorem dX5_lay_11 : decode cX5_lay 11 = .ok (.imul, 1) := dk_104 (dk_at dksX5_lay_0 11 rfl rfl)
theorem dX5_lay_12 : decode cX5_lay 12 = .ok (.aload_n 0, 1) := dk_42 (dk_at dksX5_lay_0 12 rfl rfl)
theorem dX5_lay_13 : decode cX5_lay 13 = .ok (.getfield 328, 3) := dk_180 1 72 (dk_at dksX5_lay_0 13 rfl rfl)
theorem dX5_lay_16 : decode cX5_lay 16 = .ok (.iadd, 1) := dk_96 (dk_at dksX5_lay_0 16 rfl rfl)
theorem dX5_lay_17 : decode cX5_lay 17 = .ok (.iload_n 1, 1) := dk_27 (dk_at dksX5_lay_0 17 rfl rfl)
theorem dX5_lay_18 : decode cX5_lay 18 = .ok (.iastore, 1) := dk_79 (dk_at dksX5_lay_0 18 rfl rfl)
theorem dX5_lay_19 : decode cX5_lay 19 = .ok (.aload_n 0, 1) := dk_42 (dk_at dksX5_lay_0 19 rfl rfl)
theorem dX5_lay_20 : decode cX5_lay 20 = .ok (.getfield 121, 3) := dk_180 0 121 (dk_at dksX5_lay_0 20 rfl rfl)
theorem dX5_lay_23 : decode cX5_lay 23 = .ok (.sipush 170, 3) := dk_17 0 170 (dk_at dksX5_lay_1 0 rfl rfl)
theorem dX5_lay_26 : decode cX5_lay 26 = .ok (.aload_n 0, 1) := dk_42 (dk_at dksX5_lay_1 3 rfl rfl)
theorem dX5_lay_27 : decode cX5_lay 27 = .ok (.getfield 325, 3) := dk_180 1 69 (dk_at dksX5_lay_1 4 rfl rfl)
theorem dX5_lay_30 : decode cX5_lay 30 = .ok (.imul, 1) := dk_104 (dk_at dksX5_lay_1 7 rfl rfl)
theorem dX5_lay_31 : decode cX5_lay 31 = .ok (.aload_n 0, 1) := dk_42 (dk_at dksX5_lay_1 8 rfl rfl)
theorem dX5_lay_32 : decode cX5_lay 32 = .ok (.getfield 328, 3) := dk_180 1 72 (dk_at dksX5_lay_1 9 rfl rfl)
theorem dX5_lay_35 : decode cX5_lay 35 = .ok (.iadd, 1) := dk_96 (dk_at dksX5_lay_1 12 rfl rfl)
theorem dX5_lay_36 : decode cX5_lay 36 = .ok (.iload_n 2, 1) := dk_28 (dk_at dksX5_lay_1 13 rfl rfl)
theorem dX5_lay_37 : decode cX5_lay 37 = .ok (.iastore, 1) := dk_79 (dk_at dksX5_lay_1 14 rfl rfl)
theorem dX5_lay_38 : decode cX5_lay 38 = .ok (.aload_n 0, 1) := dk_42 (dk_at dksX5_lay_1 15 rfl rfl)
theorem dX5_lay_39 : decode cX5_lay 39 = .ok (.dup, 1) := dk_89 (dk_at dksX5_lay_1 16 rfl rfl)
theorem dX5_lay_40 : decode cX5_lay 40 = .ok (.getfield 328, 3) := dk_180 1 72 (dk_at dksX5_lay_1 17 rfl rfl)
theorem dX5_lay_43 : decode cX5_lay 43 = .ok (.iconst 1, 1) := dk_4 (dk_at dksX5_lay_1 20 rfl rfl)
theorem dX5_lay_44 : decode cX5_lay 44 = .ok (.iadd, 1) := dk_96 (dk_at dksX5_lay_1 21 rfl rfl)
theorem dX5_lay_45 : decode cX5_lay 45 = .ok (.putfield 328, 3) := dk_181 1 72 (dk_at dksX5_lay_2 0 rfl rfl)
theorem dX5_lay_48 : decode cX5_lay 48 = .ok (.return_, 1) := dk_177 (dk_at dksX5_lay_2 3 rfl rfl)
abbrev cX5_opens : ByteArray := prog_22_method_49_code
def yX5_opens : MethodName := ⟨RX5, "opens", "()Z"⟩
def dkwX5_opens_1 : List UInt8 := [181, 1, 75, 42, 89, 180, 1, 63, 4, 96, 181, 1, 63, 4, 172]
abbrev dktX5_opens_1 : List UInt8 := dkwX5_opens_1 ++ []
def dkwX5_opens_0 : List UInt8 := [42, 180, 1, 75, 16, 8, 160, 0, 9, 42, 182, 1, 78, 3, 172, 42, 89, 180, 1, 75, 4, 96]
abbrev dktX5_opens_0 : List UInt8 := dkwX5_opens_0 ++ dktX5_opens_1
theorem dksX5_opens_0 : cX5_opens.data.toList.drop 0 = dktX5_opens_0 := by decide +kernel
theorem dksX5_opens_1 : cX5_opens.data.toList.drop 22 = dktX5_opens_1 := dk_seg dksX5_opens_0 22 rfl rfl
theorem dX5_opens_0 : decode cX5_opens 0 = .ok (.aload_n 0, 1) := dk_42 (dk_at dksX5_opens_0 0 rfl rfl)
theorem dX5_opens_1 : decode cX5_opens 1 = .ok (.getfield 331, 3) := dk_180 1 75 (dk_at dksX5_opens_0 1 rfl rfl)
theorem dX5_opens_4 : decode cX5_opens 4 = .ok (.bipush 8, 2) := dk_16 8 (dk_at dksX5_opens_0 4 rfl rfl)
theorem dX5_opens_6 : decode cX5_opens 6 = .ok (.if_icmp .ne 9, 3) := dk_160 0 9 (dk_at dksX5_opens_0 6 rfl rfl)
theorem dX5_opens_9 : decode cX5_opens 9 = .ok (.aload_n 0, 1) := dk_42 (dk_at dksX5_opens_0 9 rfl rfl)
theorem dX5_opens_10 : decode cX5_opens 10 = .ok (.invokevirtual 334, 3) := dk_182 1 78 (dk_at dksX5_opens_0 10 rfl rfl)
theorem dX5_opens_13 : decode cX5_opens 13 = .ok (.iconst 0, 1) := dk_3 (dk_at dksX5_opens_0 13 rfl rfl)
theorem dX5_opens_14 : decode cX5_opens 14 = .ok (.ireturn, 1) := dk_172 (dk_at dksX5_opens_0 14 rfl rfl)
theorem dX5_opens_15 : decode cX5_opens 15 = .ok (.aload_n 0, 1) := dk_42 (dk_at dksX5_opens_0 15 rfl rfl)
theorem dX5_opens_16 : decode cX5_opens 16 = .ok (.dup, 1) := dk_89 (dk_at dksX5_opens_0 16 rfl rfl)
theorem dX5_opens_17 : decode cX5_opens 17 = .ok (.getfield 331, 3) := dk_180 1 75 (dk_at dksX5_opens_0 17 rfl rfl)
theorem dX5_opens_20 : decode cX5_opens 20 = .ok (.iconst 1, 1) := dk_4 (dk_at dksX5_opens_0 20 rfl rfl)
theorem dX5_opens_21 : decode cX5_opens 21 = .ok (.iadd, 1) := dk_96 (dk_at dksX5_opens_0 21 rfl rfl)
theorem dX5_opens_22 : decode cX5_opens 22 = .ok (.putfield 331, 3) := dk_181 1 75 (dk_at dksX5_opens_1 0 rfl rfl)
theorem dX5_opens_25 : decode cX5_opens 25 = .ok (.aload_n 0, 1) := dk_42 (dk_at dksX5_opens_1 3 rfl rfl)
theorem dX5_opens_26 : decode cX5_opens 26 = .ok (.dup, 1) := dk_89 (dk_at dksX5_opens_1 4 rfl rfl)
theorem dX5_opens_27 : decode cX5_opens 27 = .ok (.getfield 319, 3) := dk_180 1 63 (dk_at dksX5_opens_1 5 rfl rfl)
theorem dX5_opens_30 : decode cX5_opens 30 = .ok (.iconst 1, 1) := dk_4 (dk_at dksX5_opens_1 8 rfl rfl)
theorem dX5_opens_31 : decode cX5_opens 31 = .ok (.iadd, 1) := dk_96 (dk_at dksX5_opens_1 9 rfl rfl)
theorem dX5_opens_32 : decode cX5_opens 32 = .ok (.putfield 319, 3) := dk_181 1 63 (dk_at dksX5_opens_1 10 rfl rfl)
theorem dX5_opens_35 : decode cX5_opens 35 = .ok (.iconst 1, 1) := dk_4 (dk_at dksX5_opens_1 13 rfl rfl)
theorem dX5_opens_36 : decode cX5_opens 36 = .ok (.ireturn, 1) := dk_172 (dk_at dksX5_opens_1 14 rfl rfl)
abbrev cX5_faultHere : ByteArray := prog_22_method_47_code
def yX5_faultHere : MethodName := ⟨RX5, "faultHere", "()V"⟩
def dkwX5_faultHere_0 : List UInt8 := [42, 180, 1, 66, 156, 0, 11, 42, 42, 180, 1, 63, 181, 1, 66, 177]
abbrev dktX5_faultHere_0 : List UInt8 := dkwX5_faultHere_0 ++ []
theorem dksX5_faultHere_0 : cX5_faultHere.data.toList.drop 0 = dktX5_faultHere_0 := by decide +kernel
theorem dX5_faultHere_0 : decode cX5_faultHere 0 = .ok (.aload_n 0, 1) := dk_42 (dk_at dksX5_faultHere_0 0 rfl rfl)
theorem dX5_faultHere_1 : decode cX5_faultHere 1 = .ok (.getfield 322, 3) := dk_180 1 66 (dk_at dksX5_faultHere_0 1 rfl rfl)
theorem dX5_faultHere_4 : decode cX5_faultHere 4 = .ok (.ifCond .ge 11, 3) := dk_156 0 11 (dk_at dksX5_faultHere_0 4 rfl rfl)
theorem dX5_faultHere_7 : decode cX5_faultHere 7 = .ok (.aload_n 0, 1) := dk_42 (dk_at dksX5_faultHere_0 7 rfl rfl)
theorem dX5_faultHere_8 : decode cX5_faultHere 8 = .ok (.aload_n 0, 1) := dk_42 (dk_at dksX5_faultHere_0 8 rfl rfl)
theorem dX5_faultHere_9 : decode cX5_faultHere 9 = .ok (.getfield 319, 3) := dk_180 1 63 (dk_at dksX5_faultHere_0 9 rfl rfl)
theorem dX5_faultHere_12 : decode cX5_faultHere 12 = .ok (.putfield 322, 3) := dk_181 1 66 (dk_at dksX5_faultHere_0 12 rfl rfl)
theorem dX5_faultHere_15 : decode cX5_faultHere 15 = .ok (.return_, 1) := dk_177 (dk_at dksX5_faultHere_0 15 rfl rfl)
abbrev cX5_inForce : ByteArray := prog_22_method_61_code
def yX5_inForce : MethodName := ⟨RX5, "inForce", "(III)I"⟩
def dkwX5_inForce_1 : List UInt8 := [29, 182, 1, 129, 167, 0, 4, 2, 172]
abbrev dktX5_inForce_1 : List UInt8 := dkwX5_inForce_1 ++ []
def dkwX5_inForce_0 : List UInt8 := [27, 184, 1, 114, 153, 0, 27, 28, 184, 1, 126, 153, 0, 20, 29, 184, 1, 126, 153, 0, 13, 42, 27, 28]
abbrev dktX5_inForce_0 : List UInt8 := dkwX5_inForce_0 ++ dktX5_inForce_1
theorem dksX5_inForce_0 : cX5_inForce.data.toList.drop 0 = dktX5_inForce_0 := by decide +kernel
theorem dksX5_inForce_1 : cX5_inForce.data.toList.drop 24 = dktX5_inForce_1 := dk_seg dksX5_inForce_0 24 rfl rfl
theorem dX5_inForce_0 : decode cX5_inForce 0 = .ok (.iload_n 1, 1) := dk_27 (dk_at dksX5_inForce_0 0 rfl rfl)
theorem dX5_inForce_1 : decode cX5_inForce 1 = .ok (.invokestatic 370, 3) := dk_184 1 114 (dk_at dksX5_inForce_0 1 rfl rfl)
theorem dX5_inForce_4 : decode cX5_inForce 4 = .ok (.ifCond .eq 27, 3) := dk_153 0 27 (dk_at dksX5_inForce_0 4 rfl rfl)
theorem dX5_inForce_7 : decode cX5_inForce 7 = .ok (.iload_n 2, 1) := dk_28 (dk_at dksX5_inForce_0 7 rfl rfl)
theorem dX5_inForce_8 : decode cX5_inForce 8 = .ok (.invokestatic 382, 3) := dk_184 1 126 (dk_at dksX5_inForce_0 8 rfl rfl)
theorem dX5_inForce_11 : decode cX5_inForce 11 = .ok (.ifCond .eq 20, 3) := dk_153 0 20 (dk_at dksX5_inForce_0 11 rfl rfl)
theorem dX5_inForce_14 : decode cX5_inForce 14 = .ok (.iload_n 3, 1) := dk_29 (dk_at dksX5_inForce_0 14 rfl rfl)
theorem dX5_inForce_15 : decode cX5_inForce 15 = .ok (.invokestatic 382, 3) := dk_184 1 126 (dk_at dksX5_inForce_0 15 rfl rfl)
theorem dX5_inForce_18 : decode cX5_inForce 18 = .ok (.ifCond .eq 13, 3) := dk_153 0 13 (dk_at dksX5_inForce_0 18 rfl rfl)
theorem dX5_inForce_21 : decode cX5_inForce 21 = .ok (.aload_n 0, 1) := dk_42 (dk_at dksX5_inForce_0 21 rfl rfl)
theorem dX5_inForce_22 : decode cX5_inForce 22 = .ok (.iload_n 1, 1) := dk_27 (dk_at dksX5_inForce_0 22 rfl rfl)
theorem dX5_inForce_23 : decode cX5_inForce 23 = .ok (.iload_n 2, 1) := dk_28 (dk_at dksX5_inForce_0 23 rfl rfl)
theorem dX5_inForce_24 : decode cX5_inForce 24 = .ok (.iload_n 3, 1) := dk_29 (dk_at dksX5_inForce_1 0 rfl rfl)
theorem dX5_inForce_25 : decode cX5_inForce 25 = .ok (.invokevirtual 385, 3) := dk_182 1 129 (dk_at dksX5_inForce_1 1 rfl rfl)
theorem dX5_inForce_28 : decode cX5_inForce 28 = .ok (.goto 4, 3) := dk_167 0 4 (dk_at dksX5_inForce_1 4 rfl rfl)
theorem dX5_inForce_31 : decode cX5_inForce 31 = .ok (.iconst (-1), 1) := dk_2 (dk_at dksX5_inForce_1 7 rfl rfl)
theorem dX5_inForce_32 : decode cX5_inForce 32 = .ok (.ireturn, 1) := dk_172 (dk_at dksX5_inForce_1 8 rfl rfl)
abbrev cX5_isHour : ByteArray := prog_22_method_4_code
def yX5_isHour : MethodName := ⟨RX5, "isHour", "(I)Z"⟩
def dkwX5_isHour_0 : List UInt8 := [26, 3, 17, 6, 163, 184, 0, 230, 172]
abbrev dktX5_isHour_0 : List UInt8 := dkwX5_isHour_0 ++ []
theorem dksX5_isHour_0 : cX5_isHour.data.toList.drop 0 = dktX5_isHour_0 := by decide +kernel
theorem dX5_isHour_0 : decode cX5_isHour 0 = .ok (.iload_n 0, 1) := dk_26 (dk_at dksX5_isHour_0 0 rfl rfl)
theorem dX5_isHour_1 : decode cX5_isHour 1 = .ok (.iconst 0, 1) := dk_3 (dk_at dksX5_isHour_0 1 rfl rfl)
theorem dX5_isHour_2 : decode cX5_isHour 2 = .ok (.sipush 1699, 3) := dk_17 6 163 (dk_at dksX5_isHour_0 2 rfl rfl)
theorem dX5_isHour_5 : decode cX5_isHour 5 = .ok (.invokestatic 230, 3) := dk_184 0 230 (dk_at dksX5_isHour_0 5 rfl rfl)
theorem dX5_isHour_8 : decode cX5_isHour 8 = .ok (.ireturn, 1) := dk_172 (dk_at dksX5_isHour_0 8 rfl rfl)
abbrev cX5_forceOf : ByteArray := prog_22_method_60_code
def yX5_forceOf : MethodName := ⟨RX5, "forceOf", "(III)I"⟩
def dkwX5_forceOf_4 : List UInt8 := [132, 5, 255, 167, 255, 184, 16, 254, 172]
abbrev dktX5_forceOf_4 : List UInt8 := dkwX5_forceOf_4 ++ []
def dkwX5_forceOf_3 : List UInt8 := [180, 0, 103, 21, 5, 46, 29, 163, 0, 17, 42, 180, 0, 106, 21, 5, 46, 28, 163, 0, 6, 21, 5, 172]
abbrev dktX5_forceOf_3 : List UInt8 := dkwX5_forceOf_3 ++ dktX5_forceOf_4
def dkwX5_forceOf_2 : List UInt8 := [180, 0, 100, 21, 5, 46, 16, 10, 108, 27, 16, 10, 108, 159, 0, 8, 21, 4, 153, 0, 28, 42]
abbrev dktX5_forceOf_2 : List UInt8 := dkwX5_forceOf_2 ++ dktX5_forceOf_3
def dkwX5_forceOf_1 : List UInt8 := [21, 5, 155, 0, 73, 42, 180, 0, 100, 21, 5, 46, 16, 10, 112, 27, 16, 10, 112, 160, 0, 50, 42]
abbrev dktX5_forceOf_1 : List UInt8 := dkwX5_forceOf_1 ++ dktX5_forceOf_2
def dkwX5_forceOf_0 : List UInt8 := [42, 182, 1, 123, 29, 163, 0, 7, 4, 167, 0, 4, 3, 54, 4, 42, 180, 1, 117, 4, 100, 54, 5]
abbrev dktX5_forceOf_0 : List UInt8 := dkwX5_forceOf_0 ++ dktX5_forceOf_1
theorem dksX5_forceOf_0 : cX5_forceOf.data.toList.drop 0 = dktX5_forceOf_0 := by decide +kernel
theorem dksX5_forceOf_1 : cX5_forceOf.data.toList.drop 23 = dktX5_forceOf_1 := dk_seg dksX5_forceOf_0 23 rfl rfl
theorem dksX5_forceOf_2 : cX5_forceOf.data.toList.drop 46 = dktX5_forceOf_2 := dk_seg dksX5_forceOf_1 23 rfl rfl
theorem dksX5_forceOf_3 : cX5_forceOf.data.toList.drop 68 = dktX5_forceOf_3 := dk_seg dksX5_forceOf_2 22 rfl rfl
theorem dksX5_forceOf_4 : cX5_forceOf.data.toList.drop 92 = dktX5_forceOf_4 := dk_seg dksX5_forceOf_3 24 rfl rfl
theorem dX5_forceOf_0 : decode cX5_forceOf 0 = .ok (.aload_n 0, 1) := dk_42 (dk_at dksX5_forceOf_0 0 rfl rfl)
theorem dX5_forceOf_1 : decode cX5_forceOf 1 = .ok (.invokevirtual 379, 3) := dk_182 1 123 (dk_at dksX5_forceOf_0 1 rfl rfl)
theorem dX5_forceOf_4 : decode cX5_forceOf 4 = .ok (.iload_n 3, 1) := dk_29 (dk_at dksX5_forceOf_0 4 rfl rfl)
theorem dX5_forceOf_5 : decode cX5_forceOf 5 = .ok (.if_icmp .gt 7, 3) := dk_163 0 7 (dk_at dksX5_forceOf_0 5 rfl rfl)
theorem dX5_forceOf_8 : decode cX5_forceOf 8 = .ok (.iconst 1, 1) := dk_4 (dk_at dksX5_forceOf_0 8 rfl rfl)
theorem dX5_forceOf_9 : decode cX5_forceOf 9 = .ok (.goto 4, 3) := dk_167 0 4 (dk_at dksX5_forceOf_0 9 rfl rfl)
theorem dX5_forceOf_12 : decode cX5_forceOf 12 = .ok (.iconst 0, 1) := dk_3 (dk_at dksX5_forceOf_0 12 rfl rfl)
theorem dX5_forceOf_13 : decode cX5_forceOf 13 = .ok (.istore 4, 2) := dk_54 4 (dk_at dksX5_forceOf_0 13 rfl rfl)
theorem dX5_forceOf_15 : decode cX5_forceOf 15 = .ok (.aload_n 0, 1) := dk_42 (dk_at dksX5_forceOf_0 15 rfl rfl)
theorem dX5_forceOf_16 : decode cX5_forceOf 16 = .ok (.getfield 373, 3) := dk_180 1 117 (dk_at dksX5_forceOf_0 16 rfl rfl)
theorem dX5_forceOf_19 : decode cX5_forceOf 19 = .ok (.iconst 1, 1) := dk_4 (dk_at dksX5_forceOf_0 19 rfl rfl)
theorem dX5_forceOf_20 : decode cX5_forceOf 20 = .ok (.isub, 1) := dk_100 (dk_at dksX5_forceOf_0 20 rfl rfl)
theorem dX5_forceOf_21 : decode cX5_forceOf 21 = .ok (.istore 5, 2) := dk_54 5 (dk_at dksX5_forceOf_0 21 rfl rfl)
theorem dX5_forceOf_23 : decode cX5_forceOf 23 = .ok (.iload 5, 2) := dk_21 5 (dk_at dksX5_forceOf_1 0 rfl rfl)
theorem dX5_forceOf_25 : decode cX5_forceOf 25 = .ok (.ifCond .lt 73, 3) := dk_155 0 73 (dk_at dksX5_forceOf_1 2 rfl rfl)
theorem dX5_forceOf_28 : decode cX5_forceOf 28 = .ok (.aload_n 0, 1) := dk_42 (dk_at dksX5_forceOf_1 5 rfl rfl)
theorem dX5_forceOf_29 : decode cX5_forceOf 29 = .ok (.getfield 100, 3) := dk_180 0 100 (dk_at dksX5_forceOf_1 6 rfl rfl)
theorem dX5_forceOf_32 : decode cX5_forceOf 32 = .ok (.iload 5, 2) := dk_21 5 (dk_at dksX5_forceOf_1 9 rfl rfl)
theorem dX5_forceOf_34 : decode cX5_forceOf 34 = .ok (.iaload, 1) := dk_46 (dk_at dksX5_forceOf_1 11 rfl rfl)
theorem dX5_forceOf_35 : decode cX5_forceOf 35 = .ok (.bipush 10, 2) := dk_16 10 (dk_at dksX5_forceOf_1 12 rfl rfl)
theorem dX5_forceOf_37 : decode cX5_forceOf 37 = .ok (.irem, 1) := dk_112 (dk_at dksX5_forceOf_1 14 rfl rfl)
theorem dX5_forceOf_38 : decode cX5_forceOf 38 = .ok (.iload_n 1, 1) := dk_27 (dk_at dksX5_forceOf_1 15 rfl rfl)
theorem dX5_forceOf_39 : decode cX5_forceOf 39 = .ok (.bipush 10, 2) := dk_16 10 (dk_at dksX5_forceOf_1 16 rfl rfl)
theorem dX5_forceOf_41 : decode cX5_forceOf 41 = .ok (.irem, 1) := dk_112 (dk_at dksX5_forceOf_1 18 rfl rfl)
theorem dX5_forceOf_42 : decode cX5_forceOf 42 = .ok (.if_icmp .ne 50, 3) := dk_160 0 50 (dk_at dksX5_forceOf_1 19 rfl rfl)
theorem dX5_forceOf_45 : decode cX5_forceOf 45 = .ok (.aload_n 0, 1) := dk_42 (dk_at dksX5_forceOf_1 22 rfl rfl)
theorem dX5_forceOf_46 : decode cX5_forceOf 46 = .ok (.getfield 100, 3) := dk_180 0 100 (dk_at dksX5_forceOf_2 0 rfl rfl)
theorem dX5_forceOf_49 : decode cX5_forceOf 49 = .ok (.iload 5, 2) := dk_21 5 (dk_at dksX5_forceOf_2 3 rfl rfl)
theorem dX5_forceOf_51 : decode cX5_forceOf 51 = .ok (.iaload, 1) := dk_46 (dk_at dksX5_forceOf_2 5 rfl rfl)
theorem dX5_forceOf_52 : decode cX5_forceOf 52 = .ok (.bipush 10, 2) := dk_16 10 (dk_at dksX5_forceOf_2 6 rfl rfl)
theorem dX5_forceOf_54 : decode cX5_forceOf 54 = .ok (.idiv, 1) := dk_108 (dk_at dksX5_forceOf_2 8 rfl rfl)
theorem dX5_forceOf_55 : decode cX5_forceOf 55 = .ok (.iload_n 1, 1) := dk_27 (dk_at dksX5_forceOf_2 9 rfl rfl)
theorem dX5_forceOf_56 : decode cX5_forceOf 56 = .ok (.bipush 10, 2) := dk_16 10 (dk_at dksX5_forceOf_2 10 rfl rfl)
theorem dX5_forceOf_58 : decode cX5_forceOf 58 = .ok (.idiv, 1) := dk_108 (dk_at dksX5_forceOf_2 12 rfl rfl)
theorem dX5_forceOf_59 : decode cX5_forceOf 59 = .ok (.if_icmp .eq 8, 3) := dk_159 0 8 (dk_at dksX5_forceOf_2 13 rfl rfl)
theorem dX5_forceOf_62 : decode cX5_forceOf 62 = .ok (.iload 4, 2) := dk_21 4 (dk_at dksX5_forceOf_2 16 rfl rfl)
theorem dX5_forceOf_64 : decode cX5_forceOf 64 = .ok (.ifCond .eq 28, 3) := dk_153 0 28 (dk_at dksX5_forceOf_2 18 rfl rfl)
theorem dX5_forceOf_67 : decode cX5_forceOf 67 = .ok (.aload_n 0, 1) := dk_42 (dk_at dksX5_forceOf_2 21 rfl rfl)
theorem dX5_forceOf_68 : decode cX5_forceOf 68 = .ok (.getfield 103, 3) := dk_180 0 103 (dk_at dksX5_forceOf_3 0 rfl rfl)
theorem dX5_forceOf_71 : decode cX5_forceOf 71 = .ok (.iload 5, 2) := dk_21 5 (dk_at dksX5_forceOf_3 3 rfl rfl)
theorem dX5_forceOf_73 : decode cX5_forceOf 73 = .ok (.iaload, 1) := dk_46 (dk_at dksX5_forceOf_3 5 rfl rfl)
theorem dX5_forceOf_74 : decode cX5_forceOf 74 = .ok (.iload_n 3, 1) := dk_29 (dk_at dksX5_forceOf_3 6 rfl rfl)
theorem dX5_forceOf_75 : decode cX5_forceOf 75 = .ok (.if_icmp .gt 17, 3) := dk_163 0 17 (dk_at dksX5_forceOf_3 7 rfl rfl)
theorem dX5_forceOf_78 : decode cX5_forceOf 78 = .ok (.aload_n 0, 1) := dk_42 (dk_at dksX5_forceOf_3 10 rfl rfl)
theorem dX5_forceOf_79 : decode cX5_forceOf 79 = .ok (.getfield 106, 3) := dk_180 0 106 (dk_at dksX5_forceOf_3 11 rfl rfl)
theorem dX5_forceOf_82 : decode cX5_forceOf 82 = .ok (.iload 5, 2) := dk_21 5 (dk_at dksX5_forceOf_3 14 rfl rfl)
theorem dX5_forceOf_84 : decode cX5_forceOf 84 = .ok (.iaload, 1) := dk_46 (dk_at dksX5_forceOf_3 16 rfl rfl)
theorem dX5_forceOf_85 : decode cX5_forceOf 85 = .ok (.iload_n 2, 1) := dk_28 (dk_at dksX5_forceOf_3 17 rfl rfl)
theorem dX5_forceOf_86 : decode cX5_forceOf 86 = .ok (.if_icmp .gt 6, 3) := dk_163 0 6 (dk_at dksX5_forceOf_3 18 rfl rfl)
theorem dX5_forceOf_89 : decode cX5_forceOf 89 = .ok (.iload 5, 2) := dk_21 5 (dk_at dksX5_forceOf_3 21 rfl rfl)
theorem dX5_forceOf_91 : decode cX5_forceOf 91 = .ok (.ireturn, 1) := dk_172 (dk_at dksX5_forceOf_3 23 rfl rfl)
theorem dX5_forceOf_92 : decode cX5_forceOf 92 = .ok (.iinc 5 (-1), 3) := dk_132 5 255 (dk_at dksX5_forceOf_4 0 rfl rfl)
theorem dX5_forceOf_95 : decode cX5_forceOf 95 = .ok (.goto (-72), 3) := dk_167 255 184 (dk_at dksX5_forceOf_4 3 rfl rfl)
theorem dX5_forceOf_98 : decode cX5_forceOf 98 = .ok (.bipush (-2), 2) := dk_16 254 (dk_at dksX5_forceOf_4 6 rfl rfl)
theorem dX5_forceOf_100 : decode cX5_forceOf 100 = .ok (.ireturn, 1) := dk_172 (dk_at dksX5_forceOf_4 8 rfl rfl)
abbrev cX5_firstThrough : ByteArray := prog_22_method_30_code
def yX5_firstThrough : MethodName := ⟨RX5, "firstThrough", "()I"⟩
def dkwX5_firstThrough_2 : List UInt8 := [167, 255, 215, 27, 172]
abbrev dktX5_firstThrough_2 : List UInt8 := dkwX5_firstThrough_2 ++ []
def dkwX5_firstThrough_1 : List UInt8 := [180, 0, 38, 28, 46, 4, 100, 27, 162, 0, 12, 42, 180, 0, 38, 28, 46, 4, 100, 60, 132, 2, 1]
abbrev dktX5_firstThrough_1 : List UInt8 := dkwX5_firstThrough_1 ++ dktX5_firstThrough_2
def dkwX5_firstThrough_0 : List UInt8 := [17, 6, 164, 60, 3, 61, 28, 42, 180, 0, 242, 162, 0, 39, 42, 180, 0, 38, 28, 46, 158, 0, 24, 42]
abbrev dktX5_firstThrough_0 : List UInt8 := dkwX5_firstThrough_0 ++ dktX5_firstThrough_1
theorem dksX5_firstThrough_0 : cX5_firstThrough.data.toList.drop 0 = dktX5_firstThrough_0 := by decide +kernel
theorem dksX5_firstThrough_1 : cX5_firstThrough.data.toList.drop 24 = dktX5_firstThrough_1 := dk_seg dksX5_firstThrough_0 24 rfl rfl
theorem dksX5_firstThrough_2 : cX5_firstThrough.data.toList.drop 47 = dktX5_firstThrough_2 := dk_seg dksX5_firstThrough_1 23 rfl rfl
theorem dX5_firstThrough_0 : decode cX5_firstThrough 0 = .ok (.sipush 1700, 3) := dk_17 6 164 (dk_at dksX5_firstThrough_0 0 rfl rfl)
theorem dX5_firstThrough_3 : decode cX5_firstThrough 3 = .ok (.istore_n 1, 1) := dk_60 (dk_at dksX5_firstThrough_0 3 rfl rfl)
theorem dX5_firstThrough_4 : decode cX5_firstThrough 4 = .ok (.iconst 0, 1) := dk_3 (dk_at dksX5_firstThrough_0 4 rfl rfl)
theorem dX5_firstThrough_5 : decode cX5_firstThrough 5 = .ok (.istore_n 2, 1) := dk_61 (dk_at dksX5_firstThrough_0 5 rfl rfl)
theorem dX5_firstThrough_6 : decode cX5_firstThrough 6 = .ok (.iload_n 2, 1) := dk_28 (dk_at dksX5_firstThrough_0 6 rfl rfl)
theorem dX5_firstThrough_7 : decode cX5_firstThrough 7 = .ok (.aload_n 0, 1) := dk_42 (dk_at dksX5_firstThrough_0 7 rfl rfl)
theorem dX5_firstThrough_8 : decode cX5_firstThrough 8 = .ok (.getfield 242, 3) := dk_180 0 242 (dk_at dksX5_firstThrough_0 8 rfl rfl)
theorem dX5_firstThrough_11 : decode cX5_firstThrough 11 = .ok (.if_icmp .ge 39, 3) := dk_162 0 39 (dk_at dksX5_firstThrough_0 11 rfl rfl)
theorem dX5_firstThrough_14 : decode cX5_firstThrough 14 = .ok (.aload_n 0, 1) := dk_42 (dk_at dksX5_firstThrough_0 14 rfl rfl)
theorem dX5_firstThrough_15 : decode cX5_firstThrough 15 = .ok (.getfield 38, 3) := dk_180 0 38 (dk_at dksX5_firstThrough_0 15 rfl rfl)
theorem dX5_firstThrough_18 : decode cX5_firstThrough 18 = .ok (.iload_n 2, 1) := dk_28 (dk_at dksX5_firstThrough_0 18 rfl rfl)
theorem dX5_firstThrough_19 : decode cX5_firstThrough 19 = .ok (.iaload, 1) := dk_46 (dk_at dksX5_firstThrough_0 19 rfl rfl)
theorem dX5_firstThrough_20 : decode cX5_firstThrough 20 = .ok (.ifCond .le 24, 3) := dk_158 0 24 (dk_at dksX5_firstThrough_0 20 rfl rfl)
theorem dX5_firstThrough_23 : decode cX5_firstThrough 23 = .ok (.aload_n 0, 1) := dk_42 (dk_at dksX5_firstThrough_0 23 rfl rfl)
theorem dX5_firstThrough_24 : decode cX5_firstThrough 24 = .ok (.getfield 38, 3) := dk_180 0 38 (dk_at dksX5_firstThrough_1 0 rfl rfl)
theorem dX5_firstThrough_27 : decode cX5_firstThrough 27 = .ok (.iload_n 2, 1) := dk_28 (dk_at dksX5_firstThrough_1 3 rfl rfl)
theorem dX5_firstThrough_28 : decode cX5_firstThrough 28 = .ok (.iaload, 1) := dk_46 (dk_at dksX5_firstThrough_1 4 rfl rfl)
theorem dX5_firstThrough_29 : decode cX5_firstThrough 29 = .ok (.iconst 1, 1) := dk_4 (dk_at dksX5_firstThrough_1 5 rfl rfl)
theorem dX5_firstThrough_30 : decode cX5_firstThrough 30 = .ok (.isub, 1) := dk_100 (dk_at dksX5_firstThrough_1 6 rfl rfl)
theorem dX5_firstThrough_31 : decode cX5_firstThrough 31 = .ok (.iload_n 1, 1) := dk_27 (dk_at dksX5_firstThrough_1 7 rfl rfl)
theorem dX5_firstThrough_32 : decode cX5_firstThrough 32 = .ok (.if_icmp .ge 12, 3) := dk_162 0 12 (dk_at dksX5_firstThrough_1 8 rfl rfl)
theorem dX5_firstThrough_35 : decode cX5_firstThrough 35 = .ok (.aload_n 0, 1) := dk_42 (dk_at dksX5_firstThrough_1 11 rfl rfl)
theorem dX5_firstThrough_36 : decode cX5_firstThrough 36 = .ok (.getfield 38, 3) := dk_180 0 38 (dk_at dksX5_firstThrough_1 12 rfl rfl)
theorem dX5_firstThrough_39 : decode cX5_firstThrough 39 = .ok (.iload_n 2, 1) := dk_28 (dk_at dksX5_firstThrough_1 15 rfl rfl)
theorem dX5_firstThrough_40 : decode cX5_firstThrough 40 = .ok (.iaload, 1) := dk_46 (dk_at dksX5_firstThrough_1 16 rfl rfl)
theorem dX5_firstThrough_41 : decode cX5_firstThrough 41 = .ok (.iconst 1, 1) := dk_4 (dk_at dksX5_firstThrough_1 17 rfl rfl)
theorem dX5_firstThrough_42 : decode cX5_firstThrough 42 = .ok (.isub, 1) := dk_100 (dk_at dksX5_firstThrough_1 18 rfl rfl)
theorem dX5_firstThrough_43 : decode cX5_firstThrough 43 = .ok (.istore_n 1, 1) := dk_60 (dk_at dksX5_firstThrough_1 19 rfl rfl)
theorem dX5_firstThrough_44 : decode cX5_firstThrough 44 = .ok (.iinc 2 1, 3) := dk_132 2 1 (dk_at dksX5_firstThrough_1 20 rfl rfl)
theorem dX5_firstThrough_47 : decode cX5_firstThrough 47 = .ok (.goto (-41), 3) := dk_167 255 215 (dk_at dksX5_firstThrough_2 0 rfl rfl)
theorem dX5_firstThrough_50 : decode cX5_firstThrough 50 = .ok (.iload_n 1, 1) := dk_27 (dk_at dksX5_firstThrough_2 3 rfl rfl)
theorem dX5_firstThrough_51 : decode cX5_firstThrough 51 = .ok (.ireturn, 1) := dk_172 (dk_at dksX5_firstThrough_2 4 rfl rfl)
abbrev cX5_says : ByteArray := prog_22_method_66_code
def yX5_says : MethodName := ⟨RX5, "says", "(II)I"⟩
def dkwX5_says_2 : List UInt8 := [167, 0, 4, 3, 182, 1, 147, 172]
abbrev dktX5_says_2 : List UInt8 := dkwX5_says_2 ++ []
def dkwX5_says_1 : List UInt8 := [28, 182, 1, 19, 154, 0, 7, 19, 1, 11, 172, 42, 27, 28, 27, 16, 10, 112, 154, 0, 7, 4]
abbrev dktX5_says_1 : List UInt8 := dkwX5_says_1 ++ dktX5_says_2
def dkwX5_says_0 : List UInt8 := [27, 184, 1, 114, 153, 0, 27, 27, 16, 10, 112, 5, 160, 0, 11, 28, 2, 159, 0, 18, 167, 0, 11, 42]
abbrev dktX5_says_0 : List UInt8 := dkwX5_says_0 ++ dktX5_says_1
theorem dksX5_says_0 : cX5_says.data.toList.drop 0 = dktX5_says_0 := by decide +kernel
theorem dksX5_says_1 : cX5_says.data.toList.drop 24 = dktX5_says_1 := dk_seg dksX5_says_0 24 rfl rfl
theorem dksX5_says_2 : cX5_says.data.toList.drop 46 = dktX5_says_2 := dk_seg dksX5_says_1 22 rfl rfl
theorem dX5_says_0 : decode cX5_says 0 = .ok (.iload_n 1, 1) := dk_27 (dk_at dksX5_says_0 0 rfl rfl)
theorem dX5_says_1 : decode cX5_says 1 = .ok (.invokestatic 370, 3) := dk_184 1 114 (dk_at dksX5_says_0 1 rfl rfl)
theorem dX5_says_4 : decode cX5_says 4 = .ok (.ifCond .eq 27, 3) := dk_153 0 27 (dk_at dksX5_says_0 4 rfl rfl)
theorem dX5_says_7 : decode cX5_says 7 = .ok (.iload_n 1, 1) := dk_27 (dk_at dksX5_says_0 7 rfl rfl)
theorem dX5_says_8 : decode cX5_says 8 = .ok (.bipush 10, 2) := dk_16 10 (dk_at dksX5_says_0 8 rfl rfl)
theorem dX5_says_10 : decode cX5_says 10 = .ok (.irem, 1) := dk_112 (dk_at dksX5_says_0 10 rfl rfl)
theorem dX5_says_11 : decode cX5_says 11 = .ok (.iconst 2, 1) := dk_5 (dk_at dksX5_says_0 11 rfl rfl)
theorem dX5_says_12 : decode cX5_says 12 = .ok (.if_icmp .ne 11, 3) := dk_160 0 11 (dk_at dksX5_says_0 12 rfl rfl)
theorem dX5_says_15 : decode cX5_says 15 = .ok (.iload_n 2, 1) := dk_28 (dk_at dksX5_says_0 15 rfl rfl)
theorem dX5_says_16 : decode cX5_says 16 = .ok (.iconst (-1), 1) := dk_2 (dk_at dksX5_says_0 16 rfl rfl)
theorem dX5_says_17 : decode cX5_says 17 = .ok (.if_icmp .eq 18, 3) := dk_159 0 18 (dk_at dksX5_says_0 17 rfl rfl)
theorem dX5_says_20 : decode cX5_says 20 = .ok (.goto 11, 3) := dk_167 0 11 (dk_at dksX5_says_0 20 rfl rfl)
theorem dX5_says_23 : decode cX5_says 23 = .ok (.aload_n 0, 1) := dk_42 (dk_at dksX5_says_0 23 rfl rfl)
theorem dX5_says_24 : decode cX5_says 24 = .ok (.iload_n 2, 1) := dk_28 (dk_at dksX5_says_1 0 rfl rfl)
theorem dX5_says_25 : decode cX5_says 25 = .ok (.invokevirtual 275, 3) := dk_182 1 19 (dk_at dksX5_says_1 1 rfl rfl)
theorem dX5_says_28 : decode cX5_says 28 = .ok (.ifCond .ne 7, 3) := dk_154 0 7 (dk_at dksX5_says_1 4 rfl rfl)
theorem dX5_says_31 : decode cX5_says 31 = .ok (.ldc_w 267, 3) := dk_19 1 11 (dk_at dksX5_says_1 7 rfl rfl)
theorem dX5_says_34 : decode cX5_says 34 = .ok (.ireturn, 1) := dk_172 (dk_at dksX5_says_1 10 rfl rfl)
theorem dX5_says_35 : decode cX5_says 35 = .ok (.aload_n 0, 1) := dk_42 (dk_at dksX5_says_1 11 rfl rfl)
theorem dX5_says_36 : decode cX5_says 36 = .ok (.iload_n 1, 1) := dk_27 (dk_at dksX5_says_1 12 rfl rfl)
theorem dX5_says_37 : decode cX5_says 37 = .ok (.iload_n 2, 1) := dk_28 (dk_at dksX5_says_1 13 rfl rfl)
theorem dX5_says_38 : decode cX5_says 38 = .ok (.iload_n 1, 1) := dk_27 (dk_at dksX5_says_1 14 rfl rfl)
theorem dX5_says_39 : decode cX5_says 39 = .ok (.bipush 10, 2) := dk_16 10 (dk_at dksX5_says_1 15 rfl rfl)
theorem dX5_says_41 : decode cX5_says 41 = .ok (.irem, 1) := dk_112 (dk_at dksX5_says_1 17 rfl rfl)
theorem dX5_says_42 : decode cX5_says 42 = .ok (.ifCond .ne 7, 3) := dk_154 0 7 (dk_at dksX5_says_1 18 rfl rfl)
theorem dX5_says_45 : decode cX5_says 45 = .ok (.iconst 1, 1) := dk_4 (dk_at dksX5_says_1 21 rfl rfl)
theorem dX5_says_46 : decode cX5_says 46 = .ok (.goto 4, 3) := dk_167 0 4 (dk_at dksX5_says_2 0 rfl rfl)
theorem dX5_says_49 : decode cX5_says 49 = .ok (.iconst 0, 1) := dk_3 (dk_at dksX5_says_2 3 rfl rfl)
theorem dX5_says_50 : decode cX5_says 50 = .ok (.invokevirtual 403, 3) := dk_182 1 147 (dk_at dksX5_says_2 4 rfl rfl)
theorem dX5_says_53 : decode cX5_says 53 = .ok (.ireturn, 1) := dk_172 (dk_at dksX5_says_2 7 rfl rfl)
abbrev cX5_saysNow : ByteArray := prog_22_method_65_code
def yX5_saysNow : MethodName := ⟨RX5, "saysNow", "(III)I"⟩
def dkwX5_saysNow_7 : List UInt8 := [180, 1, 141, 79, 42, 180, 0, 124, 16, 7, 21, 5, 79, 42, 21, 4, 182, 1, 144, 172]
abbrev dktX5_saysNow_7 : List UInt8 := dkwX5_saysNow_7 ++ []
def dkwX5_saysNow_6 : List UInt8 := [180, 0, 59, 28, 46, 79, 42, 180, 0, 124, 8, 42, 182, 1, 138, 79, 42, 180, 0, 124, 16, 6, 42]
abbrev dktX5_saysNow_6 : List UInt8 := dkwX5_saysNow_6 ++ dktX5_saysNow_7
def dkwX5_saysNow_5 : List UInt8 := [167, 0, 9, 42, 180, 0, 56, 28, 46, 79, 42, 180, 0, 124, 7, 28, 156, 0, 7, 3, 167, 0, 9, 42]
abbrev dktX5_saysNow_5 : List UInt8 := dkwX5_saysNow_5 ++ dktX5_saysNow_6
def dkwX5_saysNow_4 : List UInt8 := [156, 0, 7, 3, 167, 0, 9, 42, 180, 0, 53, 28, 46, 79, 42, 180, 0, 124, 6, 28, 156, 0, 7, 3]
abbrev dktX5_saysNow_4 : List UInt8 := dkwX5_saysNow_4 ++ dktX5_saysNow_5
def dkwX5_saysNow_3 : List UInt8 := [180, 1, 25, 79, 42, 180, 0, 124, 4, 42, 180, 1, 25, 16, 24, 108, 79, 42, 180, 0, 124, 5, 28]
abbrev dktX5_saysNow_3 : List UInt8 := dkwX5_saysNow_3 ++ dktX5_saysNow_4
def dkwX5_saysNow_2 : List UInt8 := [158, 0, 7, 4, 167, 0, 4, 3, 96, 54, 5, 132, 6, 1, 167, 255, 224, 42, 180, 0, 124, 3, 42]
abbrev dktX5_saysNow_2 : List UInt8 := dkwX5_saysNow_2 ++ dktX5_saysNow_3
def dkwX5_saysNow_1 : List UInt8 := [54, 5, 3, 54, 6, 21, 6, 42, 180, 0, 242, 162, 0, 29, 21, 5, 42, 180, 0, 38, 21, 6, 46]
abbrev dktX5_saysNow_1 : List UInt8 := dkwX5_saysNow_1 ++ dktX5_saysNow_2
def dkwX5_saysNow_0 : List UInt8 := [42, 27, 42, 180, 1, 25, 42, 180, 1, 25, 182, 1, 129, 54, 4, 21, 4, 156, 0, 5, 29, 172, 3]
abbrev dktX5_saysNow_0 : List UInt8 := dkwX5_saysNow_0 ++ dktX5_saysNow_1
theorem dksX5_saysNow_0 : cX5_saysNow.data.toList.drop 0 = dktX5_saysNow_0 := by decide +kernel
theorem dksX5_saysNow_1 : cX5_saysNow.data.toList.drop 23 = dktX5_saysNow_1 := dk_seg dksX5_saysNow_0 23 rfl rfl
theorem dksX5_saysNow_2 : cX5_saysNow.data.toList.drop 46 = dktX5_saysNow_2 := dk_seg dksX5_saysNow_1 23 rfl rfl
theorem dksX5_saysNow_3 : cX5_saysNow.data.toList.drop 69 = dktX5_saysNow_3 := dk_seg dksX5_saysNow_2 23 rfl rfl
theorem dksX5_saysNow_4 : cX5_saysNow.data.toList.drop 92 = dktX5_saysNow_4 := dk_seg dksX5_saysNow_3 23 rfl rfl
theorem dksX5_saysNow_5 : cX5_saysNow.data.toList.drop 116 = dktX5_saysNow_5 := dk_seg dksX5_saysNow_4 24 rfl rfl
theorem dksX5_saysNow_6 : cX5_saysNow.data.toList.drop 140 = dktX5_saysNow_6 := dk_seg dksX5_saysNow_5 24 rfl rfl
theorem dksX5_saysNow_7 : cX5_saysNow.data.toList.drop 163 = dktX5_saysNow_7 := dk_seg dksX5_saysNow_6 23 rfl rfl
theorem dX5_saysNow_0 : decode cX5_saysNow 0 = .ok (.aload_n 0, 1) := dk_42 (dk_at dksX5_saysNow_0 0 rfl rfl)
theorem dX5_saysNow_1 : decode cX5_saysNow 1 = .ok (.iload_n 1, 1) := dk_27 (dk_at dksX5_saysNow_0 1 rfl rfl)
theorem dX5_saysNow_2 : decode cX5_saysNow 2 = .ok (.aload_n 0, 1) := dk_42 (dk_at dksX5_saysNow_0 2 rfl rfl)
theorem dX5_saysNow_3 : decode cX5_saysNow 3 = .ok (.getfield 281, 3) := dk_180 1 25 (dk_at dksX5_saysNow_0 3 rfl rfl)
theorem dX5_saysNow_6 : decode cX5_saysNow 6 = .ok (.aload_n 0, 1) := dk_42 (dk_at dksX5_saysNow_0 6 rfl rfl)
theorem dX5_saysNow_7 : decode cX5_saysNow 7 = .ok (.getfield 281, 3) := dk_180 1 25 (dk_at dksX5_saysNow_0 7 rfl rfl)
theorem dX5_saysNow_10 : decode cX5_saysNow 10 = .ok (.invokevirtual 385, 3) := dk_182 1 129 (dk_at dksX5_saysNow_0 10 rfl rfl)
theorem dX5_saysNow_13 : decode cX5_saysNow 13 = .ok (.istore 4, 2) := dk_54 4 (dk_at dksX5_saysNow_0 13 rfl rfl)
theorem dX5_saysNow_15 : decode cX5_saysNow 15 = .ok (.iload 4, 2) := dk_21 4 (dk_at dksX5_saysNow_0 15 rfl rfl)
theorem dX5_saysNow_17 : decode cX5_saysNow 17 = .ok (.ifCond .ge 5, 3) := dk_156 0 5 (dk_at dksX5_saysNow_0 17 rfl rfl)
theorem dX5_saysNow_20 : decode cX5_saysNow 20 = .ok (.iload_n 3, 1) := dk_29 (dk_at dksX5_saysNow_0 20 rfl rfl)
theorem dX5_saysNow_21 : decode cX5_saysNow 21 = .ok (.ireturn, 1) := dk_172 (dk_at dksX5_saysNow_0 21 rfl rfl)
theorem dX5_saysNow_22 : decode cX5_saysNow 22 = .ok (.iconst 0, 1) := dk_3 (dk_at dksX5_saysNow_0 22 rfl rfl)
theorem dX5_saysNow_23 : decode cX5_saysNow 23 = .ok (.istore 5, 2) := dk_54 5 (dk_at dksX5_saysNow_1 0 rfl rfl)
theorem dX5_saysNow_25 : decode cX5_saysNow 25 = .ok (.iconst 0, 1) := dk_3 (dk_at dksX5_saysNow_1 2 rfl rfl)
theorem dX5_saysNow_26 : decode cX5_saysNow 26 = .ok (.istore 6, 2) := dk_54 6 (dk_at dksX5_saysNow_1 3 rfl rfl)
theorem dX5_saysNow_28 : decode cX5_saysNow 28 = .ok (.iload 6, 2) := dk_21 6 (dk_at dksX5_saysNow_1 5 rfl rfl)
theorem dX5_saysNow_30 : decode cX5_saysNow 30 = .ok (.aload_n 0, 1) := dk_42 (dk_at dksX5_saysNow_1 7 rfl rfl)
theorem dX5_saysNow_31 : decode cX5_saysNow 31 = .ok (.getfield 242, 3) := dk_180 0 242 (dk_at dksX5_saysNow_1 8 rfl rfl)
theorem dX5_saysNow_34 : decode cX5_saysNow 34 = .ok (.if_icmp .ge 29, 3) := dk_162 0 29 (dk_at dksX5_saysNow_1 11 rfl rfl)
theorem dX5_saysNow_37 : decode cX5_saysNow 37 = .ok (.iload 5, 2) := dk_21 5 (dk_at dksX5_saysNow_1 14 rfl rfl)
theorem dX5_saysNow_39 : decode cX5_saysNow 39 = .ok (.aload_n 0, 1) := dk_42 (dk_at dksX5_saysNow_1 16 rfl rfl)
theorem dX5_saysNow_40 : decode cX5_saysNow 40 = .ok (.getfield 38, 3) := dk_180 0 38 (dk_at dksX5_saysNow_1 17 rfl rfl)
theorem dX5_saysNow_43 : decode cX5_saysNow 43 = .ok (.iload 6, 2) := dk_21 6 (dk_at dksX5_saysNow_1 20 rfl rfl)
theorem dX5_saysNow_45 : decode cX5_saysNow 45 = .ok (.iaload, 1) := dk_46 (dk_at dksX5_saysNow_1 22 rfl rfl)
theorem dX5_saysNow_46 : decode cX5_saysNow 46 = .ok (.ifCond .le 7, 3) := dk_158 0 7 (dk_at dksX5_saysNow_2 0 rfl rfl)
theorem dX5_saysNow_49 : decode cX5_saysNow 49 = .ok (.iconst 1, 1) := dk_4 (dk_at dksX5_saysNow_2 3 rfl rfl)
theorem dX5_saysNow_50 : decode cX5_saysNow 50 = .ok (.goto 4, 3) := dk_167 0 4 (dk_at dksX5_saysNow_2 4 rfl rfl)
theorem dX5_saysNow_53 : decode cX5_saysNow 53 = .ok (.iconst 0, 1) := dk_3 (dk_at dksX5_saysNow_2 7 rfl rfl)
theorem dX5_saysNow_54 : decode cX5_saysNow 54 = .ok (.iadd, 1) := dk_96 (dk_at dksX5_saysNow_2 8 rfl rfl)
theorem dX5_saysNow_55 : decode cX5_saysNow 55 = .ok (.istore 5, 2) := dk_54 5 (dk_at dksX5_saysNow_2 9 rfl rfl)
theorem dX5_saysNow_57 : decode cX5_saysNow 57 = .ok (.iinc 6 1, 3) := dk_132 6 1 (dk_at dksX5_saysNow_2 11 rfl rfl)
theorem dX5_saysNow_60 : decode cX5_saysNow 60 = .ok (.goto (-32), 3) := dk_167 255 224 (dk_at dksX5_saysNow_2 14 rfl rfl)
theorem dX5_saysNow_63 : decode cX5_saysNow 63 = .ok (.aload_n 0, 1) := dk_42 (dk_at dksX5_saysNow_2 17 rfl rfl)
theorem dX5_saysNow_64 : decode cX5_saysNow 64 = .ok (.getfield 124, 3) := dk_180 0 124 (dk_at dksX5_saysNow_2 18 rfl rfl)
theorem dX5_saysNow_67 : decode cX5_saysNow 67 = .ok (.iconst 0, 1) := dk_3 (dk_at dksX5_saysNow_2 21 rfl rfl)
theorem dX5_saysNow_68 : decode cX5_saysNow 68 = .ok (.aload_n 0, 1) := dk_42 (dk_at dksX5_saysNow_2 22 rfl rfl)
theorem dX5_saysNow_69 : decode cX5_saysNow 69 = .ok (.getfield 281, 3) := dk_180 1 25 (dk_at dksX5_saysNow_3 0 rfl rfl)
theorem dX5_saysNow_72 : decode cX5_saysNow 72 = .ok (.iastore, 1) := dk_79 (dk_at dksX5_saysNow_3 3 rfl rfl)
theorem dX5_saysNow_73 : decode cX5_saysNow 73 = .ok (.aload_n 0, 1) := dk_42 (dk_at dksX5_saysNow_3 4 rfl rfl)
theorem dX5_saysNow_74 : decode cX5_saysNow 74 = .ok (.getfield 124, 3) := dk_180 0 124 (dk_at dksX5_saysNow_3 5 rfl rfl)
theorem dX5_saysNow_77 : decode cX5_saysNow 77 = .ok (.iconst 1, 1) := dk_4 (dk_at dksX5_saysNow_3 8 rfl rfl)
theorem dX5_saysNow_78 : decode cX5_saysNow 78 = .ok (.aload_n 0, 1) := dk_42 (dk_at dksX5_saysNow_3 9 rfl rfl)
theorem dX5_saysNow_79 : decode cX5_saysNow 79 = .ok (.getfield 281, 3) := dk_180 1 25 (dk_at dksX5_saysNow_3 10 rfl rfl)
theorem dX5_saysNow_82 : decode cX5_saysNow 82 = .ok (.bipush 24, 2) := dk_16 24 (dk_at dksX5_saysNow_3 13 rfl rfl)
theorem dX5_saysNow_84 : decode cX5_saysNow 84 = .ok (.idiv, 1) := dk_108 (dk_at dksX5_saysNow_3 15 rfl rfl)
theorem dX5_saysNow_85 : decode cX5_saysNow 85 = .ok (.iastore, 1) := dk_79 (dk_at dksX5_saysNow_3 16 rfl rfl)
theorem dX5_saysNow_86 : decode cX5_saysNow 86 = .ok (.aload_n 0, 1) := dk_42 (dk_at dksX5_saysNow_3 17 rfl rfl)
theorem dX5_saysNow_87 : decode cX5_saysNow 87 = .ok (.getfield 124, 3) := dk_180 0 124 (dk_at dksX5_saysNow_3 18 rfl rfl)
theorem dX5_saysNow_90 : decode cX5_saysNow 90 = .ok (.iconst 2, 1) := dk_5 (dk_at dksX5_saysNow_3 21 rfl rfl)
theorem dX5_saysNow_91 : decode cX5_saysNow 91 = .ok (.iload_n 2, 1) := dk_28 (dk_at dksX5_saysNow_3 22 rfl rfl)
theorem dX5_saysNow_92 : decode cX5_saysNow 92 = .ok (.ifCond .ge 7, 3) := dk_156 0 7 (dk_at dksX5_saysNow_4 0 rfl rfl)
theorem dX5_saysNow_95 : decode cX5_saysNow 95 = .ok (.iconst 0, 1) := dk_3 (dk_at dksX5_saysNow_4 3 rfl rfl)
theorem dX5_saysNow_96 : decode cX5_saysNow 96 = .ok (.goto 9, 3) := dk_167 0 9 (dk_at dksX5_saysNow_4 4 rfl rfl)
theorem dX5_saysNow_99 : decode cX5_saysNow 99 = .ok (.aload_n 0, 1) := dk_42 (dk_at dksX5_saysNow_4 7 rfl rfl)
theorem dX5_saysNow_100 : decode cX5_saysNow 100 = .ok (.getfield 53, 3) := dk_180 0 53 (dk_at dksX5_saysNow_4 8 rfl rfl)
theorem dX5_saysNow_103 : decode cX5_saysNow 103 = .ok (.iload_n 2, 1) := dk_28 (dk_at dksX5_saysNow_4 11 rfl rfl)
theorem dX5_saysNow_104 : decode cX5_saysNow 104 = .ok (.iaload, 1) := dk_46 (dk_at dksX5_saysNow_4 12 rfl rfl)
theorem dX5_saysNow_105 : decode cX5_saysNow 105 = .ok (.iastore, 1) := dk_79 (dk_at dksX5_saysNow_4 13 rfl rfl)
theorem dX5_saysNow_106 : decode cX5_saysNow 106 = .ok (.aload_n 0, 1) := dk_42 (dk_at dksX5_saysNow_4 14 rfl rfl)
theorem dX5_saysNow_107 : decode cX5_saysNow 107 = .ok (.getfield 124, 3) := dk_180 0 124 (dk_at dksX5_saysNow_4 15 rfl rfl)
theorem dX5_saysNow_110 : decode cX5_saysNow 110 = .ok (.iconst 3, 1) := dk_6 (dk_at dksX5_saysNow_4 18 rfl rfl)
theorem dX5_saysNow_111 : decode cX5_saysNow 111 = .ok (.iload_n 2, 1) := dk_28 (dk_at dksX5_saysNow_4 19 rfl rfl)
theorem dX5_saysNow_112 : decode cX5_saysNow 112 = .ok (.ifCond .ge 7, 3) := dk_156 0 7 (dk_at dksX5_saysNow_4 20 rfl rfl)
theorem dX5_saysNow_115 : decode cX5_saysNow 115 = .ok (.iconst 0, 1) := dk_3 (dk_at dksX5_saysNow_4 23 rfl rfl)
theorem dX5_saysNow_116 : decode cX5_saysNow 116 = .ok (.goto 9, 3) := dk_167 0 9 (dk_at dksX5_saysNow_5 0 rfl rfl)
theorem dX5_saysNow_119 : decode cX5_saysNow 119 = .ok (.aload_n 0, 1) := dk_42 (dk_at dksX5_saysNow_5 3 rfl rfl)
theorem dX5_saysNow_120 : decode cX5_saysNow 120 = .ok (.getfield 56, 3) := dk_180 0 56 (dk_at dksX5_saysNow_5 4 rfl rfl)
theorem dX5_saysNow_123 : decode cX5_saysNow 123 = .ok (.iload_n 2, 1) := dk_28 (dk_at dksX5_saysNow_5 7 rfl rfl)
theorem dX5_saysNow_124 : decode cX5_saysNow 124 = .ok (.iaload, 1) := dk_46 (dk_at dksX5_saysNow_5 8 rfl rfl)
theorem dX5_saysNow_125 : decode cX5_saysNow 125 = .ok (.iastore, 1) := dk_79 (dk_at dksX5_saysNow_5 9 rfl rfl)
theorem dX5_saysNow_126 : decode cX5_saysNow 126 = .ok (.aload_n 0, 1) := dk_42 (dk_at dksX5_saysNow_5 10 rfl rfl)
theorem dX5_saysNow_127 : decode cX5_saysNow 127 = .ok (.getfield 124, 3) := dk_180 0 124 (dk_at dksX5_saysNow_5 11 rfl rfl)
theorem dX5_saysNow_130 : decode cX5_saysNow 130 = .ok (.iconst 4, 1) := dk_7 (dk_at dksX5_saysNow_5 14 rfl rfl)
theorem dX5_saysNow_131 : decode cX5_saysNow 131 = .ok (.iload_n 2, 1) := dk_28 (dk_at dksX5_saysNow_5 15 rfl rfl)
theorem dX5_saysNow_132 : decode cX5_saysNow 132 = .ok (.ifCond .ge 7, 3) := dk_156 0 7 (dk_at dksX5_saysNow_5 16 rfl rfl)
theorem dX5_saysNow_135 : decode cX5_saysNow 135 = .ok (.iconst 0, 1) := dk_3 (dk_at dksX5_saysNow_5 19 rfl rfl)
theorem dX5_saysNow_136 : decode cX5_saysNow 136 = .ok (.goto 9, 3) := dk_167 0 9 (dk_at dksX5_saysNow_5 20 rfl rfl)
theorem dX5_saysNow_139 : decode cX5_saysNow 139 = .ok (.aload_n 0, 1) := dk_42 (dk_at dksX5_saysNow_5 23 rfl rfl)
theorem dX5_saysNow_140 : decode cX5_saysNow 140 = .ok (.getfield 59, 3) := dk_180 0 59 (dk_at dksX5_saysNow_6 0 rfl rfl)
theorem dX5_saysNow_143 : decode cX5_saysNow 143 = .ok (.iload_n 2, 1) := dk_28 (dk_at dksX5_saysNow_6 3 rfl rfl)
theorem dX5_saysNow_144 : decode cX5_saysNow 144 = .ok (.iaload, 1) := dk_46 (dk_at dksX5_saysNow_6 4 rfl rfl)
theorem dX5_saysNow_145 : decode cX5_saysNow 145 = .ok (.iastore, 1) := dk_79 (dk_at dksX5_saysNow_6 5 rfl rfl)
theorem dX5_saysNow_146 : decode cX5_saysNow 146 = .ok (.aload_n 0, 1) := dk_42 (dk_at dksX5_saysNow_6 6 rfl rfl)
theorem dX5_saysNow_147 : decode cX5_saysNow 147 = .ok (.getfield 124, 3) := dk_180 0 124 (dk_at dksX5_saysNow_6 7 rfl rfl)
theorem dX5_saysNow_150 : decode cX5_saysNow 150 = .ok (.iconst 5, 1) := dk_8 (dk_at dksX5_saysNow_6 10 rfl rfl)
theorem dX5_saysNow_151 : decode cX5_saysNow 151 = .ok (.aload_n 0, 1) := dk_42 (dk_at dksX5_saysNow_6 11 rfl rfl)
theorem dX5_saysNow_152 : decode cX5_saysNow 152 = .ok (.invokevirtual 394, 3) := dk_182 1 138 (dk_at dksX5_saysNow_6 12 rfl rfl)
theorem dX5_saysNow_155 : decode cX5_saysNow 155 = .ok (.iastore, 1) := dk_79 (dk_at dksX5_saysNow_6 15 rfl rfl)
theorem dX5_saysNow_156 : decode cX5_saysNow 156 = .ok (.aload_n 0, 1) := dk_42 (dk_at dksX5_saysNow_6 16 rfl rfl)
theorem dX5_saysNow_157 : decode cX5_saysNow 157 = .ok (.getfield 124, 3) := dk_180 0 124 (dk_at dksX5_saysNow_6 17 rfl rfl)
theorem dX5_saysNow_160 : decode cX5_saysNow 160 = .ok (.bipush 6, 2) := dk_16 6 (dk_at dksX5_saysNow_6 20 rfl rfl)
theorem dX5_saysNow_162 : decode cX5_saysNow 162 = .ok (.aload_n 0, 1) := dk_42 (dk_at dksX5_saysNow_6 22 rfl rfl)
theorem dX5_saysNow_163 : decode cX5_saysNow 163 = .ok (.getfield 397, 3) := dk_180 1 141 (dk_at dksX5_saysNow_7 0 rfl rfl)
theorem dX5_saysNow_166 : decode cX5_saysNow 166 = .ok (.iastore, 1) := dk_79 (dk_at dksX5_saysNow_7 3 rfl rfl)
theorem dX5_saysNow_167 : decode cX5_saysNow 167 = .ok (.aload_n 0, 1) := dk_42 (dk_at dksX5_saysNow_7 4 rfl rfl)
theorem dX5_saysNow_168 : decode cX5_saysNow 168 = .ok (.getfield 124, 3) := dk_180 0 124 (dk_at dksX5_saysNow_7 5 rfl rfl)
theorem dX5_saysNow_171 : decode cX5_saysNow 171 = .ok (.bipush 7, 2) := dk_16 7 (dk_at dksX5_saysNow_7 8 rfl rfl)
theorem dX5_saysNow_173 : decode cX5_saysNow 173 = .ok (.iload 5, 2) := dk_21 5 (dk_at dksX5_saysNow_7 10 rfl rfl)
theorem dX5_saysNow_175 : decode cX5_saysNow 175 = .ok (.iastore, 1) := dk_79 (dk_at dksX5_saysNow_7 12 rfl rfl)
theorem dX5_saysNow_176 : decode cX5_saysNow 176 = .ok (.aload_n 0, 1) := dk_42 (dk_at dksX5_saysNow_7 13 rfl rfl)
theorem dX5_saysNow_177 : decode cX5_saysNow 177 = .ok (.iload 4, 2) := dk_21 4 (dk_at dksX5_saysNow_7 14 rfl rfl)
theorem dX5_saysNow_179 : decode cX5_saysNow 179 = .ok (.invokevirtual 400, 3) := dk_182 1 144 (dk_at dksX5_saysNow_7 16 rfl rfl)
theorem dX5_saysNow_182 : decode cX5_saysNow 182 = .ok (.ireturn, 1) := dk_172 (dk_at dksX5_saysNow_7 19 rfl rfl)
abbrev cX5_menBelow : ByteArray := prog_22_method_23_code
def yX5_menBelow : MethodName := ⟨RX5, "menBelow", "()I"⟩
def dkwX5_menBelow_1 : List UInt8 := [167, 0, 4, 3, 96, 60, 132, 2, 1, 167, 255, 228, 27, 172]
abbrev dktX5_menBelow_1 : List UInt8 := dkwX5_menBelow_1 ++ []
def dkwX5_menBelow_0 : List UInt8 := [3, 60, 3, 61, 28, 42, 180, 0, 242, 162, 0, 26, 27, 42, 180, 0, 62, 28, 51, 153, 0, 7, 4]
abbrev dktX5_menBelow_0 : List UInt8 := dkwX5_menBelow_0 ++ dktX5_menBelow_1
theorem dksX5_menBelow_0 : cX5_menBelow.data.toList.drop 0 = dktX5_menBelow_0 := by decide +kernel
theorem dksX5_menBelow_1 : cX5_menBelow.data.toList.drop 23 = dktX5_menBelow_1 := dk_seg dksX5_menBelow_0 23 rfl rfl
theorem dX5_menBelow_0 : decode cX5_menBelow 0 = .ok (.iconst 0, 1) := dk_3 (dk_at dksX5_menBelow_0 0 rfl rfl)
theorem dX5_menBelow_1 : decode cX5_menBelow 1 = .ok (.istore_n 1, 1) := dk_60 (dk_at dksX5_menBelow_0 1 rfl rfl)
theorem dX5_menBelow_2 : decode cX5_menBelow 2 = .ok (.iconst 0, 1) := dk_3 (dk_at dksX5_menBelow_0 2 rfl rfl)
theorem dX5_menBelow_3 : decode cX5_menBelow 3 = .ok (.istore_n 2, 1) := dk_61 (dk_at dksX5_menBelow_0 3 rfl rfl)
theorem dX5_menBelow_4 : decode cX5_menBelow 4 = .ok (.iload_n 2, 1) := dk_28 (dk_at dksX5_menBelow_0 4 rfl rfl)
theorem dX5_menBelow_5 : decode cX5_menBelow 5 = .ok (.aload_n 0, 1) := dk_42 (dk_at dksX5_menBelow_0 5 rfl rfl)
theorem dX5_menBelow_6 : decode cX5_menBelow 6 = .ok (.getfield 242, 3) := dk_180 0 242 (dk_at dksX5_menBelow_0 6 rfl rfl)
theorem dX5_menBelow_9 : decode cX5_menBelow 9 = .ok (.if_icmp .ge 26, 3) := dk_162 0 26 (dk_at dksX5_menBelow_0 9 rfl rfl)
theorem dX5_menBelow_12 : decode cX5_menBelow 12 = .ok (.iload_n 1, 1) := dk_27 (dk_at dksX5_menBelow_0 12 rfl rfl)
theorem dX5_menBelow_13 : decode cX5_menBelow 13 = .ok (.aload_n 0, 1) := dk_42 (dk_at dksX5_menBelow_0 13 rfl rfl)
theorem dX5_menBelow_14 : decode cX5_menBelow 14 = .ok (.getfield 62, 3) := dk_180 0 62 (dk_at dksX5_menBelow_0 14 rfl rfl)
theorem dX5_menBelow_17 : decode cX5_menBelow 17 = .ok (.iload_n 2, 1) := dk_28 (dk_at dksX5_menBelow_0 17 rfl rfl)
theorem dX5_menBelow_18 : decode cX5_menBelow 18 = .ok (.baload, 1) := dk_51 (dk_at dksX5_menBelow_0 18 rfl rfl)
theorem dX5_menBelow_19 : decode cX5_menBelow 19 = .ok (.ifCond .eq 7, 3) := dk_153 0 7 (dk_at dksX5_menBelow_0 19 rfl rfl)
theorem dX5_menBelow_22 : decode cX5_menBelow 22 = .ok (.iconst 1, 1) := dk_4 (dk_at dksX5_menBelow_0 22 rfl rfl)
theorem dX5_menBelow_23 : decode cX5_menBelow 23 = .ok (.goto 4, 3) := dk_167 0 4 (dk_at dksX5_menBelow_1 0 rfl rfl)
theorem dX5_menBelow_26 : decode cX5_menBelow 26 = .ok (.iconst 0, 1) := dk_3 (dk_at dksX5_menBelow_1 3 rfl rfl)
theorem dX5_menBelow_27 : decode cX5_menBelow 27 = .ok (.iadd, 1) := dk_96 (dk_at dksX5_menBelow_1 4 rfl rfl)
theorem dX5_menBelow_28 : decode cX5_menBelow 28 = .ok (.istore_n 1, 1) := dk_60 (dk_at dksX5_menBelow_1 5 rfl rfl)
theorem dX5_menBelow_29 : decode cX5_menBelow 29 = .ok (.iinc 2 1, 3) := dk_132 2 1 (dk_at dksX5_menBelow_1 6 rfl rfl)
theorem dX5_menBelow_32 : decode cX5_menBelow 32 = .ok (.goto (-28), 3) := dk_167 255 228 (dk_at dksX5_menBelow_1 9 rfl rfl)
theorem dX5_menBelow_35 : decode cX5_menBelow 35 = .ok (.iload_n 1, 1) := dk_27 (dk_at dksX5_menBelow_1 12 rfl rfl)
theorem dX5_menBelow_36 : decode cX5_menBelow 36 = .ok (.ireturn, 1) := dk_172 (dk_at dksX5_menBelow_1 13 rfl rfl)
abbrev cX5_gives : ByteArray := prog_22_method_64_code
def yX5_gives : MethodName := ⟨RX5, "gives", "(I)I"⟩
def dkwX5_gives_3 : List UInt8 := [180, 0, 115, 21, 4, 46, 61, 132, 3, 1, 167, 255, 180, 3, 172]
abbrev dktX5_gives_3 : List UInt8 := dkwX5_gives_3 ++ []
def dkwX5_gives_2 : List UInt8 := [153, 0, 23, 42, 27, 42, 180, 0, 112, 21, 4, 46, 42, 180, 0, 115, 21, 4, 46, 182, 1, 135, 172, 42]
abbrev dktX5_gives_2 : List UInt8 := dkwX5_gives_2 ++ dktX5_gives_3
def dkwX5_gives_1 : List UInt8 := [180, 0, 112, 21, 4, 46, 28, 159, 0, 19, 42, 27, 28, 42, 180, 0, 112, 21, 4, 46, 182, 1, 135]
abbrev dktX5_gives_1 : List UInt8 := dkwX5_gives_1 ++ dktX5_gives_2
def dkwX5_gives_0 : List UInt8 := [3, 61, 3, 62, 29, 42, 180, 0, 109, 27, 46, 162, 0, 72, 16, 90, 27, 104, 29, 96, 54, 4, 42]
abbrev dktX5_gives_0 : List UInt8 := dkwX5_gives_0 ++ dktX5_gives_1
theorem dksX5_gives_0 : cX5_gives.data.toList.drop 0 = dktX5_gives_0 := by decide +kernel
theorem dksX5_gives_1 : cX5_gives.data.toList.drop 23 = dktX5_gives_1 := dk_seg dksX5_gives_0 23 rfl rfl
theorem dksX5_gives_2 : cX5_gives.data.toList.drop 46 = dktX5_gives_2 := dk_seg dksX5_gives_1 23 rfl rfl
theorem dksX5_gives_3 : cX5_gives.data.toList.drop 70 = dktX5_gives_3 := dk_seg dksX5_gives_2 24 rfl rfl
theorem dX5_gives_0 : decode cX5_gives 0 = .ok (.iconst 0, 1) := dk_3 (dk_at dksX5_gives_0 0 rfl rfl)
theorem dX5_gives_1 : decode cX5_gives 1 = .ok (.istore_n 2, 1) := dk_61 (dk_at dksX5_gives_0 1 rfl rfl)
theorem dX5_gives_2 : decode cX5_gives 2 = .ok (.iconst 0, 1) := dk_3 (dk_at dksX5_gives_0 2 rfl rfl)
theorem dX5_gives_3 : decode cX5_gives 3 = .ok (.istore_n 3, 1) := dk_62 (dk_at dksX5_gives_0 3 rfl rfl)
theorem dX5_gives_4 : decode cX5_gives 4 = .ok (.iload_n 3, 1) := dk_29 (dk_at dksX5_gives_0 4 rfl rfl)
theorem dX5_gives_5 : decode cX5_gives 5 = .ok (.aload_n 0, 1) := dk_42 (dk_at dksX5_gives_0 5 rfl rfl)
theorem dX5_gives_6 : decode cX5_gives 6 = .ok (.getfield 109, 3) := dk_180 0 109 (dk_at dksX5_gives_0 6 rfl rfl)
theorem dX5_gives_9 : decode cX5_gives 9 = .ok (.iload_n 1, 1) := dk_27 (dk_at dksX5_gives_0 9 rfl rfl)
theorem dX5_gives_10 : decode cX5_gives 10 = .ok (.iaload, 1) := dk_46 (dk_at dksX5_gives_0 10 rfl rfl)
theorem dX5_gives_11 : decode cX5_gives 11 = .ok (.if_icmp .ge 72, 3) := dk_162 0 72 (dk_at dksX5_gives_0 11 rfl rfl)
theorem dX5_gives_14 : decode cX5_gives 14 = .ok (.bipush 90, 2) := dk_16 90 (dk_at dksX5_gives_0 14 rfl rfl)
theorem dX5_gives_16 : decode cX5_gives 16 = .ok (.iload_n 1, 1) := dk_27 (dk_at dksX5_gives_0 16 rfl rfl)
theorem dX5_gives_17 : decode cX5_gives 17 = .ok (.imul, 1) := dk_104 (dk_at dksX5_gives_0 17 rfl rfl)
theorem dX5_gives_18 : decode cX5_gives 18 = .ok (.iload_n 3, 1) := dk_29 (dk_at dksX5_gives_0 18 rfl rfl)
theorem dX5_gives_19 : decode cX5_gives 19 = .ok (.iadd, 1) := dk_96 (dk_at dksX5_gives_0 19 rfl rfl)
theorem dX5_gives_20 : decode cX5_gives 20 = .ok (.istore 4, 2) := dk_54 4 (dk_at dksX5_gives_0 20 rfl rfl)
theorem dX5_gives_22 : decode cX5_gives 22 = .ok (.aload_n 0, 1) := dk_42 (dk_at dksX5_gives_0 22 rfl rfl)
theorem dX5_gives_23 : decode cX5_gives 23 = .ok (.getfield 112, 3) := dk_180 0 112 (dk_at dksX5_gives_1 0 rfl rfl)
theorem dX5_gives_26 : decode cX5_gives 26 = .ok (.iload 4, 2) := dk_21 4 (dk_at dksX5_gives_1 3 rfl rfl)
theorem dX5_gives_28 : decode cX5_gives 28 = .ok (.iaload, 1) := dk_46 (dk_at dksX5_gives_1 5 rfl rfl)
theorem dX5_gives_29 : decode cX5_gives 29 = .ok (.iload_n 2, 1) := dk_28 (dk_at dksX5_gives_1 6 rfl rfl)
theorem dX5_gives_30 : decode cX5_gives 30 = .ok (.if_icmp .eq 19, 3) := dk_159 0 19 (dk_at dksX5_gives_1 7 rfl rfl)
theorem dX5_gives_33 : decode cX5_gives 33 = .ok (.aload_n 0, 1) := dk_42 (dk_at dksX5_gives_1 10 rfl rfl)
theorem dX5_gives_34 : decode cX5_gives 34 = .ok (.iload_n 1, 1) := dk_27 (dk_at dksX5_gives_1 11 rfl rfl)
theorem dX5_gives_35 : decode cX5_gives 35 = .ok (.iload_n 2, 1) := dk_28 (dk_at dksX5_gives_1 12 rfl rfl)
theorem dX5_gives_36 : decode cX5_gives 36 = .ok (.aload_n 0, 1) := dk_42 (dk_at dksX5_gives_1 13 rfl rfl)
theorem dX5_gives_37 : decode cX5_gives 37 = .ok (.getfield 112, 3) := dk_180 0 112 (dk_at dksX5_gives_1 14 rfl rfl)
theorem dX5_gives_40 : decode cX5_gives 40 = .ok (.iload 4, 2) := dk_21 4 (dk_at dksX5_gives_1 17 rfl rfl)
theorem dX5_gives_42 : decode cX5_gives 42 = .ok (.iaload, 1) := dk_46 (dk_at dksX5_gives_1 19 rfl rfl)
theorem dX5_gives_43 : decode cX5_gives 43 = .ok (.invokevirtual 391, 3) := dk_182 1 135 (dk_at dksX5_gives_1 20 rfl rfl)
theorem dX5_gives_46 : decode cX5_gives 46 = .ok (.ifCond .eq 23, 3) := dk_153 0 23 (dk_at dksX5_gives_2 0 rfl rfl)
theorem dX5_gives_49 : decode cX5_gives 49 = .ok (.aload_n 0, 1) := dk_42 (dk_at dksX5_gives_2 3 rfl rfl)
theorem dX5_gives_50 : decode cX5_gives 50 = .ok (.iload_n 1, 1) := dk_27 (dk_at dksX5_gives_2 4 rfl rfl)
theorem dX5_gives_51 : decode cX5_gives 51 = .ok (.aload_n 0, 1) := dk_42 (dk_at dksX5_gives_2 5 rfl rfl)
theorem dX5_gives_52 : decode cX5_gives 52 = .ok (.getfield 112, 3) := dk_180 0 112 (dk_at dksX5_gives_2 6 rfl rfl)
theorem dX5_gives_55 : decode cX5_gives 55 = .ok (.iload 4, 2) := dk_21 4 (dk_at dksX5_gives_2 9 rfl rfl)
theorem dX5_gives_57 : decode cX5_gives 57 = .ok (.iaload, 1) := dk_46 (dk_at dksX5_gives_2 11 rfl rfl)
theorem dX5_gives_58 : decode cX5_gives 58 = .ok (.aload_n 0, 1) := dk_42 (dk_at dksX5_gives_2 12 rfl rfl)
theorem dX5_gives_59 : decode cX5_gives 59 = .ok (.getfield 115, 3) := dk_180 0 115 (dk_at dksX5_gives_2 13 rfl rfl)
theorem dX5_gives_62 : decode cX5_gives 62 = .ok (.iload 4, 2) := dk_21 4 (dk_at dksX5_gives_2 16 rfl rfl)
theorem dX5_gives_64 : decode cX5_gives 64 = .ok (.iaload, 1) := dk_46 (dk_at dksX5_gives_2 18 rfl rfl)
theorem dX5_gives_65 : decode cX5_gives 65 = .ok (.invokevirtual 391, 3) := dk_182 1 135 (dk_at dksX5_gives_2 19 rfl rfl)
theorem dX5_gives_68 : decode cX5_gives 68 = .ok (.ireturn, 1) := dk_172 (dk_at dksX5_gives_2 22 rfl rfl)
theorem dX5_gives_69 : decode cX5_gives 69 = .ok (.aload_n 0, 1) := dk_42 (dk_at dksX5_gives_2 23 rfl rfl)
theorem dX5_gives_70 : decode cX5_gives 70 = .ok (.getfield 115, 3) := dk_180 0 115 (dk_at dksX5_gives_3 0 rfl rfl)
theorem dX5_gives_73 : decode cX5_gives 73 = .ok (.iload 4, 2) := dk_21 4 (dk_at dksX5_gives_3 3 rfl rfl)
theorem dX5_gives_75 : decode cX5_gives 75 = .ok (.iaload, 1) := dk_46 (dk_at dksX5_gives_3 5 rfl rfl)
theorem dX5_gives_76 : decode cX5_gives 76 = .ok (.istore_n 2, 1) := dk_61 (dk_at dksX5_gives_3 6 rfl rfl)
theorem dX5_gives_77 : decode cX5_gives 77 = .ok (.iinc 3 1, 3) := dk_132 3 1 (dk_at dksX5_gives_3 7 rfl rfl)
theorem dX5_gives_80 : decode cX5_gives 80 = .ok (.goto (-76), 3) := dk_167 255 180 (dk_at dksX5_gives_3 10 rfl rfl)
theorem dX5_gives_83 : decode cX5_gives 83 = .ok (.iconst 0, 1) := dk_3 (dk_at dksX5_gives_3 13 rfl rfl)
theorem dX5_gives_84 : decode cX5_gives 84 = .ok (.ireturn, 1) := dk_172 (dk_at dksX5_gives_3 14 rfl rfl)
abbrev cX5_worked : ByteArray := prog_22_method_63_code
def yX5_worked : MethodName := ⟨RX5, "worked", "(III)I"⟩
def dkwX5_worked_8 : List UInt8 := [167, 255, 83, 42, 180, 0, 127, 3, 46, 172]
abbrev dktX5_worked_8 : List UInt8 := dkwX5_worked_8 ++ []
def dkwX5_worked_7 : List UInt8 := [180, 0, 127, 21, 4, 4, 100, 46, 42, 180, 0, 127, 21, 4, 46, 184, 1, 132, 79, 132, 5, 1]
abbrev dktX5_worked_7 : List UInt8 := dkwX5_worked_7 ++ dktX5_worked_8
def dkwX5_worked_6 : List UInt8 := [21, 4, 4, 100, 46, 116, 79, 167, 0, 36, 132, 4, 255, 42, 180, 0, 127, 21, 4, 4, 100, 21, 6, 42]
abbrev dktX5_worked_6 : List UInt8 := dkwX5_worked_6 ++ dktX5_worked_7
def dkwX5_worked_5 : List UInt8 := [3, 79, 167, 0, 64, 21, 6, 7, 160, 0, 25, 42, 180, 0, 127, 21, 4, 4, 100, 42, 180, 0, 127]
abbrev dktX5_worked_5 : List UInt8 := dkwX5_worked_5 ++ dktX5_worked_6
def dkwX5_worked_4 : List UInt8 := [42, 180, 0, 127, 21, 4, 4, 100, 42, 180, 0, 127, 21, 4, 4, 100, 46, 154, 0, 7, 4, 167, 0, 4]
abbrev dktX5_worked_4 : List UInt8 := dkwX5_worked_4 ++ dktX5_worked_5
def dkwX5_worked_3 : List UInt8 := [180, 0, 124, 42, 180, 0, 121, 21, 5, 46, 46, 79, 132, 4, 1, 167, 0, 99, 21, 6, 6, 160, 0, 32]
abbrev dktX5_worked_3 : List UInt8 := dkwX5_worked_3 ++ dktX5_worked_4
def dkwX5_worked_2 : List UInt8 := [180, 0, 127, 21, 4, 21, 6, 4, 160, 0, 13, 42, 180, 0, 121, 21, 5, 46, 167, 0, 15, 42]
abbrev dktX5_worked_2 : List UInt8 := dkwX5_worked_2 ++ dktX5_worked_3
def dkwX5_worked_1 : List UInt8 := [42, 180, 0, 118, 21, 5, 46, 54, 6, 21, 6, 4, 159, 0, 9, 21, 6, 5, 160, 0, 44, 42]
abbrev dktX5_worked_1 : List UInt8 := dkwX5_worked_1 ++ dktX5_worked_2
def dkwX5_worked_0 : List UInt8 := [3, 54, 4, 17, 0, 170, 27, 104, 28, 96, 54, 5, 21, 5, 17, 0, 170, 27, 104, 29, 96, 162, 0, 167]
abbrev dktX5_worked_0 : List UInt8 := dkwX5_worked_0 ++ dktX5_worked_1
theorem dksX5_worked_0 : cX5_worked.data.toList.drop 0 = dktX5_worked_0 := by decide +kernel
theorem dksX5_worked_1 : cX5_worked.data.toList.drop 24 = dktX5_worked_1 := dk_seg dksX5_worked_0 24 rfl rfl
theorem dksX5_worked_2 : cX5_worked.data.toList.drop 46 = dktX5_worked_2 := dk_seg dksX5_worked_1 22 rfl rfl
theorem dksX5_worked_3 : cX5_worked.data.toList.drop 68 = dktX5_worked_3 := dk_seg dksX5_worked_2 22 rfl rfl
theorem dksX5_worked_4 : cX5_worked.data.toList.drop 92 = dktX5_worked_4 := dk_seg dksX5_worked_3 24 rfl rfl
theorem dksX5_worked_5 : cX5_worked.data.toList.drop 116 = dktX5_worked_5 := dk_seg dksX5_worked_4 24 rfl rfl
theorem dksX5_worked_6 : cX5_worked.data.toList.drop 139 = dktX5_worked_6 := dk_seg dksX5_worked_5 23 rfl rfl
theorem dksX5_worked_7 : cX5_worked.data.toList.drop 163 = dktX5_worked_7 := dk_seg dksX5_worked_6 24 rfl rfl
theorem dksX5_worked_8 : cX5_worked.data.toList.drop 185 = dktX5_worked_8 := dk_seg dksX5_worked_7 22 rfl rfl
theorem dX5_worked_0 : decode cX5_worked 0 = .ok (.iconst 0, 1) := dk_3 (dk_at dksX5_worked_0 0 rfl rfl)
theorem dX5_worked_1 : decode cX5_worked 1 = .ok (.istore 4, 2) := dk_54 4 (dk_at dksX5_worked_0 1 rfl rfl)
theorem dX5_worked_3 : decode cX5_worked 3 = .ok (.sipush 170, 3) := dk_17 0 170 (dk_at dksX5_worked_0 3 rfl rfl)
theorem dX5_worked_6 : decode cX5_worked 6 = .ok (.iload_n 1, 1) := dk_27 (dk_at dksX5_worked_0 6 rfl rfl)
theorem dX5_worked_7 : decode cX5_worked 7 = .ok (.imul, 1) := dk_104 (dk_at dksX5_worked_0 7 rfl rfl)
theorem dX5_worked_8 : decode cX5_worked 8 = .ok (.iload_n 2, 1) := dk_28 (dk_at dksX5_worked_0 8 rfl rfl)
theorem dX5_worked_9 : decode cX5_worked 9 = .ok (.iadd, 1) := dk_96 (dk_at dksX5_worked_0 9 rfl rfl)
theorem dX5_worked_10 : decode cX5_worked 10 = .ok (.istore 5, 2) := dk_54 5 (dk_at dksX5_worked_0 10 rfl rfl)
theorem dX5_worked_12 : decode cX5_worked 12 = .ok (.iload 5, 2) := dk_21 5 (dk_at dksX5_worked_0 12 rfl rfl)
theorem dX5_worked_14 : decode cX5_worked 14 = .ok (.sipush 170, 3) := dk_17 0 170 (dk_at dksX5_worked_0 14 rfl rfl)
theorem dX5_worked_17 : decode cX5_worked 17 = .ok (.iload_n 1, 1) := dk_27 (dk_at dksX5_worked_0 17 rfl rfl)
theorem dX5_worked_18 : decode cX5_worked 18 = .ok (.imul, 1) := dk_104 (dk_at dksX5_worked_0 18 rfl rfl)
theorem dX5_worked_19 : decode cX5_worked 19 = .ok (.iload_n 3, 1) := dk_29 (dk_at dksX5_worked_0 19 rfl rfl)
theorem dX5_worked_20 : decode cX5_worked 20 = .ok (.iadd, 1) := dk_96 (dk_at dksX5_worked_0 20 rfl rfl)
theorem dX5_worked_21 : decode cX5_worked 21 = .ok (.if_icmp .ge 167, 3) := dk_162 0 167 (dk_at dksX5_worked_0 21 rfl rfl)
theorem dX5_worked_24 : decode cX5_worked 24 = .ok (.aload_n 0, 1) := dk_42 (dk_at dksX5_worked_1 0 rfl rfl)
theorem dX5_worked_25 : decode cX5_worked 25 = .ok (.getfield 118, 3) := dk_180 0 118 (dk_at dksX5_worked_1 1 rfl rfl)
theorem dX5_worked_28 : decode cX5_worked 28 = .ok (.iload 5, 2) := dk_21 5 (dk_at dksX5_worked_1 4 rfl rfl)
theorem dX5_worked_30 : decode cX5_worked 30 = .ok (.iaload, 1) := dk_46 (dk_at dksX5_worked_1 6 rfl rfl)
theorem dX5_worked_31 : decode cX5_worked 31 = .ok (.istore 6, 2) := dk_54 6 (dk_at dksX5_worked_1 7 rfl rfl)
theorem dX5_worked_33 : decode cX5_worked 33 = .ok (.iload 6, 2) := dk_21 6 (dk_at dksX5_worked_1 9 rfl rfl)
theorem dX5_worked_35 : decode cX5_worked 35 = .ok (.iconst 1, 1) := dk_4 (dk_at dksX5_worked_1 11 rfl rfl)
theorem dX5_worked_36 : decode cX5_worked 36 = .ok (.if_icmp .eq 9, 3) := dk_159 0 9 (dk_at dksX5_worked_1 12 rfl rfl)
theorem dX5_worked_39 : decode cX5_worked 39 = .ok (.iload 6, 2) := dk_21 6 (dk_at dksX5_worked_1 15 rfl rfl)
theorem dX5_worked_41 : decode cX5_worked 41 = .ok (.iconst 2, 1) := dk_5 (dk_at dksX5_worked_1 17 rfl rfl)
theorem dX5_worked_42 : decode cX5_worked 42 = .ok (.if_icmp .ne 44, 3) := dk_160 0 44 (dk_at dksX5_worked_1 18 rfl rfl)
theorem dX5_worked_45 : decode cX5_worked 45 = .ok (.aload_n 0, 1) := dk_42 (dk_at dksX5_worked_1 21 rfl rfl)
theorem dX5_worked_46 : decode cX5_worked 46 = .ok (.getfield 127, 3) := dk_180 0 127 (dk_at dksX5_worked_2 0 rfl rfl)
theorem dX5_worked_49 : decode cX5_worked 49 = .ok (.iload 4, 2) := dk_21 4 (dk_at dksX5_worked_2 3 rfl rfl)
theorem dX5_worked_51 : decode cX5_worked 51 = .ok (.iload 6, 2) := dk_21 6 (dk_at dksX5_worked_2 5 rfl rfl)
theorem dX5_worked_53 : decode cX5_worked 53 = .ok (.iconst 1, 1) := dk_4 (dk_at dksX5_worked_2 7 rfl rfl)
theorem dX5_worked_54 : decode cX5_worked 54 = .ok (.if_icmp .ne 13, 3) := dk_160 0 13 (dk_at dksX5_worked_2 8 rfl rfl)
theorem dX5_worked_57 : decode cX5_worked 57 = .ok (.aload_n 0, 1) := dk_42 (dk_at dksX5_worked_2 11 rfl rfl)
theorem dX5_worked_58 : decode cX5_worked 58 = .ok (.getfield 121, 3) := dk_180 0 121 (dk_at dksX5_worked_2 12 rfl rfl)
theorem dX5_worked_61 : decode cX5_worked 61 = .ok (.iload 5, 2) := dk_21 5 (dk_at dksX5_worked_2 15 rfl rfl)
theorem dX5_worked_63 : decode cX5_worked 63 = .ok (.iaload, 1) := dk_46 (dk_at dksX5_worked_2 17 rfl rfl)
theorem dX5_worked_64 : decode cX5_worked 64 = .ok (.goto 15, 3) := dk_167 0 15 (dk_at dksX5_worked_2 18 rfl rfl)
theorem dX5_worked_67 : decode cX5_worked 67 = .ok (.aload_n 0, 1) := dk_42 (dk_at dksX5_worked_2 21 rfl rfl)
theorem dX5_worked_68 : decode cX5_worked 68 = .ok (.getfield 124, 3) := dk_180 0 124 (dk_at dksX5_worked_3 0 rfl rfl)
theorem dX5_worked_71 : decode cX5_worked 71 = .ok (.aload_n 0, 1) := dk_42 (dk_at dksX5_worked_3 3 rfl rfl)
theorem dX5_worked_72 : decode cX5_worked 72 = .ok (.getfield 121, 3) := dk_180 0 121 (dk_at dksX5_worked_3 4 rfl rfl)
theorem dX5_worked_75 : decode cX5_worked 75 = .ok (.iload 5, 2) := dk_21 5 (dk_at dksX5_worked_3 7 rfl rfl)
theorem dX5_worked_77 : decode cX5_worked 77 = .ok (.iaload, 1) := dk_46 (dk_at dksX5_worked_3 9 rfl rfl)
theorem dX5_worked_78 : decode cX5_worked 78 = .ok (.iaload, 1) := dk_46 (dk_at dksX5_worked_3 10 rfl rfl)
theorem dX5_worked_79 : decode cX5_worked 79 = .ok (.iastore, 1) := dk_79 (dk_at dksX5_worked_3 11 rfl rfl)
theorem dX5_worked_80 : decode cX5_worked 80 = .ok (.iinc 4 1, 3) := dk_132 4 1 (dk_at dksX5_worked_3 12 rfl rfl)
theorem dX5_worked_83 : decode cX5_worked 83 = .ok (.goto 99, 3) := dk_167 0 99 (dk_at dksX5_worked_3 15 rfl rfl)
theorem dX5_worked_86 : decode cX5_worked 86 = .ok (.iload 6, 2) := dk_21 6 (dk_at dksX5_worked_3 18 rfl rfl)
theorem dX5_worked_88 : decode cX5_worked 88 = .ok (.iconst 3, 1) := dk_6 (dk_at dksX5_worked_3 20 rfl rfl)
theorem dX5_worked_89 : decode cX5_worked 89 = .ok (.if_icmp .ne 32, 3) := dk_160 0 32 (dk_at dksX5_worked_3 21 rfl rfl)
theorem dX5_worked_92 : decode cX5_worked 92 = .ok (.aload_n 0, 1) := dk_42 (dk_at dksX5_worked_4 0 rfl rfl)
theorem dX5_worked_93 : decode cX5_worked 93 = .ok (.getfield 127, 3) := dk_180 0 127 (dk_at dksX5_worked_4 1 rfl rfl)
theorem dX5_worked_96 : decode cX5_worked 96 = .ok (.iload 4, 2) := dk_21 4 (dk_at dksX5_worked_4 4 rfl rfl)
theorem dX5_worked_98 : decode cX5_worked 98 = .ok (.iconst 1, 1) := dk_4 (dk_at dksX5_worked_4 6 rfl rfl)
theorem dX5_worked_99 : decode cX5_worked 99 = .ok (.isub, 1) := dk_100 (dk_at dksX5_worked_4 7 rfl rfl)
theorem dX5_worked_100 : decode cX5_worked 100 = .ok (.aload_n 0, 1) := dk_42 (dk_at dksX5_worked_4 8 rfl rfl)
theorem dX5_worked_101 : decode cX5_worked 101 = .ok (.getfield 127, 3) := dk_180 0 127 (dk_at dksX5_worked_4 9 rfl rfl)
theorem dX5_worked_104 : decode cX5_worked 104 = .ok (.iload 4, 2) := dk_21 4 (dk_at dksX5_worked_4 12 rfl rfl)
theorem dX5_worked_106 : decode cX5_worked 106 = .ok (.iconst 1, 1) := dk_4 (dk_at dksX5_worked_4 14 rfl rfl)
theorem dX5_worked_107 : decode cX5_worked 107 = .ok (.isub, 1) := dk_100 (dk_at dksX5_worked_4 15 rfl rfl)
theorem dX5_worked_108 : decode cX5_worked 108 = .ok (.iaload, 1) := dk_46 (dk_at dksX5_worked_4 16 rfl rfl)
theorem dX5_worked_109 : decode cX5_worked 109 = .ok (.ifCond .ne 7, 3) := dk_154 0 7 (dk_at dksX5_worked_4 17 rfl rfl)
theorem dX5_worked_112 : decode cX5_worked 112 = .ok (.iconst 1, 1) := dk_4 (dk_at dksX5_worked_4 20 rfl rfl)
theorem dX5_worked_113 : decode cX5_worked 113 = .ok (.goto 4, 3) := dk_167 0 4 (dk_at dksX5_worked_4 21 rfl rfl)
theorem dX5_worked_116 : decode cX5_worked 116 = .ok (.iconst 0, 1) := dk_3 (dk_at dksX5_worked_5 0 rfl rfl)
theorem dX5_worked_117 : decode cX5_worked 117 = .ok (.iastore, 1) := dk_79 (dk_at dksX5_worked_5 1 rfl rfl)
theorem dX5_worked_118 : decode cX5_worked 118 = .ok (.goto 64, 3) := dk_167 0 64 (dk_at dksX5_worked_5 2 rfl rfl)
theorem dX5_worked_121 : decode cX5_worked 121 = .ok (.iload 6, 2) := dk_21 6 (dk_at dksX5_worked_5 5 rfl rfl)
theorem dX5_worked_123 : decode cX5_worked 123 = .ok (.iconst 4, 1) := dk_7 (dk_at dksX5_worked_5 7 rfl rfl)
theorem dX5_worked_124 : decode cX5_worked 124 = .ok (.if_icmp .ne 25, 3) := dk_160 0 25 (dk_at dksX5_worked_5 8 rfl rfl)
theorem dX5_worked_127 : decode cX5_worked 127 = .ok (.aload_n 0, 1) := dk_42 (dk_at dksX5_worked_5 11 rfl rfl)
theorem dX5_worked_128 : decode cX5_worked 128 = .ok (.getfield 127, 3) := dk_180 0 127 (dk_at dksX5_worked_5 12 rfl rfl)
theorem dX5_worked_131 : decode cX5_worked 131 = .ok (.iload 4, 2) := dk_21 4 (dk_at dksX5_worked_5 15 rfl rfl)
theorem dX5_worked_133 : decode cX5_worked 133 = .ok (.iconst 1, 1) := dk_4 (dk_at dksX5_worked_5 17 rfl rfl)
theorem dX5_worked_134 : decode cX5_worked 134 = .ok (.isub, 1) := dk_100 (dk_at dksX5_worked_5 18 rfl rfl)
theorem dX5_worked_135 : decode cX5_worked 135 = .ok (.aload_n 0, 1) := dk_42 (dk_at dksX5_worked_5 19 rfl rfl)
theorem dX5_worked_136 : decode cX5_worked 136 = .ok (.getfield 127, 3) := dk_180 0 127 (dk_at dksX5_worked_5 20 rfl rfl)
theorem dX5_worked_139 : decode cX5_worked 139 = .ok (.iload 4, 2) := dk_21 4 (dk_at dksX5_worked_6 0 rfl rfl)
theorem dX5_worked_141 : decode cX5_worked 141 = .ok (.iconst 1, 1) := dk_4 (dk_at dksX5_worked_6 2 rfl rfl)
theorem dX5_worked_142 : decode cX5_worked 142 = .ok (.isub, 1) := dk_100 (dk_at dksX5_worked_6 3 rfl rfl)
theorem dX5_worked_143 : decode cX5_worked 143 = .ok (.iaload, 1) := dk_46 (dk_at dksX5_worked_6 4 rfl rfl)
theorem dX5_worked_144 : decode cX5_worked 144 = .ok (.ineg, 1) := dk_116 (dk_at dksX5_worked_6 5 rfl rfl)
theorem dX5_worked_145 : decode cX5_worked 145 = .ok (.iastore, 1) := dk_79 (dk_at dksX5_worked_6 6 rfl rfl)
theorem dX5_worked_146 : decode cX5_worked 146 = .ok (.goto 36, 3) := dk_167 0 36 (dk_at dksX5_worked_6 7 rfl rfl)
theorem dX5_worked_149 : decode cX5_worked 149 = .ok (.iinc 4 (-1), 3) := dk_132 4 255 (dk_at dksX5_worked_6 10 rfl rfl)
theorem dX5_worked_152 : decode cX5_worked 152 = .ok (.aload_n 0, 1) := dk_42 (dk_at dksX5_worked_6 13 rfl rfl)
theorem dX5_worked_153 : decode cX5_worked 153 = .ok (.getfield 127, 3) := dk_180 0 127 (dk_at dksX5_worked_6 14 rfl rfl)
theorem dX5_worked_156 : decode cX5_worked 156 = .ok (.iload 4, 2) := dk_21 4 (dk_at dksX5_worked_6 17 rfl rfl)
theorem dX5_worked_158 : decode cX5_worked 158 = .ok (.iconst 1, 1) := dk_4 (dk_at dksX5_worked_6 19 rfl rfl)
theorem dX5_worked_159 : decode cX5_worked 159 = .ok (.isub, 1) := dk_100 (dk_at dksX5_worked_6 20 rfl rfl)
theorem dX5_worked_160 : decode cX5_worked 160 = .ok (.iload 6, 2) := dk_21 6 (dk_at dksX5_worked_6 21 rfl rfl)
theorem dX5_worked_162 : decode cX5_worked 162 = .ok (.aload_n 0, 1) := dk_42 (dk_at dksX5_worked_6 23 rfl rfl)
theorem dX5_worked_163 : decode cX5_worked 163 = .ok (.getfield 127, 3) := dk_180 0 127 (dk_at dksX5_worked_7 0 rfl rfl)
theorem dX5_worked_166 : decode cX5_worked 166 = .ok (.iload 4, 2) := dk_21 4 (dk_at dksX5_worked_7 3 rfl rfl)
theorem dX5_worked_168 : decode cX5_worked 168 = .ok (.iconst 1, 1) := dk_4 (dk_at dksX5_worked_7 5 rfl rfl)
theorem dX5_worked_169 : decode cX5_worked 169 = .ok (.isub, 1) := dk_100 (dk_at dksX5_worked_7 6 rfl rfl)
theorem dX5_worked_170 : decode cX5_worked 170 = .ok (.iaload, 1) := dk_46 (dk_at dksX5_worked_7 7 rfl rfl)
theorem dX5_worked_171 : decode cX5_worked 171 = .ok (.aload_n 0, 1) := dk_42 (dk_at dksX5_worked_7 8 rfl rfl)
theorem dX5_worked_172 : decode cX5_worked 172 = .ok (.getfield 127, 3) := dk_180 0 127 (dk_at dksX5_worked_7 9 rfl rfl)
theorem dX5_worked_175 : decode cX5_worked 175 = .ok (.iload 4, 2) := dk_21 4 (dk_at dksX5_worked_7 12 rfl rfl)
theorem dX5_worked_177 : decode cX5_worked 177 = .ok (.iaload, 1) := dk_46 (dk_at dksX5_worked_7 14 rfl rfl)
theorem dX5_worked_178 : decode cX5_worked 178 = .ok (.invokestatic 388, 3) := dk_184 1 132 (dk_at dksX5_worked_7 15 rfl rfl)
theorem dX5_worked_181 : decode cX5_worked 181 = .ok (.iastore, 1) := dk_79 (dk_at dksX5_worked_7 18 rfl rfl)
theorem dX5_worked_182 : decode cX5_worked 182 = .ok (.iinc 5 1, 3) := dk_132 5 1 (dk_at dksX5_worked_7 19 rfl rfl)
theorem dX5_worked_185 : decode cX5_worked 185 = .ok (.goto (-173), 3) := dk_167 255 83 (dk_at dksX5_worked_8 0 rfl rfl)
theorem dX5_worked_188 : decode cX5_worked 188 = .ok (.aload_n 0, 1) := dk_42 (dk_at dksX5_worked_8 3 rfl rfl)
theorem dX5_worked_189 : decode cX5_worked 189 = .ok (.getfield 127, 3) := dk_180 0 127 (dk_at dksX5_worked_8 4 rfl rfl)
theorem dX5_worked_192 : decode cX5_worked 192 = .ok (.iconst 0, 1) := dk_3 (dk_at dksX5_worked_8 7 rfl rfl)
theorem dX5_worked_193 : decode cX5_worked 193 = .ok (.iaload, 1) := dk_46 (dk_at dksX5_worked_8 8 rfl rfl)
theorem dX5_worked_194 : decode cX5_worked 194 = .ok (.ireturn, 1) := dk_172 (dk_at dksX5_worked_8 9 rfl rfl)
abbrev cX5_both : ByteArray := prog_22_method_62_code
def yX5_both : MethodName := ⟨RX5, "both", "(III)I"⟩
def dkwX5_both_6 : List UInt8 := [4, 167, 0, 4, 3, 172, 27, 154, 0, 7, 28, 153, 0, 7, 4, 167, 0, 4, 3, 172]
abbrev dktX5_both_6 : List UInt8 := dkwX5_both_6 ++ []
def dkwX5_both_5 : List UInt8 := [167, 0, 4, 3, 172, 27, 28, 164, 0, 7, 4, 167, 0, 4, 3, 172, 27, 153, 0, 11, 28, 153, 0, 7]
abbrev dktX5_both_5 : List UInt8 := dkwX5_both_5 ++ dktX5_both_6
def dkwX5_both_4 : List UInt8 := [167, 0, 6, 27, 28, 112, 172, 27, 28, 162, 0, 7, 4, 167, 0, 4, 3, 172, 27, 28, 160, 0, 7, 4]
abbrev dktX5_both_4 : List UInt8 := dkwX5_both_4 ++ dktX5_both_5
def dkwX5_both_3 : List UInt8 := [160, 0, 8, 27, 116, 167, 0, 6, 27, 28, 108, 172, 28, 153, 0, 8, 28, 2, 160, 0, 7, 3]
abbrev dktX5_both_3 : List UInt8 := dkwX5_both_3 ++ dktX5_both_4
def dkwX5_both_2 : List UInt8 := [27, 28, 96, 172, 27, 28, 100, 172, 27, 28, 104, 172, 28, 154, 0, 7, 3, 167, 0, 16, 28, 2]
abbrev dktX5_both_2 : List UInt8 := dkwX5_both_2 ++ dktX5_both_3
def dkwX5_both_1 : List UInt8 := [170, 0, 0, 0, 0, 0, 217, 0, 0, 0, 37, 0, 0, 0, 62, 0, 0, 0, 153, 0, 0, 0, 203, 0, 0, 0, 217, 0, 0, 0, 217, 0, 0, 0, 217, 0, 0, 0, 127, 0, 0, 0, 119, 0, 0, 0, 217, 0, 0, 0, 123, 0, 0, 0, 217, 0, 0, 0, 131, 0, 0, 0, 217, 0, 0, 0, 217, 0, 0, 0, 217, 0, 0, 0, 217, 0, 0, 0, 217, 0, 0, 0, 217, 0, 0, 0, 217, 0, 0, 0, 217, 0, 0, 0, 217, 0, 0, 0, 217, 0, 0, 0, 217, 0, 0, 0, 217, 0, 0, 0, 170, 0, 0, 0, 181, 0, 0, 0, 192]
abbrev dktX5_both_1 : List UInt8 := dkwX5_both_1 ++ dktX5_both_2
def dkwX5_both_0 : List UInt8 := [26]
abbrev dktX5_both_0 : List UInt8 := dkwX5_both_0 ++ dktX5_both_1
theorem dksX5_both_0 : cX5_both.data.toList.drop 0 = dktX5_both_0 := by decide +kernel
theorem dksX5_both_1 : cX5_both.data.toList.drop 1 = dktX5_both_1 := dk_seg dksX5_both_0 1 rfl rfl
theorem dksX5_both_2 : cX5_both.data.toList.drop 120 = dktX5_both_2 := dk_seg dksX5_both_1 119 rfl rfl
theorem dksX5_both_3 : cX5_both.data.toList.drop 142 = dktX5_both_3 := dk_seg dksX5_both_2 22 rfl rfl
theorem dksX5_both_4 : cX5_both.data.toList.drop 164 = dktX5_both_4 := dk_seg dksX5_both_3 22 rfl rfl
theorem dksX5_both_5 : cX5_both.data.toList.drop 188 = dktX5_both_5 := dk_seg dksX5_both_4 24 rfl rfl
theorem dksX5_both_6 : cX5_both.data.toList.drop 212 = dktX5_both_6 := dk_seg dksX5_both_5 24 rfl rfl
theorem dX5_both_0 : decode cX5_both 0 = .ok (.iload_n 0, 1) := dk_26 (dk_at dksX5_both_0 0 rfl rfl)
theorem dX5_both_1 : decode cX5_both 1 = .ok (.tableswitch 217 37 62 #[153, 203, 217, 217, 217, 127, 119, 217, 123, 217, 131, 217, 217, 217, 217, 217, 217, 217, 217, 217, 217, 217, 217, 170, 181, 192], 119) := by decide +kernel
theorem dX5_both_120 : decode cX5_both 120 = .ok (.iload_n 1, 1) := dk_27 (dk_at dksX5_both_2 0 rfl rfl)
theorem dX5_both_121 : decode cX5_both 121 = .ok (.iload_n 2, 1) := dk_28 (dk_at dksX5_both_2 1 rfl rfl)
theorem dX5_both_122 : decode cX5_both 122 = .ok (.iadd, 1) := dk_96 (dk_at dksX5_both_2 2 rfl rfl)
theorem dX5_both_123 : decode cX5_both 123 = .ok (.ireturn, 1) := dk_172 (dk_at dksX5_both_2 3 rfl rfl)
theorem dX5_both_124 : decode cX5_both 124 = .ok (.iload_n 1, 1) := dk_27 (dk_at dksX5_both_2 4 rfl rfl)
theorem dX5_both_125 : decode cX5_both 125 = .ok (.iload_n 2, 1) := dk_28 (dk_at dksX5_both_2 5 rfl rfl)
theorem dX5_both_126 : decode cX5_both 126 = .ok (.isub, 1) := dk_100 (dk_at dksX5_both_2 6 rfl rfl)
theorem dX5_both_127 : decode cX5_both 127 = .ok (.ireturn, 1) := dk_172 (dk_at dksX5_both_2 7 rfl rfl)
theorem dX5_both_128 : decode cX5_both 128 = .ok (.iload_n 1, 1) := dk_27 (dk_at dksX5_both_2 8 rfl rfl)
theorem dX5_both_129 : decode cX5_both 129 = .ok (.iload_n 2, 1) := dk_28 (dk_at dksX5_both_2 9 rfl rfl)
theorem dX5_both_130 : decode cX5_both 130 = .ok (.imul, 1) := dk_104 (dk_at dksX5_both_2 10 rfl rfl)
theorem dX5_both_131 : decode cX5_both 131 = .ok (.ireturn, 1) := dk_172 (dk_at dksX5_both_2 11 rfl rfl)
theorem dX5_both_132 : decode cX5_both 132 = .ok (.iload_n 2, 1) := dk_28 (dk_at dksX5_both_2 12 rfl rfl)
theorem dX5_both_133 : decode cX5_both 133 = .ok (.ifCond .ne 7, 3) := dk_154 0 7 (dk_at dksX5_both_2 13 rfl rfl)
theorem dX5_both_136 : decode cX5_both 136 = .ok (.iconst 0, 1) := dk_3 (dk_at dksX5_both_2 16 rfl rfl)
theorem dX5_both_137 : decode cX5_both 137 = .ok (.goto 16, 3) := dk_167 0 16 (dk_at dksX5_both_2 17 rfl rfl)
theorem dX5_both_140 : decode cX5_both 140 = .ok (.iload_n 2, 1) := dk_28 (dk_at dksX5_both_2 20 rfl rfl)
theorem dX5_both_141 : decode cX5_both 141 = .ok (.iconst (-1), 1) := dk_2 (dk_at dksX5_both_2 21 rfl rfl)
theorem dX5_both_142 : decode cX5_both 142 = .ok (.if_icmp .ne 8, 3) := dk_160 0 8 (dk_at dksX5_both_3 0 rfl rfl)
theorem dX5_both_145 : decode cX5_both 145 = .ok (.iload_n 1, 1) := dk_27 (dk_at dksX5_both_3 3 rfl rfl)
theorem dX5_both_146 : decode cX5_both 146 = .ok (.ineg, 1) := dk_116 (dk_at dksX5_both_3 4 rfl rfl)
theorem dX5_both_147 : decode cX5_both 147 = .ok (.goto 6, 3) := dk_167 0 6 (dk_at dksX5_both_3 5 rfl rfl)
theorem dX5_both_150 : decode cX5_both 150 = .ok (.iload_n 1, 1) := dk_27 (dk_at dksX5_both_3 8 rfl rfl)
theorem dX5_both_151 : decode cX5_both 151 = .ok (.iload_n 2, 1) := dk_28 (dk_at dksX5_both_3 9 rfl rfl)
theorem dX5_both_152 : decode cX5_both 152 = .ok (.idiv, 1) := dk_108 (dk_at dksX5_both_3 10 rfl rfl)
theorem dX5_both_153 : decode cX5_both 153 = .ok (.ireturn, 1) := dk_172 (dk_at dksX5_both_3 11 rfl rfl)
theorem dX5_both_154 : decode cX5_both 154 = .ok (.iload_n 2, 1) := dk_28 (dk_at dksX5_both_3 12 rfl rfl)
theorem dX5_both_155 : decode cX5_both 155 = .ok (.ifCond .eq 8, 3) := dk_153 0 8 (dk_at dksX5_both_3 13 rfl rfl)
theorem dX5_both_158 : decode cX5_both 158 = .ok (.iload_n 2, 1) := dk_28 (dk_at dksX5_both_3 16 rfl rfl)
theorem dX5_both_159 : decode cX5_both 159 = .ok (.iconst (-1), 1) := dk_2 (dk_at dksX5_both_3 17 rfl rfl)
theorem dX5_both_160 : decode cX5_both 160 = .ok (.if_icmp .ne 7, 3) := dk_160 0 7 (dk_at dksX5_both_3 18 rfl rfl)
theorem dX5_both_163 : decode cX5_both 163 = .ok (.iconst 0, 1) := dk_3 (dk_at dksX5_both_3 21 rfl rfl)
theorem dX5_both_164 : decode cX5_both 164 = .ok (.goto 6, 3) := dk_167 0 6 (dk_at dksX5_both_4 0 rfl rfl)
theorem dX5_both_167 : decode cX5_both 167 = .ok (.iload_n 1, 1) := dk_27 (dk_at dksX5_both_4 3 rfl rfl)
theorem dX5_both_168 : decode cX5_both 168 = .ok (.iload_n 2, 1) := dk_28 (dk_at dksX5_both_4 4 rfl rfl)
theorem dX5_both_169 : decode cX5_both 169 = .ok (.irem, 1) := dk_112 (dk_at dksX5_both_4 5 rfl rfl)
theorem dX5_both_170 : decode cX5_both 170 = .ok (.ireturn, 1) := dk_172 (dk_at dksX5_both_4 6 rfl rfl)
theorem dX5_both_171 : decode cX5_both 171 = .ok (.iload_n 1, 1) := dk_27 (dk_at dksX5_both_4 7 rfl rfl)
theorem dX5_both_172 : decode cX5_both 172 = .ok (.iload_n 2, 1) := dk_28 (dk_at dksX5_both_4 8 rfl rfl)
theorem dX5_both_173 : decode cX5_both 173 = .ok (.if_icmp .ge 7, 3) := dk_162 0 7 (dk_at dksX5_both_4 9 rfl rfl)
theorem dX5_both_176 : decode cX5_both 176 = .ok (.iconst 1, 1) := dk_4 (dk_at dksX5_both_4 12 rfl rfl)
theorem dX5_both_177 : decode cX5_both 177 = .ok (.goto 4, 3) := dk_167 0 4 (dk_at dksX5_both_4 13 rfl rfl)
theorem dX5_both_180 : decode cX5_both 180 = .ok (.iconst 0, 1) := dk_3 (dk_at dksX5_both_4 16 rfl rfl)
theorem dX5_both_181 : decode cX5_both 181 = .ok (.ireturn, 1) := dk_172 (dk_at dksX5_both_4 17 rfl rfl)
theorem dX5_both_182 : decode cX5_both 182 = .ok (.iload_n 1, 1) := dk_27 (dk_at dksX5_both_4 18 rfl rfl)
theorem dX5_both_183 : decode cX5_both 183 = .ok (.iload_n 2, 1) := dk_28 (dk_at dksX5_both_4 19 rfl rfl)
theorem dX5_both_184 : decode cX5_both 184 = .ok (.if_icmp .ne 7, 3) := dk_160 0 7 (dk_at dksX5_both_4 20 rfl rfl)
theorem dX5_both_187 : decode cX5_both 187 = .ok (.iconst 1, 1) := dk_4 (dk_at dksX5_both_4 23 rfl rfl)
theorem dX5_both_188 : decode cX5_both 188 = .ok (.goto 4, 3) := dk_167 0 4 (dk_at dksX5_both_5 0 rfl rfl)
theorem dX5_both_191 : decode cX5_both 191 = .ok (.iconst 0, 1) := dk_3 (dk_at dksX5_both_5 3 rfl rfl)
theorem dX5_both_192 : decode cX5_both 192 = .ok (.ireturn, 1) := dk_172 (dk_at dksX5_both_5 4 rfl rfl)
theorem dX5_both_193 : decode cX5_both 193 = .ok (.iload_n 1, 1) := dk_27 (dk_at dksX5_both_5 5 rfl rfl)
theorem dX5_both_194 : decode cX5_both 194 = .ok (.iload_n 2, 1) := dk_28 (dk_at dksX5_both_5 6 rfl rfl)
theorem dX5_both_195 : decode cX5_both 195 = .ok (.if_icmp .le 7, 3) := dk_164 0 7 (dk_at dksX5_both_5 7 rfl rfl)
theorem dX5_both_198 : decode cX5_both 198 = .ok (.iconst 1, 1) := dk_4 (dk_at dksX5_both_5 10 rfl rfl)
theorem dX5_both_199 : decode cX5_both 199 = .ok (.goto 4, 3) := dk_167 0 4 (dk_at dksX5_both_5 11 rfl rfl)
theorem dX5_both_202 : decode cX5_both 202 = .ok (.iconst 0, 1) := dk_3 (dk_at dksX5_both_5 14 rfl rfl)
theorem dX5_both_203 : decode cX5_both 203 = .ok (.ireturn, 1) := dk_172 (dk_at dksX5_both_5 15 rfl rfl)
theorem dX5_both_204 : decode cX5_both 204 = .ok (.iload_n 1, 1) := dk_27 (dk_at dksX5_both_5 16 rfl rfl)
theorem dX5_both_205 : decode cX5_both 205 = .ok (.ifCond .eq 11, 3) := dk_153 0 11 (dk_at dksX5_both_5 17 rfl rfl)
theorem dX5_both_208 : decode cX5_both 208 = .ok (.iload_n 2, 1) := dk_28 (dk_at dksX5_both_5 20 rfl rfl)
theorem dX5_both_209 : decode cX5_both 209 = .ok (.ifCond .eq 7, 3) := dk_153 0 7 (dk_at dksX5_both_5 21 rfl rfl)
theorem dX5_both_212 : decode cX5_both 212 = .ok (.iconst 1, 1) := dk_4 (dk_at dksX5_both_6 0 rfl rfl)
theorem dX5_both_213 : decode cX5_both 213 = .ok (.goto 4, 3) := dk_167 0 4 (dk_at dksX5_both_6 1 rfl rfl)
theorem dX5_both_216 : decode cX5_both 216 = .ok (.iconst 0, 1) := dk_3 (dk_at dksX5_both_6 4 rfl rfl)
theorem dX5_both_217 : decode cX5_both 217 = .ok (.ireturn, 1) := dk_172 (dk_at dksX5_both_6 5 rfl rfl)
theorem dX5_both_218 : decode cX5_both 218 = .ok (.iload_n 1, 1) := dk_27 (dk_at dksX5_both_6 6 rfl rfl)
theorem dX5_both_219 : decode cX5_both 219 = .ok (.ifCond .ne 7, 3) := dk_154 0 7 (dk_at dksX5_both_6 7 rfl rfl)
theorem dX5_both_222 : decode cX5_both 222 = .ok (.iload_n 2, 1) := dk_28 (dk_at dksX5_both_6 10 rfl rfl)
theorem dX5_both_223 : decode cX5_both 223 = .ok (.ifCond .eq 7, 3) := dk_153 0 7 (dk_at dksX5_both_6 11 rfl rfl)
theorem dX5_both_226 : decode cX5_both 226 = .ok (.iconst 1, 1) := dk_4 (dk_at dksX5_both_6 14 rfl rfl)
theorem dX5_both_227 : decode cX5_both 227 = .ok (.goto 4, 3) := dk_167 0 4 (dk_at dksX5_both_6 15 rfl rfl)
theorem dX5_both_230 : decode cX5_both 230 = .ok (.iconst 0, 1) := dk_3 (dk_at dksX5_both_6 18 rfl rfl)
theorem dX5_both_231 : decode cX5_both 231 = .ok (.ireturn, 1) := dk_172 (dk_at dksX5_both_6 19 rfl rfl)
abbrev cX5_move : ByteArray := prog_22_method_67_code
def yX5_move : MethodName := ⟨RX5, "move", "(II)I"⟩
def dkwX5_move_2 : List UInt8 := [180, 0, 133, 42, 180, 1, 150, 28, 79, 42, 89, 180, 1, 150, 4, 96, 181, 1, 150, 42, 180, 1, 150, 172]
abbrev dktX5_move_2 : List UInt8 := dkwX5_move_2 ++ []
def dkwX5_move_1 : List UInt8 := [172, 42, 180, 1, 150, 16, 60, 160, 0, 6, 16, 253, 172, 42, 180, 0, 130, 42, 180, 1, 150, 27, 79, 42]
abbrev dktX5_move_1 : List UInt8 := dkwX5_move_1 ++ dktX5_move_2
def dkwX5_move_0 : List UInt8 := [27, 184, 0, 234, 153, 0, 19, 28, 42, 180, 1, 25, 4, 96, 17, 6, 163, 184, 0, 230, 154, 0, 5, 2]
abbrev dktX5_move_0 : List UInt8 := dkwX5_move_0 ++ dktX5_move_1
theorem dksX5_move_0 : cX5_move.data.toList.drop 0 = dktX5_move_0 := by decide +kernel
theorem dksX5_move_1 : cX5_move.data.toList.drop 24 = dktX5_move_1 := dk_seg dksX5_move_0 24 rfl rfl
theorem dksX5_move_2 : cX5_move.data.toList.drop 48 = dktX5_move_2 := dk_seg dksX5_move_1 24 rfl rfl
theorem dX5_move_0 : decode cX5_move 0 = .ok (.iload_n 1, 1) := dk_27 (dk_at dksX5_move_0 0 rfl rfl)
theorem dX5_move_1 : decode cX5_move 1 = .ok (.invokestatic 234, 3) := dk_184 0 234 (dk_at dksX5_move_0 1 rfl rfl)
theorem dX5_move_4 : decode cX5_move 4 = .ok (.ifCond .eq 19, 3) := dk_153 0 19 (dk_at dksX5_move_0 4 rfl rfl)
theorem dX5_move_7 : decode cX5_move 7 = .ok (.iload_n 2, 1) := dk_28 (dk_at dksX5_move_0 7 rfl rfl)
theorem dX5_move_8 : decode cX5_move 8 = .ok (.aload_n 0, 1) := dk_42 (dk_at dksX5_move_0 8 rfl rfl)
theorem dX5_move_9 : decode cX5_move 9 = .ok (.getfield 281, 3) := dk_180 1 25 (dk_at dksX5_move_0 9 rfl rfl)
theorem dX5_move_12 : decode cX5_move 12 = .ok (.iconst 1, 1) := dk_4 (dk_at dksX5_move_0 12 rfl rfl)
theorem dX5_move_13 : decode cX5_move 13 = .ok (.iadd, 1) := dk_96 (dk_at dksX5_move_0 13 rfl rfl)
theorem dX5_move_14 : decode cX5_move 14 = .ok (.sipush 1699, 3) := dk_17 6 163 (dk_at dksX5_move_0 14 rfl rfl)
theorem dX5_move_17 : decode cX5_move 17 = .ok (.invokestatic 230, 3) := dk_184 0 230 (dk_at dksX5_move_0 17 rfl rfl)
theorem dX5_move_20 : decode cX5_move 20 = .ok (.ifCond .ne 5, 3) := dk_154 0 5 (dk_at dksX5_move_0 20 rfl rfl)
theorem dX5_move_23 : decode cX5_move 23 = .ok (.iconst (-1), 1) := dk_2 (dk_at dksX5_move_0 23 rfl rfl)
theorem dX5_move_24 : decode cX5_move 24 = .ok (.ireturn, 1) := dk_172 (dk_at dksX5_move_1 0 rfl rfl)
theorem dX5_move_25 : decode cX5_move 25 = .ok (.aload_n 0, 1) := dk_42 (dk_at dksX5_move_1 1 rfl rfl)
theorem dX5_move_26 : decode cX5_move 26 = .ok (.getfield 406, 3) := dk_180 1 150 (dk_at dksX5_move_1 2 rfl rfl)
theorem dX5_move_29 : decode cX5_move 29 = .ok (.bipush 60, 2) := dk_16 60 (dk_at dksX5_move_1 5 rfl rfl)
theorem dX5_move_31 : decode cX5_move 31 = .ok (.if_icmp .ne 6, 3) := dk_160 0 6 (dk_at dksX5_move_1 7 rfl rfl)
theorem dX5_move_34 : decode cX5_move 34 = .ok (.bipush (-3), 2) := dk_16 253 (dk_at dksX5_move_1 10 rfl rfl)
theorem dX5_move_36 : decode cX5_move 36 = .ok (.ireturn, 1) := dk_172 (dk_at dksX5_move_1 12 rfl rfl)
theorem dX5_move_37 : decode cX5_move 37 = .ok (.aload_n 0, 1) := dk_42 (dk_at dksX5_move_1 13 rfl rfl)
theorem dX5_move_38 : decode cX5_move 38 = .ok (.getfield 130, 3) := dk_180 0 130 (dk_at dksX5_move_1 14 rfl rfl)
theorem dX5_move_41 : decode cX5_move 41 = .ok (.aload_n 0, 1) := dk_42 (dk_at dksX5_move_1 17 rfl rfl)
theorem dX5_move_42 : decode cX5_move 42 = .ok (.getfield 406, 3) := dk_180 1 150 (dk_at dksX5_move_1 18 rfl rfl)
theorem dX5_move_45 : decode cX5_move 45 = .ok (.iload_n 1, 1) := dk_27 (dk_at dksX5_move_1 21 rfl rfl)
theorem dX5_move_46 : decode cX5_move 46 = .ok (.iastore, 1) := dk_79 (dk_at dksX5_move_1 22 rfl rfl)
theorem dX5_move_47 : decode cX5_move 47 = .ok (.aload_n 0, 1) := dk_42 (dk_at dksX5_move_1 23 rfl rfl)
theorem dX5_move_48 : decode cX5_move 48 = .ok (.getfield 133, 3) := dk_180 0 133 (dk_at dksX5_move_2 0 rfl rfl)
theorem dX5_move_51 : decode cX5_move 51 = .ok (.aload_n 0, 1) := dk_42 (dk_at dksX5_move_2 3 rfl rfl)
theorem dX5_move_52 : decode cX5_move 52 = .ok (.getfield 406, 3) := dk_180 1 150 (dk_at dksX5_move_2 4 rfl rfl)
theorem dX5_move_55 : decode cX5_move 55 = .ok (.iload_n 2, 1) := dk_28 (dk_at dksX5_move_2 7 rfl rfl)
theorem dX5_move_56 : decode cX5_move 56 = .ok (.iastore, 1) := dk_79 (dk_at dksX5_move_2 8 rfl rfl)
theorem dX5_move_57 : decode cX5_move 57 = .ok (.aload_n 0, 1) := dk_42 (dk_at dksX5_move_2 9 rfl rfl)
theorem dX5_move_58 : decode cX5_move 58 = .ok (.dup, 1) := dk_89 (dk_at dksX5_move_2 10 rfl rfl)
theorem dX5_move_59 : decode cX5_move 59 = .ok (.getfield 406, 3) := dk_180 1 150 (dk_at dksX5_move_2 11 rfl rfl)
theorem dX5_move_62 : decode cX5_move 62 = .ok (.iconst 1, 1) := dk_4 (dk_at dksX5_move_2 14 rfl rfl)
theorem dX5_move_63 : decode cX5_move 63 = .ok (.iadd, 1) := dk_96 (dk_at dksX5_move_2 15 rfl rfl)
theorem dX5_move_64 : decode cX5_move 64 = .ok (.putfield 406, 3) := dk_181 1 150 (dk_at dksX5_move_2 16 rfl rfl)
theorem dX5_move_67 : decode cX5_move 67 = .ok (.aload_n 0, 1) := dk_42 (dk_at dksX5_move_2 19 rfl rfl)
theorem dX5_move_68 : decode cX5_move 68 = .ok (.getfield 406, 3) := dk_180 1 150 (dk_at dksX5_move_2 20 rfl rfl)
theorem dX5_move_71 : decode cX5_move 71 = .ok (.ireturn, 1) := dk_172 (dk_at dksX5_move_2 23 rfl rfl)
abbrev cX5_spoons : ByteArray := prog_22_method_68_code
def yX5_spoons : MethodName := ⟨RX5, "spoons", "(I)I"⟩
def dkwX5_spoons_1 : List UInt8 := [172]
abbrev dktX5_spoons_1 : List UInt8 := dkwX5_spoons_1 ++ []
def dkwX5_spoons_0 : List UInt8 := [27, 3, 17, 39, 15, 184, 0, 230, 154, 0, 5, 2, 172, 42, 180, 1, 141, 61, 42, 27, 181, 1, 141, 28]
abbrev dktX5_spoons_0 : List UInt8 := dkwX5_spoons_0 ++ dktX5_spoons_1
theorem dksX5_spoons_0 : cX5_spoons.data.toList.drop 0 = dktX5_spoons_0 := by decide +kernel
theorem dksX5_spoons_1 : cX5_spoons.data.toList.drop 24 = dktX5_spoons_1 := dk_seg dksX5_spoons_0 24 rfl rfl
theorem dX5_spoons_0 : decode cX5_spoons 0 = .ok (.iload_n 1, 1) := dk_27 (dk_at dksX5_spoons_0 0 rfl rfl)
theorem dX5_spoons_1 : decode cX5_spoons 1 = .ok (.iconst 0, 1) := dk_3 (dk_at dksX5_spoons_0 1 rfl rfl)
theorem dX5_spoons_2 : decode cX5_spoons 2 = .ok (.sipush 9999, 3) := dk_17 39 15 (dk_at dksX5_spoons_0 2 rfl rfl)
theorem dX5_spoons_5 : decode cX5_spoons 5 = .ok (.invokestatic 230, 3) := dk_184 0 230 (dk_at dksX5_spoons_0 5 rfl rfl)
theorem dX5_spoons_8 : decode cX5_spoons 8 = .ok (.ifCond .ne 5, 3) := dk_154 0 5 (dk_at dksX5_spoons_0 8 rfl rfl)
theorem dX5_spoons_11 : decode cX5_spoons 11 = .ok (.iconst (-1), 1) := dk_2 (dk_at dksX5_spoons_0 11 rfl rfl)
theorem dX5_spoons_12 : decode cX5_spoons 12 = .ok (.ireturn, 1) := dk_172 (dk_at dksX5_spoons_0 12 rfl rfl)
theorem dX5_spoons_13 : decode cX5_spoons 13 = .ok (.aload_n 0, 1) := dk_42 (dk_at dksX5_spoons_0 13 rfl rfl)
theorem dX5_spoons_14 : decode cX5_spoons 14 = .ok (.getfield 397, 3) := dk_180 1 141 (dk_at dksX5_spoons_0 14 rfl rfl)
theorem dX5_spoons_17 : decode cX5_spoons 17 = .ok (.istore_n 2, 1) := dk_61 (dk_at dksX5_spoons_0 17 rfl rfl)
theorem dX5_spoons_18 : decode cX5_spoons 18 = .ok (.aload_n 0, 1) := dk_42 (dk_at dksX5_spoons_0 18 rfl rfl)
theorem dX5_spoons_19 : decode cX5_spoons 19 = .ok (.iload_n 1, 1) := dk_27 (dk_at dksX5_spoons_0 19 rfl rfl)
theorem dX5_spoons_20 : decode cX5_spoons 20 = .ok (.putfield 397, 3) := dk_181 1 141 (dk_at dksX5_spoons_0 20 rfl rfl)
theorem dX5_spoons_23 : decode cX5_spoons 23 = .ok (.iload_n 2, 1) := dk_28 (dk_at dksX5_spoons_0 23 rfl rfl)
theorem dX5_spoons_24 : decode cX5_spoons 24 = .ok (.ireturn, 1) := dk_172 (dk_at dksX5_spoons_1 0 rfl rfl)
abbrev cX5_hours : ByteArray := prog_22_method_71_code
def yX5_hours : MethodName := ⟨RX5, "hours", "(I)I"⟩
def dkwX5_hours_7 : List UInt8 := [181, 1, 15, 132, 3, 1, 167, 255, 150, 132, 2, 1, 167, 255, 105, 42, 180, 1, 25, 172]
abbrev dktX5_hours_7 : List UInt8 := dkwX5_hours_7 ++ []
def dkwX5_hours_6 : List UInt8 := [180, 0, 130, 29, 46, 16, 100, 108, 42, 180, 1, 2, 42, 180, 1, 5, 184, 0, 230, 153, 0, 8, 42, 4]
abbrev dktX5_hours_6 : List UInt8 := dkwX5_hours_6 ++ dktX5_hours_7
def dkwX5_hours_5 : List UInt8 := [180, 0, 65, 155, 0, 47, 42, 180, 0, 130, 29, 46, 16, 100, 112, 42, 180, 1, 8, 160, 0, 31, 42]
abbrev dktX5_hours_5 : List UInt8 := dkwX5_hours_5 ++ dktX5_hours_6
def dkwX5_hours_4 : List UInt8 := [46, 184, 0, 238, 54, 4, 42, 180, 0, 13, 21, 4, 3, 84, 42, 180, 0, 7, 21, 4, 16, 6, 79, 42]
abbrev dktX5_hours_4 : List UInt8 := dkwX5_hours_4 ++ dktX5_hours_5
def dkwX5_hours_3 : List UInt8 := [162, 0, 104, 42, 180, 0, 133, 29, 46, 42, 180, 1, 25, 159, 0, 6, 167, 0, 82, 42, 180, 0, 130, 29]
abbrev dktX5_hours_3 : List UInt8 := dkwX5_hours_3 ++ dktX5_hours_4
def dkwX5_hours_2 : List UInt8 := [182, 1, 162, 42, 180, 1, 25, 16, 24, 112, 154, 0, 7, 42, 182, 1, 165, 3, 62, 29, 42, 180, 1, 150]
abbrev dktX5_hours_2 : List UInt8 := dkwX5_hours_2 ++ dktX5_hours_3
def dkwX5_hours_1 : List UInt8 := [3, 61, 28, 27, 162, 0, 152, 42, 89, 180, 1, 25, 4, 96, 181, 1, 25, 42, 182, 1, 159, 42]
abbrev dktX5_hours_1 : List UInt8 := dkwX5_hours_1 ++ dktX5_hours_2
def dkwX5_hours_0 : List UInt8 := [27, 4, 16, 48, 184, 0, 230, 153, 0, 15, 42, 180, 1, 25, 27, 96, 17, 6, 163, 164, 0, 5, 2, 172]
abbrev dktX5_hours_0 : List UInt8 := dkwX5_hours_0 ++ dktX5_hours_1
theorem dksX5_hours_0 : cX5_hours.data.toList.drop 0 = dktX5_hours_0 := by decide +kernel
theorem dksX5_hours_1 : cX5_hours.data.toList.drop 24 = dktX5_hours_1 := dk_seg dksX5_hours_0 24 rfl rfl
theorem dksX5_hours_2 : cX5_hours.data.toList.drop 46 = dktX5_hours_2 := dk_seg dksX5_hours_1 22 rfl rfl
theorem dksX5_hours_3 : cX5_hours.data.toList.drop 70 = dktX5_hours_3 := dk_seg dksX5_hours_2 24 rfl rfl
theorem dksX5_hours_4 : cX5_hours.data.toList.drop 94 = dktX5_hours_4 := dk_seg dksX5_hours_3 24 rfl rfl
theorem dksX5_hours_5 : cX5_hours.data.toList.drop 118 = dktX5_hours_5 := dk_seg dksX5_hours_4 24 rfl rfl
theorem dksX5_hours_6 : cX5_hours.data.toList.drop 141 = dktX5_hours_6 := dk_seg dksX5_hours_5 23 rfl rfl
theorem dksX5_hours_7 : cX5_hours.data.toList.drop 165 = dktX5_hours_7 := dk_seg dksX5_hours_6 24 rfl rfl
theorem dX5_hours_0 : decode cX5_hours 0 = .ok (.iload_n 1, 1) := dk_27 (dk_at dksX5_hours_0 0 rfl rfl)
theorem dX5_hours_1 : decode cX5_hours 1 = .ok (.iconst 1, 1) := dk_4 (dk_at dksX5_hours_0 1 rfl rfl)
theorem dX5_hours_2 : decode cX5_hours 2 = .ok (.bipush 48, 2) := dk_16 48 (dk_at dksX5_hours_0 2 rfl rfl)
theorem dX5_hours_4 : decode cX5_hours 4 = .ok (.invokestatic 230, 3) := dk_184 0 230 (dk_at dksX5_hours_0 4 rfl rfl)
theorem dX5_hours_7 : decode cX5_hours 7 = .ok (.ifCond .eq 15, 3) := dk_153 0 15 (dk_at dksX5_hours_0 7 rfl rfl)
theorem dX5_hours_10 : decode cX5_hours 10 = .ok (.aload_n 0, 1) := dk_42 (dk_at dksX5_hours_0 10 rfl rfl)
theorem dX5_hours_11 : decode cX5_hours 11 = .ok (.getfield 281, 3) := dk_180 1 25 (dk_at dksX5_hours_0 11 rfl rfl)
theorem dX5_hours_14 : decode cX5_hours 14 = .ok (.iload_n 1, 1) := dk_27 (dk_at dksX5_hours_0 14 rfl rfl)
theorem dX5_hours_15 : decode cX5_hours 15 = .ok (.iadd, 1) := dk_96 (dk_at dksX5_hours_0 15 rfl rfl)
theorem dX5_hours_16 : decode cX5_hours 16 = .ok (.sipush 1699, 3) := dk_17 6 163 (dk_at dksX5_hours_0 16 rfl rfl)
theorem dX5_hours_19 : decode cX5_hours 19 = .ok (.if_icmp .le 5, 3) := dk_164 0 5 (dk_at dksX5_hours_0 19 rfl rfl)
theorem dX5_hours_22 : decode cX5_hours 22 = .ok (.iconst (-1), 1) := dk_2 (dk_at dksX5_hours_0 22 rfl rfl)
theorem dX5_hours_23 : decode cX5_hours 23 = .ok (.ireturn, 1) := dk_172 (dk_at dksX5_hours_0 23 rfl rfl)
theorem dX5_hours_24 : decode cX5_hours 24 = .ok (.iconst 0, 1) := dk_3 (dk_at dksX5_hours_1 0 rfl rfl)
theorem dX5_hours_25 : decode cX5_hours 25 = .ok (.istore_n 2, 1) := dk_61 (dk_at dksX5_hours_1 1 rfl rfl)
theorem dX5_hours_26 : decode cX5_hours 26 = .ok (.iload_n 2, 1) := dk_28 (dk_at dksX5_hours_1 2 rfl rfl)
theorem dX5_hours_27 : decode cX5_hours 27 = .ok (.iload_n 1, 1) := dk_27 (dk_at dksX5_hours_1 3 rfl rfl)
theorem dX5_hours_28 : decode cX5_hours 28 = .ok (.if_icmp .ge 152, 3) := dk_162 0 152 (dk_at dksX5_hours_1 4 rfl rfl)
theorem dX5_hours_31 : decode cX5_hours 31 = .ok (.aload_n 0, 1) := dk_42 (dk_at dksX5_hours_1 7 rfl rfl)
theorem dX5_hours_32 : decode cX5_hours 32 = .ok (.dup, 1) := dk_89 (dk_at dksX5_hours_1 8 rfl rfl)
theorem dX5_hours_33 : decode cX5_hours 33 = .ok (.getfield 281, 3) := dk_180 1 25 (dk_at dksX5_hours_1 9 rfl rfl)
theorem dX5_hours_36 : decode cX5_hours 36 = .ok (.iconst 1, 1) := dk_4 (dk_at dksX5_hours_1 12 rfl rfl)
theorem dX5_hours_37 : decode cX5_hours 37 = .ok (.iadd, 1) := dk_96 (dk_at dksX5_hours_1 13 rfl rfl)
theorem dX5_hours_38 : decode cX5_hours 38 = .ok (.putfield 281, 3) := dk_181 1 25 (dk_at dksX5_hours_1 14 rfl rfl)
theorem dX5_hours_41 : decode cX5_hours 41 = .ok (.aload_n 0, 1) := dk_42 (dk_at dksX5_hours_1 17 rfl rfl)
theorem dX5_hours_42 : decode cX5_hours 42 = .ok (.invokevirtual 415, 3) := dk_182 1 159 (dk_at dksX5_hours_1 18 rfl rfl)
theorem dX5_hours_45 : decode cX5_hours 45 = .ok (.aload_n 0, 1) := dk_42 (dk_at dksX5_hours_1 21 rfl rfl)
theorem dX5_hours_46 : decode cX5_hours 46 = .ok (.invokevirtual 418, 3) := dk_182 1 162 (dk_at dksX5_hours_2 0 rfl rfl)
theorem dX5_hours_49 : decode cX5_hours 49 = .ok (.aload_n 0, 1) := dk_42 (dk_at dksX5_hours_2 3 rfl rfl)
theorem dX5_hours_50 : decode cX5_hours 50 = .ok (.getfield 281, 3) := dk_180 1 25 (dk_at dksX5_hours_2 4 rfl rfl)
theorem dX5_hours_53 : decode cX5_hours 53 = .ok (.bipush 24, 2) := dk_16 24 (dk_at dksX5_hours_2 7 rfl rfl)
theorem dX5_hours_55 : decode cX5_hours 55 = .ok (.irem, 1) := dk_112 (dk_at dksX5_hours_2 9 rfl rfl)
theorem dX5_hours_56 : decode cX5_hours 56 = .ok (.ifCond .ne 7, 3) := dk_154 0 7 (dk_at dksX5_hours_2 10 rfl rfl)
theorem dX5_hours_59 : decode cX5_hours 59 = .ok (.aload_n 0, 1) := dk_42 (dk_at dksX5_hours_2 13 rfl rfl)
theorem dX5_hours_60 : decode cX5_hours 60 = .ok (.invokevirtual 421, 3) := dk_182 1 165 (dk_at dksX5_hours_2 14 rfl rfl)
theorem dX5_hours_63 : decode cX5_hours 63 = .ok (.iconst 0, 1) := dk_3 (dk_at dksX5_hours_2 17 rfl rfl)
theorem dX5_hours_64 : decode cX5_hours 64 = .ok (.istore_n 3, 1) := dk_62 (dk_at dksX5_hours_2 18 rfl rfl)
theorem dX5_hours_65 : decode cX5_hours 65 = .ok (.iload_n 3, 1) := dk_29 (dk_at dksX5_hours_2 19 rfl rfl)
theorem dX5_hours_66 : decode cX5_hours 66 = .ok (.aload_n 0, 1) := dk_42 (dk_at dksX5_hours_2 20 rfl rfl)
theorem dX5_hours_67 : decode cX5_hours 67 = .ok (.getfield 406, 3) := dk_180 1 150 (dk_at dksX5_hours_2 21 rfl rfl)
theorem dX5_hours_70 : decode cX5_hours 70 = .ok (.if_icmp .ge 104, 3) := dk_162 0 104 (dk_at dksX5_hours_3 0 rfl rfl)
theorem dX5_hours_73 : decode cX5_hours 73 = .ok (.aload_n 0, 1) := dk_42 (dk_at dksX5_hours_3 3 rfl rfl)
theorem dX5_hours_74 : decode cX5_hours 74 = .ok (.getfield 133, 3) := dk_180 0 133 (dk_at dksX5_hours_3 4 rfl rfl)
theorem dX5_hours_77 : decode cX5_hours 77 = .ok (.iload_n 3, 1) := dk_29 (dk_at dksX5_hours_3 7 rfl rfl)
theorem dX5_hours_78 : decode cX5_hours 78 = .ok (.iaload, 1) := dk_46 (dk_at dksX5_hours_3 8 rfl rfl)
theorem dX5_hours_79 : decode cX5_hours 79 = .ok (.aload_n 0, 1) := dk_42 (dk_at dksX5_hours_3 9 rfl rfl)
theorem dX5_hours_80 : decode cX5_hours 80 = .ok (.getfield 281, 3) := dk_180 1 25 (dk_at dksX5_hours_3 10 rfl rfl)
theorem dX5_hours_83 : decode cX5_hours 83 = .ok (.if_icmp .eq 6, 3) := dk_159 0 6 (dk_at dksX5_hours_3 13 rfl rfl)
theorem dX5_hours_86 : decode cX5_hours 86 = .ok (.goto 82, 3) := dk_167 0 82 (dk_at dksX5_hours_3 16 rfl rfl)
theorem dX5_hours_89 : decode cX5_hours 89 = .ok (.aload_n 0, 1) := dk_42 (dk_at dksX5_hours_3 19 rfl rfl)
theorem dX5_hours_90 : decode cX5_hours 90 = .ok (.getfield 130, 3) := dk_180 0 130 (dk_at dksX5_hours_3 20 rfl rfl)
theorem dX5_hours_93 : decode cX5_hours 93 = .ok (.iload_n 3, 1) := dk_29 (dk_at dksX5_hours_3 23 rfl rfl)
theorem dX5_hours_94 : decode cX5_hours 94 = .ok (.iaload, 1) := dk_46 (dk_at dksX5_hours_4 0 rfl rfl)
theorem dX5_hours_95 : decode cX5_hours 95 = .ok (.invokestatic 238, 3) := dk_184 0 238 (dk_at dksX5_hours_4 1 rfl rfl)
theorem dX5_hours_98 : decode cX5_hours 98 = .ok (.istore 4, 2) := dk_54 4 (dk_at dksX5_hours_4 4 rfl rfl)
theorem dX5_hours_100 : decode cX5_hours 100 = .ok (.aload_n 0, 1) := dk_42 (dk_at dksX5_hours_4 6 rfl rfl)
theorem dX5_hours_101 : decode cX5_hours 101 = .ok (.getfield 13, 3) := dk_180 0 13 (dk_at dksX5_hours_4 7 rfl rfl)
theorem dX5_hours_104 : decode cX5_hours 104 = .ok (.iload 4, 2) := dk_21 4 (dk_at dksX5_hours_4 10 rfl rfl)
theorem dX5_hours_106 : decode cX5_hours 106 = .ok (.iconst 0, 1) := dk_3 (dk_at dksX5_hours_4 12 rfl rfl)
theorem dX5_hours_107 : decode cX5_hours 107 = .ok (.bastore, 1) := dk_84 (dk_at dksX5_hours_4 13 rfl rfl)
theorem dX5_hours_108 : decode cX5_hours 108 = .ok (.aload_n 0, 1) := dk_42 (dk_at dksX5_hours_4 14 rfl rfl)
theorem dX5_hours_109 : decode cX5_hours 109 = .ok (.getfield 7, 3) := dk_180 0 7 (dk_at dksX5_hours_4 15 rfl rfl)
theorem dX5_hours_112 : decode cX5_hours 112 = .ok (.iload 4, 2) := dk_21 4 (dk_at dksX5_hours_4 18 rfl rfl)
theorem dX5_hours_114 : decode cX5_hours 114 = .ok (.bipush 6, 2) := dk_16 6 (dk_at dksX5_hours_4 20 rfl rfl)
theorem dX5_hours_116 : decode cX5_hours 116 = .ok (.iastore, 1) := dk_79 (dk_at dksX5_hours_4 22 rfl rfl)
theorem dX5_hours_117 : decode cX5_hours 117 = .ok (.aload_n 0, 1) := dk_42 (dk_at dksX5_hours_4 23 rfl rfl)
theorem dX5_hours_118 : decode cX5_hours 118 = .ok (.getfield 65, 3) := dk_180 0 65 (dk_at dksX5_hours_5 0 rfl rfl)
theorem dX5_hours_121 : decode cX5_hours 121 = .ok (.ifCond .lt 47, 3) := dk_155 0 47 (dk_at dksX5_hours_5 3 rfl rfl)
theorem dX5_hours_124 : decode cX5_hours 124 = .ok (.aload_n 0, 1) := dk_42 (dk_at dksX5_hours_5 6 rfl rfl)
theorem dX5_hours_125 : decode cX5_hours 125 = .ok (.getfield 130, 3) := dk_180 0 130 (dk_at dksX5_hours_5 7 rfl rfl)
theorem dX5_hours_128 : decode cX5_hours 128 = .ok (.iload_n 3, 1) := dk_29 (dk_at dksX5_hours_5 10 rfl rfl)
theorem dX5_hours_129 : decode cX5_hours 129 = .ok (.iaload, 1) := dk_46 (dk_at dksX5_hours_5 11 rfl rfl)
theorem dX5_hours_130 : decode cX5_hours 130 = .ok (.bipush 100, 2) := dk_16 100 (dk_at dksX5_hours_5 12 rfl rfl)
theorem dX5_hours_132 : decode cX5_hours 132 = .ok (.irem, 1) := dk_112 (dk_at dksX5_hours_5 14 rfl rfl)
theorem dX5_hours_133 : decode cX5_hours 133 = .ok (.aload_n 0, 1) := dk_42 (dk_at dksX5_hours_5 15 rfl rfl)
theorem dX5_hours_134 : decode cX5_hours 134 = .ok (.getfield 264, 3) := dk_180 1 8 (dk_at dksX5_hours_5 16 rfl rfl)
theorem dX5_hours_137 : decode cX5_hours 137 = .ok (.if_icmp .ne 31, 3) := dk_160 0 31 (dk_at dksX5_hours_5 19 rfl rfl)
theorem dX5_hours_140 : decode cX5_hours 140 = .ok (.aload_n 0, 1) := dk_42 (dk_at dksX5_hours_5 22 rfl rfl)
theorem dX5_hours_141 : decode cX5_hours 141 = .ok (.getfield 130, 3) := dk_180 0 130 (dk_at dksX5_hours_6 0 rfl rfl)
theorem dX5_hours_144 : decode cX5_hours 144 = .ok (.iload_n 3, 1) := dk_29 (dk_at dksX5_hours_6 3 rfl rfl)
theorem dX5_hours_145 : decode cX5_hours 145 = .ok (.iaload, 1) := dk_46 (dk_at dksX5_hours_6 4 rfl rfl)
theorem dX5_hours_146 : decode cX5_hours 146 = .ok (.bipush 100, 2) := dk_16 100 (dk_at dksX5_hours_6 5 rfl rfl)
theorem dX5_hours_148 : decode cX5_hours 148 = .ok (.idiv, 1) := dk_108 (dk_at dksX5_hours_6 7 rfl rfl)
theorem dX5_hours_149 : decode cX5_hours 149 = .ok (.aload_n 0, 1) := dk_42 (dk_at dksX5_hours_6 8 rfl rfl)
theorem dX5_hours_150 : decode cX5_hours 150 = .ok (.getfield 258, 3) := dk_180 1 2 (dk_at dksX5_hours_6 9 rfl rfl)
theorem dX5_hours_153 : decode cX5_hours 153 = .ok (.aload_n 0, 1) := dk_42 (dk_at dksX5_hours_6 12 rfl rfl)
theorem dX5_hours_154 : decode cX5_hours 154 = .ok (.getfield 261, 3) := dk_180 1 5 (dk_at dksX5_hours_6 13 rfl rfl)
theorem dX5_hours_157 : decode cX5_hours 157 = .ok (.invokestatic 230, 3) := dk_184 0 230 (dk_at dksX5_hours_6 16 rfl rfl)
theorem dX5_hours_160 : decode cX5_hours 160 = .ok (.ifCond .eq 8, 3) := dk_153 0 8 (dk_at dksX5_hours_6 19 rfl rfl)
theorem dX5_hours_163 : decode cX5_hours 163 = .ok (.aload_n 0, 1) := dk_42 (dk_at dksX5_hours_6 22 rfl rfl)
theorem dX5_hours_164 : decode cX5_hours 164 = .ok (.iconst 1, 1) := dk_4 (dk_at dksX5_hours_6 23 rfl rfl)
theorem dX5_hours_165 : decode cX5_hours 165 = .ok (.putfield 271, 3) := dk_181 1 15 (dk_at dksX5_hours_7 0 rfl rfl)
theorem dX5_hours_168 : decode cX5_hours 168 = .ok (.iinc 3 1, 3) := dk_132 3 1 (dk_at dksX5_hours_7 3 rfl rfl)
theorem dX5_hours_171 : decode cX5_hours 171 = .ok (.goto (-106), 3) := dk_167 255 150 (dk_at dksX5_hours_7 6 rfl rfl)
theorem dX5_hours_174 : decode cX5_hours 174 = .ok (.iinc 2 1, 3) := dk_132 2 1 (dk_at dksX5_hours_7 9 rfl rfl)
theorem dX5_hours_177 : decode cX5_hours 177 = .ok (.goto (-151), 3) := dk_167 255 105 (dk_at dksX5_hours_7 12 rfl rfl)
theorem dX5_hours_180 : decode cX5_hours 180 = .ok (.aload_n 0, 1) := dk_42 (dk_at dksX5_hours_7 15 rfl rfl)
theorem dX5_hours_181 : decode cX5_hours 181 = .ok (.getfield 281, 3) := dk_180 1 25 (dk_at dksX5_hours_7 16 rfl rfl)
theorem dX5_hours_184 : decode cX5_hours 184 = .ok (.ireturn, 1) := dk_172 (dk_at dksX5_hours_7 19 rfl rfl)
abbrev cX5_drill : ByteArray := prog_22_method_69_code
def yX5_drill : MethodName := ⟨RX5, "drill", "()V"⟩
def dkwX5_drill_6 : List UInt8 := [46, 182, 1, 153, 132, 1, 1, 167, 255, 225, 177]
abbrev dktX5_drill_6 : List UInt8 := dkwX5_drill_6 ++ []
def dkwX5_drill_5 : List UInt8 := [27, 42, 180, 0, 242, 162, 0, 29, 42, 180, 0, 136, 27, 51, 153, 0, 14, 42, 27, 42, 180, 0, 139, 27]
abbrev dktX5_drill_5 : List UInt8 := dkwX5_drill_5 ++ dktX5_drill_6
def dkwX5_drill_4 : List UInt8 := [180, 0, 139, 42, 180, 0, 72, 27, 46, 42, 180, 0, 69, 27, 46, 79, 132, 1, 1, 167, 255, 178, 3, 60]
abbrev dktX5_drill_4 : List UInt8 := dkwX5_drill_4 ++ dktX5_drill_5
def dkwX5_drill_3 : List UInt8 := [180, 0, 72, 27, 46, 92, 46, 16, 60, 96, 79, 42, 180, 0, 136, 42, 180, 0, 72, 27, 46, 4, 84, 42]
abbrev dktX5_drill_3 : List UInt8 := dkwX5_drill_3 ++ dktX5_drill_4
def dkwX5_drill_2 : List UInt8 := [155, 0, 64, 42, 180, 1, 25, 42, 180, 0, 75, 27, 46, 163, 0, 6, 167, 0, 48, 42, 180, 0, 35, 42]
abbrev dktX5_drill_2 : List UInt8 := dkwX5_drill_2 ++ dktX5_drill_3
def dkwX5_drill_1 : List UInt8 := [5, 2, 3, 182, 1, 147, 153, 0, 4, 177, 3, 60, 27, 6, 162, 0, 79, 42, 180, 0, 72, 27, 46]
abbrev dktX5_drill_1 : List UInt8 := dkwX5_drill_1 ++ dktX5_drill_2
def dkwX5_drill_0 : List UInt8 := [3, 60, 27, 42, 180, 0, 242, 162, 0, 16, 42, 180, 0, 136, 27, 3, 84, 132, 1, 1, 167, 255, 238, 42]
abbrev dktX5_drill_0 : List UInt8 := dkwX5_drill_0 ++ dktX5_drill_1
theorem dksX5_drill_0 : cX5_drill.data.toList.drop 0 = dktX5_drill_0 := by decide +kernel
theorem dksX5_drill_1 : cX5_drill.data.toList.drop 24 = dktX5_drill_1 := dk_seg dksX5_drill_0 24 rfl rfl
theorem dksX5_drill_2 : cX5_drill.data.toList.drop 47 = dktX5_drill_2 := dk_seg dksX5_drill_1 23 rfl rfl
theorem dksX5_drill_3 : cX5_drill.data.toList.drop 71 = dktX5_drill_3 := dk_seg dksX5_drill_2 24 rfl rfl
theorem dksX5_drill_4 : cX5_drill.data.toList.drop 95 = dktX5_drill_4 := dk_seg dksX5_drill_3 24 rfl rfl
theorem dksX5_drill_5 : cX5_drill.data.toList.drop 119 = dktX5_drill_5 := dk_seg dksX5_drill_4 24 rfl rfl
theorem dksX5_drill_6 : cX5_drill.data.toList.drop 143 = dktX5_drill_6 := dk_seg dksX5_drill_5 24 rfl rfl
theorem dX5_drill_0 : decode cX5_drill 0 = .ok (.iconst 0, 1) := dk_3 (dk_at dksX5_drill_0 0 rfl rfl)
theorem dX5_drill_1 : decode cX5_drill 1 = .ok (.istore_n 1, 1) := dk_60 (dk_at dksX5_drill_0 1 rfl rfl)
theorem dX5_drill_2 : decode cX5_drill 2 = .ok (.iload_n 1, 1) := dk_27 (dk_at dksX5_drill_0 2 rfl rfl)
theorem dX5_drill_3 : decode cX5_drill 3 = .ok (.aload_n 0, 1) := dk_42 (dk_at dksX5_drill_0 3 rfl rfl)
theorem dX5_drill_4 : decode cX5_drill 4 = .ok (.getfield 242, 3) := dk_180 0 242 (dk_at dksX5_drill_0 4 rfl rfl)
theorem dX5_drill_7 : decode cX5_drill 7 = .ok (.if_icmp .ge 16, 3) := dk_162 0 16 (dk_at dksX5_drill_0 7 rfl rfl)
theorem dX5_drill_10 : decode cX5_drill 10 = .ok (.aload_n 0, 1) := dk_42 (dk_at dksX5_drill_0 10 rfl rfl)
theorem dX5_drill_11 : decode cX5_drill 11 = .ok (.getfield 136, 3) := dk_180 0 136 (dk_at dksX5_drill_0 11 rfl rfl)
theorem dX5_drill_14 : decode cX5_drill 14 = .ok (.iload_n 1, 1) := dk_27 (dk_at dksX5_drill_0 14 rfl rfl)
theorem dX5_drill_15 : decode cX5_drill 15 = .ok (.iconst 0, 1) := dk_3 (dk_at dksX5_drill_0 15 rfl rfl)
theorem dX5_drill_16 : decode cX5_drill 16 = .ok (.bastore, 1) := dk_84 (dk_at dksX5_drill_0 16 rfl rfl)
theorem dX5_drill_17 : decode cX5_drill 17 = .ok (.iinc 1 1, 3) := dk_132 1 1 (dk_at dksX5_drill_0 17 rfl rfl)
theorem dX5_drill_20 : decode cX5_drill 20 = .ok (.goto (-18), 3) := dk_167 255 238 (dk_at dksX5_drill_0 20 rfl rfl)
theorem dX5_drill_23 : decode cX5_drill 23 = .ok (.aload_n 0, 1) := dk_42 (dk_at dksX5_drill_0 23 rfl rfl)
theorem dX5_drill_24 : decode cX5_drill 24 = .ok (.iconst 2, 1) := dk_5 (dk_at dksX5_drill_1 0 rfl rfl)
theorem dX5_drill_25 : decode cX5_drill 25 = .ok (.iconst (-1), 1) := dk_2 (dk_at dksX5_drill_1 1 rfl rfl)
theorem dX5_drill_26 : decode cX5_drill 26 = .ok (.iconst 0, 1) := dk_3 (dk_at dksX5_drill_1 2 rfl rfl)
theorem dX5_drill_27 : decode cX5_drill 27 = .ok (.invokevirtual 403, 3) := dk_182 1 147 (dk_at dksX5_drill_1 3 rfl rfl)
theorem dX5_drill_30 : decode cX5_drill 30 = .ok (.ifCond .eq 4, 3) := dk_153 0 4 (dk_at dksX5_drill_1 6 rfl rfl)
theorem dX5_drill_33 : decode cX5_drill 33 = .ok (.return_, 1) := dk_177 (dk_at dksX5_drill_1 9 rfl rfl)
theorem dX5_drill_34 : decode cX5_drill 34 = .ok (.iconst 0, 1) := dk_3 (dk_at dksX5_drill_1 10 rfl rfl)
theorem dX5_drill_35 : decode cX5_drill 35 = .ok (.istore_n 1, 1) := dk_60 (dk_at dksX5_drill_1 11 rfl rfl)
theorem dX5_drill_36 : decode cX5_drill 36 = .ok (.iload_n 1, 1) := dk_27 (dk_at dksX5_drill_1 12 rfl rfl)
theorem dX5_drill_37 : decode cX5_drill 37 = .ok (.iconst 3, 1) := dk_6 (dk_at dksX5_drill_1 13 rfl rfl)
theorem dX5_drill_38 : decode cX5_drill 38 = .ok (.if_icmp .ge 79, 3) := dk_162 0 79 (dk_at dksX5_drill_1 14 rfl rfl)
theorem dX5_drill_41 : decode cX5_drill 41 = .ok (.aload_n 0, 1) := dk_42 (dk_at dksX5_drill_1 17 rfl rfl)
theorem dX5_drill_42 : decode cX5_drill 42 = .ok (.getfield 72, 3) := dk_180 0 72 (dk_at dksX5_drill_1 18 rfl rfl)
theorem dX5_drill_45 : decode cX5_drill 45 = .ok (.iload_n 1, 1) := dk_27 (dk_at dksX5_drill_1 21 rfl rfl)
theorem dX5_drill_46 : decode cX5_drill 46 = .ok (.iaload, 1) := dk_46 (dk_at dksX5_drill_1 22 rfl rfl)
theorem dX5_drill_47 : decode cX5_drill 47 = .ok (.ifCond .lt 64, 3) := dk_155 0 64 (dk_at dksX5_drill_2 0 rfl rfl)
theorem dX5_drill_50 : decode cX5_drill 50 = .ok (.aload_n 0, 1) := dk_42 (dk_at dksX5_drill_2 3 rfl rfl)
theorem dX5_drill_51 : decode cX5_drill 51 = .ok (.getfield 281, 3) := dk_180 1 25 (dk_at dksX5_drill_2 4 rfl rfl)
theorem dX5_drill_54 : decode cX5_drill 54 = .ok (.aload_n 0, 1) := dk_42 (dk_at dksX5_drill_2 7 rfl rfl)
theorem dX5_drill_55 : decode cX5_drill 55 = .ok (.getfield 75, 3) := dk_180 0 75 (dk_at dksX5_drill_2 8 rfl rfl)
theorem dX5_drill_58 : decode cX5_drill 58 = .ok (.iload_n 1, 1) := dk_27 (dk_at dksX5_drill_2 11 rfl rfl)
theorem dX5_drill_59 : decode cX5_drill 59 = .ok (.iaload, 1) := dk_46 (dk_at dksX5_drill_2 12 rfl rfl)
theorem dX5_drill_60 : decode cX5_drill 60 = .ok (.if_icmp .gt 6, 3) := dk_163 0 6 (dk_at dksX5_drill_2 13 rfl rfl)
theorem dX5_drill_63 : decode cX5_drill 63 = .ok (.goto 48, 3) := dk_167 0 48 (dk_at dksX5_drill_2 16 rfl rfl)
theorem dX5_drill_66 : decode cX5_drill 66 = .ok (.aload_n 0, 1) := dk_42 (dk_at dksX5_drill_2 19 rfl rfl)
theorem dX5_drill_67 : decode cX5_drill 67 = .ok (.getfield 35, 3) := dk_180 0 35 (dk_at dksX5_drill_2 20 rfl rfl)
theorem dX5_drill_70 : decode cX5_drill 70 = .ok (.aload_n 0, 1) := dk_42 (dk_at dksX5_drill_2 23 rfl rfl)
theorem dX5_drill_71 : decode cX5_drill 71 = .ok (.getfield 72, 3) := dk_180 0 72 (dk_at dksX5_drill_3 0 rfl rfl)
theorem dX5_drill_74 : decode cX5_drill 74 = .ok (.iload_n 1, 1) := dk_27 (dk_at dksX5_drill_3 3 rfl rfl)
theorem dX5_drill_75 : decode cX5_drill 75 = .ok (.iaload, 1) := dk_46 (dk_at dksX5_drill_3 4 rfl rfl)
theorem dX5_drill_76 : decode cX5_drill 76 = .ok (.dup2, 1) := dk_92 (dk_at dksX5_drill_3 5 rfl rfl)
theorem dX5_drill_77 : decode cX5_drill 77 = .ok (.iaload, 1) := dk_46 (dk_at dksX5_drill_3 6 rfl rfl)
theorem dX5_drill_78 : decode cX5_drill 78 = .ok (.bipush 60, 2) := dk_16 60 (dk_at dksX5_drill_3 7 rfl rfl)
theorem dX5_drill_80 : decode cX5_drill 80 = .ok (.iadd, 1) := dk_96 (dk_at dksX5_drill_3 9 rfl rfl)
theorem dX5_drill_81 : decode cX5_drill 81 = .ok (.iastore, 1) := dk_79 (dk_at dksX5_drill_3 10 rfl rfl)
theorem dX5_drill_82 : decode cX5_drill 82 = .ok (.aload_n 0, 1) := dk_42 (dk_at dksX5_drill_3 11 rfl rfl)
theorem dX5_drill_83 : decode cX5_drill 83 = .ok (.getfield 136, 3) := dk_180 0 136 (dk_at dksX5_drill_3 12 rfl rfl)
theorem dX5_drill_86 : decode cX5_drill 86 = .ok (.aload_n 0, 1) := dk_42 (dk_at dksX5_drill_3 15 rfl rfl)
theorem dX5_drill_87 : decode cX5_drill 87 = .ok (.getfield 72, 3) := dk_180 0 72 (dk_at dksX5_drill_3 16 rfl rfl)
theorem dX5_drill_90 : decode cX5_drill 90 = .ok (.iload_n 1, 1) := dk_27 (dk_at dksX5_drill_3 19 rfl rfl)
theorem dX5_drill_91 : decode cX5_drill 91 = .ok (.iaload, 1) := dk_46 (dk_at dksX5_drill_3 20 rfl rfl)
theorem dX5_drill_92 : decode cX5_drill 92 = .ok (.iconst 1, 1) := dk_4 (dk_at dksX5_drill_3 21 rfl rfl)
theorem dX5_drill_93 : decode cX5_drill 93 = .ok (.bastore, 1) := dk_84 (dk_at dksX5_drill_3 22 rfl rfl)
theorem dX5_drill_94 : decode cX5_drill 94 = .ok (.aload_n 0, 1) := dk_42 (dk_at dksX5_drill_3 23 rfl rfl)
theorem dX5_drill_95 : decode cX5_drill 95 = .ok (.getfield 139, 3) := dk_180 0 139 (dk_at dksX5_drill_4 0 rfl rfl)
theorem dX5_drill_98 : decode cX5_drill 98 = .ok (.aload_n 0, 1) := dk_42 (dk_at dksX5_drill_4 3 rfl rfl)
theorem dX5_drill_99 : decode cX5_drill 99 = .ok (.getfield 72, 3) := dk_180 0 72 (dk_at dksX5_drill_4 4 rfl rfl)
theorem dX5_drill_102 : decode cX5_drill 102 = .ok (.iload_n 1, 1) := dk_27 (dk_at dksX5_drill_4 7 rfl rfl)
theorem dX5_drill_103 : decode cX5_drill 103 = .ok (.iaload, 1) := dk_46 (dk_at dksX5_drill_4 8 rfl rfl)
theorem dX5_drill_104 : decode cX5_drill 104 = .ok (.aload_n 0, 1) := dk_42 (dk_at dksX5_drill_4 9 rfl rfl)
theorem dX5_drill_105 : decode cX5_drill 105 = .ok (.getfield 69, 3) := dk_180 0 69 (dk_at dksX5_drill_4 10 rfl rfl)
theorem dX5_drill_108 : decode cX5_drill 108 = .ok (.iload_n 1, 1) := dk_27 (dk_at dksX5_drill_4 13 rfl rfl)
theorem dX5_drill_109 : decode cX5_drill 109 = .ok (.iaload, 1) := dk_46 (dk_at dksX5_drill_4 14 rfl rfl)
theorem dX5_drill_110 : decode cX5_drill 110 = .ok (.iastore, 1) := dk_79 (dk_at dksX5_drill_4 15 rfl rfl)
theorem dX5_drill_111 : decode cX5_drill 111 = .ok (.iinc 1 1, 3) := dk_132 1 1 (dk_at dksX5_drill_4 16 rfl rfl)
theorem dX5_drill_114 : decode cX5_drill 114 = .ok (.goto (-78), 3) := dk_167 255 178 (dk_at dksX5_drill_4 19 rfl rfl)
theorem dX5_drill_117 : decode cX5_drill 117 = .ok (.iconst 0, 1) := dk_3 (dk_at dksX5_drill_4 22 rfl rfl)
theorem dX5_drill_118 : decode cX5_drill 118 = .ok (.istore_n 1, 1) := dk_60 (dk_at dksX5_drill_4 23 rfl rfl)
theorem dX5_drill_119 : decode cX5_drill 119 = .ok (.iload_n 1, 1) := dk_27 (dk_at dksX5_drill_5 0 rfl rfl)
theorem dX5_drill_120 : decode cX5_drill 120 = .ok (.aload_n 0, 1) := dk_42 (dk_at dksX5_drill_5 1 rfl rfl)
theorem dX5_drill_121 : decode cX5_drill 121 = .ok (.getfield 242, 3) := dk_180 0 242 (dk_at dksX5_drill_5 2 rfl rfl)
theorem dX5_drill_124 : decode cX5_drill 124 = .ok (.if_icmp .ge 29, 3) := dk_162 0 29 (dk_at dksX5_drill_5 5 rfl rfl)
theorem dX5_drill_127 : decode cX5_drill 127 = .ok (.aload_n 0, 1) := dk_42 (dk_at dksX5_drill_5 8 rfl rfl)
theorem dX5_drill_128 : decode cX5_drill 128 = .ok (.getfield 136, 3) := dk_180 0 136 (dk_at dksX5_drill_5 9 rfl rfl)
theorem dX5_drill_131 : decode cX5_drill 131 = .ok (.iload_n 1, 1) := dk_27 (dk_at dksX5_drill_5 12 rfl rfl)
theorem dX5_drill_132 : decode cX5_drill 132 = .ok (.baload, 1) := dk_51 (dk_at dksX5_drill_5 13 rfl rfl)
theorem dX5_drill_133 : decode cX5_drill 133 = .ok (.ifCond .eq 14, 3) := dk_153 0 14 (dk_at dksX5_drill_5 14 rfl rfl)
theorem dX5_drill_136 : decode cX5_drill 136 = .ok (.aload_n 0, 1) := dk_42 (dk_at dksX5_drill_5 17 rfl rfl)
theorem dX5_drill_137 : decode cX5_drill 137 = .ok (.iload_n 1, 1) := dk_27 (dk_at dksX5_drill_5 18 rfl rfl)
theorem dX5_drill_138 : decode cX5_drill 138 = .ok (.aload_n 0, 1) := dk_42 (dk_at dksX5_drill_5 19 rfl rfl)
theorem dX5_drill_139 : decode cX5_drill 139 = .ok (.getfield 139, 3) := dk_180 0 139 (dk_at dksX5_drill_5 20 rfl rfl)
theorem dX5_drill_142 : decode cX5_drill 142 = .ok (.iload_n 1, 1) := dk_27 (dk_at dksX5_drill_5 23 rfl rfl)
theorem dX5_drill_143 : decode cX5_drill 143 = .ok (.iaload, 1) := dk_46 (dk_at dksX5_drill_6 0 rfl rfl)
theorem dX5_drill_144 : decode cX5_drill 144 = .ok (.invokevirtual 409, 3) := dk_182 1 153 (dk_at dksX5_drill_6 1 rfl rfl)
theorem dX5_drill_147 : decode cX5_drill 147 = .ok (.iinc 1 1, 3) := dk_132 1 1 (dk_at dksX5_drill_6 4 rfl rfl)
theorem dX5_drill_150 : decode cX5_drill 150 = .ok (.goto (-31), 3) := dk_167 255 225 (dk_at dksX5_drill_6 7 rfl rfl)
theorem dX5_drill_153 : decode cX5_drill 153 = .ok (.return_, 1) := dk_177 (dk_at dksX5_drill_6 10 rfl rfl)
abbrev cX5_bore : ByteArray := prog_22_method_31_code
def yX5_bore : MethodName := ⟨RX5, "bore", "(II)V"⟩
def dkwX5_bore_9 : List UInt8 := [42, 180, 0, 38, 27, 42, 180, 1, 25, 4, 96, 79, 167, 255, 33, 177]
abbrev dktX5_bore_9 : List UInt8 := dkwX5_bore_9 ++ []
def dkwX5_bore_8 : List UInt8 := [167, 0, 18, 42, 180, 0, 13, 21, 5, 51, 153, 0, 7, 4, 167, 0, 4, 3, 79, 21, 7, 153, 0, 15]
abbrev dktX5_bore_8 : List UInt8 := dkwX5_bore_8 ++ dktX5_bore_9
def dkwX5_bore_7 : List UInt8 := [167, 0, 4, 3, 54, 7, 42, 180, 0, 44, 16, 61, 27, 104, 29, 96, 21, 7, 153, 0, 7, 5]
abbrev dktX5_bore_7 : List UInt8 := dkwX5_bore_7 ++ dktX5_bore_8
def dkwX5_bore_6 : List UInt8 := [180, 1, 8, 160, 0, 23, 21, 4, 42, 180, 1, 2, 42, 180, 1, 5, 184, 0, 230, 153, 0, 7, 4]
abbrev dktX5_bore_6 : List UInt8 := dkwX5_bore_6 ++ dktX5_bore_7
def dkwX5_bore_5 : List UInt8 := [180, 0, 32, 27, 29, 79, 42, 180, 0, 26, 27, 21, 4, 79, 42, 180, 0, 65, 155, 0, 31, 29, 42]
abbrev dktX5_bore_5 : List UInt8 := dkwX5_bore_5 ++ dktX5_bore_6
def dkwX5_bore_4 : List UInt8 := [180, 0, 35, 27, 46, 21, 6, 162, 0, 4, 177, 42, 180, 0, 35, 27, 92, 46, 21, 6, 100, 79, 42]
abbrev dktX5_bore_4 : List UInt8 := dkwX5_bore_4 ++ dktX5_bore_5
def dkwX5_bore_3 : List UInt8 := [21, 5, 51, 153, 0, 7, 3, 167, 0, 14, 28, 6, 42, 180, 0, 7, 21, 5, 46, 96, 104, 54, 6, 42]
abbrev dktX5_bore_3 : List UInt8 := dkwX5_bore_3 ++ dktX5_bore_4
def dkwX5_bore_2 : List UInt8 := [96, 46, 96, 3, 16, 31, 184, 1, 28, 54, 4, 16, 61, 21, 4, 104, 29, 96, 54, 5, 42, 180, 0, 13]
abbrev dktX5_bore_2 : List UInt8 := dkwX5_bore_2 ++ dktX5_bore_3
def dkwX5_bore_1 : List UInt8 := [42, 180, 0, 32, 27, 46, 4, 96, 62, 42, 180, 0, 26, 27, 46, 42, 180, 0, 41, 16, 61, 27, 104, 29]
abbrev dktX5_bore_1 : List UInt8 := dkwX5_bore_1 ++ dktX5_bore_2
def dkwX5_bore_0 : List UInt8 := [42, 180, 0, 32, 27, 46, 42, 180, 0, 29, 27, 46, 162, 0, 214, 42, 180, 0, 38, 27, 46, 154, 0, 205]
abbrev dktX5_bore_0 : List UInt8 := dkwX5_bore_0 ++ dktX5_bore_1
theorem dksX5_bore_0 : cX5_bore.data.toList.drop 0 = dktX5_bore_0 := by decide +kernel
theorem dksX5_bore_1 : cX5_bore.data.toList.drop 24 = dktX5_bore_1 := dk_seg dksX5_bore_0 24 rfl rfl
theorem dksX5_bore_2 : cX5_bore.data.toList.drop 48 = dktX5_bore_2 := dk_seg dksX5_bore_1 24 rfl rfl
theorem dksX5_bore_3 : cX5_bore.data.toList.drop 72 = dktX5_bore_3 := dk_seg dksX5_bore_2 24 rfl rfl
theorem dksX5_bore_4 : cX5_bore.data.toList.drop 96 = dktX5_bore_4 := dk_seg dksX5_bore_3 24 rfl rfl
theorem dksX5_bore_5 : cX5_bore.data.toList.drop 119 = dktX5_bore_5 := dk_seg dksX5_bore_4 23 rfl rfl
theorem dksX5_bore_6 : cX5_bore.data.toList.drop 142 = dktX5_bore_6 := dk_seg dksX5_bore_5 23 rfl rfl
theorem dksX5_bore_7 : cX5_bore.data.toList.drop 165 = dktX5_bore_7 := dk_seg dksX5_bore_6 23 rfl rfl
theorem dksX5_bore_8 : cX5_bore.data.toList.drop 187 = dktX5_bore_8 := dk_seg dksX5_bore_7 22 rfl rfl
theorem dksX5_bore_9 : cX5_bore.data.toList.drop 211 = dktX5_bore_9 := dk_seg dksX5_bore_8 24 rfl rfl
theorem dX5_bore_0 : decode cX5_bore 0 = .ok (.aload_n 0, 1) := dk_42 (dk_at dksX5_bore_0 0 rfl rfl)
theorem dX5_bore_1 : decode cX5_bore 1 = .ok (.getfield 32, 3) := dk_180 0 32 (dk_at dksX5_bore_0 1 rfl rfl)
theorem dX5_bore_4 : decode cX5_bore 4 = .ok (.iload_n 1, 1) := dk_27 (dk_at dksX5_bore_0 4 rfl rfl)
theorem dX5_bore_5 : decode cX5_bore 5 = .ok (.iaload, 1) := dk_46 (dk_at dksX5_bore_0 5 rfl rfl)
theorem dX5_bore_6 : decode cX5_bore 6 = .ok (.aload_n 0, 1) := dk_42 (dk_at dksX5_bore_0 6 rfl rfl)
theorem dX5_bore_7 : decode cX5_bore 7 = .ok (.getfield 29, 3) := dk_180 0 29 (dk_at dksX5_bore_0 7 rfl rfl)
theorem dX5_bore_10 : decode cX5_bore 10 = .ok (.iload_n 1, 1) := dk_27 (dk_at dksX5_bore_0 10 rfl rfl)
theorem dX5_bore_11 : decode cX5_bore 11 = .ok (.iaload, 1) := dk_46 (dk_at dksX5_bore_0 11 rfl rfl)
theorem dX5_bore_12 : decode cX5_bore 12 = .ok (.if_icmp .ge 214, 3) := dk_162 0 214 (dk_at dksX5_bore_0 12 rfl rfl)
theorem dX5_bore_15 : decode cX5_bore 15 = .ok (.aload_n 0, 1) := dk_42 (dk_at dksX5_bore_0 15 rfl rfl)
theorem dX5_bore_16 : decode cX5_bore 16 = .ok (.getfield 38, 3) := dk_180 0 38 (dk_at dksX5_bore_0 16 rfl rfl)
theorem dX5_bore_19 : decode cX5_bore 19 = .ok (.iload_n 1, 1) := dk_27 (dk_at dksX5_bore_0 19 rfl rfl)
theorem dX5_bore_20 : decode cX5_bore 20 = .ok (.iaload, 1) := dk_46 (dk_at dksX5_bore_0 20 rfl rfl)
theorem dX5_bore_21 : decode cX5_bore 21 = .ok (.ifCond .ne 205, 3) := dk_154 0 205 (dk_at dksX5_bore_0 21 rfl rfl)
theorem dX5_bore_24 : decode cX5_bore 24 = .ok (.aload_n 0, 1) := dk_42 (dk_at dksX5_bore_1 0 rfl rfl)
theorem dX5_bore_25 : decode cX5_bore 25 = .ok (.getfield 32, 3) := dk_180 0 32 (dk_at dksX5_bore_1 1 rfl rfl)
theorem dX5_bore_28 : decode cX5_bore 28 = .ok (.iload_n 1, 1) := dk_27 (dk_at dksX5_bore_1 4 rfl rfl)
theorem dX5_bore_29 : decode cX5_bore 29 = .ok (.iaload, 1) := dk_46 (dk_at dksX5_bore_1 5 rfl rfl)
theorem dX5_bore_30 : decode cX5_bore 30 = .ok (.iconst 1, 1) := dk_4 (dk_at dksX5_bore_1 6 rfl rfl)
theorem dX5_bore_31 : decode cX5_bore 31 = .ok (.iadd, 1) := dk_96 (dk_at dksX5_bore_1 7 rfl rfl)
theorem dX5_bore_32 : decode cX5_bore 32 = .ok (.istore_n 3, 1) := dk_62 (dk_at dksX5_bore_1 8 rfl rfl)
theorem dX5_bore_33 : decode cX5_bore 33 = .ok (.aload_n 0, 1) := dk_42 (dk_at dksX5_bore_1 9 rfl rfl)
theorem dX5_bore_34 : decode cX5_bore 34 = .ok (.getfield 26, 3) := dk_180 0 26 (dk_at dksX5_bore_1 10 rfl rfl)
theorem dX5_bore_37 : decode cX5_bore 37 = .ok (.iload_n 1, 1) := dk_27 (dk_at dksX5_bore_1 13 rfl rfl)
theorem dX5_bore_38 : decode cX5_bore 38 = .ok (.iaload, 1) := dk_46 (dk_at dksX5_bore_1 14 rfl rfl)
theorem dX5_bore_39 : decode cX5_bore 39 = .ok (.aload_n 0, 1) := dk_42 (dk_at dksX5_bore_1 15 rfl rfl)
theorem dX5_bore_40 : decode cX5_bore 40 = .ok (.getfield 41, 3) := dk_180 0 41 (dk_at dksX5_bore_1 16 rfl rfl)
theorem dX5_bore_43 : decode cX5_bore 43 = .ok (.bipush 61, 2) := dk_16 61 (dk_at dksX5_bore_1 19 rfl rfl)
theorem dX5_bore_45 : decode cX5_bore 45 = .ok (.iload_n 1, 1) := dk_27 (dk_at dksX5_bore_1 21 rfl rfl)
theorem dX5_bore_46 : decode cX5_bore 46 = .ok (.imul, 1) := dk_104 (dk_at dksX5_bore_1 22 rfl rfl)
theorem dX5_bore_47 : decode cX5_bore 47 = .ok (.iload_n 3, 1) := dk_29 (dk_at dksX5_bore_1 23 rfl rfl)
theorem dX5_bore_48 : decode cX5_bore 48 = .ok (.iadd, 1) := dk_96 (dk_at dksX5_bore_2 0 rfl rfl)
theorem dX5_bore_49 : decode cX5_bore 49 = .ok (.iaload, 1) := dk_46 (dk_at dksX5_bore_2 1 rfl rfl)
theorem dX5_bore_50 : decode cX5_bore 50 = .ok (.iadd, 1) := dk_96 (dk_at dksX5_bore_2 2 rfl rfl)
theorem dX5_bore_51 : decode cX5_bore 51 = .ok (.iconst 0, 1) := dk_3 (dk_at dksX5_bore_2 3 rfl rfl)
theorem dX5_bore_52 : decode cX5_bore 52 = .ok (.bipush 31, 2) := dk_16 31 (dk_at dksX5_bore_2 4 rfl rfl)
theorem dX5_bore_54 : decode cX5_bore 54 = .ok (.invokestatic 284, 3) := dk_184 1 28 (dk_at dksX5_bore_2 6 rfl rfl)
theorem dX5_bore_57 : decode cX5_bore 57 = .ok (.istore 4, 2) := dk_54 4 (dk_at dksX5_bore_2 9 rfl rfl)
theorem dX5_bore_59 : decode cX5_bore 59 = .ok (.bipush 61, 2) := dk_16 61 (dk_at dksX5_bore_2 11 rfl rfl)
theorem dX5_bore_61 : decode cX5_bore 61 = .ok (.iload 4, 2) := dk_21 4 (dk_at dksX5_bore_2 13 rfl rfl)
theorem dX5_bore_63 : decode cX5_bore 63 = .ok (.imul, 1) := dk_104 (dk_at dksX5_bore_2 15 rfl rfl)
theorem dX5_bore_64 : decode cX5_bore 64 = .ok (.iload_n 3, 1) := dk_29 (dk_at dksX5_bore_2 16 rfl rfl)
theorem dX5_bore_65 : decode cX5_bore 65 = .ok (.iadd, 1) := dk_96 (dk_at dksX5_bore_2 17 rfl rfl)
theorem dX5_bore_66 : decode cX5_bore 66 = .ok (.istore 5, 2) := dk_54 5 (dk_at dksX5_bore_2 18 rfl rfl)
theorem dX5_bore_68 : decode cX5_bore 68 = .ok (.aload_n 0, 1) := dk_42 (dk_at dksX5_bore_2 20 rfl rfl)
theorem dX5_bore_69 : decode cX5_bore 69 = .ok (.getfield 13, 3) := dk_180 0 13 (dk_at dksX5_bore_2 21 rfl rfl)
theorem dX5_bore_72 : decode cX5_bore 72 = .ok (.iload 5, 2) := dk_21 5 (dk_at dksX5_bore_3 0 rfl rfl)
theorem dX5_bore_74 : decode cX5_bore 74 = .ok (.baload, 1) := dk_51 (dk_at dksX5_bore_3 2 rfl rfl)
theorem dX5_bore_75 : decode cX5_bore 75 = .ok (.ifCond .eq 7, 3) := dk_153 0 7 (dk_at dksX5_bore_3 3 rfl rfl)
theorem dX5_bore_78 : decode cX5_bore 78 = .ok (.iconst 0, 1) := dk_3 (dk_at dksX5_bore_3 6 rfl rfl)
theorem dX5_bore_79 : decode cX5_bore 79 = .ok (.goto 14, 3) := dk_167 0 14 (dk_at dksX5_bore_3 7 rfl rfl)
theorem dX5_bore_82 : decode cX5_bore 82 = .ok (.iload_n 2, 1) := dk_28 (dk_at dksX5_bore_3 10 rfl rfl)
theorem dX5_bore_83 : decode cX5_bore 83 = .ok (.iconst 3, 1) := dk_6 (dk_at dksX5_bore_3 11 rfl rfl)
theorem dX5_bore_84 : decode cX5_bore 84 = .ok (.aload_n 0, 1) := dk_42 (dk_at dksX5_bore_3 12 rfl rfl)
theorem dX5_bore_85 : decode cX5_bore 85 = .ok (.getfield 7, 3) := dk_180 0 7 (dk_at dksX5_bore_3 13 rfl rfl)
theorem dX5_bore_88 : decode cX5_bore 88 = .ok (.iload 5, 2) := dk_21 5 (dk_at dksX5_bore_3 16 rfl rfl)
theorem dX5_bore_90 : decode cX5_bore 90 = .ok (.iaload, 1) := dk_46 (dk_at dksX5_bore_3 18 rfl rfl)
theorem dX5_bore_91 : decode cX5_bore 91 = .ok (.iadd, 1) := dk_96 (dk_at dksX5_bore_3 19 rfl rfl)
theorem dX5_bore_92 : decode cX5_bore 92 = .ok (.imul, 1) := dk_104 (dk_at dksX5_bore_3 20 rfl rfl)
theorem dX5_bore_93 : decode cX5_bore 93 = .ok (.istore 6, 2) := dk_54 6 (dk_at dksX5_bore_3 21 rfl rfl)
theorem dX5_bore_95 : decode cX5_bore 95 = .ok (.aload_n 0, 1) := dk_42 (dk_at dksX5_bore_3 23 rfl rfl)
theorem dX5_bore_96 : decode cX5_bore 96 = .ok (.getfield 35, 3) := dk_180 0 35 (dk_at dksX5_bore_4 0 rfl rfl)
theorem dX5_bore_99 : decode cX5_bore 99 = .ok (.iload_n 1, 1) := dk_27 (dk_at dksX5_bore_4 3 rfl rfl)
theorem dX5_bore_100 : decode cX5_bore 100 = .ok (.iaload, 1) := dk_46 (dk_at dksX5_bore_4 4 rfl rfl)
theorem dX5_bore_101 : decode cX5_bore 101 = .ok (.iload 6, 2) := dk_21 6 (dk_at dksX5_bore_4 5 rfl rfl)
theorem dX5_bore_103 : decode cX5_bore 103 = .ok (.if_icmp .ge 4, 3) := dk_162 0 4 (dk_at dksX5_bore_4 7 rfl rfl)
theorem dX5_bore_106 : decode cX5_bore 106 = .ok (.return_, 1) := dk_177 (dk_at dksX5_bore_4 10 rfl rfl)
theorem dX5_bore_107 : decode cX5_bore 107 = .ok (.aload_n 0, 1) := dk_42 (dk_at dksX5_bore_4 11 rfl rfl)
theorem dX5_bore_108 : decode cX5_bore 108 = .ok (.getfield 35, 3) := dk_180 0 35 (dk_at dksX5_bore_4 12 rfl rfl)
theorem dX5_bore_111 : decode cX5_bore 111 = .ok (.iload_n 1, 1) := dk_27 (dk_at dksX5_bore_4 15 rfl rfl)
theorem dX5_bore_112 : decode cX5_bore 112 = .ok (.dup2, 1) := dk_92 (dk_at dksX5_bore_4 16 rfl rfl)
theorem dX5_bore_113 : decode cX5_bore 113 = .ok (.iaload, 1) := dk_46 (dk_at dksX5_bore_4 17 rfl rfl)
theorem dX5_bore_114 : decode cX5_bore 114 = .ok (.iload 6, 2) := dk_21 6 (dk_at dksX5_bore_4 18 rfl rfl)
theorem dX5_bore_116 : decode cX5_bore 116 = .ok (.isub, 1) := dk_100 (dk_at dksX5_bore_4 20 rfl rfl)
theorem dX5_bore_117 : decode cX5_bore 117 = .ok (.iastore, 1) := dk_79 (dk_at dksX5_bore_4 21 rfl rfl)
theorem dX5_bore_118 : decode cX5_bore 118 = .ok (.aload_n 0, 1) := dk_42 (dk_at dksX5_bore_4 22 rfl rfl)
theorem dX5_bore_119 : decode cX5_bore 119 = .ok (.getfield 32, 3) := dk_180 0 32 (dk_at dksX5_bore_5 0 rfl rfl)
theorem dX5_bore_122 : decode cX5_bore 122 = .ok (.iload_n 1, 1) := dk_27 (dk_at dksX5_bore_5 3 rfl rfl)
theorem dX5_bore_123 : decode cX5_bore 123 = .ok (.iload_n 3, 1) := dk_29 (dk_at dksX5_bore_5 4 rfl rfl)
theorem dX5_bore_124 : decode cX5_bore 124 = .ok (.iastore, 1) := dk_79 (dk_at dksX5_bore_5 5 rfl rfl)
theorem dX5_bore_125 : decode cX5_bore 125 = .ok (.aload_n 0, 1) := dk_42 (dk_at dksX5_bore_5 6 rfl rfl)
theorem dX5_bore_126 : decode cX5_bore 126 = .ok (.getfield 26, 3) := dk_180 0 26 (dk_at dksX5_bore_5 7 rfl rfl)
theorem dX5_bore_129 : decode cX5_bore 129 = .ok (.iload_n 1, 1) := dk_27 (dk_at dksX5_bore_5 10 rfl rfl)
theorem dX5_bore_130 : decode cX5_bore 130 = .ok (.iload 4, 2) := dk_21 4 (dk_at dksX5_bore_5 11 rfl rfl)
theorem dX5_bore_132 : decode cX5_bore 132 = .ok (.iastore, 1) := dk_79 (dk_at dksX5_bore_5 13 rfl rfl)
theorem dX5_bore_133 : decode cX5_bore 133 = .ok (.aload_n 0, 1) := dk_42 (dk_at dksX5_bore_5 14 rfl rfl)
theorem dX5_bore_134 : decode cX5_bore 134 = .ok (.getfield 65, 3) := dk_180 0 65 (dk_at dksX5_bore_5 15 rfl rfl)
theorem dX5_bore_137 : decode cX5_bore 137 = .ok (.ifCond .lt 31, 3) := dk_155 0 31 (dk_at dksX5_bore_5 18 rfl rfl)
theorem dX5_bore_140 : decode cX5_bore 140 = .ok (.iload_n 3, 1) := dk_29 (dk_at dksX5_bore_5 21 rfl rfl)
theorem dX5_bore_141 : decode cX5_bore 141 = .ok (.aload_n 0, 1) := dk_42 (dk_at dksX5_bore_5 22 rfl rfl)
theorem dX5_bore_142 : decode cX5_bore 142 = .ok (.getfield 264, 3) := dk_180 1 8 (dk_at dksX5_bore_6 0 rfl rfl)
theorem dX5_bore_145 : decode cX5_bore 145 = .ok (.if_icmp .ne 23, 3) := dk_160 0 23 (dk_at dksX5_bore_6 3 rfl rfl)
theorem dX5_bore_148 : decode cX5_bore 148 = .ok (.iload 4, 2) := dk_21 4 (dk_at dksX5_bore_6 6 rfl rfl)
theorem dX5_bore_150 : decode cX5_bore 150 = .ok (.aload_n 0, 1) := dk_42 (dk_at dksX5_bore_6 8 rfl rfl)
theorem dX5_bore_151 : decode cX5_bore 151 = .ok (.getfield 258, 3) := dk_180 1 2 (dk_at dksX5_bore_6 9 rfl rfl)
theorem dX5_bore_154 : decode cX5_bore 154 = .ok (.aload_n 0, 1) := dk_42 (dk_at dksX5_bore_6 12 rfl rfl)
theorem dX5_bore_155 : decode cX5_bore 155 = .ok (.getfield 261, 3) := dk_180 1 5 (dk_at dksX5_bore_6 13 rfl rfl)
theorem dX5_bore_158 : decode cX5_bore 158 = .ok (.invokestatic 230, 3) := dk_184 0 230 (dk_at dksX5_bore_6 16 rfl rfl)
theorem dX5_bore_161 : decode cX5_bore 161 = .ok (.ifCond .eq 7, 3) := dk_153 0 7 (dk_at dksX5_bore_6 19 rfl rfl)
theorem dX5_bore_164 : decode cX5_bore 164 = .ok (.iconst 1, 1) := dk_4 (dk_at dksX5_bore_6 22 rfl rfl)
theorem dX5_bore_165 : decode cX5_bore 165 = .ok (.goto 4, 3) := dk_167 0 4 (dk_at dksX5_bore_7 0 rfl rfl)
theorem dX5_bore_168 : decode cX5_bore 168 = .ok (.iconst 0, 1) := dk_3 (dk_at dksX5_bore_7 3 rfl rfl)
theorem dX5_bore_169 : decode cX5_bore 169 = .ok (.istore 7, 2) := dk_54 7 (dk_at dksX5_bore_7 4 rfl rfl)
theorem dX5_bore_171 : decode cX5_bore 171 = .ok (.aload_n 0, 1) := dk_42 (dk_at dksX5_bore_7 6 rfl rfl)
theorem dX5_bore_172 : decode cX5_bore 172 = .ok (.getfield 44, 3) := dk_180 0 44 (dk_at dksX5_bore_7 7 rfl rfl)
theorem dX5_bore_175 : decode cX5_bore 175 = .ok (.bipush 61, 2) := dk_16 61 (dk_at dksX5_bore_7 10 rfl rfl)
theorem dX5_bore_177 : decode cX5_bore 177 = .ok (.iload_n 1, 1) := dk_27 (dk_at dksX5_bore_7 12 rfl rfl)
theorem dX5_bore_178 : decode cX5_bore 178 = .ok (.imul, 1) := dk_104 (dk_at dksX5_bore_7 13 rfl rfl)
theorem dX5_bore_179 : decode cX5_bore 179 = .ok (.iload_n 3, 1) := dk_29 (dk_at dksX5_bore_7 14 rfl rfl)
theorem dX5_bore_180 : decode cX5_bore 180 = .ok (.iadd, 1) := dk_96 (dk_at dksX5_bore_7 15 rfl rfl)
theorem dX5_bore_181 : decode cX5_bore 181 = .ok (.iload 7, 2) := dk_21 7 (dk_at dksX5_bore_7 16 rfl rfl)
theorem dX5_bore_183 : decode cX5_bore 183 = .ok (.ifCond .eq 7, 3) := dk_153 0 7 (dk_at dksX5_bore_7 18 rfl rfl)
theorem dX5_bore_186 : decode cX5_bore 186 = .ok (.iconst 2, 1) := dk_5 (dk_at dksX5_bore_7 21 rfl rfl)
theorem dX5_bore_187 : decode cX5_bore 187 = .ok (.goto 18, 3) := dk_167 0 18 (dk_at dksX5_bore_8 0 rfl rfl)
theorem dX5_bore_190 : decode cX5_bore 190 = .ok (.aload_n 0, 1) := dk_42 (dk_at dksX5_bore_8 3 rfl rfl)
theorem dX5_bore_191 : decode cX5_bore 191 = .ok (.getfield 13, 3) := dk_180 0 13 (dk_at dksX5_bore_8 4 rfl rfl)
theorem dX5_bore_194 : decode cX5_bore 194 = .ok (.iload 5, 2) := dk_21 5 (dk_at dksX5_bore_8 7 rfl rfl)
theorem dX5_bore_196 : decode cX5_bore 196 = .ok (.baload, 1) := dk_51 (dk_at dksX5_bore_8 9 rfl rfl)
theorem dX5_bore_197 : decode cX5_bore 197 = .ok (.ifCond .eq 7, 3) := dk_153 0 7 (dk_at dksX5_bore_8 10 rfl rfl)
theorem dX5_bore_200 : decode cX5_bore 200 = .ok (.iconst 1, 1) := dk_4 (dk_at dksX5_bore_8 13 rfl rfl)
theorem dX5_bore_201 : decode cX5_bore 201 = .ok (.goto 4, 3) := dk_167 0 4 (dk_at dksX5_bore_8 14 rfl rfl)
theorem dX5_bore_204 : decode cX5_bore 204 = .ok (.iconst 0, 1) := dk_3 (dk_at dksX5_bore_8 17 rfl rfl)
theorem dX5_bore_205 : decode cX5_bore 205 = .ok (.iastore, 1) := dk_79 (dk_at dksX5_bore_8 18 rfl rfl)
theorem dX5_bore_206 : decode cX5_bore 206 = .ok (.iload 7, 2) := dk_21 7 (dk_at dksX5_bore_8 19 rfl rfl)
theorem dX5_bore_208 : decode cX5_bore 208 = .ok (.ifCond .eq 15, 3) := dk_153 0 15 (dk_at dksX5_bore_8 21 rfl rfl)
theorem dX5_bore_211 : decode cX5_bore 211 = .ok (.aload_n 0, 1) := dk_42 (dk_at dksX5_bore_9 0 rfl rfl)
theorem dX5_bore_212 : decode cX5_bore 212 = .ok (.getfield 38, 3) := dk_180 0 38 (dk_at dksX5_bore_9 1 rfl rfl)
theorem dX5_bore_215 : decode cX5_bore 215 = .ok (.iload_n 1, 1) := dk_27 (dk_at dksX5_bore_9 4 rfl rfl)
theorem dX5_bore_216 : decode cX5_bore 216 = .ok (.aload_n 0, 1) := dk_42 (dk_at dksX5_bore_9 5 rfl rfl)
theorem dX5_bore_217 : decode cX5_bore 217 = .ok (.getfield 281, 3) := dk_180 1 25 (dk_at dksX5_bore_9 6 rfl rfl)
theorem dX5_bore_220 : decode cX5_bore 220 = .ok (.iconst 1, 1) := dk_4 (dk_at dksX5_bore_9 9 rfl rfl)
theorem dX5_bore_221 : decode cX5_bore 221 = .ok (.iadd, 1) := dk_96 (dk_at dksX5_bore_9 10 rfl rfl)
theorem dX5_bore_222 : decode cX5_bore 222 = .ok (.iastore, 1) := dk_79 (dk_at dksX5_bore_9 11 rfl rfl)
theorem dX5_bore_223 : decode cX5_bore 223 = .ok (.goto (-223), 3) := dk_167 255 33 (dk_at dksX5_bore_9 12 rfl rfl)
theorem dX5_bore_226 : decode cX5_bore 226 = .ok (.return_, 1) := dk_177 (dk_at dksX5_bore_9 15 rfl rfl)
abbrev cX5_comeDown : ByteArray := prog_22_method_76_code
def yX5_comeDown : MethodName := ⟨RX5, "comeDown", "()V"⟩
def dkwX5_comeDown_5 : List UInt8 := [181, 1, 172, 177]
abbrev dktX5_comeDown_5 : List UInt8 := dkwX5_comeDown_5 ++ []
def dkwX5_comeDown_4 : List UInt8 := [180, 0, 148, 27, 42, 180, 0, 148, 28, 46, 79, 132, 1, 1, 132, 2, 1, 167, 255, 151, 42, 27]
abbrev dktX5_comeDown_4 : List UInt8 := dkwX5_comeDown_4 ++ dktX5_comeDown_5
def dkwX5_comeDown_3 : List UInt8 := [112, 92, 46, 4, 96, 79, 167, 0, 30, 42, 180, 0, 145, 27, 42, 180, 0, 145, 28, 46, 79, 42]
abbrev dktX5_comeDown_3 : List UInt8 := dkwX5_comeDown_3 ++ dktX5_comeDown_4
def dkwX5_comeDown_2 : List UInt8 := [28, 46, 16, 10, 108, 96, 181, 1, 141, 167, 0, 51, 42, 180, 0, 154, 42, 180, 0, 145, 28, 46, 16, 10]
abbrev dktX5_comeDown_2 : List UInt8 := dkwX5_comeDown_2 ++ dktX5_comeDown_3
def dkwX5_comeDown_1 : List UInt8 := [160, 0, 57, 42, 180, 0, 145, 28, 46, 16, 10, 112, 154, 0, 24, 42, 89, 180, 1, 141, 42, 180, 0, 145]
abbrev dktX5_comeDown_1 : List UInt8 := dkwX5_comeDown_1 ++ dktX5_comeDown_2
def dkwX5_comeDown_0 : List UInt8 := [3, 60, 3, 61, 28, 42, 180, 1, 172, 162, 0, 103, 42, 180, 0, 148, 28, 46, 42, 180, 1, 25]
abbrev dktX5_comeDown_0 : List UInt8 := dkwX5_comeDown_0 ++ dktX5_comeDown_1
theorem dksX5_comeDown_0 : cX5_comeDown.data.toList.drop 0 = dktX5_comeDown_0 := by decide +kernel
theorem dksX5_comeDown_1 : cX5_comeDown.data.toList.drop 22 = dktX5_comeDown_1 := dk_seg dksX5_comeDown_0 22 rfl rfl
theorem dksX5_comeDown_2 : cX5_comeDown.data.toList.drop 46 = dktX5_comeDown_2 := dk_seg dksX5_comeDown_1 24 rfl rfl
theorem dksX5_comeDown_3 : cX5_comeDown.data.toList.drop 70 = dktX5_comeDown_3 := dk_seg dksX5_comeDown_2 24 rfl rfl
theorem dksX5_comeDown_4 : cX5_comeDown.data.toList.drop 92 = dktX5_comeDown_4 := dk_seg dksX5_comeDown_3 22 rfl rfl
theorem dksX5_comeDown_5 : cX5_comeDown.data.toList.drop 114 = dktX5_comeDown_5 := dk_seg dksX5_comeDown_4 22 rfl rfl
theorem dX5_comeDown_0 : decode cX5_comeDown 0 = .ok (.iconst 0, 1) := dk_3 (dk_at dksX5_comeDown_0 0 rfl rfl)
theorem dX5_comeDown_1 : decode cX5_comeDown 1 = .ok (.istore_n 1, 1) := dk_60 (dk_at dksX5_comeDown_0 1 rfl rfl)
theorem dX5_comeDown_2 : decode cX5_comeDown 2 = .ok (.iconst 0, 1) := dk_3 (dk_at dksX5_comeDown_0 2 rfl rfl)
theorem dX5_comeDown_3 : decode cX5_comeDown 3 = .ok (.istore_n 2, 1) := dk_61 (dk_at dksX5_comeDown_0 3 rfl rfl)
theorem dX5_comeDown_4 : decode cX5_comeDown 4 = .ok (.iload_n 2, 1) := dk_28 (dk_at dksX5_comeDown_0 4 rfl rfl)
theorem dX5_comeDown_5 : decode cX5_comeDown 5 = .ok (.aload_n 0, 1) := dk_42 (dk_at dksX5_comeDown_0 5 rfl rfl)
theorem dX5_comeDown_6 : decode cX5_comeDown 6 = .ok (.getfield 428, 3) := dk_180 1 172 (dk_at dksX5_comeDown_0 6 rfl rfl)
theorem dX5_comeDown_9 : decode cX5_comeDown 9 = .ok (.if_icmp .ge 103, 3) := dk_162 0 103 (dk_at dksX5_comeDown_0 9 rfl rfl)
theorem dX5_comeDown_12 : decode cX5_comeDown 12 = .ok (.aload_n 0, 1) := dk_42 (dk_at dksX5_comeDown_0 12 rfl rfl)
theorem dX5_comeDown_13 : decode cX5_comeDown 13 = .ok (.getfield 148, 3) := dk_180 0 148 (dk_at dksX5_comeDown_0 13 rfl rfl)
theorem dX5_comeDown_16 : decode cX5_comeDown 16 = .ok (.iload_n 2, 1) := dk_28 (dk_at dksX5_comeDown_0 16 rfl rfl)
theorem dX5_comeDown_17 : decode cX5_comeDown 17 = .ok (.iaload, 1) := dk_46 (dk_at dksX5_comeDown_0 17 rfl rfl)
theorem dX5_comeDown_18 : decode cX5_comeDown 18 = .ok (.aload_n 0, 1) := dk_42 (dk_at dksX5_comeDown_0 18 rfl rfl)
theorem dX5_comeDown_19 : decode cX5_comeDown 19 = .ok (.getfield 281, 3) := dk_180 1 25 (dk_at dksX5_comeDown_0 19 rfl rfl)
theorem dX5_comeDown_22 : decode cX5_comeDown 22 = .ok (.if_icmp .ne 57, 3) := dk_160 0 57 (dk_at dksX5_comeDown_1 0 rfl rfl)
theorem dX5_comeDown_25 : decode cX5_comeDown 25 = .ok (.aload_n 0, 1) := dk_42 (dk_at dksX5_comeDown_1 3 rfl rfl)
theorem dX5_comeDown_26 : decode cX5_comeDown 26 = .ok (.getfield 145, 3) := dk_180 0 145 (dk_at dksX5_comeDown_1 4 rfl rfl)
theorem dX5_comeDown_29 : decode cX5_comeDown 29 = .ok (.iload_n 2, 1) := dk_28 (dk_at dksX5_comeDown_1 7 rfl rfl)
theorem dX5_comeDown_30 : decode cX5_comeDown 30 = .ok (.iaload, 1) := dk_46 (dk_at dksX5_comeDown_1 8 rfl rfl)
theorem dX5_comeDown_31 : decode cX5_comeDown 31 = .ok (.bipush 10, 2) := dk_16 10 (dk_at dksX5_comeDown_1 9 rfl rfl)
theorem dX5_comeDown_33 : decode cX5_comeDown 33 = .ok (.irem, 1) := dk_112 (dk_at dksX5_comeDown_1 11 rfl rfl)
theorem dX5_comeDown_34 : decode cX5_comeDown 34 = .ok (.ifCond .ne 24, 3) := dk_154 0 24 (dk_at dksX5_comeDown_1 12 rfl rfl)
theorem dX5_comeDown_37 : decode cX5_comeDown 37 = .ok (.aload_n 0, 1) := dk_42 (dk_at dksX5_comeDown_1 15 rfl rfl)
theorem dX5_comeDown_38 : decode cX5_comeDown 38 = .ok (.dup, 1) := dk_89 (dk_at dksX5_comeDown_1 16 rfl rfl)
theorem dX5_comeDown_39 : decode cX5_comeDown 39 = .ok (.getfield 397, 3) := dk_180 1 141 (dk_at dksX5_comeDown_1 17 rfl rfl)
theorem dX5_comeDown_42 : decode cX5_comeDown 42 = .ok (.aload_n 0, 1) := dk_42 (dk_at dksX5_comeDown_1 20 rfl rfl)
theorem dX5_comeDown_43 : decode cX5_comeDown 43 = .ok (.getfield 145, 3) := dk_180 0 145 (dk_at dksX5_comeDown_1 21 rfl rfl)
theorem dX5_comeDown_46 : decode cX5_comeDown 46 = .ok (.iload_n 2, 1) := dk_28 (dk_at dksX5_comeDown_2 0 rfl rfl)
theorem dX5_comeDown_47 : decode cX5_comeDown 47 = .ok (.iaload, 1) := dk_46 (dk_at dksX5_comeDown_2 1 rfl rfl)
theorem dX5_comeDown_48 : decode cX5_comeDown 48 = .ok (.bipush 10, 2) := dk_16 10 (dk_at dksX5_comeDown_2 2 rfl rfl)
theorem dX5_comeDown_50 : decode cX5_comeDown 50 = .ok (.idiv, 1) := dk_108 (dk_at dksX5_comeDown_2 4 rfl rfl)
theorem dX5_comeDown_51 : decode cX5_comeDown 51 = .ok (.iadd, 1) := dk_96 (dk_at dksX5_comeDown_2 5 rfl rfl)
theorem dX5_comeDown_52 : decode cX5_comeDown 52 = .ok (.putfield 397, 3) := dk_181 1 141 (dk_at dksX5_comeDown_2 6 rfl rfl)
theorem dX5_comeDown_55 : decode cX5_comeDown 55 = .ok (.goto 51, 3) := dk_167 0 51 (dk_at dksX5_comeDown_2 9 rfl rfl)
theorem dX5_comeDown_58 : decode cX5_comeDown 58 = .ok (.aload_n 0, 1) := dk_42 (dk_at dksX5_comeDown_2 12 rfl rfl)
theorem dX5_comeDown_59 : decode cX5_comeDown 59 = .ok (.getfield 154, 3) := dk_180 0 154 (dk_at dksX5_comeDown_2 13 rfl rfl)
theorem dX5_comeDown_62 : decode cX5_comeDown 62 = .ok (.aload_n 0, 1) := dk_42 (dk_at dksX5_comeDown_2 16 rfl rfl)
theorem dX5_comeDown_63 : decode cX5_comeDown 63 = .ok (.getfield 145, 3) := dk_180 0 145 (dk_at dksX5_comeDown_2 17 rfl rfl)
theorem dX5_comeDown_66 : decode cX5_comeDown 66 = .ok (.iload_n 2, 1) := dk_28 (dk_at dksX5_comeDown_2 20 rfl rfl)
theorem dX5_comeDown_67 : decode cX5_comeDown 67 = .ok (.iaload, 1) := dk_46 (dk_at dksX5_comeDown_2 21 rfl rfl)
theorem dX5_comeDown_68 : decode cX5_comeDown 68 = .ok (.bipush 10, 2) := dk_16 10 (dk_at dksX5_comeDown_2 22 rfl rfl)
theorem dX5_comeDown_70 : decode cX5_comeDown 70 = .ok (.irem, 1) := dk_112 (dk_at dksX5_comeDown_3 0 rfl rfl)
theorem dX5_comeDown_71 : decode cX5_comeDown 71 = .ok (.dup2, 1) := dk_92 (dk_at dksX5_comeDown_3 1 rfl rfl)
theorem dX5_comeDown_72 : decode cX5_comeDown 72 = .ok (.iaload, 1) := dk_46 (dk_at dksX5_comeDown_3 2 rfl rfl)
theorem dX5_comeDown_73 : decode cX5_comeDown 73 = .ok (.iconst 1, 1) := dk_4 (dk_at dksX5_comeDown_3 3 rfl rfl)
theorem dX5_comeDown_74 : decode cX5_comeDown 74 = .ok (.iadd, 1) := dk_96 (dk_at dksX5_comeDown_3 4 rfl rfl)
theorem dX5_comeDown_75 : decode cX5_comeDown 75 = .ok (.iastore, 1) := dk_79 (dk_at dksX5_comeDown_3 5 rfl rfl)
theorem dX5_comeDown_76 : decode cX5_comeDown 76 = .ok (.goto 30, 3) := dk_167 0 30 (dk_at dksX5_comeDown_3 6 rfl rfl)
theorem dX5_comeDown_79 : decode cX5_comeDown 79 = .ok (.aload_n 0, 1) := dk_42 (dk_at dksX5_comeDown_3 9 rfl rfl)
theorem dX5_comeDown_80 : decode cX5_comeDown 80 = .ok (.getfield 145, 3) := dk_180 0 145 (dk_at dksX5_comeDown_3 10 rfl rfl)
theorem dX5_comeDown_83 : decode cX5_comeDown 83 = .ok (.iload_n 1, 1) := dk_27 (dk_at dksX5_comeDown_3 13 rfl rfl)
theorem dX5_comeDown_84 : decode cX5_comeDown 84 = .ok (.aload_n 0, 1) := dk_42 (dk_at dksX5_comeDown_3 14 rfl rfl)
theorem dX5_comeDown_85 : decode cX5_comeDown 85 = .ok (.getfield 145, 3) := dk_180 0 145 (dk_at dksX5_comeDown_3 15 rfl rfl)
theorem dX5_comeDown_88 : decode cX5_comeDown 88 = .ok (.iload_n 2, 1) := dk_28 (dk_at dksX5_comeDown_3 18 rfl rfl)
theorem dX5_comeDown_89 : decode cX5_comeDown 89 = .ok (.iaload, 1) := dk_46 (dk_at dksX5_comeDown_3 19 rfl rfl)
theorem dX5_comeDown_90 : decode cX5_comeDown 90 = .ok (.iastore, 1) := dk_79 (dk_at dksX5_comeDown_3 20 rfl rfl)
theorem dX5_comeDown_91 : decode cX5_comeDown 91 = .ok (.aload_n 0, 1) := dk_42 (dk_at dksX5_comeDown_3 21 rfl rfl)
theorem dX5_comeDown_92 : decode cX5_comeDown 92 = .ok (.getfield 148, 3) := dk_180 0 148 (dk_at dksX5_comeDown_4 0 rfl rfl)
theorem dX5_comeDown_95 : decode cX5_comeDown 95 = .ok (.iload_n 1, 1) := dk_27 (dk_at dksX5_comeDown_4 3 rfl rfl)
theorem dX5_comeDown_96 : decode cX5_comeDown 96 = .ok (.aload_n 0, 1) := dk_42 (dk_at dksX5_comeDown_4 4 rfl rfl)
theorem dX5_comeDown_97 : decode cX5_comeDown 97 = .ok (.getfield 148, 3) := dk_180 0 148 (dk_at dksX5_comeDown_4 5 rfl rfl)
theorem dX5_comeDown_100 : decode cX5_comeDown 100 = .ok (.iload_n 2, 1) := dk_28 (dk_at dksX5_comeDown_4 8 rfl rfl)
theorem dX5_comeDown_101 : decode cX5_comeDown 101 = .ok (.iaload, 1) := dk_46 (dk_at dksX5_comeDown_4 9 rfl rfl)
theorem dX5_comeDown_102 : decode cX5_comeDown 102 = .ok (.iastore, 1) := dk_79 (dk_at dksX5_comeDown_4 10 rfl rfl)
theorem dX5_comeDown_103 : decode cX5_comeDown 103 = .ok (.iinc 1 1, 3) := dk_132 1 1 (dk_at dksX5_comeDown_4 11 rfl rfl)
theorem dX5_comeDown_106 : decode cX5_comeDown 106 = .ok (.iinc 2 1, 3) := dk_132 2 1 (dk_at dksX5_comeDown_4 14 rfl rfl)
theorem dX5_comeDown_109 : decode cX5_comeDown 109 = .ok (.goto (-105), 3) := dk_167 255 151 (dk_at dksX5_comeDown_4 17 rfl rfl)
theorem dX5_comeDown_112 : decode cX5_comeDown 112 = .ok (.aload_n 0, 1) := dk_42 (dk_at dksX5_comeDown_4 20 rfl rfl)
theorem dX5_comeDown_113 : decode cX5_comeDown 113 = .ok (.iload_n 1, 1) := dk_27 (dk_at dksX5_comeDown_4 21 rfl rfl)
theorem dX5_comeDown_114 : decode cX5_comeDown 114 = .ok (.putfield 428, 3) := dk_181 1 172 (dk_at dksX5_comeDown_5 0 rfl rfl)
theorem dX5_comeDown_117 : decode cX5_comeDown 117 = .ok (.return_, 1) := dk_177 (dk_at dksX5_comeDown_5 3 rfl rfl)
abbrev cX5_eat : ByteArray := prog_22_method_70_code
def yX5_eat : MethodName := ⟨RX5, "eat", "()V"⟩
def dkwX5_eat_4 : List UInt8 := [17, 3, 231, 184, 1, 28, 79, 132, 1, 1, 167, 255, 155, 177]
abbrev dktX5_eat_4 : List UInt8 := dkwX5_eat_4 ++ []
def dkwX5_eat_3 : List UInt8 := [96, 181, 1, 156, 42, 180, 0, 53, 27, 42, 180, 0, 53, 27, 46, 16, 6, 100, 5, 28, 104, 96, 3]
abbrev dktX5_eat_3 : List UInt8 := dkwX5_eat_3 ++ dktX5_eat_4
def dkwX5_eat_2 : List UInt8 := [167, 0, 7, 42, 180, 1, 141, 61, 42, 89, 180, 1, 141, 28, 100, 181, 1, 141, 42, 89, 180, 1, 156, 28]
abbrev dktX5_eat_2 : List UInt8 := dkwX5_eat_2 ++ dktX5_eat_3
def dkwX5_eat_1 : List UInt8 := [16, 10, 27, 4, 182, 1, 147, 3, 16, 9, 184, 1, 28, 61, 28, 42, 180, 1, 141, 162, 0, 7, 28]
abbrev dktX5_eat_1 : List UInt8 := dkwX5_eat_1 ++ dktX5_eat_2
def dkwX5_eat_0 : List UInt8 := [3, 60, 27, 42, 180, 0, 242, 162, 0, 99, 42, 180, 0, 62, 27, 51, 154, 0, 6, 167, 0, 81, 42]
abbrev dktX5_eat_0 : List UInt8 := dkwX5_eat_0 ++ dktX5_eat_1
theorem dksX5_eat_0 : cX5_eat.data.toList.drop 0 = dktX5_eat_0 := by decide +kernel
theorem dksX5_eat_1 : cX5_eat.data.toList.drop 23 = dktX5_eat_1 := dk_seg dksX5_eat_0 23 rfl rfl
theorem dksX5_eat_2 : cX5_eat.data.toList.drop 46 = dktX5_eat_2 := dk_seg dksX5_eat_1 23 rfl rfl
theorem dksX5_eat_3 : cX5_eat.data.toList.drop 70 = dktX5_eat_3 := dk_seg dksX5_eat_2 24 rfl rfl
theorem dksX5_eat_4 : cX5_eat.data.toList.drop 93 = dktX5_eat_4 := dk_seg dksX5_eat_3 23 rfl rfl
theorem dX5_eat_0 : decode cX5_eat 0 = .ok (.iconst 0, 1) := dk_3 (dk_at dksX5_eat_0 0 rfl rfl)
theorem dX5_eat_1 : decode cX5_eat 1 = .ok (.istore_n 1, 1) := dk_60 (dk_at dksX5_eat_0 1 rfl rfl)
theorem dX5_eat_2 : decode cX5_eat 2 = .ok (.iload_n 1, 1) := dk_27 (dk_at dksX5_eat_0 2 rfl rfl)
theorem dX5_eat_3 : decode cX5_eat 3 = .ok (.aload_n 0, 1) := dk_42 (dk_at dksX5_eat_0 3 rfl rfl)
theorem dX5_eat_4 : decode cX5_eat 4 = .ok (.getfield 242, 3) := dk_180 0 242 (dk_at dksX5_eat_0 4 rfl rfl)
theorem dX5_eat_7 : decode cX5_eat 7 = .ok (.if_icmp .ge 99, 3) := dk_162 0 99 (dk_at dksX5_eat_0 7 rfl rfl)
theorem dX5_eat_10 : decode cX5_eat 10 = .ok (.aload_n 0, 1) := dk_42 (dk_at dksX5_eat_0 10 rfl rfl)
theorem dX5_eat_11 : decode cX5_eat 11 = .ok (.getfield 62, 3) := dk_180 0 62 (dk_at dksX5_eat_0 11 rfl rfl)
theorem dX5_eat_14 : decode cX5_eat 14 = .ok (.iload_n 1, 1) := dk_27 (dk_at dksX5_eat_0 14 rfl rfl)
theorem dX5_eat_15 : decode cX5_eat 15 = .ok (.baload, 1) := dk_51 (dk_at dksX5_eat_0 15 rfl rfl)
theorem dX5_eat_16 : decode cX5_eat 16 = .ok (.ifCond .ne 6, 3) := dk_154 0 6 (dk_at dksX5_eat_0 16 rfl rfl)
theorem dX5_eat_19 : decode cX5_eat 19 = .ok (.goto 81, 3) := dk_167 0 81 (dk_at dksX5_eat_0 19 rfl rfl)
theorem dX5_eat_22 : decode cX5_eat 22 = .ok (.aload_n 0, 1) := dk_42 (dk_at dksX5_eat_0 22 rfl rfl)
theorem dX5_eat_23 : decode cX5_eat 23 = .ok (.bipush 10, 2) := dk_16 10 (dk_at dksX5_eat_1 0 rfl rfl)
theorem dX5_eat_25 : decode cX5_eat 25 = .ok (.iload_n 1, 1) := dk_27 (dk_at dksX5_eat_1 2 rfl rfl)
theorem dX5_eat_26 : decode cX5_eat 26 = .ok (.iconst 1, 1) := dk_4 (dk_at dksX5_eat_1 3 rfl rfl)
theorem dX5_eat_27 : decode cX5_eat 27 = .ok (.invokevirtual 403, 3) := dk_182 1 147 (dk_at dksX5_eat_1 4 rfl rfl)
theorem dX5_eat_30 : decode cX5_eat 30 = .ok (.iconst 0, 1) := dk_3 (dk_at dksX5_eat_1 7 rfl rfl)
theorem dX5_eat_31 : decode cX5_eat 31 = .ok (.bipush 9, 2) := dk_16 9 (dk_at dksX5_eat_1 8 rfl rfl)
theorem dX5_eat_33 : decode cX5_eat 33 = .ok (.invokestatic 284, 3) := dk_184 1 28 (dk_at dksX5_eat_1 10 rfl rfl)
theorem dX5_eat_36 : decode cX5_eat 36 = .ok (.istore_n 2, 1) := dk_61 (dk_at dksX5_eat_1 13 rfl rfl)
theorem dX5_eat_37 : decode cX5_eat 37 = .ok (.iload_n 2, 1) := dk_28 (dk_at dksX5_eat_1 14 rfl rfl)
theorem dX5_eat_38 : decode cX5_eat 38 = .ok (.aload_n 0, 1) := dk_42 (dk_at dksX5_eat_1 15 rfl rfl)
theorem dX5_eat_39 : decode cX5_eat 39 = .ok (.getfield 397, 3) := dk_180 1 141 (dk_at dksX5_eat_1 16 rfl rfl)
theorem dX5_eat_42 : decode cX5_eat 42 = .ok (.if_icmp .ge 7, 3) := dk_162 0 7 (dk_at dksX5_eat_1 19 rfl rfl)
theorem dX5_eat_45 : decode cX5_eat 45 = .ok (.iload_n 2, 1) := dk_28 (dk_at dksX5_eat_1 22 rfl rfl)
theorem dX5_eat_46 : decode cX5_eat 46 = .ok (.goto 7, 3) := dk_167 0 7 (dk_at dksX5_eat_2 0 rfl rfl)
theorem dX5_eat_49 : decode cX5_eat 49 = .ok (.aload_n 0, 1) := dk_42 (dk_at dksX5_eat_2 3 rfl rfl)
theorem dX5_eat_50 : decode cX5_eat 50 = .ok (.getfield 397, 3) := dk_180 1 141 (dk_at dksX5_eat_2 4 rfl rfl)
theorem dX5_eat_53 : decode cX5_eat 53 = .ok (.istore_n 2, 1) := dk_61 (dk_at dksX5_eat_2 7 rfl rfl)
theorem dX5_eat_54 : decode cX5_eat 54 = .ok (.aload_n 0, 1) := dk_42 (dk_at dksX5_eat_2 8 rfl rfl)
theorem dX5_eat_55 : decode cX5_eat 55 = .ok (.dup, 1) := dk_89 (dk_at dksX5_eat_2 9 rfl rfl)
theorem dX5_eat_56 : decode cX5_eat 56 = .ok (.getfield 397, 3) := dk_180 1 141 (dk_at dksX5_eat_2 10 rfl rfl)
theorem dX5_eat_59 : decode cX5_eat 59 = .ok (.iload_n 2, 1) := dk_28 (dk_at dksX5_eat_2 13 rfl rfl)
theorem dX5_eat_60 : decode cX5_eat 60 = .ok (.isub, 1) := dk_100 (dk_at dksX5_eat_2 14 rfl rfl)
theorem dX5_eat_61 : decode cX5_eat 61 = .ok (.putfield 397, 3) := dk_181 1 141 (dk_at dksX5_eat_2 15 rfl rfl)
theorem dX5_eat_64 : decode cX5_eat 64 = .ok (.aload_n 0, 1) := dk_42 (dk_at dksX5_eat_2 18 rfl rfl)
theorem dX5_eat_65 : decode cX5_eat 65 = .ok (.dup, 1) := dk_89 (dk_at dksX5_eat_2 19 rfl rfl)
theorem dX5_eat_66 : decode cX5_eat 66 = .ok (.getfield 412, 3) := dk_180 1 156 (dk_at dksX5_eat_2 20 rfl rfl)
theorem dX5_eat_69 : decode cX5_eat 69 = .ok (.iload_n 2, 1) := dk_28 (dk_at dksX5_eat_2 23 rfl rfl)
theorem dX5_eat_70 : decode cX5_eat 70 = .ok (.iadd, 1) := dk_96 (dk_at dksX5_eat_3 0 rfl rfl)
theorem dX5_eat_71 : decode cX5_eat 71 = .ok (.putfield 412, 3) := dk_181 1 156 (dk_at dksX5_eat_3 1 rfl rfl)
theorem dX5_eat_74 : decode cX5_eat 74 = .ok (.aload_n 0, 1) := dk_42 (dk_at dksX5_eat_3 4 rfl rfl)
theorem dX5_eat_75 : decode cX5_eat 75 = .ok (.getfield 53, 3) := dk_180 0 53 (dk_at dksX5_eat_3 5 rfl rfl)
theorem dX5_eat_78 : decode cX5_eat 78 = .ok (.iload_n 1, 1) := dk_27 (dk_at dksX5_eat_3 8 rfl rfl)
theorem dX5_eat_79 : decode cX5_eat 79 = .ok (.aload_n 0, 1) := dk_42 (dk_at dksX5_eat_3 9 rfl rfl)
theorem dX5_eat_80 : decode cX5_eat 80 = .ok (.getfield 53, 3) := dk_180 0 53 (dk_at dksX5_eat_3 10 rfl rfl)
theorem dX5_eat_83 : decode cX5_eat 83 = .ok (.iload_n 1, 1) := dk_27 (dk_at dksX5_eat_3 13 rfl rfl)
theorem dX5_eat_84 : decode cX5_eat 84 = .ok (.iaload, 1) := dk_46 (dk_at dksX5_eat_3 14 rfl rfl)
theorem dX5_eat_85 : decode cX5_eat 85 = .ok (.bipush 6, 2) := dk_16 6 (dk_at dksX5_eat_3 15 rfl rfl)
theorem dX5_eat_87 : decode cX5_eat 87 = .ok (.isub, 1) := dk_100 (dk_at dksX5_eat_3 17 rfl rfl)
theorem dX5_eat_88 : decode cX5_eat 88 = .ok (.iconst 2, 1) := dk_5 (dk_at dksX5_eat_3 18 rfl rfl)
theorem dX5_eat_89 : decode cX5_eat 89 = .ok (.iload_n 2, 1) := dk_28 (dk_at dksX5_eat_3 19 rfl rfl)
theorem dX5_eat_90 : decode cX5_eat 90 = .ok (.imul, 1) := dk_104 (dk_at dksX5_eat_3 20 rfl rfl)
theorem dX5_eat_91 : decode cX5_eat 91 = .ok (.iadd, 1) := dk_96 (dk_at dksX5_eat_3 21 rfl rfl)
theorem dX5_eat_92 : decode cX5_eat 92 = .ok (.iconst 0, 1) := dk_3 (dk_at dksX5_eat_3 22 rfl rfl)
theorem dX5_eat_93 : decode cX5_eat 93 = .ok (.sipush 999, 3) := dk_17 3 231 (dk_at dksX5_eat_4 0 rfl rfl)
theorem dX5_eat_96 : decode cX5_eat 96 = .ok (.invokestatic 284, 3) := dk_184 1 28 (dk_at dksX5_eat_4 3 rfl rfl)
theorem dX5_eat_99 : decode cX5_eat 99 = .ok (.iastore, 1) := dk_79 (dk_at dksX5_eat_4 6 rfl rfl)
theorem dX5_eat_100 : decode cX5_eat 100 = .ok (.iinc 1 1, 3) := dk_132 1 1 (dk_at dksX5_eat_4 7 rfl rfl)
theorem dX5_eat_103 : decode cX5_eat 103 = .ok (.goto (-101), 3) := dk_167 255 155 (dk_at dksX5_eat_4 10 rfl rfl)
theorem dX5_eat_106 : decode cX5_eat 106 = .ok (.return_, 1) := dk_177 (dk_at dksX5_eat_4 13 rfl rfl)
abbrev cX5_last : ByteArray := prog_22_method_73_code
def yX5_last : MethodName := ⟨RX5, "last", "(II)I"⟩
def dkwX5_last_1 : List UInt8 := [182, 1, 138, 154, 0, 8, 16, 254, 167, 0, 9, 42, 27, 28, 182, 1, 168, 172]
abbrev dktX5_last_1 : List UInt8 := dkwX5_last_1 ++ []
def dkwX5_last_0 : List UInt8 := [27, 3, 17, 3, 231, 184, 0, 230, 153, 0, 13, 28, 3, 16, 9, 184, 0, 230, 154, 0, 5, 2, 172, 42]
abbrev dktX5_last_0 : List UInt8 := dkwX5_last_0 ++ dktX5_last_1
theorem dksX5_last_0 : cX5_last.data.toList.drop 0 = dktX5_last_0 := by decide +kernel
theorem dksX5_last_1 : cX5_last.data.toList.drop 24 = dktX5_last_1 := dk_seg dksX5_last_0 24 rfl rfl
theorem dX5_last_0 : decode cX5_last 0 = .ok (.iload_n 1, 1) := dk_27 (dk_at dksX5_last_0 0 rfl rfl)
theorem dX5_last_1 : decode cX5_last 1 = .ok (.iconst 0, 1) := dk_3 (dk_at dksX5_last_0 1 rfl rfl)
theorem dX5_last_2 : decode cX5_last 2 = .ok (.sipush 999, 3) := dk_17 3 231 (dk_at dksX5_last_0 2 rfl rfl)
theorem dX5_last_5 : decode cX5_last 5 = .ok (.invokestatic 230, 3) := dk_184 0 230 (dk_at dksX5_last_0 5 rfl rfl)
theorem dX5_last_8 : decode cX5_last 8 = .ok (.ifCond .eq 13, 3) := dk_153 0 13 (dk_at dksX5_last_0 8 rfl rfl)
theorem dX5_last_11 : decode cX5_last 11 = .ok (.iload_n 2, 1) := dk_28 (dk_at dksX5_last_0 11 rfl rfl)
theorem dX5_last_12 : decode cX5_last 12 = .ok (.iconst 0, 1) := dk_3 (dk_at dksX5_last_0 12 rfl rfl)
theorem dX5_last_13 : decode cX5_last 13 = .ok (.bipush 9, 2) := dk_16 9 (dk_at dksX5_last_0 13 rfl rfl)
theorem dX5_last_15 : decode cX5_last 15 = .ok (.invokestatic 230, 3) := dk_184 0 230 (dk_at dksX5_last_0 15 rfl rfl)
theorem dX5_last_18 : decode cX5_last 18 = .ok (.ifCond .ne 5, 3) := dk_154 0 5 (dk_at dksX5_last_0 18 rfl rfl)
theorem dX5_last_21 : decode cX5_last 21 = .ok (.iconst (-1), 1) := dk_2 (dk_at dksX5_last_0 21 rfl rfl)
theorem dX5_last_22 : decode cX5_last 22 = .ok (.ireturn, 1) := dk_172 (dk_at dksX5_last_0 22 rfl rfl)
theorem dX5_last_23 : decode cX5_last 23 = .ok (.aload_n 0, 1) := dk_42 (dk_at dksX5_last_0 23 rfl rfl)
theorem dX5_last_24 : decode cX5_last 24 = .ok (.invokevirtual 394, 3) := dk_182 1 138 (dk_at dksX5_last_1 0 rfl rfl)
theorem dX5_last_27 : decode cX5_last 27 = .ok (.ifCond .ne 8, 3) := dk_154 0 8 (dk_at dksX5_last_1 3 rfl rfl)
theorem dX5_last_30 : decode cX5_last 30 = .ok (.bipush (-2), 2) := dk_16 254 (dk_at dksX5_last_1 6 rfl rfl)
theorem dX5_last_32 : decode cX5_last 32 = .ok (.goto 9, 3) := dk_167 0 9 (dk_at dksX5_last_1 8 rfl rfl)
theorem dX5_last_35 : decode cX5_last 35 = .ok (.aload_n 0, 1) := dk_42 (dk_at dksX5_last_1 11 rfl rfl)
theorem dX5_last_36 : decode cX5_last 36 = .ok (.iload_n 1, 1) := dk_27 (dk_at dksX5_last_1 12 rfl rfl)
theorem dX5_last_37 : decode cX5_last 37 = .ok (.iload_n 2, 1) := dk_28 (dk_at dksX5_last_1 13 rfl rfl)
theorem dX5_last_38 : decode cX5_last 38 = .ok (.invokevirtual 424, 3) := dk_182 1 168 (dk_at dksX5_last_1 14 rfl rfl)
theorem dX5_last_41 : decode cX5_last 41 = .ok (.ireturn, 1) := dk_172 (dk_at dksX5_last_1 17 rfl rfl)
abbrev cX5_lastsBy : ByteArray := prog_22_method_72_code
def yX5_lastsBy : MethodName := ⟨RX5, "lastsBy", "(II)I"⟩
def dkwX5_lastsBy_7 : List UInt8 := [172]
abbrev dktX5_lastsBy_7 : List UInt8 := dkwX5_lastsBy_7 ++ []
def dkwX5_lastsBy_6 : List UInt8 := [132, 6, 1, 167, 255, 162, 21, 5, 154, 0, 8, 21, 4, 4, 100, 172, 132, 4, 1, 167, 255, 133, 16, 60]
abbrev dktX5_lastsBy_6 : List UInt8 := dkwX5_lastsBy_6 ++ dktX5_lastsBy_7
def dkwX5_lastsBy_5 : List UInt8 := [79, 21, 5, 153, 0, 18, 42, 180, 0, 142, 21, 6, 46, 27, 164, 0, 7, 4, 167, 0, 4, 3, 54, 5]
abbrev dktX5_lastsBy_5 : List UInt8 := dkwX5_lastsBy_5 ++ dktX5_lastsBy_6
def dkwX5_lastsBy_4 : List UInt8 := [21, 6, 42, 180, 0, 142, 21, 6, 46, 16, 6, 100, 5, 21, 7, 104, 96, 3, 17, 3, 231, 184, 1, 28]
abbrev dktX5_lastsBy_4 : List UInt8 := dkwX5_lastsBy_4 ++ dktX5_lastsBy_5
def dkwX5_lastsBy_3 : List UInt8 := [167, 0, 72, 28, 29, 162, 0, 7, 28, 167, 0, 4, 29, 54, 7, 29, 21, 7, 100, 62, 42, 180, 0, 142]
abbrev dktX5_lastsBy_3 : List UInt8 := dkwX5_lastsBy_3 ++ dktX5_lastsBy_4
def dkwX5_lastsBy_2 : List UInt8 := [3, 54, 6, 21, 6, 42, 180, 0, 242, 162, 0, 91, 42, 180, 0, 62, 21, 6, 51, 154, 0, 6]
abbrev dktX5_lastsBy_2 : List UInt8 := dkwX5_lastsBy_2 ++ dktX5_lastsBy_3
def dkwX5_lastsBy_1 : List UInt8 := [132, 3, 1, 167, 255, 233, 42, 180, 1, 141, 62, 4, 54, 4, 21, 4, 16, 60, 163, 0, 122, 4, 54, 5]
abbrev dktX5_lastsBy_1 : List UInt8 := dkwX5_lastsBy_1 ++ dktX5_lastsBy_2
def dkwX5_lastsBy_0 : List UInt8 := [3, 62, 29, 42, 180, 0, 242, 162, 0, 21, 42, 180, 0, 142, 29, 42, 180, 0, 53, 29, 46, 79]
abbrev dktX5_lastsBy_0 : List UInt8 := dkwX5_lastsBy_0 ++ dktX5_lastsBy_1
theorem dksX5_lastsBy_0 : cX5_lastsBy.data.toList.drop 0 = dktX5_lastsBy_0 := by decide +kernel
theorem dksX5_lastsBy_1 : cX5_lastsBy.data.toList.drop 22 = dktX5_lastsBy_1 := dk_seg dksX5_lastsBy_0 22 rfl rfl
theorem dksX5_lastsBy_2 : cX5_lastsBy.data.toList.drop 46 = dktX5_lastsBy_2 := dk_seg dksX5_lastsBy_1 24 rfl rfl
theorem dksX5_lastsBy_3 : cX5_lastsBy.data.toList.drop 68 = dktX5_lastsBy_3 := dk_seg dksX5_lastsBy_2 22 rfl rfl
theorem dksX5_lastsBy_4 : cX5_lastsBy.data.toList.drop 92 = dktX5_lastsBy_4 := dk_seg dksX5_lastsBy_3 24 rfl rfl
theorem dksX5_lastsBy_5 : cX5_lastsBy.data.toList.drop 116 = dktX5_lastsBy_5 := dk_seg dksX5_lastsBy_4 24 rfl rfl
theorem dksX5_lastsBy_6 : cX5_lastsBy.data.toList.drop 140 = dktX5_lastsBy_6 := dk_seg dksX5_lastsBy_5 24 rfl rfl
theorem dksX5_lastsBy_7 : cX5_lastsBy.data.toList.drop 164 = dktX5_lastsBy_7 := dk_seg dksX5_lastsBy_6 24 rfl rfl
theorem dX5_lastsBy_0 : decode cX5_lastsBy 0 = .ok (.iconst 0, 1) := dk_3 (dk_at dksX5_lastsBy_0 0 rfl rfl)
theorem dX5_lastsBy_1 : decode cX5_lastsBy 1 = .ok (.istore_n 3, 1) := dk_62 (dk_at dksX5_lastsBy_0 1 rfl rfl)
theorem dX5_lastsBy_2 : decode cX5_lastsBy 2 = .ok (.iload_n 3, 1) := dk_29 (dk_at dksX5_lastsBy_0 2 rfl rfl)
theorem dX5_lastsBy_3 : decode cX5_lastsBy 3 = .ok (.aload_n 0, 1) := dk_42 (dk_at dksX5_lastsBy_0 3 rfl rfl)
theorem dX5_lastsBy_4 : decode cX5_lastsBy 4 = .ok (.getfield 242, 3) := dk_180 0 242 (dk_at dksX5_lastsBy_0 4 rfl rfl)
theorem dX5_lastsBy_7 : decode cX5_lastsBy 7 = .ok (.if_icmp .ge 21, 3) := dk_162 0 21 (dk_at dksX5_lastsBy_0 7 rfl rfl)
theorem dX5_lastsBy_10 : decode cX5_lastsBy 10 = .ok (.aload_n 0, 1) := dk_42 (dk_at dksX5_lastsBy_0 10 rfl rfl)
theorem dX5_lastsBy_11 : decode cX5_lastsBy 11 = .ok (.getfield 142, 3) := dk_180 0 142 (dk_at dksX5_lastsBy_0 11 rfl rfl)
theorem dX5_lastsBy_14 : decode cX5_lastsBy 14 = .ok (.iload_n 3, 1) := dk_29 (dk_at dksX5_lastsBy_0 14 rfl rfl)
theorem dX5_lastsBy_15 : decode cX5_lastsBy 15 = .ok (.aload_n 0, 1) := dk_42 (dk_at dksX5_lastsBy_0 15 rfl rfl)
theorem dX5_lastsBy_16 : decode cX5_lastsBy 16 = .ok (.getfield 53, 3) := dk_180 0 53 (dk_at dksX5_lastsBy_0 16 rfl rfl)
theorem dX5_lastsBy_19 : decode cX5_lastsBy 19 = .ok (.iload_n 3, 1) := dk_29 (dk_at dksX5_lastsBy_0 19 rfl rfl)
theorem dX5_lastsBy_20 : decode cX5_lastsBy 20 = .ok (.iaload, 1) := dk_46 (dk_at dksX5_lastsBy_0 20 rfl rfl)
theorem dX5_lastsBy_21 : decode cX5_lastsBy 21 = .ok (.iastore, 1) := dk_79 (dk_at dksX5_lastsBy_0 21 rfl rfl)
theorem dX5_lastsBy_22 : decode cX5_lastsBy 22 = .ok (.iinc 3 1, 3) := dk_132 3 1 (dk_at dksX5_lastsBy_1 0 rfl rfl)
theorem dX5_lastsBy_25 : decode cX5_lastsBy 25 = .ok (.goto (-23), 3) := dk_167 255 233 (dk_at dksX5_lastsBy_1 3 rfl rfl)
theorem dX5_lastsBy_28 : decode cX5_lastsBy 28 = .ok (.aload_n 0, 1) := dk_42 (dk_at dksX5_lastsBy_1 6 rfl rfl)
theorem dX5_lastsBy_29 : decode cX5_lastsBy 29 = .ok (.getfield 397, 3) := dk_180 1 141 (dk_at dksX5_lastsBy_1 7 rfl rfl)
theorem dX5_lastsBy_32 : decode cX5_lastsBy 32 = .ok (.istore_n 3, 1) := dk_62 (dk_at dksX5_lastsBy_1 10 rfl rfl)
theorem dX5_lastsBy_33 : decode cX5_lastsBy 33 = .ok (.iconst 1, 1) := dk_4 (dk_at dksX5_lastsBy_1 11 rfl rfl)
theorem dX5_lastsBy_34 : decode cX5_lastsBy 34 = .ok (.istore 4, 2) := dk_54 4 (dk_at dksX5_lastsBy_1 12 rfl rfl)
theorem dX5_lastsBy_36 : decode cX5_lastsBy 36 = .ok (.iload 4, 2) := dk_21 4 (dk_at dksX5_lastsBy_1 14 rfl rfl)
theorem dX5_lastsBy_38 : decode cX5_lastsBy 38 = .ok (.bipush 60, 2) := dk_16 60 (dk_at dksX5_lastsBy_1 16 rfl rfl)
theorem dX5_lastsBy_40 : decode cX5_lastsBy 40 = .ok (.if_icmp .gt 122, 3) := dk_163 0 122 (dk_at dksX5_lastsBy_1 18 rfl rfl)
theorem dX5_lastsBy_43 : decode cX5_lastsBy 43 = .ok (.iconst 1, 1) := dk_4 (dk_at dksX5_lastsBy_1 21 rfl rfl)
theorem dX5_lastsBy_44 : decode cX5_lastsBy 44 = .ok (.istore 5, 2) := dk_54 5 (dk_at dksX5_lastsBy_1 22 rfl rfl)
theorem dX5_lastsBy_46 : decode cX5_lastsBy 46 = .ok (.iconst 0, 1) := dk_3 (dk_at dksX5_lastsBy_2 0 rfl rfl)
theorem dX5_lastsBy_47 : decode cX5_lastsBy 47 = .ok (.istore 6, 2) := dk_54 6 (dk_at dksX5_lastsBy_2 1 rfl rfl)
theorem dX5_lastsBy_49 : decode cX5_lastsBy 49 = .ok (.iload 6, 2) := dk_21 6 (dk_at dksX5_lastsBy_2 3 rfl rfl)
theorem dX5_lastsBy_51 : decode cX5_lastsBy 51 = .ok (.aload_n 0, 1) := dk_42 (dk_at dksX5_lastsBy_2 5 rfl rfl)
theorem dX5_lastsBy_52 : decode cX5_lastsBy 52 = .ok (.getfield 242, 3) := dk_180 0 242 (dk_at dksX5_lastsBy_2 6 rfl rfl)
theorem dX5_lastsBy_55 : decode cX5_lastsBy 55 = .ok (.if_icmp .ge 91, 3) := dk_162 0 91 (dk_at dksX5_lastsBy_2 9 rfl rfl)
theorem dX5_lastsBy_58 : decode cX5_lastsBy 58 = .ok (.aload_n 0, 1) := dk_42 (dk_at dksX5_lastsBy_2 12 rfl rfl)
theorem dX5_lastsBy_59 : decode cX5_lastsBy 59 = .ok (.getfield 62, 3) := dk_180 0 62 (dk_at dksX5_lastsBy_2 13 rfl rfl)
theorem dX5_lastsBy_62 : decode cX5_lastsBy 62 = .ok (.iload 6, 2) := dk_21 6 (dk_at dksX5_lastsBy_2 16 rfl rfl)
theorem dX5_lastsBy_64 : decode cX5_lastsBy 64 = .ok (.baload, 1) := dk_51 (dk_at dksX5_lastsBy_2 18 rfl rfl)
theorem dX5_lastsBy_65 : decode cX5_lastsBy 65 = .ok (.ifCond .ne 6, 3) := dk_154 0 6 (dk_at dksX5_lastsBy_2 19 rfl rfl)
theorem dX5_lastsBy_68 : decode cX5_lastsBy 68 = .ok (.goto 72, 3) := dk_167 0 72 (dk_at dksX5_lastsBy_3 0 rfl rfl)
theorem dX5_lastsBy_71 : decode cX5_lastsBy 71 = .ok (.iload_n 2, 1) := dk_28 (dk_at dksX5_lastsBy_3 3 rfl rfl)
theorem dX5_lastsBy_72 : decode cX5_lastsBy 72 = .ok (.iload_n 3, 1) := dk_29 (dk_at dksX5_lastsBy_3 4 rfl rfl)
theorem dX5_lastsBy_73 : decode cX5_lastsBy 73 = .ok (.if_icmp .ge 7, 3) := dk_162 0 7 (dk_at dksX5_lastsBy_3 5 rfl rfl)
theorem dX5_lastsBy_76 : decode cX5_lastsBy 76 = .ok (.iload_n 2, 1) := dk_28 (dk_at dksX5_lastsBy_3 8 rfl rfl)
theorem dX5_lastsBy_77 : decode cX5_lastsBy 77 = .ok (.goto 4, 3) := dk_167 0 4 (dk_at dksX5_lastsBy_3 9 rfl rfl)
theorem dX5_lastsBy_80 : decode cX5_lastsBy 80 = .ok (.iload_n 3, 1) := dk_29 (dk_at dksX5_lastsBy_3 12 rfl rfl)
theorem dX5_lastsBy_81 : decode cX5_lastsBy 81 = .ok (.istore 7, 2) := dk_54 7 (dk_at dksX5_lastsBy_3 13 rfl rfl)
theorem dX5_lastsBy_83 : decode cX5_lastsBy 83 = .ok (.iload_n 3, 1) := dk_29 (dk_at dksX5_lastsBy_3 15 rfl rfl)
theorem dX5_lastsBy_84 : decode cX5_lastsBy 84 = .ok (.iload 7, 2) := dk_21 7 (dk_at dksX5_lastsBy_3 16 rfl rfl)
theorem dX5_lastsBy_86 : decode cX5_lastsBy 86 = .ok (.isub, 1) := dk_100 (dk_at dksX5_lastsBy_3 18 rfl rfl)
theorem dX5_lastsBy_87 : decode cX5_lastsBy 87 = .ok (.istore_n 3, 1) := dk_62 (dk_at dksX5_lastsBy_3 19 rfl rfl)
theorem dX5_lastsBy_88 : decode cX5_lastsBy 88 = .ok (.aload_n 0, 1) := dk_42 (dk_at dksX5_lastsBy_3 20 rfl rfl)
theorem dX5_lastsBy_89 : decode cX5_lastsBy 89 = .ok (.getfield 142, 3) := dk_180 0 142 (dk_at dksX5_lastsBy_3 21 rfl rfl)
theorem dX5_lastsBy_92 : decode cX5_lastsBy 92 = .ok (.iload 6, 2) := dk_21 6 (dk_at dksX5_lastsBy_4 0 rfl rfl)
theorem dX5_lastsBy_94 : decode cX5_lastsBy 94 = .ok (.aload_n 0, 1) := dk_42 (dk_at dksX5_lastsBy_4 2 rfl rfl)
theorem dX5_lastsBy_95 : decode cX5_lastsBy 95 = .ok (.getfield 142, 3) := dk_180 0 142 (dk_at dksX5_lastsBy_4 3 rfl rfl)
theorem dX5_lastsBy_98 : decode cX5_lastsBy 98 = .ok (.iload 6, 2) := dk_21 6 (dk_at dksX5_lastsBy_4 6 rfl rfl)
theorem dX5_lastsBy_100 : decode cX5_lastsBy 100 = .ok (.iaload, 1) := dk_46 (dk_at dksX5_lastsBy_4 8 rfl rfl)
theorem dX5_lastsBy_101 : decode cX5_lastsBy 101 = .ok (.bipush 6, 2) := dk_16 6 (dk_at dksX5_lastsBy_4 9 rfl rfl)
theorem dX5_lastsBy_103 : decode cX5_lastsBy 103 = .ok (.isub, 1) := dk_100 (dk_at dksX5_lastsBy_4 11 rfl rfl)
theorem dX5_lastsBy_104 : decode cX5_lastsBy 104 = .ok (.iconst 2, 1) := dk_5 (dk_at dksX5_lastsBy_4 12 rfl rfl)
theorem dX5_lastsBy_105 : decode cX5_lastsBy 105 = .ok (.iload 7, 2) := dk_21 7 (dk_at dksX5_lastsBy_4 13 rfl rfl)
theorem dX5_lastsBy_107 : decode cX5_lastsBy 107 = .ok (.imul, 1) := dk_104 (dk_at dksX5_lastsBy_4 15 rfl rfl)
theorem dX5_lastsBy_108 : decode cX5_lastsBy 108 = .ok (.iadd, 1) := dk_96 (dk_at dksX5_lastsBy_4 16 rfl rfl)
theorem dX5_lastsBy_109 : decode cX5_lastsBy 109 = .ok (.iconst 0, 1) := dk_3 (dk_at dksX5_lastsBy_4 17 rfl rfl)
theorem dX5_lastsBy_110 : decode cX5_lastsBy 110 = .ok (.sipush 999, 3) := dk_17 3 231 (dk_at dksX5_lastsBy_4 18 rfl rfl)
theorem dX5_lastsBy_113 : decode cX5_lastsBy 113 = .ok (.invokestatic 284, 3) := dk_184 1 28 (dk_at dksX5_lastsBy_4 21 rfl rfl)
theorem dX5_lastsBy_116 : decode cX5_lastsBy 116 = .ok (.iastore, 1) := dk_79 (dk_at dksX5_lastsBy_5 0 rfl rfl)
theorem dX5_lastsBy_117 : decode cX5_lastsBy 117 = .ok (.iload 5, 2) := dk_21 5 (dk_at dksX5_lastsBy_5 1 rfl rfl)
theorem dX5_lastsBy_119 : decode cX5_lastsBy 119 = .ok (.ifCond .eq 18, 3) := dk_153 0 18 (dk_at dksX5_lastsBy_5 3 rfl rfl)
theorem dX5_lastsBy_122 : decode cX5_lastsBy 122 = .ok (.aload_n 0, 1) := dk_42 (dk_at dksX5_lastsBy_5 6 rfl rfl)
theorem dX5_lastsBy_123 : decode cX5_lastsBy 123 = .ok (.getfield 142, 3) := dk_180 0 142 (dk_at dksX5_lastsBy_5 7 rfl rfl)
theorem dX5_lastsBy_126 : decode cX5_lastsBy 126 = .ok (.iload 6, 2) := dk_21 6 (dk_at dksX5_lastsBy_5 10 rfl rfl)
theorem dX5_lastsBy_128 : decode cX5_lastsBy 128 = .ok (.iaload, 1) := dk_46 (dk_at dksX5_lastsBy_5 12 rfl rfl)
theorem dX5_lastsBy_129 : decode cX5_lastsBy 129 = .ok (.iload_n 1, 1) := dk_27 (dk_at dksX5_lastsBy_5 13 rfl rfl)
theorem dX5_lastsBy_130 : decode cX5_lastsBy 130 = .ok (.if_icmp .le 7, 3) := dk_164 0 7 (dk_at dksX5_lastsBy_5 14 rfl rfl)
theorem dX5_lastsBy_133 : decode cX5_lastsBy 133 = .ok (.iconst 1, 1) := dk_4 (dk_at dksX5_lastsBy_5 17 rfl rfl)
theorem dX5_lastsBy_134 : decode cX5_lastsBy 134 = .ok (.goto 4, 3) := dk_167 0 4 (dk_at dksX5_lastsBy_5 18 rfl rfl)
theorem dX5_lastsBy_137 : decode cX5_lastsBy 137 = .ok (.iconst 0, 1) := dk_3 (dk_at dksX5_lastsBy_5 21 rfl rfl)
theorem dX5_lastsBy_138 : decode cX5_lastsBy 138 = .ok (.istore 5, 2) := dk_54 5 (dk_at dksX5_lastsBy_5 22 rfl rfl)
theorem dX5_lastsBy_140 : decode cX5_lastsBy 140 = .ok (.iinc 6 1, 3) := dk_132 6 1 (dk_at dksX5_lastsBy_6 0 rfl rfl)
theorem dX5_lastsBy_143 : decode cX5_lastsBy 143 = .ok (.goto (-94), 3) := dk_167 255 162 (dk_at dksX5_lastsBy_6 3 rfl rfl)
theorem dX5_lastsBy_146 : decode cX5_lastsBy 146 = .ok (.iload 5, 2) := dk_21 5 (dk_at dksX5_lastsBy_6 6 rfl rfl)
theorem dX5_lastsBy_148 : decode cX5_lastsBy 148 = .ok (.ifCond .ne 8, 3) := dk_154 0 8 (dk_at dksX5_lastsBy_6 8 rfl rfl)
theorem dX5_lastsBy_151 : decode cX5_lastsBy 151 = .ok (.iload 4, 2) := dk_21 4 (dk_at dksX5_lastsBy_6 11 rfl rfl)
theorem dX5_lastsBy_153 : decode cX5_lastsBy 153 = .ok (.iconst 1, 1) := dk_4 (dk_at dksX5_lastsBy_6 13 rfl rfl)
theorem dX5_lastsBy_154 : decode cX5_lastsBy 154 = .ok (.isub, 1) := dk_100 (dk_at dksX5_lastsBy_6 14 rfl rfl)
theorem dX5_lastsBy_155 : decode cX5_lastsBy 155 = .ok (.ireturn, 1) := dk_172 (dk_at dksX5_lastsBy_6 15 rfl rfl)
theorem dX5_lastsBy_156 : decode cX5_lastsBy 156 = .ok (.iinc 4 1, 3) := dk_132 4 1 (dk_at dksX5_lastsBy_6 16 rfl rfl)
theorem dX5_lastsBy_159 : decode cX5_lastsBy 159 = .ok (.goto (-123), 3) := dk_167 255 133 (dk_at dksX5_lastsBy_6 19 rfl rfl)
theorem dX5_lastsBy_162 : decode cX5_lastsBy 162 = .ok (.bipush 60, 2) := dk_16 60 (dk_at dksX5_lastsBy_6 22 rfl rfl)
theorem dX5_lastsBy_164 : decode cX5_lastsBy 164 = .ok (.ireturn, 1) := dk_172 (dk_at dksX5_lastsBy_7 0 rfl rfl)
abbrev cX5_best : ByteArray := prog_22_method_74_code
def yX5_best : MethodName := ⟨RX5, "best", "(I)I"⟩
def dkwX5_best_2 : List UInt8 := [29, 61, 132, 3, 1, 167, 255, 230, 28, 172]
abbrev dktX5_best_2 : List UInt8 := dkwX5_best_2 ++ []
def dkwX5_best_1 : List UInt8 := [61, 4, 62, 29, 16, 10, 162, 0, 26, 42, 27, 29, 182, 1, 168, 42, 27, 28, 182, 1, 168, 164, 0, 5]
abbrev dktX5_best_1 : List UInt8 := dkwX5_best_1 ++ dktX5_best_2
def dkwX5_best_0 : List UInt8 := [27, 3, 17, 3, 231, 184, 0, 230, 154, 0, 5, 2, 172, 42, 182, 1, 138, 154, 0, 6, 16, 254, 172, 3]
abbrev dktX5_best_0 : List UInt8 := dkwX5_best_0 ++ dktX5_best_1
theorem dksX5_best_0 : cX5_best.data.toList.drop 0 = dktX5_best_0 := by decide +kernel
theorem dksX5_best_1 : cX5_best.data.toList.drop 24 = dktX5_best_1 := dk_seg dksX5_best_0 24 rfl rfl
theorem dksX5_best_2 : cX5_best.data.toList.drop 48 = dktX5_best_2 := dk_seg dksX5_best_1 24 rfl rfl
theorem dX5_best_0 : decode cX5_best 0 = .ok (.iload_n 1, 1) := dk_27 (dk_at dksX5_best_0 0 rfl rfl)
theorem dX5_best_1 : decode cX5_best 1 = .ok (.iconst 0, 1) := dk_3 (dk_at dksX5_best_0 1 rfl rfl)
theorem dX5_best_2 : decode cX5_best 2 = .ok (.sipush 999, 3) := dk_17 3 231 (dk_at dksX5_best_0 2 rfl rfl)
theorem dX5_best_5 : decode cX5_best 5 = .ok (.invokestatic 230, 3) := dk_184 0 230 (dk_at dksX5_best_0 5 rfl rfl)
theorem dX5_best_8 : decode cX5_best 8 = .ok (.ifCond .ne 5, 3) := dk_154 0 5 (dk_at dksX5_best_0 8 rfl rfl)
theorem dX5_best_11 : decode cX5_best 11 = .ok (.iconst (-1), 1) := dk_2 (dk_at dksX5_best_0 11 rfl rfl)
theorem dX5_best_12 : decode cX5_best 12 = .ok (.ireturn, 1) := dk_172 (dk_at dksX5_best_0 12 rfl rfl)
theorem dX5_best_13 : decode cX5_best 13 = .ok (.aload_n 0, 1) := dk_42 (dk_at dksX5_best_0 13 rfl rfl)
theorem dX5_best_14 : decode cX5_best 14 = .ok (.invokevirtual 394, 3) := dk_182 1 138 (dk_at dksX5_best_0 14 rfl rfl)
theorem dX5_best_17 : decode cX5_best 17 = .ok (.ifCond .ne 6, 3) := dk_154 0 6 (dk_at dksX5_best_0 17 rfl rfl)
theorem dX5_best_20 : decode cX5_best 20 = .ok (.bipush (-2), 2) := dk_16 254 (dk_at dksX5_best_0 20 rfl rfl)
theorem dX5_best_22 : decode cX5_best 22 = .ok (.ireturn, 1) := dk_172 (dk_at dksX5_best_0 22 rfl rfl)
theorem dX5_best_23 : decode cX5_best 23 = .ok (.iconst 0, 1) := dk_3 (dk_at dksX5_best_0 23 rfl rfl)
theorem dX5_best_24 : decode cX5_best 24 = .ok (.istore_n 2, 1) := dk_61 (dk_at dksX5_best_1 0 rfl rfl)
theorem dX5_best_25 : decode cX5_best 25 = .ok (.iconst 1, 1) := dk_4 (dk_at dksX5_best_1 1 rfl rfl)
theorem dX5_best_26 : decode cX5_best 26 = .ok (.istore_n 3, 1) := dk_62 (dk_at dksX5_best_1 2 rfl rfl)
theorem dX5_best_27 : decode cX5_best 27 = .ok (.iload_n 3, 1) := dk_29 (dk_at dksX5_best_1 3 rfl rfl)
theorem dX5_best_28 : decode cX5_best 28 = .ok (.bipush 10, 2) := dk_16 10 (dk_at dksX5_best_1 4 rfl rfl)
theorem dX5_best_30 : decode cX5_best 30 = .ok (.if_icmp .ge 26, 3) := dk_162 0 26 (dk_at dksX5_best_1 6 rfl rfl)
theorem dX5_best_33 : decode cX5_best 33 = .ok (.aload_n 0, 1) := dk_42 (dk_at dksX5_best_1 9 rfl rfl)
theorem dX5_best_34 : decode cX5_best 34 = .ok (.iload_n 1, 1) := dk_27 (dk_at dksX5_best_1 10 rfl rfl)
theorem dX5_best_35 : decode cX5_best 35 = .ok (.iload_n 3, 1) := dk_29 (dk_at dksX5_best_1 11 rfl rfl)
theorem dX5_best_36 : decode cX5_best 36 = .ok (.invokevirtual 424, 3) := dk_182 1 168 (dk_at dksX5_best_1 12 rfl rfl)
theorem dX5_best_39 : decode cX5_best 39 = .ok (.aload_n 0, 1) := dk_42 (dk_at dksX5_best_1 15 rfl rfl)
theorem dX5_best_40 : decode cX5_best 40 = .ok (.iload_n 1, 1) := dk_27 (dk_at dksX5_best_1 16 rfl rfl)
theorem dX5_best_41 : decode cX5_best 41 = .ok (.iload_n 2, 1) := dk_28 (dk_at dksX5_best_1 17 rfl rfl)
theorem dX5_best_42 : decode cX5_best 42 = .ok (.invokevirtual 424, 3) := dk_182 1 168 (dk_at dksX5_best_1 18 rfl rfl)
theorem dX5_best_45 : decode cX5_best 45 = .ok (.if_icmp .le 5, 3) := dk_164 0 5 (dk_at dksX5_best_1 21 rfl rfl)
theorem dX5_best_48 : decode cX5_best 48 = .ok (.iload_n 3, 1) := dk_29 (dk_at dksX5_best_2 0 rfl rfl)
theorem dX5_best_49 : decode cX5_best 49 = .ok (.istore_n 2, 1) := dk_61 (dk_at dksX5_best_2 1 rfl rfl)
theorem dX5_best_50 : decode cX5_best 50 = .ok (.iinc 3 1, 3) := dk_132 3 1 (dk_at dksX5_best_2 2 rfl rfl)
theorem dX5_best_53 : decode cX5_best 53 = .ok (.goto (-26), 3) := dk_167 255 230 (dk_at dksX5_best_2 5 rfl rfl)
theorem dX5_best_56 : decode cX5_best 56 = .ok (.iload_n 2, 1) := dk_28 (dk_at dksX5_best_2 8 rfl rfl)
theorem dX5_best_57 : decode cX5_best 57 = .ok (.ireturn, 1) := dk_172 (dk_at dksX5_best_2 9 rfl rfl)
abbrev cX5_down : ByteArray := prog_22_method_75_code
def yX5_down : MethodName := ⟨RX5, "down", "(III)I"⟩
def dkwX5_down_7 : List UInt8 := [89, 180, 1, 172, 4, 96, 181, 1, 172, 21, 5, 29, 96, 172]
abbrev dktX5_down_7 : List UInt8 := dkwX5_down_7 ++ []
def dkwX5_down_6 : List UInt8 := [42, 180, 0, 145, 42, 180, 1, 172, 28, 79, 42, 180, 0, 148, 42, 180, 1, 172, 21, 5, 29, 96, 79, 42]
abbrev dktX5_down_6 : List UInt8 := dkwX5_down_6 ++ dktX5_down_7
def dkwX5_down_5 : List UInt8 := [180, 0, 151, 27, 46, 167, 0, 7, 42, 180, 1, 25, 54, 5, 42, 180, 0, 151, 27, 21, 5, 29, 96, 79]
abbrev dktX5_down_5 : List UInt8 := dkwX5_down_5 ++ dktX5_down_6
def dkwX5_down_4 : List UInt8 := [16, 40, 160, 0, 6, 16, 253, 172, 42, 180, 0, 151, 27, 46, 42, 180, 1, 25, 164, 0, 12, 42]
abbrev dktX5_down_4 : List UInt8 := dkwX5_down_4 ++ dktX5_down_5
def dkwX5_down_3 : List UInt8 := [184, 0, 230, 154, 0, 5, 2, 172, 42, 180, 0, 38, 27, 46, 154, 0, 6, 16, 254, 172, 42, 180, 1, 172]
abbrev dktX5_down_3 : List UInt8 := dkwX5_down_3 ++ dktX5_down_4
def dkwX5_down_2 : List UInt8 := [17, 3, 231, 163, 0, 7, 4, 167, 0, 4, 3, 54, 4, 21, 4, 154, 0, 16, 28, 16, 11, 16, 19]
abbrev dktX5_down_2 : List UInt8 := dkwX5_down_2 ++ dktX5_down_3
def dkwX5_down_1 : List UInt8 := [184, 0, 230, 154, 0, 5, 2, 172, 28, 158, 0, 24, 28, 16, 10, 112, 154, 0, 17, 28, 16, 10, 108]
abbrev dktX5_down_1 : List UInt8 := dkwX5_down_1 ++ dktX5_down_2
def dkwX5_down_0 : List UInt8 := [42, 27, 182, 0, 245, 153, 0, 23, 42, 180, 0, 17, 27, 46, 6, 160, 0, 13, 29, 4, 16, 9]
abbrev dktX5_down_0 : List UInt8 := dkwX5_down_0 ++ dktX5_down_1
theorem dksX5_down_0 : cX5_down.data.toList.drop 0 = dktX5_down_0 := by decide +kernel
theorem dksX5_down_1 : cX5_down.data.toList.drop 22 = dktX5_down_1 := dk_seg dksX5_down_0 22 rfl rfl
theorem dksX5_down_2 : cX5_down.data.toList.drop 45 = dktX5_down_2 := dk_seg dksX5_down_1 23 rfl rfl
theorem dksX5_down_3 : cX5_down.data.toList.drop 68 = dktX5_down_3 := dk_seg dksX5_down_2 23 rfl rfl
theorem dksX5_down_4 : cX5_down.data.toList.drop 92 = dktX5_down_4 := dk_seg dksX5_down_3 24 rfl rfl
theorem dksX5_down_5 : cX5_down.data.toList.drop 114 = dktX5_down_5 := dk_seg dksX5_down_4 22 rfl rfl
theorem dksX5_down_6 : cX5_down.data.toList.drop 138 = dktX5_down_6 := dk_seg dksX5_down_5 24 rfl rfl
theorem dksX5_down_7 : cX5_down.data.toList.drop 162 = dktX5_down_7 := dk_seg dksX5_down_6 24 rfl rfl
theorem dX5_down_0 : decode cX5_down 0 = .ok (.aload_n 0, 1) := dk_42 (dk_at dksX5_down_0 0 rfl rfl)
theorem dX5_down_1 : decode cX5_down 1 = .ok (.iload_n 1, 1) := dk_27 (dk_at dksX5_down_0 1 rfl rfl)
theorem dX5_down_2 : decode cX5_down 2 = .ok (.invokevirtual 245, 3) := dk_182 0 245 (dk_at dksX5_down_0 2 rfl rfl)
theorem dX5_down_5 : decode cX5_down 5 = .ok (.ifCond .eq 23, 3) := dk_153 0 23 (dk_at dksX5_down_0 5 rfl rfl)
theorem dX5_down_8 : decode cX5_down 8 = .ok (.aload_n 0, 1) := dk_42 (dk_at dksX5_down_0 8 rfl rfl)
theorem dX5_down_9 : decode cX5_down 9 = .ok (.getfield 17, 3) := dk_180 0 17 (dk_at dksX5_down_0 9 rfl rfl)
theorem dX5_down_12 : decode cX5_down 12 = .ok (.iload_n 1, 1) := dk_27 (dk_at dksX5_down_0 12 rfl rfl)
theorem dX5_down_13 : decode cX5_down 13 = .ok (.iaload, 1) := dk_46 (dk_at dksX5_down_0 13 rfl rfl)
theorem dX5_down_14 : decode cX5_down 14 = .ok (.iconst 3, 1) := dk_6 (dk_at dksX5_down_0 14 rfl rfl)
theorem dX5_down_15 : decode cX5_down 15 = .ok (.if_icmp .ne 13, 3) := dk_160 0 13 (dk_at dksX5_down_0 15 rfl rfl)
theorem dX5_down_18 : decode cX5_down 18 = .ok (.iload_n 3, 1) := dk_29 (dk_at dksX5_down_0 18 rfl rfl)
theorem dX5_down_19 : decode cX5_down 19 = .ok (.iconst 1, 1) := dk_4 (dk_at dksX5_down_0 19 rfl rfl)
theorem dX5_down_20 : decode cX5_down 20 = .ok (.bipush 9, 2) := dk_16 9 (dk_at dksX5_down_0 20 rfl rfl)
theorem dX5_down_22 : decode cX5_down 22 = .ok (.invokestatic 230, 3) := dk_184 0 230 (dk_at dksX5_down_1 0 rfl rfl)
theorem dX5_down_25 : decode cX5_down 25 = .ok (.ifCond .ne 5, 3) := dk_154 0 5 (dk_at dksX5_down_1 3 rfl rfl)
theorem dX5_down_28 : decode cX5_down 28 = .ok (.iconst (-1), 1) := dk_2 (dk_at dksX5_down_1 6 rfl rfl)
theorem dX5_down_29 : decode cX5_down 29 = .ok (.ireturn, 1) := dk_172 (dk_at dksX5_down_1 7 rfl rfl)
theorem dX5_down_30 : decode cX5_down 30 = .ok (.iload_n 2, 1) := dk_28 (dk_at dksX5_down_1 8 rfl rfl)
theorem dX5_down_31 : decode cX5_down 31 = .ok (.ifCond .le 24, 3) := dk_158 0 24 (dk_at dksX5_down_1 9 rfl rfl)
theorem dX5_down_34 : decode cX5_down 34 = .ok (.iload_n 2, 1) := dk_28 (dk_at dksX5_down_1 12 rfl rfl)
theorem dX5_down_35 : decode cX5_down 35 = .ok (.bipush 10, 2) := dk_16 10 (dk_at dksX5_down_1 13 rfl rfl)
theorem dX5_down_37 : decode cX5_down 37 = .ok (.irem, 1) := dk_112 (dk_at dksX5_down_1 15 rfl rfl)
theorem dX5_down_38 : decode cX5_down 38 = .ok (.ifCond .ne 17, 3) := dk_154 0 17 (dk_at dksX5_down_1 16 rfl rfl)
theorem dX5_down_41 : decode cX5_down 41 = .ok (.iload_n 2, 1) := dk_28 (dk_at dksX5_down_1 19 rfl rfl)
theorem dX5_down_42 : decode cX5_down 42 = .ok (.bipush 10, 2) := dk_16 10 (dk_at dksX5_down_1 20 rfl rfl)
theorem dX5_down_44 : decode cX5_down 44 = .ok (.idiv, 1) := dk_108 (dk_at dksX5_down_1 22 rfl rfl)
theorem dX5_down_45 : decode cX5_down 45 = .ok (.sipush 999, 3) := dk_17 3 231 (dk_at dksX5_down_2 0 rfl rfl)
theorem dX5_down_48 : decode cX5_down 48 = .ok (.if_icmp .gt 7, 3) := dk_163 0 7 (dk_at dksX5_down_2 3 rfl rfl)
theorem dX5_down_51 : decode cX5_down 51 = .ok (.iconst 1, 1) := dk_4 (dk_at dksX5_down_2 6 rfl rfl)
theorem dX5_down_52 : decode cX5_down 52 = .ok (.goto 4, 3) := dk_167 0 4 (dk_at dksX5_down_2 7 rfl rfl)
theorem dX5_down_55 : decode cX5_down 55 = .ok (.iconst 0, 1) := dk_3 (dk_at dksX5_down_2 10 rfl rfl)
theorem dX5_down_56 : decode cX5_down 56 = .ok (.istore 4, 2) := dk_54 4 (dk_at dksX5_down_2 11 rfl rfl)
theorem dX5_down_58 : decode cX5_down 58 = .ok (.iload 4, 2) := dk_21 4 (dk_at dksX5_down_2 13 rfl rfl)
theorem dX5_down_60 : decode cX5_down 60 = .ok (.ifCond .ne 16, 3) := dk_154 0 16 (dk_at dksX5_down_2 15 rfl rfl)
theorem dX5_down_63 : decode cX5_down 63 = .ok (.iload_n 2, 1) := dk_28 (dk_at dksX5_down_2 18 rfl rfl)
theorem dX5_down_64 : decode cX5_down 64 = .ok (.bipush 11, 2) := dk_16 11 (dk_at dksX5_down_2 19 rfl rfl)
theorem dX5_down_66 : decode cX5_down 66 = .ok (.bipush 19, 2) := dk_16 19 (dk_at dksX5_down_2 21 rfl rfl)
theorem dX5_down_68 : decode cX5_down 68 = .ok (.invokestatic 230, 3) := dk_184 0 230 (dk_at dksX5_down_3 0 rfl rfl)
theorem dX5_down_71 : decode cX5_down 71 = .ok (.ifCond .ne 5, 3) := dk_154 0 5 (dk_at dksX5_down_3 3 rfl rfl)
theorem dX5_down_74 : decode cX5_down 74 = .ok (.iconst (-1), 1) := dk_2 (dk_at dksX5_down_3 6 rfl rfl)
theorem dX5_down_75 : decode cX5_down 75 = .ok (.ireturn, 1) := dk_172 (dk_at dksX5_down_3 7 rfl rfl)
theorem dX5_down_76 : decode cX5_down 76 = .ok (.aload_n 0, 1) := dk_42 (dk_at dksX5_down_3 8 rfl rfl)
theorem dX5_down_77 : decode cX5_down 77 = .ok (.getfield 38, 3) := dk_180 0 38 (dk_at dksX5_down_3 9 rfl rfl)
theorem dX5_down_80 : decode cX5_down 80 = .ok (.iload_n 1, 1) := dk_27 (dk_at dksX5_down_3 12 rfl rfl)
theorem dX5_down_81 : decode cX5_down 81 = .ok (.iaload, 1) := dk_46 (dk_at dksX5_down_3 13 rfl rfl)
theorem dX5_down_82 : decode cX5_down 82 = .ok (.ifCond .ne 6, 3) := dk_154 0 6 (dk_at dksX5_down_3 14 rfl rfl)
theorem dX5_down_85 : decode cX5_down 85 = .ok (.bipush (-2), 2) := dk_16 254 (dk_at dksX5_down_3 17 rfl rfl)
theorem dX5_down_87 : decode cX5_down 87 = .ok (.ireturn, 1) := dk_172 (dk_at dksX5_down_3 19 rfl rfl)
theorem dX5_down_88 : decode cX5_down 88 = .ok (.aload_n 0, 1) := dk_42 (dk_at dksX5_down_3 20 rfl rfl)
theorem dX5_down_89 : decode cX5_down 89 = .ok (.getfield 428, 3) := dk_180 1 172 (dk_at dksX5_down_3 21 rfl rfl)
theorem dX5_down_92 : decode cX5_down 92 = .ok (.bipush 40, 2) := dk_16 40 (dk_at dksX5_down_4 0 rfl rfl)
theorem dX5_down_94 : decode cX5_down 94 = .ok (.if_icmp .ne 6, 3) := dk_160 0 6 (dk_at dksX5_down_4 2 rfl rfl)
theorem dX5_down_97 : decode cX5_down 97 = .ok (.bipush (-3), 2) := dk_16 253 (dk_at dksX5_down_4 5 rfl rfl)
theorem dX5_down_99 : decode cX5_down 99 = .ok (.ireturn, 1) := dk_172 (dk_at dksX5_down_4 7 rfl rfl)
theorem dX5_down_100 : decode cX5_down 100 = .ok (.aload_n 0, 1) := dk_42 (dk_at dksX5_down_4 8 rfl rfl)
theorem dX5_down_101 : decode cX5_down 101 = .ok (.getfield 151, 3) := dk_180 0 151 (dk_at dksX5_down_4 9 rfl rfl)
theorem dX5_down_104 : decode cX5_down 104 = .ok (.iload_n 1, 1) := dk_27 (dk_at dksX5_down_4 12 rfl rfl)
theorem dX5_down_105 : decode cX5_down 105 = .ok (.iaload, 1) := dk_46 (dk_at dksX5_down_4 13 rfl rfl)
theorem dX5_down_106 : decode cX5_down 106 = .ok (.aload_n 0, 1) := dk_42 (dk_at dksX5_down_4 14 rfl rfl)
theorem dX5_down_107 : decode cX5_down 107 = .ok (.getfield 281, 3) := dk_180 1 25 (dk_at dksX5_down_4 15 rfl rfl)
theorem dX5_down_110 : decode cX5_down 110 = .ok (.if_icmp .le 12, 3) := dk_164 0 12 (dk_at dksX5_down_4 18 rfl rfl)
theorem dX5_down_113 : decode cX5_down 113 = .ok (.aload_n 0, 1) := dk_42 (dk_at dksX5_down_4 21 rfl rfl)
theorem dX5_down_114 : decode cX5_down 114 = .ok (.getfield 151, 3) := dk_180 0 151 (dk_at dksX5_down_5 0 rfl rfl)
theorem dX5_down_117 : decode cX5_down 117 = .ok (.iload_n 1, 1) := dk_27 (dk_at dksX5_down_5 3 rfl rfl)
theorem dX5_down_118 : decode cX5_down 118 = .ok (.iaload, 1) := dk_46 (dk_at dksX5_down_5 4 rfl rfl)
theorem dX5_down_119 : decode cX5_down 119 = .ok (.goto 7, 3) := dk_167 0 7 (dk_at dksX5_down_5 5 rfl rfl)
theorem dX5_down_122 : decode cX5_down 122 = .ok (.aload_n 0, 1) := dk_42 (dk_at dksX5_down_5 8 rfl rfl)
theorem dX5_down_123 : decode cX5_down 123 = .ok (.getfield 281, 3) := dk_180 1 25 (dk_at dksX5_down_5 9 rfl rfl)
theorem dX5_down_126 : decode cX5_down 126 = .ok (.istore 5, 2) := dk_54 5 (dk_at dksX5_down_5 12 rfl rfl)
theorem dX5_down_128 : decode cX5_down 128 = .ok (.aload_n 0, 1) := dk_42 (dk_at dksX5_down_5 14 rfl rfl)
theorem dX5_down_129 : decode cX5_down 129 = .ok (.getfield 151, 3) := dk_180 0 151 (dk_at dksX5_down_5 15 rfl rfl)
theorem dX5_down_132 : decode cX5_down 132 = .ok (.iload_n 1, 1) := dk_27 (dk_at dksX5_down_5 18 rfl rfl)
theorem dX5_down_133 : decode cX5_down 133 = .ok (.iload 5, 2) := dk_21 5 (dk_at dksX5_down_5 19 rfl rfl)
theorem dX5_down_135 : decode cX5_down 135 = .ok (.iload_n 3, 1) := dk_29 (dk_at dksX5_down_5 21 rfl rfl)
theorem dX5_down_136 : decode cX5_down 136 = .ok (.iadd, 1) := dk_96 (dk_at dksX5_down_5 22 rfl rfl)
theorem dX5_down_137 : decode cX5_down 137 = .ok (.iastore, 1) := dk_79 (dk_at dksX5_down_5 23 rfl rfl)
theorem dX5_down_138 : decode cX5_down 138 = .ok (.aload_n 0, 1) := dk_42 (dk_at dksX5_down_6 0 rfl rfl)
theorem dX5_down_139 : decode cX5_down 139 = .ok (.getfield 145, 3) := dk_180 0 145 (dk_at dksX5_down_6 1 rfl rfl)
theorem dX5_down_142 : decode cX5_down 142 = .ok (.aload_n 0, 1) := dk_42 (dk_at dksX5_down_6 4 rfl rfl)
theorem dX5_down_143 : decode cX5_down 143 = .ok (.getfield 428, 3) := dk_180 1 172 (dk_at dksX5_down_6 5 rfl rfl)
theorem dX5_down_146 : decode cX5_down 146 = .ok (.iload_n 2, 1) := dk_28 (dk_at dksX5_down_6 8 rfl rfl)
theorem dX5_down_147 : decode cX5_down 147 = .ok (.iastore, 1) := dk_79 (dk_at dksX5_down_6 9 rfl rfl)
theorem dX5_down_148 : decode cX5_down 148 = .ok (.aload_n 0, 1) := dk_42 (dk_at dksX5_down_6 10 rfl rfl)
theorem dX5_down_149 : decode cX5_down 149 = .ok (.getfield 148, 3) := dk_180 0 148 (dk_at dksX5_down_6 11 rfl rfl)
theorem dX5_down_152 : decode cX5_down 152 = .ok (.aload_n 0, 1) := dk_42 (dk_at dksX5_down_6 14 rfl rfl)
theorem dX5_down_153 : decode cX5_down 153 = .ok (.getfield 428, 3) := dk_180 1 172 (dk_at dksX5_down_6 15 rfl rfl)
theorem dX5_down_156 : decode cX5_down 156 = .ok (.iload 5, 2) := dk_21 5 (dk_at dksX5_down_6 18 rfl rfl)
theorem dX5_down_158 : decode cX5_down 158 = .ok (.iload_n 3, 1) := dk_29 (dk_at dksX5_down_6 20 rfl rfl)
theorem dX5_down_159 : decode cX5_down 159 = .ok (.iadd, 1) := dk_96 (dk_at dksX5_down_6 21 rfl rfl)
theorem dX5_down_160 : decode cX5_down 160 = .ok (.iastore, 1) := dk_79 (dk_at dksX5_down_6 22 rfl rfl)
theorem dX5_down_161 : decode cX5_down 161 = .ok (.aload_n 0, 1) := dk_42 (dk_at dksX5_down_6 23 rfl rfl)
theorem dX5_down_162 : decode cX5_down 162 = .ok (.dup, 1) := dk_89 (dk_at dksX5_down_7 0 rfl rfl)
theorem dX5_down_163 : decode cX5_down 163 = .ok (.getfield 428, 3) := dk_180 1 172 (dk_at dksX5_down_7 1 rfl rfl)
theorem dX5_down_166 : decode cX5_down 166 = .ok (.iconst 1, 1) := dk_4 (dk_at dksX5_down_7 4 rfl rfl)
theorem dX5_down_167 : decode cX5_down 167 = .ok (.iadd, 1) := dk_96 (dk_at dksX5_down_7 5 rfl rfl)
theorem dX5_down_168 : decode cX5_down 168 = .ok (.putfield 428, 3) := dk_181 1 172 (dk_at dksX5_down_7 6 rfl rfl)
theorem dX5_down_171 : decode cX5_down 171 = .ok (.iload 5, 2) := dk_21 5 (dk_at dksX5_down_7 9 rfl rfl)
theorem dX5_down_173 : decode cX5_down 173 = .ok (.iload_n 3, 1) := dk_29 (dk_at dksX5_down_7 11 rfl rfl)
theorem dX5_down_174 : decode cX5_down 174 = .ok (.iadd, 1) := dk_96 (dk_at dksX5_down_7 12 rfl rfl)
theorem dX5_down_175 : decode cX5_down 175 = .ok (.ireturn, 1) := dk_172 (dk_at dksX5_down_7 13 rfl rfl)
abbrev cX5_below : ByteArray := prog_22_method_77_code
def yX5_below : MethodName := ⟨RX5, "below", "(I)I"⟩
def dkwX5_below_1 : List UInt8 := [167, 0, 9, 42, 180, 0, 154, 27, 46, 172]
abbrev dktX5_below_1 : List UInt8 := dkwX5_below_1 ++ []
def dkwX5_below_0 : List UInt8 := [27, 3, 16, 9, 184, 0, 230, 154, 0, 7, 2, 167, 0, 20, 27, 154, 0, 10, 42, 180, 1, 141]
abbrev dktX5_below_0 : List UInt8 := dkwX5_below_0 ++ dktX5_below_1
theorem dksX5_below_0 : cX5_below.data.toList.drop 0 = dktX5_below_0 := by decide +kernel
theorem dksX5_below_1 : cX5_below.data.toList.drop 22 = dktX5_below_1 := dk_seg dksX5_below_0 22 rfl rfl
theorem dX5_below_0 : decode cX5_below 0 = .ok (.iload_n 1, 1) := dk_27 (dk_at dksX5_below_0 0 rfl rfl)
theorem dX5_below_1 : decode cX5_below 1 = .ok (.iconst 0, 1) := dk_3 (dk_at dksX5_below_0 1 rfl rfl)
theorem dX5_below_2 : decode cX5_below 2 = .ok (.bipush 9, 2) := dk_16 9 (dk_at dksX5_below_0 2 rfl rfl)
theorem dX5_below_4 : decode cX5_below 4 = .ok (.invokestatic 230, 3) := dk_184 0 230 (dk_at dksX5_below_0 4 rfl rfl)
theorem dX5_below_7 : decode cX5_below 7 = .ok (.ifCond .ne 7, 3) := dk_154 0 7 (dk_at dksX5_below_0 7 rfl rfl)
theorem dX5_below_10 : decode cX5_below 10 = .ok (.iconst (-1), 1) := dk_2 (dk_at dksX5_below_0 10 rfl rfl)
theorem dX5_below_11 : decode cX5_below 11 = .ok (.goto 20, 3) := dk_167 0 20 (dk_at dksX5_below_0 11 rfl rfl)
theorem dX5_below_14 : decode cX5_below 14 = .ok (.iload_n 1, 1) := dk_27 (dk_at dksX5_below_0 14 rfl rfl)
theorem dX5_below_15 : decode cX5_below 15 = .ok (.ifCond .ne 10, 3) := dk_154 0 10 (dk_at dksX5_below_0 15 rfl rfl)
theorem dX5_below_18 : decode cX5_below 18 = .ok (.aload_n 0, 1) := dk_42 (dk_at dksX5_below_0 18 rfl rfl)
theorem dX5_below_19 : decode cX5_below 19 = .ok (.getfield 397, 3) := dk_180 1 141 (dk_at dksX5_below_0 19 rfl rfl)
theorem dX5_below_22 : decode cX5_below 22 = .ok (.goto 9, 3) := dk_167 0 9 (dk_at dksX5_below_1 0 rfl rfl)
theorem dX5_below_25 : decode cX5_below 25 = .ok (.aload_n 0, 1) := dk_42 (dk_at dksX5_below_1 3 rfl rfl)
theorem dX5_below_26 : decode cX5_below 26 = .ok (.getfield 154, 3) := dk_180 0 154 (dk_at dksX5_below_1 4 rfl rfl)
theorem dX5_below_29 : decode cX5_below 29 = .ok (.iload_n 1, 1) := dk_27 (dk_at dksX5_below_1 7 rfl rfl)
theorem dX5_below_30 : decode cX5_below 30 = .ok (.iaload, 1) := dk_46 (dk_at dksX5_below_1 8 rfl rfl)
theorem dX5_below_31 : decode cX5_below 31 = .ok (.ireturn, 1) := dk_172 (dk_at dksX5_below_1 9 rfl rfl)
abbrev cX5_need : ByteArray := prog_22_method_78_code
def yX5_need : MethodName := ⟨RX5, "need", "(II)I"⟩
def dkwX5_need_4 : List UInt8 := [180, 1, 175, 172]
abbrev dktX5_need_4 : List UInt8 := dkwX5_need_4 ++ []
def dkwX5_need_3 : List UInt8 := [112, 79, 42, 180, 0, 163, 42, 180, 1, 175, 28, 79, 42, 89, 180, 1, 175, 4, 96, 181, 1, 175, 42]
abbrev dktX5_need_3 : List UInt8 := dkwX5_need_3 ++ dktX5_need_4
def dkwX5_need_2 : List UInt8 := [42, 180, 0, 157, 42, 180, 1, 175, 27, 16, 100, 108, 79, 42, 180, 0, 160, 42, 180, 1, 175, 27, 16, 100]
abbrev dktX5_need_2 : List UInt8 := dkwX5_need_2 ++ dktX5_need_3
def dkwX5_need_1 : List UInt8 := [28, 3, 16, 99, 184, 0, 230, 154, 0, 5, 2, 172, 42, 180, 1, 175, 16, 10, 160, 0, 6, 16, 253, 172]
abbrev dktX5_need_1 : List UInt8 := dkwX5_need_1 ++ dktX5_need_2
def dkwX5_need_0 : List UInt8 := [27, 155, 0, 33, 27, 16, 100, 108, 4, 16, 9, 184, 0, 230, 153, 0, 20, 27, 16, 100, 112, 153, 0, 13]
abbrev dktX5_need_0 : List UInt8 := dkwX5_need_0 ++ dktX5_need_1
theorem dksX5_need_0 : cX5_need.data.toList.drop 0 = dktX5_need_0 := by decide +kernel
theorem dksX5_need_1 : cX5_need.data.toList.drop 24 = dktX5_need_1 := dk_seg dksX5_need_0 24 rfl rfl
theorem dksX5_need_2 : cX5_need.data.toList.drop 48 = dktX5_need_2 := dk_seg dksX5_need_1 24 rfl rfl
theorem dksX5_need_3 : cX5_need.data.toList.drop 72 = dktX5_need_3 := dk_seg dksX5_need_2 24 rfl rfl
theorem dksX5_need_4 : cX5_need.data.toList.drop 95 = dktX5_need_4 := dk_seg dksX5_need_3 23 rfl rfl
theorem dX5_need_0 : decode cX5_need 0 = .ok (.iload_n 1, 1) := dk_27 (dk_at dksX5_need_0 0 rfl rfl)
theorem dX5_need_1 : decode cX5_need 1 = .ok (.ifCond .lt 33, 3) := dk_155 0 33 (dk_at dksX5_need_0 1 rfl rfl)
theorem dX5_need_4 : decode cX5_need 4 = .ok (.iload_n 1, 1) := dk_27 (dk_at dksX5_need_0 4 rfl rfl)
theorem dX5_need_5 : decode cX5_need 5 = .ok (.bipush 100, 2) := dk_16 100 (dk_at dksX5_need_0 5 rfl rfl)
theorem dX5_need_7 : decode cX5_need 7 = .ok (.idiv, 1) := dk_108 (dk_at dksX5_need_0 7 rfl rfl)
theorem dX5_need_8 : decode cX5_need 8 = .ok (.iconst 1, 1) := dk_4 (dk_at dksX5_need_0 8 rfl rfl)
theorem dX5_need_9 : decode cX5_need 9 = .ok (.bipush 9, 2) := dk_16 9 (dk_at dksX5_need_0 9 rfl rfl)
theorem dX5_need_11 : decode cX5_need 11 = .ok (.invokestatic 230, 3) := dk_184 0 230 (dk_at dksX5_need_0 11 rfl rfl)
theorem dX5_need_14 : decode cX5_need 14 = .ok (.ifCond .eq 20, 3) := dk_153 0 20 (dk_at dksX5_need_0 14 rfl rfl)
theorem dX5_need_17 : decode cX5_need 17 = .ok (.iload_n 1, 1) := dk_27 (dk_at dksX5_need_0 17 rfl rfl)
theorem dX5_need_18 : decode cX5_need 18 = .ok (.bipush 100, 2) := dk_16 100 (dk_at dksX5_need_0 18 rfl rfl)
theorem dX5_need_20 : decode cX5_need 20 = .ok (.irem, 1) := dk_112 (dk_at dksX5_need_0 20 rfl rfl)
theorem dX5_need_21 : decode cX5_need 21 = .ok (.ifCond .eq 13, 3) := dk_153 0 13 (dk_at dksX5_need_0 21 rfl rfl)
theorem dX5_need_24 : decode cX5_need 24 = .ok (.iload_n 2, 1) := dk_28 (dk_at dksX5_need_1 0 rfl rfl)
theorem dX5_need_25 : decode cX5_need 25 = .ok (.iconst 0, 1) := dk_3 (dk_at dksX5_need_1 1 rfl rfl)
theorem dX5_need_26 : decode cX5_need 26 = .ok (.bipush 99, 2) := dk_16 99 (dk_at dksX5_need_1 2 rfl rfl)
theorem dX5_need_28 : decode cX5_need 28 = .ok (.invokestatic 230, 3) := dk_184 0 230 (dk_at dksX5_need_1 4 rfl rfl)
theorem dX5_need_31 : decode cX5_need 31 = .ok (.ifCond .ne 5, 3) := dk_154 0 5 (dk_at dksX5_need_1 7 rfl rfl)
theorem dX5_need_34 : decode cX5_need 34 = .ok (.iconst (-1), 1) := dk_2 (dk_at dksX5_need_1 10 rfl rfl)
theorem dX5_need_35 : decode cX5_need 35 = .ok (.ireturn, 1) := dk_172 (dk_at dksX5_need_1 11 rfl rfl)
theorem dX5_need_36 : decode cX5_need 36 = .ok (.aload_n 0, 1) := dk_42 (dk_at dksX5_need_1 12 rfl rfl)
theorem dX5_need_37 : decode cX5_need 37 = .ok (.getfield 431, 3) := dk_180 1 175 (dk_at dksX5_need_1 13 rfl rfl)
theorem dX5_need_40 : decode cX5_need 40 = .ok (.bipush 10, 2) := dk_16 10 (dk_at dksX5_need_1 16 rfl rfl)
theorem dX5_need_42 : decode cX5_need 42 = .ok (.if_icmp .ne 6, 3) := dk_160 0 6 (dk_at dksX5_need_1 18 rfl rfl)
theorem dX5_need_45 : decode cX5_need 45 = .ok (.bipush (-3), 2) := dk_16 253 (dk_at dksX5_need_1 21 rfl rfl)
theorem dX5_need_47 : decode cX5_need 47 = .ok (.ireturn, 1) := dk_172 (dk_at dksX5_need_1 23 rfl rfl)
theorem dX5_need_48 : decode cX5_need 48 = .ok (.aload_n 0, 1) := dk_42 (dk_at dksX5_need_2 0 rfl rfl)
theorem dX5_need_49 : decode cX5_need 49 = .ok (.getfield 157, 3) := dk_180 0 157 (dk_at dksX5_need_2 1 rfl rfl)
theorem dX5_need_52 : decode cX5_need 52 = .ok (.aload_n 0, 1) := dk_42 (dk_at dksX5_need_2 4 rfl rfl)
theorem dX5_need_53 : decode cX5_need 53 = .ok (.getfield 431, 3) := dk_180 1 175 (dk_at dksX5_need_2 5 rfl rfl)
theorem dX5_need_56 : decode cX5_need 56 = .ok (.iload_n 1, 1) := dk_27 (dk_at dksX5_need_2 8 rfl rfl)
theorem dX5_need_57 : decode cX5_need 57 = .ok (.bipush 100, 2) := dk_16 100 (dk_at dksX5_need_2 9 rfl rfl)
theorem dX5_need_59 : decode cX5_need 59 = .ok (.idiv, 1) := dk_108 (dk_at dksX5_need_2 11 rfl rfl)
theorem dX5_need_60 : decode cX5_need 60 = .ok (.iastore, 1) := dk_79 (dk_at dksX5_need_2 12 rfl rfl)
theorem dX5_need_61 : decode cX5_need 61 = .ok (.aload_n 0, 1) := dk_42 (dk_at dksX5_need_2 13 rfl rfl)
theorem dX5_need_62 : decode cX5_need 62 = .ok (.getfield 160, 3) := dk_180 0 160 (dk_at dksX5_need_2 14 rfl rfl)
theorem dX5_need_65 : decode cX5_need 65 = .ok (.aload_n 0, 1) := dk_42 (dk_at dksX5_need_2 17 rfl rfl)
theorem dX5_need_66 : decode cX5_need 66 = .ok (.getfield 431, 3) := dk_180 1 175 (dk_at dksX5_need_2 18 rfl rfl)
theorem dX5_need_69 : decode cX5_need 69 = .ok (.iload_n 1, 1) := dk_27 (dk_at dksX5_need_2 21 rfl rfl)
theorem dX5_need_70 : decode cX5_need 70 = .ok (.bipush 100, 2) := dk_16 100 (dk_at dksX5_need_2 22 rfl rfl)
theorem dX5_need_72 : decode cX5_need 72 = .ok (.irem, 1) := dk_112 (dk_at dksX5_need_3 0 rfl rfl)
theorem dX5_need_73 : decode cX5_need 73 = .ok (.iastore, 1) := dk_79 (dk_at dksX5_need_3 1 rfl rfl)
theorem dX5_need_74 : decode cX5_need 74 = .ok (.aload_n 0, 1) := dk_42 (dk_at dksX5_need_3 2 rfl rfl)
theorem dX5_need_75 : decode cX5_need 75 = .ok (.getfield 163, 3) := dk_180 0 163 (dk_at dksX5_need_3 3 rfl rfl)
theorem dX5_need_78 : decode cX5_need 78 = .ok (.aload_n 0, 1) := dk_42 (dk_at dksX5_need_3 6 rfl rfl)
theorem dX5_need_79 : decode cX5_need 79 = .ok (.getfield 431, 3) := dk_180 1 175 (dk_at dksX5_need_3 7 rfl rfl)
theorem dX5_need_82 : decode cX5_need 82 = .ok (.iload_n 2, 1) := dk_28 (dk_at dksX5_need_3 10 rfl rfl)
theorem dX5_need_83 : decode cX5_need 83 = .ok (.iastore, 1) := dk_79 (dk_at dksX5_need_3 11 rfl rfl)
theorem dX5_need_84 : decode cX5_need 84 = .ok (.aload_n 0, 1) := dk_42 (dk_at dksX5_need_3 12 rfl rfl)
theorem dX5_need_85 : decode cX5_need 85 = .ok (.dup, 1) := dk_89 (dk_at dksX5_need_3 13 rfl rfl)
theorem dX5_need_86 : decode cX5_need 86 = .ok (.getfield 431, 3) := dk_180 1 175 (dk_at dksX5_need_3 14 rfl rfl)
theorem dX5_need_89 : decode cX5_need 89 = .ok (.iconst 1, 1) := dk_4 (dk_at dksX5_need_3 17 rfl rfl)
theorem dX5_need_90 : decode cX5_need 90 = .ok (.iadd, 1) := dk_96 (dk_at dksX5_need_3 18 rfl rfl)
theorem dX5_need_91 : decode cX5_need 91 = .ok (.putfield 431, 3) := dk_181 1 175 (dk_at dksX5_need_3 19 rfl rfl)
theorem dX5_need_94 : decode cX5_need 94 = .ok (.aload_n 0, 1) := dk_42 (dk_at dksX5_need_3 22 rfl rfl)
theorem dX5_need_95 : decode cX5_need 95 = .ok (.getfield 431, 3) := dk_180 1 175 (dk_at dksX5_need_4 0 rfl rfl)
theorem dX5_need_98 : decode cX5_need 98 = .ok (.ireturn, 1) := dk_172 (dk_at dksX5_need_4 3 rfl rfl)
abbrev cX5_order : ByteArray := prog_22_method_80_code
def yX5_order : MethodName := ⟨RX5, "order", "()I"⟩
def dkwX5_order_9 : List UInt8 := [172]
abbrev dktX5_order_9 : List UInt8 := dkwX5_order_9 ++ []
def dkwX5_order_8 : List UInt8 := [2, 130, 126, 60, 132, 3, 1, 167, 255, 180, 42, 42, 180, 1, 175, 181, 0, 169, 42, 3, 181, 1, 175, 28]
abbrev dktX5_order_8 : List UInt8 := dkwX5_order_8 ++ dktX5_order_9
def dkwX5_order_7 : List UInt8 := [27, 46, 159, 0, 9, 132, 4, 1, 167, 255, 214, 42, 180, 0, 172, 29, 21, 4, 79, 27, 4, 21, 4, 120]
abbrev dktX5_order_7 : List UInt8 := dkwX5_order_7 ++ dktX5_order_8
def dkwX5_order_6 : List UInt8 := [21, 4, 27, 182, 1, 181, 42, 180, 0, 166, 27, 4, 21, 4, 120, 2, 130, 126, 46, 96, 42, 180, 0, 166]
abbrev dktX5_order_6 : List UInt8 := dkwX5_order_6 ++ dktX5_order_7
def dkwX5_order_5 : List UInt8 := [61, 3, 62, 29, 42, 180, 1, 175, 162, 0, 74, 3, 54, 4, 27, 21, 4, 122, 4, 126, 153, 0, 33, 42]
abbrev dktX5_order_5 : List UInt8 := dkwX5_order_5 ++ dktX5_order_6
def dkwX5_order_4 : List UInt8 := [167, 255, 197, 132, 1, 1, 167, 255, 170, 4, 42, 180, 1, 175, 120, 4, 100, 60, 42, 180, 0, 166, 27, 46]
abbrev dktX5_order_4 : List UInt8 := dkwX5_order_4 ++ dktX5_order_5
def dkwX5_order_3 : List UInt8 := [96, 62, 29, 42, 180, 0, 166, 27, 46, 162, 0, 10, 42, 180, 0, 166, 27, 29, 79, 132, 2, 1]
abbrev dktX5_order_3 : List UInt8 := dkwX5_order_3 ++ dktX5_order_4
def dkwX5_order_2 : List UInt8 := [154, 0, 6, 167, 0, 40, 42, 28, 27, 182, 1, 181, 42, 180, 0, 166, 27, 4, 28, 120, 2, 130, 126, 46]
abbrev dktX5_order_2 : List UInt8 := dkwX5_order_2 ++ dktX5_order_3
def dkwX5_order_1 : List UInt8 := [180, 0, 166, 27, 19, 1, 180, 79, 3, 61, 28, 42, 180, 1, 175, 162, 0, 57, 27, 28, 122, 4, 126]
abbrev dktX5_order_1 : List UInt8 := dkwX5_order_1 ++ dktX5_order_2
def dkwX5_order_0 : List UInt8 := [42, 180, 1, 175, 154, 0, 5, 2, 172, 4, 60, 27, 4, 42, 180, 1, 175, 120, 162, 0, 82, 42]
abbrev dktX5_order_0 : List UInt8 := dkwX5_order_0 ++ dktX5_order_1
theorem dksX5_order_0 : cX5_order.data.toList.drop 0 = dktX5_order_0 := by decide +kernel
theorem dksX5_order_1 : cX5_order.data.toList.drop 22 = dktX5_order_1 := dk_seg dksX5_order_0 22 rfl rfl
theorem dksX5_order_2 : cX5_order.data.toList.drop 45 = dktX5_order_2 := dk_seg dksX5_order_1 23 rfl rfl
theorem dksX5_order_3 : cX5_order.data.toList.drop 69 = dktX5_order_3 := dk_seg dksX5_order_2 24 rfl rfl
theorem dksX5_order_4 : cX5_order.data.toList.drop 91 = dktX5_order_4 := dk_seg dksX5_order_3 22 rfl rfl
theorem dksX5_order_5 : cX5_order.data.toList.drop 115 = dktX5_order_5 := dk_seg dksX5_order_4 24 rfl rfl
theorem dksX5_order_6 : cX5_order.data.toList.drop 139 = dktX5_order_6 := dk_seg dksX5_order_5 24 rfl rfl
theorem dksX5_order_7 : cX5_order.data.toList.drop 163 = dktX5_order_7 := dk_seg dksX5_order_6 24 rfl rfl
theorem dksX5_order_8 : cX5_order.data.toList.drop 187 = dktX5_order_8 := dk_seg dksX5_order_7 24 rfl rfl
theorem dksX5_order_9 : cX5_order.data.toList.drop 211 = dktX5_order_9 := dk_seg dksX5_order_8 24 rfl rfl
theorem dX5_order_0 : decode cX5_order 0 = .ok (.aload_n 0, 1) := dk_42 (dk_at dksX5_order_0 0 rfl rfl)
theorem dX5_order_1 : decode cX5_order 1 = .ok (.getfield 431, 3) := dk_180 1 175 (dk_at dksX5_order_0 1 rfl rfl)
theorem dX5_order_4 : decode cX5_order 4 = .ok (.ifCond .ne 5, 3) := dk_154 0 5 (dk_at dksX5_order_0 4 rfl rfl)
theorem dX5_order_7 : decode cX5_order 7 = .ok (.iconst (-1), 1) := dk_2 (dk_at dksX5_order_0 7 rfl rfl)
theorem dX5_order_8 : decode cX5_order 8 = .ok (.ireturn, 1) := dk_172 (dk_at dksX5_order_0 8 rfl rfl)
theorem dX5_order_9 : decode cX5_order 9 = .ok (.iconst 1, 1) := dk_4 (dk_at dksX5_order_0 9 rfl rfl)
theorem dX5_order_10 : decode cX5_order 10 = .ok (.istore_n 1, 1) := dk_60 (dk_at dksX5_order_0 10 rfl rfl)
theorem dX5_order_11 : decode cX5_order 11 = .ok (.iload_n 1, 1) := dk_27 (dk_at dksX5_order_0 11 rfl rfl)
theorem dX5_order_12 : decode cX5_order 12 = .ok (.iconst 1, 1) := dk_4 (dk_at dksX5_order_0 12 rfl rfl)
theorem dX5_order_13 : decode cX5_order 13 = .ok (.aload_n 0, 1) := dk_42 (dk_at dksX5_order_0 13 rfl rfl)
theorem dX5_order_14 : decode cX5_order 14 = .ok (.getfield 431, 3) := dk_180 1 175 (dk_at dksX5_order_0 14 rfl rfl)
theorem dX5_order_17 : decode cX5_order 17 = .ok (.ishl, 1) := dk_120 (dk_at dksX5_order_0 17 rfl rfl)
theorem dX5_order_18 : decode cX5_order 18 = .ok (.if_icmp .ge 82, 3) := dk_162 0 82 (dk_at dksX5_order_0 18 rfl rfl)
theorem dX5_order_21 : decode cX5_order 21 = .ok (.aload_n 0, 1) := dk_42 (dk_at dksX5_order_0 21 rfl rfl)
theorem dX5_order_22 : decode cX5_order 22 = .ok (.getfield 166, 3) := dk_180 0 166 (dk_at dksX5_order_1 0 rfl rfl)
theorem dX5_order_25 : decode cX5_order 25 = .ok (.iload_n 1, 1) := dk_27 (dk_at dksX5_order_1 3 rfl rfl)
theorem dX5_order_26 : decode cX5_order 26 = .ok (.ldc_w 436, 3) := dk_19 1 180 (dk_at dksX5_order_1 4 rfl rfl)
theorem dX5_order_29 : decode cX5_order 29 = .ok (.iastore, 1) := dk_79 (dk_at dksX5_order_1 7 rfl rfl)
theorem dX5_order_30 : decode cX5_order 30 = .ok (.iconst 0, 1) := dk_3 (dk_at dksX5_order_1 8 rfl rfl)
theorem dX5_order_31 : decode cX5_order 31 = .ok (.istore_n 2, 1) := dk_61 (dk_at dksX5_order_1 9 rfl rfl)
theorem dX5_order_32 : decode cX5_order 32 = .ok (.iload_n 2, 1) := dk_28 (dk_at dksX5_order_1 10 rfl rfl)
theorem dX5_order_33 : decode cX5_order 33 = .ok (.aload_n 0, 1) := dk_42 (dk_at dksX5_order_1 11 rfl rfl)
theorem dX5_order_34 : decode cX5_order 34 = .ok (.getfield 431, 3) := dk_180 1 175 (dk_at dksX5_order_1 12 rfl rfl)
theorem dX5_order_37 : decode cX5_order 37 = .ok (.if_icmp .ge 57, 3) := dk_162 0 57 (dk_at dksX5_order_1 15 rfl rfl)
theorem dX5_order_40 : decode cX5_order 40 = .ok (.iload_n 1, 1) := dk_27 (dk_at dksX5_order_1 18 rfl rfl)
theorem dX5_order_41 : decode cX5_order 41 = .ok (.iload_n 2, 1) := dk_28 (dk_at dksX5_order_1 19 rfl rfl)
theorem dX5_order_42 : decode cX5_order 42 = .ok (.ishr, 1) := dk_122 (dk_at dksX5_order_1 20 rfl rfl)
theorem dX5_order_43 : decode cX5_order 43 = .ok (.iconst 1, 1) := dk_4 (dk_at dksX5_order_1 21 rfl rfl)
theorem dX5_order_44 : decode cX5_order 44 = .ok (.iand, 1) := dk_126 (dk_at dksX5_order_1 22 rfl rfl)
theorem dX5_order_45 : decode cX5_order 45 = .ok (.ifCond .ne 6, 3) := dk_154 0 6 (dk_at dksX5_order_2 0 rfl rfl)
theorem dX5_order_48 : decode cX5_order 48 = .ok (.goto 40, 3) := dk_167 0 40 (dk_at dksX5_order_2 3 rfl rfl)
theorem dX5_order_51 : decode cX5_order 51 = .ok (.aload_n 0, 1) := dk_42 (dk_at dksX5_order_2 6 rfl rfl)
theorem dX5_order_52 : decode cX5_order 52 = .ok (.iload_n 2, 1) := dk_28 (dk_at dksX5_order_2 7 rfl rfl)
theorem dX5_order_53 : decode cX5_order 53 = .ok (.iload_n 1, 1) := dk_27 (dk_at dksX5_order_2 8 rfl rfl)
theorem dX5_order_54 : decode cX5_order 54 = .ok (.invokevirtual 437, 3) := dk_182 1 181 (dk_at dksX5_order_2 9 rfl rfl)
theorem dX5_order_57 : decode cX5_order 57 = .ok (.aload_n 0, 1) := dk_42 (dk_at dksX5_order_2 12 rfl rfl)
theorem dX5_order_58 : decode cX5_order 58 = .ok (.getfield 166, 3) := dk_180 0 166 (dk_at dksX5_order_2 13 rfl rfl)
theorem dX5_order_61 : decode cX5_order 61 = .ok (.iload_n 1, 1) := dk_27 (dk_at dksX5_order_2 16 rfl rfl)
theorem dX5_order_62 : decode cX5_order 62 = .ok (.iconst 1, 1) := dk_4 (dk_at dksX5_order_2 17 rfl rfl)
theorem dX5_order_63 : decode cX5_order 63 = .ok (.iload_n 2, 1) := dk_28 (dk_at dksX5_order_2 18 rfl rfl)
theorem dX5_order_64 : decode cX5_order 64 = .ok (.ishl, 1) := dk_120 (dk_at dksX5_order_2 19 rfl rfl)
theorem dX5_order_65 : decode cX5_order 65 = .ok (.iconst (-1), 1) := dk_2 (dk_at dksX5_order_2 20 rfl rfl)
theorem dX5_order_66 : decode cX5_order 66 = .ok (.ixor, 1) := dk_130 (dk_at dksX5_order_2 21 rfl rfl)
theorem dX5_order_67 : decode cX5_order 67 = .ok (.iand, 1) := dk_126 (dk_at dksX5_order_2 22 rfl rfl)
theorem dX5_order_68 : decode cX5_order 68 = .ok (.iaload, 1) := dk_46 (dk_at dksX5_order_2 23 rfl rfl)
theorem dX5_order_69 : decode cX5_order 69 = .ok (.iadd, 1) := dk_96 (dk_at dksX5_order_3 0 rfl rfl)
theorem dX5_order_70 : decode cX5_order 70 = .ok (.istore_n 3, 1) := dk_62 (dk_at dksX5_order_3 1 rfl rfl)
theorem dX5_order_71 : decode cX5_order 71 = .ok (.iload_n 3, 1) := dk_29 (dk_at dksX5_order_3 2 rfl rfl)
theorem dX5_order_72 : decode cX5_order 72 = .ok (.aload_n 0, 1) := dk_42 (dk_at dksX5_order_3 3 rfl rfl)
theorem dX5_order_73 : decode cX5_order 73 = .ok (.getfield 166, 3) := dk_180 0 166 (dk_at dksX5_order_3 4 rfl rfl)
theorem dX5_order_76 : decode cX5_order 76 = .ok (.iload_n 1, 1) := dk_27 (dk_at dksX5_order_3 7 rfl rfl)
theorem dX5_order_77 : decode cX5_order 77 = .ok (.iaload, 1) := dk_46 (dk_at dksX5_order_3 8 rfl rfl)
theorem dX5_order_78 : decode cX5_order 78 = .ok (.if_icmp .ge 10, 3) := dk_162 0 10 (dk_at dksX5_order_3 9 rfl rfl)
theorem dX5_order_81 : decode cX5_order 81 = .ok (.aload_n 0, 1) := dk_42 (dk_at dksX5_order_3 12 rfl rfl)
theorem dX5_order_82 : decode cX5_order 82 = .ok (.getfield 166, 3) := dk_180 0 166 (dk_at dksX5_order_3 13 rfl rfl)
theorem dX5_order_85 : decode cX5_order 85 = .ok (.iload_n 1, 1) := dk_27 (dk_at dksX5_order_3 16 rfl rfl)
theorem dX5_order_86 : decode cX5_order 86 = .ok (.iload_n 3, 1) := dk_29 (dk_at dksX5_order_3 17 rfl rfl)
theorem dX5_order_87 : decode cX5_order 87 = .ok (.iastore, 1) := dk_79 (dk_at dksX5_order_3 18 rfl rfl)
theorem dX5_order_88 : decode cX5_order 88 = .ok (.iinc 2 1, 3) := dk_132 2 1 (dk_at dksX5_order_3 19 rfl rfl)
theorem dX5_order_91 : decode cX5_order 91 = .ok (.goto (-59), 3) := dk_167 255 197 (dk_at dksX5_order_4 0 rfl rfl)
theorem dX5_order_94 : decode cX5_order 94 = .ok (.iinc 1 1, 3) := dk_132 1 1 (dk_at dksX5_order_4 3 rfl rfl)
theorem dX5_order_97 : decode cX5_order 97 = .ok (.goto (-86), 3) := dk_167 255 170 (dk_at dksX5_order_4 6 rfl rfl)
theorem dX5_order_100 : decode cX5_order 100 = .ok (.iconst 1, 1) := dk_4 (dk_at dksX5_order_4 9 rfl rfl)
theorem dX5_order_101 : decode cX5_order 101 = .ok (.aload_n 0, 1) := dk_42 (dk_at dksX5_order_4 10 rfl rfl)
theorem dX5_order_102 : decode cX5_order 102 = .ok (.getfield 431, 3) := dk_180 1 175 (dk_at dksX5_order_4 11 rfl rfl)
theorem dX5_order_105 : decode cX5_order 105 = .ok (.ishl, 1) := dk_120 (dk_at dksX5_order_4 14 rfl rfl)
theorem dX5_order_106 : decode cX5_order 106 = .ok (.iconst 1, 1) := dk_4 (dk_at dksX5_order_4 15 rfl rfl)
theorem dX5_order_107 : decode cX5_order 107 = .ok (.isub, 1) := dk_100 (dk_at dksX5_order_4 16 rfl rfl)
theorem dX5_order_108 : decode cX5_order 108 = .ok (.istore_n 1, 1) := dk_60 (dk_at dksX5_order_4 17 rfl rfl)
theorem dX5_order_109 : decode cX5_order 109 = .ok (.aload_n 0, 1) := dk_42 (dk_at dksX5_order_4 18 rfl rfl)
theorem dX5_order_110 : decode cX5_order 110 = .ok (.getfield 166, 3) := dk_180 0 166 (dk_at dksX5_order_4 19 rfl rfl)
theorem dX5_order_113 : decode cX5_order 113 = .ok (.iload_n 1, 1) := dk_27 (dk_at dksX5_order_4 22 rfl rfl)
theorem dX5_order_114 : decode cX5_order 114 = .ok (.iaload, 1) := dk_46 (dk_at dksX5_order_4 23 rfl rfl)
theorem dX5_order_115 : decode cX5_order 115 = .ok (.istore_n 2, 1) := dk_61 (dk_at dksX5_order_5 0 rfl rfl)
theorem dX5_order_116 : decode cX5_order 116 = .ok (.iconst 0, 1) := dk_3 (dk_at dksX5_order_5 1 rfl rfl)
theorem dX5_order_117 : decode cX5_order 117 = .ok (.istore_n 3, 1) := dk_62 (dk_at dksX5_order_5 2 rfl rfl)
theorem dX5_order_118 : decode cX5_order 118 = .ok (.iload_n 3, 1) := dk_29 (dk_at dksX5_order_5 3 rfl rfl)
theorem dX5_order_119 : decode cX5_order 119 = .ok (.aload_n 0, 1) := dk_42 (dk_at dksX5_order_5 4 rfl rfl)
theorem dX5_order_120 : decode cX5_order 120 = .ok (.getfield 431, 3) := dk_180 1 175 (dk_at dksX5_order_5 5 rfl rfl)
theorem dX5_order_123 : decode cX5_order 123 = .ok (.if_icmp .ge 74, 3) := dk_162 0 74 (dk_at dksX5_order_5 8 rfl rfl)
theorem dX5_order_126 : decode cX5_order 126 = .ok (.iconst 0, 1) := dk_3 (dk_at dksX5_order_5 11 rfl rfl)
theorem dX5_order_127 : decode cX5_order 127 = .ok (.istore 4, 2) := dk_54 4 (dk_at dksX5_order_5 12 rfl rfl)
theorem dX5_order_129 : decode cX5_order 129 = .ok (.iload_n 1, 1) := dk_27 (dk_at dksX5_order_5 14 rfl rfl)
theorem dX5_order_130 : decode cX5_order 130 = .ok (.iload 4, 2) := dk_21 4 (dk_at dksX5_order_5 15 rfl rfl)
theorem dX5_order_132 : decode cX5_order 132 = .ok (.ishr, 1) := dk_122 (dk_at dksX5_order_5 17 rfl rfl)
theorem dX5_order_133 : decode cX5_order 133 = .ok (.iconst 1, 1) := dk_4 (dk_at dksX5_order_5 18 rfl rfl)
theorem dX5_order_134 : decode cX5_order 134 = .ok (.iand, 1) := dk_126 (dk_at dksX5_order_5 19 rfl rfl)
theorem dX5_order_135 : decode cX5_order 135 = .ok (.ifCond .eq 33, 3) := dk_153 0 33 (dk_at dksX5_order_5 20 rfl rfl)
theorem dX5_order_138 : decode cX5_order 138 = .ok (.aload_n 0, 1) := dk_42 (dk_at dksX5_order_5 23 rfl rfl)
theorem dX5_order_139 : decode cX5_order 139 = .ok (.iload 4, 2) := dk_21 4 (dk_at dksX5_order_6 0 rfl rfl)
theorem dX5_order_141 : decode cX5_order 141 = .ok (.iload_n 1, 1) := dk_27 (dk_at dksX5_order_6 2 rfl rfl)
theorem dX5_order_142 : decode cX5_order 142 = .ok (.invokevirtual 437, 3) := dk_182 1 181 (dk_at dksX5_order_6 3 rfl rfl)
theorem dX5_order_145 : decode cX5_order 145 = .ok (.aload_n 0, 1) := dk_42 (dk_at dksX5_order_6 6 rfl rfl)
theorem dX5_order_146 : decode cX5_order 146 = .ok (.getfield 166, 3) := dk_180 0 166 (dk_at dksX5_order_6 7 rfl rfl)
theorem dX5_order_149 : decode cX5_order 149 = .ok (.iload_n 1, 1) := dk_27 (dk_at dksX5_order_6 10 rfl rfl)
theorem dX5_order_150 : decode cX5_order 150 = .ok (.iconst 1, 1) := dk_4 (dk_at dksX5_order_6 11 rfl rfl)
theorem dX5_order_151 : decode cX5_order 151 = .ok (.iload 4, 2) := dk_21 4 (dk_at dksX5_order_6 12 rfl rfl)
theorem dX5_order_153 : decode cX5_order 153 = .ok (.ishl, 1) := dk_120 (dk_at dksX5_order_6 14 rfl rfl)
theorem dX5_order_154 : decode cX5_order 154 = .ok (.iconst (-1), 1) := dk_2 (dk_at dksX5_order_6 15 rfl rfl)
theorem dX5_order_155 : decode cX5_order 155 = .ok (.ixor, 1) := dk_130 (dk_at dksX5_order_6 16 rfl rfl)
theorem dX5_order_156 : decode cX5_order 156 = .ok (.iand, 1) := dk_126 (dk_at dksX5_order_6 17 rfl rfl)
theorem dX5_order_157 : decode cX5_order 157 = .ok (.iaload, 1) := dk_46 (dk_at dksX5_order_6 18 rfl rfl)
theorem dX5_order_158 : decode cX5_order 158 = .ok (.iadd, 1) := dk_96 (dk_at dksX5_order_6 19 rfl rfl)
theorem dX5_order_159 : decode cX5_order 159 = .ok (.aload_n 0, 1) := dk_42 (dk_at dksX5_order_6 20 rfl rfl)
theorem dX5_order_160 : decode cX5_order 160 = .ok (.getfield 166, 3) := dk_180 0 166 (dk_at dksX5_order_6 21 rfl rfl)
theorem dX5_order_163 : decode cX5_order 163 = .ok (.iload_n 1, 1) := dk_27 (dk_at dksX5_order_7 0 rfl rfl)
theorem dX5_order_164 : decode cX5_order 164 = .ok (.iaload, 1) := dk_46 (dk_at dksX5_order_7 1 rfl rfl)
theorem dX5_order_165 : decode cX5_order 165 = .ok (.if_icmp .eq 9, 3) := dk_159 0 9 (dk_at dksX5_order_7 2 rfl rfl)
theorem dX5_order_168 : decode cX5_order 168 = .ok (.iinc 4 1, 3) := dk_132 4 1 (dk_at dksX5_order_7 5 rfl rfl)
theorem dX5_order_171 : decode cX5_order 171 = .ok (.goto (-42), 3) := dk_167 255 214 (dk_at dksX5_order_7 8 rfl rfl)
theorem dX5_order_174 : decode cX5_order 174 = .ok (.aload_n 0, 1) := dk_42 (dk_at dksX5_order_7 11 rfl rfl)
theorem dX5_order_175 : decode cX5_order 175 = .ok (.getfield 172, 3) := dk_180 0 172 (dk_at dksX5_order_7 12 rfl rfl)
theorem dX5_order_178 : decode cX5_order 178 = .ok (.iload_n 3, 1) := dk_29 (dk_at dksX5_order_7 15 rfl rfl)
theorem dX5_order_179 : decode cX5_order 179 = .ok (.iload 4, 2) := dk_21 4 (dk_at dksX5_order_7 16 rfl rfl)
theorem dX5_order_181 : decode cX5_order 181 = .ok (.iastore, 1) := dk_79 (dk_at dksX5_order_7 18 rfl rfl)
theorem dX5_order_182 : decode cX5_order 182 = .ok (.iload_n 1, 1) := dk_27 (dk_at dksX5_order_7 19 rfl rfl)
theorem dX5_order_183 : decode cX5_order 183 = .ok (.iconst 1, 1) := dk_4 (dk_at dksX5_order_7 20 rfl rfl)
theorem dX5_order_184 : decode cX5_order 184 = .ok (.iload 4, 2) := dk_21 4 (dk_at dksX5_order_7 21 rfl rfl)
theorem dX5_order_186 : decode cX5_order 186 = .ok (.ishl, 1) := dk_120 (dk_at dksX5_order_7 23 rfl rfl)
theorem dX5_order_187 : decode cX5_order 187 = .ok (.iconst (-1), 1) := dk_2 (dk_at dksX5_order_8 0 rfl rfl)
theorem dX5_order_188 : decode cX5_order 188 = .ok (.ixor, 1) := dk_130 (dk_at dksX5_order_8 1 rfl rfl)
theorem dX5_order_189 : decode cX5_order 189 = .ok (.iand, 1) := dk_126 (dk_at dksX5_order_8 2 rfl rfl)
theorem dX5_order_190 : decode cX5_order 190 = .ok (.istore_n 1, 1) := dk_60 (dk_at dksX5_order_8 3 rfl rfl)
theorem dX5_order_191 : decode cX5_order 191 = .ok (.iinc 3 1, 3) := dk_132 3 1 (dk_at dksX5_order_8 4 rfl rfl)
theorem dX5_order_194 : decode cX5_order 194 = .ok (.goto (-76), 3) := dk_167 255 180 (dk_at dksX5_order_8 7 rfl rfl)
theorem dX5_order_197 : decode cX5_order 197 = .ok (.aload_n 0, 1) := dk_42 (dk_at dksX5_order_8 10 rfl rfl)
theorem dX5_order_198 : decode cX5_order 198 = .ok (.aload_n 0, 1) := dk_42 (dk_at dksX5_order_8 11 rfl rfl)
theorem dX5_order_199 : decode cX5_order 199 = .ok (.getfield 431, 3) := dk_180 1 175 (dk_at dksX5_order_8 12 rfl rfl)
theorem dX5_order_202 : decode cX5_order 202 = .ok (.putfield 169, 3) := dk_181 0 169 (dk_at dksX5_order_8 15 rfl rfl)
theorem dX5_order_205 : decode cX5_order 205 = .ok (.aload_n 0, 1) := dk_42 (dk_at dksX5_order_8 18 rfl rfl)
theorem dX5_order_206 : decode cX5_order 206 = .ok (.iconst 0, 1) := dk_3 (dk_at dksX5_order_8 19 rfl rfl)
theorem dX5_order_207 : decode cX5_order 207 = .ok (.putfield 431, 3) := dk_181 1 175 (dk_at dksX5_order_8 20 rfl rfl)
theorem dX5_order_210 : decode cX5_order 210 = .ok (.iload_n 2, 1) := dk_28 (dk_at dksX5_order_8 23 rfl rfl)
theorem dX5_order_211 : decode cX5_order 211 = .ok (.ireturn, 1) := dk_172 (dk_at dksX5_order_9 0 rfl rfl)
abbrev cX5_costNext : ByteArray := prog_22_method_79_code
def yX5_costNext : MethodName := ⟨RX5, "costNext", "(II)I"⟩
def dkwX5_costNext_3 : List UInt8 := [46, 104, 167, 0, 4, 3, 172]
abbrev dktX5_costNext_3 : List UInt8 := dkwX5_costNext_3 ++ []
def dkwX5_costNext_2 : List UInt8 := [27, 46, 96, 42, 180, 0, 163, 27, 46, 100, 54, 4, 21, 4, 158, 0, 15, 21, 4, 42, 180, 0, 160, 27]
abbrev dktX5_costNext_2 : List UInt8 := dkwX5_costNext_2 ++ dktX5_costNext_3
def dkwX5_costNext_1 : List UInt8 := [42, 180, 0, 157, 21, 4, 46, 167, 0, 4, 3, 96, 62, 132, 4, 1, 167, 255, 221, 29, 42, 180, 0, 157]
abbrev dktX5_costNext_1 : List UInt8 := dkwX5_costNext_1 ++ dktX5_costNext_2
def dkwX5_costNext_0 : List UInt8 := [3, 62, 3, 54, 4, 21, 4, 42, 180, 1, 175, 162, 0, 32, 29, 28, 21, 4, 122, 4, 126, 154, 0, 13]
abbrev dktX5_costNext_0 : List UInt8 := dkwX5_costNext_0 ++ dktX5_costNext_1
theorem dksX5_costNext_0 : cX5_costNext.data.toList.drop 0 = dktX5_costNext_0 := by decide +kernel
theorem dksX5_costNext_1 : cX5_costNext.data.toList.drop 24 = dktX5_costNext_1 := dk_seg dksX5_costNext_0 24 rfl rfl
theorem dksX5_costNext_2 : cX5_costNext.data.toList.drop 48 = dktX5_costNext_2 := dk_seg dksX5_costNext_1 24 rfl rfl
theorem dksX5_costNext_3 : cX5_costNext.data.toList.drop 72 = dktX5_costNext_3 := dk_seg dksX5_costNext_2 24 rfl rfl
theorem dX5_costNext_0 : decode cX5_costNext 0 = .ok (.iconst 0, 1) := dk_3 (dk_at dksX5_costNext_0 0 rfl rfl)
theorem dX5_costNext_1 : decode cX5_costNext 1 = .ok (.istore_n 3, 1) := dk_62 (dk_at dksX5_costNext_0 1 rfl rfl)
theorem dX5_costNext_2 : decode cX5_costNext 2 = .ok (.iconst 0, 1) := dk_3 (dk_at dksX5_costNext_0 2 rfl rfl)
theorem dX5_costNext_3 : decode cX5_costNext 3 = .ok (.istore 4, 2) := dk_54 4 (dk_at dksX5_costNext_0 3 rfl rfl)
theorem dX5_costNext_5 : decode cX5_costNext 5 = .ok (.iload 4, 2) := dk_21 4 (dk_at dksX5_costNext_0 5 rfl rfl)
theorem dX5_costNext_7 : decode cX5_costNext 7 = .ok (.aload_n 0, 1) := dk_42 (dk_at dksX5_costNext_0 7 rfl rfl)
theorem dX5_costNext_8 : decode cX5_costNext 8 = .ok (.getfield 431, 3) := dk_180 1 175 (dk_at dksX5_costNext_0 8 rfl rfl)
theorem dX5_costNext_11 : decode cX5_costNext 11 = .ok (.if_icmp .ge 32, 3) := dk_162 0 32 (dk_at dksX5_costNext_0 11 rfl rfl)
theorem dX5_costNext_14 : decode cX5_costNext 14 = .ok (.iload_n 3, 1) := dk_29 (dk_at dksX5_costNext_0 14 rfl rfl)
theorem dX5_costNext_15 : decode cX5_costNext 15 = .ok (.iload_n 2, 1) := dk_28 (dk_at dksX5_costNext_0 15 rfl rfl)
theorem dX5_costNext_16 : decode cX5_costNext 16 = .ok (.iload 4, 2) := dk_21 4 (dk_at dksX5_costNext_0 16 rfl rfl)
theorem dX5_costNext_18 : decode cX5_costNext 18 = .ok (.ishr, 1) := dk_122 (dk_at dksX5_costNext_0 18 rfl rfl)
theorem dX5_costNext_19 : decode cX5_costNext 19 = .ok (.iconst 1, 1) := dk_4 (dk_at dksX5_costNext_0 19 rfl rfl)
theorem dX5_costNext_20 : decode cX5_costNext 20 = .ok (.iand, 1) := dk_126 (dk_at dksX5_costNext_0 20 rfl rfl)
theorem dX5_costNext_21 : decode cX5_costNext 21 = .ok (.ifCond .ne 13, 3) := dk_154 0 13 (dk_at dksX5_costNext_0 21 rfl rfl)
theorem dX5_costNext_24 : decode cX5_costNext 24 = .ok (.aload_n 0, 1) := dk_42 (dk_at dksX5_costNext_1 0 rfl rfl)
theorem dX5_costNext_25 : decode cX5_costNext 25 = .ok (.getfield 157, 3) := dk_180 0 157 (dk_at dksX5_costNext_1 1 rfl rfl)
theorem dX5_costNext_28 : decode cX5_costNext 28 = .ok (.iload 4, 2) := dk_21 4 (dk_at dksX5_costNext_1 4 rfl rfl)
theorem dX5_costNext_30 : decode cX5_costNext 30 = .ok (.iaload, 1) := dk_46 (dk_at dksX5_costNext_1 6 rfl rfl)
theorem dX5_costNext_31 : decode cX5_costNext 31 = .ok (.goto 4, 3) := dk_167 0 4 (dk_at dksX5_costNext_1 7 rfl rfl)
theorem dX5_costNext_34 : decode cX5_costNext 34 = .ok (.iconst 0, 1) := dk_3 (dk_at dksX5_costNext_1 10 rfl rfl)
theorem dX5_costNext_35 : decode cX5_costNext 35 = .ok (.iadd, 1) := dk_96 (dk_at dksX5_costNext_1 11 rfl rfl)
theorem dX5_costNext_36 : decode cX5_costNext 36 = .ok (.istore_n 3, 1) := dk_62 (dk_at dksX5_costNext_1 12 rfl rfl)
theorem dX5_costNext_37 : decode cX5_costNext 37 = .ok (.iinc 4 1, 3) := dk_132 4 1 (dk_at dksX5_costNext_1 13 rfl rfl)
theorem dX5_costNext_40 : decode cX5_costNext 40 = .ok (.goto (-35), 3) := dk_167 255 221 (dk_at dksX5_costNext_1 16 rfl rfl)
theorem dX5_costNext_43 : decode cX5_costNext 43 = .ok (.iload_n 3, 1) := dk_29 (dk_at dksX5_costNext_1 19 rfl rfl)
theorem dX5_costNext_44 : decode cX5_costNext 44 = .ok (.aload_n 0, 1) := dk_42 (dk_at dksX5_costNext_1 20 rfl rfl)
theorem dX5_costNext_45 : decode cX5_costNext 45 = .ok (.getfield 157, 3) := dk_180 0 157 (dk_at dksX5_costNext_1 21 rfl rfl)
theorem dX5_costNext_48 : decode cX5_costNext 48 = .ok (.iload_n 1, 1) := dk_27 (dk_at dksX5_costNext_2 0 rfl rfl)
theorem dX5_costNext_49 : decode cX5_costNext 49 = .ok (.iaload, 1) := dk_46 (dk_at dksX5_costNext_2 1 rfl rfl)
theorem dX5_costNext_50 : decode cX5_costNext 50 = .ok (.iadd, 1) := dk_96 (dk_at dksX5_costNext_2 2 rfl rfl)
theorem dX5_costNext_51 : decode cX5_costNext 51 = .ok (.aload_n 0, 1) := dk_42 (dk_at dksX5_costNext_2 3 rfl rfl)
theorem dX5_costNext_52 : decode cX5_costNext 52 = .ok (.getfield 163, 3) := dk_180 0 163 (dk_at dksX5_costNext_2 4 rfl rfl)
theorem dX5_costNext_55 : decode cX5_costNext 55 = .ok (.iload_n 1, 1) := dk_27 (dk_at dksX5_costNext_2 7 rfl rfl)
theorem dX5_costNext_56 : decode cX5_costNext 56 = .ok (.iaload, 1) := dk_46 (dk_at dksX5_costNext_2 8 rfl rfl)
theorem dX5_costNext_57 : decode cX5_costNext 57 = .ok (.isub, 1) := dk_100 (dk_at dksX5_costNext_2 9 rfl rfl)
theorem dX5_costNext_58 : decode cX5_costNext 58 = .ok (.istore 4, 2) := dk_54 4 (dk_at dksX5_costNext_2 10 rfl rfl)
theorem dX5_costNext_60 : decode cX5_costNext 60 = .ok (.iload 4, 2) := dk_21 4 (dk_at dksX5_costNext_2 12 rfl rfl)
theorem dX5_costNext_62 : decode cX5_costNext 62 = .ok (.ifCond .le 15, 3) := dk_158 0 15 (dk_at dksX5_costNext_2 14 rfl rfl)
theorem dX5_costNext_65 : decode cX5_costNext 65 = .ok (.iload 4, 2) := dk_21 4 (dk_at dksX5_costNext_2 17 rfl rfl)
theorem dX5_costNext_67 : decode cX5_costNext 67 = .ok (.aload_n 0, 1) := dk_42 (dk_at dksX5_costNext_2 19 rfl rfl)
theorem dX5_costNext_68 : decode cX5_costNext 68 = .ok (.getfield 160, 3) := dk_180 0 160 (dk_at dksX5_costNext_2 20 rfl rfl)
theorem dX5_costNext_71 : decode cX5_costNext 71 = .ok (.iload_n 1, 1) := dk_27 (dk_at dksX5_costNext_2 23 rfl rfl)
theorem dX5_costNext_72 : decode cX5_costNext 72 = .ok (.iaload, 1) := dk_46 (dk_at dksX5_costNext_3 0 rfl rfl)
theorem dX5_costNext_73 : decode cX5_costNext 73 = .ok (.imul, 1) := dk_104 (dk_at dksX5_costNext_3 1 rfl rfl)
theorem dX5_costNext_74 : decode cX5_costNext 74 = .ok (.goto 4, 3) := dk_167 0 4 (dk_at dksX5_costNext_3 2 rfl rfl)
theorem dX5_costNext_77 : decode cX5_costNext 77 = .ok (.iconst 0, 1) := dk_3 (dk_at dksX5_costNext_3 5 rfl rfl)
theorem dX5_costNext_78 : decode cX5_costNext 78 = .ok (.ireturn, 1) := dk_172 (dk_at dksX5_costNext_3 6 rfl rfl)
abbrev cX5_ordered : ByteArray := prog_22_method_81_code
def yX5_ordered : MethodName := ⟨RX5, "ordered", "(I)I"⟩
def dkwX5_ordered_1 : List UInt8 := [172]
abbrev dktX5_ordered_1 : List UInt8 := dkwX5_ordered_1 ++ []
def dkwX5_ordered_0 : List UInt8 := [27, 3, 42, 180, 0, 169, 4, 100, 184, 0, 230, 153, 0, 12, 42, 180, 0, 172, 27, 46, 167, 0, 4, 2]
abbrev dktX5_ordered_0 : List UInt8 := dkwX5_ordered_0 ++ dktX5_ordered_1
theorem dksX5_ordered_0 : cX5_ordered.data.toList.drop 0 = dktX5_ordered_0 := by decide +kernel
theorem dksX5_ordered_1 : cX5_ordered.data.toList.drop 24 = dktX5_ordered_1 := dk_seg dksX5_ordered_0 24 rfl rfl
theorem dX5_ordered_0 : decode cX5_ordered 0 = .ok (.iload_n 1, 1) := dk_27 (dk_at dksX5_ordered_0 0 rfl rfl)
theorem dX5_ordered_1 : decode cX5_ordered 1 = .ok (.iconst 0, 1) := dk_3 (dk_at dksX5_ordered_0 1 rfl rfl)
theorem dX5_ordered_2 : decode cX5_ordered 2 = .ok (.aload_n 0, 1) := dk_42 (dk_at dksX5_ordered_0 2 rfl rfl)
theorem dX5_ordered_3 : decode cX5_ordered 3 = .ok (.getfield 169, 3) := dk_180 0 169 (dk_at dksX5_ordered_0 3 rfl rfl)
theorem dX5_ordered_6 : decode cX5_ordered 6 = .ok (.iconst 1, 1) := dk_4 (dk_at dksX5_ordered_0 6 rfl rfl)
theorem dX5_ordered_7 : decode cX5_ordered 7 = .ok (.isub, 1) := dk_100 (dk_at dksX5_ordered_0 7 rfl rfl)
theorem dX5_ordered_8 : decode cX5_ordered 8 = .ok (.invokestatic 230, 3) := dk_184 0 230 (dk_at dksX5_ordered_0 8 rfl rfl)
theorem dX5_ordered_11 : decode cX5_ordered 11 = .ok (.ifCond .eq 12, 3) := dk_153 0 12 (dk_at dksX5_ordered_0 11 rfl rfl)
theorem dX5_ordered_14 : decode cX5_ordered 14 = .ok (.aload_n 0, 1) := dk_42 (dk_at dksX5_ordered_0 14 rfl rfl)
theorem dX5_ordered_15 : decode cX5_ordered 15 = .ok (.getfield 172, 3) := dk_180 0 172 (dk_at dksX5_ordered_0 15 rfl rfl)
theorem dX5_ordered_18 : decode cX5_ordered 18 = .ok (.iload_n 1, 1) := dk_27 (dk_at dksX5_ordered_0 18 rfl rfl)
theorem dX5_ordered_19 : decode cX5_ordered 19 = .ok (.iaload, 1) := dk_46 (dk_at dksX5_ordered_0 19 rfl rfl)
theorem dX5_ordered_20 : decode cX5_ordered 20 = .ok (.goto 4, 3) := dk_167 0 4 (dk_at dksX5_ordered_0 20 rfl rfl)
theorem dX5_ordered_23 : decode cX5_ordered 23 = .ok (.iconst (-1), 1) := dk_2 (dk_at dksX5_ordered_0 23 rfl rfl)
theorem dX5_ordered_24 : decode cX5_ordered 24 = .ok (.ireturn, 1) := dk_172 (dk_at dksX5_ordered_1 0 rfl rfl)
abbrev cX5_watch : ByteArray := prog_22_method_82_code
def yX5_watch : MethodName := ⟨RX5, "watch", "(II)I"⟩
def dkwX5_watch_5 : List UInt8 := [79, 132, 5, 1, 167, 255, 237, 42, 27, 181, 0, 175, 29, 172]
abbrev dktX5_watch_5 : List UInt8 := dkwX5_watch_5 ++ []
def dkwX5_watch_4 : List UInt8 := [132, 5, 1, 167, 255, 189, 29, 54, 5, 21, 5, 16, 9, 162, 0, 18, 42, 180, 0, 178, 21, 5, 16, 254]
abbrev dktX5_watch_4 : List UInt8 := dkwX5_watch_4 ++ dktX5_watch_5
def dkwX5_watch_3 : List UInt8 := [163, 0, 24, 29, 6, 27, 104, 160, 0, 6, 167, 0, 14, 42, 180, 0, 178, 29, 21, 5, 79, 132, 3, 1]
abbrev dktX5_watch_3 : List UInt8 := dkwX5_watch_3 ++ dktX5_watch_4
def dkwX5_watch_2 : List UInt8 := [180, 0, 62, 21, 5, 51, 154, 0, 6, 167, 0, 38, 132, 4, 1, 42, 180, 0, 59, 21, 5, 46, 28]
abbrev dktX5_watch_2 : List UInt8 := dkwX5_watch_2 ++ dktX5_watch_3
def dkwX5_watch_1 : List UInt8 := [54, 4, 3, 54, 5, 21, 5, 42, 180, 0, 242, 162, 0, 64, 21, 4, 16, 9, 162, 0, 57, 42]
abbrev dktX5_watch_1 : List UInt8 := dkwX5_watch_1 ++ dktX5_watch_2
def dkwX5_watch_0 : List UInt8 := [27, 4, 6, 184, 0, 230, 153, 0, 13, 28, 3, 16, 9, 184, 0, 230, 154, 0, 5, 2, 172, 3, 62, 3]
abbrev dktX5_watch_0 : List UInt8 := dkwX5_watch_0 ++ dktX5_watch_1
theorem dksX5_watch_0 : cX5_watch.data.toList.drop 0 = dktX5_watch_0 := by decide +kernel
theorem dksX5_watch_1 : cX5_watch.data.toList.drop 24 = dktX5_watch_1 := dk_seg dksX5_watch_0 24 rfl rfl
theorem dksX5_watch_2 : cX5_watch.data.toList.drop 46 = dktX5_watch_2 := dk_seg dksX5_watch_1 22 rfl rfl
theorem dksX5_watch_3 : cX5_watch.data.toList.drop 69 = dktX5_watch_3 := dk_seg dksX5_watch_2 23 rfl rfl
theorem dksX5_watch_4 : cX5_watch.data.toList.drop 93 = dktX5_watch_4 := dk_seg dksX5_watch_3 24 rfl rfl
theorem dksX5_watch_5 : cX5_watch.data.toList.drop 117 = dktX5_watch_5 := dk_seg dksX5_watch_4 24 rfl rfl
theorem dX5_watch_0 : decode cX5_watch 0 = .ok (.iload_n 1, 1) := dk_27 (dk_at dksX5_watch_0 0 rfl rfl)
theorem dX5_watch_1 : decode cX5_watch 1 = .ok (.iconst 1, 1) := dk_4 (dk_at dksX5_watch_0 1 rfl rfl)
theorem dX5_watch_2 : decode cX5_watch 2 = .ok (.iconst 3, 1) := dk_6 (dk_at dksX5_watch_0 2 rfl rfl)
theorem dX5_watch_3 : decode cX5_watch 3 = .ok (.invokestatic 230, 3) := dk_184 0 230 (dk_at dksX5_watch_0 3 rfl rfl)
theorem dX5_watch_6 : decode cX5_watch 6 = .ok (.ifCond .eq 13, 3) := dk_153 0 13 (dk_at dksX5_watch_0 6 rfl rfl)
theorem dX5_watch_9 : decode cX5_watch 9 = .ok (.iload_n 2, 1) := dk_28 (dk_at dksX5_watch_0 9 rfl rfl)
theorem dX5_watch_10 : decode cX5_watch 10 = .ok (.iconst 0, 1) := dk_3 (dk_at dksX5_watch_0 10 rfl rfl)
theorem dX5_watch_11 : decode cX5_watch 11 = .ok (.bipush 9, 2) := dk_16 9 (dk_at dksX5_watch_0 11 rfl rfl)
theorem dX5_watch_13 : decode cX5_watch 13 = .ok (.invokestatic 230, 3) := dk_184 0 230 (dk_at dksX5_watch_0 13 rfl rfl)
theorem dX5_watch_16 : decode cX5_watch 16 = .ok (.ifCond .ne 5, 3) := dk_154 0 5 (dk_at dksX5_watch_0 16 rfl rfl)
theorem dX5_watch_19 : decode cX5_watch 19 = .ok (.iconst (-1), 1) := dk_2 (dk_at dksX5_watch_0 19 rfl rfl)
theorem dX5_watch_20 : decode cX5_watch 20 = .ok (.ireturn, 1) := dk_172 (dk_at dksX5_watch_0 20 rfl rfl)
theorem dX5_watch_21 : decode cX5_watch 21 = .ok (.iconst 0, 1) := dk_3 (dk_at dksX5_watch_0 21 rfl rfl)
theorem dX5_watch_22 : decode cX5_watch 22 = .ok (.istore_n 3, 1) := dk_62 (dk_at dksX5_watch_0 22 rfl rfl)
theorem dX5_watch_23 : decode cX5_watch 23 = .ok (.iconst 0, 1) := dk_3 (dk_at dksX5_watch_0 23 rfl rfl)
theorem dX5_watch_24 : decode cX5_watch 24 = .ok (.istore 4, 2) := dk_54 4 (dk_at dksX5_watch_1 0 rfl rfl)
theorem dX5_watch_26 : decode cX5_watch 26 = .ok (.iconst 0, 1) := dk_3 (dk_at dksX5_watch_1 2 rfl rfl)
theorem dX5_watch_27 : decode cX5_watch 27 = .ok (.istore 5, 2) := dk_54 5 (dk_at dksX5_watch_1 3 rfl rfl)
theorem dX5_watch_29 : decode cX5_watch 29 = .ok (.iload 5, 2) := dk_21 5 (dk_at dksX5_watch_1 5 rfl rfl)
theorem dX5_watch_31 : decode cX5_watch 31 = .ok (.aload_n 0, 1) := dk_42 (dk_at dksX5_watch_1 7 rfl rfl)
theorem dX5_watch_32 : decode cX5_watch 32 = .ok (.getfield 242, 3) := dk_180 0 242 (dk_at dksX5_watch_1 8 rfl rfl)
theorem dX5_watch_35 : decode cX5_watch 35 = .ok (.if_icmp .ge 64, 3) := dk_162 0 64 (dk_at dksX5_watch_1 11 rfl rfl)
theorem dX5_watch_38 : decode cX5_watch 38 = .ok (.iload 4, 2) := dk_21 4 (dk_at dksX5_watch_1 14 rfl rfl)
theorem dX5_watch_40 : decode cX5_watch 40 = .ok (.bipush 9, 2) := dk_16 9 (dk_at dksX5_watch_1 16 rfl rfl)
theorem dX5_watch_42 : decode cX5_watch 42 = .ok (.if_icmp .ge 57, 3) := dk_162 0 57 (dk_at dksX5_watch_1 18 rfl rfl)
theorem dX5_watch_45 : decode cX5_watch 45 = .ok (.aload_n 0, 1) := dk_42 (dk_at dksX5_watch_1 21 rfl rfl)
theorem dX5_watch_46 : decode cX5_watch 46 = .ok (.getfield 62, 3) := dk_180 0 62 (dk_at dksX5_watch_2 0 rfl rfl)
theorem dX5_watch_49 : decode cX5_watch 49 = .ok (.iload 5, 2) := dk_21 5 (dk_at dksX5_watch_2 3 rfl rfl)
theorem dX5_watch_51 : decode cX5_watch 51 = .ok (.baload, 1) := dk_51 (dk_at dksX5_watch_2 5 rfl rfl)
theorem dX5_watch_52 : decode cX5_watch 52 = .ok (.ifCond .ne 6, 3) := dk_154 0 6 (dk_at dksX5_watch_2 6 rfl rfl)
theorem dX5_watch_55 : decode cX5_watch 55 = .ok (.goto 38, 3) := dk_167 0 38 (dk_at dksX5_watch_2 9 rfl rfl)
theorem dX5_watch_58 : decode cX5_watch 58 = .ok (.iinc 4 1, 3) := dk_132 4 1 (dk_at dksX5_watch_2 12 rfl rfl)
theorem dX5_watch_61 : decode cX5_watch 61 = .ok (.aload_n 0, 1) := dk_42 (dk_at dksX5_watch_2 15 rfl rfl)
theorem dX5_watch_62 : decode cX5_watch 62 = .ok (.getfield 59, 3) := dk_180 0 59 (dk_at dksX5_watch_2 16 rfl rfl)
theorem dX5_watch_65 : decode cX5_watch 65 = .ok (.iload 5, 2) := dk_21 5 (dk_at dksX5_watch_2 19 rfl rfl)
theorem dX5_watch_67 : decode cX5_watch 67 = .ok (.iaload, 1) := dk_46 (dk_at dksX5_watch_2 21 rfl rfl)
theorem dX5_watch_68 : decode cX5_watch 68 = .ok (.iload_n 2, 1) := dk_28 (dk_at dksX5_watch_2 22 rfl rfl)
theorem dX5_watch_69 : decode cX5_watch 69 = .ok (.if_icmp .gt 24, 3) := dk_163 0 24 (dk_at dksX5_watch_3 0 rfl rfl)
theorem dX5_watch_72 : decode cX5_watch 72 = .ok (.iload_n 3, 1) := dk_29 (dk_at dksX5_watch_3 3 rfl rfl)
theorem dX5_watch_73 : decode cX5_watch 73 = .ok (.iconst 3, 1) := dk_6 (dk_at dksX5_watch_3 4 rfl rfl)
theorem dX5_watch_74 : decode cX5_watch 74 = .ok (.iload_n 1, 1) := dk_27 (dk_at dksX5_watch_3 5 rfl rfl)
theorem dX5_watch_75 : decode cX5_watch 75 = .ok (.imul, 1) := dk_104 (dk_at dksX5_watch_3 6 rfl rfl)
theorem dX5_watch_76 : decode cX5_watch 76 = .ok (.if_icmp .ne 6, 3) := dk_160 0 6 (dk_at dksX5_watch_3 7 rfl rfl)
theorem dX5_watch_79 : decode cX5_watch 79 = .ok (.goto 14, 3) := dk_167 0 14 (dk_at dksX5_watch_3 10 rfl rfl)
theorem dX5_watch_82 : decode cX5_watch 82 = .ok (.aload_n 0, 1) := dk_42 (dk_at dksX5_watch_3 13 rfl rfl)
theorem dX5_watch_83 : decode cX5_watch 83 = .ok (.getfield 178, 3) := dk_180 0 178 (dk_at dksX5_watch_3 14 rfl rfl)
theorem dX5_watch_86 : decode cX5_watch 86 = .ok (.iload_n 3, 1) := dk_29 (dk_at dksX5_watch_3 17 rfl rfl)
theorem dX5_watch_87 : decode cX5_watch 87 = .ok (.iload 5, 2) := dk_21 5 (dk_at dksX5_watch_3 18 rfl rfl)
theorem dX5_watch_89 : decode cX5_watch 89 = .ok (.iastore, 1) := dk_79 (dk_at dksX5_watch_3 20 rfl rfl)
theorem dX5_watch_90 : decode cX5_watch 90 = .ok (.iinc 3 1, 3) := dk_132 3 1 (dk_at dksX5_watch_3 21 rfl rfl)
theorem dX5_watch_93 : decode cX5_watch 93 = .ok (.iinc 5 1, 3) := dk_132 5 1 (dk_at dksX5_watch_4 0 rfl rfl)
theorem dX5_watch_96 : decode cX5_watch 96 = .ok (.goto (-67), 3) := dk_167 255 189 (dk_at dksX5_watch_4 3 rfl rfl)
theorem dX5_watch_99 : decode cX5_watch 99 = .ok (.iload_n 3, 1) := dk_29 (dk_at dksX5_watch_4 6 rfl rfl)
theorem dX5_watch_100 : decode cX5_watch 100 = .ok (.istore 5, 2) := dk_54 5 (dk_at dksX5_watch_4 7 rfl rfl)
theorem dX5_watch_102 : decode cX5_watch 102 = .ok (.iload 5, 2) := dk_21 5 (dk_at dksX5_watch_4 9 rfl rfl)
theorem dX5_watch_104 : decode cX5_watch 104 = .ok (.bipush 9, 2) := dk_16 9 (dk_at dksX5_watch_4 11 rfl rfl)
theorem dX5_watch_106 : decode cX5_watch 106 = .ok (.if_icmp .ge 18, 3) := dk_162 0 18 (dk_at dksX5_watch_4 13 rfl rfl)
theorem dX5_watch_109 : decode cX5_watch 109 = .ok (.aload_n 0, 1) := dk_42 (dk_at dksX5_watch_4 16 rfl rfl)
theorem dX5_watch_110 : decode cX5_watch 110 = .ok (.getfield 178, 3) := dk_180 0 178 (dk_at dksX5_watch_4 17 rfl rfl)
theorem dX5_watch_113 : decode cX5_watch 113 = .ok (.iload 5, 2) := dk_21 5 (dk_at dksX5_watch_4 20 rfl rfl)
theorem dX5_watch_115 : decode cX5_watch 115 = .ok (.bipush (-2), 2) := dk_16 254 (dk_at dksX5_watch_4 22 rfl rfl)
theorem dX5_watch_117 : decode cX5_watch 117 = .ok (.iastore, 1) := dk_79 (dk_at dksX5_watch_5 0 rfl rfl)
theorem dX5_watch_118 : decode cX5_watch 118 = .ok (.iinc 5 1, 3) := dk_132 5 1 (dk_at dksX5_watch_5 1 rfl rfl)
theorem dX5_watch_121 : decode cX5_watch 121 = .ok (.goto (-19), 3) := dk_167 255 237 (dk_at dksX5_watch_5 4 rfl rfl)
theorem dX5_watch_124 : decode cX5_watch 124 = .ok (.aload_n 0, 1) := dk_42 (dk_at dksX5_watch_5 7 rfl rfl)
theorem dX5_watch_125 : decode cX5_watch 125 = .ok (.iload_n 1, 1) := dk_27 (dk_at dksX5_watch_5 8 rfl rfl)
theorem dX5_watch_126 : decode cX5_watch 126 = .ok (.putfield 175, 3) := dk_181 0 175 (dk_at dksX5_watch_5 9 rfl rfl)
theorem dX5_watch_129 : decode cX5_watch 129 = .ok (.iload_n 3, 1) := dk_29 (dk_at dksX5_watch_5 12 rfl rfl)
theorem dX5_watch_130 : decode cX5_watch 130 = .ok (.ireturn, 1) := dk_172 (dk_at dksX5_watch_5 13 rfl rfl)
abbrev cX5_watched : ByteArray := prog_22_method_83_code
def yX5_watched : MethodName := ⟨RX5, "watched", "(II)I"⟩
def dkwX5_watched_1 : List UInt8 := [180, 0, 178, 42, 180, 0, 175, 27, 104, 28, 96, 46, 167, 0, 4, 2, 172]
abbrev dktX5_watched_1 : List UInt8 := dkwX5_watched_1 ++ []
def dkwX5_watched_0 : List UInt8 := [27, 3, 5, 184, 0, 230, 153, 0, 33, 28, 3, 42, 180, 0, 175, 4, 100, 184, 0, 230, 153, 0, 19, 42]
abbrev dktX5_watched_0 : List UInt8 := dkwX5_watched_0 ++ dktX5_watched_1
theorem dksX5_watched_0 : cX5_watched.data.toList.drop 0 = dktX5_watched_0 := by decide +kernel
theorem dksX5_watched_1 : cX5_watched.data.toList.drop 24 = dktX5_watched_1 := dk_seg dksX5_watched_0 24 rfl rfl
theorem dX5_watched_0 : decode cX5_watched 0 = .ok (.iload_n 1, 1) := dk_27 (dk_at dksX5_watched_0 0 rfl rfl)
theorem dX5_watched_1 : decode cX5_watched 1 = .ok (.iconst 0, 1) := dk_3 (dk_at dksX5_watched_0 1 rfl rfl)
theorem dX5_watched_2 : decode cX5_watched 2 = .ok (.iconst 2, 1) := dk_5 (dk_at dksX5_watched_0 2 rfl rfl)
theorem dX5_watched_3 : decode cX5_watched 3 = .ok (.invokestatic 230, 3) := dk_184 0 230 (dk_at dksX5_watched_0 3 rfl rfl)
theorem dX5_watched_6 : decode cX5_watched 6 = .ok (.ifCond .eq 33, 3) := dk_153 0 33 (dk_at dksX5_watched_0 6 rfl rfl)
theorem dX5_watched_9 : decode cX5_watched 9 = .ok (.iload_n 2, 1) := dk_28 (dk_at dksX5_watched_0 9 rfl rfl)
theorem dX5_watched_10 : decode cX5_watched 10 = .ok (.iconst 0, 1) := dk_3 (dk_at dksX5_watched_0 10 rfl rfl)
theorem dX5_watched_11 : decode cX5_watched 11 = .ok (.aload_n 0, 1) := dk_42 (dk_at dksX5_watched_0 11 rfl rfl)
theorem dX5_watched_12 : decode cX5_watched 12 = .ok (.getfield 175, 3) := dk_180 0 175 (dk_at dksX5_watched_0 12 rfl rfl)
theorem dX5_watched_15 : decode cX5_watched 15 = .ok (.iconst 1, 1) := dk_4 (dk_at dksX5_watched_0 15 rfl rfl)
theorem dX5_watched_16 : decode cX5_watched 16 = .ok (.isub, 1) := dk_100 (dk_at dksX5_watched_0 16 rfl rfl)
theorem dX5_watched_17 : decode cX5_watched 17 = .ok (.invokestatic 230, 3) := dk_184 0 230 (dk_at dksX5_watched_0 17 rfl rfl)
theorem dX5_watched_20 : decode cX5_watched 20 = .ok (.ifCond .eq 19, 3) := dk_153 0 19 (dk_at dksX5_watched_0 20 rfl rfl)
theorem dX5_watched_23 : decode cX5_watched 23 = .ok (.aload_n 0, 1) := dk_42 (dk_at dksX5_watched_0 23 rfl rfl)
theorem dX5_watched_24 : decode cX5_watched 24 = .ok (.getfield 178, 3) := dk_180 0 178 (dk_at dksX5_watched_1 0 rfl rfl)
theorem dX5_watched_27 : decode cX5_watched 27 = .ok (.aload_n 0, 1) := dk_42 (dk_at dksX5_watched_1 3 rfl rfl)
theorem dX5_watched_28 : decode cX5_watched 28 = .ok (.getfield 175, 3) := dk_180 0 175 (dk_at dksX5_watched_1 4 rfl rfl)
theorem dX5_watched_31 : decode cX5_watched 31 = .ok (.iload_n 1, 1) := dk_27 (dk_at dksX5_watched_1 7 rfl rfl)
theorem dX5_watched_32 : decode cX5_watched 32 = .ok (.imul, 1) := dk_104 (dk_at dksX5_watched_1 8 rfl rfl)
theorem dX5_watched_33 : decode cX5_watched 33 = .ok (.iload_n 2, 1) := dk_28 (dk_at dksX5_watched_1 9 rfl rfl)
theorem dX5_watched_34 : decode cX5_watched 34 = .ok (.iadd, 1) := dk_96 (dk_at dksX5_watched_1 10 rfl rfl)
theorem dX5_watched_35 : decode cX5_watched 35 = .ok (.iaload, 1) := dk_46 (dk_at dksX5_watched_1 11 rfl rfl)
theorem dX5_watched_36 : decode cX5_watched 36 = .ok (.goto 4, 3) := dk_167 0 4 (dk_at dksX5_watched_1 12 rfl rfl)
theorem dX5_watched_39 : decode cX5_watched 39 = .ok (.iconst (-1), 1) := dk_2 (dk_at dksX5_watched_1 15 rfl rfl)
theorem dX5_watched_40 : decode cX5_watched 40 = .ok (.ireturn, 1) := dk_172 (dk_at dksX5_watched_1 16 rfl rfl)
abbrev cX5_aim : ByteArray := prog_22_method_84_code
def yX5_aim : MethodName := ⟨RX5, "aim", "(II)I"⟩
def dkwX5_aim_2 : List UInt8 := [180, 1, 184, 4, 96, 181, 1, 184, 42, 180, 1, 184, 172]
abbrev dktX5_aim_2 : List UInt8 := dkwX5_aim_2 ++ []
def dkwX5_aim_1 : List UInt8 := [180, 1, 184, 16, 6, 160, 0, 6, 16, 253, 172, 42, 180, 0, 181, 42, 180, 1, 184, 28, 79, 42, 89]
abbrev dktX5_aim_1 : List UInt8 := dkwX5_aim_1 ++ dktX5_aim_2
def dkwX5_aim_0 : List UInt8 := [27, 3, 16, 31, 184, 0, 230, 153, 0, 13, 28, 3, 16, 9, 184, 0, 230, 154, 0, 5, 2, 172, 42]
abbrev dktX5_aim_0 : List UInt8 := dkwX5_aim_0 ++ dktX5_aim_1
theorem dksX5_aim_0 : cX5_aim.data.toList.drop 0 = dktX5_aim_0 := by decide +kernel
theorem dksX5_aim_1 : cX5_aim.data.toList.drop 23 = dktX5_aim_1 := dk_seg dksX5_aim_0 23 rfl rfl
theorem dksX5_aim_2 : cX5_aim.data.toList.drop 46 = dktX5_aim_2 := dk_seg dksX5_aim_1 23 rfl rfl
theorem dX5_aim_0 : decode cX5_aim 0 = .ok (.iload_n 1, 1) := dk_27 (dk_at dksX5_aim_0 0 rfl rfl)
theorem dX5_aim_1 : decode cX5_aim 1 = .ok (.iconst 0, 1) := dk_3 (dk_at dksX5_aim_0 1 rfl rfl)
theorem dX5_aim_2 : decode cX5_aim 2 = .ok (.bipush 31, 2) := dk_16 31 (dk_at dksX5_aim_0 2 rfl rfl)
theorem dX5_aim_4 : decode cX5_aim 4 = .ok (.invokestatic 230, 3) := dk_184 0 230 (dk_at dksX5_aim_0 4 rfl rfl)
theorem dX5_aim_7 : decode cX5_aim 7 = .ok (.ifCond .eq 13, 3) := dk_153 0 13 (dk_at dksX5_aim_0 7 rfl rfl)
theorem dX5_aim_10 : decode cX5_aim 10 = .ok (.iload_n 2, 1) := dk_28 (dk_at dksX5_aim_0 10 rfl rfl)
theorem dX5_aim_11 : decode cX5_aim 11 = .ok (.iconst 0, 1) := dk_3 (dk_at dksX5_aim_0 11 rfl rfl)
theorem dX5_aim_12 : decode cX5_aim 12 = .ok (.bipush 9, 2) := dk_16 9 (dk_at dksX5_aim_0 12 rfl rfl)
theorem dX5_aim_14 : decode cX5_aim 14 = .ok (.invokestatic 230, 3) := dk_184 0 230 (dk_at dksX5_aim_0 14 rfl rfl)
theorem dX5_aim_17 : decode cX5_aim 17 = .ok (.ifCond .ne 5, 3) := dk_154 0 5 (dk_at dksX5_aim_0 17 rfl rfl)
theorem dX5_aim_20 : decode cX5_aim 20 = .ok (.iconst (-1), 1) := dk_2 (dk_at dksX5_aim_0 20 rfl rfl)
theorem dX5_aim_21 : decode cX5_aim 21 = .ok (.ireturn, 1) := dk_172 (dk_at dksX5_aim_0 21 rfl rfl)
theorem dX5_aim_22 : decode cX5_aim 22 = .ok (.aload_n 0, 1) := dk_42 (dk_at dksX5_aim_0 22 rfl rfl)
theorem dX5_aim_23 : decode cX5_aim 23 = .ok (.getfield 440, 3) := dk_180 1 184 (dk_at dksX5_aim_1 0 rfl rfl)
theorem dX5_aim_26 : decode cX5_aim 26 = .ok (.bipush 6, 2) := dk_16 6 (dk_at dksX5_aim_1 3 rfl rfl)
theorem dX5_aim_28 : decode cX5_aim 28 = .ok (.if_icmp .ne 6, 3) := dk_160 0 6 (dk_at dksX5_aim_1 5 rfl rfl)
theorem dX5_aim_31 : decode cX5_aim 31 = .ok (.bipush (-3), 2) := dk_16 253 (dk_at dksX5_aim_1 8 rfl rfl)
theorem dX5_aim_33 : decode cX5_aim 33 = .ok (.ireturn, 1) := dk_172 (dk_at dksX5_aim_1 10 rfl rfl)
theorem dX5_aim_34 : decode cX5_aim 34 = .ok (.aload_n 0, 1) := dk_42 (dk_at dksX5_aim_1 11 rfl rfl)
theorem dX5_aim_35 : decode cX5_aim 35 = .ok (.getfield 181, 3) := dk_180 0 181 (dk_at dksX5_aim_1 12 rfl rfl)
theorem dX5_aim_38 : decode cX5_aim 38 = .ok (.aload_n 0, 1) := dk_42 (dk_at dksX5_aim_1 15 rfl rfl)
theorem dX5_aim_39 : decode cX5_aim 39 = .ok (.getfield 440, 3) := dk_180 1 184 (dk_at dksX5_aim_1 16 rfl rfl)
theorem dX5_aim_42 : decode cX5_aim 42 = .ok (.iload_n 2, 1) := dk_28 (dk_at dksX5_aim_1 19 rfl rfl)
theorem dX5_aim_43 : decode cX5_aim 43 = .ok (.iastore, 1) := dk_79 (dk_at dksX5_aim_1 20 rfl rfl)
theorem dX5_aim_44 : decode cX5_aim 44 = .ok (.aload_n 0, 1) := dk_42 (dk_at dksX5_aim_1 21 rfl rfl)
theorem dX5_aim_45 : decode cX5_aim 45 = .ok (.dup, 1) := dk_89 (dk_at dksX5_aim_1 22 rfl rfl)
theorem dX5_aim_46 : decode cX5_aim 46 = .ok (.getfield 440, 3) := dk_180 1 184 (dk_at dksX5_aim_2 0 rfl rfl)
theorem dX5_aim_49 : decode cX5_aim 49 = .ok (.iconst 1, 1) := dk_4 (dk_at dksX5_aim_2 3 rfl rfl)
theorem dX5_aim_50 : decode cX5_aim 50 = .ok (.iadd, 1) := dk_96 (dk_at dksX5_aim_2 4 rfl rfl)
theorem dX5_aim_51 : decode cX5_aim 51 = .ok (.putfield 440, 3) := dk_181 1 184 (dk_at dksX5_aim_2 5 rfl rfl)
theorem dX5_aim_54 : decode cX5_aim 54 = .ok (.aload_n 0, 1) := dk_42 (dk_at dksX5_aim_2 8 rfl rfl)
theorem dX5_aim_55 : decode cX5_aim 55 = .ok (.getfield 440, 3) := dk_180 1 184 (dk_at dksX5_aim_2 9 rfl rfl)
theorem dX5_aim_58 : decode cX5_aim 58 = .ok (.ireturn, 1) := dk_172 (dk_at dksX5_aim_2 12 rfl rfl)
abbrev cX5_rock : ByteArray := prog_22_method_85_code
def yX5_rock : MethodName := ⟨RX5, "rock", "(III)I"⟩
def dkwX5_rock_2 : List UInt8 := [180, 0, 184, 16, 6, 27, 104, 28, 96, 29, 79, 21, 4, 172]
abbrev dktX5_rock_2 : List UInt8 := dkwX5_rock_2 ++ []
def dkwX5_rock_1 : List UInt8 := [184, 0, 230, 154, 0, 5, 2, 172, 42, 180, 0, 184, 16, 6, 27, 104, 28, 96, 46, 54, 4, 42]
abbrev dktX5_rock_1 : List UInt8 := dkwX5_rock_1 ++ dktX5_rock_2
def dkwX5_rock_0 : List UInt8 := [27, 3, 6, 184, 0, 230, 153, 0, 22, 28, 3, 8, 184, 0, 230, 153, 0, 13, 29, 4, 16, 9]
abbrev dktX5_rock_0 : List UInt8 := dkwX5_rock_0 ++ dktX5_rock_1
theorem dksX5_rock_0 : cX5_rock.data.toList.drop 0 = dktX5_rock_0 := by decide +kernel
theorem dksX5_rock_1 : cX5_rock.data.toList.drop 22 = dktX5_rock_1 := dk_seg dksX5_rock_0 22 rfl rfl
theorem dksX5_rock_2 : cX5_rock.data.toList.drop 44 = dktX5_rock_2 := dk_seg dksX5_rock_1 22 rfl rfl
theorem dX5_rock_0 : decode cX5_rock 0 = .ok (.iload_n 1, 1) := dk_27 (dk_at dksX5_rock_0 0 rfl rfl)
theorem dX5_rock_1 : decode cX5_rock 1 = .ok (.iconst 0, 1) := dk_3 (dk_at dksX5_rock_0 1 rfl rfl)
theorem dX5_rock_2 : decode cX5_rock 2 = .ok (.iconst 3, 1) := dk_6 (dk_at dksX5_rock_0 2 rfl rfl)
theorem dX5_rock_3 : decode cX5_rock 3 = .ok (.invokestatic 230, 3) := dk_184 0 230 (dk_at dksX5_rock_0 3 rfl rfl)
theorem dX5_rock_6 : decode cX5_rock 6 = .ok (.ifCond .eq 22, 3) := dk_153 0 22 (dk_at dksX5_rock_0 6 rfl rfl)
theorem dX5_rock_9 : decode cX5_rock 9 = .ok (.iload_n 2, 1) := dk_28 (dk_at dksX5_rock_0 9 rfl rfl)
theorem dX5_rock_10 : decode cX5_rock 10 = .ok (.iconst 0, 1) := dk_3 (dk_at dksX5_rock_0 10 rfl rfl)
theorem dX5_rock_11 : decode cX5_rock 11 = .ok (.iconst 5, 1) := dk_8 (dk_at dksX5_rock_0 11 rfl rfl)
theorem dX5_rock_12 : decode cX5_rock 12 = .ok (.invokestatic 230, 3) := dk_184 0 230 (dk_at dksX5_rock_0 12 rfl rfl)
theorem dX5_rock_15 : decode cX5_rock 15 = .ok (.ifCond .eq 13, 3) := dk_153 0 13 (dk_at dksX5_rock_0 15 rfl rfl)
theorem dX5_rock_18 : decode cX5_rock 18 = .ok (.iload_n 3, 1) := dk_29 (dk_at dksX5_rock_0 18 rfl rfl)
theorem dX5_rock_19 : decode cX5_rock 19 = .ok (.iconst 1, 1) := dk_4 (dk_at dksX5_rock_0 19 rfl rfl)
theorem dX5_rock_20 : decode cX5_rock 20 = .ok (.bipush 9, 2) := dk_16 9 (dk_at dksX5_rock_0 20 rfl rfl)
theorem dX5_rock_22 : decode cX5_rock 22 = .ok (.invokestatic 230, 3) := dk_184 0 230 (dk_at dksX5_rock_1 0 rfl rfl)
theorem dX5_rock_25 : decode cX5_rock 25 = .ok (.ifCond .ne 5, 3) := dk_154 0 5 (dk_at dksX5_rock_1 3 rfl rfl)
theorem dX5_rock_28 : decode cX5_rock 28 = .ok (.iconst (-1), 1) := dk_2 (dk_at dksX5_rock_1 6 rfl rfl)
theorem dX5_rock_29 : decode cX5_rock 29 = .ok (.ireturn, 1) := dk_172 (dk_at dksX5_rock_1 7 rfl rfl)
theorem dX5_rock_30 : decode cX5_rock 30 = .ok (.aload_n 0, 1) := dk_42 (dk_at dksX5_rock_1 8 rfl rfl)
theorem dX5_rock_31 : decode cX5_rock 31 = .ok (.getfield 184, 3) := dk_180 0 184 (dk_at dksX5_rock_1 9 rfl rfl)
theorem dX5_rock_34 : decode cX5_rock 34 = .ok (.bipush 6, 2) := dk_16 6 (dk_at dksX5_rock_1 12 rfl rfl)
theorem dX5_rock_36 : decode cX5_rock 36 = .ok (.iload_n 1, 1) := dk_27 (dk_at dksX5_rock_1 14 rfl rfl)
theorem dX5_rock_37 : decode cX5_rock 37 = .ok (.imul, 1) := dk_104 (dk_at dksX5_rock_1 15 rfl rfl)
theorem dX5_rock_38 : decode cX5_rock 38 = .ok (.iload_n 2, 1) := dk_28 (dk_at dksX5_rock_1 16 rfl rfl)
theorem dX5_rock_39 : decode cX5_rock 39 = .ok (.iadd, 1) := dk_96 (dk_at dksX5_rock_1 17 rfl rfl)
theorem dX5_rock_40 : decode cX5_rock 40 = .ok (.iaload, 1) := dk_46 (dk_at dksX5_rock_1 18 rfl rfl)
theorem dX5_rock_41 : decode cX5_rock 41 = .ok (.istore 4, 2) := dk_54 4 (dk_at dksX5_rock_1 19 rfl rfl)
theorem dX5_rock_43 : decode cX5_rock 43 = .ok (.aload_n 0, 1) := dk_42 (dk_at dksX5_rock_1 21 rfl rfl)
theorem dX5_rock_44 : decode cX5_rock 44 = .ok (.getfield 184, 3) := dk_180 0 184 (dk_at dksX5_rock_2 0 rfl rfl)
theorem dX5_rock_47 : decode cX5_rock 47 = .ok (.bipush 6, 2) := dk_16 6 (dk_at dksX5_rock_2 3 rfl rfl)
theorem dX5_rock_49 : decode cX5_rock 49 = .ok (.iload_n 1, 1) := dk_27 (dk_at dksX5_rock_2 5 rfl rfl)
theorem dX5_rock_50 : decode cX5_rock 50 = .ok (.imul, 1) := dk_104 (dk_at dksX5_rock_2 6 rfl rfl)
theorem dX5_rock_51 : decode cX5_rock 51 = .ok (.iload_n 2, 1) := dk_28 (dk_at dksX5_rock_2 7 rfl rfl)
theorem dX5_rock_52 : decode cX5_rock 52 = .ok (.iadd, 1) := dk_96 (dk_at dksX5_rock_2 8 rfl rfl)
theorem dX5_rock_53 : decode cX5_rock 53 = .ok (.iload_n 3, 1) := dk_29 (dk_at dksX5_rock_2 9 rfl rfl)
theorem dX5_rock_54 : decode cX5_rock 54 = .ok (.iastore, 1) := dk_79 (dk_at dksX5_rock_2 10 rfl rfl)
theorem dX5_rock_55 : decode cX5_rock 55 = .ok (.iload 4, 2) := dk_21 4 (dk_at dksX5_rock_2 11 rfl rfl)
theorem dX5_rock_57 : decode cX5_rock 57 = .ok (.ireturn, 1) := dk_172 (dk_at dksX5_rock_2 13 rfl rfl)
abbrev cX5_aimed : ByteArray := prog_22_method_87_code
def yX5_aimed : MethodName := ⟨RX5, "aimed", "(III)I"⟩
def dkwX5_aimed_11 : List UInt8 := [181, 1, 191, 42, 3, 181, 1, 184, 21, 4, 172]
abbrev dktX5_aimed_11 : List UInt8 := dkwX5_aimed_11 ++ []
def dkwX5_aimed_10 : List UInt8 := [167, 255, 152, 132, 7, 1, 167, 255, 125, 132, 6, 1, 167, 255, 83, 132, 5, 1, 167, 255, 65, 42, 29]
abbrev dktX5_aimed_10 : List UInt8 := dkwX5_aimed_10 ++ dktX5_aimed_11
def dkwX5_aimed_9 : List UInt8 := [3, 21, 7, 79, 42, 180, 0, 187, 4, 21, 6, 79, 42, 180, 0, 190, 4, 21, 8, 79, 132, 8, 1]
abbrev dktX5_aimed_9 : List UInt8 := dkwX5_aimed_9 ++ dktX5_aimed_10
def dkwX5_aimed_8 : List UInt8 := [21, 4, 161, 0, 6, 167, 0, 39, 21, 9, 54, 4, 42, 180, 0, 187, 3, 21, 5, 79, 42, 180, 0, 190]
abbrev dktX5_aimed_8 : List UInt8 := dkwX5_aimed_8 ++ dktX5_aimed_9
def dkwX5_aimed_7 : List UInt8 := [167, 0, 4, 3, 54, 10, 21, 10, 21, 9, 164, 0, 8, 21, 10, 167, 0, 5, 21, 9, 54, 9, 21, 9]
abbrev dktX5_aimed_7 : List UInt8 := dkwX5_aimed_7 ++ dktX5_aimed_8
def dkwX5_aimed_6 : List UInt8 := [27, 28, 182, 1, 187, 54, 9, 29, 5, 160, 0, 16, 42, 21, 6, 21, 8, 27, 28, 182, 1, 187]
abbrev dktX5_aimed_6 : List UInt8 := dkwX5_aimed_6 ++ dktX5_aimed_7
def dkwX5_aimed_5 : List UInt8 := [160, 0, 10, 21, 7, 4, 96, 167, 0, 4, 5, 54, 8, 21, 8, 6, 162, 0, 104, 42, 21, 5, 21, 7]
abbrev dktX5_aimed_5 : List UInt8 := dkwX5_aimed_5 ++ dktX5_aimed_6
def dkwX5_aimed_4 : List UInt8 := [160, 0, 13, 21, 6, 21, 5, 160, 0, 6, 167, 0, 140, 3, 54, 7, 21, 7, 6, 162, 0, 131, 29, 5]
abbrev dktX5_aimed_4 : List UInt8 := dkwX5_aimed_4 ++ dktX5_aimed_5
def dkwX5_aimed_3 : List UInt8 := [3, 54, 6, 21, 6, 29, 5, 160, 0, 10, 42, 180, 1, 184, 167, 0, 4, 4, 162, 0, 161, 29, 5]
abbrev dktX5_aimed_3 : List UInt8 := dkwX5_aimed_3 ++ dktX5_aimed_4
def dkwX5_aimed_2 : List UInt8 := [5, 162, 0, 6, 16, 254, 172, 19, 1, 180, 54, 4, 3, 54, 5, 21, 5, 42, 180, 1, 184, 162, 0, 188]
abbrev dktX5_aimed_2 : List UInt8 := dkwX5_aimed_2 ++ dktX5_aimed_3
def dkwX5_aimed_1 : List UInt8 := [184, 0, 230, 153, 0, 10, 42, 180, 1, 184, 154, 0, 5, 2, 172, 29, 5, 160, 0, 14, 42, 180, 1, 184]
abbrev dktX5_aimed_1 : List UInt8 := dkwX5_aimed_1 ++ dktX5_aimed_2
def dkwX5_aimed_0 : List UInt8 := [27, 4, 7, 184, 0, 230, 153, 0, 29, 28, 4, 16, 60, 184, 0, 230, 153, 0, 19, 29, 4, 5]
abbrev dktX5_aimed_0 : List UInt8 := dkwX5_aimed_0 ++ dktX5_aimed_1
theorem dksX5_aimed_0 : cX5_aimed.data.toList.drop 0 = dktX5_aimed_0 := by decide +kernel
theorem dksX5_aimed_1 : cX5_aimed.data.toList.drop 22 = dktX5_aimed_1 := dk_seg dksX5_aimed_0 22 rfl rfl
theorem dksX5_aimed_2 : cX5_aimed.data.toList.drop 46 = dktX5_aimed_2 := dk_seg dksX5_aimed_1 24 rfl rfl
theorem dksX5_aimed_3 : cX5_aimed.data.toList.drop 70 = dktX5_aimed_3 := dk_seg dksX5_aimed_2 24 rfl rfl
theorem dksX5_aimed_4 : cX5_aimed.data.toList.drop 93 = dktX5_aimed_4 := dk_seg dksX5_aimed_3 23 rfl rfl
theorem dksX5_aimed_5 : cX5_aimed.data.toList.drop 117 = dktX5_aimed_5 := dk_seg dksX5_aimed_4 24 rfl rfl
theorem dksX5_aimed_6 : cX5_aimed.data.toList.drop 141 = dktX5_aimed_6 := dk_seg dksX5_aimed_5 24 rfl rfl
theorem dksX5_aimed_7 : cX5_aimed.data.toList.drop 163 = dktX5_aimed_7 := dk_seg dksX5_aimed_6 22 rfl rfl
theorem dksX5_aimed_8 : cX5_aimed.data.toList.drop 187 = dktX5_aimed_8 := dk_seg dksX5_aimed_7 24 rfl rfl
theorem dksX5_aimed_9 : cX5_aimed.data.toList.drop 211 = dktX5_aimed_9 := dk_seg dksX5_aimed_8 24 rfl rfl
theorem dksX5_aimed_10 : cX5_aimed.data.toList.drop 234 = dktX5_aimed_10 := dk_seg dksX5_aimed_9 23 rfl rfl
theorem dksX5_aimed_11 : cX5_aimed.data.toList.drop 257 = dktX5_aimed_11 := dk_seg dksX5_aimed_10 23 rfl rfl
theorem dX5_aimed_0 : decode cX5_aimed 0 = .ok (.iload_n 1, 1) := dk_27 (dk_at dksX5_aimed_0 0 rfl rfl)
theorem dX5_aimed_1 : decode cX5_aimed 1 = .ok (.iconst 1, 1) := dk_4 (dk_at dksX5_aimed_0 1 rfl rfl)
theorem dX5_aimed_2 : decode cX5_aimed 2 = .ok (.iconst 4, 1) := dk_7 (dk_at dksX5_aimed_0 2 rfl rfl)
theorem dX5_aimed_3 : decode cX5_aimed 3 = .ok (.invokestatic 230, 3) := dk_184 0 230 (dk_at dksX5_aimed_0 3 rfl rfl)
theorem dX5_aimed_6 : decode cX5_aimed 6 = .ok (.ifCond .eq 29, 3) := dk_153 0 29 (dk_at dksX5_aimed_0 6 rfl rfl)
theorem dX5_aimed_9 : decode cX5_aimed 9 = .ok (.iload_n 2, 1) := dk_28 (dk_at dksX5_aimed_0 9 rfl rfl)
theorem dX5_aimed_10 : decode cX5_aimed 10 = .ok (.iconst 1, 1) := dk_4 (dk_at dksX5_aimed_0 10 rfl rfl)
theorem dX5_aimed_11 : decode cX5_aimed 11 = .ok (.bipush 60, 2) := dk_16 60 (dk_at dksX5_aimed_0 11 rfl rfl)
theorem dX5_aimed_13 : decode cX5_aimed 13 = .ok (.invokestatic 230, 3) := dk_184 0 230 (dk_at dksX5_aimed_0 13 rfl rfl)
theorem dX5_aimed_16 : decode cX5_aimed 16 = .ok (.ifCond .eq 19, 3) := dk_153 0 19 (dk_at dksX5_aimed_0 16 rfl rfl)
theorem dX5_aimed_19 : decode cX5_aimed 19 = .ok (.iload_n 3, 1) := dk_29 (dk_at dksX5_aimed_0 19 rfl rfl)
theorem dX5_aimed_20 : decode cX5_aimed 20 = .ok (.iconst 1, 1) := dk_4 (dk_at dksX5_aimed_0 20 rfl rfl)
theorem dX5_aimed_21 : decode cX5_aimed 21 = .ok (.iconst 2, 1) := dk_5 (dk_at dksX5_aimed_0 21 rfl rfl)
theorem dX5_aimed_22 : decode cX5_aimed 22 = .ok (.invokestatic 230, 3) := dk_184 0 230 (dk_at dksX5_aimed_1 0 rfl rfl)
theorem dX5_aimed_25 : decode cX5_aimed 25 = .ok (.ifCond .eq 10, 3) := dk_153 0 10 (dk_at dksX5_aimed_1 3 rfl rfl)
theorem dX5_aimed_28 : decode cX5_aimed 28 = .ok (.aload_n 0, 1) := dk_42 (dk_at dksX5_aimed_1 6 rfl rfl)
theorem dX5_aimed_29 : decode cX5_aimed 29 = .ok (.getfield 440, 3) := dk_180 1 184 (dk_at dksX5_aimed_1 7 rfl rfl)
theorem dX5_aimed_32 : decode cX5_aimed 32 = .ok (.ifCond .ne 5, 3) := dk_154 0 5 (dk_at dksX5_aimed_1 10 rfl rfl)
theorem dX5_aimed_35 : decode cX5_aimed 35 = .ok (.iconst (-1), 1) := dk_2 (dk_at dksX5_aimed_1 13 rfl rfl)
theorem dX5_aimed_36 : decode cX5_aimed 36 = .ok (.ireturn, 1) := dk_172 (dk_at dksX5_aimed_1 14 rfl rfl)
theorem dX5_aimed_37 : decode cX5_aimed 37 = .ok (.iload_n 3, 1) := dk_29 (dk_at dksX5_aimed_1 15 rfl rfl)
theorem dX5_aimed_38 : decode cX5_aimed 38 = .ok (.iconst 2, 1) := dk_5 (dk_at dksX5_aimed_1 16 rfl rfl)
theorem dX5_aimed_39 : decode cX5_aimed 39 = .ok (.if_icmp .ne 14, 3) := dk_160 0 14 (dk_at dksX5_aimed_1 17 rfl rfl)
theorem dX5_aimed_42 : decode cX5_aimed 42 = .ok (.aload_n 0, 1) := dk_42 (dk_at dksX5_aimed_1 20 rfl rfl)
theorem dX5_aimed_43 : decode cX5_aimed 43 = .ok (.getfield 440, 3) := dk_180 1 184 (dk_at dksX5_aimed_1 21 rfl rfl)
theorem dX5_aimed_46 : decode cX5_aimed 46 = .ok (.iconst 2, 1) := dk_5 (dk_at dksX5_aimed_2 0 rfl rfl)
theorem dX5_aimed_47 : decode cX5_aimed 47 = .ok (.if_icmp .ge 6, 3) := dk_162 0 6 (dk_at dksX5_aimed_2 1 rfl rfl)
theorem dX5_aimed_50 : decode cX5_aimed 50 = .ok (.bipush (-2), 2) := dk_16 254 (dk_at dksX5_aimed_2 4 rfl rfl)
theorem dX5_aimed_52 : decode cX5_aimed 52 = .ok (.ireturn, 1) := dk_172 (dk_at dksX5_aimed_2 6 rfl rfl)
theorem dX5_aimed_53 : decode cX5_aimed 53 = .ok (.ldc_w 436, 3) := dk_19 1 180 (dk_at dksX5_aimed_2 7 rfl rfl)
theorem dX5_aimed_56 : decode cX5_aimed 56 = .ok (.istore 4, 2) := dk_54 4 (dk_at dksX5_aimed_2 10 rfl rfl)
theorem dX5_aimed_58 : decode cX5_aimed 58 = .ok (.iconst 0, 1) := dk_3 (dk_at dksX5_aimed_2 12 rfl rfl)
theorem dX5_aimed_59 : decode cX5_aimed 59 = .ok (.istore 5, 2) := dk_54 5 (dk_at dksX5_aimed_2 13 rfl rfl)
theorem dX5_aimed_61 : decode cX5_aimed 61 = .ok (.iload 5, 2) := dk_21 5 (dk_at dksX5_aimed_2 15 rfl rfl)
theorem dX5_aimed_63 : decode cX5_aimed 63 = .ok (.aload_n 0, 1) := dk_42 (dk_at dksX5_aimed_2 17 rfl rfl)
theorem dX5_aimed_64 : decode cX5_aimed 64 = .ok (.getfield 440, 3) := dk_180 1 184 (dk_at dksX5_aimed_2 18 rfl rfl)
theorem dX5_aimed_67 : decode cX5_aimed 67 = .ok (.if_icmp .ge 188, 3) := dk_162 0 188 (dk_at dksX5_aimed_2 21 rfl rfl)
theorem dX5_aimed_70 : decode cX5_aimed 70 = .ok (.iconst 0, 1) := dk_3 (dk_at dksX5_aimed_3 0 rfl rfl)
theorem dX5_aimed_71 : decode cX5_aimed 71 = .ok (.istore 6, 2) := dk_54 6 (dk_at dksX5_aimed_3 1 rfl rfl)
theorem dX5_aimed_73 : decode cX5_aimed 73 = .ok (.iload 6, 2) := dk_21 6 (dk_at dksX5_aimed_3 3 rfl rfl)
theorem dX5_aimed_75 : decode cX5_aimed 75 = .ok (.iload_n 3, 1) := dk_29 (dk_at dksX5_aimed_3 5 rfl rfl)
theorem dX5_aimed_76 : decode cX5_aimed 76 = .ok (.iconst 2, 1) := dk_5 (dk_at dksX5_aimed_3 6 rfl rfl)
theorem dX5_aimed_77 : decode cX5_aimed 77 = .ok (.if_icmp .ne 10, 3) := dk_160 0 10 (dk_at dksX5_aimed_3 7 rfl rfl)
theorem dX5_aimed_80 : decode cX5_aimed 80 = .ok (.aload_n 0, 1) := dk_42 (dk_at dksX5_aimed_3 10 rfl rfl)
theorem dX5_aimed_81 : decode cX5_aimed 81 = .ok (.getfield 440, 3) := dk_180 1 184 (dk_at dksX5_aimed_3 11 rfl rfl)
theorem dX5_aimed_84 : decode cX5_aimed 84 = .ok (.goto 4, 3) := dk_167 0 4 (dk_at dksX5_aimed_3 14 rfl rfl)
theorem dX5_aimed_87 : decode cX5_aimed 87 = .ok (.iconst 1, 1) := dk_4 (dk_at dksX5_aimed_3 17 rfl rfl)
theorem dX5_aimed_88 : decode cX5_aimed 88 = .ok (.if_icmp .ge 161, 3) := dk_162 0 161 (dk_at dksX5_aimed_3 18 rfl rfl)
theorem dX5_aimed_91 : decode cX5_aimed 91 = .ok (.iload_n 3, 1) := dk_29 (dk_at dksX5_aimed_3 21 rfl rfl)
theorem dX5_aimed_92 : decode cX5_aimed 92 = .ok (.iconst 2, 1) := dk_5 (dk_at dksX5_aimed_3 22 rfl rfl)
theorem dX5_aimed_93 : decode cX5_aimed 93 = .ok (.if_icmp .ne 13, 3) := dk_160 0 13 (dk_at dksX5_aimed_4 0 rfl rfl)
theorem dX5_aimed_96 : decode cX5_aimed 96 = .ok (.iload 6, 2) := dk_21 6 (dk_at dksX5_aimed_4 3 rfl rfl)
theorem dX5_aimed_98 : decode cX5_aimed 98 = .ok (.iload 5, 2) := dk_21 5 (dk_at dksX5_aimed_4 5 rfl rfl)
theorem dX5_aimed_100 : decode cX5_aimed 100 = .ok (.if_icmp .ne 6, 3) := dk_160 0 6 (dk_at dksX5_aimed_4 7 rfl rfl)
theorem dX5_aimed_103 : decode cX5_aimed 103 = .ok (.goto 140, 3) := dk_167 0 140 (dk_at dksX5_aimed_4 10 rfl rfl)
theorem dX5_aimed_106 : decode cX5_aimed 106 = .ok (.iconst 0, 1) := dk_3 (dk_at dksX5_aimed_4 13 rfl rfl)
theorem dX5_aimed_107 : decode cX5_aimed 107 = .ok (.istore 7, 2) := dk_54 7 (dk_at dksX5_aimed_4 14 rfl rfl)
theorem dX5_aimed_109 : decode cX5_aimed 109 = .ok (.iload 7, 2) := dk_21 7 (dk_at dksX5_aimed_4 16 rfl rfl)
theorem dX5_aimed_111 : decode cX5_aimed 111 = .ok (.iconst 3, 1) := dk_6 (dk_at dksX5_aimed_4 18 rfl rfl)
theorem dX5_aimed_112 : decode cX5_aimed 112 = .ok (.if_icmp .ge 131, 3) := dk_162 0 131 (dk_at dksX5_aimed_4 19 rfl rfl)
theorem dX5_aimed_115 : decode cX5_aimed 115 = .ok (.iload_n 3, 1) := dk_29 (dk_at dksX5_aimed_4 22 rfl rfl)
theorem dX5_aimed_116 : decode cX5_aimed 116 = .ok (.iconst 2, 1) := dk_5 (dk_at dksX5_aimed_4 23 rfl rfl)
theorem dX5_aimed_117 : decode cX5_aimed 117 = .ok (.if_icmp .ne 10, 3) := dk_160 0 10 (dk_at dksX5_aimed_5 0 rfl rfl)
theorem dX5_aimed_120 : decode cX5_aimed 120 = .ok (.iload 7, 2) := dk_21 7 (dk_at dksX5_aimed_5 3 rfl rfl)
theorem dX5_aimed_122 : decode cX5_aimed 122 = .ok (.iconst 1, 1) := dk_4 (dk_at dksX5_aimed_5 5 rfl rfl)
theorem dX5_aimed_123 : decode cX5_aimed 123 = .ok (.iadd, 1) := dk_96 (dk_at dksX5_aimed_5 6 rfl rfl)
theorem dX5_aimed_124 : decode cX5_aimed 124 = .ok (.goto 4, 3) := dk_167 0 4 (dk_at dksX5_aimed_5 7 rfl rfl)
theorem dX5_aimed_127 : decode cX5_aimed 127 = .ok (.iconst 2, 1) := dk_5 (dk_at dksX5_aimed_5 10 rfl rfl)
theorem dX5_aimed_128 : decode cX5_aimed 128 = .ok (.istore 8, 2) := dk_54 8 (dk_at dksX5_aimed_5 11 rfl rfl)
theorem dX5_aimed_130 : decode cX5_aimed 130 = .ok (.iload 8, 2) := dk_21 8 (dk_at dksX5_aimed_5 13 rfl rfl)
theorem dX5_aimed_132 : decode cX5_aimed 132 = .ok (.iconst 3, 1) := dk_6 (dk_at dksX5_aimed_5 15 rfl rfl)
theorem dX5_aimed_133 : decode cX5_aimed 133 = .ok (.if_icmp .ge 104, 3) := dk_162 0 104 (dk_at dksX5_aimed_5 16 rfl rfl)
theorem dX5_aimed_136 : decode cX5_aimed 136 = .ok (.aload_n 0, 1) := dk_42 (dk_at dksX5_aimed_5 19 rfl rfl)
theorem dX5_aimed_137 : decode cX5_aimed 137 = .ok (.iload 5, 2) := dk_21 5 (dk_at dksX5_aimed_5 20 rfl rfl)
theorem dX5_aimed_139 : decode cX5_aimed 139 = .ok (.iload 7, 2) := dk_21 7 (dk_at dksX5_aimed_5 22 rfl rfl)
theorem dX5_aimed_141 : decode cX5_aimed 141 = .ok (.iload_n 1, 1) := dk_27 (dk_at dksX5_aimed_6 0 rfl rfl)
theorem dX5_aimed_142 : decode cX5_aimed 142 = .ok (.iload_n 2, 1) := dk_28 (dk_at dksX5_aimed_6 1 rfl rfl)
theorem dX5_aimed_143 : decode cX5_aimed 143 = .ok (.invokevirtual 443, 3) := dk_182 1 187 (dk_at dksX5_aimed_6 2 rfl rfl)
theorem dX5_aimed_146 : decode cX5_aimed 146 = .ok (.istore 9, 2) := dk_54 9 (dk_at dksX5_aimed_6 5 rfl rfl)
theorem dX5_aimed_148 : decode cX5_aimed 148 = .ok (.iload_n 3, 1) := dk_29 (dk_at dksX5_aimed_6 7 rfl rfl)
theorem dX5_aimed_149 : decode cX5_aimed 149 = .ok (.iconst 2, 1) := dk_5 (dk_at dksX5_aimed_6 8 rfl rfl)
theorem dX5_aimed_150 : decode cX5_aimed 150 = .ok (.if_icmp .ne 16, 3) := dk_160 0 16 (dk_at dksX5_aimed_6 9 rfl rfl)
theorem dX5_aimed_153 : decode cX5_aimed 153 = .ok (.aload_n 0, 1) := dk_42 (dk_at dksX5_aimed_6 12 rfl rfl)
theorem dX5_aimed_154 : decode cX5_aimed 154 = .ok (.iload 6, 2) := dk_21 6 (dk_at dksX5_aimed_6 13 rfl rfl)
theorem dX5_aimed_156 : decode cX5_aimed 156 = .ok (.iload 8, 2) := dk_21 8 (dk_at dksX5_aimed_6 15 rfl rfl)
theorem dX5_aimed_158 : decode cX5_aimed 158 = .ok (.iload_n 1, 1) := dk_27 (dk_at dksX5_aimed_6 17 rfl rfl)
theorem dX5_aimed_159 : decode cX5_aimed 159 = .ok (.iload_n 2, 1) := dk_28 (dk_at dksX5_aimed_6 18 rfl rfl)
theorem dX5_aimed_160 : decode cX5_aimed 160 = .ok (.invokevirtual 443, 3) := dk_182 1 187 (dk_at dksX5_aimed_6 19 rfl rfl)
theorem dX5_aimed_163 : decode cX5_aimed 163 = .ok (.goto 4, 3) := dk_167 0 4 (dk_at dksX5_aimed_7 0 rfl rfl)
theorem dX5_aimed_166 : decode cX5_aimed 166 = .ok (.iconst 0, 1) := dk_3 (dk_at dksX5_aimed_7 3 rfl rfl)
theorem dX5_aimed_167 : decode cX5_aimed 167 = .ok (.istore 10, 2) := dk_54 10 (dk_at dksX5_aimed_7 4 rfl rfl)
theorem dX5_aimed_169 : decode cX5_aimed 169 = .ok (.iload 10, 2) := dk_21 10 (dk_at dksX5_aimed_7 6 rfl rfl)
theorem dX5_aimed_171 : decode cX5_aimed 171 = .ok (.iload 9, 2) := dk_21 9 (dk_at dksX5_aimed_7 8 rfl rfl)
theorem dX5_aimed_173 : decode cX5_aimed 173 = .ok (.if_icmp .le 8, 3) := dk_164 0 8 (dk_at dksX5_aimed_7 10 rfl rfl)
theorem dX5_aimed_176 : decode cX5_aimed 176 = .ok (.iload 10, 2) := dk_21 10 (dk_at dksX5_aimed_7 13 rfl rfl)
theorem dX5_aimed_178 : decode cX5_aimed 178 = .ok (.goto 5, 3) := dk_167 0 5 (dk_at dksX5_aimed_7 15 rfl rfl)
theorem dX5_aimed_181 : decode cX5_aimed 181 = .ok (.iload 9, 2) := dk_21 9 (dk_at dksX5_aimed_7 18 rfl rfl)
theorem dX5_aimed_183 : decode cX5_aimed 183 = .ok (.istore 9, 2) := dk_54 9 (dk_at dksX5_aimed_7 20 rfl rfl)
theorem dX5_aimed_185 : decode cX5_aimed 185 = .ok (.iload 9, 2) := dk_21 9 (dk_at dksX5_aimed_7 22 rfl rfl)
theorem dX5_aimed_187 : decode cX5_aimed 187 = .ok (.iload 4, 2) := dk_21 4 (dk_at dksX5_aimed_8 0 rfl rfl)
theorem dX5_aimed_189 : decode cX5_aimed 189 = .ok (.if_icmp .lt 6, 3) := dk_161 0 6 (dk_at dksX5_aimed_8 2 rfl rfl)
theorem dX5_aimed_192 : decode cX5_aimed 192 = .ok (.goto 39, 3) := dk_167 0 39 (dk_at dksX5_aimed_8 5 rfl rfl)
theorem dX5_aimed_195 : decode cX5_aimed 195 = .ok (.iload 9, 2) := dk_21 9 (dk_at dksX5_aimed_8 8 rfl rfl)
theorem dX5_aimed_197 : decode cX5_aimed 197 = .ok (.istore 4, 2) := dk_54 4 (dk_at dksX5_aimed_8 10 rfl rfl)
theorem dX5_aimed_199 : decode cX5_aimed 199 = .ok (.aload_n 0, 1) := dk_42 (dk_at dksX5_aimed_8 12 rfl rfl)
theorem dX5_aimed_200 : decode cX5_aimed 200 = .ok (.getfield 187, 3) := dk_180 0 187 (dk_at dksX5_aimed_8 13 rfl rfl)
theorem dX5_aimed_203 : decode cX5_aimed 203 = .ok (.iconst 0, 1) := dk_3 (dk_at dksX5_aimed_8 16 rfl rfl)
theorem dX5_aimed_204 : decode cX5_aimed 204 = .ok (.iload 5, 2) := dk_21 5 (dk_at dksX5_aimed_8 17 rfl rfl)
theorem dX5_aimed_206 : decode cX5_aimed 206 = .ok (.iastore, 1) := dk_79 (dk_at dksX5_aimed_8 19 rfl rfl)
theorem dX5_aimed_207 : decode cX5_aimed 207 = .ok (.aload_n 0, 1) := dk_42 (dk_at dksX5_aimed_8 20 rfl rfl)
theorem dX5_aimed_208 : decode cX5_aimed 208 = .ok (.getfield 190, 3) := dk_180 0 190 (dk_at dksX5_aimed_8 21 rfl rfl)
theorem dX5_aimed_211 : decode cX5_aimed 211 = .ok (.iconst 0, 1) := dk_3 (dk_at dksX5_aimed_9 0 rfl rfl)
theorem dX5_aimed_212 : decode cX5_aimed 212 = .ok (.iload 7, 2) := dk_21 7 (dk_at dksX5_aimed_9 1 rfl rfl)
theorem dX5_aimed_214 : decode cX5_aimed 214 = .ok (.iastore, 1) := dk_79 (dk_at dksX5_aimed_9 3 rfl rfl)
theorem dX5_aimed_215 : decode cX5_aimed 215 = .ok (.aload_n 0, 1) := dk_42 (dk_at dksX5_aimed_9 4 rfl rfl)
theorem dX5_aimed_216 : decode cX5_aimed 216 = .ok (.getfield 187, 3) := dk_180 0 187 (dk_at dksX5_aimed_9 5 rfl rfl)
theorem dX5_aimed_219 : decode cX5_aimed 219 = .ok (.iconst 1, 1) := dk_4 (dk_at dksX5_aimed_9 8 rfl rfl)
theorem dX5_aimed_220 : decode cX5_aimed 220 = .ok (.iload 6, 2) := dk_21 6 (dk_at dksX5_aimed_9 9 rfl rfl)
theorem dX5_aimed_222 : decode cX5_aimed 222 = .ok (.iastore, 1) := dk_79 (dk_at dksX5_aimed_9 11 rfl rfl)
theorem dX5_aimed_223 : decode cX5_aimed 223 = .ok (.aload_n 0, 1) := dk_42 (dk_at dksX5_aimed_9 12 rfl rfl)
theorem dX5_aimed_224 : decode cX5_aimed 224 = .ok (.getfield 190, 3) := dk_180 0 190 (dk_at dksX5_aimed_9 13 rfl rfl)
theorem dX5_aimed_227 : decode cX5_aimed 227 = .ok (.iconst 1, 1) := dk_4 (dk_at dksX5_aimed_9 16 rfl rfl)
theorem dX5_aimed_228 : decode cX5_aimed 228 = .ok (.iload 8, 2) := dk_21 8 (dk_at dksX5_aimed_9 17 rfl rfl)
theorem dX5_aimed_230 : decode cX5_aimed 230 = .ok (.iastore, 1) := dk_79 (dk_at dksX5_aimed_9 19 rfl rfl)
theorem dX5_aimed_231 : decode cX5_aimed 231 = .ok (.iinc 8 1, 3) := dk_132 8 1 (dk_at dksX5_aimed_9 20 rfl rfl)
theorem dX5_aimed_234 : decode cX5_aimed 234 = .ok (.goto (-104), 3) := dk_167 255 152 (dk_at dksX5_aimed_10 0 rfl rfl)
theorem dX5_aimed_237 : decode cX5_aimed 237 = .ok (.iinc 7 1, 3) := dk_132 7 1 (dk_at dksX5_aimed_10 3 rfl rfl)
theorem dX5_aimed_240 : decode cX5_aimed 240 = .ok (.goto (-131), 3) := dk_167 255 125 (dk_at dksX5_aimed_10 6 rfl rfl)
theorem dX5_aimed_243 : decode cX5_aimed 243 = .ok (.iinc 6 1, 3) := dk_132 6 1 (dk_at dksX5_aimed_10 9 rfl rfl)
theorem dX5_aimed_246 : decode cX5_aimed 246 = .ok (.goto (-173), 3) := dk_167 255 83 (dk_at dksX5_aimed_10 12 rfl rfl)
theorem dX5_aimed_249 : decode cX5_aimed 249 = .ok (.iinc 5 1, 3) := dk_132 5 1 (dk_at dksX5_aimed_10 15 rfl rfl)
theorem dX5_aimed_252 : decode cX5_aimed 252 = .ok (.goto (-191), 3) := dk_167 255 65 (dk_at dksX5_aimed_10 18 rfl rfl)
theorem dX5_aimed_255 : decode cX5_aimed 255 = .ok (.aload_n 0, 1) := dk_42 (dk_at dksX5_aimed_10 21 rfl rfl)
theorem dX5_aimed_256 : decode cX5_aimed 256 = .ok (.iload_n 3, 1) := dk_29 (dk_at dksX5_aimed_10 22 rfl rfl)
theorem dX5_aimed_257 : decode cX5_aimed 257 = .ok (.putfield 447, 3) := dk_181 1 191 (dk_at dksX5_aimed_11 0 rfl rfl)
theorem dX5_aimed_260 : decode cX5_aimed 260 = .ok (.aload_n 0, 1) := dk_42 (dk_at dksX5_aimed_11 3 rfl rfl)
theorem dX5_aimed_261 : decode cX5_aimed 261 = .ok (.iconst 0, 1) := dk_3 (dk_at dksX5_aimed_11 4 rfl rfl)
theorem dX5_aimed_262 : decode cX5_aimed 262 = .ok (.putfield 440, 3) := dk_181 1 184 (dk_at dksX5_aimed_11 5 rfl rfl)
theorem dX5_aimed_265 : decode cX5_aimed 265 = .ok (.iload 4, 2) := dk_21 4 (dk_at dksX5_aimed_11 8 rfl rfl)
theorem dX5_aimed_267 : decode cX5_aimed 267 = .ok (.ireturn, 1) := dk_172 (dk_at dksX5_aimed_11 10 rfl rfl)
abbrev cX5_minutesAt : ByteArray := prog_22_method_86_code
def yX5_minutesAt : MethodName := ⟨RX5, "minutesAt", "(IIII)I"⟩
def dkwX5_minutesAt_2 : List UInt8 := [21, 5, 164, 0, 8, 21, 7, 167, 0, 5, 21, 5, 54, 5, 132, 6, 1, 167, 255, 198, 21, 5, 172]
abbrev dktX5_minutesAt_2 : List UInt8 := dkwX5_minutesAt_2 ++ []
def dkwX5_minutesAt_1 : List UInt8 := [180, 0, 69, 28, 46, 104, 42, 180, 0, 184, 16, 6, 21, 6, 104, 27, 96, 46, 104, 54, 7, 21, 7]
abbrev dktX5_minutesAt_1 : List UInt8 := dkwX5_minutesAt_1 ++ dktX5_minutesAt_2
def dkwX5_minutesAt_0 : List UInt8 := [3, 54, 5, 3, 54, 6, 21, 6, 29, 162, 0, 58, 42, 180, 0, 181, 27, 46, 4, 96, 21, 4, 104, 42]
abbrev dktX5_minutesAt_0 : List UInt8 := dkwX5_minutesAt_0 ++ dktX5_minutesAt_1
theorem dksX5_minutesAt_0 : cX5_minutesAt.data.toList.drop 0 = dktX5_minutesAt_0 := by decide +kernel
theorem dksX5_minutesAt_1 : cX5_minutesAt.data.toList.drop 24 = dktX5_minutesAt_1 := dk_seg dksX5_minutesAt_0 24 rfl rfl
theorem dksX5_minutesAt_2 : cX5_minutesAt.data.toList.drop 47 = dktX5_minutesAt_2 := dk_seg dksX5_minutesAt_1 23 rfl rfl
theorem dX5_minutesAt_0 : decode cX5_minutesAt 0 = .ok (.iconst 0, 1) := dk_3 (dk_at dksX5_minutesAt_0 0 rfl rfl)
theorem dX5_minutesAt_1 : decode cX5_minutesAt 1 = .ok (.istore 5, 2) := dk_54 5 (dk_at dksX5_minutesAt_0 1 rfl rfl)
theorem dX5_minutesAt_3 : decode cX5_minutesAt 3 = .ok (.iconst 0, 1) := dk_3 (dk_at dksX5_minutesAt_0 3 rfl rfl)
theorem dX5_minutesAt_4 : decode cX5_minutesAt 4 = .ok (.istore 6, 2) := dk_54 6 (dk_at dksX5_minutesAt_0 4 rfl rfl)
theorem dX5_minutesAt_6 : decode cX5_minutesAt 6 = .ok (.iload 6, 2) := dk_21 6 (dk_at dksX5_minutesAt_0 6 rfl rfl)
theorem dX5_minutesAt_8 : decode cX5_minutesAt 8 = .ok (.iload_n 3, 1) := dk_29 (dk_at dksX5_minutesAt_0 8 rfl rfl)
theorem dX5_minutesAt_9 : decode cX5_minutesAt 9 = .ok (.if_icmp .ge 58, 3) := dk_162 0 58 (dk_at dksX5_minutesAt_0 9 rfl rfl)
theorem dX5_minutesAt_12 : decode cX5_minutesAt 12 = .ok (.aload_n 0, 1) := dk_42 (dk_at dksX5_minutesAt_0 12 rfl rfl)
theorem dX5_minutesAt_13 : decode cX5_minutesAt 13 = .ok (.getfield 181, 3) := dk_180 0 181 (dk_at dksX5_minutesAt_0 13 rfl rfl)
theorem dX5_minutesAt_16 : decode cX5_minutesAt 16 = .ok (.iload_n 1, 1) := dk_27 (dk_at dksX5_minutesAt_0 16 rfl rfl)
theorem dX5_minutesAt_17 : decode cX5_minutesAt 17 = .ok (.iaload, 1) := dk_46 (dk_at dksX5_minutesAt_0 17 rfl rfl)
theorem dX5_minutesAt_18 : decode cX5_minutesAt 18 = .ok (.iconst 1, 1) := dk_4 (dk_at dksX5_minutesAt_0 18 rfl rfl)
theorem dX5_minutesAt_19 : decode cX5_minutesAt 19 = .ok (.iadd, 1) := dk_96 (dk_at dksX5_minutesAt_0 19 rfl rfl)
theorem dX5_minutesAt_20 : decode cX5_minutesAt 20 = .ok (.iload 4, 2) := dk_21 4 (dk_at dksX5_minutesAt_0 20 rfl rfl)
theorem dX5_minutesAt_22 : decode cX5_minutesAt 22 = .ok (.imul, 1) := dk_104 (dk_at dksX5_minutesAt_0 22 rfl rfl)
theorem dX5_minutesAt_23 : decode cX5_minutesAt 23 = .ok (.aload_n 0, 1) := dk_42 (dk_at dksX5_minutesAt_0 23 rfl rfl)
theorem dX5_minutesAt_24 : decode cX5_minutesAt 24 = .ok (.getfield 69, 3) := dk_180 0 69 (dk_at dksX5_minutesAt_1 0 rfl rfl)
theorem dX5_minutesAt_27 : decode cX5_minutesAt 27 = .ok (.iload_n 2, 1) := dk_28 (dk_at dksX5_minutesAt_1 3 rfl rfl)
theorem dX5_minutesAt_28 : decode cX5_minutesAt 28 = .ok (.iaload, 1) := dk_46 (dk_at dksX5_minutesAt_1 4 rfl rfl)
theorem dX5_minutesAt_29 : decode cX5_minutesAt 29 = .ok (.imul, 1) := dk_104 (dk_at dksX5_minutesAt_1 5 rfl rfl)
theorem dX5_minutesAt_30 : decode cX5_minutesAt 30 = .ok (.aload_n 0, 1) := dk_42 (dk_at dksX5_minutesAt_1 6 rfl rfl)
theorem dX5_minutesAt_31 : decode cX5_minutesAt 31 = .ok (.getfield 184, 3) := dk_180 0 184 (dk_at dksX5_minutesAt_1 7 rfl rfl)
theorem dX5_minutesAt_34 : decode cX5_minutesAt 34 = .ok (.bipush 6, 2) := dk_16 6 (dk_at dksX5_minutesAt_1 10 rfl rfl)
theorem dX5_minutesAt_36 : decode cX5_minutesAt 36 = .ok (.iload 6, 2) := dk_21 6 (dk_at dksX5_minutesAt_1 12 rfl rfl)
theorem dX5_minutesAt_38 : decode cX5_minutesAt 38 = .ok (.imul, 1) := dk_104 (dk_at dksX5_minutesAt_1 14 rfl rfl)
theorem dX5_minutesAt_39 : decode cX5_minutesAt 39 = .ok (.iload_n 1, 1) := dk_27 (dk_at dksX5_minutesAt_1 15 rfl rfl)
theorem dX5_minutesAt_40 : decode cX5_minutesAt 40 = .ok (.iadd, 1) := dk_96 (dk_at dksX5_minutesAt_1 16 rfl rfl)
theorem dX5_minutesAt_41 : decode cX5_minutesAt 41 = .ok (.iaload, 1) := dk_46 (dk_at dksX5_minutesAt_1 17 rfl rfl)
theorem dX5_minutesAt_42 : decode cX5_minutesAt 42 = .ok (.imul, 1) := dk_104 (dk_at dksX5_minutesAt_1 18 rfl rfl)
theorem dX5_minutesAt_43 : decode cX5_minutesAt 43 = .ok (.istore 7, 2) := dk_54 7 (dk_at dksX5_minutesAt_1 19 rfl rfl)
theorem dX5_minutesAt_45 : decode cX5_minutesAt 45 = .ok (.iload 7, 2) := dk_21 7 (dk_at dksX5_minutesAt_1 21 rfl rfl)
theorem dX5_minutesAt_47 : decode cX5_minutesAt 47 = .ok (.iload 5, 2) := dk_21 5 (dk_at dksX5_minutesAt_2 0 rfl rfl)
theorem dX5_minutesAt_49 : decode cX5_minutesAt 49 = .ok (.if_icmp .le 8, 3) := dk_164 0 8 (dk_at dksX5_minutesAt_2 2 rfl rfl)
theorem dX5_minutesAt_52 : decode cX5_minutesAt 52 = .ok (.iload 7, 2) := dk_21 7 (dk_at dksX5_minutesAt_2 5 rfl rfl)
theorem dX5_minutesAt_54 : decode cX5_minutesAt 54 = .ok (.goto 5, 3) := dk_167 0 5 (dk_at dksX5_minutesAt_2 7 rfl rfl)
theorem dX5_minutesAt_57 : decode cX5_minutesAt 57 = .ok (.iload 5, 2) := dk_21 5 (dk_at dksX5_minutesAt_2 10 rfl rfl)
theorem dX5_minutesAt_59 : decode cX5_minutesAt 59 = .ok (.istore 5, 2) := dk_54 5 (dk_at dksX5_minutesAt_2 12 rfl rfl)
theorem dX5_minutesAt_61 : decode cX5_minutesAt 61 = .ok (.iinc 6 1, 3) := dk_132 6 1 (dk_at dksX5_minutesAt_2 14 rfl rfl)
theorem dX5_minutesAt_64 : decode cX5_minutesAt 64 = .ok (.goto (-58), 3) := dk_167 255 198 (dk_at dksX5_minutesAt_2 17 rfl rfl)
theorem dX5_minutesAt_67 : decode cX5_minutesAt 67 = .ok (.iload 5, 2) := dk_21 5 (dk_at dksX5_minutesAt_2 20 rfl rfl)
theorem dX5_minutesAt_69 : decode cX5_minutesAt 69 = .ok (.ireturn, 1) := dk_172 (dk_at dksX5_minutesAt_2 22 rfl rfl)
abbrev cX5_aimedAt : ByteArray := prog_22_method_88_code
def yX5_aimedAt : MethodName := ⟨RX5, "aimedAt", "(II)I"⟩
def dkwX5_aimedAt_1 : List UInt8 := [167, 0, 22, 28, 154, 0, 12, 42, 180, 0, 187, 27, 46, 167, 0, 9, 42, 180, 0, 190, 27, 46, 172]
abbrev dktX5_aimedAt_1 : List UInt8 := dkwX5_aimedAt_1 ++ []
def dkwX5_aimedAt_0 : List UInt8 := [27, 3, 42, 180, 1, 191, 4, 100, 184, 0, 230, 153, 0, 12, 28, 3, 4, 184, 0, 230, 154, 0, 7, 2]
abbrev dktX5_aimedAt_0 : List UInt8 := dkwX5_aimedAt_0 ++ dktX5_aimedAt_1
theorem dksX5_aimedAt_0 : cX5_aimedAt.data.toList.drop 0 = dktX5_aimedAt_0 := by decide +kernel
theorem dksX5_aimedAt_1 : cX5_aimedAt.data.toList.drop 24 = dktX5_aimedAt_1 := dk_seg dksX5_aimedAt_0 24 rfl rfl
theorem dX5_aimedAt_0 : decode cX5_aimedAt 0 = .ok (.iload_n 1, 1) := dk_27 (dk_at dksX5_aimedAt_0 0 rfl rfl)
theorem dX5_aimedAt_1 : decode cX5_aimedAt 1 = .ok (.iconst 0, 1) := dk_3 (dk_at dksX5_aimedAt_0 1 rfl rfl)
theorem dX5_aimedAt_2 : decode cX5_aimedAt 2 = .ok (.aload_n 0, 1) := dk_42 (dk_at dksX5_aimedAt_0 2 rfl rfl)
theorem dX5_aimedAt_3 : decode cX5_aimedAt 3 = .ok (.getfield 447, 3) := dk_180 1 191 (dk_at dksX5_aimedAt_0 3 rfl rfl)
theorem dX5_aimedAt_6 : decode cX5_aimedAt 6 = .ok (.iconst 1, 1) := dk_4 (dk_at dksX5_aimedAt_0 6 rfl rfl)
theorem dX5_aimedAt_7 : decode cX5_aimedAt 7 = .ok (.isub, 1) := dk_100 (dk_at dksX5_aimedAt_0 7 rfl rfl)
theorem dX5_aimedAt_8 : decode cX5_aimedAt 8 = .ok (.invokestatic 230, 3) := dk_184 0 230 (dk_at dksX5_aimedAt_0 8 rfl rfl)
theorem dX5_aimedAt_11 : decode cX5_aimedAt 11 = .ok (.ifCond .eq 12, 3) := dk_153 0 12 (dk_at dksX5_aimedAt_0 11 rfl rfl)
theorem dX5_aimedAt_14 : decode cX5_aimedAt 14 = .ok (.iload_n 2, 1) := dk_28 (dk_at dksX5_aimedAt_0 14 rfl rfl)
theorem dX5_aimedAt_15 : decode cX5_aimedAt 15 = .ok (.iconst 0, 1) := dk_3 (dk_at dksX5_aimedAt_0 15 rfl rfl)
theorem dX5_aimedAt_16 : decode cX5_aimedAt 16 = .ok (.iconst 1, 1) := dk_4 (dk_at dksX5_aimedAt_0 16 rfl rfl)
theorem dX5_aimedAt_17 : decode cX5_aimedAt 17 = .ok (.invokestatic 230, 3) := dk_184 0 230 (dk_at dksX5_aimedAt_0 17 rfl rfl)
theorem dX5_aimedAt_20 : decode cX5_aimedAt 20 = .ok (.ifCond .ne 7, 3) := dk_154 0 7 (dk_at dksX5_aimedAt_0 20 rfl rfl)
theorem dX5_aimedAt_23 : decode cX5_aimedAt 23 = .ok (.iconst (-1), 1) := dk_2 (dk_at dksX5_aimedAt_0 23 rfl rfl)
theorem dX5_aimedAt_24 : decode cX5_aimedAt 24 = .ok (.goto 22, 3) := dk_167 0 22 (dk_at dksX5_aimedAt_1 0 rfl rfl)
theorem dX5_aimedAt_27 : decode cX5_aimedAt 27 = .ok (.iload_n 2, 1) := dk_28 (dk_at dksX5_aimedAt_1 3 rfl rfl)
theorem dX5_aimedAt_28 : decode cX5_aimedAt 28 = .ok (.ifCond .ne 12, 3) := dk_154 0 12 (dk_at dksX5_aimedAt_1 4 rfl rfl)
theorem dX5_aimedAt_31 : decode cX5_aimedAt 31 = .ok (.aload_n 0, 1) := dk_42 (dk_at dksX5_aimedAt_1 7 rfl rfl)
theorem dX5_aimedAt_32 : decode cX5_aimedAt 32 = .ok (.getfield 187, 3) := dk_180 0 187 (dk_at dksX5_aimedAt_1 8 rfl rfl)
theorem dX5_aimedAt_35 : decode cX5_aimedAt 35 = .ok (.iload_n 1, 1) := dk_27 (dk_at dksX5_aimedAt_1 11 rfl rfl)
theorem dX5_aimedAt_36 : decode cX5_aimedAt 36 = .ok (.iaload, 1) := dk_46 (dk_at dksX5_aimedAt_1 12 rfl rfl)
theorem dX5_aimedAt_37 : decode cX5_aimedAt 37 = .ok (.goto 9, 3) := dk_167 0 9 (dk_at dksX5_aimedAt_1 13 rfl rfl)
theorem dX5_aimedAt_40 : decode cX5_aimedAt 40 = .ok (.aload_n 0, 1) := dk_42 (dk_at dksX5_aimedAt_1 16 rfl rfl)
theorem dX5_aimedAt_41 : decode cX5_aimedAt 41 = .ok (.getfield 190, 3) := dk_180 0 190 (dk_at dksX5_aimedAt_1 17 rfl rfl)
theorem dX5_aimedAt_44 : decode cX5_aimedAt 44 = .ok (.iload_n 1, 1) := dk_27 (dk_at dksX5_aimedAt_1 20 rfl rfl)
theorem dX5_aimedAt_45 : decode cX5_aimedAt 45 = .ok (.iaload, 1) := dk_46 (dk_at dksX5_aimedAt_1 21 rfl rfl)
theorem dX5_aimedAt_46 : decode cX5_aimedAt 46 = .ok (.ireturn, 1) := dk_172 (dk_at dksX5_aimedAt_1 22 rfl rfl)
abbrev cX5_race : ByteArray := prog_22_method_89_code
def yX5_race : MethodName := ⟨RX5, "race", "(III)I"⟩
def dkwX5_race_6 : List UInt8 := [180, 1, 25, 54, 7, 21, 7, 21, 6, 96, 3, 17, 39, 15, 184, 1, 28, 172]
abbrev dktX5_race_6 : List UInt8 := dkwX5_race_6 ++ []
def dkwX5_race_5 : List UInt8 := [180, 0, 75, 27, 46, 42, 180, 1, 25, 164, 0, 12, 42, 180, 0, 75, 27, 46, 167, 0, 7, 42]
abbrev dktX5_race_5 : List UInt8 := dkwX5_race_5 ++ dktX5_race_6
def dkwX5_race_4 : List UInt8 := [21, 5, 16, 60, 163, 0, 7, 4, 167, 0, 11, 21, 5, 16, 59, 96, 16, 60, 108, 54, 6, 42]
abbrev dktX5_race_4 : List UInt8 := dkwX5_race_4 ++ dktX5_race_5
def dkwX5_race_3 : List UInt8 := [21, 4, 46, 100, 42, 180, 0, 69, 27, 46, 104, 29, 104, 42, 180, 0, 35, 21, 4, 46, 100, 54, 5]
abbrev dktX5_race_3 : List UInt8 := dkwX5_race_3 ++ dktX5_race_4
def dkwX5_race_2 : List UInt8 := [46, 157, 0, 14, 42, 180, 0, 32, 21, 4, 46, 28, 161, 0, 6, 16, 254, 172, 28, 42, 180, 0, 32]
abbrev dktX5_race_2 : List UInt8 := dkwX5_race_2 ++ dktX5_race_3
def dkwX5_race_1 : List UInt8 := [154, 0, 5, 2, 172, 42, 180, 0, 72, 27, 46, 54, 4, 21, 4, 155, 0, 24, 42, 180, 0, 38, 21, 4]
abbrev dktX5_race_1 : List UInt8 := dkwX5_race_1 ++ dktX5_race_2
def dkwX5_race_0 : List UInt8 := [27, 184, 1, 22, 153, 0, 23, 28, 4, 16, 60, 184, 0, 230, 153, 0, 13, 29, 4, 16, 9, 184, 0, 230]
abbrev dktX5_race_0 : List UInt8 := dkwX5_race_0 ++ dktX5_race_1
theorem dksX5_race_0 : cX5_race.data.toList.drop 0 = dktX5_race_0 := by decide +kernel
theorem dksX5_race_1 : cX5_race.data.toList.drop 24 = dktX5_race_1 := dk_seg dksX5_race_0 24 rfl rfl
theorem dksX5_race_2 : cX5_race.data.toList.drop 48 = dktX5_race_2 := dk_seg dksX5_race_1 24 rfl rfl
theorem dksX5_race_3 : cX5_race.data.toList.drop 71 = dktX5_race_3 := dk_seg dksX5_race_2 23 rfl rfl
theorem dksX5_race_4 : cX5_race.data.toList.drop 94 = dktX5_race_4 := dk_seg dksX5_race_3 23 rfl rfl
theorem dksX5_race_5 : cX5_race.data.toList.drop 116 = dktX5_race_5 := dk_seg dksX5_race_4 22 rfl rfl
theorem dksX5_race_6 : cX5_race.data.toList.drop 138 = dktX5_race_6 := dk_seg dksX5_race_5 22 rfl rfl
theorem dX5_race_0 : decode cX5_race 0 = .ok (.iload_n 1, 1) := dk_27 (dk_at dksX5_race_0 0 rfl rfl)
theorem dX5_race_1 : decode cX5_race 1 = .ok (.invokestatic 278, 3) := dk_184 1 22 (dk_at dksX5_race_0 1 rfl rfl)
theorem dX5_race_4 : decode cX5_race 4 = .ok (.ifCond .eq 23, 3) := dk_153 0 23 (dk_at dksX5_race_0 4 rfl rfl)
theorem dX5_race_7 : decode cX5_race 7 = .ok (.iload_n 2, 1) := dk_28 (dk_at dksX5_race_0 7 rfl rfl)
theorem dX5_race_8 : decode cX5_race 8 = .ok (.iconst 1, 1) := dk_4 (dk_at dksX5_race_0 8 rfl rfl)
theorem dX5_race_9 : decode cX5_race 9 = .ok (.bipush 60, 2) := dk_16 60 (dk_at dksX5_race_0 9 rfl rfl)
theorem dX5_race_11 : decode cX5_race 11 = .ok (.invokestatic 230, 3) := dk_184 0 230 (dk_at dksX5_race_0 11 rfl rfl)
theorem dX5_race_14 : decode cX5_race 14 = .ok (.ifCond .eq 13, 3) := dk_153 0 13 (dk_at dksX5_race_0 14 rfl rfl)
theorem dX5_race_17 : decode cX5_race 17 = .ok (.iload_n 3, 1) := dk_29 (dk_at dksX5_race_0 17 rfl rfl)
theorem dX5_race_18 : decode cX5_race 18 = .ok (.iconst 1, 1) := dk_4 (dk_at dksX5_race_0 18 rfl rfl)
theorem dX5_race_19 : decode cX5_race 19 = .ok (.bipush 9, 2) := dk_16 9 (dk_at dksX5_race_0 19 rfl rfl)
theorem dX5_race_21 : decode cX5_race 21 = .ok (.invokestatic 230, 3) := dk_184 0 230 (dk_at dksX5_race_0 21 rfl rfl)
theorem dX5_race_24 : decode cX5_race 24 = .ok (.ifCond .ne 5, 3) := dk_154 0 5 (dk_at dksX5_race_1 0 rfl rfl)
theorem dX5_race_27 : decode cX5_race 27 = .ok (.iconst (-1), 1) := dk_2 (dk_at dksX5_race_1 3 rfl rfl)
theorem dX5_race_28 : decode cX5_race 28 = .ok (.ireturn, 1) := dk_172 (dk_at dksX5_race_1 4 rfl rfl)
theorem dX5_race_29 : decode cX5_race 29 = .ok (.aload_n 0, 1) := dk_42 (dk_at dksX5_race_1 5 rfl rfl)
theorem dX5_race_30 : decode cX5_race 30 = .ok (.getfield 72, 3) := dk_180 0 72 (dk_at dksX5_race_1 6 rfl rfl)
theorem dX5_race_33 : decode cX5_race 33 = .ok (.iload_n 1, 1) := dk_27 (dk_at dksX5_race_1 9 rfl rfl)
theorem dX5_race_34 : decode cX5_race 34 = .ok (.iaload, 1) := dk_46 (dk_at dksX5_race_1 10 rfl rfl)
theorem dX5_race_35 : decode cX5_race 35 = .ok (.istore 4, 2) := dk_54 4 (dk_at dksX5_race_1 11 rfl rfl)
theorem dX5_race_37 : decode cX5_race 37 = .ok (.iload 4, 2) := dk_21 4 (dk_at dksX5_race_1 13 rfl rfl)
theorem dX5_race_39 : decode cX5_race 39 = .ok (.ifCond .lt 24, 3) := dk_155 0 24 (dk_at dksX5_race_1 15 rfl rfl)
theorem dX5_race_42 : decode cX5_race 42 = .ok (.aload_n 0, 1) := dk_42 (dk_at dksX5_race_1 18 rfl rfl)
theorem dX5_race_43 : decode cX5_race 43 = .ok (.getfield 38, 3) := dk_180 0 38 (dk_at dksX5_race_1 19 rfl rfl)
theorem dX5_race_46 : decode cX5_race 46 = .ok (.iload 4, 2) := dk_21 4 (dk_at dksX5_race_1 22 rfl rfl)
theorem dX5_race_48 : decode cX5_race 48 = .ok (.iaload, 1) := dk_46 (dk_at dksX5_race_2 0 rfl rfl)
theorem dX5_race_49 : decode cX5_race 49 = .ok (.ifCond .gt 14, 3) := dk_157 0 14 (dk_at dksX5_race_2 1 rfl rfl)
theorem dX5_race_52 : decode cX5_race 52 = .ok (.aload_n 0, 1) := dk_42 (dk_at dksX5_race_2 4 rfl rfl)
theorem dX5_race_53 : decode cX5_race 53 = .ok (.getfield 32, 3) := dk_180 0 32 (dk_at dksX5_race_2 5 rfl rfl)
theorem dX5_race_56 : decode cX5_race 56 = .ok (.iload 4, 2) := dk_21 4 (dk_at dksX5_race_2 8 rfl rfl)
theorem dX5_race_58 : decode cX5_race 58 = .ok (.iaload, 1) := dk_46 (dk_at dksX5_race_2 10 rfl rfl)
theorem dX5_race_59 : decode cX5_race 59 = .ok (.iload_n 2, 1) := dk_28 (dk_at dksX5_race_2 11 rfl rfl)
theorem dX5_race_60 : decode cX5_race 60 = .ok (.if_icmp .lt 6, 3) := dk_161 0 6 (dk_at dksX5_race_2 12 rfl rfl)
theorem dX5_race_63 : decode cX5_race 63 = .ok (.bipush (-2), 2) := dk_16 254 (dk_at dksX5_race_2 15 rfl rfl)
theorem dX5_race_65 : decode cX5_race 65 = .ok (.ireturn, 1) := dk_172 (dk_at dksX5_race_2 17 rfl rfl)
theorem dX5_race_66 : decode cX5_race 66 = .ok (.iload_n 2, 1) := dk_28 (dk_at dksX5_race_2 18 rfl rfl)
theorem dX5_race_67 : decode cX5_race 67 = .ok (.aload_n 0, 1) := dk_42 (dk_at dksX5_race_2 19 rfl rfl)
theorem dX5_race_68 : decode cX5_race 68 = .ok (.getfield 32, 3) := dk_180 0 32 (dk_at dksX5_race_2 20 rfl rfl)
theorem dX5_race_71 : decode cX5_race 71 = .ok (.iload 4, 2) := dk_21 4 (dk_at dksX5_race_3 0 rfl rfl)
theorem dX5_race_73 : decode cX5_race 73 = .ok (.iaload, 1) := dk_46 (dk_at dksX5_race_3 2 rfl rfl)
theorem dX5_race_74 : decode cX5_race 74 = .ok (.isub, 1) := dk_100 (dk_at dksX5_race_3 3 rfl rfl)
theorem dX5_race_75 : decode cX5_race 75 = .ok (.aload_n 0, 1) := dk_42 (dk_at dksX5_race_3 4 rfl rfl)
theorem dX5_race_76 : decode cX5_race 76 = .ok (.getfield 69, 3) := dk_180 0 69 (dk_at dksX5_race_3 5 rfl rfl)
theorem dX5_race_79 : decode cX5_race 79 = .ok (.iload_n 1, 1) := dk_27 (dk_at dksX5_race_3 8 rfl rfl)
theorem dX5_race_80 : decode cX5_race 80 = .ok (.iaload, 1) := dk_46 (dk_at dksX5_race_3 9 rfl rfl)
theorem dX5_race_81 : decode cX5_race 81 = .ok (.imul, 1) := dk_104 (dk_at dksX5_race_3 10 rfl rfl)
theorem dX5_race_82 : decode cX5_race 82 = .ok (.iload_n 3, 1) := dk_29 (dk_at dksX5_race_3 11 rfl rfl)
theorem dX5_race_83 : decode cX5_race 83 = .ok (.imul, 1) := dk_104 (dk_at dksX5_race_3 12 rfl rfl)
theorem dX5_race_84 : decode cX5_race 84 = .ok (.aload_n 0, 1) := dk_42 (dk_at dksX5_race_3 13 rfl rfl)
theorem dX5_race_85 : decode cX5_race 85 = .ok (.getfield 35, 3) := dk_180 0 35 (dk_at dksX5_race_3 14 rfl rfl)
theorem dX5_race_88 : decode cX5_race 88 = .ok (.iload 4, 2) := dk_21 4 (dk_at dksX5_race_3 17 rfl rfl)
theorem dX5_race_90 : decode cX5_race 90 = .ok (.iaload, 1) := dk_46 (dk_at dksX5_race_3 19 rfl rfl)
theorem dX5_race_91 : decode cX5_race 91 = .ok (.isub, 1) := dk_100 (dk_at dksX5_race_3 20 rfl rfl)
theorem dX5_race_92 : decode cX5_race 92 = .ok (.istore 5, 2) := dk_54 5 (dk_at dksX5_race_3 21 rfl rfl)
theorem dX5_race_94 : decode cX5_race 94 = .ok (.iload 5, 2) := dk_21 5 (dk_at dksX5_race_4 0 rfl rfl)
theorem dX5_race_96 : decode cX5_race 96 = .ok (.bipush 60, 2) := dk_16 60 (dk_at dksX5_race_4 2 rfl rfl)
theorem dX5_race_98 : decode cX5_race 98 = .ok (.if_icmp .gt 7, 3) := dk_163 0 7 (dk_at dksX5_race_4 4 rfl rfl)
theorem dX5_race_101 : decode cX5_race 101 = .ok (.iconst 1, 1) := dk_4 (dk_at dksX5_race_4 7 rfl rfl)
theorem dX5_race_102 : decode cX5_race 102 = .ok (.goto 11, 3) := dk_167 0 11 (dk_at dksX5_race_4 8 rfl rfl)
theorem dX5_race_105 : decode cX5_race 105 = .ok (.iload 5, 2) := dk_21 5 (dk_at dksX5_race_4 11 rfl rfl)
theorem dX5_race_107 : decode cX5_race 107 = .ok (.bipush 59, 2) := dk_16 59 (dk_at dksX5_race_4 13 rfl rfl)
theorem dX5_race_109 : decode cX5_race 109 = .ok (.iadd, 1) := dk_96 (dk_at dksX5_race_4 15 rfl rfl)
theorem dX5_race_110 : decode cX5_race 110 = .ok (.bipush 60, 2) := dk_16 60 (dk_at dksX5_race_4 16 rfl rfl)
theorem dX5_race_112 : decode cX5_race 112 = .ok (.idiv, 1) := dk_108 (dk_at dksX5_race_4 18 rfl rfl)
theorem dX5_race_113 : decode cX5_race 113 = .ok (.istore 6, 2) := dk_54 6 (dk_at dksX5_race_4 19 rfl rfl)
theorem dX5_race_115 : decode cX5_race 115 = .ok (.aload_n 0, 1) := dk_42 (dk_at dksX5_race_4 21 rfl rfl)
theorem dX5_race_116 : decode cX5_race 116 = .ok (.getfield 75, 3) := dk_180 0 75 (dk_at dksX5_race_5 0 rfl rfl)
theorem dX5_race_119 : decode cX5_race 119 = .ok (.iload_n 1, 1) := dk_27 (dk_at dksX5_race_5 3 rfl rfl)
theorem dX5_race_120 : decode cX5_race 120 = .ok (.iaload, 1) := dk_46 (dk_at dksX5_race_5 4 rfl rfl)
theorem dX5_race_121 : decode cX5_race 121 = .ok (.aload_n 0, 1) := dk_42 (dk_at dksX5_race_5 5 rfl rfl)
theorem dX5_race_122 : decode cX5_race 122 = .ok (.getfield 281, 3) := dk_180 1 25 (dk_at dksX5_race_5 6 rfl rfl)
theorem dX5_race_125 : decode cX5_race 125 = .ok (.if_icmp .le 12, 3) := dk_164 0 12 (dk_at dksX5_race_5 9 rfl rfl)
theorem dX5_race_128 : decode cX5_race 128 = .ok (.aload_n 0, 1) := dk_42 (dk_at dksX5_race_5 12 rfl rfl)
theorem dX5_race_129 : decode cX5_race 129 = .ok (.getfield 75, 3) := dk_180 0 75 (dk_at dksX5_race_5 13 rfl rfl)
theorem dX5_race_132 : decode cX5_race 132 = .ok (.iload_n 1, 1) := dk_27 (dk_at dksX5_race_5 16 rfl rfl)
theorem dX5_race_133 : decode cX5_race 133 = .ok (.iaload, 1) := dk_46 (dk_at dksX5_race_5 17 rfl rfl)
theorem dX5_race_134 : decode cX5_race 134 = .ok (.goto 7, 3) := dk_167 0 7 (dk_at dksX5_race_5 18 rfl rfl)
theorem dX5_race_137 : decode cX5_race 137 = .ok (.aload_n 0, 1) := dk_42 (dk_at dksX5_race_5 21 rfl rfl)
theorem dX5_race_138 : decode cX5_race 138 = .ok (.getfield 281, 3) := dk_180 1 25 (dk_at dksX5_race_6 0 rfl rfl)
theorem dX5_race_141 : decode cX5_race 141 = .ok (.istore 7, 2) := dk_54 7 (dk_at dksX5_race_6 3 rfl rfl)
theorem dX5_race_143 : decode cX5_race 143 = .ok (.iload 7, 2) := dk_21 7 (dk_at dksX5_race_6 5 rfl rfl)
theorem dX5_race_145 : decode cX5_race 145 = .ok (.iload 6, 2) := dk_21 6 (dk_at dksX5_race_6 7 rfl rfl)
theorem dX5_race_147 : decode cX5_race 147 = .ok (.iadd, 1) := dk_96 (dk_at dksX5_race_6 9 rfl rfl)
theorem dX5_race_148 : decode cX5_race 148 = .ok (.iconst 0, 1) := dk_3 (dk_at dksX5_race_6 10 rfl rfl)
theorem dX5_race_149 : decode cX5_race 149 = .ok (.sipush 9999, 3) := dk_17 39 15 (dk_at dksX5_race_6 11 rfl rfl)
theorem dX5_race_152 : decode cX5_race 152 = .ok (.invokestatic 284, 3) := dk_184 1 28 (dk_at dksX5_race_6 14 rfl rfl)
theorem dX5_race_155 : decode cX5_race 155 = .ok (.ireturn, 1) := dk_172 (dk_at dksX5_race_6 17 rfl rfl)
abbrev cX5_capsule : ByteArray := prog_22_method_90_code
def yX5_capsule : MethodName := ⟨RX5, "capsule", "(I)I"⟩
def dkwX5_capsule_9 : List UInt8 := [42, 180, 1, 25, 181, 1, 194, 42, 180, 0, 202, 28, 4, 100, 46, 172]
abbrev dktX5_capsule_9 : List UInt8 := dkwX5_capsule_9 ++ []
def dkwX5_capsule_8 : List UInt8 := [180, 0, 32, 27, 46, 16, 20, 108, 96, 104, 96, 79, 132, 3, 1, 167, 255, 222, 42, 28, 181, 0, 193, 42]
abbrev dktX5_capsule_8 : List UInt8 := dkwX5_capsule_8 ++ dktX5_capsule_9
def dkwX5_capsule_7 : List UInt8 := [167, 255, 144, 3, 62, 29, 28, 162, 0, 35, 42, 180, 0, 202, 29, 42, 180, 1, 25, 29, 4, 96, 4, 42]
abbrev dktX5_capsule_7 : List UInt8 := dkwX5_capsule_7 ++ dktX5_capsule_8
def dkwX5_capsule_6 : List UInt8 := [42, 180, 0, 196, 21, 5, 29, 79, 42, 180, 0, 199, 21, 5, 21, 4, 79, 132, 2, 1, 132, 3, 1]
abbrev dktX5_capsule_6 : List UInt8 := dkwX5_capsule_6 ++ dktX5_capsule_7
def dkwX5_capsule_5 : List UInt8 := [46, 79, 42, 180, 0, 199, 21, 5, 42, 180, 0, 199, 21, 5, 4, 100, 46, 79, 132, 5, 255, 167, 255, 202]
abbrev dktX5_capsule_5 : List UInt8 := dkwX5_capsule_5 ++ dktX5_capsule_6
def dkwX5_capsule_4 : List UInt8 := [21, 5, 4, 100, 46, 21, 4, 162, 0, 41, 42, 180, 0, 196, 21, 5, 42, 180, 0, 196, 21, 5, 4, 100]
abbrev dktX5_capsule_4 : List UInt8 := dkwX5_capsule_4 ++ dktX5_capsule_5
def dkwX5_capsule_3 : List UInt8 := [167, 0, 92, 42, 4, 29, 3, 182, 1, 147, 54, 4, 28, 54, 5, 21, 5, 158, 0, 55, 42, 180, 0, 199]
abbrev dktX5_capsule_3 : List UInt8 := dkwX5_capsule_3 ++ dktX5_capsule_4
def dkwX5_capsule_2 : List UInt8 := [172, 3, 61, 3, 62, 29, 42, 180, 0, 242, 162, 0, 110, 42, 180, 0, 62, 29, 51, 154, 0, 6]
abbrev dktX5_capsule_2 : List UInt8 := dkwX5_capsule_2 ++ dktX5_capsule_3
def dkwX5_capsule_1 : List UInt8 := [8, 159, 0, 5, 2, 172, 42, 180, 0, 38, 27, 46, 153, 0, 10, 42, 182, 1, 138, 154, 0, 6, 16, 254]
abbrev dktX5_capsule_1 : List UInt8 := dkwX5_capsule_1 ++ dktX5_capsule_2
def dkwX5_capsule_0 : List UInt8 := [42, 27, 182, 0, 245, 153, 0, 23, 42, 180, 0, 17, 27, 46, 7, 159, 0, 15, 42, 180, 0, 17, 27, 46]
abbrev dktX5_capsule_0 : List UInt8 := dkwX5_capsule_0 ++ dktX5_capsule_1
theorem dksX5_capsule_0 : cX5_capsule.data.toList.drop 0 = dktX5_capsule_0 := by decide +kernel
theorem dksX5_capsule_1 : cX5_capsule.data.toList.drop 24 = dktX5_capsule_1 := dk_seg dksX5_capsule_0 24 rfl rfl
theorem dksX5_capsule_2 : cX5_capsule.data.toList.drop 48 = dktX5_capsule_2 := dk_seg dksX5_capsule_1 24 rfl rfl
theorem dksX5_capsule_3 : cX5_capsule.data.toList.drop 70 = dktX5_capsule_3 := dk_seg dksX5_capsule_2 22 rfl rfl
theorem dksX5_capsule_4 : cX5_capsule.data.toList.drop 94 = dktX5_capsule_4 := dk_seg dksX5_capsule_3 24 rfl rfl
theorem dksX5_capsule_5 : cX5_capsule.data.toList.drop 118 = dktX5_capsule_5 := dk_seg dksX5_capsule_4 24 rfl rfl
theorem dksX5_capsule_6 : cX5_capsule.data.toList.drop 142 = dktX5_capsule_6 := dk_seg dksX5_capsule_5 24 rfl rfl
theorem dksX5_capsule_7 : cX5_capsule.data.toList.drop 165 = dktX5_capsule_7 := dk_seg dksX5_capsule_6 23 rfl rfl
theorem dksX5_capsule_8 : cX5_capsule.data.toList.drop 189 = dktX5_capsule_8 := dk_seg dksX5_capsule_7 24 rfl rfl
theorem dksX5_capsule_9 : cX5_capsule.data.toList.drop 213 = dktX5_capsule_9 := dk_seg dksX5_capsule_8 24 rfl rfl
theorem dX5_capsule_0 : decode cX5_capsule 0 = .ok (.aload_n 0, 1) := dk_42 (dk_at dksX5_capsule_0 0 rfl rfl)
theorem dX5_capsule_1 : decode cX5_capsule 1 = .ok (.iload_n 1, 1) := dk_27 (dk_at dksX5_capsule_0 1 rfl rfl)
theorem dX5_capsule_2 : decode cX5_capsule 2 = .ok (.invokevirtual 245, 3) := dk_182 0 245 (dk_at dksX5_capsule_0 2 rfl rfl)
theorem dX5_capsule_5 : decode cX5_capsule 5 = .ok (.ifCond .eq 23, 3) := dk_153 0 23 (dk_at dksX5_capsule_0 5 rfl rfl)
theorem dX5_capsule_8 : decode cX5_capsule 8 = .ok (.aload_n 0, 1) := dk_42 (dk_at dksX5_capsule_0 8 rfl rfl)
theorem dX5_capsule_9 : decode cX5_capsule 9 = .ok (.getfield 17, 3) := dk_180 0 17 (dk_at dksX5_capsule_0 9 rfl rfl)
theorem dX5_capsule_12 : decode cX5_capsule 12 = .ok (.iload_n 1, 1) := dk_27 (dk_at dksX5_capsule_0 12 rfl rfl)
theorem dX5_capsule_13 : decode cX5_capsule 13 = .ok (.iaload, 1) := dk_46 (dk_at dksX5_capsule_0 13 rfl rfl)
theorem dX5_capsule_14 : decode cX5_capsule 14 = .ok (.iconst 4, 1) := dk_7 (dk_at dksX5_capsule_0 14 rfl rfl)
theorem dX5_capsule_15 : decode cX5_capsule 15 = .ok (.if_icmp .eq 15, 3) := dk_159 0 15 (dk_at dksX5_capsule_0 15 rfl rfl)
theorem dX5_capsule_18 : decode cX5_capsule 18 = .ok (.aload_n 0, 1) := dk_42 (dk_at dksX5_capsule_0 18 rfl rfl)
theorem dX5_capsule_19 : decode cX5_capsule 19 = .ok (.getfield 17, 3) := dk_180 0 17 (dk_at dksX5_capsule_0 19 rfl rfl)
theorem dX5_capsule_22 : decode cX5_capsule 22 = .ok (.iload_n 1, 1) := dk_27 (dk_at dksX5_capsule_0 22 rfl rfl)
theorem dX5_capsule_23 : decode cX5_capsule 23 = .ok (.iaload, 1) := dk_46 (dk_at dksX5_capsule_0 23 rfl rfl)
theorem dX5_capsule_24 : decode cX5_capsule 24 = .ok (.iconst 5, 1) := dk_8 (dk_at dksX5_capsule_1 0 rfl rfl)
theorem dX5_capsule_25 : decode cX5_capsule 25 = .ok (.if_icmp .eq 5, 3) := dk_159 0 5 (dk_at dksX5_capsule_1 1 rfl rfl)
theorem dX5_capsule_28 : decode cX5_capsule 28 = .ok (.iconst (-1), 1) := dk_2 (dk_at dksX5_capsule_1 4 rfl rfl)
theorem dX5_capsule_29 : decode cX5_capsule 29 = .ok (.ireturn, 1) := dk_172 (dk_at dksX5_capsule_1 5 rfl rfl)
theorem dX5_capsule_30 : decode cX5_capsule 30 = .ok (.aload_n 0, 1) := dk_42 (dk_at dksX5_capsule_1 6 rfl rfl)
theorem dX5_capsule_31 : decode cX5_capsule 31 = .ok (.getfield 38, 3) := dk_180 0 38 (dk_at dksX5_capsule_1 7 rfl rfl)
theorem dX5_capsule_34 : decode cX5_capsule 34 = .ok (.iload_n 1, 1) := dk_27 (dk_at dksX5_capsule_1 10 rfl rfl)
theorem dX5_capsule_35 : decode cX5_capsule 35 = .ok (.iaload, 1) := dk_46 (dk_at dksX5_capsule_1 11 rfl rfl)
theorem dX5_capsule_36 : decode cX5_capsule 36 = .ok (.ifCond .eq 10, 3) := dk_153 0 10 (dk_at dksX5_capsule_1 12 rfl rfl)
theorem dX5_capsule_39 : decode cX5_capsule 39 = .ok (.aload_n 0, 1) := dk_42 (dk_at dksX5_capsule_1 15 rfl rfl)
theorem dX5_capsule_40 : decode cX5_capsule 40 = .ok (.invokevirtual 394, 3) := dk_182 1 138 (dk_at dksX5_capsule_1 16 rfl rfl)
theorem dX5_capsule_43 : decode cX5_capsule 43 = .ok (.ifCond .ne 6, 3) := dk_154 0 6 (dk_at dksX5_capsule_1 19 rfl rfl)
theorem dX5_capsule_46 : decode cX5_capsule 46 = .ok (.bipush (-2), 2) := dk_16 254 (dk_at dksX5_capsule_1 22 rfl rfl)
theorem dX5_capsule_48 : decode cX5_capsule 48 = .ok (.ireturn, 1) := dk_172 (dk_at dksX5_capsule_2 0 rfl rfl)
theorem dX5_capsule_49 : decode cX5_capsule 49 = .ok (.iconst 0, 1) := dk_3 (dk_at dksX5_capsule_2 1 rfl rfl)
theorem dX5_capsule_50 : decode cX5_capsule 50 = .ok (.istore_n 2, 1) := dk_61 (dk_at dksX5_capsule_2 2 rfl rfl)
theorem dX5_capsule_51 : decode cX5_capsule 51 = .ok (.iconst 0, 1) := dk_3 (dk_at dksX5_capsule_2 3 rfl rfl)
theorem dX5_capsule_52 : decode cX5_capsule 52 = .ok (.istore_n 3, 1) := dk_62 (dk_at dksX5_capsule_2 4 rfl rfl)
theorem dX5_capsule_53 : decode cX5_capsule 53 = .ok (.iload_n 3, 1) := dk_29 (dk_at dksX5_capsule_2 5 rfl rfl)
theorem dX5_capsule_54 : decode cX5_capsule 54 = .ok (.aload_n 0, 1) := dk_42 (dk_at dksX5_capsule_2 6 rfl rfl)
theorem dX5_capsule_55 : decode cX5_capsule 55 = .ok (.getfield 242, 3) := dk_180 0 242 (dk_at dksX5_capsule_2 7 rfl rfl)
theorem dX5_capsule_58 : decode cX5_capsule 58 = .ok (.if_icmp .ge 110, 3) := dk_162 0 110 (dk_at dksX5_capsule_2 10 rfl rfl)
theorem dX5_capsule_61 : decode cX5_capsule 61 = .ok (.aload_n 0, 1) := dk_42 (dk_at dksX5_capsule_2 13 rfl rfl)
theorem dX5_capsule_62 : decode cX5_capsule 62 = .ok (.getfield 62, 3) := dk_180 0 62 (dk_at dksX5_capsule_2 14 rfl rfl)
theorem dX5_capsule_65 : decode cX5_capsule 65 = .ok (.iload_n 3, 1) := dk_29 (dk_at dksX5_capsule_2 17 rfl rfl)
theorem dX5_capsule_66 : decode cX5_capsule 66 = .ok (.baload, 1) := dk_51 (dk_at dksX5_capsule_2 18 rfl rfl)
theorem dX5_capsule_67 : decode cX5_capsule 67 = .ok (.ifCond .ne 6, 3) := dk_154 0 6 (dk_at dksX5_capsule_2 19 rfl rfl)
theorem dX5_capsule_70 : decode cX5_capsule 70 = .ok (.goto 92, 3) := dk_167 0 92 (dk_at dksX5_capsule_3 0 rfl rfl)
theorem dX5_capsule_73 : decode cX5_capsule 73 = .ok (.aload_n 0, 1) := dk_42 (dk_at dksX5_capsule_3 3 rfl rfl)
theorem dX5_capsule_74 : decode cX5_capsule 74 = .ok (.iconst 1, 1) := dk_4 (dk_at dksX5_capsule_3 4 rfl rfl)
theorem dX5_capsule_75 : decode cX5_capsule 75 = .ok (.iload_n 3, 1) := dk_29 (dk_at dksX5_capsule_3 5 rfl rfl)
theorem dX5_capsule_76 : decode cX5_capsule 76 = .ok (.iconst 0, 1) := dk_3 (dk_at dksX5_capsule_3 6 rfl rfl)
theorem dX5_capsule_77 : decode cX5_capsule 77 = .ok (.invokevirtual 403, 3) := dk_182 1 147 (dk_at dksX5_capsule_3 7 rfl rfl)
theorem dX5_capsule_80 : decode cX5_capsule 80 = .ok (.istore 4, 2) := dk_54 4 (dk_at dksX5_capsule_3 10 rfl rfl)
theorem dX5_capsule_82 : decode cX5_capsule 82 = .ok (.iload_n 2, 1) := dk_28 (dk_at dksX5_capsule_3 12 rfl rfl)
theorem dX5_capsule_83 : decode cX5_capsule 83 = .ok (.istore 5, 2) := dk_54 5 (dk_at dksX5_capsule_3 13 rfl rfl)
theorem dX5_capsule_85 : decode cX5_capsule 85 = .ok (.iload 5, 2) := dk_21 5 (dk_at dksX5_capsule_3 15 rfl rfl)
theorem dX5_capsule_87 : decode cX5_capsule 87 = .ok (.ifCond .le 55, 3) := dk_158 0 55 (dk_at dksX5_capsule_3 17 rfl rfl)
theorem dX5_capsule_90 : decode cX5_capsule 90 = .ok (.aload_n 0, 1) := dk_42 (dk_at dksX5_capsule_3 20 rfl rfl)
theorem dX5_capsule_91 : decode cX5_capsule 91 = .ok (.getfield 199, 3) := dk_180 0 199 (dk_at dksX5_capsule_3 21 rfl rfl)
theorem dX5_capsule_94 : decode cX5_capsule 94 = .ok (.iload 5, 2) := dk_21 5 (dk_at dksX5_capsule_4 0 rfl rfl)
theorem dX5_capsule_96 : decode cX5_capsule 96 = .ok (.iconst 1, 1) := dk_4 (dk_at dksX5_capsule_4 2 rfl rfl)
theorem dX5_capsule_97 : decode cX5_capsule 97 = .ok (.isub, 1) := dk_100 (dk_at dksX5_capsule_4 3 rfl rfl)
theorem dX5_capsule_98 : decode cX5_capsule 98 = .ok (.iaload, 1) := dk_46 (dk_at dksX5_capsule_4 4 rfl rfl)
theorem dX5_capsule_99 : decode cX5_capsule 99 = .ok (.iload 4, 2) := dk_21 4 (dk_at dksX5_capsule_4 5 rfl rfl)
theorem dX5_capsule_101 : decode cX5_capsule 101 = .ok (.if_icmp .ge 41, 3) := dk_162 0 41 (dk_at dksX5_capsule_4 7 rfl rfl)
theorem dX5_capsule_104 : decode cX5_capsule 104 = .ok (.aload_n 0, 1) := dk_42 (dk_at dksX5_capsule_4 10 rfl rfl)
theorem dX5_capsule_105 : decode cX5_capsule 105 = .ok (.getfield 196, 3) := dk_180 0 196 (dk_at dksX5_capsule_4 11 rfl rfl)
theorem dX5_capsule_108 : decode cX5_capsule 108 = .ok (.iload 5, 2) := dk_21 5 (dk_at dksX5_capsule_4 14 rfl rfl)
theorem dX5_capsule_110 : decode cX5_capsule 110 = .ok (.aload_n 0, 1) := dk_42 (dk_at dksX5_capsule_4 16 rfl rfl)
theorem dX5_capsule_111 : decode cX5_capsule 111 = .ok (.getfield 196, 3) := dk_180 0 196 (dk_at dksX5_capsule_4 17 rfl rfl)
theorem dX5_capsule_114 : decode cX5_capsule 114 = .ok (.iload 5, 2) := dk_21 5 (dk_at dksX5_capsule_4 20 rfl rfl)
theorem dX5_capsule_116 : decode cX5_capsule 116 = .ok (.iconst 1, 1) := dk_4 (dk_at dksX5_capsule_4 22 rfl rfl)
theorem dX5_capsule_117 : decode cX5_capsule 117 = .ok (.isub, 1) := dk_100 (dk_at dksX5_capsule_4 23 rfl rfl)
theorem dX5_capsule_118 : decode cX5_capsule 118 = .ok (.iaload, 1) := dk_46 (dk_at dksX5_capsule_5 0 rfl rfl)
theorem dX5_capsule_119 : decode cX5_capsule 119 = .ok (.iastore, 1) := dk_79 (dk_at dksX5_capsule_5 1 rfl rfl)
theorem dX5_capsule_120 : decode cX5_capsule 120 = .ok (.aload_n 0, 1) := dk_42 (dk_at dksX5_capsule_5 2 rfl rfl)
theorem dX5_capsule_121 : decode cX5_capsule 121 = .ok (.getfield 199, 3) := dk_180 0 199 (dk_at dksX5_capsule_5 3 rfl rfl)
theorem dX5_capsule_124 : decode cX5_capsule 124 = .ok (.iload 5, 2) := dk_21 5 (dk_at dksX5_capsule_5 6 rfl rfl)
theorem dX5_capsule_126 : decode cX5_capsule 126 = .ok (.aload_n 0, 1) := dk_42 (dk_at dksX5_capsule_5 8 rfl rfl)
theorem dX5_capsule_127 : decode cX5_capsule 127 = .ok (.getfield 199, 3) := dk_180 0 199 (dk_at dksX5_capsule_5 9 rfl rfl)
theorem dX5_capsule_130 : decode cX5_capsule 130 = .ok (.iload 5, 2) := dk_21 5 (dk_at dksX5_capsule_5 12 rfl rfl)
theorem dX5_capsule_132 : decode cX5_capsule 132 = .ok (.iconst 1, 1) := dk_4 (dk_at dksX5_capsule_5 14 rfl rfl)
theorem dX5_capsule_133 : decode cX5_capsule 133 = .ok (.isub, 1) := dk_100 (dk_at dksX5_capsule_5 15 rfl rfl)
theorem dX5_capsule_134 : decode cX5_capsule 134 = .ok (.iaload, 1) := dk_46 (dk_at dksX5_capsule_5 16 rfl rfl)
theorem dX5_capsule_135 : decode cX5_capsule 135 = .ok (.iastore, 1) := dk_79 (dk_at dksX5_capsule_5 17 rfl rfl)
theorem dX5_capsule_136 : decode cX5_capsule 136 = .ok (.iinc 5 (-1), 3) := dk_132 5 255 (dk_at dksX5_capsule_5 18 rfl rfl)
theorem dX5_capsule_139 : decode cX5_capsule 139 = .ok (.goto (-54), 3) := dk_167 255 202 (dk_at dksX5_capsule_5 21 rfl rfl)
theorem dX5_capsule_142 : decode cX5_capsule 142 = .ok (.aload_n 0, 1) := dk_42 (dk_at dksX5_capsule_6 0 rfl rfl)
theorem dX5_capsule_143 : decode cX5_capsule 143 = .ok (.getfield 196, 3) := dk_180 0 196 (dk_at dksX5_capsule_6 1 rfl rfl)
theorem dX5_capsule_146 : decode cX5_capsule 146 = .ok (.iload 5, 2) := dk_21 5 (dk_at dksX5_capsule_6 4 rfl rfl)
theorem dX5_capsule_148 : decode cX5_capsule 148 = .ok (.iload_n 3, 1) := dk_29 (dk_at dksX5_capsule_6 6 rfl rfl)
theorem dX5_capsule_149 : decode cX5_capsule 149 = .ok (.iastore, 1) := dk_79 (dk_at dksX5_capsule_6 7 rfl rfl)
theorem dX5_capsule_150 : decode cX5_capsule 150 = .ok (.aload_n 0, 1) := dk_42 (dk_at dksX5_capsule_6 8 rfl rfl)
theorem dX5_capsule_151 : decode cX5_capsule 151 = .ok (.getfield 199, 3) := dk_180 0 199 (dk_at dksX5_capsule_6 9 rfl rfl)
theorem dX5_capsule_154 : decode cX5_capsule 154 = .ok (.iload 5, 2) := dk_21 5 (dk_at dksX5_capsule_6 12 rfl rfl)
theorem dX5_capsule_156 : decode cX5_capsule 156 = .ok (.iload 4, 2) := dk_21 4 (dk_at dksX5_capsule_6 14 rfl rfl)
theorem dX5_capsule_158 : decode cX5_capsule 158 = .ok (.iastore, 1) := dk_79 (dk_at dksX5_capsule_6 16 rfl rfl)
theorem dX5_capsule_159 : decode cX5_capsule 159 = .ok (.iinc 2 1, 3) := dk_132 2 1 (dk_at dksX5_capsule_6 17 rfl rfl)
theorem dX5_capsule_162 : decode cX5_capsule 162 = .ok (.iinc 3 1, 3) := dk_132 3 1 (dk_at dksX5_capsule_6 20 rfl rfl)
theorem dX5_capsule_165 : decode cX5_capsule 165 = .ok (.goto (-112), 3) := dk_167 255 144 (dk_at dksX5_capsule_7 0 rfl rfl)
theorem dX5_capsule_168 : decode cX5_capsule 168 = .ok (.iconst 0, 1) := dk_3 (dk_at dksX5_capsule_7 3 rfl rfl)
theorem dX5_capsule_169 : decode cX5_capsule 169 = .ok (.istore_n 3, 1) := dk_62 (dk_at dksX5_capsule_7 4 rfl rfl)
theorem dX5_capsule_170 : decode cX5_capsule 170 = .ok (.iload_n 3, 1) := dk_29 (dk_at dksX5_capsule_7 5 rfl rfl)
theorem dX5_capsule_171 : decode cX5_capsule 171 = .ok (.iload_n 2, 1) := dk_28 (dk_at dksX5_capsule_7 6 rfl rfl)
theorem dX5_capsule_172 : decode cX5_capsule 172 = .ok (.if_icmp .ge 35, 3) := dk_162 0 35 (dk_at dksX5_capsule_7 7 rfl rfl)
theorem dX5_capsule_175 : decode cX5_capsule 175 = .ok (.aload_n 0, 1) := dk_42 (dk_at dksX5_capsule_7 10 rfl rfl)
theorem dX5_capsule_176 : decode cX5_capsule 176 = .ok (.getfield 202, 3) := dk_180 0 202 (dk_at dksX5_capsule_7 11 rfl rfl)
theorem dX5_capsule_179 : decode cX5_capsule 179 = .ok (.iload_n 3, 1) := dk_29 (dk_at dksX5_capsule_7 14 rfl rfl)
theorem dX5_capsule_180 : decode cX5_capsule 180 = .ok (.aload_n 0, 1) := dk_42 (dk_at dksX5_capsule_7 15 rfl rfl)
theorem dX5_capsule_181 : decode cX5_capsule 181 = .ok (.getfield 281, 3) := dk_180 1 25 (dk_at dksX5_capsule_7 16 rfl rfl)
theorem dX5_capsule_184 : decode cX5_capsule 184 = .ok (.iload_n 3, 1) := dk_29 (dk_at dksX5_capsule_7 19 rfl rfl)
theorem dX5_capsule_185 : decode cX5_capsule 185 = .ok (.iconst 1, 1) := dk_4 (dk_at dksX5_capsule_7 20 rfl rfl)
theorem dX5_capsule_186 : decode cX5_capsule 186 = .ok (.iadd, 1) := dk_96 (dk_at dksX5_capsule_7 21 rfl rfl)
theorem dX5_capsule_187 : decode cX5_capsule 187 = .ok (.iconst 1, 1) := dk_4 (dk_at dksX5_capsule_7 22 rfl rfl)
theorem dX5_capsule_188 : decode cX5_capsule 188 = .ok (.aload_n 0, 1) := dk_42 (dk_at dksX5_capsule_7 23 rfl rfl)
theorem dX5_capsule_189 : decode cX5_capsule 189 = .ok (.getfield 32, 3) := dk_180 0 32 (dk_at dksX5_capsule_8 0 rfl rfl)
theorem dX5_capsule_192 : decode cX5_capsule 192 = .ok (.iload_n 1, 1) := dk_27 (dk_at dksX5_capsule_8 3 rfl rfl)
theorem dX5_capsule_193 : decode cX5_capsule 193 = .ok (.iaload, 1) := dk_46 (dk_at dksX5_capsule_8 4 rfl rfl)
theorem dX5_capsule_194 : decode cX5_capsule 194 = .ok (.bipush 20, 2) := dk_16 20 (dk_at dksX5_capsule_8 5 rfl rfl)
theorem dX5_capsule_196 : decode cX5_capsule 196 = .ok (.idiv, 1) := dk_108 (dk_at dksX5_capsule_8 7 rfl rfl)
theorem dX5_capsule_197 : decode cX5_capsule 197 = .ok (.iadd, 1) := dk_96 (dk_at dksX5_capsule_8 8 rfl rfl)
theorem dX5_capsule_198 : decode cX5_capsule 198 = .ok (.imul, 1) := dk_104 (dk_at dksX5_capsule_8 9 rfl rfl)
theorem dX5_capsule_199 : decode cX5_capsule 199 = .ok (.iadd, 1) := dk_96 (dk_at dksX5_capsule_8 10 rfl rfl)
theorem dX5_capsule_200 : decode cX5_capsule 200 = .ok (.iastore, 1) := dk_79 (dk_at dksX5_capsule_8 11 rfl rfl)
theorem dX5_capsule_201 : decode cX5_capsule 201 = .ok (.iinc 3 1, 3) := dk_132 3 1 (dk_at dksX5_capsule_8 12 rfl rfl)
theorem dX5_capsule_204 : decode cX5_capsule 204 = .ok (.goto (-34), 3) := dk_167 255 222 (dk_at dksX5_capsule_8 15 rfl rfl)
theorem dX5_capsule_207 : decode cX5_capsule 207 = .ok (.aload_n 0, 1) := dk_42 (dk_at dksX5_capsule_8 18 rfl rfl)
theorem dX5_capsule_208 : decode cX5_capsule 208 = .ok (.iload_n 2, 1) := dk_28 (dk_at dksX5_capsule_8 19 rfl rfl)
theorem dX5_capsule_209 : decode cX5_capsule 209 = .ok (.putfield 193, 3) := dk_181 0 193 (dk_at dksX5_capsule_8 20 rfl rfl)
theorem dX5_capsule_212 : decode cX5_capsule 212 = .ok (.aload_n 0, 1) := dk_42 (dk_at dksX5_capsule_8 23 rfl rfl)
theorem dX5_capsule_213 : decode cX5_capsule 213 = .ok (.aload_n 0, 1) := dk_42 (dk_at dksX5_capsule_9 0 rfl rfl)
theorem dX5_capsule_214 : decode cX5_capsule 214 = .ok (.getfield 281, 3) := dk_180 1 25 (dk_at dksX5_capsule_9 1 rfl rfl)
theorem dX5_capsule_217 : decode cX5_capsule 217 = .ok (.putfield 450, 3) := dk_181 1 194 (dk_at dksX5_capsule_9 4 rfl rfl)
theorem dX5_capsule_220 : decode cX5_capsule 220 = .ok (.aload_n 0, 1) := dk_42 (dk_at dksX5_capsule_9 7 rfl rfl)
theorem dX5_capsule_221 : decode cX5_capsule 221 = .ok (.getfield 202, 3) := dk_180 0 202 (dk_at dksX5_capsule_9 8 rfl rfl)
theorem dX5_capsule_224 : decode cX5_capsule 224 = .ok (.iload_n 2, 1) := dk_28 (dk_at dksX5_capsule_9 11 rfl rfl)
theorem dX5_capsule_225 : decode cX5_capsule 225 = .ok (.iconst 1, 1) := dk_4 (dk_at dksX5_capsule_9 12 rfl rfl)
theorem dX5_capsule_226 : decode cX5_capsule 226 = .ok (.isub, 1) := dk_100 (dk_at dksX5_capsule_9 13 rfl rfl)
theorem dX5_capsule_227 : decode cX5_capsule 227 = .ok (.iaload, 1) := dk_46 (dk_at dksX5_capsule_9 14 rfl rfl)
theorem dX5_capsule_228 : decode cX5_capsule 228 = .ok (.ireturn, 1) := dk_172 (dk_at dksX5_capsule_9 15 rfl rfl)
abbrev cX5_up : ByteArray := prog_22_method_91_code
def yX5_up : MethodName := ⟨RX5, "up", "(II)I"⟩
def dkwX5_up_1 : List UInt8 := [167, 0, 22, 28, 154, 0, 12, 42, 180, 0, 196, 27, 46, 167, 0, 9, 42, 180, 0, 202, 27, 46, 172]
abbrev dktX5_up_1 : List UInt8 := dkwX5_up_1 ++ []
def dkwX5_up_0 : List UInt8 := [27, 3, 42, 180, 0, 193, 4, 100, 184, 0, 230, 153, 0, 12, 28, 3, 4, 184, 0, 230, 154, 0, 7, 2]
abbrev dktX5_up_0 : List UInt8 := dkwX5_up_0 ++ dktX5_up_1
theorem dksX5_up_0 : cX5_up.data.toList.drop 0 = dktX5_up_0 := by decide +kernel
theorem dksX5_up_1 : cX5_up.data.toList.drop 24 = dktX5_up_1 := dk_seg dksX5_up_0 24 rfl rfl
theorem dX5_up_0 : decode cX5_up 0 = .ok (.iload_n 1, 1) := dk_27 (dk_at dksX5_up_0 0 rfl rfl)
theorem dX5_up_1 : decode cX5_up 1 = .ok (.iconst 0, 1) := dk_3 (dk_at dksX5_up_0 1 rfl rfl)
theorem dX5_up_2 : decode cX5_up 2 = .ok (.aload_n 0, 1) := dk_42 (dk_at dksX5_up_0 2 rfl rfl)
theorem dX5_up_3 : decode cX5_up 3 = .ok (.getfield 193, 3) := dk_180 0 193 (dk_at dksX5_up_0 3 rfl rfl)
theorem dX5_up_6 : decode cX5_up 6 = .ok (.iconst 1, 1) := dk_4 (dk_at dksX5_up_0 6 rfl rfl)
theorem dX5_up_7 : decode cX5_up 7 = .ok (.isub, 1) := dk_100 (dk_at dksX5_up_0 7 rfl rfl)
theorem dX5_up_8 : decode cX5_up 8 = .ok (.invokestatic 230, 3) := dk_184 0 230 (dk_at dksX5_up_0 8 rfl rfl)
theorem dX5_up_11 : decode cX5_up 11 = .ok (.ifCond .eq 12, 3) := dk_153 0 12 (dk_at dksX5_up_0 11 rfl rfl)
theorem dX5_up_14 : decode cX5_up 14 = .ok (.iload_n 2, 1) := dk_28 (dk_at dksX5_up_0 14 rfl rfl)
theorem dX5_up_15 : decode cX5_up 15 = .ok (.iconst 0, 1) := dk_3 (dk_at dksX5_up_0 15 rfl rfl)
theorem dX5_up_16 : decode cX5_up 16 = .ok (.iconst 1, 1) := dk_4 (dk_at dksX5_up_0 16 rfl rfl)
theorem dX5_up_17 : decode cX5_up 17 = .ok (.invokestatic 230, 3) := dk_184 0 230 (dk_at dksX5_up_0 17 rfl rfl)
theorem dX5_up_20 : decode cX5_up 20 = .ok (.ifCond .ne 7, 3) := dk_154 0 7 (dk_at dksX5_up_0 20 rfl rfl)
theorem dX5_up_23 : decode cX5_up 23 = .ok (.iconst (-1), 1) := dk_2 (dk_at dksX5_up_0 23 rfl rfl)
theorem dX5_up_24 : decode cX5_up 24 = .ok (.goto 22, 3) := dk_167 0 22 (dk_at dksX5_up_1 0 rfl rfl)
theorem dX5_up_27 : decode cX5_up 27 = .ok (.iload_n 2, 1) := dk_28 (dk_at dksX5_up_1 3 rfl rfl)
theorem dX5_up_28 : decode cX5_up 28 = .ok (.ifCond .ne 12, 3) := dk_154 0 12 (dk_at dksX5_up_1 4 rfl rfl)
theorem dX5_up_31 : decode cX5_up 31 = .ok (.aload_n 0, 1) := dk_42 (dk_at dksX5_up_1 7 rfl rfl)
theorem dX5_up_32 : decode cX5_up 32 = .ok (.getfield 196, 3) := dk_180 0 196 (dk_at dksX5_up_1 8 rfl rfl)
theorem dX5_up_35 : decode cX5_up 35 = .ok (.iload_n 1, 1) := dk_27 (dk_at dksX5_up_1 11 rfl rfl)
theorem dX5_up_36 : decode cX5_up 36 = .ok (.iaload, 1) := dk_46 (dk_at dksX5_up_1 12 rfl rfl)
theorem dX5_up_37 : decode cX5_up 37 = .ok (.goto 9, 3) := dk_167 0 9 (dk_at dksX5_up_1 13 rfl rfl)
theorem dX5_up_40 : decode cX5_up 40 = .ok (.aload_n 0, 1) := dk_42 (dk_at dksX5_up_1 16 rfl rfl)
theorem dX5_up_41 : decode cX5_up 41 = .ok (.getfield 202, 3) := dk_180 0 202 (dk_at dksX5_up_1 17 rfl rfl)
theorem dX5_up_44 : decode cX5_up 44 = .ok (.iload_n 1, 1) := dk_27 (dk_at dksX5_up_1 20 rfl rfl)
theorem dX5_up_45 : decode cX5_up 45 = .ok (.iaload, 1) := dk_46 (dk_at dksX5_up_1 21 rfl rfl)
theorem dX5_up_46 : decode cX5_up 46 = .ok (.ireturn, 1) := dk_172 (dk_at dksX5_up_1 22 rfl rfl)
abbrev cX5_raise : ByteArray := prog_22_method_92_code
def yX5_raise : MethodName := ⟨RX5, "raise", "(I)I"⟩
def dkwX5_raise_3 : List UInt8 := [42, 180, 0, 196, 29, 46, 3, 84, 132, 2, 1, 132, 3, 1, 167, 255, 198, 28, 172]
abbrev dktX5_raise_3 : List UInt8 := dkwX5_raise_3 ++ []
def dkwX5_raise_2 : List UInt8 := [163, 0, 35, 42, 180, 0, 62, 42, 180, 0, 196, 29, 46, 51, 154, 0, 6, 167, 0, 18, 42, 180, 0, 62]
abbrev dktX5_raise_2 : List UInt8 := dkwX5_raise_2 ++ dktX5_raise_3
def dkwX5_raise_1 : List UInt8 := [61, 3, 62, 29, 42, 180, 0, 193, 162, 0, 56, 42, 180, 0, 202, 29, 46, 42, 180, 1, 194, 27, 96]
abbrev dktX5_raise_1 : List UInt8 := dkwX5_raise_1 ++ dktX5_raise_2
def dkwX5_raise_0 : List UInt8 := [27, 3, 17, 0, 199, 184, 0, 230, 154, 0, 5, 2, 172, 42, 180, 0, 193, 156, 0, 6, 16, 254, 172, 3]
abbrev dktX5_raise_0 : List UInt8 := dkwX5_raise_0 ++ dktX5_raise_1
theorem dksX5_raise_0 : cX5_raise.data.toList.drop 0 = dktX5_raise_0 := by decide +kernel
theorem dksX5_raise_1 : cX5_raise.data.toList.drop 24 = dktX5_raise_1 := dk_seg dksX5_raise_0 24 rfl rfl
theorem dksX5_raise_2 : cX5_raise.data.toList.drop 47 = dktX5_raise_2 := dk_seg dksX5_raise_1 23 rfl rfl
theorem dksX5_raise_3 : cX5_raise.data.toList.drop 71 = dktX5_raise_3 := dk_seg dksX5_raise_2 24 rfl rfl
theorem dX5_raise_0 : decode cX5_raise 0 = .ok (.iload_n 1, 1) := dk_27 (dk_at dksX5_raise_0 0 rfl rfl)
theorem dX5_raise_1 : decode cX5_raise 1 = .ok (.iconst 0, 1) := dk_3 (dk_at dksX5_raise_0 1 rfl rfl)
theorem dX5_raise_2 : decode cX5_raise 2 = .ok (.sipush 199, 3) := dk_17 0 199 (dk_at dksX5_raise_0 2 rfl rfl)
theorem dX5_raise_5 : decode cX5_raise 5 = .ok (.invokestatic 230, 3) := dk_184 0 230 (dk_at dksX5_raise_0 5 rfl rfl)
theorem dX5_raise_8 : decode cX5_raise 8 = .ok (.ifCond .ne 5, 3) := dk_154 0 5 (dk_at dksX5_raise_0 8 rfl rfl)
theorem dX5_raise_11 : decode cX5_raise 11 = .ok (.iconst (-1), 1) := dk_2 (dk_at dksX5_raise_0 11 rfl rfl)
theorem dX5_raise_12 : decode cX5_raise 12 = .ok (.ireturn, 1) := dk_172 (dk_at dksX5_raise_0 12 rfl rfl)
theorem dX5_raise_13 : decode cX5_raise 13 = .ok (.aload_n 0, 1) := dk_42 (dk_at dksX5_raise_0 13 rfl rfl)
theorem dX5_raise_14 : decode cX5_raise 14 = .ok (.getfield 193, 3) := dk_180 0 193 (dk_at dksX5_raise_0 14 rfl rfl)
theorem dX5_raise_17 : decode cX5_raise 17 = .ok (.ifCond .ge 6, 3) := dk_156 0 6 (dk_at dksX5_raise_0 17 rfl rfl)
theorem dX5_raise_20 : decode cX5_raise 20 = .ok (.bipush (-2), 2) := dk_16 254 (dk_at dksX5_raise_0 20 rfl rfl)
theorem dX5_raise_22 : decode cX5_raise 22 = .ok (.ireturn, 1) := dk_172 (dk_at dksX5_raise_0 22 rfl rfl)
theorem dX5_raise_23 : decode cX5_raise 23 = .ok (.iconst 0, 1) := dk_3 (dk_at dksX5_raise_0 23 rfl rfl)
theorem dX5_raise_24 : decode cX5_raise 24 = .ok (.istore_n 2, 1) := dk_61 (dk_at dksX5_raise_1 0 rfl rfl)
theorem dX5_raise_25 : decode cX5_raise 25 = .ok (.iconst 0, 1) := dk_3 (dk_at dksX5_raise_1 1 rfl rfl)
theorem dX5_raise_26 : decode cX5_raise 26 = .ok (.istore_n 3, 1) := dk_62 (dk_at dksX5_raise_1 2 rfl rfl)
theorem dX5_raise_27 : decode cX5_raise 27 = .ok (.iload_n 3, 1) := dk_29 (dk_at dksX5_raise_1 3 rfl rfl)
theorem dX5_raise_28 : decode cX5_raise 28 = .ok (.aload_n 0, 1) := dk_42 (dk_at dksX5_raise_1 4 rfl rfl)
theorem dX5_raise_29 : decode cX5_raise 29 = .ok (.getfield 193, 3) := dk_180 0 193 (dk_at dksX5_raise_1 5 rfl rfl)
theorem dX5_raise_32 : decode cX5_raise 32 = .ok (.if_icmp .ge 56, 3) := dk_162 0 56 (dk_at dksX5_raise_1 8 rfl rfl)
theorem dX5_raise_35 : decode cX5_raise 35 = .ok (.aload_n 0, 1) := dk_42 (dk_at dksX5_raise_1 11 rfl rfl)
theorem dX5_raise_36 : decode cX5_raise 36 = .ok (.getfield 202, 3) := dk_180 0 202 (dk_at dksX5_raise_1 12 rfl rfl)
theorem dX5_raise_39 : decode cX5_raise 39 = .ok (.iload_n 3, 1) := dk_29 (dk_at dksX5_raise_1 15 rfl rfl)
theorem dX5_raise_40 : decode cX5_raise 40 = .ok (.iaload, 1) := dk_46 (dk_at dksX5_raise_1 16 rfl rfl)
theorem dX5_raise_41 : decode cX5_raise 41 = .ok (.aload_n 0, 1) := dk_42 (dk_at dksX5_raise_1 17 rfl rfl)
theorem dX5_raise_42 : decode cX5_raise 42 = .ok (.getfield 450, 3) := dk_180 1 194 (dk_at dksX5_raise_1 18 rfl rfl)
theorem dX5_raise_45 : decode cX5_raise 45 = .ok (.iload_n 1, 1) := dk_27 (dk_at dksX5_raise_1 21 rfl rfl)
theorem dX5_raise_46 : decode cX5_raise 46 = .ok (.iadd, 1) := dk_96 (dk_at dksX5_raise_1 22 rfl rfl)
theorem dX5_raise_47 : decode cX5_raise 47 = .ok (.if_icmp .gt 35, 3) := dk_163 0 35 (dk_at dksX5_raise_2 0 rfl rfl)
theorem dX5_raise_50 : decode cX5_raise 50 = .ok (.aload_n 0, 1) := dk_42 (dk_at dksX5_raise_2 3 rfl rfl)
theorem dX5_raise_51 : decode cX5_raise 51 = .ok (.getfield 62, 3) := dk_180 0 62 (dk_at dksX5_raise_2 4 rfl rfl)
theorem dX5_raise_54 : decode cX5_raise 54 = .ok (.aload_n 0, 1) := dk_42 (dk_at dksX5_raise_2 7 rfl rfl)
theorem dX5_raise_55 : decode cX5_raise 55 = .ok (.getfield 196, 3) := dk_180 0 196 (dk_at dksX5_raise_2 8 rfl rfl)
theorem dX5_raise_58 : decode cX5_raise 58 = .ok (.iload_n 3, 1) := dk_29 (dk_at dksX5_raise_2 11 rfl rfl)
theorem dX5_raise_59 : decode cX5_raise 59 = .ok (.iaload, 1) := dk_46 (dk_at dksX5_raise_2 12 rfl rfl)
theorem dX5_raise_60 : decode cX5_raise 60 = .ok (.baload, 1) := dk_51 (dk_at dksX5_raise_2 13 rfl rfl)
theorem dX5_raise_61 : decode cX5_raise 61 = .ok (.ifCond .ne 6, 3) := dk_154 0 6 (dk_at dksX5_raise_2 14 rfl rfl)
theorem dX5_raise_64 : decode cX5_raise 64 = .ok (.goto 18, 3) := dk_167 0 18 (dk_at dksX5_raise_2 17 rfl rfl)
theorem dX5_raise_67 : decode cX5_raise 67 = .ok (.aload_n 0, 1) := dk_42 (dk_at dksX5_raise_2 20 rfl rfl)
theorem dX5_raise_68 : decode cX5_raise 68 = .ok (.getfield 62, 3) := dk_180 0 62 (dk_at dksX5_raise_2 21 rfl rfl)
theorem dX5_raise_71 : decode cX5_raise 71 = .ok (.aload_n 0, 1) := dk_42 (dk_at dksX5_raise_3 0 rfl rfl)
theorem dX5_raise_72 : decode cX5_raise 72 = .ok (.getfield 196, 3) := dk_180 0 196 (dk_at dksX5_raise_3 1 rfl rfl)
theorem dX5_raise_75 : decode cX5_raise 75 = .ok (.iload_n 3, 1) := dk_29 (dk_at dksX5_raise_3 4 rfl rfl)
theorem dX5_raise_76 : decode cX5_raise 76 = .ok (.iaload, 1) := dk_46 (dk_at dksX5_raise_3 5 rfl rfl)
theorem dX5_raise_77 : decode cX5_raise 77 = .ok (.iconst 0, 1) := dk_3 (dk_at dksX5_raise_3 6 rfl rfl)
theorem dX5_raise_78 : decode cX5_raise 78 = .ok (.bastore, 1) := dk_84 (dk_at dksX5_raise_3 7 rfl rfl)
theorem dX5_raise_79 : decode cX5_raise 79 = .ok (.iinc 2 1, 3) := dk_132 2 1 (dk_at dksX5_raise_3 8 rfl rfl)
theorem dX5_raise_82 : decode cX5_raise 82 = .ok (.iinc 3 1, 3) := dk_132 3 1 (dk_at dksX5_raise_3 11 rfl rfl)
theorem dX5_raise_85 : decode cX5_raise 85 = .ok (.goto (-58), 3) := dk_167 255 198 (dk_at dksX5_raise_3 14 rfl rfl)
theorem dX5_raise_88 : decode cX5_raise 88 = .ok (.iload_n 2, 1) := dk_28 (dk_at dksX5_raise_3 17 rfl rfl)
theorem dX5_raise_89 : decode cX5_raise 89 = .ok (.ireturn, 1) := dk_172 (dk_at dksX5_raise_3 18 rfl rfl)
abbrev cX5_act : ByteArray := prog_22_method_104_code
def yX5_act : MethodName := ⟨RX5, "act", "(III)I"⟩
def dkwX5_act_2 : List UInt8 := [167, 0, 23, 28, 5, 160, 0, 12, 42, 27, 29, 182, 1, 225, 167, 0, 9, 42, 27, 29, 182, 1, 231, 172]
abbrev dktX5_act_2 : List UInt8 := dkwX5_act_2 ++ []
def dkwX5_act_1 : List UInt8 := [28, 154, 0, 12, 42, 27, 29, 182, 1, 213, 167, 0, 37, 28, 4, 160, 0, 12, 42, 27, 29, 182, 1, 222]
abbrev dktX5_act_1 : List UInt8 := dkwX5_act_1 ++ dktX5_act_2
def dkwX5_act_0 : List UInt8 := [42, 3, 181, 1, 197, 42, 27, 182, 0, 245, 153, 0, 12, 28, 3, 6, 184, 0, 230, 154, 0, 5, 3, 172]
abbrev dktX5_act_0 : List UInt8 := dkwX5_act_0 ++ dktX5_act_1
theorem dksX5_act_0 : cX5_act.data.toList.drop 0 = dktX5_act_0 := by decide +kernel
theorem dksX5_act_1 : cX5_act.data.toList.drop 24 = dktX5_act_1 := dk_seg dksX5_act_0 24 rfl rfl
theorem dksX5_act_2 : cX5_act.data.toList.drop 48 = dktX5_act_2 := dk_seg dksX5_act_1 24 rfl rfl
theorem dX5_act_0 : decode cX5_act 0 = .ok (.aload_n 0, 1) := dk_42 (dk_at dksX5_act_0 0 rfl rfl)
theorem dX5_act_1 : decode cX5_act 1 = .ok (.iconst 0, 1) := dk_3 (dk_at dksX5_act_0 1 rfl rfl)
theorem dX5_act_2 : decode cX5_act 2 = .ok (.putfield 453, 3) := dk_181 1 197 (dk_at dksX5_act_0 2 rfl rfl)
theorem dX5_act_5 : decode cX5_act 5 = .ok (.aload_n 0, 1) := dk_42 (dk_at dksX5_act_0 5 rfl rfl)
theorem dX5_act_6 : decode cX5_act 6 = .ok (.iload_n 1, 1) := dk_27 (dk_at dksX5_act_0 6 rfl rfl)
theorem dX5_act_7 : decode cX5_act 7 = .ok (.invokevirtual 245, 3) := dk_182 0 245 (dk_at dksX5_act_0 7 rfl rfl)
theorem dX5_act_10 : decode cX5_act 10 = .ok (.ifCond .eq 12, 3) := dk_153 0 12 (dk_at dksX5_act_0 10 rfl rfl)
theorem dX5_act_13 : decode cX5_act 13 = .ok (.iload_n 2, 1) := dk_28 (dk_at dksX5_act_0 13 rfl rfl)
theorem dX5_act_14 : decode cX5_act 14 = .ok (.iconst 0, 1) := dk_3 (dk_at dksX5_act_0 14 rfl rfl)
theorem dX5_act_15 : decode cX5_act 15 = .ok (.iconst 3, 1) := dk_6 (dk_at dksX5_act_0 15 rfl rfl)
theorem dX5_act_16 : decode cX5_act 16 = .ok (.invokestatic 230, 3) := dk_184 0 230 (dk_at dksX5_act_0 16 rfl rfl)
theorem dX5_act_19 : decode cX5_act 19 = .ok (.ifCond .ne 5, 3) := dk_154 0 5 (dk_at dksX5_act_0 19 rfl rfl)
theorem dX5_act_22 : decode cX5_act 22 = .ok (.iconst 0, 1) := dk_3 (dk_at dksX5_act_0 22 rfl rfl)
theorem dX5_act_23 : decode cX5_act 23 = .ok (.ireturn, 1) := dk_172 (dk_at dksX5_act_0 23 rfl rfl)
theorem dX5_act_24 : decode cX5_act 24 = .ok (.iload_n 2, 1) := dk_28 (dk_at dksX5_act_1 0 rfl rfl)
theorem dX5_act_25 : decode cX5_act 25 = .ok (.ifCond .ne 12, 3) := dk_154 0 12 (dk_at dksX5_act_1 1 rfl rfl)
theorem dX5_act_28 : decode cX5_act 28 = .ok (.aload_n 0, 1) := dk_42 (dk_at dksX5_act_1 4 rfl rfl)
theorem dX5_act_29 : decode cX5_act 29 = .ok (.iload_n 1, 1) := dk_27 (dk_at dksX5_act_1 5 rfl rfl)
theorem dX5_act_30 : decode cX5_act 30 = .ok (.iload_n 3, 1) := dk_29 (dk_at dksX5_act_1 6 rfl rfl)
theorem dX5_act_31 : decode cX5_act 31 = .ok (.invokevirtual 469, 3) := dk_182 1 213 (dk_at dksX5_act_1 7 rfl rfl)
theorem dX5_act_34 : decode cX5_act 34 = .ok (.goto 37, 3) := dk_167 0 37 (dk_at dksX5_act_1 10 rfl rfl)
theorem dX5_act_37 : decode cX5_act 37 = .ok (.iload_n 2, 1) := dk_28 (dk_at dksX5_act_1 13 rfl rfl)
theorem dX5_act_38 : decode cX5_act 38 = .ok (.iconst 1, 1) := dk_4 (dk_at dksX5_act_1 14 rfl rfl)
theorem dX5_act_39 : decode cX5_act 39 = .ok (.if_icmp .ne 12, 3) := dk_160 0 12 (dk_at dksX5_act_1 15 rfl rfl)
theorem dX5_act_42 : decode cX5_act 42 = .ok (.aload_n 0, 1) := dk_42 (dk_at dksX5_act_1 18 rfl rfl)
theorem dX5_act_43 : decode cX5_act 43 = .ok (.iload_n 1, 1) := dk_27 (dk_at dksX5_act_1 19 rfl rfl)
theorem dX5_act_44 : decode cX5_act 44 = .ok (.iload_n 3, 1) := dk_29 (dk_at dksX5_act_1 20 rfl rfl)
theorem dX5_act_45 : decode cX5_act 45 = .ok (.invokevirtual 478, 3) := dk_182 1 222 (dk_at dksX5_act_1 21 rfl rfl)
theorem dX5_act_48 : decode cX5_act 48 = .ok (.goto 23, 3) := dk_167 0 23 (dk_at dksX5_act_2 0 rfl rfl)
theorem dX5_act_51 : decode cX5_act 51 = .ok (.iload_n 2, 1) := dk_28 (dk_at dksX5_act_2 3 rfl rfl)
theorem dX5_act_52 : decode cX5_act 52 = .ok (.iconst 2, 1) := dk_5 (dk_at dksX5_act_2 4 rfl rfl)
theorem dX5_act_53 : decode cX5_act 53 = .ok (.if_icmp .ne 12, 3) := dk_160 0 12 (dk_at dksX5_act_2 5 rfl rfl)
theorem dX5_act_56 : decode cX5_act 56 = .ok (.aload_n 0, 1) := dk_42 (dk_at dksX5_act_2 8 rfl rfl)
theorem dX5_act_57 : decode cX5_act 57 = .ok (.iload_n 1, 1) := dk_27 (dk_at dksX5_act_2 9 rfl rfl)
theorem dX5_act_58 : decode cX5_act 58 = .ok (.iload_n 3, 1) := dk_29 (dk_at dksX5_act_2 10 rfl rfl)
theorem dX5_act_59 : decode cX5_act 59 = .ok (.invokevirtual 481, 3) := dk_182 1 225 (dk_at dksX5_act_2 11 rfl rfl)
theorem dX5_act_62 : decode cX5_act 62 = .ok (.goto 9, 3) := dk_167 0 9 (dk_at dksX5_act_2 14 rfl rfl)
theorem dX5_act_65 : decode cX5_act 65 = .ok (.aload_n 0, 1) := dk_42 (dk_at dksX5_act_2 17 rfl rfl)
theorem dX5_act_66 : decode cX5_act 66 = .ok (.iload_n 1, 1) := dk_27 (dk_at dksX5_act_2 18 rfl rfl)
theorem dX5_act_67 : decode cX5_act 67 = .ok (.iload_n 3, 1) := dk_29 (dk_at dksX5_act_2 19 rfl rfl)
theorem dX5_act_68 : decode cX5_act 68 = .ok (.invokevirtual 487, 3) := dk_182 1 231 (dk_at dksX5_act_2 20 rfl rfl)
theorem dX5_act_71 : decode cX5_act 71 = .ok (.ireturn, 1) := dk_172 (dk_at dksX5_act_2 23 rfl rfl)
abbrev cX5_bores : ByteArray := prog_22_method_97_code
def yX5_bores : MethodName := ⟨RX5, "bores", "(II)I"⟩
def dkwX5_bores_2 : List UInt8 := [46, 4, 184, 0, 248, 153, 0, 12, 42, 27, 28, 182, 1, 207, 167, 0, 9, 42, 27, 28, 182, 1, 204, 172]
abbrev dktX5_bores_2 : List UInt8 := dkwX5_bores_2 ++ []
def dkwX5_bores_1 : List UInt8 := [130, 172, 42, 180, 0, 17, 27, 46, 7, 160, 0, 10, 42, 27, 28, 182, 1, 210, 172, 42, 180, 0, 17, 27]
abbrev dktX5_bores_1 : List UInt8 := dkwX5_bores_1 ++ dktX5_bores_2
def dkwX5_bores_0 : List UInt8 := [42, 180, 0, 17, 27, 46, 8, 160, 0, 19, 42, 16, 61, 182, 1, 200, 42, 27, 28, 182, 1, 210, 16, 7]
abbrev dktX5_bores_0 : List UInt8 := dkwX5_bores_0 ++ dktX5_bores_1
theorem dksX5_bores_0 : cX5_bores.data.toList.drop 0 = dktX5_bores_0 := by decide +kernel
theorem dksX5_bores_1 : cX5_bores.data.toList.drop 24 = dktX5_bores_1 := dk_seg dksX5_bores_0 24 rfl rfl
theorem dksX5_bores_2 : cX5_bores.data.toList.drop 48 = dktX5_bores_2 := dk_seg dksX5_bores_1 24 rfl rfl
theorem dX5_bores_0 : decode cX5_bores 0 = .ok (.aload_n 0, 1) := dk_42 (dk_at dksX5_bores_0 0 rfl rfl)
theorem dX5_bores_1 : decode cX5_bores 1 = .ok (.getfield 17, 3) := dk_180 0 17 (dk_at dksX5_bores_0 1 rfl rfl)
theorem dX5_bores_4 : decode cX5_bores 4 = .ok (.iload_n 1, 1) := dk_27 (dk_at dksX5_bores_0 4 rfl rfl)
theorem dX5_bores_5 : decode cX5_bores 5 = .ok (.iaload, 1) := dk_46 (dk_at dksX5_bores_0 5 rfl rfl)
theorem dX5_bores_6 : decode cX5_bores 6 = .ok (.iconst 5, 1) := dk_8 (dk_at dksX5_bores_0 6 rfl rfl)
theorem dX5_bores_7 : decode cX5_bores 7 = .ok (.if_icmp .ne 19, 3) := dk_160 0 19 (dk_at dksX5_bores_0 7 rfl rfl)
theorem dX5_bores_10 : decode cX5_bores 10 = .ok (.aload_n 0, 1) := dk_42 (dk_at dksX5_bores_0 10 rfl rfl)
theorem dX5_bores_11 : decode cX5_bores 11 = .ok (.bipush 61, 2) := dk_16 61 (dk_at dksX5_bores_0 11 rfl rfl)
theorem dX5_bores_13 : decode cX5_bores 13 = .ok (.invokevirtual 456, 3) := dk_182 1 200 (dk_at dksX5_bores_0 13 rfl rfl)
theorem dX5_bores_16 : decode cX5_bores 16 = .ok (.aload_n 0, 1) := dk_42 (dk_at dksX5_bores_0 16 rfl rfl)
theorem dX5_bores_17 : decode cX5_bores 17 = .ok (.iload_n 1, 1) := dk_27 (dk_at dksX5_bores_0 17 rfl rfl)
theorem dX5_bores_18 : decode cX5_bores 18 = .ok (.iload_n 2, 1) := dk_28 (dk_at dksX5_bores_0 18 rfl rfl)
theorem dX5_bores_19 : decode cX5_bores 19 = .ok (.invokevirtual 466, 3) := dk_182 1 210 (dk_at dksX5_bores_0 19 rfl rfl)
theorem dX5_bores_22 : decode cX5_bores 22 = .ok (.bipush 7, 2) := dk_16 7 (dk_at dksX5_bores_0 22 rfl rfl)
theorem dX5_bores_24 : decode cX5_bores 24 = .ok (.ixor, 1) := dk_130 (dk_at dksX5_bores_1 0 rfl rfl)
theorem dX5_bores_25 : decode cX5_bores 25 = .ok (.ireturn, 1) := dk_172 (dk_at dksX5_bores_1 1 rfl rfl)
theorem dX5_bores_26 : decode cX5_bores 26 = .ok (.aload_n 0, 1) := dk_42 (dk_at dksX5_bores_1 2 rfl rfl)
theorem dX5_bores_27 : decode cX5_bores 27 = .ok (.getfield 17, 3) := dk_180 0 17 (dk_at dksX5_bores_1 3 rfl rfl)
theorem dX5_bores_30 : decode cX5_bores 30 = .ok (.iload_n 1, 1) := dk_27 (dk_at dksX5_bores_1 6 rfl rfl)
theorem dX5_bores_31 : decode cX5_bores 31 = .ok (.iaload, 1) := dk_46 (dk_at dksX5_bores_1 7 rfl rfl)
theorem dX5_bores_32 : decode cX5_bores 32 = .ok (.iconst 4, 1) := dk_7 (dk_at dksX5_bores_1 8 rfl rfl)
theorem dX5_bores_33 : decode cX5_bores 33 = .ok (.if_icmp .ne 10, 3) := dk_160 0 10 (dk_at dksX5_bores_1 9 rfl rfl)
theorem dX5_bores_36 : decode cX5_bores 36 = .ok (.aload_n 0, 1) := dk_42 (dk_at dksX5_bores_1 12 rfl rfl)
theorem dX5_bores_37 : decode cX5_bores 37 = .ok (.iload_n 1, 1) := dk_27 (dk_at dksX5_bores_1 13 rfl rfl)
theorem dX5_bores_38 : decode cX5_bores 38 = .ok (.iload_n 2, 1) := dk_28 (dk_at dksX5_bores_1 14 rfl rfl)
theorem dX5_bores_39 : decode cX5_bores 39 = .ok (.invokevirtual 466, 3) := dk_182 1 210 (dk_at dksX5_bores_1 15 rfl rfl)
theorem dX5_bores_42 : decode cX5_bores 42 = .ok (.ireturn, 1) := dk_172 (dk_at dksX5_bores_1 18 rfl rfl)
theorem dX5_bores_43 : decode cX5_bores 43 = .ok (.aload_n 0, 1) := dk_42 (dk_at dksX5_bores_1 19 rfl rfl)
theorem dX5_bores_44 : decode cX5_bores 44 = .ok (.getfield 17, 3) := dk_180 0 17 (dk_at dksX5_bores_1 20 rfl rfl)
theorem dX5_bores_47 : decode cX5_bores 47 = .ok (.iload_n 1, 1) := dk_27 (dk_at dksX5_bores_1 23 rfl rfl)
theorem dX5_bores_48 : decode cX5_bores 48 = .ok (.iaload, 1) := dk_46 (dk_at dksX5_bores_2 0 rfl rfl)
theorem dX5_bores_49 : decode cX5_bores 49 = .ok (.iconst 1, 1) := dk_4 (dk_at dksX5_bores_2 1 rfl rfl)
theorem dX5_bores_50 : decode cX5_bores 50 = .ok (.invokestatic 248, 3) := dk_184 0 248 (dk_at dksX5_bores_2 2 rfl rfl)
theorem dX5_bores_53 : decode cX5_bores 53 = .ok (.ifCond .eq 12, 3) := dk_153 0 12 (dk_at dksX5_bores_2 5 rfl rfl)
theorem dX5_bores_56 : decode cX5_bores 56 = .ok (.aload_n 0, 1) := dk_42 (dk_at dksX5_bores_2 8 rfl rfl)
theorem dX5_bores_57 : decode cX5_bores 57 = .ok (.iload_n 1, 1) := dk_27 (dk_at dksX5_bores_2 9 rfl rfl)
theorem dX5_bores_58 : decode cX5_bores 58 = .ok (.iload_n 2, 1) := dk_28 (dk_at dksX5_bores_2 10 rfl rfl)
theorem dX5_bores_59 : decode cX5_bores 59 = .ok (.invokevirtual 463, 3) := dk_182 1 207 (dk_at dksX5_bores_2 11 rfl rfl)
theorem dX5_bores_62 : decode cX5_bores 62 = .ok (.goto 9, 3) := dk_167 0 9 (dk_at dksX5_bores_2 14 rfl rfl)
theorem dX5_bores_65 : decode cX5_bores 65 = .ok (.aload_n 0, 1) := dk_42 (dk_at dksX5_bores_2 17 rfl rfl)
theorem dX5_bores_66 : decode cX5_bores 66 = .ok (.iload_n 1, 1) := dk_27 (dk_at dksX5_bores_2 18 rfl rfl)
theorem dX5_bores_67 : decode cX5_bores 67 = .ok (.iload_n 2, 1) := dk_28 (dk_at dksX5_bores_2 19 rfl rfl)
theorem dX5_bores_68 : decode cX5_bores 68 = .ok (.invokevirtual 460, 3) := dk_182 1 204 (dk_at dksX5_bores_2 20 rfl rfl)
theorem dX5_bores_71 : decode cX5_bores 71 = .ok (.ireturn, 1) := dk_172 (dk_at dksX5_bores_2 23 rfl rfl)
abbrev cX5_ran : ByteArray := prog_22_method_93_code
def yX5_ran : MethodName := ⟨RX5, "ran", "(I)V"⟩
def dkwX5_ran_1 : List UInt8 := [4, 96, 181, 1, 197, 177]
abbrev dktX5_ran_1 : List UInt8 := dkwX5_ran_1 ++ []
def dkwX5_ran_0 : List UInt8 := [42, 180, 1, 197, 16, 24, 162, 0, 13, 42, 180, 0, 205, 42, 180, 1, 197, 27, 79, 42, 89, 180, 1, 197]
abbrev dktX5_ran_0 : List UInt8 := dkwX5_ran_0 ++ dktX5_ran_1
theorem dksX5_ran_0 : cX5_ran.data.toList.drop 0 = dktX5_ran_0 := by decide +kernel
theorem dksX5_ran_1 : cX5_ran.data.toList.drop 24 = dktX5_ran_1 := dk_seg dksX5_ran_0 24 rfl rfl
theorem dX5_ran_0 : decode cX5_ran 0 = .ok (.aload_n 0, 1) := dk_42 (dk_at dksX5_ran_0 0 rfl rfl)
theorem dX5_ran_1 : decode cX5_ran 1 = .ok (.getfield 453, 3) := dk_180 1 197 (dk_at dksX5_ran_0 1 rfl rfl)
theorem dX5_ran_4 : decode cX5_ran 4 = .ok (.bipush 24, 2) := dk_16 24 (dk_at dksX5_ran_0 4 rfl rfl)
theorem dX5_ran_6 : decode cX5_ran 6 = .ok (.if_icmp .ge 13, 3) := dk_162 0 13 (dk_at dksX5_ran_0 6 rfl rfl)
theorem dX5_ran_9 : decode cX5_ran 9 = .ok (.aload_n 0, 1) := dk_42 (dk_at dksX5_ran_0 9 rfl rfl)
theorem dX5_ran_10 : decode cX5_ran 10 = .ok (.getfield 205, 3) := dk_180 0 205 (dk_at dksX5_ran_0 10 rfl rfl)
theorem dX5_ran_13 : decode cX5_ran 13 = .ok (.aload_n 0, 1) := dk_42 (dk_at dksX5_ran_0 13 rfl rfl)
theorem dX5_ran_14 : decode cX5_ran 14 = .ok (.getfield 453, 3) := dk_180 1 197 (dk_at dksX5_ran_0 14 rfl rfl)
theorem dX5_ran_17 : decode cX5_ran 17 = .ok (.iload_n 1, 1) := dk_27 (dk_at dksX5_ran_0 17 rfl rfl)
theorem dX5_ran_18 : decode cX5_ran 18 = .ok (.iastore, 1) := dk_79 (dk_at dksX5_ran_0 18 rfl rfl)
theorem dX5_ran_19 : decode cX5_ran 19 = .ok (.aload_n 0, 1) := dk_42 (dk_at dksX5_ran_0 19 rfl rfl)
theorem dX5_ran_20 : decode cX5_ran 20 = .ok (.dup, 1) := dk_89 (dk_at dksX5_ran_0 20 rfl rfl)
theorem dX5_ran_21 : decode cX5_ran 21 = .ok (.getfield 453, 3) := dk_180 1 197 (dk_at dksX5_ran_0 21 rfl rfl)
theorem dX5_ran_24 : decode cX5_ran 24 = .ok (.iconst 1, 1) := dk_4 (dk_at dksX5_ran_1 0 rfl rfl)
theorem dX5_ran_25 : decode cX5_ran 25 = .ok (.iadd, 1) := dk_96 (dk_at dksX5_ran_1 1 rfl rfl)
theorem dX5_ran_26 : decode cX5_ran 26 = .ok (.putfield 453, 3) := dk_181 1 197 (dk_at dksX5_ran_1 2 rfl rfl)
theorem dX5_ran_29 : decode cX5_ran 29 = .ok (.return_, 1) := dk_177 (dk_at dksX5_ran_1 5 rfl rfl)
abbrev cX5_shaftBores : ByteArray := prog_22_method_96_code
def yX5_shaftBores : MethodName := ⟨RX5, "shaftBores", "(II)I"⟩
def dkwX5_shaftBores_0 : List UInt8 := [42, 16, 50, 182, 1, 200, 42, 27, 28, 4, 96, 182, 1, 207, 172]
abbrev dktX5_shaftBores_0 : List UInt8 := dkwX5_shaftBores_0 ++ []
theorem dksX5_shaftBores_0 : cX5_shaftBores.data.toList.drop 0 = dktX5_shaftBores_0 := by decide +kernel
theorem dX5_shaftBores_0 : decode cX5_shaftBores 0 = .ok (.aload_n 0, 1) := dk_42 (dk_at dksX5_shaftBores_0 0 rfl rfl)
theorem dX5_shaftBores_1 : decode cX5_shaftBores 1 = .ok (.bipush 50, 2) := dk_16 50 (dk_at dksX5_shaftBores_0 1 rfl rfl)
theorem dX5_shaftBores_3 : decode cX5_shaftBores 3 = .ok (.invokevirtual 456, 3) := dk_182 1 200 (dk_at dksX5_shaftBores_0 3 rfl rfl)
theorem dX5_shaftBores_6 : decode cX5_shaftBores 6 = .ok (.aload_n 0, 1) := dk_42 (dk_at dksX5_shaftBores_0 6 rfl rfl)
theorem dX5_shaftBores_7 : decode cX5_shaftBores 7 = .ok (.iload_n 1, 1) := dk_27 (dk_at dksX5_shaftBores_0 7 rfl rfl)
theorem dX5_shaftBores_8 : decode cX5_shaftBores 8 = .ok (.iload_n 2, 1) := dk_28 (dk_at dksX5_shaftBores_0 8 rfl rfl)
theorem dX5_shaftBores_9 : decode cX5_shaftBores 9 = .ok (.iconst 1, 1) := dk_4 (dk_at dksX5_shaftBores_0 9 rfl rfl)
theorem dX5_shaftBores_10 : decode cX5_shaftBores 10 = .ok (.iadd, 1) := dk_96 (dk_at dksX5_shaftBores_0 10 rfl rfl)
theorem dX5_shaftBores_11 : decode cX5_shaftBores 11 = .ok (.invokevirtual 463, 3) := dk_182 1 207 (dk_at dksX5_shaftBores_0 11 rfl rfl)
theorem dX5_shaftBores_14 : decode cX5_shaftBores 14 = .ok (.ireturn, 1) := dk_172 (dk_at dksX5_shaftBores_0 14 rfl rfl)
abbrev cX5_wayBores : ByteArray := prog_22_method_95_code
def yX5_wayBores : MethodName := ⟨RX5, "wayBores", "(II)I"⟩
def dkwX5_wayBores_0 : List UInt8 := [42, 16, 20, 182, 1, 200, 42, 27, 28, 182, 1, 204, 5, 104, 172]
abbrev dktX5_wayBores_0 : List UInt8 := dkwX5_wayBores_0 ++ []
theorem dksX5_wayBores_0 : cX5_wayBores.data.toList.drop 0 = dktX5_wayBores_0 := by decide +kernel
theorem dX5_wayBores_0 : decode cX5_wayBores 0 = .ok (.aload_n 0, 1) := dk_42 (dk_at dksX5_wayBores_0 0 rfl rfl)
theorem dX5_wayBores_1 : decode cX5_wayBores 1 = .ok (.bipush 20, 2) := dk_16 20 (dk_at dksX5_wayBores_0 1 rfl rfl)
theorem dX5_wayBores_3 : decode cX5_wayBores 3 = .ok (.invokevirtual 456, 3) := dk_182 1 200 (dk_at dksX5_wayBores_0 3 rfl rfl)
theorem dX5_wayBores_6 : decode cX5_wayBores 6 = .ok (.aload_n 0, 1) := dk_42 (dk_at dksX5_wayBores_0 6 rfl rfl)
theorem dX5_wayBores_7 : decode cX5_wayBores 7 = .ok (.iload_n 1, 1) := dk_27 (dk_at dksX5_wayBores_0 7 rfl rfl)
theorem dX5_wayBores_8 : decode cX5_wayBores 8 = .ok (.iload_n 2, 1) := dk_28 (dk_at dksX5_wayBores_0 8 rfl rfl)
theorem dX5_wayBores_9 : decode cX5_wayBores 9 = .ok (.invokevirtual 460, 3) := dk_182 1 204 (dk_at dksX5_wayBores_0 9 rfl rfl)
theorem dX5_wayBores_12 : decode cX5_wayBores 12 = .ok (.iconst 2, 1) := dk_5 (dk_at dksX5_wayBores_0 12 rfl rfl)
theorem dX5_wayBores_13 : decode cX5_wayBores 13 = .ok (.imul, 1) := dk_104 (dk_at dksX5_wayBores_0 13 rfl rfl)
theorem dX5_wayBores_14 : decode cX5_wayBores 14 = .ok (.ireturn, 1) := dk_172 (dk_at dksX5_wayBores_0 14 rfl rfl)
abbrev cX5_plainBores : ByteArray := prog_22_method_94_code
def yX5_plainBores : MethodName := ⟨RX5, "plainBores", "(II)I"⟩
def dkwX5_plainBores_0 : List UInt8 := [42, 4, 182, 1, 200, 28, 27, 96, 172]
abbrev dktX5_plainBores_0 : List UInt8 := dkwX5_plainBores_0 ++ []
theorem dksX5_plainBores_0 : cX5_plainBores.data.toList.drop 0 = dktX5_plainBores_0 := by decide +kernel
theorem dX5_plainBores_0 : decode cX5_plainBores 0 = .ok (.aload_n 0, 1) := dk_42 (dk_at dksX5_plainBores_0 0 rfl rfl)
theorem dX5_plainBores_1 : decode cX5_plainBores 1 = .ok (.iconst 1, 1) := dk_4 (dk_at dksX5_plainBores_0 1 rfl rfl)
theorem dX5_plainBores_2 : decode cX5_plainBores 2 = .ok (.invokevirtual 456, 3) := dk_182 1 200 (dk_at dksX5_plainBores_0 2 rfl rfl)
theorem dX5_plainBores_5 : decode cX5_plainBores 5 = .ok (.iload_n 2, 1) := dk_28 (dk_at dksX5_plainBores_0 5 rfl rfl)
theorem dX5_plainBores_6 : decode cX5_plainBores 6 = .ok (.iload_n 1, 1) := dk_27 (dk_at dksX5_plainBores_0 6 rfl rfl)
theorem dX5_plainBores_7 : decode cX5_plainBores 7 = .ok (.iadd, 1) := dk_96 (dk_at dksX5_plainBores_0 7 rfl rfl)
theorem dX5_plainBores_8 : decode cX5_plainBores 8 = .ok (.ireturn, 1) := dk_172 (dk_at dksX5_plainBores_0 8 rfl rfl)
abbrev cX5_carries : ByteArray := prog_22_method_99_code
def yX5_carries : MethodName := ⟨RX5, "carries", "(II)I"⟩
def dkwX5_carries_3 : List UInt8 := [182, 1, 216, 172]
abbrev dktX5_carries_3 : List UInt8 := dkwX5_carries_3 ++ []
def dkwX5_carries_2 : List UInt8 := [16, 80, 182, 1, 200, 42, 27, 28, 182, 1, 216, 42, 180, 0, 53, 27, 46, 100, 172, 42, 27, 28]
abbrev dktX5_carries_2 : List UInt8 := dkwX5_carries_2 ++ dktX5_carries_3
def dkwX5_carries_1 : List UInt8 := [182, 1, 216, 42, 180, 0, 23, 27, 46, 96, 172, 42, 180, 0, 17, 27, 46, 16, 7, 160, 0, 23, 42]
abbrev dktX5_carries_1 : List UInt8 := dkwX5_carries_1 ++ dktX5_carries_2
def dkwX5_carries_0 : List UInt8 := [42, 180, 0, 17, 27, 46, 5, 184, 0, 248, 153, 0, 23, 42, 16, 30, 182, 1, 200, 42, 27, 28]
abbrev dktX5_carries_0 : List UInt8 := dkwX5_carries_0 ++ dktX5_carries_1
theorem dksX5_carries_0 : cX5_carries.data.toList.drop 0 = dktX5_carries_0 := by decide +kernel
theorem dksX5_carries_1 : cX5_carries.data.toList.drop 22 = dktX5_carries_1 := dk_seg dksX5_carries_0 22 rfl rfl
theorem dksX5_carries_2 : cX5_carries.data.toList.drop 45 = dktX5_carries_2 := dk_seg dksX5_carries_1 23 rfl rfl
theorem dksX5_carries_3 : cX5_carries.data.toList.drop 67 = dktX5_carries_3 := dk_seg dksX5_carries_2 22 rfl rfl
theorem dX5_carries_0 : decode cX5_carries 0 = .ok (.aload_n 0, 1) := dk_42 (dk_at dksX5_carries_0 0 rfl rfl)
theorem dX5_carries_1 : decode cX5_carries 1 = .ok (.getfield 17, 3) := dk_180 0 17 (dk_at dksX5_carries_0 1 rfl rfl)
theorem dX5_carries_4 : decode cX5_carries 4 = .ok (.iload_n 1, 1) := dk_27 (dk_at dksX5_carries_0 4 rfl rfl)
theorem dX5_carries_5 : decode cX5_carries 5 = .ok (.iaload, 1) := dk_46 (dk_at dksX5_carries_0 5 rfl rfl)
theorem dX5_carries_6 : decode cX5_carries 6 = .ok (.iconst 2, 1) := dk_5 (dk_at dksX5_carries_0 6 rfl rfl)
theorem dX5_carries_7 : decode cX5_carries 7 = .ok (.invokestatic 248, 3) := dk_184 0 248 (dk_at dksX5_carries_0 7 rfl rfl)
theorem dX5_carries_10 : decode cX5_carries 10 = .ok (.ifCond .eq 23, 3) := dk_153 0 23 (dk_at dksX5_carries_0 10 rfl rfl)
theorem dX5_carries_13 : decode cX5_carries 13 = .ok (.aload_n 0, 1) := dk_42 (dk_at dksX5_carries_0 13 rfl rfl)
theorem dX5_carries_14 : decode cX5_carries 14 = .ok (.bipush 30, 2) := dk_16 30 (dk_at dksX5_carries_0 14 rfl rfl)
theorem dX5_carries_16 : decode cX5_carries 16 = .ok (.invokevirtual 456, 3) := dk_182 1 200 (dk_at dksX5_carries_0 16 rfl rfl)
theorem dX5_carries_19 : decode cX5_carries 19 = .ok (.aload_n 0, 1) := dk_42 (dk_at dksX5_carries_0 19 rfl rfl)
theorem dX5_carries_20 : decode cX5_carries 20 = .ok (.iload_n 1, 1) := dk_27 (dk_at dksX5_carries_0 20 rfl rfl)
theorem dX5_carries_21 : decode cX5_carries 21 = .ok (.iload_n 2, 1) := dk_28 (dk_at dksX5_carries_0 21 rfl rfl)
theorem dX5_carries_22 : decode cX5_carries 22 = .ok (.invokevirtual 472, 3) := dk_182 1 216 (dk_at dksX5_carries_1 0 rfl rfl)
theorem dX5_carries_25 : decode cX5_carries 25 = .ok (.aload_n 0, 1) := dk_42 (dk_at dksX5_carries_1 3 rfl rfl)
theorem dX5_carries_26 : decode cX5_carries 26 = .ok (.getfield 23, 3) := dk_180 0 23 (dk_at dksX5_carries_1 4 rfl rfl)
theorem dX5_carries_29 : decode cX5_carries 29 = .ok (.iload_n 1, 1) := dk_27 (dk_at dksX5_carries_1 7 rfl rfl)
theorem dX5_carries_30 : decode cX5_carries 30 = .ok (.iaload, 1) := dk_46 (dk_at dksX5_carries_1 8 rfl rfl)
theorem dX5_carries_31 : decode cX5_carries 31 = .ok (.iadd, 1) := dk_96 (dk_at dksX5_carries_1 9 rfl rfl)
theorem dX5_carries_32 : decode cX5_carries 32 = .ok (.ireturn, 1) := dk_172 (dk_at dksX5_carries_1 10 rfl rfl)
theorem dX5_carries_33 : decode cX5_carries 33 = .ok (.aload_n 0, 1) := dk_42 (dk_at dksX5_carries_1 11 rfl rfl)
theorem dX5_carries_34 : decode cX5_carries 34 = .ok (.getfield 17, 3) := dk_180 0 17 (dk_at dksX5_carries_1 12 rfl rfl)
theorem dX5_carries_37 : decode cX5_carries 37 = .ok (.iload_n 1, 1) := dk_27 (dk_at dksX5_carries_1 15 rfl rfl)
theorem dX5_carries_38 : decode cX5_carries 38 = .ok (.iaload, 1) := dk_46 (dk_at dksX5_carries_1 16 rfl rfl)
theorem dX5_carries_39 : decode cX5_carries 39 = .ok (.bipush 7, 2) := dk_16 7 (dk_at dksX5_carries_1 17 rfl rfl)
theorem dX5_carries_41 : decode cX5_carries 41 = .ok (.if_icmp .ne 23, 3) := dk_160 0 23 (dk_at dksX5_carries_1 19 rfl rfl)
theorem dX5_carries_44 : decode cX5_carries 44 = .ok (.aload_n 0, 1) := dk_42 (dk_at dksX5_carries_1 22 rfl rfl)
theorem dX5_carries_45 : decode cX5_carries 45 = .ok (.bipush 80, 2) := dk_16 80 (dk_at dksX5_carries_2 0 rfl rfl)
theorem dX5_carries_47 : decode cX5_carries 47 = .ok (.invokevirtual 456, 3) := dk_182 1 200 (dk_at dksX5_carries_2 2 rfl rfl)
theorem dX5_carries_50 : decode cX5_carries 50 = .ok (.aload_n 0, 1) := dk_42 (dk_at dksX5_carries_2 5 rfl rfl)
theorem dX5_carries_51 : decode cX5_carries 51 = .ok (.iload_n 1, 1) := dk_27 (dk_at dksX5_carries_2 6 rfl rfl)
theorem dX5_carries_52 : decode cX5_carries 52 = .ok (.iload_n 2, 1) := dk_28 (dk_at dksX5_carries_2 7 rfl rfl)
theorem dX5_carries_53 : decode cX5_carries 53 = .ok (.invokevirtual 472, 3) := dk_182 1 216 (dk_at dksX5_carries_2 8 rfl rfl)
theorem dX5_carries_56 : decode cX5_carries 56 = .ok (.aload_n 0, 1) := dk_42 (dk_at dksX5_carries_2 11 rfl rfl)
theorem dX5_carries_57 : decode cX5_carries 57 = .ok (.getfield 53, 3) := dk_180 0 53 (dk_at dksX5_carries_2 12 rfl rfl)
theorem dX5_carries_60 : decode cX5_carries 60 = .ok (.iload_n 1, 1) := dk_27 (dk_at dksX5_carries_2 15 rfl rfl)
theorem dX5_carries_61 : decode cX5_carries 61 = .ok (.iaload, 1) := dk_46 (dk_at dksX5_carries_2 16 rfl rfl)
theorem dX5_carries_62 : decode cX5_carries 62 = .ok (.isub, 1) := dk_100 (dk_at dksX5_carries_2 17 rfl rfl)
theorem dX5_carries_63 : decode cX5_carries 63 = .ok (.ireturn, 1) := dk_172 (dk_at dksX5_carries_2 18 rfl rfl)
theorem dX5_carries_64 : decode cX5_carries 64 = .ok (.aload_n 0, 1) := dk_42 (dk_at dksX5_carries_2 19 rfl rfl)
theorem dX5_carries_65 : decode cX5_carries 65 = .ok (.iload_n 1, 1) := dk_27 (dk_at dksX5_carries_2 20 rfl rfl)
theorem dX5_carries_66 : decode cX5_carries 66 = .ok (.iload_n 2, 1) := dk_28 (dk_at dksX5_carries_2 21 rfl rfl)
theorem dX5_carries_67 : decode cX5_carries 67 = .ok (.invokevirtual 472, 3) := dk_182 1 216 (dk_at dksX5_carries_3 0 rfl rfl)
theorem dX5_carries_70 : decode cX5_carries 70 = .ok (.ireturn, 1) := dk_172 (dk_at dksX5_carries_3 3 rfl rfl)
abbrev cX5_plainCarries : ByteArray := prog_22_method_98_code
def yX5_plainCarries : MethodName := ⟨RX5, "plainCarries", "(II)I"⟩
def dkwX5_plainCarries_0 : List UInt8 := [42, 16, 10, 182, 1, 200, 42, 27, 28, 182, 1, 213, 4, 100, 172]
abbrev dktX5_plainCarries_0 : List UInt8 := dkwX5_plainCarries_0 ++ []
theorem dksX5_plainCarries_0 : cX5_plainCarries.data.toList.drop 0 = dktX5_plainCarries_0 := by decide +kernel
theorem dX5_plainCarries_0 : decode cX5_plainCarries 0 = .ok (.aload_n 0, 1) := dk_42 (dk_at dksX5_plainCarries_0 0 rfl rfl)
theorem dX5_plainCarries_1 : decode cX5_plainCarries 1 = .ok (.bipush 10, 2) := dk_16 10 (dk_at dksX5_plainCarries_0 1 rfl rfl)
theorem dX5_plainCarries_3 : decode cX5_plainCarries 3 = .ok (.invokevirtual 456, 3) := dk_182 1 200 (dk_at dksX5_plainCarries_0 3 rfl rfl)
theorem dX5_plainCarries_6 : decode cX5_plainCarries 6 = .ok (.aload_n 0, 1) := dk_42 (dk_at dksX5_plainCarries_0 6 rfl rfl)
theorem dX5_plainCarries_7 : decode cX5_plainCarries 7 = .ok (.iload_n 1, 1) := dk_27 (dk_at dksX5_plainCarries_0 7 rfl rfl)
theorem dX5_plainCarries_8 : decode cX5_plainCarries 8 = .ok (.iload_n 2, 1) := dk_28 (dk_at dksX5_plainCarries_0 8 rfl rfl)
theorem dX5_plainCarries_9 : decode cX5_plainCarries 9 = .ok (.invokevirtual 469, 3) := dk_182 1 213 (dk_at dksX5_plainCarries_0 9 rfl rfl)
theorem dX5_plainCarries_12 : decode cX5_plainCarries 12 = .ok (.iconst 1, 1) := dk_4 (dk_at dksX5_plainCarries_0 12 rfl rfl)
theorem dX5_plainCarries_13 : decode cX5_plainCarries 13 = .ok (.isub, 1) := dk_100 (dk_at dksX5_plainCarries_0 13 rfl rfl)
theorem dX5_plainCarries_14 : decode cX5_plainCarries 14 = .ok (.ireturn, 1) := dk_172 (dk_at dksX5_plainCarries_0 14 rfl rfl)
abbrev cX5_holdsBy : ByteArray := prog_22_method_101_code
def yX5_holdsBy : MethodName := ⟨RX5, "holdsBy", "(II)I"⟩
def dkwX5_holdsBy_4 : List UInt8 := [182, 1, 219, 62, 29, 42, 27, 28, 182, 1, 216, 96, 172, 42, 27, 28, 182, 1, 219, 172]
abbrev dktX5_holdsBy_4 : List UInt8 := dkwX5_holdsBy_4 ++ []
def dkwX5_holdsBy_3 : List UInt8 := [16, 60, 182, 1, 200, 42, 27, 28, 182, 1, 219, 116, 172, 42, 16, 70, 182, 1, 200, 42, 27, 28]
abbrev dktX5_holdsBy_3 : List UInt8 := dkwX5_holdsBy_3 ++ dktX5_holdsBy_4
def dkwX5_holdsBy_2 : List UInt8 := [42, 16, 40, 182, 1, 200, 42, 27, 28, 182, 1, 219, 62, 29, 42, 27, 4, 182, 1, 222, 100, 172, 42]
abbrev dktX5_holdsBy_2 : List UInt8 := dkwX5_holdsBy_2 ++ dktX5_holdsBy_3
def dkwX5_holdsBy_1 : List UInt8 := [170, 0, 0, 0, 0, 88, 0, 0, 0, 3, 0, 0, 0, 6, 0, 0, 0, 30, 0, 0, 0, 88, 0, 0, 0, 52, 0, 0, 0, 66]
abbrev dktX5_holdsBy_1 : List UInt8 := dkwX5_holdsBy_1 ++ dktX5_holdsBy_2
def dkwX5_holdsBy_0 : List UInt8 := [42, 180, 0, 17, 27, 46]
abbrev dktX5_holdsBy_0 : List UInt8 := dkwX5_holdsBy_0 ++ dktX5_holdsBy_1
theorem dksX5_holdsBy_0 : cX5_holdsBy.data.toList.drop 0 = dktX5_holdsBy_0 := by decide +kernel
theorem dksX5_holdsBy_1 : cX5_holdsBy.data.toList.drop 6 = dktX5_holdsBy_1 := dk_seg dksX5_holdsBy_0 6 rfl rfl
theorem dksX5_holdsBy_2 : cX5_holdsBy.data.toList.drop 36 = dktX5_holdsBy_2 := dk_seg dksX5_holdsBy_1 30 rfl rfl
theorem dksX5_holdsBy_3 : cX5_holdsBy.data.toList.drop 59 = dktX5_holdsBy_3 := dk_seg dksX5_holdsBy_2 23 rfl rfl
theorem dksX5_holdsBy_4 : cX5_holdsBy.data.toList.drop 81 = dktX5_holdsBy_4 := dk_seg dksX5_holdsBy_3 22 rfl rfl
theorem dX5_holdsBy_0 : decode cX5_holdsBy 0 = .ok (.aload_n 0, 1) := dk_42 (dk_at dksX5_holdsBy_0 0 rfl rfl)
theorem dX5_holdsBy_1 : decode cX5_holdsBy 1 = .ok (.getfield 17, 3) := dk_180 0 17 (dk_at dksX5_holdsBy_0 1 rfl rfl)
theorem dX5_holdsBy_4 : decode cX5_holdsBy 4 = .ok (.iload_n 1, 1) := dk_27 (dk_at dksX5_holdsBy_0 4 rfl rfl)
theorem dX5_holdsBy_5 : decode cX5_holdsBy 5 = .ok (.iaload, 1) := dk_46 (dk_at dksX5_holdsBy_0 5 rfl rfl)
theorem dX5_holdsBy_6 : decode cX5_holdsBy 6 = .ok (.tableswitch 88 3 6 #[30, 88, 52, 66], 30) := by decide +kernel
theorem dX5_holdsBy_36 : decode cX5_holdsBy 36 = .ok (.aload_n 0, 1) := dk_42 (dk_at dksX5_holdsBy_2 0 rfl rfl)
theorem dX5_holdsBy_37 : decode cX5_holdsBy 37 = .ok (.bipush 40, 2) := dk_16 40 (dk_at dksX5_holdsBy_2 1 rfl rfl)
theorem dX5_holdsBy_39 : decode cX5_holdsBy 39 = .ok (.invokevirtual 456, 3) := dk_182 1 200 (dk_at dksX5_holdsBy_2 3 rfl rfl)
theorem dX5_holdsBy_42 : decode cX5_holdsBy 42 = .ok (.aload_n 0, 1) := dk_42 (dk_at dksX5_holdsBy_2 6 rfl rfl)
theorem dX5_holdsBy_43 : decode cX5_holdsBy 43 = .ok (.iload_n 1, 1) := dk_27 (dk_at dksX5_holdsBy_2 7 rfl rfl)
theorem dX5_holdsBy_44 : decode cX5_holdsBy 44 = .ok (.iload_n 2, 1) := dk_28 (dk_at dksX5_holdsBy_2 8 rfl rfl)
theorem dX5_holdsBy_45 : decode cX5_holdsBy 45 = .ok (.invokevirtual 475, 3) := dk_182 1 219 (dk_at dksX5_holdsBy_2 9 rfl rfl)
theorem dX5_holdsBy_48 : decode cX5_holdsBy 48 = .ok (.istore_n 3, 1) := dk_62 (dk_at dksX5_holdsBy_2 12 rfl rfl)
theorem dX5_holdsBy_49 : decode cX5_holdsBy 49 = .ok (.iload_n 3, 1) := dk_29 (dk_at dksX5_holdsBy_2 13 rfl rfl)
theorem dX5_holdsBy_50 : decode cX5_holdsBy 50 = .ok (.aload_n 0, 1) := dk_42 (dk_at dksX5_holdsBy_2 14 rfl rfl)
theorem dX5_holdsBy_51 : decode cX5_holdsBy 51 = .ok (.iload_n 1, 1) := dk_27 (dk_at dksX5_holdsBy_2 15 rfl rfl)
theorem dX5_holdsBy_52 : decode cX5_holdsBy 52 = .ok (.iconst 1, 1) := dk_4 (dk_at dksX5_holdsBy_2 16 rfl rfl)
theorem dX5_holdsBy_53 : decode cX5_holdsBy 53 = .ok (.invokevirtual 478, 3) := dk_182 1 222 (dk_at dksX5_holdsBy_2 17 rfl rfl)
theorem dX5_holdsBy_56 : decode cX5_holdsBy 56 = .ok (.isub, 1) := dk_100 (dk_at dksX5_holdsBy_2 20 rfl rfl)
theorem dX5_holdsBy_57 : decode cX5_holdsBy 57 = .ok (.ireturn, 1) := dk_172 (dk_at dksX5_holdsBy_2 21 rfl rfl)
theorem dX5_holdsBy_58 : decode cX5_holdsBy 58 = .ok (.aload_n 0, 1) := dk_42 (dk_at dksX5_holdsBy_2 22 rfl rfl)
theorem dX5_holdsBy_59 : decode cX5_holdsBy 59 = .ok (.bipush 60, 2) := dk_16 60 (dk_at dksX5_holdsBy_3 0 rfl rfl)
theorem dX5_holdsBy_61 : decode cX5_holdsBy 61 = .ok (.invokevirtual 456, 3) := dk_182 1 200 (dk_at dksX5_holdsBy_3 2 rfl rfl)
theorem dX5_holdsBy_64 : decode cX5_holdsBy 64 = .ok (.aload_n 0, 1) := dk_42 (dk_at dksX5_holdsBy_3 5 rfl rfl)
theorem dX5_holdsBy_65 : decode cX5_holdsBy 65 = .ok (.iload_n 1, 1) := dk_27 (dk_at dksX5_holdsBy_3 6 rfl rfl)
theorem dX5_holdsBy_66 : decode cX5_holdsBy 66 = .ok (.iload_n 2, 1) := dk_28 (dk_at dksX5_holdsBy_3 7 rfl rfl)
theorem dX5_holdsBy_67 : decode cX5_holdsBy 67 = .ok (.invokevirtual 475, 3) := dk_182 1 219 (dk_at dksX5_holdsBy_3 8 rfl rfl)
theorem dX5_holdsBy_70 : decode cX5_holdsBy 70 = .ok (.ineg, 1) := dk_116 (dk_at dksX5_holdsBy_3 11 rfl rfl)
theorem dX5_holdsBy_71 : decode cX5_holdsBy 71 = .ok (.ireturn, 1) := dk_172 (dk_at dksX5_holdsBy_3 12 rfl rfl)
theorem dX5_holdsBy_72 : decode cX5_holdsBy 72 = .ok (.aload_n 0, 1) := dk_42 (dk_at dksX5_holdsBy_3 13 rfl rfl)
theorem dX5_holdsBy_73 : decode cX5_holdsBy 73 = .ok (.bipush 70, 2) := dk_16 70 (dk_at dksX5_holdsBy_3 14 rfl rfl)
theorem dX5_holdsBy_75 : decode cX5_holdsBy 75 = .ok (.invokevirtual 456, 3) := dk_182 1 200 (dk_at dksX5_holdsBy_3 16 rfl rfl)
theorem dX5_holdsBy_78 : decode cX5_holdsBy 78 = .ok (.aload_n 0, 1) := dk_42 (dk_at dksX5_holdsBy_3 19 rfl rfl)
theorem dX5_holdsBy_79 : decode cX5_holdsBy 79 = .ok (.iload_n 1, 1) := dk_27 (dk_at dksX5_holdsBy_3 20 rfl rfl)
theorem dX5_holdsBy_80 : decode cX5_holdsBy 80 = .ok (.iload_n 2, 1) := dk_28 (dk_at dksX5_holdsBy_3 21 rfl rfl)
theorem dX5_holdsBy_81 : decode cX5_holdsBy 81 = .ok (.invokevirtual 475, 3) := dk_182 1 219 (dk_at dksX5_holdsBy_4 0 rfl rfl)
theorem dX5_holdsBy_84 : decode cX5_holdsBy 84 = .ok (.istore_n 3, 1) := dk_62 (dk_at dksX5_holdsBy_4 3 rfl rfl)
theorem dX5_holdsBy_85 : decode cX5_holdsBy 85 = .ok (.iload_n 3, 1) := dk_29 (dk_at dksX5_holdsBy_4 4 rfl rfl)
theorem dX5_holdsBy_86 : decode cX5_holdsBy 86 = .ok (.aload_n 0, 1) := dk_42 (dk_at dksX5_holdsBy_4 5 rfl rfl)
theorem dX5_holdsBy_87 : decode cX5_holdsBy 87 = .ok (.iload_n 1, 1) := dk_27 (dk_at dksX5_holdsBy_4 6 rfl rfl)
theorem dX5_holdsBy_88 : decode cX5_holdsBy 88 = .ok (.iload_n 2, 1) := dk_28 (dk_at dksX5_holdsBy_4 7 rfl rfl)
theorem dX5_holdsBy_89 : decode cX5_holdsBy 89 = .ok (.invokevirtual 472, 3) := dk_182 1 216 (dk_at dksX5_holdsBy_4 8 rfl rfl)
theorem dX5_holdsBy_92 : decode cX5_holdsBy 92 = .ok (.iadd, 1) := dk_96 (dk_at dksX5_holdsBy_4 11 rfl rfl)
theorem dX5_holdsBy_93 : decode cX5_holdsBy 93 = .ok (.ireturn, 1) := dk_172 (dk_at dksX5_holdsBy_4 12 rfl rfl)
theorem dX5_holdsBy_94 : decode cX5_holdsBy 94 = .ok (.aload_n 0, 1) := dk_42 (dk_at dksX5_holdsBy_4 13 rfl rfl)
theorem dX5_holdsBy_95 : decode cX5_holdsBy 95 = .ok (.iload_n 1, 1) := dk_27 (dk_at dksX5_holdsBy_4 14 rfl rfl)
theorem dX5_holdsBy_96 : decode cX5_holdsBy 96 = .ok (.iload_n 2, 1) := dk_28 (dk_at dksX5_holdsBy_4 15 rfl rfl)
theorem dX5_holdsBy_97 : decode cX5_holdsBy 97 = .ok (.invokevirtual 475, 3) := dk_182 1 219 (dk_at dksX5_holdsBy_4 16 rfl rfl)
theorem dX5_holdsBy_100 : decode cX5_holdsBy 100 = .ok (.ireturn, 1) := dk_172 (dk_at dksX5_holdsBy_4 19 rfl rfl)
abbrev cX5_plainHolds : ByteArray := prog_22_method_100_code
def yX5_plainHolds : MethodName := ⟨RX5, "plainHolds", "(II)I"⟩
def dkwX5_plainHolds_0 : List UInt8 := [42, 16, 11, 182, 1, 200, 28, 27, 130, 172]
abbrev dktX5_plainHolds_0 : List UInt8 := dkwX5_plainHolds_0 ++ []
theorem dksX5_plainHolds_0 : cX5_plainHolds.data.toList.drop 0 = dktX5_plainHolds_0 := by decide +kernel
theorem dX5_plainHolds_0 : decode cX5_plainHolds 0 = .ok (.aload_n 0, 1) := dk_42 (dk_at dksX5_plainHolds_0 0 rfl rfl)
theorem dX5_plainHolds_1 : decode cX5_plainHolds 1 = .ok (.bipush 11, 2) := dk_16 11 (dk_at dksX5_plainHolds_0 1 rfl rfl)
theorem dX5_plainHolds_3 : decode cX5_plainHolds 3 = .ok (.invokevirtual 456, 3) := dk_182 1 200 (dk_at dksX5_plainHolds_0 3 rfl rfl)
theorem dX5_plainHolds_6 : decode cX5_plainHolds 6 = .ok (.iload_n 2, 1) := dk_28 (dk_at dksX5_plainHolds_0 6 rfl rfl)
theorem dX5_plainHolds_7 : decode cX5_plainHolds 7 = .ok (.iload_n 1, 1) := dk_27 (dk_at dksX5_plainHolds_0 7 rfl rfl)
theorem dX5_plainHolds_8 : decode cX5_plainHolds 8 = .ok (.ixor, 1) := dk_130 (dk_at dksX5_plainHolds_0 8 rfl rfl)
theorem dX5_plainHolds_9 : decode cX5_plainHolds 9 = .ok (.ireturn, 1) := dk_172 (dk_at dksX5_plainHolds_0 9 rfl rfl)
abbrev cX5_tells : ByteArray := prog_22_method_103_code
def yX5_tells : MethodName := ⟨RX5, "tells", "(II)I"⟩
def dkwX5_tells_1 : List UInt8 := [182, 1, 228, 6, 104, 172, 42, 27, 28, 182, 1, 228, 172]
abbrev dktX5_tells_1 : List UInt8 := dkwX5_tells_1 ++ []
def dkwX5_tells_0 : List UInt8 := [42, 180, 0, 17, 27, 46, 7, 184, 0, 248, 153, 0, 18, 42, 16, 51, 182, 1, 200, 42, 27, 28]
abbrev dktX5_tells_0 : List UInt8 := dkwX5_tells_0 ++ dktX5_tells_1
theorem dksX5_tells_0 : cX5_tells.data.toList.drop 0 = dktX5_tells_0 := by decide +kernel
theorem dksX5_tells_1 : cX5_tells.data.toList.drop 22 = dktX5_tells_1 := dk_seg dksX5_tells_0 22 rfl rfl
theorem dX5_tells_0 : decode cX5_tells 0 = .ok (.aload_n 0, 1) := dk_42 (dk_at dksX5_tells_0 0 rfl rfl)
theorem dX5_tells_1 : decode cX5_tells 1 = .ok (.getfield 17, 3) := dk_180 0 17 (dk_at dksX5_tells_0 1 rfl rfl)
theorem dX5_tells_4 : decode cX5_tells 4 = .ok (.iload_n 1, 1) := dk_27 (dk_at dksX5_tells_0 4 rfl rfl)
theorem dX5_tells_5 : decode cX5_tells 5 = .ok (.iaload, 1) := dk_46 (dk_at dksX5_tells_0 5 rfl rfl)
theorem dX5_tells_6 : decode cX5_tells 6 = .ok (.iconst 4, 1) := dk_7 (dk_at dksX5_tells_0 6 rfl rfl)
theorem dX5_tells_7 : decode cX5_tells 7 = .ok (.invokestatic 248, 3) := dk_184 0 248 (dk_at dksX5_tells_0 7 rfl rfl)
theorem dX5_tells_10 : decode cX5_tells 10 = .ok (.ifCond .eq 18, 3) := dk_153 0 18 (dk_at dksX5_tells_0 10 rfl rfl)
theorem dX5_tells_13 : decode cX5_tells 13 = .ok (.aload_n 0, 1) := dk_42 (dk_at dksX5_tells_0 13 rfl rfl)
theorem dX5_tells_14 : decode cX5_tells 14 = .ok (.bipush 51, 2) := dk_16 51 (dk_at dksX5_tells_0 14 rfl rfl)
theorem dX5_tells_16 : decode cX5_tells 16 = .ok (.invokevirtual 456, 3) := dk_182 1 200 (dk_at dksX5_tells_0 16 rfl rfl)
theorem dX5_tells_19 : decode cX5_tells 19 = .ok (.aload_n 0, 1) := dk_42 (dk_at dksX5_tells_0 19 rfl rfl)
theorem dX5_tells_20 : decode cX5_tells 20 = .ok (.iload_n 1, 1) := dk_27 (dk_at dksX5_tells_0 20 rfl rfl)
theorem dX5_tells_21 : decode cX5_tells 21 = .ok (.iload_n 2, 1) := dk_28 (dk_at dksX5_tells_0 21 rfl rfl)
theorem dX5_tells_22 : decode cX5_tells 22 = .ok (.invokevirtual 484, 3) := dk_182 1 228 (dk_at dksX5_tells_1 0 rfl rfl)
theorem dX5_tells_25 : decode cX5_tells 25 = .ok (.iconst 3, 1) := dk_6 (dk_at dksX5_tells_1 3 rfl rfl)
theorem dX5_tells_26 : decode cX5_tells 26 = .ok (.imul, 1) := dk_104 (dk_at dksX5_tells_1 4 rfl rfl)
theorem dX5_tells_27 : decode cX5_tells 27 = .ok (.ireturn, 1) := dk_172 (dk_at dksX5_tells_1 5 rfl rfl)
theorem dX5_tells_28 : decode cX5_tells 28 = .ok (.aload_n 0, 1) := dk_42 (dk_at dksX5_tells_1 6 rfl rfl)
theorem dX5_tells_29 : decode cX5_tells 29 = .ok (.iload_n 1, 1) := dk_27 (dk_at dksX5_tells_1 7 rfl rfl)
theorem dX5_tells_30 : decode cX5_tells 30 = .ok (.iload_n 2, 1) := dk_28 (dk_at dksX5_tells_1 8 rfl rfl)
theorem dX5_tells_31 : decode cX5_tells 31 = .ok (.invokevirtual 484, 3) := dk_182 1 228 (dk_at dksX5_tells_1 9 rfl rfl)
theorem dX5_tells_34 : decode cX5_tells 34 = .ok (.ireturn, 1) := dk_172 (dk_at dksX5_tells_1 12 rfl rfl)
abbrev cX5_plainTells : ByteArray := prog_22_method_102_code
def yX5_plainTells : MethodName := ⟨RX5, "plainTells", "(II)I"⟩
def dkwX5_plainTells_0 : List UInt8 := [42, 5, 182, 1, 200, 42, 27, 28, 182, 1, 222, 62, 29, 42, 27, 4, 182, 1, 225, 96, 172]
abbrev dktX5_plainTells_0 : List UInt8 := dkwX5_plainTells_0 ++ []
theorem dksX5_plainTells_0 : cX5_plainTells.data.toList.drop 0 = dktX5_plainTells_0 := by decide +kernel
theorem dX5_plainTells_0 : decode cX5_plainTells 0 = .ok (.aload_n 0, 1) := dk_42 (dk_at dksX5_plainTells_0 0 rfl rfl)
theorem dX5_plainTells_1 : decode cX5_plainTells 1 = .ok (.iconst 2, 1) := dk_5 (dk_at dksX5_plainTells_0 1 rfl rfl)
theorem dX5_plainTells_2 : decode cX5_plainTells 2 = .ok (.invokevirtual 456, 3) := dk_182 1 200 (dk_at dksX5_plainTells_0 2 rfl rfl)
theorem dX5_plainTells_5 : decode cX5_plainTells 5 = .ok (.aload_n 0, 1) := dk_42 (dk_at dksX5_plainTells_0 5 rfl rfl)
theorem dX5_plainTells_6 : decode cX5_plainTells 6 = .ok (.iload_n 1, 1) := dk_27 (dk_at dksX5_plainTells_0 6 rfl rfl)
theorem dX5_plainTells_7 : decode cX5_plainTells 7 = .ok (.iload_n 2, 1) := dk_28 (dk_at dksX5_plainTells_0 7 rfl rfl)
theorem dX5_plainTells_8 : decode cX5_plainTells 8 = .ok (.invokevirtual 478, 3) := dk_182 1 222 (dk_at dksX5_plainTells_0 8 rfl rfl)
theorem dX5_plainTells_11 : decode cX5_plainTells 11 = .ok (.istore_n 3, 1) := dk_62 (dk_at dksX5_plainTells_0 11 rfl rfl)
theorem dX5_plainTells_12 : decode cX5_plainTells 12 = .ok (.iload_n 3, 1) := dk_29 (dk_at dksX5_plainTells_0 12 rfl rfl)
theorem dX5_plainTells_13 : decode cX5_plainTells 13 = .ok (.aload_n 0, 1) := dk_42 (dk_at dksX5_plainTells_0 13 rfl rfl)
theorem dX5_plainTells_14 : decode cX5_plainTells 14 = .ok (.iload_n 1, 1) := dk_27 (dk_at dksX5_plainTells_0 14 rfl rfl)
theorem dX5_plainTells_15 : decode cX5_plainTells 15 = .ok (.iconst 1, 1) := dk_4 (dk_at dksX5_plainTells_0 15 rfl rfl)
theorem dX5_plainTells_16 : decode cX5_plainTells 16 = .ok (.invokevirtual 481, 3) := dk_182 1 225 (dk_at dksX5_plainTells_0 16 rfl rfl)
theorem dX5_plainTells_19 : decode cX5_plainTells 19 = .ok (.iadd, 1) := dk_96 (dk_at dksX5_plainTells_0 19 rfl rfl)
theorem dX5_plainTells_20 : decode cX5_plainTells 20 = .ok (.ireturn, 1) := dk_172 (dk_at dksX5_plainTells_0 20 rfl rfl)
abbrev cX5_trace : ByteArray := prog_22_method_105_code
def yX5_trace : MethodName := ⟨RX5, "trace", "(I)I"⟩
def dkwX5_trace_1 : List UInt8 := [167, 0, 4, 2, 172]
abbrev dktX5_trace_1 : List UInt8 := dkwX5_trace_1 ++ []
def dkwX5_trace_0 : List UInt8 := [27, 155, 0, 26, 27, 42, 180, 1, 197, 162, 0, 18, 27, 16, 24, 162, 0, 12, 42, 180, 0, 205, 27, 46]
abbrev dktX5_trace_0 : List UInt8 := dkwX5_trace_0 ++ dktX5_trace_1
theorem dksX5_trace_0 : cX5_trace.data.toList.drop 0 = dktX5_trace_0 := by decide +kernel
theorem dksX5_trace_1 : cX5_trace.data.toList.drop 24 = dktX5_trace_1 := dk_seg dksX5_trace_0 24 rfl rfl
theorem dX5_trace_0 : decode cX5_trace 0 = .ok (.iload_n 1, 1) := dk_27 (dk_at dksX5_trace_0 0 rfl rfl)
theorem dX5_trace_1 : decode cX5_trace 1 = .ok (.ifCond .lt 26, 3) := dk_155 0 26 (dk_at dksX5_trace_0 1 rfl rfl)
theorem dX5_trace_4 : decode cX5_trace 4 = .ok (.iload_n 1, 1) := dk_27 (dk_at dksX5_trace_0 4 rfl rfl)
theorem dX5_trace_5 : decode cX5_trace 5 = .ok (.aload_n 0, 1) := dk_42 (dk_at dksX5_trace_0 5 rfl rfl)
theorem dX5_trace_6 : decode cX5_trace 6 = .ok (.getfield 453, 3) := dk_180 1 197 (dk_at dksX5_trace_0 6 rfl rfl)
theorem dX5_trace_9 : decode cX5_trace 9 = .ok (.if_icmp .ge 18, 3) := dk_162 0 18 (dk_at dksX5_trace_0 9 rfl rfl)
theorem dX5_trace_12 : decode cX5_trace 12 = .ok (.iload_n 1, 1) := dk_27 (dk_at dksX5_trace_0 12 rfl rfl)
theorem dX5_trace_13 : decode cX5_trace 13 = .ok (.bipush 24, 2) := dk_16 24 (dk_at dksX5_trace_0 13 rfl rfl)
theorem dX5_trace_15 : decode cX5_trace 15 = .ok (.if_icmp .ge 12, 3) := dk_162 0 12 (dk_at dksX5_trace_0 15 rfl rfl)
theorem dX5_trace_18 : decode cX5_trace 18 = .ok (.aload_n 0, 1) := dk_42 (dk_at dksX5_trace_0 18 rfl rfl)
theorem dX5_trace_19 : decode cX5_trace 19 = .ok (.getfield 205, 3) := dk_180 0 205 (dk_at dksX5_trace_0 19 rfl rfl)
theorem dX5_trace_22 : decode cX5_trace 22 = .ok (.iload_n 1, 1) := dk_27 (dk_at dksX5_trace_0 22 rfl rfl)
theorem dX5_trace_23 : decode cX5_trace 23 = .ok (.iaload, 1) := dk_46 (dk_at dksX5_trace_0 23 rfl rfl)
theorem dX5_trace_24 : decode cX5_trace 24 = .ok (.goto 4, 3) := dk_167 0 4 (dk_at dksX5_trace_1 0 rfl rfl)
theorem dX5_trace_27 : decode cX5_trace 27 = .ok (.iconst (-1), 1) := dk_2 (dk_at dksX5_trace_1 3 rfl rfl)
theorem dX5_trace_28 : decode cX5_trace 28 = .ok (.ireturn, 1) := dk_172 (dk_at dksX5_trace_1 4 rfl rfl)
abbrev cX5_count : ByteArray := prog_22_method_106_code
def yX5_count : MethodName := ⟨RX5, "count", "(I)I"⟩
def dkwX5_count_8 : List UInt8 := [2, 172]
abbrev dktX5_count_8 : List UInt8 := dkwX5_count_8 ++ []
def dkwX5_count_7 : List UInt8 := [61, 132, 3, 1, 167, 255, 236, 28, 172, 42, 180, 1, 156, 172, 42, 180, 1, 172, 172, 42, 180, 1, 197, 172]
abbrev dktX5_count_7 : List UInt8 := dkwX5_count_7 ++ dktX5_count_8
def dkwX5_count_6 : List UInt8 := [172, 42, 180, 1, 60, 172, 3, 62, 29, 42, 180, 0, 242, 162, 0, 18, 28, 42, 180, 0, 32, 29, 46, 96]
abbrev dktX5_count_6 : List UInt8 := dkwX5_count_6 ++ dktX5_count_7
def dkwX5_count_5 : List UInt8 := [167, 255, 228, 28, 172, 42, 182, 1, 138, 172, 42, 180, 1, 25, 172, 42, 180, 1, 45, 172, 42, 180, 1, 117]
abbrev dktX5_count_5 : List UInt8 := dkwX5_count_5 ++ dktX5_count_6
def dkwX5_count_4 : List UInt8 := [162, 0, 26, 28, 42, 180, 0, 38, 29, 46, 158, 0, 7, 4, 167, 0, 4, 3, 96, 61, 132, 3, 1]
abbrev dktX5_count_4 : List UInt8 := dkwX5_count_4 ++ dktX5_count_5
def dkwX5_count_3 : List UInt8 := [4, 167, 0, 4, 3, 96, 61, 132, 3, 1, 167, 255, 229, 28, 172, 3, 62, 29, 42, 180, 0, 242]
abbrev dktX5_count_3 : List UInt8 := dkwX5_count_3 ++ dktX5_count_4
def dkwX5_count_2 : List UInt8 := [42, 180, 0, 242, 172, 3, 62, 29, 42, 180, 0, 242, 162, 0, 25, 28, 42, 29, 182, 1, 12, 153, 0, 7]
abbrev dktX5_count_2 : List UInt8 := dkwX5_count_2 ++ dktX5_count_3
def dkwX5_count_1 : List UInt8 := [170, 0, 0, 0, 202, 0, 0, 0, 0, 0, 0, 0, 11, 0, 0, 0, 61, 0, 0, 0, 66, 0, 0, 0, 100, 0, 0, 0, 135, 0, 0, 0, 140, 0, 0, 0, 145, 0, 0, 0, 150, 0, 0, 0, 155, 0, 0, 0, 160, 0, 0, 0, 187, 0, 0, 0, 192, 0, 0, 0, 197]
abbrev dktX5_count_1 : List UInt8 := dkwX5_count_1 ++ dktX5_count_2
def dkwX5_count_0 : List UInt8 := [3, 61, 27]
abbrev dktX5_count_0 : List UInt8 := dkwX5_count_0 ++ dktX5_count_1
theorem dksX5_count_0 : cX5_count.data.toList.drop 0 = dktX5_count_0 := by decide +kernel
theorem dksX5_count_1 : cX5_count.data.toList.drop 3 = dktX5_count_1 := dk_seg dksX5_count_0 3 rfl rfl
theorem dksX5_count_2 : cX5_count.data.toList.drop 64 = dktX5_count_2 := dk_seg dksX5_count_1 61 rfl rfl
theorem dksX5_count_3 : cX5_count.data.toList.drop 88 = dktX5_count_3 := dk_seg dksX5_count_2 24 rfl rfl
theorem dksX5_count_4 : cX5_count.data.toList.drop 110 = dktX5_count_4 := dk_seg dksX5_count_3 22 rfl rfl
theorem dksX5_count_5 : cX5_count.data.toList.drop 133 = dktX5_count_5 := dk_seg dksX5_count_4 23 rfl rfl
theorem dksX5_count_6 : cX5_count.data.toList.drop 157 = dktX5_count_6 := dk_seg dksX5_count_5 24 rfl rfl
theorem dksX5_count_7 : cX5_count.data.toList.drop 181 = dktX5_count_7 := dk_seg dksX5_count_6 24 rfl rfl
theorem dksX5_count_8 : cX5_count.data.toList.drop 205 = dktX5_count_8 := dk_seg dksX5_count_7 24 rfl rfl
theorem dX5_count_0 : decode cX5_count 0 = .ok (.iconst 0, 1) := dk_3 (dk_at dksX5_count_0 0 rfl rfl)
theorem dX5_count_1 : decode cX5_count 1 = .ok (.istore_n 2, 1) := dk_61 (dk_at dksX5_count_0 1 rfl rfl)
theorem dX5_count_2 : decode cX5_count 2 = .ok (.iload_n 1, 1) := dk_27 (dk_at dksX5_count_0 2 rfl rfl)
theorem dX5_count_3 : decode cX5_count 3 = .ok (.tableswitch 202 0 11 #[61, 66, 100, 135, 140, 145, 150, 155, 160, 187, 192, 197], 61) := by decide +kernel
theorem dX5_count_64 : decode cX5_count 64 = .ok (.aload_n 0, 1) := dk_42 (dk_at dksX5_count_2 0 rfl rfl)
theorem dX5_count_65 : decode cX5_count 65 = .ok (.getfield 242, 3) := dk_180 0 242 (dk_at dksX5_count_2 1 rfl rfl)
theorem dX5_count_68 : decode cX5_count 68 = .ok (.ireturn, 1) := dk_172 (dk_at dksX5_count_2 4 rfl rfl)
theorem dX5_count_69 : decode cX5_count 69 = .ok (.iconst 0, 1) := dk_3 (dk_at dksX5_count_2 5 rfl rfl)
theorem dX5_count_70 : decode cX5_count 70 = .ok (.istore_n 3, 1) := dk_62 (dk_at dksX5_count_2 6 rfl rfl)
theorem dX5_count_71 : decode cX5_count 71 = .ok (.iload_n 3, 1) := dk_29 (dk_at dksX5_count_2 7 rfl rfl)
theorem dX5_count_72 : decode cX5_count 72 = .ok (.aload_n 0, 1) := dk_42 (dk_at dksX5_count_2 8 rfl rfl)
theorem dX5_count_73 : decode cX5_count 73 = .ok (.getfield 242, 3) := dk_180 0 242 (dk_at dksX5_count_2 9 rfl rfl)
theorem dX5_count_76 : decode cX5_count 76 = .ok (.if_icmp .ge 25, 3) := dk_162 0 25 (dk_at dksX5_count_2 12 rfl rfl)
theorem dX5_count_79 : decode cX5_count 79 = .ok (.iload_n 2, 1) := dk_28 (dk_at dksX5_count_2 15 rfl rfl)
theorem dX5_count_80 : decode cX5_count 80 = .ok (.aload_n 0, 1) := dk_42 (dk_at dksX5_count_2 16 rfl rfl)
theorem dX5_count_81 : decode cX5_count 81 = .ok (.iload_n 3, 1) := dk_29 (dk_at dksX5_count_2 17 rfl rfl)
theorem dX5_count_82 : decode cX5_count 82 = .ok (.invokevirtual 268, 3) := dk_182 1 12 (dk_at dksX5_count_2 18 rfl rfl)
theorem dX5_count_85 : decode cX5_count 85 = .ok (.ifCond .eq 7, 3) := dk_153 0 7 (dk_at dksX5_count_2 21 rfl rfl)
theorem dX5_count_88 : decode cX5_count 88 = .ok (.iconst 1, 1) := dk_4 (dk_at dksX5_count_3 0 rfl rfl)
theorem dX5_count_89 : decode cX5_count 89 = .ok (.goto 4, 3) := dk_167 0 4 (dk_at dksX5_count_3 1 rfl rfl)
theorem dX5_count_92 : decode cX5_count 92 = .ok (.iconst 0, 1) := dk_3 (dk_at dksX5_count_3 4 rfl rfl)
theorem dX5_count_93 : decode cX5_count 93 = .ok (.iadd, 1) := dk_96 (dk_at dksX5_count_3 5 rfl rfl)
theorem dX5_count_94 : decode cX5_count 94 = .ok (.istore_n 2, 1) := dk_61 (dk_at dksX5_count_3 6 rfl rfl)
theorem dX5_count_95 : decode cX5_count 95 = .ok (.iinc 3 1, 3) := dk_132 3 1 (dk_at dksX5_count_3 7 rfl rfl)
theorem dX5_count_98 : decode cX5_count 98 = .ok (.goto (-27), 3) := dk_167 255 229 (dk_at dksX5_count_3 10 rfl rfl)
theorem dX5_count_101 : decode cX5_count 101 = .ok (.iload_n 2, 1) := dk_28 (dk_at dksX5_count_3 13 rfl rfl)
theorem dX5_count_102 : decode cX5_count 102 = .ok (.ireturn, 1) := dk_172 (dk_at dksX5_count_3 14 rfl rfl)
theorem dX5_count_103 : decode cX5_count 103 = .ok (.iconst 0, 1) := dk_3 (dk_at dksX5_count_3 15 rfl rfl)
theorem dX5_count_104 : decode cX5_count 104 = .ok (.istore_n 3, 1) := dk_62 (dk_at dksX5_count_3 16 rfl rfl)
theorem dX5_count_105 : decode cX5_count 105 = .ok (.iload_n 3, 1) := dk_29 (dk_at dksX5_count_3 17 rfl rfl)
theorem dX5_count_106 : decode cX5_count 106 = .ok (.aload_n 0, 1) := dk_42 (dk_at dksX5_count_3 18 rfl rfl)
theorem dX5_count_107 : decode cX5_count 107 = .ok (.getfield 242, 3) := dk_180 0 242 (dk_at dksX5_count_3 19 rfl rfl)
theorem dX5_count_110 : decode cX5_count 110 = .ok (.if_icmp .ge 26, 3) := dk_162 0 26 (dk_at dksX5_count_4 0 rfl rfl)
theorem dX5_count_113 : decode cX5_count 113 = .ok (.iload_n 2, 1) := dk_28 (dk_at dksX5_count_4 3 rfl rfl)
theorem dX5_count_114 : decode cX5_count 114 = .ok (.aload_n 0, 1) := dk_42 (dk_at dksX5_count_4 4 rfl rfl)
theorem dX5_count_115 : decode cX5_count 115 = .ok (.getfield 38, 3) := dk_180 0 38 (dk_at dksX5_count_4 5 rfl rfl)
theorem dX5_count_118 : decode cX5_count 118 = .ok (.iload_n 3, 1) := dk_29 (dk_at dksX5_count_4 8 rfl rfl)
theorem dX5_count_119 : decode cX5_count 119 = .ok (.iaload, 1) := dk_46 (dk_at dksX5_count_4 9 rfl rfl)
theorem dX5_count_120 : decode cX5_count 120 = .ok (.ifCond .le 7, 3) := dk_158 0 7 (dk_at dksX5_count_4 10 rfl rfl)
theorem dX5_count_123 : decode cX5_count 123 = .ok (.iconst 1, 1) := dk_4 (dk_at dksX5_count_4 13 rfl rfl)
theorem dX5_count_124 : decode cX5_count 124 = .ok (.goto 4, 3) := dk_167 0 4 (dk_at dksX5_count_4 14 rfl rfl)
theorem dX5_count_127 : decode cX5_count 127 = .ok (.iconst 0, 1) := dk_3 (dk_at dksX5_count_4 17 rfl rfl)
theorem dX5_count_128 : decode cX5_count 128 = .ok (.iadd, 1) := dk_96 (dk_at dksX5_count_4 18 rfl rfl)
theorem dX5_count_129 : decode cX5_count 129 = .ok (.istore_n 2, 1) := dk_61 (dk_at dksX5_count_4 19 rfl rfl)
theorem dX5_count_130 : decode cX5_count 130 = .ok (.iinc 3 1, 3) := dk_132 3 1 (dk_at dksX5_count_4 20 rfl rfl)
theorem dX5_count_133 : decode cX5_count 133 = .ok (.goto (-28), 3) := dk_167 255 228 (dk_at dksX5_count_5 0 rfl rfl)
theorem dX5_count_136 : decode cX5_count 136 = .ok (.iload_n 2, 1) := dk_28 (dk_at dksX5_count_5 3 rfl rfl)
theorem dX5_count_137 : decode cX5_count 137 = .ok (.ireturn, 1) := dk_172 (dk_at dksX5_count_5 4 rfl rfl)
theorem dX5_count_138 : decode cX5_count 138 = .ok (.aload_n 0, 1) := dk_42 (dk_at dksX5_count_5 5 rfl rfl)
theorem dX5_count_139 : decode cX5_count 139 = .ok (.invokevirtual 394, 3) := dk_182 1 138 (dk_at dksX5_count_5 6 rfl rfl)
theorem dX5_count_142 : decode cX5_count 142 = .ok (.ireturn, 1) := dk_172 (dk_at dksX5_count_5 9 rfl rfl)
theorem dX5_count_143 : decode cX5_count 143 = .ok (.aload_n 0, 1) := dk_42 (dk_at dksX5_count_5 10 rfl rfl)
theorem dX5_count_144 : decode cX5_count 144 = .ok (.getfield 281, 3) := dk_180 1 25 (dk_at dksX5_count_5 11 rfl rfl)
theorem dX5_count_147 : decode cX5_count 147 = .ok (.ireturn, 1) := dk_172 (dk_at dksX5_count_5 14 rfl rfl)
theorem dX5_count_148 : decode cX5_count 148 = .ok (.aload_n 0, 1) := dk_42 (dk_at dksX5_count_5 15 rfl rfl)
theorem dX5_count_149 : decode cX5_count 149 = .ok (.getfield 301, 3) := dk_180 1 45 (dk_at dksX5_count_5 16 rfl rfl)
theorem dX5_count_152 : decode cX5_count 152 = .ok (.ireturn, 1) := dk_172 (dk_at dksX5_count_5 19 rfl rfl)
theorem dX5_count_153 : decode cX5_count 153 = .ok (.aload_n 0, 1) := dk_42 (dk_at dksX5_count_5 20 rfl rfl)
theorem dX5_count_154 : decode cX5_count 154 = .ok (.getfield 373, 3) := dk_180 1 117 (dk_at dksX5_count_5 21 rfl rfl)
theorem dX5_count_157 : decode cX5_count 157 = .ok (.ireturn, 1) := dk_172 (dk_at dksX5_count_6 0 rfl rfl)
theorem dX5_count_158 : decode cX5_count 158 = .ok (.aload_n 0, 1) := dk_42 (dk_at dksX5_count_6 1 rfl rfl)
theorem dX5_count_159 : decode cX5_count 159 = .ok (.getfield 316, 3) := dk_180 1 60 (dk_at dksX5_count_6 2 rfl rfl)
theorem dX5_count_162 : decode cX5_count 162 = .ok (.ireturn, 1) := dk_172 (dk_at dksX5_count_6 5 rfl rfl)
theorem dX5_count_163 : decode cX5_count 163 = .ok (.iconst 0, 1) := dk_3 (dk_at dksX5_count_6 6 rfl rfl)
theorem dX5_count_164 : decode cX5_count 164 = .ok (.istore_n 3, 1) := dk_62 (dk_at dksX5_count_6 7 rfl rfl)
theorem dX5_count_165 : decode cX5_count 165 = .ok (.iload_n 3, 1) := dk_29 (dk_at dksX5_count_6 8 rfl rfl)
theorem dX5_count_166 : decode cX5_count 166 = .ok (.aload_n 0, 1) := dk_42 (dk_at dksX5_count_6 9 rfl rfl)
theorem dX5_count_167 : decode cX5_count 167 = .ok (.getfield 242, 3) := dk_180 0 242 (dk_at dksX5_count_6 10 rfl rfl)
theorem dX5_count_170 : decode cX5_count 170 = .ok (.if_icmp .ge 18, 3) := dk_162 0 18 (dk_at dksX5_count_6 13 rfl rfl)
theorem dX5_count_173 : decode cX5_count 173 = .ok (.iload_n 2, 1) := dk_28 (dk_at dksX5_count_6 16 rfl rfl)
theorem dX5_count_174 : decode cX5_count 174 = .ok (.aload_n 0, 1) := dk_42 (dk_at dksX5_count_6 17 rfl rfl)
theorem dX5_count_175 : decode cX5_count 175 = .ok (.getfield 32, 3) := dk_180 0 32 (dk_at dksX5_count_6 18 rfl rfl)
theorem dX5_count_178 : decode cX5_count 178 = .ok (.iload_n 3, 1) := dk_29 (dk_at dksX5_count_6 21 rfl rfl)
theorem dX5_count_179 : decode cX5_count 179 = .ok (.iaload, 1) := dk_46 (dk_at dksX5_count_6 22 rfl rfl)
theorem dX5_count_180 : decode cX5_count 180 = .ok (.iadd, 1) := dk_96 (dk_at dksX5_count_6 23 rfl rfl)
theorem dX5_count_181 : decode cX5_count 181 = .ok (.istore_n 2, 1) := dk_61 (dk_at dksX5_count_7 0 rfl rfl)
theorem dX5_count_182 : decode cX5_count 182 = .ok (.iinc 3 1, 3) := dk_132 3 1 (dk_at dksX5_count_7 1 rfl rfl)
theorem dX5_count_185 : decode cX5_count 185 = .ok (.goto (-20), 3) := dk_167 255 236 (dk_at dksX5_count_7 4 rfl rfl)
theorem dX5_count_188 : decode cX5_count 188 = .ok (.iload_n 2, 1) := dk_28 (dk_at dksX5_count_7 7 rfl rfl)
theorem dX5_count_189 : decode cX5_count 189 = .ok (.ireturn, 1) := dk_172 (dk_at dksX5_count_7 8 rfl rfl)
theorem dX5_count_190 : decode cX5_count 190 = .ok (.aload_n 0, 1) := dk_42 (dk_at dksX5_count_7 9 rfl rfl)
theorem dX5_count_191 : decode cX5_count 191 = .ok (.getfield 412, 3) := dk_180 1 156 (dk_at dksX5_count_7 10 rfl rfl)
theorem dX5_count_194 : decode cX5_count 194 = .ok (.ireturn, 1) := dk_172 (dk_at dksX5_count_7 13 rfl rfl)
theorem dX5_count_195 : decode cX5_count 195 = .ok (.aload_n 0, 1) := dk_42 (dk_at dksX5_count_7 14 rfl rfl)
theorem dX5_count_196 : decode cX5_count 196 = .ok (.getfield 428, 3) := dk_180 1 172 (dk_at dksX5_count_7 15 rfl rfl)
theorem dX5_count_199 : decode cX5_count 199 = .ok (.ireturn, 1) := dk_172 (dk_at dksX5_count_7 18 rfl rfl)
theorem dX5_count_200 : decode cX5_count 200 = .ok (.aload_n 0, 1) := dk_42 (dk_at dksX5_count_7 19 rfl rfl)
theorem dX5_count_201 : decode cX5_count 201 = .ok (.getfield 453, 3) := dk_180 1 197 (dk_at dksX5_count_7 20 rfl rfl)
theorem dX5_count_204 : decode cX5_count 204 = .ok (.ireturn, 1) := dk_172 (dk_at dksX5_count_7 23 rfl rfl)
theorem dX5_count_205 : decode cX5_count 205 = .ok (.iconst (-1), 1) := dk_2 (dk_at dksX5_count_8 0 rfl rfl)
theorem dX5_count_206 : decode cX5_count 206 = .ok (.ireturn, 1) := dk_172 (dk_at dksX5_count_8 1 rfl rfl)
abbrev cX5_keep : ByteArray := prog_22_method_109_code
def yX5_keep : MethodName := ⟨RX5, "keep", "(II)I"⟩
def dkwX5_keep_1 : List UInt8 := [180, 0, 208, 27, 28, 79, 4, 172]
abbrev dktX5_keep_1 : List UInt8 := dkwX5_keep_1 ++ []
def dkwX5_keep_0 : List UInt8 := [27, 184, 1, 32, 153, 0, 16, 28, 2, 159, 0, 13, 42, 28, 182, 0, 245, 154, 0, 5, 2, 172, 42]
abbrev dktX5_keep_0 : List UInt8 := dkwX5_keep_0 ++ dktX5_keep_1
theorem dksX5_keep_0 : cX5_keep.data.toList.drop 0 = dktX5_keep_0 := by decide +kernel
theorem dksX5_keep_1 : cX5_keep.data.toList.drop 23 = dktX5_keep_1 := dk_seg dksX5_keep_0 23 rfl rfl
theorem dX5_keep_0 : decode cX5_keep 0 = .ok (.iload_n 1, 1) := dk_27 (dk_at dksX5_keep_0 0 rfl rfl)
theorem dX5_keep_1 : decode cX5_keep 1 = .ok (.invokestatic 288, 3) := dk_184 1 32 (dk_at dksX5_keep_0 1 rfl rfl)
theorem dX5_keep_4 : decode cX5_keep 4 = .ok (.ifCond .eq 16, 3) := dk_153 0 16 (dk_at dksX5_keep_0 4 rfl rfl)
theorem dX5_keep_7 : decode cX5_keep 7 = .ok (.iload_n 2, 1) := dk_28 (dk_at dksX5_keep_0 7 rfl rfl)
theorem dX5_keep_8 : decode cX5_keep 8 = .ok (.iconst (-1), 1) := dk_2 (dk_at dksX5_keep_0 8 rfl rfl)
theorem dX5_keep_9 : decode cX5_keep 9 = .ok (.if_icmp .eq 13, 3) := dk_159 0 13 (dk_at dksX5_keep_0 9 rfl rfl)
theorem dX5_keep_12 : decode cX5_keep 12 = .ok (.aload_n 0, 1) := dk_42 (dk_at dksX5_keep_0 12 rfl rfl)
theorem dX5_keep_13 : decode cX5_keep 13 = .ok (.iload_n 2, 1) := dk_28 (dk_at dksX5_keep_0 13 rfl rfl)
theorem dX5_keep_14 : decode cX5_keep 14 = .ok (.invokevirtual 245, 3) := dk_182 0 245 (dk_at dksX5_keep_0 14 rfl rfl)
theorem dX5_keep_17 : decode cX5_keep 17 = .ok (.ifCond .ne 5, 3) := dk_154 0 5 (dk_at dksX5_keep_0 17 rfl rfl)
theorem dX5_keep_20 : decode cX5_keep 20 = .ok (.iconst (-1), 1) := dk_2 (dk_at dksX5_keep_0 20 rfl rfl)
theorem dX5_keep_21 : decode cX5_keep 21 = .ok (.ireturn, 1) := dk_172 (dk_at dksX5_keep_0 21 rfl rfl)
theorem dX5_keep_22 : decode cX5_keep 22 = .ok (.aload_n 0, 1) := dk_42 (dk_at dksX5_keep_0 22 rfl rfl)
theorem dX5_keep_23 : decode cX5_keep 23 = .ok (.getfield 208, 3) := dk_180 0 208 (dk_at dksX5_keep_1 0 rfl rfl)
theorem dX5_keep_26 : decode cX5_keep 26 = .ok (.iload_n 1, 1) := dk_27 (dk_at dksX5_keep_1 3 rfl rfl)
theorem dX5_keep_27 : decode cX5_keep 27 = .ok (.iload_n 2, 1) := dk_28 (dk_at dksX5_keep_1 4 rfl rfl)
theorem dX5_keep_28 : decode cX5_keep 28 = .ok (.iastore, 1) := dk_79 (dk_at dksX5_keep_1 5 rfl rfl)
theorem dX5_keep_29 : decode cX5_keep 29 = .ok (.iconst 1, 1) := dk_4 (dk_at dksX5_keep_1 6 rfl rfl)
theorem dX5_keep_30 : decode cX5_keep 30 = .ok (.ireturn, 1) := dk_172 (dk_at dksX5_keep_1 7 rfl rfl)
abbrev cX5_row : ByteArray := prog_22_method_110_code
def yX5_row : MethodName := ⟨RX5, "row", "(III)I"⟩
def dkwX5_row_3 : List UInt8 := [9, 80, 42, 180, 0, 218, 21, 4, 3, 84, 132, 4, 1, 167, 255, 225, 4, 172]
abbrev dktX5_row_3 : List UInt8 := dkwX5_row_3 ++ []
def dkwX5_row_2 : List UInt8 := [16, 60, 27, 104, 54, 4, 21, 4, 16, 60, 27, 104, 16, 60, 96, 162, 0, 25, 42, 180, 0, 214, 21, 4]
abbrev dktX5_row_2 : List UInt8 := dkwX5_row_2 ++ dktX5_row_3
def dkwX5_row_1 : List UInt8 := [29, 156, 0, 6, 16, 242, 172, 42, 180, 0, 208, 27, 16, 254, 28, 100, 79, 42, 180, 0, 211, 27, 29, 79]
abbrev dktX5_row_1 : List UInt8 := dkwX5_row_1 ++ dktX5_row_2
def dkwX5_row_0 : List UInt8 := [27, 184, 1, 32, 153, 0, 18, 28, 3, 7, 184, 0, 230, 153, 0, 9, 29, 16, 60, 164, 0, 5, 2, 172]
abbrev dktX5_row_0 : List UInt8 := dkwX5_row_0 ++ dktX5_row_1
theorem dksX5_row_0 : cX5_row.data.toList.drop 0 = dktX5_row_0 := by decide +kernel
theorem dksX5_row_1 : cX5_row.data.toList.drop 24 = dktX5_row_1 := dk_seg dksX5_row_0 24 rfl rfl
theorem dksX5_row_2 : cX5_row.data.toList.drop 48 = dktX5_row_2 := dk_seg dksX5_row_1 24 rfl rfl
theorem dksX5_row_3 : cX5_row.data.toList.drop 72 = dktX5_row_3 := dk_seg dksX5_row_2 24 rfl rfl
theorem dX5_row_0 : decode cX5_row 0 = .ok (.iload_n 1, 1) := dk_27 (dk_at dksX5_row_0 0 rfl rfl)
theorem dX5_row_1 : decode cX5_row 1 = .ok (.invokestatic 288, 3) := dk_184 1 32 (dk_at dksX5_row_0 1 rfl rfl)
theorem dX5_row_4 : decode cX5_row 4 = .ok (.ifCond .eq 18, 3) := dk_153 0 18 (dk_at dksX5_row_0 4 rfl rfl)
theorem dX5_row_7 : decode cX5_row 7 = .ok (.iload_n 2, 1) := dk_28 (dk_at dksX5_row_0 7 rfl rfl)
theorem dX5_row_8 : decode cX5_row 8 = .ok (.iconst 0, 1) := dk_3 (dk_at dksX5_row_0 8 rfl rfl)
theorem dX5_row_9 : decode cX5_row 9 = .ok (.iconst 4, 1) := dk_7 (dk_at dksX5_row_0 9 rfl rfl)
theorem dX5_row_10 : decode cX5_row 10 = .ok (.invokestatic 230, 3) := dk_184 0 230 (dk_at dksX5_row_0 10 rfl rfl)
theorem dX5_row_13 : decode cX5_row 13 = .ok (.ifCond .eq 9, 3) := dk_153 0 9 (dk_at dksX5_row_0 13 rfl rfl)
theorem dX5_row_16 : decode cX5_row 16 = .ok (.iload_n 3, 1) := dk_29 (dk_at dksX5_row_0 16 rfl rfl)
theorem dX5_row_17 : decode cX5_row 17 = .ok (.bipush 60, 2) := dk_16 60 (dk_at dksX5_row_0 17 rfl rfl)
theorem dX5_row_19 : decode cX5_row 19 = .ok (.if_icmp .le 5, 3) := dk_164 0 5 (dk_at dksX5_row_0 19 rfl rfl)
theorem dX5_row_22 : decode cX5_row 22 = .ok (.iconst (-1), 1) := dk_2 (dk_at dksX5_row_0 22 rfl rfl)
theorem dX5_row_23 : decode cX5_row 23 = .ok (.ireturn, 1) := dk_172 (dk_at dksX5_row_0 23 rfl rfl)
theorem dX5_row_24 : decode cX5_row 24 = .ok (.iload_n 3, 1) := dk_29 (dk_at dksX5_row_1 0 rfl rfl)
theorem dX5_row_25 : decode cX5_row 25 = .ok (.ifCond .ge 6, 3) := dk_156 0 6 (dk_at dksX5_row_1 1 rfl rfl)
theorem dX5_row_28 : decode cX5_row 28 = .ok (.bipush (-14), 2) := dk_16 242 (dk_at dksX5_row_1 4 rfl rfl)
theorem dX5_row_30 : decode cX5_row 30 = .ok (.ireturn, 1) := dk_172 (dk_at dksX5_row_1 6 rfl rfl)
theorem dX5_row_31 : decode cX5_row 31 = .ok (.aload_n 0, 1) := dk_42 (dk_at dksX5_row_1 7 rfl rfl)
theorem dX5_row_32 : decode cX5_row 32 = .ok (.getfield 208, 3) := dk_180 0 208 (dk_at dksX5_row_1 8 rfl rfl)
theorem dX5_row_35 : decode cX5_row 35 = .ok (.iload_n 1, 1) := dk_27 (dk_at dksX5_row_1 11 rfl rfl)
theorem dX5_row_36 : decode cX5_row 36 = .ok (.bipush (-2), 2) := dk_16 254 (dk_at dksX5_row_1 12 rfl rfl)
theorem dX5_row_38 : decode cX5_row 38 = .ok (.iload_n 2, 1) := dk_28 (dk_at dksX5_row_1 14 rfl rfl)
theorem dX5_row_39 : decode cX5_row 39 = .ok (.isub, 1) := dk_100 (dk_at dksX5_row_1 15 rfl rfl)
theorem dX5_row_40 : decode cX5_row 40 = .ok (.iastore, 1) := dk_79 (dk_at dksX5_row_1 16 rfl rfl)
theorem dX5_row_41 : decode cX5_row 41 = .ok (.aload_n 0, 1) := dk_42 (dk_at dksX5_row_1 17 rfl rfl)
theorem dX5_row_42 : decode cX5_row 42 = .ok (.getfield 211, 3) := dk_180 0 211 (dk_at dksX5_row_1 18 rfl rfl)
theorem dX5_row_45 : decode cX5_row 45 = .ok (.iload_n 1, 1) := dk_27 (dk_at dksX5_row_1 21 rfl rfl)
theorem dX5_row_46 : decode cX5_row 46 = .ok (.iload_n 3, 1) := dk_29 (dk_at dksX5_row_1 22 rfl rfl)
theorem dX5_row_47 : decode cX5_row 47 = .ok (.iastore, 1) := dk_79 (dk_at dksX5_row_1 23 rfl rfl)
theorem dX5_row_48 : decode cX5_row 48 = .ok (.bipush 60, 2) := dk_16 60 (dk_at dksX5_row_2 0 rfl rfl)
theorem dX5_row_50 : decode cX5_row 50 = .ok (.iload_n 1, 1) := dk_27 (dk_at dksX5_row_2 2 rfl rfl)
theorem dX5_row_51 : decode cX5_row 51 = .ok (.imul, 1) := dk_104 (dk_at dksX5_row_2 3 rfl rfl)
theorem dX5_row_52 : decode cX5_row 52 = .ok (.istore 4, 2) := dk_54 4 (dk_at dksX5_row_2 4 rfl rfl)
theorem dX5_row_54 : decode cX5_row 54 = .ok (.iload 4, 2) := dk_21 4 (dk_at dksX5_row_2 6 rfl rfl)
theorem dX5_row_56 : decode cX5_row 56 = .ok (.bipush 60, 2) := dk_16 60 (dk_at dksX5_row_2 8 rfl rfl)
theorem dX5_row_58 : decode cX5_row 58 = .ok (.iload_n 1, 1) := dk_27 (dk_at dksX5_row_2 10 rfl rfl)
theorem dX5_row_59 : decode cX5_row 59 = .ok (.imul, 1) := dk_104 (dk_at dksX5_row_2 11 rfl rfl)
theorem dX5_row_60 : decode cX5_row 60 = .ok (.bipush 60, 2) := dk_16 60 (dk_at dksX5_row_2 12 rfl rfl)
theorem dX5_row_62 : decode cX5_row 62 = .ok (.iadd, 1) := dk_96 (dk_at dksX5_row_2 14 rfl rfl)
theorem dX5_row_63 : decode cX5_row 63 = .ok (.if_icmp .ge 25, 3) := dk_162 0 25 (dk_at dksX5_row_2 15 rfl rfl)
theorem dX5_row_66 : decode cX5_row 66 = .ok (.aload_n 0, 1) := dk_42 (dk_at dksX5_row_2 18 rfl rfl)
theorem dX5_row_67 : decode cX5_row 67 = .ok (.getfield 214, 3) := dk_180 0 214 (dk_at dksX5_row_2 19 rfl rfl)
theorem dX5_row_70 : decode cX5_row 70 = .ok (.iload 4, 2) := dk_21 4 (dk_at dksX5_row_2 22 rfl rfl)
theorem dX5_row_72 : decode cX5_row 72 = .ok (.lconst 0, 1) := dk_9 (dk_at dksX5_row_3 0 rfl rfl)
theorem dX5_row_73 : decode cX5_row 73 = .ok (.lastore, 1) := dk_80 (dk_at dksX5_row_3 1 rfl rfl)
theorem dX5_row_74 : decode cX5_row 74 = .ok (.aload_n 0, 1) := dk_42 (dk_at dksX5_row_3 2 rfl rfl)
theorem dX5_row_75 : decode cX5_row 75 = .ok (.getfield 218, 3) := dk_180 0 218 (dk_at dksX5_row_3 3 rfl rfl)
theorem dX5_row_78 : decode cX5_row 78 = .ok (.iload 4, 2) := dk_21 4 (dk_at dksX5_row_3 6 rfl rfl)
theorem dX5_row_80 : decode cX5_row 80 = .ok (.iconst 0, 1) := dk_3 (dk_at dksX5_row_3 8 rfl rfl)
theorem dX5_row_81 : decode cX5_row 81 = .ok (.bastore, 1) := dk_84 (dk_at dksX5_row_3 9 rfl rfl)
theorem dX5_row_82 : decode cX5_row 82 = .ok (.iinc 4 1, 3) := dk_132 4 1 (dk_at dksX5_row_3 10 rfl rfl)
theorem dX5_row_85 : decode cX5_row 85 = .ok (.goto (-31), 3) := dk_167 255 225 (dk_at dksX5_row_3 13 rfl rfl)
theorem dX5_row_88 : decode cX5_row 88 = .ok (.iconst 1, 1) := dk_4 (dk_at dksX5_row_3 16 rfl rfl)
theorem dX5_row_89 : decode cX5_row 89 = .ok (.ireturn, 1) := dk_172 (dk_at dksX5_row_3 17 rfl rfl)
abbrev cX5_put : ByteArray := prog_22_method_112_code
def yX5_put : MethodName := ⟨RX5, "put", "(IIJ)I"⟩
def dkwX5_put_5 : List UInt8 := [3, 84, 4, 172]
abbrev dktX5_put_5 : List UInt8 := dkwX5_put_5 ++ []
def dkwX5_put_4 : List UInt8 := [21, 6, 5, 160, 0, 9, 33, 136, 133, 167, 0, 4, 33, 80, 42, 180, 0, 218, 16, 60, 27, 104, 28, 96]
abbrev dktX5_put_4 : List UInt8 := dkwX5_put_4 ++ dktX5_put_5
def dkwX5_put_3 : List UInt8 := [154, 0, 10, 33, 136, 145, 133, 167, 0, 30, 21, 6, 4, 160, 0, 11, 33, 20, 1, 241, 127, 167, 0, 16]
abbrev dktX5_put_3 : List UInt8 := dkwX5_put_3 ++ dktX5_put_4
def dkwX5_put_2 : List UInt8 := [172, 16, 254, 42, 180, 0, 208, 27, 46, 100, 54, 6, 42, 180, 0, 214, 16, 60, 27, 104, 28, 96, 21, 6]
abbrev dktX5_put_2 : List UInt8 := dkwX5_put_2 ++ dktX5_put_3
def dkwX5_put_1 : List UInt8 := [20, 1, 236, 148, 158, 0, 5, 2, 172, 42, 27, 28, 182, 1, 238, 54, 5, 21, 5, 156, 0, 6, 21, 5]
abbrev dktX5_put_1 : List UInt8 := dkwX5_put_1 ++ dktX5_put_2
def dkwX5_put_0 : List UInt8 := [27, 184, 1, 32, 153, 0, 27, 42, 27, 182, 1, 35, 153, 0, 21, 33, 20, 1, 234, 148, 155, 0, 11, 33]
abbrev dktX5_put_0 : List UInt8 := dkwX5_put_0 ++ dktX5_put_1
theorem dksX5_put_0 : cX5_put.data.toList.drop 0 = dktX5_put_0 := by decide +kernel
theorem dksX5_put_1 : cX5_put.data.toList.drop 24 = dktX5_put_1 := dk_seg dksX5_put_0 24 rfl rfl
theorem dksX5_put_2 : cX5_put.data.toList.drop 48 = dktX5_put_2 := dk_seg dksX5_put_1 24 rfl rfl
theorem dksX5_put_3 : cX5_put.data.toList.drop 72 = dktX5_put_3 := dk_seg dksX5_put_2 24 rfl rfl
theorem dksX5_put_4 : cX5_put.data.toList.drop 96 = dktX5_put_4 := dk_seg dksX5_put_3 24 rfl rfl
theorem dksX5_put_5 : cX5_put.data.toList.drop 120 = dktX5_put_5 := dk_seg dksX5_put_4 24 rfl rfl
theorem dX5_put_0 : decode cX5_put 0 = .ok (.iload_n 1, 1) := dk_27 (dk_at dksX5_put_0 0 rfl rfl)
theorem dX5_put_1 : decode cX5_put 1 = .ok (.invokestatic 288, 3) := dk_184 1 32 (dk_at dksX5_put_0 1 rfl rfl)
theorem dX5_put_4 : decode cX5_put 4 = .ok (.ifCond .eq 27, 3) := dk_153 0 27 (dk_at dksX5_put_0 4 rfl rfl)
theorem dX5_put_7 : decode cX5_put 7 = .ok (.aload_n 0, 1) := dk_42 (dk_at dksX5_put_0 7 rfl rfl)
theorem dX5_put_8 : decode cX5_put 8 = .ok (.iload_n 1, 1) := dk_27 (dk_at dksX5_put_0 8 rfl rfl)
theorem dX5_put_9 : decode cX5_put 9 = .ok (.invokevirtual 291, 3) := dk_182 1 35 (dk_at dksX5_put_0 9 rfl rfl)
theorem dX5_put_12 : decode cX5_put 12 = .ok (.ifCond .eq 21, 3) := dk_153 0 21 (dk_at dksX5_put_0 12 rfl rfl)
theorem dX5_put_15 : decode cX5_put 15 = .ok (.lload_n 3, 1) := dk_33 (dk_at dksX5_put_0 15 rfl rfl)
theorem dX5_put_16 : decode cX5_put 16 = .ok (.ldc2_w 490, 3) := dk_20 1 234 (dk_at dksX5_put_0 16 rfl rfl)
theorem dX5_put_19 : decode cX5_put 19 = .ok (.lcmp, 1) := dk_148 (dk_at dksX5_put_0 19 rfl rfl)
theorem dX5_put_20 : decode cX5_put 20 = .ok (.ifCond .lt 11, 3) := dk_155 0 11 (dk_at dksX5_put_0 20 rfl rfl)
theorem dX5_put_23 : decode cX5_put 23 = .ok (.lload_n 3, 1) := dk_33 (dk_at dksX5_put_0 23 rfl rfl)
theorem dX5_put_24 : decode cX5_put 24 = .ok (.ldc2_w 492, 3) := dk_20 1 236 (dk_at dksX5_put_1 0 rfl rfl)
theorem dX5_put_27 : decode cX5_put 27 = .ok (.lcmp, 1) := dk_148 (dk_at dksX5_put_1 3 rfl rfl)
theorem dX5_put_28 : decode cX5_put 28 = .ok (.ifCond .le 5, 3) := dk_158 0 5 (dk_at dksX5_put_1 4 rfl rfl)
theorem dX5_put_31 : decode cX5_put 31 = .ok (.iconst (-1), 1) := dk_2 (dk_at dksX5_put_1 7 rfl rfl)
theorem dX5_put_32 : decode cX5_put 32 = .ok (.ireturn, 1) := dk_172 (dk_at dksX5_put_1 8 rfl rfl)
theorem dX5_put_33 : decode cX5_put 33 = .ok (.aload_n 0, 1) := dk_42 (dk_at dksX5_put_1 9 rfl rfl)
theorem dX5_put_34 : decode cX5_put 34 = .ok (.iload_n 1, 1) := dk_27 (dk_at dksX5_put_1 10 rfl rfl)
theorem dX5_put_35 : decode cX5_put 35 = .ok (.iload_n 2, 1) := dk_28 (dk_at dksX5_put_1 11 rfl rfl)
theorem dX5_put_36 : decode cX5_put 36 = .ok (.invokevirtual 494, 3) := dk_182 1 238 (dk_at dksX5_put_1 12 rfl rfl)
theorem dX5_put_39 : decode cX5_put 39 = .ok (.istore 5, 2) := dk_54 5 (dk_at dksX5_put_1 15 rfl rfl)
theorem dX5_put_41 : decode cX5_put 41 = .ok (.iload 5, 2) := dk_21 5 (dk_at dksX5_put_1 17 rfl rfl)
theorem dX5_put_43 : decode cX5_put 43 = .ok (.ifCond .ge 6, 3) := dk_156 0 6 (dk_at dksX5_put_1 19 rfl rfl)
theorem dX5_put_46 : decode cX5_put 46 = .ok (.iload 5, 2) := dk_21 5 (dk_at dksX5_put_1 22 rfl rfl)
theorem dX5_put_48 : decode cX5_put 48 = .ok (.ireturn, 1) := dk_172 (dk_at dksX5_put_2 0 rfl rfl)
theorem dX5_put_49 : decode cX5_put 49 = .ok (.bipush (-2), 2) := dk_16 254 (dk_at dksX5_put_2 1 rfl rfl)
theorem dX5_put_51 : decode cX5_put 51 = .ok (.aload_n 0, 1) := dk_42 (dk_at dksX5_put_2 3 rfl rfl)
theorem dX5_put_52 : decode cX5_put 52 = .ok (.getfield 208, 3) := dk_180 0 208 (dk_at dksX5_put_2 4 rfl rfl)
theorem dX5_put_55 : decode cX5_put 55 = .ok (.iload_n 1, 1) := dk_27 (dk_at dksX5_put_2 7 rfl rfl)
theorem dX5_put_56 : decode cX5_put 56 = .ok (.iaload, 1) := dk_46 (dk_at dksX5_put_2 8 rfl rfl)
theorem dX5_put_57 : decode cX5_put 57 = .ok (.isub, 1) := dk_100 (dk_at dksX5_put_2 9 rfl rfl)
theorem dX5_put_58 : decode cX5_put 58 = .ok (.istore 6, 2) := dk_54 6 (dk_at dksX5_put_2 10 rfl rfl)
theorem dX5_put_60 : decode cX5_put 60 = .ok (.aload_n 0, 1) := dk_42 (dk_at dksX5_put_2 12 rfl rfl)
theorem dX5_put_61 : decode cX5_put 61 = .ok (.getfield 214, 3) := dk_180 0 214 (dk_at dksX5_put_2 13 rfl rfl)
theorem dX5_put_64 : decode cX5_put 64 = .ok (.bipush 60, 2) := dk_16 60 (dk_at dksX5_put_2 16 rfl rfl)
theorem dX5_put_66 : decode cX5_put 66 = .ok (.iload_n 1, 1) := dk_27 (dk_at dksX5_put_2 18 rfl rfl)
theorem dX5_put_67 : decode cX5_put 67 = .ok (.imul, 1) := dk_104 (dk_at dksX5_put_2 19 rfl rfl)
theorem dX5_put_68 : decode cX5_put 68 = .ok (.iload_n 2, 1) := dk_28 (dk_at dksX5_put_2 20 rfl rfl)
theorem dX5_put_69 : decode cX5_put 69 = .ok (.iadd, 1) := dk_96 (dk_at dksX5_put_2 21 rfl rfl)
theorem dX5_put_70 : decode cX5_put 70 = .ok (.iload 6, 2) := dk_21 6 (dk_at dksX5_put_2 22 rfl rfl)
theorem dX5_put_72 : decode cX5_put 72 = .ok (.ifCond .ne 10, 3) := dk_154 0 10 (dk_at dksX5_put_3 0 rfl rfl)
theorem dX5_put_75 : decode cX5_put 75 = .ok (.lload_n 3, 1) := dk_33 (dk_at dksX5_put_3 3 rfl rfl)
theorem dX5_put_76 : decode cX5_put 76 = .ok (.l2i, 1) := dk_136 (dk_at dksX5_put_3 4 rfl rfl)
theorem dX5_put_77 : decode cX5_put 77 = .ok (.i2b, 1) := dk_145 (dk_at dksX5_put_3 5 rfl rfl)
theorem dX5_put_78 : decode cX5_put 78 = .ok (.i2l, 1) := dk_133 (dk_at dksX5_put_3 6 rfl rfl)
theorem dX5_put_79 : decode cX5_put 79 = .ok (.goto 30, 3) := dk_167 0 30 (dk_at dksX5_put_3 7 rfl rfl)
theorem dX5_put_82 : decode cX5_put 82 = .ok (.iload 6, 2) := dk_21 6 (dk_at dksX5_put_3 10 rfl rfl)
theorem dX5_put_84 : decode cX5_put 84 = .ok (.iconst 1, 1) := dk_4 (dk_at dksX5_put_3 12 rfl rfl)
theorem dX5_put_85 : decode cX5_put 85 = .ok (.if_icmp .ne 11, 3) := dk_160 0 11 (dk_at dksX5_put_3 13 rfl rfl)
theorem dX5_put_88 : decode cX5_put 88 = .ok (.lload_n 3, 1) := dk_33 (dk_at dksX5_put_3 16 rfl rfl)
theorem dX5_put_89 : decode cX5_put 89 = .ok (.ldc2_w 497, 3) := dk_20 1 241 (dk_at dksX5_put_3 17 rfl rfl)
theorem dX5_put_92 : decode cX5_put 92 = .ok (.land, 1) := dk_127 (dk_at dksX5_put_3 20 rfl rfl)
theorem dX5_put_93 : decode cX5_put 93 = .ok (.goto 16, 3) := dk_167 0 16 (dk_at dksX5_put_3 21 rfl rfl)
theorem dX5_put_96 : decode cX5_put 96 = .ok (.iload 6, 2) := dk_21 6 (dk_at dksX5_put_4 0 rfl rfl)
theorem dX5_put_98 : decode cX5_put 98 = .ok (.iconst 2, 1) := dk_5 (dk_at dksX5_put_4 2 rfl rfl)
theorem dX5_put_99 : decode cX5_put 99 = .ok (.if_icmp .ne 9, 3) := dk_160 0 9 (dk_at dksX5_put_4 3 rfl rfl)
theorem dX5_put_102 : decode cX5_put 102 = .ok (.lload_n 3, 1) := dk_33 (dk_at dksX5_put_4 6 rfl rfl)
theorem dX5_put_103 : decode cX5_put 103 = .ok (.l2i, 1) := dk_136 (dk_at dksX5_put_4 7 rfl rfl)
theorem dX5_put_104 : decode cX5_put 104 = .ok (.i2l, 1) := dk_133 (dk_at dksX5_put_4 8 rfl rfl)
theorem dX5_put_105 : decode cX5_put 105 = .ok (.goto 4, 3) := dk_167 0 4 (dk_at dksX5_put_4 9 rfl rfl)
theorem dX5_put_108 : decode cX5_put 108 = .ok (.lload_n 3, 1) := dk_33 (dk_at dksX5_put_4 12 rfl rfl)
theorem dX5_put_109 : decode cX5_put 109 = .ok (.lastore, 1) := dk_80 (dk_at dksX5_put_4 13 rfl rfl)
theorem dX5_put_110 : decode cX5_put 110 = .ok (.aload_n 0, 1) := dk_42 (dk_at dksX5_put_4 14 rfl rfl)
theorem dX5_put_111 : decode cX5_put 111 = .ok (.getfield 218, 3) := dk_180 0 218 (dk_at dksX5_put_4 15 rfl rfl)
theorem dX5_put_114 : decode cX5_put 114 = .ok (.bipush 60, 2) := dk_16 60 (dk_at dksX5_put_4 18 rfl rfl)
theorem dX5_put_116 : decode cX5_put 116 = .ok (.iload_n 1, 1) := dk_27 (dk_at dksX5_put_4 20 rfl rfl)
theorem dX5_put_117 : decode cX5_put 117 = .ok (.imul, 1) := dk_104 (dk_at dksX5_put_4 21 rfl rfl)
theorem dX5_put_118 : decode cX5_put 118 = .ok (.iload_n 2, 1) := dk_28 (dk_at dksX5_put_4 22 rfl rfl)
theorem dX5_put_119 : decode cX5_put 119 = .ok (.iadd, 1) := dk_96 (dk_at dksX5_put_4 23 rfl rfl)
theorem dX5_put_120 : decode cX5_put 120 = .ok (.iconst 0, 1) := dk_3 (dk_at dksX5_put_5 0 rfl rfl)
theorem dX5_put_121 : decode cX5_put 121 = .ok (.bastore, 1) := dk_84 (dk_at dksX5_put_5 1 rfl rfl)
theorem dX5_put_122 : decode cX5_put 122 = .ok (.iconst 1, 1) := dk_4 (dk_at dksX5_put_5 2 rfl rfl)
theorem dX5_put_123 : decode cX5_put 123 = .ok (.ireturn, 1) := dk_172 (dk_at dksX5_put_5 3 rfl rfl)
abbrev cX5_whyNoPlace : ByteArray := prog_22_method_111_code
def yX5_whyNoPlace : MethodName := ⟨RX5, "whyNoPlace", "(II)I"⟩
def dkwX5_whyNoPlace_2 : List UInt8 := [153, 0, 7, 3, 167, 0, 5, 16, 243, 172]
abbrev dktX5_whyNoPlace_2 : List UInt8 := dkwX5_whyNoPlace_2 ++ []
def dkwX5_whyNoPlace_1 : List UInt8 := [180, 0, 208, 27, 46, 155, 0, 6, 16, 244, 172, 28, 3, 42, 180, 0, 211, 27, 46, 4, 100, 184, 0, 230]
abbrev dktX5_whyNoPlace_1 : List UInt8 := dkwX5_whyNoPlace_1 ++ dktX5_whyNoPlace_2
def dkwX5_whyNoPlace_0 : List UInt8 := [27, 184, 1, 32, 154, 0, 5, 2, 172, 42, 180, 0, 208, 27, 46, 2, 160, 0, 6, 16, 245, 172, 42]
abbrev dktX5_whyNoPlace_0 : List UInt8 := dkwX5_whyNoPlace_0 ++ dktX5_whyNoPlace_1
theorem dksX5_whyNoPlace_0 : cX5_whyNoPlace.data.toList.drop 0 = dktX5_whyNoPlace_0 := by decide +kernel
theorem dksX5_whyNoPlace_1 : cX5_whyNoPlace.data.toList.drop 23 = dktX5_whyNoPlace_1 := dk_seg dksX5_whyNoPlace_0 23 rfl rfl
theorem dksX5_whyNoPlace_2 : cX5_whyNoPlace.data.toList.drop 47 = dktX5_whyNoPlace_2 := dk_seg dksX5_whyNoPlace_1 24 rfl rfl
theorem dX5_whyNoPlace_0 : decode cX5_whyNoPlace 0 = .ok (.iload_n 1, 1) := dk_27 (dk_at dksX5_whyNoPlace_0 0 rfl rfl)
theorem dX5_whyNoPlace_1 : decode cX5_whyNoPlace 1 = .ok (.invokestatic 288, 3) := dk_184 1 32 (dk_at dksX5_whyNoPlace_0 1 rfl rfl)
theorem dX5_whyNoPlace_4 : decode cX5_whyNoPlace 4 = .ok (.ifCond .ne 5, 3) := dk_154 0 5 (dk_at dksX5_whyNoPlace_0 4 rfl rfl)
theorem dX5_whyNoPlace_7 : decode cX5_whyNoPlace 7 = .ok (.iconst (-1), 1) := dk_2 (dk_at dksX5_whyNoPlace_0 7 rfl rfl)
theorem dX5_whyNoPlace_8 : decode cX5_whyNoPlace 8 = .ok (.ireturn, 1) := dk_172 (dk_at dksX5_whyNoPlace_0 8 rfl rfl)
theorem dX5_whyNoPlace_9 : decode cX5_whyNoPlace 9 = .ok (.aload_n 0, 1) := dk_42 (dk_at dksX5_whyNoPlace_0 9 rfl rfl)
theorem dX5_whyNoPlace_10 : decode cX5_whyNoPlace 10 = .ok (.getfield 208, 3) := dk_180 0 208 (dk_at dksX5_whyNoPlace_0 10 rfl rfl)
theorem dX5_whyNoPlace_13 : decode cX5_whyNoPlace 13 = .ok (.iload_n 1, 1) := dk_27 (dk_at dksX5_whyNoPlace_0 13 rfl rfl)
theorem dX5_whyNoPlace_14 : decode cX5_whyNoPlace 14 = .ok (.iaload, 1) := dk_46 (dk_at dksX5_whyNoPlace_0 14 rfl rfl)
theorem dX5_whyNoPlace_15 : decode cX5_whyNoPlace 15 = .ok (.iconst (-1), 1) := dk_2 (dk_at dksX5_whyNoPlace_0 15 rfl rfl)
theorem dX5_whyNoPlace_16 : decode cX5_whyNoPlace 16 = .ok (.if_icmp .ne 6, 3) := dk_160 0 6 (dk_at dksX5_whyNoPlace_0 16 rfl rfl)
theorem dX5_whyNoPlace_19 : decode cX5_whyNoPlace 19 = .ok (.bipush (-11), 2) := dk_16 245 (dk_at dksX5_whyNoPlace_0 19 rfl rfl)
theorem dX5_whyNoPlace_21 : decode cX5_whyNoPlace 21 = .ok (.ireturn, 1) := dk_172 (dk_at dksX5_whyNoPlace_0 21 rfl rfl)
theorem dX5_whyNoPlace_22 : decode cX5_whyNoPlace 22 = .ok (.aload_n 0, 1) := dk_42 (dk_at dksX5_whyNoPlace_0 22 rfl rfl)
theorem dX5_whyNoPlace_23 : decode cX5_whyNoPlace 23 = .ok (.getfield 208, 3) := dk_180 0 208 (dk_at dksX5_whyNoPlace_1 0 rfl rfl)
theorem dX5_whyNoPlace_26 : decode cX5_whyNoPlace 26 = .ok (.iload_n 1, 1) := dk_27 (dk_at dksX5_whyNoPlace_1 3 rfl rfl)
theorem dX5_whyNoPlace_27 : decode cX5_whyNoPlace 27 = .ok (.iaload, 1) := dk_46 (dk_at dksX5_whyNoPlace_1 4 rfl rfl)
theorem dX5_whyNoPlace_28 : decode cX5_whyNoPlace 28 = .ok (.ifCond .lt 6, 3) := dk_155 0 6 (dk_at dksX5_whyNoPlace_1 5 rfl rfl)
theorem dX5_whyNoPlace_31 : decode cX5_whyNoPlace 31 = .ok (.bipush (-12), 2) := dk_16 244 (dk_at dksX5_whyNoPlace_1 8 rfl rfl)
theorem dX5_whyNoPlace_33 : decode cX5_whyNoPlace 33 = .ok (.ireturn, 1) := dk_172 (dk_at dksX5_whyNoPlace_1 10 rfl rfl)
theorem dX5_whyNoPlace_34 : decode cX5_whyNoPlace 34 = .ok (.iload_n 2, 1) := dk_28 (dk_at dksX5_whyNoPlace_1 11 rfl rfl)
theorem dX5_whyNoPlace_35 : decode cX5_whyNoPlace 35 = .ok (.iconst 0, 1) := dk_3 (dk_at dksX5_whyNoPlace_1 12 rfl rfl)
theorem dX5_whyNoPlace_36 : decode cX5_whyNoPlace 36 = .ok (.aload_n 0, 1) := dk_42 (dk_at dksX5_whyNoPlace_1 13 rfl rfl)
theorem dX5_whyNoPlace_37 : decode cX5_whyNoPlace 37 = .ok (.getfield 211, 3) := dk_180 0 211 (dk_at dksX5_whyNoPlace_1 14 rfl rfl)
theorem dX5_whyNoPlace_40 : decode cX5_whyNoPlace 40 = .ok (.iload_n 1, 1) := dk_27 (dk_at dksX5_whyNoPlace_1 17 rfl rfl)
theorem dX5_whyNoPlace_41 : decode cX5_whyNoPlace 41 = .ok (.iaload, 1) := dk_46 (dk_at dksX5_whyNoPlace_1 18 rfl rfl)
theorem dX5_whyNoPlace_42 : decode cX5_whyNoPlace 42 = .ok (.iconst 1, 1) := dk_4 (dk_at dksX5_whyNoPlace_1 19 rfl rfl)
theorem dX5_whyNoPlace_43 : decode cX5_whyNoPlace 43 = .ok (.isub, 1) := dk_100 (dk_at dksX5_whyNoPlace_1 20 rfl rfl)
theorem dX5_whyNoPlace_44 : decode cX5_whyNoPlace 44 = .ok (.invokestatic 230, 3) := dk_184 0 230 (dk_at dksX5_whyNoPlace_1 21 rfl rfl)
theorem dX5_whyNoPlace_47 : decode cX5_whyNoPlace 47 = .ok (.ifCond .eq 7, 3) := dk_153 0 7 (dk_at dksX5_whyNoPlace_2 0 rfl rfl)
theorem dX5_whyNoPlace_50 : decode cX5_whyNoPlace 50 = .ok (.iconst 0, 1) := dk_3 (dk_at dksX5_whyNoPlace_2 3 rfl rfl)
theorem dX5_whyNoPlace_51 : decode cX5_whyNoPlace 51 = .ok (.goto 5, 3) := dk_167 0 5 (dk_at dksX5_whyNoPlace_2 4 rfl rfl)
theorem dX5_whyNoPlace_54 : decode cX5_whyNoPlace 54 = .ok (.bipush (-13), 2) := dk_16 243 (dk_at dksX5_whyNoPlace_2 7 rfl rfl)
theorem dX5_whyNoPlace_56 : decode cX5_whyNoPlace 56 = .ok (.ireturn, 1) := dk_172 (dk_at dksX5_whyNoPlace_2 9 rfl rfl)
abbrev cX5_blank : ByteArray := prog_22_method_113_code
def yX5_blank : MethodName := ⟨RX5, "blank", "(II)I"⟩
def dkwX5_blank_2 : List UInt8 := [154, 0, 6, 16, 243, 172, 42, 180, 0, 218, 16, 60, 27, 104, 28, 96, 4, 84, 4, 172]
abbrev dktX5_blank_2 : List UInt8 := dkwX5_blank_2 ++ []
def dkwX5_blank_1 : List UInt8 := [182, 1, 35, 154, 0, 6, 16, 244, 172, 28, 3, 42, 180, 0, 211, 27, 46, 4, 100, 184, 0, 230]
abbrev dktX5_blank_1 : List UInt8 := dkwX5_blank_1 ++ dktX5_blank_2
def dkwX5_blank_0 : List UInt8 := [27, 184, 1, 32, 154, 0, 5, 2, 172, 42, 180, 0, 208, 27, 46, 2, 160, 0, 6, 16, 245, 172, 42, 27]
abbrev dktX5_blank_0 : List UInt8 := dkwX5_blank_0 ++ dktX5_blank_1
theorem dksX5_blank_0 : cX5_blank.data.toList.drop 0 = dktX5_blank_0 := by decide +kernel
theorem dksX5_blank_1 : cX5_blank.data.toList.drop 24 = dktX5_blank_1 := dk_seg dksX5_blank_0 24 rfl rfl
theorem dksX5_blank_2 : cX5_blank.data.toList.drop 46 = dktX5_blank_2 := dk_seg dksX5_blank_1 22 rfl rfl
theorem dX5_blank_0 : decode cX5_blank 0 = .ok (.iload_n 1, 1) := dk_27 (dk_at dksX5_blank_0 0 rfl rfl)
theorem dX5_blank_1 : decode cX5_blank 1 = .ok (.invokestatic 288, 3) := dk_184 1 32 (dk_at dksX5_blank_0 1 rfl rfl)
theorem dX5_blank_4 : decode cX5_blank 4 = .ok (.ifCond .ne 5, 3) := dk_154 0 5 (dk_at dksX5_blank_0 4 rfl rfl)
theorem dX5_blank_7 : decode cX5_blank 7 = .ok (.iconst (-1), 1) := dk_2 (dk_at dksX5_blank_0 7 rfl rfl)
theorem dX5_blank_8 : decode cX5_blank 8 = .ok (.ireturn, 1) := dk_172 (dk_at dksX5_blank_0 8 rfl rfl)
theorem dX5_blank_9 : decode cX5_blank 9 = .ok (.aload_n 0, 1) := dk_42 (dk_at dksX5_blank_0 9 rfl rfl)
theorem dX5_blank_10 : decode cX5_blank 10 = .ok (.getfield 208, 3) := dk_180 0 208 (dk_at dksX5_blank_0 10 rfl rfl)
theorem dX5_blank_13 : decode cX5_blank 13 = .ok (.iload_n 1, 1) := dk_27 (dk_at dksX5_blank_0 13 rfl rfl)
theorem dX5_blank_14 : decode cX5_blank 14 = .ok (.iaload, 1) := dk_46 (dk_at dksX5_blank_0 14 rfl rfl)
theorem dX5_blank_15 : decode cX5_blank 15 = .ok (.iconst (-1), 1) := dk_2 (dk_at dksX5_blank_0 15 rfl rfl)
theorem dX5_blank_16 : decode cX5_blank 16 = .ok (.if_icmp .ne 6, 3) := dk_160 0 6 (dk_at dksX5_blank_0 16 rfl rfl)
theorem dX5_blank_19 : decode cX5_blank 19 = .ok (.bipush (-11), 2) := dk_16 245 (dk_at dksX5_blank_0 19 rfl rfl)
theorem dX5_blank_21 : decode cX5_blank 21 = .ok (.ireturn, 1) := dk_172 (dk_at dksX5_blank_0 21 rfl rfl)
theorem dX5_blank_22 : decode cX5_blank 22 = .ok (.aload_n 0, 1) := dk_42 (dk_at dksX5_blank_0 22 rfl rfl)
theorem dX5_blank_23 : decode cX5_blank 23 = .ok (.iload_n 1, 1) := dk_27 (dk_at dksX5_blank_0 23 rfl rfl)
theorem dX5_blank_24 : decode cX5_blank 24 = .ok (.invokevirtual 291, 3) := dk_182 1 35 (dk_at dksX5_blank_1 0 rfl rfl)
theorem dX5_blank_27 : decode cX5_blank 27 = .ok (.ifCond .ne 6, 3) := dk_154 0 6 (dk_at dksX5_blank_1 3 rfl rfl)
theorem dX5_blank_30 : decode cX5_blank 30 = .ok (.bipush (-12), 2) := dk_16 244 (dk_at dksX5_blank_1 6 rfl rfl)
theorem dX5_blank_32 : decode cX5_blank 32 = .ok (.ireturn, 1) := dk_172 (dk_at dksX5_blank_1 8 rfl rfl)
theorem dX5_blank_33 : decode cX5_blank 33 = .ok (.iload_n 2, 1) := dk_28 (dk_at dksX5_blank_1 9 rfl rfl)
theorem dX5_blank_34 : decode cX5_blank 34 = .ok (.iconst 0, 1) := dk_3 (dk_at dksX5_blank_1 10 rfl rfl)
theorem dX5_blank_35 : decode cX5_blank 35 = .ok (.aload_n 0, 1) := dk_42 (dk_at dksX5_blank_1 11 rfl rfl)
theorem dX5_blank_36 : decode cX5_blank 36 = .ok (.getfield 211, 3) := dk_180 0 211 (dk_at dksX5_blank_1 12 rfl rfl)
theorem dX5_blank_39 : decode cX5_blank 39 = .ok (.iload_n 1, 1) := dk_27 (dk_at dksX5_blank_1 15 rfl rfl)
theorem dX5_blank_40 : decode cX5_blank 40 = .ok (.iaload, 1) := dk_46 (dk_at dksX5_blank_1 16 rfl rfl)
theorem dX5_blank_41 : decode cX5_blank 41 = .ok (.iconst 1, 1) := dk_4 (dk_at dksX5_blank_1 17 rfl rfl)
theorem dX5_blank_42 : decode cX5_blank 42 = .ok (.isub, 1) := dk_100 (dk_at dksX5_blank_1 18 rfl rfl)
theorem dX5_blank_43 : decode cX5_blank 43 = .ok (.invokestatic 230, 3) := dk_184 0 230 (dk_at dksX5_blank_1 19 rfl rfl)
theorem dX5_blank_46 : decode cX5_blank 46 = .ok (.ifCond .ne 6, 3) := dk_154 0 6 (dk_at dksX5_blank_2 0 rfl rfl)
theorem dX5_blank_49 : decode cX5_blank 49 = .ok (.bipush (-13), 2) := dk_16 243 (dk_at dksX5_blank_2 3 rfl rfl)
theorem dX5_blank_51 : decode cX5_blank 51 = .ok (.ireturn, 1) := dk_172 (dk_at dksX5_blank_2 5 rfl rfl)
theorem dX5_blank_52 : decode cX5_blank 52 = .ok (.aload_n 0, 1) := dk_42 (dk_at dksX5_blank_2 6 rfl rfl)
theorem dX5_blank_53 : decode cX5_blank 53 = .ok (.getfield 218, 3) := dk_180 0 218 (dk_at dksX5_blank_2 7 rfl rfl)
theorem dX5_blank_56 : decode cX5_blank 56 = .ok (.bipush 60, 2) := dk_16 60 (dk_at dksX5_blank_2 10 rfl rfl)
theorem dX5_blank_58 : decode cX5_blank 58 = .ok (.iload_n 1, 1) := dk_27 (dk_at dksX5_blank_2 12 rfl rfl)
theorem dX5_blank_59 : decode cX5_blank 59 = .ok (.imul, 1) := dk_104 (dk_at dksX5_blank_2 13 rfl rfl)
theorem dX5_blank_60 : decode cX5_blank 60 = .ok (.iload_n 2, 1) := dk_28 (dk_at dksX5_blank_2 14 rfl rfl)
theorem dX5_blank_61 : decode cX5_blank 61 = .ok (.iadd, 1) := dk_96 (dk_at dksX5_blank_2 15 rfl rfl)
theorem dX5_blank_62 : decode cX5_blank 62 = .ok (.iconst 1, 1) := dk_4 (dk_at dksX5_blank_2 16 rfl rfl)
theorem dX5_blank_63 : decode cX5_blank 63 = .ok (.bastore, 1) := dk_84 (dk_at dksX5_blank_2 17 rfl rfl)
theorem dX5_blank_64 : decode cX5_blank 64 = .ok (.iconst 1, 1) := dk_4 (dk_at dksX5_blank_2 18 rfl rfl)
theorem dX5_blank_65 : decode cX5_blank 65 = .ok (.ireturn, 1) := dk_172 (dk_at dksX5_blank_2 19 rfl rfl)
abbrev cX5_element : ByteArray := prog_22_method_114_code
def yX5_element : MethodName := ⟨RX5, "element", "(II)J"⟩
def dkwX5_element_1 : List UInt8 := [153, 0, 9, 20, 1, 247, 167, 0, 14, 42, 180, 0, 214, 16, 60, 27, 104, 28, 96, 47, 173]
abbrev dktX5_element_1 : List UInt8 := dkwX5_element_1 ++ []
def dkwX5_element_0 : List UInt8 := [42, 27, 28, 182, 1, 238, 156, 0, 7, 20, 1, 245, 173, 42, 180, 0, 218, 16, 60, 27, 104, 28, 96, 51]
abbrev dktX5_element_0 : List UInt8 := dkwX5_element_0 ++ dktX5_element_1
theorem dksX5_element_0 : cX5_element.data.toList.drop 0 = dktX5_element_0 := by decide +kernel
theorem dksX5_element_1 : cX5_element.data.toList.drop 24 = dktX5_element_1 := dk_seg dksX5_element_0 24 rfl rfl
theorem dX5_element_0 : decode cX5_element 0 = .ok (.aload_n 0, 1) := dk_42 (dk_at dksX5_element_0 0 rfl rfl)
theorem dX5_element_1 : decode cX5_element 1 = .ok (.iload_n 1, 1) := dk_27 (dk_at dksX5_element_0 1 rfl rfl)
theorem dX5_element_2 : decode cX5_element 2 = .ok (.iload_n 2, 1) := dk_28 (dk_at dksX5_element_0 2 rfl rfl)
theorem dX5_element_3 : decode cX5_element 3 = .ok (.invokevirtual 494, 3) := dk_182 1 238 (dk_at dksX5_element_0 3 rfl rfl)
theorem dX5_element_6 : decode cX5_element 6 = .ok (.ifCond .ge 7, 3) := dk_156 0 7 (dk_at dksX5_element_0 6 rfl rfl)
theorem dX5_element_9 : decode cX5_element 9 = .ok (.ldc2_w 501, 3) := dk_20 1 245 (dk_at dksX5_element_0 9 rfl rfl)
theorem dX5_element_12 : decode cX5_element 12 = .ok (.lreturn, 1) := dk_173 (dk_at dksX5_element_0 12 rfl rfl)
theorem dX5_element_13 : decode cX5_element 13 = .ok (.aload_n 0, 1) := dk_42 (dk_at dksX5_element_0 13 rfl rfl)
theorem dX5_element_14 : decode cX5_element 14 = .ok (.getfield 218, 3) := dk_180 0 218 (dk_at dksX5_element_0 14 rfl rfl)
theorem dX5_element_17 : decode cX5_element 17 = .ok (.bipush 60, 2) := dk_16 60 (dk_at dksX5_element_0 17 rfl rfl)
theorem dX5_element_19 : decode cX5_element 19 = .ok (.iload_n 1, 1) := dk_27 (dk_at dksX5_element_0 19 rfl rfl)
theorem dX5_element_20 : decode cX5_element 20 = .ok (.imul, 1) := dk_104 (dk_at dksX5_element_0 20 rfl rfl)
theorem dX5_element_21 : decode cX5_element 21 = .ok (.iload_n 2, 1) := dk_28 (dk_at dksX5_element_0 21 rfl rfl)
theorem dX5_element_22 : decode cX5_element 22 = .ok (.iadd, 1) := dk_96 (dk_at dksX5_element_0 22 rfl rfl)
theorem dX5_element_23 : decode cX5_element 23 = .ok (.baload, 1) := dk_51 (dk_at dksX5_element_0 23 rfl rfl)
theorem dX5_element_24 : decode cX5_element 24 = .ok (.ifCond .eq 9, 3) := dk_153 0 9 (dk_at dksX5_element_1 0 rfl rfl)
theorem dX5_element_27 : decode cX5_element 27 = .ok (.ldc2_w 503, 3) := dk_20 1 247 (dk_at dksX5_element_1 3 rfl rfl)
theorem dX5_element_30 : decode cX5_element 30 = .ok (.goto 14, 3) := dk_167 0 14 (dk_at dksX5_element_1 6 rfl rfl)
theorem dX5_element_33 : decode cX5_element 33 = .ok (.aload_n 0, 1) := dk_42 (dk_at dksX5_element_1 9 rfl rfl)
theorem dX5_element_34 : decode cX5_element 34 = .ok (.getfield 214, 3) := dk_180 0 214 (dk_at dksX5_element_1 10 rfl rfl)
theorem dX5_element_37 : decode cX5_element 37 = .ok (.bipush 60, 2) := dk_16 60 (dk_at dksX5_element_1 13 rfl rfl)
theorem dX5_element_39 : decode cX5_element 39 = .ok (.iload_n 1, 1) := dk_27 (dk_at dksX5_element_1 15 rfl rfl)
theorem dX5_element_40 : decode cX5_element 40 = .ok (.imul, 1) := dk_104 (dk_at dksX5_element_1 16 rfl rfl)
theorem dX5_element_41 : decode cX5_element 41 = .ok (.iload_n 2, 1) := dk_28 (dk_at dksX5_element_1 17 rfl rfl)
theorem dX5_element_42 : decode cX5_element 42 = .ok (.iadd, 1) := dk_96 (dk_at dksX5_element_1 18 rfl rfl)
theorem dX5_element_43 : decode cX5_element 43 = .ok (.laload, 1) := dk_47 (dk_at dksX5_element_1 19 rfl rfl)
theorem dX5_element_44 : decode cX5_element 44 = .ok (.lreturn, 1) := dk_173 (dk_at dksX5_element_1 20 rfl rfl)
abbrev cX5_shift : ByteArray := prog_22_method_115_code
def yX5_shift : MethodName := ⟨RX5, "shift", "(IIIII)I"⟩
def dkwX5_shift_9 : List UInt8 := [21, 4, 96, 21, 6, 96, 42, 180, 0, 224, 21, 6, 51, 84, 132, 6, 1, 167, 255, 202, 21, 5, 172]
abbrev dktX5_shift_9 : List UInt8 := dkwX5_shift_9 ++ []
def dkwX5_shift_8 : List UInt8 := [29, 104, 21, 4, 96, 21, 6, 96, 42, 180, 0, 221, 21, 6, 47, 80, 42, 180, 0, 218, 16, 60, 29, 104]
abbrev dktX5_shift_8 : List UInt8 := dkwX5_shift_8 ++ dktX5_shift_9
def dkwX5_shift_7 : List UInt8 := [51, 84, 132, 6, 1, 167, 255, 204, 3, 54, 6, 21, 6, 21, 5, 162, 0, 53, 42, 180, 0, 214, 16, 60]
abbrev dktX5_shift_7 : List UInt8 := dkwX5_shift_7 ++ dktX5_shift_8
def dkwX5_shift_6 : List UInt8 := [21, 6, 96, 47, 80, 42, 180, 0, 224, 21, 6, 42, 180, 0, 218, 16, 60, 27, 104, 28, 96, 21, 6, 96]
abbrev dktX5_shift_6 : List UInt8 := dkwX5_shift_6 ++ dktX5_shift_7
def dkwX5_shift_5 : List UInt8 := [21, 6, 21, 5, 162, 0, 51, 42, 180, 0, 221, 21, 6, 42, 180, 0, 214, 16, 60, 27, 104, 28, 96]
abbrev dktX5_shift_5 : List UInt8 := dkwX5_shift_5 ++ dktX5_shift_6
def dkwX5_shift_4 : List UInt8 := [163, 0, 17, 21, 4, 42, 180, 0, 211, 29, 46, 21, 5, 100, 164, 0, 6, 16, 243, 172, 3, 54, 6]
abbrev dktX5_shift_4 : List UInt8 := dkwX5_shift_4 ++ dktX5_shift_5
def dkwX5_shift_3 : List UInt8 := [155, 0, 39, 28, 155, 0, 35, 21, 4, 155, 0, 30, 28, 42, 180, 0, 211, 27, 46, 21, 5, 100]
abbrev dktX5_shift_3 : List UInt8 := dkwX5_shift_3 ++ dktX5_shift_4
def dkwX5_shift_2 : List UInt8 := [156, 0, 18, 42, 180, 0, 208, 27, 46, 42, 180, 0, 208, 29, 46, 159, 0, 6, 16, 244, 172, 21, 5]
abbrev dktX5_shift_2 : List UInt8 := dkwX5_shift_2 ++ dktX5_shift_3
def dkwX5_shift_1 : List UInt8 := [159, 0, 13, 42, 180, 0, 208, 29, 46, 2, 160, 0, 6, 16, 245, 172, 42, 180, 0, 208, 27, 46]
abbrev dktX5_shift_1 : List UInt8 := dkwX5_shift_1 ++ dktX5_shift_2
def dkwX5_shift_0 : List UInt8 := [27, 184, 1, 32, 153, 0, 10, 29, 184, 1, 32, 154, 0, 5, 2, 172, 42, 180, 0, 208, 27, 46, 2]
abbrev dktX5_shift_0 : List UInt8 := dkwX5_shift_0 ++ dktX5_shift_1
theorem dksX5_shift_0 : cX5_shift.data.toList.drop 0 = dktX5_shift_0 := by decide +kernel
theorem dksX5_shift_1 : cX5_shift.data.toList.drop 23 = dktX5_shift_1 := dk_seg dksX5_shift_0 23 rfl rfl
theorem dksX5_shift_2 : cX5_shift.data.toList.drop 45 = dktX5_shift_2 := dk_seg dksX5_shift_1 22 rfl rfl
theorem dksX5_shift_3 : cX5_shift.data.toList.drop 68 = dktX5_shift_3 := dk_seg dksX5_shift_2 23 rfl rfl
theorem dksX5_shift_4 : cX5_shift.data.toList.drop 90 = dktX5_shift_4 := dk_seg dksX5_shift_3 22 rfl rfl
theorem dksX5_shift_5 : cX5_shift.data.toList.drop 113 = dktX5_shift_5 := dk_seg dksX5_shift_4 23 rfl rfl
theorem dksX5_shift_6 : cX5_shift.data.toList.drop 136 = dktX5_shift_6 := dk_seg dksX5_shift_5 23 rfl rfl
theorem dksX5_shift_7 : cX5_shift.data.toList.drop 160 = dktX5_shift_7 := dk_seg dksX5_shift_6 24 rfl rfl
theorem dksX5_shift_8 : cX5_shift.data.toList.drop 184 = dktX5_shift_8 := dk_seg dksX5_shift_7 24 rfl rfl
theorem dksX5_shift_9 : cX5_shift.data.toList.drop 208 = dktX5_shift_9 := dk_seg dksX5_shift_8 24 rfl rfl
theorem dX5_shift_0 : decode cX5_shift 0 = .ok (.iload_n 1, 1) := dk_27 (dk_at dksX5_shift_0 0 rfl rfl)
theorem dX5_shift_1 : decode cX5_shift 1 = .ok (.invokestatic 288, 3) := dk_184 1 32 (dk_at dksX5_shift_0 1 rfl rfl)
theorem dX5_shift_4 : decode cX5_shift 4 = .ok (.ifCond .eq 10, 3) := dk_153 0 10 (dk_at dksX5_shift_0 4 rfl rfl)
theorem dX5_shift_7 : decode cX5_shift 7 = .ok (.iload_n 3, 1) := dk_29 (dk_at dksX5_shift_0 7 rfl rfl)
theorem dX5_shift_8 : decode cX5_shift 8 = .ok (.invokestatic 288, 3) := dk_184 1 32 (dk_at dksX5_shift_0 8 rfl rfl)
theorem dX5_shift_11 : decode cX5_shift 11 = .ok (.ifCond .ne 5, 3) := dk_154 0 5 (dk_at dksX5_shift_0 11 rfl rfl)
theorem dX5_shift_14 : decode cX5_shift 14 = .ok (.iconst (-1), 1) := dk_2 (dk_at dksX5_shift_0 14 rfl rfl)
theorem dX5_shift_15 : decode cX5_shift 15 = .ok (.ireturn, 1) := dk_172 (dk_at dksX5_shift_0 15 rfl rfl)
theorem dX5_shift_16 : decode cX5_shift 16 = .ok (.aload_n 0, 1) := dk_42 (dk_at dksX5_shift_0 16 rfl rfl)
theorem dX5_shift_17 : decode cX5_shift 17 = .ok (.getfield 208, 3) := dk_180 0 208 (dk_at dksX5_shift_0 17 rfl rfl)
theorem dX5_shift_20 : decode cX5_shift 20 = .ok (.iload_n 1, 1) := dk_27 (dk_at dksX5_shift_0 20 rfl rfl)
theorem dX5_shift_21 : decode cX5_shift 21 = .ok (.iaload, 1) := dk_46 (dk_at dksX5_shift_0 21 rfl rfl)
theorem dX5_shift_22 : decode cX5_shift 22 = .ok (.iconst (-1), 1) := dk_2 (dk_at dksX5_shift_0 22 rfl rfl)
theorem dX5_shift_23 : decode cX5_shift 23 = .ok (.if_icmp .eq 13, 3) := dk_159 0 13 (dk_at dksX5_shift_1 0 rfl rfl)
theorem dX5_shift_26 : decode cX5_shift 26 = .ok (.aload_n 0, 1) := dk_42 (dk_at dksX5_shift_1 3 rfl rfl)
theorem dX5_shift_27 : decode cX5_shift 27 = .ok (.getfield 208, 3) := dk_180 0 208 (dk_at dksX5_shift_1 4 rfl rfl)
theorem dX5_shift_30 : decode cX5_shift 30 = .ok (.iload_n 3, 1) := dk_29 (dk_at dksX5_shift_1 7 rfl rfl)
theorem dX5_shift_31 : decode cX5_shift 31 = .ok (.iaload, 1) := dk_46 (dk_at dksX5_shift_1 8 rfl rfl)
theorem dX5_shift_32 : decode cX5_shift 32 = .ok (.iconst (-1), 1) := dk_2 (dk_at dksX5_shift_1 9 rfl rfl)
theorem dX5_shift_33 : decode cX5_shift 33 = .ok (.if_icmp .ne 6, 3) := dk_160 0 6 (dk_at dksX5_shift_1 10 rfl rfl)
theorem dX5_shift_36 : decode cX5_shift 36 = .ok (.bipush (-11), 2) := dk_16 245 (dk_at dksX5_shift_1 13 rfl rfl)
theorem dX5_shift_38 : decode cX5_shift 38 = .ok (.ireturn, 1) := dk_172 (dk_at dksX5_shift_1 15 rfl rfl)
theorem dX5_shift_39 : decode cX5_shift 39 = .ok (.aload_n 0, 1) := dk_42 (dk_at dksX5_shift_1 16 rfl rfl)
theorem dX5_shift_40 : decode cX5_shift 40 = .ok (.getfield 208, 3) := dk_180 0 208 (dk_at dksX5_shift_1 17 rfl rfl)
theorem dX5_shift_43 : decode cX5_shift 43 = .ok (.iload_n 1, 1) := dk_27 (dk_at dksX5_shift_1 20 rfl rfl)
theorem dX5_shift_44 : decode cX5_shift 44 = .ok (.iaload, 1) := dk_46 (dk_at dksX5_shift_1 21 rfl rfl)
theorem dX5_shift_45 : decode cX5_shift 45 = .ok (.ifCond .ge 18, 3) := dk_156 0 18 (dk_at dksX5_shift_2 0 rfl rfl)
theorem dX5_shift_48 : decode cX5_shift 48 = .ok (.aload_n 0, 1) := dk_42 (dk_at dksX5_shift_2 3 rfl rfl)
theorem dX5_shift_49 : decode cX5_shift 49 = .ok (.getfield 208, 3) := dk_180 0 208 (dk_at dksX5_shift_2 4 rfl rfl)
theorem dX5_shift_52 : decode cX5_shift 52 = .ok (.iload_n 1, 1) := dk_27 (dk_at dksX5_shift_2 7 rfl rfl)
theorem dX5_shift_53 : decode cX5_shift 53 = .ok (.iaload, 1) := dk_46 (dk_at dksX5_shift_2 8 rfl rfl)
theorem dX5_shift_54 : decode cX5_shift 54 = .ok (.aload_n 0, 1) := dk_42 (dk_at dksX5_shift_2 9 rfl rfl)
theorem dX5_shift_55 : decode cX5_shift 55 = .ok (.getfield 208, 3) := dk_180 0 208 (dk_at dksX5_shift_2 10 rfl rfl)
theorem dX5_shift_58 : decode cX5_shift 58 = .ok (.iload_n 3, 1) := dk_29 (dk_at dksX5_shift_2 13 rfl rfl)
theorem dX5_shift_59 : decode cX5_shift 59 = .ok (.iaload, 1) := dk_46 (dk_at dksX5_shift_2 14 rfl rfl)
theorem dX5_shift_60 : decode cX5_shift 60 = .ok (.if_icmp .eq 6, 3) := dk_159 0 6 (dk_at dksX5_shift_2 15 rfl rfl)
theorem dX5_shift_63 : decode cX5_shift 63 = .ok (.bipush (-12), 2) := dk_16 244 (dk_at dksX5_shift_2 18 rfl rfl)
theorem dX5_shift_65 : decode cX5_shift 65 = .ok (.ireturn, 1) := dk_172 (dk_at dksX5_shift_2 20 rfl rfl)
theorem dX5_shift_66 : decode cX5_shift 66 = .ok (.iload 5, 2) := dk_21 5 (dk_at dksX5_shift_2 21 rfl rfl)
theorem dX5_shift_68 : decode cX5_shift 68 = .ok (.ifCond .lt 39, 3) := dk_155 0 39 (dk_at dksX5_shift_3 0 rfl rfl)
theorem dX5_shift_71 : decode cX5_shift 71 = .ok (.iload_n 2, 1) := dk_28 (dk_at dksX5_shift_3 3 rfl rfl)
theorem dX5_shift_72 : decode cX5_shift 72 = .ok (.ifCond .lt 35, 3) := dk_155 0 35 (dk_at dksX5_shift_3 4 rfl rfl)
theorem dX5_shift_75 : decode cX5_shift 75 = .ok (.iload 4, 2) := dk_21 4 (dk_at dksX5_shift_3 7 rfl rfl)
theorem dX5_shift_77 : decode cX5_shift 77 = .ok (.ifCond .lt 30, 3) := dk_155 0 30 (dk_at dksX5_shift_3 9 rfl rfl)
theorem dX5_shift_80 : decode cX5_shift 80 = .ok (.iload_n 2, 1) := dk_28 (dk_at dksX5_shift_3 12 rfl rfl)
theorem dX5_shift_81 : decode cX5_shift 81 = .ok (.aload_n 0, 1) := dk_42 (dk_at dksX5_shift_3 13 rfl rfl)
theorem dX5_shift_82 : decode cX5_shift 82 = .ok (.getfield 211, 3) := dk_180 0 211 (dk_at dksX5_shift_3 14 rfl rfl)
theorem dX5_shift_85 : decode cX5_shift 85 = .ok (.iload_n 1, 1) := dk_27 (dk_at dksX5_shift_3 17 rfl rfl)
theorem dX5_shift_86 : decode cX5_shift 86 = .ok (.iaload, 1) := dk_46 (dk_at dksX5_shift_3 18 rfl rfl)
theorem dX5_shift_87 : decode cX5_shift 87 = .ok (.iload 5, 2) := dk_21 5 (dk_at dksX5_shift_3 19 rfl rfl)
theorem dX5_shift_89 : decode cX5_shift 89 = .ok (.isub, 1) := dk_100 (dk_at dksX5_shift_3 21 rfl rfl)
theorem dX5_shift_90 : decode cX5_shift 90 = .ok (.if_icmp .gt 17, 3) := dk_163 0 17 (dk_at dksX5_shift_4 0 rfl rfl)
theorem dX5_shift_93 : decode cX5_shift 93 = .ok (.iload 4, 2) := dk_21 4 (dk_at dksX5_shift_4 3 rfl rfl)
theorem dX5_shift_95 : decode cX5_shift 95 = .ok (.aload_n 0, 1) := dk_42 (dk_at dksX5_shift_4 5 rfl rfl)
theorem dX5_shift_96 : decode cX5_shift 96 = .ok (.getfield 211, 3) := dk_180 0 211 (dk_at dksX5_shift_4 6 rfl rfl)
theorem dX5_shift_99 : decode cX5_shift 99 = .ok (.iload_n 3, 1) := dk_29 (dk_at dksX5_shift_4 9 rfl rfl)
theorem dX5_shift_100 : decode cX5_shift 100 = .ok (.iaload, 1) := dk_46 (dk_at dksX5_shift_4 10 rfl rfl)
theorem dX5_shift_101 : decode cX5_shift 101 = .ok (.iload 5, 2) := dk_21 5 (dk_at dksX5_shift_4 11 rfl rfl)
theorem dX5_shift_103 : decode cX5_shift 103 = .ok (.isub, 1) := dk_100 (dk_at dksX5_shift_4 13 rfl rfl)
theorem dX5_shift_104 : decode cX5_shift 104 = .ok (.if_icmp .le 6, 3) := dk_164 0 6 (dk_at dksX5_shift_4 14 rfl rfl)
theorem dX5_shift_107 : decode cX5_shift 107 = .ok (.bipush (-13), 2) := dk_16 243 (dk_at dksX5_shift_4 17 rfl rfl)
theorem dX5_shift_109 : decode cX5_shift 109 = .ok (.ireturn, 1) := dk_172 (dk_at dksX5_shift_4 19 rfl rfl)
theorem dX5_shift_110 : decode cX5_shift 110 = .ok (.iconst 0, 1) := dk_3 (dk_at dksX5_shift_4 20 rfl rfl)
theorem dX5_shift_111 : decode cX5_shift 111 = .ok (.istore 6, 2) := dk_54 6 (dk_at dksX5_shift_4 21 rfl rfl)
theorem dX5_shift_113 : decode cX5_shift 113 = .ok (.iload 6, 2) := dk_21 6 (dk_at dksX5_shift_5 0 rfl rfl)
theorem dX5_shift_115 : decode cX5_shift 115 = .ok (.iload 5, 2) := dk_21 5 (dk_at dksX5_shift_5 2 rfl rfl)
theorem dX5_shift_117 : decode cX5_shift 117 = .ok (.if_icmp .ge 51, 3) := dk_162 0 51 (dk_at dksX5_shift_5 4 rfl rfl)
theorem dX5_shift_120 : decode cX5_shift 120 = .ok (.aload_n 0, 1) := dk_42 (dk_at dksX5_shift_5 7 rfl rfl)
theorem dX5_shift_121 : decode cX5_shift 121 = .ok (.getfield 221, 3) := dk_180 0 221 (dk_at dksX5_shift_5 8 rfl rfl)
theorem dX5_shift_124 : decode cX5_shift 124 = .ok (.iload 6, 2) := dk_21 6 (dk_at dksX5_shift_5 11 rfl rfl)
theorem dX5_shift_126 : decode cX5_shift 126 = .ok (.aload_n 0, 1) := dk_42 (dk_at dksX5_shift_5 13 rfl rfl)
theorem dX5_shift_127 : decode cX5_shift 127 = .ok (.getfield 214, 3) := dk_180 0 214 (dk_at dksX5_shift_5 14 rfl rfl)
theorem dX5_shift_130 : decode cX5_shift 130 = .ok (.bipush 60, 2) := dk_16 60 (dk_at dksX5_shift_5 17 rfl rfl)
theorem dX5_shift_132 : decode cX5_shift 132 = .ok (.iload_n 1, 1) := dk_27 (dk_at dksX5_shift_5 19 rfl rfl)
theorem dX5_shift_133 : decode cX5_shift 133 = .ok (.imul, 1) := dk_104 (dk_at dksX5_shift_5 20 rfl rfl)
theorem dX5_shift_134 : decode cX5_shift 134 = .ok (.iload_n 2, 1) := dk_28 (dk_at dksX5_shift_5 21 rfl rfl)
theorem dX5_shift_135 : decode cX5_shift 135 = .ok (.iadd, 1) := dk_96 (dk_at dksX5_shift_5 22 rfl rfl)
theorem dX5_shift_136 : decode cX5_shift 136 = .ok (.iload 6, 2) := dk_21 6 (dk_at dksX5_shift_6 0 rfl rfl)
theorem dX5_shift_138 : decode cX5_shift 138 = .ok (.iadd, 1) := dk_96 (dk_at dksX5_shift_6 2 rfl rfl)
theorem dX5_shift_139 : decode cX5_shift 139 = .ok (.laload, 1) := dk_47 (dk_at dksX5_shift_6 3 rfl rfl)
theorem dX5_shift_140 : decode cX5_shift 140 = .ok (.lastore, 1) := dk_80 (dk_at dksX5_shift_6 4 rfl rfl)
theorem dX5_shift_141 : decode cX5_shift 141 = .ok (.aload_n 0, 1) := dk_42 (dk_at dksX5_shift_6 5 rfl rfl)
theorem dX5_shift_142 : decode cX5_shift 142 = .ok (.getfield 224, 3) := dk_180 0 224 (dk_at dksX5_shift_6 6 rfl rfl)
theorem dX5_shift_145 : decode cX5_shift 145 = .ok (.iload 6, 2) := dk_21 6 (dk_at dksX5_shift_6 9 rfl rfl)
theorem dX5_shift_147 : decode cX5_shift 147 = .ok (.aload_n 0, 1) := dk_42 (dk_at dksX5_shift_6 11 rfl rfl)
theorem dX5_shift_148 : decode cX5_shift 148 = .ok (.getfield 218, 3) := dk_180 0 218 (dk_at dksX5_shift_6 12 rfl rfl)
theorem dX5_shift_151 : decode cX5_shift 151 = .ok (.bipush 60, 2) := dk_16 60 (dk_at dksX5_shift_6 15 rfl rfl)
theorem dX5_shift_153 : decode cX5_shift 153 = .ok (.iload_n 1, 1) := dk_27 (dk_at dksX5_shift_6 17 rfl rfl)
theorem dX5_shift_154 : decode cX5_shift 154 = .ok (.imul, 1) := dk_104 (dk_at dksX5_shift_6 18 rfl rfl)
theorem dX5_shift_155 : decode cX5_shift 155 = .ok (.iload_n 2, 1) := dk_28 (dk_at dksX5_shift_6 19 rfl rfl)
theorem dX5_shift_156 : decode cX5_shift 156 = .ok (.iadd, 1) := dk_96 (dk_at dksX5_shift_6 20 rfl rfl)
theorem dX5_shift_157 : decode cX5_shift 157 = .ok (.iload 6, 2) := dk_21 6 (dk_at dksX5_shift_6 21 rfl rfl)
theorem dX5_shift_159 : decode cX5_shift 159 = .ok (.iadd, 1) := dk_96 (dk_at dksX5_shift_6 23 rfl rfl)
theorem dX5_shift_160 : decode cX5_shift 160 = .ok (.baload, 1) := dk_51 (dk_at dksX5_shift_7 0 rfl rfl)
theorem dX5_shift_161 : decode cX5_shift 161 = .ok (.bastore, 1) := dk_84 (dk_at dksX5_shift_7 1 rfl rfl)
theorem dX5_shift_162 : decode cX5_shift 162 = .ok (.iinc 6 1, 3) := dk_132 6 1 (dk_at dksX5_shift_7 2 rfl rfl)
theorem dX5_shift_165 : decode cX5_shift 165 = .ok (.goto (-52), 3) := dk_167 255 204 (dk_at dksX5_shift_7 5 rfl rfl)
theorem dX5_shift_168 : decode cX5_shift 168 = .ok (.iconst 0, 1) := dk_3 (dk_at dksX5_shift_7 8 rfl rfl)
theorem dX5_shift_169 : decode cX5_shift 169 = .ok (.istore 6, 2) := dk_54 6 (dk_at dksX5_shift_7 9 rfl rfl)
theorem dX5_shift_171 : decode cX5_shift 171 = .ok (.iload 6, 2) := dk_21 6 (dk_at dksX5_shift_7 11 rfl rfl)
theorem dX5_shift_173 : decode cX5_shift 173 = .ok (.iload 5, 2) := dk_21 5 (dk_at dksX5_shift_7 13 rfl rfl)
theorem dX5_shift_175 : decode cX5_shift 175 = .ok (.if_icmp .ge 53, 3) := dk_162 0 53 (dk_at dksX5_shift_7 15 rfl rfl)
theorem dX5_shift_178 : decode cX5_shift 178 = .ok (.aload_n 0, 1) := dk_42 (dk_at dksX5_shift_7 18 rfl rfl)
theorem dX5_shift_179 : decode cX5_shift 179 = .ok (.getfield 214, 3) := dk_180 0 214 (dk_at dksX5_shift_7 19 rfl rfl)
theorem dX5_shift_182 : decode cX5_shift 182 = .ok (.bipush 60, 2) := dk_16 60 (dk_at dksX5_shift_7 22 rfl rfl)
theorem dX5_shift_184 : decode cX5_shift 184 = .ok (.iload_n 3, 1) := dk_29 (dk_at dksX5_shift_8 0 rfl rfl)
theorem dX5_shift_185 : decode cX5_shift 185 = .ok (.imul, 1) := dk_104 (dk_at dksX5_shift_8 1 rfl rfl)
theorem dX5_shift_186 : decode cX5_shift 186 = .ok (.iload 4, 2) := dk_21 4 (dk_at dksX5_shift_8 2 rfl rfl)
theorem dX5_shift_188 : decode cX5_shift 188 = .ok (.iadd, 1) := dk_96 (dk_at dksX5_shift_8 4 rfl rfl)
theorem dX5_shift_189 : decode cX5_shift 189 = .ok (.iload 6, 2) := dk_21 6 (dk_at dksX5_shift_8 5 rfl rfl)
theorem dX5_shift_191 : decode cX5_shift 191 = .ok (.iadd, 1) := dk_96 (dk_at dksX5_shift_8 7 rfl rfl)
theorem dX5_shift_192 : decode cX5_shift 192 = .ok (.aload_n 0, 1) := dk_42 (dk_at dksX5_shift_8 8 rfl rfl)
theorem dX5_shift_193 : decode cX5_shift 193 = .ok (.getfield 221, 3) := dk_180 0 221 (dk_at dksX5_shift_8 9 rfl rfl)
theorem dX5_shift_196 : decode cX5_shift 196 = .ok (.iload 6, 2) := dk_21 6 (dk_at dksX5_shift_8 12 rfl rfl)
theorem dX5_shift_198 : decode cX5_shift 198 = .ok (.laload, 1) := dk_47 (dk_at dksX5_shift_8 14 rfl rfl)
theorem dX5_shift_199 : decode cX5_shift 199 = .ok (.lastore, 1) := dk_80 (dk_at dksX5_shift_8 15 rfl rfl)
theorem dX5_shift_200 : decode cX5_shift 200 = .ok (.aload_n 0, 1) := dk_42 (dk_at dksX5_shift_8 16 rfl rfl)
theorem dX5_shift_201 : decode cX5_shift 201 = .ok (.getfield 218, 3) := dk_180 0 218 (dk_at dksX5_shift_8 17 rfl rfl)
theorem dX5_shift_204 : decode cX5_shift 204 = .ok (.bipush 60, 2) := dk_16 60 (dk_at dksX5_shift_8 20 rfl rfl)
theorem dX5_shift_206 : decode cX5_shift 206 = .ok (.iload_n 3, 1) := dk_29 (dk_at dksX5_shift_8 22 rfl rfl)
theorem dX5_shift_207 : decode cX5_shift 207 = .ok (.imul, 1) := dk_104 (dk_at dksX5_shift_8 23 rfl rfl)
theorem dX5_shift_208 : decode cX5_shift 208 = .ok (.iload 4, 2) := dk_21 4 (dk_at dksX5_shift_9 0 rfl rfl)
theorem dX5_shift_210 : decode cX5_shift 210 = .ok (.iadd, 1) := dk_96 (dk_at dksX5_shift_9 2 rfl rfl)
theorem dX5_shift_211 : decode cX5_shift 211 = .ok (.iload 6, 2) := dk_21 6 (dk_at dksX5_shift_9 3 rfl rfl)
theorem dX5_shift_213 : decode cX5_shift 213 = .ok (.iadd, 1) := dk_96 (dk_at dksX5_shift_9 5 rfl rfl)
theorem dX5_shift_214 : decode cX5_shift 214 = .ok (.aload_n 0, 1) := dk_42 (dk_at dksX5_shift_9 6 rfl rfl)
theorem dX5_shift_215 : decode cX5_shift 215 = .ok (.getfield 224, 3) := dk_180 0 224 (dk_at dksX5_shift_9 7 rfl rfl)
theorem dX5_shift_218 : decode cX5_shift 218 = .ok (.iload 6, 2) := dk_21 6 (dk_at dksX5_shift_9 10 rfl rfl)
theorem dX5_shift_220 : decode cX5_shift 220 = .ok (.baload, 1) := dk_51 (dk_at dksX5_shift_9 12 rfl rfl)
theorem dX5_shift_221 : decode cX5_shift 221 = .ok (.bastore, 1) := dk_84 (dk_at dksX5_shift_9 13 rfl rfl)
theorem dX5_shift_222 : decode cX5_shift 222 = .ok (.iinc 6 1, 3) := dk_132 6 1 (dk_at dksX5_shift_9 14 rfl rfl)
theorem dX5_shift_225 : decode cX5_shift 225 = .ok (.goto (-54), 3) := dk_167 255 202 (dk_at dksX5_shift_9 17 rfl rfl)
theorem dX5_shift_228 : decode cX5_shift 228 = .ok (.iload 5, 2) := dk_21 5 (dk_at dksX5_shift_9 20 rfl rfl)
theorem dX5_shift_230 : decode cX5_shift 230 = .ok (.ireturn, 1) := dk_172 (dk_at dksX5_shift_9 22 rfl rfl)
abbrev cX5_taken : ByteArray := prog_22_method_116_code
def yX5_taken : MethodName := ⟨RX5, "taken", "(II)I"⟩
def dkwX5_taken_3 : List UInt8 := [167, 0, 5, 16, 244, 172]
abbrev dktX5_taken_3 : List UInt8 := dkwX5_taken_3 ++ []
def dkwX5_taken_2 : List UInt8 := [180, 0, 208, 27, 46, 46, 28, 184, 0, 248, 153, 0, 17, 42, 180, 0, 17, 42, 180, 0, 208, 27, 46, 46]
abbrev dktX5_taken_2 : List UInt8 := dkwX5_taken_2 ++ dktX5_taken_3
def dkwX5_taken_1 : List UInt8 := [46, 2, 160, 0, 6, 16, 245, 172, 42, 180, 0, 208, 27, 46, 155, 0, 35, 42, 180, 0, 17, 42]
abbrev dktX5_taken_1 : List UInt8 := dkwX5_taken_1 ++ dktX5_taken_2
def dkwX5_taken_0 : List UInt8 := [27, 184, 1, 32, 153, 0, 13, 28, 3, 16, 7, 184, 0, 230, 154, 0, 5, 2, 172, 42, 180, 0, 208, 27]
abbrev dktX5_taken_0 : List UInt8 := dkwX5_taken_0 ++ dktX5_taken_1
theorem dksX5_taken_0 : cX5_taken.data.toList.drop 0 = dktX5_taken_0 := by decide +kernel
theorem dksX5_taken_1 : cX5_taken.data.toList.drop 24 = dktX5_taken_1 := dk_seg dksX5_taken_0 24 rfl rfl
theorem dksX5_taken_2 : cX5_taken.data.toList.drop 46 = dktX5_taken_2 := dk_seg dksX5_taken_1 22 rfl rfl
theorem dksX5_taken_3 : cX5_taken.data.toList.drop 70 = dktX5_taken_3 := dk_seg dksX5_taken_2 24 rfl rfl
theorem dX5_taken_0 : decode cX5_taken 0 = .ok (.iload_n 1, 1) := dk_27 (dk_at dksX5_taken_0 0 rfl rfl)
theorem dX5_taken_1 : decode cX5_taken 1 = .ok (.invokestatic 288, 3) := dk_184 1 32 (dk_at dksX5_taken_0 1 rfl rfl)
theorem dX5_taken_4 : decode cX5_taken 4 = .ok (.ifCond .eq 13, 3) := dk_153 0 13 (dk_at dksX5_taken_0 4 rfl rfl)
theorem dX5_taken_7 : decode cX5_taken 7 = .ok (.iload_n 2, 1) := dk_28 (dk_at dksX5_taken_0 7 rfl rfl)
theorem dX5_taken_8 : decode cX5_taken 8 = .ok (.iconst 0, 1) := dk_3 (dk_at dksX5_taken_0 8 rfl rfl)
theorem dX5_taken_9 : decode cX5_taken 9 = .ok (.bipush 7, 2) := dk_16 7 (dk_at dksX5_taken_0 9 rfl rfl)
theorem dX5_taken_11 : decode cX5_taken 11 = .ok (.invokestatic 230, 3) := dk_184 0 230 (dk_at dksX5_taken_0 11 rfl rfl)
theorem dX5_taken_14 : decode cX5_taken 14 = .ok (.ifCond .ne 5, 3) := dk_154 0 5 (dk_at dksX5_taken_0 14 rfl rfl)
theorem dX5_taken_17 : decode cX5_taken 17 = .ok (.iconst (-1), 1) := dk_2 (dk_at dksX5_taken_0 17 rfl rfl)
theorem dX5_taken_18 : decode cX5_taken 18 = .ok (.ireturn, 1) := dk_172 (dk_at dksX5_taken_0 18 rfl rfl)
theorem dX5_taken_19 : decode cX5_taken 19 = .ok (.aload_n 0, 1) := dk_42 (dk_at dksX5_taken_0 19 rfl rfl)
theorem dX5_taken_20 : decode cX5_taken 20 = .ok (.getfield 208, 3) := dk_180 0 208 (dk_at dksX5_taken_0 20 rfl rfl)
theorem dX5_taken_23 : decode cX5_taken 23 = .ok (.iload_n 1, 1) := dk_27 (dk_at dksX5_taken_0 23 rfl rfl)
theorem dX5_taken_24 : decode cX5_taken 24 = .ok (.iaload, 1) := dk_46 (dk_at dksX5_taken_1 0 rfl rfl)
theorem dX5_taken_25 : decode cX5_taken 25 = .ok (.iconst (-1), 1) := dk_2 (dk_at dksX5_taken_1 1 rfl rfl)
theorem dX5_taken_26 : decode cX5_taken 26 = .ok (.if_icmp .ne 6, 3) := dk_160 0 6 (dk_at dksX5_taken_1 2 rfl rfl)
theorem dX5_taken_29 : decode cX5_taken 29 = .ok (.bipush (-11), 2) := dk_16 245 (dk_at dksX5_taken_1 5 rfl rfl)
theorem dX5_taken_31 : decode cX5_taken 31 = .ok (.ireturn, 1) := dk_172 (dk_at dksX5_taken_1 7 rfl rfl)
theorem dX5_taken_32 : decode cX5_taken 32 = .ok (.aload_n 0, 1) := dk_42 (dk_at dksX5_taken_1 8 rfl rfl)
theorem dX5_taken_33 : decode cX5_taken 33 = .ok (.getfield 208, 3) := dk_180 0 208 (dk_at dksX5_taken_1 9 rfl rfl)
theorem dX5_taken_36 : decode cX5_taken 36 = .ok (.iload_n 1, 1) := dk_27 (dk_at dksX5_taken_1 12 rfl rfl)
theorem dX5_taken_37 : decode cX5_taken 37 = .ok (.iaload, 1) := dk_46 (dk_at dksX5_taken_1 13 rfl rfl)
theorem dX5_taken_38 : decode cX5_taken 38 = .ok (.ifCond .lt 35, 3) := dk_155 0 35 (dk_at dksX5_taken_1 14 rfl rfl)
theorem dX5_taken_41 : decode cX5_taken 41 = .ok (.aload_n 0, 1) := dk_42 (dk_at dksX5_taken_1 17 rfl rfl)
theorem dX5_taken_42 : decode cX5_taken 42 = .ok (.getfield 17, 3) := dk_180 0 17 (dk_at dksX5_taken_1 18 rfl rfl)
theorem dX5_taken_45 : decode cX5_taken 45 = .ok (.aload_n 0, 1) := dk_42 (dk_at dksX5_taken_1 21 rfl rfl)
theorem dX5_taken_46 : decode cX5_taken 46 = .ok (.getfield 208, 3) := dk_180 0 208 (dk_at dksX5_taken_2 0 rfl rfl)
theorem dX5_taken_49 : decode cX5_taken 49 = .ok (.iload_n 1, 1) := dk_27 (dk_at dksX5_taken_2 3 rfl rfl)
theorem dX5_taken_50 : decode cX5_taken 50 = .ok (.iaload, 1) := dk_46 (dk_at dksX5_taken_2 4 rfl rfl)
theorem dX5_taken_51 : decode cX5_taken 51 = .ok (.iaload, 1) := dk_46 (dk_at dksX5_taken_2 5 rfl rfl)
theorem dX5_taken_52 : decode cX5_taken 52 = .ok (.iload_n 2, 1) := dk_28 (dk_at dksX5_taken_2 6 rfl rfl)
theorem dX5_taken_53 : decode cX5_taken 53 = .ok (.invokestatic 248, 3) := dk_184 0 248 (dk_at dksX5_taken_2 7 rfl rfl)
theorem dX5_taken_56 : decode cX5_taken 56 = .ok (.ifCond .eq 17, 3) := dk_153 0 17 (dk_at dksX5_taken_2 10 rfl rfl)
theorem dX5_taken_59 : decode cX5_taken 59 = .ok (.aload_n 0, 1) := dk_42 (dk_at dksX5_taken_2 13 rfl rfl)
theorem dX5_taken_60 : decode cX5_taken 60 = .ok (.getfield 17, 3) := dk_180 0 17 (dk_at dksX5_taken_2 14 rfl rfl)
theorem dX5_taken_63 : decode cX5_taken 63 = .ok (.aload_n 0, 1) := dk_42 (dk_at dksX5_taken_2 17 rfl rfl)
theorem dX5_taken_64 : decode cX5_taken 64 = .ok (.getfield 208, 3) := dk_180 0 208 (dk_at dksX5_taken_2 18 rfl rfl)
theorem dX5_taken_67 : decode cX5_taken 67 = .ok (.iload_n 1, 1) := dk_27 (dk_at dksX5_taken_2 21 rfl rfl)
theorem dX5_taken_68 : decode cX5_taken 68 = .ok (.iaload, 1) := dk_46 (dk_at dksX5_taken_2 22 rfl rfl)
theorem dX5_taken_69 : decode cX5_taken 69 = .ok (.iaload, 1) := dk_46 (dk_at dksX5_taken_2 23 rfl rfl)
theorem dX5_taken_70 : decode cX5_taken 70 = .ok (.goto 5, 3) := dk_167 0 5 (dk_at dksX5_taken_3 0 rfl rfl)
theorem dX5_taken_73 : decode cX5_taken 73 = .ok (.bipush (-12), 2) := dk_16 244 (dk_at dksX5_taken_3 3 rfl rfl)
theorem dX5_taken_75 : decode cX5_taken 75 = .ok (.ireturn, 1) := dk_172 (dk_at dksX5_taken_3 5 rfl rfl)
theorem q92 : (Jvm.Cond.initialized "ThirtyThreeBelowModel") ∈ lw_all := lw_g (lw_at lw_m1 9 rfl) rfl
theorem q1681 : (Jvm.Cond.instantiable "ThirtyThreeBelowModel" (95 : Nat)) ∈ lw_all := lw_g (lw_at lw_m7 158 rfl) rfl
theorem q1683 : (Jvm.Cond.instanceMethod ({ cls := "ThirtyThreeBelowModel", name := "<init>", desc := "()V" } : Jvm.MethodName)) ∈ lw_all := lw_g (lw_at lw_m7 160 rfl) rfl
theorem q1684 : (Jvm.Cond.code ({ cls := "ThirtyThreeBelowModel", name := "<init>", desc := "()V" } : Jvm.MethodName) prog_22_method_1_code (1 : Nat) (Option.none : Option Jvm.ClassFile.FieldType)) ∈ lw_all := lw_g (lw_at lw_m7 161 rfl) rfl
theorem q1685 : (Jvm.Cond.methodLink "ThirtyThreeBelowModel" (1 : Nat) ({ cls := "java/lang/Object", name := "<init>", desc := "()V" } : Jvm.MethodName)) ∈ lw_all := lw_g (lw_at lw_m7 162 rfl) rfl
theorem q1686 : (Jvm.Cond.fieldLink "ThirtyThreeBelowModel" (281 : Nat) "ThirtyThreeBelowModel" "hour" "I") ∈ lw_all := lw_g (lw_at lw_m7 163 rfl) rfl
theorem q1687 : (Jvm.Cond.fieldLink "ThirtyThreeBelowModel" (7 : Nat) "ThirtyThreeBelowModel" "harder" "[I") ∈ lw_all := lw_g (lw_at lw_m7 164 rfl) rfl
theorem q1688 : (Jvm.Cond.fieldLink "ThirtyThreeBelowModel" (13 : Nat) "ThirtyThreeBelowModel" "isOpen" "[Z") ∈ lw_all := lw_g (lw_at lw_m7 165 rfl) rfl
theorem q1689 : (Jvm.Cond.fieldLink "ThirtyThreeBelowModel" (242 : Nat) "ThirtyThreeBelowModel" "bodies" "I") ∈ lw_all := lw_g (lw_at lw_m7 166 rfl) rfl
theorem q1690 : (Jvm.Cond.fieldLink "ThirtyThreeBelowModel" (17 : Nat) "ThirtyThreeBelowModel" "kind" "[I") ∈ lw_all := lw_g (lw_at lw_m7 167 rfl) rfl
theorem q1691 : (Jvm.Cond.fieldLink "ThirtyThreeBelowModel" (20 : Nat) "ThirtyThreeBelowModel" "column" "[I") ∈ lw_all := lw_g (lw_at lw_m7 168 rfl) rfl
theorem q1692 : (Jvm.Cond.fieldLink "ThirtyThreeBelowModel" (23 : Nat) "ThirtyThreeBelowModel" "width" "[I") ∈ lw_all := lw_g (lw_at lw_m7 169 rfl) rfl
theorem q1693 : (Jvm.Cond.fieldLink "ThirtyThreeBelowModel" (26 : Nat) "ThirtyThreeBelowModel" "trueColumn" "[I") ∈ lw_all := lw_g (lw_at lw_m7 170 rfl) rfl
theorem q1694 : (Jvm.Cond.fieldLink "ThirtyThreeBelowModel" (29 : Nat) "ThirtyThreeBelowModel" "toldYards" "[I") ∈ lw_all := lw_g (lw_at lw_m7 171 rfl) rfl
theorem q1695 : (Jvm.Cond.fieldLink "ThirtyThreeBelowModel" (32 : Nat) "ThirtyThreeBelowModel" "bored" "[I") ∈ lw_all := lw_g (lw_at lw_m7 172 rfl) rfl
theorem q1696 : (Jvm.Cond.fieldLink "ThirtyThreeBelowModel" (35 : Nat) "ThirtyThreeBelowModel" "kept" "[I") ∈ lw_all := lw_g (lw_at lw_m7 173 rfl) rfl
theorem q1697 : (Jvm.Cond.fieldLink "ThirtyThreeBelowModel" (38 : Nat) "ThirtyThreeBelowModel" "throughOn" "[I") ∈ lw_all := lw_g (lw_at lw_m7 174 rfl) rfl
theorem q1698 : (Jvm.Cond.fieldLink "ThirtyThreeBelowModel" (41 : Nat) "ThirtyThreeBelowModel" "lean" "[I") ∈ lw_all := lw_g (lw_at lw_m7 175 rfl) rfl
theorem q1699 : (Jvm.Cond.fieldLink "ThirtyThreeBelowModel" (44 : Nat) "ThirtyThreeBelowModel" "metAt" "[I") ∈ lw_all := lw_g (lw_at lw_m7 176 rfl) rfl
theorem q1700 : (Jvm.Cond.fieldLink "ThirtyThreeBelowModel" (47 : Nat) "ThirtyThreeBelowModel" "isLogged" "[Z") ∈ lw_all := lw_g (lw_at lw_m7 177 rfl) rfl
theorem q1701 : (Jvm.Cond.fieldLink "ThirtyThreeBelowModel" (50 : Nat) "ThirtyThreeBelowModel" "logged" "[I") ∈ lw_all := lw_g (lw_at lw_m7 178 rfl) rfl
theorem q1702 : (Jvm.Cond.fieldLink "ThirtyThreeBelowModel" (53 : Nat) "ThirtyThreeBelowModel" "strength" "[I") ∈ lw_all := lw_g (lw_at lw_m7 179 rfl) rfl
theorem q1703 : (Jvm.Cond.fieldLink "ThirtyThreeBelowModel" (56 : Nat) "ThirtyThreeBelowModel" "skill" "[I") ∈ lw_all := lw_g (lw_at lw_m7 180 rfl) rfl
theorem q1704 : (Jvm.Cond.fieldLink "ThirtyThreeBelowModel" (59 : Nat) "ThirtyThreeBelowModel" "ill" "[I") ∈ lw_all := lw_g (lw_at lw_m7 181 rfl) rfl
theorem q1705 : (Jvm.Cond.fieldLink "ThirtyThreeBelowModel" (62 : Nat) "ThirtyThreeBelowModel" "isBelow" "[Z") ∈ lw_all := lw_g (lw_at lw_m7 182 rfl) rfl
theorem q1706 : (Jvm.Cond.fieldLink "ThirtyThreeBelowModel" (65 : Nat) "ThirtyThreeBelowModel" "theShelter" "I") ∈ lw_all := lw_g (lw_at lw_m7 183 rfl) rfl
theorem q1707 : (Jvm.Cond.fieldLink "ThirtyThreeBelowModel" (258 : Nat) "ThirtyThreeBelowModel" "shelterA" "I") ∈ lw_all := lw_g (lw_at lw_m7 184 rfl) rfl
theorem q1708 : (Jvm.Cond.fieldLink "ThirtyThreeBelowModel" (261 : Nat) "ThirtyThreeBelowModel" "shelterB" "I") ∈ lw_all := lw_g (lw_at lw_m7 185 rfl) rfl
theorem q1709 : (Jvm.Cond.fieldLink "ThirtyThreeBelowModel" (264 : Nat) "ThirtyThreeBelowModel" "shelterYard" "I") ∈ lw_all := lw_g (lw_at lw_m7 186 rfl) rfl
theorem q1710 : (Jvm.Cond.fieldLink "ThirtyThreeBelowModel" (271 : Nat) "ThirtyThreeBelowModel" "shelterMoved" "Z") ∈ lw_all := lw_g (lw_at lw_m7 187 rfl) rfl
theorem q1711 : (Jvm.Cond.fieldLink "ThirtyThreeBelowModel" (69 : Nat) "ThirtyThreeBelowModel" "speedOf" "[I") ∈ lw_all := lw_g (lw_at lw_m7 188 rfl) rfl
theorem q1712 : (Jvm.Cond.fieldLink "ThirtyThreeBelowModel" (72 : Nat) "ThirtyThreeBelowModel" "holeOf" "[I") ∈ lw_all := lw_g (lw_at lw_m7 189 rfl) rfl
theorem q1713 : (Jvm.Cond.fieldLink "ThirtyThreeBelowModel" (75 : Nat) "ThirtyThreeBelowModel" "brokenTill" "[I") ∈ lw_all := lw_g (lw_at lw_m7 190 rfl) rfl
theorem q1714 : (Jvm.Cond.fieldLink "ThirtyThreeBelowModel" (78 : Nat) "ThirtyThreeBelowModel" "spreadIs" "I") ∈ lw_all := lw_g (lw_at lw_m7 191 rfl) rfl
theorem q1715 : (Jvm.Cond.fieldLink "ThirtyThreeBelowModel" (301 : Nat) "ThirtyThreeBelowModel" "maps" "I") ∈ lw_all := lw_g (lw_at lw_m7 192 rfl) rfl
theorem q1716 : (Jvm.Cond.fieldLink "ThirtyThreeBelowModel" (81 : Nat) "ThirtyThreeBelowModel" "mapA" "[I") ∈ lw_all := lw_g (lw_at lw_m7 193 rfl) rfl
theorem q1717 : (Jvm.Cond.fieldLink "ThirtyThreeBelowModel" (84 : Nat) "ThirtyThreeBelowModel" "mapB" "[I") ∈ lw_all := lw_g (lw_at lw_m7 194 rfl) rfl
theorem q1718 : (Jvm.Cond.fieldLink "ThirtyThreeBelowModel" (87 : Nat) "ThirtyThreeBelowModel" "mapYard" "[I") ∈ lw_all := lw_g (lw_at lw_m7 195 rfl) rfl
theorem q1719 : (Jvm.Cond.fieldLink "ThirtyThreeBelowModel" (90 : Nat) "ThirtyThreeBelowModel" "olds" "[I") ∈ lw_all := lw_g (lw_at lw_m7 196 rfl) rfl
theorem q1720 : (Jvm.Cond.fieldLink "ThirtyThreeBelowModel" (93 : Nat) "ThirtyThreeBelowModel" "oldCell" "[I") ∈ lw_all := lw_g (lw_at lw_m7 197 rfl) rfl
theorem q1721 : (Jvm.Cond.fieldLink "ThirtyThreeBelowModel" (96 : Nat) "ThirtyThreeBelowModel" "tape" "[B") ∈ lw_all := lw_g (lw_at lw_m7 198 rfl) rfl
theorem q1722 : (Jvm.Cond.fieldLink "ThirtyThreeBelowModel" (316 : Nat) "ThirtyThreeBelowModel" "taped" "I") ∈ lw_all := lw_g (lw_at lw_m7 199 rfl) rfl
theorem q1723 : (Jvm.Cond.fieldLink "ThirtyThreeBelowModel" (373 : Nat) "ThirtyThreeBelowModel" "texts" "I") ∈ lw_all := lw_g (lw_at lw_m7 200 rfl) rfl
theorem q1724 : (Jvm.Cond.fieldLink "ThirtyThreeBelowModel" (100 : Nat) "ThirtyThreeBelowModel" "textWhat" "[I") ∈ lw_all := lw_g (lw_at lw_m7 201 rfl) rfl
theorem q1725 : (Jvm.Cond.fieldLink "ThirtyThreeBelowModel" (103 : Nat) "ThirtyThreeBelowModel" "made" "[I") ∈ lw_all := lw_g (lw_at lw_m7 202 rfl) rfl
theorem q1726 : (Jvm.Cond.fieldLink "ThirtyThreeBelowModel" (106 : Nat) "ThirtyThreeBelowModel" "textFrom" "[I") ∈ lw_all := lw_g (lw_at lw_m7 203 rfl) rfl
theorem q1727 : (Jvm.Cond.fieldLink "ThirtyThreeBelowModel" (109 : Nat) "ThirtyThreeBelowModel" "lineMany" "[I") ∈ lw_all := lw_g (lw_at lw_m7 204 rfl) rfl
theorem q1728 : (Jvm.Cond.fieldLink "ThirtyThreeBelowModel" (112 : Nat) "ThirtyThreeBelowModel" "testEnd" "[I") ∈ lw_all := lw_g (lw_at lw_m7 205 rfl) rfl
theorem q1729 : (Jvm.Cond.fieldLink "ThirtyThreeBelowModel" (115 : Nat) "ThirtyThreeBelowModel" "lineEnd" "[I") ∈ lw_all := lw_g (lw_at lw_m7 206 rfl) rfl
theorem q1730 : (Jvm.Cond.fieldLink "ThirtyThreeBelowModel" (118 : Nat) "ThirtyThreeBelowModel" "act" "[I") ∈ lw_all := lw_g (lw_at lw_m7 207 rfl) rfl
theorem q1731 : (Jvm.Cond.fieldLink "ThirtyThreeBelowModel" (121 : Nat) "ThirtyThreeBelowModel" "with" "[I") ∈ lw_all := lw_g (lw_at lw_m7 208 rfl) rfl
theorem q1732 : (Jvm.Cond.fieldLink "ThirtyThreeBelowModel" (319 : Nat) "ThirtyThreeBelowModel" "here" "I") ∈ lw_all := lw_g (lw_at lw_m7 209 rfl) rfl
theorem q1733 : (Jvm.Cond.fieldLink "ThirtyThreeBelowModel" (322 : Nat) "ThirtyThreeBelowModel" "fault" "I") ∈ lw_all := lw_g (lw_at lw_m7 210 rfl) rfl
theorem q1734 : (Jvm.Cond.fieldLink "ThirtyThreeBelowModel" (331 : Nat) "ThirtyThreeBelowModel" "open" "I") ∈ lw_all := lw_g (lw_at lw_m7 211 rfl) rfl
theorem q1735 : (Jvm.Cond.fieldLink "ThirtyThreeBelowModel" (325 : Nat) "ThirtyThreeBelowModel" "row" "I") ∈ lw_all := lw_g (lw_at lw_m7 212 rfl) rfl
theorem q1736 : (Jvm.Cond.fieldLink "ThirtyThreeBelowModel" (328 : Nat) "ThirtyThreeBelowModel" "laid" "I") ∈ lw_all := lw_g (lw_at lw_m7 213 rfl) rfl
theorem q1737 : (Jvm.Cond.fieldLink "ThirtyThreeBelowModel" (124 : Nat) "ThirtyThreeBelowModel" "facts" "[I") ∈ lw_all := lw_g (lw_at lw_m7 214 rfl) rfl
theorem q1738 : (Jvm.Cond.fieldLink "ThirtyThreeBelowModel" (127 : Nat) "ThirtyThreeBelowModel" "pile" "[I") ∈ lw_all := lw_g (lw_at lw_m7 215 rfl) rfl
theorem q1739 : (Jvm.Cond.fieldLink "ThirtyThreeBelowModel" (397 : Nat) "ThirtyThreeBelowModel" "spoonsBelow" "I") ∈ lw_all := lw_g (lw_at lw_m7 216 rfl) rfl
theorem q1740 : (Jvm.Cond.fieldLink "ThirtyThreeBelowModel" (412 : Nat) "ThirtyThreeBelowModel" "eaten" "I") ∈ lw_all := lw_g (lw_at lw_m7 217 rfl) rfl
theorem q1741 : (Jvm.Cond.fieldLink "ThirtyThreeBelowModel" (406 : Nat) "ThirtyThreeBelowModel" "moveMany" "I") ∈ lw_all := lw_g (lw_at lw_m7 218 rfl) rfl
theorem q1742 : (Jvm.Cond.fieldLink "ThirtyThreeBelowModel" (130 : Nat) "ThirtyThreeBelowModel" "moveCell" "[I") ∈ lw_all := lw_g (lw_at lw_m7 219 rfl) rfl
theorem q1743 : (Jvm.Cond.fieldLink "ThirtyThreeBelowModel" (133 : Nat) "ThirtyThreeBelowModel" "moveHour" "[I") ∈ lw_all := lw_g (lw_at lw_m7 220 rfl) rfl
theorem q1744 : (Jvm.Cond.fieldLink "ThirtyThreeBelowModel" (136 : Nat) "ThirtyThreeBelowModel" "mayBore" "[Z") ∈ lw_all := lw_g (lw_at lw_m7 221 rfl) rfl
theorem q1745 : (Jvm.Cond.fieldLink "ThirtyThreeBelowModel" (139 : Nat) "ThirtyThreeBelowModel" "boreSpeed" "[I") ∈ lw_all := lw_g (lw_at lw_m7 222 rfl) rfl
theorem q1746 : (Jvm.Cond.fieldLink "ThirtyThreeBelowModel" (142 : Nat) "ThirtyThreeBelowModel" "trialStrength" "[I") ∈ lw_all := lw_g (lw_at lw_m7 223 rfl) rfl
theorem q1747 : (Jvm.Cond.fieldLink "ThirtyThreeBelowModel" (428 : Nat) "ThirtyThreeBelowModel" "ways" "I") ∈ lw_all := lw_g (lw_at lw_m7 224 rfl) rfl
theorem q1748 : (Jvm.Cond.fieldLink "ThirtyThreeBelowModel" (145 : Nat) "ThirtyThreeBelowModel" "wayWhat" "[I") ∈ lw_all := lw_g (lw_at lw_m7 225 rfl) rfl
theorem q1749 : (Jvm.Cond.fieldLink "ThirtyThreeBelowModel" (148 : Nat) "ThirtyThreeBelowModel" "wayHour" "[I") ∈ lw_all := lw_g (lw_at lw_m7 226 rfl) rfl
theorem q1750 : (Jvm.Cond.fieldLink "ThirtyThreeBelowModel" (151 : Nat) "ThirtyThreeBelowModel" "tubeFree" "[I") ∈ lw_all := lw_g (lw_at lw_m7 227 rfl) rfl
theorem q1751 : (Jvm.Cond.fieldLink "ThirtyThreeBelowModel" (154 : Nat) "ThirtyThreeBelowModel" "stuffBelow" "[I") ∈ lw_all := lw_g (lw_at lw_m7 228 rfl) rfl
theorem q1752 : (Jvm.Cond.fieldLink "ThirtyThreeBelowModel" (431 : Nat) "ThirtyThreeBelowModel" "needs" "I") ∈ lw_all := lw_g (lw_at lw_m7 229 rfl) rfl
theorem q1753 : (Jvm.Cond.fieldLink "ThirtyThreeBelowModel" (157 : Nat) "ThirtyThreeBelowModel" "needHours" "[I") ∈ lw_all := lw_g (lw_at lw_m7 230 rfl) rfl
theorem q1754 : (Jvm.Cond.fieldLink "ThirtyThreeBelowModel" (160 : Nat) "ThirtyThreeBelowModel" "needWeight" "[I") ∈ lw_all := lw_g (lw_at lw_m7 231 rfl) rfl
theorem q1755 : (Jvm.Cond.fieldLink "ThirtyThreeBelowModel" (163 : Nat) "ThirtyThreeBelowModel" "needBy" "[I") ∈ lw_all := lw_g (lw_at lw_m7 232 rfl) rfl
theorem q1756 : (Jvm.Cond.fieldLink "ThirtyThreeBelowModel" (166 : Nat) "ThirtyThreeBelowModel" "leastOf" "[I") ∈ lw_all := lw_g (lw_at lw_m7 233 rfl) rfl
theorem q1757 : (Jvm.Cond.fieldLink "ThirtyThreeBelowModel" (169 : Nat) "ThirtyThreeBelowModel" "orderMany" "I") ∈ lw_all := lw_g (lw_at lw_m7 234 rfl) rfl
theorem q1758 : (Jvm.Cond.fieldLink "ThirtyThreeBelowModel" (172 : Nat) "ThirtyThreeBelowModel" "orderRow" "[I") ∈ lw_all := lw_g (lw_at lw_m7 235 rfl) rfl
theorem q1759 : (Jvm.Cond.fieldLink "ThirtyThreeBelowModel" (175 : Nat) "ThirtyThreeBelowModel" "watchPlaces" "I") ∈ lw_all := lw_g (lw_at lw_m7 236 rfl) rfl
theorem q1760 : (Jvm.Cond.fieldLink "ThirtyThreeBelowModel" (178 : Nat) "ThirtyThreeBelowModel" "watcher" "[I") ∈ lw_all := lw_g (lw_at lw_m7 237 rfl) rfl
theorem q1761 : (Jvm.Cond.fieldLink "ThirtyThreeBelowModel" (440 : Nat) "ThirtyThreeBelowModel" "aims" "I") ∈ lw_all := lw_g (lw_at lw_m7 238 rfl) rfl
theorem q1762 : (Jvm.Cond.fieldLink "ThirtyThreeBelowModel" (181 : Nat) "ThirtyThreeBelowModel" "aimMisses" "[I") ∈ lw_all := lw_g (lw_at lw_m7 239 rfl) rfl
theorem q1763 : (Jvm.Cond.fieldLink "ThirtyThreeBelowModel" (184 : Nat) "ThirtyThreeBelowModel" "rocks" "[I") ∈ lw_all := lw_g (lw_at lw_m8 0 rfl) rfl
theorem q1764 : (Jvm.Cond.fieldLink "ThirtyThreeBelowModel" (447 : Nat) "ThirtyThreeBelowModel" "aimedMany" "I") ∈ lw_all := lw_g (lw_at lw_m8 1 rfl) rfl
theorem q1765 : (Jvm.Cond.fieldLink "ThirtyThreeBelowModel" (187 : Nat) "ThirtyThreeBelowModel" "aimedPlace" "[I") ∈ lw_all := lw_g (lw_at lw_m8 2 rfl) rfl
theorem q1766 : (Jvm.Cond.fieldLink "ThirtyThreeBelowModel" (190 : Nat) "ThirtyThreeBelowModel" "aimedMachine" "[I") ∈ lw_all := lw_g (lw_at lw_m8 3 rfl) rfl
theorem q1767 : (Jvm.Cond.fieldLink "ThirtyThreeBelowModel" (193 : Nat) "ThirtyThreeBelowModel" "upMany" "I") ∈ lw_all := lw_g (lw_at lw_m8 4 rfl) rfl
theorem q1768 : (Jvm.Cond.fieldLink "ThirtyThreeBelowModel" (450 : Nat) "ThirtyThreeBelowModel" "capsuleHour" "I") ∈ lw_all := lw_g (lw_at lw_m8 5 rfl) rfl
theorem q1769 : (Jvm.Cond.fieldLink "ThirtyThreeBelowModel" (196 : Nat) "ThirtyThreeBelowModel" "upMan" "[I") ∈ lw_all := lw_g (lw_at lw_m8 6 rfl) rfl
theorem q1770 : (Jvm.Cond.fieldLink "ThirtyThreeBelowModel" (199 : Nat) "ThirtyThreeBelowModel" "upValue" "[I") ∈ lw_all := lw_g (lw_at lw_m8 7 rfl) rfl
theorem q1771 : (Jvm.Cond.fieldLink "ThirtyThreeBelowModel" (202 : Nat) "ThirtyThreeBelowModel" "upHour" "[I") ∈ lw_all := lw_g (lw_at lw_m8 8 rfl) rfl
theorem q1772 : (Jvm.Cond.fieldLink "ThirtyThreeBelowModel" (453 : Nat) "ThirtyThreeBelowModel" "traces" "I") ∈ lw_all := lw_g (lw_at lw_m8 9 rfl) rfl
theorem q1773 : (Jvm.Cond.fieldLink "ThirtyThreeBelowModel" (205 : Nat) "ThirtyThreeBelowModel" "traced" "[I") ∈ lw_all := lw_g (lw_at lw_m8 10 rfl) rfl
theorem q1774 : (Jvm.Cond.fieldLink "ThirtyThreeBelowModel" (208 : Nat) "ThirtyThreeBelowModel" "holds" "[I") ∈ lw_all := lw_g (lw_at lw_m8 11 rfl) rfl
theorem q1775 : (Jvm.Cond.fieldLink "ThirtyThreeBelowModel" (211 : Nat) "ThirtyThreeBelowModel" "size" "[I") ∈ lw_all := lw_g (lw_at lw_m8 12 rfl) rfl
theorem q1776 : (Jvm.Cond.fieldLink "ThirtyThreeBelowModel" (214 : Nat) "ThirtyThreeBelowModel" "elements" "[J") ∈ lw_all := lw_g (lw_at lw_m8 13 rfl) rfl
theorem q1777 : (Jvm.Cond.fieldLink "ThirtyThreeBelowModel" (218 : Nat) "ThirtyThreeBelowModel" "isBlank" "[Z") ∈ lw_all := lw_g (lw_at lw_m8 14 rfl) rfl
theorem q1778 : (Jvm.Cond.fieldLink "ThirtyThreeBelowModel" (221 : Nat) "ThirtyThreeBelowModel" "shifted" "[J") ∈ lw_all := lw_g (lw_at lw_m8 15 rfl) rfl
theorem q1779 : (Jvm.Cond.fieldLink "ThirtyThreeBelowModel" (224 : Nat) "ThirtyThreeBelowModel" "shiftedBlank" "[Z") ∈ lw_all := lw_g (lw_at lw_m8 16 rfl) rfl
theorem q1780 : (Jvm.Cond.lays "ThirtyThreeBelowModel" "ThirtyThreeBelowModel" "code" "I") ∈ lw_all := lw_g (lw_at lw_m8 17 rfl) rfl
theorem q1781 : (Jvm.Cond.soleField "ThirtyThreeBelowModel" "code") ∈ lw_all := lw_g (lw_at lw_m8 18 rfl) rfl
theorem q1782 : (Jvm.Cond.lays "ThirtyThreeBelowModel" "ThirtyThreeBelowModel" "hour" "I") ∈ lw_all := lw_g (lw_at lw_m8 19 rfl) rfl
theorem q1783 : (Jvm.Cond.soleField "ThirtyThreeBelowModel" "hour") ∈ lw_all := lw_g (lw_at lw_m8 20 rfl) rfl
theorem q1784 : (Jvm.Cond.laysFinal "ThirtyThreeBelowModel" "ThirtyThreeBelowModel" "harder" "[I") ∈ lw_all := lw_g (lw_at lw_m8 21 rfl) rfl
theorem q1785 : (Jvm.Cond.soleField "ThirtyThreeBelowModel" "harder") ∈ lw_all := lw_g (lw_at lw_m8 22 rfl) rfl
theorem q1786 : (Jvm.Cond.laysFinal "ThirtyThreeBelowModel" "ThirtyThreeBelowModel" "isOpen" "[Z") ∈ lw_all := lw_g (lw_at lw_m8 23 rfl) rfl
theorem q1787 : (Jvm.Cond.soleField "ThirtyThreeBelowModel" "isOpen") ∈ lw_all := lw_g (lw_at lw_m8 24 rfl) rfl
theorem q1788 : (Jvm.Cond.lays "ThirtyThreeBelowModel" "ThirtyThreeBelowModel" "bodies" "I") ∈ lw_all := lw_g (lw_at lw_m8 25 rfl) rfl
theorem q1789 : (Jvm.Cond.soleField "ThirtyThreeBelowModel" "bodies") ∈ lw_all := lw_g (lw_at lw_m8 26 rfl) rfl
theorem q1790 : (Jvm.Cond.laysFinal "ThirtyThreeBelowModel" "ThirtyThreeBelowModel" "kind" "[I") ∈ lw_all := lw_g (lw_at lw_m8 27 rfl) rfl
theorem q1791 : (Jvm.Cond.soleField "ThirtyThreeBelowModel" "kind") ∈ lw_all := lw_g (lw_at lw_m8 28 rfl) rfl
theorem q1792 : (Jvm.Cond.laysFinal "ThirtyThreeBelowModel" "ThirtyThreeBelowModel" "column" "[I") ∈ lw_all := lw_g (lw_at lw_m8 29 rfl) rfl
theorem q1793 : (Jvm.Cond.soleField "ThirtyThreeBelowModel" "column") ∈ lw_all := lw_g (lw_at lw_m8 30 rfl) rfl
theorem q1794 : (Jvm.Cond.laysFinal "ThirtyThreeBelowModel" "ThirtyThreeBelowModel" "width" "[I") ∈ lw_all := lw_g (lw_at lw_m8 31 rfl) rfl
theorem q1795 : (Jvm.Cond.soleField "ThirtyThreeBelowModel" "width") ∈ lw_all := lw_g (lw_at lw_m8 32 rfl) rfl
theorem q1796 : (Jvm.Cond.laysFinal "ThirtyThreeBelowModel" "ThirtyThreeBelowModel" "trueColumn" "[I") ∈ lw_all := lw_g (lw_at lw_m8 33 rfl) rfl
theorem q1797 : (Jvm.Cond.soleField "ThirtyThreeBelowModel" "trueColumn") ∈ lw_all := lw_g (lw_at lw_m8 34 rfl) rfl
theorem q1798 : (Jvm.Cond.laysFinal "ThirtyThreeBelowModel" "ThirtyThreeBelowModel" "toldYards" "[I") ∈ lw_all := lw_g (lw_at lw_m8 35 rfl) rfl
theorem q1799 : (Jvm.Cond.soleField "ThirtyThreeBelowModel" "toldYards") ∈ lw_all := lw_g (lw_at lw_m8 36 rfl) rfl
theorem q1800 : (Jvm.Cond.laysFinal "ThirtyThreeBelowModel" "ThirtyThreeBelowModel" "bored" "[I") ∈ lw_all := lw_g (lw_at lw_m8 37 rfl) rfl
theorem q1801 : (Jvm.Cond.soleField "ThirtyThreeBelowModel" "bored") ∈ lw_all := lw_g (lw_at lw_m8 38 rfl) rfl
theorem q1802 : (Jvm.Cond.laysFinal "ThirtyThreeBelowModel" "ThirtyThreeBelowModel" "kept" "[I") ∈ lw_all := lw_g (lw_at lw_m8 39 rfl) rfl
theorem q1803 : (Jvm.Cond.soleField "ThirtyThreeBelowModel" "kept") ∈ lw_all := lw_g (lw_at lw_m8 40 rfl) rfl
theorem q1804 : (Jvm.Cond.laysFinal "ThirtyThreeBelowModel" "ThirtyThreeBelowModel" "throughOn" "[I") ∈ lw_all := lw_g (lw_at lw_m8 41 rfl) rfl
theorem q1805 : (Jvm.Cond.soleField "ThirtyThreeBelowModel" "throughOn") ∈ lw_all := lw_g (lw_at lw_m8 42 rfl) rfl
theorem q1806 : (Jvm.Cond.laysFinal "ThirtyThreeBelowModel" "ThirtyThreeBelowModel" "lean" "[I") ∈ lw_all := lw_g (lw_at lw_m8 43 rfl) rfl
theorem q1807 : (Jvm.Cond.soleField "ThirtyThreeBelowModel" "lean") ∈ lw_all := lw_g (lw_at lw_m8 44 rfl) rfl
theorem q1808 : (Jvm.Cond.laysFinal "ThirtyThreeBelowModel" "ThirtyThreeBelowModel" "metAt" "[I") ∈ lw_all := lw_g (lw_at lw_m8 45 rfl) rfl
theorem q1809 : (Jvm.Cond.soleField "ThirtyThreeBelowModel" "metAt") ∈ lw_all := lw_g (lw_at lw_m8 46 rfl) rfl
theorem q1810 : (Jvm.Cond.laysFinal "ThirtyThreeBelowModel" "ThirtyThreeBelowModel" "isLogged" "[Z") ∈ lw_all := lw_g (lw_at lw_m8 47 rfl) rfl
theorem q1811 : (Jvm.Cond.soleField "ThirtyThreeBelowModel" "isLogged") ∈ lw_all := lw_g (lw_at lw_m8 48 rfl) rfl
theorem q1812 : (Jvm.Cond.laysFinal "ThirtyThreeBelowModel" "ThirtyThreeBelowModel" "logged" "[I") ∈ lw_all := lw_g (lw_at lw_m8 49 rfl) rfl
theorem q1813 : (Jvm.Cond.soleField "ThirtyThreeBelowModel" "logged") ∈ lw_all := lw_g (lw_at lw_m8 50 rfl) rfl
theorem q1814 : (Jvm.Cond.laysFinal "ThirtyThreeBelowModel" "ThirtyThreeBelowModel" "strength" "[I") ∈ lw_all := lw_g (lw_at lw_m8 51 rfl) rfl
theorem q1815 : (Jvm.Cond.soleField "ThirtyThreeBelowModel" "strength") ∈ lw_all := lw_g (lw_at lw_m8 52 rfl) rfl
theorem q1816 : (Jvm.Cond.laysFinal "ThirtyThreeBelowModel" "ThirtyThreeBelowModel" "skill" "[I") ∈ lw_all := lw_g (lw_at lw_m8 53 rfl) rfl
theorem q1817 : (Jvm.Cond.soleField "ThirtyThreeBelowModel" "skill") ∈ lw_all := lw_g (lw_at lw_m8 54 rfl) rfl
theorem q1818 : (Jvm.Cond.laysFinal "ThirtyThreeBelowModel" "ThirtyThreeBelowModel" "ill" "[I") ∈ lw_all := lw_g (lw_at lw_m8 55 rfl) rfl
theorem q1819 : (Jvm.Cond.soleField "ThirtyThreeBelowModel" "ill") ∈ lw_all := lw_g (lw_at lw_m8 56 rfl) rfl
theorem q1820 : (Jvm.Cond.laysFinal "ThirtyThreeBelowModel" "ThirtyThreeBelowModel" "isBelow" "[Z") ∈ lw_all := lw_g (lw_at lw_m8 57 rfl) rfl
theorem q1821 : (Jvm.Cond.soleField "ThirtyThreeBelowModel" "isBelow") ∈ lw_all := lw_g (lw_at lw_m8 58 rfl) rfl
theorem q1822 : (Jvm.Cond.lays "ThirtyThreeBelowModel" "ThirtyThreeBelowModel" "theShelter" "I") ∈ lw_all := lw_g (lw_at lw_m8 59 rfl) rfl
theorem q1823 : (Jvm.Cond.soleField "ThirtyThreeBelowModel" "theShelter") ∈ lw_all := lw_g (lw_at lw_m8 60 rfl) rfl
theorem q1824 : (Jvm.Cond.lays "ThirtyThreeBelowModel" "ThirtyThreeBelowModel" "shelterA" "I") ∈ lw_all := lw_g (lw_at lw_m8 61 rfl) rfl
theorem q1825 : (Jvm.Cond.soleField "ThirtyThreeBelowModel" "shelterA") ∈ lw_all := lw_g (lw_at lw_m8 62 rfl) rfl
theorem q1826 : (Jvm.Cond.lays "ThirtyThreeBelowModel" "ThirtyThreeBelowModel" "shelterB" "I") ∈ lw_all := lw_g (lw_at lw_m8 63 rfl) rfl
theorem q1827 : (Jvm.Cond.soleField "ThirtyThreeBelowModel" "shelterB") ∈ lw_all := lw_g (lw_at lw_m8 64 rfl) rfl
theorem q1828 : (Jvm.Cond.lays "ThirtyThreeBelowModel" "ThirtyThreeBelowModel" "shelterYard" "I") ∈ lw_all := lw_g (lw_at lw_m8 65 rfl) rfl
theorem q1829 : (Jvm.Cond.soleField "ThirtyThreeBelowModel" "shelterYard") ∈ lw_all := lw_g (lw_at lw_m8 66 rfl) rfl
theorem q1830 : (Jvm.Cond.lays "ThirtyThreeBelowModel" "ThirtyThreeBelowModel" "shelterMoved" "Z") ∈ lw_all := lw_g (lw_at lw_m8 67 rfl) rfl
theorem q1831 : (Jvm.Cond.soleField "ThirtyThreeBelowModel" "shelterMoved") ∈ lw_all := lw_g (lw_at lw_m8 68 rfl) rfl
theorem q1832 : (Jvm.Cond.laysFinal "ThirtyThreeBelowModel" "ThirtyThreeBelowModel" "speedOf" "[I") ∈ lw_all := lw_g (lw_at lw_m8 69 rfl) rfl
theorem q1833 : (Jvm.Cond.soleField "ThirtyThreeBelowModel" "speedOf") ∈ lw_all := lw_g (lw_at lw_m8 70 rfl) rfl
theorem q1834 : (Jvm.Cond.laysFinal "ThirtyThreeBelowModel" "ThirtyThreeBelowModel" "holeOf" "[I") ∈ lw_all := lw_g (lw_at lw_m8 71 rfl) rfl
theorem q1835 : (Jvm.Cond.soleField "ThirtyThreeBelowModel" "holeOf") ∈ lw_all := lw_g (lw_at lw_m8 72 rfl) rfl
theorem q1836 : (Jvm.Cond.laysFinal "ThirtyThreeBelowModel" "ThirtyThreeBelowModel" "brokenTill" "[I") ∈ lw_all := lw_g (lw_at lw_m8 73 rfl) rfl
theorem q1837 : (Jvm.Cond.soleField "ThirtyThreeBelowModel" "brokenTill") ∈ lw_all := lw_g (lw_at lw_m8 74 rfl) rfl
theorem q1838 : (Jvm.Cond.lays "ThirtyThreeBelowModel" "ThirtyThreeBelowModel" "spreadIs" "I") ∈ lw_all := lw_g (lw_at lw_m8 75 rfl) rfl
theorem q1839 : (Jvm.Cond.soleField "ThirtyThreeBelowModel" "spreadIs") ∈ lw_all := lw_g (lw_at lw_m8 76 rfl) rfl
theorem q1840 : (Jvm.Cond.lays "ThirtyThreeBelowModel" "ThirtyThreeBelowModel" "maps" "I") ∈ lw_all := lw_g (lw_at lw_m8 77 rfl) rfl
theorem q1841 : (Jvm.Cond.soleField "ThirtyThreeBelowModel" "maps") ∈ lw_all := lw_g (lw_at lw_m8 78 rfl) rfl
theorem q1842 : (Jvm.Cond.laysFinal "ThirtyThreeBelowModel" "ThirtyThreeBelowModel" "mapA" "[I") ∈ lw_all := lw_g (lw_at lw_m8 79 rfl) rfl
theorem q1843 : (Jvm.Cond.soleField "ThirtyThreeBelowModel" "mapA") ∈ lw_all := lw_g (lw_at lw_m8 80 rfl) rfl
theorem q1844 : (Jvm.Cond.laysFinal "ThirtyThreeBelowModel" "ThirtyThreeBelowModel" "mapB" "[I") ∈ lw_all := lw_g (lw_at lw_m8 81 rfl) rfl
theorem q1845 : (Jvm.Cond.soleField "ThirtyThreeBelowModel" "mapB") ∈ lw_all := lw_g (lw_at lw_m8 82 rfl) rfl
theorem q1846 : (Jvm.Cond.laysFinal "ThirtyThreeBelowModel" "ThirtyThreeBelowModel" "mapYard" "[I") ∈ lw_all := lw_g (lw_at lw_m8 83 rfl) rfl
theorem q1847 : (Jvm.Cond.soleField "ThirtyThreeBelowModel" "mapYard") ∈ lw_all := lw_g (lw_at lw_m8 84 rfl) rfl
theorem q1848 : (Jvm.Cond.laysFinal "ThirtyThreeBelowModel" "ThirtyThreeBelowModel" "olds" "[I") ∈ lw_all := lw_g (lw_at lw_m8 85 rfl) rfl
theorem q1849 : (Jvm.Cond.soleField "ThirtyThreeBelowModel" "olds") ∈ lw_all := lw_g (lw_at lw_m8 86 rfl) rfl
theorem q1850 : (Jvm.Cond.laysFinal "ThirtyThreeBelowModel" "ThirtyThreeBelowModel" "oldCell" "[I") ∈ lw_all := lw_g (lw_at lw_m8 87 rfl) rfl
theorem q1851 : (Jvm.Cond.soleField "ThirtyThreeBelowModel" "oldCell") ∈ lw_all := lw_g (lw_at lw_m8 88 rfl) rfl
theorem q1852 : (Jvm.Cond.laysFinal "ThirtyThreeBelowModel" "ThirtyThreeBelowModel" "tape" "[B") ∈ lw_all := lw_g (lw_at lw_m8 89 rfl) rfl
theorem q1853 : (Jvm.Cond.soleField "ThirtyThreeBelowModel" "tape") ∈ lw_all := lw_g (lw_at lw_m8 90 rfl) rfl
theorem q1854 : (Jvm.Cond.lays "ThirtyThreeBelowModel" "ThirtyThreeBelowModel" "taped" "I") ∈ lw_all := lw_g (lw_at lw_m8 91 rfl) rfl
theorem q1855 : (Jvm.Cond.soleField "ThirtyThreeBelowModel" "taped") ∈ lw_all := lw_g (lw_at lw_m8 92 rfl) rfl
theorem q1856 : (Jvm.Cond.lays "ThirtyThreeBelowModel" "ThirtyThreeBelowModel" "texts" "I") ∈ lw_all := lw_g (lw_at lw_m8 93 rfl) rfl
theorem q1857 : (Jvm.Cond.soleField "ThirtyThreeBelowModel" "texts") ∈ lw_all := lw_g (lw_at lw_m8 94 rfl) rfl
theorem q1858 : (Jvm.Cond.laysFinal "ThirtyThreeBelowModel" "ThirtyThreeBelowModel" "textWhat" "[I") ∈ lw_all := lw_g (lw_at lw_m8 95 rfl) rfl
theorem q1859 : (Jvm.Cond.soleField "ThirtyThreeBelowModel" "textWhat") ∈ lw_all := lw_g (lw_at lw_m8 96 rfl) rfl
theorem q1860 : (Jvm.Cond.laysFinal "ThirtyThreeBelowModel" "ThirtyThreeBelowModel" "made" "[I") ∈ lw_all := lw_g (lw_at lw_m8 97 rfl) rfl
theorem q1861 : (Jvm.Cond.soleField "ThirtyThreeBelowModel" "made") ∈ lw_all := lw_g (lw_at lw_m8 98 rfl) rfl
theorem q1862 : (Jvm.Cond.laysFinal "ThirtyThreeBelowModel" "ThirtyThreeBelowModel" "textFrom" "[I") ∈ lw_all := lw_g (lw_at lw_m8 99 rfl) rfl
theorem q1863 : (Jvm.Cond.soleField "ThirtyThreeBelowModel" "textFrom") ∈ lw_all := lw_g (lw_at lw_m8 100 rfl) rfl
theorem q1864 : (Jvm.Cond.laysFinal "ThirtyThreeBelowModel" "ThirtyThreeBelowModel" "lineMany" "[I") ∈ lw_all := lw_g (lw_at lw_m8 101 rfl) rfl
theorem q1865 : (Jvm.Cond.soleField "ThirtyThreeBelowModel" "lineMany") ∈ lw_all := lw_g (lw_at lw_m8 102 rfl) rfl
theorem q1866 : (Jvm.Cond.laysFinal "ThirtyThreeBelowModel" "ThirtyThreeBelowModel" "testEnd" "[I") ∈ lw_all := lw_g (lw_at lw_m8 103 rfl) rfl
theorem q1867 : (Jvm.Cond.soleField "ThirtyThreeBelowModel" "testEnd") ∈ lw_all := lw_g (lw_at lw_m8 104 rfl) rfl
theorem q1868 : (Jvm.Cond.laysFinal "ThirtyThreeBelowModel" "ThirtyThreeBelowModel" "lineEnd" "[I") ∈ lw_all := lw_g (lw_at lw_m8 105 rfl) rfl
theorem q1869 : (Jvm.Cond.soleField "ThirtyThreeBelowModel" "lineEnd") ∈ lw_all := lw_g (lw_at lw_m8 106 rfl) rfl
theorem q1870 : (Jvm.Cond.laysFinal "ThirtyThreeBelowModel" "ThirtyThreeBelowModel" "act" "[I") ∈ lw_all := lw_g (lw_at lw_m8 107 rfl) rfl
theorem q1871 : (Jvm.Cond.soleField "ThirtyThreeBelowModel" "act") ∈ lw_all := lw_g (lw_at lw_m8 108 rfl) rfl
theorem q1872 : (Jvm.Cond.laysFinal "ThirtyThreeBelowModel" "ThirtyThreeBelowModel" "with" "[I") ∈ lw_all := lw_g (lw_at lw_m8 109 rfl) rfl
theorem q1873 : (Jvm.Cond.soleField "ThirtyThreeBelowModel" "with") ∈ lw_all := lw_g (lw_at lw_m8 110 rfl) rfl
theorem q1874 : (Jvm.Cond.lays "ThirtyThreeBelowModel" "ThirtyThreeBelowModel" "here" "I") ∈ lw_all := lw_g (lw_at lw_m8 111 rfl) rfl
theorem q1875 : (Jvm.Cond.soleField "ThirtyThreeBelowModel" "here") ∈ lw_all := lw_g (lw_at lw_m8 112 rfl) rfl
theorem q1876 : (Jvm.Cond.lays "ThirtyThreeBelowModel" "ThirtyThreeBelowModel" "fault" "I") ∈ lw_all := lw_g (lw_at lw_m8 113 rfl) rfl
theorem q1877 : (Jvm.Cond.soleField "ThirtyThreeBelowModel" "fault") ∈ lw_all := lw_g (lw_at lw_m8 114 rfl) rfl
theorem q1878 : (Jvm.Cond.lays "ThirtyThreeBelowModel" "ThirtyThreeBelowModel" "open" "I") ∈ lw_all := lw_g (lw_at lw_m8 115 rfl) rfl
theorem q1879 : (Jvm.Cond.soleField "ThirtyThreeBelowModel" "open") ∈ lw_all := lw_g (lw_at lw_m8 116 rfl) rfl
theorem q1880 : (Jvm.Cond.lays "ThirtyThreeBelowModel" "ThirtyThreeBelowModel" "row" "I") ∈ lw_all := lw_g (lw_at lw_m8 117 rfl) rfl
theorem q1881 : (Jvm.Cond.soleField "ThirtyThreeBelowModel" "row") ∈ lw_all := lw_g (lw_at lw_m8 118 rfl) rfl
theorem q1882 : (Jvm.Cond.lays "ThirtyThreeBelowModel" "ThirtyThreeBelowModel" "laid" "I") ∈ lw_all := lw_g (lw_at lw_m8 119 rfl) rfl
theorem q1883 : (Jvm.Cond.soleField "ThirtyThreeBelowModel" "laid") ∈ lw_all := lw_g (lw_at lw_m8 120 rfl) rfl
theorem q1884 : (Jvm.Cond.laysFinal "ThirtyThreeBelowModel" "ThirtyThreeBelowModel" "facts" "[I") ∈ lw_all := lw_g (lw_at lw_m8 121 rfl) rfl
theorem q1885 : (Jvm.Cond.soleField "ThirtyThreeBelowModel" "facts") ∈ lw_all := lw_g (lw_at lw_m8 122 rfl) rfl
theorem q1886 : (Jvm.Cond.laysFinal "ThirtyThreeBelowModel" "ThirtyThreeBelowModel" "pile" "[I") ∈ lw_all := lw_g (lw_at lw_m8 123 rfl) rfl
theorem q1887 : (Jvm.Cond.soleField "ThirtyThreeBelowModel" "pile") ∈ lw_all := lw_g (lw_at lw_m8 124 rfl) rfl
theorem q1888 : (Jvm.Cond.lays "ThirtyThreeBelowModel" "ThirtyThreeBelowModel" "spoonsBelow" "I") ∈ lw_all := lw_g (lw_at lw_m8 125 rfl) rfl
theorem q1889 : (Jvm.Cond.soleField "ThirtyThreeBelowModel" "spoonsBelow") ∈ lw_all := lw_g (lw_at lw_m8 126 rfl) rfl
theorem q1890 : (Jvm.Cond.lays "ThirtyThreeBelowModel" "ThirtyThreeBelowModel" "eaten" "I") ∈ lw_all := lw_g (lw_at lw_m8 127 rfl) rfl
theorem q1891 : (Jvm.Cond.soleField "ThirtyThreeBelowModel" "eaten") ∈ lw_all := lw_g (lw_at lw_m8 128 rfl) rfl
theorem q1892 : (Jvm.Cond.lays "ThirtyThreeBelowModel" "ThirtyThreeBelowModel" "moveMany" "I") ∈ lw_all := lw_g (lw_at lw_m8 129 rfl) rfl
theorem q1893 : (Jvm.Cond.soleField "ThirtyThreeBelowModel" "moveMany") ∈ lw_all := lw_g (lw_at lw_m8 130 rfl) rfl
theorem q1894 : (Jvm.Cond.laysFinal "ThirtyThreeBelowModel" "ThirtyThreeBelowModel" "moveCell" "[I") ∈ lw_all := lw_g (lw_at lw_m8 131 rfl) rfl
theorem q1895 : (Jvm.Cond.soleField "ThirtyThreeBelowModel" "moveCell") ∈ lw_all := lw_g (lw_at lw_m8 132 rfl) rfl
theorem q1896 : (Jvm.Cond.laysFinal "ThirtyThreeBelowModel" "ThirtyThreeBelowModel" "moveHour" "[I") ∈ lw_all := lw_g (lw_at lw_m8 133 rfl) rfl
theorem q1897 : (Jvm.Cond.soleField "ThirtyThreeBelowModel" "moveHour") ∈ lw_all := lw_g (lw_at lw_m8 134 rfl) rfl
theorem q1898 : (Jvm.Cond.laysFinal "ThirtyThreeBelowModel" "ThirtyThreeBelowModel" "mayBore" "[Z") ∈ lw_all := lw_g (lw_at lw_m8 135 rfl) rfl
theorem q1899 : (Jvm.Cond.soleField "ThirtyThreeBelowModel" "mayBore") ∈ lw_all := lw_g (lw_at lw_m8 136 rfl) rfl
theorem q1900 : (Jvm.Cond.laysFinal "ThirtyThreeBelowModel" "ThirtyThreeBelowModel" "boreSpeed" "[I") ∈ lw_all := lw_g (lw_at lw_m8 137 rfl) rfl
theorem q1901 : (Jvm.Cond.soleField "ThirtyThreeBelowModel" "boreSpeed") ∈ lw_all := lw_g (lw_at lw_m8 138 rfl) rfl
theorem q1902 : (Jvm.Cond.laysFinal "ThirtyThreeBelowModel" "ThirtyThreeBelowModel" "trialStrength" "[I") ∈ lw_all := lw_g (lw_at lw_m8 139 rfl) rfl
theorem q1903 : (Jvm.Cond.soleField "ThirtyThreeBelowModel" "trialStrength") ∈ lw_all := lw_g (lw_at lw_m8 140 rfl) rfl
theorem q1904 : (Jvm.Cond.lays "ThirtyThreeBelowModel" "ThirtyThreeBelowModel" "ways" "I") ∈ lw_all := lw_g (lw_at lw_m8 141 rfl) rfl
theorem q1905 : (Jvm.Cond.soleField "ThirtyThreeBelowModel" "ways") ∈ lw_all := lw_g (lw_at lw_m8 142 rfl) rfl
theorem q1906 : (Jvm.Cond.laysFinal "ThirtyThreeBelowModel" "ThirtyThreeBelowModel" "wayWhat" "[I") ∈ lw_all := lw_g (lw_at lw_m8 143 rfl) rfl
theorem q1907 : (Jvm.Cond.soleField "ThirtyThreeBelowModel" "wayWhat") ∈ lw_all := lw_g (lw_at lw_m8 144 rfl) rfl
theorem q1908 : (Jvm.Cond.laysFinal "ThirtyThreeBelowModel" "ThirtyThreeBelowModel" "wayHour" "[I") ∈ lw_all := lw_g (lw_at lw_m8 145 rfl) rfl
theorem q1909 : (Jvm.Cond.soleField "ThirtyThreeBelowModel" "wayHour") ∈ lw_all := lw_g (lw_at lw_m8 146 rfl) rfl
theorem q1910 : (Jvm.Cond.laysFinal "ThirtyThreeBelowModel" "ThirtyThreeBelowModel" "tubeFree" "[I") ∈ lw_all := lw_g (lw_at lw_m8 147 rfl) rfl
theorem q1911 : (Jvm.Cond.soleField "ThirtyThreeBelowModel" "tubeFree") ∈ lw_all := lw_g (lw_at lw_m8 148 rfl) rfl
theorem q1912 : (Jvm.Cond.laysFinal "ThirtyThreeBelowModel" "ThirtyThreeBelowModel" "stuffBelow" "[I") ∈ lw_all := lw_g (lw_at lw_m8 149 rfl) rfl
theorem q1913 : (Jvm.Cond.soleField "ThirtyThreeBelowModel" "stuffBelow") ∈ lw_all := lw_g (lw_at lw_m8 150 rfl) rfl
theorem q1914 : (Jvm.Cond.lays "ThirtyThreeBelowModel" "ThirtyThreeBelowModel" "needs" "I") ∈ lw_all := lw_g (lw_at lw_m8 151 rfl) rfl
theorem q1915 : (Jvm.Cond.soleField "ThirtyThreeBelowModel" "needs") ∈ lw_all := lw_g (lw_at lw_m8 152 rfl) rfl
theorem q1916 : (Jvm.Cond.laysFinal "ThirtyThreeBelowModel" "ThirtyThreeBelowModel" "needHours" "[I") ∈ lw_all := lw_g (lw_at lw_m8 153 rfl) rfl
theorem q1917 : (Jvm.Cond.soleField "ThirtyThreeBelowModel" "needHours") ∈ lw_all := lw_g (lw_at lw_m8 154 rfl) rfl
theorem q1918 : (Jvm.Cond.laysFinal "ThirtyThreeBelowModel" "ThirtyThreeBelowModel" "needWeight" "[I") ∈ lw_all := lw_g (lw_at lw_m8 155 rfl) rfl
theorem q1919 : (Jvm.Cond.soleField "ThirtyThreeBelowModel" "needWeight") ∈ lw_all := lw_g (lw_at lw_m8 156 rfl) rfl
theorem q1920 : (Jvm.Cond.laysFinal "ThirtyThreeBelowModel" "ThirtyThreeBelowModel" "needBy" "[I") ∈ lw_all := lw_g (lw_at lw_m8 157 rfl) rfl
theorem q1921 : (Jvm.Cond.soleField "ThirtyThreeBelowModel" "needBy") ∈ lw_all := lw_g (lw_at lw_m8 158 rfl) rfl
theorem q1922 : (Jvm.Cond.laysFinal "ThirtyThreeBelowModel" "ThirtyThreeBelowModel" "leastOf" "[I") ∈ lw_all := lw_g (lw_at lw_m8 159 rfl) rfl
theorem q1923 : (Jvm.Cond.soleField "ThirtyThreeBelowModel" "leastOf") ∈ lw_all := lw_g (lw_at lw_m8 160 rfl) rfl
theorem q1924 : (Jvm.Cond.lays "ThirtyThreeBelowModel" "ThirtyThreeBelowModel" "orderMany" "I") ∈ lw_all := lw_g (lw_at lw_m8 161 rfl) rfl
theorem q1925 : (Jvm.Cond.soleField "ThirtyThreeBelowModel" "orderMany") ∈ lw_all := lw_g (lw_at lw_m8 162 rfl) rfl
theorem q1926 : (Jvm.Cond.laysFinal "ThirtyThreeBelowModel" "ThirtyThreeBelowModel" "orderRow" "[I") ∈ lw_all := lw_g (lw_at lw_m8 163 rfl) rfl
theorem q1927 : (Jvm.Cond.soleField "ThirtyThreeBelowModel" "orderRow") ∈ lw_all := lw_g (lw_at lw_m8 164 rfl) rfl
theorem q1928 : (Jvm.Cond.lays "ThirtyThreeBelowModel" "ThirtyThreeBelowModel" "watchPlaces" "I") ∈ lw_all := lw_g (lw_at lw_m8 165 rfl) rfl
theorem q1929 : (Jvm.Cond.soleField "ThirtyThreeBelowModel" "watchPlaces") ∈ lw_all := lw_g (lw_at lw_m8 166 rfl) rfl
theorem q1930 : (Jvm.Cond.laysFinal "ThirtyThreeBelowModel" "ThirtyThreeBelowModel" "watcher" "[I") ∈ lw_all := lw_g (lw_at lw_m8 167 rfl) rfl
theorem q1931 : (Jvm.Cond.soleField "ThirtyThreeBelowModel" "watcher") ∈ lw_all := lw_g (lw_at lw_m8 168 rfl) rfl
theorem q1932 : (Jvm.Cond.lays "ThirtyThreeBelowModel" "ThirtyThreeBelowModel" "aims" "I") ∈ lw_all := lw_g (lw_at lw_m8 169 rfl) rfl
theorem q1933 : (Jvm.Cond.soleField "ThirtyThreeBelowModel" "aims") ∈ lw_all := lw_g (lw_at lw_m8 170 rfl) rfl
theorem q1934 : (Jvm.Cond.laysFinal "ThirtyThreeBelowModel" "ThirtyThreeBelowModel" "aimMisses" "[I") ∈ lw_all := lw_g (lw_at lw_m8 171 rfl) rfl
theorem q1935 : (Jvm.Cond.soleField "ThirtyThreeBelowModel" "aimMisses") ∈ lw_all := lw_g (lw_at lw_m8 172 rfl) rfl
theorem q1936 : (Jvm.Cond.laysFinal "ThirtyThreeBelowModel" "ThirtyThreeBelowModel" "rocks" "[I") ∈ lw_all := lw_g (lw_at lw_m8 173 rfl) rfl
theorem q1937 : (Jvm.Cond.soleField "ThirtyThreeBelowModel" "rocks") ∈ lw_all := lw_g (lw_at lw_m8 174 rfl) rfl
theorem q1938 : (Jvm.Cond.lays "ThirtyThreeBelowModel" "ThirtyThreeBelowModel" "aimedMany" "I") ∈ lw_all := lw_g (lw_at lw_m8 175 rfl) rfl
theorem q1939 : (Jvm.Cond.soleField "ThirtyThreeBelowModel" "aimedMany") ∈ lw_all := lw_g (lw_at lw_m8 176 rfl) rfl
theorem q1940 : (Jvm.Cond.laysFinal "ThirtyThreeBelowModel" "ThirtyThreeBelowModel" "aimedPlace" "[I") ∈ lw_all := lw_g (lw_at lw_m8 177 rfl) rfl
theorem q1941 : (Jvm.Cond.soleField "ThirtyThreeBelowModel" "aimedPlace") ∈ lw_all := lw_g (lw_at lw_m8 178 rfl) rfl
theorem q1942 : (Jvm.Cond.laysFinal "ThirtyThreeBelowModel" "ThirtyThreeBelowModel" "aimedMachine" "[I") ∈ lw_all := lw_g (lw_at lw_m8 179 rfl) rfl
theorem q1943 : (Jvm.Cond.soleField "ThirtyThreeBelowModel" "aimedMachine") ∈ lw_all := lw_g (lw_at lw_m8 180 rfl) rfl
theorem q1944 : (Jvm.Cond.lays "ThirtyThreeBelowModel" "ThirtyThreeBelowModel" "upMany" "I") ∈ lw_all := lw_g (lw_at lw_m8 181 rfl) rfl
theorem q1945 : (Jvm.Cond.soleField "ThirtyThreeBelowModel" "upMany") ∈ lw_all := lw_g (lw_at lw_m8 182 rfl) rfl
theorem q1946 : (Jvm.Cond.lays "ThirtyThreeBelowModel" "ThirtyThreeBelowModel" "capsuleHour" "I") ∈ lw_all := lw_g (lw_at lw_m8 183 rfl) rfl
theorem q1947 : (Jvm.Cond.soleField "ThirtyThreeBelowModel" "capsuleHour") ∈ lw_all := lw_g (lw_at lw_m8 184 rfl) rfl
theorem q1948 : (Jvm.Cond.laysFinal "ThirtyThreeBelowModel" "ThirtyThreeBelowModel" "upMan" "[I") ∈ lw_all := lw_g (lw_at lw_m8 185 rfl) rfl
theorem q1949 : (Jvm.Cond.soleField "ThirtyThreeBelowModel" "upMan") ∈ lw_all := lw_g (lw_at lw_m8 186 rfl) rfl
theorem q1950 : (Jvm.Cond.laysFinal "ThirtyThreeBelowModel" "ThirtyThreeBelowModel" "upValue" "[I") ∈ lw_all := lw_g (lw_at lw_m8 187 rfl) rfl
theorem q1951 : (Jvm.Cond.soleField "ThirtyThreeBelowModel" "upValue") ∈ lw_all := lw_g (lw_at lw_m8 188 rfl) rfl
theorem q1952 : (Jvm.Cond.laysFinal "ThirtyThreeBelowModel" "ThirtyThreeBelowModel" "upHour" "[I") ∈ lw_all := lw_g (lw_at lw_m8 189 rfl) rfl
theorem q1953 : (Jvm.Cond.soleField "ThirtyThreeBelowModel" "upHour") ∈ lw_all := lw_g (lw_at lw_m8 190 rfl) rfl
theorem q1954 : (Jvm.Cond.lays "ThirtyThreeBelowModel" "ThirtyThreeBelowModel" "traces" "I") ∈ lw_all := lw_g (lw_at lw_m8 191 rfl) rfl
theorem q1955 : (Jvm.Cond.soleField "ThirtyThreeBelowModel" "traces") ∈ lw_all := lw_g (lw_at lw_m8 192 rfl) rfl
theorem q1956 : (Jvm.Cond.laysFinal "ThirtyThreeBelowModel" "ThirtyThreeBelowModel" "traced" "[I") ∈ lw_all := lw_g (lw_at lw_m8 193 rfl) rfl
theorem q1957 : (Jvm.Cond.soleField "ThirtyThreeBelowModel" "traced") ∈ lw_all := lw_g (lw_at lw_m8 194 rfl) rfl
theorem q1958 : (Jvm.Cond.laysFinal "ThirtyThreeBelowModel" "ThirtyThreeBelowModel" "holds" "[I") ∈ lw_all := lw_g (lw_at lw_m8 195 rfl) rfl
theorem q1959 : (Jvm.Cond.soleField "ThirtyThreeBelowModel" "holds") ∈ lw_all := lw_g (lw_at lw_m8 196 rfl) rfl
theorem q1960 : (Jvm.Cond.laysFinal "ThirtyThreeBelowModel" "ThirtyThreeBelowModel" "size" "[I") ∈ lw_all := lw_g (lw_at lw_m8 197 rfl) rfl
theorem q1961 : (Jvm.Cond.soleField "ThirtyThreeBelowModel" "size") ∈ lw_all := lw_g (lw_at lw_m8 198 rfl) rfl
theorem q1962 : (Jvm.Cond.laysFinal "ThirtyThreeBelowModel" "ThirtyThreeBelowModel" "elements" "[J") ∈ lw_all := lw_g (lw_at lw_m8 199 rfl) rfl
theorem q1963 : (Jvm.Cond.soleField "ThirtyThreeBelowModel" "elements") ∈ lw_all := lw_g (lw_at lw_m8 200 rfl) rfl
theorem q1964 : (Jvm.Cond.laysFinal "ThirtyThreeBelowModel" "ThirtyThreeBelowModel" "isBlank" "[Z") ∈ lw_all := lw_g (lw_at lw_m8 201 rfl) rfl
theorem q1965 : (Jvm.Cond.soleField "ThirtyThreeBelowModel" "isBlank") ∈ lw_all := lw_g (lw_at lw_m8 202 rfl) rfl
theorem q1966 : (Jvm.Cond.laysFinal "ThirtyThreeBelowModel" "ThirtyThreeBelowModel" "shifted" "[J") ∈ lw_all := lw_g (lw_at lw_m8 203 rfl) rfl
theorem q1967 : (Jvm.Cond.soleField "ThirtyThreeBelowModel" "shifted") ∈ lw_all := lw_g (lw_at lw_m8 204 rfl) rfl
theorem q1968 : (Jvm.Cond.laysFinal "ThirtyThreeBelowModel" "ThirtyThreeBelowModel" "shiftedBlank" "[Z") ∈ lw_all := lw_g (lw_at lw_m8 205 rfl) rfl
theorem q1969 : (Jvm.Cond.soleField "ThirtyThreeBelowModel" "shiftedBlank") ∈ lw_all := lw_g (lw_at lw_m8 206 rfl) rfl
theorem q1970 : (Jvm.Cond.superclass "ThirtyThreeBelowModel" "java/lang/Object") ∈ lw_all := lw_g (lw_at lw_m8 207 rfl) rfl
theorem q1973 : (Jvm.Cond.instanceMethod ({ cls := "ThirtyThreeBelowModel", name := "hard", desc := "(II)I" } : Jvm.MethodName)) ∈ lw_all := lw_g (lw_at lw_m8 210 rfl) rfl
theorem q1974 : (Jvm.Cond.selects "ThirtyThreeBelowModel" ({ cls := "ThirtyThreeBelowModel", name := "hard", desc := "(II)I" } : Jvm.MethodName) ({ cls := "ThirtyThreeBelowModel", name := "hard", desc := "(II)I" } : Jvm.MethodName)) ∈ lw_all := lw_g (lw_at lw_m8 211 rfl) rfl
theorem q1975 : (Jvm.Cond.code ({ cls := "ThirtyThreeBelowModel", name := "hard", desc := "(II)I" } : Jvm.MethodName) prog_22_method_8_code (4 : Nat) (Option.some Jvm.ClassFile.FieldType.int)) ∈ lw_all := lw_g (lw_at lw_m8 212 rfl) rfl
theorem q1976 : (Jvm.Cond.methodLink "ThirtyThreeBelowModel" (234 : Nat) ({ cls := "ThirtyThreeBelowModel", name := "isCell", desc := "(I)Z" } : Jvm.MethodName)) ∈ lw_all := lw_g (lw_at lw_m8 213 rfl) rfl
theorem q1977 : (Jvm.Cond.static ({ cls := "ThirtyThreeBelowModel", name := "isCell", desc := "(I)Z" } : Jvm.MethodName)) ∈ lw_all := lw_g (lw_at lw_m8 214 rfl) rfl
theorem q1978 : (Jvm.Cond.code ({ cls := "ThirtyThreeBelowModel", name := "isCell", desc := "(I)Z" } : Jvm.MethodName) prog_22_method_6_code (1 : Nat) (Option.some Jvm.ClassFile.FieldType.boolean)) ∈ lw_all := lw_g (lw_at lw_m8 215 rfl) rfl
theorem q1979 : (Jvm.Cond.methodLink "ThirtyThreeBelowModel" (230 : Nat) ({ cls := "ThirtyThreeBelowModel", name := "in", desc := "(III)Z" } : Jvm.MethodName)) ∈ lw_all := lw_g (lw_at lw_m8 216 rfl) rfl
theorem q1980 : (Jvm.Cond.static ({ cls := "ThirtyThreeBelowModel", name := "in", desc := "(III)Z" } : Jvm.MethodName)) ∈ lw_all := lw_g (lw_at lw_m8 217 rfl) rfl
theorem q1981 : (Jvm.Cond.code ({ cls := "ThirtyThreeBelowModel", name := "in", desc := "(III)Z" } : Jvm.MethodName) prog_22_method_3_code (3 : Nat) (Option.some Jvm.ClassFile.FieldType.boolean)) ∈ lw_all := lw_g (lw_at lw_m8 218 rfl) rfl
theorem q1982 : (Jvm.Cond.methodLink "ThirtyThreeBelowModel" (238 : Nat) ({ cls := "ThirtyThreeBelowModel", name := "placeOf", desc := "(I)I" } : Jvm.MethodName)) ∈ lw_all := lw_g (lw_at lw_m8 219 rfl) rfl
theorem q1983 : (Jvm.Cond.static ({ cls := "ThirtyThreeBelowModel", name := "placeOf", desc := "(I)I" } : Jvm.MethodName)) ∈ lw_all := lw_g (lw_at lw_m8 220 rfl) rfl
theorem q1984 : (Jvm.Cond.code ({ cls := "ThirtyThreeBelowModel", name := "placeOf", desc := "(I)I" } : Jvm.MethodName) prog_22_method_7_code (1 : Nat) (Option.some Jvm.ClassFile.FieldType.int)) ∈ lw_all := lw_g (lw_at lw_m8 221 rfl) rfl
theorem q1986 : (Jvm.Cond.instanceMethod ({ cls := "ThirtyThreeBelowModel", name := "open", desc := "(II)I" } : Jvm.MethodName)) ∈ lw_all := lw_g (lw_at lw_m8 223 rfl) rfl
theorem q1987 : (Jvm.Cond.selects "ThirtyThreeBelowModel" ({ cls := "ThirtyThreeBelowModel", name := "open", desc := "(II)I" } : Jvm.MethodName) ({ cls := "ThirtyThreeBelowModel", name := "open", desc := "(II)I" } : Jvm.MethodName)) ∈ lw_all := lw_g (lw_at lw_m8 224 rfl) rfl
theorem q1988 : (Jvm.Cond.code ({ cls := "ThirtyThreeBelowModel", name := "open", desc := "(II)I" } : Jvm.MethodName) prog_22_method_9_code (4 : Nat) (Option.some Jvm.ClassFile.FieldType.int)) ∈ lw_all := lw_g (lw_at lw_m8 225 rfl) rfl
theorem q1990 : (Jvm.Cond.instanceMethod ({ cls := "ThirtyThreeBelowModel", name := "ofCell", desc := "(II)I" } : Jvm.MethodName)) ∈ lw_all := lw_g (lw_at lw_m8 227 rfl) rfl
theorem q1991 : (Jvm.Cond.selects "ThirtyThreeBelowModel" ({ cls := "ThirtyThreeBelowModel", name := "ofCell", desc := "(II)I" } : Jvm.MethodName) ({ cls := "ThirtyThreeBelowModel", name := "ofCell", desc := "(II)I" } : Jvm.MethodName)) ∈ lw_all := lw_g (lw_at lw_m8 228 rfl) rfl
theorem q1992 : (Jvm.Cond.code ({ cls := "ThirtyThreeBelowModel", name := "ofCell", desc := "(II)I" } : Jvm.MethodName) prog_22_method_10_code (3 : Nat) (Option.some Jvm.ClassFile.FieldType.int)) ∈ lw_all := lw_g (lw_at lw_m8 229 rfl) rfl
theorem q1994 : (Jvm.Cond.instanceMethod ({ cls := "ThirtyThreeBelowModel", name := "body", desc := "(I)I" } : Jvm.MethodName)) ∈ lw_all := lw_g (lw_at lw_m8 231 rfl) rfl
theorem q1995 : (Jvm.Cond.selects "ThirtyThreeBelowModel" ({ cls := "ThirtyThreeBelowModel", name := "body", desc := "(I)I" } : Jvm.MethodName) ({ cls := "ThirtyThreeBelowModel", name := "body", desc := "(I)I" } : Jvm.MethodName)) ∈ lw_all := lw_g (lw_at lw_m8 232 rfl) rfl
theorem q1996 : (Jvm.Cond.code ({ cls := "ThirtyThreeBelowModel", name := "body", desc := "(I)I" } : Jvm.MethodName) prog_22_method_16_code (2 : Nat) (Option.some Jvm.ClassFile.FieldType.int)) ∈ lw_all := lw_g (lw_at lw_m8 233 rfl) rfl
theorem q1997 : (Jvm.Cond.methodLink "ThirtyThreeBelowModel" (252 : Nat) ({ cls := "ThirtyThreeBelowModel", name := "add", desc := "(I)I" } : Jvm.MethodName)) ∈ lw_all := lw_g (lw_at lw_m8 234 rfl) rfl
theorem q1998 : (Jvm.Cond.privateMethod ({ cls := "ThirtyThreeBelowModel", name := "add", desc := "(I)I" } : Jvm.MethodName)) ∈ lw_tbl := lw_at lw_m8 235 rfl
theorem q1999 : (Jvm.Cond.instanceMethod ({ cls := "ThirtyThreeBelowModel", name := "add", desc := "(I)I" } : Jvm.MethodName)) ∈ lw_all := lw_g (lw_at lw_m8 236 rfl) rfl
theorem q2000 : (Jvm.Cond.code ({ cls := "ThirtyThreeBelowModel", name := "add", desc := "(I)I" } : Jvm.MethodName) prog_22_method_15_code (2 : Nat) (Option.some Jvm.ClassFile.FieldType.int)) ∈ lw_all := lw_g (lw_at lw_m8 237 rfl) rfl
theorem q2002 : (Jvm.Cond.instanceMethod ({ cls := "ThirtyThreeBelowModel", name := "hole", desc := "(II)I" } : Jvm.MethodName)) ∈ lw_all := lw_g (lw_at lw_m8 239 rfl) rfl
theorem q2003 : (Jvm.Cond.selects "ThirtyThreeBelowModel" ({ cls := "ThirtyThreeBelowModel", name := "hole", desc := "(II)I" } : Jvm.MethodName) ({ cls := "ThirtyThreeBelowModel", name := "hole", desc := "(II)I" } : Jvm.MethodName)) ∈ lw_all := lw_g (lw_at lw_m9 0 rfl) rfl
theorem q2004 : (Jvm.Cond.code ({ cls := "ThirtyThreeBelowModel", name := "hole", desc := "(II)I" } : Jvm.MethodName) prog_22_method_17_code (4 : Nat) (Option.some Jvm.ClassFile.FieldType.int)) ∈ lw_all := lw_g (lw_at lw_m9 1 rfl) rfl
theorem q2006 : (Jvm.Cond.instanceMethod ({ cls := "ThirtyThreeBelowModel", name := "shelter", desc := "(II)I" } : Jvm.MethodName)) ∈ lw_all := lw_g (lw_at lw_m9 3 rfl) rfl
theorem q2007 : (Jvm.Cond.selects "ThirtyThreeBelowModel" ({ cls := "ThirtyThreeBelowModel", name := "shelter", desc := "(II)I" } : Jvm.MethodName) ({ cls := "ThirtyThreeBelowModel", name := "shelter", desc := "(II)I" } : Jvm.MethodName)) ∈ lw_all := lw_g (lw_at lw_m9 4 rfl) rfl
theorem q2008 : (Jvm.Cond.code ({ cls := "ThirtyThreeBelowModel", name := "shelter", desc := "(II)I" } : Jvm.MethodName) prog_22_method_19_code (3 : Nat) (Option.some Jvm.ClassFile.FieldType.int)) ∈ lw_all := lw_g (lw_at lw_m9 5 rfl) rfl
theorem q2009 : (Jvm.Cond.methodLink "ThirtyThreeBelowModel" (255 : Nat) ({ cls := "ThirtyThreeBelowModel", name := "isSpan", desc := "(I)Z" } : Jvm.MethodName)) ∈ lw_all := lw_g (lw_at lw_m9 6 rfl) rfl
theorem q2010 : (Jvm.Cond.static ({ cls := "ThirtyThreeBelowModel", name := "isSpan", desc := "(I)Z" } : Jvm.MethodName)) ∈ lw_all := lw_g (lw_at lw_m9 7 rfl) rfl
theorem q2011 : (Jvm.Cond.code ({ cls := "ThirtyThreeBelowModel", name := "isSpan", desc := "(I)Z" } : Jvm.MethodName) prog_22_method_18_code (1 : Nat) (Option.some Jvm.ClassFile.FieldType.boolean)) ∈ lw_all := lw_g (lw_at lw_m9 8 rfl) rfl
theorem q2013 : (Jvm.Cond.instanceMethod ({ cls := "ThirtyThreeBelowModel", name := "man", desc := "(II)I" } : Jvm.MethodName)) ∈ lw_all := lw_g (lw_at lw_m9 10 rfl) rfl
theorem q2014 : (Jvm.Cond.selects "ThirtyThreeBelowModel" ({ cls := "ThirtyThreeBelowModel", name := "man", desc := "(II)I" } : Jvm.MethodName) ({ cls := "ThirtyThreeBelowModel", name := "man", desc := "(II)I" } : Jvm.MethodName)) ∈ lw_all := lw_g (lw_at lw_m9 11 rfl) rfl
theorem q2015 : (Jvm.Cond.code ({ cls := "ThirtyThreeBelowModel", name := "man", desc := "(II)I" } : Jvm.MethodName) prog_22_method_20_code (4 : Nat) (Option.some Jvm.ClassFile.FieldType.int)) ∈ lw_all := lw_g (lw_at lw_m9 12 rfl) rfl
theorem q2017 : (Jvm.Cond.instanceMethod ({ cls := "ThirtyThreeBelowModel", name := "ofBody", desc := "(II)I" } : Jvm.MethodName)) ∈ lw_all := lw_g (lw_at lw_m9 14 rfl) rfl
theorem q2018 : (Jvm.Cond.selects "ThirtyThreeBelowModel" ({ cls := "ThirtyThreeBelowModel", name := "ofBody", desc := "(II)I" } : Jvm.MethodName) ({ cls := "ThirtyThreeBelowModel", name := "ofBody", desc := "(II)I" } : Jvm.MethodName)) ∈ lw_all := lw_g (lw_at lw_m9 15 rfl) rfl
theorem q2019 : (Jvm.Cond.code ({ cls := "ThirtyThreeBelowModel", name := "ofBody", desc := "(II)I" } : Jvm.MethodName) prog_22_method_21_code (3 : Nat) (Option.some Jvm.ClassFile.FieldType.int)) ∈ lw_all := lw_g (lw_at lw_m9 16 rfl) rfl
theorem q2020 : (Jvm.Cond.methodLink "ThirtyThreeBelowModel" (245 : Nat) ({ cls := "ThirtyThreeBelowModel", name := "isBody", desc := "(I)Z" } : Jvm.MethodName)) ∈ lw_all := lw_g (lw_at lw_m9 17 rfl) rfl
theorem q2021 : (Jvm.Cond.privateMethod ({ cls := "ThirtyThreeBelowModel", name := "isBody", desc := "(I)Z" } : Jvm.MethodName)) ∈ lw_tbl := lw_at lw_m9 18 rfl
theorem q2022 : (Jvm.Cond.instanceMethod ({ cls := "ThirtyThreeBelowModel", name := "isBody", desc := "(I)Z" } : Jvm.MethodName)) ∈ lw_all := lw_g (lw_at lw_m9 19 rfl) rfl
theorem q2023 : (Jvm.Cond.code ({ cls := "ThirtyThreeBelowModel", name := "isBody", desc := "(I)Z" } : Jvm.MethodName) prog_22_method_11_code (2 : Nat) (Option.some Jvm.ClassFile.FieldType.boolean)) ∈ lw_all := lw_g (lw_at lw_m9 20 rfl) rfl
theorem q2024 : (Jvm.Cond.constant "ThirtyThreeBelowModel" (267 : Nat) (-2000000000 : Int32)) ∈ lw_all := lw_g (lw_at lw_m9 21 rfl) rfl
theorem q2025 : (Jvm.Cond.methodLink "ThirtyThreeBelowModel" (268 : Nat) ({ cls := "ThirtyThreeBelowModel", name := "isHole", desc := "(I)Z" } : Jvm.MethodName)) ∈ lw_all := lw_g (lw_at lw_m9 22 rfl) rfl
theorem q2026 : (Jvm.Cond.privateMethod ({ cls := "ThirtyThreeBelowModel", name := "isHole", desc := "(I)Z" } : Jvm.MethodName)) ∈ lw_tbl := lw_at lw_m9 23 rfl
theorem q2027 : (Jvm.Cond.instanceMethod ({ cls := "ThirtyThreeBelowModel", name := "isHole", desc := "(I)Z" } : Jvm.MethodName)) ∈ lw_all := lw_g (lw_at lw_m9 24 rfl) rfl
theorem q2028 : (Jvm.Cond.code ({ cls := "ThirtyThreeBelowModel", name := "isHole", desc := "(I)Z" } : Jvm.MethodName) prog_22_method_13_code (2 : Nat) (Option.some Jvm.ClassFile.FieldType.boolean)) ∈ lw_all := lw_g (lw_at lw_m9 25 rfl) rfl
theorem q2029 : (Jvm.Cond.methodLink "ThirtyThreeBelowModel" (248 : Nat) ({ cls := "ThirtyThreeBelowModel", name := "isUnder", desc := "(II)Z" } : Jvm.MethodName)) ∈ lw_all := lw_g (lw_at lw_m9 26 rfl) rfl
theorem q2030 : (Jvm.Cond.static ({ cls := "ThirtyThreeBelowModel", name := "isUnder", desc := "(II)Z" } : Jvm.MethodName)) ∈ lw_all := lw_g (lw_at lw_m9 27 rfl) rfl
theorem q2031 : (Jvm.Cond.code ({ cls := "ThirtyThreeBelowModel", name := "isUnder", desc := "(II)Z" } : Jvm.MethodName) prog_22_method_12_code (2 : Nat) (Option.some Jvm.ClassFile.FieldType.boolean)) ∈ lw_all := lw_g (lw_at lw_m9 28 rfl) rfl
theorem q2033 : (Jvm.Cond.instanceMethod ({ cls := "ThirtyThreeBelowModel", name := "ill", desc := "(II)I" } : Jvm.MethodName)) ∈ lw_all := lw_g (lw_at lw_m9 30 rfl) rfl
theorem q2034 : (Jvm.Cond.selects "ThirtyThreeBelowModel" ({ cls := "ThirtyThreeBelowModel", name := "ill", desc := "(II)I" } : Jvm.MethodName) ({ cls := "ThirtyThreeBelowModel", name := "ill", desc := "(II)I" } : Jvm.MethodName)) ∈ lw_all := lw_g (lw_at lw_m9 31 rfl) rfl
theorem q2035 : (Jvm.Cond.code ({ cls := "ThirtyThreeBelowModel", name := "ill", desc := "(II)I" } : Jvm.MethodName) prog_22_method_22_code (4 : Nat) (Option.some Jvm.ClassFile.FieldType.int)) ∈ lw_all := lw_g (lw_at lw_m9 32 rfl) rfl
theorem q2036 : (Jvm.Cond.methodLink "ThirtyThreeBelowModel" (275 : Nat) ({ cls := "ThirtyThreeBelowModel", name := "isMan", desc := "(I)Z" } : Jvm.MethodName)) ∈ lw_all := lw_g (lw_at lw_m9 33 rfl) rfl
theorem q2037 : (Jvm.Cond.privateMethod ({ cls := "ThirtyThreeBelowModel", name := "isMan", desc := "(I)Z" } : Jvm.MethodName)) ∈ lw_tbl := lw_at lw_m9 34 rfl
theorem q2038 : (Jvm.Cond.instanceMethod ({ cls := "ThirtyThreeBelowModel", name := "isMan", desc := "(I)Z" } : Jvm.MethodName)) ∈ lw_all := lw_g (lw_at lw_m9 35 rfl) rfl
theorem q2039 : (Jvm.Cond.code ({ cls := "ThirtyThreeBelowModel", name := "isMan", desc := "(I)Z" } : Jvm.MethodName) prog_22_method_14_code (2 : Nat) (Option.some Jvm.ClassFile.FieldType.boolean)) ∈ lw_all := lw_g (lw_at lw_m9 36 rfl) rfl
theorem q2041 : (Jvm.Cond.instanceMethod ({ cls := "ThirtyThreeBelowModel", name := "speed", desc := "(II)I" } : Jvm.MethodName)) ∈ lw_all := lw_g (lw_at lw_m9 38 rfl) rfl
theorem q2042 : (Jvm.Cond.selects "ThirtyThreeBelowModel" ({ cls := "ThirtyThreeBelowModel", name := "speed", desc := "(II)I" } : Jvm.MethodName) ({ cls := "ThirtyThreeBelowModel", name := "speed", desc := "(II)I" } : Jvm.MethodName)) ∈ lw_all := lw_g (lw_at lw_m9 39 rfl) rfl
theorem q2043 : (Jvm.Cond.code ({ cls := "ThirtyThreeBelowModel", name := "speed", desc := "(II)I" } : Jvm.MethodName) prog_22_method_25_code (4 : Nat) (Option.some Jvm.ClassFile.FieldType.int)) ∈ lw_all := lw_g (lw_at lw_m9 40 rfl) rfl
theorem q2044 : (Jvm.Cond.methodLink "ThirtyThreeBelowModel" (278 : Nat) ({ cls := "ThirtyThreeBelowModel", name := "isMachine", desc := "(I)Z" } : Jvm.MethodName)) ∈ lw_all := lw_g (lw_at lw_m9 41 rfl) rfl
theorem q2045 : (Jvm.Cond.static ({ cls := "ThirtyThreeBelowModel", name := "isMachine", desc := "(I)Z" } : Jvm.MethodName)) ∈ lw_all := lw_g (lw_at lw_m9 42 rfl) rfl
theorem q2046 : (Jvm.Cond.code ({ cls := "ThirtyThreeBelowModel", name := "isMachine", desc := "(I)Z" } : Jvm.MethodName) prog_22_method_24_code (1 : Nat) (Option.some Jvm.ClassFile.FieldType.boolean)) ∈ lw_all := lw_g (lw_at lw_m9 43 rfl) rfl
theorem q2048 : (Jvm.Cond.instanceMethod ({ cls := "ThirtyThreeBelowModel", name := "set", desc := "(II)I" } : Jvm.MethodName)) ∈ lw_all := lw_g (lw_at lw_m9 45 rfl) rfl
theorem q2049 : (Jvm.Cond.selects "ThirtyThreeBelowModel" ({ cls := "ThirtyThreeBelowModel", name := "set", desc := "(II)I" } : Jvm.MethodName) ({ cls := "ThirtyThreeBelowModel", name := "set", desc := "(II)I" } : Jvm.MethodName)) ∈ lw_all := lw_g (lw_at lw_m9 46 rfl) rfl
theorem q2050 : (Jvm.Cond.code ({ cls := "ThirtyThreeBelowModel", name := "set", desc := "(II)I" } : Jvm.MethodName) prog_22_method_26_code (4 : Nat) (Option.some Jvm.ClassFile.FieldType.int)) ∈ lw_all := lw_g (lw_at lw_m9 47 rfl) rfl
theorem q2052 : (Jvm.Cond.instanceMethod ({ cls := "ThirtyThreeBelowModel", name := "breaks", desc := "(II)I" } : Jvm.MethodName)) ∈ lw_all := lw_g (lw_at lw_m9 49 rfl) rfl
theorem q2053 : (Jvm.Cond.selects "ThirtyThreeBelowModel" ({ cls := "ThirtyThreeBelowModel", name := "breaks", desc := "(II)I" } : Jvm.MethodName) ({ cls := "ThirtyThreeBelowModel", name := "breaks", desc := "(II)I" } : Jvm.MethodName)) ∈ lw_all := lw_g (lw_at lw_m9 50 rfl) rfl
theorem q2054 : (Jvm.Cond.code ({ cls := "ThirtyThreeBelowModel", name := "breaks", desc := "(II)I" } : Jvm.MethodName) prog_22_method_27_code (3 : Nat) (Option.some Jvm.ClassFile.FieldType.int)) ∈ lw_all := lw_g (lw_at lw_m9 51 rfl) rfl
theorem q2056 : (Jvm.Cond.instanceMethod ({ cls := "ThirtyThreeBelowModel", name := "yard", desc := "(II)I" } : Jvm.MethodName)) ∈ lw_all := lw_g (lw_at lw_m9 53 rfl) rfl
theorem q2057 : (Jvm.Cond.selects "ThirtyThreeBelowModel" ({ cls := "ThirtyThreeBelowModel", name := "yard", desc := "(II)I" } : Jvm.MethodName) ({ cls := "ThirtyThreeBelowModel", name := "yard", desc := "(II)I" } : Jvm.MethodName)) ∈ lw_all := lw_g (lw_at lw_m9 54 rfl) rfl
theorem q2058 : (Jvm.Cond.code ({ cls := "ThirtyThreeBelowModel", name := "yard", desc := "(II)I" } : Jvm.MethodName) prog_22_method_28_code (3 : Nat) (Option.some Jvm.ClassFile.FieldType.int)) ∈ lw_all := lw_g (lw_at lw_m9 55 rfl) rfl
theorem q2060 : (Jvm.Cond.instanceMethod ({ cls := "ThirtyThreeBelowModel", name := "met", desc := "(II)I" } : Jvm.MethodName)) ∈ lw_all := lw_g (lw_at lw_m9 57 rfl) rfl
theorem q2061 : (Jvm.Cond.selects "ThirtyThreeBelowModel" ({ cls := "ThirtyThreeBelowModel", name := "met", desc := "(II)I" } : Jvm.MethodName) ({ cls := "ThirtyThreeBelowModel", name := "met", desc := "(II)I" } : Jvm.MethodName)) ∈ lw_all := lw_g (lw_at lw_m9 58 rfl) rfl
theorem q2062 : (Jvm.Cond.code ({ cls := "ThirtyThreeBelowModel", name := "met", desc := "(II)I" } : Jvm.MethodName) prog_22_method_29_code (3 : Nat) (Option.some Jvm.ClassFile.FieldType.int)) ∈ lw_all := lw_g (lw_at lw_m9 59 rfl) rfl
theorem q2064 : (Jvm.Cond.instanceMethod ({ cls := "ThirtyThreeBelowModel", name := "spread", desc := "(I)I" } : Jvm.MethodName)) ∈ lw_all := lw_g (lw_at lw_m9 61 rfl) rfl
theorem q2065 : (Jvm.Cond.selects "ThirtyThreeBelowModel" ({ cls := "ThirtyThreeBelowModel", name := "spread", desc := "(I)I" } : Jvm.MethodName) ({ cls := "ThirtyThreeBelowModel", name := "spread", desc := "(I)I" } : Jvm.MethodName)) ∈ lw_all := lw_g (lw_at lw_m9 62 rfl) rfl
theorem q2066 : (Jvm.Cond.code ({ cls := "ThirtyThreeBelowModel", name := "spread", desc := "(I)I" } : Jvm.MethodName) prog_22_method_32_code (3 : Nat) (Option.some Jvm.ClassFile.FieldType.int)) ∈ lw_all := lw_g (lw_at lw_m9 63 rfl) rfl
theorem q2068 : (Jvm.Cond.instanceMethod ({ cls := "ThirtyThreeBelowModel", name := "log", desc := "(IIIII)I" } : Jvm.MethodName)) ∈ lw_all := lw_g (lw_at lw_m9 65 rfl) rfl
theorem q2069 : (Jvm.Cond.selects "ThirtyThreeBelowModel" ({ cls := "ThirtyThreeBelowModel", name := "log", desc := "(IIIII)I" } : Jvm.MethodName) ({ cls := "ThirtyThreeBelowModel", name := "log", desc := "(IIIII)I" } : Jvm.MethodName)) ∈ lw_all := lw_g (lw_at lw_m9 66 rfl) rfl
theorem q2070 : (Jvm.Cond.code ({ cls := "ThirtyThreeBelowModel", name := "log", desc := "(IIIII)I" } : Jvm.MethodName) prog_22_method_33_code (12 : Nat) (Option.some Jvm.ClassFile.FieldType.int)) ∈ lw_all := lw_g (lw_at lw_m9 67 rfl) rfl
theorem q2071 : (Jvm.Cond.methodLink "ThirtyThreeBelowModel" (288 : Nat) ({ cls := "ThirtyThreeBelowModel", name := "isShelf", desc := "(I)Z" } : Jvm.MethodName)) ∈ lw_all := lw_g (lw_at lw_m9 68 rfl) rfl
theorem q2072 : (Jvm.Cond.static ({ cls := "ThirtyThreeBelowModel", name := "isShelf", desc := "(I)Z" } : Jvm.MethodName)) ∈ lw_all := lw_g (lw_at lw_m9 69 rfl) rfl
theorem q2073 : (Jvm.Cond.code ({ cls := "ThirtyThreeBelowModel", name := "isShelf", desc := "(I)Z" } : Jvm.MethodName) prog_22_method_107_code (1 : Nat) (Option.some Jvm.ClassFile.FieldType.boolean)) ∈ lw_all := lw_g (lw_at lw_m9 70 rfl) rfl
theorem q2074 : (Jvm.Cond.methodLink "ThirtyThreeBelowModel" (291 : Nat) ({ cls := "ThirtyThreeBelowModel", name := "isReals", desc := "(I)Z" } : Jvm.MethodName)) ∈ lw_all := lw_g (lw_at lw_m9 71 rfl) rfl
theorem q2075 : (Jvm.Cond.privateMethod ({ cls := "ThirtyThreeBelowModel", name := "isReals", desc := "(I)Z" } : Jvm.MethodName)) ∈ lw_tbl := lw_at lw_m9 72 rfl
theorem q2076 : (Jvm.Cond.instanceMethod ({ cls := "ThirtyThreeBelowModel", name := "isReals", desc := "(I)Z" } : Jvm.MethodName)) ∈ lw_all := lw_g (lw_at lw_m9 73 rfl) rfl
theorem q2077 : (Jvm.Cond.code ({ cls := "ThirtyThreeBelowModel", name := "isReals", desc := "(I)Z" } : Jvm.MethodName) prog_22_method_108_code (2 : Nat) (Option.some Jvm.ClassFile.FieldType.boolean)) ∈ lw_all := lw_g (lw_at lw_m9 74 rfl) rfl
theorem q2079 : (Jvm.Cond.instanceMethod ({ cls := "ThirtyThreeBelowModel", name := "canBe", desc := "(III)I" } : Jvm.MethodName)) ∈ lw_all := lw_g (lw_at lw_m9 76 rfl) rfl
theorem q2080 : (Jvm.Cond.selects "ThirtyThreeBelowModel" ({ cls := "ThirtyThreeBelowModel", name := "canBe", desc := "(III)I" } : Jvm.MethodName) ({ cls := "ThirtyThreeBelowModel", name := "canBe", desc := "(III)I" } : Jvm.MethodName)) ∈ lw_all := lw_g (lw_at lw_m9 77 rfl) rfl
theorem q2081 : (Jvm.Cond.code ({ cls := "ThirtyThreeBelowModel", name := "canBe", desc := "(III)I" } : Jvm.MethodName) prog_22_method_36_code (4 : Nat) (Option.some Jvm.ClassFile.FieldType.int)) ∈ lw_all := lw_g (lw_at lw_m9 78 rfl) rfl
theorem q2082 : (Jvm.Cond.methodLink "ThirtyThreeBelowModel" (297 : Nat) ({ cls := "ThirtyThreeBelowModel", name := "canBeAt", desc := "(IIZ)I" } : Jvm.MethodName)) ∈ lw_all := lw_g (lw_at lw_m9 79 rfl) rfl
theorem q2083 : (Jvm.Cond.privateMethod ({ cls := "ThirtyThreeBelowModel", name := "canBeAt", desc := "(IIZ)I" } : Jvm.MethodName)) ∈ lw_tbl := lw_at lw_m9 80 rfl
theorem q2084 : (Jvm.Cond.instanceMethod ({ cls := "ThirtyThreeBelowModel", name := "canBeAt", desc := "(IIZ)I" } : Jvm.MethodName)) ∈ lw_all := lw_g (lw_at lw_m9 81 rfl) rfl
theorem q2085 : (Jvm.Cond.code ({ cls := "ThirtyThreeBelowModel", name := "canBeAt", desc := "(IIZ)I" } : Jvm.MethodName) prog_22_method_35_code (7 : Nat) (Option.some Jvm.ClassFile.FieldType.int)) ∈ lw_all := lw_g (lw_at lw_m9 82 rfl) rfl
theorem q2086 : (Jvm.Cond.methodLink "ThirtyThreeBelowModel" (294 : Nat) ({ cls := "ThirtyThreeBelowModel", name := "down4", desc := "(I)I" } : Jvm.MethodName)) ∈ lw_all := lw_g (lw_at lw_m9 83 rfl) rfl
theorem q2087 : (Jvm.Cond.static ({ cls := "ThirtyThreeBelowModel", name := "down4", desc := "(I)I" } : Jvm.MethodName)) ∈ lw_all := lw_g (lw_at lw_m9 84 rfl) rfl
theorem q2088 : (Jvm.Cond.code ({ cls := "ThirtyThreeBelowModel", name := "down4", desc := "(I)I" } : Jvm.MethodName) prog_22_method_34_code (1 : Nat) (Option.some Jvm.ClassFile.FieldType.int)) ∈ lw_all := lw_g (lw_at lw_m9 85 rfl) rfl
theorem q2089 : (Jvm.Cond.methodLink "ThirtyThreeBelowModel" (284 : Nat) ({ cls := "ThirtyThreeBelowModel", name := "held", desc := "(III)I" } : Jvm.MethodName)) ∈ lw_all := lw_g (lw_at lw_m9 86 rfl) rfl
theorem q2090 : (Jvm.Cond.static ({ cls := "ThirtyThreeBelowModel", name := "held", desc := "(III)I" } : Jvm.MethodName)) ∈ lw_all := lw_g (lw_at lw_m9 87 rfl) rfl
theorem q2091 : (Jvm.Cond.code ({ cls := "ThirtyThreeBelowModel", name := "held", desc := "(III)I" } : Jvm.MethodName) prog_22_method_5_code (3 : Nat) (Option.some Jvm.ClassFile.FieldType.int)) ∈ lw_all := lw_g (lw_at lw_m9 88 rfl) rfl
theorem q2093 : (Jvm.Cond.instanceMethod ({ cls := "ThirtyThreeBelowModel", name := "map", desc := "(II)I" } : Jvm.MethodName)) ∈ lw_all := lw_g (lw_at lw_m9 90 rfl) rfl
theorem q2094 : (Jvm.Cond.selects "ThirtyThreeBelowModel" ({ cls := "ThirtyThreeBelowModel", name := "map", desc := "(II)I" } : Jvm.MethodName) ({ cls := "ThirtyThreeBelowModel", name := "map", desc := "(II)I" } : Jvm.MethodName)) ∈ lw_all := lw_g (lw_at lw_m9 91 rfl) rfl
theorem q2095 : (Jvm.Cond.code ({ cls := "ThirtyThreeBelowModel", name := "map", desc := "(II)I" } : Jvm.MethodName) prog_22_method_37_code (3 : Nat) (Option.some Jvm.ClassFile.FieldType.int)) ∈ lw_all := lw_g (lw_at lw_m9 92 rfl) rfl
theorem q2097 : (Jvm.Cond.instanceMethod ({ cls := "ThirtyThreeBelowModel", name := "old", desc := "(II)I" } : Jvm.MethodName)) ∈ lw_all := lw_g (lw_at lw_m9 94 rfl) rfl
theorem q2098 : (Jvm.Cond.selects "ThirtyThreeBelowModel" ({ cls := "ThirtyThreeBelowModel", name := "old", desc := "(II)I" } : Jvm.MethodName) ({ cls := "ThirtyThreeBelowModel", name := "old", desc := "(II)I" } : Jvm.MethodName)) ∈ lw_all := lw_g (lw_at lw_m9 95 rfl) rfl
theorem q2099 : (Jvm.Cond.code ({ cls := "ThirtyThreeBelowModel", name := "old", desc := "(II)I" } : Jvm.MethodName) prog_22_method_39_code (3 : Nat) (Option.some Jvm.ClassFile.FieldType.int)) ∈ lw_all := lw_g (lw_at lw_m9 96 rfl) rfl
theorem q2100 : (Jvm.Cond.methodLink "ThirtyThreeBelowModel" (304 : Nat) ({ cls := "ThirtyThreeBelowModel", name := "isOldBy", desc := "(II)Z" } : Jvm.MethodName)) ∈ lw_all := lw_g (lw_at lw_m9 97 rfl) rfl
theorem q2101 : (Jvm.Cond.privateMethod ({ cls := "ThirtyThreeBelowModel", name := "isOldBy", desc := "(II)Z" } : Jvm.MethodName)) ∈ lw_tbl := lw_at lw_m9 98 rfl
theorem q2102 : (Jvm.Cond.instanceMethod ({ cls := "ThirtyThreeBelowModel", name := "isOldBy", desc := "(II)Z" } : Jvm.MethodName)) ∈ lw_all := lw_g (lw_at lw_m9 99 rfl) rfl
theorem q2103 : (Jvm.Cond.code ({ cls := "ThirtyThreeBelowModel", name := "isOldBy", desc := "(II)Z" } : Jvm.MethodName) prog_22_method_38_code (4 : Nat) (Option.some Jvm.ClassFile.FieldType.boolean)) ∈ lw_all := lw_g (lw_at lw_m9 100 rfl) rfl
theorem q2105 : (Jvm.Cond.instanceMethod ({ cls := "ThirtyThreeBelowModel", name := "wrong", desc := "(I)I" } : Jvm.MethodName)) ∈ lw_all := lw_g (lw_at lw_m9 102 rfl) rfl
theorem q2106 : (Jvm.Cond.selects "ThirtyThreeBelowModel" ({ cls := "ThirtyThreeBelowModel", name := "wrong", desc := "(I)I" } : Jvm.MethodName) ({ cls := "ThirtyThreeBelowModel", name := "wrong", desc := "(I)I" } : Jvm.MethodName)) ∈ lw_all := lw_g (lw_at lw_m9 103 rfl) rfl
theorem q2107 : (Jvm.Cond.code ({ cls := "ThirtyThreeBelowModel", name := "wrong", desc := "(I)I" } : Jvm.MethodName) prog_22_method_43_code (2 : Nat) (Option.some Jvm.ClassFile.FieldType.int)) ∈ lw_all := lw_g (lw_at lw_m9 104 rfl) rfl
theorem q2108 : (Jvm.Cond.methodLink "ThirtyThreeBelowModel" (313 : Nat) ({ cls := "ThirtyThreeBelowModel", name := "wrongBy", desc := "(I)I" } : Jvm.MethodName)) ∈ lw_all := lw_g (lw_at lw_m9 105 rfl) rfl
theorem q2109 : (Jvm.Cond.privateMethod ({ cls := "ThirtyThreeBelowModel", name := "wrongBy", desc := "(I)I" } : Jvm.MethodName)) ∈ lw_tbl := lw_at lw_m9 106 rfl
theorem q2110 : (Jvm.Cond.instanceMethod ({ cls := "ThirtyThreeBelowModel", name := "wrongBy", desc := "(I)I" } : Jvm.MethodName)) ∈ lw_all := lw_g (lw_at lw_m9 107 rfl) rfl
theorem q2111 : (Jvm.Cond.code ({ cls := "ThirtyThreeBelowModel", name := "wrongBy", desc := "(I)I" } : Jvm.MethodName) prog_22_method_42_code (4 : Nat) (Option.some Jvm.ClassFile.FieldType.int)) ∈ lw_all := lw_g (lw_at lw_m9 108 rfl) rfl
theorem q2112 : (Jvm.Cond.methodLink "ThirtyThreeBelowModel" (310 : Nat) ({ cls := "ThirtyThreeBelowModel", name := "isUnlike", desc := "(III)Z" } : Jvm.MethodName)) ∈ lw_all := lw_g (lw_at lw_m9 109 rfl) rfl
theorem q2113 : (Jvm.Cond.privateMethod ({ cls := "ThirtyThreeBelowModel", name := "isUnlike", desc := "(III)Z" } : Jvm.MethodName)) ∈ lw_tbl := lw_at lw_m9 110 rfl
theorem q2114 : (Jvm.Cond.instanceMethod ({ cls := "ThirtyThreeBelowModel", name := "isUnlike", desc := "(III)Z" } : Jvm.MethodName)) ∈ lw_all := lw_g (lw_at lw_m9 111 rfl) rfl
theorem q2115 : (Jvm.Cond.code ({ cls := "ThirtyThreeBelowModel", name := "isUnlike", desc := "(III)Z" } : Jvm.MethodName) prog_22_method_41_code (9 : Nat) (Option.some Jvm.ClassFile.FieldType.boolean)) ∈ lw_all := lw_g (lw_at lw_m9 112 rfl) rfl
theorem q2116 : (Jvm.Cond.methodLink "ThirtyThreeBelowModel" (307 : Nat) ({ cls := "ThirtyThreeBelowModel", name := "isShelterBy", desc := "(III)Z" } : Jvm.MethodName)) ∈ lw_all := lw_g (lw_at lw_m9 113 rfl) rfl
theorem q2117 : (Jvm.Cond.privateMethod ({ cls := "ThirtyThreeBelowModel", name := "isShelterBy", desc := "(III)Z" } : Jvm.MethodName)) ∈ lw_tbl := lw_at lw_m9 114 rfl
theorem q2118 : (Jvm.Cond.instanceMethod ({ cls := "ThirtyThreeBelowModel", name := "isShelterBy", desc := "(III)Z" } : Jvm.MethodName)) ∈ lw_all := lw_g (lw_at lw_m9 115 rfl) rfl
theorem q2119 : (Jvm.Cond.code ({ cls := "ThirtyThreeBelowModel", name := "isShelterBy", desc := "(III)Z" } : Jvm.MethodName) prog_22_method_40_code (4 : Nat) (Option.some Jvm.ClassFile.FieldType.boolean)) ∈ lw_all := lw_g (lw_at lw_m9 116 rfl) rfl
theorem q2121 : (Jvm.Cond.instanceMethod ({ cls := "ThirtyThreeBelowModel", name := "known", desc := "(I)I" } : Jvm.MethodName)) ∈ lw_all := lw_g (lw_at lw_m9 118 rfl) rfl
theorem q2122 : (Jvm.Cond.selects "ThirtyThreeBelowModel" ({ cls := "ThirtyThreeBelowModel", name := "known", desc := "(I)I" } : Jvm.MethodName) ({ cls := "ThirtyThreeBelowModel", name := "known", desc := "(I)I" } : Jvm.MethodName)) ∈ lw_all := lw_g (lw_at lw_m9 119 rfl) rfl
theorem q2123 : (Jvm.Cond.code ({ cls := "ThirtyThreeBelowModel", name := "known", desc := "(I)I" } : Jvm.MethodName) prog_22_method_44_code (9 : Nat) (Option.some Jvm.ClassFile.FieldType.int)) ∈ lw_all := lw_g (lw_at lw_m9 120 rfl) rfl
theorem q2125 : (Jvm.Cond.instanceMethod ({ cls := "ThirtyThreeBelowModel", name := "feed", desc := "(II)I" } : Jvm.MethodName)) ∈ lw_all := lw_g (lw_at lw_m9 122 rfl) rfl
theorem q2126 : (Jvm.Cond.selects "ThirtyThreeBelowModel" ({ cls := "ThirtyThreeBelowModel", name := "feed", desc := "(II)I" } : Jvm.MethodName) ({ cls := "ThirtyThreeBelowModel", name := "feed", desc := "(II)I" } : Jvm.MethodName)) ∈ lw_all := lw_g (lw_at lw_m9 123 rfl) rfl
theorem q2127 : (Jvm.Cond.code ({ cls := "ThirtyThreeBelowModel", name := "feed", desc := "(II)I" } : Jvm.MethodName) prog_22_method_45_code (4 : Nat) (Option.some Jvm.ClassFile.FieldType.int)) ∈ lw_all := lw_g (lw_at lw_m9 124 rfl) rfl
theorem q2129 : (Jvm.Cond.instanceMethod ({ cls := "ThirtyThreeBelowModel", name := "text", desc := "(II)I" } : Jvm.MethodName)) ∈ lw_all := lw_g (lw_at lw_m9 126 rfl) rfl
theorem q2130 : (Jvm.Cond.selects "ThirtyThreeBelowModel" ({ cls := "ThirtyThreeBelowModel", name := "text", desc := "(II)I" } : Jvm.MethodName) ({ cls := "ThirtyThreeBelowModel", name := "text", desc := "(II)I" } : Jvm.MethodName)) ∈ lw_all := lw_g (lw_at lw_m9 127 rfl) rfl
theorem q2131 : (Jvm.Cond.code ({ cls := "ThirtyThreeBelowModel", name := "text", desc := "(II)I" } : Jvm.MethodName) prog_22_method_59_code (3 : Nat) (Option.some Jvm.ClassFile.FieldType.int)) ∈ lw_all := lw_g (lw_at lw_m9 128 rfl) rfl
theorem q2132 : (Jvm.Cond.methodLink "ThirtyThreeBelowModel" (370 : Nat) ({ cls := "ThirtyThreeBelowModel", name := "isWhat", desc := "(I)Z" } : Jvm.MethodName)) ∈ lw_all := lw_g (lw_at lw_m9 129 rfl) rfl
theorem q2133 : (Jvm.Cond.static ({ cls := "ThirtyThreeBelowModel", name := "isWhat", desc := "(I)Z" } : Jvm.MethodName)) ∈ lw_all := lw_g (lw_at lw_m9 130 rfl) rfl
theorem q2134 : (Jvm.Cond.code ({ cls := "ThirtyThreeBelowModel", name := "isWhat", desc := "(I)Z" } : Jvm.MethodName) prog_22_method_58_code (1 : Nat) (Option.some Jvm.ClassFile.FieldType.boolean)) ∈ lw_all := lw_g (lw_at lw_m9 131 rfl) rfl
theorem q2135 : (Jvm.Cond.methodLink "ThirtyThreeBelowModel" (376 : Nat) ({ cls := "ThirtyThreeBelowModel", name := "readLine", desc := "()V" } : Jvm.MethodName)) ∈ lw_all := lw_g (lw_at lw_m9 132 rfl) rfl
theorem q2136 : (Jvm.Cond.privateMethod ({ cls := "ThirtyThreeBelowModel", name := "readLine", desc := "()V" } : Jvm.MethodName)) ∈ lw_tbl := lw_at lw_m9 133 rfl
theorem q2137 : (Jvm.Cond.instanceMethod ({ cls := "ThirtyThreeBelowModel", name := "readLine", desc := "()V" } : Jvm.MethodName)) ∈ lw_all := lw_g (lw_at lw_m9 134 rfl) rfl
theorem q2138 : (Jvm.Cond.code ({ cls := "ThirtyThreeBelowModel", name := "readLine", desc := "()V" } : Jvm.MethodName) prog_22_method_57_code (3 : Nat) (Option.none : Option Jvm.ClassFile.FieldType)) ∈ lw_all := lw_g (lw_at lw_m9 135 rfl) rfl
theorem q2139 : (Jvm.Cond.methodLink "ThirtyThreeBelowModel" (355 : Nat) ({ cls := "ThirtyThreeBelowModel", name := "either", desc := "()V" } : Jvm.MethodName)) ∈ lw_all := lw_g (lw_at lw_m9 136 rfl) rfl
theorem q2140 : (Jvm.Cond.privateMethod ({ cls := "ThirtyThreeBelowModel", name := "either", desc := "()V" } : Jvm.MethodName)) ∈ lw_tbl := lw_at lw_m9 137 rfl
theorem q2141 : (Jvm.Cond.instanceMethod ({ cls := "ThirtyThreeBelowModel", name := "either", desc := "()V" } : Jvm.MethodName)) ∈ lw_all := lw_g (lw_at lw_m9 138 rfl) rfl
theorem q2142 : (Jvm.Cond.code ({ cls := "ThirtyThreeBelowModel", name := "either", desc := "()V" } : Jvm.MethodName) prog_22_method_56_code (1 : Nat) (Option.none : Option Jvm.ClassFile.FieldType)) ∈ lw_all := lw_g (lw_at lw_m9 139 rfl) rfl
theorem q2143 : (Jvm.Cond.methodLink "ThirtyThreeBelowModel" (367 : Nat) ({ cls := "ThirtyThreeBelowModel", name := "all", desc := "()V" } : Jvm.MethodName)) ∈ lw_all := lw_g (lw_at lw_m9 140 rfl) rfl
theorem q2144 : (Jvm.Cond.privateMethod ({ cls := "ThirtyThreeBelowModel", name := "all", desc := "()V" } : Jvm.MethodName)) ∈ lw_tbl := lw_at lw_m9 141 rfl
theorem q2145 : (Jvm.Cond.instanceMethod ({ cls := "ThirtyThreeBelowModel", name := "all", desc := "()V" } : Jvm.MethodName)) ∈ lw_all := lw_g (lw_at lw_m9 142 rfl) rfl
theorem q2146 : (Jvm.Cond.code ({ cls := "ThirtyThreeBelowModel", name := "all", desc := "()V" } : Jvm.MethodName) prog_22_method_55_code (1 : Nat) (Option.none : Option Jvm.ClassFile.FieldType)) ∈ lw_all := lw_g (lw_at lw_m9 143 rfl) rfl
theorem q2147 : (Jvm.Cond.methodLink "ThirtyThreeBelowModel" (364 : Nat) ({ cls := "ThirtyThreeBelowModel", name := "compared", desc := "()V" } : Jvm.MethodName)) ∈ lw_all := lw_g (lw_at lw_m9 144 rfl) rfl
theorem q2148 : (Jvm.Cond.privateMethod ({ cls := "ThirtyThreeBelowModel", name := "compared", desc := "()V" } : Jvm.MethodName)) ∈ lw_tbl := lw_at lw_m9 145 rfl
theorem q2149 : (Jvm.Cond.instanceMethod ({ cls := "ThirtyThreeBelowModel", name := "compared", desc := "()V" } : Jvm.MethodName)) ∈ lw_all := lw_g (lw_at lw_m9 146 rfl) rfl
theorem q2150 : (Jvm.Cond.code ({ cls := "ThirtyThreeBelowModel", name := "compared", desc := "()V" } : Jvm.MethodName) prog_22_method_54_code (2 : Nat) (Option.none : Option Jvm.ClassFile.FieldType)) ∈ lw_all := lw_g (lw_at lw_m9 147 rfl) rfl
theorem q2151 : (Jvm.Cond.methodLink "ThirtyThreeBelowModel" (361 : Nat) ({ cls := "ThirtyThreeBelowModel", name := "sum", desc := "()V" } : Jvm.MethodName)) ∈ lw_all := lw_g (lw_at lw_m9 148 rfl) rfl
theorem q2152 : (Jvm.Cond.privateMethod ({ cls := "ThirtyThreeBelowModel", name := "sum", desc := "()V" } : Jvm.MethodName)) ∈ lw_tbl := lw_at lw_m9 149 rfl
theorem q2153 : (Jvm.Cond.instanceMethod ({ cls := "ThirtyThreeBelowModel", name := "sum", desc := "()V" } : Jvm.MethodName)) ∈ lw_all := lw_g (lw_at lw_m9 150 rfl) rfl
theorem q2154 : (Jvm.Cond.code ({ cls := "ThirtyThreeBelowModel", name := "sum", desc := "()V" } : Jvm.MethodName) prog_22_method_53_code (2 : Nat) (Option.none : Option Jvm.ClassFile.FieldType)) ∈ lw_all := lw_g (lw_at lw_m9 151 rfl) rfl
theorem q2155 : (Jvm.Cond.methodLink "ThirtyThreeBelowModel" (358 : Nat) ({ cls := "ThirtyThreeBelowModel", name := "product", desc := "()V" } : Jvm.MethodName)) ∈ lw_all := lw_g (lw_at lw_m9 152 rfl) rfl
theorem q2156 : (Jvm.Cond.privateMethod ({ cls := "ThirtyThreeBelowModel", name := "product", desc := "()V" } : Jvm.MethodName)) ∈ lw_tbl := lw_at lw_m9 153 rfl
theorem q2157 : (Jvm.Cond.instanceMethod ({ cls := "ThirtyThreeBelowModel", name := "product", desc := "()V" } : Jvm.MethodName)) ∈ lw_all := lw_g (lw_at lw_m9 154 rfl) rfl
theorem q2158 : (Jvm.Cond.code ({ cls := "ThirtyThreeBelowModel", name := "product", desc := "()V" } : Jvm.MethodName) prog_22_method_52_code (2 : Nat) (Option.none : Option Jvm.ClassFile.FieldType)) ∈ lw_all := lw_g (lw_at lw_m9 155 rfl) rfl
theorem q2159 : (Jvm.Cond.methodLink "ThirtyThreeBelowModel" (352 : Nat) ({ cls := "ThirtyThreeBelowModel", name := "operand", desc := "()V" } : Jvm.MethodName)) ∈ lw_all := lw_g (lw_at lw_m9 156 rfl) rfl
theorem q2160 : (Jvm.Cond.privateMethod ({ cls := "ThirtyThreeBelowModel", name := "operand", desc := "()V" } : Jvm.MethodName)) ∈ lw_tbl := lw_at lw_m9 157 rfl
theorem q2161 : (Jvm.Cond.instanceMethod ({ cls := "ThirtyThreeBelowModel", name := "operand", desc := "()V" } : Jvm.MethodName)) ∈ lw_all := lw_g (lw_at lw_m9 158 rfl) rfl
theorem q2162 : (Jvm.Cond.code ({ cls := "ThirtyThreeBelowModel", name := "operand", desc := "()V" } : Jvm.MethodName) prog_22_method_51_code (4 : Nat) (Option.none : Option Jvm.ClassFile.FieldType)) ∈ lw_all := lw_g (lw_at lw_m9 159 rfl) rfl
theorem q2163 : (Jvm.Cond.methodLink "ThirtyThreeBelowModel" (337 : Nat) ({ cls := "ThirtyThreeBelowModel", name := "look", desc := "()I" } : Jvm.MethodName)) ∈ lw_all := lw_g (lw_at lw_m9 160 rfl) rfl
theorem q2164 : (Jvm.Cond.privateMethod ({ cls := "ThirtyThreeBelowModel", name := "look", desc := "()I" } : Jvm.MethodName)) ∈ lw_tbl := lw_at lw_m9 161 rfl
theorem q2165 : (Jvm.Cond.instanceMethod ({ cls := "ThirtyThreeBelowModel", name := "look", desc := "()I" } : Jvm.MethodName)) ∈ lw_all := lw_g (lw_at lw_m9 162 rfl) rfl
theorem q2166 : (Jvm.Cond.code ({ cls := "ThirtyThreeBelowModel", name := "look", desc := "()I" } : Jvm.MethodName) prog_22_method_46_code (1 : Nat) (Option.some Jvm.ClassFile.FieldType.int)) ∈ lw_all := lw_g (lw_at lw_m9 163 rfl) rfl
theorem q2167 : (Jvm.Cond.methodLink "ThirtyThreeBelowModel" (341 : Nat) ({ cls := "ThirtyThreeBelowModel", name := "nameOf", desc := "(I)I" } : Jvm.MethodName)) ∈ lw_all := lw_g (lw_at lw_m9 164 rfl) rfl
theorem q2168 : (Jvm.Cond.static ({ cls := "ThirtyThreeBelowModel", name := "nameOf", desc := "(I)I" } : Jvm.MethodName)) ∈ lw_all := lw_g (lw_at lw_m9 165 rfl) rfl
theorem q2169 : (Jvm.Cond.code ({ cls := "ThirtyThreeBelowModel", name := "nameOf", desc := "(I)I" } : Jvm.MethodName) prog_22_method_50_code (1 : Nat) (Option.some Jvm.ClassFile.FieldType.int)) ∈ lw_all := lw_g (lw_at lw_m9 166 rfl) rfl
theorem q2170 : (Jvm.Cond.methodLink "ThirtyThreeBelowModel" (344 : Nat) ({ cls := "ThirtyThreeBelowModel", name := "lay", desc := "(II)V" } : Jvm.MethodName)) ∈ lw_all := lw_g (lw_at lw_m9 167 rfl) rfl
theorem q2171 : (Jvm.Cond.privateMethod ({ cls := "ThirtyThreeBelowModel", name := "lay", desc := "(II)V" } : Jvm.MethodName)) ∈ lw_tbl := lw_at lw_m9 168 rfl
theorem q2172 : (Jvm.Cond.instanceMethod ({ cls := "ThirtyThreeBelowModel", name := "lay", desc := "(II)V" } : Jvm.MethodName)) ∈ lw_all := lw_g (lw_at lw_m9 169 rfl) rfl
theorem q2173 : (Jvm.Cond.code ({ cls := "ThirtyThreeBelowModel", name := "lay", desc := "(II)V" } : Jvm.MethodName) prog_22_method_48_code (3 : Nat) (Option.none : Option Jvm.ClassFile.FieldType)) ∈ lw_all := lw_g (lw_at lw_m9 170 rfl) rfl
theorem q2174 : (Jvm.Cond.methodLink "ThirtyThreeBelowModel" (348 : Nat) ({ cls := "ThirtyThreeBelowModel", name := "opens", desc := "()Z" } : Jvm.MethodName)) ∈ lw_all := lw_g (lw_at lw_m9 171 rfl) rfl
theorem q2175 : (Jvm.Cond.privateMethod ({ cls := "ThirtyThreeBelowModel", name := "opens", desc := "()Z" } : Jvm.MethodName)) ∈ lw_tbl := lw_at lw_m9 172 rfl
theorem q2176 : (Jvm.Cond.instanceMethod ({ cls := "ThirtyThreeBelowModel", name := "opens", desc := "()Z" } : Jvm.MethodName)) ∈ lw_all := lw_g (lw_at lw_m9 173 rfl) rfl
theorem q2177 : (Jvm.Cond.code ({ cls := "ThirtyThreeBelowModel", name := "opens", desc := "()Z" } : Jvm.MethodName) prog_22_method_49_code (1 : Nat) (Option.some Jvm.ClassFile.FieldType.boolean)) ∈ lw_all := lw_g (lw_at lw_m9 174 rfl) rfl
theorem q2178 : (Jvm.Cond.methodLink "ThirtyThreeBelowModel" (334 : Nat) ({ cls := "ThirtyThreeBelowModel", name := "faultHere", desc := "()V" } : Jvm.MethodName)) ∈ lw_all := lw_g (lw_at lw_m9 175 rfl) rfl
theorem q2179 : (Jvm.Cond.privateMethod ({ cls := "ThirtyThreeBelowModel", name := "faultHere", desc := "()V" } : Jvm.MethodName)) ∈ lw_tbl := lw_at lw_m9 176 rfl
theorem q2180 : (Jvm.Cond.instanceMethod ({ cls := "ThirtyThreeBelowModel", name := "faultHere", desc := "()V" } : Jvm.MethodName)) ∈ lw_all := lw_g (lw_at lw_m9 177 rfl) rfl
theorem q2181 : (Jvm.Cond.code ({ cls := "ThirtyThreeBelowModel", name := "faultHere", desc := "()V" } : Jvm.MethodName) prog_22_method_47_code (1 : Nat) (Option.none : Option Jvm.ClassFile.FieldType)) ∈ lw_all := lw_g (lw_at lw_m9 178 rfl) rfl
theorem q2183 : (Jvm.Cond.instanceMethod ({ cls := "ThirtyThreeBelowModel", name := "inForce", desc := "(III)I" } : Jvm.MethodName)) ∈ lw_all := lw_g (lw_at lw_m9 180 rfl) rfl
theorem q2184 : (Jvm.Cond.selects "ThirtyThreeBelowModel" ({ cls := "ThirtyThreeBelowModel", name := "inForce", desc := "(III)I" } : Jvm.MethodName) ({ cls := "ThirtyThreeBelowModel", name := "inForce", desc := "(III)I" } : Jvm.MethodName)) ∈ lw_all := lw_g (lw_at lw_m9 181 rfl) rfl
theorem q2185 : (Jvm.Cond.code ({ cls := "ThirtyThreeBelowModel", name := "inForce", desc := "(III)I" } : Jvm.MethodName) prog_22_method_61_code (4 : Nat) (Option.some Jvm.ClassFile.FieldType.int)) ∈ lw_all := lw_g (lw_at lw_m9 182 rfl) rfl
theorem q2186 : (Jvm.Cond.methodLink "ThirtyThreeBelowModel" (382 : Nat) ({ cls := "ThirtyThreeBelowModel", name := "isHour", desc := "(I)Z" } : Jvm.MethodName)) ∈ lw_all := lw_g (lw_at lw_m9 183 rfl) rfl
theorem q2187 : (Jvm.Cond.static ({ cls := "ThirtyThreeBelowModel", name := "isHour", desc := "(I)Z" } : Jvm.MethodName)) ∈ lw_all := lw_g (lw_at lw_m9 184 rfl) rfl
theorem q2188 : (Jvm.Cond.code ({ cls := "ThirtyThreeBelowModel", name := "isHour", desc := "(I)Z" } : Jvm.MethodName) prog_22_method_4_code (1 : Nat) (Option.some Jvm.ClassFile.FieldType.boolean)) ∈ lw_all := lw_g (lw_at lw_m9 185 rfl) rfl
theorem q2189 : (Jvm.Cond.methodLink "ThirtyThreeBelowModel" (385 : Nat) ({ cls := "ThirtyThreeBelowModel", name := "forceOf", desc := "(III)I" } : Jvm.MethodName)) ∈ lw_all := lw_g (lw_at lw_m9 186 rfl) rfl
theorem q2190 : (Jvm.Cond.privateMethod ({ cls := "ThirtyThreeBelowModel", name := "forceOf", desc := "(III)I" } : Jvm.MethodName)) ∈ lw_tbl := lw_at lw_m9 187 rfl
theorem q2191 : (Jvm.Cond.instanceMethod ({ cls := "ThirtyThreeBelowModel", name := "forceOf", desc := "(III)I" } : Jvm.MethodName)) ∈ lw_all := lw_g (lw_at lw_m9 188 rfl) rfl
theorem q2192 : (Jvm.Cond.code ({ cls := "ThirtyThreeBelowModel", name := "forceOf", desc := "(III)I" } : Jvm.MethodName) prog_22_method_60_code (6 : Nat) (Option.some Jvm.ClassFile.FieldType.int)) ∈ lw_all := lw_g (lw_at lw_m9 189 rfl) rfl
theorem q2193 : (Jvm.Cond.methodLink "ThirtyThreeBelowModel" (379 : Nat) ({ cls := "ThirtyThreeBelowModel", name := "firstThrough", desc := "()I" } : Jvm.MethodName)) ∈ lw_all := lw_g (lw_at lw_m9 190 rfl) rfl
theorem q2194 : (Jvm.Cond.privateMethod ({ cls := "ThirtyThreeBelowModel", name := "firstThrough", desc := "()I" } : Jvm.MethodName)) ∈ lw_tbl := lw_at lw_m9 191 rfl
theorem q2195 : (Jvm.Cond.instanceMethod ({ cls := "ThirtyThreeBelowModel", name := "firstThrough", desc := "()I" } : Jvm.MethodName)) ∈ lw_all := lw_g (lw_at lw_m9 192 rfl) rfl
theorem q2196 : (Jvm.Cond.code ({ cls := "ThirtyThreeBelowModel", name := "firstThrough", desc := "()I" } : Jvm.MethodName) prog_22_method_30_code (3 : Nat) (Option.some Jvm.ClassFile.FieldType.int)) ∈ lw_all := lw_g (lw_at lw_m9 193 rfl) rfl
theorem q2198 : (Jvm.Cond.instanceMethod ({ cls := "ThirtyThreeBelowModel", name := "says", desc := "(II)I" } : Jvm.MethodName)) ∈ lw_all := lw_g (lw_at lw_m9 195 rfl) rfl
theorem q2199 : (Jvm.Cond.selects "ThirtyThreeBelowModel" ({ cls := "ThirtyThreeBelowModel", name := "says", desc := "(II)I" } : Jvm.MethodName) ({ cls := "ThirtyThreeBelowModel", name := "says", desc := "(II)I" } : Jvm.MethodName)) ∈ lw_all := lw_g (lw_at lw_m9 196 rfl) rfl
theorem q2200 : (Jvm.Cond.code ({ cls := "ThirtyThreeBelowModel", name := "says", desc := "(II)I" } : Jvm.MethodName) prog_22_method_66_code (3 : Nat) (Option.some Jvm.ClassFile.FieldType.int)) ∈ lw_all := lw_g (lw_at lw_m9 197 rfl) rfl
theorem q2201 : (Jvm.Cond.methodLink "ThirtyThreeBelowModel" (403 : Nat) ({ cls := "ThirtyThreeBelowModel", name := "saysNow", desc := "(III)I" } : Jvm.MethodName)) ∈ lw_all := lw_g (lw_at lw_m9 198 rfl) rfl
theorem q2202 : (Jvm.Cond.privateMethod ({ cls := "ThirtyThreeBelowModel", name := "saysNow", desc := "(III)I" } : Jvm.MethodName)) ∈ lw_tbl := lw_at lw_m9 199 rfl
theorem q2203 : (Jvm.Cond.instanceMethod ({ cls := "ThirtyThreeBelowModel", name := "saysNow", desc := "(III)I" } : Jvm.MethodName)) ∈ lw_all := lw_g (lw_at lw_m9 200 rfl) rfl
theorem q2204 : (Jvm.Cond.code ({ cls := "ThirtyThreeBelowModel", name := "saysNow", desc := "(III)I" } : Jvm.MethodName) prog_22_method_65_code (7 : Nat) (Option.some Jvm.ClassFile.FieldType.int)) ∈ lw_all := lw_g (lw_at lw_m9 201 rfl) rfl
theorem q2205 : (Jvm.Cond.methodLink "ThirtyThreeBelowModel" (394 : Nat) ({ cls := "ThirtyThreeBelowModel", name := "menBelow", desc := "()I" } : Jvm.MethodName)) ∈ lw_all := lw_g (lw_at lw_m9 202 rfl) rfl
theorem q2206 : (Jvm.Cond.privateMethod ({ cls := "ThirtyThreeBelowModel", name := "menBelow", desc := "()I" } : Jvm.MethodName)) ∈ lw_tbl := lw_at lw_m9 203 rfl
theorem q2207 : (Jvm.Cond.instanceMethod ({ cls := "ThirtyThreeBelowModel", name := "menBelow", desc := "()I" } : Jvm.MethodName)) ∈ lw_all := lw_g (lw_at lw_m9 204 rfl) rfl
theorem q2208 : (Jvm.Cond.code ({ cls := "ThirtyThreeBelowModel", name := "menBelow", desc := "()I" } : Jvm.MethodName) prog_22_method_23_code (3 : Nat) (Option.some Jvm.ClassFile.FieldType.int)) ∈ lw_all := lw_g (lw_at lw_m9 205 rfl) rfl
theorem q2209 : (Jvm.Cond.methodLink "ThirtyThreeBelowModel" (400 : Nat) ({ cls := "ThirtyThreeBelowModel", name := "gives", desc := "(I)I" } : Jvm.MethodName)) ∈ lw_all := lw_g (lw_at lw_m9 206 rfl) rfl
theorem q2210 : (Jvm.Cond.privateMethod ({ cls := "ThirtyThreeBelowModel", name := "gives", desc := "(I)I" } : Jvm.MethodName)) ∈ lw_tbl := lw_at lw_m9 207 rfl
theorem q2211 : (Jvm.Cond.instanceMethod ({ cls := "ThirtyThreeBelowModel", name := "gives", desc := "(I)I" } : Jvm.MethodName)) ∈ lw_all := lw_g (lw_at lw_m9 208 rfl) rfl
theorem q2212 : (Jvm.Cond.code ({ cls := "ThirtyThreeBelowModel", name := "gives", desc := "(I)I" } : Jvm.MethodName) prog_22_method_64_code (5 : Nat) (Option.some Jvm.ClassFile.FieldType.int)) ∈ lw_all := lw_g (lw_at lw_m9 209 rfl) rfl
theorem q2213 : (Jvm.Cond.methodLink "ThirtyThreeBelowModel" (391 : Nat) ({ cls := "ThirtyThreeBelowModel", name := "worked", desc := "(III)I" } : Jvm.MethodName)) ∈ lw_all := lw_g (lw_at lw_m9 210 rfl) rfl
theorem q2214 : (Jvm.Cond.privateMethod ({ cls := "ThirtyThreeBelowModel", name := "worked", desc := "(III)I" } : Jvm.MethodName)) ∈ lw_tbl := lw_at lw_m9 211 rfl
theorem q2215 : (Jvm.Cond.instanceMethod ({ cls := "ThirtyThreeBelowModel", name := "worked", desc := "(III)I" } : Jvm.MethodName)) ∈ lw_all := lw_g (lw_at lw_m9 212 rfl) rfl
theorem q2216 : (Jvm.Cond.code ({ cls := "ThirtyThreeBelowModel", name := "worked", desc := "(III)I" } : Jvm.MethodName) prog_22_method_63_code (7 : Nat) (Option.some Jvm.ClassFile.FieldType.int)) ∈ lw_all := lw_g (lw_at lw_m9 213 rfl) rfl
theorem q2217 : (Jvm.Cond.methodLink "ThirtyThreeBelowModel" (388 : Nat) ({ cls := "ThirtyThreeBelowModel", name := "both", desc := "(III)I" } : Jvm.MethodName)) ∈ lw_all := lw_g (lw_at lw_m9 214 rfl) rfl
theorem q2218 : (Jvm.Cond.static ({ cls := "ThirtyThreeBelowModel", name := "both", desc := "(III)I" } : Jvm.MethodName)) ∈ lw_all := lw_g (lw_at lw_m9 215 rfl) rfl
theorem q2219 : (Jvm.Cond.code ({ cls := "ThirtyThreeBelowModel", name := "both", desc := "(III)I" } : Jvm.MethodName) prog_22_method_62_code (3 : Nat) (Option.some Jvm.ClassFile.FieldType.int)) ∈ lw_all := lw_g (lw_at lw_m9 216 rfl) rfl
theorem q2221 : (Jvm.Cond.instanceMethod ({ cls := "ThirtyThreeBelowModel", name := "move", desc := "(II)I" } : Jvm.MethodName)) ∈ lw_all := lw_g (lw_at lw_m9 218 rfl) rfl
theorem q2222 : (Jvm.Cond.selects "ThirtyThreeBelowModel" ({ cls := "ThirtyThreeBelowModel", name := "move", desc := "(II)I" } : Jvm.MethodName) ({ cls := "ThirtyThreeBelowModel", name := "move", desc := "(II)I" } : Jvm.MethodName)) ∈ lw_all := lw_g (lw_at lw_m9 219 rfl) rfl
theorem q2223 : (Jvm.Cond.code ({ cls := "ThirtyThreeBelowModel", name := "move", desc := "(II)I" } : Jvm.MethodName) prog_22_method_67_code (3 : Nat) (Option.some Jvm.ClassFile.FieldType.int)) ∈ lw_all := lw_g (lw_at lw_m9 220 rfl) rfl
theorem q2225 : (Jvm.Cond.instanceMethod ({ cls := "ThirtyThreeBelowModel", name := "spoons", desc := "(I)I" } : Jvm.MethodName)) ∈ lw_all := lw_g (lw_at lw_m9 222 rfl) rfl
theorem q2226 : (Jvm.Cond.selects "ThirtyThreeBelowModel" ({ cls := "ThirtyThreeBelowModel", name := "spoons", desc := "(I)I" } : Jvm.MethodName) ({ cls := "ThirtyThreeBelowModel", name := "spoons", desc := "(I)I" } : Jvm.MethodName)) ∈ lw_all := lw_g (lw_at lw_m9 223 rfl) rfl
theorem q2227 : (Jvm.Cond.code ({ cls := "ThirtyThreeBelowModel", name := "spoons", desc := "(I)I" } : Jvm.MethodName) prog_22_method_68_code (3 : Nat) (Option.some Jvm.ClassFile.FieldType.int)) ∈ lw_all := lw_g (lw_at lw_m9 224 rfl) rfl
theorem q2229 : (Jvm.Cond.instanceMethod ({ cls := "ThirtyThreeBelowModel", name := "hours", desc := "(I)I" } : Jvm.MethodName)) ∈ lw_all := lw_g (lw_at lw_m9 226 rfl) rfl
theorem q2230 : (Jvm.Cond.selects "ThirtyThreeBelowModel" ({ cls := "ThirtyThreeBelowModel", name := "hours", desc := "(I)I" } : Jvm.MethodName) ({ cls := "ThirtyThreeBelowModel", name := "hours", desc := "(I)I" } : Jvm.MethodName)) ∈ lw_all := lw_g (lw_at lw_m9 227 rfl) rfl
theorem q2231 : (Jvm.Cond.code ({ cls := "ThirtyThreeBelowModel", name := "hours", desc := "(I)I" } : Jvm.MethodName) prog_22_method_71_code (5 : Nat) (Option.some Jvm.ClassFile.FieldType.int)) ∈ lw_all := lw_g (lw_at lw_m9 228 rfl) rfl
theorem q2232 : (Jvm.Cond.methodLink "ThirtyThreeBelowModel" (415 : Nat) ({ cls := "ThirtyThreeBelowModel", name := "drill", desc := "()V" } : Jvm.MethodName)) ∈ lw_all := lw_g (lw_at lw_m9 229 rfl) rfl
theorem q2233 : (Jvm.Cond.privateMethod ({ cls := "ThirtyThreeBelowModel", name := "drill", desc := "()V" } : Jvm.MethodName)) ∈ lw_tbl := lw_at lw_m9 230 rfl
theorem q2234 : (Jvm.Cond.instanceMethod ({ cls := "ThirtyThreeBelowModel", name := "drill", desc := "()V" } : Jvm.MethodName)) ∈ lw_all := lw_g (lw_at lw_m9 231 rfl) rfl
theorem q2235 : (Jvm.Cond.code ({ cls := "ThirtyThreeBelowModel", name := "drill", desc := "()V" } : Jvm.MethodName) prog_22_method_69_code (2 : Nat) (Option.none : Option Jvm.ClassFile.FieldType)) ∈ lw_all := lw_g (lw_at lw_m9 232 rfl) rfl
theorem q2236 : (Jvm.Cond.methodLink "ThirtyThreeBelowModel" (409 : Nat) ({ cls := "ThirtyThreeBelowModel", name := "bore", desc := "(II)V" } : Jvm.MethodName)) ∈ lw_all := lw_g (lw_at lw_m9 233 rfl) rfl
theorem q2237 : (Jvm.Cond.privateMethod ({ cls := "ThirtyThreeBelowModel", name := "bore", desc := "(II)V" } : Jvm.MethodName)) ∈ lw_tbl := lw_at lw_m9 234 rfl
theorem q2238 : (Jvm.Cond.instanceMethod ({ cls := "ThirtyThreeBelowModel", name := "bore", desc := "(II)V" } : Jvm.MethodName)) ∈ lw_all := lw_g (lw_at lw_m9 235 rfl) rfl
theorem q2239 : (Jvm.Cond.code ({ cls := "ThirtyThreeBelowModel", name := "bore", desc := "(II)V" } : Jvm.MethodName) prog_22_method_31_code (8 : Nat) (Option.none : Option Jvm.ClassFile.FieldType)) ∈ lw_all := lw_g (lw_at lw_m9 236 rfl) rfl
theorem q2240 : (Jvm.Cond.methodLink "ThirtyThreeBelowModel" (418 : Nat) ({ cls := "ThirtyThreeBelowModel", name := "comeDown", desc := "()V" } : Jvm.MethodName)) ∈ lw_all := lw_g (lw_at lw_m9 237 rfl) rfl
theorem q2241 : (Jvm.Cond.privateMethod ({ cls := "ThirtyThreeBelowModel", name := "comeDown", desc := "()V" } : Jvm.MethodName)) ∈ lw_tbl := lw_at lw_m9 238 rfl
theorem q2242 : (Jvm.Cond.instanceMethod ({ cls := "ThirtyThreeBelowModel", name := "comeDown", desc := "()V" } : Jvm.MethodName)) ∈ lw_all := lw_g (lw_at lw_m9 239 rfl) rfl
theorem q2243 : (Jvm.Cond.code ({ cls := "ThirtyThreeBelowModel", name := "comeDown", desc := "()V" } : Jvm.MethodName) prog_22_method_76_code (3 : Nat) (Option.none : Option Jvm.ClassFile.FieldType)) ∈ lw_all := lw_g (lw_at lw_m10 0 rfl) rfl
theorem q2244 : (Jvm.Cond.methodLink "ThirtyThreeBelowModel" (421 : Nat) ({ cls := "ThirtyThreeBelowModel", name := "eat", desc := "()V" } : Jvm.MethodName)) ∈ lw_all := lw_g (lw_at lw_m10 1 rfl) rfl
theorem q2245 : (Jvm.Cond.privateMethod ({ cls := "ThirtyThreeBelowModel", name := "eat", desc := "()V" } : Jvm.MethodName)) ∈ lw_tbl := lw_at lw_m10 2 rfl
theorem q2246 : (Jvm.Cond.instanceMethod ({ cls := "ThirtyThreeBelowModel", name := "eat", desc := "()V" } : Jvm.MethodName)) ∈ lw_all := lw_g (lw_at lw_m10 3 rfl) rfl
theorem q2247 : (Jvm.Cond.code ({ cls := "ThirtyThreeBelowModel", name := "eat", desc := "()V" } : Jvm.MethodName) prog_22_method_70_code (3 : Nat) (Option.none : Option Jvm.ClassFile.FieldType)) ∈ lw_all := lw_g (lw_at lw_m10 4 rfl) rfl
theorem q2249 : (Jvm.Cond.instanceMethod ({ cls := "ThirtyThreeBelowModel", name := "last", desc := "(II)I" } : Jvm.MethodName)) ∈ lw_all := lw_g (lw_at lw_m10 6 rfl) rfl
theorem q2250 : (Jvm.Cond.selects "ThirtyThreeBelowModel" ({ cls := "ThirtyThreeBelowModel", name := "last", desc := "(II)I" } : Jvm.MethodName) ({ cls := "ThirtyThreeBelowModel", name := "last", desc := "(II)I" } : Jvm.MethodName)) ∈ lw_all := lw_g (lw_at lw_m10 7 rfl) rfl
theorem q2251 : (Jvm.Cond.code ({ cls := "ThirtyThreeBelowModel", name := "last", desc := "(II)I" } : Jvm.MethodName) prog_22_method_73_code (3 : Nat) (Option.some Jvm.ClassFile.FieldType.int)) ∈ lw_all := lw_g (lw_at lw_m10 8 rfl) rfl
theorem q2252 : (Jvm.Cond.methodLink "ThirtyThreeBelowModel" (424 : Nat) ({ cls := "ThirtyThreeBelowModel", name := "lastsBy", desc := "(II)I" } : Jvm.MethodName)) ∈ lw_all := lw_g (lw_at lw_m10 9 rfl) rfl
theorem q2253 : (Jvm.Cond.privateMethod ({ cls := "ThirtyThreeBelowModel", name := "lastsBy", desc := "(II)I" } : Jvm.MethodName)) ∈ lw_tbl := lw_at lw_m10 10 rfl
theorem q2254 : (Jvm.Cond.instanceMethod ({ cls := "ThirtyThreeBelowModel", name := "lastsBy", desc := "(II)I" } : Jvm.MethodName)) ∈ lw_all := lw_g (lw_at lw_m10 11 rfl) rfl
theorem q2255 : (Jvm.Cond.code ({ cls := "ThirtyThreeBelowModel", name := "lastsBy", desc := "(II)I" } : Jvm.MethodName) prog_22_method_72_code (8 : Nat) (Option.some Jvm.ClassFile.FieldType.int)) ∈ lw_all := lw_g (lw_at lw_m10 12 rfl) rfl
theorem q2257 : (Jvm.Cond.instanceMethod ({ cls := "ThirtyThreeBelowModel", name := "best", desc := "(I)I" } : Jvm.MethodName)) ∈ lw_all := lw_g (lw_at lw_m10 14 rfl) rfl
theorem q2258 : (Jvm.Cond.selects "ThirtyThreeBelowModel" ({ cls := "ThirtyThreeBelowModel", name := "best", desc := "(I)I" } : Jvm.MethodName) ({ cls := "ThirtyThreeBelowModel", name := "best", desc := "(I)I" } : Jvm.MethodName)) ∈ lw_all := lw_g (lw_at lw_m10 15 rfl) rfl
theorem q2259 : (Jvm.Cond.code ({ cls := "ThirtyThreeBelowModel", name := "best", desc := "(I)I" } : Jvm.MethodName) prog_22_method_74_code (4 : Nat) (Option.some Jvm.ClassFile.FieldType.int)) ∈ lw_all := lw_g (lw_at lw_m10 16 rfl) rfl
theorem q2261 : (Jvm.Cond.instanceMethod ({ cls := "ThirtyThreeBelowModel", name := "down", desc := "(III)I" } : Jvm.MethodName)) ∈ lw_all := lw_g (lw_at lw_m10 18 rfl) rfl
theorem q2262 : (Jvm.Cond.selects "ThirtyThreeBelowModel" ({ cls := "ThirtyThreeBelowModel", name := "down", desc := "(III)I" } : Jvm.MethodName) ({ cls := "ThirtyThreeBelowModel", name := "down", desc := "(III)I" } : Jvm.MethodName)) ∈ lw_all := lw_g (lw_at lw_m10 19 rfl) rfl
theorem q2263 : (Jvm.Cond.code ({ cls := "ThirtyThreeBelowModel", name := "down", desc := "(III)I" } : Jvm.MethodName) prog_22_method_75_code (6 : Nat) (Option.some Jvm.ClassFile.FieldType.int)) ∈ lw_all := lw_g (lw_at lw_m10 20 rfl) rfl
theorem q2265 : (Jvm.Cond.instanceMethod ({ cls := "ThirtyThreeBelowModel", name := "below", desc := "(I)I" } : Jvm.MethodName)) ∈ lw_all := lw_g (lw_at lw_m10 22 rfl) rfl
theorem q2266 : (Jvm.Cond.selects "ThirtyThreeBelowModel" ({ cls := "ThirtyThreeBelowModel", name := "below", desc := "(I)I" } : Jvm.MethodName) ({ cls := "ThirtyThreeBelowModel", name := "below", desc := "(I)I" } : Jvm.MethodName)) ∈ lw_all := lw_g (lw_at lw_m10 23 rfl) rfl
theorem q2267 : (Jvm.Cond.code ({ cls := "ThirtyThreeBelowModel", name := "below", desc := "(I)I" } : Jvm.MethodName) prog_22_method_77_code (2 : Nat) (Option.some Jvm.ClassFile.FieldType.int)) ∈ lw_all := lw_g (lw_at lw_m10 24 rfl) rfl
theorem q2269 : (Jvm.Cond.instanceMethod ({ cls := "ThirtyThreeBelowModel", name := "need", desc := "(II)I" } : Jvm.MethodName)) ∈ lw_all := lw_g (lw_at lw_m10 26 rfl) rfl
theorem q2270 : (Jvm.Cond.selects "ThirtyThreeBelowModel" ({ cls := "ThirtyThreeBelowModel", name := "need", desc := "(II)I" } : Jvm.MethodName) ({ cls := "ThirtyThreeBelowModel", name := "need", desc := "(II)I" } : Jvm.MethodName)) ∈ lw_all := lw_g (lw_at lw_m10 27 rfl) rfl
theorem q2271 : (Jvm.Cond.code ({ cls := "ThirtyThreeBelowModel", name := "need", desc := "(II)I" } : Jvm.MethodName) prog_22_method_78_code (3 : Nat) (Option.some Jvm.ClassFile.FieldType.int)) ∈ lw_all := lw_g (lw_at lw_m10 28 rfl) rfl
theorem q2273 : (Jvm.Cond.instanceMethod ({ cls := "ThirtyThreeBelowModel", name := "order", desc := "()I" } : Jvm.MethodName)) ∈ lw_all := lw_g (lw_at lw_m10 30 rfl) rfl
theorem q2274 : (Jvm.Cond.selects "ThirtyThreeBelowModel" ({ cls := "ThirtyThreeBelowModel", name := "order", desc := "()I" } : Jvm.MethodName) ({ cls := "ThirtyThreeBelowModel", name := "order", desc := "()I" } : Jvm.MethodName)) ∈ lw_all := lw_g (lw_at lw_m10 31 rfl) rfl
theorem q2275 : (Jvm.Cond.code ({ cls := "ThirtyThreeBelowModel", name := "order", desc := "()I" } : Jvm.MethodName) prog_22_method_80_code (5 : Nat) (Option.some Jvm.ClassFile.FieldType.int)) ∈ lw_all := lw_g (lw_at lw_m10 32 rfl) rfl
theorem q2276 : (Jvm.Cond.constant "ThirtyThreeBelowModel" (436 : Nat) (2147483647 : Int32)) ∈ lw_all := lw_g (lw_at lw_m10 33 rfl) rfl
theorem q2277 : (Jvm.Cond.methodLink "ThirtyThreeBelowModel" (437 : Nat) ({ cls := "ThirtyThreeBelowModel", name := "costNext", desc := "(II)I" } : Jvm.MethodName)) ∈ lw_all := lw_g (lw_at lw_m10 34 rfl) rfl
theorem q2278 : (Jvm.Cond.privateMethod ({ cls := "ThirtyThreeBelowModel", name := "costNext", desc := "(II)I" } : Jvm.MethodName)) ∈ lw_tbl := lw_at lw_m10 35 rfl
theorem q2279 : (Jvm.Cond.instanceMethod ({ cls := "ThirtyThreeBelowModel", name := "costNext", desc := "(II)I" } : Jvm.MethodName)) ∈ lw_all := lw_g (lw_at lw_m10 36 rfl) rfl
theorem q2280 : (Jvm.Cond.code ({ cls := "ThirtyThreeBelowModel", name := "costNext", desc := "(II)I" } : Jvm.MethodName) prog_22_method_79_code (5 : Nat) (Option.some Jvm.ClassFile.FieldType.int)) ∈ lw_all := lw_g (lw_at lw_m10 37 rfl) rfl
theorem q2282 : (Jvm.Cond.instanceMethod ({ cls := "ThirtyThreeBelowModel", name := "ordered", desc := "(I)I" } : Jvm.MethodName)) ∈ lw_all := lw_g (lw_at lw_m10 39 rfl) rfl
theorem q2283 : (Jvm.Cond.selects "ThirtyThreeBelowModel" ({ cls := "ThirtyThreeBelowModel", name := "ordered", desc := "(I)I" } : Jvm.MethodName) ({ cls := "ThirtyThreeBelowModel", name := "ordered", desc := "(I)I" } : Jvm.MethodName)) ∈ lw_all := lw_g (lw_at lw_m10 40 rfl) rfl
theorem q2284 : (Jvm.Cond.code ({ cls := "ThirtyThreeBelowModel", name := "ordered", desc := "(I)I" } : Jvm.MethodName) prog_22_method_81_code (2 : Nat) (Option.some Jvm.ClassFile.FieldType.int)) ∈ lw_all := lw_g (lw_at lw_m10 41 rfl) rfl
theorem q2286 : (Jvm.Cond.instanceMethod ({ cls := "ThirtyThreeBelowModel", name := "watch", desc := "(II)I" } : Jvm.MethodName)) ∈ lw_all := lw_g (lw_at lw_m10 43 rfl) rfl
theorem q2287 : (Jvm.Cond.selects "ThirtyThreeBelowModel" ({ cls := "ThirtyThreeBelowModel", name := "watch", desc := "(II)I" } : Jvm.MethodName) ({ cls := "ThirtyThreeBelowModel", name := "watch", desc := "(II)I" } : Jvm.MethodName)) ∈ lw_all := lw_g (lw_at lw_m10 44 rfl) rfl
theorem q2288 : (Jvm.Cond.code ({ cls := "ThirtyThreeBelowModel", name := "watch", desc := "(II)I" } : Jvm.MethodName) prog_22_method_82_code (6 : Nat) (Option.some Jvm.ClassFile.FieldType.int)) ∈ lw_all := lw_g (lw_at lw_m10 45 rfl) rfl
theorem q2290 : (Jvm.Cond.instanceMethod ({ cls := "ThirtyThreeBelowModel", name := "watched", desc := "(II)I" } : Jvm.MethodName)) ∈ lw_all := lw_g (lw_at lw_m10 47 rfl) rfl
theorem q2291 : (Jvm.Cond.selects "ThirtyThreeBelowModel" ({ cls := "ThirtyThreeBelowModel", name := "watched", desc := "(II)I" } : Jvm.MethodName) ({ cls := "ThirtyThreeBelowModel", name := "watched", desc := "(II)I" } : Jvm.MethodName)) ∈ lw_all := lw_g (lw_at lw_m10 48 rfl) rfl
theorem q2292 : (Jvm.Cond.code ({ cls := "ThirtyThreeBelowModel", name := "watched", desc := "(II)I" } : Jvm.MethodName) prog_22_method_83_code (3 : Nat) (Option.some Jvm.ClassFile.FieldType.int)) ∈ lw_all := lw_g (lw_at lw_m10 49 rfl) rfl
theorem q2294 : (Jvm.Cond.instanceMethod ({ cls := "ThirtyThreeBelowModel", name := "aim", desc := "(II)I" } : Jvm.MethodName)) ∈ lw_all := lw_g (lw_at lw_m10 51 rfl) rfl
theorem q2295 : (Jvm.Cond.selects "ThirtyThreeBelowModel" ({ cls := "ThirtyThreeBelowModel", name := "aim", desc := "(II)I" } : Jvm.MethodName) ({ cls := "ThirtyThreeBelowModel", name := "aim", desc := "(II)I" } : Jvm.MethodName)) ∈ lw_all := lw_g (lw_at lw_m10 52 rfl) rfl
theorem q2296 : (Jvm.Cond.code ({ cls := "ThirtyThreeBelowModel", name := "aim", desc := "(II)I" } : Jvm.MethodName) prog_22_method_84_code (3 : Nat) (Option.some Jvm.ClassFile.FieldType.int)) ∈ lw_all := lw_g (lw_at lw_m10 53 rfl) rfl
theorem q2298 : (Jvm.Cond.instanceMethod ({ cls := "ThirtyThreeBelowModel", name := "rock", desc := "(III)I" } : Jvm.MethodName)) ∈ lw_all := lw_g (lw_at lw_m10 55 rfl) rfl
theorem q2299 : (Jvm.Cond.selects "ThirtyThreeBelowModel" ({ cls := "ThirtyThreeBelowModel", name := "rock", desc := "(III)I" } : Jvm.MethodName) ({ cls := "ThirtyThreeBelowModel", name := "rock", desc := "(III)I" } : Jvm.MethodName)) ∈ lw_all := lw_g (lw_at lw_m10 56 rfl) rfl
theorem q2300 : (Jvm.Cond.code ({ cls := "ThirtyThreeBelowModel", name := "rock", desc := "(III)I" } : Jvm.MethodName) prog_22_method_85_code (5 : Nat) (Option.some Jvm.ClassFile.FieldType.int)) ∈ lw_all := lw_g (lw_at lw_m10 57 rfl) rfl
theorem q2302 : (Jvm.Cond.instanceMethod ({ cls := "ThirtyThreeBelowModel", name := "aimed", desc := "(III)I" } : Jvm.MethodName)) ∈ lw_all := lw_g (lw_at lw_m10 59 rfl) rfl
theorem q2303 : (Jvm.Cond.selects "ThirtyThreeBelowModel" ({ cls := "ThirtyThreeBelowModel", name := "aimed", desc := "(III)I" } : Jvm.MethodName) ({ cls := "ThirtyThreeBelowModel", name := "aimed", desc := "(III)I" } : Jvm.MethodName)) ∈ lw_all := lw_g (lw_at lw_m10 60 rfl) rfl
theorem q2304 : (Jvm.Cond.code ({ cls := "ThirtyThreeBelowModel", name := "aimed", desc := "(III)I" } : Jvm.MethodName) prog_22_method_87_code (11 : Nat) (Option.some Jvm.ClassFile.FieldType.int)) ∈ lw_all := lw_g (lw_at lw_m10 61 rfl) rfl
theorem q2305 : (Jvm.Cond.methodLink "ThirtyThreeBelowModel" (443 : Nat) ({ cls := "ThirtyThreeBelowModel", name := "minutesAt", desc := "(IIII)I" } : Jvm.MethodName)) ∈ lw_all := lw_g (lw_at lw_m10 62 rfl) rfl
theorem q2306 : (Jvm.Cond.privateMethod ({ cls := "ThirtyThreeBelowModel", name := "minutesAt", desc := "(IIII)I" } : Jvm.MethodName)) ∈ lw_tbl := lw_at lw_m10 63 rfl
theorem q2307 : (Jvm.Cond.instanceMethod ({ cls := "ThirtyThreeBelowModel", name := "minutesAt", desc := "(IIII)I" } : Jvm.MethodName)) ∈ lw_all := lw_g (lw_at lw_m10 64 rfl) rfl
theorem q2308 : (Jvm.Cond.code ({ cls := "ThirtyThreeBelowModel", name := "minutesAt", desc := "(IIII)I" } : Jvm.MethodName) prog_22_method_86_code (8 : Nat) (Option.some Jvm.ClassFile.FieldType.int)) ∈ lw_all := lw_g (lw_at lw_m10 65 rfl) rfl
theorem q2310 : (Jvm.Cond.instanceMethod ({ cls := "ThirtyThreeBelowModel", name := "aimedAt", desc := "(II)I" } : Jvm.MethodName)) ∈ lw_all := lw_g (lw_at lw_m10 67 rfl) rfl
theorem q2311 : (Jvm.Cond.selects "ThirtyThreeBelowModel" ({ cls := "ThirtyThreeBelowModel", name := "aimedAt", desc := "(II)I" } : Jvm.MethodName) ({ cls := "ThirtyThreeBelowModel", name := "aimedAt", desc := "(II)I" } : Jvm.MethodName)) ∈ lw_all := lw_g (lw_at lw_m10 68 rfl) rfl
theorem q2312 : (Jvm.Cond.code ({ cls := "ThirtyThreeBelowModel", name := "aimedAt", desc := "(II)I" } : Jvm.MethodName) prog_22_method_88_code (3 : Nat) (Option.some Jvm.ClassFile.FieldType.int)) ∈ lw_all := lw_g (lw_at lw_m10 69 rfl) rfl
theorem q2314 : (Jvm.Cond.instanceMethod ({ cls := "ThirtyThreeBelowModel", name := "race", desc := "(III)I" } : Jvm.MethodName)) ∈ lw_all := lw_g (lw_at lw_m10 71 rfl) rfl
theorem q2315 : (Jvm.Cond.selects "ThirtyThreeBelowModel" ({ cls := "ThirtyThreeBelowModel", name := "race", desc := "(III)I" } : Jvm.MethodName) ({ cls := "ThirtyThreeBelowModel", name := "race", desc := "(III)I" } : Jvm.MethodName)) ∈ lw_all := lw_g (lw_at lw_m10 72 rfl) rfl
theorem q2316 : (Jvm.Cond.code ({ cls := "ThirtyThreeBelowModel", name := "race", desc := "(III)I" } : Jvm.MethodName) prog_22_method_89_code (8 : Nat) (Option.some Jvm.ClassFile.FieldType.int)) ∈ lw_all := lw_g (lw_at lw_m10 73 rfl) rfl
theorem q2318 : (Jvm.Cond.instanceMethod ({ cls := "ThirtyThreeBelowModel", name := "capsule", desc := "(I)I" } : Jvm.MethodName)) ∈ lw_all := lw_g (lw_at lw_m10 75 rfl) rfl
theorem q2319 : (Jvm.Cond.selects "ThirtyThreeBelowModel" ({ cls := "ThirtyThreeBelowModel", name := "capsule", desc := "(I)I" } : Jvm.MethodName) ({ cls := "ThirtyThreeBelowModel", name := "capsule", desc := "(I)I" } : Jvm.MethodName)) ∈ lw_all := lw_g (lw_at lw_m10 76 rfl) rfl
theorem q2320 : (Jvm.Cond.code ({ cls := "ThirtyThreeBelowModel", name := "capsule", desc := "(I)I" } : Jvm.MethodName) prog_22_method_90_code (6 : Nat) (Option.some Jvm.ClassFile.FieldType.int)) ∈ lw_all := lw_g (lw_at lw_m10 77 rfl) rfl
theorem q2322 : (Jvm.Cond.instanceMethod ({ cls := "ThirtyThreeBelowModel", name := "up", desc := "(II)I" } : Jvm.MethodName)) ∈ lw_all := lw_g (lw_at lw_m10 79 rfl) rfl
theorem q2323 : (Jvm.Cond.selects "ThirtyThreeBelowModel" ({ cls := "ThirtyThreeBelowModel", name := "up", desc := "(II)I" } : Jvm.MethodName) ({ cls := "ThirtyThreeBelowModel", name := "up", desc := "(II)I" } : Jvm.MethodName)) ∈ lw_all := lw_g (lw_at lw_m10 80 rfl) rfl
theorem q2324 : (Jvm.Cond.code ({ cls := "ThirtyThreeBelowModel", name := "up", desc := "(II)I" } : Jvm.MethodName) prog_22_method_91_code (3 : Nat) (Option.some Jvm.ClassFile.FieldType.int)) ∈ lw_all := lw_g (lw_at lw_m10 81 rfl) rfl
theorem q2326 : (Jvm.Cond.instanceMethod ({ cls := "ThirtyThreeBelowModel", name := "raise", desc := "(I)I" } : Jvm.MethodName)) ∈ lw_all := lw_g (lw_at lw_m10 83 rfl) rfl
theorem q2327 : (Jvm.Cond.selects "ThirtyThreeBelowModel" ({ cls := "ThirtyThreeBelowModel", name := "raise", desc := "(I)I" } : Jvm.MethodName) ({ cls := "ThirtyThreeBelowModel", name := "raise", desc := "(I)I" } : Jvm.MethodName)) ∈ lw_all := lw_g (lw_at lw_m10 84 rfl) rfl
theorem q2328 : (Jvm.Cond.code ({ cls := "ThirtyThreeBelowModel", name := "raise", desc := "(I)I" } : Jvm.MethodName) prog_22_method_92_code (4 : Nat) (Option.some Jvm.ClassFile.FieldType.int)) ∈ lw_all := lw_g (lw_at lw_m10 85 rfl) rfl
theorem q2330 : (Jvm.Cond.instanceMethod ({ cls := "ThirtyThreeBelowModel", name := "act", desc := "(III)I" } : Jvm.MethodName)) ∈ lw_all := lw_g (lw_at lw_m10 87 rfl) rfl
theorem q2331 : (Jvm.Cond.selects "ThirtyThreeBelowModel" ({ cls := "ThirtyThreeBelowModel", name := "act", desc := "(III)I" } : Jvm.MethodName) ({ cls := "ThirtyThreeBelowModel", name := "act", desc := "(III)I" } : Jvm.MethodName)) ∈ lw_all := lw_g (lw_at lw_m10 88 rfl) rfl
theorem q2332 : (Jvm.Cond.code ({ cls := "ThirtyThreeBelowModel", name := "act", desc := "(III)I" } : Jvm.MethodName) prog_22_method_104_code (4 : Nat) (Option.some Jvm.ClassFile.FieldType.int)) ∈ lw_all := lw_g (lw_at lw_m10 89 rfl) rfl
theorem q2333 : (Jvm.Cond.methodLink "ThirtyThreeBelowModel" (469 : Nat) ({ cls := "ThirtyThreeBelowModel", name := "bores", desc := "(II)I" } : Jvm.MethodName)) ∈ lw_all := lw_g (lw_at lw_m10 90 rfl) rfl
theorem q2334 : (Jvm.Cond.privateMethod ({ cls := "ThirtyThreeBelowModel", name := "bores", desc := "(II)I" } : Jvm.MethodName)) ∈ lw_tbl := lw_at lw_m10 91 rfl
theorem q2335 : (Jvm.Cond.instanceMethod ({ cls := "ThirtyThreeBelowModel", name := "bores", desc := "(II)I" } : Jvm.MethodName)) ∈ lw_all := lw_g (lw_at lw_m10 92 rfl) rfl
theorem q2336 : (Jvm.Cond.code ({ cls := "ThirtyThreeBelowModel", name := "bores", desc := "(II)I" } : Jvm.MethodName) prog_22_method_97_code (3 : Nat) (Option.some Jvm.ClassFile.FieldType.int)) ∈ lw_all := lw_g (lw_at lw_m10 93 rfl) rfl
theorem q2337 : (Jvm.Cond.methodLink "ThirtyThreeBelowModel" (456 : Nat) ({ cls := "ThirtyThreeBelowModel", name := "ran", desc := "(I)V" } : Jvm.MethodName)) ∈ lw_all := lw_g (lw_at lw_m10 94 rfl) rfl
theorem q2338 : (Jvm.Cond.privateMethod ({ cls := "ThirtyThreeBelowModel", name := "ran", desc := "(I)V" } : Jvm.MethodName)) ∈ lw_tbl := lw_at lw_m10 95 rfl
theorem q2339 : (Jvm.Cond.instanceMethod ({ cls := "ThirtyThreeBelowModel", name := "ran", desc := "(I)V" } : Jvm.MethodName)) ∈ lw_all := lw_g (lw_at lw_m10 96 rfl) rfl
theorem q2340 : (Jvm.Cond.code ({ cls := "ThirtyThreeBelowModel", name := "ran", desc := "(I)V" } : Jvm.MethodName) prog_22_method_93_code (2 : Nat) (Option.none : Option Jvm.ClassFile.FieldType)) ∈ lw_all := lw_g (lw_at lw_m10 97 rfl) rfl
theorem q2341 : (Jvm.Cond.methodLink "ThirtyThreeBelowModel" (466 : Nat) ({ cls := "ThirtyThreeBelowModel", name := "shaftBores", desc := "(II)I" } : Jvm.MethodName)) ∈ lw_all := lw_g (lw_at lw_m10 98 rfl) rfl
theorem q2342 : (Jvm.Cond.privateMethod ({ cls := "ThirtyThreeBelowModel", name := "shaftBores", desc := "(II)I" } : Jvm.MethodName)) ∈ lw_tbl := lw_at lw_m10 99 rfl
theorem q2343 : (Jvm.Cond.instanceMethod ({ cls := "ThirtyThreeBelowModel", name := "shaftBores", desc := "(II)I" } : Jvm.MethodName)) ∈ lw_all := lw_g (lw_at lw_m10 100 rfl) rfl
theorem q2344 : (Jvm.Cond.code ({ cls := "ThirtyThreeBelowModel", name := "shaftBores", desc := "(II)I" } : Jvm.MethodName) prog_22_method_96_code (3 : Nat) (Option.some Jvm.ClassFile.FieldType.int)) ∈ lw_all := lw_g (lw_at lw_m10 101 rfl) rfl
theorem q2345 : (Jvm.Cond.methodLink "ThirtyThreeBelowModel" (463 : Nat) ({ cls := "ThirtyThreeBelowModel", name := "wayBores", desc := "(II)I" } : Jvm.MethodName)) ∈ lw_all := lw_g (lw_at lw_m10 102 rfl) rfl
theorem q2346 : (Jvm.Cond.privateMethod ({ cls := "ThirtyThreeBelowModel", name := "wayBores", desc := "(II)I" } : Jvm.MethodName)) ∈ lw_tbl := lw_at lw_m10 103 rfl
theorem q2347 : (Jvm.Cond.instanceMethod ({ cls := "ThirtyThreeBelowModel", name := "wayBores", desc := "(II)I" } : Jvm.MethodName)) ∈ lw_all := lw_g (lw_at lw_m10 104 rfl) rfl
theorem q2348 : (Jvm.Cond.code ({ cls := "ThirtyThreeBelowModel", name := "wayBores", desc := "(II)I" } : Jvm.MethodName) prog_22_method_95_code (3 : Nat) (Option.some Jvm.ClassFile.FieldType.int)) ∈ lw_all := lw_g (lw_at lw_m10 105 rfl) rfl
theorem q2349 : (Jvm.Cond.methodLink "ThirtyThreeBelowModel" (460 : Nat) ({ cls := "ThirtyThreeBelowModel", name := "plainBores", desc := "(II)I" } : Jvm.MethodName)) ∈ lw_all := lw_g (lw_at lw_m10 106 rfl) rfl
theorem q2350 : (Jvm.Cond.privateMethod ({ cls := "ThirtyThreeBelowModel", name := "plainBores", desc := "(II)I" } : Jvm.MethodName)) ∈ lw_tbl := lw_at lw_m10 107 rfl
theorem q2351 : (Jvm.Cond.instanceMethod ({ cls := "ThirtyThreeBelowModel", name := "plainBores", desc := "(II)I" } : Jvm.MethodName)) ∈ lw_all := lw_g (lw_at lw_m10 108 rfl) rfl
theorem q2352 : (Jvm.Cond.code ({ cls := "ThirtyThreeBelowModel", name := "plainBores", desc := "(II)I" } : Jvm.MethodName) prog_22_method_94_code (3 : Nat) (Option.some Jvm.ClassFile.FieldType.int)) ∈ lw_all := lw_g (lw_at lw_m10 109 rfl) rfl
theorem q2353 : (Jvm.Cond.methodLink "ThirtyThreeBelowModel" (478 : Nat) ({ cls := "ThirtyThreeBelowModel", name := "carries", desc := "(II)I" } : Jvm.MethodName)) ∈ lw_all := lw_g (lw_at lw_m10 110 rfl) rfl
theorem q2354 : (Jvm.Cond.privateMethod ({ cls := "ThirtyThreeBelowModel", name := "carries", desc := "(II)I" } : Jvm.MethodName)) ∈ lw_tbl := lw_at lw_m10 111 rfl
theorem q2355 : (Jvm.Cond.instanceMethod ({ cls := "ThirtyThreeBelowModel", name := "carries", desc := "(II)I" } : Jvm.MethodName)) ∈ lw_all := lw_g (lw_at lw_m10 112 rfl) rfl
theorem q2356 : (Jvm.Cond.code ({ cls := "ThirtyThreeBelowModel", name := "carries", desc := "(II)I" } : Jvm.MethodName) prog_22_method_99_code (3 : Nat) (Option.some Jvm.ClassFile.FieldType.int)) ∈ lw_all := lw_g (lw_at lw_m10 113 rfl) rfl
theorem q2357 : (Jvm.Cond.methodLink "ThirtyThreeBelowModel" (472 : Nat) ({ cls := "ThirtyThreeBelowModel", name := "plainCarries", desc := "(II)I" } : Jvm.MethodName)) ∈ lw_all := lw_g (lw_at lw_m10 114 rfl) rfl
theorem q2358 : (Jvm.Cond.privateMethod ({ cls := "ThirtyThreeBelowModel", name := "plainCarries", desc := "(II)I" } : Jvm.MethodName)) ∈ lw_tbl := lw_at lw_m10 115 rfl
theorem q2359 : (Jvm.Cond.instanceMethod ({ cls := "ThirtyThreeBelowModel", name := "plainCarries", desc := "(II)I" } : Jvm.MethodName)) ∈ lw_all := lw_g (lw_at lw_m10 116 rfl) rfl
theorem q2360 : (Jvm.Cond.code ({ cls := "ThirtyThreeBelowModel", name := "plainCarries", desc := "(II)I" } : Jvm.MethodName) prog_22_method_98_code (3 : Nat) (Option.some Jvm.ClassFile.FieldType.int)) ∈ lw_all := lw_g (lw_at lw_m10 117 rfl) rfl
theorem q2361 : (Jvm.Cond.methodLink "ThirtyThreeBelowModel" (481 : Nat) ({ cls := "ThirtyThreeBelowModel", name := "holdsBy", desc := "(II)I" } : Jvm.MethodName)) ∈ lw_all := lw_g (lw_at lw_m10 118 rfl) rfl
theorem q2362 : (Jvm.Cond.privateMethod ({ cls := "ThirtyThreeBelowModel", name := "holdsBy", desc := "(II)I" } : Jvm.MethodName)) ∈ lw_tbl := lw_at lw_m10 119 rfl
theorem q2363 : (Jvm.Cond.instanceMethod ({ cls := "ThirtyThreeBelowModel", name := "holdsBy", desc := "(II)I" } : Jvm.MethodName)) ∈ lw_all := lw_g (lw_at lw_m10 120 rfl) rfl
theorem q2364 : (Jvm.Cond.code ({ cls := "ThirtyThreeBelowModel", name := "holdsBy", desc := "(II)I" } : Jvm.MethodName) prog_22_method_101_code (4 : Nat) (Option.some Jvm.ClassFile.FieldType.int)) ∈ lw_all := lw_g (lw_at lw_m10 121 rfl) rfl
theorem q2365 : (Jvm.Cond.methodLink "ThirtyThreeBelowModel" (475 : Nat) ({ cls := "ThirtyThreeBelowModel", name := "plainHolds", desc := "(II)I" } : Jvm.MethodName)) ∈ lw_all := lw_g (lw_at lw_m10 122 rfl) rfl
theorem q2366 : (Jvm.Cond.privateMethod ({ cls := "ThirtyThreeBelowModel", name := "plainHolds", desc := "(II)I" } : Jvm.MethodName)) ∈ lw_tbl := lw_at lw_m10 123 rfl
theorem q2367 : (Jvm.Cond.instanceMethod ({ cls := "ThirtyThreeBelowModel", name := "plainHolds", desc := "(II)I" } : Jvm.MethodName)) ∈ lw_all := lw_g (lw_at lw_m10 124 rfl) rfl
theorem q2368 : (Jvm.Cond.code ({ cls := "ThirtyThreeBelowModel", name := "plainHolds", desc := "(II)I" } : Jvm.MethodName) prog_22_method_100_code (3 : Nat) (Option.some Jvm.ClassFile.FieldType.int)) ∈ lw_all := lw_g (lw_at lw_m10 125 rfl) rfl
theorem q2369 : (Jvm.Cond.methodLink "ThirtyThreeBelowModel" (487 : Nat) ({ cls := "ThirtyThreeBelowModel", name := "tells", desc := "(II)I" } : Jvm.MethodName)) ∈ lw_all := lw_g (lw_at lw_m10 126 rfl) rfl
theorem q2370 : (Jvm.Cond.privateMethod ({ cls := "ThirtyThreeBelowModel", name := "tells", desc := "(II)I" } : Jvm.MethodName)) ∈ lw_tbl := lw_at lw_m10 127 rfl
theorem q2371 : (Jvm.Cond.instanceMethod ({ cls := "ThirtyThreeBelowModel", name := "tells", desc := "(II)I" } : Jvm.MethodName)) ∈ lw_all := lw_g (lw_at lw_m10 128 rfl) rfl
theorem q2372 : (Jvm.Cond.code ({ cls := "ThirtyThreeBelowModel", name := "tells", desc := "(II)I" } : Jvm.MethodName) prog_22_method_103_code (3 : Nat) (Option.some Jvm.ClassFile.FieldType.int)) ∈ lw_all := lw_g (lw_at lw_m10 129 rfl) rfl
theorem q2373 : (Jvm.Cond.methodLink "ThirtyThreeBelowModel" (484 : Nat) ({ cls := "ThirtyThreeBelowModel", name := "plainTells", desc := "(II)I" } : Jvm.MethodName)) ∈ lw_all := lw_g (lw_at lw_m10 130 rfl) rfl
theorem q2374 : (Jvm.Cond.privateMethod ({ cls := "ThirtyThreeBelowModel", name := "plainTells", desc := "(II)I" } : Jvm.MethodName)) ∈ lw_tbl := lw_at lw_m10 131 rfl
theorem q2375 : (Jvm.Cond.instanceMethod ({ cls := "ThirtyThreeBelowModel", name := "plainTells", desc := "(II)I" } : Jvm.MethodName)) ∈ lw_all := lw_g (lw_at lw_m10 132 rfl) rfl
theorem q2376 : (Jvm.Cond.code ({ cls := "ThirtyThreeBelowModel", name := "plainTells", desc := "(II)I" } : Jvm.MethodName) prog_22_method_102_code (4 : Nat) (Option.some Jvm.ClassFile.FieldType.int)) ∈ lw_all := lw_g (lw_at lw_m10 133 rfl) rfl
theorem q2378 : (Jvm.Cond.instanceMethod ({ cls := "ThirtyThreeBelowModel", name := "trace", desc := "(I)I" } : Jvm.MethodName)) ∈ lw_all := lw_g (lw_at lw_m10 135 rfl) rfl
theorem q2379 : (Jvm.Cond.selects "ThirtyThreeBelowModel" ({ cls := "ThirtyThreeBelowModel", name := "trace", desc := "(I)I" } : Jvm.MethodName) ({ cls := "ThirtyThreeBelowModel", name := "trace", desc := "(I)I" } : Jvm.MethodName)) ∈ lw_all := lw_g (lw_at lw_m10 136 rfl) rfl
theorem q2380 : (Jvm.Cond.code ({ cls := "ThirtyThreeBelowModel", name := "trace", desc := "(I)I" } : Jvm.MethodName) prog_22_method_105_code (2 : Nat) (Option.some Jvm.ClassFile.FieldType.int)) ∈ lw_all := lw_g (lw_at lw_m10 137 rfl) rfl
theorem q2382 : (Jvm.Cond.instanceMethod ({ cls := "ThirtyThreeBelowModel", name := "count", desc := "(I)I" } : Jvm.MethodName)) ∈ lw_all := lw_g (lw_at lw_m10 139 rfl) rfl
theorem q2383 : (Jvm.Cond.selects "ThirtyThreeBelowModel" ({ cls := "ThirtyThreeBelowModel", name := "count", desc := "(I)I" } : Jvm.MethodName) ({ cls := "ThirtyThreeBelowModel", name := "count", desc := "(I)I" } : Jvm.MethodName)) ∈ lw_all := lw_g (lw_at lw_m10 140 rfl) rfl
theorem q2384 : (Jvm.Cond.code ({ cls := "ThirtyThreeBelowModel", name := "count", desc := "(I)I" } : Jvm.MethodName) prog_22_method_106_code (4 : Nat) (Option.some Jvm.ClassFile.FieldType.int)) ∈ lw_all := lw_g (lw_at lw_m10 141 rfl) rfl
theorem q2386 : (Jvm.Cond.instanceMethod ({ cls := "ThirtyThreeBelowModel", name := "keep", desc := "(II)I" } : Jvm.MethodName)) ∈ lw_all := lw_g (lw_at lw_m10 143 rfl) rfl
theorem q2387 : (Jvm.Cond.selects "ThirtyThreeBelowModel" ({ cls := "ThirtyThreeBelowModel", name := "keep", desc := "(II)I" } : Jvm.MethodName) ({ cls := "ThirtyThreeBelowModel", name := "keep", desc := "(II)I" } : Jvm.MethodName)) ∈ lw_all := lw_g (lw_at lw_m10 144 rfl) rfl
theorem q2388 : (Jvm.Cond.code ({ cls := "ThirtyThreeBelowModel", name := "keep", desc := "(II)I" } : Jvm.MethodName) prog_22_method_109_code (3 : Nat) (Option.some Jvm.ClassFile.FieldType.int)) ∈ lw_all := lw_g (lw_at lw_m10 145 rfl) rfl
theorem q2390 : (Jvm.Cond.instanceMethod ({ cls := "ThirtyThreeBelowModel", name := "row", desc := "(III)I" } : Jvm.MethodName)) ∈ lw_all := lw_g (lw_at lw_m10 147 rfl) rfl
theorem q2391 : (Jvm.Cond.selects "ThirtyThreeBelowModel" ({ cls := "ThirtyThreeBelowModel", name := "row", desc := "(III)I" } : Jvm.MethodName) ({ cls := "ThirtyThreeBelowModel", name := "row", desc := "(III)I" } : Jvm.MethodName)) ∈ lw_all := lw_g (lw_at lw_m10 148 rfl) rfl
theorem q2392 : (Jvm.Cond.code ({ cls := "ThirtyThreeBelowModel", name := "row", desc := "(III)I" } : Jvm.MethodName) prog_22_method_110_code (5 : Nat) (Option.some Jvm.ClassFile.FieldType.int)) ∈ lw_all := lw_g (lw_at lw_m10 149 rfl) rfl
theorem q2394 : (Jvm.Cond.instanceMethod ({ cls := "ThirtyThreeBelowModel", name := "put", desc := "(IIJ)I" } : Jvm.MethodName)) ∈ lw_all := lw_g (lw_at lw_m10 151 rfl) rfl
theorem q2395 : (Jvm.Cond.selects "ThirtyThreeBelowModel" ({ cls := "ThirtyThreeBelowModel", name := "put", desc := "(IIJ)I" } : Jvm.MethodName) ({ cls := "ThirtyThreeBelowModel", name := "put", desc := "(IIJ)I" } : Jvm.MethodName)) ∈ lw_all := lw_g (lw_at lw_m10 152 rfl) rfl
theorem q2396 : (Jvm.Cond.code ({ cls := "ThirtyThreeBelowModel", name := "put", desc := "(IIJ)I" } : Jvm.MethodName) prog_22_method_112_code (7 : Nat) (Option.some Jvm.ClassFile.FieldType.int)) ∈ lw_all := lw_g (lw_at lw_m10 153 rfl) rfl
theorem q2397 : (Jvm.Cond.constantLong "ThirtyThreeBelowModel" (490 : Nat) (-9999 : Int64)) ∈ lw_all := lw_g (lw_at lw_m10 154 rfl) rfl
theorem q2398 : (Jvm.Cond.constantLong "ThirtyThreeBelowModel" (492 : Nat) (9999 : Int64)) ∈ lw_all := lw_g (lw_at lw_m10 155 rfl) rfl
theorem q2399 : (Jvm.Cond.methodLink "ThirtyThreeBelowModel" (494 : Nat) ({ cls := "ThirtyThreeBelowModel", name := "whyNoPlace", desc := "(II)I" } : Jvm.MethodName)) ∈ lw_all := lw_g (lw_at lw_m10 156 rfl) rfl
theorem q2400 : (Jvm.Cond.privateMethod ({ cls := "ThirtyThreeBelowModel", name := "whyNoPlace", desc := "(II)I" } : Jvm.MethodName)) ∈ lw_tbl := lw_at lw_m10 157 rfl
theorem q2401 : (Jvm.Cond.instanceMethod ({ cls := "ThirtyThreeBelowModel", name := "whyNoPlace", desc := "(II)I" } : Jvm.MethodName)) ∈ lw_all := lw_g (lw_at lw_m10 158 rfl) rfl
theorem q2402 : (Jvm.Cond.code ({ cls := "ThirtyThreeBelowModel", name := "whyNoPlace", desc := "(II)I" } : Jvm.MethodName) prog_22_method_111_code (3 : Nat) (Option.some Jvm.ClassFile.FieldType.int)) ∈ lw_all := lw_g (lw_at lw_m10 159 rfl) rfl
theorem q2403 : (Jvm.Cond.constantLong "ThirtyThreeBelowModel" (497 : Nat) (65535 : Int64)) ∈ lw_all := lw_g (lw_at lw_m10 160 rfl) rfl
theorem q2405 : (Jvm.Cond.instanceMethod ({ cls := "ThirtyThreeBelowModel", name := "blank", desc := "(II)I" } : Jvm.MethodName)) ∈ lw_all := lw_g (lw_at lw_m10 162 rfl) rfl
theorem q2406 : (Jvm.Cond.selects "ThirtyThreeBelowModel" ({ cls := "ThirtyThreeBelowModel", name := "blank", desc := "(II)I" } : Jvm.MethodName) ({ cls := "ThirtyThreeBelowModel", name := "blank", desc := "(II)I" } : Jvm.MethodName)) ∈ lw_all := lw_g (lw_at lw_m10 163 rfl) rfl
theorem q2407 : (Jvm.Cond.code ({ cls := "ThirtyThreeBelowModel", name := "blank", desc := "(II)I" } : Jvm.MethodName) prog_22_method_113_code (3 : Nat) (Option.some Jvm.ClassFile.FieldType.int)) ∈ lw_all := lw_g (lw_at lw_m10 164 rfl) rfl
theorem q2409 : (Jvm.Cond.instanceMethod ({ cls := "ThirtyThreeBelowModel", name := "element", desc := "(II)J" } : Jvm.MethodName)) ∈ lw_all := lw_g (lw_at lw_m10 166 rfl) rfl
theorem q2410 : (Jvm.Cond.selects "ThirtyThreeBelowModel" ({ cls := "ThirtyThreeBelowModel", name := "element", desc := "(II)J" } : Jvm.MethodName) ({ cls := "ThirtyThreeBelowModel", name := "element", desc := "(II)J" } : Jvm.MethodName)) ∈ lw_all := lw_g (lw_at lw_m10 167 rfl) rfl
theorem q2411 : (Jvm.Cond.code ({ cls := "ThirtyThreeBelowModel", name := "element", desc := "(II)J" } : Jvm.MethodName) prog_22_method_114_code (3 : Nat) (Option.some Jvm.ClassFile.FieldType.long)) ∈ lw_all := lw_g (lw_at lw_m10 168 rfl) rfl
theorem q2412 : (Jvm.Cond.constantLong "ThirtyThreeBelowModel" (501 : Nat) (-9223372036854775808 : Int64)) ∈ lw_all := lw_g (lw_at lw_m10 169 rfl) rfl
theorem q2413 : (Jvm.Cond.constantLong "ThirtyThreeBelowModel" (503 : Nat) (9223372036854775807 : Int64)) ∈ lw_all := lw_g (lw_at lw_m10 170 rfl) rfl
theorem q2415 : (Jvm.Cond.instanceMethod ({ cls := "ThirtyThreeBelowModel", name := "shift", desc := "(IIIII)I" } : Jvm.MethodName)) ∈ lw_all := lw_g (lw_at lw_m10 172 rfl) rfl
theorem q2416 : (Jvm.Cond.selects "ThirtyThreeBelowModel" ({ cls := "ThirtyThreeBelowModel", name := "shift", desc := "(IIIII)I" } : Jvm.MethodName) ({ cls := "ThirtyThreeBelowModel", name := "shift", desc := "(IIIII)I" } : Jvm.MethodName)) ∈ lw_all := lw_g (lw_at lw_m10 173 rfl) rfl
theorem q2417 : (Jvm.Cond.code ({ cls := "ThirtyThreeBelowModel", name := "shift", desc := "(IIIII)I" } : Jvm.MethodName) prog_22_method_115_code (7 : Nat) (Option.some Jvm.ClassFile.FieldType.int)) ∈ lw_all := lw_g (lw_at lw_m10 174 rfl) rfl
theorem q2419 : (Jvm.Cond.instanceMethod ({ cls := "ThirtyThreeBelowModel", name := "taken", desc := "(II)I" } : Jvm.MethodName)) ∈ lw_all := lw_g (lw_at lw_m10 176 rfl) rfl
theorem q2420 : (Jvm.Cond.selects "ThirtyThreeBelowModel" ({ cls := "ThirtyThreeBelowModel", name := "taken", desc := "(II)I" } : Jvm.MethodName) ({ cls := "ThirtyThreeBelowModel", name := "taken", desc := "(II)I" } : Jvm.MethodName)) ∈ lw_all := lw_g (lw_at lw_m10 177 rfl) rfl
theorem q2421 : (Jvm.Cond.code ({ cls := "ThirtyThreeBelowModel", name := "taken", desc := "(II)I" } : Jvm.MethodName) prog_22_method_116_code (3 : Nat) (Option.some Jvm.ClassFile.FieldType.int)) ∈ lw_all := lw_g (lw_at lw_m10 178 rfl) rfl
theorem q2455 : (Jvm.Cond.castable "ThirtyThreeBelowModel" "java/lang/Object") ∈ lw_tbl := lw_at lw_m10 212 rfl
theorem in_X5 : ∀ w ∈ wsX50, w ∈ lw_all := lw_in wsX50 [1780, 1782, 1784, 1786, 1788, 1790, 1792, 1794, 1796, 1798, 1800, 1802, 1804, 1806, 1808, 1810, 1812, 1814, 1816, 1818, 1820, 1822, 1824, 1826, 1828, 1830, 1832, 1834, 1836, 1838, 1840, 1842, 1844, 1846, 1848, 1850, 1852, 1854, 1856, 1858, 1860, 1862, 1864, 1866, 1868, 1870, 1872, 1874, 1876, 1878, 1880, 1882, 1884, 1886, 1888, 1890, 1892, 1894, 1896, 1898, 1900, 1902, 1904, 1906, 1908, 1910, 1912, 1914, 1916, 1918, 1920, 1922, 1924, 1926, 1928, 1930, 1932, 1934, 1936, 1938, 1940, 1942, 1944, 1946, 1948, 1950, 1952, 1954, 1956, 1958, 1960, 1962, 1964, 1966, 1968] (by decide +kernel) (by decide +kernel)
