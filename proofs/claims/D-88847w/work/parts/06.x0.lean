/-! ThirtyThreeBelow -/
set_option maxRecDepth 100000
def RX0 : String := "ThirtyThreeBelow"
def TX0 : u_T := fun k => match k with
  | 0 => ("ThirtyThreeBelow", "hour", "I", false)
  | 1 => ("ThirtyThreeBelow", "hard", "[I", true)
  | 2 => ("ThirtyThreeBelow", "isOpen", "[Z", true)
  | 3 => ("ThirtyThreeBelow", "bodies", "[LThirtyThreeBelow$Body;", true)
  | 4 => ("ThirtyThreeBelow", "bodyMany", "I", false)
  | 5 => ("ThirtyThreeBelow", "shelter", "LThirtyThreeBelow$Shelter;", false)
  | 6 => ("ThirtyThreeBelow", "trace", "[I", true)
  | 7 => ("ThirtyThreeBelow", "ran", "I", false)
  | 8 => ("ThirtyThreeBelow", "speeds", "[I", true)
  | 9 => ("ThirtyThreeBelow", "worksOn", "[LThirtyThreeBelow$Hole;", true)
  | 10 => ("ThirtyThreeBelow", "broken", "[I", true)
  | 11 => ("ThirtyThreeBelow", "torn", "LThirtyThreeBelow$Torn;", true)
  | 12 => ("ThirtyThreeBelow", "spread", "I", false)
  | 13 => ("ThirtyThreeBelow", "mapFrom", "[I", true)
  | 14 => ("ThirtyThreeBelow", "mapTo", "[I", true)
  | 15 => ("ThirtyThreeBelow", "mapYard", "[I", true)
  | 16 => ("ThirtyThreeBelow", "olds", "[Z", true)
  | 17 => ("ThirtyThreeBelow", "oldMany", "[I", true)
  | 18 => ("ThirtyThreeBelow", "maps", "I", false)
  | 19 => ("ThirtyThreeBelow", "names", "[I", true)
  | 20 => ("ThirtyThreeBelow", "byLine", "I", false)
  | 21 => ("ThirtyThreeBelow", "tape", "[I", true)
  | 22 => ("ThirtyThreeBelow", "length", "I", false)
  | 23 => ("ThirtyThreeBelow", "reader", "LThirtyThreeBelow$Reader;", true)
  | 24 => ("ThirtyThreeBelow", "texts", "[LThirtyThreeBelow$Text;", true)
  | 25 => ("ThirtyThreeBelow", "textMany", "I", false)
  | 26 => ("ThirtyThreeBelow", "spoons", "I", false)
  | 27 => ("ThirtyThreeBelow", "eaten", "I", false)
  | 28 => ("ThirtyThreeBelow", "moves", "[I", true)
  | 29 => ("ThirtyThreeBelow", "movesOn", "[I", true)
  | 30 => ("ThirtyThreeBelow", "rockRows", "I", false)
  | 31 => ("ThirtyThreeBelow", "works", "[Z", true)
  | 32 => ("ThirtyThreeBelow", "strengths", "[I", true)
  | 33 => ("ThirtyThreeBelow", "downWhat", "[I", true)
  | 34 => ("ThirtyThreeBelow", "downOn", "[I", true)
  | 35 => ("ThirtyThreeBelow", "downMany", "I", false)
  | 36 => ("ThirtyThreeBelow", "stuffs", "[I", true)
  | 37 => ("ThirtyThreeBelow", "needHours", "[I", true)
  | 38 => ("ThirtyThreeBelow", "needWeight", "[I", true)
  | 39 => ("ThirtyThreeBelow", "needBy", "[I", true)
  | 40 => ("ThirtyThreeBelow", "needs", "I", false)
  | 41 => ("ThirtyThreeBelow", "leastOf", "[I", true)
  | 42 => ("ThirtyThreeBelow", "orderOf", "[I", true)
  | 43 => ("ThirtyThreeBelow", "orderMany", "I", false)
  | 44 => ("ThirtyThreeBelow", "watchers", "[I", true)
  | 45 => ("ThirtyThreeBelow", "watchPlaces", "I", false)
  | 46 => ("ThirtyThreeBelow", "aimColumn", "[I", true)
  | 47 => ("ThirtyThreeBelow", "aimMisses", "[I", true)
  | 48 => ("ThirtyThreeBelow", "aims", "I", false)
  | 49 => ("ThirtyThreeBelow", "rock", "[I", true)
  | 50 => ("ThirtyThreeBelow", "aimedPlace", "[I", true)
  | 51 => ("ThirtyThreeBelow", "aimedMachine", "[I", true)
  | 52 => ("ThirtyThreeBelow", "aimedMany", "I", false)
  | 53 => ("ThirtyThreeBelow", "upWho", "[I", true)
  | 54 => ("ThirtyThreeBelow", "upOn", "[I", true)
  | 55 => ("ThirtyThreeBelow", "upMany", "I", false)
  | 56 => ("ThirtyThreeBelow", "upFrom", "I", false)
  | 57 => ("ThirtyThreeBelow", "firsts", "[I", true)
  | _ => ("ThirtyThreeBelow", "shelves", "[Ljava/lang/Object;", true)
def tyX0 : Nat → FieldType := fun k => match k with
  | 0 => .int
  | 1 => .array .int
  | 2 => .array .boolean
  | 3 => .array (.object "ThirtyThreeBelow$Body")
  | 4 => .int
  | 5 => .object "ThirtyThreeBelow$Shelter"
  | 6 => .array .int
  | 7 => .int
  | 8 => .array .int
  | 9 => .array (.object "ThirtyThreeBelow$Hole")
  | 10 => .array .int
  | 11 => .object "ThirtyThreeBelow$Torn"
  | 12 => .int
  | 13 => .array .int
  | 14 => .array .int
  | 15 => .array .int
  | 16 => .array .boolean
  | 17 => .array .int
  | 18 => .int
  | 19 => .array .int
  | 20 => .int
  | 21 => .array .int
  | 22 => .int
  | 23 => .object "ThirtyThreeBelow$Reader"
  | 24 => .array (.object "ThirtyThreeBelow$Text")
  | 25 => .int
  | 26 => .int
  | 27 => .int
  | 28 => .array .int
  | 29 => .array .int
  | 30 => .int
  | 31 => .array .boolean
  | 32 => .array .int
  | 33 => .array .int
  | 34 => .array .int
  | 35 => .int
  | 36 => .array .int
  | 37 => .array .int
  | 38 => .array .int
  | 39 => .array .int
  | 40 => .int
  | 41 => .array .int
  | 42 => .array .int
  | 43 => .int
  | 44 => .array .int
  | 45 => .int
  | 46 => .array .int
  | 47 => .array .int
  | 48 => .int
  | 49 => .array .int
  | 50 => .array .int
  | 51 => .array .int
  | 52 => .int
  | 53 => .array .int
  | 54 => .array .int
  | 55 => .int
  | 56 => .int
  | 57 => .array .int
  | _ => .array (.object "java/lang/Object")
abbrev wsX00 : List Cond := u_ws RX0 TX0 59
set_option maxRecDepth 100000 in
theorem nmX0 : ∀ a, a < 59 → ∀ b, b < 59 → a ≠ b → (TX0 a).2.1 ≠ (TX0 b).2.1 := by decide +kernel
set_option maxRecDepth 100000 in
theorem tyX0_ok : ∀ k, k < 59 → parseFieldDescriptor (TX0 k).2.2.1 = some (tyX0 k) := by decide +kernel
abbrev cX0_init : ByteArray := prog_1_method_3_code
def yX0_init : MethodName := ⟨RX0, "<init>", "()V"⟩
def dkwX0_init_18 : List UInt8 := [42, 180, 0, 139, 27, 4, 79, 132, 1, 1, 167, 255, 240, 177]
abbrev dktX0_init_18 : List UInt8 := dkwX0_init_18 ++ []
def dkwX0_init_17 : List UInt8 := [27, 187, 0, 88, 89, 42, 183, 0, 164, 83, 132, 1, 1, 167, 255, 233, 3, 60, 27, 16, 24, 162, 0, 16]
abbrev dktX0_init_17 : List UInt8 := dkwX0_init_17 ++ dktX0_init_18
def dkwX0_init_16 : List UInt8 := [180, 0, 44, 27, 2, 79, 132, 1, 1, 167, 255, 233, 3, 60, 27, 16, 16, 162, 0, 23, 42, 180, 0, 90]
abbrev dktX0_init_16 : List UInt8 := dkwX0_init_16 ++ dktX0_init_17
def dkwX0_init_15 : List UInt8 := [79, 132, 1, 1, 167, 255, 239, 3, 60, 27, 6, 162, 0, 24, 42, 180, 0, 35, 27, 16, 20, 79, 42]
abbrev dktX0_init_15 : List UInt8 := dkwX0_init_15 ++ dktX0_init_16
def dkwX0_init_14 : List UInt8 := [42, 16, 6, 189, 0, 11, 181, 0, 160, 3, 60, 27, 17, 7, 160, 162, 0, 16, 42, 180, 0, 18, 27, 6]
abbrev dktX0_init_14 : List UInt8 := dkwX0_init_14 ++ dktX0_init_15
def dkwX0_init_13 : List UInt8 := [181, 0, 148, 42, 16, 120, 188, 10, 181, 0, 151, 42, 2, 181, 0, 154, 42, 16, 120, 188, 10, 181, 0, 157]
abbrev dktX0_init_13 : List UInt8 := dkwX0_init_13 ++ dktX0_init_14
def dkwX0_init_12 : List UInt8 := [188, 10, 181, 0, 139, 42, 5, 188, 10, 181, 0, 142, 42, 5, 188, 10, 181, 0, 145, 42, 16, 120, 188, 10]
abbrev dktX0_init_12 : List UInt8 := dkwX0_init_12 ++ dktX0_init_13
def dkwX0_init_11 : List UInt8 := [188, 10, 181, 0, 130, 42, 16, 6, 188, 10, 181, 0, 133, 42, 16, 6, 188, 10, 181, 0, 136, 42, 16, 24]
abbrev dktX0_init_11 : List UInt8 := dkwX0_init_11 ++ dktX0_init_12
def dkwX0_init_10 : List UInt8 := [181, 0, 121, 42, 17, 4, 0, 188, 10, 181, 0, 124, 42, 16, 10, 188, 10, 181, 0, 127, 42, 16, 9]
abbrev dktX0_init_10 : List UInt8 := dkwX0_init_10 ++ dktX0_init_11
def dkwX0_init_9 : List UInt8 := [181, 0, 112, 42, 16, 10, 188, 10, 181, 0, 115, 42, 16, 10, 188, 10, 181, 0, 118, 42, 16, 10, 188, 10]
abbrev dktX0_init_9 : List UInt8 := dkwX0_init_9 ++ dktX0_init_10
def dkwX0_init_8 : List UInt8 := [181, 0, 103, 42, 16, 40, 188, 10, 181, 0, 106, 42, 16, 40, 188, 10, 181, 0, 109, 42, 16, 10, 188, 10]
abbrev dktX0_init_8 : List UInt8 := dkwX0_init_8 ++ dktX0_init_9
def dkwX0_init_7 : List UInt8 := [181, 0, 94, 42, 16, 60, 188, 10, 181, 0, 97, 42, 6, 188, 4, 181, 0, 100, 42, 16, 120, 188, 10]
abbrev dktX0_init_7 : List UInt8 := dkwX0_init_7 ++ dktX0_init_8
def dkwX0_init_6 : List UInt8 := [89, 42, 183, 0, 81, 181, 0, 84, 42, 16, 16, 189, 0, 88, 181, 0, 90, 42, 16, 60, 188, 10]
abbrev dktX0_init_6 : List UInt8 := dkwX0_init_6 ++ dktX0_init_7
def dkwX0_init_5 : List UInt8 := [181, 0, 70, 42, 16, 8, 188, 10, 181, 0, 73, 42, 17, 0, 160, 188, 10, 181, 0, 76, 42, 187, 0, 79]
abbrev dktX0_init_5 : List UInt8 := dkwX0_init_5 ++ dktX0_init_6
def dkwX0_init_4 : List UInt8 := [42, 16, 8, 188, 10, 181, 0, 64, 42, 17, 61, 0, 188, 4, 181, 0, 67, 42, 16, 8, 188, 10]
abbrev dktX0_init_4 : List UInt8 := dkwX0_init_4 ++ dktX0_init_5
def dkwX0_init_3 : List UInt8 := [181, 0, 50, 42, 5, 181, 0, 54, 42, 16, 8, 188, 10, 181, 0, 58, 42, 16, 8, 188, 10, 181, 0, 61]
abbrev dktX0_init_3 : List UInt8 := dkwX0_init_3 ++ dktX0_init_4
def dkwX0_init_2 : List UInt8 := [6, 189, 0, 38, 181, 0, 40, 42, 6, 188, 10, 181, 0, 44, 42, 187, 0, 47, 89, 183, 0, 49]
abbrev dktX0_init_2 : List UInt8 := dkwX0_init_2 ++ dktX0_init_3
def dkwX0_init_1 : List UInt8 := [16, 120, 189, 0, 26, 181, 0, 28, 42, 16, 24, 188, 10, 181, 0, 32, 42, 6, 188, 10, 181, 0, 35, 42]
abbrev dktX0_init_1 : List UInt8 := dkwX0_init_1 ++ dktX0_init_2
def dkwX0_init_0 : List UInt8 := [42, 183, 0, 10, 42, 17, 7, 160, 188, 10, 181, 0, 18, 42, 17, 7, 160, 188, 4, 181, 0, 22, 42]
abbrev dktX0_init_0 : List UInt8 := dkwX0_init_0 ++ dktX0_init_1
theorem dksX0_init_0 : cX0_init.data.toList.drop 0 = dktX0_init_0 := by decide +kernel
theorem dksX0_init_1 : cX0_init.data.toList.drop 23 = dktX0_init_1 := dk_seg dksX0_init_0 23 rfl rfl
theorem dksX0_init_2 : cX0_init.data.toList.drop 47 = dktX0_init_2 := dk_seg dksX0_init_1 24 rfl rfl
theorem dksX0_init_3 : cX0_init.data.toList.drop 69 = dktX0_init_3 := dk_seg dksX0_init_2 22 rfl rfl
theorem dksX0_init_4 : cX0_init.data.toList.drop 93 = dktX0_init_4 := dk_seg dksX0_init_3 24 rfl rfl
theorem dksX0_init_5 : cX0_init.data.toList.drop 115 = dktX0_init_5 := dk_seg dksX0_init_4 22 rfl rfl
theorem dksX0_init_6 : cX0_init.data.toList.drop 139 = dktX0_init_6 := dk_seg dksX0_init_5 24 rfl rfl
theorem dksX0_init_7 : cX0_init.data.toList.drop 161 = dktX0_init_7 := dk_seg dksX0_init_6 22 rfl rfl
theorem dksX0_init_8 : cX0_init.data.toList.drop 184 = dktX0_init_8 := dk_seg dksX0_init_7 23 rfl rfl
theorem dksX0_init_9 : cX0_init.data.toList.drop 208 = dktX0_init_9 := dk_seg dksX0_init_8 24 rfl rfl
theorem dksX0_init_10 : cX0_init.data.toList.drop 232 = dktX0_init_10 := dk_seg dksX0_init_9 24 rfl rfl
theorem dksX0_init_11 : cX0_init.data.toList.drop 255 = dktX0_init_11 := dk_seg dksX0_init_10 23 rfl rfl
theorem dksX0_init_12 : cX0_init.data.toList.drop 279 = dktX0_init_12 := dk_seg dksX0_init_11 24 rfl rfl
theorem dksX0_init_13 : cX0_init.data.toList.drop 303 = dktX0_init_13 := dk_seg dksX0_init_12 24 rfl rfl
theorem dksX0_init_14 : cX0_init.data.toList.drop 327 = dktX0_init_14 := dk_seg dksX0_init_13 24 rfl rfl
theorem dksX0_init_15 : cX0_init.data.toList.drop 351 = dktX0_init_15 := dk_seg dksX0_init_14 24 rfl rfl
theorem dksX0_init_16 : cX0_init.data.toList.drop 374 = dktX0_init_16 := dk_seg dksX0_init_15 23 rfl rfl
theorem dksX0_init_17 : cX0_init.data.toList.drop 398 = dktX0_init_17 := dk_seg dksX0_init_16 24 rfl rfl
theorem dksX0_init_18 : cX0_init.data.toList.drop 422 = dktX0_init_18 := dk_seg dksX0_init_17 24 rfl rfl
theorem dX0_init_0 : decode cX0_init 0 = .ok (.aload_n 0, 1) := dk_42 (dk_at dksX0_init_0 0 rfl rfl)
theorem dX0_init_1 : decode cX0_init 1 = .ok (.invokespecial 10, 3) := dk_183 0 10 (dk_at dksX0_init_0 1 rfl rfl)
theorem dX0_init_4 : decode cX0_init 4 = .ok (.aload_n 0, 1) := dk_42 (dk_at dksX0_init_0 4 rfl rfl)
theorem dX0_init_5 : decode cX0_init 5 = .ok (.sipush 1952, 3) := dk_17 7 160 (dk_at dksX0_init_0 5 rfl rfl)
theorem dX0_init_8 : decode cX0_init 8 = .ok (.newarray .int, 2) := dk_188_10 (dk_at dksX0_init_0 8 rfl rfl)
theorem dX0_init_10 : decode cX0_init 10 = .ok (.putfield 18, 3) := dk_181 0 18 (dk_at dksX0_init_0 10 rfl rfl)
theorem dX0_init_13 : decode cX0_init 13 = .ok (.aload_n 0, 1) := dk_42 (dk_at dksX0_init_0 13 rfl rfl)
theorem dX0_init_14 : decode cX0_init 14 = .ok (.sipush 1952, 3) := dk_17 7 160 (dk_at dksX0_init_0 14 rfl rfl)
theorem dX0_init_17 : decode cX0_init 17 = .ok (.newarray .boolean, 2) := dk_188_4 (dk_at dksX0_init_0 17 rfl rfl)
theorem dX0_init_19 : decode cX0_init 19 = .ok (.putfield 22, 3) := dk_181 0 22 (dk_at dksX0_init_0 19 rfl rfl)
theorem dX0_init_22 : decode cX0_init 22 = .ok (.aload_n 0, 1) := dk_42 (dk_at dksX0_init_0 22 rfl rfl)
theorem dX0_init_23 : decode cX0_init 23 = .ok (.bipush 120, 2) := dk_16 120 (dk_at dksX0_init_1 0 rfl rfl)
theorem dX0_init_25 : decode cX0_init 25 = .ok (.anewarray 26, 3) := dk_189 0 26 (dk_at dksX0_init_1 2 rfl rfl)
theorem dX0_init_28 : decode cX0_init 28 = .ok (.putfield 28, 3) := dk_181 0 28 (dk_at dksX0_init_1 5 rfl rfl)
theorem dX0_init_31 : decode cX0_init 31 = .ok (.aload_n 0, 1) := dk_42 (dk_at dksX0_init_1 8 rfl rfl)
theorem dX0_init_32 : decode cX0_init 32 = .ok (.bipush 24, 2) := dk_16 24 (dk_at dksX0_init_1 9 rfl rfl)
theorem dX0_init_34 : decode cX0_init 34 = .ok (.newarray .int, 2) := dk_188_10 (dk_at dksX0_init_1 11 rfl rfl)
theorem dX0_init_36 : decode cX0_init 36 = .ok (.putfield 32, 3) := dk_181 0 32 (dk_at dksX0_init_1 13 rfl rfl)
theorem dX0_init_39 : decode cX0_init 39 = .ok (.aload_n 0, 1) := dk_42 (dk_at dksX0_init_1 16 rfl rfl)
theorem dX0_init_40 : decode cX0_init 40 = .ok (.iconst 3, 1) := dk_6 (dk_at dksX0_init_1 17 rfl rfl)
theorem dX0_init_41 : decode cX0_init 41 = .ok (.newarray .int, 2) := dk_188_10 (dk_at dksX0_init_1 18 rfl rfl)
theorem dX0_init_43 : decode cX0_init 43 = .ok (.putfield 35, 3) := dk_181 0 35 (dk_at dksX0_init_1 20 rfl rfl)
theorem dX0_init_46 : decode cX0_init 46 = .ok (.aload_n 0, 1) := dk_42 (dk_at dksX0_init_1 23 rfl rfl)
theorem dX0_init_47 : decode cX0_init 47 = .ok (.iconst 3, 1) := dk_6 (dk_at dksX0_init_2 0 rfl rfl)
theorem dX0_init_48 : decode cX0_init 48 = .ok (.anewarray 38, 3) := dk_189 0 38 (dk_at dksX0_init_2 1 rfl rfl)
theorem dX0_init_51 : decode cX0_init 51 = .ok (.putfield 40, 3) := dk_181 0 40 (dk_at dksX0_init_2 4 rfl rfl)
theorem dX0_init_54 : decode cX0_init 54 = .ok (.aload_n 0, 1) := dk_42 (dk_at dksX0_init_2 7 rfl rfl)
theorem dX0_init_55 : decode cX0_init 55 = .ok (.iconst 3, 1) := dk_6 (dk_at dksX0_init_2 8 rfl rfl)
theorem dX0_init_56 : decode cX0_init 56 = .ok (.newarray .int, 2) := dk_188_10 (dk_at dksX0_init_2 9 rfl rfl)
theorem dX0_init_58 : decode cX0_init 58 = .ok (.putfield 44, 3) := dk_181 0 44 (dk_at dksX0_init_2 11 rfl rfl)
theorem dX0_init_61 : decode cX0_init 61 = .ok (.aload_n 0, 1) := dk_42 (dk_at dksX0_init_2 14 rfl rfl)
theorem dX0_init_62 : decode cX0_init 62 = .ok (.new 47, 3) := dk_187 0 47 (dk_at dksX0_init_2 15 rfl rfl)
theorem dX0_init_65 : decode cX0_init 65 = .ok (.dup, 1) := dk_89 (dk_at dksX0_init_2 18 rfl rfl)
theorem dX0_init_66 : decode cX0_init 66 = .ok (.invokespecial 49, 3) := dk_183 0 49 (dk_at dksX0_init_2 19 rfl rfl)
theorem dX0_init_69 : decode cX0_init 69 = .ok (.putfield 50, 3) := dk_181 0 50 (dk_at dksX0_init_3 0 rfl rfl)
theorem dX0_init_72 : decode cX0_init 72 = .ok (.aload_n 0, 1) := dk_42 (dk_at dksX0_init_3 3 rfl rfl)
theorem dX0_init_73 : decode cX0_init 73 = .ok (.iconst 2, 1) := dk_5 (dk_at dksX0_init_3 4 rfl rfl)
theorem dX0_init_74 : decode cX0_init 74 = .ok (.putfield 54, 3) := dk_181 0 54 (dk_at dksX0_init_3 5 rfl rfl)
theorem dX0_init_77 : decode cX0_init 77 = .ok (.aload_n 0, 1) := dk_42 (dk_at dksX0_init_3 8 rfl rfl)
theorem dX0_init_78 : decode cX0_init 78 = .ok (.bipush 8, 2) := dk_16 8 (dk_at dksX0_init_3 9 rfl rfl)
theorem dX0_init_80 : decode cX0_init 80 = .ok (.newarray .int, 2) := dk_188_10 (dk_at dksX0_init_3 11 rfl rfl)
theorem dX0_init_82 : decode cX0_init 82 = .ok (.putfield 58, 3) := dk_181 0 58 (dk_at dksX0_init_3 13 rfl rfl)
theorem dX0_init_85 : decode cX0_init 85 = .ok (.aload_n 0, 1) := dk_42 (dk_at dksX0_init_3 16 rfl rfl)
theorem dX0_init_86 : decode cX0_init 86 = .ok (.bipush 8, 2) := dk_16 8 (dk_at dksX0_init_3 17 rfl rfl)
theorem dX0_init_88 : decode cX0_init 88 = .ok (.newarray .int, 2) := dk_188_10 (dk_at dksX0_init_3 19 rfl rfl)
theorem dX0_init_90 : decode cX0_init 90 = .ok (.putfield 61, 3) := dk_181 0 61 (dk_at dksX0_init_3 21 rfl rfl)
theorem dX0_init_93 : decode cX0_init 93 = .ok (.aload_n 0, 1) := dk_42 (dk_at dksX0_init_4 0 rfl rfl)
theorem dX0_init_94 : decode cX0_init 94 = .ok (.bipush 8, 2) := dk_16 8 (dk_at dksX0_init_4 1 rfl rfl)
theorem dX0_init_96 : decode cX0_init 96 = .ok (.newarray .int, 2) := dk_188_10 (dk_at dksX0_init_4 3 rfl rfl)
theorem dX0_init_98 : decode cX0_init 98 = .ok (.putfield 64, 3) := dk_181 0 64 (dk_at dksX0_init_4 5 rfl rfl)
theorem dX0_init_101 : decode cX0_init 101 = .ok (.aload_n 0, 1) := dk_42 (dk_at dksX0_init_4 8 rfl rfl)
theorem dX0_init_102 : decode cX0_init 102 = .ok (.sipush 15616, 3) := dk_17 61 0 (dk_at dksX0_init_4 9 rfl rfl)
theorem dX0_init_105 : decode cX0_init 105 = .ok (.newarray .boolean, 2) := dk_188_4 (dk_at dksX0_init_4 12 rfl rfl)
theorem dX0_init_107 : decode cX0_init 107 = .ok (.putfield 67, 3) := dk_181 0 67 (dk_at dksX0_init_4 14 rfl rfl)
theorem dX0_init_110 : decode cX0_init 110 = .ok (.aload_n 0, 1) := dk_42 (dk_at dksX0_init_4 17 rfl rfl)
theorem dX0_init_111 : decode cX0_init 111 = .ok (.bipush 8, 2) := dk_16 8 (dk_at dksX0_init_4 18 rfl rfl)
theorem dX0_init_113 : decode cX0_init 113 = .ok (.newarray .int, 2) := dk_188_10 (dk_at dksX0_init_4 20 rfl rfl)
theorem dX0_init_115 : decode cX0_init 115 = .ok (.putfield 70, 3) := dk_181 0 70 (dk_at dksX0_init_5 0 rfl rfl)
theorem dX0_init_118 : decode cX0_init 118 = .ok (.aload_n 0, 1) := dk_42 (dk_at dksX0_init_5 3 rfl rfl)
theorem dX0_init_119 : decode cX0_init 119 = .ok (.bipush 8, 2) := dk_16 8 (dk_at dksX0_init_5 4 rfl rfl)
theorem dX0_init_121 : decode cX0_init 121 = .ok (.newarray .int, 2) := dk_188_10 (dk_at dksX0_init_5 6 rfl rfl)
theorem dX0_init_123 : decode cX0_init 123 = .ok (.putfield 73, 3) := dk_181 0 73 (dk_at dksX0_init_5 8 rfl rfl)
theorem dX0_init_126 : decode cX0_init 126 = .ok (.aload_n 0, 1) := dk_42 (dk_at dksX0_init_5 11 rfl rfl)
theorem dX0_init_127 : decode cX0_init 127 = .ok (.sipush 160, 3) := dk_17 0 160 (dk_at dksX0_init_5 12 rfl rfl)
theorem dX0_init_130 : decode cX0_init 130 = .ok (.newarray .int, 2) := dk_188_10 (dk_at dksX0_init_5 15 rfl rfl)
theorem dX0_init_132 : decode cX0_init 132 = .ok (.putfield 76, 3) := dk_181 0 76 (dk_at dksX0_init_5 17 rfl rfl)
theorem dX0_init_135 : decode cX0_init 135 = .ok (.aload_n 0, 1) := dk_42 (dk_at dksX0_init_5 20 rfl rfl)
theorem dX0_init_136 : decode cX0_init 136 = .ok (.new 79, 3) := dk_187 0 79 (dk_at dksX0_init_5 21 rfl rfl)
theorem dX0_init_139 : decode cX0_init 139 = .ok (.dup, 1) := dk_89 (dk_at dksX0_init_6 0 rfl rfl)
theorem dX0_init_140 : decode cX0_init 140 = .ok (.aload_n 0, 1) := dk_42 (dk_at dksX0_init_6 1 rfl rfl)
theorem dX0_init_141 : decode cX0_init 141 = .ok (.invokespecial 81, 3) := dk_183 0 81 (dk_at dksX0_init_6 2 rfl rfl)
theorem dX0_init_144 : decode cX0_init 144 = .ok (.putfield 84, 3) := dk_181 0 84 (dk_at dksX0_init_6 5 rfl rfl)
theorem dX0_init_147 : decode cX0_init 147 = .ok (.aload_n 0, 1) := dk_42 (dk_at dksX0_init_6 8 rfl rfl)
theorem dX0_init_148 : decode cX0_init 148 = .ok (.bipush 16, 2) := dk_16 16 (dk_at dksX0_init_6 9 rfl rfl)
theorem dX0_init_150 : decode cX0_init 150 = .ok (.anewarray 88, 3) := dk_189 0 88 (dk_at dksX0_init_6 11 rfl rfl)
theorem dX0_init_153 : decode cX0_init 153 = .ok (.putfield 90, 3) := dk_181 0 90 (dk_at dksX0_init_6 14 rfl rfl)
theorem dX0_init_156 : decode cX0_init 156 = .ok (.aload_n 0, 1) := dk_42 (dk_at dksX0_init_6 17 rfl rfl)
theorem dX0_init_157 : decode cX0_init 157 = .ok (.bipush 60, 2) := dk_16 60 (dk_at dksX0_init_6 18 rfl rfl)
theorem dX0_init_159 : decode cX0_init 159 = .ok (.newarray .int, 2) := dk_188_10 (dk_at dksX0_init_6 20 rfl rfl)
theorem dX0_init_161 : decode cX0_init 161 = .ok (.putfield 94, 3) := dk_181 0 94 (dk_at dksX0_init_7 0 rfl rfl)
theorem dX0_init_164 : decode cX0_init 164 = .ok (.aload_n 0, 1) := dk_42 (dk_at dksX0_init_7 3 rfl rfl)
theorem dX0_init_165 : decode cX0_init 165 = .ok (.bipush 60, 2) := dk_16 60 (dk_at dksX0_init_7 4 rfl rfl)
theorem dX0_init_167 : decode cX0_init 167 = .ok (.newarray .int, 2) := dk_188_10 (dk_at dksX0_init_7 6 rfl rfl)
theorem dX0_init_169 : decode cX0_init 169 = .ok (.putfield 97, 3) := dk_181 0 97 (dk_at dksX0_init_7 8 rfl rfl)
theorem dX0_init_172 : decode cX0_init 172 = .ok (.aload_n 0, 1) := dk_42 (dk_at dksX0_init_7 11 rfl rfl)
theorem dX0_init_173 : decode cX0_init 173 = .ok (.iconst 3, 1) := dk_6 (dk_at dksX0_init_7 12 rfl rfl)
theorem dX0_init_174 : decode cX0_init 174 = .ok (.newarray .boolean, 2) := dk_188_4 (dk_at dksX0_init_7 13 rfl rfl)
theorem dX0_init_176 : decode cX0_init 176 = .ok (.putfield 100, 3) := dk_181 0 100 (dk_at dksX0_init_7 15 rfl rfl)
theorem dX0_init_179 : decode cX0_init 179 = .ok (.aload_n 0, 1) := dk_42 (dk_at dksX0_init_7 18 rfl rfl)
theorem dX0_init_180 : decode cX0_init 180 = .ok (.bipush 120, 2) := dk_16 120 (dk_at dksX0_init_7 19 rfl rfl)
theorem dX0_init_182 : decode cX0_init 182 = .ok (.newarray .int, 2) := dk_188_10 (dk_at dksX0_init_7 21 rfl rfl)
theorem dX0_init_184 : decode cX0_init 184 = .ok (.putfield 103, 3) := dk_181 0 103 (dk_at dksX0_init_8 0 rfl rfl)
theorem dX0_init_187 : decode cX0_init 187 = .ok (.aload_n 0, 1) := dk_42 (dk_at dksX0_init_8 3 rfl rfl)
theorem dX0_init_188 : decode cX0_init 188 = .ok (.bipush 40, 2) := dk_16 40 (dk_at dksX0_init_8 4 rfl rfl)
theorem dX0_init_190 : decode cX0_init 190 = .ok (.newarray .int, 2) := dk_188_10 (dk_at dksX0_init_8 6 rfl rfl)
theorem dX0_init_192 : decode cX0_init 192 = .ok (.putfield 106, 3) := dk_181 0 106 (dk_at dksX0_init_8 8 rfl rfl)
theorem dX0_init_195 : decode cX0_init 195 = .ok (.aload_n 0, 1) := dk_42 (dk_at dksX0_init_8 11 rfl rfl)
theorem dX0_init_196 : decode cX0_init 196 = .ok (.bipush 40, 2) := dk_16 40 (dk_at dksX0_init_8 12 rfl rfl)
theorem dX0_init_198 : decode cX0_init 198 = .ok (.newarray .int, 2) := dk_188_10 (dk_at dksX0_init_8 14 rfl rfl)
theorem dX0_init_200 : decode cX0_init 200 = .ok (.putfield 109, 3) := dk_181 0 109 (dk_at dksX0_init_8 16 rfl rfl)
theorem dX0_init_203 : decode cX0_init 203 = .ok (.aload_n 0, 1) := dk_42 (dk_at dksX0_init_8 19 rfl rfl)
theorem dX0_init_204 : decode cX0_init 204 = .ok (.bipush 10, 2) := dk_16 10 (dk_at dksX0_init_8 20 rfl rfl)
theorem dX0_init_206 : decode cX0_init 206 = .ok (.newarray .int, 2) := dk_188_10 (dk_at dksX0_init_8 22 rfl rfl)
theorem dX0_init_208 : decode cX0_init 208 = .ok (.putfield 112, 3) := dk_181 0 112 (dk_at dksX0_init_9 0 rfl rfl)
theorem dX0_init_211 : decode cX0_init 211 = .ok (.aload_n 0, 1) := dk_42 (dk_at dksX0_init_9 3 rfl rfl)
theorem dX0_init_212 : decode cX0_init 212 = .ok (.bipush 10, 2) := dk_16 10 (dk_at dksX0_init_9 4 rfl rfl)
theorem dX0_init_214 : decode cX0_init 214 = .ok (.newarray .int, 2) := dk_188_10 (dk_at dksX0_init_9 6 rfl rfl)
theorem dX0_init_216 : decode cX0_init 216 = .ok (.putfield 115, 3) := dk_181 0 115 (dk_at dksX0_init_9 8 rfl rfl)
theorem dX0_init_219 : decode cX0_init 219 = .ok (.aload_n 0, 1) := dk_42 (dk_at dksX0_init_9 11 rfl rfl)
theorem dX0_init_220 : decode cX0_init 220 = .ok (.bipush 10, 2) := dk_16 10 (dk_at dksX0_init_9 12 rfl rfl)
theorem dX0_init_222 : decode cX0_init 222 = .ok (.newarray .int, 2) := dk_188_10 (dk_at dksX0_init_9 14 rfl rfl)
theorem dX0_init_224 : decode cX0_init 224 = .ok (.putfield 118, 3) := dk_181 0 118 (dk_at dksX0_init_9 16 rfl rfl)
theorem dX0_init_227 : decode cX0_init 227 = .ok (.aload_n 0, 1) := dk_42 (dk_at dksX0_init_9 19 rfl rfl)
theorem dX0_init_228 : decode cX0_init 228 = .ok (.bipush 10, 2) := dk_16 10 (dk_at dksX0_init_9 20 rfl rfl)
theorem dX0_init_230 : decode cX0_init 230 = .ok (.newarray .int, 2) := dk_188_10 (dk_at dksX0_init_9 22 rfl rfl)
theorem dX0_init_232 : decode cX0_init 232 = .ok (.putfield 121, 3) := dk_181 0 121 (dk_at dksX0_init_10 0 rfl rfl)
theorem dX0_init_235 : decode cX0_init 235 = .ok (.aload_n 0, 1) := dk_42 (dk_at dksX0_init_10 3 rfl rfl)
theorem dX0_init_236 : decode cX0_init 236 = .ok (.sipush 1024, 3) := dk_17 4 0 (dk_at dksX0_init_10 4 rfl rfl)
theorem dX0_init_239 : decode cX0_init 239 = .ok (.newarray .int, 2) := dk_188_10 (dk_at dksX0_init_10 7 rfl rfl)
theorem dX0_init_241 : decode cX0_init 241 = .ok (.putfield 124, 3) := dk_181 0 124 (dk_at dksX0_init_10 9 rfl rfl)
theorem dX0_init_244 : decode cX0_init 244 = .ok (.aload_n 0, 1) := dk_42 (dk_at dksX0_init_10 12 rfl rfl)
theorem dX0_init_245 : decode cX0_init 245 = .ok (.bipush 10, 2) := dk_16 10 (dk_at dksX0_init_10 13 rfl rfl)
theorem dX0_init_247 : decode cX0_init 247 = .ok (.newarray .int, 2) := dk_188_10 (dk_at dksX0_init_10 15 rfl rfl)
theorem dX0_init_249 : decode cX0_init 249 = .ok (.putfield 127, 3) := dk_181 0 127 (dk_at dksX0_init_10 17 rfl rfl)
theorem dX0_init_252 : decode cX0_init 252 = .ok (.aload_n 0, 1) := dk_42 (dk_at dksX0_init_10 20 rfl rfl)
theorem dX0_init_253 : decode cX0_init 253 = .ok (.bipush 9, 2) := dk_16 9 (dk_at dksX0_init_10 21 rfl rfl)
theorem dX0_init_255 : decode cX0_init 255 = .ok (.newarray .int, 2) := dk_188_10 (dk_at dksX0_init_11 0 rfl rfl)
theorem dX0_init_257 : decode cX0_init 257 = .ok (.putfield 130, 3) := dk_181 0 130 (dk_at dksX0_init_11 2 rfl rfl)
theorem dX0_init_260 : decode cX0_init 260 = .ok (.aload_n 0, 1) := dk_42 (dk_at dksX0_init_11 5 rfl rfl)
theorem dX0_init_261 : decode cX0_init 261 = .ok (.bipush 6, 2) := dk_16 6 (dk_at dksX0_init_11 6 rfl rfl)
theorem dX0_init_263 : decode cX0_init 263 = .ok (.newarray .int, 2) := dk_188_10 (dk_at dksX0_init_11 8 rfl rfl)
theorem dX0_init_265 : decode cX0_init 265 = .ok (.putfield 133, 3) := dk_181 0 133 (dk_at dksX0_init_11 10 rfl rfl)
theorem dX0_init_268 : decode cX0_init 268 = .ok (.aload_n 0, 1) := dk_42 (dk_at dksX0_init_11 13 rfl rfl)
theorem dX0_init_269 : decode cX0_init 269 = .ok (.bipush 6, 2) := dk_16 6 (dk_at dksX0_init_11 14 rfl rfl)
theorem dX0_init_271 : decode cX0_init 271 = .ok (.newarray .int, 2) := dk_188_10 (dk_at dksX0_init_11 16 rfl rfl)
theorem dX0_init_273 : decode cX0_init 273 = .ok (.putfield 136, 3) := dk_181 0 136 (dk_at dksX0_init_11 18 rfl rfl)
theorem dX0_init_276 : decode cX0_init 276 = .ok (.aload_n 0, 1) := dk_42 (dk_at dksX0_init_11 21 rfl rfl)
theorem dX0_init_277 : decode cX0_init 277 = .ok (.bipush 24, 2) := dk_16 24 (dk_at dksX0_init_11 22 rfl rfl)
theorem dX0_init_279 : decode cX0_init 279 = .ok (.newarray .int, 2) := dk_188_10 (dk_at dksX0_init_12 0 rfl rfl)
theorem dX0_init_281 : decode cX0_init 281 = .ok (.putfield 139, 3) := dk_181 0 139 (dk_at dksX0_init_12 2 rfl rfl)
theorem dX0_init_284 : decode cX0_init 284 = .ok (.aload_n 0, 1) := dk_42 (dk_at dksX0_init_12 5 rfl rfl)
theorem dX0_init_285 : decode cX0_init 285 = .ok (.iconst 2, 1) := dk_5 (dk_at dksX0_init_12 6 rfl rfl)
theorem dX0_init_286 : decode cX0_init 286 = .ok (.newarray .int, 2) := dk_188_10 (dk_at dksX0_init_12 7 rfl rfl)
theorem dX0_init_288 : decode cX0_init 288 = .ok (.putfield 142, 3) := dk_181 0 142 (dk_at dksX0_init_12 9 rfl rfl)
theorem dX0_init_291 : decode cX0_init 291 = .ok (.aload_n 0, 1) := dk_42 (dk_at dksX0_init_12 12 rfl rfl)
theorem dX0_init_292 : decode cX0_init 292 = .ok (.iconst 2, 1) := dk_5 (dk_at dksX0_init_12 13 rfl rfl)
theorem dX0_init_293 : decode cX0_init 293 = .ok (.newarray .int, 2) := dk_188_10 (dk_at dksX0_init_12 14 rfl rfl)
theorem dX0_init_295 : decode cX0_init 295 = .ok (.putfield 145, 3) := dk_181 0 145 (dk_at dksX0_init_12 16 rfl rfl)
theorem dX0_init_298 : decode cX0_init 298 = .ok (.aload_n 0, 1) := dk_42 (dk_at dksX0_init_12 19 rfl rfl)
theorem dX0_init_299 : decode cX0_init 299 = .ok (.bipush 120, 2) := dk_16 120 (dk_at dksX0_init_12 20 rfl rfl)
theorem dX0_init_301 : decode cX0_init 301 = .ok (.newarray .int, 2) := dk_188_10 (dk_at dksX0_init_12 22 rfl rfl)
theorem dX0_init_303 : decode cX0_init 303 = .ok (.putfield 148, 3) := dk_181 0 148 (dk_at dksX0_init_13 0 rfl rfl)
theorem dX0_init_306 : decode cX0_init 306 = .ok (.aload_n 0, 1) := dk_42 (dk_at dksX0_init_13 3 rfl rfl)
theorem dX0_init_307 : decode cX0_init 307 = .ok (.bipush 120, 2) := dk_16 120 (dk_at dksX0_init_13 4 rfl rfl)
theorem dX0_init_309 : decode cX0_init 309 = .ok (.newarray .int, 2) := dk_188_10 (dk_at dksX0_init_13 6 rfl rfl)
theorem dX0_init_311 : decode cX0_init 311 = .ok (.putfield 151, 3) := dk_181 0 151 (dk_at dksX0_init_13 8 rfl rfl)
theorem dX0_init_314 : decode cX0_init 314 = .ok (.aload_n 0, 1) := dk_42 (dk_at dksX0_init_13 11 rfl rfl)
theorem dX0_init_315 : decode cX0_init 315 = .ok (.iconst (-1), 1) := dk_2 (dk_at dksX0_init_13 12 rfl rfl)
theorem dX0_init_316 : decode cX0_init 316 = .ok (.putfield 154, 3) := dk_181 0 154 (dk_at dksX0_init_13 13 rfl rfl)
theorem dX0_init_319 : decode cX0_init 319 = .ok (.aload_n 0, 1) := dk_42 (dk_at dksX0_init_13 16 rfl rfl)
theorem dX0_init_320 : decode cX0_init 320 = .ok (.bipush 120, 2) := dk_16 120 (dk_at dksX0_init_13 17 rfl rfl)
theorem dX0_init_322 : decode cX0_init 322 = .ok (.newarray .int, 2) := dk_188_10 (dk_at dksX0_init_13 19 rfl rfl)
theorem dX0_init_324 : decode cX0_init 324 = .ok (.putfield 157, 3) := dk_181 0 157 (dk_at dksX0_init_13 21 rfl rfl)
theorem dX0_init_327 : decode cX0_init 327 = .ok (.aload_n 0, 1) := dk_42 (dk_at dksX0_init_14 0 rfl rfl)
theorem dX0_init_328 : decode cX0_init 328 = .ok (.bipush 6, 2) := dk_16 6 (dk_at dksX0_init_14 1 rfl rfl)
theorem dX0_init_330 : decode cX0_init 330 = .ok (.anewarray 11, 3) := dk_189 0 11 (dk_at dksX0_init_14 3 rfl rfl)
theorem dX0_init_333 : decode cX0_init 333 = .ok (.putfield 160, 3) := dk_181 0 160 (dk_at dksX0_init_14 6 rfl rfl)
theorem dX0_init_336 : decode cX0_init 336 = .ok (.iconst 0, 1) := dk_3 (dk_at dksX0_init_14 9 rfl rfl)
theorem dX0_init_337 : decode cX0_init 337 = .ok (.istore_n 1, 1) := dk_60 (dk_at dksX0_init_14 10 rfl rfl)
theorem dX0_init_338 : decode cX0_init 338 = .ok (.iload_n 1, 1) := dk_27 (dk_at dksX0_init_14 11 rfl rfl)
theorem dX0_init_339 : decode cX0_init 339 = .ok (.sipush 1952, 3) := dk_17 7 160 (dk_at dksX0_init_14 12 rfl rfl)
theorem dX0_init_342 : decode cX0_init 342 = .ok (.if_icmp .ge 16, 3) := dk_162 0 16 (dk_at dksX0_init_14 15 rfl rfl)
theorem dX0_init_345 : decode cX0_init 345 = .ok (.aload_n 0, 1) := dk_42 (dk_at dksX0_init_14 18 rfl rfl)
theorem dX0_init_346 : decode cX0_init 346 = .ok (.getfield 18, 3) := dk_180 0 18 (dk_at dksX0_init_14 19 rfl rfl)
theorem dX0_init_349 : decode cX0_init 349 = .ok (.iload_n 1, 1) := dk_27 (dk_at dksX0_init_14 22 rfl rfl)
theorem dX0_init_350 : decode cX0_init 350 = .ok (.iconst 3, 1) := dk_6 (dk_at dksX0_init_14 23 rfl rfl)
theorem dX0_init_351 : decode cX0_init 351 = .ok (.iastore, 1) := dk_79 (dk_at dksX0_init_15 0 rfl rfl)
theorem dX0_init_352 : decode cX0_init 352 = .ok (.iinc 1 1, 3) := dk_132 1 1 (dk_at dksX0_init_15 1 rfl rfl)
theorem dX0_init_355 : decode cX0_init 355 = .ok (.goto (-17), 3) := dk_167 255 239 (dk_at dksX0_init_15 4 rfl rfl)
theorem dX0_init_358 : decode cX0_init 358 = .ok (.iconst 0, 1) := dk_3 (dk_at dksX0_init_15 7 rfl rfl)
theorem dX0_init_359 : decode cX0_init 359 = .ok (.istore_n 1, 1) := dk_60 (dk_at dksX0_init_15 8 rfl rfl)
theorem dX0_init_360 : decode cX0_init 360 = .ok (.iload_n 1, 1) := dk_27 (dk_at dksX0_init_15 9 rfl rfl)
theorem dX0_init_361 : decode cX0_init 361 = .ok (.iconst 3, 1) := dk_6 (dk_at dksX0_init_15 10 rfl rfl)
theorem dX0_init_362 : decode cX0_init 362 = .ok (.if_icmp .ge 24, 3) := dk_162 0 24 (dk_at dksX0_init_15 11 rfl rfl)
theorem dX0_init_365 : decode cX0_init 365 = .ok (.aload_n 0, 1) := dk_42 (dk_at dksX0_init_15 14 rfl rfl)
theorem dX0_init_366 : decode cX0_init 366 = .ok (.getfield 35, 3) := dk_180 0 35 (dk_at dksX0_init_15 15 rfl rfl)
theorem dX0_init_369 : decode cX0_init 369 = .ok (.iload_n 1, 1) := dk_27 (dk_at dksX0_init_15 18 rfl rfl)
theorem dX0_init_370 : decode cX0_init 370 = .ok (.bipush 20, 2) := dk_16 20 (dk_at dksX0_init_15 19 rfl rfl)
theorem dX0_init_372 : decode cX0_init 372 = .ok (.iastore, 1) := dk_79 (dk_at dksX0_init_15 21 rfl rfl)
theorem dX0_init_373 : decode cX0_init 373 = .ok (.aload_n 0, 1) := dk_42 (dk_at dksX0_init_15 22 rfl rfl)
theorem dX0_init_374 : decode cX0_init 374 = .ok (.getfield 44, 3) := dk_180 0 44 (dk_at dksX0_init_16 0 rfl rfl)
theorem dX0_init_377 : decode cX0_init 377 = .ok (.iload_n 1, 1) := dk_27 (dk_at dksX0_init_16 3 rfl rfl)
theorem dX0_init_378 : decode cX0_init 378 = .ok (.iconst (-1), 1) := dk_2 (dk_at dksX0_init_16 4 rfl rfl)
theorem dX0_init_379 : decode cX0_init 379 = .ok (.iastore, 1) := dk_79 (dk_at dksX0_init_16 5 rfl rfl)
theorem dX0_init_380 : decode cX0_init 380 = .ok (.iinc 1 1, 3) := dk_132 1 1 (dk_at dksX0_init_16 6 rfl rfl)
theorem dX0_init_383 : decode cX0_init 383 = .ok (.goto (-23), 3) := dk_167 255 233 (dk_at dksX0_init_16 9 rfl rfl)
theorem dX0_init_386 : decode cX0_init 386 = .ok (.iconst 0, 1) := dk_3 (dk_at dksX0_init_16 12 rfl rfl)
theorem dX0_init_387 : decode cX0_init 387 = .ok (.istore_n 1, 1) := dk_60 (dk_at dksX0_init_16 13 rfl rfl)
theorem dX0_init_388 : decode cX0_init 388 = .ok (.iload_n 1, 1) := dk_27 (dk_at dksX0_init_16 14 rfl rfl)
theorem dX0_init_389 : decode cX0_init 389 = .ok (.bipush 16, 2) := dk_16 16 (dk_at dksX0_init_16 15 rfl rfl)
theorem dX0_init_391 : decode cX0_init 391 = .ok (.if_icmp .ge 23, 3) := dk_162 0 23 (dk_at dksX0_init_16 17 rfl rfl)
theorem dX0_init_394 : decode cX0_init 394 = .ok (.aload_n 0, 1) := dk_42 (dk_at dksX0_init_16 20 rfl rfl)
theorem dX0_init_395 : decode cX0_init 395 = .ok (.getfield 90, 3) := dk_180 0 90 (dk_at dksX0_init_16 21 rfl rfl)
theorem dX0_init_398 : decode cX0_init 398 = .ok (.iload_n 1, 1) := dk_27 (dk_at dksX0_init_17 0 rfl rfl)
theorem dX0_init_399 : decode cX0_init 399 = .ok (.new 88, 3) := dk_187 0 88 (dk_at dksX0_init_17 1 rfl rfl)
theorem dX0_init_402 : decode cX0_init 402 = .ok (.dup, 1) := dk_89 (dk_at dksX0_init_17 4 rfl rfl)
theorem dX0_init_403 : decode cX0_init 403 = .ok (.aload_n 0, 1) := dk_42 (dk_at dksX0_init_17 5 rfl rfl)
theorem dX0_init_404 : decode cX0_init 404 = .ok (.invokespecial 164, 3) := dk_183 0 164 (dk_at dksX0_init_17 6 rfl rfl)
theorem dX0_init_407 : decode cX0_init 407 = .ok (.aastore, 1) := dk_83 (dk_at dksX0_init_17 9 rfl rfl)
theorem dX0_init_408 : decode cX0_init 408 = .ok (.iinc 1 1, 3) := dk_132 1 1 (dk_at dksX0_init_17 10 rfl rfl)
theorem dX0_init_411 : decode cX0_init 411 = .ok (.goto (-23), 3) := dk_167 255 233 (dk_at dksX0_init_17 13 rfl rfl)
theorem dX0_init_414 : decode cX0_init 414 = .ok (.iconst 0, 1) := dk_3 (dk_at dksX0_init_17 16 rfl rfl)
theorem dX0_init_415 : decode cX0_init 415 = .ok (.istore_n 1, 1) := dk_60 (dk_at dksX0_init_17 17 rfl rfl)
theorem dX0_init_416 : decode cX0_init 416 = .ok (.iload_n 1, 1) := dk_27 (dk_at dksX0_init_17 18 rfl rfl)
theorem dX0_init_417 : decode cX0_init 417 = .ok (.bipush 24, 2) := dk_16 24 (dk_at dksX0_init_17 19 rfl rfl)
theorem dX0_init_419 : decode cX0_init 419 = .ok (.if_icmp .ge 16, 3) := dk_162 0 16 (dk_at dksX0_init_17 21 rfl rfl)
theorem dX0_init_422 : decode cX0_init 422 = .ok (.aload_n 0, 1) := dk_42 (dk_at dksX0_init_18 0 rfl rfl)
theorem dX0_init_423 : decode cX0_init 423 = .ok (.getfield 139, 3) := dk_180 0 139 (dk_at dksX0_init_18 1 rfl rfl)
theorem dX0_init_426 : decode cX0_init 426 = .ok (.iload_n 1, 1) := dk_27 (dk_at dksX0_init_18 4 rfl rfl)
theorem dX0_init_427 : decode cX0_init 427 = .ok (.iconst 1, 1) := dk_4 (dk_at dksX0_init_18 5 rfl rfl)
theorem dX0_init_428 : decode cX0_init 428 = .ok (.iastore, 1) := dk_79 (dk_at dksX0_init_18 6 rfl rfl)
theorem dX0_init_429 : decode cX0_init 429 = .ok (.iinc 1 1, 3) := dk_132 1 1 (dk_at dksX0_init_18 7 rfl rfl)
theorem dX0_init_432 : decode cX0_init 432 = .ok (.goto (-16), 3) := dk_167 255 240 (dk_at dksX0_init_18 10 rfl rfl)
theorem dX0_init_435 : decode cX0_init 435 = .ok (.return_, 1) := dk_177 (dk_at dksX0_init_18 13 rfl rfl)
abbrev cX0_hard : ByteArray := prog_1_method_7_code
def yX0_hard : MethodName := ⟨RX0, "hard", "(II)I"⟩
def dkwX0_hard_1 : List UInt8 := [180, 0, 18, 27, 184, 0, 180, 46, 62, 42, 180, 0, 18, 27, 184, 0, 180, 28, 79, 29, 172]
abbrev dktX0_hard_1 : List UInt8 := dkwX0_hard_1 ++ []
def dkwX0_hard_0 : List UInt8 := [27, 184, 0, 174, 153, 0, 15, 28, 133, 10, 20, 0, 178, 184, 0, 167, 154, 0, 5, 2, 172, 42]
abbrev dktX0_hard_0 : List UInt8 := dkwX0_hard_0 ++ dktX0_hard_1
theorem dksX0_hard_0 : cX0_hard.data.toList.drop 0 = dktX0_hard_0 := by decide +kernel
theorem dksX0_hard_1 : cX0_hard.data.toList.drop 22 = dktX0_hard_1 := dk_seg dksX0_hard_0 22 rfl rfl
theorem dX0_hard_0 : decode cX0_hard 0 = .ok (.iload_n 1, 1) := dk_27 (dk_at dksX0_hard_0 0 rfl rfl)
theorem dX0_hard_1 : decode cX0_hard 1 = .ok (.invokestatic 174, 3) := dk_184 0 174 (dk_at dksX0_hard_0 1 rfl rfl)
theorem dX0_hard_4 : decode cX0_hard 4 = .ok (.ifCond .eq 15, 3) := dk_153 0 15 (dk_at dksX0_hard_0 4 rfl rfl)
theorem dX0_hard_7 : decode cX0_hard 7 = .ok (.iload_n 2, 1) := dk_28 (dk_at dksX0_hard_0 7 rfl rfl)
theorem dX0_hard_8 : decode cX0_hard 8 = .ok (.i2l, 1) := dk_133 (dk_at dksX0_hard_0 8 rfl rfl)
theorem dX0_hard_9 : decode cX0_hard 9 = .ok (.lconst 1, 1) := dk_10 (dk_at dksX0_hard_0 9 rfl rfl)
theorem dX0_hard_10 : decode cX0_hard 10 = .ok (.ldc2_w 178, 3) := dk_20 0 178 (dk_at dksX0_hard_0 10 rfl rfl)
theorem dX0_hard_13 : decode cX0_hard 13 = .ok (.invokestatic 167, 3) := dk_184 0 167 (dk_at dksX0_hard_0 13 rfl rfl)
theorem dX0_hard_16 : decode cX0_hard 16 = .ok (.ifCond .ne 5, 3) := dk_154 0 5 (dk_at dksX0_hard_0 16 rfl rfl)
theorem dX0_hard_19 : decode cX0_hard 19 = .ok (.iconst (-1), 1) := dk_2 (dk_at dksX0_hard_0 19 rfl rfl)
theorem dX0_hard_20 : decode cX0_hard 20 = .ok (.ireturn, 1) := dk_172 (dk_at dksX0_hard_0 20 rfl rfl)
theorem dX0_hard_21 : decode cX0_hard 21 = .ok (.aload_n 0, 1) := dk_42 (dk_at dksX0_hard_0 21 rfl rfl)
theorem dX0_hard_22 : decode cX0_hard 22 = .ok (.getfield 18, 3) := dk_180 0 18 (dk_at dksX0_hard_1 0 rfl rfl)
theorem dX0_hard_25 : decode cX0_hard 25 = .ok (.iload_n 1, 1) := dk_27 (dk_at dksX0_hard_1 3 rfl rfl)
theorem dX0_hard_26 : decode cX0_hard 26 = .ok (.invokestatic 180, 3) := dk_184 0 180 (dk_at dksX0_hard_1 4 rfl rfl)
theorem dX0_hard_29 : decode cX0_hard 29 = .ok (.iaload, 1) := dk_46 (dk_at dksX0_hard_1 7 rfl rfl)
theorem dX0_hard_30 : decode cX0_hard 30 = .ok (.istore_n 3, 1) := dk_62 (dk_at dksX0_hard_1 8 rfl rfl)
theorem dX0_hard_31 : decode cX0_hard 31 = .ok (.aload_n 0, 1) := dk_42 (dk_at dksX0_hard_1 9 rfl rfl)
theorem dX0_hard_32 : decode cX0_hard 32 = .ok (.getfield 18, 3) := dk_180 0 18 (dk_at dksX0_hard_1 10 rfl rfl)
theorem dX0_hard_35 : decode cX0_hard 35 = .ok (.iload_n 1, 1) := dk_27 (dk_at dksX0_hard_1 13 rfl rfl)
theorem dX0_hard_36 : decode cX0_hard 36 = .ok (.invokestatic 180, 3) := dk_184 0 180 (dk_at dksX0_hard_1 14 rfl rfl)
theorem dX0_hard_39 : decode cX0_hard 39 = .ok (.iload_n 2, 1) := dk_28 (dk_at dksX0_hard_1 17 rfl rfl)
theorem dX0_hard_40 : decode cX0_hard 40 = .ok (.iastore, 1) := dk_79 (dk_at dksX0_hard_1 18 rfl rfl)
theorem dX0_hard_41 : decode cX0_hard 41 = .ok (.iload_n 3, 1) := dk_29 (dk_at dksX0_hard_1 19 rfl rfl)
theorem dX0_hard_42 : decode cX0_hard 42 = .ok (.ireturn, 1) := dk_172 (dk_at dksX0_hard_1 20 rfl rfl)
abbrev cX0_isCell : ByteArray := prog_1_method_5_code
def yX0_isCell : MethodName := ⟨RX0, "isCell", "(I)Z"⟩
def dkwX0_isCell_1 : List UInt8 := [184, 0, 167, 153, 0, 7, 4, 167, 0, 4, 3, 172]
abbrev dktX0_isCell_1 : List UInt8 := dkwX0_isCell_1 ++ []
def dkwX0_isCell_0 : List UInt8 := [26, 155, 0, 31, 26, 16, 100, 108, 16, 32, 162, 0, 22, 26, 16, 100, 112, 133, 10, 20, 0, 165]
abbrev dktX0_isCell_0 : List UInt8 := dkwX0_isCell_0 ++ dktX0_isCell_1
theorem dksX0_isCell_0 : cX0_isCell.data.toList.drop 0 = dktX0_isCell_0 := by decide +kernel
theorem dksX0_isCell_1 : cX0_isCell.data.toList.drop 22 = dktX0_isCell_1 := dk_seg dksX0_isCell_0 22 rfl rfl
theorem dX0_isCell_0 : decode cX0_isCell 0 = .ok (.iload_n 0, 1) := dk_26 (dk_at dksX0_isCell_0 0 rfl rfl)
theorem dX0_isCell_1 : decode cX0_isCell 1 = .ok (.ifCond .lt 31, 3) := dk_155 0 31 (dk_at dksX0_isCell_0 1 rfl rfl)
theorem dX0_isCell_4 : decode cX0_isCell 4 = .ok (.iload_n 0, 1) := dk_26 (dk_at dksX0_isCell_0 4 rfl rfl)
theorem dX0_isCell_5 : decode cX0_isCell 5 = .ok (.bipush 100, 2) := dk_16 100 (dk_at dksX0_isCell_0 5 rfl rfl)
theorem dX0_isCell_7 : decode cX0_isCell 7 = .ok (.idiv, 1) := dk_108 (dk_at dksX0_isCell_0 7 rfl rfl)
theorem dX0_isCell_8 : decode cX0_isCell 8 = .ok (.bipush 32, 2) := dk_16 32 (dk_at dksX0_isCell_0 8 rfl rfl)
theorem dX0_isCell_10 : decode cX0_isCell 10 = .ok (.if_icmp .ge 22, 3) := dk_162 0 22 (dk_at dksX0_isCell_0 10 rfl rfl)
theorem dX0_isCell_13 : decode cX0_isCell 13 = .ok (.iload_n 0, 1) := dk_26 (dk_at dksX0_isCell_0 13 rfl rfl)
theorem dX0_isCell_14 : decode cX0_isCell 14 = .ok (.bipush 100, 2) := dk_16 100 (dk_at dksX0_isCell_0 14 rfl rfl)
theorem dX0_isCell_16 : decode cX0_isCell 16 = .ok (.irem, 1) := dk_112 (dk_at dksX0_isCell_0 16 rfl rfl)
theorem dX0_isCell_17 : decode cX0_isCell 17 = .ok (.i2l, 1) := dk_133 (dk_at dksX0_isCell_0 17 rfl rfl)
theorem dX0_isCell_18 : decode cX0_isCell 18 = .ok (.lconst 1, 1) := dk_10 (dk_at dksX0_isCell_0 18 rfl rfl)
theorem dX0_isCell_19 : decode cX0_isCell 19 = .ok (.ldc2_w 165, 3) := dk_20 0 165 (dk_at dksX0_isCell_0 19 rfl rfl)
theorem dX0_isCell_22 : decode cX0_isCell 22 = .ok (.invokestatic 167, 3) := dk_184 0 167 (dk_at dksX0_isCell_1 0 rfl rfl)
theorem dX0_isCell_25 : decode cX0_isCell 25 = .ok (.ifCond .eq 7, 3) := dk_153 0 7 (dk_at dksX0_isCell_1 3 rfl rfl)
theorem dX0_isCell_28 : decode cX0_isCell 28 = .ok (.iconst 1, 1) := dk_4 (dk_at dksX0_isCell_1 6 rfl rfl)
theorem dX0_isCell_29 : decode cX0_isCell 29 = .ok (.goto 4, 3) := dk_167 0 4 (dk_at dksX0_isCell_1 7 rfl rfl)
theorem dX0_isCell_32 : decode cX0_isCell 32 = .ok (.iconst 0, 1) := dk_3 (dk_at dksX0_isCell_1 10 rfl rfl)
theorem dX0_isCell_33 : decode cX0_isCell 33 = .ok (.ireturn, 1) := dk_172 (dk_at dksX0_isCell_1 11 rfl rfl)
abbrev cX0_within : ByteArray := prog_1_method_1_code
def yX0_within : MethodName := ⟨RX0, "within", "(JJJ)Z"⟩
def dkwX0_within_0 : List UInt8 := [30, 32, 148, 155, 0, 14, 30, 22, 4, 148, 157, 0, 7, 4, 167, 0, 4, 3, 172]
abbrev dktX0_within_0 : List UInt8 := dkwX0_within_0 ++ []
theorem dksX0_within_0 : cX0_within.data.toList.drop 0 = dktX0_within_0 := by decide +kernel
theorem dX0_within_0 : decode cX0_within 0 = .ok (.lload_n 0, 1) := dk_30 (dk_at dksX0_within_0 0 rfl rfl)
theorem dX0_within_1 : decode cX0_within 1 = .ok (.lload_n 2, 1) := dk_32 (dk_at dksX0_within_0 1 rfl rfl)
theorem dX0_within_2 : decode cX0_within 2 = .ok (.lcmp, 1) := dk_148 (dk_at dksX0_within_0 2 rfl rfl)
theorem dX0_within_3 : decode cX0_within 3 = .ok (.ifCond .lt 14, 3) := dk_155 0 14 (dk_at dksX0_within_0 3 rfl rfl)
theorem dX0_within_6 : decode cX0_within 6 = .ok (.lload_n 0, 1) := dk_30 (dk_at dksX0_within_0 6 rfl rfl)
theorem dX0_within_7 : decode cX0_within 7 = .ok (.lload 4, 2) := dk_22 4 (dk_at dksX0_within_0 7 rfl rfl)
theorem dX0_within_9 : decode cX0_within 9 = .ok (.lcmp, 1) := dk_148 (dk_at dksX0_within_0 9 rfl rfl)
theorem dX0_within_10 : decode cX0_within 10 = .ok (.ifCond .gt 7, 3) := dk_157 0 7 (dk_at dksX0_within_0 10 rfl rfl)
theorem dX0_within_13 : decode cX0_within 13 = .ok (.iconst 1, 1) := dk_4 (dk_at dksX0_within_0 13 rfl rfl)
theorem dX0_within_14 : decode cX0_within 14 = .ok (.goto 4, 3) := dk_167 0 4 (dk_at dksX0_within_0 14 rfl rfl)
theorem dX0_within_17 : decode cX0_within 17 = .ok (.iconst 0, 1) := dk_3 (dk_at dksX0_within_0 17 rfl rfl)
theorem dX0_within_18 : decode cX0_within 18 = .ok (.ireturn, 1) := dk_172 (dk_at dksX0_within_0 18 rfl rfl)
abbrev cX0_cellAt : ByteArray := prog_1_method_6_code
def yX0_cellAt : MethodName := ⟨RX0, "cellAt", "(I)I"⟩
def dkwX0_cellAt_0 : List UInt8 := [26, 16, 100, 108, 26, 16, 100, 112, 184, 0, 171, 172]
abbrev dktX0_cellAt_0 : List UInt8 := dkwX0_cellAt_0 ++ []
theorem dksX0_cellAt_0 : cX0_cellAt.data.toList.drop 0 = dktX0_cellAt_0 := by decide +kernel
theorem dX0_cellAt_0 : decode cX0_cellAt 0 = .ok (.iload_n 0, 1) := dk_26 (dk_at dksX0_cellAt_0 0 rfl rfl)
theorem dX0_cellAt_1 : decode cX0_cellAt 1 = .ok (.bipush 100, 2) := dk_16 100 (dk_at dksX0_cellAt_0 1 rfl rfl)
theorem dX0_cellAt_3 : decode cX0_cellAt 3 = .ok (.idiv, 1) := dk_108 (dk_at dksX0_cellAt_0 3 rfl rfl)
theorem dX0_cellAt_4 : decode cX0_cellAt 4 = .ok (.iload_n 0, 1) := dk_26 (dk_at dksX0_cellAt_0 4 rfl rfl)
theorem dX0_cellAt_5 : decode cX0_cellAt 5 = .ok (.bipush 100, 2) := dk_16 100 (dk_at dksX0_cellAt_0 5 rfl rfl)
theorem dX0_cellAt_7 : decode cX0_cellAt 7 = .ok (.irem, 1) := dk_112 (dk_at dksX0_cellAt_0 7 rfl rfl)
theorem dX0_cellAt_8 : decode cX0_cellAt 8 = .ok (.invokestatic 171, 3) := dk_184 0 171 (dk_at dksX0_cellAt_0 8 rfl rfl)
theorem dX0_cellAt_11 : decode cX0_cellAt 11 = .ok (.ireturn, 1) := dk_172 (dk_at dksX0_cellAt_0 11 rfl rfl)
abbrev cX0_at : ByteArray := prog_1_method_4_code
def yX0_at : MethodName := ⟨RX0, "at", "(II)I"⟩
def dkwX0_at_0 : List UInt8 := [26, 16, 61, 104, 27, 96, 172]
abbrev dktX0_at_0 : List UInt8 := dkwX0_at_0 ++ []
theorem dksX0_at_0 : cX0_at.data.toList.drop 0 = dktX0_at_0 := by decide +kernel
theorem dX0_at_0 : decode cX0_at 0 = .ok (.iload_n 0, 1) := dk_26 (dk_at dksX0_at_0 0 rfl rfl)
theorem dX0_at_1 : decode cX0_at 1 = .ok (.bipush 61, 2) := dk_16 61 (dk_at dksX0_at_0 1 rfl rfl)
theorem dX0_at_3 : decode cX0_at 3 = .ok (.imul, 1) := dk_104 (dk_at dksX0_at_0 3 rfl rfl)
theorem dX0_at_4 : decode cX0_at 4 = .ok (.iload_n 1, 1) := dk_27 (dk_at dksX0_at_0 4 rfl rfl)
theorem dX0_at_5 : decode cX0_at 5 = .ok (.iadd, 1) := dk_96 (dk_at dksX0_at_0 5 rfl rfl)
theorem dX0_at_6 : decode cX0_at 6 = .ok (.ireturn, 1) := dk_172 (dk_at dksX0_at_0 6 rfl rfl)
abbrev cX0_open : ByteArray := prog_1_method_8_code
def yX0_open : MethodName := ⟨RX0, "open", "(II)I"⟩
def dkwX0_open_2 : List UInt8 := [29, 153, 0, 7, 4, 167, 0, 4, 3, 172]
abbrev dktX0_open_2 : List UInt8 := dkwX0_open_2 ++ []
def dkwX0_open_1 : List UInt8 := [184, 0, 180, 51, 62, 42, 180, 0, 22, 27, 184, 0, 180, 28, 4, 160, 0, 7, 4, 167, 0, 4, 3, 84]
abbrev dktX0_open_1 : List UInt8 := dkwX0_open_1 ++ dktX0_open_2
def dkwX0_open_0 : List UInt8 := [27, 184, 0, 174, 153, 0, 13, 28, 133, 9, 10, 184, 0, 167, 154, 0, 5, 2, 172, 42, 180, 0, 22, 27]
abbrev dktX0_open_0 : List UInt8 := dkwX0_open_0 ++ dktX0_open_1
theorem dksX0_open_0 : cX0_open.data.toList.drop 0 = dktX0_open_0 := by decide +kernel
theorem dksX0_open_1 : cX0_open.data.toList.drop 24 = dktX0_open_1 := dk_seg dksX0_open_0 24 rfl rfl
theorem dksX0_open_2 : cX0_open.data.toList.drop 48 = dktX0_open_2 := dk_seg dksX0_open_1 24 rfl rfl
theorem dX0_open_0 : decode cX0_open 0 = .ok (.iload_n 1, 1) := dk_27 (dk_at dksX0_open_0 0 rfl rfl)
theorem dX0_open_1 : decode cX0_open 1 = .ok (.invokestatic 174, 3) := dk_184 0 174 (dk_at dksX0_open_0 1 rfl rfl)
theorem dX0_open_4 : decode cX0_open 4 = .ok (.ifCond .eq 13, 3) := dk_153 0 13 (dk_at dksX0_open_0 4 rfl rfl)
theorem dX0_open_7 : decode cX0_open 7 = .ok (.iload_n 2, 1) := dk_28 (dk_at dksX0_open_0 7 rfl rfl)
theorem dX0_open_8 : decode cX0_open 8 = .ok (.i2l, 1) := dk_133 (dk_at dksX0_open_0 8 rfl rfl)
theorem dX0_open_9 : decode cX0_open 9 = .ok (.lconst 0, 1) := dk_9 (dk_at dksX0_open_0 9 rfl rfl)
theorem dX0_open_10 : decode cX0_open 10 = .ok (.lconst 1, 1) := dk_10 (dk_at dksX0_open_0 10 rfl rfl)
theorem dX0_open_11 : decode cX0_open 11 = .ok (.invokestatic 167, 3) := dk_184 0 167 (dk_at dksX0_open_0 11 rfl rfl)
theorem dX0_open_14 : decode cX0_open 14 = .ok (.ifCond .ne 5, 3) := dk_154 0 5 (dk_at dksX0_open_0 14 rfl rfl)
theorem dX0_open_17 : decode cX0_open 17 = .ok (.iconst (-1), 1) := dk_2 (dk_at dksX0_open_0 17 rfl rfl)
theorem dX0_open_18 : decode cX0_open 18 = .ok (.ireturn, 1) := dk_172 (dk_at dksX0_open_0 18 rfl rfl)
theorem dX0_open_19 : decode cX0_open 19 = .ok (.aload_n 0, 1) := dk_42 (dk_at dksX0_open_0 19 rfl rfl)
theorem dX0_open_20 : decode cX0_open 20 = .ok (.getfield 22, 3) := dk_180 0 22 (dk_at dksX0_open_0 20 rfl rfl)
theorem dX0_open_23 : decode cX0_open 23 = .ok (.iload_n 1, 1) := dk_27 (dk_at dksX0_open_0 23 rfl rfl)
theorem dX0_open_24 : decode cX0_open 24 = .ok (.invokestatic 180, 3) := dk_184 0 180 (dk_at dksX0_open_1 0 rfl rfl)
theorem dX0_open_27 : decode cX0_open 27 = .ok (.baload, 1) := dk_51 (dk_at dksX0_open_1 3 rfl rfl)
theorem dX0_open_28 : decode cX0_open 28 = .ok (.istore_n 3, 1) := dk_62 (dk_at dksX0_open_1 4 rfl rfl)
theorem dX0_open_29 : decode cX0_open 29 = .ok (.aload_n 0, 1) := dk_42 (dk_at dksX0_open_1 5 rfl rfl)
theorem dX0_open_30 : decode cX0_open 30 = .ok (.getfield 22, 3) := dk_180 0 22 (dk_at dksX0_open_1 6 rfl rfl)
theorem dX0_open_33 : decode cX0_open 33 = .ok (.iload_n 1, 1) := dk_27 (dk_at dksX0_open_1 9 rfl rfl)
theorem dX0_open_34 : decode cX0_open 34 = .ok (.invokestatic 180, 3) := dk_184 0 180 (dk_at dksX0_open_1 10 rfl rfl)
theorem dX0_open_37 : decode cX0_open 37 = .ok (.iload_n 2, 1) := dk_28 (dk_at dksX0_open_1 13 rfl rfl)
theorem dX0_open_38 : decode cX0_open 38 = .ok (.iconst 1, 1) := dk_4 (dk_at dksX0_open_1 14 rfl rfl)
theorem dX0_open_39 : decode cX0_open 39 = .ok (.if_icmp .ne 7, 3) := dk_160 0 7 (dk_at dksX0_open_1 15 rfl rfl)
theorem dX0_open_42 : decode cX0_open 42 = .ok (.iconst 1, 1) := dk_4 (dk_at dksX0_open_1 18 rfl rfl)
theorem dX0_open_43 : decode cX0_open 43 = .ok (.goto 4, 3) := dk_167 0 4 (dk_at dksX0_open_1 19 rfl rfl)
theorem dX0_open_46 : decode cX0_open 46 = .ok (.iconst 0, 1) := dk_3 (dk_at dksX0_open_1 22 rfl rfl)
theorem dX0_open_47 : decode cX0_open 47 = .ok (.bastore, 1) := dk_84 (dk_at dksX0_open_1 23 rfl rfl)
theorem dX0_open_48 : decode cX0_open 48 = .ok (.iload_n 3, 1) := dk_29 (dk_at dksX0_open_2 0 rfl rfl)
theorem dX0_open_49 : decode cX0_open 49 = .ok (.ifCond .eq 7, 3) := dk_153 0 7 (dk_at dksX0_open_2 1 rfl rfl)
theorem dX0_open_52 : decode cX0_open 52 = .ok (.iconst 1, 1) := dk_4 (dk_at dksX0_open_2 4 rfl rfl)
theorem dX0_open_53 : decode cX0_open 53 = .ok (.goto 4, 3) := dk_167 0 4 (dk_at dksX0_open_2 5 rfl rfl)
theorem dX0_open_56 : decode cX0_open 56 = .ok (.iconst 0, 1) := dk_3 (dk_at dksX0_open_2 8 rfl rfl)
theorem dX0_open_57 : decode cX0_open 57 = .ok (.ireturn, 1) := dk_172 (dk_at dksX0_open_2 9 rfl rfl)
abbrev cX0_ofCell : ByteArray := prog_1_method_9_code
def yX0_ofCell : MethodName := ⟨RX0, "ofCell", "(II)I"⟩
def dkwX0_ofCell_2 : List UInt8 := [167, 0, 4, 3, 172]
abbrev dktX0_ofCell_2 : List UInt8 := dkwX0_ofCell_2 ++ []
def dkwX0_ofCell_1 : List UInt8 := [180, 0, 18, 27, 184, 0, 180, 46, 167, 0, 20, 42, 180, 0, 22, 27, 184, 0, 180, 51, 153, 0, 7, 4]
abbrev dktX0_ofCell_1 : List UInt8 := dkwX0_ofCell_1 ++ dktX0_ofCell_2
def dkwX0_ofCell_0 : List UInt8 := [27, 184, 0, 174, 153, 0, 13, 28, 133, 9, 10, 184, 0, 167, 154, 0, 5, 2, 172, 28, 154, 0, 15, 42]
abbrev dktX0_ofCell_0 : List UInt8 := dkwX0_ofCell_0 ++ dktX0_ofCell_1
theorem dksX0_ofCell_0 : cX0_ofCell.data.toList.drop 0 = dktX0_ofCell_0 := by decide +kernel
theorem dksX0_ofCell_1 : cX0_ofCell.data.toList.drop 24 = dktX0_ofCell_1 := dk_seg dksX0_ofCell_0 24 rfl rfl
theorem dksX0_ofCell_2 : cX0_ofCell.data.toList.drop 48 = dktX0_ofCell_2 := dk_seg dksX0_ofCell_1 24 rfl rfl
theorem dX0_ofCell_0 : decode cX0_ofCell 0 = .ok (.iload_n 1, 1) := dk_27 (dk_at dksX0_ofCell_0 0 rfl rfl)
theorem dX0_ofCell_1 : decode cX0_ofCell 1 = .ok (.invokestatic 174, 3) := dk_184 0 174 (dk_at dksX0_ofCell_0 1 rfl rfl)
theorem dX0_ofCell_4 : decode cX0_ofCell 4 = .ok (.ifCond .eq 13, 3) := dk_153 0 13 (dk_at dksX0_ofCell_0 4 rfl rfl)
theorem dX0_ofCell_7 : decode cX0_ofCell 7 = .ok (.iload_n 2, 1) := dk_28 (dk_at dksX0_ofCell_0 7 rfl rfl)
theorem dX0_ofCell_8 : decode cX0_ofCell 8 = .ok (.i2l, 1) := dk_133 (dk_at dksX0_ofCell_0 8 rfl rfl)
theorem dX0_ofCell_9 : decode cX0_ofCell 9 = .ok (.lconst 0, 1) := dk_9 (dk_at dksX0_ofCell_0 9 rfl rfl)
theorem dX0_ofCell_10 : decode cX0_ofCell 10 = .ok (.lconst 1, 1) := dk_10 (dk_at dksX0_ofCell_0 10 rfl rfl)
theorem dX0_ofCell_11 : decode cX0_ofCell 11 = .ok (.invokestatic 167, 3) := dk_184 0 167 (dk_at dksX0_ofCell_0 11 rfl rfl)
theorem dX0_ofCell_14 : decode cX0_ofCell 14 = .ok (.ifCond .ne 5, 3) := dk_154 0 5 (dk_at dksX0_ofCell_0 14 rfl rfl)
theorem dX0_ofCell_17 : decode cX0_ofCell 17 = .ok (.iconst (-1), 1) := dk_2 (dk_at dksX0_ofCell_0 17 rfl rfl)
theorem dX0_ofCell_18 : decode cX0_ofCell 18 = .ok (.ireturn, 1) := dk_172 (dk_at dksX0_ofCell_0 18 rfl rfl)
theorem dX0_ofCell_19 : decode cX0_ofCell 19 = .ok (.iload_n 2, 1) := dk_28 (dk_at dksX0_ofCell_0 19 rfl rfl)
theorem dX0_ofCell_20 : decode cX0_ofCell 20 = .ok (.ifCond .ne 15, 3) := dk_154 0 15 (dk_at dksX0_ofCell_0 20 rfl rfl)
theorem dX0_ofCell_23 : decode cX0_ofCell 23 = .ok (.aload_n 0, 1) := dk_42 (dk_at dksX0_ofCell_0 23 rfl rfl)
theorem dX0_ofCell_24 : decode cX0_ofCell 24 = .ok (.getfield 18, 3) := dk_180 0 18 (dk_at dksX0_ofCell_1 0 rfl rfl)
theorem dX0_ofCell_27 : decode cX0_ofCell 27 = .ok (.iload_n 1, 1) := dk_27 (dk_at dksX0_ofCell_1 3 rfl rfl)
theorem dX0_ofCell_28 : decode cX0_ofCell 28 = .ok (.invokestatic 180, 3) := dk_184 0 180 (dk_at dksX0_ofCell_1 4 rfl rfl)
theorem dX0_ofCell_31 : decode cX0_ofCell 31 = .ok (.iaload, 1) := dk_46 (dk_at dksX0_ofCell_1 7 rfl rfl)
theorem dX0_ofCell_32 : decode cX0_ofCell 32 = .ok (.goto 20, 3) := dk_167 0 20 (dk_at dksX0_ofCell_1 8 rfl rfl)
theorem dX0_ofCell_35 : decode cX0_ofCell 35 = .ok (.aload_n 0, 1) := dk_42 (dk_at dksX0_ofCell_1 11 rfl rfl)
theorem dX0_ofCell_36 : decode cX0_ofCell 36 = .ok (.getfield 22, 3) := dk_180 0 22 (dk_at dksX0_ofCell_1 12 rfl rfl)
theorem dX0_ofCell_39 : decode cX0_ofCell 39 = .ok (.iload_n 1, 1) := dk_27 (dk_at dksX0_ofCell_1 15 rfl rfl)
theorem dX0_ofCell_40 : decode cX0_ofCell 40 = .ok (.invokestatic 180, 3) := dk_184 0 180 (dk_at dksX0_ofCell_1 16 rfl rfl)
theorem dX0_ofCell_43 : decode cX0_ofCell 43 = .ok (.baload, 1) := dk_51 (dk_at dksX0_ofCell_1 19 rfl rfl)
theorem dX0_ofCell_44 : decode cX0_ofCell 44 = .ok (.ifCond .eq 7, 3) := dk_153 0 7 (dk_at dksX0_ofCell_1 20 rfl rfl)
theorem dX0_ofCell_47 : decode cX0_ofCell 47 = .ok (.iconst 1, 1) := dk_4 (dk_at dksX0_ofCell_1 23 rfl rfl)
theorem dX0_ofCell_48 : decode cX0_ofCell 48 = .ok (.goto 4, 3) := dk_167 0 4 (dk_at dksX0_ofCell_2 0 rfl rfl)
theorem dX0_ofCell_51 : decode cX0_ofCell 51 = .ok (.iconst 0, 1) := dk_3 (dk_at dksX0_ofCell_2 3 rfl rfl)
theorem dX0_ofCell_52 : decode cX0_ofCell 52 = .ok (.ireturn, 1) := dk_172 (dk_at dksX0_ofCell_2 4 rfl rfl)
abbrev cX0_body : ByteArray := prog_1_method_16_code
def yX0_body : MethodName := ⟨RX0, "body", "(I)I"⟩
def dkwX0_body_2 : List UInt8 := [187, 0, 218, 89, 42, 42, 180, 0, 184, 183, 0, 220, 182, 0, 221, 172]
abbrev dktX0_body_2 : List UInt8 := dkwX0_body_2 ++ []
def dkwX0_body_1 : List UInt8 := [167, 0, 38, 42, 27, 154, 0, 18, 187, 0, 26, 89, 42, 42, 180, 0, 184, 183, 0, 215, 167, 0, 15]
abbrev dktX0_body_1 : List UInt8 := dkwX0_body_1 ++ dktX0_body_2
def dkwX0_body_0 : List UInt8 := [27, 133, 9, 10, 184, 0, 167, 154, 0, 5, 2, 172, 42, 180, 0, 184, 16, 120, 160, 0, 8, 16, 253]
abbrev dktX0_body_0 : List UInt8 := dkwX0_body_0 ++ dktX0_body_1
theorem dksX0_body_0 : cX0_body.data.toList.drop 0 = dktX0_body_0 := by decide +kernel
theorem dksX0_body_1 : cX0_body.data.toList.drop 23 = dktX0_body_1 := dk_seg dksX0_body_0 23 rfl rfl
theorem dksX0_body_2 : cX0_body.data.toList.drop 46 = dktX0_body_2 := dk_seg dksX0_body_1 23 rfl rfl
theorem dX0_body_0 : decode cX0_body 0 = .ok (.iload_n 1, 1) := dk_27 (dk_at dksX0_body_0 0 rfl rfl)
theorem dX0_body_1 : decode cX0_body 1 = .ok (.i2l, 1) := dk_133 (dk_at dksX0_body_0 1 rfl rfl)
theorem dX0_body_2 : decode cX0_body 2 = .ok (.lconst 0, 1) := dk_9 (dk_at dksX0_body_0 2 rfl rfl)
theorem dX0_body_3 : decode cX0_body 3 = .ok (.lconst 1, 1) := dk_10 (dk_at dksX0_body_0 3 rfl rfl)
theorem dX0_body_4 : decode cX0_body 4 = .ok (.invokestatic 167, 3) := dk_184 0 167 (dk_at dksX0_body_0 4 rfl rfl)
theorem dX0_body_7 : decode cX0_body 7 = .ok (.ifCond .ne 5, 3) := dk_154 0 5 (dk_at dksX0_body_0 7 rfl rfl)
theorem dX0_body_10 : decode cX0_body 10 = .ok (.iconst (-1), 1) := dk_2 (dk_at dksX0_body_0 10 rfl rfl)
theorem dX0_body_11 : decode cX0_body 11 = .ok (.ireturn, 1) := dk_172 (dk_at dksX0_body_0 11 rfl rfl)
theorem dX0_body_12 : decode cX0_body 12 = .ok (.aload_n 0, 1) := dk_42 (dk_at dksX0_body_0 12 rfl rfl)
theorem dX0_body_13 : decode cX0_body 13 = .ok (.getfield 184, 3) := dk_180 0 184 (dk_at dksX0_body_0 13 rfl rfl)
theorem dX0_body_16 : decode cX0_body 16 = .ok (.bipush 120, 2) := dk_16 120 (dk_at dksX0_body_0 16 rfl rfl)
theorem dX0_body_18 : decode cX0_body 18 = .ok (.if_icmp .ne 8, 3) := dk_160 0 8 (dk_at dksX0_body_0 18 rfl rfl)
theorem dX0_body_21 : decode cX0_body 21 = .ok (.bipush (-3), 2) := dk_16 253 (dk_at dksX0_body_0 21 rfl rfl)
theorem dX0_body_23 : decode cX0_body 23 = .ok (.goto 38, 3) := dk_167 0 38 (dk_at dksX0_body_1 0 rfl rfl)
theorem dX0_body_26 : decode cX0_body 26 = .ok (.aload_n 0, 1) := dk_42 (dk_at dksX0_body_1 3 rfl rfl)
theorem dX0_body_27 : decode cX0_body 27 = .ok (.iload_n 1, 1) := dk_27 (dk_at dksX0_body_1 4 rfl rfl)
theorem dX0_body_28 : decode cX0_body 28 = .ok (.ifCond .ne 18, 3) := dk_154 0 18 (dk_at dksX0_body_1 5 rfl rfl)
theorem dX0_body_31 : decode cX0_body 31 = .ok (.new 26, 3) := dk_187 0 26 (dk_at dksX0_body_1 8 rfl rfl)
theorem dX0_body_34 : decode cX0_body 34 = .ok (.dup, 1) := dk_89 (dk_at dksX0_body_1 11 rfl rfl)
theorem dX0_body_35 : decode cX0_body 35 = .ok (.aload_n 0, 1) := dk_42 (dk_at dksX0_body_1 12 rfl rfl)
theorem dX0_body_36 : decode cX0_body 36 = .ok (.aload_n 0, 1) := dk_42 (dk_at dksX0_body_1 13 rfl rfl)
theorem dX0_body_37 : decode cX0_body 37 = .ok (.getfield 184, 3) := dk_180 0 184 (dk_at dksX0_body_1 14 rfl rfl)
theorem dX0_body_40 : decode cX0_body 40 = .ok (.invokespecial 215, 3) := dk_183 0 215 (dk_at dksX0_body_1 17 rfl rfl)
theorem dX0_body_43 : decode cX0_body 43 = .ok (.goto 15, 3) := dk_167 0 15 (dk_at dksX0_body_1 20 rfl rfl)
theorem dX0_body_46 : decode cX0_body 46 = .ok (.new 218, 3) := dk_187 0 218 (dk_at dksX0_body_2 0 rfl rfl)
theorem dX0_body_49 : decode cX0_body 49 = .ok (.dup, 1) := dk_89 (dk_at dksX0_body_2 3 rfl rfl)
theorem dX0_body_50 : decode cX0_body 50 = .ok (.aload_n 0, 1) := dk_42 (dk_at dksX0_body_2 4 rfl rfl)
theorem dX0_body_51 : decode cX0_body 51 = .ok (.aload_n 0, 1) := dk_42 (dk_at dksX0_body_2 5 rfl rfl)
theorem dX0_body_52 : decode cX0_body 52 = .ok (.getfield 184, 3) := dk_180 0 184 (dk_at dksX0_body_2 6 rfl rfl)
theorem dX0_body_55 : decode cX0_body 55 = .ok (.invokespecial 220, 3) := dk_183 0 220 (dk_at dksX0_body_2 9 rfl rfl)
theorem dX0_body_58 : decode cX0_body 58 = .ok (.invokevirtual 221, 3) := dk_182 0 221 (dk_at dksX0_body_2 12 rfl rfl)
theorem dX0_body_61 : decode cX0_body 61 = .ok (.ireturn, 1) := dk_172 (dk_at dksX0_body_2 15 rfl rfl)
abbrev cX0_add : ByteArray := prog_1_method_15_code
def yX0_add : MethodName := ⟨RX0, "add", "(LThirtyThreeBelow$Body;)I"⟩
def dkwX0_add_0 : List UInt8 := [42, 180, 0, 28, 42, 180, 0, 184, 43, 83, 42, 89, 180, 0, 184, 90, 4, 96, 181, 0, 184, 172]
abbrev dktX0_add_0 : List UInt8 := dkwX0_add_0 ++ []
theorem dksX0_add_0 : cX0_add.data.toList.drop 0 = dktX0_add_0 := by decide +kernel
theorem dX0_add_0 : decode cX0_add 0 = .ok (.aload_n 0, 1) := dk_42 (dk_at dksX0_add_0 0 rfl rfl)
theorem dX0_add_1 : decode cX0_add 1 = .ok (.getfield 28, 3) := dk_180 0 28 (dk_at dksX0_add_0 1 rfl rfl)
theorem dX0_add_4 : decode cX0_add 4 = .ok (.aload_n 0, 1) := dk_42 (dk_at dksX0_add_0 4 rfl rfl)
theorem dX0_add_5 : decode cX0_add 5 = .ok (.getfield 184, 3) := dk_180 0 184 (dk_at dksX0_add_0 5 rfl rfl)
theorem dX0_add_8 : decode cX0_add 8 = .ok (.aload_n 1, 1) := dk_43 (dk_at dksX0_add_0 8 rfl rfl)
theorem dX0_add_9 : decode cX0_add 9 = .ok (.aastore, 1) := dk_83 (dk_at dksX0_add_0 9 rfl rfl)
theorem dX0_add_10 : decode cX0_add 10 = .ok (.aload_n 0, 1) := dk_42 (dk_at dksX0_add_0 10 rfl rfl)
theorem dX0_add_11 : decode cX0_add 11 = .ok (.dup, 1) := dk_89 (dk_at dksX0_add_0 11 rfl rfl)
theorem dX0_add_12 : decode cX0_add 12 = .ok (.getfield 184, 3) := dk_180 0 184 (dk_at dksX0_add_0 12 rfl rfl)
theorem dX0_add_15 : decode cX0_add 15 = .ok (.dup_x1, 1) := dk_90 (dk_at dksX0_add_0 15 rfl rfl)
theorem dX0_add_16 : decode cX0_add 16 = .ok (.iconst 1, 1) := dk_4 (dk_at dksX0_add_0 16 rfl rfl)
theorem dX0_add_17 : decode cX0_add 17 = .ok (.iadd, 1) := dk_96 (dk_at dksX0_add_0 17 rfl rfl)
theorem dX0_add_18 : decode cX0_add 18 = .ok (.putfield 184, 3) := dk_181 0 184 (dk_at dksX0_add_0 18 rfl rfl)
theorem dX0_add_21 : decode cX0_add 21 = .ok (.ireturn, 1) := dk_172 (dk_at dksX0_add_0 21 rfl rfl)
abbrev cX0_hole : ByteArray := prog_1_method_17_code
def yX0_hole : MethodName := ⟨RX0, "hole", "(II)I"⟩
def dkwX0_hole_6 : List UInt8 := [183, 0, 240, 182, 0, 221, 172]
abbrev dktX0_hole_6 : List UInt8 := dkwX0_hole_6 ++ []
def dkwX0_hole_5 : List UInt8 := [180, 0, 184, 29, 21, 4, 183, 0, 237, 167, 0, 18, 187, 0, 238, 89, 42, 42, 180, 0, 184, 29, 21, 4]
abbrev dktX0_hole_5 : List UInt8 := dkwX0_hole_5 ++ dktX0_hole_6
def dkwX0_hole_4 : List UInt8 := [180, 0, 184, 29, 21, 4, 183, 0, 234, 167, 0, 41, 27, 7, 160, 0, 21, 187, 0, 235, 89, 42, 42]
abbrev dktX0_hole_4 : List UInt8 := dkwX0_hole_4 ++ dktX0_hole_5
def dkwX0_hole_3 : List UInt8 := [180, 0, 184, 29, 21, 4, 183, 0, 229, 167, 0, 64, 27, 6, 160, 0, 21, 187, 0, 232, 89, 42, 42]
abbrev dktX0_hole_3 : List UInt8 := dkwX0_hole_3 ++ dktX0_hole_4
def dkwX0_hole_2 : List UInt8 := [28, 16, 100, 108, 62, 28, 16, 100, 112, 54, 4, 42, 27, 5, 160, 0, 21, 187, 0, 38, 89, 42, 42]
abbrev dktX0_hole_2 : List UInt8 := dkwX0_hole_2 ++ dktX0_hole_3
def dkwX0_hole_1 : List UInt8 := [162, 0, 10, 28, 16, 100, 112, 154, 0, 5, 2, 172, 42, 180, 0, 184, 16, 120, 160, 0, 6, 16, 253, 172]
abbrev dktX0_hole_1 : List UInt8 := dkwX0_hole_1 ++ dktX0_hole_2
def dkwX0_hole_0 : List UInt8 := [27, 133, 20, 0, 225, 20, 0, 227, 184, 0, 167, 153, 0, 23, 28, 155, 0, 19, 28, 16, 100, 108, 16, 32]
abbrev dktX0_hole_0 : List UInt8 := dkwX0_hole_0 ++ dktX0_hole_1
theorem dksX0_hole_0 : cX0_hole.data.toList.drop 0 = dktX0_hole_0 := by decide +kernel
theorem dksX0_hole_1 : cX0_hole.data.toList.drop 24 = dktX0_hole_1 := dk_seg dksX0_hole_0 24 rfl rfl
theorem dksX0_hole_2 : cX0_hole.data.toList.drop 48 = dktX0_hole_2 := dk_seg dksX0_hole_1 24 rfl rfl
theorem dksX0_hole_3 : cX0_hole.data.toList.drop 71 = dktX0_hole_3 := dk_seg dksX0_hole_2 23 rfl rfl
theorem dksX0_hole_4 : cX0_hole.data.toList.drop 94 = dktX0_hole_4 := dk_seg dksX0_hole_3 23 rfl rfl
theorem dksX0_hole_5 : cX0_hole.data.toList.drop 117 = dktX0_hole_5 := dk_seg dksX0_hole_4 23 rfl rfl
theorem dksX0_hole_6 : cX0_hole.data.toList.drop 141 = dktX0_hole_6 := dk_seg dksX0_hole_5 24 rfl rfl
theorem dX0_hole_0 : decode cX0_hole 0 = .ok (.iload_n 1, 1) := dk_27 (dk_at dksX0_hole_0 0 rfl rfl)
theorem dX0_hole_1 : decode cX0_hole 1 = .ok (.i2l, 1) := dk_133 (dk_at dksX0_hole_0 1 rfl rfl)
theorem dX0_hole_2 : decode cX0_hole 2 = .ok (.ldc2_w 225, 3) := dk_20 0 225 (dk_at dksX0_hole_0 2 rfl rfl)
theorem dX0_hole_5 : decode cX0_hole 5 = .ok (.ldc2_w 227, 3) := dk_20 0 227 (dk_at dksX0_hole_0 5 rfl rfl)
theorem dX0_hole_8 : decode cX0_hole 8 = .ok (.invokestatic 167, 3) := dk_184 0 167 (dk_at dksX0_hole_0 8 rfl rfl)
theorem dX0_hole_11 : decode cX0_hole 11 = .ok (.ifCond .eq 23, 3) := dk_153 0 23 (dk_at dksX0_hole_0 11 rfl rfl)
theorem dX0_hole_14 : decode cX0_hole 14 = .ok (.iload_n 2, 1) := dk_28 (dk_at dksX0_hole_0 14 rfl rfl)
theorem dX0_hole_15 : decode cX0_hole 15 = .ok (.ifCond .lt 19, 3) := dk_155 0 19 (dk_at dksX0_hole_0 15 rfl rfl)
theorem dX0_hole_18 : decode cX0_hole 18 = .ok (.iload_n 2, 1) := dk_28 (dk_at dksX0_hole_0 18 rfl rfl)
theorem dX0_hole_19 : decode cX0_hole 19 = .ok (.bipush 100, 2) := dk_16 100 (dk_at dksX0_hole_0 19 rfl rfl)
theorem dX0_hole_21 : decode cX0_hole 21 = .ok (.idiv, 1) := dk_108 (dk_at dksX0_hole_0 21 rfl rfl)
theorem dX0_hole_22 : decode cX0_hole 22 = .ok (.bipush 32, 2) := dk_16 32 (dk_at dksX0_hole_0 22 rfl rfl)
theorem dX0_hole_24 : decode cX0_hole 24 = .ok (.if_icmp .ge 10, 3) := dk_162 0 10 (dk_at dksX0_hole_1 0 rfl rfl)
theorem dX0_hole_27 : decode cX0_hole 27 = .ok (.iload_n 2, 1) := dk_28 (dk_at dksX0_hole_1 3 rfl rfl)
theorem dX0_hole_28 : decode cX0_hole 28 = .ok (.bipush 100, 2) := dk_16 100 (dk_at dksX0_hole_1 4 rfl rfl)
theorem dX0_hole_30 : decode cX0_hole 30 = .ok (.irem, 1) := dk_112 (dk_at dksX0_hole_1 6 rfl rfl)
theorem dX0_hole_31 : decode cX0_hole 31 = .ok (.ifCond .ne 5, 3) := dk_154 0 5 (dk_at dksX0_hole_1 7 rfl rfl)
theorem dX0_hole_34 : decode cX0_hole 34 = .ok (.iconst (-1), 1) := dk_2 (dk_at dksX0_hole_1 10 rfl rfl)
theorem dX0_hole_35 : decode cX0_hole 35 = .ok (.ireturn, 1) := dk_172 (dk_at dksX0_hole_1 11 rfl rfl)
theorem dX0_hole_36 : decode cX0_hole 36 = .ok (.aload_n 0, 1) := dk_42 (dk_at dksX0_hole_1 12 rfl rfl)
theorem dX0_hole_37 : decode cX0_hole 37 = .ok (.getfield 184, 3) := dk_180 0 184 (dk_at dksX0_hole_1 13 rfl rfl)
theorem dX0_hole_40 : decode cX0_hole 40 = .ok (.bipush 120, 2) := dk_16 120 (dk_at dksX0_hole_1 16 rfl rfl)
theorem dX0_hole_42 : decode cX0_hole 42 = .ok (.if_icmp .ne 6, 3) := dk_160 0 6 (dk_at dksX0_hole_1 18 rfl rfl)
theorem dX0_hole_45 : decode cX0_hole 45 = .ok (.bipush (-3), 2) := dk_16 253 (dk_at dksX0_hole_1 21 rfl rfl)
theorem dX0_hole_47 : decode cX0_hole 47 = .ok (.ireturn, 1) := dk_172 (dk_at dksX0_hole_1 23 rfl rfl)
theorem dX0_hole_48 : decode cX0_hole 48 = .ok (.iload_n 2, 1) := dk_28 (dk_at dksX0_hole_2 0 rfl rfl)
theorem dX0_hole_49 : decode cX0_hole 49 = .ok (.bipush 100, 2) := dk_16 100 (dk_at dksX0_hole_2 1 rfl rfl)
theorem dX0_hole_51 : decode cX0_hole 51 = .ok (.idiv, 1) := dk_108 (dk_at dksX0_hole_2 3 rfl rfl)
theorem dX0_hole_52 : decode cX0_hole 52 = .ok (.istore_n 3, 1) := dk_62 (dk_at dksX0_hole_2 4 rfl rfl)
theorem dX0_hole_53 : decode cX0_hole 53 = .ok (.iload_n 2, 1) := dk_28 (dk_at dksX0_hole_2 5 rfl rfl)
theorem dX0_hole_54 : decode cX0_hole 54 = .ok (.bipush 100, 2) := dk_16 100 (dk_at dksX0_hole_2 6 rfl rfl)
theorem dX0_hole_56 : decode cX0_hole 56 = .ok (.irem, 1) := dk_112 (dk_at dksX0_hole_2 8 rfl rfl)
theorem dX0_hole_57 : decode cX0_hole 57 = .ok (.istore 4, 2) := dk_54 4 (dk_at dksX0_hole_2 9 rfl rfl)
theorem dX0_hole_59 : decode cX0_hole 59 = .ok (.aload_n 0, 1) := dk_42 (dk_at dksX0_hole_2 11 rfl rfl)
theorem dX0_hole_60 : decode cX0_hole 60 = .ok (.iload_n 1, 1) := dk_27 (dk_at dksX0_hole_2 12 rfl rfl)
theorem dX0_hole_61 : decode cX0_hole 61 = .ok (.iconst 2, 1) := dk_5 (dk_at dksX0_hole_2 13 rfl rfl)
theorem dX0_hole_62 : decode cX0_hole 62 = .ok (.if_icmp .ne 21, 3) := dk_160 0 21 (dk_at dksX0_hole_2 14 rfl rfl)
theorem dX0_hole_65 : decode cX0_hole 65 = .ok (.new 38, 3) := dk_187 0 38 (dk_at dksX0_hole_2 17 rfl rfl)
theorem dX0_hole_68 : decode cX0_hole 68 = .ok (.dup, 1) := dk_89 (dk_at dksX0_hole_2 20 rfl rfl)
theorem dX0_hole_69 : decode cX0_hole 69 = .ok (.aload_n 0, 1) := dk_42 (dk_at dksX0_hole_2 21 rfl rfl)
theorem dX0_hole_70 : decode cX0_hole 70 = .ok (.aload_n 0, 1) := dk_42 (dk_at dksX0_hole_2 22 rfl rfl)
theorem dX0_hole_71 : decode cX0_hole 71 = .ok (.getfield 184, 3) := dk_180 0 184 (dk_at dksX0_hole_3 0 rfl rfl)
theorem dX0_hole_74 : decode cX0_hole 74 = .ok (.iload_n 3, 1) := dk_29 (dk_at dksX0_hole_3 3 rfl rfl)
theorem dX0_hole_75 : decode cX0_hole 75 = .ok (.iload 4, 2) := dk_21 4 (dk_at dksX0_hole_3 4 rfl rfl)
theorem dX0_hole_77 : decode cX0_hole 77 = .ok (.invokespecial 229, 3) := dk_183 0 229 (dk_at dksX0_hole_3 6 rfl rfl)
theorem dX0_hole_80 : decode cX0_hole 80 = .ok (.goto 64, 3) := dk_167 0 64 (dk_at dksX0_hole_3 9 rfl rfl)
theorem dX0_hole_83 : decode cX0_hole 83 = .ok (.iload_n 1, 1) := dk_27 (dk_at dksX0_hole_3 12 rfl rfl)
theorem dX0_hole_84 : decode cX0_hole 84 = .ok (.iconst 3, 1) := dk_6 (dk_at dksX0_hole_3 13 rfl rfl)
theorem dX0_hole_85 : decode cX0_hole 85 = .ok (.if_icmp .ne 21, 3) := dk_160 0 21 (dk_at dksX0_hole_3 14 rfl rfl)
theorem dX0_hole_88 : decode cX0_hole 88 = .ok (.new 232, 3) := dk_187 0 232 (dk_at dksX0_hole_3 17 rfl rfl)
theorem dX0_hole_91 : decode cX0_hole 91 = .ok (.dup, 1) := dk_89 (dk_at dksX0_hole_3 20 rfl rfl)
theorem dX0_hole_92 : decode cX0_hole 92 = .ok (.aload_n 0, 1) := dk_42 (dk_at dksX0_hole_3 21 rfl rfl)
theorem dX0_hole_93 : decode cX0_hole 93 = .ok (.aload_n 0, 1) := dk_42 (dk_at dksX0_hole_3 22 rfl rfl)
theorem dX0_hole_94 : decode cX0_hole 94 = .ok (.getfield 184, 3) := dk_180 0 184 (dk_at dksX0_hole_4 0 rfl rfl)
theorem dX0_hole_97 : decode cX0_hole 97 = .ok (.iload_n 3, 1) := dk_29 (dk_at dksX0_hole_4 3 rfl rfl)
theorem dX0_hole_98 : decode cX0_hole 98 = .ok (.iload 4, 2) := dk_21 4 (dk_at dksX0_hole_4 4 rfl rfl)
theorem dX0_hole_100 : decode cX0_hole 100 = .ok (.invokespecial 234, 3) := dk_183 0 234 (dk_at dksX0_hole_4 6 rfl rfl)
theorem dX0_hole_103 : decode cX0_hole 103 = .ok (.goto 41, 3) := dk_167 0 41 (dk_at dksX0_hole_4 9 rfl rfl)
theorem dX0_hole_106 : decode cX0_hole 106 = .ok (.iload_n 1, 1) := dk_27 (dk_at dksX0_hole_4 12 rfl rfl)
theorem dX0_hole_107 : decode cX0_hole 107 = .ok (.iconst 4, 1) := dk_7 (dk_at dksX0_hole_4 13 rfl rfl)
theorem dX0_hole_108 : decode cX0_hole 108 = .ok (.if_icmp .ne 21, 3) := dk_160 0 21 (dk_at dksX0_hole_4 14 rfl rfl)
theorem dX0_hole_111 : decode cX0_hole 111 = .ok (.new 235, 3) := dk_187 0 235 (dk_at dksX0_hole_4 17 rfl rfl)
theorem dX0_hole_114 : decode cX0_hole 114 = .ok (.dup, 1) := dk_89 (dk_at dksX0_hole_4 20 rfl rfl)
theorem dX0_hole_115 : decode cX0_hole 115 = .ok (.aload_n 0, 1) := dk_42 (dk_at dksX0_hole_4 21 rfl rfl)
theorem dX0_hole_116 : decode cX0_hole 116 = .ok (.aload_n 0, 1) := dk_42 (dk_at dksX0_hole_4 22 rfl rfl)
theorem dX0_hole_117 : decode cX0_hole 117 = .ok (.getfield 184, 3) := dk_180 0 184 (dk_at dksX0_hole_5 0 rfl rfl)
theorem dX0_hole_120 : decode cX0_hole 120 = .ok (.iload_n 3, 1) := dk_29 (dk_at dksX0_hole_5 3 rfl rfl)
theorem dX0_hole_121 : decode cX0_hole 121 = .ok (.iload 4, 2) := dk_21 4 (dk_at dksX0_hole_5 4 rfl rfl)
theorem dX0_hole_123 : decode cX0_hole 123 = .ok (.invokespecial 237, 3) := dk_183 0 237 (dk_at dksX0_hole_5 6 rfl rfl)
theorem dX0_hole_126 : decode cX0_hole 126 = .ok (.goto 18, 3) := dk_167 0 18 (dk_at dksX0_hole_5 9 rfl rfl)
theorem dX0_hole_129 : decode cX0_hole 129 = .ok (.new 238, 3) := dk_187 0 238 (dk_at dksX0_hole_5 12 rfl rfl)
theorem dX0_hole_132 : decode cX0_hole 132 = .ok (.dup, 1) := dk_89 (dk_at dksX0_hole_5 15 rfl rfl)
theorem dX0_hole_133 : decode cX0_hole 133 = .ok (.aload_n 0, 1) := dk_42 (dk_at dksX0_hole_5 16 rfl rfl)
theorem dX0_hole_134 : decode cX0_hole 134 = .ok (.aload_n 0, 1) := dk_42 (dk_at dksX0_hole_5 17 rfl rfl)
theorem dX0_hole_135 : decode cX0_hole 135 = .ok (.getfield 184, 3) := dk_180 0 184 (dk_at dksX0_hole_5 18 rfl rfl)
theorem dX0_hole_138 : decode cX0_hole 138 = .ok (.iload_n 3, 1) := dk_29 (dk_at dksX0_hole_5 21 rfl rfl)
theorem dX0_hole_139 : decode cX0_hole 139 = .ok (.iload 4, 2) := dk_21 4 (dk_at dksX0_hole_5 22 rfl rfl)
theorem dX0_hole_141 : decode cX0_hole 141 = .ok (.invokespecial 240, 3) := dk_183 0 240 (dk_at dksX0_hole_6 0 rfl rfl)
theorem dX0_hole_144 : decode cX0_hole 144 = .ok (.invokevirtual 221, 3) := dk_182 0 221 (dk_at dksX0_hole_6 3 rfl rfl)
theorem dX0_hole_147 : decode cX0_hole 147 = .ok (.ireturn, 1) := dk_172 (dk_at dksX0_hole_6 6 rfl rfl)
abbrev cX0_shelter : ByteArray := prog_1_method_19_code
def yX0_shelter : MethodName := ⟨RX0, "shelter", "(II)I"⟩
def dkwX0_shelter_3 : List UInt8 := [42, 42, 180, 0, 200, 182, 0, 221, 172]
abbrev dktX0_shelter_3 : List UInt8 := dkwX0_shelter_3 ++ []
def dkwX0_shelter_2 : List UInt8 := [187, 0, 205, 89, 42, 42, 180, 0, 184, 27, 16, 100, 108, 27, 16, 100, 112, 28, 183, 0, 244, 181, 0, 200]
abbrev dktX0_shelter_2 : List UInt8 := dkwX0_shelter_2 ++ dktX0_shelter_3
def dkwX0_shelter_1 : List UInt8 := [180, 0, 200, 198, 0, 6, 16, 254, 172, 42, 180, 0, 184, 16, 120, 160, 0, 6, 16, 253, 172, 42]
abbrev dktX0_shelter_1 : List UInt8 := dkwX0_shelter_1 ++ dktX0_shelter_2
def dkwX0_shelter_0 : List UInt8 := [27, 184, 0, 241, 153, 0, 15, 28, 133, 10, 20, 0, 165, 184, 0, 167, 154, 0, 5, 2, 172, 42]
abbrev dktX0_shelter_0 : List UInt8 := dkwX0_shelter_0 ++ dktX0_shelter_1
theorem dksX0_shelter_0 : cX0_shelter.data.toList.drop 0 = dktX0_shelter_0 := by decide +kernel
theorem dksX0_shelter_1 : cX0_shelter.data.toList.drop 22 = dktX0_shelter_1 := dk_seg dksX0_shelter_0 22 rfl rfl
theorem dksX0_shelter_2 : cX0_shelter.data.toList.drop 44 = dktX0_shelter_2 := dk_seg dksX0_shelter_1 22 rfl rfl
theorem dksX0_shelter_3 : cX0_shelter.data.toList.drop 68 = dktX0_shelter_3 := dk_seg dksX0_shelter_2 24 rfl rfl
theorem dX0_shelter_0 : decode cX0_shelter 0 = .ok (.iload_n 1, 1) := dk_27 (dk_at dksX0_shelter_0 0 rfl rfl)
theorem dX0_shelter_1 : decode cX0_shelter 1 = .ok (.invokestatic 241, 3) := dk_184 0 241 (dk_at dksX0_shelter_0 1 rfl rfl)
theorem dX0_shelter_4 : decode cX0_shelter 4 = .ok (.ifCond .eq 15, 3) := dk_153 0 15 (dk_at dksX0_shelter_0 4 rfl rfl)
theorem dX0_shelter_7 : decode cX0_shelter 7 = .ok (.iload_n 2, 1) := dk_28 (dk_at dksX0_shelter_0 7 rfl rfl)
theorem dX0_shelter_8 : decode cX0_shelter 8 = .ok (.i2l, 1) := dk_133 (dk_at dksX0_shelter_0 8 rfl rfl)
theorem dX0_shelter_9 : decode cX0_shelter 9 = .ok (.lconst 1, 1) := dk_10 (dk_at dksX0_shelter_0 9 rfl rfl)
theorem dX0_shelter_10 : decode cX0_shelter 10 = .ok (.ldc2_w 165, 3) := dk_20 0 165 (dk_at dksX0_shelter_0 10 rfl rfl)
theorem dX0_shelter_13 : decode cX0_shelter 13 = .ok (.invokestatic 167, 3) := dk_184 0 167 (dk_at dksX0_shelter_0 13 rfl rfl)
theorem dX0_shelter_16 : decode cX0_shelter 16 = .ok (.ifCond .ne 5, 3) := dk_154 0 5 (dk_at dksX0_shelter_0 16 rfl rfl)
theorem dX0_shelter_19 : decode cX0_shelter 19 = .ok (.iconst (-1), 1) := dk_2 (dk_at dksX0_shelter_0 19 rfl rfl)
theorem dX0_shelter_20 : decode cX0_shelter 20 = .ok (.ireturn, 1) := dk_172 (dk_at dksX0_shelter_0 20 rfl rfl)
theorem dX0_shelter_21 : decode cX0_shelter 21 = .ok (.aload_n 0, 1) := dk_42 (dk_at dksX0_shelter_0 21 rfl rfl)
theorem dX0_shelter_22 : decode cX0_shelter 22 = .ok (.getfield 200, 3) := dk_180 0 200 (dk_at dksX0_shelter_1 0 rfl rfl)
theorem dX0_shelter_25 : decode cX0_shelter 25 = .ok (.ifnull 6, 3) := dk_198 0 6 (dk_at dksX0_shelter_1 3 rfl rfl)
theorem dX0_shelter_28 : decode cX0_shelter 28 = .ok (.bipush (-2), 2) := dk_16 254 (dk_at dksX0_shelter_1 6 rfl rfl)
theorem dX0_shelter_30 : decode cX0_shelter 30 = .ok (.ireturn, 1) := dk_172 (dk_at dksX0_shelter_1 8 rfl rfl)
theorem dX0_shelter_31 : decode cX0_shelter 31 = .ok (.aload_n 0, 1) := dk_42 (dk_at dksX0_shelter_1 9 rfl rfl)
theorem dX0_shelter_32 : decode cX0_shelter 32 = .ok (.getfield 184, 3) := dk_180 0 184 (dk_at dksX0_shelter_1 10 rfl rfl)
theorem dX0_shelter_35 : decode cX0_shelter 35 = .ok (.bipush 120, 2) := dk_16 120 (dk_at dksX0_shelter_1 13 rfl rfl)
theorem dX0_shelter_37 : decode cX0_shelter 37 = .ok (.if_icmp .ne 6, 3) := dk_160 0 6 (dk_at dksX0_shelter_1 15 rfl rfl)
theorem dX0_shelter_40 : decode cX0_shelter 40 = .ok (.bipush (-3), 2) := dk_16 253 (dk_at dksX0_shelter_1 18 rfl rfl)
theorem dX0_shelter_42 : decode cX0_shelter 42 = .ok (.ireturn, 1) := dk_172 (dk_at dksX0_shelter_1 20 rfl rfl)
theorem dX0_shelter_43 : decode cX0_shelter 43 = .ok (.aload_n 0, 1) := dk_42 (dk_at dksX0_shelter_1 21 rfl rfl)
theorem dX0_shelter_44 : decode cX0_shelter 44 = .ok (.new 205, 3) := dk_187 0 205 (dk_at dksX0_shelter_2 0 rfl rfl)
theorem dX0_shelter_47 : decode cX0_shelter 47 = .ok (.dup, 1) := dk_89 (dk_at dksX0_shelter_2 3 rfl rfl)
theorem dX0_shelter_48 : decode cX0_shelter 48 = .ok (.aload_n 0, 1) := dk_42 (dk_at dksX0_shelter_2 4 rfl rfl)
theorem dX0_shelter_49 : decode cX0_shelter 49 = .ok (.aload_n 0, 1) := dk_42 (dk_at dksX0_shelter_2 5 rfl rfl)
theorem dX0_shelter_50 : decode cX0_shelter 50 = .ok (.getfield 184, 3) := dk_180 0 184 (dk_at dksX0_shelter_2 6 rfl rfl)
theorem dX0_shelter_53 : decode cX0_shelter 53 = .ok (.iload_n 1, 1) := dk_27 (dk_at dksX0_shelter_2 9 rfl rfl)
theorem dX0_shelter_54 : decode cX0_shelter 54 = .ok (.bipush 100, 2) := dk_16 100 (dk_at dksX0_shelter_2 10 rfl rfl)
theorem dX0_shelter_56 : decode cX0_shelter 56 = .ok (.idiv, 1) := dk_108 (dk_at dksX0_shelter_2 12 rfl rfl)
theorem dX0_shelter_57 : decode cX0_shelter 57 = .ok (.iload_n 1, 1) := dk_27 (dk_at dksX0_shelter_2 13 rfl rfl)
theorem dX0_shelter_58 : decode cX0_shelter 58 = .ok (.bipush 100, 2) := dk_16 100 (dk_at dksX0_shelter_2 14 rfl rfl)
theorem dX0_shelter_60 : decode cX0_shelter 60 = .ok (.irem, 1) := dk_112 (dk_at dksX0_shelter_2 16 rfl rfl)
theorem dX0_shelter_61 : decode cX0_shelter 61 = .ok (.iload_n 2, 1) := dk_28 (dk_at dksX0_shelter_2 17 rfl rfl)
theorem dX0_shelter_62 : decode cX0_shelter 62 = .ok (.invokespecial 244, 3) := dk_183 0 244 (dk_at dksX0_shelter_2 18 rfl rfl)
theorem dX0_shelter_65 : decode cX0_shelter 65 = .ok (.putfield 200, 3) := dk_181 0 200 (dk_at dksX0_shelter_2 21 rfl rfl)
theorem dX0_shelter_68 : decode cX0_shelter 68 = .ok (.aload_n 0, 1) := dk_42 (dk_at dksX0_shelter_3 0 rfl rfl)
theorem dX0_shelter_69 : decode cX0_shelter 69 = .ok (.aload_n 0, 1) := dk_42 (dk_at dksX0_shelter_3 1 rfl rfl)
theorem dX0_shelter_70 : decode cX0_shelter 70 = .ok (.getfield 200, 3) := dk_180 0 200 (dk_at dksX0_shelter_3 2 rfl rfl)
theorem dX0_shelter_73 : decode cX0_shelter 73 = .ok (.invokevirtual 221, 3) := dk_182 0 221 (dk_at dksX0_shelter_3 5 rfl rfl)
theorem dX0_shelter_76 : decode cX0_shelter 76 = .ok (.ireturn, 1) := dk_172 (dk_at dksX0_shelter_3 8 rfl rfl)
abbrev cX0_isSpan : ByteArray := prog_1_method_18_code
def yX0_isSpan : MethodName := ⟨RX0, "isSpan", "(I)Z"⟩
def dkwX0_isSpan_1 : List UInt8 := [4, 167, 0, 4, 3, 172]
abbrev dktX0_isSpan_1 : List UInt8 := dkwX0_isSpan_1 ++ []
def dkwX0_isSpan_0 : List UInt8 := [26, 155, 0, 27, 26, 16, 100, 108, 26, 16, 100, 112, 163, 0, 16, 26, 16, 100, 112, 16, 32, 162, 0, 7]
abbrev dktX0_isSpan_0 : List UInt8 := dkwX0_isSpan_0 ++ dktX0_isSpan_1
theorem dksX0_isSpan_0 : cX0_isSpan.data.toList.drop 0 = dktX0_isSpan_0 := by decide +kernel
theorem dksX0_isSpan_1 : cX0_isSpan.data.toList.drop 24 = dktX0_isSpan_1 := dk_seg dksX0_isSpan_0 24 rfl rfl
theorem dX0_isSpan_0 : decode cX0_isSpan 0 = .ok (.iload_n 0, 1) := dk_26 (dk_at dksX0_isSpan_0 0 rfl rfl)
theorem dX0_isSpan_1 : decode cX0_isSpan 1 = .ok (.ifCond .lt 27, 3) := dk_155 0 27 (dk_at dksX0_isSpan_0 1 rfl rfl)
theorem dX0_isSpan_4 : decode cX0_isSpan 4 = .ok (.iload_n 0, 1) := dk_26 (dk_at dksX0_isSpan_0 4 rfl rfl)
theorem dX0_isSpan_5 : decode cX0_isSpan 5 = .ok (.bipush 100, 2) := dk_16 100 (dk_at dksX0_isSpan_0 5 rfl rfl)
theorem dX0_isSpan_7 : decode cX0_isSpan 7 = .ok (.idiv, 1) := dk_108 (dk_at dksX0_isSpan_0 7 rfl rfl)
theorem dX0_isSpan_8 : decode cX0_isSpan 8 = .ok (.iload_n 0, 1) := dk_26 (dk_at dksX0_isSpan_0 8 rfl rfl)
theorem dX0_isSpan_9 : decode cX0_isSpan 9 = .ok (.bipush 100, 2) := dk_16 100 (dk_at dksX0_isSpan_0 9 rfl rfl)
theorem dX0_isSpan_11 : decode cX0_isSpan 11 = .ok (.irem, 1) := dk_112 (dk_at dksX0_isSpan_0 11 rfl rfl)
theorem dX0_isSpan_12 : decode cX0_isSpan 12 = .ok (.if_icmp .gt 16, 3) := dk_163 0 16 (dk_at dksX0_isSpan_0 12 rfl rfl)
theorem dX0_isSpan_15 : decode cX0_isSpan 15 = .ok (.iload_n 0, 1) := dk_26 (dk_at dksX0_isSpan_0 15 rfl rfl)
theorem dX0_isSpan_16 : decode cX0_isSpan 16 = .ok (.bipush 100, 2) := dk_16 100 (dk_at dksX0_isSpan_0 16 rfl rfl)
theorem dX0_isSpan_18 : decode cX0_isSpan 18 = .ok (.irem, 1) := dk_112 (dk_at dksX0_isSpan_0 18 rfl rfl)
theorem dX0_isSpan_19 : decode cX0_isSpan 19 = .ok (.bipush 32, 2) := dk_16 32 (dk_at dksX0_isSpan_0 19 rfl rfl)
theorem dX0_isSpan_21 : decode cX0_isSpan 21 = .ok (.if_icmp .ge 7, 3) := dk_162 0 7 (dk_at dksX0_isSpan_0 21 rfl rfl)
theorem dX0_isSpan_24 : decode cX0_isSpan 24 = .ok (.iconst 1, 1) := dk_4 (dk_at dksX0_isSpan_1 0 rfl rfl)
theorem dX0_isSpan_25 : decode cX0_isSpan 25 = .ok (.goto 4, 3) := dk_167 0 4 (dk_at dksX0_isSpan_1 1 rfl rfl)
theorem dX0_isSpan_28 : decode cX0_isSpan 28 = .ok (.iconst 0, 1) := dk_3 (dk_at dksX0_isSpan_1 4 rfl rfl)
theorem dX0_isSpan_29 : decode cX0_isSpan 29 = .ok (.ireturn, 1) := dk_172 (dk_at dksX0_isSpan_1 5 rfl rfl)
abbrev cX0_man : ByteArray := prog_1_method_20_code
def yX0_man : MethodName := ⟨RX0, "man", "(II)I"⟩
def dkwX0_man_2 : List UInt8 := [180, 0, 184, 27, 28, 16, 10, 108, 28, 16, 10, 112, 183, 0, 251, 182, 0, 221, 172]
abbrev dktX0_man_2 : List UInt8 := dkwX0_man_2 ++ []
def dkwX0_man_1 : List UInt8 := [2, 172, 42, 180, 0, 184, 16, 120, 160, 0, 8, 16, 253, 167, 0, 28, 42, 187, 0, 190, 89, 42, 42]
abbrev dktX0_man_1 : List UInt8 := dkwX0_man_1 ++ dktX0_man_2
def dkwX0_man_0 : List UInt8 := [27, 133, 9, 20, 0, 247, 184, 0, 167, 153, 0, 15, 28, 133, 9, 20, 0, 249, 184, 0, 167, 154, 0, 5]
abbrev dktX0_man_0 : List UInt8 := dkwX0_man_0 ++ dktX0_man_1
theorem dksX0_man_0 : cX0_man.data.toList.drop 0 = dktX0_man_0 := by decide +kernel
theorem dksX0_man_1 : cX0_man.data.toList.drop 24 = dktX0_man_1 := dk_seg dksX0_man_0 24 rfl rfl
theorem dksX0_man_2 : cX0_man.data.toList.drop 47 = dktX0_man_2 := dk_seg dksX0_man_1 23 rfl rfl
theorem dX0_man_0 : decode cX0_man 0 = .ok (.iload_n 1, 1) := dk_27 (dk_at dksX0_man_0 0 rfl rfl)
theorem dX0_man_1 : decode cX0_man 1 = .ok (.i2l, 1) := dk_133 (dk_at dksX0_man_0 1 rfl rfl)
theorem dX0_man_2 : decode cX0_man 2 = .ok (.lconst 0, 1) := dk_9 (dk_at dksX0_man_0 2 rfl rfl)
theorem dX0_man_3 : decode cX0_man 3 = .ok (.ldc2_w 247, 3) := dk_20 0 247 (dk_at dksX0_man_0 3 rfl rfl)
theorem dX0_man_6 : decode cX0_man 6 = .ok (.invokestatic 167, 3) := dk_184 0 167 (dk_at dksX0_man_0 6 rfl rfl)
theorem dX0_man_9 : decode cX0_man 9 = .ok (.ifCond .eq 15, 3) := dk_153 0 15 (dk_at dksX0_man_0 9 rfl rfl)
theorem dX0_man_12 : decode cX0_man 12 = .ok (.iload_n 2, 1) := dk_28 (dk_at dksX0_man_0 12 rfl rfl)
theorem dX0_man_13 : decode cX0_man 13 = .ok (.i2l, 1) := dk_133 (dk_at dksX0_man_0 13 rfl rfl)
theorem dX0_man_14 : decode cX0_man 14 = .ok (.lconst 0, 1) := dk_9 (dk_at dksX0_man_0 14 rfl rfl)
theorem dX0_man_15 : decode cX0_man 15 = .ok (.ldc2_w 249, 3) := dk_20 0 249 (dk_at dksX0_man_0 15 rfl rfl)
theorem dX0_man_18 : decode cX0_man 18 = .ok (.invokestatic 167, 3) := dk_184 0 167 (dk_at dksX0_man_0 18 rfl rfl)
theorem dX0_man_21 : decode cX0_man 21 = .ok (.ifCond .ne 5, 3) := dk_154 0 5 (dk_at dksX0_man_0 21 rfl rfl)
theorem dX0_man_24 : decode cX0_man 24 = .ok (.iconst (-1), 1) := dk_2 (dk_at dksX0_man_1 0 rfl rfl)
theorem dX0_man_25 : decode cX0_man 25 = .ok (.ireturn, 1) := dk_172 (dk_at dksX0_man_1 1 rfl rfl)
theorem dX0_man_26 : decode cX0_man 26 = .ok (.aload_n 0, 1) := dk_42 (dk_at dksX0_man_1 2 rfl rfl)
theorem dX0_man_27 : decode cX0_man 27 = .ok (.getfield 184, 3) := dk_180 0 184 (dk_at dksX0_man_1 3 rfl rfl)
theorem dX0_man_30 : decode cX0_man 30 = .ok (.bipush 120, 2) := dk_16 120 (dk_at dksX0_man_1 6 rfl rfl)
theorem dX0_man_32 : decode cX0_man 32 = .ok (.if_icmp .ne 8, 3) := dk_160 0 8 (dk_at dksX0_man_1 8 rfl rfl)
theorem dX0_man_35 : decode cX0_man 35 = .ok (.bipush (-3), 2) := dk_16 253 (dk_at dksX0_man_1 11 rfl rfl)
theorem dX0_man_37 : decode cX0_man 37 = .ok (.goto 28, 3) := dk_167 0 28 (dk_at dksX0_man_1 13 rfl rfl)
theorem dX0_man_40 : decode cX0_man 40 = .ok (.aload_n 0, 1) := dk_42 (dk_at dksX0_man_1 16 rfl rfl)
theorem dX0_man_41 : decode cX0_man 41 = .ok (.new 190, 3) := dk_187 0 190 (dk_at dksX0_man_1 17 rfl rfl)
theorem dX0_man_44 : decode cX0_man 44 = .ok (.dup, 1) := dk_89 (dk_at dksX0_man_1 20 rfl rfl)
theorem dX0_man_45 : decode cX0_man 45 = .ok (.aload_n 0, 1) := dk_42 (dk_at dksX0_man_1 21 rfl rfl)
theorem dX0_man_46 : decode cX0_man 46 = .ok (.aload_n 0, 1) := dk_42 (dk_at dksX0_man_1 22 rfl rfl)
theorem dX0_man_47 : decode cX0_man 47 = .ok (.getfield 184, 3) := dk_180 0 184 (dk_at dksX0_man_2 0 rfl rfl)
theorem dX0_man_50 : decode cX0_man 50 = .ok (.iload_n 1, 1) := dk_27 (dk_at dksX0_man_2 3 rfl rfl)
theorem dX0_man_51 : decode cX0_man 51 = .ok (.iload_n 2, 1) := dk_28 (dk_at dksX0_man_2 4 rfl rfl)
theorem dX0_man_52 : decode cX0_man 52 = .ok (.bipush 10, 2) := dk_16 10 (dk_at dksX0_man_2 5 rfl rfl)
theorem dX0_man_54 : decode cX0_man 54 = .ok (.idiv, 1) := dk_108 (dk_at dksX0_man_2 7 rfl rfl)
theorem dX0_man_55 : decode cX0_man 55 = .ok (.iload_n 2, 1) := dk_28 (dk_at dksX0_man_2 8 rfl rfl)
theorem dX0_man_56 : decode cX0_man 56 = .ok (.bipush 10, 2) := dk_16 10 (dk_at dksX0_man_2 9 rfl rfl)
theorem dX0_man_58 : decode cX0_man 58 = .ok (.irem, 1) := dk_112 (dk_at dksX0_man_2 11 rfl rfl)
theorem dX0_man_59 : decode cX0_man 59 = .ok (.invokespecial 251, 3) := dk_183 0 251 (dk_at dksX0_man_2 12 rfl rfl)
theorem dX0_man_62 : decode cX0_man 62 = .ok (.invokevirtual 221, 3) := dk_182 0 221 (dk_at dksX0_man_2 15 rfl rfl)
theorem dX0_man_65 : decode cX0_man 65 = .ok (.ireturn, 1) := dk_172 (dk_at dksX0_man_2 18 rfl rfl)
abbrev cX0_ofBody : ByteArray := prog_1_method_23_code
def yX0_ofBody : MethodName := ⟨RX0, "ofBody", "(II)I"⟩
def dkwX0_ofBody_8 : List UInt8 := [180, 1, 44, 184, 1, 12, 167, 0, 6, 19, 1, 22, 172]
abbrev dktX0_ofBody_8 : List UInt8 := dkwX0_ofBody_8 ++ []
def dkwX0_ofBody_7 : List UInt8 := [28, 6, 160, 0, 13, 42, 180, 0, 200, 180, 0, 204, 167, 0, 24, 28, 7, 160, 0, 16, 42, 180, 0, 200]
abbrev dktX0_ofBody_7 : List UInt8 := dkwX0_ofBody_7 ++ dktX0_ofBody_8
def dkwX0_ofBody_6 : List UInt8 := [180, 0, 200, 180, 0, 209, 167, 0, 54, 28, 5, 160, 0, 13, 42, 180, 0, 200, 180, 0, 212, 167, 0, 39]
abbrev dktX0_ofBody_6 : List UInt8 := dkwX0_ofBody_6 ++ dktX0_ofBody_7
def dkwX0_ofBody_5 : List UInt8 := [172, 42, 180, 0, 28, 27, 50, 42, 180, 0, 200, 165, 0, 7, 19, 1, 22, 172, 28, 4, 160, 0, 13, 42]
abbrev dktX0_ofBody_5 : List UInt8 := dkwX0_ofBody_5 ++ dktX0_ofBody_6
def dkwX0_ofBody_4 : List UInt8 := [160, 0, 21, 45, 180, 0, 196, 154, 0, 7, 4, 167, 0, 4, 3, 184, 1, 12, 167, 0, 6, 19, 1, 22]
abbrev dktX0_ofBody_4 : List UInt8 := dkwX0_ofBody_4 ++ dktX0_ofBody_5
def dkwX0_ofBody_3 : List UInt8 := [160, 0, 10, 45, 180, 1, 38, 167, 0, 41, 28, 6, 160, 0, 10, 45, 180, 1, 41, 167, 0, 29, 28, 7]
abbrev dktX0_ofBody_3 : List UInt8 := dkwX0_ofBody_3 ++ dktX0_ofBody_4
def dkwX0_ofBody_2 : List UInt8 := [182, 0, 192, 78, 45, 198, 0, 66, 28, 4, 160, 0, 10, 45, 180, 1, 35, 167, 0, 53, 28, 5]
abbrev dktX0_ofBody_2 : List UInt8 := dkwX0_ofBody_2 ++ dktX0_ofBody_3
def dkwX0_ofBody_1 : List UInt8 := [182, 1, 23, 172, 42, 27, 182, 1, 27, 198, 0, 13, 42, 27, 182, 1, 27, 28, 184, 1, 31, 172, 42, 27]
abbrev dktX0_ofBody_1 : List UInt8 := dkwX0_ofBody_1 ++ dktX0_ofBody_2
def dkwX0_ofBody_0 : List UInt8 := [42, 27, 182, 0, 187, 154, 0, 7, 19, 1, 22, 172, 28, 154, 0, 13, 42, 180, 0, 28, 27, 50]
abbrev dktX0_ofBody_0 : List UInt8 := dkwX0_ofBody_0 ++ dktX0_ofBody_1
theorem dksX0_ofBody_0 : cX0_ofBody.data.toList.drop 0 = dktX0_ofBody_0 := by decide +kernel
theorem dksX0_ofBody_1 : cX0_ofBody.data.toList.drop 22 = dktX0_ofBody_1 := dk_seg dksX0_ofBody_0 22 rfl rfl
theorem dksX0_ofBody_2 : cX0_ofBody.data.toList.drop 46 = dktX0_ofBody_2 := dk_seg dksX0_ofBody_1 24 rfl rfl
theorem dksX0_ofBody_3 : cX0_ofBody.data.toList.drop 68 = dktX0_ofBody_3 := dk_seg dksX0_ofBody_2 22 rfl rfl
theorem dksX0_ofBody_4 : cX0_ofBody.data.toList.drop 92 = dktX0_ofBody_4 := dk_seg dksX0_ofBody_3 24 rfl rfl
theorem dksX0_ofBody_5 : cX0_ofBody.data.toList.drop 116 = dktX0_ofBody_5 := dk_seg dksX0_ofBody_4 24 rfl rfl
theorem dksX0_ofBody_6 : cX0_ofBody.data.toList.drop 140 = dktX0_ofBody_6 := dk_seg dksX0_ofBody_5 24 rfl rfl
theorem dksX0_ofBody_7 : cX0_ofBody.data.toList.drop 164 = dktX0_ofBody_7 := dk_seg dksX0_ofBody_6 24 rfl rfl
theorem dksX0_ofBody_8 : cX0_ofBody.data.toList.drop 188 = dktX0_ofBody_8 := dk_seg dksX0_ofBody_7 24 rfl rfl
theorem dX0_ofBody_0 : decode cX0_ofBody 0 = .ok (.aload_n 0, 1) := dk_42 (dk_at dksX0_ofBody_0 0 rfl rfl)
theorem dX0_ofBody_1 : decode cX0_ofBody 1 = .ok (.iload_n 1, 1) := dk_27 (dk_at dksX0_ofBody_0 1 rfl rfl)
theorem dX0_ofBody_2 : decode cX0_ofBody 2 = .ok (.invokevirtual 187, 3) := dk_182 0 187 (dk_at dksX0_ofBody_0 2 rfl rfl)
theorem dX0_ofBody_5 : decode cX0_ofBody 5 = .ok (.ifCond .ne 7, 3) := dk_154 0 7 (dk_at dksX0_ofBody_0 5 rfl rfl)
theorem dX0_ofBody_8 : decode cX0_ofBody 8 = .ok (.ldc_w 278, 3) := dk_19 1 22 (dk_at dksX0_ofBody_0 8 rfl rfl)
theorem dX0_ofBody_11 : decode cX0_ofBody 11 = .ok (.ireturn, 1) := dk_172 (dk_at dksX0_ofBody_0 11 rfl rfl)
theorem dX0_ofBody_12 : decode cX0_ofBody 12 = .ok (.iload_n 2, 1) := dk_28 (dk_at dksX0_ofBody_0 12 rfl rfl)
theorem dX0_ofBody_13 : decode cX0_ofBody 13 = .ok (.ifCond .ne 13, 3) := dk_154 0 13 (dk_at dksX0_ofBody_0 13 rfl rfl)
theorem dX0_ofBody_16 : decode cX0_ofBody 16 = .ok (.aload_n 0, 1) := dk_42 (dk_at dksX0_ofBody_0 16 rfl rfl)
theorem dX0_ofBody_17 : decode cX0_ofBody 17 = .ok (.getfield 28, 3) := dk_180 0 28 (dk_at dksX0_ofBody_0 17 rfl rfl)
theorem dX0_ofBody_20 : decode cX0_ofBody 20 = .ok (.iload_n 1, 1) := dk_27 (dk_at dksX0_ofBody_0 20 rfl rfl)
theorem dX0_ofBody_21 : decode cX0_ofBody 21 = .ok (.aaload, 1) := dk_50 (dk_at dksX0_ofBody_0 21 rfl rfl)
theorem dX0_ofBody_22 : decode cX0_ofBody 22 = .ok (.invokevirtual 279, 3) := dk_182 1 23 (dk_at dksX0_ofBody_1 0 rfl rfl)
theorem dX0_ofBody_25 : decode cX0_ofBody 25 = .ok (.ireturn, 1) := dk_172 (dk_at dksX0_ofBody_1 3 rfl rfl)
theorem dX0_ofBody_26 : decode cX0_ofBody 26 = .ok (.aload_n 0, 1) := dk_42 (dk_at dksX0_ofBody_1 4 rfl rfl)
theorem dX0_ofBody_27 : decode cX0_ofBody 27 = .ok (.iload_n 1, 1) := dk_27 (dk_at dksX0_ofBody_1 5 rfl rfl)
theorem dX0_ofBody_28 : decode cX0_ofBody 28 = .ok (.invokevirtual 283, 3) := dk_182 1 27 (dk_at dksX0_ofBody_1 6 rfl rfl)
theorem dX0_ofBody_31 : decode cX0_ofBody 31 = .ok (.ifnull 13, 3) := dk_198 0 13 (dk_at dksX0_ofBody_1 9 rfl rfl)
theorem dX0_ofBody_34 : decode cX0_ofBody 34 = .ok (.aload_n 0, 1) := dk_42 (dk_at dksX0_ofBody_1 12 rfl rfl)
theorem dX0_ofBody_35 : decode cX0_ofBody 35 = .ok (.iload_n 1, 1) := dk_27 (dk_at dksX0_ofBody_1 13 rfl rfl)
theorem dX0_ofBody_36 : decode cX0_ofBody 36 = .ok (.invokevirtual 283, 3) := dk_182 1 27 (dk_at dksX0_ofBody_1 14 rfl rfl)
theorem dX0_ofBody_39 : decode cX0_ofBody 39 = .ok (.iload_n 2, 1) := dk_28 (dk_at dksX0_ofBody_1 17 rfl rfl)
theorem dX0_ofBody_40 : decode cX0_ofBody 40 = .ok (.invokestatic 287, 3) := dk_184 1 31 (dk_at dksX0_ofBody_1 18 rfl rfl)
theorem dX0_ofBody_43 : decode cX0_ofBody 43 = .ok (.ireturn, 1) := dk_172 (dk_at dksX0_ofBody_1 21 rfl rfl)
theorem dX0_ofBody_44 : decode cX0_ofBody 44 = .ok (.aload_n 0, 1) := dk_42 (dk_at dksX0_ofBody_1 22 rfl rfl)
theorem dX0_ofBody_45 : decode cX0_ofBody 45 = .ok (.iload_n 1, 1) := dk_27 (dk_at dksX0_ofBody_1 23 rfl rfl)
theorem dX0_ofBody_46 : decode cX0_ofBody 46 = .ok (.invokevirtual 192, 3) := dk_182 0 192 (dk_at dksX0_ofBody_2 0 rfl rfl)
theorem dX0_ofBody_49 : decode cX0_ofBody 49 = .ok (.astore_n 3, 1) := dk_78 (dk_at dksX0_ofBody_2 3 rfl rfl)
theorem dX0_ofBody_50 : decode cX0_ofBody 50 = .ok (.aload_n 3, 1) := dk_45 (dk_at dksX0_ofBody_2 4 rfl rfl)
theorem dX0_ofBody_51 : decode cX0_ofBody 51 = .ok (.ifnull 66, 3) := dk_198 0 66 (dk_at dksX0_ofBody_2 5 rfl rfl)
theorem dX0_ofBody_54 : decode cX0_ofBody 54 = .ok (.iload_n 2, 1) := dk_28 (dk_at dksX0_ofBody_2 8 rfl rfl)
theorem dX0_ofBody_55 : decode cX0_ofBody 55 = .ok (.iconst 1, 1) := dk_4 (dk_at dksX0_ofBody_2 9 rfl rfl)
theorem dX0_ofBody_56 : decode cX0_ofBody 56 = .ok (.if_icmp .ne 10, 3) := dk_160 0 10 (dk_at dksX0_ofBody_2 10 rfl rfl)
theorem dX0_ofBody_59 : decode cX0_ofBody 59 = .ok (.aload_n 3, 1) := dk_45 (dk_at dksX0_ofBody_2 13 rfl rfl)
theorem dX0_ofBody_60 : decode cX0_ofBody 60 = .ok (.getfield 291, 3) := dk_180 1 35 (dk_at dksX0_ofBody_2 14 rfl rfl)
theorem dX0_ofBody_63 : decode cX0_ofBody 63 = .ok (.goto 53, 3) := dk_167 0 53 (dk_at dksX0_ofBody_2 17 rfl rfl)
theorem dX0_ofBody_66 : decode cX0_ofBody 66 = .ok (.iload_n 2, 1) := dk_28 (dk_at dksX0_ofBody_2 20 rfl rfl)
theorem dX0_ofBody_67 : decode cX0_ofBody 67 = .ok (.iconst 2, 1) := dk_5 (dk_at dksX0_ofBody_2 21 rfl rfl)
theorem dX0_ofBody_68 : decode cX0_ofBody 68 = .ok (.if_icmp .ne 10, 3) := dk_160 0 10 (dk_at dksX0_ofBody_3 0 rfl rfl)
theorem dX0_ofBody_71 : decode cX0_ofBody 71 = .ok (.aload_n 3, 1) := dk_45 (dk_at dksX0_ofBody_3 3 rfl rfl)
theorem dX0_ofBody_72 : decode cX0_ofBody 72 = .ok (.getfield 294, 3) := dk_180 1 38 (dk_at dksX0_ofBody_3 4 rfl rfl)
theorem dX0_ofBody_75 : decode cX0_ofBody 75 = .ok (.goto 41, 3) := dk_167 0 41 (dk_at dksX0_ofBody_3 7 rfl rfl)
theorem dX0_ofBody_78 : decode cX0_ofBody 78 = .ok (.iload_n 2, 1) := dk_28 (dk_at dksX0_ofBody_3 10 rfl rfl)
theorem dX0_ofBody_79 : decode cX0_ofBody 79 = .ok (.iconst 3, 1) := dk_6 (dk_at dksX0_ofBody_3 11 rfl rfl)
theorem dX0_ofBody_80 : decode cX0_ofBody 80 = .ok (.if_icmp .ne 10, 3) := dk_160 0 10 (dk_at dksX0_ofBody_3 12 rfl rfl)
theorem dX0_ofBody_83 : decode cX0_ofBody 83 = .ok (.aload_n 3, 1) := dk_45 (dk_at dksX0_ofBody_3 15 rfl rfl)
theorem dX0_ofBody_84 : decode cX0_ofBody 84 = .ok (.getfield 297, 3) := dk_180 1 41 (dk_at dksX0_ofBody_3 16 rfl rfl)
theorem dX0_ofBody_87 : decode cX0_ofBody 87 = .ok (.goto 29, 3) := dk_167 0 29 (dk_at dksX0_ofBody_3 19 rfl rfl)
theorem dX0_ofBody_90 : decode cX0_ofBody 90 = .ok (.iload_n 2, 1) := dk_28 (dk_at dksX0_ofBody_3 22 rfl rfl)
theorem dX0_ofBody_91 : decode cX0_ofBody 91 = .ok (.iconst 4, 1) := dk_7 (dk_at dksX0_ofBody_3 23 rfl rfl)
theorem dX0_ofBody_92 : decode cX0_ofBody 92 = .ok (.if_icmp .ne 21, 3) := dk_160 0 21 (dk_at dksX0_ofBody_4 0 rfl rfl)
theorem dX0_ofBody_95 : decode cX0_ofBody 95 = .ok (.aload_n 3, 1) := dk_45 (dk_at dksX0_ofBody_4 3 rfl rfl)
theorem dX0_ofBody_96 : decode cX0_ofBody 96 = .ok (.getfield 196, 3) := dk_180 0 196 (dk_at dksX0_ofBody_4 4 rfl rfl)
theorem dX0_ofBody_99 : decode cX0_ofBody 99 = .ok (.ifCond .ne 7, 3) := dk_154 0 7 (dk_at dksX0_ofBody_4 7 rfl rfl)
theorem dX0_ofBody_102 : decode cX0_ofBody 102 = .ok (.iconst 1, 1) := dk_4 (dk_at dksX0_ofBody_4 10 rfl rfl)
theorem dX0_ofBody_103 : decode cX0_ofBody 103 = .ok (.goto 4, 3) := dk_167 0 4 (dk_at dksX0_ofBody_4 11 rfl rfl)
theorem dX0_ofBody_106 : decode cX0_ofBody 106 = .ok (.iconst 0, 1) := dk_3 (dk_at dksX0_ofBody_4 14 rfl rfl)
theorem dX0_ofBody_107 : decode cX0_ofBody 107 = .ok (.invokestatic 268, 3) := dk_184 1 12 (dk_at dksX0_ofBody_4 15 rfl rfl)
theorem dX0_ofBody_110 : decode cX0_ofBody 110 = .ok (.goto 6, 3) := dk_167 0 6 (dk_at dksX0_ofBody_4 18 rfl rfl)
theorem dX0_ofBody_113 : decode cX0_ofBody 113 = .ok (.ldc_w 278, 3) := dk_19 1 22 (dk_at dksX0_ofBody_4 21 rfl rfl)
theorem dX0_ofBody_116 : decode cX0_ofBody 116 = .ok (.ireturn, 1) := dk_172 (dk_at dksX0_ofBody_5 0 rfl rfl)
theorem dX0_ofBody_117 : decode cX0_ofBody 117 = .ok (.aload_n 0, 1) := dk_42 (dk_at dksX0_ofBody_5 1 rfl rfl)
theorem dX0_ofBody_118 : decode cX0_ofBody 118 = .ok (.getfield 28, 3) := dk_180 0 28 (dk_at dksX0_ofBody_5 2 rfl rfl)
theorem dX0_ofBody_121 : decode cX0_ofBody 121 = .ok (.iload_n 1, 1) := dk_27 (dk_at dksX0_ofBody_5 5 rfl rfl)
theorem dX0_ofBody_122 : decode cX0_ofBody 122 = .ok (.aaload, 1) := dk_50 (dk_at dksX0_ofBody_5 6 rfl rfl)
theorem dX0_ofBody_123 : decode cX0_ofBody 123 = .ok (.aload_n 0, 1) := dk_42 (dk_at dksX0_ofBody_5 7 rfl rfl)
theorem dX0_ofBody_124 : decode cX0_ofBody 124 = .ok (.getfield 200, 3) := dk_180 0 200 (dk_at dksX0_ofBody_5 8 rfl rfl)
theorem dX0_ofBody_127 : decode cX0_ofBody 127 = .ok (.if_acmp .eq 7, 3) := dk_165 0 7 (dk_at dksX0_ofBody_5 11 rfl rfl)
theorem dX0_ofBody_130 : decode cX0_ofBody 130 = .ok (.ldc_w 278, 3) := dk_19 1 22 (dk_at dksX0_ofBody_5 14 rfl rfl)
theorem dX0_ofBody_133 : decode cX0_ofBody 133 = .ok (.ireturn, 1) := dk_172 (dk_at dksX0_ofBody_5 17 rfl rfl)
theorem dX0_ofBody_134 : decode cX0_ofBody 134 = .ok (.iload_n 2, 1) := dk_28 (dk_at dksX0_ofBody_5 18 rfl rfl)
theorem dX0_ofBody_135 : decode cX0_ofBody 135 = .ok (.iconst 1, 1) := dk_4 (dk_at dksX0_ofBody_5 19 rfl rfl)
theorem dX0_ofBody_136 : decode cX0_ofBody 136 = .ok (.if_icmp .ne 13, 3) := dk_160 0 13 (dk_at dksX0_ofBody_5 20 rfl rfl)
theorem dX0_ofBody_139 : decode cX0_ofBody 139 = .ok (.aload_n 0, 1) := dk_42 (dk_at dksX0_ofBody_5 23 rfl rfl)
theorem dX0_ofBody_140 : decode cX0_ofBody 140 = .ok (.getfield 200, 3) := dk_180 0 200 (dk_at dksX0_ofBody_6 0 rfl rfl)
theorem dX0_ofBody_143 : decode cX0_ofBody 143 = .ok (.getfield 209, 3) := dk_180 0 209 (dk_at dksX0_ofBody_6 3 rfl rfl)
theorem dX0_ofBody_146 : decode cX0_ofBody 146 = .ok (.goto 54, 3) := dk_167 0 54 (dk_at dksX0_ofBody_6 6 rfl rfl)
theorem dX0_ofBody_149 : decode cX0_ofBody 149 = .ok (.iload_n 2, 1) := dk_28 (dk_at dksX0_ofBody_6 9 rfl rfl)
theorem dX0_ofBody_150 : decode cX0_ofBody 150 = .ok (.iconst 2, 1) := dk_5 (dk_at dksX0_ofBody_6 10 rfl rfl)
theorem dX0_ofBody_151 : decode cX0_ofBody 151 = .ok (.if_icmp .ne 13, 3) := dk_160 0 13 (dk_at dksX0_ofBody_6 11 rfl rfl)
theorem dX0_ofBody_154 : decode cX0_ofBody 154 = .ok (.aload_n 0, 1) := dk_42 (dk_at dksX0_ofBody_6 14 rfl rfl)
theorem dX0_ofBody_155 : decode cX0_ofBody 155 = .ok (.getfield 200, 3) := dk_180 0 200 (dk_at dksX0_ofBody_6 15 rfl rfl)
theorem dX0_ofBody_158 : decode cX0_ofBody 158 = .ok (.getfield 212, 3) := dk_180 0 212 (dk_at dksX0_ofBody_6 18 rfl rfl)
theorem dX0_ofBody_161 : decode cX0_ofBody 161 = .ok (.goto 39, 3) := dk_167 0 39 (dk_at dksX0_ofBody_6 21 rfl rfl)
theorem dX0_ofBody_164 : decode cX0_ofBody 164 = .ok (.iload_n 2, 1) := dk_28 (dk_at dksX0_ofBody_7 0 rfl rfl)
theorem dX0_ofBody_165 : decode cX0_ofBody 165 = .ok (.iconst 3, 1) := dk_6 (dk_at dksX0_ofBody_7 1 rfl rfl)
theorem dX0_ofBody_166 : decode cX0_ofBody 166 = .ok (.if_icmp .ne 13, 3) := dk_160 0 13 (dk_at dksX0_ofBody_7 2 rfl rfl)
theorem dX0_ofBody_169 : decode cX0_ofBody 169 = .ok (.aload_n 0, 1) := dk_42 (dk_at dksX0_ofBody_7 5 rfl rfl)
theorem dX0_ofBody_170 : decode cX0_ofBody 170 = .ok (.getfield 200, 3) := dk_180 0 200 (dk_at dksX0_ofBody_7 6 rfl rfl)
theorem dX0_ofBody_173 : decode cX0_ofBody 173 = .ok (.getfield 204, 3) := dk_180 0 204 (dk_at dksX0_ofBody_7 9 rfl rfl)
theorem dX0_ofBody_176 : decode cX0_ofBody 176 = .ok (.goto 24, 3) := dk_167 0 24 (dk_at dksX0_ofBody_7 12 rfl rfl)
theorem dX0_ofBody_179 : decode cX0_ofBody 179 = .ok (.iload_n 2, 1) := dk_28 (dk_at dksX0_ofBody_7 15 rfl rfl)
theorem dX0_ofBody_180 : decode cX0_ofBody 180 = .ok (.iconst 4, 1) := dk_7 (dk_at dksX0_ofBody_7 16 rfl rfl)
theorem dX0_ofBody_181 : decode cX0_ofBody 181 = .ok (.if_icmp .ne 16, 3) := dk_160 0 16 (dk_at dksX0_ofBody_7 17 rfl rfl)
theorem dX0_ofBody_184 : decode cX0_ofBody 184 = .ok (.aload_n 0, 1) := dk_42 (dk_at dksX0_ofBody_7 20 rfl rfl)
theorem dX0_ofBody_185 : decode cX0_ofBody 185 = .ok (.getfield 200, 3) := dk_180 0 200 (dk_at dksX0_ofBody_7 21 rfl rfl)
theorem dX0_ofBody_188 : decode cX0_ofBody 188 = .ok (.getfield 300, 3) := dk_180 1 44 (dk_at dksX0_ofBody_8 0 rfl rfl)
theorem dX0_ofBody_191 : decode cX0_ofBody 191 = .ok (.invokestatic 268, 3) := dk_184 1 12 (dk_at dksX0_ofBody_8 3 rfl rfl)
theorem dX0_ofBody_194 : decode cX0_ofBody 194 = .ok (.goto 6, 3) := dk_167 0 6 (dk_at dksX0_ofBody_8 6 rfl rfl)
theorem dX0_ofBody_197 : decode cX0_ofBody 197 = .ok (.ldc_w 278, 3) := dk_19 1 22 (dk_at dksX0_ofBody_8 9 rfl rfl)
theorem dX0_ofBody_200 : decode cX0_ofBody 200 = .ok (.ireturn, 1) := dk_172 (dk_at dksX0_ofBody_8 12 rfl rfl)
abbrev cX0_isBody : ByteArray := prog_1_method_10_code
def yX0_isBody : MethodName := ⟨RX0, "isBody", "(I)Z"⟩
def dkwX0_isBody_0 : List UInt8 := [27, 133, 9, 42, 180, 0, 184, 4, 100, 133, 184, 0, 167, 172]
abbrev dktX0_isBody_0 : List UInt8 := dkwX0_isBody_0 ++ []
theorem dksX0_isBody_0 : cX0_isBody.data.toList.drop 0 = dktX0_isBody_0 := by decide +kernel
theorem dX0_isBody_0 : decode cX0_isBody 0 = .ok (.iload_n 1, 1) := dk_27 (dk_at dksX0_isBody_0 0 rfl rfl)
theorem dX0_isBody_1 : decode cX0_isBody 1 = .ok (.i2l, 1) := dk_133 (dk_at dksX0_isBody_0 1 rfl rfl)
theorem dX0_isBody_2 : decode cX0_isBody 2 = .ok (.lconst 0, 1) := dk_9 (dk_at dksX0_isBody_0 2 rfl rfl)
theorem dX0_isBody_3 : decode cX0_isBody 3 = .ok (.aload_n 0, 1) := dk_42 (dk_at dksX0_isBody_0 3 rfl rfl)
theorem dX0_isBody_4 : decode cX0_isBody 4 = .ok (.getfield 184, 3) := dk_180 0 184 (dk_at dksX0_isBody_0 4 rfl rfl)
theorem dX0_isBody_7 : decode cX0_isBody 7 = .ok (.iconst 1, 1) := dk_4 (dk_at dksX0_isBody_0 7 rfl rfl)
theorem dX0_isBody_8 : decode cX0_isBody 8 = .ok (.isub, 1) := dk_100 (dk_at dksX0_isBody_0 8 rfl rfl)
theorem dX0_isBody_9 : decode cX0_isBody 9 = .ok (.i2l, 1) := dk_133 (dk_at dksX0_isBody_0 9 rfl rfl)
theorem dX0_isBody_10 : decode cX0_isBody 10 = .ok (.invokestatic 167, 3) := dk_184 0 167 (dk_at dksX0_isBody_0 10 rfl rfl)
theorem dX0_isBody_13 : decode cX0_isBody 13 = .ok (.ireturn, 1) := dk_172 (dk_at dksX0_isBody_0 13 rfl rfl)
abbrev cX0_holeOf : ByteArray := prog_1_method_11_code
def yX0_holeOf : MethodName := ⟨RX0, "holeOf", "(I)LThirtyThreeBelow$Hole;"⟩
def dkwX0_holeOf_1 : List UInt8 := [27, 50, 192, 0, 38, 167, 0, 4, 1, 176]
abbrev dktX0_holeOf_1 : List UInt8 := dkwX0_holeOf_1 ++ []
def dkwX0_holeOf_0 : List UInt8 := [42, 27, 182, 0, 187, 153, 0, 27, 42, 180, 0, 28, 27, 50, 193, 0, 38, 153, 0, 15, 42, 180, 0, 28]
abbrev dktX0_holeOf_0 : List UInt8 := dkwX0_holeOf_0 ++ dktX0_holeOf_1
theorem dksX0_holeOf_0 : cX0_holeOf.data.toList.drop 0 = dktX0_holeOf_0 := by decide +kernel
theorem dksX0_holeOf_1 : cX0_holeOf.data.toList.drop 24 = dktX0_holeOf_1 := dk_seg dksX0_holeOf_0 24 rfl rfl
theorem dX0_holeOf_0 : decode cX0_holeOf 0 = .ok (.aload_n 0, 1) := dk_42 (dk_at dksX0_holeOf_0 0 rfl rfl)
theorem dX0_holeOf_1 : decode cX0_holeOf 1 = .ok (.iload_n 1, 1) := dk_27 (dk_at dksX0_holeOf_0 1 rfl rfl)
theorem dX0_holeOf_2 : decode cX0_holeOf 2 = .ok (.invokevirtual 187, 3) := dk_182 0 187 (dk_at dksX0_holeOf_0 2 rfl rfl)
theorem dX0_holeOf_5 : decode cX0_holeOf 5 = .ok (.ifCond .eq 27, 3) := dk_153 0 27 (dk_at dksX0_holeOf_0 5 rfl rfl)
theorem dX0_holeOf_8 : decode cX0_holeOf 8 = .ok (.aload_n 0, 1) := dk_42 (dk_at dksX0_holeOf_0 8 rfl rfl)
theorem dX0_holeOf_9 : decode cX0_holeOf 9 = .ok (.getfield 28, 3) := dk_180 0 28 (dk_at dksX0_holeOf_0 9 rfl rfl)
theorem dX0_holeOf_12 : decode cX0_holeOf 12 = .ok (.iload_n 1, 1) := dk_27 (dk_at dksX0_holeOf_0 12 rfl rfl)
theorem dX0_holeOf_13 : decode cX0_holeOf 13 = .ok (.aaload, 1) := dk_50 (dk_at dksX0_holeOf_0 13 rfl rfl)
theorem dX0_holeOf_14 : decode cX0_holeOf 14 = .ok (.instanceof 38, 3) := dk_193 0 38 (dk_at dksX0_holeOf_0 14 rfl rfl)
theorem dX0_holeOf_17 : decode cX0_holeOf 17 = .ok (.ifCond .eq 15, 3) := dk_153 0 15 (dk_at dksX0_holeOf_0 17 rfl rfl)
theorem dX0_holeOf_20 : decode cX0_holeOf 20 = .ok (.aload_n 0, 1) := dk_42 (dk_at dksX0_holeOf_0 20 rfl rfl)
theorem dX0_holeOf_21 : decode cX0_holeOf 21 = .ok (.getfield 28, 3) := dk_180 0 28 (dk_at dksX0_holeOf_0 21 rfl rfl)
theorem dX0_holeOf_24 : decode cX0_holeOf 24 = .ok (.iload_n 1, 1) := dk_27 (dk_at dksX0_holeOf_1 0 rfl rfl)
theorem dX0_holeOf_25 : decode cX0_holeOf 25 = .ok (.aaload, 1) := dk_50 (dk_at dksX0_holeOf_1 1 rfl rfl)
theorem dX0_holeOf_26 : decode cX0_holeOf 26 = .ok (.checkcast 38, 3) := dk_192 0 38 (dk_at dksX0_holeOf_1 2 rfl rfl)
theorem dX0_holeOf_29 : decode cX0_holeOf 29 = .ok (.goto 4, 3) := dk_167 0 4 (dk_at dksX0_holeOf_1 5 rfl rfl)
theorem dX0_holeOf_32 : decode cX0_holeOf 32 = .ok (.aconst_null, 1) := dk_1 (dk_at dksX0_holeOf_1 8 rfl rfl)
theorem dX0_holeOf_33 : decode cX0_holeOf 33 = .ok (.areturn, 1) := dk_176 (dk_at dksX0_holeOf_1 9 rfl rfl)
abbrev cX0_ofHole : ByteArray := prog_1_method_22_code
def yX0_ofHole : MethodName := ⟨RX0, "ofHole", "(LThirtyThreeBelow$Hole;I)I"⟩
def dkwX0_ofHole_3 : List UInt8 := [184, 1, 12, 172, 42, 180, 1, 16, 172, 42, 180, 1, 19, 172, 19, 1, 22, 172]
abbrev dktX0_ofHole_3 : List UInt8 := dkwX0_ofHole_3 ++ []
def dkwX0_ofHole_2 : List UInt8 := [42, 180, 0, 252, 172, 42, 180, 0, 255, 172, 42, 180, 1, 2, 172, 42, 180, 1, 5, 172, 42, 182, 1, 8]
abbrev dktX0_ofHole_2 : List UInt8 := dkwX0_ofHole_2 ++ dktX0_ofHole_3
def dkwX0_ofHole_1 : List UInt8 := [170, 0, 0, 0, 0, 0, 81, 0, 0, 0, 1, 0, 0, 0, 7, 0, 0, 0, 43, 0, 0, 0, 48, 0, 0, 0, 53, 0, 0, 0, 58, 0, 0, 0, 63, 0, 0, 0, 71, 0, 0, 0, 76]
abbrev dktX0_ofHole_1 : List UInt8 := dkwX0_ofHole_1 ++ dktX0_ofHole_2
def dkwX0_ofHole_0 : List UInt8 := [27]
abbrev dktX0_ofHole_0 : List UInt8 := dkwX0_ofHole_0 ++ dktX0_ofHole_1
theorem dksX0_ofHole_0 : cX0_ofHole.data.toList.drop 0 = dktX0_ofHole_0 := by decide +kernel
theorem dksX0_ofHole_1 : cX0_ofHole.data.toList.drop 1 = dktX0_ofHole_1 := dk_seg dksX0_ofHole_0 1 rfl rfl
theorem dksX0_ofHole_2 : cX0_ofHole.data.toList.drop 44 = dktX0_ofHole_2 := dk_seg dksX0_ofHole_1 43 rfl rfl
theorem dksX0_ofHole_3 : cX0_ofHole.data.toList.drop 68 = dktX0_ofHole_3 := dk_seg dksX0_ofHole_2 24 rfl rfl
theorem dX0_ofHole_0 : decode cX0_ofHole 0 = .ok (.iload_n 1, 1) := dk_27 (dk_at dksX0_ofHole_0 0 rfl rfl)
theorem dX0_ofHole_1 : decode cX0_ofHole 1 = .ok (.tableswitch 81 1 7 #[43, 48, 53, 58, 63, 71, 76], 43) := by decide +kernel
theorem dX0_ofHole_44 : decode cX0_ofHole 44 = .ok (.aload_n 0, 1) := dk_42 (dk_at dksX0_ofHole_2 0 rfl rfl)
theorem dX0_ofHole_45 : decode cX0_ofHole 45 = .ok (.getfield 252, 3) := dk_180 0 252 (dk_at dksX0_ofHole_2 1 rfl rfl)
theorem dX0_ofHole_48 : decode cX0_ofHole 48 = .ok (.ireturn, 1) := dk_172 (dk_at dksX0_ofHole_2 4 rfl rfl)
theorem dX0_ofHole_49 : decode cX0_ofHole 49 = .ok (.aload_n 0, 1) := dk_42 (dk_at dksX0_ofHole_2 5 rfl rfl)
theorem dX0_ofHole_50 : decode cX0_ofHole 50 = .ok (.getfield 255, 3) := dk_180 0 255 (dk_at dksX0_ofHole_2 6 rfl rfl)
theorem dX0_ofHole_53 : decode cX0_ofHole 53 = .ok (.ireturn, 1) := dk_172 (dk_at dksX0_ofHole_2 9 rfl rfl)
theorem dX0_ofHole_54 : decode cX0_ofHole 54 = .ok (.aload_n 0, 1) := dk_42 (dk_at dksX0_ofHole_2 10 rfl rfl)
theorem dX0_ofHole_55 : decode cX0_ofHole 55 = .ok (.getfield 258, 3) := dk_180 1 2 (dk_at dksX0_ofHole_2 11 rfl rfl)
theorem dX0_ofHole_58 : decode cX0_ofHole 58 = .ok (.ireturn, 1) := dk_172 (dk_at dksX0_ofHole_2 14 rfl rfl)
theorem dX0_ofHole_59 : decode cX0_ofHole 59 = .ok (.aload_n 0, 1) := dk_42 (dk_at dksX0_ofHole_2 15 rfl rfl)
theorem dX0_ofHole_60 : decode cX0_ofHole 60 = .ok (.getfield 261, 3) := dk_180 1 5 (dk_at dksX0_ofHole_2 16 rfl rfl)
theorem dX0_ofHole_63 : decode cX0_ofHole 63 = .ok (.ireturn, 1) := dk_172 (dk_at dksX0_ofHole_2 19 rfl rfl)
theorem dX0_ofHole_64 : decode cX0_ofHole 64 = .ok (.aload_n 0, 1) := dk_42 (dk_at dksX0_ofHole_2 20 rfl rfl)
theorem dX0_ofHole_65 : decode cX0_ofHole 65 = .ok (.invokevirtual 264, 3) := dk_182 1 8 (dk_at dksX0_ofHole_2 21 rfl rfl)
theorem dX0_ofHole_68 : decode cX0_ofHole 68 = .ok (.invokestatic 268, 3) := dk_184 1 12 (dk_at dksX0_ofHole_3 0 rfl rfl)
theorem dX0_ofHole_71 : decode cX0_ofHole 71 = .ok (.ireturn, 1) := dk_172 (dk_at dksX0_ofHole_3 3 rfl rfl)
theorem dX0_ofHole_72 : decode cX0_ofHole 72 = .ok (.aload_n 0, 1) := dk_42 (dk_at dksX0_ofHole_3 4 rfl rfl)
theorem dX0_ofHole_73 : decode cX0_ofHole 73 = .ok (.getfield 272, 3) := dk_180 1 16 (dk_at dksX0_ofHole_3 5 rfl rfl)
theorem dX0_ofHole_76 : decode cX0_ofHole 76 = .ok (.ireturn, 1) := dk_172 (dk_at dksX0_ofHole_3 8 rfl rfl)
theorem dX0_ofHole_77 : decode cX0_ofHole 77 = .ok (.aload_n 0, 1) := dk_42 (dk_at dksX0_ofHole_3 9 rfl rfl)
theorem dX0_ofHole_78 : decode cX0_ofHole 78 = .ok (.getfield 275, 3) := dk_180 1 19 (dk_at dksX0_ofHole_3 10 rfl rfl)
theorem dX0_ofHole_81 : decode cX0_ofHole 81 = .ok (.ireturn, 1) := dk_172 (dk_at dksX0_ofHole_3 13 rfl rfl)
theorem dX0_ofHole_82 : decode cX0_ofHole 82 = .ok (.ldc_w 278, 3) := dk_19 1 22 (dk_at dksX0_ofHole_3 14 rfl rfl)
theorem dX0_ofHole_85 : decode cX0_ofHole 85 = .ok (.ireturn, 1) := dk_172 (dk_at dksX0_ofHole_3 17 rfl rfl)
abbrev cX0_bit : ByteArray := prog_1_method_21_code
def yX0_bit : MethodName := ⟨RX0, "bit", "(Z)I"⟩
def dkwX0_bit_0 : List UInt8 := [26, 153, 0, 7, 4, 167, 0, 4, 3, 172]
abbrev dktX0_bit_0 : List UInt8 := dkwX0_bit_0 ++ []
theorem dksX0_bit_0 : cX0_bit.data.toList.drop 0 = dktX0_bit_0 := by decide +kernel
theorem dX0_bit_0 : decode cX0_bit 0 = .ok (.iload_n 0, 1) := dk_26 (dk_at dksX0_bit_0 0 rfl rfl)
theorem dX0_bit_1 : decode cX0_bit 1 = .ok (.ifCond .eq 7, 3) := dk_153 0 7 (dk_at dksX0_bit_0 1 rfl rfl)
theorem dX0_bit_4 : decode cX0_bit 4 = .ok (.iconst 1, 1) := dk_4 (dk_at dksX0_bit_0 4 rfl rfl)
theorem dX0_bit_5 : decode cX0_bit 5 = .ok (.goto 4, 3) := dk_167 0 4 (dk_at dksX0_bit_0 5 rfl rfl)
theorem dX0_bit_8 : decode cX0_bit 8 = .ok (.iconst 0, 1) := dk_3 (dk_at dksX0_bit_0 8 rfl rfl)
theorem dX0_bit_9 : decode cX0_bit 9 = .ok (.ireturn, 1) := dk_172 (dk_at dksX0_bit_0 9 rfl rfl)
abbrev cX0_manOf : ByteArray := prog_1_method_12_code
def yX0_manOf : MethodName := ⟨RX0, "manOf", "(I)LThirtyThreeBelow$Man;"⟩
def dkwX0_manOf_1 : List UInt8 := [27, 50, 192, 0, 190, 167, 0, 4, 1, 176]
abbrev dktX0_manOf_1 : List UInt8 := dkwX0_manOf_1 ++ []
def dkwX0_manOf_0 : List UInt8 := [42, 27, 182, 0, 187, 153, 0, 27, 42, 180, 0, 28, 27, 50, 193, 0, 190, 153, 0, 15, 42, 180, 0, 28]
abbrev dktX0_manOf_0 : List UInt8 := dkwX0_manOf_0 ++ dktX0_manOf_1
theorem dksX0_manOf_0 : cX0_manOf.data.toList.drop 0 = dktX0_manOf_0 := by decide +kernel
theorem dksX0_manOf_1 : cX0_manOf.data.toList.drop 24 = dktX0_manOf_1 := dk_seg dksX0_manOf_0 24 rfl rfl
theorem dX0_manOf_0 : decode cX0_manOf 0 = .ok (.aload_n 0, 1) := dk_42 (dk_at dksX0_manOf_0 0 rfl rfl)
theorem dX0_manOf_1 : decode cX0_manOf 1 = .ok (.iload_n 1, 1) := dk_27 (dk_at dksX0_manOf_0 1 rfl rfl)
theorem dX0_manOf_2 : decode cX0_manOf 2 = .ok (.invokevirtual 187, 3) := dk_182 0 187 (dk_at dksX0_manOf_0 2 rfl rfl)
theorem dX0_manOf_5 : decode cX0_manOf 5 = .ok (.ifCond .eq 27, 3) := dk_153 0 27 (dk_at dksX0_manOf_0 5 rfl rfl)
theorem dX0_manOf_8 : decode cX0_manOf 8 = .ok (.aload_n 0, 1) := dk_42 (dk_at dksX0_manOf_0 8 rfl rfl)
theorem dX0_manOf_9 : decode cX0_manOf 9 = .ok (.getfield 28, 3) := dk_180 0 28 (dk_at dksX0_manOf_0 9 rfl rfl)
theorem dX0_manOf_12 : decode cX0_manOf 12 = .ok (.iload_n 1, 1) := dk_27 (dk_at dksX0_manOf_0 12 rfl rfl)
theorem dX0_manOf_13 : decode cX0_manOf 13 = .ok (.aaload, 1) := dk_50 (dk_at dksX0_manOf_0 13 rfl rfl)
theorem dX0_manOf_14 : decode cX0_manOf 14 = .ok (.instanceof 190, 3) := dk_193 0 190 (dk_at dksX0_manOf_0 14 rfl rfl)
theorem dX0_manOf_17 : decode cX0_manOf 17 = .ok (.ifCond .eq 15, 3) := dk_153 0 15 (dk_at dksX0_manOf_0 17 rfl rfl)
theorem dX0_manOf_20 : decode cX0_manOf 20 = .ok (.aload_n 0, 1) := dk_42 (dk_at dksX0_manOf_0 20 rfl rfl)
theorem dX0_manOf_21 : decode cX0_manOf 21 = .ok (.getfield 28, 3) := dk_180 0 28 (dk_at dksX0_manOf_0 21 rfl rfl)
theorem dX0_manOf_24 : decode cX0_manOf 24 = .ok (.iload_n 1, 1) := dk_27 (dk_at dksX0_manOf_1 0 rfl rfl)
theorem dX0_manOf_25 : decode cX0_manOf 25 = .ok (.aaload, 1) := dk_50 (dk_at dksX0_manOf_1 1 rfl rfl)
theorem dX0_manOf_26 : decode cX0_manOf 26 = .ok (.checkcast 190, 3) := dk_192 0 190 (dk_at dksX0_manOf_1 2 rfl rfl)
theorem dX0_manOf_29 : decode cX0_manOf 29 = .ok (.goto 4, 3) := dk_167 0 4 (dk_at dksX0_manOf_1 5 rfl rfl)
theorem dX0_manOf_32 : decode cX0_manOf 32 = .ok (.aconst_null, 1) := dk_1 (dk_at dksX0_manOf_1 8 rfl rfl)
theorem dX0_manOf_33 : decode cX0_manOf 33 = .ok (.areturn, 1) := dk_176 (dk_at dksX0_manOf_1 9 rfl rfl)
abbrev cX0_ill : ByteArray := prog_1_method_24_code
def yX0_ill : MethodName := ⟨RX0, "ill", "(II)I"⟩
def dkwX0_ill_1 : List UInt8 := [45, 180, 1, 41, 54, 4, 45, 28, 181, 1, 41, 21, 4, 172]
abbrev dktX0_ill_1 : List UInt8 := dkwX0_ill_1 ++ []
def dkwX0_ill_0 : List UInt8 := [42, 27, 182, 0, 192, 78, 45, 198, 0, 15, 28, 133, 9, 20, 0, 178, 184, 0, 167, 154, 0, 5, 2, 172]
abbrev dktX0_ill_0 : List UInt8 := dkwX0_ill_0 ++ dktX0_ill_1
theorem dksX0_ill_0 : cX0_ill.data.toList.drop 0 = dktX0_ill_0 := by decide +kernel
theorem dksX0_ill_1 : cX0_ill.data.toList.drop 24 = dktX0_ill_1 := dk_seg dksX0_ill_0 24 rfl rfl
theorem dX0_ill_0 : decode cX0_ill 0 = .ok (.aload_n 0, 1) := dk_42 (dk_at dksX0_ill_0 0 rfl rfl)
theorem dX0_ill_1 : decode cX0_ill 1 = .ok (.iload_n 1, 1) := dk_27 (dk_at dksX0_ill_0 1 rfl rfl)
theorem dX0_ill_2 : decode cX0_ill 2 = .ok (.invokevirtual 192, 3) := dk_182 0 192 (dk_at dksX0_ill_0 2 rfl rfl)
theorem dX0_ill_5 : decode cX0_ill 5 = .ok (.astore_n 3, 1) := dk_78 (dk_at dksX0_ill_0 5 rfl rfl)
theorem dX0_ill_6 : decode cX0_ill 6 = .ok (.aload_n 3, 1) := dk_45 (dk_at dksX0_ill_0 6 rfl rfl)
theorem dX0_ill_7 : decode cX0_ill 7 = .ok (.ifnull 15, 3) := dk_198 0 15 (dk_at dksX0_ill_0 7 rfl rfl)
theorem dX0_ill_10 : decode cX0_ill 10 = .ok (.iload_n 2, 1) := dk_28 (dk_at dksX0_ill_0 10 rfl rfl)
theorem dX0_ill_11 : decode cX0_ill 11 = .ok (.i2l, 1) := dk_133 (dk_at dksX0_ill_0 11 rfl rfl)
theorem dX0_ill_12 : decode cX0_ill 12 = .ok (.lconst 0, 1) := dk_9 (dk_at dksX0_ill_0 12 rfl rfl)
theorem dX0_ill_13 : decode cX0_ill 13 = .ok (.ldc2_w 178, 3) := dk_20 0 178 (dk_at dksX0_ill_0 13 rfl rfl)
theorem dX0_ill_16 : decode cX0_ill 16 = .ok (.invokestatic 167, 3) := dk_184 0 167 (dk_at dksX0_ill_0 16 rfl rfl)
theorem dX0_ill_19 : decode cX0_ill 19 = .ok (.ifCond .ne 5, 3) := dk_154 0 5 (dk_at dksX0_ill_0 19 rfl rfl)
theorem dX0_ill_22 : decode cX0_ill 22 = .ok (.iconst (-1), 1) := dk_2 (dk_at dksX0_ill_0 22 rfl rfl)
theorem dX0_ill_23 : decode cX0_ill 23 = .ok (.ireturn, 1) := dk_172 (dk_at dksX0_ill_0 23 rfl rfl)
theorem dX0_ill_24 : decode cX0_ill 24 = .ok (.aload_n 3, 1) := dk_45 (dk_at dksX0_ill_1 0 rfl rfl)
theorem dX0_ill_25 : decode cX0_ill 25 = .ok (.getfield 297, 3) := dk_180 1 41 (dk_at dksX0_ill_1 1 rfl rfl)
theorem dX0_ill_28 : decode cX0_ill 28 = .ok (.istore 4, 2) := dk_54 4 (dk_at dksX0_ill_1 4 rfl rfl)
theorem dX0_ill_30 : decode cX0_ill 30 = .ok (.aload_n 3, 1) := dk_45 (dk_at dksX0_ill_1 6 rfl rfl)
theorem dX0_ill_31 : decode cX0_ill 31 = .ok (.iload_n 2, 1) := dk_28 (dk_at dksX0_ill_1 7 rfl rfl)
theorem dX0_ill_32 : decode cX0_ill 32 = .ok (.putfield 297, 3) := dk_181 1 41 (dk_at dksX0_ill_1 8 rfl rfl)
theorem dX0_ill_35 : decode cX0_ill 35 = .ok (.iload 4, 2) := dk_21 4 (dk_at dksX0_ill_1 11 rfl rfl)
theorem dX0_ill_37 : decode cX0_ill 37 = .ok (.ireturn, 1) := dk_172 (dk_at dksX0_ill_1 13 rfl rfl)
abbrev cX0_speed : ByteArray := prog_1_method_26_code
def yX0_speed : MethodName := ⟨RX0, "speed", "(II)I"⟩
def dkwX0_speed_1 : List UInt8 := [180, 0, 35, 27, 46, 62, 42, 180, 0, 35, 27, 28, 79, 29, 172]
abbrev dktX0_speed_1 : List UInt8 := dkwX0_speed_1 ++ []
def dkwX0_speed_0 : List UInt8 := [27, 184, 1, 47, 153, 0, 17, 28, 133, 20, 1, 50, 20, 0, 165, 184, 0, 167, 154, 0, 5, 2, 172, 42]
abbrev dktX0_speed_0 : List UInt8 := dkwX0_speed_0 ++ dktX0_speed_1
theorem dksX0_speed_0 : cX0_speed.data.toList.drop 0 = dktX0_speed_0 := by decide +kernel
theorem dksX0_speed_1 : cX0_speed.data.toList.drop 24 = dktX0_speed_1 := dk_seg dksX0_speed_0 24 rfl rfl
theorem dX0_speed_0 : decode cX0_speed 0 = .ok (.iload_n 1, 1) := dk_27 (dk_at dksX0_speed_0 0 rfl rfl)
theorem dX0_speed_1 : decode cX0_speed 1 = .ok (.invokestatic 303, 3) := dk_184 1 47 (dk_at dksX0_speed_0 1 rfl rfl)
theorem dX0_speed_4 : decode cX0_speed 4 = .ok (.ifCond .eq 17, 3) := dk_153 0 17 (dk_at dksX0_speed_0 4 rfl rfl)
theorem dX0_speed_7 : decode cX0_speed 7 = .ok (.iload_n 2, 1) := dk_28 (dk_at dksX0_speed_0 7 rfl rfl)
theorem dX0_speed_8 : decode cX0_speed 8 = .ok (.i2l, 1) := dk_133 (dk_at dksX0_speed_0 8 rfl rfl)
theorem dX0_speed_9 : decode cX0_speed 9 = .ok (.ldc2_w 306, 3) := dk_20 1 50 (dk_at dksX0_speed_0 9 rfl rfl)
theorem dX0_speed_12 : decode cX0_speed 12 = .ok (.ldc2_w 165, 3) := dk_20 0 165 (dk_at dksX0_speed_0 12 rfl rfl)
theorem dX0_speed_15 : decode cX0_speed 15 = .ok (.invokestatic 167, 3) := dk_184 0 167 (dk_at dksX0_speed_0 15 rfl rfl)
theorem dX0_speed_18 : decode cX0_speed 18 = .ok (.ifCond .ne 5, 3) := dk_154 0 5 (dk_at dksX0_speed_0 18 rfl rfl)
theorem dX0_speed_21 : decode cX0_speed 21 = .ok (.iconst (-1), 1) := dk_2 (dk_at dksX0_speed_0 21 rfl rfl)
theorem dX0_speed_22 : decode cX0_speed 22 = .ok (.ireturn, 1) := dk_172 (dk_at dksX0_speed_0 22 rfl rfl)
theorem dX0_speed_23 : decode cX0_speed 23 = .ok (.aload_n 0, 1) := dk_42 (dk_at dksX0_speed_0 23 rfl rfl)
theorem dX0_speed_24 : decode cX0_speed 24 = .ok (.getfield 35, 3) := dk_180 0 35 (dk_at dksX0_speed_1 0 rfl rfl)
theorem dX0_speed_27 : decode cX0_speed 27 = .ok (.iload_n 1, 1) := dk_27 (dk_at dksX0_speed_1 3 rfl rfl)
theorem dX0_speed_28 : decode cX0_speed 28 = .ok (.iaload, 1) := dk_46 (dk_at dksX0_speed_1 4 rfl rfl)
theorem dX0_speed_29 : decode cX0_speed 29 = .ok (.istore_n 3, 1) := dk_62 (dk_at dksX0_speed_1 5 rfl rfl)
theorem dX0_speed_30 : decode cX0_speed 30 = .ok (.aload_n 0, 1) := dk_42 (dk_at dksX0_speed_1 6 rfl rfl)
theorem dX0_speed_31 : decode cX0_speed 31 = .ok (.getfield 35, 3) := dk_180 0 35 (dk_at dksX0_speed_1 7 rfl rfl)
theorem dX0_speed_34 : decode cX0_speed 34 = .ok (.iload_n 1, 1) := dk_27 (dk_at dksX0_speed_1 10 rfl rfl)
theorem dX0_speed_35 : decode cX0_speed 35 = .ok (.iload_n 2, 1) := dk_28 (dk_at dksX0_speed_1 11 rfl rfl)
theorem dX0_speed_36 : decode cX0_speed 36 = .ok (.iastore, 1) := dk_79 (dk_at dksX0_speed_1 12 rfl rfl)
theorem dX0_speed_37 : decode cX0_speed 37 = .ok (.iload_n 3, 1) := dk_29 (dk_at dksX0_speed_1 13 rfl rfl)
theorem dX0_speed_38 : decode cX0_speed 38 = .ok (.ireturn, 1) := dk_172 (dk_at dksX0_speed_1 14 rfl rfl)
abbrev cX0_isMachine : ByteArray := prog_1_method_25_code
def yX0_isMachine : MethodName := ⟨RX0, "isMachine", "(I)Z"⟩
def dkwX0_isMachine_0 : List UInt8 := [26, 133, 9, 20, 0, 225, 184, 0, 167, 172]
abbrev dktX0_isMachine_0 : List UInt8 := dkwX0_isMachine_0 ++ []
theorem dksX0_isMachine_0 : cX0_isMachine.data.toList.drop 0 = dktX0_isMachine_0 := by decide +kernel
theorem dX0_isMachine_0 : decode cX0_isMachine 0 = .ok (.iload_n 0, 1) := dk_26 (dk_at dksX0_isMachine_0 0 rfl rfl)
theorem dX0_isMachine_1 : decode cX0_isMachine 1 = .ok (.i2l, 1) := dk_133 (dk_at dksX0_isMachine_0 1 rfl rfl)
theorem dX0_isMachine_2 : decode cX0_isMachine 2 = .ok (.lconst 0, 1) := dk_9 (dk_at dksX0_isMachine_0 2 rfl rfl)
theorem dX0_isMachine_3 : decode cX0_isMachine 3 = .ok (.ldc2_w 225, 3) := dk_20 0 225 (dk_at dksX0_isMachine_0 3 rfl rfl)
theorem dX0_isMachine_6 : decode cX0_isMachine 6 = .ok (.invokestatic 167, 3) := dk_184 0 167 (dk_at dksX0_isMachine_0 6 rfl rfl)
theorem dX0_isMachine_9 : decode cX0_isMachine 9 = .ok (.ireturn, 1) := dk_172 (dk_at dksX0_isMachine_0 9 rfl rfl)
abbrev cX0_set : ByteArray := prog_1_method_28_code
def yX0_set : MethodName := ⟨RX0, "set", "(II)I"⟩
def dkwX0_set_4 : List UInt8 := [83, 21, 4, 172]
abbrev dktX0_set_4 : List UInt8 := dkwX0_set_4 ++ []
def dkwX0_set_3 : List UInt8 := [172, 132, 4, 1, 167, 255, 222, 42, 180, 0, 40, 27, 50, 184, 1, 55, 54, 4, 42, 180, 0, 40, 27, 45]
abbrev dktX0_set_3 : List UInt8 := dkwX0_set_3 ++ dktX0_set_4
def dkwX0_set_2 : List UInt8 := [45, 198, 0, 24, 21, 4, 27, 159, 0, 18, 42, 180, 0, 40, 21, 4, 50, 45, 166, 0, 7, 19, 1, 22]
abbrev dktX0_set_2 : List UInt8 := dkwX0_set_2 ++ dktX0_set_3
def dkwX0_set_1 : List UInt8 := [28, 2, 160, 0, 7, 1, 167, 0, 8, 42, 28, 182, 1, 27, 78, 3, 54, 4, 21, 4, 6, 162, 0, 34]
abbrev dktX0_set_1 : List UInt8 := dkwX0_set_1 ++ dktX0_set_2
def dkwX0_set_0 : List UInt8 := [27, 184, 1, 47, 153, 0, 16, 28, 2, 159, 0, 15, 42, 28, 182, 1, 27, 199, 0, 7, 19, 1, 22, 172]
abbrev dktX0_set_0 : List UInt8 := dkwX0_set_0 ++ dktX0_set_1
theorem dksX0_set_0 : cX0_set.data.toList.drop 0 = dktX0_set_0 := by decide +kernel
theorem dksX0_set_1 : cX0_set.data.toList.drop 24 = dktX0_set_1 := dk_seg dksX0_set_0 24 rfl rfl
theorem dksX0_set_2 : cX0_set.data.toList.drop 48 = dktX0_set_2 := dk_seg dksX0_set_1 24 rfl rfl
theorem dksX0_set_3 : cX0_set.data.toList.drop 72 = dktX0_set_3 := dk_seg dksX0_set_2 24 rfl rfl
theorem dksX0_set_4 : cX0_set.data.toList.drop 96 = dktX0_set_4 := dk_seg dksX0_set_3 24 rfl rfl
theorem dX0_set_0 : decode cX0_set 0 = .ok (.iload_n 1, 1) := dk_27 (dk_at dksX0_set_0 0 rfl rfl)
theorem dX0_set_1 : decode cX0_set 1 = .ok (.invokestatic 303, 3) := dk_184 1 47 (dk_at dksX0_set_0 1 rfl rfl)
theorem dX0_set_4 : decode cX0_set 4 = .ok (.ifCond .eq 16, 3) := dk_153 0 16 (dk_at dksX0_set_0 4 rfl rfl)
theorem dX0_set_7 : decode cX0_set 7 = .ok (.iload_n 2, 1) := dk_28 (dk_at dksX0_set_0 7 rfl rfl)
theorem dX0_set_8 : decode cX0_set 8 = .ok (.iconst (-1), 1) := dk_2 (dk_at dksX0_set_0 8 rfl rfl)
theorem dX0_set_9 : decode cX0_set 9 = .ok (.if_icmp .eq 15, 3) := dk_159 0 15 (dk_at dksX0_set_0 9 rfl rfl)
theorem dX0_set_12 : decode cX0_set 12 = .ok (.aload_n 0, 1) := dk_42 (dk_at dksX0_set_0 12 rfl rfl)
theorem dX0_set_13 : decode cX0_set 13 = .ok (.iload_n 2, 1) := dk_28 (dk_at dksX0_set_0 13 rfl rfl)
theorem dX0_set_14 : decode cX0_set 14 = .ok (.invokevirtual 283, 3) := dk_182 1 27 (dk_at dksX0_set_0 14 rfl rfl)
theorem dX0_set_17 : decode cX0_set 17 = .ok (.ifnonnull 7, 3) := dk_199 0 7 (dk_at dksX0_set_0 17 rfl rfl)
theorem dX0_set_20 : decode cX0_set 20 = .ok (.ldc_w 278, 3) := dk_19 1 22 (dk_at dksX0_set_0 20 rfl rfl)
theorem dX0_set_23 : decode cX0_set 23 = .ok (.ireturn, 1) := dk_172 (dk_at dksX0_set_0 23 rfl rfl)
theorem dX0_set_24 : decode cX0_set 24 = .ok (.iload_n 2, 1) := dk_28 (dk_at dksX0_set_1 0 rfl rfl)
theorem dX0_set_25 : decode cX0_set 25 = .ok (.iconst (-1), 1) := dk_2 (dk_at dksX0_set_1 1 rfl rfl)
theorem dX0_set_26 : decode cX0_set 26 = .ok (.if_icmp .ne 7, 3) := dk_160 0 7 (dk_at dksX0_set_1 2 rfl rfl)
theorem dX0_set_29 : decode cX0_set 29 = .ok (.aconst_null, 1) := dk_1 (dk_at dksX0_set_1 5 rfl rfl)
theorem dX0_set_30 : decode cX0_set 30 = .ok (.goto 8, 3) := dk_167 0 8 (dk_at dksX0_set_1 6 rfl rfl)
theorem dX0_set_33 : decode cX0_set 33 = .ok (.aload_n 0, 1) := dk_42 (dk_at dksX0_set_1 9 rfl rfl)
theorem dX0_set_34 : decode cX0_set 34 = .ok (.iload_n 2, 1) := dk_28 (dk_at dksX0_set_1 10 rfl rfl)
theorem dX0_set_35 : decode cX0_set 35 = .ok (.invokevirtual 283, 3) := dk_182 1 27 (dk_at dksX0_set_1 11 rfl rfl)
theorem dX0_set_38 : decode cX0_set 38 = .ok (.astore_n 3, 1) := dk_78 (dk_at dksX0_set_1 14 rfl rfl)
theorem dX0_set_39 : decode cX0_set 39 = .ok (.iconst 0, 1) := dk_3 (dk_at dksX0_set_1 15 rfl rfl)
theorem dX0_set_40 : decode cX0_set 40 = .ok (.istore 4, 2) := dk_54 4 (dk_at dksX0_set_1 16 rfl rfl)
theorem dX0_set_42 : decode cX0_set 42 = .ok (.iload 4, 2) := dk_21 4 (dk_at dksX0_set_1 18 rfl rfl)
theorem dX0_set_44 : decode cX0_set 44 = .ok (.iconst 3, 1) := dk_6 (dk_at dksX0_set_1 20 rfl rfl)
theorem dX0_set_45 : decode cX0_set 45 = .ok (.if_icmp .ge 34, 3) := dk_162 0 34 (dk_at dksX0_set_1 21 rfl rfl)
theorem dX0_set_48 : decode cX0_set 48 = .ok (.aload_n 3, 1) := dk_45 (dk_at dksX0_set_2 0 rfl rfl)
theorem dX0_set_49 : decode cX0_set 49 = .ok (.ifnull 24, 3) := dk_198 0 24 (dk_at dksX0_set_2 1 rfl rfl)
theorem dX0_set_52 : decode cX0_set 52 = .ok (.iload 4, 2) := dk_21 4 (dk_at dksX0_set_2 4 rfl rfl)
theorem dX0_set_54 : decode cX0_set 54 = .ok (.iload_n 1, 1) := dk_27 (dk_at dksX0_set_2 6 rfl rfl)
theorem dX0_set_55 : decode cX0_set 55 = .ok (.if_icmp .eq 18, 3) := dk_159 0 18 (dk_at dksX0_set_2 7 rfl rfl)
theorem dX0_set_58 : decode cX0_set 58 = .ok (.aload_n 0, 1) := dk_42 (dk_at dksX0_set_2 10 rfl rfl)
theorem dX0_set_59 : decode cX0_set 59 = .ok (.getfield 40, 3) := dk_180 0 40 (dk_at dksX0_set_2 11 rfl rfl)
theorem dX0_set_62 : decode cX0_set 62 = .ok (.iload 4, 2) := dk_21 4 (dk_at dksX0_set_2 14 rfl rfl)
theorem dX0_set_64 : decode cX0_set 64 = .ok (.aaload, 1) := dk_50 (dk_at dksX0_set_2 16 rfl rfl)
theorem dX0_set_65 : decode cX0_set 65 = .ok (.aload_n 3, 1) := dk_45 (dk_at dksX0_set_2 17 rfl rfl)
theorem dX0_set_66 : decode cX0_set 66 = .ok (.if_acmp .ne 7, 3) := dk_166 0 7 (dk_at dksX0_set_2 18 rfl rfl)
theorem dX0_set_69 : decode cX0_set 69 = .ok (.ldc_w 278, 3) := dk_19 1 22 (dk_at dksX0_set_2 21 rfl rfl)
theorem dX0_set_72 : decode cX0_set 72 = .ok (.ireturn, 1) := dk_172 (dk_at dksX0_set_3 0 rfl rfl)
theorem dX0_set_73 : decode cX0_set 73 = .ok (.iinc 4 1, 3) := dk_132 4 1 (dk_at dksX0_set_3 1 rfl rfl)
theorem dX0_set_76 : decode cX0_set 76 = .ok (.goto (-34), 3) := dk_167 255 222 (dk_at dksX0_set_3 4 rfl rfl)
theorem dX0_set_79 : decode cX0_set 79 = .ok (.aload_n 0, 1) := dk_42 (dk_at dksX0_set_3 7 rfl rfl)
theorem dX0_set_80 : decode cX0_set 80 = .ok (.getfield 40, 3) := dk_180 0 40 (dk_at dksX0_set_3 8 rfl rfl)
theorem dX0_set_83 : decode cX0_set 83 = .ok (.iload_n 1, 1) := dk_27 (dk_at dksX0_set_3 11 rfl rfl)
theorem dX0_set_84 : decode cX0_set 84 = .ok (.aaload, 1) := dk_50 (dk_at dksX0_set_3 12 rfl rfl)
theorem dX0_set_85 : decode cX0_set 85 = .ok (.invokestatic 311, 3) := dk_184 1 55 (dk_at dksX0_set_3 13 rfl rfl)
theorem dX0_set_88 : decode cX0_set 88 = .ok (.istore 4, 2) := dk_54 4 (dk_at dksX0_set_3 16 rfl rfl)
theorem dX0_set_90 : decode cX0_set 90 = .ok (.aload_n 0, 1) := dk_42 (dk_at dksX0_set_3 18 rfl rfl)
theorem dX0_set_91 : decode cX0_set 91 = .ok (.getfield 40, 3) := dk_180 0 40 (dk_at dksX0_set_3 19 rfl rfl)
theorem dX0_set_94 : decode cX0_set 94 = .ok (.iload_n 1, 1) := dk_27 (dk_at dksX0_set_3 22 rfl rfl)
theorem dX0_set_95 : decode cX0_set 95 = .ok (.aload_n 3, 1) := dk_45 (dk_at dksX0_set_3 23 rfl rfl)
theorem dX0_set_96 : decode cX0_set 96 = .ok (.aastore, 1) := dk_83 (dk_at dksX0_set_4 0 rfl rfl)
theorem dX0_set_97 : decode cX0_set 97 = .ok (.iload 4, 2) := dk_21 4 (dk_at dksX0_set_4 1 rfl rfl)
theorem dX0_set_99 : decode cX0_set 99 = .ok (.ireturn, 1) := dk_172 (dk_at dksX0_set_4 3 rfl rfl)
abbrev cX0_numberOf : ByteArray := prog_1_method_27_code
def yX0_numberOf : MethodName := ⟨RX0, "numberOf", "(LThirtyThreeBelow$Body;)I"⟩
def dkwX0_numberOf_0 : List UInt8 := [42, 199, 0, 7, 2, 167, 0, 7, 42, 180, 1, 52, 172]
abbrev dktX0_numberOf_0 : List UInt8 := dkwX0_numberOf_0 ++ []
theorem dksX0_numberOf_0 : cX0_numberOf.data.toList.drop 0 = dktX0_numberOf_0 := by decide +kernel
theorem dX0_numberOf_0 : decode cX0_numberOf 0 = .ok (.aload_n 0, 1) := dk_42 (dk_at dksX0_numberOf_0 0 rfl rfl)
theorem dX0_numberOf_1 : decode cX0_numberOf 1 = .ok (.ifnonnull 7, 3) := dk_199 0 7 (dk_at dksX0_numberOf_0 1 rfl rfl)
theorem dX0_numberOf_4 : decode cX0_numberOf 4 = .ok (.iconst (-1), 1) := dk_2 (dk_at dksX0_numberOf_0 4 rfl rfl)
theorem dX0_numberOf_5 : decode cX0_numberOf 5 = .ok (.goto 7, 3) := dk_167 0 7 (dk_at dksX0_numberOf_0 5 rfl rfl)
theorem dX0_numberOf_8 : decode cX0_numberOf 8 = .ok (.aload_n 0, 1) := dk_42 (dk_at dksX0_numberOf_0 8 rfl rfl)
theorem dX0_numberOf_9 : decode cX0_numberOf 9 = .ok (.getfield 308, 3) := dk_180 1 52 (dk_at dksX0_numberOf_0 9 rfl rfl)
theorem dX0_numberOf_12 : decode cX0_numberOf 12 = .ok (.ireturn, 1) := dk_172 (dk_at dksX0_numberOf_0 12 rfl rfl)
abbrev cX0_breaks : ByteArray := prog_1_method_29_code
def yX0_breaks : MethodName := ⟨RX0, "breaks", "(II)I"⟩
def dkwX0_breaks_1 : List UInt8 := [172, 42, 180, 0, 44, 27, 28, 79, 4, 172]
abbrev dktX0_breaks_1 : List UInt8 := dkwX0_breaks_1 ++ []
def dkwX0_breaks_0 : List UInt8 := [27, 184, 1, 47, 153, 0, 19, 28, 133, 42, 180, 1, 58, 133, 20, 1, 61, 184, 0, 167, 154, 0, 5, 2]
abbrev dktX0_breaks_0 : List UInt8 := dkwX0_breaks_0 ++ dktX0_breaks_1
theorem dksX0_breaks_0 : cX0_breaks.data.toList.drop 0 = dktX0_breaks_0 := by decide +kernel
theorem dksX0_breaks_1 : cX0_breaks.data.toList.drop 24 = dktX0_breaks_1 := dk_seg dksX0_breaks_0 24 rfl rfl
theorem dX0_breaks_0 : decode cX0_breaks 0 = .ok (.iload_n 1, 1) := dk_27 (dk_at dksX0_breaks_0 0 rfl rfl)
theorem dX0_breaks_1 : decode cX0_breaks 1 = .ok (.invokestatic 303, 3) := dk_184 1 47 (dk_at dksX0_breaks_0 1 rfl rfl)
theorem dX0_breaks_4 : decode cX0_breaks 4 = .ok (.ifCond .eq 19, 3) := dk_153 0 19 (dk_at dksX0_breaks_0 4 rfl rfl)
theorem dX0_breaks_7 : decode cX0_breaks 7 = .ok (.iload_n 2, 1) := dk_28 (dk_at dksX0_breaks_0 7 rfl rfl)
theorem dX0_breaks_8 : decode cX0_breaks 8 = .ok (.i2l, 1) := dk_133 (dk_at dksX0_breaks_0 8 rfl rfl)
theorem dX0_breaks_9 : decode cX0_breaks 9 = .ok (.aload_n 0, 1) := dk_42 (dk_at dksX0_breaks_0 9 rfl rfl)
theorem dX0_breaks_10 : decode cX0_breaks 10 = .ok (.getfield 314, 3) := dk_180 1 58 (dk_at dksX0_breaks_0 10 rfl rfl)
theorem dX0_breaks_13 : decode cX0_breaks 13 = .ok (.i2l, 1) := dk_133 (dk_at dksX0_breaks_0 13 rfl rfl)
theorem dX0_breaks_14 : decode cX0_breaks 14 = .ok (.ldc2_w 317, 3) := dk_20 1 61 (dk_at dksX0_breaks_0 14 rfl rfl)
theorem dX0_breaks_17 : decode cX0_breaks 17 = .ok (.invokestatic 167, 3) := dk_184 0 167 (dk_at dksX0_breaks_0 17 rfl rfl)
theorem dX0_breaks_20 : decode cX0_breaks 20 = .ok (.ifCond .ne 5, 3) := dk_154 0 5 (dk_at dksX0_breaks_0 20 rfl rfl)
theorem dX0_breaks_23 : decode cX0_breaks 23 = .ok (.iconst (-1), 1) := dk_2 (dk_at dksX0_breaks_0 23 rfl rfl)
theorem dX0_breaks_24 : decode cX0_breaks 24 = .ok (.ireturn, 1) := dk_172 (dk_at dksX0_breaks_1 0 rfl rfl)
theorem dX0_breaks_25 : decode cX0_breaks 25 = .ok (.aload_n 0, 1) := dk_42 (dk_at dksX0_breaks_1 1 rfl rfl)
theorem dX0_breaks_26 : decode cX0_breaks 26 = .ok (.getfield 44, 3) := dk_180 0 44 (dk_at dksX0_breaks_1 2 rfl rfl)
theorem dX0_breaks_29 : decode cX0_breaks 29 = .ok (.iload_n 1, 1) := dk_27 (dk_at dksX0_breaks_1 5 rfl rfl)
theorem dX0_breaks_30 : decode cX0_breaks 30 = .ok (.iload_n 2, 1) := dk_28 (dk_at dksX0_breaks_1 6 rfl rfl)
theorem dX0_breaks_31 : decode cX0_breaks 31 = .ok (.iastore, 1) := dk_79 (dk_at dksX0_breaks_1 7 rfl rfl)
theorem dX0_breaks_32 : decode cX0_breaks 32 = .ok (.iconst 1, 1) := dk_4 (dk_at dksX0_breaks_1 8 rfl rfl)
theorem dX0_breaks_33 : decode cX0_breaks 33 = .ok (.ireturn, 1) := dk_172 (dk_at dksX0_breaks_1 9 rfl rfl)
abbrev cX0_yard : ByteArray := prog_1_method_30_code
def yX0_yard : MethodName := ⟨RX0, "yard", "(II)I"⟩
def dkwX0_yard_2 : List UInt8 := [45, 180, 1, 65, 45, 89, 180, 1, 19, 4, 96, 90, 181, 1, 19, 28, 79, 45, 180, 1, 19, 172]
abbrev dktX0_yard_2 : List UInt8 := dkwX0_yard_2 ++ []
def dkwX0_yard_1 : List UInt8 := [2, 172, 45, 182, 1, 8, 153, 0, 6, 16, 254, 172, 45, 180, 1, 19, 16, 60, 160, 0, 6, 16, 253, 172]
abbrev dktX0_yard_1 : List UInt8 := dkwX0_yard_1 ++ dktX0_yard_2
def dkwX0_yard_0 : List UInt8 := [42, 27, 182, 1, 27, 78, 45, 198, 0, 17, 28, 133, 20, 1, 63, 20, 0, 225, 184, 0, 167, 154, 0, 5]
abbrev dktX0_yard_0 : List UInt8 := dkwX0_yard_0 ++ dktX0_yard_1
theorem dksX0_yard_0 : cX0_yard.data.toList.drop 0 = dktX0_yard_0 := by decide +kernel
theorem dksX0_yard_1 : cX0_yard.data.toList.drop 24 = dktX0_yard_1 := dk_seg dksX0_yard_0 24 rfl rfl
theorem dksX0_yard_2 : cX0_yard.data.toList.drop 48 = dktX0_yard_2 := dk_seg dksX0_yard_1 24 rfl rfl
theorem dX0_yard_0 : decode cX0_yard 0 = .ok (.aload_n 0, 1) := dk_42 (dk_at dksX0_yard_0 0 rfl rfl)
theorem dX0_yard_1 : decode cX0_yard 1 = .ok (.iload_n 1, 1) := dk_27 (dk_at dksX0_yard_0 1 rfl rfl)
theorem dX0_yard_2 : decode cX0_yard 2 = .ok (.invokevirtual 283, 3) := dk_182 1 27 (dk_at dksX0_yard_0 2 rfl rfl)
theorem dX0_yard_5 : decode cX0_yard 5 = .ok (.astore_n 3, 1) := dk_78 (dk_at dksX0_yard_0 5 rfl rfl)
theorem dX0_yard_6 : decode cX0_yard 6 = .ok (.aload_n 3, 1) := dk_45 (dk_at dksX0_yard_0 6 rfl rfl)
theorem dX0_yard_7 : decode cX0_yard 7 = .ok (.ifnull 17, 3) := dk_198 0 17 (dk_at dksX0_yard_0 7 rfl rfl)
theorem dX0_yard_10 : decode cX0_yard 10 = .ok (.iload_n 2, 1) := dk_28 (dk_at dksX0_yard_0 10 rfl rfl)
theorem dX0_yard_11 : decode cX0_yard 11 = .ok (.i2l, 1) := dk_133 (dk_at dksX0_yard_0 11 rfl rfl)
theorem dX0_yard_12 : decode cX0_yard 12 = .ok (.ldc2_w 319, 3) := dk_20 1 63 (dk_at dksX0_yard_0 12 rfl rfl)
theorem dX0_yard_15 : decode cX0_yard 15 = .ok (.ldc2_w 225, 3) := dk_20 0 225 (dk_at dksX0_yard_0 15 rfl rfl)
theorem dX0_yard_18 : decode cX0_yard 18 = .ok (.invokestatic 167, 3) := dk_184 0 167 (dk_at dksX0_yard_0 18 rfl rfl)
theorem dX0_yard_21 : decode cX0_yard 21 = .ok (.ifCond .ne 5, 3) := dk_154 0 5 (dk_at dksX0_yard_0 21 rfl rfl)
theorem dX0_yard_24 : decode cX0_yard 24 = .ok (.iconst (-1), 1) := dk_2 (dk_at dksX0_yard_1 0 rfl rfl)
theorem dX0_yard_25 : decode cX0_yard 25 = .ok (.ireturn, 1) := dk_172 (dk_at dksX0_yard_1 1 rfl rfl)
theorem dX0_yard_26 : decode cX0_yard 26 = .ok (.aload_n 3, 1) := dk_45 (dk_at dksX0_yard_1 2 rfl rfl)
theorem dX0_yard_27 : decode cX0_yard 27 = .ok (.invokevirtual 264, 3) := dk_182 1 8 (dk_at dksX0_yard_1 3 rfl rfl)
theorem dX0_yard_30 : decode cX0_yard 30 = .ok (.ifCond .eq 6, 3) := dk_153 0 6 (dk_at dksX0_yard_1 6 rfl rfl)
theorem dX0_yard_33 : decode cX0_yard 33 = .ok (.bipush (-2), 2) := dk_16 254 (dk_at dksX0_yard_1 9 rfl rfl)
theorem dX0_yard_35 : decode cX0_yard 35 = .ok (.ireturn, 1) := dk_172 (dk_at dksX0_yard_1 11 rfl rfl)
theorem dX0_yard_36 : decode cX0_yard 36 = .ok (.aload_n 3, 1) := dk_45 (dk_at dksX0_yard_1 12 rfl rfl)
theorem dX0_yard_37 : decode cX0_yard 37 = .ok (.getfield 275, 3) := dk_180 1 19 (dk_at dksX0_yard_1 13 rfl rfl)
theorem dX0_yard_40 : decode cX0_yard 40 = .ok (.bipush 60, 2) := dk_16 60 (dk_at dksX0_yard_1 16 rfl rfl)
theorem dX0_yard_42 : decode cX0_yard 42 = .ok (.if_icmp .ne 6, 3) := dk_160 0 6 (dk_at dksX0_yard_1 18 rfl rfl)
theorem dX0_yard_45 : decode cX0_yard 45 = .ok (.bipush (-3), 2) := dk_16 253 (dk_at dksX0_yard_1 21 rfl rfl)
theorem dX0_yard_47 : decode cX0_yard 47 = .ok (.ireturn, 1) := dk_172 (dk_at dksX0_yard_1 23 rfl rfl)
theorem dX0_yard_48 : decode cX0_yard 48 = .ok (.aload_n 3, 1) := dk_45 (dk_at dksX0_yard_2 0 rfl rfl)
theorem dX0_yard_49 : decode cX0_yard 49 = .ok (.getfield 321, 3) := dk_180 1 65 (dk_at dksX0_yard_2 1 rfl rfl)
theorem dX0_yard_52 : decode cX0_yard 52 = .ok (.aload_n 3, 1) := dk_45 (dk_at dksX0_yard_2 4 rfl rfl)
theorem dX0_yard_53 : decode cX0_yard 53 = .ok (.dup, 1) := dk_89 (dk_at dksX0_yard_2 5 rfl rfl)
theorem dX0_yard_54 : decode cX0_yard 54 = .ok (.getfield 275, 3) := dk_180 1 19 (dk_at dksX0_yard_2 6 rfl rfl)
theorem dX0_yard_57 : decode cX0_yard 57 = .ok (.iconst 1, 1) := dk_4 (dk_at dksX0_yard_2 9 rfl rfl)
theorem dX0_yard_58 : decode cX0_yard 58 = .ok (.iadd, 1) := dk_96 (dk_at dksX0_yard_2 10 rfl rfl)
theorem dX0_yard_59 : decode cX0_yard 59 = .ok (.dup_x1, 1) := dk_90 (dk_at dksX0_yard_2 11 rfl rfl)
theorem dX0_yard_60 : decode cX0_yard 60 = .ok (.putfield 275, 3) := dk_181 1 19 (dk_at dksX0_yard_2 12 rfl rfl)
theorem dX0_yard_63 : decode cX0_yard 63 = .ok (.iload_n 2, 1) := dk_28 (dk_at dksX0_yard_2 15 rfl rfl)
theorem dX0_yard_64 : decode cX0_yard 64 = .ok (.iastore, 1) := dk_79 (dk_at dksX0_yard_2 16 rfl rfl)
theorem dX0_yard_65 : decode cX0_yard 65 = .ok (.aload_n 3, 1) := dk_45 (dk_at dksX0_yard_2 17 rfl rfl)
theorem dX0_yard_66 : decode cX0_yard 66 = .ok (.getfield 275, 3) := dk_180 1 19 (dk_at dksX0_yard_2 18 rfl rfl)
theorem dX0_yard_69 : decode cX0_yard 69 = .ok (.ireturn, 1) := dk_172 (dk_at dksX0_yard_2 21 rfl rfl)
abbrev cX0_met : ByteArray := prog_1_method_32_code
def yX0_met : MethodName := ⟨RX0, "met", "(II)I"⟩
def dkwX0_met_1 : List UInt8 := [172]
abbrev dktX0_met_1 : List UInt8 := dkwX0_met_1 ++ []
def dkwX0_met_0 : List UInt8 := [42, 27, 182, 1, 27, 78, 45, 28, 184, 1, 68, 153, 0, 12, 45, 180, 1, 72, 28, 46, 167, 0, 4, 2]
abbrev dktX0_met_0 : List UInt8 := dkwX0_met_0 ++ dktX0_met_1
theorem dksX0_met_0 : cX0_met.data.toList.drop 0 = dktX0_met_0 := by decide +kernel
theorem dksX0_met_1 : cX0_met.data.toList.drop 24 = dktX0_met_1 := dk_seg dksX0_met_0 24 rfl rfl
theorem dX0_met_0 : decode cX0_met 0 = .ok (.aload_n 0, 1) := dk_42 (dk_at dksX0_met_0 0 rfl rfl)
theorem dX0_met_1 : decode cX0_met 1 = .ok (.iload_n 1, 1) := dk_27 (dk_at dksX0_met_0 1 rfl rfl)
theorem dX0_met_2 : decode cX0_met 2 = .ok (.invokevirtual 283, 3) := dk_182 1 27 (dk_at dksX0_met_0 2 rfl rfl)
theorem dX0_met_5 : decode cX0_met 5 = .ok (.astore_n 3, 1) := dk_78 (dk_at dksX0_met_0 5 rfl rfl)
theorem dX0_met_6 : decode cX0_met 6 = .ok (.aload_n 3, 1) := dk_45 (dk_at dksX0_met_0 6 rfl rfl)
theorem dX0_met_7 : decode cX0_met 7 = .ok (.iload_n 2, 1) := dk_28 (dk_at dksX0_met_0 7 rfl rfl)
theorem dX0_met_8 : decode cX0_met 8 = .ok (.invokestatic 324, 3) := dk_184 1 68 (dk_at dksX0_met_0 8 rfl rfl)
theorem dX0_met_11 : decode cX0_met 11 = .ok (.ifCond .eq 12, 3) := dk_153 0 12 (dk_at dksX0_met_0 11 rfl rfl)
theorem dX0_met_14 : decode cX0_met 14 = .ok (.aload_n 3, 1) := dk_45 (dk_at dksX0_met_0 14 rfl rfl)
theorem dX0_met_15 : decode cX0_met 15 = .ok (.getfield 328, 3) := dk_180 1 72 (dk_at dksX0_met_0 15 rfl rfl)
theorem dX0_met_18 : decode cX0_met 18 = .ok (.iload_n 2, 1) := dk_28 (dk_at dksX0_met_0 18 rfl rfl)
theorem dX0_met_19 : decode cX0_met 19 = .ok (.iaload, 1) := dk_46 (dk_at dksX0_met_0 19 rfl rfl)
theorem dX0_met_20 : decode cX0_met 20 = .ok (.goto 4, 3) := dk_167 0 4 (dk_at dksX0_met_0 20 rfl rfl)
theorem dX0_met_23 : decode cX0_met 23 = .ok (.iconst (-1), 1) := dk_2 (dk_at dksX0_met_0 23 rfl rfl)
theorem dX0_met_24 : decode cX0_met 24 = .ok (.ireturn, 1) := dk_172 (dk_at dksX0_met_1 0 rfl rfl)
abbrev cX0_isBored : ByteArray := prog_1_method_31_code
def yX0_isBored : MethodName := ⟨RX0, "isBored", "(LThirtyThreeBelow$Hole;I)Z"⟩
def dkwX0_isBored_0 : List UInt8 := [42, 198, 0, 21, 27, 133, 10, 42, 180, 1, 2, 133, 184, 0, 167, 153, 0, 7, 4, 167, 0, 4, 3, 172]
abbrev dktX0_isBored_0 : List UInt8 := dkwX0_isBored_0 ++ []
theorem dksX0_isBored_0 : cX0_isBored.data.toList.drop 0 = dktX0_isBored_0 := by decide +kernel
theorem dX0_isBored_0 : decode cX0_isBored 0 = .ok (.aload_n 0, 1) := dk_42 (dk_at dksX0_isBored_0 0 rfl rfl)
theorem dX0_isBored_1 : decode cX0_isBored 1 = .ok (.ifnull 21, 3) := dk_198 0 21 (dk_at dksX0_isBored_0 1 rfl rfl)
theorem dX0_isBored_4 : decode cX0_isBored 4 = .ok (.iload_n 1, 1) := dk_27 (dk_at dksX0_isBored_0 4 rfl rfl)
theorem dX0_isBored_5 : decode cX0_isBored 5 = .ok (.i2l, 1) := dk_133 (dk_at dksX0_isBored_0 5 rfl rfl)
theorem dX0_isBored_6 : decode cX0_isBored 6 = .ok (.lconst 1, 1) := dk_10 (dk_at dksX0_isBored_0 6 rfl rfl)
theorem dX0_isBored_7 : decode cX0_isBored 7 = .ok (.aload_n 0, 1) := dk_42 (dk_at dksX0_isBored_0 7 rfl rfl)
theorem dX0_isBored_8 : decode cX0_isBored 8 = .ok (.getfield 258, 3) := dk_180 1 2 (dk_at dksX0_isBored_0 8 rfl rfl)
theorem dX0_isBored_11 : decode cX0_isBored 11 = .ok (.i2l, 1) := dk_133 (dk_at dksX0_isBored_0 11 rfl rfl)
theorem dX0_isBored_12 : decode cX0_isBored 12 = .ok (.invokestatic 167, 3) := dk_184 0 167 (dk_at dksX0_isBored_0 12 rfl rfl)
theorem dX0_isBored_15 : decode cX0_isBored 15 = .ok (.ifCond .eq 7, 3) := dk_153 0 7 (dk_at dksX0_isBored_0 15 rfl rfl)
theorem dX0_isBored_18 : decode cX0_isBored 18 = .ok (.iconst 1, 1) := dk_4 (dk_at dksX0_isBored_0 18 rfl rfl)
theorem dX0_isBored_19 : decode cX0_isBored 19 = .ok (.goto 4, 3) := dk_167 0 4 (dk_at dksX0_isBored_0 19 rfl rfl)
theorem dX0_isBored_22 : decode cX0_isBored 22 = .ok (.iconst 0, 1) := dk_3 (dk_at dksX0_isBored_0 22 rfl rfl)
theorem dX0_isBored_23 : decode cX0_isBored 23 = .ok (.ireturn, 1) := dk_172 (dk_at dksX0_isBored_0 23 rfl rfl)
abbrev cX0_log : ByteArray := prog_1_method_35_code
def yX0_log : MethodName := ⟨RX0, "log", "(IIIII)I"⟩
def dkwX0_log_13 : List UInt8 := [25, 13, 191, 21, 8, 172]
abbrev dktX0_log_13 : List UInt8 := dkwX0_log_13 ++ []
def dkwX0_log_12 : List UInt8 := [163, 0, 23, 21, 9, 154, 0, 18, 25, 6, 180, 1, 97, 21, 14, 3, 84, 132, 14, 1, 167, 255, 232]
abbrev dktX0_log_12 : List UInt8 := dkwX0_log_12 ++ dktX0_log_13
def dkwX0_log_11 : List UInt8 := [3, 84, 132, 12, 1, 167, 255, 232, 21, 11, 172, 58, 13, 21, 4, 21, 8, 96, 54, 14, 21, 14, 16, 60]
abbrev dktX0_log_11 : List UInt8 := dkwX0_log_11 ++ dktX0_log_12
def dkwX0_log_10 : List UInt8 := [21, 8, 96, 54, 12, 21, 12, 16, 60, 163, 0, 23, 21, 9, 154, 0, 18, 25, 6, 180, 1, 97, 21, 12]
abbrev dktX0_log_10 : List UInt8 := dkwX0_log_10 ++ dktX0_log_11
def dkwX0_log_9 : List UInt8 := [180, 1, 97, 21, 10, 3, 84, 132, 10, 1, 167, 255, 232, 167, 0, 85, 58, 10, 21, 8, 54, 11, 21, 4]
abbrev dktX0_log_9 : List UInt8 := dkwX0_log_9 ++ dktX0_log_10
def dkwX0_log_8 : List UInt8 := [54, 9, 21, 4, 21, 8, 96, 54, 10, 21, 10, 16, 60, 163, 0, 23, 21, 9, 154, 0, 18, 25, 6]
abbrev dktX0_log_8 : List UInt8 := dkwX0_log_8 ++ dktX0_log_9
def dkwX0_log_7 : List UInt8 := [100, 46, 167, 0, 4, 3, 79, 25, 6, 180, 1, 97, 21, 10, 4, 84, 132, 8, 1, 167, 255, 157, 4]
abbrev dktX0_log_7 : List UInt8 := dkwX0_log_7 ++ dktX0_log_8
def dkwX0_log_6 : List UInt8 := [167, 0, 30, 25, 6, 180, 1, 97, 21, 10, 4, 100, 51, 153, 0, 16, 25, 6, 180, 1, 94, 21, 10, 4]
abbrev dktX0_log_6 : List UInt8 := dkwX0_log_6 ++ dktX0_log_7
def dkwX0_log_5 : List UInt8 := [182, 1, 90, 57, 11, 25, 6, 180, 1, 94, 21, 10, 24, 11, 24, 11, 151, 154, 0, 9, 24, 11, 142]
abbrev dktX0_log_5 : List UInt8 := dkwX0_log_5 ++ dktX0_log_6
def dkwX0_log_4 : List UInt8 := [21, 8, 96, 16, 60, 163, 0, 88, 21, 4, 21, 8, 96, 54, 10, 42, 25, 7, 29, 133, 21, 8, 133, 97]
abbrev dktX0_log_4 : List UInt8 := dkwX0_log_4 ++ dktX0_log_5
def dkwX0_log_3 : List UInt8 := [193, 1, 85, 154, 0, 6, 16, 244, 172, 3, 54, 8, 3, 54, 9, 21, 8, 21, 5, 162, 0, 98, 21, 4]
abbrev dktX0_log_3 : List UInt8 := dkwX0_log_3 ++ dktX0_log_4
def dkwX0_log_2 : List UInt8 := [42, 180, 0, 160, 28, 50, 58, 7, 25, 7, 198, 0, 22, 25, 7, 193, 1, 79, 154, 0, 14, 25, 7]
abbrev dktX0_log_2 : List UInt8 := dkwX0_log_2 ++ dktX0_log_3
def dkwX0_log_1 : List UInt8 := [20, 0, 165, 184, 0, 167, 153, 0, 16, 21, 5, 133, 10, 20, 0, 165, 184, 0, 167, 154, 0, 5, 2, 172]
abbrev dktX0_log_1 : List UInt8 := dkwX0_log_1 ++ dktX0_log_2
def dkwX0_log_0 : List UInt8 := [42, 27, 182, 1, 27, 58, 6, 25, 6, 198, 0, 36, 28, 184, 1, 87, 153, 0, 29, 21, 4, 133, 10]
abbrev dktX0_log_0 : List UInt8 := dkwX0_log_0 ++ dktX0_log_1
theorem dksX0_log_0 : cX0_log.data.toList.drop 0 = dktX0_log_0 := by decide +kernel
theorem dksX0_log_1 : cX0_log.data.toList.drop 23 = dktX0_log_1 := dk_seg dksX0_log_0 23 rfl rfl
theorem dksX0_log_2 : cX0_log.data.toList.drop 47 = dktX0_log_2 := dk_seg dksX0_log_1 24 rfl rfl
theorem dksX0_log_3 : cX0_log.data.toList.drop 70 = dktX0_log_3 := dk_seg dksX0_log_2 23 rfl rfl
theorem dksX0_log_4 : cX0_log.data.toList.drop 94 = dktX0_log_4 := dk_seg dksX0_log_3 24 rfl rfl
theorem dksX0_log_5 : cX0_log.data.toList.drop 118 = dktX0_log_5 := dk_seg dksX0_log_4 24 rfl rfl
theorem dksX0_log_6 : cX0_log.data.toList.drop 141 = dktX0_log_6 := dk_seg dksX0_log_5 23 rfl rfl
theorem dksX0_log_7 : cX0_log.data.toList.drop 165 = dktX0_log_7 := dk_seg dksX0_log_6 24 rfl rfl
theorem dksX0_log_8 : cX0_log.data.toList.drop 188 = dktX0_log_8 := dk_seg dksX0_log_7 23 rfl rfl
theorem dksX0_log_9 : cX0_log.data.toList.drop 211 = dktX0_log_9 := dk_seg dksX0_log_8 23 rfl rfl
theorem dksX0_log_10 : cX0_log.data.toList.drop 235 = dktX0_log_10 := dk_seg dksX0_log_9 24 rfl rfl
theorem dksX0_log_11 : cX0_log.data.toList.drop 259 = dktX0_log_11 := dk_seg dksX0_log_10 24 rfl rfl
theorem dksX0_log_12 : cX0_log.data.toList.drop 283 = dktX0_log_12 := dk_seg dksX0_log_11 24 rfl rfl
theorem dksX0_log_13 : cX0_log.data.toList.drop 306 = dktX0_log_13 := dk_seg dksX0_log_12 23 rfl rfl
theorem dX0_log_0 : decode cX0_log 0 = .ok (.aload_n 0, 1) := dk_42 (dk_at dksX0_log_0 0 rfl rfl)
theorem dX0_log_1 : decode cX0_log 1 = .ok (.iload_n 1, 1) := dk_27 (dk_at dksX0_log_0 1 rfl rfl)
theorem dX0_log_2 : decode cX0_log 2 = .ok (.invokevirtual 283, 3) := dk_182 1 27 (dk_at dksX0_log_0 2 rfl rfl)
theorem dX0_log_5 : decode cX0_log 5 = .ok (.astore 6, 2) := dk_58 6 (dk_at dksX0_log_0 5 rfl rfl)
theorem dX0_log_7 : decode cX0_log 7 = .ok (.aload 6, 2) := dk_25 6 (dk_at dksX0_log_0 7 rfl rfl)
theorem dX0_log_9 : decode cX0_log 9 = .ok (.ifnull 36, 3) := dk_198 0 36 (dk_at dksX0_log_0 9 rfl rfl)
theorem dX0_log_12 : decode cX0_log 12 = .ok (.iload_n 2, 1) := dk_28 (dk_at dksX0_log_0 12 rfl rfl)
theorem dX0_log_13 : decode cX0_log 13 = .ok (.invokestatic 343, 3) := dk_184 1 87 (dk_at dksX0_log_0 13 rfl rfl)
theorem dX0_log_16 : decode cX0_log 16 = .ok (.ifCond .eq 29, 3) := dk_153 0 29 (dk_at dksX0_log_0 16 rfl rfl)
theorem dX0_log_19 : decode cX0_log 19 = .ok (.iload 4, 2) := dk_21 4 (dk_at dksX0_log_0 19 rfl rfl)
theorem dX0_log_21 : decode cX0_log 21 = .ok (.i2l, 1) := dk_133 (dk_at dksX0_log_0 21 rfl rfl)
theorem dX0_log_22 : decode cX0_log 22 = .ok (.lconst 1, 1) := dk_10 (dk_at dksX0_log_0 22 rfl rfl)
theorem dX0_log_23 : decode cX0_log 23 = .ok (.ldc2_w 165, 3) := dk_20 0 165 (dk_at dksX0_log_1 0 rfl rfl)
theorem dX0_log_26 : decode cX0_log 26 = .ok (.invokestatic 167, 3) := dk_184 0 167 (dk_at dksX0_log_1 3 rfl rfl)
theorem dX0_log_29 : decode cX0_log 29 = .ok (.ifCond .eq 16, 3) := dk_153 0 16 (dk_at dksX0_log_1 6 rfl rfl)
theorem dX0_log_32 : decode cX0_log 32 = .ok (.iload 5, 2) := dk_21 5 (dk_at dksX0_log_1 9 rfl rfl)
theorem dX0_log_34 : decode cX0_log 34 = .ok (.i2l, 1) := dk_133 (dk_at dksX0_log_1 11 rfl rfl)
theorem dX0_log_35 : decode cX0_log 35 = .ok (.lconst 1, 1) := dk_10 (dk_at dksX0_log_1 12 rfl rfl)
theorem dX0_log_36 : decode cX0_log 36 = .ok (.ldc2_w 165, 3) := dk_20 0 165 (dk_at dksX0_log_1 13 rfl rfl)
theorem dX0_log_39 : decode cX0_log 39 = .ok (.invokestatic 167, 3) := dk_184 0 167 (dk_at dksX0_log_1 16 rfl rfl)
theorem dX0_log_42 : decode cX0_log 42 = .ok (.ifCond .ne 5, 3) := dk_154 0 5 (dk_at dksX0_log_1 19 rfl rfl)
theorem dX0_log_45 : decode cX0_log 45 = .ok (.iconst (-1), 1) := dk_2 (dk_at dksX0_log_1 22 rfl rfl)
theorem dX0_log_46 : decode cX0_log 46 = .ok (.ireturn, 1) := dk_172 (dk_at dksX0_log_1 23 rfl rfl)
theorem dX0_log_47 : decode cX0_log 47 = .ok (.aload_n 0, 1) := dk_42 (dk_at dksX0_log_2 0 rfl rfl)
theorem dX0_log_48 : decode cX0_log 48 = .ok (.getfield 160, 3) := dk_180 0 160 (dk_at dksX0_log_2 1 rfl rfl)
theorem dX0_log_51 : decode cX0_log 51 = .ok (.iload_n 2, 1) := dk_28 (dk_at dksX0_log_2 4 rfl rfl)
theorem dX0_log_52 : decode cX0_log 52 = .ok (.aaload, 1) := dk_50 (dk_at dksX0_log_2 5 rfl rfl)
theorem dX0_log_53 : decode cX0_log 53 = .ok (.astore 7, 2) := dk_58 7 (dk_at dksX0_log_2 6 rfl rfl)
theorem dX0_log_55 : decode cX0_log 55 = .ok (.aload 7, 2) := dk_25 7 (dk_at dksX0_log_2 8 rfl rfl)
theorem dX0_log_57 : decode cX0_log 57 = .ok (.ifnull 22, 3) := dk_198 0 22 (dk_at dksX0_log_2 10 rfl rfl)
theorem dX0_log_60 : decode cX0_log 60 = .ok (.aload 7, 2) := dk_25 7 (dk_at dksX0_log_2 13 rfl rfl)
theorem dX0_log_62 : decode cX0_log 62 = .ok (.instanceof 335, 3) := dk_193 1 79 (dk_at dksX0_log_2 15 rfl rfl)
theorem dX0_log_65 : decode cX0_log 65 = .ok (.ifCond .ne 14, 3) := dk_154 0 14 (dk_at dksX0_log_2 18 rfl rfl)
theorem dX0_log_68 : decode cX0_log 68 = .ok (.aload 7, 2) := dk_25 7 (dk_at dksX0_log_2 21 rfl rfl)
theorem dX0_log_70 : decode cX0_log 70 = .ok (.instanceof 341, 3) := dk_193 1 85 (dk_at dksX0_log_3 0 rfl rfl)
theorem dX0_log_73 : decode cX0_log 73 = .ok (.ifCond .ne 6, 3) := dk_154 0 6 (dk_at dksX0_log_3 3 rfl rfl)
theorem dX0_log_76 : decode cX0_log 76 = .ok (.bipush (-12), 2) := dk_16 244 (dk_at dksX0_log_3 6 rfl rfl)
theorem dX0_log_78 : decode cX0_log 78 = .ok (.ireturn, 1) := dk_172 (dk_at dksX0_log_3 8 rfl rfl)
theorem dX0_log_79 : decode cX0_log 79 = .ok (.iconst 0, 1) := dk_3 (dk_at dksX0_log_3 9 rfl rfl)
theorem dX0_log_80 : decode cX0_log 80 = .ok (.istore 8, 2) := dk_54 8 (dk_at dksX0_log_3 10 rfl rfl)
theorem dX0_log_82 : decode cX0_log 82 = .ok (.iconst 0, 1) := dk_3 (dk_at dksX0_log_3 12 rfl rfl)
theorem dX0_log_83 : decode cX0_log 83 = .ok (.istore 9, 2) := dk_54 9 (dk_at dksX0_log_3 13 rfl rfl)
theorem dX0_log_85 : decode cX0_log 85 = .ok (.iload 8, 2) := dk_21 8 (dk_at dksX0_log_3 15 rfl rfl)
theorem dX0_log_87 : decode cX0_log 87 = .ok (.iload 5, 2) := dk_21 5 (dk_at dksX0_log_3 17 rfl rfl)
theorem dX0_log_89 : decode cX0_log 89 = .ok (.if_icmp .ge 98, 3) := dk_162 0 98 (dk_at dksX0_log_3 19 rfl rfl)
theorem dX0_log_92 : decode cX0_log 92 = .ok (.iload 4, 2) := dk_21 4 (dk_at dksX0_log_3 22 rfl rfl)
theorem dX0_log_94 : decode cX0_log 94 = .ok (.iload 8, 2) := dk_21 8 (dk_at dksX0_log_4 0 rfl rfl)
theorem dX0_log_96 : decode cX0_log 96 = .ok (.iadd, 1) := dk_96 (dk_at dksX0_log_4 2 rfl rfl)
theorem dX0_log_97 : decode cX0_log 97 = .ok (.bipush 60, 2) := dk_16 60 (dk_at dksX0_log_4 3 rfl rfl)
theorem dX0_log_99 : decode cX0_log 99 = .ok (.if_icmp .gt 88, 3) := dk_163 0 88 (dk_at dksX0_log_4 5 rfl rfl)
theorem dX0_log_102 : decode cX0_log 102 = .ok (.iload 4, 2) := dk_21 4 (dk_at dksX0_log_4 8 rfl rfl)
theorem dX0_log_104 : decode cX0_log 104 = .ok (.iload 8, 2) := dk_21 8 (dk_at dksX0_log_4 10 rfl rfl)
theorem dX0_log_106 : decode cX0_log 106 = .ok (.iadd, 1) := dk_96 (dk_at dksX0_log_4 12 rfl rfl)
theorem dX0_log_107 : decode cX0_log 107 = .ok (.istore 10, 2) := dk_54 10 (dk_at dksX0_log_4 13 rfl rfl)
theorem dX0_log_109 : decode cX0_log 109 = .ok (.aload_n 0, 1) := dk_42 (dk_at dksX0_log_4 15 rfl rfl)
theorem dX0_log_110 : decode cX0_log 110 = .ok (.aload 7, 2) := dk_25 7 (dk_at dksX0_log_4 16 rfl rfl)
theorem dX0_log_112 : decode cX0_log 112 = .ok (.iload_n 3, 1) := dk_29 (dk_at dksX0_log_4 18 rfl rfl)
theorem dX0_log_113 : decode cX0_log 113 = .ok (.i2l, 1) := dk_133 (dk_at dksX0_log_4 19 rfl rfl)
theorem dX0_log_114 : decode cX0_log 114 = .ok (.iload 8, 2) := dk_21 8 (dk_at dksX0_log_4 20 rfl rfl)
theorem dX0_log_116 : decode cX0_log 116 = .ok (.i2l, 1) := dk_133 (dk_at dksX0_log_4 22 rfl rfl)
theorem dX0_log_117 : decode cX0_log 117 = .ok (.ladd, 1) := dk_97 (dk_at dksX0_log_4 23 rfl rfl)
theorem dX0_log_118 : decode cX0_log 118 = .ok (.invokevirtual 346, 3) := dk_182 1 90 (dk_at dksX0_log_5 0 rfl rfl)
theorem dX0_log_121 : decode cX0_log 121 = .ok (.dstore 11, 2) := dk_57 11 (dk_at dksX0_log_5 3 rfl rfl)
theorem dX0_log_123 : decode cX0_log 123 = .ok (.aload 6, 2) := dk_25 6 (dk_at dksX0_log_5 5 rfl rfl)
theorem dX0_log_125 : decode cX0_log 125 = .ok (.getfield 350, 3) := dk_180 1 94 (dk_at dksX0_log_5 7 rfl rfl)
theorem dX0_log_128 : decode cX0_log 128 = .ok (.iload 10, 2) := dk_21 10 (dk_at dksX0_log_5 10 rfl rfl)
theorem dX0_log_130 : decode cX0_log 130 = .ok (.dload 11, 2) := dk_24 11 (dk_at dksX0_log_5 12 rfl rfl)
theorem dX0_log_132 : decode cX0_log 132 = .ok (.dload 11, 2) := dk_24 11 (dk_at dksX0_log_5 14 rfl rfl)
theorem dX0_log_134 : decode cX0_log 134 = .ok (.dcmp .l, 1) := dk_151 (dk_at dksX0_log_5 16 rfl rfl)
theorem dX0_log_135 : decode cX0_log 135 = .ok (.ifCond .ne 9, 3) := dk_154 0 9 (dk_at dksX0_log_5 17 rfl rfl)
theorem dX0_log_138 : decode cX0_log 138 = .ok (.dload 11, 2) := dk_24 11 (dk_at dksX0_log_5 20 rfl rfl)
theorem dX0_log_140 : decode cX0_log 140 = .ok (.d2i, 1) := dk_142 (dk_at dksX0_log_5 22 rfl rfl)
theorem dX0_log_141 : decode cX0_log 141 = .ok (.goto 30, 3) := dk_167 0 30 (dk_at dksX0_log_6 0 rfl rfl)
theorem dX0_log_144 : decode cX0_log 144 = .ok (.aload 6, 2) := dk_25 6 (dk_at dksX0_log_6 3 rfl rfl)
theorem dX0_log_146 : decode cX0_log 146 = .ok (.getfield 353, 3) := dk_180 1 97 (dk_at dksX0_log_6 5 rfl rfl)
theorem dX0_log_149 : decode cX0_log 149 = .ok (.iload 10, 2) := dk_21 10 (dk_at dksX0_log_6 8 rfl rfl)
theorem dX0_log_151 : decode cX0_log 151 = .ok (.iconst 1, 1) := dk_4 (dk_at dksX0_log_6 10 rfl rfl)
theorem dX0_log_152 : decode cX0_log 152 = .ok (.isub, 1) := dk_100 (dk_at dksX0_log_6 11 rfl rfl)
theorem dX0_log_153 : decode cX0_log 153 = .ok (.baload, 1) := dk_51 (dk_at dksX0_log_6 12 rfl rfl)
theorem dX0_log_154 : decode cX0_log 154 = .ok (.ifCond .eq 16, 3) := dk_153 0 16 (dk_at dksX0_log_6 13 rfl rfl)
theorem dX0_log_157 : decode cX0_log 157 = .ok (.aload 6, 2) := dk_25 6 (dk_at dksX0_log_6 16 rfl rfl)
theorem dX0_log_159 : decode cX0_log 159 = .ok (.getfield 350, 3) := dk_180 1 94 (dk_at dksX0_log_6 18 rfl rfl)
theorem dX0_log_162 : decode cX0_log 162 = .ok (.iload 10, 2) := dk_21 10 (dk_at dksX0_log_6 21 rfl rfl)
theorem dX0_log_164 : decode cX0_log 164 = .ok (.iconst 1, 1) := dk_4 (dk_at dksX0_log_6 23 rfl rfl)
theorem dX0_log_165 : decode cX0_log 165 = .ok (.isub, 1) := dk_100 (dk_at dksX0_log_7 0 rfl rfl)
theorem dX0_log_166 : decode cX0_log 166 = .ok (.iaload, 1) := dk_46 (dk_at dksX0_log_7 1 rfl rfl)
theorem dX0_log_167 : decode cX0_log 167 = .ok (.goto 4, 3) := dk_167 0 4 (dk_at dksX0_log_7 2 rfl rfl)
theorem dX0_log_170 : decode cX0_log 170 = .ok (.iconst 0, 1) := dk_3 (dk_at dksX0_log_7 5 rfl rfl)
theorem dX0_log_171 : decode cX0_log 171 = .ok (.iastore, 1) := dk_79 (dk_at dksX0_log_7 6 rfl rfl)
theorem dX0_log_172 : decode cX0_log 172 = .ok (.aload 6, 2) := dk_25 6 (dk_at dksX0_log_7 7 rfl rfl)
theorem dX0_log_174 : decode cX0_log 174 = .ok (.getfield 353, 3) := dk_180 1 97 (dk_at dksX0_log_7 9 rfl rfl)
theorem dX0_log_177 : decode cX0_log 177 = .ok (.iload 10, 2) := dk_21 10 (dk_at dksX0_log_7 12 rfl rfl)
theorem dX0_log_179 : decode cX0_log 179 = .ok (.iconst 1, 1) := dk_4 (dk_at dksX0_log_7 14 rfl rfl)
theorem dX0_log_180 : decode cX0_log 180 = .ok (.bastore, 1) := dk_84 (dk_at dksX0_log_7 15 rfl rfl)
theorem dX0_log_181 : decode cX0_log 181 = .ok (.iinc 8 1, 3) := dk_132 8 1 (dk_at dksX0_log_7 16 rfl rfl)
theorem dX0_log_184 : decode cX0_log 184 = .ok (.goto (-99), 3) := dk_167 255 157 (dk_at dksX0_log_7 19 rfl rfl)
theorem dX0_log_187 : decode cX0_log 187 = .ok (.iconst 1, 1) := dk_4 (dk_at dksX0_log_7 22 rfl rfl)
theorem dX0_log_188 : decode cX0_log 188 = .ok (.istore 9, 2) := dk_54 9 (dk_at dksX0_log_8 0 rfl rfl)
theorem dX0_log_190 : decode cX0_log 190 = .ok (.iload 4, 2) := dk_21 4 (dk_at dksX0_log_8 2 rfl rfl)
theorem dX0_log_192 : decode cX0_log 192 = .ok (.iload 8, 2) := dk_21 8 (dk_at dksX0_log_8 4 rfl rfl)
theorem dX0_log_194 : decode cX0_log 194 = .ok (.iadd, 1) := dk_96 (dk_at dksX0_log_8 6 rfl rfl)
theorem dX0_log_195 : decode cX0_log 195 = .ok (.istore 10, 2) := dk_54 10 (dk_at dksX0_log_8 7 rfl rfl)
theorem dX0_log_197 : decode cX0_log 197 = .ok (.iload 10, 2) := dk_21 10 (dk_at dksX0_log_8 9 rfl rfl)
theorem dX0_log_199 : decode cX0_log 199 = .ok (.bipush 60, 2) := dk_16 60 (dk_at dksX0_log_8 11 rfl rfl)
theorem dX0_log_201 : decode cX0_log 201 = .ok (.if_icmp .gt 23, 3) := dk_163 0 23 (dk_at dksX0_log_8 13 rfl rfl)
theorem dX0_log_204 : decode cX0_log 204 = .ok (.iload 9, 2) := dk_21 9 (dk_at dksX0_log_8 16 rfl rfl)
theorem dX0_log_206 : decode cX0_log 206 = .ok (.ifCond .ne 18, 3) := dk_154 0 18 (dk_at dksX0_log_8 18 rfl rfl)
theorem dX0_log_209 : decode cX0_log 209 = .ok (.aload 6, 2) := dk_25 6 (dk_at dksX0_log_8 21 rfl rfl)
theorem dX0_log_211 : decode cX0_log 211 = .ok (.getfield 353, 3) := dk_180 1 97 (dk_at dksX0_log_9 0 rfl rfl)
theorem dX0_log_214 : decode cX0_log 214 = .ok (.iload 10, 2) := dk_21 10 (dk_at dksX0_log_9 3 rfl rfl)
theorem dX0_log_216 : decode cX0_log 216 = .ok (.iconst 0, 1) := dk_3 (dk_at dksX0_log_9 5 rfl rfl)
theorem dX0_log_217 : decode cX0_log 217 = .ok (.bastore, 1) := dk_84 (dk_at dksX0_log_9 6 rfl rfl)
theorem dX0_log_218 : decode cX0_log 218 = .ok (.iinc 10 1, 3) := dk_132 10 1 (dk_at dksX0_log_9 7 rfl rfl)
theorem dX0_log_221 : decode cX0_log 221 = .ok (.goto (-24), 3) := dk_167 255 232 (dk_at dksX0_log_9 10 rfl rfl)
theorem dX0_log_224 : decode cX0_log 224 = .ok (.goto 85, 3) := dk_167 0 85 (dk_at dksX0_log_9 13 rfl rfl)
theorem dX0_log_227 : decode cX0_log 227 = .ok (.astore 10, 2) := dk_58 10 (dk_at dksX0_log_9 16 rfl rfl)
theorem dX0_log_229 : decode cX0_log 229 = .ok (.iload 8, 2) := dk_21 8 (dk_at dksX0_log_9 18 rfl rfl)
theorem dX0_log_231 : decode cX0_log 231 = .ok (.istore 11, 2) := dk_54 11 (dk_at dksX0_log_9 20 rfl rfl)
theorem dX0_log_233 : decode cX0_log 233 = .ok (.iload 4, 2) := dk_21 4 (dk_at dksX0_log_9 22 rfl rfl)
theorem dX0_log_235 : decode cX0_log 235 = .ok (.iload 8, 2) := dk_21 8 (dk_at dksX0_log_10 0 rfl rfl)
theorem dX0_log_237 : decode cX0_log 237 = .ok (.iadd, 1) := dk_96 (dk_at dksX0_log_10 2 rfl rfl)
theorem dX0_log_238 : decode cX0_log 238 = .ok (.istore 12, 2) := dk_54 12 (dk_at dksX0_log_10 3 rfl rfl)
theorem dX0_log_240 : decode cX0_log 240 = .ok (.iload 12, 2) := dk_21 12 (dk_at dksX0_log_10 5 rfl rfl)
theorem dX0_log_242 : decode cX0_log 242 = .ok (.bipush 60, 2) := dk_16 60 (dk_at dksX0_log_10 7 rfl rfl)
theorem dX0_log_244 : decode cX0_log 244 = .ok (.if_icmp .gt 23, 3) := dk_163 0 23 (dk_at dksX0_log_10 9 rfl rfl)
theorem dX0_log_247 : decode cX0_log 247 = .ok (.iload 9, 2) := dk_21 9 (dk_at dksX0_log_10 12 rfl rfl)
theorem dX0_log_249 : decode cX0_log 249 = .ok (.ifCond .ne 18, 3) := dk_154 0 18 (dk_at dksX0_log_10 14 rfl rfl)
theorem dX0_log_252 : decode cX0_log 252 = .ok (.aload 6, 2) := dk_25 6 (dk_at dksX0_log_10 17 rfl rfl)
theorem dX0_log_254 : decode cX0_log 254 = .ok (.getfield 353, 3) := dk_180 1 97 (dk_at dksX0_log_10 19 rfl rfl)
theorem dX0_log_257 : decode cX0_log 257 = .ok (.iload 12, 2) := dk_21 12 (dk_at dksX0_log_10 22 rfl rfl)
theorem dX0_log_259 : decode cX0_log 259 = .ok (.iconst 0, 1) := dk_3 (dk_at dksX0_log_11 0 rfl rfl)
theorem dX0_log_260 : decode cX0_log 260 = .ok (.bastore, 1) := dk_84 (dk_at dksX0_log_11 1 rfl rfl)
theorem dX0_log_261 : decode cX0_log 261 = .ok (.iinc 12 1, 3) := dk_132 12 1 (dk_at dksX0_log_11 2 rfl rfl)
theorem dX0_log_264 : decode cX0_log 264 = .ok (.goto (-24), 3) := dk_167 255 232 (dk_at dksX0_log_11 5 rfl rfl)
theorem dX0_log_267 : decode cX0_log 267 = .ok (.iload 11, 2) := dk_21 11 (dk_at dksX0_log_11 8 rfl rfl)
theorem dX0_log_269 : decode cX0_log 269 = .ok (.ireturn, 1) := dk_172 (dk_at dksX0_log_11 10 rfl rfl)
theorem dX0_log_270 : decode cX0_log 270 = .ok (.astore 13, 2) := dk_58 13 (dk_at dksX0_log_11 11 rfl rfl)
theorem dX0_log_272 : decode cX0_log 272 = .ok (.iload 4, 2) := dk_21 4 (dk_at dksX0_log_11 13 rfl rfl)
theorem dX0_log_274 : decode cX0_log 274 = .ok (.iload 8, 2) := dk_21 8 (dk_at dksX0_log_11 15 rfl rfl)
theorem dX0_log_276 : decode cX0_log 276 = .ok (.iadd, 1) := dk_96 (dk_at dksX0_log_11 17 rfl rfl)
theorem dX0_log_277 : decode cX0_log 277 = .ok (.istore 14, 2) := dk_54 14 (dk_at dksX0_log_11 18 rfl rfl)
theorem dX0_log_279 : decode cX0_log 279 = .ok (.iload 14, 2) := dk_21 14 (dk_at dksX0_log_11 20 rfl rfl)
theorem dX0_log_281 : decode cX0_log 281 = .ok (.bipush 60, 2) := dk_16 60 (dk_at dksX0_log_11 22 rfl rfl)
theorem dX0_log_283 : decode cX0_log 283 = .ok (.if_icmp .gt 23, 3) := dk_163 0 23 (dk_at dksX0_log_12 0 rfl rfl)
theorem dX0_log_286 : decode cX0_log 286 = .ok (.iload 9, 2) := dk_21 9 (dk_at dksX0_log_12 3 rfl rfl)
theorem dX0_log_288 : decode cX0_log 288 = .ok (.ifCond .ne 18, 3) := dk_154 0 18 (dk_at dksX0_log_12 5 rfl rfl)
theorem dX0_log_291 : decode cX0_log 291 = .ok (.aload 6, 2) := dk_25 6 (dk_at dksX0_log_12 8 rfl rfl)
theorem dX0_log_293 : decode cX0_log 293 = .ok (.getfield 353, 3) := dk_180 1 97 (dk_at dksX0_log_12 10 rfl rfl)
theorem dX0_log_296 : decode cX0_log 296 = .ok (.iload 14, 2) := dk_21 14 (dk_at dksX0_log_12 13 rfl rfl)
theorem dX0_log_298 : decode cX0_log 298 = .ok (.iconst 0, 1) := dk_3 (dk_at dksX0_log_12 15 rfl rfl)
theorem dX0_log_299 : decode cX0_log 299 = .ok (.bastore, 1) := dk_84 (dk_at dksX0_log_12 16 rfl rfl)
theorem dX0_log_300 : decode cX0_log 300 = .ok (.iinc 14 1, 3) := dk_132 14 1 (dk_at dksX0_log_12 17 rfl rfl)
theorem dX0_log_303 : decode cX0_log 303 = .ok (.goto (-24), 3) := dk_167 255 232 (dk_at dksX0_log_12 20 rfl rfl)
theorem dX0_log_306 : decode cX0_log 306 = .ok (.aload 13, 2) := dk_25 13 (dk_at dksX0_log_13 0 rfl rfl)
theorem dX0_log_308 : decode cX0_log 308 = .ok (.athrow, 1) := dk_191 (dk_at dksX0_log_13 2 rfl rfl)
theorem dX0_log_309 : decode cX0_log 309 = .ok (.iload 8, 2) := dk_21 8 (dk_at dksX0_log_13 3 rfl rfl)
theorem dX0_log_311 : decode cX0_log 311 = .ok (.ireturn, 1) := dk_172 (dk_at dksX0_log_13 5 rfl rfl)
abbrev cX0_isShelf : ByteArray := prog_1_method_89_code
def yX0_isShelf : MethodName := ⟨RX0, "isShelf", "(I)Z"⟩
def dkwX0_isShelf_0 : List UInt8 := [26, 133, 9, 20, 0, 227, 184, 0, 167, 172]
abbrev dktX0_isShelf_0 : List UInt8 := dkwX0_isShelf_0 ++ []
theorem dksX0_isShelf_0 : cX0_isShelf.data.toList.drop 0 = dktX0_isShelf_0 := by decide +kernel
theorem dX0_isShelf_0 : decode cX0_isShelf 0 = .ok (.iload_n 0, 1) := dk_26 (dk_at dksX0_isShelf_0 0 rfl rfl)
theorem dX0_isShelf_1 : decode cX0_isShelf 1 = .ok (.i2l, 1) := dk_133 (dk_at dksX0_isShelf_0 1 rfl rfl)
theorem dX0_isShelf_2 : decode cX0_isShelf 2 = .ok (.lconst 0, 1) := dk_9 (dk_at dksX0_isShelf_0 2 rfl rfl)
theorem dX0_isShelf_3 : decode cX0_isShelf 3 = .ok (.ldc2_w 227, 3) := dk_20 0 227 (dk_at dksX0_isShelf_0 3 rfl rfl)
theorem dX0_isShelf_6 : decode cX0_isShelf 6 = .ok (.invokestatic 167, 3) := dk_184 0 167 (dk_at dksX0_isShelf_0 6 rfl rfl)
theorem dX0_isShelf_9 : decode cX0_isShelf 9 = .ok (.ireturn, 1) := dk_172 (dk_at dksX0_isShelf_0 9 rfl rfl)
abbrev cX0_real : ByteArray := prog_1_method_34_code
def yX0_real : MethodName := ⟨RX0, "real", "(Ljava/lang/Object;J)D"⟩
def dkwX0_real_3 : List UInt8 := [25, 4, 32, 136, 49, 175]
abbrev dktX0_real_3 : List UInt8 := dkwX0_real_3 ++ []
def dkwX0_real_2 : List UInt8 := [184, 1, 81, 175, 43, 192, 1, 85, 58, 4, 32, 25, 4, 190, 133, 148, 155, 0, 8, 42, 180, 0, 50, 191]
abbrev dktX0_real_2 : List UInt8 := dkwX0_real_2 ++ dktX0_real_3
def dkwX0_real_1 : List UInt8 := [192, 1, 79, 58, 4, 32, 25, 4, 190, 133, 148, 155, 0, 8, 42, 180, 0, 50, 191, 25, 4, 32, 136, 48]
abbrev dktX0_real_1 : List UInt8 := dkwX0_real_1 ++ dktX0_real_2
def dkwX0_real_0 : List UInt8 := [43, 198, 0, 9, 32, 9, 148, 156, 0, 8, 42, 180, 0, 50, 191, 43, 193, 1, 79, 153, 0, 32, 43]
abbrev dktX0_real_0 : List UInt8 := dkwX0_real_0 ++ dktX0_real_1
theorem dksX0_real_0 : cX0_real.data.toList.drop 0 = dktX0_real_0 := by decide +kernel
theorem dksX0_real_1 : cX0_real.data.toList.drop 23 = dktX0_real_1 := dk_seg dksX0_real_0 23 rfl rfl
theorem dksX0_real_2 : cX0_real.data.toList.drop 47 = dktX0_real_2 := dk_seg dksX0_real_1 24 rfl rfl
theorem dksX0_real_3 : cX0_real.data.toList.drop 71 = dktX0_real_3 := dk_seg dksX0_real_2 24 rfl rfl
theorem dX0_real_0 : decode cX0_real 0 = .ok (.aload_n 1, 1) := dk_43 (dk_at dksX0_real_0 0 rfl rfl)
theorem dX0_real_1 : decode cX0_real 1 = .ok (.ifnull 9, 3) := dk_198 0 9 (dk_at dksX0_real_0 1 rfl rfl)
theorem dX0_real_4 : decode cX0_real 4 = .ok (.lload_n 2, 1) := dk_32 (dk_at dksX0_real_0 4 rfl rfl)
theorem dX0_real_5 : decode cX0_real 5 = .ok (.lconst 0, 1) := dk_9 (dk_at dksX0_real_0 5 rfl rfl)
theorem dX0_real_6 : decode cX0_real 6 = .ok (.lcmp, 1) := dk_148 (dk_at dksX0_real_0 6 rfl rfl)
theorem dX0_real_7 : decode cX0_real 7 = .ok (.ifCond .ge 8, 3) := dk_156 0 8 (dk_at dksX0_real_0 7 rfl rfl)
theorem dX0_real_10 : decode cX0_real 10 = .ok (.aload_n 0, 1) := dk_42 (dk_at dksX0_real_0 10 rfl rfl)
theorem dX0_real_11 : decode cX0_real 11 = .ok (.getfield 50, 3) := dk_180 0 50 (dk_at dksX0_real_0 11 rfl rfl)
theorem dX0_real_14 : decode cX0_real 14 = .ok (.athrow, 1) := dk_191 (dk_at dksX0_real_0 14 rfl rfl)
theorem dX0_real_15 : decode cX0_real 15 = .ok (.aload_n 1, 1) := dk_43 (dk_at dksX0_real_0 15 rfl rfl)
theorem dX0_real_16 : decode cX0_real 16 = .ok (.instanceof 335, 3) := dk_193 1 79 (dk_at dksX0_real_0 16 rfl rfl)
theorem dX0_real_19 : decode cX0_real 19 = .ok (.ifCond .eq 32, 3) := dk_153 0 32 (dk_at dksX0_real_0 19 rfl rfl)
theorem dX0_real_22 : decode cX0_real 22 = .ok (.aload_n 1, 1) := dk_43 (dk_at dksX0_real_0 22 rfl rfl)
theorem dX0_real_23 : decode cX0_real 23 = .ok (.checkcast 335, 3) := dk_192 1 79 (dk_at dksX0_real_1 0 rfl rfl)
theorem dX0_real_26 : decode cX0_real 26 = .ok (.astore 4, 2) := dk_58 4 (dk_at dksX0_real_1 3 rfl rfl)
theorem dX0_real_28 : decode cX0_real 28 = .ok (.lload_n 2, 1) := dk_32 (dk_at dksX0_real_1 5 rfl rfl)
theorem dX0_real_29 : decode cX0_real 29 = .ok (.aload 4, 2) := dk_25 4 (dk_at dksX0_real_1 6 rfl rfl)
theorem dX0_real_31 : decode cX0_real 31 = .ok (.arraylength, 1) := dk_190 (dk_at dksX0_real_1 8 rfl rfl)
theorem dX0_real_32 : decode cX0_real 32 = .ok (.i2l, 1) := dk_133 (dk_at dksX0_real_1 9 rfl rfl)
theorem dX0_real_33 : decode cX0_real 33 = .ok (.lcmp, 1) := dk_148 (dk_at dksX0_real_1 10 rfl rfl)
theorem dX0_real_34 : decode cX0_real 34 = .ok (.ifCond .lt 8, 3) := dk_155 0 8 (dk_at dksX0_real_1 11 rfl rfl)
theorem dX0_real_37 : decode cX0_real 37 = .ok (.aload_n 0, 1) := dk_42 (dk_at dksX0_real_1 14 rfl rfl)
theorem dX0_real_38 : decode cX0_real 38 = .ok (.getfield 50, 3) := dk_180 0 50 (dk_at dksX0_real_1 15 rfl rfl)
theorem dX0_real_41 : decode cX0_real 41 = .ok (.athrow, 1) := dk_191 (dk_at dksX0_real_1 18 rfl rfl)
theorem dX0_real_42 : decode cX0_real 42 = .ok (.aload 4, 2) := dk_25 4 (dk_at dksX0_real_1 19 rfl rfl)
theorem dX0_real_44 : decode cX0_real 44 = .ok (.lload_n 2, 1) := dk_32 (dk_at dksX0_real_1 21 rfl rfl)
theorem dX0_real_45 : decode cX0_real 45 = .ok (.l2i, 1) := dk_136 (dk_at dksX0_real_1 22 rfl rfl)
theorem dX0_real_46 : decode cX0_real 46 = .ok (.faload, 1) := dk_48 (dk_at dksX0_real_1 23 rfl rfl)
theorem dX0_real_47 : decode cX0_real 47 = .ok (.invokestatic 337, 3) := dk_184 1 81 (dk_at dksX0_real_2 0 rfl rfl)
theorem dX0_real_50 : decode cX0_real 50 = .ok (.dreturn, 1) := dk_175 (dk_at dksX0_real_2 3 rfl rfl)
theorem dX0_real_51 : decode cX0_real 51 = .ok (.aload_n 1, 1) := dk_43 (dk_at dksX0_real_2 4 rfl rfl)
theorem dX0_real_52 : decode cX0_real 52 = .ok (.checkcast 341, 3) := dk_192 1 85 (dk_at dksX0_real_2 5 rfl rfl)
theorem dX0_real_55 : decode cX0_real 55 = .ok (.astore 4, 2) := dk_58 4 (dk_at dksX0_real_2 8 rfl rfl)
theorem dX0_real_57 : decode cX0_real 57 = .ok (.lload_n 2, 1) := dk_32 (dk_at dksX0_real_2 10 rfl rfl)
theorem dX0_real_58 : decode cX0_real 58 = .ok (.aload 4, 2) := dk_25 4 (dk_at dksX0_real_2 11 rfl rfl)
theorem dX0_real_60 : decode cX0_real 60 = .ok (.arraylength, 1) := dk_190 (dk_at dksX0_real_2 13 rfl rfl)
theorem dX0_real_61 : decode cX0_real 61 = .ok (.i2l, 1) := dk_133 (dk_at dksX0_real_2 14 rfl rfl)
theorem dX0_real_62 : decode cX0_real 62 = .ok (.lcmp, 1) := dk_148 (dk_at dksX0_real_2 15 rfl rfl)
theorem dX0_real_63 : decode cX0_real 63 = .ok (.ifCond .lt 8, 3) := dk_155 0 8 (dk_at dksX0_real_2 16 rfl rfl)
theorem dX0_real_66 : decode cX0_real 66 = .ok (.aload_n 0, 1) := dk_42 (dk_at dksX0_real_2 19 rfl rfl)
theorem dX0_real_67 : decode cX0_real 67 = .ok (.getfield 50, 3) := dk_180 0 50 (dk_at dksX0_real_2 20 rfl rfl)
theorem dX0_real_70 : decode cX0_real 70 = .ok (.athrow, 1) := dk_191 (dk_at dksX0_real_2 23 rfl rfl)
theorem dX0_real_71 : decode cX0_real 71 = .ok (.aload 4, 2) := dk_25 4 (dk_at dksX0_real_3 0 rfl rfl)
theorem dX0_real_73 : decode cX0_real 73 = .ok (.lload_n 2, 1) := dk_32 (dk_at dksX0_real_3 2 rfl rfl)
theorem dX0_real_74 : decode cX0_real 74 = .ok (.l2i, 1) := dk_136 (dk_at dksX0_real_3 3 rfl rfl)
theorem dX0_real_75 : decode cX0_real 75 = .ok (.daload, 1) := dk_49 (dk_at dksX0_real_3 4 rfl rfl)
theorem dX0_real_76 : decode cX0_real 76 = .ok (.dreturn, 1) := dk_175 (dk_at dksX0_real_3 5 rfl rfl)
abbrev cX0_widened : ByteArray := prog_1_method_33_code
def yX0_widened : MethodName := ⟨RX0, "widened", "(F)D"⟩
def dkwX0_widened_0 : List UInt8 := [34, 34, 149, 153, 0, 9, 20, 1, 77, 167, 0, 5, 34, 141, 175]
abbrev dktX0_widened_0 : List UInt8 := dkwX0_widened_0 ++ []
theorem dksX0_widened_0 : cX0_widened.data.toList.drop 0 = dktX0_widened_0 := by decide +kernel
theorem dX0_widened_0 : decode cX0_widened 0 = .ok (.fload_n 0, 1) := dk_34 (dk_at dksX0_widened_0 0 rfl rfl)
theorem dX0_widened_1 : decode cX0_widened 1 = .ok (.fload_n 0, 1) := dk_34 (dk_at dksX0_widened_0 1 rfl rfl)
theorem dX0_widened_2 : decode cX0_widened 2 = .ok (.fcmp .l, 1) := dk_149 (dk_at dksX0_widened_0 2 rfl rfl)
theorem dX0_widened_3 : decode cX0_widened 3 = .ok (.ifCond .eq 9, 3) := dk_153 0 9 (dk_at dksX0_widened_0 3 rfl rfl)
theorem dX0_widened_6 : decode cX0_widened 6 = .ok (.ldc2_w 333, 3) := dk_20 1 77 (dk_at dksX0_widened_0 6 rfl rfl)
theorem dX0_widened_9 : decode cX0_widened 9 = .ok (.goto 5, 3) := dk_167 0 5 (dk_at dksX0_widened_0 9 rfl rfl)
theorem dX0_widened_12 : decode cX0_widened 12 = .ok (.fload_n 0, 1) := dk_34 (dk_at dksX0_widened_0 12 rfl rfl)
theorem dX0_widened_13 : decode cX0_widened 13 = .ok (.f2d, 1) := dk_141 (dk_at dksX0_widened_0 13 rfl rfl)
theorem dX0_widened_14 : decode cX0_widened 14 = .ok (.dreturn, 1) := dk_175 (dk_at dksX0_widened_0 14 rfl rfl)
abbrev cX0_spread : ByteArray := prog_1_method_36_code
def yX0_spread : MethodName := ⟨RX0, "spread", "(I)I"⟩
def dkwX0_spread_1 : List UInt8 := [28, 172]
abbrev dktX0_spread_1 : List UInt8 := dkwX0_spread_1 ++ []
def dkwX0_spread_0 : List UInt8 := [27, 133, 9, 20, 1, 100, 184, 0, 167, 154, 0, 5, 2, 172, 42, 180, 0, 54, 61, 42, 27, 181, 0, 54]
abbrev dktX0_spread_0 : List UInt8 := dkwX0_spread_0 ++ dktX0_spread_1
theorem dksX0_spread_0 : cX0_spread.data.toList.drop 0 = dktX0_spread_0 := by decide +kernel
theorem dksX0_spread_1 : cX0_spread.data.toList.drop 24 = dktX0_spread_1 := dk_seg dksX0_spread_0 24 rfl rfl
theorem dX0_spread_0 : decode cX0_spread 0 = .ok (.iload_n 1, 1) := dk_27 (dk_at dksX0_spread_0 0 rfl rfl)
theorem dX0_spread_1 : decode cX0_spread 1 = .ok (.i2l, 1) := dk_133 (dk_at dksX0_spread_0 1 rfl rfl)
theorem dX0_spread_2 : decode cX0_spread 2 = .ok (.lconst 0, 1) := dk_9 (dk_at dksX0_spread_0 2 rfl rfl)
theorem dX0_spread_3 : decode cX0_spread 3 = .ok (.ldc2_w 356, 3) := dk_20 1 100 (dk_at dksX0_spread_0 3 rfl rfl)
theorem dX0_spread_6 : decode cX0_spread 6 = .ok (.invokestatic 167, 3) := dk_184 0 167 (dk_at dksX0_spread_0 6 rfl rfl)
theorem dX0_spread_9 : decode cX0_spread 9 = .ok (.ifCond .ne 5, 3) := dk_154 0 5 (dk_at dksX0_spread_0 9 rfl rfl)
theorem dX0_spread_12 : decode cX0_spread 12 = .ok (.iconst (-1), 1) := dk_2 (dk_at dksX0_spread_0 12 rfl rfl)
theorem dX0_spread_13 : decode cX0_spread 13 = .ok (.ireturn, 1) := dk_172 (dk_at dksX0_spread_0 13 rfl rfl)
theorem dX0_spread_14 : decode cX0_spread 14 = .ok (.aload_n 0, 1) := dk_42 (dk_at dksX0_spread_0 14 rfl rfl)
theorem dX0_spread_15 : decode cX0_spread 15 = .ok (.getfield 54, 3) := dk_180 0 54 (dk_at dksX0_spread_0 15 rfl rfl)
theorem dX0_spread_18 : decode cX0_spread 18 = .ok (.istore_n 2, 1) := dk_61 (dk_at dksX0_spread_0 18 rfl rfl)
theorem dX0_spread_19 : decode cX0_spread 19 = .ok (.aload_n 0, 1) := dk_42 (dk_at dksX0_spread_0 19 rfl rfl)
theorem dX0_spread_20 : decode cX0_spread 20 = .ok (.iload_n 1, 1) := dk_27 (dk_at dksX0_spread_0 20 rfl rfl)
theorem dX0_spread_21 : decode cX0_spread 21 = .ok (.putfield 54, 3) := dk_181 0 54 (dk_at dksX0_spread_0 21 rfl rfl)
theorem dX0_spread_24 : decode cX0_spread 24 = .ok (.iload_n 2, 1) := dk_28 (dk_at dksX0_spread_1 0 rfl rfl)
theorem dX0_spread_25 : decode cX0_spread 25 = .ok (.ireturn, 1) := dk_172 (dk_at dksX0_spread_1 1 rfl rfl)
abbrev cX0_canBe : ByteArray := prog_1_method_39_code
def yX0_canBe : MethodName := ⟨RX0, "canBe", "(III)I"⟩
def dkwX0_canBe_4 : List UInt8 := [184, 1, 118, 172]
abbrev dktX0_canBe_4 : List UInt8 := dkwX0_canBe_4 ++ []
def dkwX0_canBe_3 : List UInt8 := [54, 5, 132, 6, 1, 167, 255, 220, 29, 154, 0, 11, 21, 5, 184, 1, 115, 167, 0, 8, 21, 5]
abbrev dktX0_canBe_3 : List UInt8 := dkwX0_canBe_3 ++ dktX0_canBe_4
def dkwX0_canBe_2 : List UInt8 := [154, 0, 15, 25, 4, 21, 6, 21, 5, 182, 1, 109, 167, 0, 12, 25, 4, 21, 6, 21, 5, 182, 1, 112]
abbrev dktX0_canBe_2 : List UInt8 := dkwX0_canBe_2 ++ dktX0_canBe_3
def dkwX0_canBe_1 : List UInt8 := [154, 0, 5, 2, 172, 7, 25, 4, 180, 0, 252, 104, 54, 5, 4, 54, 6, 21, 6, 28, 163, 0, 36, 29]
abbrev dktX0_canBe_1 : List UInt8 := dkwX0_canBe_1 ++ dktX0_canBe_2
def dkwX0_canBe_0 : List UInt8 := [42, 27, 182, 1, 27, 58, 4, 25, 4, 28, 184, 1, 68, 153, 0, 13, 29, 133, 9, 10, 184, 0, 167]
abbrev dktX0_canBe_0 : List UInt8 := dkwX0_canBe_0 ++ dktX0_canBe_1
theorem dksX0_canBe_0 : cX0_canBe.data.toList.drop 0 = dktX0_canBe_0 := by decide +kernel
theorem dksX0_canBe_1 : cX0_canBe.data.toList.drop 23 = dktX0_canBe_1 := dk_seg dksX0_canBe_0 23 rfl rfl
theorem dksX0_canBe_2 : cX0_canBe.data.toList.drop 47 = dktX0_canBe_2 := dk_seg dksX0_canBe_1 24 rfl rfl
theorem dksX0_canBe_3 : cX0_canBe.data.toList.drop 71 = dktX0_canBe_3 := dk_seg dksX0_canBe_2 24 rfl rfl
theorem dksX0_canBe_4 : cX0_canBe.data.toList.drop 93 = dktX0_canBe_4 := dk_seg dksX0_canBe_3 22 rfl rfl
theorem dX0_canBe_0 : decode cX0_canBe 0 = .ok (.aload_n 0, 1) := dk_42 (dk_at dksX0_canBe_0 0 rfl rfl)
theorem dX0_canBe_1 : decode cX0_canBe 1 = .ok (.iload_n 1, 1) := dk_27 (dk_at dksX0_canBe_0 1 rfl rfl)
theorem dX0_canBe_2 : decode cX0_canBe 2 = .ok (.invokevirtual 283, 3) := dk_182 1 27 (dk_at dksX0_canBe_0 2 rfl rfl)
theorem dX0_canBe_5 : decode cX0_canBe 5 = .ok (.astore 4, 2) := dk_58 4 (dk_at dksX0_canBe_0 5 rfl rfl)
theorem dX0_canBe_7 : decode cX0_canBe 7 = .ok (.aload 4, 2) := dk_25 4 (dk_at dksX0_canBe_0 7 rfl rfl)
theorem dX0_canBe_9 : decode cX0_canBe 9 = .ok (.iload_n 2, 1) := dk_28 (dk_at dksX0_canBe_0 9 rfl rfl)
theorem dX0_canBe_10 : decode cX0_canBe 10 = .ok (.invokestatic 324, 3) := dk_184 1 68 (dk_at dksX0_canBe_0 10 rfl rfl)
theorem dX0_canBe_13 : decode cX0_canBe 13 = .ok (.ifCond .eq 13, 3) := dk_153 0 13 (dk_at dksX0_canBe_0 13 rfl rfl)
theorem dX0_canBe_16 : decode cX0_canBe 16 = .ok (.iload_n 3, 1) := dk_29 (dk_at dksX0_canBe_0 16 rfl rfl)
theorem dX0_canBe_17 : decode cX0_canBe 17 = .ok (.i2l, 1) := dk_133 (dk_at dksX0_canBe_0 17 rfl rfl)
theorem dX0_canBe_18 : decode cX0_canBe 18 = .ok (.lconst 0, 1) := dk_9 (dk_at dksX0_canBe_0 18 rfl rfl)
theorem dX0_canBe_19 : decode cX0_canBe 19 = .ok (.lconst 1, 1) := dk_10 (dk_at dksX0_canBe_0 19 rfl rfl)
theorem dX0_canBe_20 : decode cX0_canBe 20 = .ok (.invokestatic 167, 3) := dk_184 0 167 (dk_at dksX0_canBe_0 20 rfl rfl)
theorem dX0_canBe_23 : decode cX0_canBe 23 = .ok (.ifCond .ne 5, 3) := dk_154 0 5 (dk_at dksX0_canBe_1 0 rfl rfl)
theorem dX0_canBe_26 : decode cX0_canBe 26 = .ok (.iconst (-1), 1) := dk_2 (dk_at dksX0_canBe_1 3 rfl rfl)
theorem dX0_canBe_27 : decode cX0_canBe 27 = .ok (.ireturn, 1) := dk_172 (dk_at dksX0_canBe_1 4 rfl rfl)
theorem dX0_canBe_28 : decode cX0_canBe 28 = .ok (.iconst 4, 1) := dk_7 (dk_at dksX0_canBe_1 5 rfl rfl)
theorem dX0_canBe_29 : decode cX0_canBe 29 = .ok (.aload 4, 2) := dk_25 4 (dk_at dksX0_canBe_1 6 rfl rfl)
theorem dX0_canBe_31 : decode cX0_canBe 31 = .ok (.getfield 252, 3) := dk_180 0 252 (dk_at dksX0_canBe_1 8 rfl rfl)
theorem dX0_canBe_34 : decode cX0_canBe 34 = .ok (.imul, 1) := dk_104 (dk_at dksX0_canBe_1 11 rfl rfl)
theorem dX0_canBe_35 : decode cX0_canBe 35 = .ok (.istore 5, 2) := dk_54 5 (dk_at dksX0_canBe_1 12 rfl rfl)
theorem dX0_canBe_37 : decode cX0_canBe 37 = .ok (.iconst 1, 1) := dk_4 (dk_at dksX0_canBe_1 14 rfl rfl)
theorem dX0_canBe_38 : decode cX0_canBe 38 = .ok (.istore 6, 2) := dk_54 6 (dk_at dksX0_canBe_1 15 rfl rfl)
theorem dX0_canBe_40 : decode cX0_canBe 40 = .ok (.iload 6, 2) := dk_21 6 (dk_at dksX0_canBe_1 17 rfl rfl)
theorem dX0_canBe_42 : decode cX0_canBe 42 = .ok (.iload_n 2, 1) := dk_28 (dk_at dksX0_canBe_1 19 rfl rfl)
theorem dX0_canBe_43 : decode cX0_canBe 43 = .ok (.if_icmp .gt 36, 3) := dk_163 0 36 (dk_at dksX0_canBe_1 20 rfl rfl)
theorem dX0_canBe_46 : decode cX0_canBe 46 = .ok (.iload_n 3, 1) := dk_29 (dk_at dksX0_canBe_1 23 rfl rfl)
theorem dX0_canBe_47 : decode cX0_canBe 47 = .ok (.ifCond .ne 15, 3) := dk_154 0 15 (dk_at dksX0_canBe_2 0 rfl rfl)
theorem dX0_canBe_50 : decode cX0_canBe 50 = .ok (.aload 4, 2) := dk_25 4 (dk_at dksX0_canBe_2 3 rfl rfl)
theorem dX0_canBe_52 : decode cX0_canBe 52 = .ok (.iload 6, 2) := dk_21 6 (dk_at dksX0_canBe_2 5 rfl rfl)
theorem dX0_canBe_54 : decode cX0_canBe 54 = .ok (.iload 5, 2) := dk_21 5 (dk_at dksX0_canBe_2 7 rfl rfl)
theorem dX0_canBe_56 : decode cX0_canBe 56 = .ok (.invokevirtual 365, 3) := dk_182 1 109 (dk_at dksX0_canBe_2 9 rfl rfl)
theorem dX0_canBe_59 : decode cX0_canBe 59 = .ok (.goto 12, 3) := dk_167 0 12 (dk_at dksX0_canBe_2 12 rfl rfl)
theorem dX0_canBe_62 : decode cX0_canBe 62 = .ok (.aload 4, 2) := dk_25 4 (dk_at dksX0_canBe_2 15 rfl rfl)
theorem dX0_canBe_64 : decode cX0_canBe 64 = .ok (.iload 6, 2) := dk_21 6 (dk_at dksX0_canBe_2 17 rfl rfl)
theorem dX0_canBe_66 : decode cX0_canBe 66 = .ok (.iload 5, 2) := dk_21 5 (dk_at dksX0_canBe_2 19 rfl rfl)
theorem dX0_canBe_68 : decode cX0_canBe 68 = .ok (.invokevirtual 368, 3) := dk_182 1 112 (dk_at dksX0_canBe_2 21 rfl rfl)
theorem dX0_canBe_71 : decode cX0_canBe 71 = .ok (.istore 5, 2) := dk_54 5 (dk_at dksX0_canBe_3 0 rfl rfl)
theorem dX0_canBe_73 : decode cX0_canBe 73 = .ok (.iinc 6 1, 3) := dk_132 6 1 (dk_at dksX0_canBe_3 2 rfl rfl)
theorem dX0_canBe_76 : decode cX0_canBe 76 = .ok (.goto (-36), 3) := dk_167 255 220 (dk_at dksX0_canBe_3 5 rfl rfl)
theorem dX0_canBe_79 : decode cX0_canBe 79 = .ok (.iload_n 3, 1) := dk_29 (dk_at dksX0_canBe_3 8 rfl rfl)
theorem dX0_canBe_80 : decode cX0_canBe 80 = .ok (.ifCond .ne 11, 3) := dk_154 0 11 (dk_at dksX0_canBe_3 9 rfl rfl)
theorem dX0_canBe_83 : decode cX0_canBe 83 = .ok (.iload 5, 2) := dk_21 5 (dk_at dksX0_canBe_3 12 rfl rfl)
theorem dX0_canBe_85 : decode cX0_canBe 85 = .ok (.invokestatic 371, 3) := dk_184 1 115 (dk_at dksX0_canBe_3 14 rfl rfl)
theorem dX0_canBe_88 : decode cX0_canBe 88 = .ok (.goto 8, 3) := dk_167 0 8 (dk_at dksX0_canBe_3 17 rfl rfl)
theorem dX0_canBe_91 : decode cX0_canBe 91 = .ok (.iload 5, 2) := dk_21 5 (dk_at dksX0_canBe_3 20 rfl rfl)
theorem dX0_canBe_93 : decode cX0_canBe 93 = .ok (.invokestatic 374, 3) := dk_184 1 118 (dk_at dksX0_canBe_4 0 rfl rfl)
theorem dX0_canBe_96 : decode cX0_canBe 96 = .ok (.ireturn, 1) := dk_172 (dk_at dksX0_canBe_4 3 rfl rfl)
abbrev cX0_least : ByteArray := prog_1_method_37_code
def yX0_least : MethodName := ⟨RX0, "least", "(I)I"⟩
def dkwX0_least_0 : List UInt8 := [26, 7, 184, 1, 102, 3, 16, 31, 184, 1, 105, 172]
abbrev dktX0_least_0 : List UInt8 := dkwX0_least_0 ++ []
theorem dksX0_least_0 : cX0_least.data.toList.drop 0 = dktX0_least_0 := by decide +kernel
theorem dX0_least_0 : decode cX0_least 0 = .ok (.iload_n 0, 1) := dk_26 (dk_at dksX0_least_0 0 rfl rfl)
theorem dX0_least_1 : decode cX0_least 1 = .ok (.iconst 4, 1) := dk_7 (dk_at dksX0_least_0 1 rfl rfl)
theorem dX0_least_2 : decode cX0_least 2 = .ok (.invokestatic 358, 3) := dk_184 1 102 (dk_at dksX0_least_0 2 rfl rfl)
theorem dX0_least_5 : decode cX0_least 5 = .ok (.iconst 0, 1) := dk_3 (dk_at dksX0_least_0 5 rfl rfl)
theorem dX0_least_6 : decode cX0_least 6 = .ok (.bipush 31, 2) := dk_16 31 (dk_at dksX0_least_0 6 rfl rfl)
theorem dX0_least_8 : decode cX0_least 8 = .ok (.invokestatic 361, 3) := dk_184 1 105 (dk_at dksX0_least_0 8 rfl rfl)
theorem dX0_least_11 : decode cX0_least 11 = .ok (.ireturn, 1) := dk_172 (dk_at dksX0_least_0 11 rfl rfl)
abbrev cX0_held : ByteArray := prog_1_method_2_code
def yX0_held : MethodName := ⟨RX0, "held", "(III)I"⟩
def dkwX0_held_0 : List UInt8 := [27, 28, 26, 184, 0, 1, 184, 0, 7, 172]
abbrev dktX0_held_0 : List UInt8 := dkwX0_held_0 ++ []
theorem dksX0_held_0 : cX0_held.data.toList.drop 0 = dktX0_held_0 := by decide +kernel
theorem dX0_held_0 : decode cX0_held 0 = .ok (.iload_n 1, 1) := dk_27 (dk_at dksX0_held_0 0 rfl rfl)
theorem dX0_held_1 : decode cX0_held 1 = .ok (.iload_n 2, 1) := dk_28 (dk_at dksX0_held_0 1 rfl rfl)
theorem dX0_held_2 : decode cX0_held 2 = .ok (.iload_n 0, 1) := dk_26 (dk_at dksX0_held_0 2 rfl rfl)
theorem dX0_held_3 : decode cX0_held 3 = .ok (.invokestatic 1, 3) := dk_184 0 1 (dk_at dksX0_held_0 3 rfl rfl)
theorem dX0_held_6 : decode cX0_held 6 = .ok (.invokestatic 7, 3) := dk_184 0 7 (dk_at dksX0_held_0 6 rfl rfl)
theorem dX0_held_9 : decode cX0_held 9 = .ok (.ireturn, 1) := dk_172 (dk_at dksX0_held_0 9 rfl rfl)
abbrev cX0_most : ByteArray := prog_1_method_38_code
def yX0_most : MethodName := ⟨RX0, "most", "(I)I"⟩
def dkwX0_most_0 : List UInt8 := [26, 116, 7, 184, 1, 102, 116, 3, 16, 31, 184, 1, 105, 172]
abbrev dktX0_most_0 : List UInt8 := dkwX0_most_0 ++ []
theorem dksX0_most_0 : cX0_most.data.toList.drop 0 = dktX0_most_0 := by decide +kernel
theorem dX0_most_0 : decode cX0_most 0 = .ok (.iload_n 0, 1) := dk_26 (dk_at dksX0_most_0 0 rfl rfl)
theorem dX0_most_1 : decode cX0_most 1 = .ok (.ineg, 1) := dk_116 (dk_at dksX0_most_0 1 rfl rfl)
theorem dX0_most_2 : decode cX0_most 2 = .ok (.iconst 4, 1) := dk_7 (dk_at dksX0_most_0 2 rfl rfl)
theorem dX0_most_3 : decode cX0_most 3 = .ok (.invokestatic 358, 3) := dk_184 1 102 (dk_at dksX0_most_0 3 rfl rfl)
theorem dX0_most_6 : decode cX0_most 6 = .ok (.ineg, 1) := dk_116 (dk_at dksX0_most_0 6 rfl rfl)
theorem dX0_most_7 : decode cX0_most 7 = .ok (.iconst 0, 1) := dk_3 (dk_at dksX0_most_0 7 rfl rfl)
theorem dX0_most_8 : decode cX0_most 8 = .ok (.bipush 31, 2) := dk_16 31 (dk_at dksX0_most_0 8 rfl rfl)
theorem dX0_most_10 : decode cX0_most 10 = .ok (.invokestatic 361, 3) := dk_184 1 105 (dk_at dksX0_most_0 10 rfl rfl)
theorem dX0_most_13 : decode cX0_most 13 = .ok (.ireturn, 1) := dk_172 (dk_at dksX0_most_0 13 rfl rfl)
abbrev cX0_map : ByteArray := prog_1_method_41_code
def yX0_map : MethodName := ⟨RX0, "map", "(II)I"⟩
def dkwX0_map_3 : List UInt8 := [89, 180, 1, 121, 90, 4, 96, 181, 1, 121, 172]
abbrev dktX0_map_3 : List UInt8 := dkwX0_map_3 ++ []
def dkwX0_map_2 : List UInt8 := [42, 180, 0, 61, 42, 180, 1, 121, 27, 16, 100, 112, 79, 42, 180, 0, 64, 42, 180, 1, 121, 28, 79, 42]
abbrev dktX0_map_2 : List UInt8 := dkwX0_map_2 ++ dktX0_map_3
def dkwX0_map_1 : List UInt8 := [180, 1, 121, 16, 8, 160, 0, 6, 16, 253, 172, 42, 180, 0, 58, 42, 180, 1, 121, 27, 16, 100, 108, 79]
abbrev dktX0_map_1 : List UInt8 := dkwX0_map_1 ++ dktX0_map_2
def dkwX0_map_0 : List UInt8 := [27, 184, 0, 241, 153, 0, 15, 28, 133, 10, 20, 0, 165, 184, 0, 167, 154, 0, 5, 2, 172, 42]
abbrev dktX0_map_0 : List UInt8 := dkwX0_map_0 ++ dktX0_map_1
theorem dksX0_map_0 : cX0_map.data.toList.drop 0 = dktX0_map_0 := by decide +kernel
theorem dksX0_map_1 : cX0_map.data.toList.drop 22 = dktX0_map_1 := dk_seg dksX0_map_0 22 rfl rfl
theorem dksX0_map_2 : cX0_map.data.toList.drop 46 = dktX0_map_2 := dk_seg dksX0_map_1 24 rfl rfl
theorem dksX0_map_3 : cX0_map.data.toList.drop 70 = dktX0_map_3 := dk_seg dksX0_map_2 24 rfl rfl
theorem dX0_map_0 : decode cX0_map 0 = .ok (.iload_n 1, 1) := dk_27 (dk_at dksX0_map_0 0 rfl rfl)
theorem dX0_map_1 : decode cX0_map 1 = .ok (.invokestatic 241, 3) := dk_184 0 241 (dk_at dksX0_map_0 1 rfl rfl)
theorem dX0_map_4 : decode cX0_map 4 = .ok (.ifCond .eq 15, 3) := dk_153 0 15 (dk_at dksX0_map_0 4 rfl rfl)
theorem dX0_map_7 : decode cX0_map 7 = .ok (.iload_n 2, 1) := dk_28 (dk_at dksX0_map_0 7 rfl rfl)
theorem dX0_map_8 : decode cX0_map 8 = .ok (.i2l, 1) := dk_133 (dk_at dksX0_map_0 8 rfl rfl)
theorem dX0_map_9 : decode cX0_map 9 = .ok (.lconst 1, 1) := dk_10 (dk_at dksX0_map_0 9 rfl rfl)
theorem dX0_map_10 : decode cX0_map 10 = .ok (.ldc2_w 165, 3) := dk_20 0 165 (dk_at dksX0_map_0 10 rfl rfl)
theorem dX0_map_13 : decode cX0_map 13 = .ok (.invokestatic 167, 3) := dk_184 0 167 (dk_at dksX0_map_0 13 rfl rfl)
theorem dX0_map_16 : decode cX0_map 16 = .ok (.ifCond .ne 5, 3) := dk_154 0 5 (dk_at dksX0_map_0 16 rfl rfl)
theorem dX0_map_19 : decode cX0_map 19 = .ok (.iconst (-1), 1) := dk_2 (dk_at dksX0_map_0 19 rfl rfl)
theorem dX0_map_20 : decode cX0_map 20 = .ok (.ireturn, 1) := dk_172 (dk_at dksX0_map_0 20 rfl rfl)
theorem dX0_map_21 : decode cX0_map 21 = .ok (.aload_n 0, 1) := dk_42 (dk_at dksX0_map_0 21 rfl rfl)
theorem dX0_map_22 : decode cX0_map 22 = .ok (.getfield 377, 3) := dk_180 1 121 (dk_at dksX0_map_1 0 rfl rfl)
theorem dX0_map_25 : decode cX0_map 25 = .ok (.bipush 8, 2) := dk_16 8 (dk_at dksX0_map_1 3 rfl rfl)
theorem dX0_map_27 : decode cX0_map 27 = .ok (.if_icmp .ne 6, 3) := dk_160 0 6 (dk_at dksX0_map_1 5 rfl rfl)
theorem dX0_map_30 : decode cX0_map 30 = .ok (.bipush (-3), 2) := dk_16 253 (dk_at dksX0_map_1 8 rfl rfl)
theorem dX0_map_32 : decode cX0_map 32 = .ok (.ireturn, 1) := dk_172 (dk_at dksX0_map_1 10 rfl rfl)
theorem dX0_map_33 : decode cX0_map 33 = .ok (.aload_n 0, 1) := dk_42 (dk_at dksX0_map_1 11 rfl rfl)
theorem dX0_map_34 : decode cX0_map 34 = .ok (.getfield 58, 3) := dk_180 0 58 (dk_at dksX0_map_1 12 rfl rfl)
theorem dX0_map_37 : decode cX0_map 37 = .ok (.aload_n 0, 1) := dk_42 (dk_at dksX0_map_1 15 rfl rfl)
theorem dX0_map_38 : decode cX0_map 38 = .ok (.getfield 377, 3) := dk_180 1 121 (dk_at dksX0_map_1 16 rfl rfl)
theorem dX0_map_41 : decode cX0_map 41 = .ok (.iload_n 1, 1) := dk_27 (dk_at dksX0_map_1 19 rfl rfl)
theorem dX0_map_42 : decode cX0_map 42 = .ok (.bipush 100, 2) := dk_16 100 (dk_at dksX0_map_1 20 rfl rfl)
theorem dX0_map_44 : decode cX0_map 44 = .ok (.idiv, 1) := dk_108 (dk_at dksX0_map_1 22 rfl rfl)
theorem dX0_map_45 : decode cX0_map 45 = .ok (.iastore, 1) := dk_79 (dk_at dksX0_map_1 23 rfl rfl)
theorem dX0_map_46 : decode cX0_map 46 = .ok (.aload_n 0, 1) := dk_42 (dk_at dksX0_map_2 0 rfl rfl)
theorem dX0_map_47 : decode cX0_map 47 = .ok (.getfield 61, 3) := dk_180 0 61 (dk_at dksX0_map_2 1 rfl rfl)
theorem dX0_map_50 : decode cX0_map 50 = .ok (.aload_n 0, 1) := dk_42 (dk_at dksX0_map_2 4 rfl rfl)
theorem dX0_map_51 : decode cX0_map 51 = .ok (.getfield 377, 3) := dk_180 1 121 (dk_at dksX0_map_2 5 rfl rfl)
theorem dX0_map_54 : decode cX0_map 54 = .ok (.iload_n 1, 1) := dk_27 (dk_at dksX0_map_2 8 rfl rfl)
theorem dX0_map_55 : decode cX0_map 55 = .ok (.bipush 100, 2) := dk_16 100 (dk_at dksX0_map_2 9 rfl rfl)
theorem dX0_map_57 : decode cX0_map 57 = .ok (.irem, 1) := dk_112 (dk_at dksX0_map_2 11 rfl rfl)
theorem dX0_map_58 : decode cX0_map 58 = .ok (.iastore, 1) := dk_79 (dk_at dksX0_map_2 12 rfl rfl)
theorem dX0_map_59 : decode cX0_map 59 = .ok (.aload_n 0, 1) := dk_42 (dk_at dksX0_map_2 13 rfl rfl)
theorem dX0_map_60 : decode cX0_map 60 = .ok (.getfield 64, 3) := dk_180 0 64 (dk_at dksX0_map_2 14 rfl rfl)
theorem dX0_map_63 : decode cX0_map 63 = .ok (.aload_n 0, 1) := dk_42 (dk_at dksX0_map_2 17 rfl rfl)
theorem dX0_map_64 : decode cX0_map 64 = .ok (.getfield 377, 3) := dk_180 1 121 (dk_at dksX0_map_2 18 rfl rfl)
theorem dX0_map_67 : decode cX0_map 67 = .ok (.iload_n 2, 1) := dk_28 (dk_at dksX0_map_2 21 rfl rfl)
theorem dX0_map_68 : decode cX0_map 68 = .ok (.iastore, 1) := dk_79 (dk_at dksX0_map_2 22 rfl rfl)
theorem dX0_map_69 : decode cX0_map 69 = .ok (.aload_n 0, 1) := dk_42 (dk_at dksX0_map_2 23 rfl rfl)
theorem dX0_map_70 : decode cX0_map 70 = .ok (.dup, 1) := dk_89 (dk_at dksX0_map_3 0 rfl rfl)
theorem dX0_map_71 : decode cX0_map 71 = .ok (.getfield 377, 3) := dk_180 1 121 (dk_at dksX0_map_3 1 rfl rfl)
theorem dX0_map_74 : decode cX0_map 74 = .ok (.dup_x1, 1) := dk_90 (dk_at dksX0_map_3 4 rfl rfl)
theorem dX0_map_75 : decode cX0_map 75 = .ok (.iconst 1, 1) := dk_4 (dk_at dksX0_map_3 5 rfl rfl)
theorem dX0_map_76 : decode cX0_map 76 = .ok (.iadd, 1) := dk_96 (dk_at dksX0_map_3 6 rfl rfl)
theorem dX0_map_77 : decode cX0_map 77 = .ok (.putfield 377, 3) := dk_181 1 121 (dk_at dksX0_map_3 7 rfl rfl)
theorem dX0_map_80 : decode cX0_map 80 = .ok (.ireturn, 1) := dk_172 (dk_at dksX0_map_3 10 rfl rfl)
abbrev cX0_old : ByteArray := prog_1_method_44_code
def yX0_old : MethodName := ⟨RX0, "old", "(II)I"⟩
def dkwX0_old_3 : List UInt8 := [4, 96, 91, 79, 172]
abbrev dktX0_old_3 : List UInt8 := dkwX0_old_3 ++ []
def dkwX0_old_2 : List UInt8 := [180, 0, 67, 27, 28, 16, 100, 108, 28, 16, 100, 112, 184, 1, 124, 4, 84, 42, 180, 0, 70, 27, 92, 46]
abbrev dktX0_old_2 : List UInt8 := dkwX0_old_2 ++ dktX0_old_3
def dkwX0_old_1 : List UInt8 := [112, 182, 1, 130, 153, 0, 5, 2, 172, 42, 180, 0, 70, 27, 46, 16, 40, 160, 0, 6, 16, 253, 172, 42]
abbrev dktX0_old_1 : List UInt8 := dkwX0_old_1 ++ dktX0_old_2
def dkwX0_old_0 : List UInt8 := [42, 27, 182, 1, 127, 153, 0, 26, 28, 184, 0, 174, 153, 0, 19, 42, 27, 28, 16, 100, 108, 28, 16, 100]
abbrev dktX0_old_0 : List UInt8 := dkwX0_old_0 ++ dktX0_old_1
theorem dksX0_old_0 : cX0_old.data.toList.drop 0 = dktX0_old_0 := by decide +kernel
theorem dksX0_old_1 : cX0_old.data.toList.drop 24 = dktX0_old_1 := dk_seg dksX0_old_0 24 rfl rfl
theorem dksX0_old_2 : cX0_old.data.toList.drop 48 = dktX0_old_2 := dk_seg dksX0_old_1 24 rfl rfl
theorem dksX0_old_3 : cX0_old.data.toList.drop 72 = dktX0_old_3 := dk_seg dksX0_old_2 24 rfl rfl
theorem dX0_old_0 : decode cX0_old 0 = .ok (.aload_n 0, 1) := dk_42 (dk_at dksX0_old_0 0 rfl rfl)
theorem dX0_old_1 : decode cX0_old 1 = .ok (.iload_n 1, 1) := dk_27 (dk_at dksX0_old_0 1 rfl rfl)
theorem dX0_old_2 : decode cX0_old 2 = .ok (.invokevirtual 383, 3) := dk_182 1 127 (dk_at dksX0_old_0 2 rfl rfl)
theorem dX0_old_5 : decode cX0_old 5 = .ok (.ifCond .eq 26, 3) := dk_153 0 26 (dk_at dksX0_old_0 5 rfl rfl)
theorem dX0_old_8 : decode cX0_old 8 = .ok (.iload_n 2, 1) := dk_28 (dk_at dksX0_old_0 8 rfl rfl)
theorem dX0_old_9 : decode cX0_old 9 = .ok (.invokestatic 174, 3) := dk_184 0 174 (dk_at dksX0_old_0 9 rfl rfl)
theorem dX0_old_12 : decode cX0_old 12 = .ok (.ifCond .eq 19, 3) := dk_153 0 19 (dk_at dksX0_old_0 12 rfl rfl)
theorem dX0_old_15 : decode cX0_old 15 = .ok (.aload_n 0, 1) := dk_42 (dk_at dksX0_old_0 15 rfl rfl)
theorem dX0_old_16 : decode cX0_old 16 = .ok (.iload_n 1, 1) := dk_27 (dk_at dksX0_old_0 16 rfl rfl)
theorem dX0_old_17 : decode cX0_old 17 = .ok (.iload_n 2, 1) := dk_28 (dk_at dksX0_old_0 17 rfl rfl)
theorem dX0_old_18 : decode cX0_old 18 = .ok (.bipush 100, 2) := dk_16 100 (dk_at dksX0_old_0 18 rfl rfl)
theorem dX0_old_20 : decode cX0_old 20 = .ok (.idiv, 1) := dk_108 (dk_at dksX0_old_0 20 rfl rfl)
theorem dX0_old_21 : decode cX0_old 21 = .ok (.iload_n 2, 1) := dk_28 (dk_at dksX0_old_0 21 rfl rfl)
theorem dX0_old_22 : decode cX0_old 22 = .ok (.bipush 100, 2) := dk_16 100 (dk_at dksX0_old_0 22 rfl rfl)
theorem dX0_old_24 : decode cX0_old 24 = .ok (.irem, 1) := dk_112 (dk_at dksX0_old_1 0 rfl rfl)
theorem dX0_old_25 : decode cX0_old 25 = .ok (.invokevirtual 386, 3) := dk_182 1 130 (dk_at dksX0_old_1 1 rfl rfl)
theorem dX0_old_28 : decode cX0_old 28 = .ok (.ifCond .eq 5, 3) := dk_153 0 5 (dk_at dksX0_old_1 4 rfl rfl)
theorem dX0_old_31 : decode cX0_old 31 = .ok (.iconst (-1), 1) := dk_2 (dk_at dksX0_old_1 7 rfl rfl)
theorem dX0_old_32 : decode cX0_old 32 = .ok (.ireturn, 1) := dk_172 (dk_at dksX0_old_1 8 rfl rfl)
theorem dX0_old_33 : decode cX0_old 33 = .ok (.aload_n 0, 1) := dk_42 (dk_at dksX0_old_1 9 rfl rfl)
theorem dX0_old_34 : decode cX0_old 34 = .ok (.getfield 70, 3) := dk_180 0 70 (dk_at dksX0_old_1 10 rfl rfl)
theorem dX0_old_37 : decode cX0_old 37 = .ok (.iload_n 1, 1) := dk_27 (dk_at dksX0_old_1 13 rfl rfl)
theorem dX0_old_38 : decode cX0_old 38 = .ok (.iaload, 1) := dk_46 (dk_at dksX0_old_1 14 rfl rfl)
theorem dX0_old_39 : decode cX0_old 39 = .ok (.bipush 40, 2) := dk_16 40 (dk_at dksX0_old_1 15 rfl rfl)
theorem dX0_old_41 : decode cX0_old 41 = .ok (.if_icmp .ne 6, 3) := dk_160 0 6 (dk_at dksX0_old_1 17 rfl rfl)
theorem dX0_old_44 : decode cX0_old 44 = .ok (.bipush (-3), 2) := dk_16 253 (dk_at dksX0_old_1 20 rfl rfl)
theorem dX0_old_46 : decode cX0_old 46 = .ok (.ireturn, 1) := dk_172 (dk_at dksX0_old_1 22 rfl rfl)
theorem dX0_old_47 : decode cX0_old 47 = .ok (.aload_n 0, 1) := dk_42 (dk_at dksX0_old_1 23 rfl rfl)
theorem dX0_old_48 : decode cX0_old 48 = .ok (.getfield 67, 3) := dk_180 0 67 (dk_at dksX0_old_2 0 rfl rfl)
theorem dX0_old_51 : decode cX0_old 51 = .ok (.iload_n 1, 1) := dk_27 (dk_at dksX0_old_2 3 rfl rfl)
theorem dX0_old_52 : decode cX0_old 52 = .ok (.iload_n 2, 1) := dk_28 (dk_at dksX0_old_2 4 rfl rfl)
theorem dX0_old_53 : decode cX0_old 53 = .ok (.bipush 100, 2) := dk_16 100 (dk_at dksX0_old_2 5 rfl rfl)
theorem dX0_old_55 : decode cX0_old 55 = .ok (.idiv, 1) := dk_108 (dk_at dksX0_old_2 7 rfl rfl)
theorem dX0_old_56 : decode cX0_old 56 = .ok (.iload_n 2, 1) := dk_28 (dk_at dksX0_old_2 8 rfl rfl)
theorem dX0_old_57 : decode cX0_old 57 = .ok (.bipush 100, 2) := dk_16 100 (dk_at dksX0_old_2 9 rfl rfl)
theorem dX0_old_59 : decode cX0_old 59 = .ok (.irem, 1) := dk_112 (dk_at dksX0_old_2 11 rfl rfl)
theorem dX0_old_60 : decode cX0_old 60 = .ok (.invokestatic 380, 3) := dk_184 1 124 (dk_at dksX0_old_2 12 rfl rfl)
theorem dX0_old_63 : decode cX0_old 63 = .ok (.iconst 1, 1) := dk_4 (dk_at dksX0_old_2 15 rfl rfl)
theorem dX0_old_64 : decode cX0_old 64 = .ok (.bastore, 1) := dk_84 (dk_at dksX0_old_2 16 rfl rfl)
theorem dX0_old_65 : decode cX0_old 65 = .ok (.aload_n 0, 1) := dk_42 (dk_at dksX0_old_2 17 rfl rfl)
theorem dX0_old_66 : decode cX0_old 66 = .ok (.getfield 70, 3) := dk_180 0 70 (dk_at dksX0_old_2 18 rfl rfl)
theorem dX0_old_69 : decode cX0_old 69 = .ok (.iload_n 1, 1) := dk_27 (dk_at dksX0_old_2 21 rfl rfl)
theorem dX0_old_70 : decode cX0_old 70 = .ok (.dup2, 1) := dk_92 (dk_at dksX0_old_2 22 rfl rfl)
theorem dX0_old_71 : decode cX0_old 71 = .ok (.iaload, 1) := dk_46 (dk_at dksX0_old_2 23 rfl rfl)
theorem dX0_old_72 : decode cX0_old 72 = .ok (.iconst 1, 1) := dk_4 (dk_at dksX0_old_3 0 rfl rfl)
theorem dX0_old_73 : decode cX0_old 73 = .ok (.iadd, 1) := dk_96 (dk_at dksX0_old_3 1 rfl rfl)
theorem dX0_old_74 : decode cX0_old 74 = .ok (.dup_x2, 1) := dk_91 (dk_at dksX0_old_3 2 rfl rfl)
theorem dX0_old_75 : decode cX0_old 75 = .ok (.iastore, 1) := dk_79 (dk_at dksX0_old_3 3 rfl rfl)
theorem dX0_old_76 : decode cX0_old 76 = .ok (.ireturn, 1) := dk_172 (dk_at dksX0_old_3 4 rfl rfl)
abbrev cX0_isMap : ByteArray := prog_1_method_40_code
def yX0_isMap : MethodName := ⟨RX0, "isMap", "(I)Z"⟩
def dkwX0_isMap_0 : List UInt8 := [27, 133, 9, 42, 180, 1, 121, 4, 100, 133, 184, 0, 167, 172]
abbrev dktX0_isMap_0 : List UInt8 := dkwX0_isMap_0 ++ []
theorem dksX0_isMap_0 : cX0_isMap.data.toList.drop 0 = dktX0_isMap_0 := by decide +kernel
theorem dX0_isMap_0 : decode cX0_isMap 0 = .ok (.iload_n 1, 1) := dk_27 (dk_at dksX0_isMap_0 0 rfl rfl)
theorem dX0_isMap_1 : decode cX0_isMap 1 = .ok (.i2l, 1) := dk_133 (dk_at dksX0_isMap_0 1 rfl rfl)
theorem dX0_isMap_2 : decode cX0_isMap 2 = .ok (.lconst 0, 1) := dk_9 (dk_at dksX0_isMap_0 2 rfl rfl)
theorem dX0_isMap_3 : decode cX0_isMap 3 = .ok (.aload_n 0, 1) := dk_42 (dk_at dksX0_isMap_0 3 rfl rfl)
theorem dX0_isMap_4 : decode cX0_isMap 4 = .ok (.getfield 377, 3) := dk_180 1 121 (dk_at dksX0_isMap_0 4 rfl rfl)
theorem dX0_isMap_7 : decode cX0_isMap 7 = .ok (.iconst 1, 1) := dk_4 (dk_at dksX0_isMap_0 7 rfl rfl)
theorem dX0_isMap_8 : decode cX0_isMap 8 = .ok (.isub, 1) := dk_100 (dk_at dksX0_isMap_0 8 rfl rfl)
theorem dX0_isMap_9 : decode cX0_isMap 9 = .ok (.i2l, 1) := dk_133 (dk_at dksX0_isMap_0 9 rfl rfl)
theorem dX0_isMap_10 : decode cX0_isMap 10 = .ok (.invokestatic 167, 3) := dk_184 0 167 (dk_at dksX0_isMap_0 10 rfl rfl)
theorem dX0_isMap_13 : decode cX0_isMap 13 = .ok (.ireturn, 1) := dk_172 (dk_at dksX0_isMap_0 13 rfl rfl)
abbrev cX0_isOld : ByteArray := prog_1_method_43_code
def yX0_isOld : MethodName := ⟨RX0, "isOld", "(III)Z"⟩
def dkwX0_isOld_0 : List UInt8 := [42, 180, 0, 67, 27, 28, 29, 184, 1, 124, 51, 172]
abbrev dktX0_isOld_0 : List UInt8 := dkwX0_isOld_0 ++ []
theorem dksX0_isOld_0 : cX0_isOld.data.toList.drop 0 = dktX0_isOld_0 := by decide +kernel
theorem dX0_isOld_0 : decode cX0_isOld 0 = .ok (.aload_n 0, 1) := dk_42 (dk_at dksX0_isOld_0 0 rfl rfl)
theorem dX0_isOld_1 : decode cX0_isOld 1 = .ok (.getfield 67, 3) := dk_180 0 67 (dk_at dksX0_isOld_0 1 rfl rfl)
theorem dX0_isOld_4 : decode cX0_isOld 4 = .ok (.iload_n 1, 1) := dk_27 (dk_at dksX0_isOld_0 4 rfl rfl)
theorem dX0_isOld_5 : decode cX0_isOld 5 = .ok (.iload_n 2, 1) := dk_28 (dk_at dksX0_isOld_0 5 rfl rfl)
theorem dX0_isOld_6 : decode cX0_isOld 6 = .ok (.iload_n 3, 1) := dk_29 (dk_at dksX0_isOld_0 6 rfl rfl)
theorem dX0_isOld_7 : decode cX0_isOld 7 = .ok (.invokestatic 380, 3) := dk_184 1 124 (dk_at dksX0_isOld_0 7 rfl rfl)
theorem dX0_isOld_10 : decode cX0_isOld 10 = .ok (.baload, 1) := dk_51 (dk_at dksX0_isOld_0 10 rfl rfl)
theorem dX0_isOld_11 : decode cX0_isOld 11 = .ok (.ireturn, 1) := dk_172 (dk_at dksX0_isOld_0 11 rfl rfl)
abbrev cX0_oldAt : ByteArray := prog_1_method_42_code
def yX0_oldAt : MethodName := ⟨RX0, "oldAt", "(III)I"⟩
def dkwX0_oldAt_0 : List UInt8 := [26, 16, 32, 104, 16, 61, 104, 27, 28, 184, 0, 171, 96, 172]
abbrev dktX0_oldAt_0 : List UInt8 := dkwX0_oldAt_0 ++ []
theorem dksX0_oldAt_0 : cX0_oldAt.data.toList.drop 0 = dktX0_oldAt_0 := by decide +kernel
theorem dX0_oldAt_0 : decode cX0_oldAt 0 = .ok (.iload_n 0, 1) := dk_26 (dk_at dksX0_oldAt_0 0 rfl rfl)
theorem dX0_oldAt_1 : decode cX0_oldAt 1 = .ok (.bipush 32, 2) := dk_16 32 (dk_at dksX0_oldAt_0 1 rfl rfl)
theorem dX0_oldAt_3 : decode cX0_oldAt 3 = .ok (.imul, 1) := dk_104 (dk_at dksX0_oldAt_0 3 rfl rfl)
theorem dX0_oldAt_4 : decode cX0_oldAt 4 = .ok (.bipush 61, 2) := dk_16 61 (dk_at dksX0_oldAt_0 4 rfl rfl)
theorem dX0_oldAt_6 : decode cX0_oldAt 6 = .ok (.imul, 1) := dk_104 (dk_at dksX0_oldAt_0 6 rfl rfl)
theorem dX0_oldAt_7 : decode cX0_oldAt 7 = .ok (.iload_n 1, 1) := dk_27 (dk_at dksX0_oldAt_0 7 rfl rfl)
theorem dX0_oldAt_8 : decode cX0_oldAt 8 = .ok (.iload_n 2, 1) := dk_28 (dk_at dksX0_oldAt_0 8 rfl rfl)
theorem dX0_oldAt_9 : decode cX0_oldAt 9 = .ok (.invokestatic 171, 3) := dk_184 0 171 (dk_at dksX0_oldAt_0 9 rfl rfl)
theorem dX0_oldAt_12 : decode cX0_oldAt 12 = .ok (.iadd, 1) := dk_96 (dk_at dksX0_oldAt_0 12 rfl rfl)
theorem dX0_oldAt_13 : decode cX0_oldAt 13 = .ok (.ireturn, 1) := dk_172 (dk_at dksX0_oldAt_0 13 rfl rfl)
abbrev cX0_wrong : ByteArray := prog_1_method_47_code
def yX0_wrong : MethodName := ⟨RX0, "wrong", "(I)I"⟩
def dkwX0_wrong_6 : List UInt8 := [172, 132, 6, 1, 167, 255, 160, 132, 2, 1, 167, 255, 117, 16, 254, 172]
abbrev dktX0_wrong_6 : List UInt8 := dkwX0_wrong_6 ++ []
def dkwX0_wrong_5 : List UInt8 := [182, 1, 137, 128, 54, 7, 132, 8, 1, 167, 255, 222, 21, 7, 154, 0, 11, 16, 100, 28, 104, 21, 6, 96]
abbrev dktX0_wrong_5 : List UInt8 := dkwX0_wrong_5 ++ dktX0_wrong_6
def dkwX0_wrong_4 : List UInt8 := [21, 5, 184, 1, 118, 163, 0, 30, 21, 7, 42, 27, 21, 8, 21, 6, 45, 180, 1, 72, 21, 6, 46]
abbrev dktX0_wrong_4 : List UInt8 := dkwX0_wrong_4 ++ dktX0_wrong_5
def dkwX0_wrong_3 : List UInt8 := [54, 4, 45, 21, 6, 21, 5, 182, 1, 112, 54, 5, 3, 54, 7, 21, 4, 184, 1, 115, 54, 8, 21, 8]
abbrev dktX0_wrong_3 : List UInt8 := dkwX0_wrong_3 ++ dktX0_wrong_4
def dkwX0_wrong_2 : List UInt8 := [4, 54, 6, 45, 198, 0, 98, 21, 6, 45, 180, 1, 2, 163, 0, 89, 45, 21, 6, 21, 4, 182, 1, 109]
abbrev dktX0_wrong_2 : List UInt8 := dkwX0_wrong_2 ++ dktX0_wrong_3
def dkwX0_wrong_1 : List UInt8 := [182, 1, 27, 78, 45, 199, 0, 7, 3, 167, 0, 9, 7, 45, 180, 0, 252, 104, 54, 4, 21, 4, 54, 5]
abbrev dktX0_wrong_1 : List UInt8 := dkwX0_wrong_1 ++ dktX0_wrong_2
def dkwX0_wrong_0 : List UInt8 := [42, 27, 182, 1, 127, 154, 0, 5, 2, 172, 3, 61, 28, 42, 180, 0, 184, 162, 0, 137, 42, 28]
abbrev dktX0_wrong_0 : List UInt8 := dkwX0_wrong_0 ++ dktX0_wrong_1
theorem dksX0_wrong_0 : cX0_wrong.data.toList.drop 0 = dktX0_wrong_0 := by decide +kernel
theorem dksX0_wrong_1 : cX0_wrong.data.toList.drop 22 = dktX0_wrong_1 := dk_seg dksX0_wrong_0 22 rfl rfl
theorem dksX0_wrong_2 : cX0_wrong.data.toList.drop 46 = dktX0_wrong_2 := dk_seg dksX0_wrong_1 24 rfl rfl
theorem dksX0_wrong_3 : cX0_wrong.data.toList.drop 70 = dktX0_wrong_3 := dk_seg dksX0_wrong_2 24 rfl rfl
theorem dksX0_wrong_4 : cX0_wrong.data.toList.drop 94 = dktX0_wrong_4 := dk_seg dksX0_wrong_3 24 rfl rfl
theorem dksX0_wrong_5 : cX0_wrong.data.toList.drop 117 = dktX0_wrong_5 := dk_seg dksX0_wrong_4 23 rfl rfl
theorem dksX0_wrong_6 : cX0_wrong.data.toList.drop 141 = dktX0_wrong_6 := dk_seg dksX0_wrong_5 24 rfl rfl
theorem dX0_wrong_0 : decode cX0_wrong 0 = .ok (.aload_n 0, 1) := dk_42 (dk_at dksX0_wrong_0 0 rfl rfl)
theorem dX0_wrong_1 : decode cX0_wrong 1 = .ok (.iload_n 1, 1) := dk_27 (dk_at dksX0_wrong_0 1 rfl rfl)
theorem dX0_wrong_2 : decode cX0_wrong 2 = .ok (.invokevirtual 383, 3) := dk_182 1 127 (dk_at dksX0_wrong_0 2 rfl rfl)
theorem dX0_wrong_5 : decode cX0_wrong 5 = .ok (.ifCond .ne 5, 3) := dk_154 0 5 (dk_at dksX0_wrong_0 5 rfl rfl)
theorem dX0_wrong_8 : decode cX0_wrong 8 = .ok (.iconst (-1), 1) := dk_2 (dk_at dksX0_wrong_0 8 rfl rfl)
theorem dX0_wrong_9 : decode cX0_wrong 9 = .ok (.ireturn, 1) := dk_172 (dk_at dksX0_wrong_0 9 rfl rfl)
theorem dX0_wrong_10 : decode cX0_wrong 10 = .ok (.iconst 0, 1) := dk_3 (dk_at dksX0_wrong_0 10 rfl rfl)
theorem dX0_wrong_11 : decode cX0_wrong 11 = .ok (.istore_n 2, 1) := dk_61 (dk_at dksX0_wrong_0 11 rfl rfl)
theorem dX0_wrong_12 : decode cX0_wrong 12 = .ok (.iload_n 2, 1) := dk_28 (dk_at dksX0_wrong_0 12 rfl rfl)
theorem dX0_wrong_13 : decode cX0_wrong 13 = .ok (.aload_n 0, 1) := dk_42 (dk_at dksX0_wrong_0 13 rfl rfl)
theorem dX0_wrong_14 : decode cX0_wrong 14 = .ok (.getfield 184, 3) := dk_180 0 184 (dk_at dksX0_wrong_0 14 rfl rfl)
theorem dX0_wrong_17 : decode cX0_wrong 17 = .ok (.if_icmp .ge 137, 3) := dk_162 0 137 (dk_at dksX0_wrong_0 17 rfl rfl)
theorem dX0_wrong_20 : decode cX0_wrong 20 = .ok (.aload_n 0, 1) := dk_42 (dk_at dksX0_wrong_0 20 rfl rfl)
theorem dX0_wrong_21 : decode cX0_wrong 21 = .ok (.iload_n 2, 1) := dk_28 (dk_at dksX0_wrong_0 21 rfl rfl)
theorem dX0_wrong_22 : decode cX0_wrong 22 = .ok (.invokevirtual 283, 3) := dk_182 1 27 (dk_at dksX0_wrong_1 0 rfl rfl)
theorem dX0_wrong_25 : decode cX0_wrong 25 = .ok (.astore_n 3, 1) := dk_78 (dk_at dksX0_wrong_1 3 rfl rfl)
theorem dX0_wrong_26 : decode cX0_wrong 26 = .ok (.aload_n 3, 1) := dk_45 (dk_at dksX0_wrong_1 4 rfl rfl)
theorem dX0_wrong_27 : decode cX0_wrong 27 = .ok (.ifnonnull 7, 3) := dk_199 0 7 (dk_at dksX0_wrong_1 5 rfl rfl)
theorem dX0_wrong_30 : decode cX0_wrong 30 = .ok (.iconst 0, 1) := dk_3 (dk_at dksX0_wrong_1 8 rfl rfl)
theorem dX0_wrong_31 : decode cX0_wrong 31 = .ok (.goto 9, 3) := dk_167 0 9 (dk_at dksX0_wrong_1 9 rfl rfl)
theorem dX0_wrong_34 : decode cX0_wrong 34 = .ok (.iconst 4, 1) := dk_7 (dk_at dksX0_wrong_1 12 rfl rfl)
theorem dX0_wrong_35 : decode cX0_wrong 35 = .ok (.aload_n 3, 1) := dk_45 (dk_at dksX0_wrong_1 13 rfl rfl)
theorem dX0_wrong_36 : decode cX0_wrong 36 = .ok (.getfield 252, 3) := dk_180 0 252 (dk_at dksX0_wrong_1 14 rfl rfl)
theorem dX0_wrong_39 : decode cX0_wrong 39 = .ok (.imul, 1) := dk_104 (dk_at dksX0_wrong_1 17 rfl rfl)
theorem dX0_wrong_40 : decode cX0_wrong 40 = .ok (.istore 4, 2) := dk_54 4 (dk_at dksX0_wrong_1 18 rfl rfl)
theorem dX0_wrong_42 : decode cX0_wrong 42 = .ok (.iload 4, 2) := dk_21 4 (dk_at dksX0_wrong_1 20 rfl rfl)
theorem dX0_wrong_44 : decode cX0_wrong 44 = .ok (.istore 5, 2) := dk_54 5 (dk_at dksX0_wrong_1 22 rfl rfl)
theorem dX0_wrong_46 : decode cX0_wrong 46 = .ok (.iconst 1, 1) := dk_4 (dk_at dksX0_wrong_2 0 rfl rfl)
theorem dX0_wrong_47 : decode cX0_wrong 47 = .ok (.istore 6, 2) := dk_54 6 (dk_at dksX0_wrong_2 1 rfl rfl)
theorem dX0_wrong_49 : decode cX0_wrong 49 = .ok (.aload_n 3, 1) := dk_45 (dk_at dksX0_wrong_2 3 rfl rfl)
theorem dX0_wrong_50 : decode cX0_wrong 50 = .ok (.ifnull 98, 3) := dk_198 0 98 (dk_at dksX0_wrong_2 4 rfl rfl)
theorem dX0_wrong_53 : decode cX0_wrong 53 = .ok (.iload 6, 2) := dk_21 6 (dk_at dksX0_wrong_2 7 rfl rfl)
theorem dX0_wrong_55 : decode cX0_wrong 55 = .ok (.aload_n 3, 1) := dk_45 (dk_at dksX0_wrong_2 9 rfl rfl)
theorem dX0_wrong_56 : decode cX0_wrong 56 = .ok (.getfield 258, 3) := dk_180 1 2 (dk_at dksX0_wrong_2 10 rfl rfl)
theorem dX0_wrong_59 : decode cX0_wrong 59 = .ok (.if_icmp .gt 89, 3) := dk_163 0 89 (dk_at dksX0_wrong_2 13 rfl rfl)
theorem dX0_wrong_62 : decode cX0_wrong 62 = .ok (.aload_n 3, 1) := dk_45 (dk_at dksX0_wrong_2 16 rfl rfl)
theorem dX0_wrong_63 : decode cX0_wrong 63 = .ok (.iload 6, 2) := dk_21 6 (dk_at dksX0_wrong_2 17 rfl rfl)
theorem dX0_wrong_65 : decode cX0_wrong 65 = .ok (.iload 4, 2) := dk_21 4 (dk_at dksX0_wrong_2 19 rfl rfl)
theorem dX0_wrong_67 : decode cX0_wrong 67 = .ok (.invokevirtual 365, 3) := dk_182 1 109 (dk_at dksX0_wrong_2 21 rfl rfl)
theorem dX0_wrong_70 : decode cX0_wrong 70 = .ok (.istore 4, 2) := dk_54 4 (dk_at dksX0_wrong_3 0 rfl rfl)
theorem dX0_wrong_72 : decode cX0_wrong 72 = .ok (.aload_n 3, 1) := dk_45 (dk_at dksX0_wrong_3 2 rfl rfl)
theorem dX0_wrong_73 : decode cX0_wrong 73 = .ok (.iload 6, 2) := dk_21 6 (dk_at dksX0_wrong_3 3 rfl rfl)
theorem dX0_wrong_75 : decode cX0_wrong 75 = .ok (.iload 5, 2) := dk_21 5 (dk_at dksX0_wrong_3 5 rfl rfl)
theorem dX0_wrong_77 : decode cX0_wrong 77 = .ok (.invokevirtual 368, 3) := dk_182 1 112 (dk_at dksX0_wrong_3 7 rfl rfl)
theorem dX0_wrong_80 : decode cX0_wrong 80 = .ok (.istore 5, 2) := dk_54 5 (dk_at dksX0_wrong_3 10 rfl rfl)
theorem dX0_wrong_82 : decode cX0_wrong 82 = .ok (.iconst 0, 1) := dk_3 (dk_at dksX0_wrong_3 12 rfl rfl)
theorem dX0_wrong_83 : decode cX0_wrong 83 = .ok (.istore 7, 2) := dk_54 7 (dk_at dksX0_wrong_3 13 rfl rfl)
theorem dX0_wrong_85 : decode cX0_wrong 85 = .ok (.iload 4, 2) := dk_21 4 (dk_at dksX0_wrong_3 15 rfl rfl)
theorem dX0_wrong_87 : decode cX0_wrong 87 = .ok (.invokestatic 371, 3) := dk_184 1 115 (dk_at dksX0_wrong_3 17 rfl rfl)
theorem dX0_wrong_90 : decode cX0_wrong 90 = .ok (.istore 8, 2) := dk_54 8 (dk_at dksX0_wrong_3 20 rfl rfl)
theorem dX0_wrong_92 : decode cX0_wrong 92 = .ok (.iload 8, 2) := dk_21 8 (dk_at dksX0_wrong_3 22 rfl rfl)
theorem dX0_wrong_94 : decode cX0_wrong 94 = .ok (.iload 5, 2) := dk_21 5 (dk_at dksX0_wrong_4 0 rfl rfl)
theorem dX0_wrong_96 : decode cX0_wrong 96 = .ok (.invokestatic 374, 3) := dk_184 1 118 (dk_at dksX0_wrong_4 2 rfl rfl)
theorem dX0_wrong_99 : decode cX0_wrong 99 = .ok (.if_icmp .gt 30, 3) := dk_163 0 30 (dk_at dksX0_wrong_4 5 rfl rfl)
theorem dX0_wrong_102 : decode cX0_wrong 102 = .ok (.iload 7, 2) := dk_21 7 (dk_at dksX0_wrong_4 8 rfl rfl)
theorem dX0_wrong_104 : decode cX0_wrong 104 = .ok (.aload_n 0, 1) := dk_42 (dk_at dksX0_wrong_4 10 rfl rfl)
theorem dX0_wrong_105 : decode cX0_wrong 105 = .ok (.iload_n 1, 1) := dk_27 (dk_at dksX0_wrong_4 11 rfl rfl)
theorem dX0_wrong_106 : decode cX0_wrong 106 = .ok (.iload 8, 2) := dk_21 8 (dk_at dksX0_wrong_4 12 rfl rfl)
theorem dX0_wrong_108 : decode cX0_wrong 108 = .ok (.iload 6, 2) := dk_21 6 (dk_at dksX0_wrong_4 14 rfl rfl)
theorem dX0_wrong_110 : decode cX0_wrong 110 = .ok (.aload_n 3, 1) := dk_45 (dk_at dksX0_wrong_4 16 rfl rfl)
theorem dX0_wrong_111 : decode cX0_wrong 111 = .ok (.getfield 328, 3) := dk_180 1 72 (dk_at dksX0_wrong_4 17 rfl rfl)
theorem dX0_wrong_114 : decode cX0_wrong 114 = .ok (.iload 6, 2) := dk_21 6 (dk_at dksX0_wrong_4 20 rfl rfl)
theorem dX0_wrong_116 : decode cX0_wrong 116 = .ok (.iaload, 1) := dk_46 (dk_at dksX0_wrong_4 22 rfl rfl)
theorem dX0_wrong_117 : decode cX0_wrong 117 = .ok (.invokevirtual 393, 3) := dk_182 1 137 (dk_at dksX0_wrong_5 0 rfl rfl)
theorem dX0_wrong_120 : decode cX0_wrong 120 = .ok (.ior, 1) := dk_128 (dk_at dksX0_wrong_5 3 rfl rfl)
theorem dX0_wrong_121 : decode cX0_wrong 121 = .ok (.istore 7, 2) := dk_54 7 (dk_at dksX0_wrong_5 4 rfl rfl)
theorem dX0_wrong_123 : decode cX0_wrong 123 = .ok (.iinc 8 1, 3) := dk_132 8 1 (dk_at dksX0_wrong_5 6 rfl rfl)
theorem dX0_wrong_126 : decode cX0_wrong 126 = .ok (.goto (-34), 3) := dk_167 255 222 (dk_at dksX0_wrong_5 9 rfl rfl)
theorem dX0_wrong_129 : decode cX0_wrong 129 = .ok (.iload 7, 2) := dk_21 7 (dk_at dksX0_wrong_5 12 rfl rfl)
theorem dX0_wrong_131 : decode cX0_wrong 131 = .ok (.ifCond .ne 11, 3) := dk_154 0 11 (dk_at dksX0_wrong_5 14 rfl rfl)
theorem dX0_wrong_134 : decode cX0_wrong 134 = .ok (.bipush 100, 2) := dk_16 100 (dk_at dksX0_wrong_5 17 rfl rfl)
theorem dX0_wrong_136 : decode cX0_wrong 136 = .ok (.iload_n 2, 1) := dk_28 (dk_at dksX0_wrong_5 19 rfl rfl)
theorem dX0_wrong_137 : decode cX0_wrong 137 = .ok (.imul, 1) := dk_104 (dk_at dksX0_wrong_5 20 rfl rfl)
theorem dX0_wrong_138 : decode cX0_wrong 138 = .ok (.iload 6, 2) := dk_21 6 (dk_at dksX0_wrong_5 21 rfl rfl)
theorem dX0_wrong_140 : decode cX0_wrong 140 = .ok (.iadd, 1) := dk_96 (dk_at dksX0_wrong_5 23 rfl rfl)
theorem dX0_wrong_141 : decode cX0_wrong 141 = .ok (.ireturn, 1) := dk_172 (dk_at dksX0_wrong_6 0 rfl rfl)
theorem dX0_wrong_142 : decode cX0_wrong 142 = .ok (.iinc 6 1, 3) := dk_132 6 1 (dk_at dksX0_wrong_6 1 rfl rfl)
theorem dX0_wrong_145 : decode cX0_wrong 145 = .ok (.goto (-96), 3) := dk_167 255 160 (dk_at dksX0_wrong_6 4 rfl rfl)
theorem dX0_wrong_148 : decode cX0_wrong 148 = .ok (.iinc 2 1, 3) := dk_132 2 1 (dk_at dksX0_wrong_6 7 rfl rfl)
theorem dX0_wrong_151 : decode cX0_wrong 151 = .ok (.goto (-139), 3) := dk_167 255 117 (dk_at dksX0_wrong_6 10 rfl rfl)
theorem dX0_wrong_154 : decode cX0_wrong 154 = .ok (.bipush (-2), 2) := dk_16 254 (dk_at dksX0_wrong_6 13 rfl rfl)
theorem dX0_wrong_156 : decode cX0_wrong 156 = .ok (.ireturn, 1) := dk_172 (dk_at dksX0_wrong_6 15 rfl rfl)
abbrev cX0_isLike : ByteArray := prog_1_method_46_code
def yX0_isLike : MethodName := ⟨RX0, "isLike", "(IIII)Z"⟩
def dkwX0_isLike_2 : List UInt8 := [21, 5, 167, 0, 5, 21, 6, 172]
abbrev dktX0_isLike_2 : List UInt8 := dkwX0_isLike_2 ++ []
def dkwX0_isLike_1 : List UInt8 := [21, 5, 154, 0, 12, 21, 6, 154, 0, 7, 4, 167, 0, 20, 3, 167, 0, 16, 21, 4, 4, 160, 0, 8]
abbrev dktX0_isLike_1 : List UInt8 := dkwX0_isLike_1 ++ dktX0_isLike_2
def dkwX0_isLike_0 : List UInt8 := [42, 27, 28, 29, 182, 1, 130, 54, 5, 42, 27, 28, 29, 182, 1, 134, 54, 6, 21, 4, 154, 0, 21]
abbrev dktX0_isLike_0 : List UInt8 := dkwX0_isLike_0 ++ dktX0_isLike_1
theorem dksX0_isLike_0 : cX0_isLike.data.toList.drop 0 = dktX0_isLike_0 := by decide +kernel
theorem dksX0_isLike_1 : cX0_isLike.data.toList.drop 23 = dktX0_isLike_1 := dk_seg dksX0_isLike_0 23 rfl rfl
theorem dksX0_isLike_2 : cX0_isLike.data.toList.drop 47 = dktX0_isLike_2 := dk_seg dksX0_isLike_1 24 rfl rfl
theorem dX0_isLike_0 : decode cX0_isLike 0 = .ok (.aload_n 0, 1) := dk_42 (dk_at dksX0_isLike_0 0 rfl rfl)
theorem dX0_isLike_1 : decode cX0_isLike 1 = .ok (.iload_n 1, 1) := dk_27 (dk_at dksX0_isLike_0 1 rfl rfl)
theorem dX0_isLike_2 : decode cX0_isLike 2 = .ok (.iload_n 2, 1) := dk_28 (dk_at dksX0_isLike_0 2 rfl rfl)
theorem dX0_isLike_3 : decode cX0_isLike 3 = .ok (.iload_n 3, 1) := dk_29 (dk_at dksX0_isLike_0 3 rfl rfl)
theorem dX0_isLike_4 : decode cX0_isLike 4 = .ok (.invokevirtual 386, 3) := dk_182 1 130 (dk_at dksX0_isLike_0 4 rfl rfl)
theorem dX0_isLike_7 : decode cX0_isLike 7 = .ok (.istore 5, 2) := dk_54 5 (dk_at dksX0_isLike_0 7 rfl rfl)
theorem dX0_isLike_9 : decode cX0_isLike 9 = .ok (.aload_n 0, 1) := dk_42 (dk_at dksX0_isLike_0 9 rfl rfl)
theorem dX0_isLike_10 : decode cX0_isLike 10 = .ok (.iload_n 1, 1) := dk_27 (dk_at dksX0_isLike_0 10 rfl rfl)
theorem dX0_isLike_11 : decode cX0_isLike 11 = .ok (.iload_n 2, 1) := dk_28 (dk_at dksX0_isLike_0 11 rfl rfl)
theorem dX0_isLike_12 : decode cX0_isLike 12 = .ok (.iload_n 3, 1) := dk_29 (dk_at dksX0_isLike_0 12 rfl rfl)
theorem dX0_isLike_13 : decode cX0_isLike 13 = .ok (.invokevirtual 390, 3) := dk_182 1 134 (dk_at dksX0_isLike_0 13 rfl rfl)
theorem dX0_isLike_16 : decode cX0_isLike 16 = .ok (.istore 6, 2) := dk_54 6 (dk_at dksX0_isLike_0 16 rfl rfl)
theorem dX0_isLike_18 : decode cX0_isLike 18 = .ok (.iload 4, 2) := dk_21 4 (dk_at dksX0_isLike_0 18 rfl rfl)
theorem dX0_isLike_20 : decode cX0_isLike 20 = .ok (.ifCond .ne 21, 3) := dk_154 0 21 (dk_at dksX0_isLike_0 20 rfl rfl)
theorem dX0_isLike_23 : decode cX0_isLike 23 = .ok (.iload 5, 2) := dk_21 5 (dk_at dksX0_isLike_1 0 rfl rfl)
theorem dX0_isLike_25 : decode cX0_isLike 25 = .ok (.ifCond .ne 12, 3) := dk_154 0 12 (dk_at dksX0_isLike_1 2 rfl rfl)
theorem dX0_isLike_28 : decode cX0_isLike 28 = .ok (.iload 6, 2) := dk_21 6 (dk_at dksX0_isLike_1 5 rfl rfl)
theorem dX0_isLike_30 : decode cX0_isLike 30 = .ok (.ifCond .ne 7, 3) := dk_154 0 7 (dk_at dksX0_isLike_1 7 rfl rfl)
theorem dX0_isLike_33 : decode cX0_isLike 33 = .ok (.iconst 1, 1) := dk_4 (dk_at dksX0_isLike_1 10 rfl rfl)
theorem dX0_isLike_34 : decode cX0_isLike 34 = .ok (.goto 20, 3) := dk_167 0 20 (dk_at dksX0_isLike_1 11 rfl rfl)
theorem dX0_isLike_37 : decode cX0_isLike 37 = .ok (.iconst 0, 1) := dk_3 (dk_at dksX0_isLike_1 14 rfl rfl)
theorem dX0_isLike_38 : decode cX0_isLike 38 = .ok (.goto 16, 3) := dk_167 0 16 (dk_at dksX0_isLike_1 15 rfl rfl)
theorem dX0_isLike_41 : decode cX0_isLike 41 = .ok (.iload 4, 2) := dk_21 4 (dk_at dksX0_isLike_1 18 rfl rfl)
theorem dX0_isLike_43 : decode cX0_isLike 43 = .ok (.iconst 1, 1) := dk_4 (dk_at dksX0_isLike_1 20 rfl rfl)
theorem dX0_isLike_44 : decode cX0_isLike 44 = .ok (.if_icmp .ne 8, 3) := dk_160 0 8 (dk_at dksX0_isLike_1 21 rfl rfl)
theorem dX0_isLike_47 : decode cX0_isLike 47 = .ok (.iload 5, 2) := dk_21 5 (dk_at dksX0_isLike_2 0 rfl rfl)
theorem dX0_isLike_49 : decode cX0_isLike 49 = .ok (.goto 5, 3) := dk_167 0 5 (dk_at dksX0_isLike_2 2 rfl rfl)
theorem dX0_isLike_52 : decode cX0_isLike 52 = .ok (.iload 6, 2) := dk_21 6 (dk_at dksX0_isLike_2 5 rfl rfl)
theorem dX0_isLike_54 : decode cX0_isLike 54 = .ok (.ireturn, 1) := dk_172 (dk_at dksX0_isLike_2 7 rfl rfl)
abbrev cX0_isOfShelter : ByteArray := prog_1_method_45_code
def yX0_isOfShelter : MethodName := ⟨RX0, "isOfShelter", "(III)Z"⟩
def dkwX0_isOfShelter_1 : List UInt8 := [46, 133, 184, 0, 167, 153, 0, 7, 4, 167, 0, 4, 3, 172]
abbrev dktX0_isOfShelter_1 : List UInt8 := dkwX0_isOfShelter_1 ++ []
def dkwX0_isOfShelter_0 : List UInt8 := [42, 180, 0, 64, 27, 46, 29, 160, 0, 29, 28, 133, 42, 180, 0, 58, 27, 46, 133, 42, 180, 0, 61, 27]
abbrev dktX0_isOfShelter_0 : List UInt8 := dkwX0_isOfShelter_0 ++ dktX0_isOfShelter_1
theorem dksX0_isOfShelter_0 : cX0_isOfShelter.data.toList.drop 0 = dktX0_isOfShelter_0 := by decide +kernel
theorem dksX0_isOfShelter_1 : cX0_isOfShelter.data.toList.drop 24 = dktX0_isOfShelter_1 := dk_seg dksX0_isOfShelter_0 24 rfl rfl
theorem dX0_isOfShelter_0 : decode cX0_isOfShelter 0 = .ok (.aload_n 0, 1) := dk_42 (dk_at dksX0_isOfShelter_0 0 rfl rfl)
theorem dX0_isOfShelter_1 : decode cX0_isOfShelter 1 = .ok (.getfield 64, 3) := dk_180 0 64 (dk_at dksX0_isOfShelter_0 1 rfl rfl)
theorem dX0_isOfShelter_4 : decode cX0_isOfShelter 4 = .ok (.iload_n 1, 1) := dk_27 (dk_at dksX0_isOfShelter_0 4 rfl rfl)
theorem dX0_isOfShelter_5 : decode cX0_isOfShelter 5 = .ok (.iaload, 1) := dk_46 (dk_at dksX0_isOfShelter_0 5 rfl rfl)
theorem dX0_isOfShelter_6 : decode cX0_isOfShelter 6 = .ok (.iload_n 3, 1) := dk_29 (dk_at dksX0_isOfShelter_0 6 rfl rfl)
theorem dX0_isOfShelter_7 : decode cX0_isOfShelter 7 = .ok (.if_icmp .ne 29, 3) := dk_160 0 29 (dk_at dksX0_isOfShelter_0 7 rfl rfl)
theorem dX0_isOfShelter_10 : decode cX0_isOfShelter 10 = .ok (.iload_n 2, 1) := dk_28 (dk_at dksX0_isOfShelter_0 10 rfl rfl)
theorem dX0_isOfShelter_11 : decode cX0_isOfShelter 11 = .ok (.i2l, 1) := dk_133 (dk_at dksX0_isOfShelter_0 11 rfl rfl)
theorem dX0_isOfShelter_12 : decode cX0_isOfShelter 12 = .ok (.aload_n 0, 1) := dk_42 (dk_at dksX0_isOfShelter_0 12 rfl rfl)
theorem dX0_isOfShelter_13 : decode cX0_isOfShelter 13 = .ok (.getfield 58, 3) := dk_180 0 58 (dk_at dksX0_isOfShelter_0 13 rfl rfl)
theorem dX0_isOfShelter_16 : decode cX0_isOfShelter 16 = .ok (.iload_n 1, 1) := dk_27 (dk_at dksX0_isOfShelter_0 16 rfl rfl)
theorem dX0_isOfShelter_17 : decode cX0_isOfShelter 17 = .ok (.iaload, 1) := dk_46 (dk_at dksX0_isOfShelter_0 17 rfl rfl)
theorem dX0_isOfShelter_18 : decode cX0_isOfShelter 18 = .ok (.i2l, 1) := dk_133 (dk_at dksX0_isOfShelter_0 18 rfl rfl)
theorem dX0_isOfShelter_19 : decode cX0_isOfShelter 19 = .ok (.aload_n 0, 1) := dk_42 (dk_at dksX0_isOfShelter_0 19 rfl rfl)
theorem dX0_isOfShelter_20 : decode cX0_isOfShelter 20 = .ok (.getfield 61, 3) := dk_180 0 61 (dk_at dksX0_isOfShelter_0 20 rfl rfl)
theorem dX0_isOfShelter_23 : decode cX0_isOfShelter 23 = .ok (.iload_n 1, 1) := dk_27 (dk_at dksX0_isOfShelter_0 23 rfl rfl)
theorem dX0_isOfShelter_24 : decode cX0_isOfShelter 24 = .ok (.iaload, 1) := dk_46 (dk_at dksX0_isOfShelter_1 0 rfl rfl)
theorem dX0_isOfShelter_25 : decode cX0_isOfShelter 25 = .ok (.i2l, 1) := dk_133 (dk_at dksX0_isOfShelter_1 1 rfl rfl)
theorem dX0_isOfShelter_26 : decode cX0_isOfShelter 26 = .ok (.invokestatic 167, 3) := dk_184 0 167 (dk_at dksX0_isOfShelter_1 2 rfl rfl)
theorem dX0_isOfShelter_29 : decode cX0_isOfShelter 29 = .ok (.ifCond .eq 7, 3) := dk_153 0 7 (dk_at dksX0_isOfShelter_1 5 rfl rfl)
theorem dX0_isOfShelter_32 : decode cX0_isOfShelter 32 = .ok (.iconst 1, 1) := dk_4 (dk_at dksX0_isOfShelter_1 8 rfl rfl)
theorem dX0_isOfShelter_33 : decode cX0_isOfShelter 33 = .ok (.goto 4, 3) := dk_167 0 4 (dk_at dksX0_isOfShelter_1 9 rfl rfl)
theorem dX0_isOfShelter_36 : decode cX0_isOfShelter 36 = .ok (.iconst 0, 1) := dk_3 (dk_at dksX0_isOfShelter_1 12 rfl rfl)
theorem dX0_isOfShelter_37 : decode cX0_isOfShelter 37 = .ok (.ireturn, 1) := dk_172 (dk_at dksX0_isOfShelter_1 13 rfl rfl)
abbrev cX0_known : ByteArray := prog_1_method_48_code
def yX0_known : MethodName := ⟨RX0, "known", "(I)I"⟩
def dkwX0_known_9 : List UInt8 := [28, 172, 29, 172, 21, 4, 172, 21, 5, 172, 21, 6, 172, 21, 7, 172]
abbrev dktX0_known_9 : List UInt8 := dkwX0_known_9 ++ []
def dkwX0_known_8 : List UInt8 := [170, 0, 0, 0, 0, 0, 48, 0, 0, 0, 0, 0, 0, 0, 4, 0, 0, 0, 35, 0, 0, 0, 37, 0, 0, 0, 39, 0, 0, 0, 42, 0, 0, 0, 45]
abbrev dktX0_known_8 : List UInt8 := dkwX0_known_8 ++ dktX0_known_9
def dkwX0_known_7 : List UInt8 := [159, 0, 6, 16, 254, 172, 27]
abbrev dktX0_known_7 : List UInt8 := dkwX0_known_7 ++ dktX0_known_8
def dkwX0_known_6 : List UInt8 := [167, 255, 150, 29, 2, 159, 0, 22, 27, 6, 164, 0, 20, 21, 6, 21, 7, 163, 0, 10, 21, 4, 21, 5]
abbrev dktX0_known_6 : List UInt8 := dkwX0_known_6 ++ dktX0_known_7
def dkwX0_known_5 : List UInt8 := [46, 184, 0, 7, 54, 6, 21, 7, 42, 180, 0, 61, 21, 8, 46, 184, 0, 1, 54, 7, 132, 8, 1]
abbrev dktX0_known_5 : List UInt8 := dkwX0_known_5 ++ dktX0_known_6
def dkwX0_known_4 : List UInt8 := [54, 4, 21, 5, 42, 180, 0, 64, 21, 8, 46, 184, 0, 7, 54, 5, 21, 6, 42, 180, 0, 58, 21, 8]
abbrev dktX0_known_4 : List UInt8 := dkwX0_known_4 ++ dktX0_known_5
def dkwX0_known_3 : List UInt8 := [42, 180, 0, 61, 21, 8, 46, 184, 0, 7, 62, 21, 4, 42, 180, 0, 64, 21, 8, 46, 184, 0, 1]
abbrev dktX0_known_3 : List UInt8 := dkwX0_known_3 ++ dktX0_known_4
def dkwX0_known_2 : List UInt8 := [182, 1, 141, 16, 254, 159, 0, 6, 167, 0, 83, 28, 42, 180, 0, 58, 21, 8, 46, 184, 0, 1, 61, 29]
abbrev dktX0_known_2 : List UInt8 := dkwX0_known_2 ++ dktX0_known_3
def dkwX0_known_1 : List UInt8 := [54, 5, 2, 54, 6, 16, 32, 54, 7, 3, 54, 8, 21, 8, 42, 180, 1, 121, 162, 0, 103, 42, 21, 8]
abbrev dktX0_known_1 : List UInt8 := dkwX0_known_1 ++ dktX0_known_2
def dkwX0_known_0 : List UInt8 := [27, 133, 9, 20, 0, 227, 184, 0, 167, 154, 0, 5, 2, 172, 16, 32, 61, 2, 62, 16, 61, 54, 4, 2]
abbrev dktX0_known_0 : List UInt8 := dkwX0_known_0 ++ dktX0_known_1
theorem dksX0_known_0 : cX0_known.data.toList.drop 0 = dktX0_known_0 := by decide +kernel
theorem dksX0_known_1 : cX0_known.data.toList.drop 24 = dktX0_known_1 := dk_seg dksX0_known_0 24 rfl rfl
theorem dksX0_known_2 : cX0_known.data.toList.drop 48 = dktX0_known_2 := dk_seg dksX0_known_1 24 rfl rfl
theorem dksX0_known_3 : cX0_known.data.toList.drop 72 = dktX0_known_3 := dk_seg dksX0_known_2 24 rfl rfl
theorem dksX0_known_4 : cX0_known.data.toList.drop 95 = dktX0_known_4 := dk_seg dksX0_known_3 23 rfl rfl
theorem dksX0_known_5 : cX0_known.data.toList.drop 119 = dktX0_known_5 := dk_seg dksX0_known_4 24 rfl rfl
theorem dksX0_known_6 : cX0_known.data.toList.drop 142 = dktX0_known_6 := dk_seg dksX0_known_5 23 rfl rfl
theorem dksX0_known_7 : cX0_known.data.toList.drop 166 = dktX0_known_7 := dk_seg dksX0_known_6 24 rfl rfl
theorem dksX0_known_8 : cX0_known.data.toList.drop 173 = dktX0_known_8 := dk_seg dksX0_known_7 7 rfl rfl
theorem dksX0_known_9 : cX0_known.data.toList.drop 208 = dktX0_known_9 := dk_seg dksX0_known_8 35 rfl rfl
theorem dX0_known_0 : decode cX0_known 0 = .ok (.iload_n 1, 1) := dk_27 (dk_at dksX0_known_0 0 rfl rfl)
theorem dX0_known_1 : decode cX0_known 1 = .ok (.i2l, 1) := dk_133 (dk_at dksX0_known_0 1 rfl rfl)
theorem dX0_known_2 : decode cX0_known 2 = .ok (.lconst 0, 1) := dk_9 (dk_at dksX0_known_0 2 rfl rfl)
theorem dX0_known_3 : decode cX0_known 3 = .ok (.ldc2_w 227, 3) := dk_20 0 227 (dk_at dksX0_known_0 3 rfl rfl)
theorem dX0_known_6 : decode cX0_known 6 = .ok (.invokestatic 167, 3) := dk_184 0 167 (dk_at dksX0_known_0 6 rfl rfl)
theorem dX0_known_9 : decode cX0_known 9 = .ok (.ifCond .ne 5, 3) := dk_154 0 5 (dk_at dksX0_known_0 9 rfl rfl)
theorem dX0_known_12 : decode cX0_known 12 = .ok (.iconst (-1), 1) := dk_2 (dk_at dksX0_known_0 12 rfl rfl)
theorem dX0_known_13 : decode cX0_known 13 = .ok (.ireturn, 1) := dk_172 (dk_at dksX0_known_0 13 rfl rfl)
theorem dX0_known_14 : decode cX0_known 14 = .ok (.bipush 32, 2) := dk_16 32 (dk_at dksX0_known_0 14 rfl rfl)
theorem dX0_known_16 : decode cX0_known 16 = .ok (.istore_n 2, 1) := dk_61 (dk_at dksX0_known_0 16 rfl rfl)
theorem dX0_known_17 : decode cX0_known 17 = .ok (.iconst (-1), 1) := dk_2 (dk_at dksX0_known_0 17 rfl rfl)
theorem dX0_known_18 : decode cX0_known 18 = .ok (.istore_n 3, 1) := dk_62 (dk_at dksX0_known_0 18 rfl rfl)
theorem dX0_known_19 : decode cX0_known 19 = .ok (.bipush 61, 2) := dk_16 61 (dk_at dksX0_known_0 19 rfl rfl)
theorem dX0_known_21 : decode cX0_known 21 = .ok (.istore 4, 2) := dk_54 4 (dk_at dksX0_known_0 21 rfl rfl)
theorem dX0_known_23 : decode cX0_known 23 = .ok (.iconst (-1), 1) := dk_2 (dk_at dksX0_known_0 23 rfl rfl)
theorem dX0_known_24 : decode cX0_known 24 = .ok (.istore 5, 2) := dk_54 5 (dk_at dksX0_known_1 0 rfl rfl)
theorem dX0_known_26 : decode cX0_known 26 = .ok (.iconst (-1), 1) := dk_2 (dk_at dksX0_known_1 2 rfl rfl)
theorem dX0_known_27 : decode cX0_known 27 = .ok (.istore 6, 2) := dk_54 6 (dk_at dksX0_known_1 3 rfl rfl)
theorem dX0_known_29 : decode cX0_known 29 = .ok (.bipush 32, 2) := dk_16 32 (dk_at dksX0_known_1 5 rfl rfl)
theorem dX0_known_31 : decode cX0_known 31 = .ok (.istore 7, 2) := dk_54 7 (dk_at dksX0_known_1 7 rfl rfl)
theorem dX0_known_33 : decode cX0_known 33 = .ok (.iconst 0, 1) := dk_3 (dk_at dksX0_known_1 9 rfl rfl)
theorem dX0_known_34 : decode cX0_known 34 = .ok (.istore 8, 2) := dk_54 8 (dk_at dksX0_known_1 10 rfl rfl)
theorem dX0_known_36 : decode cX0_known 36 = .ok (.iload 8, 2) := dk_21 8 (dk_at dksX0_known_1 12 rfl rfl)
theorem dX0_known_38 : decode cX0_known 38 = .ok (.aload_n 0, 1) := dk_42 (dk_at dksX0_known_1 14 rfl rfl)
theorem dX0_known_39 : decode cX0_known 39 = .ok (.getfield 377, 3) := dk_180 1 121 (dk_at dksX0_known_1 15 rfl rfl)
theorem dX0_known_42 : decode cX0_known 42 = .ok (.if_icmp .ge 103, 3) := dk_162 0 103 (dk_at dksX0_known_1 18 rfl rfl)
theorem dX0_known_45 : decode cX0_known 45 = .ok (.aload_n 0, 1) := dk_42 (dk_at dksX0_known_1 21 rfl rfl)
theorem dX0_known_46 : decode cX0_known 46 = .ok (.iload 8, 2) := dk_21 8 (dk_at dksX0_known_1 22 rfl rfl)
theorem dX0_known_48 : decode cX0_known 48 = .ok (.invokevirtual 397, 3) := dk_182 1 141 (dk_at dksX0_known_2 0 rfl rfl)
theorem dX0_known_51 : decode cX0_known 51 = .ok (.bipush (-2), 2) := dk_16 254 (dk_at dksX0_known_2 3 rfl rfl)
theorem dX0_known_53 : decode cX0_known 53 = .ok (.if_icmp .eq 6, 3) := dk_159 0 6 (dk_at dksX0_known_2 5 rfl rfl)
theorem dX0_known_56 : decode cX0_known 56 = .ok (.goto 83, 3) := dk_167 0 83 (dk_at dksX0_known_2 8 rfl rfl)
theorem dX0_known_59 : decode cX0_known 59 = .ok (.iload_n 2, 1) := dk_28 (dk_at dksX0_known_2 11 rfl rfl)
theorem dX0_known_60 : decode cX0_known 60 = .ok (.aload_n 0, 1) := dk_42 (dk_at dksX0_known_2 12 rfl rfl)
theorem dX0_known_61 : decode cX0_known 61 = .ok (.getfield 58, 3) := dk_180 0 58 (dk_at dksX0_known_2 13 rfl rfl)
theorem dX0_known_64 : decode cX0_known 64 = .ok (.iload 8, 2) := dk_21 8 (dk_at dksX0_known_2 16 rfl rfl)
theorem dX0_known_66 : decode cX0_known 66 = .ok (.iaload, 1) := dk_46 (dk_at dksX0_known_2 18 rfl rfl)
theorem dX0_known_67 : decode cX0_known 67 = .ok (.invokestatic 1, 3) := dk_184 0 1 (dk_at dksX0_known_2 19 rfl rfl)
theorem dX0_known_70 : decode cX0_known 70 = .ok (.istore_n 2, 1) := dk_61 (dk_at dksX0_known_2 22 rfl rfl)
theorem dX0_known_71 : decode cX0_known 71 = .ok (.iload_n 3, 1) := dk_29 (dk_at dksX0_known_2 23 rfl rfl)
theorem dX0_known_72 : decode cX0_known 72 = .ok (.aload_n 0, 1) := dk_42 (dk_at dksX0_known_3 0 rfl rfl)
theorem dX0_known_73 : decode cX0_known 73 = .ok (.getfield 61, 3) := dk_180 0 61 (dk_at dksX0_known_3 1 rfl rfl)
theorem dX0_known_76 : decode cX0_known 76 = .ok (.iload 8, 2) := dk_21 8 (dk_at dksX0_known_3 4 rfl rfl)
theorem dX0_known_78 : decode cX0_known 78 = .ok (.iaload, 1) := dk_46 (dk_at dksX0_known_3 6 rfl rfl)
theorem dX0_known_79 : decode cX0_known 79 = .ok (.invokestatic 7, 3) := dk_184 0 7 (dk_at dksX0_known_3 7 rfl rfl)
theorem dX0_known_82 : decode cX0_known 82 = .ok (.istore_n 3, 1) := dk_62 (dk_at dksX0_known_3 10 rfl rfl)
theorem dX0_known_83 : decode cX0_known 83 = .ok (.iload 4, 2) := dk_21 4 (dk_at dksX0_known_3 11 rfl rfl)
theorem dX0_known_85 : decode cX0_known 85 = .ok (.aload_n 0, 1) := dk_42 (dk_at dksX0_known_3 13 rfl rfl)
theorem dX0_known_86 : decode cX0_known 86 = .ok (.getfield 64, 3) := dk_180 0 64 (dk_at dksX0_known_3 14 rfl rfl)
theorem dX0_known_89 : decode cX0_known 89 = .ok (.iload 8, 2) := dk_21 8 (dk_at dksX0_known_3 17 rfl rfl)
theorem dX0_known_91 : decode cX0_known 91 = .ok (.iaload, 1) := dk_46 (dk_at dksX0_known_3 19 rfl rfl)
theorem dX0_known_92 : decode cX0_known 92 = .ok (.invokestatic 1, 3) := dk_184 0 1 (dk_at dksX0_known_3 20 rfl rfl)
theorem dX0_known_95 : decode cX0_known 95 = .ok (.istore 4, 2) := dk_54 4 (dk_at dksX0_known_4 0 rfl rfl)
theorem dX0_known_97 : decode cX0_known 97 = .ok (.iload 5, 2) := dk_21 5 (dk_at dksX0_known_4 2 rfl rfl)
theorem dX0_known_99 : decode cX0_known 99 = .ok (.aload_n 0, 1) := dk_42 (dk_at dksX0_known_4 4 rfl rfl)
theorem dX0_known_100 : decode cX0_known 100 = .ok (.getfield 64, 3) := dk_180 0 64 (dk_at dksX0_known_4 5 rfl rfl)
theorem dX0_known_103 : decode cX0_known 103 = .ok (.iload 8, 2) := dk_21 8 (dk_at dksX0_known_4 8 rfl rfl)
theorem dX0_known_105 : decode cX0_known 105 = .ok (.iaload, 1) := dk_46 (dk_at dksX0_known_4 10 rfl rfl)
theorem dX0_known_106 : decode cX0_known 106 = .ok (.invokestatic 7, 3) := dk_184 0 7 (dk_at dksX0_known_4 11 rfl rfl)
theorem dX0_known_109 : decode cX0_known 109 = .ok (.istore 5, 2) := dk_54 5 (dk_at dksX0_known_4 14 rfl rfl)
theorem dX0_known_111 : decode cX0_known 111 = .ok (.iload 6, 2) := dk_21 6 (dk_at dksX0_known_4 16 rfl rfl)
theorem dX0_known_113 : decode cX0_known 113 = .ok (.aload_n 0, 1) := dk_42 (dk_at dksX0_known_4 18 rfl rfl)
theorem dX0_known_114 : decode cX0_known 114 = .ok (.getfield 58, 3) := dk_180 0 58 (dk_at dksX0_known_4 19 rfl rfl)
theorem dX0_known_117 : decode cX0_known 117 = .ok (.iload 8, 2) := dk_21 8 (dk_at dksX0_known_4 22 rfl rfl)
theorem dX0_known_119 : decode cX0_known 119 = .ok (.iaload, 1) := dk_46 (dk_at dksX0_known_5 0 rfl rfl)
theorem dX0_known_120 : decode cX0_known 120 = .ok (.invokestatic 7, 3) := dk_184 0 7 (dk_at dksX0_known_5 1 rfl rfl)
theorem dX0_known_123 : decode cX0_known 123 = .ok (.istore 6, 2) := dk_54 6 (dk_at dksX0_known_5 4 rfl rfl)
theorem dX0_known_125 : decode cX0_known 125 = .ok (.iload 7, 2) := dk_21 7 (dk_at dksX0_known_5 6 rfl rfl)
theorem dX0_known_127 : decode cX0_known 127 = .ok (.aload_n 0, 1) := dk_42 (dk_at dksX0_known_5 8 rfl rfl)
theorem dX0_known_128 : decode cX0_known 128 = .ok (.getfield 61, 3) := dk_180 0 61 (dk_at dksX0_known_5 9 rfl rfl)
theorem dX0_known_131 : decode cX0_known 131 = .ok (.iload 8, 2) := dk_21 8 (dk_at dksX0_known_5 12 rfl rfl)
theorem dX0_known_133 : decode cX0_known 133 = .ok (.iaload, 1) := dk_46 (dk_at dksX0_known_5 14 rfl rfl)
theorem dX0_known_134 : decode cX0_known 134 = .ok (.invokestatic 1, 3) := dk_184 0 1 (dk_at dksX0_known_5 15 rfl rfl)
theorem dX0_known_137 : decode cX0_known 137 = .ok (.istore 7, 2) := dk_54 7 (dk_at dksX0_known_5 18 rfl rfl)
theorem dX0_known_139 : decode cX0_known 139 = .ok (.iinc 8 1, 3) := dk_132 8 1 (dk_at dksX0_known_5 20 rfl rfl)
theorem dX0_known_142 : decode cX0_known 142 = .ok (.goto (-106), 3) := dk_167 255 150 (dk_at dksX0_known_6 0 rfl rfl)
theorem dX0_known_145 : decode cX0_known 145 = .ok (.iload_n 3, 1) := dk_29 (dk_at dksX0_known_6 3 rfl rfl)
theorem dX0_known_146 : decode cX0_known 146 = .ok (.iconst (-1), 1) := dk_2 (dk_at dksX0_known_6 4 rfl rfl)
theorem dX0_known_147 : decode cX0_known 147 = .ok (.if_icmp .eq 22, 3) := dk_159 0 22 (dk_at dksX0_known_6 5 rfl rfl)
theorem dX0_known_150 : decode cX0_known 150 = .ok (.iload_n 1, 1) := dk_27 (dk_at dksX0_known_6 8 rfl rfl)
theorem dX0_known_151 : decode cX0_known 151 = .ok (.iconst 3, 1) := dk_6 (dk_at dksX0_known_6 9 rfl rfl)
theorem dX0_known_152 : decode cX0_known 152 = .ok (.if_icmp .le 20, 3) := dk_164 0 20 (dk_at dksX0_known_6 10 rfl rfl)
theorem dX0_known_155 : decode cX0_known 155 = .ok (.iload 6, 2) := dk_21 6 (dk_at dksX0_known_6 13 rfl rfl)
theorem dX0_known_157 : decode cX0_known 157 = .ok (.iload 7, 2) := dk_21 7 (dk_at dksX0_known_6 15 rfl rfl)
theorem dX0_known_159 : decode cX0_known 159 = .ok (.if_icmp .gt 10, 3) := dk_163 0 10 (dk_at dksX0_known_6 17 rfl rfl)
theorem dX0_known_162 : decode cX0_known 162 = .ok (.iload 4, 2) := dk_21 4 (dk_at dksX0_known_6 20 rfl rfl)
theorem dX0_known_164 : decode cX0_known 164 = .ok (.iload 5, 2) := dk_21 5 (dk_at dksX0_known_6 22 rfl rfl)
theorem dX0_known_166 : decode cX0_known 166 = .ok (.if_icmp .eq 6, 3) := dk_159 0 6 (dk_at dksX0_known_7 0 rfl rfl)
theorem dX0_known_169 : decode cX0_known 169 = .ok (.bipush (-2), 2) := dk_16 254 (dk_at dksX0_known_7 3 rfl rfl)
theorem dX0_known_171 : decode cX0_known 171 = .ok (.ireturn, 1) := dk_172 (dk_at dksX0_known_7 5 rfl rfl)
theorem dX0_known_172 : decode cX0_known 172 = .ok (.iload_n 1, 1) := dk_27 (dk_at dksX0_known_7 6 rfl rfl)
theorem dX0_known_173 : decode cX0_known 173 = .ok (.tableswitch 48 0 4 #[35, 37, 39, 42, 45], 35) := by decide +kernel
theorem dX0_known_208 : decode cX0_known 208 = .ok (.iload_n 2, 1) := dk_28 (dk_at dksX0_known_9 0 rfl rfl)
theorem dX0_known_209 : decode cX0_known 209 = .ok (.ireturn, 1) := dk_172 (dk_at dksX0_known_9 1 rfl rfl)
theorem dX0_known_210 : decode cX0_known 210 = .ok (.iload_n 3, 1) := dk_29 (dk_at dksX0_known_9 2 rfl rfl)
theorem dX0_known_211 : decode cX0_known 211 = .ok (.ireturn, 1) := dk_172 (dk_at dksX0_known_9 3 rfl rfl)
theorem dX0_known_212 : decode cX0_known 212 = .ok (.iload 4, 2) := dk_21 4 (dk_at dksX0_known_9 4 rfl rfl)
theorem dX0_known_214 : decode cX0_known 214 = .ok (.ireturn, 1) := dk_172 (dk_at dksX0_known_9 6 rfl rfl)
theorem dX0_known_215 : decode cX0_known 215 = .ok (.iload 5, 2) := dk_21 5 (dk_at dksX0_known_9 7 rfl rfl)
theorem dX0_known_217 : decode cX0_known 217 = .ok (.ireturn, 1) := dk_172 (dk_at dksX0_known_9 9 rfl rfl)
theorem dX0_known_218 : decode cX0_known 218 = .ok (.iload 6, 2) := dk_21 6 (dk_at dksX0_known_9 10 rfl rfl)
theorem dX0_known_220 : decode cX0_known 220 = .ok (.ireturn, 1) := dk_172 (dk_at dksX0_known_9 12 rfl rfl)
theorem dX0_known_221 : decode cX0_known 221 = .ok (.iload 7, 2) := dk_21 7 (dk_at dksX0_known_9 13 rfl rfl)
theorem dX0_known_223 : decode cX0_known 223 = .ok (.ireturn, 1) := dk_172 (dk_at dksX0_known_9 15 rfl rfl)
abbrev cX0_feed : ByteArray := prog_1_method_49_code
def yX0_feed : MethodName := ⟨RX0, "feed", "(II)I"⟩
def dkwX0_feed_3 : List UInt8 := [180, 1, 146, 172]
abbrev dktX0_feed_3 : List UInt8 := dkwX0_feed_3 ++ []
def dkwX0_feed_2 : List UInt8 := [96, 181, 1, 146, 28, 16, 8, 29, 104, 122, 17, 0, 255, 126, 79, 132, 3, 1, 167, 255, 222, 42]
abbrev dktX0_feed_2 : List UInt8 := dkwX0_feed_2 ++ dktX0_feed_3
def dkwX0_feed_1 : List UInt8 := [164, 0, 6, 16, 253, 172, 3, 62, 29, 27, 162, 0, 35, 42, 180, 0, 76, 42, 89, 180, 1, 146, 90, 4]
abbrev dktX0_feed_1 : List UInt8 := dkwX0_feed_1 ++ dktX0_feed_2
def dkwX0_feed_0 : List UInt8 := [27, 133, 10, 20, 1, 144, 184, 0, 167, 154, 0, 5, 2, 172, 42, 180, 1, 146, 27, 96, 17, 0, 160]
abbrev dktX0_feed_0 : List UInt8 := dkwX0_feed_0 ++ dktX0_feed_1
theorem dksX0_feed_0 : cX0_feed.data.toList.drop 0 = dktX0_feed_0 := by decide +kernel
theorem dksX0_feed_1 : cX0_feed.data.toList.drop 23 = dktX0_feed_1 := dk_seg dksX0_feed_0 23 rfl rfl
theorem dksX0_feed_2 : cX0_feed.data.toList.drop 47 = dktX0_feed_2 := dk_seg dksX0_feed_1 24 rfl rfl
theorem dksX0_feed_3 : cX0_feed.data.toList.drop 69 = dktX0_feed_3 := dk_seg dksX0_feed_2 22 rfl rfl
theorem dX0_feed_0 : decode cX0_feed 0 = .ok (.iload_n 1, 1) := dk_27 (dk_at dksX0_feed_0 0 rfl rfl)
theorem dX0_feed_1 : decode cX0_feed 1 = .ok (.i2l, 1) := dk_133 (dk_at dksX0_feed_0 1 rfl rfl)
theorem dX0_feed_2 : decode cX0_feed 2 = .ok (.lconst 1, 1) := dk_10 (dk_at dksX0_feed_0 2 rfl rfl)
theorem dX0_feed_3 : decode cX0_feed 3 = .ok (.ldc2_w 400, 3) := dk_20 1 144 (dk_at dksX0_feed_0 3 rfl rfl)
theorem dX0_feed_6 : decode cX0_feed 6 = .ok (.invokestatic 167, 3) := dk_184 0 167 (dk_at dksX0_feed_0 6 rfl rfl)
theorem dX0_feed_9 : decode cX0_feed 9 = .ok (.ifCond .ne 5, 3) := dk_154 0 5 (dk_at dksX0_feed_0 9 rfl rfl)
theorem dX0_feed_12 : decode cX0_feed 12 = .ok (.iconst (-1), 1) := dk_2 (dk_at dksX0_feed_0 12 rfl rfl)
theorem dX0_feed_13 : decode cX0_feed 13 = .ok (.ireturn, 1) := dk_172 (dk_at dksX0_feed_0 13 rfl rfl)
theorem dX0_feed_14 : decode cX0_feed 14 = .ok (.aload_n 0, 1) := dk_42 (dk_at dksX0_feed_0 14 rfl rfl)
theorem dX0_feed_15 : decode cX0_feed 15 = .ok (.getfield 402, 3) := dk_180 1 146 (dk_at dksX0_feed_0 15 rfl rfl)
theorem dX0_feed_18 : decode cX0_feed 18 = .ok (.iload_n 1, 1) := dk_27 (dk_at dksX0_feed_0 18 rfl rfl)
theorem dX0_feed_19 : decode cX0_feed 19 = .ok (.iadd, 1) := dk_96 (dk_at dksX0_feed_0 19 rfl rfl)
theorem dX0_feed_20 : decode cX0_feed 20 = .ok (.sipush 160, 3) := dk_17 0 160 (dk_at dksX0_feed_0 20 rfl rfl)
theorem dX0_feed_23 : decode cX0_feed 23 = .ok (.if_icmp .le 6, 3) := dk_164 0 6 (dk_at dksX0_feed_1 0 rfl rfl)
theorem dX0_feed_26 : decode cX0_feed 26 = .ok (.bipush (-3), 2) := dk_16 253 (dk_at dksX0_feed_1 3 rfl rfl)
theorem dX0_feed_28 : decode cX0_feed 28 = .ok (.ireturn, 1) := dk_172 (dk_at dksX0_feed_1 5 rfl rfl)
theorem dX0_feed_29 : decode cX0_feed 29 = .ok (.iconst 0, 1) := dk_3 (dk_at dksX0_feed_1 6 rfl rfl)
theorem dX0_feed_30 : decode cX0_feed 30 = .ok (.istore_n 3, 1) := dk_62 (dk_at dksX0_feed_1 7 rfl rfl)
theorem dX0_feed_31 : decode cX0_feed 31 = .ok (.iload_n 3, 1) := dk_29 (dk_at dksX0_feed_1 8 rfl rfl)
theorem dX0_feed_32 : decode cX0_feed 32 = .ok (.iload_n 1, 1) := dk_27 (dk_at dksX0_feed_1 9 rfl rfl)
theorem dX0_feed_33 : decode cX0_feed 33 = .ok (.if_icmp .ge 35, 3) := dk_162 0 35 (dk_at dksX0_feed_1 10 rfl rfl)
theorem dX0_feed_36 : decode cX0_feed 36 = .ok (.aload_n 0, 1) := dk_42 (dk_at dksX0_feed_1 13 rfl rfl)
theorem dX0_feed_37 : decode cX0_feed 37 = .ok (.getfield 76, 3) := dk_180 0 76 (dk_at dksX0_feed_1 14 rfl rfl)
theorem dX0_feed_40 : decode cX0_feed 40 = .ok (.aload_n 0, 1) := dk_42 (dk_at dksX0_feed_1 17 rfl rfl)
theorem dX0_feed_41 : decode cX0_feed 41 = .ok (.dup, 1) := dk_89 (dk_at dksX0_feed_1 18 rfl rfl)
theorem dX0_feed_42 : decode cX0_feed 42 = .ok (.getfield 402, 3) := dk_180 1 146 (dk_at dksX0_feed_1 19 rfl rfl)
theorem dX0_feed_45 : decode cX0_feed 45 = .ok (.dup_x1, 1) := dk_90 (dk_at dksX0_feed_1 22 rfl rfl)
theorem dX0_feed_46 : decode cX0_feed 46 = .ok (.iconst 1, 1) := dk_4 (dk_at dksX0_feed_1 23 rfl rfl)
theorem dX0_feed_47 : decode cX0_feed 47 = .ok (.iadd, 1) := dk_96 (dk_at dksX0_feed_2 0 rfl rfl)
theorem dX0_feed_48 : decode cX0_feed 48 = .ok (.putfield 402, 3) := dk_181 1 146 (dk_at dksX0_feed_2 1 rfl rfl)
theorem dX0_feed_51 : decode cX0_feed 51 = .ok (.iload_n 2, 1) := dk_28 (dk_at dksX0_feed_2 4 rfl rfl)
theorem dX0_feed_52 : decode cX0_feed 52 = .ok (.bipush 8, 2) := dk_16 8 (dk_at dksX0_feed_2 5 rfl rfl)
theorem dX0_feed_54 : decode cX0_feed 54 = .ok (.iload_n 3, 1) := dk_29 (dk_at dksX0_feed_2 7 rfl rfl)
theorem dX0_feed_55 : decode cX0_feed 55 = .ok (.imul, 1) := dk_104 (dk_at dksX0_feed_2 8 rfl rfl)
theorem dX0_feed_56 : decode cX0_feed 56 = .ok (.ishr, 1) := dk_122 (dk_at dksX0_feed_2 9 rfl rfl)
theorem dX0_feed_57 : decode cX0_feed 57 = .ok (.sipush 255, 3) := dk_17 0 255 (dk_at dksX0_feed_2 10 rfl rfl)
theorem dX0_feed_60 : decode cX0_feed 60 = .ok (.iand, 1) := dk_126 (dk_at dksX0_feed_2 13 rfl rfl)
theorem dX0_feed_61 : decode cX0_feed 61 = .ok (.iastore, 1) := dk_79 (dk_at dksX0_feed_2 14 rfl rfl)
theorem dX0_feed_62 : decode cX0_feed 62 = .ok (.iinc 3 1, 3) := dk_132 3 1 (dk_at dksX0_feed_2 15 rfl rfl)
theorem dX0_feed_65 : decode cX0_feed 65 = .ok (.goto (-34), 3) := dk_167 255 222 (dk_at dksX0_feed_2 18 rfl rfl)
theorem dX0_feed_68 : decode cX0_feed 68 = .ok (.aload_n 0, 1) := dk_42 (dk_at dksX0_feed_2 21 rfl rfl)
theorem dX0_feed_69 : decode cX0_feed 69 = .ok (.getfield 402, 3) := dk_180 1 146 (dk_at dksX0_feed_3 0 rfl rfl)
theorem dX0_feed_72 : decode cX0_feed 72 = .ok (.ireturn, 1) := dk_172 (dk_at dksX0_feed_3 3 rfl rfl)
abbrev cX0_text : ByteArray := prog_1_method_51_code
def yX0_text : MethodName := ⟨RX0, "text", "(II)I"⟩
def dkwX0_text_4 : List UInt8 := [180, 1, 152, 90, 4, 96, 181, 1, 152, 172]
abbrev dktX0_text_4 : List UInt8 := dkwX0_text_4 ++ []
def dkwX0_text_3 : List UInt8 := [100, 172, 45, 27, 181, 1, 159, 45, 28, 181, 1, 162, 45, 42, 180, 1, 58, 181, 1, 163, 42, 89]
abbrev dktX0_text_3 : List UInt8 := dkwX0_text_3 ++ dktX0_text_4
def dkwX0_text_2 : List UInt8 := [180, 0, 84, 45, 182, 1, 155, 54, 4, 42, 3, 181, 1, 146, 21, 4, 2, 159, 0, 9, 16, 156, 21, 4]
abbrev dktX0_text_2 : List UInt8 := dkwX0_text_2 ++ dktX0_text_3
def dkwX0_text_1 : List UInt8 := [172, 42, 180, 1, 152, 16, 16, 160, 0, 6, 16, 253, 172, 42, 180, 0, 90, 42, 180, 1, 152, 50, 78, 42]
abbrev dktX0_text_1 : List UInt8 := dkwX0_text_1 ++ dktX0_text_2
def dkwX0_text_0 : List UInt8 := [27, 184, 1, 149, 153, 0, 19, 28, 133, 42, 180, 1, 58, 133, 20, 1, 61, 184, 0, 167, 154, 0, 5, 2]
abbrev dktX0_text_0 : List UInt8 := dkwX0_text_0 ++ dktX0_text_1
theorem dksX0_text_0 : cX0_text.data.toList.drop 0 = dktX0_text_0 := by decide +kernel
theorem dksX0_text_1 : cX0_text.data.toList.drop 24 = dktX0_text_1 := dk_seg dksX0_text_0 24 rfl rfl
theorem dksX0_text_2 : cX0_text.data.toList.drop 48 = dktX0_text_2 := dk_seg dksX0_text_1 24 rfl rfl
theorem dksX0_text_3 : cX0_text.data.toList.drop 72 = dktX0_text_3 := dk_seg dksX0_text_2 24 rfl rfl
theorem dksX0_text_4 : cX0_text.data.toList.drop 94 = dktX0_text_4 := dk_seg dksX0_text_3 22 rfl rfl
theorem dX0_text_0 : decode cX0_text 0 = .ok (.iload_n 1, 1) := dk_27 (dk_at dksX0_text_0 0 rfl rfl)
theorem dX0_text_1 : decode cX0_text 1 = .ok (.invokestatic 405, 3) := dk_184 1 149 (dk_at dksX0_text_0 1 rfl rfl)
theorem dX0_text_4 : decode cX0_text 4 = .ok (.ifCond .eq 19, 3) := dk_153 0 19 (dk_at dksX0_text_0 4 rfl rfl)
theorem dX0_text_7 : decode cX0_text 7 = .ok (.iload_n 2, 1) := dk_28 (dk_at dksX0_text_0 7 rfl rfl)
theorem dX0_text_8 : decode cX0_text 8 = .ok (.i2l, 1) := dk_133 (dk_at dksX0_text_0 8 rfl rfl)
theorem dX0_text_9 : decode cX0_text 9 = .ok (.aload_n 0, 1) := dk_42 (dk_at dksX0_text_0 9 rfl rfl)
theorem dX0_text_10 : decode cX0_text 10 = .ok (.getfield 314, 3) := dk_180 1 58 (dk_at dksX0_text_0 10 rfl rfl)
theorem dX0_text_13 : decode cX0_text 13 = .ok (.i2l, 1) := dk_133 (dk_at dksX0_text_0 13 rfl rfl)
theorem dX0_text_14 : decode cX0_text 14 = .ok (.ldc2_w 317, 3) := dk_20 1 61 (dk_at dksX0_text_0 14 rfl rfl)
theorem dX0_text_17 : decode cX0_text 17 = .ok (.invokestatic 167, 3) := dk_184 0 167 (dk_at dksX0_text_0 17 rfl rfl)
theorem dX0_text_20 : decode cX0_text 20 = .ok (.ifCond .ne 5, 3) := dk_154 0 5 (dk_at dksX0_text_0 20 rfl rfl)
theorem dX0_text_23 : decode cX0_text 23 = .ok (.iconst (-1), 1) := dk_2 (dk_at dksX0_text_0 23 rfl rfl)
theorem dX0_text_24 : decode cX0_text 24 = .ok (.ireturn, 1) := dk_172 (dk_at dksX0_text_1 0 rfl rfl)
theorem dX0_text_25 : decode cX0_text 25 = .ok (.aload_n 0, 1) := dk_42 (dk_at dksX0_text_1 1 rfl rfl)
theorem dX0_text_26 : decode cX0_text 26 = .ok (.getfield 408, 3) := dk_180 1 152 (dk_at dksX0_text_1 2 rfl rfl)
theorem dX0_text_29 : decode cX0_text 29 = .ok (.bipush 16, 2) := dk_16 16 (dk_at dksX0_text_1 5 rfl rfl)
theorem dX0_text_31 : decode cX0_text 31 = .ok (.if_icmp .ne 6, 3) := dk_160 0 6 (dk_at dksX0_text_1 7 rfl rfl)
theorem dX0_text_34 : decode cX0_text 34 = .ok (.bipush (-3), 2) := dk_16 253 (dk_at dksX0_text_1 10 rfl rfl)
theorem dX0_text_36 : decode cX0_text 36 = .ok (.ireturn, 1) := dk_172 (dk_at dksX0_text_1 12 rfl rfl)
theorem dX0_text_37 : decode cX0_text 37 = .ok (.aload_n 0, 1) := dk_42 (dk_at dksX0_text_1 13 rfl rfl)
theorem dX0_text_38 : decode cX0_text 38 = .ok (.getfield 90, 3) := dk_180 0 90 (dk_at dksX0_text_1 14 rfl rfl)
theorem dX0_text_41 : decode cX0_text 41 = .ok (.aload_n 0, 1) := dk_42 (dk_at dksX0_text_1 17 rfl rfl)
theorem dX0_text_42 : decode cX0_text 42 = .ok (.getfield 408, 3) := dk_180 1 152 (dk_at dksX0_text_1 18 rfl rfl)
theorem dX0_text_45 : decode cX0_text 45 = .ok (.aaload, 1) := dk_50 (dk_at dksX0_text_1 21 rfl rfl)
theorem dX0_text_46 : decode cX0_text 46 = .ok (.astore_n 3, 1) := dk_78 (dk_at dksX0_text_1 22 rfl rfl)
theorem dX0_text_47 : decode cX0_text 47 = .ok (.aload_n 0, 1) := dk_42 (dk_at dksX0_text_1 23 rfl rfl)
theorem dX0_text_48 : decode cX0_text 48 = .ok (.getfield 84, 3) := dk_180 0 84 (dk_at dksX0_text_2 0 rfl rfl)
theorem dX0_text_51 : decode cX0_text 51 = .ok (.aload_n 3, 1) := dk_45 (dk_at dksX0_text_2 3 rfl rfl)
theorem dX0_text_52 : decode cX0_text 52 = .ok (.invokevirtual 411, 3) := dk_182 1 155 (dk_at dksX0_text_2 4 rfl rfl)
theorem dX0_text_55 : decode cX0_text 55 = .ok (.istore 4, 2) := dk_54 4 (dk_at dksX0_text_2 7 rfl rfl)
theorem dX0_text_57 : decode cX0_text 57 = .ok (.aload_n 0, 1) := dk_42 (dk_at dksX0_text_2 9 rfl rfl)
theorem dX0_text_58 : decode cX0_text 58 = .ok (.iconst 0, 1) := dk_3 (dk_at dksX0_text_2 10 rfl rfl)
theorem dX0_text_59 : decode cX0_text 59 = .ok (.putfield 402, 3) := dk_181 1 146 (dk_at dksX0_text_2 11 rfl rfl)
theorem dX0_text_62 : decode cX0_text 62 = .ok (.iload 4, 2) := dk_21 4 (dk_at dksX0_text_2 14 rfl rfl)
theorem dX0_text_64 : decode cX0_text 64 = .ok (.iconst (-1), 1) := dk_2 (dk_at dksX0_text_2 16 rfl rfl)
theorem dX0_text_65 : decode cX0_text 65 = .ok (.if_icmp .eq 9, 3) := dk_159 0 9 (dk_at dksX0_text_2 17 rfl rfl)
theorem dX0_text_68 : decode cX0_text 68 = .ok (.bipush (-100), 2) := dk_16 156 (dk_at dksX0_text_2 20 rfl rfl)
theorem dX0_text_70 : decode cX0_text 70 = .ok (.iload 4, 2) := dk_21 4 (dk_at dksX0_text_2 22 rfl rfl)
theorem dX0_text_72 : decode cX0_text 72 = .ok (.isub, 1) := dk_100 (dk_at dksX0_text_3 0 rfl rfl)
theorem dX0_text_73 : decode cX0_text 73 = .ok (.ireturn, 1) := dk_172 (dk_at dksX0_text_3 1 rfl rfl)
theorem dX0_text_74 : decode cX0_text 74 = .ok (.aload_n 3, 1) := dk_45 (dk_at dksX0_text_3 2 rfl rfl)
theorem dX0_text_75 : decode cX0_text 75 = .ok (.iload_n 1, 1) := dk_27 (dk_at dksX0_text_3 3 rfl rfl)
theorem dX0_text_76 : decode cX0_text 76 = .ok (.putfield 415, 3) := dk_181 1 159 (dk_at dksX0_text_3 4 rfl rfl)
theorem dX0_text_79 : decode cX0_text 79 = .ok (.aload_n 3, 1) := dk_45 (dk_at dksX0_text_3 7 rfl rfl)
theorem dX0_text_80 : decode cX0_text 80 = .ok (.iload_n 2, 1) := dk_28 (dk_at dksX0_text_3 8 rfl rfl)
theorem dX0_text_81 : decode cX0_text 81 = .ok (.putfield 418, 3) := dk_181 1 162 (dk_at dksX0_text_3 9 rfl rfl)
theorem dX0_text_84 : decode cX0_text 84 = .ok (.aload_n 3, 1) := dk_45 (dk_at dksX0_text_3 12 rfl rfl)
theorem dX0_text_85 : decode cX0_text 85 = .ok (.aload_n 0, 1) := dk_42 (dk_at dksX0_text_3 13 rfl rfl)
theorem dX0_text_86 : decode cX0_text 86 = .ok (.getfield 314, 3) := dk_180 1 58 (dk_at dksX0_text_3 14 rfl rfl)
theorem dX0_text_89 : decode cX0_text 89 = .ok (.putfield 419, 3) := dk_181 1 163 (dk_at dksX0_text_3 17 rfl rfl)
theorem dX0_text_92 : decode cX0_text 92 = .ok (.aload_n 0, 1) := dk_42 (dk_at dksX0_text_3 20 rfl rfl)
theorem dX0_text_93 : decode cX0_text 93 = .ok (.dup, 1) := dk_89 (dk_at dksX0_text_3 21 rfl rfl)
theorem dX0_text_94 : decode cX0_text 94 = .ok (.getfield 408, 3) := dk_180 1 152 (dk_at dksX0_text_4 0 rfl rfl)
theorem dX0_text_97 : decode cX0_text 97 = .ok (.dup_x1, 1) := dk_90 (dk_at dksX0_text_4 3 rfl rfl)
theorem dX0_text_98 : decode cX0_text 98 = .ok (.iconst 1, 1) := dk_4 (dk_at dksX0_text_4 4 rfl rfl)
theorem dX0_text_99 : decode cX0_text 99 = .ok (.iadd, 1) := dk_96 (dk_at dksX0_text_4 5 rfl rfl)
theorem dX0_text_100 : decode cX0_text 100 = .ok (.putfield 408, 3) := dk_181 1 152 (dk_at dksX0_text_4 6 rfl rfl)
theorem dX0_text_103 : decode cX0_text 103 = .ok (.ireturn, 1) := dk_172 (dk_at dksX0_text_4 9 rfl rfl)
abbrev cX0_isWhat : ByteArray := prog_1_method_50_code
def yX0_isWhat : MethodName := ⟨RX0, "isWhat", "(I)Z"⟩
def dkwX0_isWhat_1 : List UInt8 := [3, 172]
abbrev dktX0_isWhat_1 : List UInt8 := dkwX0_isWhat_1 ++ []
def dkwX0_isWhat_0 : List UInt8 := [26, 155, 0, 23, 26, 16, 10, 108, 4, 163, 0, 15, 26, 16, 10, 112, 5, 163, 0, 7, 4, 167, 0, 4]
abbrev dktX0_isWhat_0 : List UInt8 := dkwX0_isWhat_0 ++ dktX0_isWhat_1
theorem dksX0_isWhat_0 : cX0_isWhat.data.toList.drop 0 = dktX0_isWhat_0 := by decide +kernel
theorem dksX0_isWhat_1 : cX0_isWhat.data.toList.drop 24 = dktX0_isWhat_1 := dk_seg dksX0_isWhat_0 24 rfl rfl
theorem dX0_isWhat_0 : decode cX0_isWhat 0 = .ok (.iload_n 0, 1) := dk_26 (dk_at dksX0_isWhat_0 0 rfl rfl)
theorem dX0_isWhat_1 : decode cX0_isWhat 1 = .ok (.ifCond .lt 23, 3) := dk_155 0 23 (dk_at dksX0_isWhat_0 1 rfl rfl)
theorem dX0_isWhat_4 : decode cX0_isWhat 4 = .ok (.iload_n 0, 1) := dk_26 (dk_at dksX0_isWhat_0 4 rfl rfl)
theorem dX0_isWhat_5 : decode cX0_isWhat 5 = .ok (.bipush 10, 2) := dk_16 10 (dk_at dksX0_isWhat_0 5 rfl rfl)
theorem dX0_isWhat_7 : decode cX0_isWhat 7 = .ok (.idiv, 1) := dk_108 (dk_at dksX0_isWhat_0 7 rfl rfl)
theorem dX0_isWhat_8 : decode cX0_isWhat 8 = .ok (.iconst 1, 1) := dk_4 (dk_at dksX0_isWhat_0 8 rfl rfl)
theorem dX0_isWhat_9 : decode cX0_isWhat 9 = .ok (.if_icmp .gt 15, 3) := dk_163 0 15 (dk_at dksX0_isWhat_0 9 rfl rfl)
theorem dX0_isWhat_12 : decode cX0_isWhat 12 = .ok (.iload_n 0, 1) := dk_26 (dk_at dksX0_isWhat_0 12 rfl rfl)
theorem dX0_isWhat_13 : decode cX0_isWhat 13 = .ok (.bipush 10, 2) := dk_16 10 (dk_at dksX0_isWhat_0 13 rfl rfl)
theorem dX0_isWhat_15 : decode cX0_isWhat 15 = .ok (.irem, 1) := dk_112 (dk_at dksX0_isWhat_0 15 rfl rfl)
theorem dX0_isWhat_16 : decode cX0_isWhat 16 = .ok (.iconst 2, 1) := dk_5 (dk_at dksX0_isWhat_0 16 rfl rfl)
theorem dX0_isWhat_17 : decode cX0_isWhat 17 = .ok (.if_icmp .gt 7, 3) := dk_163 0 7 (dk_at dksX0_isWhat_0 17 rfl rfl)
theorem dX0_isWhat_20 : decode cX0_isWhat 20 = .ok (.iconst 1, 1) := dk_4 (dk_at dksX0_isWhat_0 20 rfl rfl)
theorem dX0_isWhat_21 : decode cX0_isWhat 21 = .ok (.goto 4, 3) := dk_167 0 4 (dk_at dksX0_isWhat_0 21 rfl rfl)
theorem dX0_isWhat_24 : decode cX0_isWhat 24 = .ok (.iconst 0, 1) := dk_3 (dk_at dksX0_isWhat_1 0 rfl rfl)
theorem dX0_isWhat_25 : decode cX0_isWhat 25 = .ok (.ireturn, 1) := dk_172 (dk_at dksX0_isWhat_1 1 rfl rfl)
abbrev cX0_inForce : ByteArray := prog_1_method_54_code
def yX0_inForce : MethodName := ⟨RX0, "inForce", "(III)I"⟩
def dkwX0_inForce_2 : List UInt8 := [160, 0, 8, 16, 254, 167, 0, 5, 21, 4, 172]
abbrev dktX0_inForce_2 : List UInt8 := dkwX0_inForce_2 ++ []
def dkwX0_inForce_1 : List UInt8 := [20, 1, 61, 184, 0, 167, 154, 0, 5, 2, 172, 42, 27, 28, 29, 182, 1, 172, 54, 4, 21, 4, 2]
abbrev dktX0_inForce_1 : List UInt8 := dkwX0_inForce_1 ++ dktX0_inForce_2
def dkwX0_inForce_0 : List UInt8 := [27, 184, 1, 149, 153, 0, 27, 28, 133, 9, 20, 1, 61, 184, 0, 167, 153, 0, 15, 29, 133, 9]
abbrev dktX0_inForce_0 : List UInt8 := dkwX0_inForce_0 ++ dktX0_inForce_1
theorem dksX0_inForce_0 : cX0_inForce.data.toList.drop 0 = dktX0_inForce_0 := by decide +kernel
theorem dksX0_inForce_1 : cX0_inForce.data.toList.drop 22 = dktX0_inForce_1 := dk_seg dksX0_inForce_0 22 rfl rfl
theorem dksX0_inForce_2 : cX0_inForce.data.toList.drop 45 = dktX0_inForce_2 := dk_seg dksX0_inForce_1 23 rfl rfl
theorem dX0_inForce_0 : decode cX0_inForce 0 = .ok (.iload_n 1, 1) := dk_27 (dk_at dksX0_inForce_0 0 rfl rfl)
theorem dX0_inForce_1 : decode cX0_inForce 1 = .ok (.invokestatic 405, 3) := dk_184 1 149 (dk_at dksX0_inForce_0 1 rfl rfl)
theorem dX0_inForce_4 : decode cX0_inForce 4 = .ok (.ifCond .eq 27, 3) := dk_153 0 27 (dk_at dksX0_inForce_0 4 rfl rfl)
theorem dX0_inForce_7 : decode cX0_inForce 7 = .ok (.iload_n 2, 1) := dk_28 (dk_at dksX0_inForce_0 7 rfl rfl)
theorem dX0_inForce_8 : decode cX0_inForce 8 = .ok (.i2l, 1) := dk_133 (dk_at dksX0_inForce_0 8 rfl rfl)
theorem dX0_inForce_9 : decode cX0_inForce 9 = .ok (.lconst 0, 1) := dk_9 (dk_at dksX0_inForce_0 9 rfl rfl)
theorem dX0_inForce_10 : decode cX0_inForce 10 = .ok (.ldc2_w 317, 3) := dk_20 1 61 (dk_at dksX0_inForce_0 10 rfl rfl)
theorem dX0_inForce_13 : decode cX0_inForce 13 = .ok (.invokestatic 167, 3) := dk_184 0 167 (dk_at dksX0_inForce_0 13 rfl rfl)
theorem dX0_inForce_16 : decode cX0_inForce 16 = .ok (.ifCond .eq 15, 3) := dk_153 0 15 (dk_at dksX0_inForce_0 16 rfl rfl)
theorem dX0_inForce_19 : decode cX0_inForce 19 = .ok (.iload_n 3, 1) := dk_29 (dk_at dksX0_inForce_0 19 rfl rfl)
theorem dX0_inForce_20 : decode cX0_inForce 20 = .ok (.i2l, 1) := dk_133 (dk_at dksX0_inForce_0 20 rfl rfl)
theorem dX0_inForce_21 : decode cX0_inForce 21 = .ok (.lconst 0, 1) := dk_9 (dk_at dksX0_inForce_0 21 rfl rfl)
theorem dX0_inForce_22 : decode cX0_inForce 22 = .ok (.ldc2_w 317, 3) := dk_20 1 61 (dk_at dksX0_inForce_1 0 rfl rfl)
theorem dX0_inForce_25 : decode cX0_inForce 25 = .ok (.invokestatic 167, 3) := dk_184 0 167 (dk_at dksX0_inForce_1 3 rfl rfl)
theorem dX0_inForce_28 : decode cX0_inForce 28 = .ok (.ifCond .ne 5, 3) := dk_154 0 5 (dk_at dksX0_inForce_1 6 rfl rfl)
theorem dX0_inForce_31 : decode cX0_inForce 31 = .ok (.iconst (-1), 1) := dk_2 (dk_at dksX0_inForce_1 9 rfl rfl)
theorem dX0_inForce_32 : decode cX0_inForce 32 = .ok (.ireturn, 1) := dk_172 (dk_at dksX0_inForce_1 10 rfl rfl)
theorem dX0_inForce_33 : decode cX0_inForce 33 = .ok (.aload_n 0, 1) := dk_42 (dk_at dksX0_inForce_1 11 rfl rfl)
theorem dX0_inForce_34 : decode cX0_inForce 34 = .ok (.iload_n 1, 1) := dk_27 (dk_at dksX0_inForce_1 12 rfl rfl)
theorem dX0_inForce_35 : decode cX0_inForce 35 = .ok (.iload_n 2, 1) := dk_28 (dk_at dksX0_inForce_1 13 rfl rfl)
theorem dX0_inForce_36 : decode cX0_inForce 36 = .ok (.iload_n 3, 1) := dk_29 (dk_at dksX0_inForce_1 14 rfl rfl)
theorem dX0_inForce_37 : decode cX0_inForce 37 = .ok (.invokevirtual 428, 3) := dk_182 1 172 (dk_at dksX0_inForce_1 15 rfl rfl)
theorem dX0_inForce_40 : decode cX0_inForce 40 = .ok (.istore 4, 2) := dk_54 4 (dk_at dksX0_inForce_1 18 rfl rfl)
theorem dX0_inForce_42 : decode cX0_inForce 42 = .ok (.iload 4, 2) := dk_21 4 (dk_at dksX0_inForce_1 20 rfl rfl)
theorem dX0_inForce_44 : decode cX0_inForce 44 = .ok (.iconst (-1), 1) := dk_2 (dk_at dksX0_inForce_1 22 rfl rfl)
theorem dX0_inForce_45 : decode cX0_inForce 45 = .ok (.if_icmp .ne 8, 3) := dk_160 0 8 (dk_at dksX0_inForce_2 0 rfl rfl)
theorem dX0_inForce_48 : decode cX0_inForce 48 = .ok (.bipush (-2), 2) := dk_16 254 (dk_at dksX0_inForce_2 3 rfl rfl)
theorem dX0_inForce_50 : decode cX0_inForce 50 = .ok (.goto 5, 3) := dk_167 0 5 (dk_at dksX0_inForce_2 5 rfl rfl)
theorem dX0_inForce_53 : decode cX0_inForce 53 = .ok (.iload 4, 2) := dk_21 4 (dk_at dksX0_inForce_2 8 rfl rfl)
theorem dX0_inForce_55 : decode cX0_inForce 55 = .ok (.ireturn, 1) := dk_172 (dk_at dksX0_inForce_2 10 rfl rfl)
abbrev cX0_force : ByteArray := prog_1_method_53_code
def yX0_force : MethodName := ⟨RX0, "force", "(III)I"⟩
def dkwX0_force_4 : List UInt8 := [132, 5, 255, 167, 255, 175, 21, 5, 172]
abbrev dktX0_force_4 : List UInt8 := dkwX0_force_4 ++ []
def dkwX0_force_3 : List UInt8 := [50, 180, 1, 163, 29, 163, 0, 17, 42, 180, 0, 90, 21, 5, 50, 180, 1, 162, 28, 164, 0, 9]
abbrev dktX0_force_3 : List UInt8 := dkwX0_force_3 ++ dktX0_force_4
def dkwX0_force_2 : List UInt8 := [180, 1, 159, 16, 10, 108, 27, 16, 10, 108, 159, 0, 8, 21, 4, 153, 0, 31, 42, 180, 0, 90, 21, 5]
abbrev dktX0_force_2 : List UInt8 := dkwX0_force_2 ++ dktX0_force_3
def dkwX0_force_1 : List UInt8 := [21, 5, 50, 180, 1, 159, 16, 10, 112, 27, 16, 10, 112, 160, 0, 56, 42, 180, 0, 90, 21, 5, 50]
abbrev dktX0_force_1 : List UInt8 := dkwX0_force_1 ++ dktX0_force_2
def dkwX0_force_0 : List UInt8 := [42, 29, 182, 1, 169, 54, 4, 42, 180, 1, 152, 4, 100, 54, 5, 21, 5, 155, 0, 82, 42, 180, 0, 90]
abbrev dktX0_force_0 : List UInt8 := dkwX0_force_0 ++ dktX0_force_1
theorem dksX0_force_0 : cX0_force.data.toList.drop 0 = dktX0_force_0 := by decide +kernel
theorem dksX0_force_1 : cX0_force.data.toList.drop 24 = dktX0_force_1 := dk_seg dksX0_force_0 24 rfl rfl
theorem dksX0_force_2 : cX0_force.data.toList.drop 47 = dktX0_force_2 := dk_seg dksX0_force_1 23 rfl rfl
theorem dksX0_force_3 : cX0_force.data.toList.drop 71 = dktX0_force_3 := dk_seg dksX0_force_2 24 rfl rfl
theorem dksX0_force_4 : cX0_force.data.toList.drop 93 = dktX0_force_4 := dk_seg dksX0_force_3 22 rfl rfl
theorem dX0_force_0 : decode cX0_force 0 = .ok (.aload_n 0, 1) := dk_42 (dk_at dksX0_force_0 0 rfl rfl)
theorem dX0_force_1 : decode cX0_force 1 = .ok (.iload_n 3, 1) := dk_29 (dk_at dksX0_force_0 1 rfl rfl)
theorem dX0_force_2 : decode cX0_force 2 = .ok (.invokevirtual 425, 3) := dk_182 1 169 (dk_at dksX0_force_0 2 rfl rfl)
theorem dX0_force_5 : decode cX0_force 5 = .ok (.istore 4, 2) := dk_54 4 (dk_at dksX0_force_0 5 rfl rfl)
theorem dX0_force_7 : decode cX0_force 7 = .ok (.aload_n 0, 1) := dk_42 (dk_at dksX0_force_0 7 rfl rfl)
theorem dX0_force_8 : decode cX0_force 8 = .ok (.getfield 408, 3) := dk_180 1 152 (dk_at dksX0_force_0 8 rfl rfl)
theorem dX0_force_11 : decode cX0_force 11 = .ok (.iconst 1, 1) := dk_4 (dk_at dksX0_force_0 11 rfl rfl)
theorem dX0_force_12 : decode cX0_force 12 = .ok (.isub, 1) := dk_100 (dk_at dksX0_force_0 12 rfl rfl)
theorem dX0_force_13 : decode cX0_force 13 = .ok (.istore 5, 2) := dk_54 5 (dk_at dksX0_force_0 13 rfl rfl)
theorem dX0_force_15 : decode cX0_force 15 = .ok (.iload 5, 2) := dk_21 5 (dk_at dksX0_force_0 15 rfl rfl)
theorem dX0_force_17 : decode cX0_force 17 = .ok (.ifCond .lt 82, 3) := dk_155 0 82 (dk_at dksX0_force_0 17 rfl rfl)
theorem dX0_force_20 : decode cX0_force 20 = .ok (.aload_n 0, 1) := dk_42 (dk_at dksX0_force_0 20 rfl rfl)
theorem dX0_force_21 : decode cX0_force 21 = .ok (.getfield 90, 3) := dk_180 0 90 (dk_at dksX0_force_0 21 rfl rfl)
theorem dX0_force_24 : decode cX0_force 24 = .ok (.iload 5, 2) := dk_21 5 (dk_at dksX0_force_1 0 rfl rfl)
theorem dX0_force_26 : decode cX0_force 26 = .ok (.aaload, 1) := dk_50 (dk_at dksX0_force_1 2 rfl rfl)
theorem dX0_force_27 : decode cX0_force 27 = .ok (.getfield 415, 3) := dk_180 1 159 (dk_at dksX0_force_1 3 rfl rfl)
theorem dX0_force_30 : decode cX0_force 30 = .ok (.bipush 10, 2) := dk_16 10 (dk_at dksX0_force_1 6 rfl rfl)
theorem dX0_force_32 : decode cX0_force 32 = .ok (.irem, 1) := dk_112 (dk_at dksX0_force_1 8 rfl rfl)
theorem dX0_force_33 : decode cX0_force 33 = .ok (.iload_n 1, 1) := dk_27 (dk_at dksX0_force_1 9 rfl rfl)
theorem dX0_force_34 : decode cX0_force 34 = .ok (.bipush 10, 2) := dk_16 10 (dk_at dksX0_force_1 10 rfl rfl)
theorem dX0_force_36 : decode cX0_force 36 = .ok (.irem, 1) := dk_112 (dk_at dksX0_force_1 12 rfl rfl)
theorem dX0_force_37 : decode cX0_force 37 = .ok (.if_icmp .ne 56, 3) := dk_160 0 56 (dk_at dksX0_force_1 13 rfl rfl)
theorem dX0_force_40 : decode cX0_force 40 = .ok (.aload_n 0, 1) := dk_42 (dk_at dksX0_force_1 16 rfl rfl)
theorem dX0_force_41 : decode cX0_force 41 = .ok (.getfield 90, 3) := dk_180 0 90 (dk_at dksX0_force_1 17 rfl rfl)
theorem dX0_force_44 : decode cX0_force 44 = .ok (.iload 5, 2) := dk_21 5 (dk_at dksX0_force_1 20 rfl rfl)
theorem dX0_force_46 : decode cX0_force 46 = .ok (.aaload, 1) := dk_50 (dk_at dksX0_force_1 22 rfl rfl)
theorem dX0_force_47 : decode cX0_force 47 = .ok (.getfield 415, 3) := dk_180 1 159 (dk_at dksX0_force_2 0 rfl rfl)
theorem dX0_force_50 : decode cX0_force 50 = .ok (.bipush 10, 2) := dk_16 10 (dk_at dksX0_force_2 3 rfl rfl)
theorem dX0_force_52 : decode cX0_force 52 = .ok (.idiv, 1) := dk_108 (dk_at dksX0_force_2 5 rfl rfl)
theorem dX0_force_53 : decode cX0_force 53 = .ok (.iload_n 1, 1) := dk_27 (dk_at dksX0_force_2 6 rfl rfl)
theorem dX0_force_54 : decode cX0_force 54 = .ok (.bipush 10, 2) := dk_16 10 (dk_at dksX0_force_2 7 rfl rfl)
theorem dX0_force_56 : decode cX0_force 56 = .ok (.idiv, 1) := dk_108 (dk_at dksX0_force_2 9 rfl rfl)
theorem dX0_force_57 : decode cX0_force 57 = .ok (.if_icmp .eq 8, 3) := dk_159 0 8 (dk_at dksX0_force_2 10 rfl rfl)
theorem dX0_force_60 : decode cX0_force 60 = .ok (.iload 4, 2) := dk_21 4 (dk_at dksX0_force_2 13 rfl rfl)
theorem dX0_force_62 : decode cX0_force 62 = .ok (.ifCond .eq 31, 3) := dk_153 0 31 (dk_at dksX0_force_2 15 rfl rfl)
theorem dX0_force_65 : decode cX0_force 65 = .ok (.aload_n 0, 1) := dk_42 (dk_at dksX0_force_2 18 rfl rfl)
theorem dX0_force_66 : decode cX0_force 66 = .ok (.getfield 90, 3) := dk_180 0 90 (dk_at dksX0_force_2 19 rfl rfl)
theorem dX0_force_69 : decode cX0_force 69 = .ok (.iload 5, 2) := dk_21 5 (dk_at dksX0_force_2 22 rfl rfl)
theorem dX0_force_71 : decode cX0_force 71 = .ok (.aaload, 1) := dk_50 (dk_at dksX0_force_3 0 rfl rfl)
theorem dX0_force_72 : decode cX0_force 72 = .ok (.getfield 419, 3) := dk_180 1 163 (dk_at dksX0_force_3 1 rfl rfl)
theorem dX0_force_75 : decode cX0_force 75 = .ok (.iload_n 3, 1) := dk_29 (dk_at dksX0_force_3 4 rfl rfl)
theorem dX0_force_76 : decode cX0_force 76 = .ok (.if_icmp .gt 17, 3) := dk_163 0 17 (dk_at dksX0_force_3 5 rfl rfl)
theorem dX0_force_79 : decode cX0_force 79 = .ok (.aload_n 0, 1) := dk_42 (dk_at dksX0_force_3 8 rfl rfl)
theorem dX0_force_80 : decode cX0_force 80 = .ok (.getfield 90, 3) := dk_180 0 90 (dk_at dksX0_force_3 9 rfl rfl)
theorem dX0_force_83 : decode cX0_force 83 = .ok (.iload 5, 2) := dk_21 5 (dk_at dksX0_force_3 12 rfl rfl)
theorem dX0_force_85 : decode cX0_force 85 = .ok (.aaload, 1) := dk_50 (dk_at dksX0_force_3 14 rfl rfl)
theorem dX0_force_86 : decode cX0_force 86 = .ok (.getfield 418, 3) := dk_180 1 162 (dk_at dksX0_force_3 15 rfl rfl)
theorem dX0_force_89 : decode cX0_force 89 = .ok (.iload_n 2, 1) := dk_28 (dk_at dksX0_force_3 18 rfl rfl)
theorem dX0_force_90 : decode cX0_force 90 = .ok (.if_icmp .le 9, 3) := dk_164 0 9 (dk_at dksX0_force_3 19 rfl rfl)
theorem dX0_force_93 : decode cX0_force 93 = .ok (.iinc 5 (-1), 3) := dk_132 5 255 (dk_at dksX0_force_4 0 rfl rfl)
theorem dX0_force_96 : decode cX0_force 96 = .ok (.goto (-81), 3) := dk_167 255 175 (dk_at dksX0_force_4 3 rfl rfl)
theorem dX0_force_99 : decode cX0_force 99 = .ok (.iload 5, 2) := dk_21 5 (dk_at dksX0_force_4 6 rfl rfl)
theorem dX0_force_101 : decode cX0_force 101 = .ok (.ireturn, 1) := dk_172 (dk_at dksX0_force_4 8 rfl rfl)
abbrev cX0_wasThroughBy : ByteArray := prog_1_method_52_code
def yX0_wasThroughBy : MethodName := ⟨RX0, "wasThroughBy", "(I)Z"⟩
def dkwX0_wasThroughBy_2 : List UInt8 := [167, 255, 212, 3, 172]
abbrev dktX0_wasThroughBy_2 : List UInt8 := dkwX0_wasThroughBy_2 ++ []
def dkwX0_wasThroughBy_1 : List UInt8 := [182, 1, 8, 153, 0, 17, 42, 28, 182, 1, 27, 180, 1, 166, 27, 163, 0, 5, 4, 172, 132, 2, 1]
abbrev dktX0_wasThroughBy_1 : List UInt8 := dkwX0_wasThroughBy_1 ++ dktX0_wasThroughBy_2
def dkwX0_wasThroughBy_0 : List UInt8 := [3, 61, 28, 42, 180, 0, 184, 162, 0, 42, 42, 28, 182, 1, 27, 198, 0, 28, 42, 28, 182, 1, 27]
abbrev dktX0_wasThroughBy_0 : List UInt8 := dkwX0_wasThroughBy_0 ++ dktX0_wasThroughBy_1
theorem dksX0_wasThroughBy_0 : cX0_wasThroughBy.data.toList.drop 0 = dktX0_wasThroughBy_0 := by decide +kernel
theorem dksX0_wasThroughBy_1 : cX0_wasThroughBy.data.toList.drop 23 = dktX0_wasThroughBy_1 := dk_seg dksX0_wasThroughBy_0 23 rfl rfl
theorem dksX0_wasThroughBy_2 : cX0_wasThroughBy.data.toList.drop 46 = dktX0_wasThroughBy_2 := dk_seg dksX0_wasThroughBy_1 23 rfl rfl
theorem dX0_wasThroughBy_0 : decode cX0_wasThroughBy 0 = .ok (.iconst 0, 1) := dk_3 (dk_at dksX0_wasThroughBy_0 0 rfl rfl)
theorem dX0_wasThroughBy_1 : decode cX0_wasThroughBy 1 = .ok (.istore_n 2, 1) := dk_61 (dk_at dksX0_wasThroughBy_0 1 rfl rfl)
theorem dX0_wasThroughBy_2 : decode cX0_wasThroughBy 2 = .ok (.iload_n 2, 1) := dk_28 (dk_at dksX0_wasThroughBy_0 2 rfl rfl)
theorem dX0_wasThroughBy_3 : decode cX0_wasThroughBy 3 = .ok (.aload_n 0, 1) := dk_42 (dk_at dksX0_wasThroughBy_0 3 rfl rfl)
theorem dX0_wasThroughBy_4 : decode cX0_wasThroughBy 4 = .ok (.getfield 184, 3) := dk_180 0 184 (dk_at dksX0_wasThroughBy_0 4 rfl rfl)
theorem dX0_wasThroughBy_7 : decode cX0_wasThroughBy 7 = .ok (.if_icmp .ge 42, 3) := dk_162 0 42 (dk_at dksX0_wasThroughBy_0 7 rfl rfl)
theorem dX0_wasThroughBy_10 : decode cX0_wasThroughBy 10 = .ok (.aload_n 0, 1) := dk_42 (dk_at dksX0_wasThroughBy_0 10 rfl rfl)
theorem dX0_wasThroughBy_11 : decode cX0_wasThroughBy 11 = .ok (.iload_n 2, 1) := dk_28 (dk_at dksX0_wasThroughBy_0 11 rfl rfl)
theorem dX0_wasThroughBy_12 : decode cX0_wasThroughBy 12 = .ok (.invokevirtual 283, 3) := dk_182 1 27 (dk_at dksX0_wasThroughBy_0 12 rfl rfl)
theorem dX0_wasThroughBy_15 : decode cX0_wasThroughBy 15 = .ok (.ifnull 28, 3) := dk_198 0 28 (dk_at dksX0_wasThroughBy_0 15 rfl rfl)
theorem dX0_wasThroughBy_18 : decode cX0_wasThroughBy 18 = .ok (.aload_n 0, 1) := dk_42 (dk_at dksX0_wasThroughBy_0 18 rfl rfl)
theorem dX0_wasThroughBy_19 : decode cX0_wasThroughBy 19 = .ok (.iload_n 2, 1) := dk_28 (dk_at dksX0_wasThroughBy_0 19 rfl rfl)
theorem dX0_wasThroughBy_20 : decode cX0_wasThroughBy 20 = .ok (.invokevirtual 283, 3) := dk_182 1 27 (dk_at dksX0_wasThroughBy_0 20 rfl rfl)
theorem dX0_wasThroughBy_23 : decode cX0_wasThroughBy 23 = .ok (.invokevirtual 264, 3) := dk_182 1 8 (dk_at dksX0_wasThroughBy_1 0 rfl rfl)
theorem dX0_wasThroughBy_26 : decode cX0_wasThroughBy 26 = .ok (.ifCond .eq 17, 3) := dk_153 0 17 (dk_at dksX0_wasThroughBy_1 3 rfl rfl)
theorem dX0_wasThroughBy_29 : decode cX0_wasThroughBy 29 = .ok (.aload_n 0, 1) := dk_42 (dk_at dksX0_wasThroughBy_1 6 rfl rfl)
theorem dX0_wasThroughBy_30 : decode cX0_wasThroughBy 30 = .ok (.iload_n 2, 1) := dk_28 (dk_at dksX0_wasThroughBy_1 7 rfl rfl)
theorem dX0_wasThroughBy_31 : decode cX0_wasThroughBy 31 = .ok (.invokevirtual 283, 3) := dk_182 1 27 (dk_at dksX0_wasThroughBy_1 8 rfl rfl)
theorem dX0_wasThroughBy_34 : decode cX0_wasThroughBy 34 = .ok (.getfield 422, 3) := dk_180 1 166 (dk_at dksX0_wasThroughBy_1 11 rfl rfl)
theorem dX0_wasThroughBy_37 : decode cX0_wasThroughBy 37 = .ok (.iload_n 1, 1) := dk_27 (dk_at dksX0_wasThroughBy_1 14 rfl rfl)
theorem dX0_wasThroughBy_38 : decode cX0_wasThroughBy 38 = .ok (.if_icmp .gt 5, 3) := dk_163 0 5 (dk_at dksX0_wasThroughBy_1 15 rfl rfl)
theorem dX0_wasThroughBy_41 : decode cX0_wasThroughBy 41 = .ok (.iconst 1, 1) := dk_4 (dk_at dksX0_wasThroughBy_1 18 rfl rfl)
theorem dX0_wasThroughBy_42 : decode cX0_wasThroughBy 42 = .ok (.ireturn, 1) := dk_172 (dk_at dksX0_wasThroughBy_1 19 rfl rfl)
theorem dX0_wasThroughBy_43 : decode cX0_wasThroughBy 43 = .ok (.iinc 2 1, 3) := dk_132 2 1 (dk_at dksX0_wasThroughBy_1 20 rfl rfl)
theorem dX0_wasThroughBy_46 : decode cX0_wasThroughBy 46 = .ok (.goto (-44), 3) := dk_167 255 212 (dk_at dksX0_wasThroughBy_2 0 rfl rfl)
theorem dX0_wasThroughBy_49 : decode cX0_wasThroughBy 49 = .ok (.iconst 0, 1) := dk_3 (dk_at dksX0_wasThroughBy_2 3 rfl rfl)
theorem dX0_wasThroughBy_50 : decode cX0_wasThroughBy 50 = .ok (.ireturn, 1) := dk_172 (dk_at dksX0_wasThroughBy_2 4 rfl rfl)
abbrev cX0_says : ByteArray := prog_1_method_58_code
def yX0_says : MethodName := ⟨RX0, "says", "(II)I"⟩
def dkwX0_says_2 : List UInt8 := [1, 167, 0, 4, 45, 27, 16, 10, 112, 154, 0, 7, 4, 167, 0, 4, 3, 182, 1, 190, 172]
abbrev dktX0_says_2 : List UInt8 := dkwX0_says_2 ++ []
def dkwX0_says_1 : List UInt8 := [159, 0, 14, 167, 0, 7, 45, 199, 0, 7, 19, 1, 22, 172, 42, 27, 27, 16, 10, 112, 5, 160, 0, 7]
abbrev dktX0_says_1 : List UInt8 := dkwX0_says_1 ++ dktX0_says_2
def dkwX0_says_0 : List UInt8 := [42, 28, 182, 0, 192, 78, 27, 184, 1, 149, 153, 0, 23, 27, 16, 10, 112, 5, 160, 0, 11, 28, 2]
abbrev dktX0_says_0 : List UInt8 := dkwX0_says_0 ++ dktX0_says_1
theorem dksX0_says_0 : cX0_says.data.toList.drop 0 = dktX0_says_0 := by decide +kernel
theorem dksX0_says_1 : cX0_says.data.toList.drop 23 = dktX0_says_1 := dk_seg dksX0_says_0 23 rfl rfl
theorem dksX0_says_2 : cX0_says.data.toList.drop 47 = dktX0_says_2 := dk_seg dksX0_says_1 24 rfl rfl
theorem dX0_says_0 : decode cX0_says 0 = .ok (.aload_n 0, 1) := dk_42 (dk_at dksX0_says_0 0 rfl rfl)
theorem dX0_says_1 : decode cX0_says 1 = .ok (.iload_n 2, 1) := dk_28 (dk_at dksX0_says_0 1 rfl rfl)
theorem dX0_says_2 : decode cX0_says 2 = .ok (.invokevirtual 192, 3) := dk_182 0 192 (dk_at dksX0_says_0 2 rfl rfl)
theorem dX0_says_5 : decode cX0_says 5 = .ok (.astore_n 3, 1) := dk_78 (dk_at dksX0_says_0 5 rfl rfl)
theorem dX0_says_6 : decode cX0_says 6 = .ok (.iload_n 1, 1) := dk_27 (dk_at dksX0_says_0 6 rfl rfl)
theorem dX0_says_7 : decode cX0_says 7 = .ok (.invokestatic 405, 3) := dk_184 1 149 (dk_at dksX0_says_0 7 rfl rfl)
theorem dX0_says_10 : decode cX0_says 10 = .ok (.ifCond .eq 23, 3) := dk_153 0 23 (dk_at dksX0_says_0 10 rfl rfl)
theorem dX0_says_13 : decode cX0_says 13 = .ok (.iload_n 1, 1) := dk_27 (dk_at dksX0_says_0 13 rfl rfl)
theorem dX0_says_14 : decode cX0_says 14 = .ok (.bipush 10, 2) := dk_16 10 (dk_at dksX0_says_0 14 rfl rfl)
theorem dX0_says_16 : decode cX0_says 16 = .ok (.irem, 1) := dk_112 (dk_at dksX0_says_0 16 rfl rfl)
theorem dX0_says_17 : decode cX0_says 17 = .ok (.iconst 2, 1) := dk_5 (dk_at dksX0_says_0 17 rfl rfl)
theorem dX0_says_18 : decode cX0_says 18 = .ok (.if_icmp .ne 11, 3) := dk_160 0 11 (dk_at dksX0_says_0 18 rfl rfl)
theorem dX0_says_21 : decode cX0_says 21 = .ok (.iload_n 2, 1) := dk_28 (dk_at dksX0_says_0 21 rfl rfl)
theorem dX0_says_22 : decode cX0_says 22 = .ok (.iconst (-1), 1) := dk_2 (dk_at dksX0_says_0 22 rfl rfl)
theorem dX0_says_23 : decode cX0_says 23 = .ok (.if_icmp .eq 14, 3) := dk_159 0 14 (dk_at dksX0_says_1 0 rfl rfl)
theorem dX0_says_26 : decode cX0_says 26 = .ok (.goto 7, 3) := dk_167 0 7 (dk_at dksX0_says_1 3 rfl rfl)
theorem dX0_says_29 : decode cX0_says 29 = .ok (.aload_n 3, 1) := dk_45 (dk_at dksX0_says_1 6 rfl rfl)
theorem dX0_says_30 : decode cX0_says 30 = .ok (.ifnonnull 7, 3) := dk_199 0 7 (dk_at dksX0_says_1 7 rfl rfl)
theorem dX0_says_33 : decode cX0_says 33 = .ok (.ldc_w 278, 3) := dk_19 1 22 (dk_at dksX0_says_1 10 rfl rfl)
theorem dX0_says_36 : decode cX0_says 36 = .ok (.ireturn, 1) := dk_172 (dk_at dksX0_says_1 13 rfl rfl)
theorem dX0_says_37 : decode cX0_says 37 = .ok (.aload_n 0, 1) := dk_42 (dk_at dksX0_says_1 14 rfl rfl)
theorem dX0_says_38 : decode cX0_says 38 = .ok (.iload_n 1, 1) := dk_27 (dk_at dksX0_says_1 15 rfl rfl)
theorem dX0_says_39 : decode cX0_says 39 = .ok (.iload_n 1, 1) := dk_27 (dk_at dksX0_says_1 16 rfl rfl)
theorem dX0_says_40 : decode cX0_says 40 = .ok (.bipush 10, 2) := dk_16 10 (dk_at dksX0_says_1 17 rfl rfl)
theorem dX0_says_42 : decode cX0_says 42 = .ok (.irem, 1) := dk_112 (dk_at dksX0_says_1 19 rfl rfl)
theorem dX0_says_43 : decode cX0_says 43 = .ok (.iconst 2, 1) := dk_5 (dk_at dksX0_says_1 20 rfl rfl)
theorem dX0_says_44 : decode cX0_says 44 = .ok (.if_icmp .ne 7, 3) := dk_160 0 7 (dk_at dksX0_says_1 21 rfl rfl)
theorem dX0_says_47 : decode cX0_says 47 = .ok (.aconst_null, 1) := dk_1 (dk_at dksX0_says_2 0 rfl rfl)
theorem dX0_says_48 : decode cX0_says 48 = .ok (.goto 4, 3) := dk_167 0 4 (dk_at dksX0_says_2 1 rfl rfl)
theorem dX0_says_51 : decode cX0_says 51 = .ok (.aload_n 3, 1) := dk_45 (dk_at dksX0_says_2 4 rfl rfl)
theorem dX0_says_52 : decode cX0_says 52 = .ok (.iload_n 1, 1) := dk_27 (dk_at dksX0_says_2 5 rfl rfl)
theorem dX0_says_53 : decode cX0_says 53 = .ok (.bipush 10, 2) := dk_16 10 (dk_at dksX0_says_2 6 rfl rfl)
theorem dX0_says_55 : decode cX0_says 55 = .ok (.irem, 1) := dk_112 (dk_at dksX0_says_2 8 rfl rfl)
theorem dX0_says_56 : decode cX0_says 56 = .ok (.ifCond .ne 7, 3) := dk_154 0 7 (dk_at dksX0_says_2 9 rfl rfl)
theorem dX0_says_59 : decode cX0_says 59 = .ok (.iconst 1, 1) := dk_4 (dk_at dksX0_says_2 12 rfl rfl)
theorem dX0_says_60 : decode cX0_says 60 = .ok (.goto 4, 3) := dk_167 0 4 (dk_at dksX0_says_2 13 rfl rfl)
theorem dX0_says_63 : decode cX0_says 63 = .ok (.iconst 0, 1) := dk_3 (dk_at dksX0_says_2 16 rfl rfl)
theorem dX0_says_64 : decode cX0_says 64 = .ok (.invokevirtual 446, 3) := dk_182 1 190 (dk_at dksX0_says_2 17 rfl rfl)
theorem dX0_says_67 : decode cX0_says 67 = .ok (.ireturn, 1) := dk_172 (dk_at dksX0_says_2 20 rfl rfl)
abbrev cX0_gives : ByteArray := prog_1_method_57_code
def yX0_gives : MethodName := ⟨RX0, "gives", "(ILThirtyThreeBelow$Man;I)I"⟩
def dkwX0_gives_6 : List UInt8 := [182, 1, 187, 172]
abbrev dktX0_gives_6 : List UInt8 := dkwX0_gives_6 ++ []
def dkwX0_gives_5 : List UInt8 := [42, 180, 1, 181, 79, 42, 180, 0, 73, 16, 7, 42, 182, 1, 184, 79, 42, 180, 0, 90, 21, 4, 50]
abbrev dktX0_gives_5 : List UInt8 := dkwX0_gives_5 ++ dktX0_gives_6
def dkwX0_gives_4 : List UInt8 := [167, 0, 7, 44, 180, 1, 41, 79, 42, 180, 0, 73, 8, 42, 182, 1, 178, 79, 42, 180, 0, 73, 16, 6]
abbrev dktX0_gives_4 : List UInt8 := dkwX0_gives_4 ++ dktX0_gives_5
def dkwX0_gives_3 : List UInt8 := [199, 0, 7, 3, 167, 0, 7, 44, 180, 1, 38, 79, 42, 180, 0, 73, 7, 44, 199, 0, 7, 3]
abbrev dktX0_gives_3 : List UInt8 := dkwX0_gives_3 ++ dktX0_gives_4
def dkwX0_gives_2 : List UInt8 := [180, 0, 73, 5, 44, 199, 0, 7, 3, 167, 0, 7, 44, 180, 1, 35, 79, 42, 180, 0, 73, 6, 44]
abbrev dktX0_gives_2 : List UInt8 := dkwX0_gives_2 ++ dktX0_gives_3
def dkwX0_gives_1 : List UInt8 := [180, 0, 73, 3, 42, 180, 1, 58, 79, 42, 180, 0, 73, 4, 42, 180, 1, 58, 16, 24, 108, 79, 42]
abbrev dktX0_gives_1 : List UInt8 := dkwX0_gives_1 ++ dktX0_gives_2
def dkwX0_gives_0 : List UInt8 := [42, 27, 42, 180, 1, 58, 42, 180, 1, 58, 182, 1, 172, 54, 4, 21, 4, 2, 160, 0, 5, 29, 172, 42]
abbrev dktX0_gives_0 : List UInt8 := dkwX0_gives_0 ++ dktX0_gives_1
theorem dksX0_gives_0 : cX0_gives.data.toList.drop 0 = dktX0_gives_0 := by decide +kernel
theorem dksX0_gives_1 : cX0_gives.data.toList.drop 24 = dktX0_gives_1 := dk_seg dksX0_gives_0 24 rfl rfl
theorem dksX0_gives_2 : cX0_gives.data.toList.drop 47 = dktX0_gives_2 := dk_seg dksX0_gives_1 23 rfl rfl
theorem dksX0_gives_3 : cX0_gives.data.toList.drop 70 = dktX0_gives_3 := dk_seg dksX0_gives_2 23 rfl rfl
theorem dksX0_gives_4 : cX0_gives.data.toList.drop 92 = dktX0_gives_4 := dk_seg dksX0_gives_3 22 rfl rfl
theorem dksX0_gives_5 : cX0_gives.data.toList.drop 116 = dktX0_gives_5 := dk_seg dksX0_gives_4 24 rfl rfl
theorem dksX0_gives_6 : cX0_gives.data.toList.drop 139 = dktX0_gives_6 := dk_seg dksX0_gives_5 23 rfl rfl
theorem dX0_gives_0 : decode cX0_gives 0 = .ok (.aload_n 0, 1) := dk_42 (dk_at dksX0_gives_0 0 rfl rfl)
theorem dX0_gives_1 : decode cX0_gives 1 = .ok (.iload_n 1, 1) := dk_27 (dk_at dksX0_gives_0 1 rfl rfl)
theorem dX0_gives_2 : decode cX0_gives 2 = .ok (.aload_n 0, 1) := dk_42 (dk_at dksX0_gives_0 2 rfl rfl)
theorem dX0_gives_3 : decode cX0_gives 3 = .ok (.getfield 314, 3) := dk_180 1 58 (dk_at dksX0_gives_0 3 rfl rfl)
theorem dX0_gives_6 : decode cX0_gives 6 = .ok (.aload_n 0, 1) := dk_42 (dk_at dksX0_gives_0 6 rfl rfl)
theorem dX0_gives_7 : decode cX0_gives 7 = .ok (.getfield 314, 3) := dk_180 1 58 (dk_at dksX0_gives_0 7 rfl rfl)
theorem dX0_gives_10 : decode cX0_gives 10 = .ok (.invokevirtual 428, 3) := dk_182 1 172 (dk_at dksX0_gives_0 10 rfl rfl)
theorem dX0_gives_13 : decode cX0_gives 13 = .ok (.istore 4, 2) := dk_54 4 (dk_at dksX0_gives_0 13 rfl rfl)
theorem dX0_gives_15 : decode cX0_gives 15 = .ok (.iload 4, 2) := dk_21 4 (dk_at dksX0_gives_0 15 rfl rfl)
theorem dX0_gives_17 : decode cX0_gives 17 = .ok (.iconst (-1), 1) := dk_2 (dk_at dksX0_gives_0 17 rfl rfl)
theorem dX0_gives_18 : decode cX0_gives 18 = .ok (.if_icmp .ne 5, 3) := dk_160 0 5 (dk_at dksX0_gives_0 18 rfl rfl)
theorem dX0_gives_21 : decode cX0_gives 21 = .ok (.iload_n 3, 1) := dk_29 (dk_at dksX0_gives_0 21 rfl rfl)
theorem dX0_gives_22 : decode cX0_gives 22 = .ok (.ireturn, 1) := dk_172 (dk_at dksX0_gives_0 22 rfl rfl)
theorem dX0_gives_23 : decode cX0_gives 23 = .ok (.aload_n 0, 1) := dk_42 (dk_at dksX0_gives_0 23 rfl rfl)
theorem dX0_gives_24 : decode cX0_gives 24 = .ok (.getfield 73, 3) := dk_180 0 73 (dk_at dksX0_gives_1 0 rfl rfl)
theorem dX0_gives_27 : decode cX0_gives 27 = .ok (.iconst 0, 1) := dk_3 (dk_at dksX0_gives_1 3 rfl rfl)
theorem dX0_gives_28 : decode cX0_gives 28 = .ok (.aload_n 0, 1) := dk_42 (dk_at dksX0_gives_1 4 rfl rfl)
theorem dX0_gives_29 : decode cX0_gives 29 = .ok (.getfield 314, 3) := dk_180 1 58 (dk_at dksX0_gives_1 5 rfl rfl)
theorem dX0_gives_32 : decode cX0_gives 32 = .ok (.iastore, 1) := dk_79 (dk_at dksX0_gives_1 8 rfl rfl)
theorem dX0_gives_33 : decode cX0_gives 33 = .ok (.aload_n 0, 1) := dk_42 (dk_at dksX0_gives_1 9 rfl rfl)
theorem dX0_gives_34 : decode cX0_gives 34 = .ok (.getfield 73, 3) := dk_180 0 73 (dk_at dksX0_gives_1 10 rfl rfl)
theorem dX0_gives_37 : decode cX0_gives 37 = .ok (.iconst 1, 1) := dk_4 (dk_at dksX0_gives_1 13 rfl rfl)
theorem dX0_gives_38 : decode cX0_gives 38 = .ok (.aload_n 0, 1) := dk_42 (dk_at dksX0_gives_1 14 rfl rfl)
theorem dX0_gives_39 : decode cX0_gives 39 = .ok (.getfield 314, 3) := dk_180 1 58 (dk_at dksX0_gives_1 15 rfl rfl)
theorem dX0_gives_42 : decode cX0_gives 42 = .ok (.bipush 24, 2) := dk_16 24 (dk_at dksX0_gives_1 18 rfl rfl)
theorem dX0_gives_44 : decode cX0_gives 44 = .ok (.idiv, 1) := dk_108 (dk_at dksX0_gives_1 20 rfl rfl)
theorem dX0_gives_45 : decode cX0_gives 45 = .ok (.iastore, 1) := dk_79 (dk_at dksX0_gives_1 21 rfl rfl)
theorem dX0_gives_46 : decode cX0_gives 46 = .ok (.aload_n 0, 1) := dk_42 (dk_at dksX0_gives_1 22 rfl rfl)
theorem dX0_gives_47 : decode cX0_gives 47 = .ok (.getfield 73, 3) := dk_180 0 73 (dk_at dksX0_gives_2 0 rfl rfl)
theorem dX0_gives_50 : decode cX0_gives 50 = .ok (.iconst 2, 1) := dk_5 (dk_at dksX0_gives_2 3 rfl rfl)
theorem dX0_gives_51 : decode cX0_gives 51 = .ok (.aload_n 2, 1) := dk_44 (dk_at dksX0_gives_2 4 rfl rfl)
theorem dX0_gives_52 : decode cX0_gives 52 = .ok (.ifnonnull 7, 3) := dk_199 0 7 (dk_at dksX0_gives_2 5 rfl rfl)
theorem dX0_gives_55 : decode cX0_gives 55 = .ok (.iconst 0, 1) := dk_3 (dk_at dksX0_gives_2 8 rfl rfl)
theorem dX0_gives_56 : decode cX0_gives 56 = .ok (.goto 7, 3) := dk_167 0 7 (dk_at dksX0_gives_2 9 rfl rfl)
theorem dX0_gives_59 : decode cX0_gives 59 = .ok (.aload_n 2, 1) := dk_44 (dk_at dksX0_gives_2 12 rfl rfl)
theorem dX0_gives_60 : decode cX0_gives 60 = .ok (.getfield 291, 3) := dk_180 1 35 (dk_at dksX0_gives_2 13 rfl rfl)
theorem dX0_gives_63 : decode cX0_gives 63 = .ok (.iastore, 1) := dk_79 (dk_at dksX0_gives_2 16 rfl rfl)
theorem dX0_gives_64 : decode cX0_gives 64 = .ok (.aload_n 0, 1) := dk_42 (dk_at dksX0_gives_2 17 rfl rfl)
theorem dX0_gives_65 : decode cX0_gives 65 = .ok (.getfield 73, 3) := dk_180 0 73 (dk_at dksX0_gives_2 18 rfl rfl)
theorem dX0_gives_68 : decode cX0_gives 68 = .ok (.iconst 3, 1) := dk_6 (dk_at dksX0_gives_2 21 rfl rfl)
theorem dX0_gives_69 : decode cX0_gives 69 = .ok (.aload_n 2, 1) := dk_44 (dk_at dksX0_gives_2 22 rfl rfl)
theorem dX0_gives_70 : decode cX0_gives 70 = .ok (.ifnonnull 7, 3) := dk_199 0 7 (dk_at dksX0_gives_3 0 rfl rfl)
theorem dX0_gives_73 : decode cX0_gives 73 = .ok (.iconst 0, 1) := dk_3 (dk_at dksX0_gives_3 3 rfl rfl)
theorem dX0_gives_74 : decode cX0_gives 74 = .ok (.goto 7, 3) := dk_167 0 7 (dk_at dksX0_gives_3 4 rfl rfl)
theorem dX0_gives_77 : decode cX0_gives 77 = .ok (.aload_n 2, 1) := dk_44 (dk_at dksX0_gives_3 7 rfl rfl)
theorem dX0_gives_78 : decode cX0_gives 78 = .ok (.getfield 294, 3) := dk_180 1 38 (dk_at dksX0_gives_3 8 rfl rfl)
theorem dX0_gives_81 : decode cX0_gives 81 = .ok (.iastore, 1) := dk_79 (dk_at dksX0_gives_3 11 rfl rfl)
theorem dX0_gives_82 : decode cX0_gives 82 = .ok (.aload_n 0, 1) := dk_42 (dk_at dksX0_gives_3 12 rfl rfl)
theorem dX0_gives_83 : decode cX0_gives 83 = .ok (.getfield 73, 3) := dk_180 0 73 (dk_at dksX0_gives_3 13 rfl rfl)
theorem dX0_gives_86 : decode cX0_gives 86 = .ok (.iconst 4, 1) := dk_7 (dk_at dksX0_gives_3 16 rfl rfl)
theorem dX0_gives_87 : decode cX0_gives 87 = .ok (.aload_n 2, 1) := dk_44 (dk_at dksX0_gives_3 17 rfl rfl)
theorem dX0_gives_88 : decode cX0_gives 88 = .ok (.ifnonnull 7, 3) := dk_199 0 7 (dk_at dksX0_gives_3 18 rfl rfl)
theorem dX0_gives_91 : decode cX0_gives 91 = .ok (.iconst 0, 1) := dk_3 (dk_at dksX0_gives_3 21 rfl rfl)
theorem dX0_gives_92 : decode cX0_gives 92 = .ok (.goto 7, 3) := dk_167 0 7 (dk_at dksX0_gives_4 0 rfl rfl)
theorem dX0_gives_95 : decode cX0_gives 95 = .ok (.aload_n 2, 1) := dk_44 (dk_at dksX0_gives_4 3 rfl rfl)
theorem dX0_gives_96 : decode cX0_gives 96 = .ok (.getfield 297, 3) := dk_180 1 41 (dk_at dksX0_gives_4 4 rfl rfl)
theorem dX0_gives_99 : decode cX0_gives 99 = .ok (.iastore, 1) := dk_79 (dk_at dksX0_gives_4 7 rfl rfl)
theorem dX0_gives_100 : decode cX0_gives 100 = .ok (.aload_n 0, 1) := dk_42 (dk_at dksX0_gives_4 8 rfl rfl)
theorem dX0_gives_101 : decode cX0_gives 101 = .ok (.getfield 73, 3) := dk_180 0 73 (dk_at dksX0_gives_4 9 rfl rfl)
theorem dX0_gives_104 : decode cX0_gives 104 = .ok (.iconst 5, 1) := dk_8 (dk_at dksX0_gives_4 12 rfl rfl)
theorem dX0_gives_105 : decode cX0_gives 105 = .ok (.aload_n 0, 1) := dk_42 (dk_at dksX0_gives_4 13 rfl rfl)
theorem dX0_gives_106 : decode cX0_gives 106 = .ok (.invokevirtual 434, 3) := dk_182 1 178 (dk_at dksX0_gives_4 14 rfl rfl)
theorem dX0_gives_109 : decode cX0_gives 109 = .ok (.iastore, 1) := dk_79 (dk_at dksX0_gives_4 17 rfl rfl)
theorem dX0_gives_110 : decode cX0_gives 110 = .ok (.aload_n 0, 1) := dk_42 (dk_at dksX0_gives_4 18 rfl rfl)
theorem dX0_gives_111 : decode cX0_gives 111 = .ok (.getfield 73, 3) := dk_180 0 73 (dk_at dksX0_gives_4 19 rfl rfl)
theorem dX0_gives_114 : decode cX0_gives 114 = .ok (.bipush 6, 2) := dk_16 6 (dk_at dksX0_gives_4 22 rfl rfl)
theorem dX0_gives_116 : decode cX0_gives 116 = .ok (.aload_n 0, 1) := dk_42 (dk_at dksX0_gives_5 0 rfl rfl)
theorem dX0_gives_117 : decode cX0_gives 117 = .ok (.getfield 437, 3) := dk_180 1 181 (dk_at dksX0_gives_5 1 rfl rfl)
theorem dX0_gives_120 : decode cX0_gives 120 = .ok (.iastore, 1) := dk_79 (dk_at dksX0_gives_5 4 rfl rfl)
theorem dX0_gives_121 : decode cX0_gives 121 = .ok (.aload_n 0, 1) := dk_42 (dk_at dksX0_gives_5 5 rfl rfl)
theorem dX0_gives_122 : decode cX0_gives 122 = .ok (.getfield 73, 3) := dk_180 0 73 (dk_at dksX0_gives_5 6 rfl rfl)
theorem dX0_gives_125 : decode cX0_gives 125 = .ok (.bipush 7, 2) := dk_16 7 (dk_at dksX0_gives_5 9 rfl rfl)
theorem dX0_gives_127 : decode cX0_gives 127 = .ok (.aload_n 0, 1) := dk_42 (dk_at dksX0_gives_5 11 rfl rfl)
theorem dX0_gives_128 : decode cX0_gives 128 = .ok (.invokevirtual 440, 3) := dk_182 1 184 (dk_at dksX0_gives_5 12 rfl rfl)
theorem dX0_gives_131 : decode cX0_gives 131 = .ok (.iastore, 1) := dk_79 (dk_at dksX0_gives_5 15 rfl rfl)
theorem dX0_gives_132 : decode cX0_gives 132 = .ok (.aload_n 0, 1) := dk_42 (dk_at dksX0_gives_5 16 rfl rfl)
theorem dX0_gives_133 : decode cX0_gives 133 = .ok (.getfield 90, 3) := dk_180 0 90 (dk_at dksX0_gives_5 17 rfl rfl)
theorem dX0_gives_136 : decode cX0_gives 136 = .ok (.iload 4, 2) := dk_21 4 (dk_at dksX0_gives_5 20 rfl rfl)
theorem dX0_gives_138 : decode cX0_gives 138 = .ok (.aaload, 1) := dk_50 (dk_at dksX0_gives_5 22 rfl rfl)
theorem dX0_gives_139 : decode cX0_gives 139 = .ok (.invokevirtual 443, 3) := dk_182 1 187 (dk_at dksX0_gives_6 0 rfl rfl)
theorem dX0_gives_142 : decode cX0_gives 142 = .ok (.ireturn, 1) := dk_172 (dk_at dksX0_gives_6 3 rfl rfl)
abbrev cX0_belowMany : ByteArray := prog_1_method_55_code
def yX0_belowMany : MethodName := ⟨RX0, "belowMany", "()I"⟩
def dkwX0_belowMany_1 : List UInt8 := [167, 0, 4, 3, 184, 1, 12, 96, 60, 132, 2, 1, 167, 255, 226, 27, 172]
abbrev dktX0_belowMany_1 : List UInt8 := dkwX0_belowMany_1 ++ []
def dkwX0_belowMany_0 : List UInt8 := [3, 60, 3, 61, 28, 42, 180, 0, 184, 162, 0, 28, 27, 42, 28, 182, 1, 175, 198, 0, 7, 4]
abbrev dktX0_belowMany_0 : List UInt8 := dkwX0_belowMany_0 ++ dktX0_belowMany_1
theorem dksX0_belowMany_0 : cX0_belowMany.data.toList.drop 0 = dktX0_belowMany_0 := by decide +kernel
theorem dksX0_belowMany_1 : cX0_belowMany.data.toList.drop 22 = dktX0_belowMany_1 := dk_seg dksX0_belowMany_0 22 rfl rfl
theorem dX0_belowMany_0 : decode cX0_belowMany 0 = .ok (.iconst 0, 1) := dk_3 (dk_at dksX0_belowMany_0 0 rfl rfl)
theorem dX0_belowMany_1 : decode cX0_belowMany 1 = .ok (.istore_n 1, 1) := dk_60 (dk_at dksX0_belowMany_0 1 rfl rfl)
theorem dX0_belowMany_2 : decode cX0_belowMany 2 = .ok (.iconst 0, 1) := dk_3 (dk_at dksX0_belowMany_0 2 rfl rfl)
theorem dX0_belowMany_3 : decode cX0_belowMany 3 = .ok (.istore_n 2, 1) := dk_61 (dk_at dksX0_belowMany_0 3 rfl rfl)
theorem dX0_belowMany_4 : decode cX0_belowMany 4 = .ok (.iload_n 2, 1) := dk_28 (dk_at dksX0_belowMany_0 4 rfl rfl)
theorem dX0_belowMany_5 : decode cX0_belowMany 5 = .ok (.aload_n 0, 1) := dk_42 (dk_at dksX0_belowMany_0 5 rfl rfl)
theorem dX0_belowMany_6 : decode cX0_belowMany 6 = .ok (.getfield 184, 3) := dk_180 0 184 (dk_at dksX0_belowMany_0 6 rfl rfl)
theorem dX0_belowMany_9 : decode cX0_belowMany 9 = .ok (.if_icmp .ge 28, 3) := dk_162 0 28 (dk_at dksX0_belowMany_0 9 rfl rfl)
theorem dX0_belowMany_12 : decode cX0_belowMany 12 = .ok (.iload_n 1, 1) := dk_27 (dk_at dksX0_belowMany_0 12 rfl rfl)
theorem dX0_belowMany_13 : decode cX0_belowMany 13 = .ok (.aload_n 0, 1) := dk_42 (dk_at dksX0_belowMany_0 13 rfl rfl)
theorem dX0_belowMany_14 : decode cX0_belowMany 14 = .ok (.iload_n 2, 1) := dk_28 (dk_at dksX0_belowMany_0 14 rfl rfl)
theorem dX0_belowMany_15 : decode cX0_belowMany 15 = .ok (.invokevirtual 431, 3) := dk_182 1 175 (dk_at dksX0_belowMany_0 15 rfl rfl)
theorem dX0_belowMany_18 : decode cX0_belowMany 18 = .ok (.ifnull 7, 3) := dk_198 0 7 (dk_at dksX0_belowMany_0 18 rfl rfl)
theorem dX0_belowMany_21 : decode cX0_belowMany 21 = .ok (.iconst 1, 1) := dk_4 (dk_at dksX0_belowMany_0 21 rfl rfl)
theorem dX0_belowMany_22 : decode cX0_belowMany 22 = .ok (.goto 4, 3) := dk_167 0 4 (dk_at dksX0_belowMany_1 0 rfl rfl)
theorem dX0_belowMany_25 : decode cX0_belowMany 25 = .ok (.iconst 0, 1) := dk_3 (dk_at dksX0_belowMany_1 3 rfl rfl)
theorem dX0_belowMany_26 : decode cX0_belowMany 26 = .ok (.invokestatic 268, 3) := dk_184 1 12 (dk_at dksX0_belowMany_1 4 rfl rfl)
theorem dX0_belowMany_29 : decode cX0_belowMany 29 = .ok (.iadd, 1) := dk_96 (dk_at dksX0_belowMany_1 7 rfl rfl)
theorem dX0_belowMany_30 : decode cX0_belowMany 30 = .ok (.istore_n 1, 1) := dk_60 (dk_at dksX0_belowMany_1 8 rfl rfl)
theorem dX0_belowMany_31 : decode cX0_belowMany 31 = .ok (.iinc 2 1, 3) := dk_132 2 1 (dk_at dksX0_belowMany_1 9 rfl rfl)
theorem dX0_belowMany_34 : decode cX0_belowMany 34 = .ok (.goto (-30), 3) := dk_167 255 226 (dk_at dksX0_belowMany_1 12 rfl rfl)
theorem dX0_belowMany_37 : decode cX0_belowMany 37 = .ok (.iload_n 1, 1) := dk_27 (dk_at dksX0_belowMany_1 15 rfl rfl)
theorem dX0_belowMany_38 : decode cX0_belowMany 38 = .ok (.ireturn, 1) := dk_172 (dk_at dksX0_belowMany_1 16 rfl rfl)
abbrev cX0_belowOf : ByteArray := prog_1_method_13_code
def yX0_belowOf : MethodName := ⟨RX0, "belowOf", "(I)LThirtyThreeBelow$Man;"⟩
def dkwX0_belowOf_1 : List UInt8 := [167, 0, 4, 1, 176]
abbrev dktX0_belowOf_1 : List UInt8 := dkwX0_belowOf_1 ++ []
def dkwX0_belowOf_0 : List UInt8 := [42, 27, 182, 0, 192, 198, 0, 22, 42, 27, 182, 0, 192, 180, 0, 196, 154, 0, 11, 42, 27, 182, 0, 192]
abbrev dktX0_belowOf_0 : List UInt8 := dkwX0_belowOf_0 ++ dktX0_belowOf_1
theorem dksX0_belowOf_0 : cX0_belowOf.data.toList.drop 0 = dktX0_belowOf_0 := by decide +kernel
theorem dksX0_belowOf_1 : cX0_belowOf.data.toList.drop 24 = dktX0_belowOf_1 := dk_seg dksX0_belowOf_0 24 rfl rfl
theorem dX0_belowOf_0 : decode cX0_belowOf 0 = .ok (.aload_n 0, 1) := dk_42 (dk_at dksX0_belowOf_0 0 rfl rfl)
theorem dX0_belowOf_1 : decode cX0_belowOf 1 = .ok (.iload_n 1, 1) := dk_27 (dk_at dksX0_belowOf_0 1 rfl rfl)
theorem dX0_belowOf_2 : decode cX0_belowOf 2 = .ok (.invokevirtual 192, 3) := dk_182 0 192 (dk_at dksX0_belowOf_0 2 rfl rfl)
theorem dX0_belowOf_5 : decode cX0_belowOf 5 = .ok (.ifnull 22, 3) := dk_198 0 22 (dk_at dksX0_belowOf_0 5 rfl rfl)
theorem dX0_belowOf_8 : decode cX0_belowOf 8 = .ok (.aload_n 0, 1) := dk_42 (dk_at dksX0_belowOf_0 8 rfl rfl)
theorem dX0_belowOf_9 : decode cX0_belowOf 9 = .ok (.iload_n 1, 1) := dk_27 (dk_at dksX0_belowOf_0 9 rfl rfl)
theorem dX0_belowOf_10 : decode cX0_belowOf 10 = .ok (.invokevirtual 192, 3) := dk_182 0 192 (dk_at dksX0_belowOf_0 10 rfl rfl)
theorem dX0_belowOf_13 : decode cX0_belowOf 13 = .ok (.getfield 196, 3) := dk_180 0 196 (dk_at dksX0_belowOf_0 13 rfl rfl)
theorem dX0_belowOf_16 : decode cX0_belowOf 16 = .ok (.ifCond .ne 11, 3) := dk_154 0 11 (dk_at dksX0_belowOf_0 16 rfl rfl)
theorem dX0_belowOf_19 : decode cX0_belowOf 19 = .ok (.aload_n 0, 1) := dk_42 (dk_at dksX0_belowOf_0 19 rfl rfl)
theorem dX0_belowOf_20 : decode cX0_belowOf 20 = .ok (.iload_n 1, 1) := dk_27 (dk_at dksX0_belowOf_0 20 rfl rfl)
theorem dX0_belowOf_21 : decode cX0_belowOf 21 = .ok (.invokevirtual 192, 3) := dk_182 0 192 (dk_at dksX0_belowOf_0 21 rfl rfl)
theorem dX0_belowOf_24 : decode cX0_belowOf 24 = .ok (.goto 4, 3) := dk_167 0 4 (dk_at dksX0_belowOf_1 0 rfl rfl)
theorem dX0_belowOf_27 : decode cX0_belowOf 27 = .ok (.aconst_null, 1) := dk_1 (dk_at dksX0_belowOf_1 3 rfl rfl)
theorem dX0_belowOf_28 : decode cX0_belowOf 28 = .ok (.areturn, 1) := dk_176 (dk_at dksX0_belowOf_1 4 rfl rfl)
abbrev cX0_throughMany : ByteArray := prog_1_method_56_code
def yX0_throughMany : MethodName := ⟨RX0, "throughMany", "()I"⟩
def dkwX0_throughMany_2 : List UInt8 := [167, 255, 215, 27, 172]
abbrev dktX0_throughMany_2 : List UInt8 := dkwX0_throughMany_2 ++ []
def dkwX0_throughMany_1 : List UInt8 := [182, 1, 27, 182, 1, 8, 153, 0, 7, 4, 167, 0, 4, 3, 184, 1, 12, 96, 60, 132, 2, 1]
abbrev dktX0_throughMany_1 : List UInt8 := dkwX0_throughMany_1 ++ dktX0_throughMany_2
def dkwX0_throughMany_0 : List UInt8 := [3, 60, 3, 61, 28, 42, 180, 0, 184, 162, 0, 39, 27, 42, 28, 182, 1, 27, 198, 0, 18, 42, 28]
abbrev dktX0_throughMany_0 : List UInt8 := dkwX0_throughMany_0 ++ dktX0_throughMany_1
theorem dksX0_throughMany_0 : cX0_throughMany.data.toList.drop 0 = dktX0_throughMany_0 := by decide +kernel
theorem dksX0_throughMany_1 : cX0_throughMany.data.toList.drop 23 = dktX0_throughMany_1 := dk_seg dksX0_throughMany_0 23 rfl rfl
theorem dksX0_throughMany_2 : cX0_throughMany.data.toList.drop 45 = dktX0_throughMany_2 := dk_seg dksX0_throughMany_1 22 rfl rfl
theorem dX0_throughMany_0 : decode cX0_throughMany 0 = .ok (.iconst 0, 1) := dk_3 (dk_at dksX0_throughMany_0 0 rfl rfl)
theorem dX0_throughMany_1 : decode cX0_throughMany 1 = .ok (.istore_n 1, 1) := dk_60 (dk_at dksX0_throughMany_0 1 rfl rfl)
theorem dX0_throughMany_2 : decode cX0_throughMany 2 = .ok (.iconst 0, 1) := dk_3 (dk_at dksX0_throughMany_0 2 rfl rfl)
theorem dX0_throughMany_3 : decode cX0_throughMany 3 = .ok (.istore_n 2, 1) := dk_61 (dk_at dksX0_throughMany_0 3 rfl rfl)
theorem dX0_throughMany_4 : decode cX0_throughMany 4 = .ok (.iload_n 2, 1) := dk_28 (dk_at dksX0_throughMany_0 4 rfl rfl)
theorem dX0_throughMany_5 : decode cX0_throughMany 5 = .ok (.aload_n 0, 1) := dk_42 (dk_at dksX0_throughMany_0 5 rfl rfl)
theorem dX0_throughMany_6 : decode cX0_throughMany 6 = .ok (.getfield 184, 3) := dk_180 0 184 (dk_at dksX0_throughMany_0 6 rfl rfl)
theorem dX0_throughMany_9 : decode cX0_throughMany 9 = .ok (.if_icmp .ge 39, 3) := dk_162 0 39 (dk_at dksX0_throughMany_0 9 rfl rfl)
theorem dX0_throughMany_12 : decode cX0_throughMany 12 = .ok (.iload_n 1, 1) := dk_27 (dk_at dksX0_throughMany_0 12 rfl rfl)
theorem dX0_throughMany_13 : decode cX0_throughMany 13 = .ok (.aload_n 0, 1) := dk_42 (dk_at dksX0_throughMany_0 13 rfl rfl)
theorem dX0_throughMany_14 : decode cX0_throughMany 14 = .ok (.iload_n 2, 1) := dk_28 (dk_at dksX0_throughMany_0 14 rfl rfl)
theorem dX0_throughMany_15 : decode cX0_throughMany 15 = .ok (.invokevirtual 283, 3) := dk_182 1 27 (dk_at dksX0_throughMany_0 15 rfl rfl)
theorem dX0_throughMany_18 : decode cX0_throughMany 18 = .ok (.ifnull 18, 3) := dk_198 0 18 (dk_at dksX0_throughMany_0 18 rfl rfl)
theorem dX0_throughMany_21 : decode cX0_throughMany 21 = .ok (.aload_n 0, 1) := dk_42 (dk_at dksX0_throughMany_0 21 rfl rfl)
theorem dX0_throughMany_22 : decode cX0_throughMany 22 = .ok (.iload_n 2, 1) := dk_28 (dk_at dksX0_throughMany_0 22 rfl rfl)
theorem dX0_throughMany_23 : decode cX0_throughMany 23 = .ok (.invokevirtual 283, 3) := dk_182 1 27 (dk_at dksX0_throughMany_1 0 rfl rfl)
theorem dX0_throughMany_26 : decode cX0_throughMany 26 = .ok (.invokevirtual 264, 3) := dk_182 1 8 (dk_at dksX0_throughMany_1 3 rfl rfl)
theorem dX0_throughMany_29 : decode cX0_throughMany 29 = .ok (.ifCond .eq 7, 3) := dk_153 0 7 (dk_at dksX0_throughMany_1 6 rfl rfl)
theorem dX0_throughMany_32 : decode cX0_throughMany 32 = .ok (.iconst 1, 1) := dk_4 (dk_at dksX0_throughMany_1 9 rfl rfl)
theorem dX0_throughMany_33 : decode cX0_throughMany 33 = .ok (.goto 4, 3) := dk_167 0 4 (dk_at dksX0_throughMany_1 10 rfl rfl)
theorem dX0_throughMany_36 : decode cX0_throughMany 36 = .ok (.iconst 0, 1) := dk_3 (dk_at dksX0_throughMany_1 13 rfl rfl)
theorem dX0_throughMany_37 : decode cX0_throughMany 37 = .ok (.invokestatic 268, 3) := dk_184 1 12 (dk_at dksX0_throughMany_1 14 rfl rfl)
theorem dX0_throughMany_40 : decode cX0_throughMany 40 = .ok (.iadd, 1) := dk_96 (dk_at dksX0_throughMany_1 17 rfl rfl)
theorem dX0_throughMany_41 : decode cX0_throughMany 41 = .ok (.istore_n 1, 1) := dk_60 (dk_at dksX0_throughMany_1 18 rfl rfl)
theorem dX0_throughMany_42 : decode cX0_throughMany 42 = .ok (.iinc 2 1, 3) := dk_132 2 1 (dk_at dksX0_throughMany_1 19 rfl rfl)
theorem dX0_throughMany_45 : decode cX0_throughMany 45 = .ok (.goto (-41), 3) := dk_167 255 215 (dk_at dksX0_throughMany_2 0 rfl rfl)
theorem dX0_throughMany_48 : decode cX0_throughMany 48 = .ok (.iload_n 1, 1) := dk_27 (dk_at dksX0_throughMany_2 3 rfl rfl)
theorem dX0_throughMany_49 : decode cX0_throughMany 49 = .ok (.ireturn, 1) := dk_172 (dk_at dksX0_throughMany_2 4 rfl rfl)
abbrev cX0_hours : ByteArray := prog_1_method_59_code
def yX0_hours : MethodName := ⟨RX0, "hours", "(I)I"⟩
def dkwX0_hours_4 : List UInt8 := [182, 1, 208, 132, 3, 1, 167, 255, 222, 132, 2, 1, 167, 255, 177, 42, 180, 1, 58, 172]
abbrev dktX0_hours_4 : List UInt8 := dkwX0_hours_4 ++ []
def dkwX0_hours_3 : List UInt8 := [162, 0, 32, 42, 180, 0, 97, 29, 46, 42, 180, 1, 58, 160, 0, 13, 42, 42, 180, 0, 94, 29, 46]
abbrev dktX0_hours_3 : List UInt8 := dkwX0_hours_3 ++ dktX0_hours_4
def dkwX0_hours_2 : List UInt8 := [182, 1, 199, 42, 180, 1, 58, 16, 24, 112, 154, 0, 7, 42, 182, 1, 202, 3, 62, 29, 42, 180, 1, 205]
abbrev dktX0_hours_2 : List UInt8 := dkwX0_hours_2 ++ dktX0_hours_3
def dkwX0_hours_1 : List UInt8 := [2, 172, 3, 61, 28, 27, 162, 0, 80, 42, 89, 180, 1, 58, 4, 96, 181, 1, 58, 42, 182, 1, 196, 42]
abbrev dktX0_hours_1 : List UInt8 := dkwX0_hours_1 ++ dktX0_hours_2
def dkwX0_hours_0 : List UInt8 := [27, 133, 10, 20, 1, 194, 184, 0, 167, 153, 0, 15, 42, 180, 1, 58, 27, 96, 17, 6, 163, 164, 0, 5]
abbrev dktX0_hours_0 : List UInt8 := dkwX0_hours_0 ++ dktX0_hours_1
theorem dksX0_hours_0 : cX0_hours.data.toList.drop 0 = dktX0_hours_0 := by decide +kernel
theorem dksX0_hours_1 : cX0_hours.data.toList.drop 24 = dktX0_hours_1 := dk_seg dksX0_hours_0 24 rfl rfl
theorem dksX0_hours_2 : cX0_hours.data.toList.drop 48 = dktX0_hours_2 := dk_seg dksX0_hours_1 24 rfl rfl
theorem dksX0_hours_3 : cX0_hours.data.toList.drop 72 = dktX0_hours_3 := dk_seg dksX0_hours_2 24 rfl rfl
theorem dksX0_hours_4 : cX0_hours.data.toList.drop 95 = dktX0_hours_4 := dk_seg dksX0_hours_3 23 rfl rfl
theorem dX0_hours_0 : decode cX0_hours 0 = .ok (.iload_n 1, 1) := dk_27 (dk_at dksX0_hours_0 0 rfl rfl)
theorem dX0_hours_1 : decode cX0_hours 1 = .ok (.i2l, 1) := dk_133 (dk_at dksX0_hours_0 1 rfl rfl)
theorem dX0_hours_2 : decode cX0_hours 2 = .ok (.lconst 1, 1) := dk_10 (dk_at dksX0_hours_0 2 rfl rfl)
theorem dX0_hours_3 : decode cX0_hours 3 = .ok (.ldc2_w 450, 3) := dk_20 1 194 (dk_at dksX0_hours_0 3 rfl rfl)
theorem dX0_hours_6 : decode cX0_hours 6 = .ok (.invokestatic 167, 3) := dk_184 0 167 (dk_at dksX0_hours_0 6 rfl rfl)
theorem dX0_hours_9 : decode cX0_hours 9 = .ok (.ifCond .eq 15, 3) := dk_153 0 15 (dk_at dksX0_hours_0 9 rfl rfl)
theorem dX0_hours_12 : decode cX0_hours 12 = .ok (.aload_n 0, 1) := dk_42 (dk_at dksX0_hours_0 12 rfl rfl)
theorem dX0_hours_13 : decode cX0_hours 13 = .ok (.getfield 314, 3) := dk_180 1 58 (dk_at dksX0_hours_0 13 rfl rfl)
theorem dX0_hours_16 : decode cX0_hours 16 = .ok (.iload_n 1, 1) := dk_27 (dk_at dksX0_hours_0 16 rfl rfl)
theorem dX0_hours_17 : decode cX0_hours 17 = .ok (.iadd, 1) := dk_96 (dk_at dksX0_hours_0 17 rfl rfl)
theorem dX0_hours_18 : decode cX0_hours 18 = .ok (.sipush 1699, 3) := dk_17 6 163 (dk_at dksX0_hours_0 18 rfl rfl)
theorem dX0_hours_21 : decode cX0_hours 21 = .ok (.if_icmp .le 5, 3) := dk_164 0 5 (dk_at dksX0_hours_0 21 rfl rfl)
theorem dX0_hours_24 : decode cX0_hours 24 = .ok (.iconst (-1), 1) := dk_2 (dk_at dksX0_hours_1 0 rfl rfl)
theorem dX0_hours_25 : decode cX0_hours 25 = .ok (.ireturn, 1) := dk_172 (dk_at dksX0_hours_1 1 rfl rfl)
theorem dX0_hours_26 : decode cX0_hours 26 = .ok (.iconst 0, 1) := dk_3 (dk_at dksX0_hours_1 2 rfl rfl)
theorem dX0_hours_27 : decode cX0_hours 27 = .ok (.istore_n 2, 1) := dk_61 (dk_at dksX0_hours_1 3 rfl rfl)
theorem dX0_hours_28 : decode cX0_hours 28 = .ok (.iload_n 2, 1) := dk_28 (dk_at dksX0_hours_1 4 rfl rfl)
theorem dX0_hours_29 : decode cX0_hours 29 = .ok (.iload_n 1, 1) := dk_27 (dk_at dksX0_hours_1 5 rfl rfl)
theorem dX0_hours_30 : decode cX0_hours 30 = .ok (.if_icmp .ge 80, 3) := dk_162 0 80 (dk_at dksX0_hours_1 6 rfl rfl)
theorem dX0_hours_33 : decode cX0_hours 33 = .ok (.aload_n 0, 1) := dk_42 (dk_at dksX0_hours_1 9 rfl rfl)
theorem dX0_hours_34 : decode cX0_hours 34 = .ok (.dup, 1) := dk_89 (dk_at dksX0_hours_1 10 rfl rfl)
theorem dX0_hours_35 : decode cX0_hours 35 = .ok (.getfield 314, 3) := dk_180 1 58 (dk_at dksX0_hours_1 11 rfl rfl)
theorem dX0_hours_38 : decode cX0_hours 38 = .ok (.iconst 1, 1) := dk_4 (dk_at dksX0_hours_1 14 rfl rfl)
theorem dX0_hours_39 : decode cX0_hours 39 = .ok (.iadd, 1) := dk_96 (dk_at dksX0_hours_1 15 rfl rfl)
theorem dX0_hours_40 : decode cX0_hours 40 = .ok (.putfield 314, 3) := dk_181 1 58 (dk_at dksX0_hours_1 16 rfl rfl)
theorem dX0_hours_43 : decode cX0_hours 43 = .ok (.aload_n 0, 1) := dk_42 (dk_at dksX0_hours_1 19 rfl rfl)
theorem dX0_hours_44 : decode cX0_hours 44 = .ok (.invokevirtual 452, 3) := dk_182 1 196 (dk_at dksX0_hours_1 20 rfl rfl)
theorem dX0_hours_47 : decode cX0_hours 47 = .ok (.aload_n 0, 1) := dk_42 (dk_at dksX0_hours_1 23 rfl rfl)
theorem dX0_hours_48 : decode cX0_hours 48 = .ok (.invokevirtual 455, 3) := dk_182 1 199 (dk_at dksX0_hours_2 0 rfl rfl)
theorem dX0_hours_51 : decode cX0_hours 51 = .ok (.aload_n 0, 1) := dk_42 (dk_at dksX0_hours_2 3 rfl rfl)
theorem dX0_hours_52 : decode cX0_hours 52 = .ok (.getfield 314, 3) := dk_180 1 58 (dk_at dksX0_hours_2 4 rfl rfl)
theorem dX0_hours_55 : decode cX0_hours 55 = .ok (.bipush 24, 2) := dk_16 24 (dk_at dksX0_hours_2 7 rfl rfl)
theorem dX0_hours_57 : decode cX0_hours 57 = .ok (.irem, 1) := dk_112 (dk_at dksX0_hours_2 9 rfl rfl)
theorem dX0_hours_58 : decode cX0_hours 58 = .ok (.ifCond .ne 7, 3) := dk_154 0 7 (dk_at dksX0_hours_2 10 rfl rfl)
theorem dX0_hours_61 : decode cX0_hours 61 = .ok (.aload_n 0, 1) := dk_42 (dk_at dksX0_hours_2 13 rfl rfl)
theorem dX0_hours_62 : decode cX0_hours 62 = .ok (.invokevirtual 458, 3) := dk_182 1 202 (dk_at dksX0_hours_2 14 rfl rfl)
theorem dX0_hours_65 : decode cX0_hours 65 = .ok (.iconst 0, 1) := dk_3 (dk_at dksX0_hours_2 17 rfl rfl)
theorem dX0_hours_66 : decode cX0_hours 66 = .ok (.istore_n 3, 1) := dk_62 (dk_at dksX0_hours_2 18 rfl rfl)
theorem dX0_hours_67 : decode cX0_hours 67 = .ok (.iload_n 3, 1) := dk_29 (dk_at dksX0_hours_2 19 rfl rfl)
theorem dX0_hours_68 : decode cX0_hours 68 = .ok (.aload_n 0, 1) := dk_42 (dk_at dksX0_hours_2 20 rfl rfl)
theorem dX0_hours_69 : decode cX0_hours 69 = .ok (.getfield 461, 3) := dk_180 1 205 (dk_at dksX0_hours_2 21 rfl rfl)
theorem dX0_hours_72 : decode cX0_hours 72 = .ok (.if_icmp .ge 32, 3) := dk_162 0 32 (dk_at dksX0_hours_3 0 rfl rfl)
theorem dX0_hours_75 : decode cX0_hours 75 = .ok (.aload_n 0, 1) := dk_42 (dk_at dksX0_hours_3 3 rfl rfl)
theorem dX0_hours_76 : decode cX0_hours 76 = .ok (.getfield 97, 3) := dk_180 0 97 (dk_at dksX0_hours_3 4 rfl rfl)
theorem dX0_hours_79 : decode cX0_hours 79 = .ok (.iload_n 3, 1) := dk_29 (dk_at dksX0_hours_3 7 rfl rfl)
theorem dX0_hours_80 : decode cX0_hours 80 = .ok (.iaload, 1) := dk_46 (dk_at dksX0_hours_3 8 rfl rfl)
theorem dX0_hours_81 : decode cX0_hours 81 = .ok (.aload_n 0, 1) := dk_42 (dk_at dksX0_hours_3 9 rfl rfl)
theorem dX0_hours_82 : decode cX0_hours 82 = .ok (.getfield 314, 3) := dk_180 1 58 (dk_at dksX0_hours_3 10 rfl rfl)
theorem dX0_hours_85 : decode cX0_hours 85 = .ok (.if_icmp .ne 13, 3) := dk_160 0 13 (dk_at dksX0_hours_3 13 rfl rfl)
theorem dX0_hours_88 : decode cX0_hours 88 = .ok (.aload_n 0, 1) := dk_42 (dk_at dksX0_hours_3 16 rfl rfl)
theorem dX0_hours_89 : decode cX0_hours 89 = .ok (.aload_n 0, 1) := dk_42 (dk_at dksX0_hours_3 17 rfl rfl)
theorem dX0_hours_90 : decode cX0_hours 90 = .ok (.getfield 94, 3) := dk_180 0 94 (dk_at dksX0_hours_3 18 rfl rfl)
theorem dX0_hours_93 : decode cX0_hours 93 = .ok (.iload_n 3, 1) := dk_29 (dk_at dksX0_hours_3 21 rfl rfl)
theorem dX0_hours_94 : decode cX0_hours 94 = .ok (.iaload, 1) := dk_46 (dk_at dksX0_hours_3 22 rfl rfl)
theorem dX0_hours_95 : decode cX0_hours 95 = .ok (.invokevirtual 464, 3) := dk_182 1 208 (dk_at dksX0_hours_4 0 rfl rfl)
theorem dX0_hours_98 : decode cX0_hours 98 = .ok (.iinc 3 1, 3) := dk_132 3 1 (dk_at dksX0_hours_4 3 rfl rfl)
theorem dX0_hours_101 : decode cX0_hours 101 = .ok (.goto (-34), 3) := dk_167 255 222 (dk_at dksX0_hours_4 6 rfl rfl)
theorem dX0_hours_104 : decode cX0_hours 104 = .ok (.iinc 2 1, 3) := dk_132 2 1 (dk_at dksX0_hours_4 9 rfl rfl)
theorem dX0_hours_107 : decode cX0_hours 107 = .ok (.goto (-79), 3) := dk_167 255 177 (dk_at dksX0_hours_4 12 rfl rfl)
theorem dX0_hours_110 : decode cX0_hours 110 = .ok (.aload_n 0, 1) := dk_42 (dk_at dksX0_hours_4 15 rfl rfl)
theorem dX0_hours_111 : decode cX0_hours 111 = .ok (.getfield 314, 3) := dk_180 1 58 (dk_at dksX0_hours_4 16 rfl rfl)
theorem dX0_hours_114 : decode cX0_hours 114 = .ok (.ireturn, 1) := dk_172 (dk_at dksX0_hours_4 19 rfl rfl)
abbrev cX0_drill : ByteArray := prog_1_method_60_code
def yX0_drill : MethodName := ⟨RX0, "drill", "()V"⟩
def dkwX0_drill_6 : List UInt8 := [167, 255, 209, 132, 1, 1, 167, 255, 193, 177]
abbrev dktX0_drill_6 : List UInt8 := dkwX0_drill_6 ++ []
def dkwX0_drill_5 : List UInt8 := [27, 50, 166, 0, 18, 42, 180, 0, 40, 28, 50, 42, 180, 0, 35, 28, 46, 182, 1, 212, 132, 2, 1]
abbrev dktX0_drill_5 : List UInt8 := dkwX0_drill_5 ++ dktX0_drill_6
def dkwX0_drill_4 : List UInt8 := [28, 6, 162, 0, 48, 42, 180, 0, 100, 28, 51, 153, 0, 33, 42, 180, 0, 40, 28, 50, 42, 180, 0, 28]
abbrev dktX0_drill_4 : List UInt8 := dkwX0_drill_4 ++ dktX0_drill_5
def dkwX0_drill_3 : List UInt8 := [16, 60, 96, 181, 1, 16, 132, 1, 1, 167, 255, 190, 3, 60, 27, 42, 180, 0, 184, 162, 0, 61, 3, 61]
abbrev dktX0_drill_3 : List UInt8 := dkwX0_drill_3 ++ dktX0_drill_4
def dkwX0_drill_2 : List UInt8 := [167, 0, 4, 3, 84, 42, 180, 0, 100, 27, 51, 153, 0, 19, 42, 180, 0, 40, 27, 50, 89, 180, 1, 16]
abbrev dktX0_drill_2 : List UInt8 := dkwX0_drill_2 ++ dktX0_drill_3
def dkwX0_drill_1 : List UInt8 := [180, 0, 40, 27, 50, 198, 0, 20, 42, 180, 0, 44, 27, 46, 42, 180, 1, 58, 162, 0, 7, 4]
abbrev dktX0_drill_1 : List UInt8 := dkwX0_drill_1 ++ dktX0_drill_2
def dkwX0_drill_0 : List UInt8 := [42, 5, 1, 3, 182, 1, 190, 153, 0, 4, 177, 3, 60, 27, 6, 162, 0, 67, 42, 180, 0, 100, 27, 42]
abbrev dktX0_drill_0 : List UInt8 := dkwX0_drill_0 ++ dktX0_drill_1
theorem dksX0_drill_0 : cX0_drill.data.toList.drop 0 = dktX0_drill_0 := by decide +kernel
theorem dksX0_drill_1 : cX0_drill.data.toList.drop 24 = dktX0_drill_1 := dk_seg dksX0_drill_0 24 rfl rfl
theorem dksX0_drill_2 : cX0_drill.data.toList.drop 46 = dktX0_drill_2 := dk_seg dksX0_drill_1 22 rfl rfl
theorem dksX0_drill_3 : cX0_drill.data.toList.drop 70 = dktX0_drill_3 := dk_seg dksX0_drill_2 24 rfl rfl
theorem dksX0_drill_4 : cX0_drill.data.toList.drop 94 = dktX0_drill_4 := dk_seg dksX0_drill_3 24 rfl rfl
theorem dksX0_drill_5 : cX0_drill.data.toList.drop 118 = dktX0_drill_5 := dk_seg dksX0_drill_4 24 rfl rfl
theorem dksX0_drill_6 : cX0_drill.data.toList.drop 141 = dktX0_drill_6 := dk_seg dksX0_drill_5 23 rfl rfl
theorem dX0_drill_0 : decode cX0_drill 0 = .ok (.aload_n 0, 1) := dk_42 (dk_at dksX0_drill_0 0 rfl rfl)
theorem dX0_drill_1 : decode cX0_drill 1 = .ok (.iconst 2, 1) := dk_5 (dk_at dksX0_drill_0 1 rfl rfl)
theorem dX0_drill_2 : decode cX0_drill 2 = .ok (.aconst_null, 1) := dk_1 (dk_at dksX0_drill_0 2 rfl rfl)
theorem dX0_drill_3 : decode cX0_drill 3 = .ok (.iconst 0, 1) := dk_3 (dk_at dksX0_drill_0 3 rfl rfl)
theorem dX0_drill_4 : decode cX0_drill 4 = .ok (.invokevirtual 446, 3) := dk_182 1 190 (dk_at dksX0_drill_0 4 rfl rfl)
theorem dX0_drill_7 : decode cX0_drill 7 = .ok (.ifCond .eq 4, 3) := dk_153 0 4 (dk_at dksX0_drill_0 7 rfl rfl)
theorem dX0_drill_10 : decode cX0_drill 10 = .ok (.return_, 1) := dk_177 (dk_at dksX0_drill_0 10 rfl rfl)
theorem dX0_drill_11 : decode cX0_drill 11 = .ok (.iconst 0, 1) := dk_3 (dk_at dksX0_drill_0 11 rfl rfl)
theorem dX0_drill_12 : decode cX0_drill 12 = .ok (.istore_n 1, 1) := dk_60 (dk_at dksX0_drill_0 12 rfl rfl)
theorem dX0_drill_13 : decode cX0_drill 13 = .ok (.iload_n 1, 1) := dk_27 (dk_at dksX0_drill_0 13 rfl rfl)
theorem dX0_drill_14 : decode cX0_drill 14 = .ok (.iconst 3, 1) := dk_6 (dk_at dksX0_drill_0 14 rfl rfl)
theorem dX0_drill_15 : decode cX0_drill 15 = .ok (.if_icmp .ge 67, 3) := dk_162 0 67 (dk_at dksX0_drill_0 15 rfl rfl)
theorem dX0_drill_18 : decode cX0_drill 18 = .ok (.aload_n 0, 1) := dk_42 (dk_at dksX0_drill_0 18 rfl rfl)
theorem dX0_drill_19 : decode cX0_drill 19 = .ok (.getfield 100, 3) := dk_180 0 100 (dk_at dksX0_drill_0 19 rfl rfl)
theorem dX0_drill_22 : decode cX0_drill 22 = .ok (.iload_n 1, 1) := dk_27 (dk_at dksX0_drill_0 22 rfl rfl)
theorem dX0_drill_23 : decode cX0_drill 23 = .ok (.aload_n 0, 1) := dk_42 (dk_at dksX0_drill_0 23 rfl rfl)
theorem dX0_drill_24 : decode cX0_drill 24 = .ok (.getfield 40, 3) := dk_180 0 40 (dk_at dksX0_drill_1 0 rfl rfl)
theorem dX0_drill_27 : decode cX0_drill 27 = .ok (.iload_n 1, 1) := dk_27 (dk_at dksX0_drill_1 3 rfl rfl)
theorem dX0_drill_28 : decode cX0_drill 28 = .ok (.aaload, 1) := dk_50 (dk_at dksX0_drill_1 4 rfl rfl)
theorem dX0_drill_29 : decode cX0_drill 29 = .ok (.ifnull 20, 3) := dk_198 0 20 (dk_at dksX0_drill_1 5 rfl rfl)
theorem dX0_drill_32 : decode cX0_drill 32 = .ok (.aload_n 0, 1) := dk_42 (dk_at dksX0_drill_1 8 rfl rfl)
theorem dX0_drill_33 : decode cX0_drill 33 = .ok (.getfield 44, 3) := dk_180 0 44 (dk_at dksX0_drill_1 9 rfl rfl)
theorem dX0_drill_36 : decode cX0_drill 36 = .ok (.iload_n 1, 1) := dk_27 (dk_at dksX0_drill_1 12 rfl rfl)
theorem dX0_drill_37 : decode cX0_drill 37 = .ok (.iaload, 1) := dk_46 (dk_at dksX0_drill_1 13 rfl rfl)
theorem dX0_drill_38 : decode cX0_drill 38 = .ok (.aload_n 0, 1) := dk_42 (dk_at dksX0_drill_1 14 rfl rfl)
theorem dX0_drill_39 : decode cX0_drill 39 = .ok (.getfield 314, 3) := dk_180 1 58 (dk_at dksX0_drill_1 15 rfl rfl)
theorem dX0_drill_42 : decode cX0_drill 42 = .ok (.if_icmp .ge 7, 3) := dk_162 0 7 (dk_at dksX0_drill_1 18 rfl rfl)
theorem dX0_drill_45 : decode cX0_drill 45 = .ok (.iconst 1, 1) := dk_4 (dk_at dksX0_drill_1 21 rfl rfl)
theorem dX0_drill_46 : decode cX0_drill 46 = .ok (.goto 4, 3) := dk_167 0 4 (dk_at dksX0_drill_2 0 rfl rfl)
theorem dX0_drill_49 : decode cX0_drill 49 = .ok (.iconst 0, 1) := dk_3 (dk_at dksX0_drill_2 3 rfl rfl)
theorem dX0_drill_50 : decode cX0_drill 50 = .ok (.bastore, 1) := dk_84 (dk_at dksX0_drill_2 4 rfl rfl)
theorem dX0_drill_51 : decode cX0_drill 51 = .ok (.aload_n 0, 1) := dk_42 (dk_at dksX0_drill_2 5 rfl rfl)
theorem dX0_drill_52 : decode cX0_drill 52 = .ok (.getfield 100, 3) := dk_180 0 100 (dk_at dksX0_drill_2 6 rfl rfl)
theorem dX0_drill_55 : decode cX0_drill 55 = .ok (.iload_n 1, 1) := dk_27 (dk_at dksX0_drill_2 9 rfl rfl)
theorem dX0_drill_56 : decode cX0_drill 56 = .ok (.baload, 1) := dk_51 (dk_at dksX0_drill_2 10 rfl rfl)
theorem dX0_drill_57 : decode cX0_drill 57 = .ok (.ifCond .eq 19, 3) := dk_153 0 19 (dk_at dksX0_drill_2 11 rfl rfl)
theorem dX0_drill_60 : decode cX0_drill 60 = .ok (.aload_n 0, 1) := dk_42 (dk_at dksX0_drill_2 14 rfl rfl)
theorem dX0_drill_61 : decode cX0_drill 61 = .ok (.getfield 40, 3) := dk_180 0 40 (dk_at dksX0_drill_2 15 rfl rfl)
theorem dX0_drill_64 : decode cX0_drill 64 = .ok (.iload_n 1, 1) := dk_27 (dk_at dksX0_drill_2 18 rfl rfl)
theorem dX0_drill_65 : decode cX0_drill 65 = .ok (.aaload, 1) := dk_50 (dk_at dksX0_drill_2 19 rfl rfl)
theorem dX0_drill_66 : decode cX0_drill 66 = .ok (.dup, 1) := dk_89 (dk_at dksX0_drill_2 20 rfl rfl)
theorem dX0_drill_67 : decode cX0_drill 67 = .ok (.getfield 272, 3) := dk_180 1 16 (dk_at dksX0_drill_2 21 rfl rfl)
theorem dX0_drill_70 : decode cX0_drill 70 = .ok (.bipush 60, 2) := dk_16 60 (dk_at dksX0_drill_3 0 rfl rfl)
theorem dX0_drill_72 : decode cX0_drill 72 = .ok (.iadd, 1) := dk_96 (dk_at dksX0_drill_3 2 rfl rfl)
theorem dX0_drill_73 : decode cX0_drill 73 = .ok (.putfield 272, 3) := dk_181 1 16 (dk_at dksX0_drill_3 3 rfl rfl)
theorem dX0_drill_76 : decode cX0_drill 76 = .ok (.iinc 1 1, 3) := dk_132 1 1 (dk_at dksX0_drill_3 6 rfl rfl)
theorem dX0_drill_79 : decode cX0_drill 79 = .ok (.goto (-66), 3) := dk_167 255 190 (dk_at dksX0_drill_3 9 rfl rfl)
theorem dX0_drill_82 : decode cX0_drill 82 = .ok (.iconst 0, 1) := dk_3 (dk_at dksX0_drill_3 12 rfl rfl)
theorem dX0_drill_83 : decode cX0_drill 83 = .ok (.istore_n 1, 1) := dk_60 (dk_at dksX0_drill_3 13 rfl rfl)
theorem dX0_drill_84 : decode cX0_drill 84 = .ok (.iload_n 1, 1) := dk_27 (dk_at dksX0_drill_3 14 rfl rfl)
theorem dX0_drill_85 : decode cX0_drill 85 = .ok (.aload_n 0, 1) := dk_42 (dk_at dksX0_drill_3 15 rfl rfl)
theorem dX0_drill_86 : decode cX0_drill 86 = .ok (.getfield 184, 3) := dk_180 0 184 (dk_at dksX0_drill_3 16 rfl rfl)
theorem dX0_drill_89 : decode cX0_drill 89 = .ok (.if_icmp .ge 61, 3) := dk_162 0 61 (dk_at dksX0_drill_3 19 rfl rfl)
theorem dX0_drill_92 : decode cX0_drill 92 = .ok (.iconst 0, 1) := dk_3 (dk_at dksX0_drill_3 22 rfl rfl)
theorem dX0_drill_93 : decode cX0_drill 93 = .ok (.istore_n 2, 1) := dk_61 (dk_at dksX0_drill_3 23 rfl rfl)
theorem dX0_drill_94 : decode cX0_drill 94 = .ok (.iload_n 2, 1) := dk_28 (dk_at dksX0_drill_4 0 rfl rfl)
theorem dX0_drill_95 : decode cX0_drill 95 = .ok (.iconst 3, 1) := dk_6 (dk_at dksX0_drill_4 1 rfl rfl)
theorem dX0_drill_96 : decode cX0_drill 96 = .ok (.if_icmp .ge 48, 3) := dk_162 0 48 (dk_at dksX0_drill_4 2 rfl rfl)
theorem dX0_drill_99 : decode cX0_drill 99 = .ok (.aload_n 0, 1) := dk_42 (dk_at dksX0_drill_4 5 rfl rfl)
theorem dX0_drill_100 : decode cX0_drill 100 = .ok (.getfield 100, 3) := dk_180 0 100 (dk_at dksX0_drill_4 6 rfl rfl)
theorem dX0_drill_103 : decode cX0_drill 103 = .ok (.iload_n 2, 1) := dk_28 (dk_at dksX0_drill_4 9 rfl rfl)
theorem dX0_drill_104 : decode cX0_drill 104 = .ok (.baload, 1) := dk_51 (dk_at dksX0_drill_4 10 rfl rfl)
theorem dX0_drill_105 : decode cX0_drill 105 = .ok (.ifCond .eq 33, 3) := dk_153 0 33 (dk_at dksX0_drill_4 11 rfl rfl)
theorem dX0_drill_108 : decode cX0_drill 108 = .ok (.aload_n 0, 1) := dk_42 (dk_at dksX0_drill_4 14 rfl rfl)
theorem dX0_drill_109 : decode cX0_drill 109 = .ok (.getfield 40, 3) := dk_180 0 40 (dk_at dksX0_drill_4 15 rfl rfl)
theorem dX0_drill_112 : decode cX0_drill 112 = .ok (.iload_n 2, 1) := dk_28 (dk_at dksX0_drill_4 18 rfl rfl)
theorem dX0_drill_113 : decode cX0_drill 113 = .ok (.aaload, 1) := dk_50 (dk_at dksX0_drill_4 19 rfl rfl)
theorem dX0_drill_114 : decode cX0_drill 114 = .ok (.aload_n 0, 1) := dk_42 (dk_at dksX0_drill_4 20 rfl rfl)
theorem dX0_drill_115 : decode cX0_drill 115 = .ok (.getfield 28, 3) := dk_180 0 28 (dk_at dksX0_drill_4 21 rfl rfl)
theorem dX0_drill_118 : decode cX0_drill 118 = .ok (.iload_n 1, 1) := dk_27 (dk_at dksX0_drill_5 0 rfl rfl)
theorem dX0_drill_119 : decode cX0_drill 119 = .ok (.aaload, 1) := dk_50 (dk_at dksX0_drill_5 1 rfl rfl)
theorem dX0_drill_120 : decode cX0_drill 120 = .ok (.if_acmp .ne 18, 3) := dk_166 0 18 (dk_at dksX0_drill_5 2 rfl rfl)
theorem dX0_drill_123 : decode cX0_drill 123 = .ok (.aload_n 0, 1) := dk_42 (dk_at dksX0_drill_5 5 rfl rfl)
theorem dX0_drill_124 : decode cX0_drill 124 = .ok (.getfield 40, 3) := dk_180 0 40 (dk_at dksX0_drill_5 6 rfl rfl)
theorem dX0_drill_127 : decode cX0_drill 127 = .ok (.iload_n 2, 1) := dk_28 (dk_at dksX0_drill_5 9 rfl rfl)
theorem dX0_drill_128 : decode cX0_drill 128 = .ok (.aaload, 1) := dk_50 (dk_at dksX0_drill_5 10 rfl rfl)
theorem dX0_drill_129 : decode cX0_drill 129 = .ok (.aload_n 0, 1) := dk_42 (dk_at dksX0_drill_5 11 rfl rfl)
theorem dX0_drill_130 : decode cX0_drill 130 = .ok (.getfield 35, 3) := dk_180 0 35 (dk_at dksX0_drill_5 12 rfl rfl)
theorem dX0_drill_133 : decode cX0_drill 133 = .ok (.iload_n 2, 1) := dk_28 (dk_at dksX0_drill_5 15 rfl rfl)
theorem dX0_drill_134 : decode cX0_drill 134 = .ok (.iaload, 1) := dk_46 (dk_at dksX0_drill_5 16 rfl rfl)
theorem dX0_drill_135 : decode cX0_drill 135 = .ok (.invokevirtual 468, 3) := dk_182 1 212 (dk_at dksX0_drill_5 17 rfl rfl)
theorem dX0_drill_138 : decode cX0_drill 138 = .ok (.iinc 2 1, 3) := dk_132 2 1 (dk_at dksX0_drill_5 20 rfl rfl)
theorem dX0_drill_141 : decode cX0_drill 141 = .ok (.goto (-47), 3) := dk_167 255 209 (dk_at dksX0_drill_6 0 rfl rfl)
theorem dX0_drill_144 : decode cX0_drill 144 = .ok (.iinc 1 1, 3) := dk_132 1 1 (dk_at dksX0_drill_6 3 rfl rfl)
theorem dX0_drill_147 : decode cX0_drill 147 = .ok (.goto (-63), 3) := dk_167 255 193 (dk_at dksX0_drill_6 6 rfl rfl)
theorem dX0_drill_150 : decode cX0_drill 150 = .ok (.return_, 1) := dk_177 (dk_at dksX0_drill_6 9 rfl rfl)
abbrev cX0_isShelterAt : ByteArray := prog_1_method_14_code
def yX0_isShelterAt : MethodName := ⟨RX0, "isShelterAt", "(II)Z"⟩
def dkwX0_isShelterAt_1 : List UInt8 := [180, 0, 209, 133, 42, 180, 0, 200, 180, 0, 212, 133, 184, 0, 167, 153, 0, 7, 4, 167, 0, 4, 3, 172]
abbrev dktX0_isShelterAt_1 : List UInt8 := dkwX0_isShelterAt_1 ++ []
def dkwX0_isShelterAt_0 : List UInt8 := [42, 180, 0, 200, 198, 0, 42, 42, 180, 0, 200, 180, 0, 204, 28, 160, 0, 31, 27, 133, 42, 180, 0, 200]
abbrev dktX0_isShelterAt_0 : List UInt8 := dkwX0_isShelterAt_0 ++ dktX0_isShelterAt_1
theorem dksX0_isShelterAt_0 : cX0_isShelterAt.data.toList.drop 0 = dktX0_isShelterAt_0 := by decide +kernel
theorem dksX0_isShelterAt_1 : cX0_isShelterAt.data.toList.drop 24 = dktX0_isShelterAt_1 := dk_seg dksX0_isShelterAt_0 24 rfl rfl
theorem dX0_isShelterAt_0 : decode cX0_isShelterAt 0 = .ok (.aload_n 0, 1) := dk_42 (dk_at dksX0_isShelterAt_0 0 rfl rfl)
theorem dX0_isShelterAt_1 : decode cX0_isShelterAt 1 = .ok (.getfield 200, 3) := dk_180 0 200 (dk_at dksX0_isShelterAt_0 1 rfl rfl)
theorem dX0_isShelterAt_4 : decode cX0_isShelterAt 4 = .ok (.ifnull 42, 3) := dk_198 0 42 (dk_at dksX0_isShelterAt_0 4 rfl rfl)
theorem dX0_isShelterAt_7 : decode cX0_isShelterAt 7 = .ok (.aload_n 0, 1) := dk_42 (dk_at dksX0_isShelterAt_0 7 rfl rfl)
theorem dX0_isShelterAt_8 : decode cX0_isShelterAt 8 = .ok (.getfield 200, 3) := dk_180 0 200 (dk_at dksX0_isShelterAt_0 8 rfl rfl)
theorem dX0_isShelterAt_11 : decode cX0_isShelterAt 11 = .ok (.getfield 204, 3) := dk_180 0 204 (dk_at dksX0_isShelterAt_0 11 rfl rfl)
theorem dX0_isShelterAt_14 : decode cX0_isShelterAt 14 = .ok (.iload_n 2, 1) := dk_28 (dk_at dksX0_isShelterAt_0 14 rfl rfl)
theorem dX0_isShelterAt_15 : decode cX0_isShelterAt 15 = .ok (.if_icmp .ne 31, 3) := dk_160 0 31 (dk_at dksX0_isShelterAt_0 15 rfl rfl)
theorem dX0_isShelterAt_18 : decode cX0_isShelterAt 18 = .ok (.iload_n 1, 1) := dk_27 (dk_at dksX0_isShelterAt_0 18 rfl rfl)
theorem dX0_isShelterAt_19 : decode cX0_isShelterAt 19 = .ok (.i2l, 1) := dk_133 (dk_at dksX0_isShelterAt_0 19 rfl rfl)
theorem dX0_isShelterAt_20 : decode cX0_isShelterAt 20 = .ok (.aload_n 0, 1) := dk_42 (dk_at dksX0_isShelterAt_0 20 rfl rfl)
theorem dX0_isShelterAt_21 : decode cX0_isShelterAt 21 = .ok (.getfield 200, 3) := dk_180 0 200 (dk_at dksX0_isShelterAt_0 21 rfl rfl)
theorem dX0_isShelterAt_24 : decode cX0_isShelterAt 24 = .ok (.getfield 209, 3) := dk_180 0 209 (dk_at dksX0_isShelterAt_1 0 rfl rfl)
theorem dX0_isShelterAt_27 : decode cX0_isShelterAt 27 = .ok (.i2l, 1) := dk_133 (dk_at dksX0_isShelterAt_1 3 rfl rfl)
theorem dX0_isShelterAt_28 : decode cX0_isShelterAt 28 = .ok (.aload_n 0, 1) := dk_42 (dk_at dksX0_isShelterAt_1 4 rfl rfl)
theorem dX0_isShelterAt_29 : decode cX0_isShelterAt 29 = .ok (.getfield 200, 3) := dk_180 0 200 (dk_at dksX0_isShelterAt_1 5 rfl rfl)
theorem dX0_isShelterAt_32 : decode cX0_isShelterAt 32 = .ok (.getfield 212, 3) := dk_180 0 212 (dk_at dksX0_isShelterAt_1 8 rfl rfl)
theorem dX0_isShelterAt_35 : decode cX0_isShelterAt 35 = .ok (.i2l, 1) := dk_133 (dk_at dksX0_isShelterAt_1 11 rfl rfl)
theorem dX0_isShelterAt_36 : decode cX0_isShelterAt 36 = .ok (.invokestatic 167, 3) := dk_184 0 167 (dk_at dksX0_isShelterAt_1 12 rfl rfl)
theorem dX0_isShelterAt_39 : decode cX0_isShelterAt 39 = .ok (.ifCond .eq 7, 3) := dk_153 0 7 (dk_at dksX0_isShelterAt_1 15 rfl rfl)
theorem dX0_isShelterAt_42 : decode cX0_isShelterAt 42 = .ok (.iconst 1, 1) := dk_4 (dk_at dksX0_isShelterAt_1 18 rfl rfl)
theorem dX0_isShelterAt_43 : decode cX0_isShelterAt 43 = .ok (.goto 4, 3) := dk_167 0 4 (dk_at dksX0_isShelterAt_1 19 rfl rfl)
theorem dX0_isShelterAt_46 : decode cX0_isShelterAt 46 = .ok (.iconst 0, 1) := dk_3 (dk_at dksX0_isShelterAt_1 22 rfl rfl)
theorem dX0_isShelterAt_47 : decode cX0_isShelterAt 47 = .ok (.ireturn, 1) := dk_172 (dk_at dksX0_isShelterAt_1 23 rfl rfl)
abbrev cX0_arrive : ByteArray := prog_1_method_69_code
def yX0_arrive : MethodName := ⟨RX0, "arrive", "()V"⟩
def dkwX0_arrive_5 : List UInt8 := [181, 1, 231, 177]
abbrev dktX0_arrive_5 : List UInt8 := dkwX0_arrive_5 ++ []
def dkwX0_arrive_4 : List UInt8 := [180, 0, 109, 27, 132, 1, 1, 42, 180, 0, 109, 28, 46, 79, 132, 2, 1, 167, 255, 151, 42, 27]
abbrev dktX0_arrive_4 : List UInt8 := dkwX0_arrive_4 ++ dktX0_arrive_5
def dkwX0_arrive_3 : List UInt8 := [100, 92, 46, 4, 96, 79, 167, 0, 30, 42, 180, 0, 106, 27, 42, 180, 0, 106, 28, 46, 79, 42]
abbrev dktX0_arrive_3 : List UInt8 := dkwX0_arrive_3 ++ dktX0_arrive_4
def dkwX0_arrive_2 : List UInt8 := [28, 46, 16, 10, 108, 96, 181, 1, 181, 167, 0, 51, 42, 180, 0, 112, 42, 180, 0, 106, 28, 46, 16, 10]
abbrev dktX0_arrive_2 : List UInt8 := dkwX0_arrive_2 ++ dktX0_arrive_3
def dkwX0_arrive_1 : List UInt8 := [160, 0, 57, 42, 180, 0, 106, 28, 46, 16, 10, 112, 154, 0, 24, 42, 89, 180, 1, 181, 42, 180, 0, 106]
abbrev dktX0_arrive_1 : List UInt8 := dkwX0_arrive_1 ++ dktX0_arrive_2
def dkwX0_arrive_0 : List UInt8 := [3, 60, 3, 61, 28, 42, 180, 1, 231, 162, 0, 103, 42, 180, 0, 109, 28, 46, 42, 180, 1, 58]
abbrev dktX0_arrive_0 : List UInt8 := dkwX0_arrive_0 ++ dktX0_arrive_1
theorem dksX0_arrive_0 : cX0_arrive.data.toList.drop 0 = dktX0_arrive_0 := by decide +kernel
theorem dksX0_arrive_1 : cX0_arrive.data.toList.drop 22 = dktX0_arrive_1 := dk_seg dksX0_arrive_0 22 rfl rfl
theorem dksX0_arrive_2 : cX0_arrive.data.toList.drop 46 = dktX0_arrive_2 := dk_seg dksX0_arrive_1 24 rfl rfl
theorem dksX0_arrive_3 : cX0_arrive.data.toList.drop 70 = dktX0_arrive_3 := dk_seg dksX0_arrive_2 24 rfl rfl
theorem dksX0_arrive_4 : cX0_arrive.data.toList.drop 92 = dktX0_arrive_4 := dk_seg dksX0_arrive_3 22 rfl rfl
theorem dksX0_arrive_5 : cX0_arrive.data.toList.drop 114 = dktX0_arrive_5 := dk_seg dksX0_arrive_4 22 rfl rfl
theorem dX0_arrive_0 : decode cX0_arrive 0 = .ok (.iconst 0, 1) := dk_3 (dk_at dksX0_arrive_0 0 rfl rfl)
theorem dX0_arrive_1 : decode cX0_arrive 1 = .ok (.istore_n 1, 1) := dk_60 (dk_at dksX0_arrive_0 1 rfl rfl)
theorem dX0_arrive_2 : decode cX0_arrive 2 = .ok (.iconst 0, 1) := dk_3 (dk_at dksX0_arrive_0 2 rfl rfl)
theorem dX0_arrive_3 : decode cX0_arrive 3 = .ok (.istore_n 2, 1) := dk_61 (dk_at dksX0_arrive_0 3 rfl rfl)
theorem dX0_arrive_4 : decode cX0_arrive 4 = .ok (.iload_n 2, 1) := dk_28 (dk_at dksX0_arrive_0 4 rfl rfl)
theorem dX0_arrive_5 : decode cX0_arrive 5 = .ok (.aload_n 0, 1) := dk_42 (dk_at dksX0_arrive_0 5 rfl rfl)
theorem dX0_arrive_6 : decode cX0_arrive 6 = .ok (.getfield 487, 3) := dk_180 1 231 (dk_at dksX0_arrive_0 6 rfl rfl)
theorem dX0_arrive_9 : decode cX0_arrive 9 = .ok (.if_icmp .ge 103, 3) := dk_162 0 103 (dk_at dksX0_arrive_0 9 rfl rfl)
theorem dX0_arrive_12 : decode cX0_arrive 12 = .ok (.aload_n 0, 1) := dk_42 (dk_at dksX0_arrive_0 12 rfl rfl)
theorem dX0_arrive_13 : decode cX0_arrive 13 = .ok (.getfield 109, 3) := dk_180 0 109 (dk_at dksX0_arrive_0 13 rfl rfl)
theorem dX0_arrive_16 : decode cX0_arrive 16 = .ok (.iload_n 2, 1) := dk_28 (dk_at dksX0_arrive_0 16 rfl rfl)
theorem dX0_arrive_17 : decode cX0_arrive 17 = .ok (.iaload, 1) := dk_46 (dk_at dksX0_arrive_0 17 rfl rfl)
theorem dX0_arrive_18 : decode cX0_arrive 18 = .ok (.aload_n 0, 1) := dk_42 (dk_at dksX0_arrive_0 18 rfl rfl)
theorem dX0_arrive_19 : decode cX0_arrive 19 = .ok (.getfield 314, 3) := dk_180 1 58 (dk_at dksX0_arrive_0 19 rfl rfl)
theorem dX0_arrive_22 : decode cX0_arrive 22 = .ok (.if_icmp .ne 57, 3) := dk_160 0 57 (dk_at dksX0_arrive_1 0 rfl rfl)
theorem dX0_arrive_25 : decode cX0_arrive 25 = .ok (.aload_n 0, 1) := dk_42 (dk_at dksX0_arrive_1 3 rfl rfl)
theorem dX0_arrive_26 : decode cX0_arrive 26 = .ok (.getfield 106, 3) := dk_180 0 106 (dk_at dksX0_arrive_1 4 rfl rfl)
theorem dX0_arrive_29 : decode cX0_arrive 29 = .ok (.iload_n 2, 1) := dk_28 (dk_at dksX0_arrive_1 7 rfl rfl)
theorem dX0_arrive_30 : decode cX0_arrive 30 = .ok (.iaload, 1) := dk_46 (dk_at dksX0_arrive_1 8 rfl rfl)
theorem dX0_arrive_31 : decode cX0_arrive 31 = .ok (.bipush 10, 2) := dk_16 10 (dk_at dksX0_arrive_1 9 rfl rfl)
theorem dX0_arrive_33 : decode cX0_arrive 33 = .ok (.irem, 1) := dk_112 (dk_at dksX0_arrive_1 11 rfl rfl)
theorem dX0_arrive_34 : decode cX0_arrive 34 = .ok (.ifCond .ne 24, 3) := dk_154 0 24 (dk_at dksX0_arrive_1 12 rfl rfl)
theorem dX0_arrive_37 : decode cX0_arrive 37 = .ok (.aload_n 0, 1) := dk_42 (dk_at dksX0_arrive_1 15 rfl rfl)
theorem dX0_arrive_38 : decode cX0_arrive 38 = .ok (.dup, 1) := dk_89 (dk_at dksX0_arrive_1 16 rfl rfl)
theorem dX0_arrive_39 : decode cX0_arrive 39 = .ok (.getfield 437, 3) := dk_180 1 181 (dk_at dksX0_arrive_1 17 rfl rfl)
theorem dX0_arrive_42 : decode cX0_arrive 42 = .ok (.aload_n 0, 1) := dk_42 (dk_at dksX0_arrive_1 20 rfl rfl)
theorem dX0_arrive_43 : decode cX0_arrive 43 = .ok (.getfield 106, 3) := dk_180 0 106 (dk_at dksX0_arrive_1 21 rfl rfl)
theorem dX0_arrive_46 : decode cX0_arrive 46 = .ok (.iload_n 2, 1) := dk_28 (dk_at dksX0_arrive_2 0 rfl rfl)
theorem dX0_arrive_47 : decode cX0_arrive 47 = .ok (.iaload, 1) := dk_46 (dk_at dksX0_arrive_2 1 rfl rfl)
theorem dX0_arrive_48 : decode cX0_arrive 48 = .ok (.bipush 10, 2) := dk_16 10 (dk_at dksX0_arrive_2 2 rfl rfl)
theorem dX0_arrive_50 : decode cX0_arrive 50 = .ok (.idiv, 1) := dk_108 (dk_at dksX0_arrive_2 4 rfl rfl)
theorem dX0_arrive_51 : decode cX0_arrive 51 = .ok (.iadd, 1) := dk_96 (dk_at dksX0_arrive_2 5 rfl rfl)
theorem dX0_arrive_52 : decode cX0_arrive 52 = .ok (.putfield 437, 3) := dk_181 1 181 (dk_at dksX0_arrive_2 6 rfl rfl)
theorem dX0_arrive_55 : decode cX0_arrive 55 = .ok (.goto 51, 3) := dk_167 0 51 (dk_at dksX0_arrive_2 9 rfl rfl)
theorem dX0_arrive_58 : decode cX0_arrive 58 = .ok (.aload_n 0, 1) := dk_42 (dk_at dksX0_arrive_2 12 rfl rfl)
theorem dX0_arrive_59 : decode cX0_arrive 59 = .ok (.getfield 112, 3) := dk_180 0 112 (dk_at dksX0_arrive_2 13 rfl rfl)
theorem dX0_arrive_62 : decode cX0_arrive 62 = .ok (.aload_n 0, 1) := dk_42 (dk_at dksX0_arrive_2 16 rfl rfl)
theorem dX0_arrive_63 : decode cX0_arrive 63 = .ok (.getfield 106, 3) := dk_180 0 106 (dk_at dksX0_arrive_2 17 rfl rfl)
theorem dX0_arrive_66 : decode cX0_arrive 66 = .ok (.iload_n 2, 1) := dk_28 (dk_at dksX0_arrive_2 20 rfl rfl)
theorem dX0_arrive_67 : decode cX0_arrive 67 = .ok (.iaload, 1) := dk_46 (dk_at dksX0_arrive_2 21 rfl rfl)
theorem dX0_arrive_68 : decode cX0_arrive 68 = .ok (.bipush 10, 2) := dk_16 10 (dk_at dksX0_arrive_2 22 rfl rfl)
theorem dX0_arrive_70 : decode cX0_arrive 70 = .ok (.isub, 1) := dk_100 (dk_at dksX0_arrive_3 0 rfl rfl)
theorem dX0_arrive_71 : decode cX0_arrive 71 = .ok (.dup2, 1) := dk_92 (dk_at dksX0_arrive_3 1 rfl rfl)
theorem dX0_arrive_72 : decode cX0_arrive 72 = .ok (.iaload, 1) := dk_46 (dk_at dksX0_arrive_3 2 rfl rfl)
theorem dX0_arrive_73 : decode cX0_arrive 73 = .ok (.iconst 1, 1) := dk_4 (dk_at dksX0_arrive_3 3 rfl rfl)
theorem dX0_arrive_74 : decode cX0_arrive 74 = .ok (.iadd, 1) := dk_96 (dk_at dksX0_arrive_3 4 rfl rfl)
theorem dX0_arrive_75 : decode cX0_arrive 75 = .ok (.iastore, 1) := dk_79 (dk_at dksX0_arrive_3 5 rfl rfl)
theorem dX0_arrive_76 : decode cX0_arrive 76 = .ok (.goto 30, 3) := dk_167 0 30 (dk_at dksX0_arrive_3 6 rfl rfl)
theorem dX0_arrive_79 : decode cX0_arrive 79 = .ok (.aload_n 0, 1) := dk_42 (dk_at dksX0_arrive_3 9 rfl rfl)
theorem dX0_arrive_80 : decode cX0_arrive 80 = .ok (.getfield 106, 3) := dk_180 0 106 (dk_at dksX0_arrive_3 10 rfl rfl)
theorem dX0_arrive_83 : decode cX0_arrive 83 = .ok (.iload_n 1, 1) := dk_27 (dk_at dksX0_arrive_3 13 rfl rfl)
theorem dX0_arrive_84 : decode cX0_arrive 84 = .ok (.aload_n 0, 1) := dk_42 (dk_at dksX0_arrive_3 14 rfl rfl)
theorem dX0_arrive_85 : decode cX0_arrive 85 = .ok (.getfield 106, 3) := dk_180 0 106 (dk_at dksX0_arrive_3 15 rfl rfl)
theorem dX0_arrive_88 : decode cX0_arrive 88 = .ok (.iload_n 2, 1) := dk_28 (dk_at dksX0_arrive_3 18 rfl rfl)
theorem dX0_arrive_89 : decode cX0_arrive 89 = .ok (.iaload, 1) := dk_46 (dk_at dksX0_arrive_3 19 rfl rfl)
theorem dX0_arrive_90 : decode cX0_arrive 90 = .ok (.iastore, 1) := dk_79 (dk_at dksX0_arrive_3 20 rfl rfl)
theorem dX0_arrive_91 : decode cX0_arrive 91 = .ok (.aload_n 0, 1) := dk_42 (dk_at dksX0_arrive_3 21 rfl rfl)
theorem dX0_arrive_92 : decode cX0_arrive 92 = .ok (.getfield 109, 3) := dk_180 0 109 (dk_at dksX0_arrive_4 0 rfl rfl)
theorem dX0_arrive_95 : decode cX0_arrive 95 = .ok (.iload_n 1, 1) := dk_27 (dk_at dksX0_arrive_4 3 rfl rfl)
theorem dX0_arrive_96 : decode cX0_arrive 96 = .ok (.iinc 1 1, 3) := dk_132 1 1 (dk_at dksX0_arrive_4 4 rfl rfl)
theorem dX0_arrive_99 : decode cX0_arrive 99 = .ok (.aload_n 0, 1) := dk_42 (dk_at dksX0_arrive_4 7 rfl rfl)
theorem dX0_arrive_100 : decode cX0_arrive 100 = .ok (.getfield 109, 3) := dk_180 0 109 (dk_at dksX0_arrive_4 8 rfl rfl)
theorem dX0_arrive_103 : decode cX0_arrive 103 = .ok (.iload_n 2, 1) := dk_28 (dk_at dksX0_arrive_4 11 rfl rfl)
theorem dX0_arrive_104 : decode cX0_arrive 104 = .ok (.iaload, 1) := dk_46 (dk_at dksX0_arrive_4 12 rfl rfl)
theorem dX0_arrive_105 : decode cX0_arrive 105 = .ok (.iastore, 1) := dk_79 (dk_at dksX0_arrive_4 13 rfl rfl)
theorem dX0_arrive_106 : decode cX0_arrive 106 = .ok (.iinc 2 1, 3) := dk_132 2 1 (dk_at dksX0_arrive_4 14 rfl rfl)
theorem dX0_arrive_109 : decode cX0_arrive 109 = .ok (.goto (-105), 3) := dk_167 255 151 (dk_at dksX0_arrive_4 17 rfl rfl)
theorem dX0_arrive_112 : decode cX0_arrive 112 = .ok (.aload_n 0, 1) := dk_42 (dk_at dksX0_arrive_4 20 rfl rfl)
theorem dX0_arrive_113 : decode cX0_arrive 113 = .ok (.iload_n 1, 1) := dk_27 (dk_at dksX0_arrive_4 21 rfl rfl)
theorem dX0_arrive_114 : decode cX0_arrive 114 = .ok (.putfield 487, 3) := dk_181 1 231 (dk_at dksX0_arrive_5 0 rfl rfl)
theorem dX0_arrive_117 : decode cX0_arrive 117 = .ok (.return_, 1) := dk_177 (dk_at dksX0_arrive_5 3 rfl rfl)
abbrev cX0_feedAll : ByteArray := prog_1_method_61_code
def yX0_feedAll : MethodName := ⟨RX0, "feedAll", "()V"⟩
def dkwX0_feedAll_3 : List UInt8 := [16, 6, 100, 5, 29, 104, 96, 3, 17, 3, 231, 184, 1, 105, 181, 1, 35, 132, 1, 1, 167, 255, 168, 177]
abbrev dktX0_feedAll_3 : List UInt8 := dkwX0_feedAll_3 ++ []
def dkwX0_feedAll_2 : List UInt8 := [180, 1, 181, 29, 100, 181, 1, 181, 42, 89, 180, 1, 215, 29, 96, 181, 1, 215, 44, 44, 180, 1, 35]
abbrev dktX0_feedAll_2 : List UInt8 := dkwX0_feedAll_2 ++ dktX0_feedAll_3
def dkwX0_feedAll_1 : List UInt8 := [180, 1, 181, 42, 16, 10, 44, 4, 182, 1, 190, 3, 16, 9, 184, 1, 105, 184, 0, 1, 62, 42, 89]
abbrev dktX0_feedAll_1 : List UInt8 := dkwX0_feedAll_1 ++ dktX0_feedAll_2
def dkwX0_feedAll_0 : List UInt8 := [3, 60, 27, 42, 180, 0, 184, 162, 0, 86, 42, 27, 182, 1, 175, 77, 44, 199, 0, 6, 167, 0, 67, 42]
abbrev dktX0_feedAll_0 : List UInt8 := dkwX0_feedAll_0 ++ dktX0_feedAll_1
theorem dksX0_feedAll_0 : cX0_feedAll.data.toList.drop 0 = dktX0_feedAll_0 := by decide +kernel
theorem dksX0_feedAll_1 : cX0_feedAll.data.toList.drop 24 = dktX0_feedAll_1 := dk_seg dksX0_feedAll_0 24 rfl rfl
theorem dksX0_feedAll_2 : cX0_feedAll.data.toList.drop 47 = dktX0_feedAll_2 := dk_seg dksX0_feedAll_1 23 rfl rfl
theorem dksX0_feedAll_3 : cX0_feedAll.data.toList.drop 70 = dktX0_feedAll_3 := dk_seg dksX0_feedAll_2 23 rfl rfl
theorem dX0_feedAll_0 : decode cX0_feedAll 0 = .ok (.iconst 0, 1) := dk_3 (dk_at dksX0_feedAll_0 0 rfl rfl)
theorem dX0_feedAll_1 : decode cX0_feedAll 1 = .ok (.istore_n 1, 1) := dk_60 (dk_at dksX0_feedAll_0 1 rfl rfl)
theorem dX0_feedAll_2 : decode cX0_feedAll 2 = .ok (.iload_n 1, 1) := dk_27 (dk_at dksX0_feedAll_0 2 rfl rfl)
theorem dX0_feedAll_3 : decode cX0_feedAll 3 = .ok (.aload_n 0, 1) := dk_42 (dk_at dksX0_feedAll_0 3 rfl rfl)
theorem dX0_feedAll_4 : decode cX0_feedAll 4 = .ok (.getfield 184, 3) := dk_180 0 184 (dk_at dksX0_feedAll_0 4 rfl rfl)
theorem dX0_feedAll_7 : decode cX0_feedAll 7 = .ok (.if_icmp .ge 86, 3) := dk_162 0 86 (dk_at dksX0_feedAll_0 7 rfl rfl)
theorem dX0_feedAll_10 : decode cX0_feedAll 10 = .ok (.aload_n 0, 1) := dk_42 (dk_at dksX0_feedAll_0 10 rfl rfl)
theorem dX0_feedAll_11 : decode cX0_feedAll 11 = .ok (.iload_n 1, 1) := dk_27 (dk_at dksX0_feedAll_0 11 rfl rfl)
theorem dX0_feedAll_12 : decode cX0_feedAll 12 = .ok (.invokevirtual 431, 3) := dk_182 1 175 (dk_at dksX0_feedAll_0 12 rfl rfl)
theorem dX0_feedAll_15 : decode cX0_feedAll 15 = .ok (.astore_n 2, 1) := dk_77 (dk_at dksX0_feedAll_0 15 rfl rfl)
theorem dX0_feedAll_16 : decode cX0_feedAll 16 = .ok (.aload_n 2, 1) := dk_44 (dk_at dksX0_feedAll_0 16 rfl rfl)
theorem dX0_feedAll_17 : decode cX0_feedAll 17 = .ok (.ifnonnull 6, 3) := dk_199 0 6 (dk_at dksX0_feedAll_0 17 rfl rfl)
theorem dX0_feedAll_20 : decode cX0_feedAll 20 = .ok (.goto 67, 3) := dk_167 0 67 (dk_at dksX0_feedAll_0 20 rfl rfl)
theorem dX0_feedAll_23 : decode cX0_feedAll 23 = .ok (.aload_n 0, 1) := dk_42 (dk_at dksX0_feedAll_0 23 rfl rfl)
theorem dX0_feedAll_24 : decode cX0_feedAll 24 = .ok (.getfield 437, 3) := dk_180 1 181 (dk_at dksX0_feedAll_1 0 rfl rfl)
theorem dX0_feedAll_27 : decode cX0_feedAll 27 = .ok (.aload_n 0, 1) := dk_42 (dk_at dksX0_feedAll_1 3 rfl rfl)
theorem dX0_feedAll_28 : decode cX0_feedAll 28 = .ok (.bipush 10, 2) := dk_16 10 (dk_at dksX0_feedAll_1 4 rfl rfl)
theorem dX0_feedAll_30 : decode cX0_feedAll 30 = .ok (.aload_n 2, 1) := dk_44 (dk_at dksX0_feedAll_1 6 rfl rfl)
theorem dX0_feedAll_31 : decode cX0_feedAll 31 = .ok (.iconst 1, 1) := dk_4 (dk_at dksX0_feedAll_1 7 rfl rfl)
theorem dX0_feedAll_32 : decode cX0_feedAll 32 = .ok (.invokevirtual 446, 3) := dk_182 1 190 (dk_at dksX0_feedAll_1 8 rfl rfl)
theorem dX0_feedAll_35 : decode cX0_feedAll 35 = .ok (.iconst 0, 1) := dk_3 (dk_at dksX0_feedAll_1 11 rfl rfl)
theorem dX0_feedAll_36 : decode cX0_feedAll 36 = .ok (.bipush 9, 2) := dk_16 9 (dk_at dksX0_feedAll_1 12 rfl rfl)
theorem dX0_feedAll_38 : decode cX0_feedAll 38 = .ok (.invokestatic 361, 3) := dk_184 1 105 (dk_at dksX0_feedAll_1 14 rfl rfl)
theorem dX0_feedAll_41 : decode cX0_feedAll 41 = .ok (.invokestatic 1, 3) := dk_184 0 1 (dk_at dksX0_feedAll_1 17 rfl rfl)
theorem dX0_feedAll_44 : decode cX0_feedAll 44 = .ok (.istore_n 3, 1) := dk_62 (dk_at dksX0_feedAll_1 20 rfl rfl)
theorem dX0_feedAll_45 : decode cX0_feedAll 45 = .ok (.aload_n 0, 1) := dk_42 (dk_at dksX0_feedAll_1 21 rfl rfl)
theorem dX0_feedAll_46 : decode cX0_feedAll 46 = .ok (.dup, 1) := dk_89 (dk_at dksX0_feedAll_1 22 rfl rfl)
theorem dX0_feedAll_47 : decode cX0_feedAll 47 = .ok (.getfield 437, 3) := dk_180 1 181 (dk_at dksX0_feedAll_2 0 rfl rfl)
theorem dX0_feedAll_50 : decode cX0_feedAll 50 = .ok (.iload_n 3, 1) := dk_29 (dk_at dksX0_feedAll_2 3 rfl rfl)
theorem dX0_feedAll_51 : decode cX0_feedAll 51 = .ok (.isub, 1) := dk_100 (dk_at dksX0_feedAll_2 4 rfl rfl)
theorem dX0_feedAll_52 : decode cX0_feedAll 52 = .ok (.putfield 437, 3) := dk_181 1 181 (dk_at dksX0_feedAll_2 5 rfl rfl)
theorem dX0_feedAll_55 : decode cX0_feedAll 55 = .ok (.aload_n 0, 1) := dk_42 (dk_at dksX0_feedAll_2 8 rfl rfl)
theorem dX0_feedAll_56 : decode cX0_feedAll 56 = .ok (.dup, 1) := dk_89 (dk_at dksX0_feedAll_2 9 rfl rfl)
theorem dX0_feedAll_57 : decode cX0_feedAll 57 = .ok (.getfield 471, 3) := dk_180 1 215 (dk_at dksX0_feedAll_2 10 rfl rfl)
theorem dX0_feedAll_60 : decode cX0_feedAll 60 = .ok (.iload_n 3, 1) := dk_29 (dk_at dksX0_feedAll_2 13 rfl rfl)
theorem dX0_feedAll_61 : decode cX0_feedAll 61 = .ok (.iadd, 1) := dk_96 (dk_at dksX0_feedAll_2 14 rfl rfl)
theorem dX0_feedAll_62 : decode cX0_feedAll 62 = .ok (.putfield 471, 3) := dk_181 1 215 (dk_at dksX0_feedAll_2 15 rfl rfl)
theorem dX0_feedAll_65 : decode cX0_feedAll 65 = .ok (.aload_n 2, 1) := dk_44 (dk_at dksX0_feedAll_2 18 rfl rfl)
theorem dX0_feedAll_66 : decode cX0_feedAll 66 = .ok (.aload_n 2, 1) := dk_44 (dk_at dksX0_feedAll_2 19 rfl rfl)
theorem dX0_feedAll_67 : decode cX0_feedAll 67 = .ok (.getfield 291, 3) := dk_180 1 35 (dk_at dksX0_feedAll_2 20 rfl rfl)
theorem dX0_feedAll_70 : decode cX0_feedAll 70 = .ok (.bipush 6, 2) := dk_16 6 (dk_at dksX0_feedAll_3 0 rfl rfl)
theorem dX0_feedAll_72 : decode cX0_feedAll 72 = .ok (.isub, 1) := dk_100 (dk_at dksX0_feedAll_3 2 rfl rfl)
theorem dX0_feedAll_73 : decode cX0_feedAll 73 = .ok (.iconst 2, 1) := dk_5 (dk_at dksX0_feedAll_3 3 rfl rfl)
theorem dX0_feedAll_74 : decode cX0_feedAll 74 = .ok (.iload_n 3, 1) := dk_29 (dk_at dksX0_feedAll_3 4 rfl rfl)
theorem dX0_feedAll_75 : decode cX0_feedAll 75 = .ok (.imul, 1) := dk_104 (dk_at dksX0_feedAll_3 5 rfl rfl)
theorem dX0_feedAll_76 : decode cX0_feedAll 76 = .ok (.iadd, 1) := dk_96 (dk_at dksX0_feedAll_3 6 rfl rfl)
theorem dX0_feedAll_77 : decode cX0_feedAll 77 = .ok (.iconst 0, 1) := dk_3 (dk_at dksX0_feedAll_3 7 rfl rfl)
theorem dX0_feedAll_78 : decode cX0_feedAll 78 = .ok (.sipush 999, 3) := dk_17 3 231 (dk_at dksX0_feedAll_3 8 rfl rfl)
theorem dX0_feedAll_81 : decode cX0_feedAll 81 = .ok (.invokestatic 361, 3) := dk_184 1 105 (dk_at dksX0_feedAll_3 11 rfl rfl)
theorem dX0_feedAll_84 : decode cX0_feedAll 84 = .ok (.putfield 291, 3) := dk_181 1 35 (dk_at dksX0_feedAll_3 14 rfl rfl)
theorem dX0_feedAll_87 : decode cX0_feedAll 87 = .ok (.iinc 1 1, 3) := dk_132 1 1 (dk_at dksX0_feedAll_3 17 rfl rfl)
theorem dX0_feedAll_90 : decode cX0_feedAll 90 = .ok (.goto (-88), 3) := dk_167 255 168 (dk_at dksX0_feedAll_3 20 rfl rfl)
theorem dX0_feedAll_93 : decode cX0_feedAll 93 = .ok (.return_, 1) := dk_177 (dk_at dksX0_feedAll_3 23 rfl rfl)
abbrev cX0_moveRock : ByteArray := prog_1_method_62_code
def yX0_moveRock : MethodName := ⟨RX0, "moveRock", "(I)V"⟩
def dkwX0_moveRock_1 : List UInt8 := [16, 100, 108, 27, 16, 100, 112, 182, 1, 218, 153, 0, 11, 42, 180, 0, 200, 4, 181, 1, 44, 177]
abbrev dktX0_moveRock_1 : List UInt8 := dkwX0_moveRock_1 ++ []
def dkwX0_moveRock_0 : List UInt8 := [42, 180, 0, 22, 27, 184, 0, 180, 3, 84, 42, 180, 0, 18, 27, 184, 0, 180, 16, 9, 79, 42, 27]
abbrev dktX0_moveRock_0 : List UInt8 := dkwX0_moveRock_0 ++ dktX0_moveRock_1
theorem dksX0_moveRock_0 : cX0_moveRock.data.toList.drop 0 = dktX0_moveRock_0 := by decide +kernel
theorem dksX0_moveRock_1 : cX0_moveRock.data.toList.drop 23 = dktX0_moveRock_1 := dk_seg dksX0_moveRock_0 23 rfl rfl
theorem dX0_moveRock_0 : decode cX0_moveRock 0 = .ok (.aload_n 0, 1) := dk_42 (dk_at dksX0_moveRock_0 0 rfl rfl)
theorem dX0_moveRock_1 : decode cX0_moveRock 1 = .ok (.getfield 22, 3) := dk_180 0 22 (dk_at dksX0_moveRock_0 1 rfl rfl)
theorem dX0_moveRock_4 : decode cX0_moveRock 4 = .ok (.iload_n 1, 1) := dk_27 (dk_at dksX0_moveRock_0 4 rfl rfl)
theorem dX0_moveRock_5 : decode cX0_moveRock 5 = .ok (.invokestatic 180, 3) := dk_184 0 180 (dk_at dksX0_moveRock_0 5 rfl rfl)
theorem dX0_moveRock_8 : decode cX0_moveRock 8 = .ok (.iconst 0, 1) := dk_3 (dk_at dksX0_moveRock_0 8 rfl rfl)
theorem dX0_moveRock_9 : decode cX0_moveRock 9 = .ok (.bastore, 1) := dk_84 (dk_at dksX0_moveRock_0 9 rfl rfl)
theorem dX0_moveRock_10 : decode cX0_moveRock 10 = .ok (.aload_n 0, 1) := dk_42 (dk_at dksX0_moveRock_0 10 rfl rfl)
theorem dX0_moveRock_11 : decode cX0_moveRock 11 = .ok (.getfield 18, 3) := dk_180 0 18 (dk_at dksX0_moveRock_0 11 rfl rfl)
theorem dX0_moveRock_14 : decode cX0_moveRock 14 = .ok (.iload_n 1, 1) := dk_27 (dk_at dksX0_moveRock_0 14 rfl rfl)
theorem dX0_moveRock_15 : decode cX0_moveRock 15 = .ok (.invokestatic 180, 3) := dk_184 0 180 (dk_at dksX0_moveRock_0 15 rfl rfl)
theorem dX0_moveRock_18 : decode cX0_moveRock 18 = .ok (.bipush 9, 2) := dk_16 9 (dk_at dksX0_moveRock_0 18 rfl rfl)
theorem dX0_moveRock_20 : decode cX0_moveRock 20 = .ok (.iastore, 1) := dk_79 (dk_at dksX0_moveRock_0 20 rfl rfl)
theorem dX0_moveRock_21 : decode cX0_moveRock 21 = .ok (.aload_n 0, 1) := dk_42 (dk_at dksX0_moveRock_0 21 rfl rfl)
theorem dX0_moveRock_22 : decode cX0_moveRock 22 = .ok (.iload_n 1, 1) := dk_27 (dk_at dksX0_moveRock_0 22 rfl rfl)
theorem dX0_moveRock_23 : decode cX0_moveRock 23 = .ok (.bipush 100, 2) := dk_16 100 (dk_at dksX0_moveRock_1 0 rfl rfl)
theorem dX0_moveRock_25 : decode cX0_moveRock 25 = .ok (.idiv, 1) := dk_108 (dk_at dksX0_moveRock_1 2 rfl rfl)
theorem dX0_moveRock_26 : decode cX0_moveRock 26 = .ok (.iload_n 1, 1) := dk_27 (dk_at dksX0_moveRock_1 3 rfl rfl)
theorem dX0_moveRock_27 : decode cX0_moveRock 27 = .ok (.bipush 100, 2) := dk_16 100 (dk_at dksX0_moveRock_1 4 rfl rfl)
theorem dX0_moveRock_29 : decode cX0_moveRock 29 = .ok (.irem, 1) := dk_112 (dk_at dksX0_moveRock_1 6 rfl rfl)
theorem dX0_moveRock_30 : decode cX0_moveRock 30 = .ok (.invokevirtual 474, 3) := dk_182 1 218 (dk_at dksX0_moveRock_1 7 rfl rfl)
theorem dX0_moveRock_33 : decode cX0_moveRock 33 = .ok (.ifCond .eq 11, 3) := dk_153 0 11 (dk_at dksX0_moveRock_1 10 rfl rfl)
theorem dX0_moveRock_36 : decode cX0_moveRock 36 = .ok (.aload_n 0, 1) := dk_42 (dk_at dksX0_moveRock_1 13 rfl rfl)
theorem dX0_moveRock_37 : decode cX0_moveRock 37 = .ok (.getfield 200, 3) := dk_180 0 200 (dk_at dksX0_moveRock_1 14 rfl rfl)
theorem dX0_moveRock_40 : decode cX0_moveRock 40 = .ok (.iconst 1, 1) := dk_4 (dk_at dksX0_moveRock_1 17 rfl rfl)
theorem dX0_moveRock_41 : decode cX0_moveRock 41 = .ok (.putfield 300, 3) := dk_181 1 44 (dk_at dksX0_moveRock_1 18 rfl rfl)
theorem dX0_moveRock_44 : decode cX0_moveRock 44 = .ok (.return_, 1) := dk_177 (dk_at dksX0_moveRock_1 21 rfl rfl)
abbrev cX0_spoons : ByteArray := prog_1_method_63_code
def yX0_spoons : MethodName := ⟨RX0, "spoons", "(I)I"⟩
def dkwX0_spoons_1 : List UInt8 := [28, 172]
abbrev dktX0_spoons_1 : List UInt8 := dkwX0_spoons_1 ++ []
def dkwX0_spoons_0 : List UInt8 := [27, 133, 9, 20, 1, 222, 184, 0, 167, 154, 0, 5, 2, 172, 42, 180, 1, 181, 61, 42, 27, 181, 1, 181]
abbrev dktX0_spoons_0 : List UInt8 := dkwX0_spoons_0 ++ dktX0_spoons_1
theorem dksX0_spoons_0 : cX0_spoons.data.toList.drop 0 = dktX0_spoons_0 := by decide +kernel
theorem dksX0_spoons_1 : cX0_spoons.data.toList.drop 24 = dktX0_spoons_1 := dk_seg dksX0_spoons_0 24 rfl rfl
theorem dX0_spoons_0 : decode cX0_spoons 0 = .ok (.iload_n 1, 1) := dk_27 (dk_at dksX0_spoons_0 0 rfl rfl)
theorem dX0_spoons_1 : decode cX0_spoons 1 = .ok (.i2l, 1) := dk_133 (dk_at dksX0_spoons_0 1 rfl rfl)
theorem dX0_spoons_2 : decode cX0_spoons 2 = .ok (.lconst 0, 1) := dk_9 (dk_at dksX0_spoons_0 2 rfl rfl)
theorem dX0_spoons_3 : decode cX0_spoons 3 = .ok (.ldc2_w 478, 3) := dk_20 1 222 (dk_at dksX0_spoons_0 3 rfl rfl)
theorem dX0_spoons_6 : decode cX0_spoons 6 = .ok (.invokestatic 167, 3) := dk_184 0 167 (dk_at dksX0_spoons_0 6 rfl rfl)
theorem dX0_spoons_9 : decode cX0_spoons 9 = .ok (.ifCond .ne 5, 3) := dk_154 0 5 (dk_at dksX0_spoons_0 9 rfl rfl)
theorem dX0_spoons_12 : decode cX0_spoons 12 = .ok (.iconst (-1), 1) := dk_2 (dk_at dksX0_spoons_0 12 rfl rfl)
theorem dX0_spoons_13 : decode cX0_spoons 13 = .ok (.ireturn, 1) := dk_172 (dk_at dksX0_spoons_0 13 rfl rfl)
theorem dX0_spoons_14 : decode cX0_spoons 14 = .ok (.aload_n 0, 1) := dk_42 (dk_at dksX0_spoons_0 14 rfl rfl)
theorem dX0_spoons_15 : decode cX0_spoons 15 = .ok (.getfield 437, 3) := dk_180 1 181 (dk_at dksX0_spoons_0 15 rfl rfl)
theorem dX0_spoons_18 : decode cX0_spoons 18 = .ok (.istore_n 2, 1) := dk_61 (dk_at dksX0_spoons_0 18 rfl rfl)
theorem dX0_spoons_19 : decode cX0_spoons 19 = .ok (.aload_n 0, 1) := dk_42 (dk_at dksX0_spoons_0 19 rfl rfl)
theorem dX0_spoons_20 : decode cX0_spoons 20 = .ok (.iload_n 1, 1) := dk_27 (dk_at dksX0_spoons_0 20 rfl rfl)
theorem dX0_spoons_21 : decode cX0_spoons 21 = .ok (.putfield 437, 3) := dk_181 1 181 (dk_at dksX0_spoons_0 21 rfl rfl)
theorem dX0_spoons_24 : decode cX0_spoons 24 = .ok (.iload_n 2, 1) := dk_28 (dk_at dksX0_spoons_1 0 rfl rfl)
theorem dX0_spoons_25 : decode cX0_spoons 25 = .ok (.ireturn, 1) := dk_172 (dk_at dksX0_spoons_1 1 rfl rfl)
abbrev cX0_move : ByteArray := prog_1_method_64_code
def yX0_move : MethodName := ⟨RX0, "move", "(II)I"⟩
def dkwX0_move_3 : List UInt8 := [181, 1, 205, 172]
abbrev dktX0_move_3 : List UInt8 := dkwX0_move_3 ++ []
def dkwX0_move_2 : List UInt8 := [180, 1, 205, 27, 79, 42, 180, 0, 97, 42, 180, 1, 205, 28, 79, 42, 89, 180, 1, 205, 4, 96, 90]
abbrev dktX0_move_2 : List UInt8 := dkwX0_move_2 ++ dktX0_move_3
def dkwX0_move_1 : List UInt8 := [154, 0, 5, 2, 172, 42, 180, 1, 205, 16, 60, 160, 0, 6, 16, 253, 172, 42, 180, 0, 94, 42]
abbrev dktX0_move_1 : List UInt8 := dkwX0_move_1 ++ dktX0_move_2
def dkwX0_move_0 : List UInt8 := [27, 184, 0, 174, 153, 0, 21, 28, 133, 42, 180, 1, 58, 4, 96, 133, 20, 1, 61, 184, 0, 167]
abbrev dktX0_move_0 : List UInt8 := dkwX0_move_0 ++ dktX0_move_1
theorem dksX0_move_0 : cX0_move.data.toList.drop 0 = dktX0_move_0 := by decide +kernel
theorem dksX0_move_1 : cX0_move.data.toList.drop 22 = dktX0_move_1 := dk_seg dksX0_move_0 22 rfl rfl
theorem dksX0_move_2 : cX0_move.data.toList.drop 44 = dktX0_move_2 := dk_seg dksX0_move_1 22 rfl rfl
theorem dksX0_move_3 : cX0_move.data.toList.drop 67 = dktX0_move_3 := dk_seg dksX0_move_2 23 rfl rfl
theorem dX0_move_0 : decode cX0_move 0 = .ok (.iload_n 1, 1) := dk_27 (dk_at dksX0_move_0 0 rfl rfl)
theorem dX0_move_1 : decode cX0_move 1 = .ok (.invokestatic 174, 3) := dk_184 0 174 (dk_at dksX0_move_0 1 rfl rfl)
theorem dX0_move_4 : decode cX0_move 4 = .ok (.ifCond .eq 21, 3) := dk_153 0 21 (dk_at dksX0_move_0 4 rfl rfl)
theorem dX0_move_7 : decode cX0_move 7 = .ok (.iload_n 2, 1) := dk_28 (dk_at dksX0_move_0 7 rfl rfl)
theorem dX0_move_8 : decode cX0_move 8 = .ok (.i2l, 1) := dk_133 (dk_at dksX0_move_0 8 rfl rfl)
theorem dX0_move_9 : decode cX0_move 9 = .ok (.aload_n 0, 1) := dk_42 (dk_at dksX0_move_0 9 rfl rfl)
theorem dX0_move_10 : decode cX0_move 10 = .ok (.getfield 314, 3) := dk_180 1 58 (dk_at dksX0_move_0 10 rfl rfl)
theorem dX0_move_13 : decode cX0_move 13 = .ok (.iconst 1, 1) := dk_4 (dk_at dksX0_move_0 13 rfl rfl)
theorem dX0_move_14 : decode cX0_move 14 = .ok (.iadd, 1) := dk_96 (dk_at dksX0_move_0 14 rfl rfl)
theorem dX0_move_15 : decode cX0_move 15 = .ok (.i2l, 1) := dk_133 (dk_at dksX0_move_0 15 rfl rfl)
theorem dX0_move_16 : decode cX0_move 16 = .ok (.ldc2_w 317, 3) := dk_20 1 61 (dk_at dksX0_move_0 16 rfl rfl)
theorem dX0_move_19 : decode cX0_move 19 = .ok (.invokestatic 167, 3) := dk_184 0 167 (dk_at dksX0_move_0 19 rfl rfl)
theorem dX0_move_22 : decode cX0_move 22 = .ok (.ifCond .ne 5, 3) := dk_154 0 5 (dk_at dksX0_move_1 0 rfl rfl)
theorem dX0_move_25 : decode cX0_move 25 = .ok (.iconst (-1), 1) := dk_2 (dk_at dksX0_move_1 3 rfl rfl)
theorem dX0_move_26 : decode cX0_move 26 = .ok (.ireturn, 1) := dk_172 (dk_at dksX0_move_1 4 rfl rfl)
theorem dX0_move_27 : decode cX0_move 27 = .ok (.aload_n 0, 1) := dk_42 (dk_at dksX0_move_1 5 rfl rfl)
theorem dX0_move_28 : decode cX0_move 28 = .ok (.getfield 461, 3) := dk_180 1 205 (dk_at dksX0_move_1 6 rfl rfl)
theorem dX0_move_31 : decode cX0_move 31 = .ok (.bipush 60, 2) := dk_16 60 (dk_at dksX0_move_1 9 rfl rfl)
theorem dX0_move_33 : decode cX0_move 33 = .ok (.if_icmp .ne 6, 3) := dk_160 0 6 (dk_at dksX0_move_1 11 rfl rfl)
theorem dX0_move_36 : decode cX0_move 36 = .ok (.bipush (-3), 2) := dk_16 253 (dk_at dksX0_move_1 14 rfl rfl)
theorem dX0_move_38 : decode cX0_move 38 = .ok (.ireturn, 1) := dk_172 (dk_at dksX0_move_1 16 rfl rfl)
theorem dX0_move_39 : decode cX0_move 39 = .ok (.aload_n 0, 1) := dk_42 (dk_at dksX0_move_1 17 rfl rfl)
theorem dX0_move_40 : decode cX0_move 40 = .ok (.getfield 94, 3) := dk_180 0 94 (dk_at dksX0_move_1 18 rfl rfl)
theorem dX0_move_43 : decode cX0_move 43 = .ok (.aload_n 0, 1) := dk_42 (dk_at dksX0_move_1 21 rfl rfl)
theorem dX0_move_44 : decode cX0_move 44 = .ok (.getfield 461, 3) := dk_180 1 205 (dk_at dksX0_move_2 0 rfl rfl)
theorem dX0_move_47 : decode cX0_move 47 = .ok (.iload_n 1, 1) := dk_27 (dk_at dksX0_move_2 3 rfl rfl)
theorem dX0_move_48 : decode cX0_move 48 = .ok (.iastore, 1) := dk_79 (dk_at dksX0_move_2 4 rfl rfl)
theorem dX0_move_49 : decode cX0_move 49 = .ok (.aload_n 0, 1) := dk_42 (dk_at dksX0_move_2 5 rfl rfl)
theorem dX0_move_50 : decode cX0_move 50 = .ok (.getfield 97, 3) := dk_180 0 97 (dk_at dksX0_move_2 6 rfl rfl)
theorem dX0_move_53 : decode cX0_move 53 = .ok (.aload_n 0, 1) := dk_42 (dk_at dksX0_move_2 9 rfl rfl)
theorem dX0_move_54 : decode cX0_move 54 = .ok (.getfield 461, 3) := dk_180 1 205 (dk_at dksX0_move_2 10 rfl rfl)
theorem dX0_move_57 : decode cX0_move 57 = .ok (.iload_n 2, 1) := dk_28 (dk_at dksX0_move_2 13 rfl rfl)
theorem dX0_move_58 : decode cX0_move 58 = .ok (.iastore, 1) := dk_79 (dk_at dksX0_move_2 14 rfl rfl)
theorem dX0_move_59 : decode cX0_move 59 = .ok (.aload_n 0, 1) := dk_42 (dk_at dksX0_move_2 15 rfl rfl)
theorem dX0_move_60 : decode cX0_move 60 = .ok (.dup, 1) := dk_89 (dk_at dksX0_move_2 16 rfl rfl)
theorem dX0_move_61 : decode cX0_move 61 = .ok (.getfield 461, 3) := dk_180 1 205 (dk_at dksX0_move_2 17 rfl rfl)
theorem dX0_move_64 : decode cX0_move 64 = .ok (.iconst 1, 1) := dk_4 (dk_at dksX0_move_2 20 rfl rfl)
theorem dX0_move_65 : decode cX0_move 65 = .ok (.iadd, 1) := dk_96 (dk_at dksX0_move_2 21 rfl rfl)
theorem dX0_move_66 : decode cX0_move 66 = .ok (.dup_x1, 1) := dk_90 (dk_at dksX0_move_2 22 rfl rfl)
theorem dX0_move_67 : decode cX0_move 67 = .ok (.putfield 461, 3) := dk_181 1 205 (dk_at dksX0_move_3 0 rfl rfl)
theorem dX0_move_70 : decode cX0_move 70 = .ok (.ireturn, 1) := dk_172 (dk_at dksX0_move_3 3 rfl rfl)
abbrev cX0_last : ByteArray := prog_1_method_66_code
def yX0_last : MethodName := ⟨RX0, "last", "(II)I"⟩
def dkwX0_last_1 : List UInt8 := [2, 172, 42, 182, 1, 178, 154, 0, 8, 16, 254, 167, 0, 9, 42, 27, 28, 182, 1, 224, 172]
abbrev dktX0_last_1 : List UInt8 := dkwX0_last_1 ++ []
def dkwX0_last_0 : List UInt8 := [27, 133, 9, 20, 0, 247, 184, 0, 167, 153, 0, 15, 28, 133, 9, 20, 0, 178, 184, 0, 167, 154, 0, 5]
abbrev dktX0_last_0 : List UInt8 := dkwX0_last_0 ++ dktX0_last_1
theorem dksX0_last_0 : cX0_last.data.toList.drop 0 = dktX0_last_0 := by decide +kernel
theorem dksX0_last_1 : cX0_last.data.toList.drop 24 = dktX0_last_1 := dk_seg dksX0_last_0 24 rfl rfl
theorem dX0_last_0 : decode cX0_last 0 = .ok (.iload_n 1, 1) := dk_27 (dk_at dksX0_last_0 0 rfl rfl)
theorem dX0_last_1 : decode cX0_last 1 = .ok (.i2l, 1) := dk_133 (dk_at dksX0_last_0 1 rfl rfl)
theorem dX0_last_2 : decode cX0_last 2 = .ok (.lconst 0, 1) := dk_9 (dk_at dksX0_last_0 2 rfl rfl)
theorem dX0_last_3 : decode cX0_last 3 = .ok (.ldc2_w 247, 3) := dk_20 0 247 (dk_at dksX0_last_0 3 rfl rfl)
theorem dX0_last_6 : decode cX0_last 6 = .ok (.invokestatic 167, 3) := dk_184 0 167 (dk_at dksX0_last_0 6 rfl rfl)
theorem dX0_last_9 : decode cX0_last 9 = .ok (.ifCond .eq 15, 3) := dk_153 0 15 (dk_at dksX0_last_0 9 rfl rfl)
theorem dX0_last_12 : decode cX0_last 12 = .ok (.iload_n 2, 1) := dk_28 (dk_at dksX0_last_0 12 rfl rfl)
theorem dX0_last_13 : decode cX0_last 13 = .ok (.i2l, 1) := dk_133 (dk_at dksX0_last_0 13 rfl rfl)
theorem dX0_last_14 : decode cX0_last 14 = .ok (.lconst 0, 1) := dk_9 (dk_at dksX0_last_0 14 rfl rfl)
theorem dX0_last_15 : decode cX0_last 15 = .ok (.ldc2_w 178, 3) := dk_20 0 178 (dk_at dksX0_last_0 15 rfl rfl)
theorem dX0_last_18 : decode cX0_last 18 = .ok (.invokestatic 167, 3) := dk_184 0 167 (dk_at dksX0_last_0 18 rfl rfl)
theorem dX0_last_21 : decode cX0_last 21 = .ok (.ifCond .ne 5, 3) := dk_154 0 5 (dk_at dksX0_last_0 21 rfl rfl)
theorem dX0_last_24 : decode cX0_last 24 = .ok (.iconst (-1), 1) := dk_2 (dk_at dksX0_last_1 0 rfl rfl)
theorem dX0_last_25 : decode cX0_last 25 = .ok (.ireturn, 1) := dk_172 (dk_at dksX0_last_1 1 rfl rfl)
theorem dX0_last_26 : decode cX0_last 26 = .ok (.aload_n 0, 1) := dk_42 (dk_at dksX0_last_1 2 rfl rfl)
theorem dX0_last_27 : decode cX0_last 27 = .ok (.invokevirtual 434, 3) := dk_182 1 178 (dk_at dksX0_last_1 3 rfl rfl)
theorem dX0_last_30 : decode cX0_last 30 = .ok (.ifCond .ne 8, 3) := dk_154 0 8 (dk_at dksX0_last_1 6 rfl rfl)
theorem dX0_last_33 : decode cX0_last 33 = .ok (.bipush (-2), 2) := dk_16 254 (dk_at dksX0_last_1 9 rfl rfl)
theorem dX0_last_35 : decode cX0_last 35 = .ok (.goto 9, 3) := dk_167 0 9 (dk_at dksX0_last_1 11 rfl rfl)
theorem dX0_last_38 : decode cX0_last 38 = .ok (.aload_n 0, 1) := dk_42 (dk_at dksX0_last_1 14 rfl rfl)
theorem dX0_last_39 : decode cX0_last 39 = .ok (.iload_n 1, 1) := dk_27 (dk_at dksX0_last_1 15 rfl rfl)
theorem dX0_last_40 : decode cX0_last 40 = .ok (.iload_n 2, 1) := dk_28 (dk_at dksX0_last_1 16 rfl rfl)
theorem dX0_last_41 : decode cX0_last 41 = .ok (.invokevirtual 480, 3) := dk_182 1 224 (dk_at dksX0_last_1 17 rfl rfl)
theorem dX0_last_44 : decode cX0_last 44 = .ok (.ireturn, 1) := dk_172 (dk_at dksX0_last_1 20 rfl rfl)
abbrev cX0_lasts : ByteArray := prog_1_method_65_code
def yX0_lasts : MethodName := ⟨RX0, "lasts", "(II)I"⟩
def dkwX0_lasts_7 : List UInt8 := [172, 132, 4, 1, 167, 255, 143, 16, 60, 172]
abbrev dktX0_lasts_7 : List UInt8 := dkwX0_lasts_7 ++ []
def dkwX0_lasts_6 : List UInt8 := [164, 0, 7, 4, 167, 0, 4, 3, 126, 54, 5, 132, 6, 1, 167, 255, 170, 21, 5, 154, 0, 6, 21, 4]
abbrev dktX0_lasts_6 : List UInt8 := dkwX0_lasts_6 ++ dktX0_lasts_7
def dkwX0_lasts_5 : List UInt8 := [21, 7, 104, 96, 3, 17, 3, 231, 184, 1, 105, 79, 21, 5, 42, 180, 0, 103, 21, 6, 46, 27]
abbrev dktX0_lasts_5 : List UInt8 := dkwX0_lasts_5 ++ dktX0_lasts_6
def dkwX0_lasts_4 : List UInt8 := [54, 7, 29, 21, 7, 100, 62, 42, 180, 0, 103, 21, 6, 42, 180, 0, 103, 21, 6, 46, 16, 6, 100, 5]
abbrev dktX0_lasts_4 : List UInt8 := dkwX0_lasts_4 ++ dktX0_lasts_5
def dkwX0_lasts_3 : List UInt8 := [42, 180, 0, 184, 162, 0, 83, 42, 21, 6, 182, 1, 175, 199, 0, 6, 167, 0, 65, 29, 28, 184, 0, 1]
abbrev dktX0_lasts_3 : List UInt8 := dkwX0_lasts_3 ++ dktX0_lasts_4
def dkwX0_lasts_2 : List UInt8 := [132, 4, 1, 167, 255, 215, 3, 54, 4, 21, 4, 16, 60, 162, 0, 112, 4, 54, 5, 3, 54, 6, 21, 6]
abbrev dktX0_lasts_2 : List UInt8 := dkwX0_lasts_2 ++ dktX0_lasts_3
def dkwX0_lasts_1 : List UInt8 := [21, 4, 182, 1, 175, 199, 0, 7, 3, 167, 0, 12, 42, 21, 4, 182, 1, 175, 180, 1, 35, 79]
abbrev dktX0_lasts_1 : List UInt8 := dkwX0_lasts_1 ++ dktX0_lasts_2
def dkwX0_lasts_0 : List UInt8 := [42, 180, 1, 181, 62, 3, 54, 4, 21, 4, 42, 180, 0, 184, 162, 0, 38, 42, 180, 0, 103, 21, 4, 42]
abbrev dktX0_lasts_0 : List UInt8 := dkwX0_lasts_0 ++ dktX0_lasts_1
theorem dksX0_lasts_0 : cX0_lasts.data.toList.drop 0 = dktX0_lasts_0 := by decide +kernel
theorem dksX0_lasts_1 : cX0_lasts.data.toList.drop 24 = dktX0_lasts_1 := dk_seg dksX0_lasts_0 24 rfl rfl
theorem dksX0_lasts_2 : cX0_lasts.data.toList.drop 46 = dktX0_lasts_2 := dk_seg dksX0_lasts_1 22 rfl rfl
theorem dksX0_lasts_3 : cX0_lasts.data.toList.drop 70 = dktX0_lasts_3 := dk_seg dksX0_lasts_2 24 rfl rfl
theorem dksX0_lasts_4 : cX0_lasts.data.toList.drop 94 = dktX0_lasts_4 := dk_seg dksX0_lasts_3 24 rfl rfl
theorem dksX0_lasts_5 : cX0_lasts.data.toList.drop 118 = dktX0_lasts_5 := dk_seg dksX0_lasts_4 24 rfl rfl
theorem dksX0_lasts_6 : cX0_lasts.data.toList.drop 140 = dktX0_lasts_6 := dk_seg dksX0_lasts_5 22 rfl rfl
theorem dksX0_lasts_7 : cX0_lasts.data.toList.drop 164 = dktX0_lasts_7 := dk_seg dksX0_lasts_6 24 rfl rfl
theorem dX0_lasts_0 : decode cX0_lasts 0 = .ok (.aload_n 0, 1) := dk_42 (dk_at dksX0_lasts_0 0 rfl rfl)
theorem dX0_lasts_1 : decode cX0_lasts 1 = .ok (.getfield 437, 3) := dk_180 1 181 (dk_at dksX0_lasts_0 1 rfl rfl)
theorem dX0_lasts_4 : decode cX0_lasts 4 = .ok (.istore_n 3, 1) := dk_62 (dk_at dksX0_lasts_0 4 rfl rfl)
theorem dX0_lasts_5 : decode cX0_lasts 5 = .ok (.iconst 0, 1) := dk_3 (dk_at dksX0_lasts_0 5 rfl rfl)
theorem dX0_lasts_6 : decode cX0_lasts 6 = .ok (.istore 4, 2) := dk_54 4 (dk_at dksX0_lasts_0 6 rfl rfl)
theorem dX0_lasts_8 : decode cX0_lasts 8 = .ok (.iload 4, 2) := dk_21 4 (dk_at dksX0_lasts_0 8 rfl rfl)
theorem dX0_lasts_10 : decode cX0_lasts 10 = .ok (.aload_n 0, 1) := dk_42 (dk_at dksX0_lasts_0 10 rfl rfl)
theorem dX0_lasts_11 : decode cX0_lasts 11 = .ok (.getfield 184, 3) := dk_180 0 184 (dk_at dksX0_lasts_0 11 rfl rfl)
theorem dX0_lasts_14 : decode cX0_lasts 14 = .ok (.if_icmp .ge 38, 3) := dk_162 0 38 (dk_at dksX0_lasts_0 14 rfl rfl)
theorem dX0_lasts_17 : decode cX0_lasts 17 = .ok (.aload_n 0, 1) := dk_42 (dk_at dksX0_lasts_0 17 rfl rfl)
theorem dX0_lasts_18 : decode cX0_lasts 18 = .ok (.getfield 103, 3) := dk_180 0 103 (dk_at dksX0_lasts_0 18 rfl rfl)
theorem dX0_lasts_21 : decode cX0_lasts 21 = .ok (.iload 4, 2) := dk_21 4 (dk_at dksX0_lasts_0 21 rfl rfl)
theorem dX0_lasts_23 : decode cX0_lasts 23 = .ok (.aload_n 0, 1) := dk_42 (dk_at dksX0_lasts_0 23 rfl rfl)
theorem dX0_lasts_24 : decode cX0_lasts 24 = .ok (.iload 4, 2) := dk_21 4 (dk_at dksX0_lasts_1 0 rfl rfl)
theorem dX0_lasts_26 : decode cX0_lasts 26 = .ok (.invokevirtual 431, 3) := dk_182 1 175 (dk_at dksX0_lasts_1 2 rfl rfl)
theorem dX0_lasts_29 : decode cX0_lasts 29 = .ok (.ifnonnull 7, 3) := dk_199 0 7 (dk_at dksX0_lasts_1 5 rfl rfl)
theorem dX0_lasts_32 : decode cX0_lasts 32 = .ok (.iconst 0, 1) := dk_3 (dk_at dksX0_lasts_1 8 rfl rfl)
theorem dX0_lasts_33 : decode cX0_lasts 33 = .ok (.goto 12, 3) := dk_167 0 12 (dk_at dksX0_lasts_1 9 rfl rfl)
theorem dX0_lasts_36 : decode cX0_lasts 36 = .ok (.aload_n 0, 1) := dk_42 (dk_at dksX0_lasts_1 12 rfl rfl)
theorem dX0_lasts_37 : decode cX0_lasts 37 = .ok (.iload 4, 2) := dk_21 4 (dk_at dksX0_lasts_1 13 rfl rfl)
theorem dX0_lasts_39 : decode cX0_lasts 39 = .ok (.invokevirtual 431, 3) := dk_182 1 175 (dk_at dksX0_lasts_1 15 rfl rfl)
theorem dX0_lasts_42 : decode cX0_lasts 42 = .ok (.getfield 291, 3) := dk_180 1 35 (dk_at dksX0_lasts_1 18 rfl rfl)
theorem dX0_lasts_45 : decode cX0_lasts 45 = .ok (.iastore, 1) := dk_79 (dk_at dksX0_lasts_1 21 rfl rfl)
theorem dX0_lasts_46 : decode cX0_lasts 46 = .ok (.iinc 4 1, 3) := dk_132 4 1 (dk_at dksX0_lasts_2 0 rfl rfl)
theorem dX0_lasts_49 : decode cX0_lasts 49 = .ok (.goto (-41), 3) := dk_167 255 215 (dk_at dksX0_lasts_2 3 rfl rfl)
theorem dX0_lasts_52 : decode cX0_lasts 52 = .ok (.iconst 0, 1) := dk_3 (dk_at dksX0_lasts_2 6 rfl rfl)
theorem dX0_lasts_53 : decode cX0_lasts 53 = .ok (.istore 4, 2) := dk_54 4 (dk_at dksX0_lasts_2 7 rfl rfl)
theorem dX0_lasts_55 : decode cX0_lasts 55 = .ok (.iload 4, 2) := dk_21 4 (dk_at dksX0_lasts_2 9 rfl rfl)
theorem dX0_lasts_57 : decode cX0_lasts 57 = .ok (.bipush 60, 2) := dk_16 60 (dk_at dksX0_lasts_2 11 rfl rfl)
theorem dX0_lasts_59 : decode cX0_lasts 59 = .ok (.if_icmp .ge 112, 3) := dk_162 0 112 (dk_at dksX0_lasts_2 13 rfl rfl)
theorem dX0_lasts_62 : decode cX0_lasts 62 = .ok (.iconst 1, 1) := dk_4 (dk_at dksX0_lasts_2 16 rfl rfl)
theorem dX0_lasts_63 : decode cX0_lasts 63 = .ok (.istore 5, 2) := dk_54 5 (dk_at dksX0_lasts_2 17 rfl rfl)
theorem dX0_lasts_65 : decode cX0_lasts 65 = .ok (.iconst 0, 1) := dk_3 (dk_at dksX0_lasts_2 19 rfl rfl)
theorem dX0_lasts_66 : decode cX0_lasts 66 = .ok (.istore 6, 2) := dk_54 6 (dk_at dksX0_lasts_2 20 rfl rfl)
theorem dX0_lasts_68 : decode cX0_lasts 68 = .ok (.iload 6, 2) := dk_21 6 (dk_at dksX0_lasts_2 22 rfl rfl)
theorem dX0_lasts_70 : decode cX0_lasts 70 = .ok (.aload_n 0, 1) := dk_42 (dk_at dksX0_lasts_3 0 rfl rfl)
theorem dX0_lasts_71 : decode cX0_lasts 71 = .ok (.getfield 184, 3) := dk_180 0 184 (dk_at dksX0_lasts_3 1 rfl rfl)
theorem dX0_lasts_74 : decode cX0_lasts 74 = .ok (.if_icmp .ge 83, 3) := dk_162 0 83 (dk_at dksX0_lasts_3 4 rfl rfl)
theorem dX0_lasts_77 : decode cX0_lasts 77 = .ok (.aload_n 0, 1) := dk_42 (dk_at dksX0_lasts_3 7 rfl rfl)
theorem dX0_lasts_78 : decode cX0_lasts 78 = .ok (.iload 6, 2) := dk_21 6 (dk_at dksX0_lasts_3 8 rfl rfl)
theorem dX0_lasts_80 : decode cX0_lasts 80 = .ok (.invokevirtual 431, 3) := dk_182 1 175 (dk_at dksX0_lasts_3 10 rfl rfl)
theorem dX0_lasts_83 : decode cX0_lasts 83 = .ok (.ifnonnull 6, 3) := dk_199 0 6 (dk_at dksX0_lasts_3 13 rfl rfl)
theorem dX0_lasts_86 : decode cX0_lasts 86 = .ok (.goto 65, 3) := dk_167 0 65 (dk_at dksX0_lasts_3 16 rfl rfl)
theorem dX0_lasts_89 : decode cX0_lasts 89 = .ok (.iload_n 3, 1) := dk_29 (dk_at dksX0_lasts_3 19 rfl rfl)
theorem dX0_lasts_90 : decode cX0_lasts 90 = .ok (.iload_n 2, 1) := dk_28 (dk_at dksX0_lasts_3 20 rfl rfl)
theorem dX0_lasts_91 : decode cX0_lasts 91 = .ok (.invokestatic 1, 3) := dk_184 0 1 (dk_at dksX0_lasts_3 21 rfl rfl)
theorem dX0_lasts_94 : decode cX0_lasts 94 = .ok (.istore 7, 2) := dk_54 7 (dk_at dksX0_lasts_4 0 rfl rfl)
theorem dX0_lasts_96 : decode cX0_lasts 96 = .ok (.iload_n 3, 1) := dk_29 (dk_at dksX0_lasts_4 2 rfl rfl)
theorem dX0_lasts_97 : decode cX0_lasts 97 = .ok (.iload 7, 2) := dk_21 7 (dk_at dksX0_lasts_4 3 rfl rfl)
theorem dX0_lasts_99 : decode cX0_lasts 99 = .ok (.isub, 1) := dk_100 (dk_at dksX0_lasts_4 5 rfl rfl)
theorem dX0_lasts_100 : decode cX0_lasts 100 = .ok (.istore_n 3, 1) := dk_62 (dk_at dksX0_lasts_4 6 rfl rfl)
theorem dX0_lasts_101 : decode cX0_lasts 101 = .ok (.aload_n 0, 1) := dk_42 (dk_at dksX0_lasts_4 7 rfl rfl)
theorem dX0_lasts_102 : decode cX0_lasts 102 = .ok (.getfield 103, 3) := dk_180 0 103 (dk_at dksX0_lasts_4 8 rfl rfl)
theorem dX0_lasts_105 : decode cX0_lasts 105 = .ok (.iload 6, 2) := dk_21 6 (dk_at dksX0_lasts_4 11 rfl rfl)
theorem dX0_lasts_107 : decode cX0_lasts 107 = .ok (.aload_n 0, 1) := dk_42 (dk_at dksX0_lasts_4 13 rfl rfl)
theorem dX0_lasts_108 : decode cX0_lasts 108 = .ok (.getfield 103, 3) := dk_180 0 103 (dk_at dksX0_lasts_4 14 rfl rfl)
theorem dX0_lasts_111 : decode cX0_lasts 111 = .ok (.iload 6, 2) := dk_21 6 (dk_at dksX0_lasts_4 17 rfl rfl)
theorem dX0_lasts_113 : decode cX0_lasts 113 = .ok (.iaload, 1) := dk_46 (dk_at dksX0_lasts_4 19 rfl rfl)
theorem dX0_lasts_114 : decode cX0_lasts 114 = .ok (.bipush 6, 2) := dk_16 6 (dk_at dksX0_lasts_4 20 rfl rfl)
theorem dX0_lasts_116 : decode cX0_lasts 116 = .ok (.isub, 1) := dk_100 (dk_at dksX0_lasts_4 22 rfl rfl)
theorem dX0_lasts_117 : decode cX0_lasts 117 = .ok (.iconst 2, 1) := dk_5 (dk_at dksX0_lasts_4 23 rfl rfl)
theorem dX0_lasts_118 : decode cX0_lasts 118 = .ok (.iload 7, 2) := dk_21 7 (dk_at dksX0_lasts_5 0 rfl rfl)
theorem dX0_lasts_120 : decode cX0_lasts 120 = .ok (.imul, 1) := dk_104 (dk_at dksX0_lasts_5 2 rfl rfl)
theorem dX0_lasts_121 : decode cX0_lasts 121 = .ok (.iadd, 1) := dk_96 (dk_at dksX0_lasts_5 3 rfl rfl)
theorem dX0_lasts_122 : decode cX0_lasts 122 = .ok (.iconst 0, 1) := dk_3 (dk_at dksX0_lasts_5 4 rfl rfl)
theorem dX0_lasts_123 : decode cX0_lasts 123 = .ok (.sipush 999, 3) := dk_17 3 231 (dk_at dksX0_lasts_5 5 rfl rfl)
theorem dX0_lasts_126 : decode cX0_lasts 126 = .ok (.invokestatic 361, 3) := dk_184 1 105 (dk_at dksX0_lasts_5 8 rfl rfl)
theorem dX0_lasts_129 : decode cX0_lasts 129 = .ok (.iastore, 1) := dk_79 (dk_at dksX0_lasts_5 11 rfl rfl)
theorem dX0_lasts_130 : decode cX0_lasts 130 = .ok (.iload 5, 2) := dk_21 5 (dk_at dksX0_lasts_5 12 rfl rfl)
theorem dX0_lasts_132 : decode cX0_lasts 132 = .ok (.aload_n 0, 1) := dk_42 (dk_at dksX0_lasts_5 14 rfl rfl)
theorem dX0_lasts_133 : decode cX0_lasts 133 = .ok (.getfield 103, 3) := dk_180 0 103 (dk_at dksX0_lasts_5 15 rfl rfl)
theorem dX0_lasts_136 : decode cX0_lasts 136 = .ok (.iload 6, 2) := dk_21 6 (dk_at dksX0_lasts_5 18 rfl rfl)
theorem dX0_lasts_138 : decode cX0_lasts 138 = .ok (.iaload, 1) := dk_46 (dk_at dksX0_lasts_5 20 rfl rfl)
theorem dX0_lasts_139 : decode cX0_lasts 139 = .ok (.iload_n 1, 1) := dk_27 (dk_at dksX0_lasts_5 21 rfl rfl)
theorem dX0_lasts_140 : decode cX0_lasts 140 = .ok (.if_icmp .le 7, 3) := dk_164 0 7 (dk_at dksX0_lasts_6 0 rfl rfl)
theorem dX0_lasts_143 : decode cX0_lasts 143 = .ok (.iconst 1, 1) := dk_4 (dk_at dksX0_lasts_6 3 rfl rfl)
theorem dX0_lasts_144 : decode cX0_lasts 144 = .ok (.goto 4, 3) := dk_167 0 4 (dk_at dksX0_lasts_6 4 rfl rfl)
theorem dX0_lasts_147 : decode cX0_lasts 147 = .ok (.iconst 0, 1) := dk_3 (dk_at dksX0_lasts_6 7 rfl rfl)
theorem dX0_lasts_148 : decode cX0_lasts 148 = .ok (.iand, 1) := dk_126 (dk_at dksX0_lasts_6 8 rfl rfl)
theorem dX0_lasts_149 : decode cX0_lasts 149 = .ok (.istore 5, 2) := dk_54 5 (dk_at dksX0_lasts_6 9 rfl rfl)
theorem dX0_lasts_151 : decode cX0_lasts 151 = .ok (.iinc 6 1, 3) := dk_132 6 1 (dk_at dksX0_lasts_6 11 rfl rfl)
theorem dX0_lasts_154 : decode cX0_lasts 154 = .ok (.goto (-86), 3) := dk_167 255 170 (dk_at dksX0_lasts_6 14 rfl rfl)
theorem dX0_lasts_157 : decode cX0_lasts 157 = .ok (.iload 5, 2) := dk_21 5 (dk_at dksX0_lasts_6 17 rfl rfl)
theorem dX0_lasts_159 : decode cX0_lasts 159 = .ok (.ifCond .ne 6, 3) := dk_154 0 6 (dk_at dksX0_lasts_6 19 rfl rfl)
theorem dX0_lasts_162 : decode cX0_lasts 162 = .ok (.iload 4, 2) := dk_21 4 (dk_at dksX0_lasts_6 22 rfl rfl)
theorem dX0_lasts_164 : decode cX0_lasts 164 = .ok (.ireturn, 1) := dk_172 (dk_at dksX0_lasts_7 0 rfl rfl)
theorem dX0_lasts_165 : decode cX0_lasts 165 = .ok (.iinc 4 1, 3) := dk_132 4 1 (dk_at dksX0_lasts_7 1 rfl rfl)
theorem dX0_lasts_168 : decode cX0_lasts 168 = .ok (.goto (-113), 3) := dk_167 255 143 (dk_at dksX0_lasts_7 4 rfl rfl)
theorem dX0_lasts_171 : decode cX0_lasts 171 = .ok (.bipush 60, 2) := dk_16 60 (dk_at dksX0_lasts_7 7 rfl rfl)
theorem dX0_lasts_173 : decode cX0_lasts 173 = .ok (.ireturn, 1) := dk_172 (dk_at dksX0_lasts_7 9 rfl rfl)
abbrev cX0_best : ByteArray := prog_1_method_67_code
def yX0_best : MethodName := ⟨RX0, "best", "(I)I"⟩
def dkwX0_best_2 : List UInt8 := [164, 0, 5, 29, 61, 132, 3, 1, 167, 255, 230, 28, 172]
abbrev dktX0_best_2 : List UInt8 := dkwX0_best_2 ++ []
def dkwX0_best_1 : List UInt8 := [3, 61, 4, 62, 29, 16, 10, 162, 0, 26, 42, 27, 29, 182, 1, 224, 42, 27, 28, 182, 1, 224]
abbrev dktX0_best_1 : List UInt8 := dkwX0_best_1 ++ dktX0_best_2
def dkwX0_best_0 : List UInt8 := [27, 133, 9, 20, 0, 247, 184, 0, 167, 154, 0, 5, 2, 172, 42, 182, 1, 178, 154, 0, 6, 16, 254, 172]
abbrev dktX0_best_0 : List UInt8 := dkwX0_best_0 ++ dktX0_best_1
theorem dksX0_best_0 : cX0_best.data.toList.drop 0 = dktX0_best_0 := by decide +kernel
theorem dksX0_best_1 : cX0_best.data.toList.drop 24 = dktX0_best_1 := dk_seg dksX0_best_0 24 rfl rfl
theorem dksX0_best_2 : cX0_best.data.toList.drop 46 = dktX0_best_2 := dk_seg dksX0_best_1 22 rfl rfl
theorem dX0_best_0 : decode cX0_best 0 = .ok (.iload_n 1, 1) := dk_27 (dk_at dksX0_best_0 0 rfl rfl)
theorem dX0_best_1 : decode cX0_best 1 = .ok (.i2l, 1) := dk_133 (dk_at dksX0_best_0 1 rfl rfl)
theorem dX0_best_2 : decode cX0_best 2 = .ok (.lconst 0, 1) := dk_9 (dk_at dksX0_best_0 2 rfl rfl)
theorem dX0_best_3 : decode cX0_best 3 = .ok (.ldc2_w 247, 3) := dk_20 0 247 (dk_at dksX0_best_0 3 rfl rfl)
theorem dX0_best_6 : decode cX0_best 6 = .ok (.invokestatic 167, 3) := dk_184 0 167 (dk_at dksX0_best_0 6 rfl rfl)
theorem dX0_best_9 : decode cX0_best 9 = .ok (.ifCond .ne 5, 3) := dk_154 0 5 (dk_at dksX0_best_0 9 rfl rfl)
theorem dX0_best_12 : decode cX0_best 12 = .ok (.iconst (-1), 1) := dk_2 (dk_at dksX0_best_0 12 rfl rfl)
theorem dX0_best_13 : decode cX0_best 13 = .ok (.ireturn, 1) := dk_172 (dk_at dksX0_best_0 13 rfl rfl)
theorem dX0_best_14 : decode cX0_best 14 = .ok (.aload_n 0, 1) := dk_42 (dk_at dksX0_best_0 14 rfl rfl)
theorem dX0_best_15 : decode cX0_best 15 = .ok (.invokevirtual 434, 3) := dk_182 1 178 (dk_at dksX0_best_0 15 rfl rfl)
theorem dX0_best_18 : decode cX0_best 18 = .ok (.ifCond .ne 6, 3) := dk_154 0 6 (dk_at dksX0_best_0 18 rfl rfl)
theorem dX0_best_21 : decode cX0_best 21 = .ok (.bipush (-2), 2) := dk_16 254 (dk_at dksX0_best_0 21 rfl rfl)
theorem dX0_best_23 : decode cX0_best 23 = .ok (.ireturn, 1) := dk_172 (dk_at dksX0_best_0 23 rfl rfl)
theorem dX0_best_24 : decode cX0_best 24 = .ok (.iconst 0, 1) := dk_3 (dk_at dksX0_best_1 0 rfl rfl)
theorem dX0_best_25 : decode cX0_best 25 = .ok (.istore_n 2, 1) := dk_61 (dk_at dksX0_best_1 1 rfl rfl)
theorem dX0_best_26 : decode cX0_best 26 = .ok (.iconst 1, 1) := dk_4 (dk_at dksX0_best_1 2 rfl rfl)
theorem dX0_best_27 : decode cX0_best 27 = .ok (.istore_n 3, 1) := dk_62 (dk_at dksX0_best_1 3 rfl rfl)
theorem dX0_best_28 : decode cX0_best 28 = .ok (.iload_n 3, 1) := dk_29 (dk_at dksX0_best_1 4 rfl rfl)
theorem dX0_best_29 : decode cX0_best 29 = .ok (.bipush 10, 2) := dk_16 10 (dk_at dksX0_best_1 5 rfl rfl)
theorem dX0_best_31 : decode cX0_best 31 = .ok (.if_icmp .ge 26, 3) := dk_162 0 26 (dk_at dksX0_best_1 7 rfl rfl)
theorem dX0_best_34 : decode cX0_best 34 = .ok (.aload_n 0, 1) := dk_42 (dk_at dksX0_best_1 10 rfl rfl)
theorem dX0_best_35 : decode cX0_best 35 = .ok (.iload_n 1, 1) := dk_27 (dk_at dksX0_best_1 11 rfl rfl)
theorem dX0_best_36 : decode cX0_best 36 = .ok (.iload_n 3, 1) := dk_29 (dk_at dksX0_best_1 12 rfl rfl)
theorem dX0_best_37 : decode cX0_best 37 = .ok (.invokevirtual 480, 3) := dk_182 1 224 (dk_at dksX0_best_1 13 rfl rfl)
theorem dX0_best_40 : decode cX0_best 40 = .ok (.aload_n 0, 1) := dk_42 (dk_at dksX0_best_1 16 rfl rfl)
theorem dX0_best_41 : decode cX0_best 41 = .ok (.iload_n 1, 1) := dk_27 (dk_at dksX0_best_1 17 rfl rfl)
theorem dX0_best_42 : decode cX0_best 42 = .ok (.iload_n 2, 1) := dk_28 (dk_at dksX0_best_1 18 rfl rfl)
theorem dX0_best_43 : decode cX0_best 43 = .ok (.invokevirtual 480, 3) := dk_182 1 224 (dk_at dksX0_best_1 19 rfl rfl)
theorem dX0_best_46 : decode cX0_best 46 = .ok (.if_icmp .le 5, 3) := dk_164 0 5 (dk_at dksX0_best_2 0 rfl rfl)
theorem dX0_best_49 : decode cX0_best 49 = .ok (.iload_n 3, 1) := dk_29 (dk_at dksX0_best_2 3 rfl rfl)
theorem dX0_best_50 : decode cX0_best 50 = .ok (.istore_n 2, 1) := dk_61 (dk_at dksX0_best_2 4 rfl rfl)
theorem dX0_best_51 : decode cX0_best 51 = .ok (.iinc 3 1, 3) := dk_132 3 1 (dk_at dksX0_best_2 5 rfl rfl)
theorem dX0_best_54 : decode cX0_best 54 = .ok (.goto (-26), 3) := dk_167 255 230 (dk_at dksX0_best_2 8 rfl rfl)
theorem dX0_best_57 : decode cX0_best 57 = .ok (.iload_n 2, 1) := dk_28 (dk_at dksX0_best_2 11 rfl rfl)
theorem dX0_best_58 : decode cX0_best 58 = .ok (.ireturn, 1) := dk_172 (dk_at dksX0_best_2 12 rfl rfl)
abbrev cX0_down : ByteArray := prog_1_method_68_code
def yX0_down : MethodName := ⟨RX0, "down", "(III)I"⟩
def dkwX0_down_6 : List UInt8 := [180, 1, 231, 90, 4, 96, 181, 1, 231, 25, 6, 180, 1, 234, 79, 25, 6, 180, 1, 234, 172]
abbrev dktX0_down_6 : List UInt8 := dkwX0_down_6 ++ []
def dkwX0_down_5 : List UInt8 := [184, 0, 7, 29, 96, 181, 1, 234, 42, 180, 0, 106, 42, 180, 1, 231, 28, 79, 42, 180, 0, 109, 42, 89]
abbrev dktX0_down_5 : List UInt8 := dkwX0_down_5 ++ dktX0_down_6
def dkwX0_down_4 : List UInt8 := [160, 0, 6, 16, 253, 172, 25, 4, 192, 0, 232, 58, 6, 25, 6, 25, 6, 180, 1, 234, 42, 180, 1, 58]
abbrev dktX0_down_4 : List UInt8 := dkwX0_down_4 ++ dktX0_down_5
def dkwX0_down_3 : List UInt8 := [154, 0, 5, 2, 172, 25, 4, 182, 1, 8, 154, 0, 6, 16, 254, 172, 42, 180, 1, 231, 16, 40]
abbrev dktX0_down_3 : List UInt8 := dkwX0_down_3 ++ dktX0_down_4
def dkwX0_down_2 : List UInt8 := [25, 4, 193, 0, 232, 153, 0, 20, 21, 5, 153, 0, 15, 29, 133, 10, 20, 0, 178, 184, 0, 167]
abbrev dktX0_down_2 : List UInt8 := dkwX0_down_2 ++ dktX0_down_3
def dkwX0_down_1 : List UInt8 := [153, 0, 17, 28, 133, 20, 1, 227, 20, 1, 229, 184, 0, 167, 153, 0, 7, 4, 167, 0, 4, 3, 54, 5]
abbrev dktX0_down_1 : List UInt8 := dkwX0_down_1 ++ dktX0_down_2
def dkwX0_down_0 : List UInt8 := [42, 27, 182, 1, 27, 58, 4, 28, 16, 10, 161, 0, 17, 28, 17, 39, 6, 163, 0, 10, 28, 16, 10, 112]
abbrev dktX0_down_0 : List UInt8 := dkwX0_down_0 ++ dktX0_down_1
theorem dksX0_down_0 : cX0_down.data.toList.drop 0 = dktX0_down_0 := by decide +kernel
theorem dksX0_down_1 : cX0_down.data.toList.drop 24 = dktX0_down_1 := dk_seg dksX0_down_0 24 rfl rfl
theorem dksX0_down_2 : cX0_down.data.toList.drop 48 = dktX0_down_2 := dk_seg dksX0_down_1 24 rfl rfl
theorem dksX0_down_3 : cX0_down.data.toList.drop 70 = dktX0_down_3 := dk_seg dksX0_down_2 22 rfl rfl
theorem dksX0_down_4 : cX0_down.data.toList.drop 92 = dktX0_down_4 := dk_seg dksX0_down_3 22 rfl rfl
theorem dksX0_down_5 : cX0_down.data.toList.drop 116 = dktX0_down_5 := dk_seg dksX0_down_4 24 rfl rfl
theorem dksX0_down_6 : cX0_down.data.toList.drop 140 = dktX0_down_6 := dk_seg dksX0_down_5 24 rfl rfl
theorem dX0_down_0 : decode cX0_down 0 = .ok (.aload_n 0, 1) := dk_42 (dk_at dksX0_down_0 0 rfl rfl)
theorem dX0_down_1 : decode cX0_down 1 = .ok (.iload_n 1, 1) := dk_27 (dk_at dksX0_down_0 1 rfl rfl)
theorem dX0_down_2 : decode cX0_down 2 = .ok (.invokevirtual 283, 3) := dk_182 1 27 (dk_at dksX0_down_0 2 rfl rfl)
theorem dX0_down_5 : decode cX0_down 5 = .ok (.astore 4, 2) := dk_58 4 (dk_at dksX0_down_0 5 rfl rfl)
theorem dX0_down_7 : decode cX0_down 7 = .ok (.iload_n 2, 1) := dk_28 (dk_at dksX0_down_0 7 rfl rfl)
theorem dX0_down_8 : decode cX0_down 8 = .ok (.bipush 10, 2) := dk_16 10 (dk_at dksX0_down_0 8 rfl rfl)
theorem dX0_down_10 : decode cX0_down 10 = .ok (.if_icmp .lt 17, 3) := dk_161 0 17 (dk_at dksX0_down_0 10 rfl rfl)
theorem dX0_down_13 : decode cX0_down 13 = .ok (.iload_n 2, 1) := dk_28 (dk_at dksX0_down_0 13 rfl rfl)
theorem dX0_down_14 : decode cX0_down 14 = .ok (.sipush 9990, 3) := dk_17 39 6 (dk_at dksX0_down_0 14 rfl rfl)
theorem dX0_down_17 : decode cX0_down 17 = .ok (.if_icmp .gt 10, 3) := dk_163 0 10 (dk_at dksX0_down_0 17 rfl rfl)
theorem dX0_down_20 : decode cX0_down 20 = .ok (.iload_n 2, 1) := dk_28 (dk_at dksX0_down_0 20 rfl rfl)
theorem dX0_down_21 : decode cX0_down 21 = .ok (.bipush 10, 2) := dk_16 10 (dk_at dksX0_down_0 21 rfl rfl)
theorem dX0_down_23 : decode cX0_down 23 = .ok (.irem, 1) := dk_112 (dk_at dksX0_down_0 23 rfl rfl)
theorem dX0_down_24 : decode cX0_down 24 = .ok (.ifCond .eq 17, 3) := dk_153 0 17 (dk_at dksX0_down_1 0 rfl rfl)
theorem dX0_down_27 : decode cX0_down 27 = .ok (.iload_n 2, 1) := dk_28 (dk_at dksX0_down_1 3 rfl rfl)
theorem dX0_down_28 : decode cX0_down 28 = .ok (.i2l, 1) := dk_133 (dk_at dksX0_down_1 4 rfl rfl)
theorem dX0_down_29 : decode cX0_down 29 = .ok (.ldc2_w 483, 3) := dk_20 1 227 (dk_at dksX0_down_1 5 rfl rfl)
theorem dX0_down_32 : decode cX0_down 32 = .ok (.ldc2_w 485, 3) := dk_20 1 229 (dk_at dksX0_down_1 8 rfl rfl)
theorem dX0_down_35 : decode cX0_down 35 = .ok (.invokestatic 167, 3) := dk_184 0 167 (dk_at dksX0_down_1 11 rfl rfl)
theorem dX0_down_38 : decode cX0_down 38 = .ok (.ifCond .eq 7, 3) := dk_153 0 7 (dk_at dksX0_down_1 14 rfl rfl)
theorem dX0_down_41 : decode cX0_down 41 = .ok (.iconst 1, 1) := dk_4 (dk_at dksX0_down_1 17 rfl rfl)
theorem dX0_down_42 : decode cX0_down 42 = .ok (.goto 4, 3) := dk_167 0 4 (dk_at dksX0_down_1 18 rfl rfl)
theorem dX0_down_45 : decode cX0_down 45 = .ok (.iconst 0, 1) := dk_3 (dk_at dksX0_down_1 21 rfl rfl)
theorem dX0_down_46 : decode cX0_down 46 = .ok (.istore 5, 2) := dk_54 5 (dk_at dksX0_down_1 22 rfl rfl)
theorem dX0_down_48 : decode cX0_down 48 = .ok (.aload 4, 2) := dk_25 4 (dk_at dksX0_down_2 0 rfl rfl)
theorem dX0_down_50 : decode cX0_down 50 = .ok (.instanceof 232, 3) := dk_193 0 232 (dk_at dksX0_down_2 2 rfl rfl)
theorem dX0_down_53 : decode cX0_down 53 = .ok (.ifCond .eq 20, 3) := dk_153 0 20 (dk_at dksX0_down_2 5 rfl rfl)
theorem dX0_down_56 : decode cX0_down 56 = .ok (.iload 5, 2) := dk_21 5 (dk_at dksX0_down_2 8 rfl rfl)
theorem dX0_down_58 : decode cX0_down 58 = .ok (.ifCond .eq 15, 3) := dk_153 0 15 (dk_at dksX0_down_2 10 rfl rfl)
theorem dX0_down_61 : decode cX0_down 61 = .ok (.iload_n 3, 1) := dk_29 (dk_at dksX0_down_2 13 rfl rfl)
theorem dX0_down_62 : decode cX0_down 62 = .ok (.i2l, 1) := dk_133 (dk_at dksX0_down_2 14 rfl rfl)
theorem dX0_down_63 : decode cX0_down 63 = .ok (.lconst 1, 1) := dk_10 (dk_at dksX0_down_2 15 rfl rfl)
theorem dX0_down_64 : decode cX0_down 64 = .ok (.ldc2_w 178, 3) := dk_20 0 178 (dk_at dksX0_down_2 16 rfl rfl)
theorem dX0_down_67 : decode cX0_down 67 = .ok (.invokestatic 167, 3) := dk_184 0 167 (dk_at dksX0_down_2 19 rfl rfl)
theorem dX0_down_70 : decode cX0_down 70 = .ok (.ifCond .ne 5, 3) := dk_154 0 5 (dk_at dksX0_down_3 0 rfl rfl)
theorem dX0_down_73 : decode cX0_down 73 = .ok (.iconst (-1), 1) := dk_2 (dk_at dksX0_down_3 3 rfl rfl)
theorem dX0_down_74 : decode cX0_down 74 = .ok (.ireturn, 1) := dk_172 (dk_at dksX0_down_3 4 rfl rfl)
theorem dX0_down_75 : decode cX0_down 75 = .ok (.aload 4, 2) := dk_25 4 (dk_at dksX0_down_3 5 rfl rfl)
theorem dX0_down_77 : decode cX0_down 77 = .ok (.invokevirtual 264, 3) := dk_182 1 8 (dk_at dksX0_down_3 7 rfl rfl)
theorem dX0_down_80 : decode cX0_down 80 = .ok (.ifCond .ne 6, 3) := dk_154 0 6 (dk_at dksX0_down_3 10 rfl rfl)
theorem dX0_down_83 : decode cX0_down 83 = .ok (.bipush (-2), 2) := dk_16 254 (dk_at dksX0_down_3 13 rfl rfl)
theorem dX0_down_85 : decode cX0_down 85 = .ok (.ireturn, 1) := dk_172 (dk_at dksX0_down_3 15 rfl rfl)
theorem dX0_down_86 : decode cX0_down 86 = .ok (.aload_n 0, 1) := dk_42 (dk_at dksX0_down_3 16 rfl rfl)
theorem dX0_down_87 : decode cX0_down 87 = .ok (.getfield 487, 3) := dk_180 1 231 (dk_at dksX0_down_3 17 rfl rfl)
theorem dX0_down_90 : decode cX0_down 90 = .ok (.bipush 40, 2) := dk_16 40 (dk_at dksX0_down_3 20 rfl rfl)
theorem dX0_down_92 : decode cX0_down 92 = .ok (.if_icmp .ne 6, 3) := dk_160 0 6 (dk_at dksX0_down_4 0 rfl rfl)
theorem dX0_down_95 : decode cX0_down 95 = .ok (.bipush (-3), 2) := dk_16 253 (dk_at dksX0_down_4 3 rfl rfl)
theorem dX0_down_97 : decode cX0_down 97 = .ok (.ireturn, 1) := dk_172 (dk_at dksX0_down_4 5 rfl rfl)
theorem dX0_down_98 : decode cX0_down 98 = .ok (.aload 4, 2) := dk_25 4 (dk_at dksX0_down_4 6 rfl rfl)
theorem dX0_down_100 : decode cX0_down 100 = .ok (.checkcast 232, 3) := dk_192 0 232 (dk_at dksX0_down_4 8 rfl rfl)
theorem dX0_down_103 : decode cX0_down 103 = .ok (.astore 6, 2) := dk_58 6 (dk_at dksX0_down_4 11 rfl rfl)
theorem dX0_down_105 : decode cX0_down 105 = .ok (.aload 6, 2) := dk_25 6 (dk_at dksX0_down_4 13 rfl rfl)
theorem dX0_down_107 : decode cX0_down 107 = .ok (.aload 6, 2) := dk_25 6 (dk_at dksX0_down_4 15 rfl rfl)
theorem dX0_down_109 : decode cX0_down 109 = .ok (.getfield 490, 3) := dk_180 1 234 (dk_at dksX0_down_4 17 rfl rfl)
theorem dX0_down_112 : decode cX0_down 112 = .ok (.aload_n 0, 1) := dk_42 (dk_at dksX0_down_4 20 rfl rfl)
theorem dX0_down_113 : decode cX0_down 113 = .ok (.getfield 314, 3) := dk_180 1 58 (dk_at dksX0_down_4 21 rfl rfl)
theorem dX0_down_116 : decode cX0_down 116 = .ok (.invokestatic 7, 3) := dk_184 0 7 (dk_at dksX0_down_5 0 rfl rfl)
theorem dX0_down_119 : decode cX0_down 119 = .ok (.iload_n 3, 1) := dk_29 (dk_at dksX0_down_5 3 rfl rfl)
theorem dX0_down_120 : decode cX0_down 120 = .ok (.iadd, 1) := dk_96 (dk_at dksX0_down_5 4 rfl rfl)
theorem dX0_down_121 : decode cX0_down 121 = .ok (.putfield 490, 3) := dk_181 1 234 (dk_at dksX0_down_5 5 rfl rfl)
theorem dX0_down_124 : decode cX0_down 124 = .ok (.aload_n 0, 1) := dk_42 (dk_at dksX0_down_5 8 rfl rfl)
theorem dX0_down_125 : decode cX0_down 125 = .ok (.getfield 106, 3) := dk_180 0 106 (dk_at dksX0_down_5 9 rfl rfl)
theorem dX0_down_128 : decode cX0_down 128 = .ok (.aload_n 0, 1) := dk_42 (dk_at dksX0_down_5 12 rfl rfl)
theorem dX0_down_129 : decode cX0_down 129 = .ok (.getfield 487, 3) := dk_180 1 231 (dk_at dksX0_down_5 13 rfl rfl)
theorem dX0_down_132 : decode cX0_down 132 = .ok (.iload_n 2, 1) := dk_28 (dk_at dksX0_down_5 16 rfl rfl)
theorem dX0_down_133 : decode cX0_down 133 = .ok (.iastore, 1) := dk_79 (dk_at dksX0_down_5 17 rfl rfl)
theorem dX0_down_134 : decode cX0_down 134 = .ok (.aload_n 0, 1) := dk_42 (dk_at dksX0_down_5 18 rfl rfl)
theorem dX0_down_135 : decode cX0_down 135 = .ok (.getfield 109, 3) := dk_180 0 109 (dk_at dksX0_down_5 19 rfl rfl)
theorem dX0_down_138 : decode cX0_down 138 = .ok (.aload_n 0, 1) := dk_42 (dk_at dksX0_down_5 22 rfl rfl)
theorem dX0_down_139 : decode cX0_down 139 = .ok (.dup, 1) := dk_89 (dk_at dksX0_down_5 23 rfl rfl)
theorem dX0_down_140 : decode cX0_down 140 = .ok (.getfield 487, 3) := dk_180 1 231 (dk_at dksX0_down_6 0 rfl rfl)
theorem dX0_down_143 : decode cX0_down 143 = .ok (.dup_x1, 1) := dk_90 (dk_at dksX0_down_6 3 rfl rfl)
theorem dX0_down_144 : decode cX0_down 144 = .ok (.iconst 1, 1) := dk_4 (dk_at dksX0_down_6 4 rfl rfl)
theorem dX0_down_145 : decode cX0_down 145 = .ok (.iadd, 1) := dk_96 (dk_at dksX0_down_6 5 rfl rfl)
theorem dX0_down_146 : decode cX0_down 146 = .ok (.putfield 487, 3) := dk_181 1 231 (dk_at dksX0_down_6 6 rfl rfl)
theorem dX0_down_149 : decode cX0_down 149 = .ok (.aload 6, 2) := dk_25 6 (dk_at dksX0_down_6 9 rfl rfl)
theorem dX0_down_151 : decode cX0_down 151 = .ok (.getfield 490, 3) := dk_180 1 234 (dk_at dksX0_down_6 11 rfl rfl)
theorem dX0_down_154 : decode cX0_down 154 = .ok (.iastore, 1) := dk_79 (dk_at dksX0_down_6 14 rfl rfl)
theorem dX0_down_155 : decode cX0_down 155 = .ok (.aload 6, 2) := dk_25 6 (dk_at dksX0_down_6 15 rfl rfl)
theorem dX0_down_157 : decode cX0_down 157 = .ok (.getfield 490, 3) := dk_180 1 234 (dk_at dksX0_down_6 17 rfl rfl)
theorem dX0_down_160 : decode cX0_down 160 = .ok (.ireturn, 1) := dk_172 (dk_at dksX0_down_6 20 rfl rfl)
abbrev cX0_below : ByteArray := prog_1_method_70_code
def yX0_below : MethodName := ⟨RX0, "below", "(I)I"⟩
def dkwX0_below_1 : List UInt8 := [180, 0, 112, 27, 46, 167, 0, 4, 2, 172]
abbrev dktX0_below_1 : List UInt8 := dkwX0_below_1 ++ []
def dkwX0_below_0 : List UInt8 := [27, 133, 9, 20, 0, 178, 184, 0, 167, 153, 0, 23, 27, 154, 0, 10, 42, 180, 1, 181, 167, 0, 13, 42]
abbrev dktX0_below_0 : List UInt8 := dkwX0_below_0 ++ dktX0_below_1
theorem dksX0_below_0 : cX0_below.data.toList.drop 0 = dktX0_below_0 := by decide +kernel
theorem dksX0_below_1 : cX0_below.data.toList.drop 24 = dktX0_below_1 := dk_seg dksX0_below_0 24 rfl rfl
theorem dX0_below_0 : decode cX0_below 0 = .ok (.iload_n 1, 1) := dk_27 (dk_at dksX0_below_0 0 rfl rfl)
theorem dX0_below_1 : decode cX0_below 1 = .ok (.i2l, 1) := dk_133 (dk_at dksX0_below_0 1 rfl rfl)
theorem dX0_below_2 : decode cX0_below 2 = .ok (.lconst 0, 1) := dk_9 (dk_at dksX0_below_0 2 rfl rfl)
theorem dX0_below_3 : decode cX0_below 3 = .ok (.ldc2_w 178, 3) := dk_20 0 178 (dk_at dksX0_below_0 3 rfl rfl)
theorem dX0_below_6 : decode cX0_below 6 = .ok (.invokestatic 167, 3) := dk_184 0 167 (dk_at dksX0_below_0 6 rfl rfl)
theorem dX0_below_9 : decode cX0_below 9 = .ok (.ifCond .eq 23, 3) := dk_153 0 23 (dk_at dksX0_below_0 9 rfl rfl)
theorem dX0_below_12 : decode cX0_below 12 = .ok (.iload_n 1, 1) := dk_27 (dk_at dksX0_below_0 12 rfl rfl)
theorem dX0_below_13 : decode cX0_below 13 = .ok (.ifCond .ne 10, 3) := dk_154 0 10 (dk_at dksX0_below_0 13 rfl rfl)
theorem dX0_below_16 : decode cX0_below 16 = .ok (.aload_n 0, 1) := dk_42 (dk_at dksX0_below_0 16 rfl rfl)
theorem dX0_below_17 : decode cX0_below 17 = .ok (.getfield 437, 3) := dk_180 1 181 (dk_at dksX0_below_0 17 rfl rfl)
theorem dX0_below_20 : decode cX0_below 20 = .ok (.goto 13, 3) := dk_167 0 13 (dk_at dksX0_below_0 20 rfl rfl)
theorem dX0_below_23 : decode cX0_below 23 = .ok (.aload_n 0, 1) := dk_42 (dk_at dksX0_below_0 23 rfl rfl)
theorem dX0_below_24 : decode cX0_below 24 = .ok (.getfield 112, 3) := dk_180 0 112 (dk_at dksX0_below_1 0 rfl rfl)
theorem dX0_below_27 : decode cX0_below 27 = .ok (.iload_n 1, 1) := dk_27 (dk_at dksX0_below_1 3 rfl rfl)
theorem dX0_below_28 : decode cX0_below 28 = .ok (.iaload, 1) := dk_46 (dk_at dksX0_below_1 4 rfl rfl)
theorem dX0_below_29 : decode cX0_below 29 = .ok (.goto 4, 3) := dk_167 0 4 (dk_at dksX0_below_1 5 rfl rfl)
theorem dX0_below_32 : decode cX0_below 32 = .ok (.iconst (-1), 1) := dk_2 (dk_at dksX0_below_1 8 rfl rfl)
theorem dX0_below_33 : decode cX0_below 33 = .ok (.ireturn, 1) := dk_172 (dk_at dksX0_below_1 9 rfl rfl)
abbrev cX0_need : ByteArray := prog_1_method_71_code
def yX0_need : MethodName := ⟨RX0, "need", "(II)I"⟩
def dkwX0_need_4 : List UInt8 := [96, 90, 181, 1, 237, 172]
abbrev dktX0_need_4 : List UInt8 := dkwX0_need_4 ++ []
def dkwX0_need_3 : List UInt8 := [180, 1, 237, 27, 16, 100, 112, 79, 42, 180, 0, 121, 42, 180, 1, 237, 28, 79, 42, 89, 180, 1, 237, 4]
abbrev dktX0_need_3 : List UInt8 := dkwX0_need_3 ++ dktX0_need_4
def dkwX0_need_2 : List UInt8 := [160, 0, 6, 16, 253, 172, 42, 180, 0, 115, 42, 180, 1, 237, 27, 16, 100, 108, 79, 42, 180, 0, 118, 42]
abbrev dktX0_need_2 : List UInt8 := dkwX0_need_2 ++ dktX0_need_3
def dkwX0_need_1 : List UInt8 := [153, 0, 15, 28, 133, 9, 20, 0, 249, 184, 0, 167, 154, 0, 5, 2, 172, 42, 180, 1, 237, 16, 10]
abbrev dktX0_need_1 : List UInt8 := dkwX0_need_1 ++ dktX0_need_2
def dkwX0_need_0 : List UInt8 := [27, 155, 0, 37, 27, 16, 100, 108, 133, 10, 20, 0, 178, 184, 0, 167, 153, 0, 22, 27, 16, 100, 112]
abbrev dktX0_need_0 : List UInt8 := dkwX0_need_0 ++ dktX0_need_1
theorem dksX0_need_0 : cX0_need.data.toList.drop 0 = dktX0_need_0 := by decide +kernel
theorem dksX0_need_1 : cX0_need.data.toList.drop 23 = dktX0_need_1 := dk_seg dksX0_need_0 23 rfl rfl
theorem dksX0_need_2 : cX0_need.data.toList.drop 46 = dktX0_need_2 := dk_seg dksX0_need_1 23 rfl rfl
theorem dksX0_need_3 : cX0_need.data.toList.drop 70 = dktX0_need_3 := dk_seg dksX0_need_2 24 rfl rfl
theorem dksX0_need_4 : cX0_need.data.toList.drop 94 = dktX0_need_4 := dk_seg dksX0_need_3 24 rfl rfl
theorem dX0_need_0 : decode cX0_need 0 = .ok (.iload_n 1, 1) := dk_27 (dk_at dksX0_need_0 0 rfl rfl)
theorem dX0_need_1 : decode cX0_need 1 = .ok (.ifCond .lt 37, 3) := dk_155 0 37 (dk_at dksX0_need_0 1 rfl rfl)
theorem dX0_need_4 : decode cX0_need 4 = .ok (.iload_n 1, 1) := dk_27 (dk_at dksX0_need_0 4 rfl rfl)
theorem dX0_need_5 : decode cX0_need 5 = .ok (.bipush 100, 2) := dk_16 100 (dk_at dksX0_need_0 5 rfl rfl)
theorem dX0_need_7 : decode cX0_need 7 = .ok (.idiv, 1) := dk_108 (dk_at dksX0_need_0 7 rfl rfl)
theorem dX0_need_8 : decode cX0_need 8 = .ok (.i2l, 1) := dk_133 (dk_at dksX0_need_0 8 rfl rfl)
theorem dX0_need_9 : decode cX0_need 9 = .ok (.lconst 1, 1) := dk_10 (dk_at dksX0_need_0 9 rfl rfl)
theorem dX0_need_10 : decode cX0_need 10 = .ok (.ldc2_w 178, 3) := dk_20 0 178 (dk_at dksX0_need_0 10 rfl rfl)
theorem dX0_need_13 : decode cX0_need 13 = .ok (.invokestatic 167, 3) := dk_184 0 167 (dk_at dksX0_need_0 13 rfl rfl)
theorem dX0_need_16 : decode cX0_need 16 = .ok (.ifCond .eq 22, 3) := dk_153 0 22 (dk_at dksX0_need_0 16 rfl rfl)
theorem dX0_need_19 : decode cX0_need 19 = .ok (.iload_n 1, 1) := dk_27 (dk_at dksX0_need_0 19 rfl rfl)
theorem dX0_need_20 : decode cX0_need 20 = .ok (.bipush 100, 2) := dk_16 100 (dk_at dksX0_need_0 20 rfl rfl)
theorem dX0_need_22 : decode cX0_need 22 = .ok (.irem, 1) := dk_112 (dk_at dksX0_need_0 22 rfl rfl)
theorem dX0_need_23 : decode cX0_need 23 = .ok (.ifCond .eq 15, 3) := dk_153 0 15 (dk_at dksX0_need_1 0 rfl rfl)
theorem dX0_need_26 : decode cX0_need 26 = .ok (.iload_n 2, 1) := dk_28 (dk_at dksX0_need_1 3 rfl rfl)
theorem dX0_need_27 : decode cX0_need 27 = .ok (.i2l, 1) := dk_133 (dk_at dksX0_need_1 4 rfl rfl)
theorem dX0_need_28 : decode cX0_need 28 = .ok (.lconst 0, 1) := dk_9 (dk_at dksX0_need_1 5 rfl rfl)
theorem dX0_need_29 : decode cX0_need 29 = .ok (.ldc2_w 249, 3) := dk_20 0 249 (dk_at dksX0_need_1 6 rfl rfl)
theorem dX0_need_32 : decode cX0_need 32 = .ok (.invokestatic 167, 3) := dk_184 0 167 (dk_at dksX0_need_1 9 rfl rfl)
theorem dX0_need_35 : decode cX0_need 35 = .ok (.ifCond .ne 5, 3) := dk_154 0 5 (dk_at dksX0_need_1 12 rfl rfl)
theorem dX0_need_38 : decode cX0_need 38 = .ok (.iconst (-1), 1) := dk_2 (dk_at dksX0_need_1 15 rfl rfl)
theorem dX0_need_39 : decode cX0_need 39 = .ok (.ireturn, 1) := dk_172 (dk_at dksX0_need_1 16 rfl rfl)
theorem dX0_need_40 : decode cX0_need 40 = .ok (.aload_n 0, 1) := dk_42 (dk_at dksX0_need_1 17 rfl rfl)
theorem dX0_need_41 : decode cX0_need 41 = .ok (.getfield 493, 3) := dk_180 1 237 (dk_at dksX0_need_1 18 rfl rfl)
theorem dX0_need_44 : decode cX0_need 44 = .ok (.bipush 10, 2) := dk_16 10 (dk_at dksX0_need_1 21 rfl rfl)
theorem dX0_need_46 : decode cX0_need 46 = .ok (.if_icmp .ne 6, 3) := dk_160 0 6 (dk_at dksX0_need_2 0 rfl rfl)
theorem dX0_need_49 : decode cX0_need 49 = .ok (.bipush (-3), 2) := dk_16 253 (dk_at dksX0_need_2 3 rfl rfl)
theorem dX0_need_51 : decode cX0_need 51 = .ok (.ireturn, 1) := dk_172 (dk_at dksX0_need_2 5 rfl rfl)
theorem dX0_need_52 : decode cX0_need 52 = .ok (.aload_n 0, 1) := dk_42 (dk_at dksX0_need_2 6 rfl rfl)
theorem dX0_need_53 : decode cX0_need 53 = .ok (.getfield 115, 3) := dk_180 0 115 (dk_at dksX0_need_2 7 rfl rfl)
theorem dX0_need_56 : decode cX0_need 56 = .ok (.aload_n 0, 1) := dk_42 (dk_at dksX0_need_2 10 rfl rfl)
theorem dX0_need_57 : decode cX0_need 57 = .ok (.getfield 493, 3) := dk_180 1 237 (dk_at dksX0_need_2 11 rfl rfl)
theorem dX0_need_60 : decode cX0_need 60 = .ok (.iload_n 1, 1) := dk_27 (dk_at dksX0_need_2 14 rfl rfl)
theorem dX0_need_61 : decode cX0_need 61 = .ok (.bipush 100, 2) := dk_16 100 (dk_at dksX0_need_2 15 rfl rfl)
theorem dX0_need_63 : decode cX0_need 63 = .ok (.idiv, 1) := dk_108 (dk_at dksX0_need_2 17 rfl rfl)
theorem dX0_need_64 : decode cX0_need 64 = .ok (.iastore, 1) := dk_79 (dk_at dksX0_need_2 18 rfl rfl)
theorem dX0_need_65 : decode cX0_need 65 = .ok (.aload_n 0, 1) := dk_42 (dk_at dksX0_need_2 19 rfl rfl)
theorem dX0_need_66 : decode cX0_need 66 = .ok (.getfield 118, 3) := dk_180 0 118 (dk_at dksX0_need_2 20 rfl rfl)
theorem dX0_need_69 : decode cX0_need 69 = .ok (.aload_n 0, 1) := dk_42 (dk_at dksX0_need_2 23 rfl rfl)
theorem dX0_need_70 : decode cX0_need 70 = .ok (.getfield 493, 3) := dk_180 1 237 (dk_at dksX0_need_3 0 rfl rfl)
theorem dX0_need_73 : decode cX0_need 73 = .ok (.iload_n 1, 1) := dk_27 (dk_at dksX0_need_3 3 rfl rfl)
theorem dX0_need_74 : decode cX0_need 74 = .ok (.bipush 100, 2) := dk_16 100 (dk_at dksX0_need_3 4 rfl rfl)
theorem dX0_need_76 : decode cX0_need 76 = .ok (.irem, 1) := dk_112 (dk_at dksX0_need_3 6 rfl rfl)
theorem dX0_need_77 : decode cX0_need 77 = .ok (.iastore, 1) := dk_79 (dk_at dksX0_need_3 7 rfl rfl)
theorem dX0_need_78 : decode cX0_need 78 = .ok (.aload_n 0, 1) := dk_42 (dk_at dksX0_need_3 8 rfl rfl)
theorem dX0_need_79 : decode cX0_need 79 = .ok (.getfield 121, 3) := dk_180 0 121 (dk_at dksX0_need_3 9 rfl rfl)
theorem dX0_need_82 : decode cX0_need 82 = .ok (.aload_n 0, 1) := dk_42 (dk_at dksX0_need_3 12 rfl rfl)
theorem dX0_need_83 : decode cX0_need 83 = .ok (.getfield 493, 3) := dk_180 1 237 (dk_at dksX0_need_3 13 rfl rfl)
theorem dX0_need_86 : decode cX0_need 86 = .ok (.iload_n 2, 1) := dk_28 (dk_at dksX0_need_3 16 rfl rfl)
theorem dX0_need_87 : decode cX0_need 87 = .ok (.iastore, 1) := dk_79 (dk_at dksX0_need_3 17 rfl rfl)
theorem dX0_need_88 : decode cX0_need 88 = .ok (.aload_n 0, 1) := dk_42 (dk_at dksX0_need_3 18 rfl rfl)
theorem dX0_need_89 : decode cX0_need 89 = .ok (.dup, 1) := dk_89 (dk_at dksX0_need_3 19 rfl rfl)
theorem dX0_need_90 : decode cX0_need 90 = .ok (.getfield 493, 3) := dk_180 1 237 (dk_at dksX0_need_3 20 rfl rfl)
theorem dX0_need_93 : decode cX0_need 93 = .ok (.iconst 1, 1) := dk_4 (dk_at dksX0_need_3 23 rfl rfl)
theorem dX0_need_94 : decode cX0_need 94 = .ok (.iadd, 1) := dk_96 (dk_at dksX0_need_4 0 rfl rfl)
theorem dX0_need_95 : decode cX0_need 95 = .ok (.dup_x1, 1) := dk_90 (dk_at dksX0_need_4 1 rfl rfl)
theorem dX0_need_96 : decode cX0_need 96 = .ok (.putfield 493, 3) := dk_181 1 237 (dk_at dksX0_need_4 2 rfl rfl)
theorem dX0_need_99 : decode cX0_need 99 = .ok (.ireturn, 1) := dk_172 (dk_at dksX0_need_4 5 rfl rfl)
abbrev cX0_order : ByteArray := prog_1_method_74_code
def yX0_order : MethodName := ⟨RX0, "order", "()I"⟩
def dkwX0_order_8 : List UInt8 := [180, 1, 237, 181, 1, 249, 42, 3, 181, 1, 237, 42, 180, 0, 124, 3, 46, 172]
abbrev dktX0_order_8 : List UInt8 := dkwX0_order_8 ++ []
def dkwX0_order_7 : List UInt8 := [180, 0, 127, 29, 21, 4, 79, 28, 4, 21, 4, 120, 128, 61, 132, 3, 1, 167, 255, 183, 42, 42]
abbrev dktX0_order_7 : List UInt8 := dkwX0_order_7 ++ dktX0_order_8
def dkwX0_order_6 : List UInt8 := [28, 4, 21, 4, 120, 128, 46, 96, 42, 180, 0, 124, 28, 46, 159, 0, 9, 132, 4, 1, 167, 255, 215, 42]
abbrev dktX0_order_6 : List UInt8 := dkwX0_order_6 ++ dktX0_order_7
def dkwX0_order_5 : List UInt8 := [3, 54, 4, 28, 21, 4, 122, 4, 126, 4, 159, 0, 31, 42, 21, 4, 28, 182, 1, 246, 42, 180, 0, 124]
abbrev dktX0_order_5 : List UInt8 := dkwX0_order_5 ++ dktX0_order_6
def dkwX0_order_4 : List UInt8 := [132, 3, 1, 167, 255, 205, 132, 2, 255, 167, 255, 184, 3, 61, 3, 62, 29, 42, 180, 1, 237, 162, 0, 71]
abbrev dktX0_order_4 : List UInt8 := dkwX0_order_4 ++ dktX0_order_5
def dkwX0_order_3 : List UInt8 := [46, 42, 29, 28, 182, 1, 246, 42, 180, 0, 124, 28, 4, 29, 120, 128, 46, 96, 184, 0, 1, 79]
abbrev dktX0_order_3 : List UInt8 := dkwX0_order_3 ++ dktX0_order_4
def dkwX0_order_2 : List UInt8 := [180, 1, 237, 162, 0, 49, 28, 29, 122, 4, 126, 154, 0, 35, 42, 180, 0, 124, 28, 42, 180, 0, 124, 28]
abbrev dktX0_order_2 : List UInt8 := dkwX0_order_2 ++ dktX0_order_3
def dkwX0_order_1 : List UInt8 := [79, 27, 4, 100, 61, 28, 155, 0, 74, 42, 180, 0, 124, 28, 19, 1, 245, 79, 3, 62, 29, 42]
abbrev dktX0_order_1 : List UInt8 := dkwX0_order_1 ++ dktX0_order_2
def dkwX0_order_0 : List UInt8 := [42, 180, 1, 237, 154, 0, 5, 2, 172, 4, 42, 180, 1, 237, 120, 4, 100, 60, 42, 180, 0, 124, 27, 3]
abbrev dktX0_order_0 : List UInt8 := dkwX0_order_0 ++ dktX0_order_1
theorem dksX0_order_0 : cX0_order.data.toList.drop 0 = dktX0_order_0 := by decide +kernel
theorem dksX0_order_1 : cX0_order.data.toList.drop 24 = dktX0_order_1 := dk_seg dksX0_order_0 24 rfl rfl
theorem dksX0_order_2 : cX0_order.data.toList.drop 46 = dktX0_order_2 := dk_seg dksX0_order_1 22 rfl rfl
theorem dksX0_order_3 : cX0_order.data.toList.drop 70 = dktX0_order_3 := dk_seg dksX0_order_2 24 rfl rfl
theorem dksX0_order_4 : cX0_order.data.toList.drop 92 = dktX0_order_4 := dk_seg dksX0_order_3 22 rfl rfl
theorem dksX0_order_5 : cX0_order.data.toList.drop 116 = dktX0_order_5 := dk_seg dksX0_order_4 24 rfl rfl
theorem dksX0_order_6 : cX0_order.data.toList.drop 140 = dktX0_order_6 := dk_seg dksX0_order_5 24 rfl rfl
theorem dksX0_order_7 : cX0_order.data.toList.drop 164 = dktX0_order_7 := dk_seg dksX0_order_6 24 rfl rfl
theorem dksX0_order_8 : cX0_order.data.toList.drop 186 = dktX0_order_8 := dk_seg dksX0_order_7 22 rfl rfl
theorem dX0_order_0 : decode cX0_order 0 = .ok (.aload_n 0, 1) := dk_42 (dk_at dksX0_order_0 0 rfl rfl)
theorem dX0_order_1 : decode cX0_order 1 = .ok (.getfield 493, 3) := dk_180 1 237 (dk_at dksX0_order_0 1 rfl rfl)
theorem dX0_order_4 : decode cX0_order 4 = .ok (.ifCond .ne 5, 3) := dk_154 0 5 (dk_at dksX0_order_0 4 rfl rfl)
theorem dX0_order_7 : decode cX0_order 7 = .ok (.iconst (-1), 1) := dk_2 (dk_at dksX0_order_0 7 rfl rfl)
theorem dX0_order_8 : decode cX0_order 8 = .ok (.ireturn, 1) := dk_172 (dk_at dksX0_order_0 8 rfl rfl)
theorem dX0_order_9 : decode cX0_order 9 = .ok (.iconst 1, 1) := dk_4 (dk_at dksX0_order_0 9 rfl rfl)
theorem dX0_order_10 : decode cX0_order 10 = .ok (.aload_n 0, 1) := dk_42 (dk_at dksX0_order_0 10 rfl rfl)
theorem dX0_order_11 : decode cX0_order 11 = .ok (.getfield 493, 3) := dk_180 1 237 (dk_at dksX0_order_0 11 rfl rfl)
theorem dX0_order_14 : decode cX0_order 14 = .ok (.ishl, 1) := dk_120 (dk_at dksX0_order_0 14 rfl rfl)
theorem dX0_order_15 : decode cX0_order 15 = .ok (.iconst 1, 1) := dk_4 (dk_at dksX0_order_0 15 rfl rfl)
theorem dX0_order_16 : decode cX0_order 16 = .ok (.isub, 1) := dk_100 (dk_at dksX0_order_0 16 rfl rfl)
theorem dX0_order_17 : decode cX0_order 17 = .ok (.istore_n 1, 1) := dk_60 (dk_at dksX0_order_0 17 rfl rfl)
theorem dX0_order_18 : decode cX0_order 18 = .ok (.aload_n 0, 1) := dk_42 (dk_at dksX0_order_0 18 rfl rfl)
theorem dX0_order_19 : decode cX0_order 19 = .ok (.getfield 124, 3) := dk_180 0 124 (dk_at dksX0_order_0 19 rfl rfl)
theorem dX0_order_22 : decode cX0_order 22 = .ok (.iload_n 1, 1) := dk_27 (dk_at dksX0_order_0 22 rfl rfl)
theorem dX0_order_23 : decode cX0_order 23 = .ok (.iconst 0, 1) := dk_3 (dk_at dksX0_order_0 23 rfl rfl)
theorem dX0_order_24 : decode cX0_order 24 = .ok (.iastore, 1) := dk_79 (dk_at dksX0_order_1 0 rfl rfl)
theorem dX0_order_25 : decode cX0_order 25 = .ok (.iload_n 1, 1) := dk_27 (dk_at dksX0_order_1 1 rfl rfl)
theorem dX0_order_26 : decode cX0_order 26 = .ok (.iconst 1, 1) := dk_4 (dk_at dksX0_order_1 2 rfl rfl)
theorem dX0_order_27 : decode cX0_order 27 = .ok (.isub, 1) := dk_100 (dk_at dksX0_order_1 3 rfl rfl)
theorem dX0_order_28 : decode cX0_order 28 = .ok (.istore_n 2, 1) := dk_61 (dk_at dksX0_order_1 4 rfl rfl)
theorem dX0_order_29 : decode cX0_order 29 = .ok (.iload_n 2, 1) := dk_28 (dk_at dksX0_order_1 5 rfl rfl)
theorem dX0_order_30 : decode cX0_order 30 = .ok (.ifCond .lt 74, 3) := dk_155 0 74 (dk_at dksX0_order_1 6 rfl rfl)
theorem dX0_order_33 : decode cX0_order 33 = .ok (.aload_n 0, 1) := dk_42 (dk_at dksX0_order_1 9 rfl rfl)
theorem dX0_order_34 : decode cX0_order 34 = .ok (.getfield 124, 3) := dk_180 0 124 (dk_at dksX0_order_1 10 rfl rfl)
theorem dX0_order_37 : decode cX0_order 37 = .ok (.iload_n 2, 1) := dk_28 (dk_at dksX0_order_1 13 rfl rfl)
theorem dX0_order_38 : decode cX0_order 38 = .ok (.ldc_w 501, 3) := dk_19 1 245 (dk_at dksX0_order_1 14 rfl rfl)
theorem dX0_order_41 : decode cX0_order 41 = .ok (.iastore, 1) := dk_79 (dk_at dksX0_order_1 17 rfl rfl)
theorem dX0_order_42 : decode cX0_order 42 = .ok (.iconst 0, 1) := dk_3 (dk_at dksX0_order_1 18 rfl rfl)
theorem dX0_order_43 : decode cX0_order 43 = .ok (.istore_n 3, 1) := dk_62 (dk_at dksX0_order_1 19 rfl rfl)
theorem dX0_order_44 : decode cX0_order 44 = .ok (.iload_n 3, 1) := dk_29 (dk_at dksX0_order_1 20 rfl rfl)
theorem dX0_order_45 : decode cX0_order 45 = .ok (.aload_n 0, 1) := dk_42 (dk_at dksX0_order_1 21 rfl rfl)
theorem dX0_order_46 : decode cX0_order 46 = .ok (.getfield 493, 3) := dk_180 1 237 (dk_at dksX0_order_2 0 rfl rfl)
theorem dX0_order_49 : decode cX0_order 49 = .ok (.if_icmp .ge 49, 3) := dk_162 0 49 (dk_at dksX0_order_2 3 rfl rfl)
theorem dX0_order_52 : decode cX0_order 52 = .ok (.iload_n 2, 1) := dk_28 (dk_at dksX0_order_2 6 rfl rfl)
theorem dX0_order_53 : decode cX0_order 53 = .ok (.iload_n 3, 1) := dk_29 (dk_at dksX0_order_2 7 rfl rfl)
theorem dX0_order_54 : decode cX0_order 54 = .ok (.ishr, 1) := dk_122 (dk_at dksX0_order_2 8 rfl rfl)
theorem dX0_order_55 : decode cX0_order 55 = .ok (.iconst 1, 1) := dk_4 (dk_at dksX0_order_2 9 rfl rfl)
theorem dX0_order_56 : decode cX0_order 56 = .ok (.iand, 1) := dk_126 (dk_at dksX0_order_2 10 rfl rfl)
theorem dX0_order_57 : decode cX0_order 57 = .ok (.ifCond .ne 35, 3) := dk_154 0 35 (dk_at dksX0_order_2 11 rfl rfl)
theorem dX0_order_60 : decode cX0_order 60 = .ok (.aload_n 0, 1) := dk_42 (dk_at dksX0_order_2 14 rfl rfl)
theorem dX0_order_61 : decode cX0_order 61 = .ok (.getfield 124, 3) := dk_180 0 124 (dk_at dksX0_order_2 15 rfl rfl)
theorem dX0_order_64 : decode cX0_order 64 = .ok (.iload_n 2, 1) := dk_28 (dk_at dksX0_order_2 18 rfl rfl)
theorem dX0_order_65 : decode cX0_order 65 = .ok (.aload_n 0, 1) := dk_42 (dk_at dksX0_order_2 19 rfl rfl)
theorem dX0_order_66 : decode cX0_order 66 = .ok (.getfield 124, 3) := dk_180 0 124 (dk_at dksX0_order_2 20 rfl rfl)
theorem dX0_order_69 : decode cX0_order 69 = .ok (.iload_n 2, 1) := dk_28 (dk_at dksX0_order_2 23 rfl rfl)
theorem dX0_order_70 : decode cX0_order 70 = .ok (.iaload, 1) := dk_46 (dk_at dksX0_order_3 0 rfl rfl)
theorem dX0_order_71 : decode cX0_order 71 = .ok (.aload_n 0, 1) := dk_42 (dk_at dksX0_order_3 1 rfl rfl)
theorem dX0_order_72 : decode cX0_order 72 = .ok (.iload_n 3, 1) := dk_29 (dk_at dksX0_order_3 2 rfl rfl)
theorem dX0_order_73 : decode cX0_order 73 = .ok (.iload_n 2, 1) := dk_28 (dk_at dksX0_order_3 3 rfl rfl)
theorem dX0_order_74 : decode cX0_order 74 = .ok (.invokevirtual 502, 3) := dk_182 1 246 (dk_at dksX0_order_3 4 rfl rfl)
theorem dX0_order_77 : decode cX0_order 77 = .ok (.aload_n 0, 1) := dk_42 (dk_at dksX0_order_3 7 rfl rfl)
theorem dX0_order_78 : decode cX0_order 78 = .ok (.getfield 124, 3) := dk_180 0 124 (dk_at dksX0_order_3 8 rfl rfl)
theorem dX0_order_81 : decode cX0_order 81 = .ok (.iload_n 2, 1) := dk_28 (dk_at dksX0_order_3 11 rfl rfl)
theorem dX0_order_82 : decode cX0_order 82 = .ok (.iconst 1, 1) := dk_4 (dk_at dksX0_order_3 12 rfl rfl)
theorem dX0_order_83 : decode cX0_order 83 = .ok (.iload_n 3, 1) := dk_29 (dk_at dksX0_order_3 13 rfl rfl)
theorem dX0_order_84 : decode cX0_order 84 = .ok (.ishl, 1) := dk_120 (dk_at dksX0_order_3 14 rfl rfl)
theorem dX0_order_85 : decode cX0_order 85 = .ok (.ior, 1) := dk_128 (dk_at dksX0_order_3 15 rfl rfl)
theorem dX0_order_86 : decode cX0_order 86 = .ok (.iaload, 1) := dk_46 (dk_at dksX0_order_3 16 rfl rfl)
theorem dX0_order_87 : decode cX0_order 87 = .ok (.iadd, 1) := dk_96 (dk_at dksX0_order_3 17 rfl rfl)
theorem dX0_order_88 : decode cX0_order 88 = .ok (.invokestatic 1, 3) := dk_184 0 1 (dk_at dksX0_order_3 18 rfl rfl)
theorem dX0_order_91 : decode cX0_order 91 = .ok (.iastore, 1) := dk_79 (dk_at dksX0_order_3 21 rfl rfl)
theorem dX0_order_92 : decode cX0_order 92 = .ok (.iinc 3 1, 3) := dk_132 3 1 (dk_at dksX0_order_4 0 rfl rfl)
theorem dX0_order_95 : decode cX0_order 95 = .ok (.goto (-51), 3) := dk_167 255 205 (dk_at dksX0_order_4 3 rfl rfl)
theorem dX0_order_98 : decode cX0_order 98 = .ok (.iinc 2 (-1), 3) := dk_132 2 255 (dk_at dksX0_order_4 6 rfl rfl)
theorem dX0_order_101 : decode cX0_order 101 = .ok (.goto (-72), 3) := dk_167 255 184 (dk_at dksX0_order_4 9 rfl rfl)
theorem dX0_order_104 : decode cX0_order 104 = .ok (.iconst 0, 1) := dk_3 (dk_at dksX0_order_4 12 rfl rfl)
theorem dX0_order_105 : decode cX0_order 105 = .ok (.istore_n 2, 1) := dk_61 (dk_at dksX0_order_4 13 rfl rfl)
theorem dX0_order_106 : decode cX0_order 106 = .ok (.iconst 0, 1) := dk_3 (dk_at dksX0_order_4 14 rfl rfl)
theorem dX0_order_107 : decode cX0_order 107 = .ok (.istore_n 3, 1) := dk_62 (dk_at dksX0_order_4 15 rfl rfl)
theorem dX0_order_108 : decode cX0_order 108 = .ok (.iload_n 3, 1) := dk_29 (dk_at dksX0_order_4 16 rfl rfl)
theorem dX0_order_109 : decode cX0_order 109 = .ok (.aload_n 0, 1) := dk_42 (dk_at dksX0_order_4 17 rfl rfl)
theorem dX0_order_110 : decode cX0_order 110 = .ok (.getfield 493, 3) := dk_180 1 237 (dk_at dksX0_order_4 18 rfl rfl)
theorem dX0_order_113 : decode cX0_order 113 = .ok (.if_icmp .ge 71, 3) := dk_162 0 71 (dk_at dksX0_order_4 21 rfl rfl)
theorem dX0_order_116 : decode cX0_order 116 = .ok (.iconst 0, 1) := dk_3 (dk_at dksX0_order_5 0 rfl rfl)
theorem dX0_order_117 : decode cX0_order 117 = .ok (.istore 4, 2) := dk_54 4 (dk_at dksX0_order_5 1 rfl rfl)
theorem dX0_order_119 : decode cX0_order 119 = .ok (.iload_n 2, 1) := dk_28 (dk_at dksX0_order_5 3 rfl rfl)
theorem dX0_order_120 : decode cX0_order 120 = .ok (.iload 4, 2) := dk_21 4 (dk_at dksX0_order_5 4 rfl rfl)
theorem dX0_order_122 : decode cX0_order 122 = .ok (.ishr, 1) := dk_122 (dk_at dksX0_order_5 6 rfl rfl)
theorem dX0_order_123 : decode cX0_order 123 = .ok (.iconst 1, 1) := dk_4 (dk_at dksX0_order_5 7 rfl rfl)
theorem dX0_order_124 : decode cX0_order 124 = .ok (.iand, 1) := dk_126 (dk_at dksX0_order_5 8 rfl rfl)
theorem dX0_order_125 : decode cX0_order 125 = .ok (.iconst 1, 1) := dk_4 (dk_at dksX0_order_5 9 rfl rfl)
theorem dX0_order_126 : decode cX0_order 126 = .ok (.if_icmp .eq 31, 3) := dk_159 0 31 (dk_at dksX0_order_5 10 rfl rfl)
theorem dX0_order_129 : decode cX0_order 129 = .ok (.aload_n 0, 1) := dk_42 (dk_at dksX0_order_5 13 rfl rfl)
theorem dX0_order_130 : decode cX0_order 130 = .ok (.iload 4, 2) := dk_21 4 (dk_at dksX0_order_5 14 rfl rfl)
theorem dX0_order_132 : decode cX0_order 132 = .ok (.iload_n 2, 1) := dk_28 (dk_at dksX0_order_5 16 rfl rfl)
theorem dX0_order_133 : decode cX0_order 133 = .ok (.invokevirtual 502, 3) := dk_182 1 246 (dk_at dksX0_order_5 17 rfl rfl)
theorem dX0_order_136 : decode cX0_order 136 = .ok (.aload_n 0, 1) := dk_42 (dk_at dksX0_order_5 20 rfl rfl)
theorem dX0_order_137 : decode cX0_order 137 = .ok (.getfield 124, 3) := dk_180 0 124 (dk_at dksX0_order_5 21 rfl rfl)
theorem dX0_order_140 : decode cX0_order 140 = .ok (.iload_n 2, 1) := dk_28 (dk_at dksX0_order_6 0 rfl rfl)
theorem dX0_order_141 : decode cX0_order 141 = .ok (.iconst 1, 1) := dk_4 (dk_at dksX0_order_6 1 rfl rfl)
theorem dX0_order_142 : decode cX0_order 142 = .ok (.iload 4, 2) := dk_21 4 (dk_at dksX0_order_6 2 rfl rfl)
theorem dX0_order_144 : decode cX0_order 144 = .ok (.ishl, 1) := dk_120 (dk_at dksX0_order_6 4 rfl rfl)
theorem dX0_order_145 : decode cX0_order 145 = .ok (.ior, 1) := dk_128 (dk_at dksX0_order_6 5 rfl rfl)
theorem dX0_order_146 : decode cX0_order 146 = .ok (.iaload, 1) := dk_46 (dk_at dksX0_order_6 6 rfl rfl)
theorem dX0_order_147 : decode cX0_order 147 = .ok (.iadd, 1) := dk_96 (dk_at dksX0_order_6 7 rfl rfl)
theorem dX0_order_148 : decode cX0_order 148 = .ok (.aload_n 0, 1) := dk_42 (dk_at dksX0_order_6 8 rfl rfl)
theorem dX0_order_149 : decode cX0_order 149 = .ok (.getfield 124, 3) := dk_180 0 124 (dk_at dksX0_order_6 9 rfl rfl)
theorem dX0_order_152 : decode cX0_order 152 = .ok (.iload_n 2, 1) := dk_28 (dk_at dksX0_order_6 12 rfl rfl)
theorem dX0_order_153 : decode cX0_order 153 = .ok (.iaload, 1) := dk_46 (dk_at dksX0_order_6 13 rfl rfl)
theorem dX0_order_154 : decode cX0_order 154 = .ok (.if_icmp .eq 9, 3) := dk_159 0 9 (dk_at dksX0_order_6 14 rfl rfl)
theorem dX0_order_157 : decode cX0_order 157 = .ok (.iinc 4 1, 3) := dk_132 4 1 (dk_at dksX0_order_6 17 rfl rfl)
theorem dX0_order_160 : decode cX0_order 160 = .ok (.goto (-41), 3) := dk_167 255 215 (dk_at dksX0_order_6 20 rfl rfl)
theorem dX0_order_163 : decode cX0_order 163 = .ok (.aload_n 0, 1) := dk_42 (dk_at dksX0_order_6 23 rfl rfl)
theorem dX0_order_164 : decode cX0_order 164 = .ok (.getfield 127, 3) := dk_180 0 127 (dk_at dksX0_order_7 0 rfl rfl)
theorem dX0_order_167 : decode cX0_order 167 = .ok (.iload_n 3, 1) := dk_29 (dk_at dksX0_order_7 3 rfl rfl)
theorem dX0_order_168 : decode cX0_order 168 = .ok (.iload 4, 2) := dk_21 4 (dk_at dksX0_order_7 4 rfl rfl)
theorem dX0_order_170 : decode cX0_order 170 = .ok (.iastore, 1) := dk_79 (dk_at dksX0_order_7 6 rfl rfl)
theorem dX0_order_171 : decode cX0_order 171 = .ok (.iload_n 2, 1) := dk_28 (dk_at dksX0_order_7 7 rfl rfl)
theorem dX0_order_172 : decode cX0_order 172 = .ok (.iconst 1, 1) := dk_4 (dk_at dksX0_order_7 8 rfl rfl)
theorem dX0_order_173 : decode cX0_order 173 = .ok (.iload 4, 2) := dk_21 4 (dk_at dksX0_order_7 9 rfl rfl)
theorem dX0_order_175 : decode cX0_order 175 = .ok (.ishl, 1) := dk_120 (dk_at dksX0_order_7 11 rfl rfl)
theorem dX0_order_176 : decode cX0_order 176 = .ok (.ior, 1) := dk_128 (dk_at dksX0_order_7 12 rfl rfl)
theorem dX0_order_177 : decode cX0_order 177 = .ok (.istore_n 2, 1) := dk_61 (dk_at dksX0_order_7 13 rfl rfl)
theorem dX0_order_178 : decode cX0_order 178 = .ok (.iinc 3 1, 3) := dk_132 3 1 (dk_at dksX0_order_7 14 rfl rfl)
theorem dX0_order_181 : decode cX0_order 181 = .ok (.goto (-73), 3) := dk_167 255 183 (dk_at dksX0_order_7 17 rfl rfl)
theorem dX0_order_184 : decode cX0_order 184 = .ok (.aload_n 0, 1) := dk_42 (dk_at dksX0_order_7 20 rfl rfl)
theorem dX0_order_185 : decode cX0_order 185 = .ok (.aload_n 0, 1) := dk_42 (dk_at dksX0_order_7 21 rfl rfl)
theorem dX0_order_186 : decode cX0_order 186 = .ok (.getfield 493, 3) := dk_180 1 237 (dk_at dksX0_order_8 0 rfl rfl)
theorem dX0_order_189 : decode cX0_order 189 = .ok (.putfield 505, 3) := dk_181 1 249 (dk_at dksX0_order_8 3 rfl rfl)
theorem dX0_order_192 : decode cX0_order 192 = .ok (.aload_n 0, 1) := dk_42 (dk_at dksX0_order_8 6 rfl rfl)
theorem dX0_order_193 : decode cX0_order 193 = .ok (.iconst 0, 1) := dk_3 (dk_at dksX0_order_8 7 rfl rfl)
theorem dX0_order_194 : decode cX0_order 194 = .ok (.putfield 493, 3) := dk_181 1 237 (dk_at dksX0_order_8 8 rfl rfl)
theorem dX0_order_197 : decode cX0_order 197 = .ok (.aload_n 0, 1) := dk_42 (dk_at dksX0_order_8 11 rfl rfl)
theorem dX0_order_198 : decode cX0_order 198 = .ok (.getfield 124, 3) := dk_180 0 124 (dk_at dksX0_order_8 12 rfl rfl)
theorem dX0_order_201 : decode cX0_order 201 = .ok (.iconst 0, 1) := dk_3 (dk_at dksX0_order_8 15 rfl rfl)
theorem dX0_order_202 : decode cX0_order 202 = .ok (.iaload, 1) := dk_46 (dk_at dksX0_order_8 16 rfl rfl)
theorem dX0_order_203 : decode cX0_order 203 = .ok (.ireturn, 1) := dk_172 (dk_at dksX0_order_8 17 rfl rfl)
abbrev cX0_lateOf : ByteArray := prog_1_method_73_code
def yX0_lateOf : MethodName := ⟨RX0, "lateOf", "(II)I"⟩
def dkwX0_lateOf_1 : List UInt8 := [46, 100, 184, 0, 7, 104, 172]
abbrev dktX0_lateOf_1 : List UInt8 := dkwX0_lateOf_1 ++ []
def dkwX0_lateOf_0 : List UInt8 := [42, 180, 0, 118, 27, 46, 3, 42, 28, 182, 1, 240, 42, 180, 0, 115, 27, 46, 96, 42, 180, 0, 121, 27]
abbrev dktX0_lateOf_0 : List UInt8 := dkwX0_lateOf_0 ++ dktX0_lateOf_1
theorem dksX0_lateOf_0 : cX0_lateOf.data.toList.drop 0 = dktX0_lateOf_0 := by decide +kernel
theorem dksX0_lateOf_1 : cX0_lateOf.data.toList.drop 24 = dktX0_lateOf_1 := dk_seg dksX0_lateOf_0 24 rfl rfl
theorem dX0_lateOf_0 : decode cX0_lateOf 0 = .ok (.aload_n 0, 1) := dk_42 (dk_at dksX0_lateOf_0 0 rfl rfl)
theorem dX0_lateOf_1 : decode cX0_lateOf 1 = .ok (.getfield 118, 3) := dk_180 0 118 (dk_at dksX0_lateOf_0 1 rfl rfl)
theorem dX0_lateOf_4 : decode cX0_lateOf 4 = .ok (.iload_n 1, 1) := dk_27 (dk_at dksX0_lateOf_0 4 rfl rfl)
theorem dX0_lateOf_5 : decode cX0_lateOf 5 = .ok (.iaload, 1) := dk_46 (dk_at dksX0_lateOf_0 5 rfl rfl)
theorem dX0_lateOf_6 : decode cX0_lateOf 6 = .ok (.iconst 0, 1) := dk_3 (dk_at dksX0_lateOf_0 6 rfl rfl)
theorem dX0_lateOf_7 : decode cX0_lateOf 7 = .ok (.aload_n 0, 1) := dk_42 (dk_at dksX0_lateOf_0 7 rfl rfl)
theorem dX0_lateOf_8 : decode cX0_lateOf 8 = .ok (.iload_n 2, 1) := dk_28 (dk_at dksX0_lateOf_0 8 rfl rfl)
theorem dX0_lateOf_9 : decode cX0_lateOf 9 = .ok (.invokevirtual 496, 3) := dk_182 1 240 (dk_at dksX0_lateOf_0 9 rfl rfl)
theorem dX0_lateOf_12 : decode cX0_lateOf 12 = .ok (.aload_n 0, 1) := dk_42 (dk_at dksX0_lateOf_0 12 rfl rfl)
theorem dX0_lateOf_13 : decode cX0_lateOf 13 = .ok (.getfield 115, 3) := dk_180 0 115 (dk_at dksX0_lateOf_0 13 rfl rfl)
theorem dX0_lateOf_16 : decode cX0_lateOf 16 = .ok (.iload_n 1, 1) := dk_27 (dk_at dksX0_lateOf_0 16 rfl rfl)
theorem dX0_lateOf_17 : decode cX0_lateOf 17 = .ok (.iaload, 1) := dk_46 (dk_at dksX0_lateOf_0 17 rfl rfl)
theorem dX0_lateOf_18 : decode cX0_lateOf 18 = .ok (.iadd, 1) := dk_96 (dk_at dksX0_lateOf_0 18 rfl rfl)
theorem dX0_lateOf_19 : decode cX0_lateOf 19 = .ok (.aload_n 0, 1) := dk_42 (dk_at dksX0_lateOf_0 19 rfl rfl)
theorem dX0_lateOf_20 : decode cX0_lateOf 20 = .ok (.getfield 121, 3) := dk_180 0 121 (dk_at dksX0_lateOf_0 20 rfl rfl)
theorem dX0_lateOf_23 : decode cX0_lateOf 23 = .ok (.iload_n 1, 1) := dk_27 (dk_at dksX0_lateOf_0 23 rfl rfl)
theorem dX0_lateOf_24 : decode cX0_lateOf 24 = .ok (.iaload, 1) := dk_46 (dk_at dksX0_lateOf_1 0 rfl rfl)
theorem dX0_lateOf_25 : decode cX0_lateOf 25 = .ok (.isub, 1) := dk_100 (dk_at dksX0_lateOf_1 1 rfl rfl)
theorem dX0_lateOf_26 : decode cX0_lateOf 26 = .ok (.invokestatic 7, 3) := dk_184 0 7 (dk_at dksX0_lateOf_1 2 rfl rfl)
theorem dX0_lateOf_29 : decode cX0_lateOf 29 = .ok (.imul, 1) := dk_104 (dk_at dksX0_lateOf_1 5 rfl rfl)
theorem dX0_lateOf_30 : decode cX0_lateOf 30 = .ok (.ireturn, 1) := dk_172 (dk_at dksX0_lateOf_1 6 rfl rfl)
abbrev cX0_hoursOf : ByteArray := prog_1_method_72_code
def yX0_hoursOf : MethodName := ⟨RX0, "hoursOf", "(I)I"⟩
def dkwX0_hoursOf_1 : List UInt8 := [180, 0, 115, 29, 46, 167, 0, 4, 3, 96, 61, 132, 3, 1, 167, 255, 223, 28, 172]
abbrev dktX0_hoursOf_1 : List UInt8 := dkwX0_hoursOf_1 ++ []
def dkwX0_hoursOf_0 : List UInt8 := [3, 61, 3, 62, 29, 42, 180, 1, 237, 162, 0, 31, 28, 27, 29, 122, 4, 126, 4, 160, 0, 12, 42]
abbrev dktX0_hoursOf_0 : List UInt8 := dkwX0_hoursOf_0 ++ dktX0_hoursOf_1
theorem dksX0_hoursOf_0 : cX0_hoursOf.data.toList.drop 0 = dktX0_hoursOf_0 := by decide +kernel
theorem dksX0_hoursOf_1 : cX0_hoursOf.data.toList.drop 23 = dktX0_hoursOf_1 := dk_seg dksX0_hoursOf_0 23 rfl rfl
theorem dX0_hoursOf_0 : decode cX0_hoursOf 0 = .ok (.iconst 0, 1) := dk_3 (dk_at dksX0_hoursOf_0 0 rfl rfl)
theorem dX0_hoursOf_1 : decode cX0_hoursOf 1 = .ok (.istore_n 2, 1) := dk_61 (dk_at dksX0_hoursOf_0 1 rfl rfl)
theorem dX0_hoursOf_2 : decode cX0_hoursOf 2 = .ok (.iconst 0, 1) := dk_3 (dk_at dksX0_hoursOf_0 2 rfl rfl)
theorem dX0_hoursOf_3 : decode cX0_hoursOf 3 = .ok (.istore_n 3, 1) := dk_62 (dk_at dksX0_hoursOf_0 3 rfl rfl)
theorem dX0_hoursOf_4 : decode cX0_hoursOf 4 = .ok (.iload_n 3, 1) := dk_29 (dk_at dksX0_hoursOf_0 4 rfl rfl)
theorem dX0_hoursOf_5 : decode cX0_hoursOf 5 = .ok (.aload_n 0, 1) := dk_42 (dk_at dksX0_hoursOf_0 5 rfl rfl)
theorem dX0_hoursOf_6 : decode cX0_hoursOf 6 = .ok (.getfield 493, 3) := dk_180 1 237 (dk_at dksX0_hoursOf_0 6 rfl rfl)
theorem dX0_hoursOf_9 : decode cX0_hoursOf 9 = .ok (.if_icmp .ge 31, 3) := dk_162 0 31 (dk_at dksX0_hoursOf_0 9 rfl rfl)
theorem dX0_hoursOf_12 : decode cX0_hoursOf 12 = .ok (.iload_n 2, 1) := dk_28 (dk_at dksX0_hoursOf_0 12 rfl rfl)
theorem dX0_hoursOf_13 : decode cX0_hoursOf 13 = .ok (.iload_n 1, 1) := dk_27 (dk_at dksX0_hoursOf_0 13 rfl rfl)
theorem dX0_hoursOf_14 : decode cX0_hoursOf 14 = .ok (.iload_n 3, 1) := dk_29 (dk_at dksX0_hoursOf_0 14 rfl rfl)
theorem dX0_hoursOf_15 : decode cX0_hoursOf 15 = .ok (.ishr, 1) := dk_122 (dk_at dksX0_hoursOf_0 15 rfl rfl)
theorem dX0_hoursOf_16 : decode cX0_hoursOf 16 = .ok (.iconst 1, 1) := dk_4 (dk_at dksX0_hoursOf_0 16 rfl rfl)
theorem dX0_hoursOf_17 : decode cX0_hoursOf 17 = .ok (.iand, 1) := dk_126 (dk_at dksX0_hoursOf_0 17 rfl rfl)
theorem dX0_hoursOf_18 : decode cX0_hoursOf 18 = .ok (.iconst 1, 1) := dk_4 (dk_at dksX0_hoursOf_0 18 rfl rfl)
theorem dX0_hoursOf_19 : decode cX0_hoursOf 19 = .ok (.if_icmp .ne 12, 3) := dk_160 0 12 (dk_at dksX0_hoursOf_0 19 rfl rfl)
theorem dX0_hoursOf_22 : decode cX0_hoursOf 22 = .ok (.aload_n 0, 1) := dk_42 (dk_at dksX0_hoursOf_0 22 rfl rfl)
theorem dX0_hoursOf_23 : decode cX0_hoursOf 23 = .ok (.getfield 115, 3) := dk_180 0 115 (dk_at dksX0_hoursOf_1 0 rfl rfl)
theorem dX0_hoursOf_26 : decode cX0_hoursOf 26 = .ok (.iload_n 3, 1) := dk_29 (dk_at dksX0_hoursOf_1 3 rfl rfl)
theorem dX0_hoursOf_27 : decode cX0_hoursOf 27 = .ok (.iaload, 1) := dk_46 (dk_at dksX0_hoursOf_1 4 rfl rfl)
theorem dX0_hoursOf_28 : decode cX0_hoursOf 28 = .ok (.goto 4, 3) := dk_167 0 4 (dk_at dksX0_hoursOf_1 5 rfl rfl)
theorem dX0_hoursOf_31 : decode cX0_hoursOf 31 = .ok (.iconst 0, 1) := dk_3 (dk_at dksX0_hoursOf_1 8 rfl rfl)
theorem dX0_hoursOf_32 : decode cX0_hoursOf 32 = .ok (.iadd, 1) := dk_96 (dk_at dksX0_hoursOf_1 9 rfl rfl)
theorem dX0_hoursOf_33 : decode cX0_hoursOf 33 = .ok (.istore_n 2, 1) := dk_61 (dk_at dksX0_hoursOf_1 10 rfl rfl)
theorem dX0_hoursOf_34 : decode cX0_hoursOf 34 = .ok (.iinc 3 1, 3) := dk_132 3 1 (dk_at dksX0_hoursOf_1 11 rfl rfl)
theorem dX0_hoursOf_37 : decode cX0_hoursOf 37 = .ok (.goto (-33), 3) := dk_167 255 223 (dk_at dksX0_hoursOf_1 14 rfl rfl)
theorem dX0_hoursOf_40 : decode cX0_hoursOf 40 = .ok (.iload_n 2, 1) := dk_28 (dk_at dksX0_hoursOf_1 17 rfl rfl)
theorem dX0_hoursOf_41 : decode cX0_hoursOf 41 = .ok (.ireturn, 1) := dk_172 (dk_at dksX0_hoursOf_1 18 rfl rfl)
abbrev cX0_ordered : ByteArray := prog_1_method_75_code
def yX0_ordered : MethodName := ⟨RX0, "ordered", "(I)I"⟩
def dkwX0_ordered_1 : List UInt8 := [167, 0, 4, 2, 172]
abbrev dktX0_ordered_1 : List UInt8 := dkwX0_ordered_1 ++ []
def dkwX0_ordered_0 : List UInt8 := [27, 133, 9, 42, 180, 1, 249, 4, 100, 133, 184, 0, 167, 153, 0, 12, 42, 180, 0, 127, 27, 46]
abbrev dktX0_ordered_0 : List UInt8 := dkwX0_ordered_0 ++ dktX0_ordered_1
theorem dksX0_ordered_0 : cX0_ordered.data.toList.drop 0 = dktX0_ordered_0 := by decide +kernel
theorem dksX0_ordered_1 : cX0_ordered.data.toList.drop 22 = dktX0_ordered_1 := dk_seg dksX0_ordered_0 22 rfl rfl
theorem dX0_ordered_0 : decode cX0_ordered 0 = .ok (.iload_n 1, 1) := dk_27 (dk_at dksX0_ordered_0 0 rfl rfl)
theorem dX0_ordered_1 : decode cX0_ordered 1 = .ok (.i2l, 1) := dk_133 (dk_at dksX0_ordered_0 1 rfl rfl)
theorem dX0_ordered_2 : decode cX0_ordered 2 = .ok (.lconst 0, 1) := dk_9 (dk_at dksX0_ordered_0 2 rfl rfl)
theorem dX0_ordered_3 : decode cX0_ordered 3 = .ok (.aload_n 0, 1) := dk_42 (dk_at dksX0_ordered_0 3 rfl rfl)
theorem dX0_ordered_4 : decode cX0_ordered 4 = .ok (.getfield 505, 3) := dk_180 1 249 (dk_at dksX0_ordered_0 4 rfl rfl)
theorem dX0_ordered_7 : decode cX0_ordered 7 = .ok (.iconst 1, 1) := dk_4 (dk_at dksX0_ordered_0 7 rfl rfl)
theorem dX0_ordered_8 : decode cX0_ordered 8 = .ok (.isub, 1) := dk_100 (dk_at dksX0_ordered_0 8 rfl rfl)
theorem dX0_ordered_9 : decode cX0_ordered 9 = .ok (.i2l, 1) := dk_133 (dk_at dksX0_ordered_0 9 rfl rfl)
theorem dX0_ordered_10 : decode cX0_ordered 10 = .ok (.invokestatic 167, 3) := dk_184 0 167 (dk_at dksX0_ordered_0 10 rfl rfl)
theorem dX0_ordered_13 : decode cX0_ordered 13 = .ok (.ifCond .eq 12, 3) := dk_153 0 12 (dk_at dksX0_ordered_0 13 rfl rfl)
theorem dX0_ordered_16 : decode cX0_ordered 16 = .ok (.aload_n 0, 1) := dk_42 (dk_at dksX0_ordered_0 16 rfl rfl)
theorem dX0_ordered_17 : decode cX0_ordered 17 = .ok (.getfield 127, 3) := dk_180 0 127 (dk_at dksX0_ordered_0 17 rfl rfl)
theorem dX0_ordered_20 : decode cX0_ordered 20 = .ok (.iload_n 1, 1) := dk_27 (dk_at dksX0_ordered_0 20 rfl rfl)
theorem dX0_ordered_21 : decode cX0_ordered 21 = .ok (.iaload, 1) := dk_46 (dk_at dksX0_ordered_0 21 rfl rfl)
theorem dX0_ordered_22 : decode cX0_ordered 22 = .ok (.goto 4, 3) := dk_167 0 4 (dk_at dksX0_ordered_1 0 rfl rfl)
theorem dX0_ordered_25 : decode cX0_ordered 25 = .ok (.iconst (-1), 1) := dk_2 (dk_at dksX0_ordered_1 3 rfl rfl)
theorem dX0_ordered_26 : decode cX0_ordered 26 = .ok (.ireturn, 1) := dk_172 (dk_at dksX0_ordered_1 4 rfl rfl)
abbrev cX0_watch : ByteArray := prog_1_method_76_code
def yX0_watch : MethodName := ⟨RX0, "watch", "(II)I"⟩
def dkwX0_watch_6 : List UInt8 := [167, 255, 236, 21, 4, 172]
abbrev dktX0_watch_6 : List UInt8 := dkwX0_watch_6 ++ []
def dkwX0_watch_5 : List UInt8 := [54, 5, 21, 5, 6, 27, 104, 162, 0, 18, 42, 180, 0, 130, 21, 5, 16, 254, 79, 132, 5, 1]
abbrev dktX0_watch_5 : List UInt8 := dkwX0_watch_5 ++ dktX0_watch_6
def dkwX0_watch_4 : List UInt8 := [167, 0, 15, 42, 180, 0, 130, 21, 4, 132, 4, 1, 21, 6, 79, 132, 6, 1, 167, 255, 187, 21, 4]
abbrev dktX0_watch_4 : List UInt8 := dkwX0_watch_4 ++ dktX0_watch_5
def dkwX0_watch_3 : List UInt8 := [167, 0, 38, 132, 3, 1, 25, 7, 180, 1, 41, 28, 163, 0, 26, 21, 4, 6, 27, 104, 160, 0, 6]
abbrev dktX0_watch_3 : List UInt8 := dkwX0_watch_3 ++ dktX0_watch_4
def dkwX0_watch_2 : List UInt8 := [162, 0, 66, 29, 16, 9, 162, 0, 60, 42, 21, 6, 182, 1, 175, 58, 7, 25, 7, 199, 0, 6]
abbrev dktX0_watch_2 : List UInt8 := dkwX0_watch_2 ++ dktX0_watch_3
def dkwX0_watch_1 : List UInt8 := [2, 172, 42, 27, 181, 1, 254, 3, 62, 3, 54, 4, 3, 54, 5, 3, 54, 6, 21, 6, 42, 180, 0, 184]
abbrev dktX0_watch_1 : List UInt8 := dkwX0_watch_1 ++ dktX0_watch_2
def dkwX0_watch_0 : List UInt8 := [27, 133, 10, 20, 1, 252, 184, 0, 167, 153, 0, 15, 28, 133, 9, 20, 0, 178, 184, 0, 167, 154, 0, 5]
abbrev dktX0_watch_0 : List UInt8 := dkwX0_watch_0 ++ dktX0_watch_1
theorem dksX0_watch_0 : cX0_watch.data.toList.drop 0 = dktX0_watch_0 := by decide +kernel
theorem dksX0_watch_1 : cX0_watch.data.toList.drop 24 = dktX0_watch_1 := dk_seg dksX0_watch_0 24 rfl rfl
theorem dksX0_watch_2 : cX0_watch.data.toList.drop 48 = dktX0_watch_2 := dk_seg dksX0_watch_1 24 rfl rfl
theorem dksX0_watch_3 : cX0_watch.data.toList.drop 70 = dktX0_watch_3 := dk_seg dksX0_watch_2 22 rfl rfl
theorem dksX0_watch_4 : cX0_watch.data.toList.drop 93 = dktX0_watch_4 := dk_seg dksX0_watch_3 23 rfl rfl
theorem dksX0_watch_5 : cX0_watch.data.toList.drop 116 = dktX0_watch_5 := dk_seg dksX0_watch_4 23 rfl rfl
theorem dksX0_watch_6 : cX0_watch.data.toList.drop 138 = dktX0_watch_6 := dk_seg dksX0_watch_5 22 rfl rfl
theorem dX0_watch_0 : decode cX0_watch 0 = .ok (.iload_n 1, 1) := dk_27 (dk_at dksX0_watch_0 0 rfl rfl)
theorem dX0_watch_1 : decode cX0_watch 1 = .ok (.i2l, 1) := dk_133 (dk_at dksX0_watch_0 1 rfl rfl)
theorem dX0_watch_2 : decode cX0_watch 2 = .ok (.lconst 1, 1) := dk_10 (dk_at dksX0_watch_0 2 rfl rfl)
theorem dX0_watch_3 : decode cX0_watch 3 = .ok (.ldc2_w 508, 3) := dk_20 1 252 (dk_at dksX0_watch_0 3 rfl rfl)
theorem dX0_watch_6 : decode cX0_watch 6 = .ok (.invokestatic 167, 3) := dk_184 0 167 (dk_at dksX0_watch_0 6 rfl rfl)
theorem dX0_watch_9 : decode cX0_watch 9 = .ok (.ifCond .eq 15, 3) := dk_153 0 15 (dk_at dksX0_watch_0 9 rfl rfl)
theorem dX0_watch_12 : decode cX0_watch 12 = .ok (.iload_n 2, 1) := dk_28 (dk_at dksX0_watch_0 12 rfl rfl)
theorem dX0_watch_13 : decode cX0_watch 13 = .ok (.i2l, 1) := dk_133 (dk_at dksX0_watch_0 13 rfl rfl)
theorem dX0_watch_14 : decode cX0_watch 14 = .ok (.lconst 0, 1) := dk_9 (dk_at dksX0_watch_0 14 rfl rfl)
theorem dX0_watch_15 : decode cX0_watch 15 = .ok (.ldc2_w 178, 3) := dk_20 0 178 (dk_at dksX0_watch_0 15 rfl rfl)
theorem dX0_watch_18 : decode cX0_watch 18 = .ok (.invokestatic 167, 3) := dk_184 0 167 (dk_at dksX0_watch_0 18 rfl rfl)
theorem dX0_watch_21 : decode cX0_watch 21 = .ok (.ifCond .ne 5, 3) := dk_154 0 5 (dk_at dksX0_watch_0 21 rfl rfl)
theorem dX0_watch_24 : decode cX0_watch 24 = .ok (.iconst (-1), 1) := dk_2 (dk_at dksX0_watch_1 0 rfl rfl)
theorem dX0_watch_25 : decode cX0_watch 25 = .ok (.ireturn, 1) := dk_172 (dk_at dksX0_watch_1 1 rfl rfl)
theorem dX0_watch_26 : decode cX0_watch 26 = .ok (.aload_n 0, 1) := dk_42 (dk_at dksX0_watch_1 2 rfl rfl)
theorem dX0_watch_27 : decode cX0_watch 27 = .ok (.iload_n 1, 1) := dk_27 (dk_at dksX0_watch_1 3 rfl rfl)
theorem dX0_watch_28 : decode cX0_watch 28 = .ok (.putfield 510, 3) := dk_181 1 254 (dk_at dksX0_watch_1 4 rfl rfl)
theorem dX0_watch_31 : decode cX0_watch 31 = .ok (.iconst 0, 1) := dk_3 (dk_at dksX0_watch_1 7 rfl rfl)
theorem dX0_watch_32 : decode cX0_watch 32 = .ok (.istore_n 3, 1) := dk_62 (dk_at dksX0_watch_1 8 rfl rfl)
theorem dX0_watch_33 : decode cX0_watch 33 = .ok (.iconst 0, 1) := dk_3 (dk_at dksX0_watch_1 9 rfl rfl)
theorem dX0_watch_34 : decode cX0_watch 34 = .ok (.istore 4, 2) := dk_54 4 (dk_at dksX0_watch_1 10 rfl rfl)
theorem dX0_watch_36 : decode cX0_watch 36 = .ok (.iconst 0, 1) := dk_3 (dk_at dksX0_watch_1 12 rfl rfl)
theorem dX0_watch_37 : decode cX0_watch 37 = .ok (.istore 5, 2) := dk_54 5 (dk_at dksX0_watch_1 13 rfl rfl)
theorem dX0_watch_39 : decode cX0_watch 39 = .ok (.iconst 0, 1) := dk_3 (dk_at dksX0_watch_1 15 rfl rfl)
theorem dX0_watch_40 : decode cX0_watch 40 = .ok (.istore 6, 2) := dk_54 6 (dk_at dksX0_watch_1 16 rfl rfl)
theorem dX0_watch_42 : decode cX0_watch 42 = .ok (.iload 6, 2) := dk_21 6 (dk_at dksX0_watch_1 18 rfl rfl)
theorem dX0_watch_44 : decode cX0_watch 44 = .ok (.aload_n 0, 1) := dk_42 (dk_at dksX0_watch_1 20 rfl rfl)
theorem dX0_watch_45 : decode cX0_watch 45 = .ok (.getfield 184, 3) := dk_180 0 184 (dk_at dksX0_watch_1 21 rfl rfl)
theorem dX0_watch_48 : decode cX0_watch 48 = .ok (.if_icmp .ge 66, 3) := dk_162 0 66 (dk_at dksX0_watch_2 0 rfl rfl)
theorem dX0_watch_51 : decode cX0_watch 51 = .ok (.iload_n 3, 1) := dk_29 (dk_at dksX0_watch_2 3 rfl rfl)
theorem dX0_watch_52 : decode cX0_watch 52 = .ok (.bipush 9, 2) := dk_16 9 (dk_at dksX0_watch_2 4 rfl rfl)
theorem dX0_watch_54 : decode cX0_watch 54 = .ok (.if_icmp .ge 60, 3) := dk_162 0 60 (dk_at dksX0_watch_2 6 rfl rfl)
theorem dX0_watch_57 : decode cX0_watch 57 = .ok (.aload_n 0, 1) := dk_42 (dk_at dksX0_watch_2 9 rfl rfl)
theorem dX0_watch_58 : decode cX0_watch 58 = .ok (.iload 6, 2) := dk_21 6 (dk_at dksX0_watch_2 10 rfl rfl)
theorem dX0_watch_60 : decode cX0_watch 60 = .ok (.invokevirtual 431, 3) := dk_182 1 175 (dk_at dksX0_watch_2 12 rfl rfl)
theorem dX0_watch_63 : decode cX0_watch 63 = .ok (.astore 7, 2) := dk_58 7 (dk_at dksX0_watch_2 15 rfl rfl)
theorem dX0_watch_65 : decode cX0_watch 65 = .ok (.aload 7, 2) := dk_25 7 (dk_at dksX0_watch_2 17 rfl rfl)
theorem dX0_watch_67 : decode cX0_watch 67 = .ok (.ifnonnull 6, 3) := dk_199 0 6 (dk_at dksX0_watch_2 19 rfl rfl)
theorem dX0_watch_70 : decode cX0_watch 70 = .ok (.goto 38, 3) := dk_167 0 38 (dk_at dksX0_watch_3 0 rfl rfl)
theorem dX0_watch_73 : decode cX0_watch 73 = .ok (.iinc 3 1, 3) := dk_132 3 1 (dk_at dksX0_watch_3 3 rfl rfl)
theorem dX0_watch_76 : decode cX0_watch 76 = .ok (.aload 7, 2) := dk_25 7 (dk_at dksX0_watch_3 6 rfl rfl)
theorem dX0_watch_78 : decode cX0_watch 78 = .ok (.getfield 297, 3) := dk_180 1 41 (dk_at dksX0_watch_3 8 rfl rfl)
theorem dX0_watch_81 : decode cX0_watch 81 = .ok (.iload_n 2, 1) := dk_28 (dk_at dksX0_watch_3 11 rfl rfl)
theorem dX0_watch_82 : decode cX0_watch 82 = .ok (.if_icmp .gt 26, 3) := dk_163 0 26 (dk_at dksX0_watch_3 12 rfl rfl)
theorem dX0_watch_85 : decode cX0_watch 85 = .ok (.iload 4, 2) := dk_21 4 (dk_at dksX0_watch_3 15 rfl rfl)
theorem dX0_watch_87 : decode cX0_watch 87 = .ok (.iconst 3, 1) := dk_6 (dk_at dksX0_watch_3 17 rfl rfl)
theorem dX0_watch_88 : decode cX0_watch 88 = .ok (.iload_n 1, 1) := dk_27 (dk_at dksX0_watch_3 18 rfl rfl)
theorem dX0_watch_89 : decode cX0_watch 89 = .ok (.imul, 1) := dk_104 (dk_at dksX0_watch_3 19 rfl rfl)
theorem dX0_watch_90 : decode cX0_watch 90 = .ok (.if_icmp .ne 6, 3) := dk_160 0 6 (dk_at dksX0_watch_3 20 rfl rfl)
theorem dX0_watch_93 : decode cX0_watch 93 = .ok (.goto 15, 3) := dk_167 0 15 (dk_at dksX0_watch_4 0 rfl rfl)
theorem dX0_watch_96 : decode cX0_watch 96 = .ok (.aload_n 0, 1) := dk_42 (dk_at dksX0_watch_4 3 rfl rfl)
theorem dX0_watch_97 : decode cX0_watch 97 = .ok (.getfield 130, 3) := dk_180 0 130 (dk_at dksX0_watch_4 4 rfl rfl)
theorem dX0_watch_100 : decode cX0_watch 100 = .ok (.iload 4, 2) := dk_21 4 (dk_at dksX0_watch_4 7 rfl rfl)
theorem dX0_watch_102 : decode cX0_watch 102 = .ok (.iinc 4 1, 3) := dk_132 4 1 (dk_at dksX0_watch_4 9 rfl rfl)
theorem dX0_watch_105 : decode cX0_watch 105 = .ok (.iload 6, 2) := dk_21 6 (dk_at dksX0_watch_4 12 rfl rfl)
theorem dX0_watch_107 : decode cX0_watch 107 = .ok (.iastore, 1) := dk_79 (dk_at dksX0_watch_4 14 rfl rfl)
theorem dX0_watch_108 : decode cX0_watch 108 = .ok (.iinc 6 1, 3) := dk_132 6 1 (dk_at dksX0_watch_4 15 rfl rfl)
theorem dX0_watch_111 : decode cX0_watch 111 = .ok (.goto (-69), 3) := dk_167 255 187 (dk_at dksX0_watch_4 18 rfl rfl)
theorem dX0_watch_114 : decode cX0_watch 114 = .ok (.iload 4, 2) := dk_21 4 (dk_at dksX0_watch_4 21 rfl rfl)
theorem dX0_watch_116 : decode cX0_watch 116 = .ok (.istore 5, 2) := dk_54 5 (dk_at dksX0_watch_5 0 rfl rfl)
theorem dX0_watch_118 : decode cX0_watch 118 = .ok (.iload 5, 2) := dk_21 5 (dk_at dksX0_watch_5 2 rfl rfl)
theorem dX0_watch_120 : decode cX0_watch 120 = .ok (.iconst 3, 1) := dk_6 (dk_at dksX0_watch_5 4 rfl rfl)
theorem dX0_watch_121 : decode cX0_watch 121 = .ok (.iload_n 1, 1) := dk_27 (dk_at dksX0_watch_5 5 rfl rfl)
theorem dX0_watch_122 : decode cX0_watch 122 = .ok (.imul, 1) := dk_104 (dk_at dksX0_watch_5 6 rfl rfl)
theorem dX0_watch_123 : decode cX0_watch 123 = .ok (.if_icmp .ge 18, 3) := dk_162 0 18 (dk_at dksX0_watch_5 7 rfl rfl)
theorem dX0_watch_126 : decode cX0_watch 126 = .ok (.aload_n 0, 1) := dk_42 (dk_at dksX0_watch_5 10 rfl rfl)
theorem dX0_watch_127 : decode cX0_watch 127 = .ok (.getfield 130, 3) := dk_180 0 130 (dk_at dksX0_watch_5 11 rfl rfl)
theorem dX0_watch_130 : decode cX0_watch 130 = .ok (.iload 5, 2) := dk_21 5 (dk_at dksX0_watch_5 14 rfl rfl)
theorem dX0_watch_132 : decode cX0_watch 132 = .ok (.bipush (-2), 2) := dk_16 254 (dk_at dksX0_watch_5 16 rfl rfl)
theorem dX0_watch_134 : decode cX0_watch 134 = .ok (.iastore, 1) := dk_79 (dk_at dksX0_watch_5 18 rfl rfl)
theorem dX0_watch_135 : decode cX0_watch 135 = .ok (.iinc 5 1, 3) := dk_132 5 1 (dk_at dksX0_watch_5 19 rfl rfl)
theorem dX0_watch_138 : decode cX0_watch 138 = .ok (.goto (-20), 3) := dk_167 255 236 (dk_at dksX0_watch_6 0 rfl rfl)
theorem dX0_watch_141 : decode cX0_watch 141 = .ok (.iload 4, 2) := dk_21 4 (dk_at dksX0_watch_6 3 rfl rfl)
theorem dX0_watch_143 : decode cX0_watch 143 = .ok (.ireturn, 1) := dk_172 (dk_at dksX0_watch_6 5 rfl rfl)
abbrev cX0_watched : ByteArray := prog_1_method_77_code
def yX0_watched : MethodName := ⟨RX0, "watched", "(II)I"⟩
def dkwX0_watched_1 : List UInt8 := [184, 0, 167, 153, 0, 19, 42, 180, 0, 130, 27, 42, 180, 1, 254, 104, 28, 96, 46, 167, 0, 4, 2, 172]
abbrev dktX0_watched_1 : List UInt8 := dkwX0_watched_1 ++ []
def dkwX0_watched_0 : List UInt8 := [27, 133, 9, 20, 0, 225, 184, 0, 167, 153, 0, 35, 28, 133, 9, 42, 180, 1, 254, 4, 100, 133]
abbrev dktX0_watched_0 : List UInt8 := dkwX0_watched_0 ++ dktX0_watched_1
theorem dksX0_watched_0 : cX0_watched.data.toList.drop 0 = dktX0_watched_0 := by decide +kernel
theorem dksX0_watched_1 : cX0_watched.data.toList.drop 22 = dktX0_watched_1 := dk_seg dksX0_watched_0 22 rfl rfl
theorem dX0_watched_0 : decode cX0_watched 0 = .ok (.iload_n 1, 1) := dk_27 (dk_at dksX0_watched_0 0 rfl rfl)
theorem dX0_watched_1 : decode cX0_watched 1 = .ok (.i2l, 1) := dk_133 (dk_at dksX0_watched_0 1 rfl rfl)
theorem dX0_watched_2 : decode cX0_watched 2 = .ok (.lconst 0, 1) := dk_9 (dk_at dksX0_watched_0 2 rfl rfl)
theorem dX0_watched_3 : decode cX0_watched 3 = .ok (.ldc2_w 225, 3) := dk_20 0 225 (dk_at dksX0_watched_0 3 rfl rfl)
theorem dX0_watched_6 : decode cX0_watched 6 = .ok (.invokestatic 167, 3) := dk_184 0 167 (dk_at dksX0_watched_0 6 rfl rfl)
theorem dX0_watched_9 : decode cX0_watched 9 = .ok (.ifCond .eq 35, 3) := dk_153 0 35 (dk_at dksX0_watched_0 9 rfl rfl)
theorem dX0_watched_12 : decode cX0_watched 12 = .ok (.iload_n 2, 1) := dk_28 (dk_at dksX0_watched_0 12 rfl rfl)
theorem dX0_watched_13 : decode cX0_watched 13 = .ok (.i2l, 1) := dk_133 (dk_at dksX0_watched_0 13 rfl rfl)
theorem dX0_watched_14 : decode cX0_watched 14 = .ok (.lconst 0, 1) := dk_9 (dk_at dksX0_watched_0 14 rfl rfl)
theorem dX0_watched_15 : decode cX0_watched 15 = .ok (.aload_n 0, 1) := dk_42 (dk_at dksX0_watched_0 15 rfl rfl)
theorem dX0_watched_16 : decode cX0_watched 16 = .ok (.getfield 510, 3) := dk_180 1 254 (dk_at dksX0_watched_0 16 rfl rfl)
theorem dX0_watched_19 : decode cX0_watched 19 = .ok (.iconst 1, 1) := dk_4 (dk_at dksX0_watched_0 19 rfl rfl)
theorem dX0_watched_20 : decode cX0_watched 20 = .ok (.isub, 1) := dk_100 (dk_at dksX0_watched_0 20 rfl rfl)
theorem dX0_watched_21 : decode cX0_watched 21 = .ok (.i2l, 1) := dk_133 (dk_at dksX0_watched_0 21 rfl rfl)
theorem dX0_watched_22 : decode cX0_watched 22 = .ok (.invokestatic 167, 3) := dk_184 0 167 (dk_at dksX0_watched_1 0 rfl rfl)
theorem dX0_watched_25 : decode cX0_watched 25 = .ok (.ifCond .eq 19, 3) := dk_153 0 19 (dk_at dksX0_watched_1 3 rfl rfl)
theorem dX0_watched_28 : decode cX0_watched 28 = .ok (.aload_n 0, 1) := dk_42 (dk_at dksX0_watched_1 6 rfl rfl)
theorem dX0_watched_29 : decode cX0_watched 29 = .ok (.getfield 130, 3) := dk_180 0 130 (dk_at dksX0_watched_1 7 rfl rfl)
theorem dX0_watched_32 : decode cX0_watched 32 = .ok (.iload_n 1, 1) := dk_27 (dk_at dksX0_watched_1 10 rfl rfl)
theorem dX0_watched_33 : decode cX0_watched 33 = .ok (.aload_n 0, 1) := dk_42 (dk_at dksX0_watched_1 11 rfl rfl)
theorem dX0_watched_34 : decode cX0_watched 34 = .ok (.getfield 510, 3) := dk_180 1 254 (dk_at dksX0_watched_1 12 rfl rfl)
theorem dX0_watched_37 : decode cX0_watched 37 = .ok (.imul, 1) := dk_104 (dk_at dksX0_watched_1 15 rfl rfl)
theorem dX0_watched_38 : decode cX0_watched 38 = .ok (.iload_n 2, 1) := dk_28 (dk_at dksX0_watched_1 16 rfl rfl)
theorem dX0_watched_39 : decode cX0_watched 39 = .ok (.iadd, 1) := dk_96 (dk_at dksX0_watched_1 17 rfl rfl)
theorem dX0_watched_40 : decode cX0_watched 40 = .ok (.iaload, 1) := dk_46 (dk_at dksX0_watched_1 18 rfl rfl)
theorem dX0_watched_41 : decode cX0_watched 41 = .ok (.goto 4, 3) := dk_167 0 4 (dk_at dksX0_watched_1 19 rfl rfl)
theorem dX0_watched_44 : decode cX0_watched 44 = .ok (.iconst (-1), 1) := dk_2 (dk_at dksX0_watched_1 22 rfl rfl)
theorem dX0_watched_45 : decode cX0_watched 45 = .ok (.ireturn, 1) := dk_172 (dk_at dksX0_watched_1 23 rfl rfl)
abbrev cX0_aim : ByteArray := prog_1_method_78_code
def yX0_aim : MethodName := ⟨RX0, "aim", "(II)I"⟩
def dkwX0_aim_2 : List UInt8 := [42, 180, 0, 136, 42, 180, 2, 3, 28, 79, 42, 89, 180, 2, 3, 4, 96, 90, 181, 2, 3, 172]
abbrev dktX0_aim_2 : List UInt8 := dkwX0_aim_2 ++ []
def dkwX0_aim_1 : List UInt8 := [2, 172, 42, 180, 2, 3, 16, 6, 160, 0, 6, 16, 253, 172, 42, 180, 0, 133, 42, 180, 2, 3, 27, 79]
abbrev dktX0_aim_1 : List UInt8 := dkwX0_aim_1 ++ dktX0_aim_2
def dkwX0_aim_0 : List UInt8 := [27, 133, 9, 20, 2, 1, 184, 0, 167, 153, 0, 15, 28, 133, 9, 20, 0, 178, 184, 0, 167, 154, 0, 5]
abbrev dktX0_aim_0 : List UInt8 := dkwX0_aim_0 ++ dktX0_aim_1
theorem dksX0_aim_0 : cX0_aim.data.toList.drop 0 = dktX0_aim_0 := by decide +kernel
theorem dksX0_aim_1 : cX0_aim.data.toList.drop 24 = dktX0_aim_1 := dk_seg dksX0_aim_0 24 rfl rfl
theorem dksX0_aim_2 : cX0_aim.data.toList.drop 48 = dktX0_aim_2 := dk_seg dksX0_aim_1 24 rfl rfl
theorem dX0_aim_0 : decode cX0_aim 0 = .ok (.iload_n 1, 1) := dk_27 (dk_at dksX0_aim_0 0 rfl rfl)
theorem dX0_aim_1 : decode cX0_aim 1 = .ok (.i2l, 1) := dk_133 (dk_at dksX0_aim_0 1 rfl rfl)
theorem dX0_aim_2 : decode cX0_aim 2 = .ok (.lconst 0, 1) := dk_9 (dk_at dksX0_aim_0 2 rfl rfl)
theorem dX0_aim_3 : decode cX0_aim 3 = .ok (.ldc2_w 513, 3) := dk_20 2 1 (dk_at dksX0_aim_0 3 rfl rfl)
theorem dX0_aim_6 : decode cX0_aim 6 = .ok (.invokestatic 167, 3) := dk_184 0 167 (dk_at dksX0_aim_0 6 rfl rfl)
theorem dX0_aim_9 : decode cX0_aim 9 = .ok (.ifCond .eq 15, 3) := dk_153 0 15 (dk_at dksX0_aim_0 9 rfl rfl)
theorem dX0_aim_12 : decode cX0_aim 12 = .ok (.iload_n 2, 1) := dk_28 (dk_at dksX0_aim_0 12 rfl rfl)
theorem dX0_aim_13 : decode cX0_aim 13 = .ok (.i2l, 1) := dk_133 (dk_at dksX0_aim_0 13 rfl rfl)
theorem dX0_aim_14 : decode cX0_aim 14 = .ok (.lconst 0, 1) := dk_9 (dk_at dksX0_aim_0 14 rfl rfl)
theorem dX0_aim_15 : decode cX0_aim 15 = .ok (.ldc2_w 178, 3) := dk_20 0 178 (dk_at dksX0_aim_0 15 rfl rfl)
theorem dX0_aim_18 : decode cX0_aim 18 = .ok (.invokestatic 167, 3) := dk_184 0 167 (dk_at dksX0_aim_0 18 rfl rfl)
theorem dX0_aim_21 : decode cX0_aim 21 = .ok (.ifCond .ne 5, 3) := dk_154 0 5 (dk_at dksX0_aim_0 21 rfl rfl)
theorem dX0_aim_24 : decode cX0_aim 24 = .ok (.iconst (-1), 1) := dk_2 (dk_at dksX0_aim_1 0 rfl rfl)
theorem dX0_aim_25 : decode cX0_aim 25 = .ok (.ireturn, 1) := dk_172 (dk_at dksX0_aim_1 1 rfl rfl)
theorem dX0_aim_26 : decode cX0_aim 26 = .ok (.aload_n 0, 1) := dk_42 (dk_at dksX0_aim_1 2 rfl rfl)
theorem dX0_aim_27 : decode cX0_aim 27 = .ok (.getfield 515, 3) := dk_180 2 3 (dk_at dksX0_aim_1 3 rfl rfl)
theorem dX0_aim_30 : decode cX0_aim 30 = .ok (.bipush 6, 2) := dk_16 6 (dk_at dksX0_aim_1 6 rfl rfl)
theorem dX0_aim_32 : decode cX0_aim 32 = .ok (.if_icmp .ne 6, 3) := dk_160 0 6 (dk_at dksX0_aim_1 8 rfl rfl)
theorem dX0_aim_35 : decode cX0_aim 35 = .ok (.bipush (-3), 2) := dk_16 253 (dk_at dksX0_aim_1 11 rfl rfl)
theorem dX0_aim_37 : decode cX0_aim 37 = .ok (.ireturn, 1) := dk_172 (dk_at dksX0_aim_1 13 rfl rfl)
theorem dX0_aim_38 : decode cX0_aim 38 = .ok (.aload_n 0, 1) := dk_42 (dk_at dksX0_aim_1 14 rfl rfl)
theorem dX0_aim_39 : decode cX0_aim 39 = .ok (.getfield 133, 3) := dk_180 0 133 (dk_at dksX0_aim_1 15 rfl rfl)
theorem dX0_aim_42 : decode cX0_aim 42 = .ok (.aload_n 0, 1) := dk_42 (dk_at dksX0_aim_1 18 rfl rfl)
theorem dX0_aim_43 : decode cX0_aim 43 = .ok (.getfield 515, 3) := dk_180 2 3 (dk_at dksX0_aim_1 19 rfl rfl)
theorem dX0_aim_46 : decode cX0_aim 46 = .ok (.iload_n 1, 1) := dk_27 (dk_at dksX0_aim_1 22 rfl rfl)
theorem dX0_aim_47 : decode cX0_aim 47 = .ok (.iastore, 1) := dk_79 (dk_at dksX0_aim_1 23 rfl rfl)
theorem dX0_aim_48 : decode cX0_aim 48 = .ok (.aload_n 0, 1) := dk_42 (dk_at dksX0_aim_2 0 rfl rfl)
theorem dX0_aim_49 : decode cX0_aim 49 = .ok (.getfield 136, 3) := dk_180 0 136 (dk_at dksX0_aim_2 1 rfl rfl)
theorem dX0_aim_52 : decode cX0_aim 52 = .ok (.aload_n 0, 1) := dk_42 (dk_at dksX0_aim_2 4 rfl rfl)
theorem dX0_aim_53 : decode cX0_aim 53 = .ok (.getfield 515, 3) := dk_180 2 3 (dk_at dksX0_aim_2 5 rfl rfl)
theorem dX0_aim_56 : decode cX0_aim 56 = .ok (.iload_n 2, 1) := dk_28 (dk_at dksX0_aim_2 8 rfl rfl)
theorem dX0_aim_57 : decode cX0_aim 57 = .ok (.iastore, 1) := dk_79 (dk_at dksX0_aim_2 9 rfl rfl)
theorem dX0_aim_58 : decode cX0_aim 58 = .ok (.aload_n 0, 1) := dk_42 (dk_at dksX0_aim_2 10 rfl rfl)
theorem dX0_aim_59 : decode cX0_aim 59 = .ok (.dup, 1) := dk_89 (dk_at dksX0_aim_2 11 rfl rfl)
theorem dX0_aim_60 : decode cX0_aim 60 = .ok (.getfield 515, 3) := dk_180 2 3 (dk_at dksX0_aim_2 12 rfl rfl)
theorem dX0_aim_63 : decode cX0_aim 63 = .ok (.iconst 1, 1) := dk_4 (dk_at dksX0_aim_2 15 rfl rfl)
theorem dX0_aim_64 : decode cX0_aim 64 = .ok (.iadd, 1) := dk_96 (dk_at dksX0_aim_2 16 rfl rfl)
theorem dX0_aim_65 : decode cX0_aim 65 = .ok (.dup_x1, 1) := dk_90 (dk_at dksX0_aim_2 17 rfl rfl)
theorem dX0_aim_66 : decode cX0_aim 66 = .ok (.putfield 515, 3) := dk_181 2 3 (dk_at dksX0_aim_2 18 rfl rfl)
theorem dX0_aim_69 : decode cX0_aim 69 = .ok (.ireturn, 1) := dk_172 (dk_at dksX0_aim_2 21 rfl rfl)
abbrev cX0_rock : ByteArray := prog_1_method_79_code
def yX0_rock : MethodName := ⟨RX0, "rock", "(III)I"⟩
def dkwX0_rock_2 : List UInt8 := [46, 54, 4, 42, 180, 0, 139, 27, 16, 6, 104, 28, 96, 29, 79, 21, 4, 172]
abbrev dktX0_rock_2 : List UInt8 := dkwX0_rock_2 ++ []
def dkwX0_rock_1 : List UInt8 := [29, 133, 10, 20, 0, 178, 184, 0, 167, 154, 0, 5, 2, 172, 42, 180, 0, 139, 27, 16, 6, 104, 28, 96]
abbrev dktX0_rock_1 : List UInt8 := dkwX0_rock_1 ++ dktX0_rock_2
def dkwX0_rock_0 : List UInt8 := [27, 133, 9, 20, 1, 252, 184, 0, 167, 153, 0, 27, 28, 133, 9, 20, 0, 227, 184, 0, 167, 153, 0, 15]
abbrev dktX0_rock_0 : List UInt8 := dkwX0_rock_0 ++ dktX0_rock_1
theorem dksX0_rock_0 : cX0_rock.data.toList.drop 0 = dktX0_rock_0 := by decide +kernel
theorem dksX0_rock_1 : cX0_rock.data.toList.drop 24 = dktX0_rock_1 := dk_seg dksX0_rock_0 24 rfl rfl
theorem dksX0_rock_2 : cX0_rock.data.toList.drop 48 = dktX0_rock_2 := dk_seg dksX0_rock_1 24 rfl rfl
theorem dX0_rock_0 : decode cX0_rock 0 = .ok (.iload_n 1, 1) := dk_27 (dk_at dksX0_rock_0 0 rfl rfl)
theorem dX0_rock_1 : decode cX0_rock 1 = .ok (.i2l, 1) := dk_133 (dk_at dksX0_rock_0 1 rfl rfl)
theorem dX0_rock_2 : decode cX0_rock 2 = .ok (.lconst 0, 1) := dk_9 (dk_at dksX0_rock_0 2 rfl rfl)
theorem dX0_rock_3 : decode cX0_rock 3 = .ok (.ldc2_w 508, 3) := dk_20 1 252 (dk_at dksX0_rock_0 3 rfl rfl)
theorem dX0_rock_6 : decode cX0_rock 6 = .ok (.invokestatic 167, 3) := dk_184 0 167 (dk_at dksX0_rock_0 6 rfl rfl)
theorem dX0_rock_9 : decode cX0_rock 9 = .ok (.ifCond .eq 27, 3) := dk_153 0 27 (dk_at dksX0_rock_0 9 rfl rfl)
theorem dX0_rock_12 : decode cX0_rock 12 = .ok (.iload_n 2, 1) := dk_28 (dk_at dksX0_rock_0 12 rfl rfl)
theorem dX0_rock_13 : decode cX0_rock 13 = .ok (.i2l, 1) := dk_133 (dk_at dksX0_rock_0 13 rfl rfl)
theorem dX0_rock_14 : decode cX0_rock 14 = .ok (.lconst 0, 1) := dk_9 (dk_at dksX0_rock_0 14 rfl rfl)
theorem dX0_rock_15 : decode cX0_rock 15 = .ok (.ldc2_w 227, 3) := dk_20 0 227 (dk_at dksX0_rock_0 15 rfl rfl)
theorem dX0_rock_18 : decode cX0_rock 18 = .ok (.invokestatic 167, 3) := dk_184 0 167 (dk_at dksX0_rock_0 18 rfl rfl)
theorem dX0_rock_21 : decode cX0_rock 21 = .ok (.ifCond .eq 15, 3) := dk_153 0 15 (dk_at dksX0_rock_0 21 rfl rfl)
theorem dX0_rock_24 : decode cX0_rock 24 = .ok (.iload_n 3, 1) := dk_29 (dk_at dksX0_rock_1 0 rfl rfl)
theorem dX0_rock_25 : decode cX0_rock 25 = .ok (.i2l, 1) := dk_133 (dk_at dksX0_rock_1 1 rfl rfl)
theorem dX0_rock_26 : decode cX0_rock 26 = .ok (.lconst 1, 1) := dk_10 (dk_at dksX0_rock_1 2 rfl rfl)
theorem dX0_rock_27 : decode cX0_rock 27 = .ok (.ldc2_w 178, 3) := dk_20 0 178 (dk_at dksX0_rock_1 3 rfl rfl)
theorem dX0_rock_30 : decode cX0_rock 30 = .ok (.invokestatic 167, 3) := dk_184 0 167 (dk_at dksX0_rock_1 6 rfl rfl)
theorem dX0_rock_33 : decode cX0_rock 33 = .ok (.ifCond .ne 5, 3) := dk_154 0 5 (dk_at dksX0_rock_1 9 rfl rfl)
theorem dX0_rock_36 : decode cX0_rock 36 = .ok (.iconst (-1), 1) := dk_2 (dk_at dksX0_rock_1 12 rfl rfl)
theorem dX0_rock_37 : decode cX0_rock 37 = .ok (.ireturn, 1) := dk_172 (dk_at dksX0_rock_1 13 rfl rfl)
theorem dX0_rock_38 : decode cX0_rock 38 = .ok (.aload_n 0, 1) := dk_42 (dk_at dksX0_rock_1 14 rfl rfl)
theorem dX0_rock_39 : decode cX0_rock 39 = .ok (.getfield 139, 3) := dk_180 0 139 (dk_at dksX0_rock_1 15 rfl rfl)
theorem dX0_rock_42 : decode cX0_rock 42 = .ok (.iload_n 1, 1) := dk_27 (dk_at dksX0_rock_1 18 rfl rfl)
theorem dX0_rock_43 : decode cX0_rock 43 = .ok (.bipush 6, 2) := dk_16 6 (dk_at dksX0_rock_1 19 rfl rfl)
theorem dX0_rock_45 : decode cX0_rock 45 = .ok (.imul, 1) := dk_104 (dk_at dksX0_rock_1 21 rfl rfl)
theorem dX0_rock_46 : decode cX0_rock 46 = .ok (.iload_n 2, 1) := dk_28 (dk_at dksX0_rock_1 22 rfl rfl)
theorem dX0_rock_47 : decode cX0_rock 47 = .ok (.iadd, 1) := dk_96 (dk_at dksX0_rock_1 23 rfl rfl)
theorem dX0_rock_48 : decode cX0_rock 48 = .ok (.iaload, 1) := dk_46 (dk_at dksX0_rock_2 0 rfl rfl)
theorem dX0_rock_49 : decode cX0_rock 49 = .ok (.istore 4, 2) := dk_54 4 (dk_at dksX0_rock_2 1 rfl rfl)
theorem dX0_rock_51 : decode cX0_rock 51 = .ok (.aload_n 0, 1) := dk_42 (dk_at dksX0_rock_2 3 rfl rfl)
theorem dX0_rock_52 : decode cX0_rock 52 = .ok (.getfield 139, 3) := dk_180 0 139 (dk_at dksX0_rock_2 4 rfl rfl)
theorem dX0_rock_55 : decode cX0_rock 55 = .ok (.iload_n 1, 1) := dk_27 (dk_at dksX0_rock_2 7 rfl rfl)
theorem dX0_rock_56 : decode cX0_rock 56 = .ok (.bipush 6, 2) := dk_16 6 (dk_at dksX0_rock_2 8 rfl rfl)
theorem dX0_rock_58 : decode cX0_rock 58 = .ok (.imul, 1) := dk_104 (dk_at dksX0_rock_2 10 rfl rfl)
theorem dX0_rock_59 : decode cX0_rock 59 = .ok (.iload_n 2, 1) := dk_28 (dk_at dksX0_rock_2 11 rfl rfl)
theorem dX0_rock_60 : decode cX0_rock 60 = .ok (.iadd, 1) := dk_96 (dk_at dksX0_rock_2 12 rfl rfl)
theorem dX0_rock_61 : decode cX0_rock 61 = .ok (.iload_n 3, 1) := dk_29 (dk_at dksX0_rock_2 13 rfl rfl)
theorem dX0_rock_62 : decode cX0_rock 62 = .ok (.iastore, 1) := dk_79 (dk_at dksX0_rock_2 14 rfl rfl)
theorem dX0_rock_63 : decode cX0_rock 63 = .ok (.iload 4, 2) := dk_21 4 (dk_at dksX0_rock_2 15 rfl rfl)
theorem dX0_rock_65 : decode cX0_rock 65 = .ok (.ireturn, 1) := dk_172 (dk_at dksX0_rock_2 17 rfl rfl)
abbrev cX0_aimed : ByteArray := prog_1_method_81_code
def yX0_aimed : MethodName := ⟨RX0, "aimed", "(III)I"⟩
def dkwX0_aimed_11 : List UInt8 := [181, 2, 10, 42, 3, 181, 2, 3, 21, 4, 172]
abbrev dktX0_aimed_11 : List UInt8 := dkwX0_aimed_11 ++ []
def dkwX0_aimed_10 : List UInt8 := [167, 255, 146, 132, 7, 1, 167, 255, 128, 132, 6, 1, 167, 255, 86, 132, 5, 1, 167, 255, 68, 42, 29]
abbrev dktX0_aimed_10 : List UInt8 := dkwX0_aimed_10 ++ dktX0_aimed_11
def dkwX0_aimed_9 : List UInt8 := [3, 21, 7, 79, 42, 180, 0, 142, 4, 21, 6, 79, 42, 180, 0, 145, 4, 21, 8, 79, 132, 8, 1]
abbrev dktX0_aimed_9 : List UInt8 := dkwX0_aimed_9 ++ dktX0_aimed_10
def dkwX0_aimed_8 : List UInt8 := [21, 4, 161, 0, 6, 167, 0, 39, 21, 9, 54, 4, 42, 180, 0, 142, 3, 21, 5, 79, 42, 180, 0, 145]
abbrev dktX0_aimed_8 : List UInt8 := dkwX0_aimed_8 ++ dktX0_aimed_9
def dkwX0_aimed_7 : List UInt8 := [182, 2, 6, 184, 0, 7, 167, 0, 13, 42, 21, 5, 21, 7, 27, 28, 182, 2, 6, 54, 9, 21, 9]
abbrev dktX0_aimed_7 : List UInt8 := dkwX0_aimed_7 ++ dktX0_aimed_8
def dkwX0_aimed_6 : List UInt8 := [29, 5, 160, 0, 29, 42, 21, 5, 21, 7, 27, 28, 182, 2, 6, 42, 21, 6, 21, 8, 27, 28]
abbrev dktX0_aimed_6 : List UInt8 := dkwX0_aimed_6 ++ dktX0_aimed_7
def dkwX0_aimed_5 : List UInt8 := [21, 7, 4, 96, 54, 8, 21, 8, 29, 5, 160, 0, 7, 6, 167, 0, 7, 21, 7, 5, 96, 162, 0, 98]
abbrev dktX0_aimed_5 : List UInt8 := dkwX0_aimed_5 ++ dktX0_aimed_6
def dkwX0_aimed_4 : List UInt8 := [29, 5, 160, 0, 13, 21, 5, 21, 6, 160, 0, 6, 167, 0, 137, 3, 54, 7, 21, 7, 6, 162, 0, 128]
abbrev dktX0_aimed_4 : List UInt8 := dkwX0_aimed_4 ++ dktX0_aimed_5
def dkwX0_aimed_3 : List UInt8 := [162, 0, 185, 3, 54, 6, 21, 6, 29, 5, 160, 0, 10, 42, 180, 2, 3, 167, 0, 4, 4, 162, 0, 158]
abbrev dktX0_aimed_3 : List UInt8 := dkwX0_aimed_3 ++ dktX0_aimed_4
def dkwX0_aimed_2 : List UInt8 := [180, 2, 3, 164, 0, 6, 16, 254, 172, 19, 1, 245, 54, 4, 3, 54, 5, 21, 5, 42, 180, 2, 3]
abbrev dktX0_aimed_2 : List UInt8 := dkwX0_aimed_2 ++ dktX0_aimed_3
def dkwX0_aimed_1 : List UInt8 := [29, 133, 10, 20, 0, 225, 184, 0, 167, 153, 0, 10, 42, 180, 2, 3, 154, 0, 5, 2, 172, 29, 42]
abbrev dktX0_aimed_1 : List UInt8 := dkwX0_aimed_1 ++ dktX0_aimed_2
def dkwX0_aimed_0 : List UInt8 := [27, 133, 10, 20, 1, 144, 184, 0, 167, 153, 0, 34, 28, 133, 10, 20, 0, 165, 184, 0, 167, 153, 0, 22]
abbrev dktX0_aimed_0 : List UInt8 := dkwX0_aimed_0 ++ dktX0_aimed_1
theorem dksX0_aimed_0 : cX0_aimed.data.toList.drop 0 = dktX0_aimed_0 := by decide +kernel
theorem dksX0_aimed_1 : cX0_aimed.data.toList.drop 24 = dktX0_aimed_1 := dk_seg dksX0_aimed_0 24 rfl rfl
theorem dksX0_aimed_2 : cX0_aimed.data.toList.drop 47 = dktX0_aimed_2 := dk_seg dksX0_aimed_1 23 rfl rfl
theorem dksX0_aimed_3 : cX0_aimed.data.toList.drop 70 = dktX0_aimed_3 := dk_seg dksX0_aimed_2 23 rfl rfl
theorem dksX0_aimed_4 : cX0_aimed.data.toList.drop 94 = dktX0_aimed_4 := dk_seg dksX0_aimed_3 24 rfl rfl
theorem dksX0_aimed_5 : cX0_aimed.data.toList.drop 118 = dktX0_aimed_5 := dk_seg dksX0_aimed_4 24 rfl rfl
theorem dksX0_aimed_6 : cX0_aimed.data.toList.drop 142 = dktX0_aimed_6 := dk_seg dksX0_aimed_5 24 rfl rfl
theorem dksX0_aimed_7 : cX0_aimed.data.toList.drop 164 = dktX0_aimed_7 := dk_seg dksX0_aimed_6 22 rfl rfl
theorem dksX0_aimed_8 : cX0_aimed.data.toList.drop 187 = dktX0_aimed_8 := dk_seg dksX0_aimed_7 23 rfl rfl
theorem dksX0_aimed_9 : cX0_aimed.data.toList.drop 211 = dktX0_aimed_9 := dk_seg dksX0_aimed_8 24 rfl rfl
theorem dksX0_aimed_10 : cX0_aimed.data.toList.drop 234 = dktX0_aimed_10 := dk_seg dksX0_aimed_9 23 rfl rfl
theorem dksX0_aimed_11 : cX0_aimed.data.toList.drop 257 = dktX0_aimed_11 := dk_seg dksX0_aimed_10 23 rfl rfl
theorem dX0_aimed_0 : decode cX0_aimed 0 = .ok (.iload_n 1, 1) := dk_27 (dk_at dksX0_aimed_0 0 rfl rfl)
theorem dX0_aimed_1 : decode cX0_aimed 1 = .ok (.i2l, 1) := dk_133 (dk_at dksX0_aimed_0 1 rfl rfl)
theorem dX0_aimed_2 : decode cX0_aimed 2 = .ok (.lconst 1, 1) := dk_10 (dk_at dksX0_aimed_0 2 rfl rfl)
theorem dX0_aimed_3 : decode cX0_aimed 3 = .ok (.ldc2_w 400, 3) := dk_20 1 144 (dk_at dksX0_aimed_0 3 rfl rfl)
theorem dX0_aimed_6 : decode cX0_aimed 6 = .ok (.invokestatic 167, 3) := dk_184 0 167 (dk_at dksX0_aimed_0 6 rfl rfl)
theorem dX0_aimed_9 : decode cX0_aimed 9 = .ok (.ifCond .eq 34, 3) := dk_153 0 34 (dk_at dksX0_aimed_0 9 rfl rfl)
theorem dX0_aimed_12 : decode cX0_aimed 12 = .ok (.iload_n 2, 1) := dk_28 (dk_at dksX0_aimed_0 12 rfl rfl)
theorem dX0_aimed_13 : decode cX0_aimed 13 = .ok (.i2l, 1) := dk_133 (dk_at dksX0_aimed_0 13 rfl rfl)
theorem dX0_aimed_14 : decode cX0_aimed 14 = .ok (.lconst 1, 1) := dk_10 (dk_at dksX0_aimed_0 14 rfl rfl)
theorem dX0_aimed_15 : decode cX0_aimed 15 = .ok (.ldc2_w 165, 3) := dk_20 0 165 (dk_at dksX0_aimed_0 15 rfl rfl)
theorem dX0_aimed_18 : decode cX0_aimed 18 = .ok (.invokestatic 167, 3) := dk_184 0 167 (dk_at dksX0_aimed_0 18 rfl rfl)
theorem dX0_aimed_21 : decode cX0_aimed 21 = .ok (.ifCond .eq 22, 3) := dk_153 0 22 (dk_at dksX0_aimed_0 21 rfl rfl)
theorem dX0_aimed_24 : decode cX0_aimed 24 = .ok (.iload_n 3, 1) := dk_29 (dk_at dksX0_aimed_1 0 rfl rfl)
theorem dX0_aimed_25 : decode cX0_aimed 25 = .ok (.i2l, 1) := dk_133 (dk_at dksX0_aimed_1 1 rfl rfl)
theorem dX0_aimed_26 : decode cX0_aimed 26 = .ok (.lconst 1, 1) := dk_10 (dk_at dksX0_aimed_1 2 rfl rfl)
theorem dX0_aimed_27 : decode cX0_aimed 27 = .ok (.ldc2_w 225, 3) := dk_20 0 225 (dk_at dksX0_aimed_1 3 rfl rfl)
theorem dX0_aimed_30 : decode cX0_aimed 30 = .ok (.invokestatic 167, 3) := dk_184 0 167 (dk_at dksX0_aimed_1 6 rfl rfl)
theorem dX0_aimed_33 : decode cX0_aimed 33 = .ok (.ifCond .eq 10, 3) := dk_153 0 10 (dk_at dksX0_aimed_1 9 rfl rfl)
theorem dX0_aimed_36 : decode cX0_aimed 36 = .ok (.aload_n 0, 1) := dk_42 (dk_at dksX0_aimed_1 12 rfl rfl)
theorem dX0_aimed_37 : decode cX0_aimed 37 = .ok (.getfield 515, 3) := dk_180 2 3 (dk_at dksX0_aimed_1 13 rfl rfl)
theorem dX0_aimed_40 : decode cX0_aimed 40 = .ok (.ifCond .ne 5, 3) := dk_154 0 5 (dk_at dksX0_aimed_1 16 rfl rfl)
theorem dX0_aimed_43 : decode cX0_aimed 43 = .ok (.iconst (-1), 1) := dk_2 (dk_at dksX0_aimed_1 19 rfl rfl)
theorem dX0_aimed_44 : decode cX0_aimed 44 = .ok (.ireturn, 1) := dk_172 (dk_at dksX0_aimed_1 20 rfl rfl)
theorem dX0_aimed_45 : decode cX0_aimed 45 = .ok (.iload_n 3, 1) := dk_29 (dk_at dksX0_aimed_1 21 rfl rfl)
theorem dX0_aimed_46 : decode cX0_aimed 46 = .ok (.aload_n 0, 1) := dk_42 (dk_at dksX0_aimed_1 22 rfl rfl)
theorem dX0_aimed_47 : decode cX0_aimed 47 = .ok (.getfield 515, 3) := dk_180 2 3 (dk_at dksX0_aimed_2 0 rfl rfl)
theorem dX0_aimed_50 : decode cX0_aimed 50 = .ok (.if_icmp .le 6, 3) := dk_164 0 6 (dk_at dksX0_aimed_2 3 rfl rfl)
theorem dX0_aimed_53 : decode cX0_aimed 53 = .ok (.bipush (-2), 2) := dk_16 254 (dk_at dksX0_aimed_2 6 rfl rfl)
theorem dX0_aimed_55 : decode cX0_aimed 55 = .ok (.ireturn, 1) := dk_172 (dk_at dksX0_aimed_2 8 rfl rfl)
theorem dX0_aimed_56 : decode cX0_aimed 56 = .ok (.ldc_w 501, 3) := dk_19 1 245 (dk_at dksX0_aimed_2 9 rfl rfl)
theorem dX0_aimed_59 : decode cX0_aimed 59 = .ok (.istore 4, 2) := dk_54 4 (dk_at dksX0_aimed_2 12 rfl rfl)
theorem dX0_aimed_61 : decode cX0_aimed 61 = .ok (.iconst 0, 1) := dk_3 (dk_at dksX0_aimed_2 14 rfl rfl)
theorem dX0_aimed_62 : decode cX0_aimed 62 = .ok (.istore 5, 2) := dk_54 5 (dk_at dksX0_aimed_2 15 rfl rfl)
theorem dX0_aimed_64 : decode cX0_aimed 64 = .ok (.iload 5, 2) := dk_21 5 (dk_at dksX0_aimed_2 17 rfl rfl)
theorem dX0_aimed_66 : decode cX0_aimed 66 = .ok (.aload_n 0, 1) := dk_42 (dk_at dksX0_aimed_2 19 rfl rfl)
theorem dX0_aimed_67 : decode cX0_aimed 67 = .ok (.getfield 515, 3) := dk_180 2 3 (dk_at dksX0_aimed_2 20 rfl rfl)
theorem dX0_aimed_70 : decode cX0_aimed 70 = .ok (.if_icmp .ge 185, 3) := dk_162 0 185 (dk_at dksX0_aimed_3 0 rfl rfl)
theorem dX0_aimed_73 : decode cX0_aimed 73 = .ok (.iconst 0, 1) := dk_3 (dk_at dksX0_aimed_3 3 rfl rfl)
theorem dX0_aimed_74 : decode cX0_aimed 74 = .ok (.istore 6, 2) := dk_54 6 (dk_at dksX0_aimed_3 4 rfl rfl)
theorem dX0_aimed_76 : decode cX0_aimed 76 = .ok (.iload 6, 2) := dk_21 6 (dk_at dksX0_aimed_3 6 rfl rfl)
theorem dX0_aimed_78 : decode cX0_aimed 78 = .ok (.iload_n 3, 1) := dk_29 (dk_at dksX0_aimed_3 8 rfl rfl)
theorem dX0_aimed_79 : decode cX0_aimed 79 = .ok (.iconst 2, 1) := dk_5 (dk_at dksX0_aimed_3 9 rfl rfl)
theorem dX0_aimed_80 : decode cX0_aimed 80 = .ok (.if_icmp .ne 10, 3) := dk_160 0 10 (dk_at dksX0_aimed_3 10 rfl rfl)
theorem dX0_aimed_83 : decode cX0_aimed 83 = .ok (.aload_n 0, 1) := dk_42 (dk_at dksX0_aimed_3 13 rfl rfl)
theorem dX0_aimed_84 : decode cX0_aimed 84 = .ok (.getfield 515, 3) := dk_180 2 3 (dk_at dksX0_aimed_3 14 rfl rfl)
theorem dX0_aimed_87 : decode cX0_aimed 87 = .ok (.goto 4, 3) := dk_167 0 4 (dk_at dksX0_aimed_3 17 rfl rfl)
theorem dX0_aimed_90 : decode cX0_aimed 90 = .ok (.iconst 1, 1) := dk_4 (dk_at dksX0_aimed_3 20 rfl rfl)
theorem dX0_aimed_91 : decode cX0_aimed 91 = .ok (.if_icmp .ge 158, 3) := dk_162 0 158 (dk_at dksX0_aimed_3 21 rfl rfl)
theorem dX0_aimed_94 : decode cX0_aimed 94 = .ok (.iload_n 3, 1) := dk_29 (dk_at dksX0_aimed_4 0 rfl rfl)
theorem dX0_aimed_95 : decode cX0_aimed 95 = .ok (.iconst 2, 1) := dk_5 (dk_at dksX0_aimed_4 1 rfl rfl)
theorem dX0_aimed_96 : decode cX0_aimed 96 = .ok (.if_icmp .ne 13, 3) := dk_160 0 13 (dk_at dksX0_aimed_4 2 rfl rfl)
theorem dX0_aimed_99 : decode cX0_aimed 99 = .ok (.iload 5, 2) := dk_21 5 (dk_at dksX0_aimed_4 5 rfl rfl)
theorem dX0_aimed_101 : decode cX0_aimed 101 = .ok (.iload 6, 2) := dk_21 6 (dk_at dksX0_aimed_4 7 rfl rfl)
theorem dX0_aimed_103 : decode cX0_aimed 103 = .ok (.if_icmp .ne 6, 3) := dk_160 0 6 (dk_at dksX0_aimed_4 9 rfl rfl)
theorem dX0_aimed_106 : decode cX0_aimed 106 = .ok (.goto 137, 3) := dk_167 0 137 (dk_at dksX0_aimed_4 12 rfl rfl)
theorem dX0_aimed_109 : decode cX0_aimed 109 = .ok (.iconst 0, 1) := dk_3 (dk_at dksX0_aimed_4 15 rfl rfl)
theorem dX0_aimed_110 : decode cX0_aimed 110 = .ok (.istore 7, 2) := dk_54 7 (dk_at dksX0_aimed_4 16 rfl rfl)
theorem dX0_aimed_112 : decode cX0_aimed 112 = .ok (.iload 7, 2) := dk_21 7 (dk_at dksX0_aimed_4 18 rfl rfl)
theorem dX0_aimed_114 : decode cX0_aimed 114 = .ok (.iconst 3, 1) := dk_6 (dk_at dksX0_aimed_4 20 rfl rfl)
theorem dX0_aimed_115 : decode cX0_aimed 115 = .ok (.if_icmp .ge 128, 3) := dk_162 0 128 (dk_at dksX0_aimed_4 21 rfl rfl)
theorem dX0_aimed_118 : decode cX0_aimed 118 = .ok (.iload 7, 2) := dk_21 7 (dk_at dksX0_aimed_5 0 rfl rfl)
theorem dX0_aimed_120 : decode cX0_aimed 120 = .ok (.iconst 1, 1) := dk_4 (dk_at dksX0_aimed_5 2 rfl rfl)
theorem dX0_aimed_121 : decode cX0_aimed 121 = .ok (.iadd, 1) := dk_96 (dk_at dksX0_aimed_5 3 rfl rfl)
theorem dX0_aimed_122 : decode cX0_aimed 122 = .ok (.istore 8, 2) := dk_54 8 (dk_at dksX0_aimed_5 4 rfl rfl)
theorem dX0_aimed_124 : decode cX0_aimed 124 = .ok (.iload 8, 2) := dk_21 8 (dk_at dksX0_aimed_5 6 rfl rfl)
theorem dX0_aimed_126 : decode cX0_aimed 126 = .ok (.iload_n 3, 1) := dk_29 (dk_at dksX0_aimed_5 8 rfl rfl)
theorem dX0_aimed_127 : decode cX0_aimed 127 = .ok (.iconst 2, 1) := dk_5 (dk_at dksX0_aimed_5 9 rfl rfl)
theorem dX0_aimed_128 : decode cX0_aimed 128 = .ok (.if_icmp .ne 7, 3) := dk_160 0 7 (dk_at dksX0_aimed_5 10 rfl rfl)
theorem dX0_aimed_131 : decode cX0_aimed 131 = .ok (.iconst 3, 1) := dk_6 (dk_at dksX0_aimed_5 13 rfl rfl)
theorem dX0_aimed_132 : decode cX0_aimed 132 = .ok (.goto 7, 3) := dk_167 0 7 (dk_at dksX0_aimed_5 14 rfl rfl)
theorem dX0_aimed_135 : decode cX0_aimed 135 = .ok (.iload 7, 2) := dk_21 7 (dk_at dksX0_aimed_5 17 rfl rfl)
theorem dX0_aimed_137 : decode cX0_aimed 137 = .ok (.iconst 2, 1) := dk_5 (dk_at dksX0_aimed_5 19 rfl rfl)
theorem dX0_aimed_138 : decode cX0_aimed 138 = .ok (.iadd, 1) := dk_96 (dk_at dksX0_aimed_5 20 rfl rfl)
theorem dX0_aimed_139 : decode cX0_aimed 139 = .ok (.if_icmp .ge 98, 3) := dk_162 0 98 (dk_at dksX0_aimed_5 21 rfl rfl)
theorem dX0_aimed_142 : decode cX0_aimed 142 = .ok (.iload_n 3, 1) := dk_29 (dk_at dksX0_aimed_6 0 rfl rfl)
theorem dX0_aimed_143 : decode cX0_aimed 143 = .ok (.iconst 2, 1) := dk_5 (dk_at dksX0_aimed_6 1 rfl rfl)
theorem dX0_aimed_144 : decode cX0_aimed 144 = .ok (.if_icmp .ne 29, 3) := dk_160 0 29 (dk_at dksX0_aimed_6 2 rfl rfl)
theorem dX0_aimed_147 : decode cX0_aimed 147 = .ok (.aload_n 0, 1) := dk_42 (dk_at dksX0_aimed_6 5 rfl rfl)
theorem dX0_aimed_148 : decode cX0_aimed 148 = .ok (.iload 5, 2) := dk_21 5 (dk_at dksX0_aimed_6 6 rfl rfl)
theorem dX0_aimed_150 : decode cX0_aimed 150 = .ok (.iload 7, 2) := dk_21 7 (dk_at dksX0_aimed_6 8 rfl rfl)
theorem dX0_aimed_152 : decode cX0_aimed 152 = .ok (.iload_n 1, 1) := dk_27 (dk_at dksX0_aimed_6 10 rfl rfl)
theorem dX0_aimed_153 : decode cX0_aimed 153 = .ok (.iload_n 2, 1) := dk_28 (dk_at dksX0_aimed_6 11 rfl rfl)
theorem dX0_aimed_154 : decode cX0_aimed 154 = .ok (.invokevirtual 518, 3) := dk_182 2 6 (dk_at dksX0_aimed_6 12 rfl rfl)
theorem dX0_aimed_157 : decode cX0_aimed 157 = .ok (.aload_n 0, 1) := dk_42 (dk_at dksX0_aimed_6 15 rfl rfl)
theorem dX0_aimed_158 : decode cX0_aimed 158 = .ok (.iload 6, 2) := dk_21 6 (dk_at dksX0_aimed_6 16 rfl rfl)
theorem dX0_aimed_160 : decode cX0_aimed 160 = .ok (.iload 8, 2) := dk_21 8 (dk_at dksX0_aimed_6 18 rfl rfl)
theorem dX0_aimed_162 : decode cX0_aimed 162 = .ok (.iload_n 1, 1) := dk_27 (dk_at dksX0_aimed_6 20 rfl rfl)
theorem dX0_aimed_163 : decode cX0_aimed 163 = .ok (.iload_n 2, 1) := dk_28 (dk_at dksX0_aimed_6 21 rfl rfl)
theorem dX0_aimed_164 : decode cX0_aimed 164 = .ok (.invokevirtual 518, 3) := dk_182 2 6 (dk_at dksX0_aimed_7 0 rfl rfl)
theorem dX0_aimed_167 : decode cX0_aimed 167 = .ok (.invokestatic 7, 3) := dk_184 0 7 (dk_at dksX0_aimed_7 3 rfl rfl)
theorem dX0_aimed_170 : decode cX0_aimed 170 = .ok (.goto 13, 3) := dk_167 0 13 (dk_at dksX0_aimed_7 6 rfl rfl)
theorem dX0_aimed_173 : decode cX0_aimed 173 = .ok (.aload_n 0, 1) := dk_42 (dk_at dksX0_aimed_7 9 rfl rfl)
theorem dX0_aimed_174 : decode cX0_aimed 174 = .ok (.iload 5, 2) := dk_21 5 (dk_at dksX0_aimed_7 10 rfl rfl)
theorem dX0_aimed_176 : decode cX0_aimed 176 = .ok (.iload 7, 2) := dk_21 7 (dk_at dksX0_aimed_7 12 rfl rfl)
theorem dX0_aimed_178 : decode cX0_aimed 178 = .ok (.iload_n 1, 1) := dk_27 (dk_at dksX0_aimed_7 14 rfl rfl)
theorem dX0_aimed_179 : decode cX0_aimed 179 = .ok (.iload_n 2, 1) := dk_28 (dk_at dksX0_aimed_7 15 rfl rfl)
theorem dX0_aimed_180 : decode cX0_aimed 180 = .ok (.invokevirtual 518, 3) := dk_182 2 6 (dk_at dksX0_aimed_7 16 rfl rfl)
theorem dX0_aimed_183 : decode cX0_aimed 183 = .ok (.istore 9, 2) := dk_54 9 (dk_at dksX0_aimed_7 19 rfl rfl)
theorem dX0_aimed_185 : decode cX0_aimed 185 = .ok (.iload 9, 2) := dk_21 9 (dk_at dksX0_aimed_7 21 rfl rfl)
theorem dX0_aimed_187 : decode cX0_aimed 187 = .ok (.iload 4, 2) := dk_21 4 (dk_at dksX0_aimed_8 0 rfl rfl)
theorem dX0_aimed_189 : decode cX0_aimed 189 = .ok (.if_icmp .lt 6, 3) := dk_161 0 6 (dk_at dksX0_aimed_8 2 rfl rfl)
theorem dX0_aimed_192 : decode cX0_aimed 192 = .ok (.goto 39, 3) := dk_167 0 39 (dk_at dksX0_aimed_8 5 rfl rfl)
theorem dX0_aimed_195 : decode cX0_aimed 195 = .ok (.iload 9, 2) := dk_21 9 (dk_at dksX0_aimed_8 8 rfl rfl)
theorem dX0_aimed_197 : decode cX0_aimed 197 = .ok (.istore 4, 2) := dk_54 4 (dk_at dksX0_aimed_8 10 rfl rfl)
theorem dX0_aimed_199 : decode cX0_aimed 199 = .ok (.aload_n 0, 1) := dk_42 (dk_at dksX0_aimed_8 12 rfl rfl)
theorem dX0_aimed_200 : decode cX0_aimed 200 = .ok (.getfield 142, 3) := dk_180 0 142 (dk_at dksX0_aimed_8 13 rfl rfl)
theorem dX0_aimed_203 : decode cX0_aimed 203 = .ok (.iconst 0, 1) := dk_3 (dk_at dksX0_aimed_8 16 rfl rfl)
theorem dX0_aimed_204 : decode cX0_aimed 204 = .ok (.iload 5, 2) := dk_21 5 (dk_at dksX0_aimed_8 17 rfl rfl)
theorem dX0_aimed_206 : decode cX0_aimed 206 = .ok (.iastore, 1) := dk_79 (dk_at dksX0_aimed_8 19 rfl rfl)
theorem dX0_aimed_207 : decode cX0_aimed 207 = .ok (.aload_n 0, 1) := dk_42 (dk_at dksX0_aimed_8 20 rfl rfl)
theorem dX0_aimed_208 : decode cX0_aimed 208 = .ok (.getfield 145, 3) := dk_180 0 145 (dk_at dksX0_aimed_8 21 rfl rfl)
theorem dX0_aimed_211 : decode cX0_aimed 211 = .ok (.iconst 0, 1) := dk_3 (dk_at dksX0_aimed_9 0 rfl rfl)
theorem dX0_aimed_212 : decode cX0_aimed 212 = .ok (.iload 7, 2) := dk_21 7 (dk_at dksX0_aimed_9 1 rfl rfl)
theorem dX0_aimed_214 : decode cX0_aimed 214 = .ok (.iastore, 1) := dk_79 (dk_at dksX0_aimed_9 3 rfl rfl)
theorem dX0_aimed_215 : decode cX0_aimed 215 = .ok (.aload_n 0, 1) := dk_42 (dk_at dksX0_aimed_9 4 rfl rfl)
theorem dX0_aimed_216 : decode cX0_aimed 216 = .ok (.getfield 142, 3) := dk_180 0 142 (dk_at dksX0_aimed_9 5 rfl rfl)
theorem dX0_aimed_219 : decode cX0_aimed 219 = .ok (.iconst 1, 1) := dk_4 (dk_at dksX0_aimed_9 8 rfl rfl)
theorem dX0_aimed_220 : decode cX0_aimed 220 = .ok (.iload 6, 2) := dk_21 6 (dk_at dksX0_aimed_9 9 rfl rfl)
theorem dX0_aimed_222 : decode cX0_aimed 222 = .ok (.iastore, 1) := dk_79 (dk_at dksX0_aimed_9 11 rfl rfl)
theorem dX0_aimed_223 : decode cX0_aimed 223 = .ok (.aload_n 0, 1) := dk_42 (dk_at dksX0_aimed_9 12 rfl rfl)
theorem dX0_aimed_224 : decode cX0_aimed 224 = .ok (.getfield 145, 3) := dk_180 0 145 (dk_at dksX0_aimed_9 13 rfl rfl)
theorem dX0_aimed_227 : decode cX0_aimed 227 = .ok (.iconst 1, 1) := dk_4 (dk_at dksX0_aimed_9 16 rfl rfl)
theorem dX0_aimed_228 : decode cX0_aimed 228 = .ok (.iload 8, 2) := dk_21 8 (dk_at dksX0_aimed_9 17 rfl rfl)
theorem dX0_aimed_230 : decode cX0_aimed 230 = .ok (.iastore, 1) := dk_79 (dk_at dksX0_aimed_9 19 rfl rfl)
theorem dX0_aimed_231 : decode cX0_aimed 231 = .ok (.iinc 8 1, 3) := dk_132 8 1 (dk_at dksX0_aimed_9 20 rfl rfl)
theorem dX0_aimed_234 : decode cX0_aimed 234 = .ok (.goto (-110), 3) := dk_167 255 146 (dk_at dksX0_aimed_10 0 rfl rfl)
theorem dX0_aimed_237 : decode cX0_aimed 237 = .ok (.iinc 7 1, 3) := dk_132 7 1 (dk_at dksX0_aimed_10 3 rfl rfl)
theorem dX0_aimed_240 : decode cX0_aimed 240 = .ok (.goto (-128), 3) := dk_167 255 128 (dk_at dksX0_aimed_10 6 rfl rfl)
theorem dX0_aimed_243 : decode cX0_aimed 243 = .ok (.iinc 6 1, 3) := dk_132 6 1 (dk_at dksX0_aimed_10 9 rfl rfl)
theorem dX0_aimed_246 : decode cX0_aimed 246 = .ok (.goto (-170), 3) := dk_167 255 86 (dk_at dksX0_aimed_10 12 rfl rfl)
theorem dX0_aimed_249 : decode cX0_aimed 249 = .ok (.iinc 5 1, 3) := dk_132 5 1 (dk_at dksX0_aimed_10 15 rfl rfl)
theorem dX0_aimed_252 : decode cX0_aimed 252 = .ok (.goto (-188), 3) := dk_167 255 68 (dk_at dksX0_aimed_10 18 rfl rfl)
theorem dX0_aimed_255 : decode cX0_aimed 255 = .ok (.aload_n 0, 1) := dk_42 (dk_at dksX0_aimed_10 21 rfl rfl)
theorem dX0_aimed_256 : decode cX0_aimed 256 = .ok (.iload_n 3, 1) := dk_29 (dk_at dksX0_aimed_10 22 rfl rfl)
theorem dX0_aimed_257 : decode cX0_aimed 257 = .ok (.putfield 522, 3) := dk_181 2 10 (dk_at dksX0_aimed_11 0 rfl rfl)
theorem dX0_aimed_260 : decode cX0_aimed 260 = .ok (.aload_n 0, 1) := dk_42 (dk_at dksX0_aimed_11 3 rfl rfl)
theorem dX0_aimed_261 : decode cX0_aimed 261 = .ok (.iconst 0, 1) := dk_3 (dk_at dksX0_aimed_11 4 rfl rfl)
theorem dX0_aimed_262 : decode cX0_aimed 262 = .ok (.putfield 515, 3) := dk_181 2 3 (dk_at dksX0_aimed_11 5 rfl rfl)
theorem dX0_aimed_265 : decode cX0_aimed 265 = .ok (.iload 4, 2) := dk_21 4 (dk_at dksX0_aimed_11 8 rfl rfl)
theorem dX0_aimed_267 : decode cX0_aimed 267 = .ok (.ireturn, 1) := dk_172 (dk_at dksX0_aimed_11 10 rfl rfl)
abbrev cX0_takes : ByteArray := prog_1_method_80_code
def yX0_takes : MethodName := ⟨RX0, "takes", "(IIII)I"⟩
def dkwX0_takes_2 : List UInt8 := [42, 180, 0, 35, 28, 46, 104, 21, 5, 104, 172]
abbrev dktX0_takes_2 : List UInt8 := dkwX0_takes_2 ++ []
def dkwX0_takes_1 : List UInt8 := [96, 46, 184, 0, 7, 54, 5, 132, 6, 1, 167, 255, 228, 42, 180, 0, 136, 27, 46, 4, 96, 21, 4, 104]
abbrev dktX0_takes_1 : List UInt8 := dkwX0_takes_1 ++ dktX0_takes_2
def dkwX0_takes_0 : List UInt8 := [3, 54, 5, 3, 54, 6, 21, 6, 29, 162, 0, 28, 21, 5, 42, 180, 0, 139, 21, 6, 16, 6, 104, 27]
abbrev dktX0_takes_0 : List UInt8 := dkwX0_takes_0 ++ dktX0_takes_1
theorem dksX0_takes_0 : cX0_takes.data.toList.drop 0 = dktX0_takes_0 := by decide +kernel
theorem dksX0_takes_1 : cX0_takes.data.toList.drop 24 = dktX0_takes_1 := dk_seg dksX0_takes_0 24 rfl rfl
theorem dksX0_takes_2 : cX0_takes.data.toList.drop 48 = dktX0_takes_2 := dk_seg dksX0_takes_1 24 rfl rfl
theorem dX0_takes_0 : decode cX0_takes 0 = .ok (.iconst 0, 1) := dk_3 (dk_at dksX0_takes_0 0 rfl rfl)
theorem dX0_takes_1 : decode cX0_takes 1 = .ok (.istore 5, 2) := dk_54 5 (dk_at dksX0_takes_0 1 rfl rfl)
theorem dX0_takes_3 : decode cX0_takes 3 = .ok (.iconst 0, 1) := dk_3 (dk_at dksX0_takes_0 3 rfl rfl)
theorem dX0_takes_4 : decode cX0_takes 4 = .ok (.istore 6, 2) := dk_54 6 (dk_at dksX0_takes_0 4 rfl rfl)
theorem dX0_takes_6 : decode cX0_takes 6 = .ok (.iload 6, 2) := dk_21 6 (dk_at dksX0_takes_0 6 rfl rfl)
theorem dX0_takes_8 : decode cX0_takes 8 = .ok (.iload_n 3, 1) := dk_29 (dk_at dksX0_takes_0 8 rfl rfl)
theorem dX0_takes_9 : decode cX0_takes 9 = .ok (.if_icmp .ge 28, 3) := dk_162 0 28 (dk_at dksX0_takes_0 9 rfl rfl)
theorem dX0_takes_12 : decode cX0_takes 12 = .ok (.iload 5, 2) := dk_21 5 (dk_at dksX0_takes_0 12 rfl rfl)
theorem dX0_takes_14 : decode cX0_takes 14 = .ok (.aload_n 0, 1) := dk_42 (dk_at dksX0_takes_0 14 rfl rfl)
theorem dX0_takes_15 : decode cX0_takes 15 = .ok (.getfield 139, 3) := dk_180 0 139 (dk_at dksX0_takes_0 15 rfl rfl)
theorem dX0_takes_18 : decode cX0_takes 18 = .ok (.iload 6, 2) := dk_21 6 (dk_at dksX0_takes_0 18 rfl rfl)
theorem dX0_takes_20 : decode cX0_takes 20 = .ok (.bipush 6, 2) := dk_16 6 (dk_at dksX0_takes_0 20 rfl rfl)
theorem dX0_takes_22 : decode cX0_takes 22 = .ok (.imul, 1) := dk_104 (dk_at dksX0_takes_0 22 rfl rfl)
theorem dX0_takes_23 : decode cX0_takes 23 = .ok (.iload_n 1, 1) := dk_27 (dk_at dksX0_takes_0 23 rfl rfl)
theorem dX0_takes_24 : decode cX0_takes 24 = .ok (.iadd, 1) := dk_96 (dk_at dksX0_takes_1 0 rfl rfl)
theorem dX0_takes_25 : decode cX0_takes 25 = .ok (.iaload, 1) := dk_46 (dk_at dksX0_takes_1 1 rfl rfl)
theorem dX0_takes_26 : decode cX0_takes 26 = .ok (.invokestatic 7, 3) := dk_184 0 7 (dk_at dksX0_takes_1 2 rfl rfl)
theorem dX0_takes_29 : decode cX0_takes 29 = .ok (.istore 5, 2) := dk_54 5 (dk_at dksX0_takes_1 5 rfl rfl)
theorem dX0_takes_31 : decode cX0_takes 31 = .ok (.iinc 6 1, 3) := dk_132 6 1 (dk_at dksX0_takes_1 7 rfl rfl)
theorem dX0_takes_34 : decode cX0_takes 34 = .ok (.goto (-28), 3) := dk_167 255 228 (dk_at dksX0_takes_1 10 rfl rfl)
theorem dX0_takes_37 : decode cX0_takes 37 = .ok (.aload_n 0, 1) := dk_42 (dk_at dksX0_takes_1 13 rfl rfl)
theorem dX0_takes_38 : decode cX0_takes 38 = .ok (.getfield 136, 3) := dk_180 0 136 (dk_at dksX0_takes_1 14 rfl rfl)
theorem dX0_takes_41 : decode cX0_takes 41 = .ok (.iload_n 1, 1) := dk_27 (dk_at dksX0_takes_1 17 rfl rfl)
theorem dX0_takes_42 : decode cX0_takes 42 = .ok (.iaload, 1) := dk_46 (dk_at dksX0_takes_1 18 rfl rfl)
theorem dX0_takes_43 : decode cX0_takes 43 = .ok (.iconst 1, 1) := dk_4 (dk_at dksX0_takes_1 19 rfl rfl)
theorem dX0_takes_44 : decode cX0_takes 44 = .ok (.iadd, 1) := dk_96 (dk_at dksX0_takes_1 20 rfl rfl)
theorem dX0_takes_45 : decode cX0_takes 45 = .ok (.iload 4, 2) := dk_21 4 (dk_at dksX0_takes_1 21 rfl rfl)
theorem dX0_takes_47 : decode cX0_takes 47 = .ok (.imul, 1) := dk_104 (dk_at dksX0_takes_1 23 rfl rfl)
theorem dX0_takes_48 : decode cX0_takes 48 = .ok (.aload_n 0, 1) := dk_42 (dk_at dksX0_takes_2 0 rfl rfl)
theorem dX0_takes_49 : decode cX0_takes 49 = .ok (.getfield 35, 3) := dk_180 0 35 (dk_at dksX0_takes_2 1 rfl rfl)
theorem dX0_takes_52 : decode cX0_takes 52 = .ok (.iload_n 2, 1) := dk_28 (dk_at dksX0_takes_2 4 rfl rfl)
theorem dX0_takes_53 : decode cX0_takes 53 = .ok (.iaload, 1) := dk_46 (dk_at dksX0_takes_2 5 rfl rfl)
theorem dX0_takes_54 : decode cX0_takes 54 = .ok (.imul, 1) := dk_104 (dk_at dksX0_takes_2 6 rfl rfl)
theorem dX0_takes_55 : decode cX0_takes 55 = .ok (.iload 5, 2) := dk_21 5 (dk_at dksX0_takes_2 7 rfl rfl)
theorem dX0_takes_57 : decode cX0_takes 57 = .ok (.imul, 1) := dk_104 (dk_at dksX0_takes_2 9 rfl rfl)
theorem dX0_takes_58 : decode cX0_takes 58 = .ok (.ireturn, 1) := dk_172 (dk_at dksX0_takes_2 10 rfl rfl)
abbrev cX0_aimedAt : ByteArray := prog_1_method_82_code
def yX0_aimedAt : MethodName := ⟨RX0, "aimedAt", "(II)I"⟩
def dkwX0_aimedAt_2 : List UInt8 := [167, 0, 4, 2, 172]
abbrev dktX0_aimedAt_2 : List UInt8 := dkwX0_aimedAt_2 ++ []
def dkwX0_aimedAt_1 : List UInt8 := [153, 0, 25, 28, 154, 0, 12, 42, 180, 0, 142, 27, 46, 167, 0, 13, 42, 180, 0, 145, 27, 46]
abbrev dktX0_aimedAt_1 : List UInt8 := dkwX0_aimedAt_1 ++ dktX0_aimedAt_2
def dkwX0_aimedAt_0 : List UInt8 := [27, 133, 9, 42, 180, 2, 10, 4, 100, 133, 184, 0, 167, 153, 0, 35, 28, 133, 9, 10, 184, 0, 167]
abbrev dktX0_aimedAt_0 : List UInt8 := dkwX0_aimedAt_0 ++ dktX0_aimedAt_1
theorem dksX0_aimedAt_0 : cX0_aimedAt.data.toList.drop 0 = dktX0_aimedAt_0 := by decide +kernel
theorem dksX0_aimedAt_1 : cX0_aimedAt.data.toList.drop 23 = dktX0_aimedAt_1 := dk_seg dksX0_aimedAt_0 23 rfl rfl
theorem dksX0_aimedAt_2 : cX0_aimedAt.data.toList.drop 45 = dktX0_aimedAt_2 := dk_seg dksX0_aimedAt_1 22 rfl rfl
theorem dX0_aimedAt_0 : decode cX0_aimedAt 0 = .ok (.iload_n 1, 1) := dk_27 (dk_at dksX0_aimedAt_0 0 rfl rfl)
theorem dX0_aimedAt_1 : decode cX0_aimedAt 1 = .ok (.i2l, 1) := dk_133 (dk_at dksX0_aimedAt_0 1 rfl rfl)
theorem dX0_aimedAt_2 : decode cX0_aimedAt 2 = .ok (.lconst 0, 1) := dk_9 (dk_at dksX0_aimedAt_0 2 rfl rfl)
theorem dX0_aimedAt_3 : decode cX0_aimedAt 3 = .ok (.aload_n 0, 1) := dk_42 (dk_at dksX0_aimedAt_0 3 rfl rfl)
theorem dX0_aimedAt_4 : decode cX0_aimedAt 4 = .ok (.getfield 522, 3) := dk_180 2 10 (dk_at dksX0_aimedAt_0 4 rfl rfl)
theorem dX0_aimedAt_7 : decode cX0_aimedAt 7 = .ok (.iconst 1, 1) := dk_4 (dk_at dksX0_aimedAt_0 7 rfl rfl)
theorem dX0_aimedAt_8 : decode cX0_aimedAt 8 = .ok (.isub, 1) := dk_100 (dk_at dksX0_aimedAt_0 8 rfl rfl)
theorem dX0_aimedAt_9 : decode cX0_aimedAt 9 = .ok (.i2l, 1) := dk_133 (dk_at dksX0_aimedAt_0 9 rfl rfl)
theorem dX0_aimedAt_10 : decode cX0_aimedAt 10 = .ok (.invokestatic 167, 3) := dk_184 0 167 (dk_at dksX0_aimedAt_0 10 rfl rfl)
theorem dX0_aimedAt_13 : decode cX0_aimedAt 13 = .ok (.ifCond .eq 35, 3) := dk_153 0 35 (dk_at dksX0_aimedAt_0 13 rfl rfl)
theorem dX0_aimedAt_16 : decode cX0_aimedAt 16 = .ok (.iload_n 2, 1) := dk_28 (dk_at dksX0_aimedAt_0 16 rfl rfl)
theorem dX0_aimedAt_17 : decode cX0_aimedAt 17 = .ok (.i2l, 1) := dk_133 (dk_at dksX0_aimedAt_0 17 rfl rfl)
theorem dX0_aimedAt_18 : decode cX0_aimedAt 18 = .ok (.lconst 0, 1) := dk_9 (dk_at dksX0_aimedAt_0 18 rfl rfl)
theorem dX0_aimedAt_19 : decode cX0_aimedAt 19 = .ok (.lconst 1, 1) := dk_10 (dk_at dksX0_aimedAt_0 19 rfl rfl)
theorem dX0_aimedAt_20 : decode cX0_aimedAt 20 = .ok (.invokestatic 167, 3) := dk_184 0 167 (dk_at dksX0_aimedAt_0 20 rfl rfl)
theorem dX0_aimedAt_23 : decode cX0_aimedAt 23 = .ok (.ifCond .eq 25, 3) := dk_153 0 25 (dk_at dksX0_aimedAt_1 0 rfl rfl)
theorem dX0_aimedAt_26 : decode cX0_aimedAt 26 = .ok (.iload_n 2, 1) := dk_28 (dk_at dksX0_aimedAt_1 3 rfl rfl)
theorem dX0_aimedAt_27 : decode cX0_aimedAt 27 = .ok (.ifCond .ne 12, 3) := dk_154 0 12 (dk_at dksX0_aimedAt_1 4 rfl rfl)
theorem dX0_aimedAt_30 : decode cX0_aimedAt 30 = .ok (.aload_n 0, 1) := dk_42 (dk_at dksX0_aimedAt_1 7 rfl rfl)
theorem dX0_aimedAt_31 : decode cX0_aimedAt 31 = .ok (.getfield 142, 3) := dk_180 0 142 (dk_at dksX0_aimedAt_1 8 rfl rfl)
theorem dX0_aimedAt_34 : decode cX0_aimedAt 34 = .ok (.iload_n 1, 1) := dk_27 (dk_at dksX0_aimedAt_1 11 rfl rfl)
theorem dX0_aimedAt_35 : decode cX0_aimedAt 35 = .ok (.iaload, 1) := dk_46 (dk_at dksX0_aimedAt_1 12 rfl rfl)
theorem dX0_aimedAt_36 : decode cX0_aimedAt 36 = .ok (.goto 13, 3) := dk_167 0 13 (dk_at dksX0_aimedAt_1 13 rfl rfl)
theorem dX0_aimedAt_39 : decode cX0_aimedAt 39 = .ok (.aload_n 0, 1) := dk_42 (dk_at dksX0_aimedAt_1 16 rfl rfl)
theorem dX0_aimedAt_40 : decode cX0_aimedAt 40 = .ok (.getfield 145, 3) := dk_180 0 145 (dk_at dksX0_aimedAt_1 17 rfl rfl)
theorem dX0_aimedAt_43 : decode cX0_aimedAt 43 = .ok (.iload_n 1, 1) := dk_27 (dk_at dksX0_aimedAt_1 20 rfl rfl)
theorem dX0_aimedAt_44 : decode cX0_aimedAt 44 = .ok (.iaload, 1) := dk_46 (dk_at dksX0_aimedAt_1 21 rfl rfl)
theorem dX0_aimedAt_45 : decode cX0_aimedAt 45 = .ok (.goto 4, 3) := dk_167 0 4 (dk_at dksX0_aimedAt_2 0 rfl rfl)
theorem dX0_aimedAt_48 : decode cX0_aimedAt 48 = .ok (.iconst (-1), 1) := dk_2 (dk_at dksX0_aimedAt_2 3 rfl rfl)
theorem dX0_aimedAt_49 : decode cX0_aimedAt 49 = .ok (.ireturn, 1) := dk_172 (dk_at dksX0_aimedAt_2 4 rfl rfl)
abbrev cX0_race : ByteArray := prog_1_method_83_code
def yX0_race : MethodName := ⟨RX0, "race", "(III)I"⟩
def dkwX0_race_5 : List UInt8 := [184, 0, 7, 21, 6, 96, 184, 0, 1, 172]
abbrev dktX0_race_5 : List UInt8 := dkwX0_race_5 ++ []
def dkwX0_race_4 : List UInt8 := [16, 59, 96, 16, 60, 108, 184, 0, 7, 54, 6, 17, 39, 15, 42, 180, 1, 58, 42, 180, 0, 44, 27, 46]
abbrev dktX0_race_4 : List UInt8 := dkwX0_race_4 ++ dktX0_race_5
def dkwX0_race_3 : List UInt8 := [180, 1, 2, 100, 42, 180, 0, 35, 27, 46, 104, 29, 104, 25, 4, 180, 1, 16, 100, 54, 5, 4, 21, 5]
abbrev dktX0_race_3 : List UInt8 := dkwX0_race_3 ++ dktX0_race_4
def dkwX0_race_2 : List UInt8 := [25, 4, 182, 1, 8, 154, 0, 12, 25, 4, 180, 1, 2, 28, 161, 0, 6, 16, 254, 172, 28, 25, 4]
abbrev dktX0_race_2 : List UInt8 := dkwX0_race_2 ++ dktX0_race_3
def dkwX0_race_1 : List UInt8 := [20, 0, 178, 184, 0, 167, 154, 0, 5, 2, 172, 42, 180, 0, 40, 27, 50, 58, 4, 25, 4, 198, 0, 20]
abbrev dktX0_race_1 : List UInt8 := dkwX0_race_1 ++ dktX0_race_2
def dkwX0_race_0 : List UInt8 := [27, 184, 1, 47, 153, 0, 27, 28, 133, 10, 20, 0, 165, 184, 0, 167, 153, 0, 15, 29, 133, 10]
abbrev dktX0_race_0 : List UInt8 := dkwX0_race_0 ++ dktX0_race_1
theorem dksX0_race_0 : cX0_race.data.toList.drop 0 = dktX0_race_0 := by decide +kernel
theorem dksX0_race_1 : cX0_race.data.toList.drop 22 = dktX0_race_1 := dk_seg dksX0_race_0 22 rfl rfl
theorem dksX0_race_2 : cX0_race.data.toList.drop 46 = dktX0_race_2 := dk_seg dksX0_race_1 24 rfl rfl
theorem dksX0_race_3 : cX0_race.data.toList.drop 69 = dktX0_race_3 := dk_seg dksX0_race_2 23 rfl rfl
theorem dksX0_race_4 : cX0_race.data.toList.drop 93 = dktX0_race_4 := dk_seg dksX0_race_3 24 rfl rfl
theorem dksX0_race_5 : cX0_race.data.toList.drop 117 = dktX0_race_5 := dk_seg dksX0_race_4 24 rfl rfl
theorem dX0_race_0 : decode cX0_race 0 = .ok (.iload_n 1, 1) := dk_27 (dk_at dksX0_race_0 0 rfl rfl)
theorem dX0_race_1 : decode cX0_race 1 = .ok (.invokestatic 303, 3) := dk_184 1 47 (dk_at dksX0_race_0 1 rfl rfl)
theorem dX0_race_4 : decode cX0_race 4 = .ok (.ifCond .eq 27, 3) := dk_153 0 27 (dk_at dksX0_race_0 4 rfl rfl)
theorem dX0_race_7 : decode cX0_race 7 = .ok (.iload_n 2, 1) := dk_28 (dk_at dksX0_race_0 7 rfl rfl)
theorem dX0_race_8 : decode cX0_race 8 = .ok (.i2l, 1) := dk_133 (dk_at dksX0_race_0 8 rfl rfl)
theorem dX0_race_9 : decode cX0_race 9 = .ok (.lconst 1, 1) := dk_10 (dk_at dksX0_race_0 9 rfl rfl)
theorem dX0_race_10 : decode cX0_race 10 = .ok (.ldc2_w 165, 3) := dk_20 0 165 (dk_at dksX0_race_0 10 rfl rfl)
theorem dX0_race_13 : decode cX0_race 13 = .ok (.invokestatic 167, 3) := dk_184 0 167 (dk_at dksX0_race_0 13 rfl rfl)
theorem dX0_race_16 : decode cX0_race 16 = .ok (.ifCond .eq 15, 3) := dk_153 0 15 (dk_at dksX0_race_0 16 rfl rfl)
theorem dX0_race_19 : decode cX0_race 19 = .ok (.iload_n 3, 1) := dk_29 (dk_at dksX0_race_0 19 rfl rfl)
theorem dX0_race_20 : decode cX0_race 20 = .ok (.i2l, 1) := dk_133 (dk_at dksX0_race_0 20 rfl rfl)
theorem dX0_race_21 : decode cX0_race 21 = .ok (.lconst 1, 1) := dk_10 (dk_at dksX0_race_0 21 rfl rfl)
theorem dX0_race_22 : decode cX0_race 22 = .ok (.ldc2_w 178, 3) := dk_20 0 178 (dk_at dksX0_race_1 0 rfl rfl)
theorem dX0_race_25 : decode cX0_race 25 = .ok (.invokestatic 167, 3) := dk_184 0 167 (dk_at dksX0_race_1 3 rfl rfl)
theorem dX0_race_28 : decode cX0_race 28 = .ok (.ifCond .ne 5, 3) := dk_154 0 5 (dk_at dksX0_race_1 6 rfl rfl)
theorem dX0_race_31 : decode cX0_race 31 = .ok (.iconst (-1), 1) := dk_2 (dk_at dksX0_race_1 9 rfl rfl)
theorem dX0_race_32 : decode cX0_race 32 = .ok (.ireturn, 1) := dk_172 (dk_at dksX0_race_1 10 rfl rfl)
theorem dX0_race_33 : decode cX0_race 33 = .ok (.aload_n 0, 1) := dk_42 (dk_at dksX0_race_1 11 rfl rfl)
theorem dX0_race_34 : decode cX0_race 34 = .ok (.getfield 40, 3) := dk_180 0 40 (dk_at dksX0_race_1 12 rfl rfl)
theorem dX0_race_37 : decode cX0_race 37 = .ok (.iload_n 1, 1) := dk_27 (dk_at dksX0_race_1 15 rfl rfl)
theorem dX0_race_38 : decode cX0_race 38 = .ok (.aaload, 1) := dk_50 (dk_at dksX0_race_1 16 rfl rfl)
theorem dX0_race_39 : decode cX0_race 39 = .ok (.astore 4, 2) := dk_58 4 (dk_at dksX0_race_1 17 rfl rfl)
theorem dX0_race_41 : decode cX0_race 41 = .ok (.aload 4, 2) := dk_25 4 (dk_at dksX0_race_1 19 rfl rfl)
theorem dX0_race_43 : decode cX0_race 43 = .ok (.ifnull 20, 3) := dk_198 0 20 (dk_at dksX0_race_1 21 rfl rfl)
theorem dX0_race_46 : decode cX0_race 46 = .ok (.aload 4, 2) := dk_25 4 (dk_at dksX0_race_2 0 rfl rfl)
theorem dX0_race_48 : decode cX0_race 48 = .ok (.invokevirtual 264, 3) := dk_182 1 8 (dk_at dksX0_race_2 2 rfl rfl)
theorem dX0_race_51 : decode cX0_race 51 = .ok (.ifCond .ne 12, 3) := dk_154 0 12 (dk_at dksX0_race_2 5 rfl rfl)
theorem dX0_race_54 : decode cX0_race 54 = .ok (.aload 4, 2) := dk_25 4 (dk_at dksX0_race_2 8 rfl rfl)
theorem dX0_race_56 : decode cX0_race 56 = .ok (.getfield 258, 3) := dk_180 1 2 (dk_at dksX0_race_2 10 rfl rfl)
theorem dX0_race_59 : decode cX0_race 59 = .ok (.iload_n 2, 1) := dk_28 (dk_at dksX0_race_2 13 rfl rfl)
theorem dX0_race_60 : decode cX0_race 60 = .ok (.if_icmp .lt 6, 3) := dk_161 0 6 (dk_at dksX0_race_2 14 rfl rfl)
theorem dX0_race_63 : decode cX0_race 63 = .ok (.bipush (-2), 2) := dk_16 254 (dk_at dksX0_race_2 17 rfl rfl)
theorem dX0_race_65 : decode cX0_race 65 = .ok (.ireturn, 1) := dk_172 (dk_at dksX0_race_2 19 rfl rfl)
theorem dX0_race_66 : decode cX0_race 66 = .ok (.iload_n 2, 1) := dk_28 (dk_at dksX0_race_2 20 rfl rfl)
theorem dX0_race_67 : decode cX0_race 67 = .ok (.aload 4, 2) := dk_25 4 (dk_at dksX0_race_2 21 rfl rfl)
theorem dX0_race_69 : decode cX0_race 69 = .ok (.getfield 258, 3) := dk_180 1 2 (dk_at dksX0_race_3 0 rfl rfl)
theorem dX0_race_72 : decode cX0_race 72 = .ok (.isub, 1) := dk_100 (dk_at dksX0_race_3 3 rfl rfl)
theorem dX0_race_73 : decode cX0_race 73 = .ok (.aload_n 0, 1) := dk_42 (dk_at dksX0_race_3 4 rfl rfl)
theorem dX0_race_74 : decode cX0_race 74 = .ok (.getfield 35, 3) := dk_180 0 35 (dk_at dksX0_race_3 5 rfl rfl)
theorem dX0_race_77 : decode cX0_race 77 = .ok (.iload_n 1, 1) := dk_27 (dk_at dksX0_race_3 8 rfl rfl)
theorem dX0_race_78 : decode cX0_race 78 = .ok (.iaload, 1) := dk_46 (dk_at dksX0_race_3 9 rfl rfl)
theorem dX0_race_79 : decode cX0_race 79 = .ok (.imul, 1) := dk_104 (dk_at dksX0_race_3 10 rfl rfl)
theorem dX0_race_80 : decode cX0_race 80 = .ok (.iload_n 3, 1) := dk_29 (dk_at dksX0_race_3 11 rfl rfl)
theorem dX0_race_81 : decode cX0_race 81 = .ok (.imul, 1) := dk_104 (dk_at dksX0_race_3 12 rfl rfl)
theorem dX0_race_82 : decode cX0_race 82 = .ok (.aload 4, 2) := dk_25 4 (dk_at dksX0_race_3 13 rfl rfl)
theorem dX0_race_84 : decode cX0_race 84 = .ok (.getfield 272, 3) := dk_180 1 16 (dk_at dksX0_race_3 15 rfl rfl)
theorem dX0_race_87 : decode cX0_race 87 = .ok (.isub, 1) := dk_100 (dk_at dksX0_race_3 18 rfl rfl)
theorem dX0_race_88 : decode cX0_race 88 = .ok (.istore 5, 2) := dk_54 5 (dk_at dksX0_race_3 19 rfl rfl)
theorem dX0_race_90 : decode cX0_race 90 = .ok (.iconst 1, 1) := dk_4 (dk_at dksX0_race_3 21 rfl rfl)
theorem dX0_race_91 : decode cX0_race 91 = .ok (.iload 5, 2) := dk_21 5 (dk_at dksX0_race_3 22 rfl rfl)
theorem dX0_race_93 : decode cX0_race 93 = .ok (.bipush 59, 2) := dk_16 59 (dk_at dksX0_race_4 0 rfl rfl)
theorem dX0_race_95 : decode cX0_race 95 = .ok (.iadd, 1) := dk_96 (dk_at dksX0_race_4 2 rfl rfl)
theorem dX0_race_96 : decode cX0_race 96 = .ok (.bipush 60, 2) := dk_16 60 (dk_at dksX0_race_4 3 rfl rfl)
theorem dX0_race_98 : decode cX0_race 98 = .ok (.idiv, 1) := dk_108 (dk_at dksX0_race_4 5 rfl rfl)
theorem dX0_race_99 : decode cX0_race 99 = .ok (.invokestatic 7, 3) := dk_184 0 7 (dk_at dksX0_race_4 6 rfl rfl)
theorem dX0_race_102 : decode cX0_race 102 = .ok (.istore 6, 2) := dk_54 6 (dk_at dksX0_race_4 9 rfl rfl)
theorem dX0_race_104 : decode cX0_race 104 = .ok (.sipush 9999, 3) := dk_17 39 15 (dk_at dksX0_race_4 11 rfl rfl)
theorem dX0_race_107 : decode cX0_race 107 = .ok (.aload_n 0, 1) := dk_42 (dk_at dksX0_race_4 14 rfl rfl)
theorem dX0_race_108 : decode cX0_race 108 = .ok (.getfield 314, 3) := dk_180 1 58 (dk_at dksX0_race_4 15 rfl rfl)
theorem dX0_race_111 : decode cX0_race 111 = .ok (.aload_n 0, 1) := dk_42 (dk_at dksX0_race_4 18 rfl rfl)
theorem dX0_race_112 : decode cX0_race 112 = .ok (.getfield 44, 3) := dk_180 0 44 (dk_at dksX0_race_4 19 rfl rfl)
theorem dX0_race_115 : decode cX0_race 115 = .ok (.iload_n 1, 1) := dk_27 (dk_at dksX0_race_4 22 rfl rfl)
theorem dX0_race_116 : decode cX0_race 116 = .ok (.iaload, 1) := dk_46 (dk_at dksX0_race_4 23 rfl rfl)
theorem dX0_race_117 : decode cX0_race 117 = .ok (.invokestatic 7, 3) := dk_184 0 7 (dk_at dksX0_race_5 0 rfl rfl)
theorem dX0_race_120 : decode cX0_race 120 = .ok (.iload 6, 2) := dk_21 6 (dk_at dksX0_race_5 3 rfl rfl)
theorem dX0_race_122 : decode cX0_race 122 = .ok (.iadd, 1) := dk_96 (dk_at dksX0_race_5 5 rfl rfl)
theorem dX0_race_123 : decode cX0_race 123 = .ok (.invokestatic 1, 3) := dk_184 0 1 (dk_at dksX0_race_5 6 rfl rfl)
theorem dX0_race_126 : decode cX0_race 126 = .ok (.ireturn, 1) := dk_172 (dk_at dksX0_race_5 9 rfl rfl)
abbrev cX0_capsule : ByteArray := prog_1_method_84_code
def yX0_capsule : MethodName := ⟨RX0, "capsule", "(I)I"⟩
def dkwX0_capsule_9 : List UInt8 := [180, 2, 13, 4, 100, 46, 172]
abbrev dktX0_capsule_9 : List UInt8 := dkwX0_capsule_9 ++ []
def dkwX0_capsule_8 : List UInt8 := [4, 96, 104, 96, 79, 132, 4, 1, 167, 255, 226, 42, 42, 180, 1, 58, 181, 0, 154, 42, 180, 0, 151, 42]
abbrev dktX0_capsule_8 : List UInt8 := dkwX0_capsule_8 ++ dktX0_capsule_9
def dkwX0_capsule_7 : List UInt8 := [54, 4, 21, 4, 42, 180, 2, 13, 162, 0, 27, 42, 180, 0, 151, 21, 4, 42, 180, 1, 58, 29, 21, 4]
abbrev dktX0_capsule_7 : List UInt8 := dkwX0_capsule_7 ++ dktX0_capsule_8
def dkwX0_capsule_6 : List UInt8 := [180, 0, 148, 21, 4, 29, 79, 132, 3, 1, 167, 255, 146, 4, 44, 180, 1, 2, 16, 20, 108, 96, 62, 3]
abbrev dktX0_capsule_6 : List UInt8 := dkwX0_capsule_6 ++ dktX0_capsule_7
def dkwX0_capsule_5 : List UInt8 := [180, 0, 148, 21, 4, 42, 180, 0, 148, 21, 4, 4, 100, 46, 79, 132, 4, 255, 167, 255, 209, 42]
abbrev dktX0_capsule_5 : List UInt8 := dkwX0_capsule_5 ++ dktX0_capsule_6
def dkwX0_capsule_4 : List UInt8 := [180, 0, 157, 42, 180, 0, 148, 21, 4, 4, 100, 46, 46, 42, 180, 0, 157, 29, 46, 162, 0, 25, 42]
abbrev dktX0_capsule_4 : List UInt8 := dkwX0_capsule_4 ++ dktX0_capsule_5
def dkwX0_capsule_3 : List UInt8 := [182, 1, 190, 79, 42, 89, 180, 2, 13, 90, 4, 96, 181, 2, 13, 54, 4, 21, 4, 158, 0, 48, 42]
abbrev dktX0_capsule_3 : List UInt8 := dkwX0_capsule_3 ++ dktX0_capsule_4
def dkwX0_capsule_2 : List UInt8 := [42, 29, 182, 1, 175, 199, 0, 6, 167, 0, 91, 42, 180, 0, 157, 29, 42, 4, 42, 29, 182, 1, 175, 3]
abbrev dktX0_capsule_2 : List UInt8 := dkwX0_capsule_2 ++ dktX0_capsule_3
def dkwX0_capsule_1 : List UInt8 := [182, 1, 178, 154, 0, 6, 16, 254, 172, 42, 3, 181, 2, 13, 3, 62, 29, 42, 180, 0, 184, 162, 0, 108]
abbrev dktX0_capsule_1 : List UInt8 := dkwX0_capsule_1 ++ dktX0_capsule_2
def dkwX0_capsule_0 : List UInt8 := [42, 27, 182, 1, 27, 77, 44, 193, 0, 235, 154, 0, 5, 2, 172, 44, 182, 1, 8, 153, 0, 10, 42]
abbrev dktX0_capsule_0 : List UInt8 := dkwX0_capsule_0 ++ dktX0_capsule_1
theorem dksX0_capsule_0 : cX0_capsule.data.toList.drop 0 = dktX0_capsule_0 := by decide +kernel
theorem dksX0_capsule_1 : cX0_capsule.data.toList.drop 23 = dktX0_capsule_1 := dk_seg dksX0_capsule_0 23 rfl rfl
theorem dksX0_capsule_2 : cX0_capsule.data.toList.drop 47 = dktX0_capsule_2 := dk_seg dksX0_capsule_1 24 rfl rfl
theorem dksX0_capsule_3 : cX0_capsule.data.toList.drop 71 = dktX0_capsule_3 := dk_seg dksX0_capsule_2 24 rfl rfl
theorem dksX0_capsule_4 : cX0_capsule.data.toList.drop 94 = dktX0_capsule_4 := dk_seg dksX0_capsule_3 23 rfl rfl
theorem dksX0_capsule_5 : cX0_capsule.data.toList.drop 117 = dktX0_capsule_5 := dk_seg dksX0_capsule_4 23 rfl rfl
theorem dksX0_capsule_6 : cX0_capsule.data.toList.drop 139 = dktX0_capsule_6 := dk_seg dksX0_capsule_5 22 rfl rfl
theorem dksX0_capsule_7 : cX0_capsule.data.toList.drop 163 = dktX0_capsule_7 := dk_seg dksX0_capsule_6 24 rfl rfl
theorem dksX0_capsule_8 : cX0_capsule.data.toList.drop 187 = dktX0_capsule_8 := dk_seg dksX0_capsule_7 24 rfl rfl
theorem dksX0_capsule_9 : cX0_capsule.data.toList.drop 211 = dktX0_capsule_9 := dk_seg dksX0_capsule_8 24 rfl rfl
theorem dX0_capsule_0 : decode cX0_capsule 0 = .ok (.aload_n 0, 1) := dk_42 (dk_at dksX0_capsule_0 0 rfl rfl)
theorem dX0_capsule_1 : decode cX0_capsule 1 = .ok (.iload_n 1, 1) := dk_27 (dk_at dksX0_capsule_0 1 rfl rfl)
theorem dX0_capsule_2 : decode cX0_capsule 2 = .ok (.invokevirtual 283, 3) := dk_182 1 27 (dk_at dksX0_capsule_0 2 rfl rfl)
theorem dX0_capsule_5 : decode cX0_capsule 5 = .ok (.astore_n 2, 1) := dk_77 (dk_at dksX0_capsule_0 5 rfl rfl)
theorem dX0_capsule_6 : decode cX0_capsule 6 = .ok (.aload_n 2, 1) := dk_44 (dk_at dksX0_capsule_0 6 rfl rfl)
theorem dX0_capsule_7 : decode cX0_capsule 7 = .ok (.instanceof 235, 3) := dk_193 0 235 (dk_at dksX0_capsule_0 7 rfl rfl)
theorem dX0_capsule_10 : decode cX0_capsule 10 = .ok (.ifCond .ne 5, 3) := dk_154 0 5 (dk_at dksX0_capsule_0 10 rfl rfl)
theorem dX0_capsule_13 : decode cX0_capsule 13 = .ok (.iconst (-1), 1) := dk_2 (dk_at dksX0_capsule_0 13 rfl rfl)
theorem dX0_capsule_14 : decode cX0_capsule 14 = .ok (.ireturn, 1) := dk_172 (dk_at dksX0_capsule_0 14 rfl rfl)
theorem dX0_capsule_15 : decode cX0_capsule 15 = .ok (.aload_n 2, 1) := dk_44 (dk_at dksX0_capsule_0 15 rfl rfl)
theorem dX0_capsule_16 : decode cX0_capsule 16 = .ok (.invokevirtual 264, 3) := dk_182 1 8 (dk_at dksX0_capsule_0 16 rfl rfl)
theorem dX0_capsule_19 : decode cX0_capsule 19 = .ok (.ifCond .eq 10, 3) := dk_153 0 10 (dk_at dksX0_capsule_0 19 rfl rfl)
theorem dX0_capsule_22 : decode cX0_capsule 22 = .ok (.aload_n 0, 1) := dk_42 (dk_at dksX0_capsule_0 22 rfl rfl)
theorem dX0_capsule_23 : decode cX0_capsule 23 = .ok (.invokevirtual 434, 3) := dk_182 1 178 (dk_at dksX0_capsule_1 0 rfl rfl)
theorem dX0_capsule_26 : decode cX0_capsule 26 = .ok (.ifCond .ne 6, 3) := dk_154 0 6 (dk_at dksX0_capsule_1 3 rfl rfl)
theorem dX0_capsule_29 : decode cX0_capsule 29 = .ok (.bipush (-2), 2) := dk_16 254 (dk_at dksX0_capsule_1 6 rfl rfl)
theorem dX0_capsule_31 : decode cX0_capsule 31 = .ok (.ireturn, 1) := dk_172 (dk_at dksX0_capsule_1 8 rfl rfl)
theorem dX0_capsule_32 : decode cX0_capsule 32 = .ok (.aload_n 0, 1) := dk_42 (dk_at dksX0_capsule_1 9 rfl rfl)
theorem dX0_capsule_33 : decode cX0_capsule 33 = .ok (.iconst 0, 1) := dk_3 (dk_at dksX0_capsule_1 10 rfl rfl)
theorem dX0_capsule_34 : decode cX0_capsule 34 = .ok (.putfield 525, 3) := dk_181 2 13 (dk_at dksX0_capsule_1 11 rfl rfl)
theorem dX0_capsule_37 : decode cX0_capsule 37 = .ok (.iconst 0, 1) := dk_3 (dk_at dksX0_capsule_1 14 rfl rfl)
theorem dX0_capsule_38 : decode cX0_capsule 38 = .ok (.istore_n 3, 1) := dk_62 (dk_at dksX0_capsule_1 15 rfl rfl)
theorem dX0_capsule_39 : decode cX0_capsule 39 = .ok (.iload_n 3, 1) := dk_29 (dk_at dksX0_capsule_1 16 rfl rfl)
theorem dX0_capsule_40 : decode cX0_capsule 40 = .ok (.aload_n 0, 1) := dk_42 (dk_at dksX0_capsule_1 17 rfl rfl)
theorem dX0_capsule_41 : decode cX0_capsule 41 = .ok (.getfield 184, 3) := dk_180 0 184 (dk_at dksX0_capsule_1 18 rfl rfl)
theorem dX0_capsule_44 : decode cX0_capsule 44 = .ok (.if_icmp .ge 108, 3) := dk_162 0 108 (dk_at dksX0_capsule_1 21 rfl rfl)
theorem dX0_capsule_47 : decode cX0_capsule 47 = .ok (.aload_n 0, 1) := dk_42 (dk_at dksX0_capsule_2 0 rfl rfl)
theorem dX0_capsule_48 : decode cX0_capsule 48 = .ok (.iload_n 3, 1) := dk_29 (dk_at dksX0_capsule_2 1 rfl rfl)
theorem dX0_capsule_49 : decode cX0_capsule 49 = .ok (.invokevirtual 431, 3) := dk_182 1 175 (dk_at dksX0_capsule_2 2 rfl rfl)
theorem dX0_capsule_52 : decode cX0_capsule 52 = .ok (.ifnonnull 6, 3) := dk_199 0 6 (dk_at dksX0_capsule_2 5 rfl rfl)
theorem dX0_capsule_55 : decode cX0_capsule 55 = .ok (.goto 91, 3) := dk_167 0 91 (dk_at dksX0_capsule_2 8 rfl rfl)
theorem dX0_capsule_58 : decode cX0_capsule 58 = .ok (.aload_n 0, 1) := dk_42 (dk_at dksX0_capsule_2 11 rfl rfl)
theorem dX0_capsule_59 : decode cX0_capsule 59 = .ok (.getfield 157, 3) := dk_180 0 157 (dk_at dksX0_capsule_2 12 rfl rfl)
theorem dX0_capsule_62 : decode cX0_capsule 62 = .ok (.iload_n 3, 1) := dk_29 (dk_at dksX0_capsule_2 15 rfl rfl)
theorem dX0_capsule_63 : decode cX0_capsule 63 = .ok (.aload_n 0, 1) := dk_42 (dk_at dksX0_capsule_2 16 rfl rfl)
theorem dX0_capsule_64 : decode cX0_capsule 64 = .ok (.iconst 1, 1) := dk_4 (dk_at dksX0_capsule_2 17 rfl rfl)
theorem dX0_capsule_65 : decode cX0_capsule 65 = .ok (.aload_n 0, 1) := dk_42 (dk_at dksX0_capsule_2 18 rfl rfl)
theorem dX0_capsule_66 : decode cX0_capsule 66 = .ok (.iload_n 3, 1) := dk_29 (dk_at dksX0_capsule_2 19 rfl rfl)
theorem dX0_capsule_67 : decode cX0_capsule 67 = .ok (.invokevirtual 431, 3) := dk_182 1 175 (dk_at dksX0_capsule_2 20 rfl rfl)
theorem dX0_capsule_70 : decode cX0_capsule 70 = .ok (.iconst 0, 1) := dk_3 (dk_at dksX0_capsule_2 23 rfl rfl)
theorem dX0_capsule_71 : decode cX0_capsule 71 = .ok (.invokevirtual 446, 3) := dk_182 1 190 (dk_at dksX0_capsule_3 0 rfl rfl)
theorem dX0_capsule_74 : decode cX0_capsule 74 = .ok (.iastore, 1) := dk_79 (dk_at dksX0_capsule_3 3 rfl rfl)
theorem dX0_capsule_75 : decode cX0_capsule 75 = .ok (.aload_n 0, 1) := dk_42 (dk_at dksX0_capsule_3 4 rfl rfl)
theorem dX0_capsule_76 : decode cX0_capsule 76 = .ok (.dup, 1) := dk_89 (dk_at dksX0_capsule_3 5 rfl rfl)
theorem dX0_capsule_77 : decode cX0_capsule 77 = .ok (.getfield 525, 3) := dk_180 2 13 (dk_at dksX0_capsule_3 6 rfl rfl)
theorem dX0_capsule_80 : decode cX0_capsule 80 = .ok (.dup_x1, 1) := dk_90 (dk_at dksX0_capsule_3 9 rfl rfl)
theorem dX0_capsule_81 : decode cX0_capsule 81 = .ok (.iconst 1, 1) := dk_4 (dk_at dksX0_capsule_3 10 rfl rfl)
theorem dX0_capsule_82 : decode cX0_capsule 82 = .ok (.iadd, 1) := dk_96 (dk_at dksX0_capsule_3 11 rfl rfl)
theorem dX0_capsule_83 : decode cX0_capsule 83 = .ok (.putfield 525, 3) := dk_181 2 13 (dk_at dksX0_capsule_3 12 rfl rfl)
theorem dX0_capsule_86 : decode cX0_capsule 86 = .ok (.istore 4, 2) := dk_54 4 (dk_at dksX0_capsule_3 15 rfl rfl)
theorem dX0_capsule_88 : decode cX0_capsule 88 = .ok (.iload 4, 2) := dk_21 4 (dk_at dksX0_capsule_3 17 rfl rfl)
theorem dX0_capsule_90 : decode cX0_capsule 90 = .ok (.ifCond .le 48, 3) := dk_158 0 48 (dk_at dksX0_capsule_3 19 rfl rfl)
theorem dX0_capsule_93 : decode cX0_capsule 93 = .ok (.aload_n 0, 1) := dk_42 (dk_at dksX0_capsule_3 22 rfl rfl)
theorem dX0_capsule_94 : decode cX0_capsule 94 = .ok (.getfield 157, 3) := dk_180 0 157 (dk_at dksX0_capsule_4 0 rfl rfl)
theorem dX0_capsule_97 : decode cX0_capsule 97 = .ok (.aload_n 0, 1) := dk_42 (dk_at dksX0_capsule_4 3 rfl rfl)
theorem dX0_capsule_98 : decode cX0_capsule 98 = .ok (.getfield 148, 3) := dk_180 0 148 (dk_at dksX0_capsule_4 4 rfl rfl)
theorem dX0_capsule_101 : decode cX0_capsule 101 = .ok (.iload 4, 2) := dk_21 4 (dk_at dksX0_capsule_4 7 rfl rfl)
theorem dX0_capsule_103 : decode cX0_capsule 103 = .ok (.iconst 1, 1) := dk_4 (dk_at dksX0_capsule_4 9 rfl rfl)
theorem dX0_capsule_104 : decode cX0_capsule 104 = .ok (.isub, 1) := dk_100 (dk_at dksX0_capsule_4 10 rfl rfl)
theorem dX0_capsule_105 : decode cX0_capsule 105 = .ok (.iaload, 1) := dk_46 (dk_at dksX0_capsule_4 11 rfl rfl)
theorem dX0_capsule_106 : decode cX0_capsule 106 = .ok (.iaload, 1) := dk_46 (dk_at dksX0_capsule_4 12 rfl rfl)
theorem dX0_capsule_107 : decode cX0_capsule 107 = .ok (.aload_n 0, 1) := dk_42 (dk_at dksX0_capsule_4 13 rfl rfl)
theorem dX0_capsule_108 : decode cX0_capsule 108 = .ok (.getfield 157, 3) := dk_180 0 157 (dk_at dksX0_capsule_4 14 rfl rfl)
theorem dX0_capsule_111 : decode cX0_capsule 111 = .ok (.iload_n 3, 1) := dk_29 (dk_at dksX0_capsule_4 17 rfl rfl)
theorem dX0_capsule_112 : decode cX0_capsule 112 = .ok (.iaload, 1) := dk_46 (dk_at dksX0_capsule_4 18 rfl rfl)
theorem dX0_capsule_113 : decode cX0_capsule 113 = .ok (.if_icmp .ge 25, 3) := dk_162 0 25 (dk_at dksX0_capsule_4 19 rfl rfl)
theorem dX0_capsule_116 : decode cX0_capsule 116 = .ok (.aload_n 0, 1) := dk_42 (dk_at dksX0_capsule_4 22 rfl rfl)
theorem dX0_capsule_117 : decode cX0_capsule 117 = .ok (.getfield 148, 3) := dk_180 0 148 (dk_at dksX0_capsule_5 0 rfl rfl)
theorem dX0_capsule_120 : decode cX0_capsule 120 = .ok (.iload 4, 2) := dk_21 4 (dk_at dksX0_capsule_5 3 rfl rfl)
theorem dX0_capsule_122 : decode cX0_capsule 122 = .ok (.aload_n 0, 1) := dk_42 (dk_at dksX0_capsule_5 5 rfl rfl)
theorem dX0_capsule_123 : decode cX0_capsule 123 = .ok (.getfield 148, 3) := dk_180 0 148 (dk_at dksX0_capsule_5 6 rfl rfl)
theorem dX0_capsule_126 : decode cX0_capsule 126 = .ok (.iload 4, 2) := dk_21 4 (dk_at dksX0_capsule_5 9 rfl rfl)
theorem dX0_capsule_128 : decode cX0_capsule 128 = .ok (.iconst 1, 1) := dk_4 (dk_at dksX0_capsule_5 11 rfl rfl)
theorem dX0_capsule_129 : decode cX0_capsule 129 = .ok (.isub, 1) := dk_100 (dk_at dksX0_capsule_5 12 rfl rfl)
theorem dX0_capsule_130 : decode cX0_capsule 130 = .ok (.iaload, 1) := dk_46 (dk_at dksX0_capsule_5 13 rfl rfl)
theorem dX0_capsule_131 : decode cX0_capsule 131 = .ok (.iastore, 1) := dk_79 (dk_at dksX0_capsule_5 14 rfl rfl)
theorem dX0_capsule_132 : decode cX0_capsule 132 = .ok (.iinc 4 (-1), 3) := dk_132 4 255 (dk_at dksX0_capsule_5 15 rfl rfl)
theorem dX0_capsule_135 : decode cX0_capsule 135 = .ok (.goto (-47), 3) := dk_167 255 209 (dk_at dksX0_capsule_5 18 rfl rfl)
theorem dX0_capsule_138 : decode cX0_capsule 138 = .ok (.aload_n 0, 1) := dk_42 (dk_at dksX0_capsule_5 21 rfl rfl)
theorem dX0_capsule_139 : decode cX0_capsule 139 = .ok (.getfield 148, 3) := dk_180 0 148 (dk_at dksX0_capsule_6 0 rfl rfl)
theorem dX0_capsule_142 : decode cX0_capsule 142 = .ok (.iload 4, 2) := dk_21 4 (dk_at dksX0_capsule_6 3 rfl rfl)
theorem dX0_capsule_144 : decode cX0_capsule 144 = .ok (.iload_n 3, 1) := dk_29 (dk_at dksX0_capsule_6 5 rfl rfl)
theorem dX0_capsule_145 : decode cX0_capsule 145 = .ok (.iastore, 1) := dk_79 (dk_at dksX0_capsule_6 6 rfl rfl)
theorem dX0_capsule_146 : decode cX0_capsule 146 = .ok (.iinc 3 1, 3) := dk_132 3 1 (dk_at dksX0_capsule_6 7 rfl rfl)
theorem dX0_capsule_149 : decode cX0_capsule 149 = .ok (.goto (-110), 3) := dk_167 255 146 (dk_at dksX0_capsule_6 10 rfl rfl)
theorem dX0_capsule_152 : decode cX0_capsule 152 = .ok (.iconst 1, 1) := dk_4 (dk_at dksX0_capsule_6 13 rfl rfl)
theorem dX0_capsule_153 : decode cX0_capsule 153 = .ok (.aload_n 2, 1) := dk_44 (dk_at dksX0_capsule_6 14 rfl rfl)
theorem dX0_capsule_154 : decode cX0_capsule 154 = .ok (.getfield 258, 3) := dk_180 1 2 (dk_at dksX0_capsule_6 15 rfl rfl)
theorem dX0_capsule_157 : decode cX0_capsule 157 = .ok (.bipush 20, 2) := dk_16 20 (dk_at dksX0_capsule_6 18 rfl rfl)
theorem dX0_capsule_159 : decode cX0_capsule 159 = .ok (.idiv, 1) := dk_108 (dk_at dksX0_capsule_6 20 rfl rfl)
theorem dX0_capsule_160 : decode cX0_capsule 160 = .ok (.iadd, 1) := dk_96 (dk_at dksX0_capsule_6 21 rfl rfl)
theorem dX0_capsule_161 : decode cX0_capsule 161 = .ok (.istore_n 3, 1) := dk_62 (dk_at dksX0_capsule_6 22 rfl rfl)
theorem dX0_capsule_162 : decode cX0_capsule 162 = .ok (.iconst 0, 1) := dk_3 (dk_at dksX0_capsule_6 23 rfl rfl)
theorem dX0_capsule_163 : decode cX0_capsule 163 = .ok (.istore 4, 2) := dk_54 4 (dk_at dksX0_capsule_7 0 rfl rfl)
theorem dX0_capsule_165 : decode cX0_capsule 165 = .ok (.iload 4, 2) := dk_21 4 (dk_at dksX0_capsule_7 2 rfl rfl)
theorem dX0_capsule_167 : decode cX0_capsule 167 = .ok (.aload_n 0, 1) := dk_42 (dk_at dksX0_capsule_7 4 rfl rfl)
theorem dX0_capsule_168 : decode cX0_capsule 168 = .ok (.getfield 525, 3) := dk_180 2 13 (dk_at dksX0_capsule_7 5 rfl rfl)
theorem dX0_capsule_171 : decode cX0_capsule 171 = .ok (.if_icmp .ge 27, 3) := dk_162 0 27 (dk_at dksX0_capsule_7 8 rfl rfl)
theorem dX0_capsule_174 : decode cX0_capsule 174 = .ok (.aload_n 0, 1) := dk_42 (dk_at dksX0_capsule_7 11 rfl rfl)
theorem dX0_capsule_175 : decode cX0_capsule 175 = .ok (.getfield 151, 3) := dk_180 0 151 (dk_at dksX0_capsule_7 12 rfl rfl)
theorem dX0_capsule_178 : decode cX0_capsule 178 = .ok (.iload 4, 2) := dk_21 4 (dk_at dksX0_capsule_7 15 rfl rfl)
theorem dX0_capsule_180 : decode cX0_capsule 180 = .ok (.aload_n 0, 1) := dk_42 (dk_at dksX0_capsule_7 17 rfl rfl)
theorem dX0_capsule_181 : decode cX0_capsule 181 = .ok (.getfield 314, 3) := dk_180 1 58 (dk_at dksX0_capsule_7 18 rfl rfl)
theorem dX0_capsule_184 : decode cX0_capsule 184 = .ok (.iload_n 3, 1) := dk_29 (dk_at dksX0_capsule_7 21 rfl rfl)
theorem dX0_capsule_185 : decode cX0_capsule 185 = .ok (.iload 4, 2) := dk_21 4 (dk_at dksX0_capsule_7 22 rfl rfl)
theorem dX0_capsule_187 : decode cX0_capsule 187 = .ok (.iconst 1, 1) := dk_4 (dk_at dksX0_capsule_8 0 rfl rfl)
theorem dX0_capsule_188 : decode cX0_capsule 188 = .ok (.iadd, 1) := dk_96 (dk_at dksX0_capsule_8 1 rfl rfl)
theorem dX0_capsule_189 : decode cX0_capsule 189 = .ok (.imul, 1) := dk_104 (dk_at dksX0_capsule_8 2 rfl rfl)
theorem dX0_capsule_190 : decode cX0_capsule 190 = .ok (.iadd, 1) := dk_96 (dk_at dksX0_capsule_8 3 rfl rfl)
theorem dX0_capsule_191 : decode cX0_capsule 191 = .ok (.iastore, 1) := dk_79 (dk_at dksX0_capsule_8 4 rfl rfl)
theorem dX0_capsule_192 : decode cX0_capsule 192 = .ok (.iinc 4 1, 3) := dk_132 4 1 (dk_at dksX0_capsule_8 5 rfl rfl)
theorem dX0_capsule_195 : decode cX0_capsule 195 = .ok (.goto (-30), 3) := dk_167 255 226 (dk_at dksX0_capsule_8 8 rfl rfl)
theorem dX0_capsule_198 : decode cX0_capsule 198 = .ok (.aload_n 0, 1) := dk_42 (dk_at dksX0_capsule_8 11 rfl rfl)
theorem dX0_capsule_199 : decode cX0_capsule 199 = .ok (.aload_n 0, 1) := dk_42 (dk_at dksX0_capsule_8 12 rfl rfl)
theorem dX0_capsule_200 : decode cX0_capsule 200 = .ok (.getfield 314, 3) := dk_180 1 58 (dk_at dksX0_capsule_8 13 rfl rfl)
theorem dX0_capsule_203 : decode cX0_capsule 203 = .ok (.putfield 154, 3) := dk_181 0 154 (dk_at dksX0_capsule_8 16 rfl rfl)
theorem dX0_capsule_206 : decode cX0_capsule 206 = .ok (.aload_n 0, 1) := dk_42 (dk_at dksX0_capsule_8 19 rfl rfl)
theorem dX0_capsule_207 : decode cX0_capsule 207 = .ok (.getfield 151, 3) := dk_180 0 151 (dk_at dksX0_capsule_8 20 rfl rfl)
theorem dX0_capsule_210 : decode cX0_capsule 210 = .ok (.aload_n 0, 1) := dk_42 (dk_at dksX0_capsule_8 23 rfl rfl)
theorem dX0_capsule_211 : decode cX0_capsule 211 = .ok (.getfield 525, 3) := dk_180 2 13 (dk_at dksX0_capsule_9 0 rfl rfl)
theorem dX0_capsule_214 : decode cX0_capsule 214 = .ok (.iconst 1, 1) := dk_4 (dk_at dksX0_capsule_9 3 rfl rfl)
theorem dX0_capsule_215 : decode cX0_capsule 215 = .ok (.isub, 1) := dk_100 (dk_at dksX0_capsule_9 4 rfl rfl)
theorem dX0_capsule_216 : decode cX0_capsule 216 = .ok (.iaload, 1) := dk_46 (dk_at dksX0_capsule_9 5 rfl rfl)
theorem dX0_capsule_217 : decode cX0_capsule 217 = .ok (.ireturn, 1) := dk_172 (dk_at dksX0_capsule_9 6 rfl rfl)
abbrev cX0_up : ByteArray := prog_1_method_85_code
def yX0_up : MethodName := ⟨RX0, "up", "(II)I"⟩
def dkwX0_up_2 : List UInt8 := [167, 0, 4, 2, 172]
abbrev dktX0_up_2 : List UInt8 := dkwX0_up_2 ++ []
def dkwX0_up_1 : List UInt8 := [153, 0, 25, 28, 154, 0, 12, 42, 180, 0, 148, 27, 46, 167, 0, 13, 42, 180, 0, 151, 27, 46]
abbrev dktX0_up_1 : List UInt8 := dkwX0_up_1 ++ dktX0_up_2
def dkwX0_up_0 : List UInt8 := [27, 133, 9, 42, 180, 2, 13, 4, 100, 133, 184, 0, 167, 153, 0, 35, 28, 133, 9, 10, 184, 0, 167]
abbrev dktX0_up_0 : List UInt8 := dkwX0_up_0 ++ dktX0_up_1
theorem dksX0_up_0 : cX0_up.data.toList.drop 0 = dktX0_up_0 := by decide +kernel
theorem dksX0_up_1 : cX0_up.data.toList.drop 23 = dktX0_up_1 := dk_seg dksX0_up_0 23 rfl rfl
theorem dksX0_up_2 : cX0_up.data.toList.drop 45 = dktX0_up_2 := dk_seg dksX0_up_1 22 rfl rfl
theorem dX0_up_0 : decode cX0_up 0 = .ok (.iload_n 1, 1) := dk_27 (dk_at dksX0_up_0 0 rfl rfl)
theorem dX0_up_1 : decode cX0_up 1 = .ok (.i2l, 1) := dk_133 (dk_at dksX0_up_0 1 rfl rfl)
theorem dX0_up_2 : decode cX0_up 2 = .ok (.lconst 0, 1) := dk_9 (dk_at dksX0_up_0 2 rfl rfl)
theorem dX0_up_3 : decode cX0_up 3 = .ok (.aload_n 0, 1) := dk_42 (dk_at dksX0_up_0 3 rfl rfl)
theorem dX0_up_4 : decode cX0_up 4 = .ok (.getfield 525, 3) := dk_180 2 13 (dk_at dksX0_up_0 4 rfl rfl)
theorem dX0_up_7 : decode cX0_up 7 = .ok (.iconst 1, 1) := dk_4 (dk_at dksX0_up_0 7 rfl rfl)
theorem dX0_up_8 : decode cX0_up 8 = .ok (.isub, 1) := dk_100 (dk_at dksX0_up_0 8 rfl rfl)
theorem dX0_up_9 : decode cX0_up 9 = .ok (.i2l, 1) := dk_133 (dk_at dksX0_up_0 9 rfl rfl)
theorem dX0_up_10 : decode cX0_up 10 = .ok (.invokestatic 167, 3) := dk_184 0 167 (dk_at dksX0_up_0 10 rfl rfl)
theorem dX0_up_13 : decode cX0_up 13 = .ok (.ifCond .eq 35, 3) := dk_153 0 35 (dk_at dksX0_up_0 13 rfl rfl)
theorem dX0_up_16 : decode cX0_up 16 = .ok (.iload_n 2, 1) := dk_28 (dk_at dksX0_up_0 16 rfl rfl)
theorem dX0_up_17 : decode cX0_up 17 = .ok (.i2l, 1) := dk_133 (dk_at dksX0_up_0 17 rfl rfl)
theorem dX0_up_18 : decode cX0_up 18 = .ok (.lconst 0, 1) := dk_9 (dk_at dksX0_up_0 18 rfl rfl)
theorem dX0_up_19 : decode cX0_up 19 = .ok (.lconst 1, 1) := dk_10 (dk_at dksX0_up_0 19 rfl rfl)
theorem dX0_up_20 : decode cX0_up 20 = .ok (.invokestatic 167, 3) := dk_184 0 167 (dk_at dksX0_up_0 20 rfl rfl)
theorem dX0_up_23 : decode cX0_up 23 = .ok (.ifCond .eq 25, 3) := dk_153 0 25 (dk_at dksX0_up_1 0 rfl rfl)
theorem dX0_up_26 : decode cX0_up 26 = .ok (.iload_n 2, 1) := dk_28 (dk_at dksX0_up_1 3 rfl rfl)
theorem dX0_up_27 : decode cX0_up 27 = .ok (.ifCond .ne 12, 3) := dk_154 0 12 (dk_at dksX0_up_1 4 rfl rfl)
theorem dX0_up_30 : decode cX0_up 30 = .ok (.aload_n 0, 1) := dk_42 (dk_at dksX0_up_1 7 rfl rfl)
theorem dX0_up_31 : decode cX0_up 31 = .ok (.getfield 148, 3) := dk_180 0 148 (dk_at dksX0_up_1 8 rfl rfl)
theorem dX0_up_34 : decode cX0_up 34 = .ok (.iload_n 1, 1) := dk_27 (dk_at dksX0_up_1 11 rfl rfl)
theorem dX0_up_35 : decode cX0_up 35 = .ok (.iaload, 1) := dk_46 (dk_at dksX0_up_1 12 rfl rfl)
theorem dX0_up_36 : decode cX0_up 36 = .ok (.goto 13, 3) := dk_167 0 13 (dk_at dksX0_up_1 13 rfl rfl)
theorem dX0_up_39 : decode cX0_up 39 = .ok (.aload_n 0, 1) := dk_42 (dk_at dksX0_up_1 16 rfl rfl)
theorem dX0_up_40 : decode cX0_up 40 = .ok (.getfield 151, 3) := dk_180 0 151 (dk_at dksX0_up_1 17 rfl rfl)
theorem dX0_up_43 : decode cX0_up 43 = .ok (.iload_n 1, 1) := dk_27 (dk_at dksX0_up_1 20 rfl rfl)
theorem dX0_up_44 : decode cX0_up 44 = .ok (.iaload, 1) := dk_46 (dk_at dksX0_up_1 21 rfl rfl)
theorem dX0_up_45 : decode cX0_up 45 = .ok (.goto 4, 3) := dk_167 0 4 (dk_at dksX0_up_2 0 rfl rfl)
theorem dX0_up_48 : decode cX0_up 48 = .ok (.iconst (-1), 1) := dk_2 (dk_at dksX0_up_2 3 rfl rfl)
theorem dX0_up_49 : decode cX0_up 49 = .ok (.ireturn, 1) := dk_172 (dk_at dksX0_up_2 4 rfl rfl)
abbrev cX0_raise : ByteArray := prog_1_method_86_code
def yX0_raise : MethodName := ⟨RX0, "raise", "(I)I"⟩
def dkwX0_raise_3 : List UInt8 := [167, 0, 12, 25, 4, 4, 181, 0, 196, 132, 2, 1, 132, 3, 1, 167, 255, 201, 28, 172]
abbrev dktX0_raise_3 : List UInt8 := dkwX0_raise_3 ++ []
def dkwX0_raise_2 : List UInt8 := [58, 4, 25, 4, 198, 0, 30, 42, 180, 0, 151, 29, 46, 42, 180, 0, 154, 27, 96, 164, 0, 6]
abbrev dktX0_raise_2 : List UInt8 := dkwX0_raise_2 ++ dktX0_raise_3
def dkwX0_raise_1 : List UInt8 := [172, 3, 61, 3, 62, 29, 42, 180, 2, 13, 162, 0, 53, 42, 42, 180, 0, 148, 29, 46, 182, 1, 175]
abbrev dktX0_raise_1 : List UInt8 := dkwX0_raise_1 ++ dktX0_raise_2
def dkwX0_raise_0 : List UInt8 := [27, 133, 9, 20, 2, 16, 184, 0, 167, 154, 0, 5, 2, 172, 42, 180, 0, 154, 2, 160, 0, 6, 16, 254]
abbrev dktX0_raise_0 : List UInt8 := dkwX0_raise_0 ++ dktX0_raise_1
theorem dksX0_raise_0 : cX0_raise.data.toList.drop 0 = dktX0_raise_0 := by decide +kernel
theorem dksX0_raise_1 : cX0_raise.data.toList.drop 24 = dktX0_raise_1 := dk_seg dksX0_raise_0 24 rfl rfl
theorem dksX0_raise_2 : cX0_raise.data.toList.drop 47 = dktX0_raise_2 := dk_seg dksX0_raise_1 23 rfl rfl
theorem dksX0_raise_3 : cX0_raise.data.toList.drop 69 = dktX0_raise_3 := dk_seg dksX0_raise_2 22 rfl rfl
theorem dX0_raise_0 : decode cX0_raise 0 = .ok (.iload_n 1, 1) := dk_27 (dk_at dksX0_raise_0 0 rfl rfl)
theorem dX0_raise_1 : decode cX0_raise 1 = .ok (.i2l, 1) := dk_133 (dk_at dksX0_raise_0 1 rfl rfl)
theorem dX0_raise_2 : decode cX0_raise 2 = .ok (.lconst 0, 1) := dk_9 (dk_at dksX0_raise_0 2 rfl rfl)
theorem dX0_raise_3 : decode cX0_raise 3 = .ok (.ldc2_w 528, 3) := dk_20 2 16 (dk_at dksX0_raise_0 3 rfl rfl)
theorem dX0_raise_6 : decode cX0_raise 6 = .ok (.invokestatic 167, 3) := dk_184 0 167 (dk_at dksX0_raise_0 6 rfl rfl)
theorem dX0_raise_9 : decode cX0_raise 9 = .ok (.ifCond .ne 5, 3) := dk_154 0 5 (dk_at dksX0_raise_0 9 rfl rfl)
theorem dX0_raise_12 : decode cX0_raise 12 = .ok (.iconst (-1), 1) := dk_2 (dk_at dksX0_raise_0 12 rfl rfl)
theorem dX0_raise_13 : decode cX0_raise 13 = .ok (.ireturn, 1) := dk_172 (dk_at dksX0_raise_0 13 rfl rfl)
theorem dX0_raise_14 : decode cX0_raise 14 = .ok (.aload_n 0, 1) := dk_42 (dk_at dksX0_raise_0 14 rfl rfl)
theorem dX0_raise_15 : decode cX0_raise 15 = .ok (.getfield 154, 3) := dk_180 0 154 (dk_at dksX0_raise_0 15 rfl rfl)
theorem dX0_raise_18 : decode cX0_raise 18 = .ok (.iconst (-1), 1) := dk_2 (dk_at dksX0_raise_0 18 rfl rfl)
theorem dX0_raise_19 : decode cX0_raise 19 = .ok (.if_icmp .ne 6, 3) := dk_160 0 6 (dk_at dksX0_raise_0 19 rfl rfl)
theorem dX0_raise_22 : decode cX0_raise 22 = .ok (.bipush (-2), 2) := dk_16 254 (dk_at dksX0_raise_0 22 rfl rfl)
theorem dX0_raise_24 : decode cX0_raise 24 = .ok (.ireturn, 1) := dk_172 (dk_at dksX0_raise_1 0 rfl rfl)
theorem dX0_raise_25 : decode cX0_raise 25 = .ok (.iconst 0, 1) := dk_3 (dk_at dksX0_raise_1 1 rfl rfl)
theorem dX0_raise_26 : decode cX0_raise 26 = .ok (.istore_n 2, 1) := dk_61 (dk_at dksX0_raise_1 2 rfl rfl)
theorem dX0_raise_27 : decode cX0_raise 27 = .ok (.iconst 0, 1) := dk_3 (dk_at dksX0_raise_1 3 rfl rfl)
theorem dX0_raise_28 : decode cX0_raise 28 = .ok (.istore_n 3, 1) := dk_62 (dk_at dksX0_raise_1 4 rfl rfl)
theorem dX0_raise_29 : decode cX0_raise 29 = .ok (.iload_n 3, 1) := dk_29 (dk_at dksX0_raise_1 5 rfl rfl)
theorem dX0_raise_30 : decode cX0_raise 30 = .ok (.aload_n 0, 1) := dk_42 (dk_at dksX0_raise_1 6 rfl rfl)
theorem dX0_raise_31 : decode cX0_raise 31 = .ok (.getfield 525, 3) := dk_180 2 13 (dk_at dksX0_raise_1 7 rfl rfl)
theorem dX0_raise_34 : decode cX0_raise 34 = .ok (.if_icmp .ge 53, 3) := dk_162 0 53 (dk_at dksX0_raise_1 10 rfl rfl)
theorem dX0_raise_37 : decode cX0_raise 37 = .ok (.aload_n 0, 1) := dk_42 (dk_at dksX0_raise_1 13 rfl rfl)
theorem dX0_raise_38 : decode cX0_raise 38 = .ok (.aload_n 0, 1) := dk_42 (dk_at dksX0_raise_1 14 rfl rfl)
theorem dX0_raise_39 : decode cX0_raise 39 = .ok (.getfield 148, 3) := dk_180 0 148 (dk_at dksX0_raise_1 15 rfl rfl)
theorem dX0_raise_42 : decode cX0_raise 42 = .ok (.iload_n 3, 1) := dk_29 (dk_at dksX0_raise_1 18 rfl rfl)
theorem dX0_raise_43 : decode cX0_raise 43 = .ok (.iaload, 1) := dk_46 (dk_at dksX0_raise_1 19 rfl rfl)
theorem dX0_raise_44 : decode cX0_raise 44 = .ok (.invokevirtual 431, 3) := dk_182 1 175 (dk_at dksX0_raise_1 20 rfl rfl)
theorem dX0_raise_47 : decode cX0_raise 47 = .ok (.astore 4, 2) := dk_58 4 (dk_at dksX0_raise_2 0 rfl rfl)
theorem dX0_raise_49 : decode cX0_raise 49 = .ok (.aload 4, 2) := dk_25 4 (dk_at dksX0_raise_2 2 rfl rfl)
theorem dX0_raise_51 : decode cX0_raise 51 = .ok (.ifnull 30, 3) := dk_198 0 30 (dk_at dksX0_raise_2 4 rfl rfl)
theorem dX0_raise_54 : decode cX0_raise 54 = .ok (.aload_n 0, 1) := dk_42 (dk_at dksX0_raise_2 7 rfl rfl)
theorem dX0_raise_55 : decode cX0_raise 55 = .ok (.getfield 151, 3) := dk_180 0 151 (dk_at dksX0_raise_2 8 rfl rfl)
theorem dX0_raise_58 : decode cX0_raise 58 = .ok (.iload_n 3, 1) := dk_29 (dk_at dksX0_raise_2 11 rfl rfl)
theorem dX0_raise_59 : decode cX0_raise 59 = .ok (.iaload, 1) := dk_46 (dk_at dksX0_raise_2 12 rfl rfl)
theorem dX0_raise_60 : decode cX0_raise 60 = .ok (.aload_n 0, 1) := dk_42 (dk_at dksX0_raise_2 13 rfl rfl)
theorem dX0_raise_61 : decode cX0_raise 61 = .ok (.getfield 154, 3) := dk_180 0 154 (dk_at dksX0_raise_2 14 rfl rfl)
theorem dX0_raise_64 : decode cX0_raise 64 = .ok (.iload_n 1, 1) := dk_27 (dk_at dksX0_raise_2 17 rfl rfl)
theorem dX0_raise_65 : decode cX0_raise 65 = .ok (.iadd, 1) := dk_96 (dk_at dksX0_raise_2 18 rfl rfl)
theorem dX0_raise_66 : decode cX0_raise 66 = .ok (.if_icmp .le 6, 3) := dk_164 0 6 (dk_at dksX0_raise_2 19 rfl rfl)
theorem dX0_raise_69 : decode cX0_raise 69 = .ok (.goto 12, 3) := dk_167 0 12 (dk_at dksX0_raise_3 0 rfl rfl)
theorem dX0_raise_72 : decode cX0_raise 72 = .ok (.aload 4, 2) := dk_25 4 (dk_at dksX0_raise_3 3 rfl rfl)
theorem dX0_raise_74 : decode cX0_raise 74 = .ok (.iconst 1, 1) := dk_4 (dk_at dksX0_raise_3 5 rfl rfl)
theorem dX0_raise_75 : decode cX0_raise 75 = .ok (.putfield 196, 3) := dk_181 0 196 (dk_at dksX0_raise_3 6 rfl rfl)
theorem dX0_raise_78 : decode cX0_raise 78 = .ok (.iinc 2 1, 3) := dk_132 2 1 (dk_at dksX0_raise_3 9 rfl rfl)
theorem dX0_raise_81 : decode cX0_raise 81 = .ok (.iinc 3 1, 3) := dk_132 3 1 (dk_at dksX0_raise_3 12 rfl rfl)
theorem dX0_raise_84 : decode cX0_raise 84 = .ok (.goto (-55), 3) := dk_167 255 201 (dk_at dksX0_raise_3 15 rfl rfl)
theorem dX0_raise_87 : decode cX0_raise 87 = .ok (.iload_n 2, 1) := dk_28 (dk_at dksX0_raise_3 18 rfl rfl)
theorem dX0_raise_88 : decode cX0_raise 88 = .ok (.ireturn, 1) := dk_172 (dk_at dksX0_raise_3 19 rfl rfl)
abbrev cX0_act : ByteArray := prog_1_method_87_code
def yX0_act : MethodName := ⟨RX0, "act", "(III)I"⟩
def dkwX0_act_4 : List UInt8 := [182, 2, 30, 172]
abbrev dktX0_act_4 : List UInt8 := dkwX0_act_4 ++ []
def dkwX0_act_3 : List UInt8 := [25, 4, 29, 182, 2, 21, 172, 25, 4, 29, 182, 2, 24, 172, 25, 4, 29, 182, 2, 27, 172, 25, 4, 29]
abbrev dktX0_act_3 : List UInt8 := dkwX0_act_3 ++ dktX0_act_4
def dkwX0_act_2 : List UInt8 := [170, 0, 0, 0, 0, 0, 0, 49, 0, 0, 0, 0, 0, 0, 0, 2, 0, 0, 0, 28, 0, 0, 0, 35, 0, 0, 0, 42]
abbrev dktX0_act_2 : List UInt8 := dkwX0_act_2 ++ dktX0_act_3
def dkwX0_act_1 : List UInt8 := [154, 0, 5, 3, 172, 42, 180, 0, 28, 27, 50, 58, 4, 28]
abbrev dktX0_act_1 : List UInt8 := dkwX0_act_1 ++ dktX0_act_2
def dkwX0_act_0 : List UInt8 := [42, 3, 181, 2, 18, 42, 27, 182, 0, 187, 153, 0, 15, 28, 133, 9, 20, 1, 252, 184, 0, 167]
abbrev dktX0_act_0 : List UInt8 := dkwX0_act_0 ++ dktX0_act_1
theorem dksX0_act_0 : cX0_act.data.toList.drop 0 = dktX0_act_0 := by decide +kernel
theorem dksX0_act_1 : cX0_act.data.toList.drop 22 = dktX0_act_1 := dk_seg dksX0_act_0 22 rfl rfl
theorem dksX0_act_2 : cX0_act.data.toList.drop 36 = dktX0_act_2 := dk_seg dksX0_act_1 14 rfl rfl
theorem dksX0_act_3 : cX0_act.data.toList.drop 64 = dktX0_act_3 := dk_seg dksX0_act_2 28 rfl rfl
theorem dksX0_act_4 : cX0_act.data.toList.drop 88 = dktX0_act_4 := dk_seg dksX0_act_3 24 rfl rfl
theorem dX0_act_0 : decode cX0_act 0 = .ok (.aload_n 0, 1) := dk_42 (dk_at dksX0_act_0 0 rfl rfl)
theorem dX0_act_1 : decode cX0_act 1 = .ok (.iconst 0, 1) := dk_3 (dk_at dksX0_act_0 1 rfl rfl)
theorem dX0_act_2 : decode cX0_act 2 = .ok (.putfield 530, 3) := dk_181 2 18 (dk_at dksX0_act_0 2 rfl rfl)
theorem dX0_act_5 : decode cX0_act 5 = .ok (.aload_n 0, 1) := dk_42 (dk_at dksX0_act_0 5 rfl rfl)
theorem dX0_act_6 : decode cX0_act 6 = .ok (.iload_n 1, 1) := dk_27 (dk_at dksX0_act_0 6 rfl rfl)
theorem dX0_act_7 : decode cX0_act 7 = .ok (.invokevirtual 187, 3) := dk_182 0 187 (dk_at dksX0_act_0 7 rfl rfl)
theorem dX0_act_10 : decode cX0_act 10 = .ok (.ifCond .eq 15, 3) := dk_153 0 15 (dk_at dksX0_act_0 10 rfl rfl)
theorem dX0_act_13 : decode cX0_act 13 = .ok (.iload_n 2, 1) := dk_28 (dk_at dksX0_act_0 13 rfl rfl)
theorem dX0_act_14 : decode cX0_act 14 = .ok (.i2l, 1) := dk_133 (dk_at dksX0_act_0 14 rfl rfl)
theorem dX0_act_15 : decode cX0_act 15 = .ok (.lconst 0, 1) := dk_9 (dk_at dksX0_act_0 15 rfl rfl)
theorem dX0_act_16 : decode cX0_act 16 = .ok (.ldc2_w 508, 3) := dk_20 1 252 (dk_at dksX0_act_0 16 rfl rfl)
theorem dX0_act_19 : decode cX0_act 19 = .ok (.invokestatic 167, 3) := dk_184 0 167 (dk_at dksX0_act_0 19 rfl rfl)
theorem dX0_act_22 : decode cX0_act 22 = .ok (.ifCond .ne 5, 3) := dk_154 0 5 (dk_at dksX0_act_1 0 rfl rfl)
theorem dX0_act_25 : decode cX0_act 25 = .ok (.iconst 0, 1) := dk_3 (dk_at dksX0_act_1 3 rfl rfl)
theorem dX0_act_26 : decode cX0_act 26 = .ok (.ireturn, 1) := dk_172 (dk_at dksX0_act_1 4 rfl rfl)
theorem dX0_act_27 : decode cX0_act 27 = .ok (.aload_n 0, 1) := dk_42 (dk_at dksX0_act_1 5 rfl rfl)
theorem dX0_act_28 : decode cX0_act 28 = .ok (.getfield 28, 3) := dk_180 0 28 (dk_at dksX0_act_1 6 rfl rfl)
theorem dX0_act_31 : decode cX0_act 31 = .ok (.iload_n 1, 1) := dk_27 (dk_at dksX0_act_1 9 rfl rfl)
theorem dX0_act_32 : decode cX0_act 32 = .ok (.aaload, 1) := dk_50 (dk_at dksX0_act_1 10 rfl rfl)
theorem dX0_act_33 : decode cX0_act 33 = .ok (.astore 4, 2) := dk_58 4 (dk_at dksX0_act_1 11 rfl rfl)
theorem dX0_act_35 : decode cX0_act 35 = .ok (.iload_n 2, 1) := dk_28 (dk_at dksX0_act_1 13 rfl rfl)
theorem dX0_act_36 : decode cX0_act 36 = .ok (.tableswitch 49 0 2 #[28, 35, 42], 28) := by decide +kernel
theorem dX0_act_64 : decode cX0_act 64 = .ok (.aload 4, 2) := dk_25 4 (dk_at dksX0_act_3 0 rfl rfl)
theorem dX0_act_66 : decode cX0_act 66 = .ok (.iload_n 3, 1) := dk_29 (dk_at dksX0_act_3 2 rfl rfl)
theorem dX0_act_67 : decode cX0_act 67 = .ok (.invokevirtual 533, 3) := dk_182 2 21 (dk_at dksX0_act_3 3 rfl rfl)
theorem dX0_act_70 : decode cX0_act 70 = .ok (.ireturn, 1) := dk_172 (dk_at dksX0_act_3 6 rfl rfl)
theorem dX0_act_71 : decode cX0_act 71 = .ok (.aload 4, 2) := dk_25 4 (dk_at dksX0_act_3 7 rfl rfl)
theorem dX0_act_73 : decode cX0_act 73 = .ok (.iload_n 3, 1) := dk_29 (dk_at dksX0_act_3 9 rfl rfl)
theorem dX0_act_74 : decode cX0_act 74 = .ok (.invokevirtual 536, 3) := dk_182 2 24 (dk_at dksX0_act_3 10 rfl rfl)
theorem dX0_act_77 : decode cX0_act 77 = .ok (.ireturn, 1) := dk_172 (dk_at dksX0_act_3 13 rfl rfl)
theorem dX0_act_78 : decode cX0_act 78 = .ok (.aload 4, 2) := dk_25 4 (dk_at dksX0_act_3 14 rfl rfl)
theorem dX0_act_80 : decode cX0_act 80 = .ok (.iload_n 3, 1) := dk_29 (dk_at dksX0_act_3 16 rfl rfl)
theorem dX0_act_81 : decode cX0_act 81 = .ok (.invokevirtual 539, 3) := dk_182 2 27 (dk_at dksX0_act_3 17 rfl rfl)
theorem dX0_act_84 : decode cX0_act 84 = .ok (.ireturn, 1) := dk_172 (dk_at dksX0_act_3 20 rfl rfl)
theorem dX0_act_85 : decode cX0_act 85 = .ok (.aload 4, 2) := dk_25 4 (dk_at dksX0_act_3 21 rfl rfl)
theorem dX0_act_87 : decode cX0_act 87 = .ok (.iload_n 3, 1) := dk_29 (dk_at dksX0_act_3 23 rfl rfl)
theorem dX0_act_88 : decode cX0_act 88 = .ok (.invokevirtual 542, 3) := dk_182 2 30 (dk_at dksX0_act_4 0 rfl rfl)
theorem dX0_act_91 : decode cX0_act 91 = .ok (.ireturn, 1) := dk_172 (dk_at dksX0_act_4 3 rfl rfl)
abbrev cX0_trace : ByteArray := prog_1_method_88_code
def yX0_trace : MethodName := ⟨RX0, "trace", "(I)I"⟩
def dkwX0_trace_1 : List UInt8 := [180, 0, 32, 27, 46, 167, 0, 4, 2, 172]
abbrev dktX0_trace_1 : List UInt8 := dkwX0_trace_1 ++ []
def dkwX0_trace_0 : List UInt8 := [27, 133, 9, 42, 180, 2, 18, 16, 24, 184, 0, 1, 4, 100, 133, 184, 0, 167, 153, 0, 12, 42]
abbrev dktX0_trace_0 : List UInt8 := dkwX0_trace_0 ++ dktX0_trace_1
theorem dksX0_trace_0 : cX0_trace.data.toList.drop 0 = dktX0_trace_0 := by decide +kernel
theorem dksX0_trace_1 : cX0_trace.data.toList.drop 22 = dktX0_trace_1 := dk_seg dksX0_trace_0 22 rfl rfl
theorem dX0_trace_0 : decode cX0_trace 0 = .ok (.iload_n 1, 1) := dk_27 (dk_at dksX0_trace_0 0 rfl rfl)
theorem dX0_trace_1 : decode cX0_trace 1 = .ok (.i2l, 1) := dk_133 (dk_at dksX0_trace_0 1 rfl rfl)
theorem dX0_trace_2 : decode cX0_trace 2 = .ok (.lconst 0, 1) := dk_9 (dk_at dksX0_trace_0 2 rfl rfl)
theorem dX0_trace_3 : decode cX0_trace 3 = .ok (.aload_n 0, 1) := dk_42 (dk_at dksX0_trace_0 3 rfl rfl)
theorem dX0_trace_4 : decode cX0_trace 4 = .ok (.getfield 530, 3) := dk_180 2 18 (dk_at dksX0_trace_0 4 rfl rfl)
theorem dX0_trace_7 : decode cX0_trace 7 = .ok (.bipush 24, 2) := dk_16 24 (dk_at dksX0_trace_0 7 rfl rfl)
theorem dX0_trace_9 : decode cX0_trace 9 = .ok (.invokestatic 1, 3) := dk_184 0 1 (dk_at dksX0_trace_0 9 rfl rfl)
theorem dX0_trace_12 : decode cX0_trace 12 = .ok (.iconst 1, 1) := dk_4 (dk_at dksX0_trace_0 12 rfl rfl)
theorem dX0_trace_13 : decode cX0_trace 13 = .ok (.isub, 1) := dk_100 (dk_at dksX0_trace_0 13 rfl rfl)
theorem dX0_trace_14 : decode cX0_trace 14 = .ok (.i2l, 1) := dk_133 (dk_at dksX0_trace_0 14 rfl rfl)
theorem dX0_trace_15 : decode cX0_trace 15 = .ok (.invokestatic 167, 3) := dk_184 0 167 (dk_at dksX0_trace_0 15 rfl rfl)
theorem dX0_trace_18 : decode cX0_trace 18 = .ok (.ifCond .eq 12, 3) := dk_153 0 12 (dk_at dksX0_trace_0 18 rfl rfl)
theorem dX0_trace_21 : decode cX0_trace 21 = .ok (.aload_n 0, 1) := dk_42 (dk_at dksX0_trace_0 21 rfl rfl)
theorem dX0_trace_22 : decode cX0_trace 22 = .ok (.getfield 32, 3) := dk_180 0 32 (dk_at dksX0_trace_1 0 rfl rfl)
theorem dX0_trace_25 : decode cX0_trace 25 = .ok (.iload_n 1, 1) := dk_27 (dk_at dksX0_trace_1 3 rfl rfl)
theorem dX0_trace_26 : decode cX0_trace 26 = .ok (.iaload, 1) := dk_46 (dk_at dksX0_trace_1 4 rfl rfl)
theorem dX0_trace_27 : decode cX0_trace 27 = .ok (.goto 4, 3) := dk_167 0 4 (dk_at dksX0_trace_1 5 rfl rfl)
theorem dX0_trace_30 : decode cX0_trace 30 = .ok (.iconst (-1), 1) := dk_2 (dk_at dksX0_trace_1 8 rfl rfl)
theorem dX0_trace_31 : decode cX0_trace 31 = .ok (.ireturn, 1) := dk_172 (dk_at dksX0_trace_1 9 rfl rfl)
abbrev cX0_keep : ByteArray := prog_1_method_90_code
def yX0_keep : MethodName := ⟨RX0, "keep", "(II)I"⟩
def dkwX0_keep_1 : List UInt8 := [180, 0, 160, 27, 28, 2, 160, 0, 7, 1, 167, 0, 9, 42, 180, 0, 28, 28, 50, 83, 4, 172]
abbrev dktX0_keep_1 : List UInt8 := dkwX0_keep_1 ++ []
def dkwX0_keep_0 : List UInt8 := [27, 184, 1, 87, 153, 0, 16, 28, 2, 159, 0, 13, 42, 28, 182, 0, 187, 154, 0, 5, 2, 172, 42]
abbrev dktX0_keep_0 : List UInt8 := dkwX0_keep_0 ++ dktX0_keep_1
theorem dksX0_keep_0 : cX0_keep.data.toList.drop 0 = dktX0_keep_0 := by decide +kernel
theorem dksX0_keep_1 : cX0_keep.data.toList.drop 23 = dktX0_keep_1 := dk_seg dksX0_keep_0 23 rfl rfl
theorem dX0_keep_0 : decode cX0_keep 0 = .ok (.iload_n 1, 1) := dk_27 (dk_at dksX0_keep_0 0 rfl rfl)
theorem dX0_keep_1 : decode cX0_keep 1 = .ok (.invokestatic 343, 3) := dk_184 1 87 (dk_at dksX0_keep_0 1 rfl rfl)
theorem dX0_keep_4 : decode cX0_keep 4 = .ok (.ifCond .eq 16, 3) := dk_153 0 16 (dk_at dksX0_keep_0 4 rfl rfl)
theorem dX0_keep_7 : decode cX0_keep 7 = .ok (.iload_n 2, 1) := dk_28 (dk_at dksX0_keep_0 7 rfl rfl)
theorem dX0_keep_8 : decode cX0_keep 8 = .ok (.iconst (-1), 1) := dk_2 (dk_at dksX0_keep_0 8 rfl rfl)
theorem dX0_keep_9 : decode cX0_keep 9 = .ok (.if_icmp .eq 13, 3) := dk_159 0 13 (dk_at dksX0_keep_0 9 rfl rfl)
theorem dX0_keep_12 : decode cX0_keep 12 = .ok (.aload_n 0, 1) := dk_42 (dk_at dksX0_keep_0 12 rfl rfl)
theorem dX0_keep_13 : decode cX0_keep 13 = .ok (.iload_n 2, 1) := dk_28 (dk_at dksX0_keep_0 13 rfl rfl)
theorem dX0_keep_14 : decode cX0_keep 14 = .ok (.invokevirtual 187, 3) := dk_182 0 187 (dk_at dksX0_keep_0 14 rfl rfl)
theorem dX0_keep_17 : decode cX0_keep 17 = .ok (.ifCond .ne 5, 3) := dk_154 0 5 (dk_at dksX0_keep_0 17 rfl rfl)
theorem dX0_keep_20 : decode cX0_keep 20 = .ok (.iconst (-1), 1) := dk_2 (dk_at dksX0_keep_0 20 rfl rfl)
theorem dX0_keep_21 : decode cX0_keep 21 = .ok (.ireturn, 1) := dk_172 (dk_at dksX0_keep_0 21 rfl rfl)
theorem dX0_keep_22 : decode cX0_keep 22 = .ok (.aload_n 0, 1) := dk_42 (dk_at dksX0_keep_0 22 rfl rfl)
theorem dX0_keep_23 : decode cX0_keep 23 = .ok (.getfield 160, 3) := dk_180 0 160 (dk_at dksX0_keep_1 0 rfl rfl)
theorem dX0_keep_26 : decode cX0_keep 26 = .ok (.iload_n 1, 1) := dk_27 (dk_at dksX0_keep_1 3 rfl rfl)
theorem dX0_keep_27 : decode cX0_keep 27 = .ok (.iload_n 2, 1) := dk_28 (dk_at dksX0_keep_1 4 rfl rfl)
theorem dX0_keep_28 : decode cX0_keep 28 = .ok (.iconst (-1), 1) := dk_2 (dk_at dksX0_keep_1 5 rfl rfl)
theorem dX0_keep_29 : decode cX0_keep 29 = .ok (.if_icmp .ne 7, 3) := dk_160 0 7 (dk_at dksX0_keep_1 6 rfl rfl)
theorem dX0_keep_32 : decode cX0_keep 32 = .ok (.aconst_null, 1) := dk_1 (dk_at dksX0_keep_1 9 rfl rfl)
theorem dX0_keep_33 : decode cX0_keep 33 = .ok (.goto 9, 3) := dk_167 0 9 (dk_at dksX0_keep_1 10 rfl rfl)
theorem dX0_keep_36 : decode cX0_keep 36 = .ok (.aload_n 0, 1) := dk_42 (dk_at dksX0_keep_1 13 rfl rfl)
theorem dX0_keep_37 : decode cX0_keep 37 = .ok (.getfield 28, 3) := dk_180 0 28 (dk_at dksX0_keep_1 14 rfl rfl)
theorem dX0_keep_40 : decode cX0_keep 40 = .ok (.iload_n 2, 1) := dk_28 (dk_at dksX0_keep_1 17 rfl rfl)
theorem dX0_keep_41 : decode cX0_keep 41 = .ok (.aaload, 1) := dk_50 (dk_at dksX0_keep_1 18 rfl rfl)
theorem dX0_keep_42 : decode cX0_keep 42 = .ok (.aastore, 1) := dk_83 (dk_at dksX0_keep_1 19 rfl rfl)
theorem dX0_keep_43 : decode cX0_keep 43 = .ok (.iconst 1, 1) := dk_4 (dk_at dksX0_keep_1 20 rfl rfl)
theorem dX0_keep_44 : decode cX0_keep 44 = .ok (.ireturn, 1) := dk_172 (dk_at dksX0_keep_1 21 rfl rfl)
abbrev cX0_row : ByteArray := prog_1_method_91_code
def yX0_row : MethodName := ⟨RX0, "row", "(III)I"⟩
def dkwX0_row_5 : List UInt8 := [42, 180, 0, 160, 27, 29, 188, 7, 83, 4, 172, 58, 4, 16, 242, 172]
abbrev dktX0_row_5 : List UInt8 := dkwX0_row_5 ++ []
def dkwX0_row_4 : List UInt8 := [42, 180, 0, 160, 27, 29, 188, 10, 83, 167, 0, 24, 42, 180, 0, 160, 27, 29, 188, 6, 83, 167, 0, 12]
abbrev dktX0_row_4 : List UInt8 := dkwX0_row_4 ++ dktX0_row_5
def dkwX0_row_3 : List UInt8 := [42, 180, 0, 160, 27, 29, 188, 8, 83, 167, 0, 48, 42, 180, 0, 160, 27, 29, 188, 5, 83, 167, 0, 36]
abbrev dktX0_row_3 : List UInt8 := dkwX0_row_3 ++ dktX0_row_4
def dkwX0_row_2 : List UInt8 := [170, 0, 0, 0, 0, 0, 0, 80, 0, 0, 0, 0, 0, 0, 0, 3, 0, 0, 0, 32, 0, 0, 0, 44, 0, 0, 0, 56, 0, 0, 0, 68]
abbrev dktX0_row_2 : List UInt8 := dkwX0_row_2 ++ dktX0_row_3
def dkwX0_row_1 : List UInt8 := [164, 0, 5, 2, 172, 28]
abbrev dktX0_row_1 : List UInt8 := dkwX0_row_1 ++ dktX0_row_2
def dkwX0_row_0 : List UInt8 := [27, 184, 1, 87, 153, 0, 21, 28, 133, 9, 20, 1, 144, 184, 0, 167, 153, 0, 9, 29, 16, 60]
abbrev dktX0_row_0 : List UInt8 := dkwX0_row_0 ++ dktX0_row_1
theorem dksX0_row_0 : cX0_row.data.toList.drop 0 = dktX0_row_0 := by decide +kernel
theorem dksX0_row_1 : cX0_row.data.toList.drop 22 = dktX0_row_1 := dk_seg dksX0_row_0 22 rfl rfl
theorem dksX0_row_2 : cX0_row.data.toList.drop 28 = dktX0_row_2 := dk_seg dksX0_row_1 6 rfl rfl
theorem dksX0_row_3 : cX0_row.data.toList.drop 60 = dktX0_row_3 := dk_seg dksX0_row_2 32 rfl rfl
theorem dksX0_row_4 : cX0_row.data.toList.drop 84 = dktX0_row_4 := dk_seg dksX0_row_3 24 rfl rfl
theorem dksX0_row_5 : cX0_row.data.toList.drop 108 = dktX0_row_5 := dk_seg dksX0_row_4 24 rfl rfl
theorem dX0_row_0 : decode cX0_row 0 = .ok (.iload_n 1, 1) := dk_27 (dk_at dksX0_row_0 0 rfl rfl)
theorem dX0_row_1 : decode cX0_row 1 = .ok (.invokestatic 343, 3) := dk_184 1 87 (dk_at dksX0_row_0 1 rfl rfl)
theorem dX0_row_4 : decode cX0_row 4 = .ok (.ifCond .eq 21, 3) := dk_153 0 21 (dk_at dksX0_row_0 4 rfl rfl)
theorem dX0_row_7 : decode cX0_row 7 = .ok (.iload_n 2, 1) := dk_28 (dk_at dksX0_row_0 7 rfl rfl)
theorem dX0_row_8 : decode cX0_row 8 = .ok (.i2l, 1) := dk_133 (dk_at dksX0_row_0 8 rfl rfl)
theorem dX0_row_9 : decode cX0_row 9 = .ok (.lconst 0, 1) := dk_9 (dk_at dksX0_row_0 9 rfl rfl)
theorem dX0_row_10 : decode cX0_row 10 = .ok (.ldc2_w 400, 3) := dk_20 1 144 (dk_at dksX0_row_0 10 rfl rfl)
theorem dX0_row_13 : decode cX0_row 13 = .ok (.invokestatic 167, 3) := dk_184 0 167 (dk_at dksX0_row_0 13 rfl rfl)
theorem dX0_row_16 : decode cX0_row 16 = .ok (.ifCond .eq 9, 3) := dk_153 0 9 (dk_at dksX0_row_0 16 rfl rfl)
theorem dX0_row_19 : decode cX0_row 19 = .ok (.iload_n 3, 1) := dk_29 (dk_at dksX0_row_0 19 rfl rfl)
theorem dX0_row_20 : decode cX0_row 20 = .ok (.bipush 60, 2) := dk_16 60 (dk_at dksX0_row_0 20 rfl rfl)
theorem dX0_row_22 : decode cX0_row 22 = .ok (.if_icmp .le 5, 3) := dk_164 0 5 (dk_at dksX0_row_1 0 rfl rfl)
theorem dX0_row_25 : decode cX0_row 25 = .ok (.iconst (-1), 1) := dk_2 (dk_at dksX0_row_1 3 rfl rfl)
theorem dX0_row_26 : decode cX0_row 26 = .ok (.ireturn, 1) := dk_172 (dk_at dksX0_row_1 4 rfl rfl)
theorem dX0_row_27 : decode cX0_row 27 = .ok (.iload_n 2, 1) := dk_28 (dk_at dksX0_row_1 5 rfl rfl)
theorem dX0_row_28 : decode cX0_row 28 = .ok (.tableswitch 80 0 3 #[32, 44, 56, 68], 32) := by decide +kernel
theorem dX0_row_60 : decode cX0_row 60 = .ok (.aload_n 0, 1) := dk_42 (dk_at dksX0_row_3 0 rfl rfl)
theorem dX0_row_61 : decode cX0_row 61 = .ok (.getfield 160, 3) := dk_180 0 160 (dk_at dksX0_row_3 1 rfl rfl)
theorem dX0_row_64 : decode cX0_row 64 = .ok (.iload_n 1, 1) := dk_27 (dk_at dksX0_row_3 4 rfl rfl)
theorem dX0_row_65 : decode cX0_row 65 = .ok (.iload_n 3, 1) := dk_29 (dk_at dksX0_row_3 5 rfl rfl)
theorem dX0_row_66 : decode cX0_row 66 = .ok (.newarray .byte, 2) := dk_188_8 (dk_at dksX0_row_3 6 rfl rfl)
theorem dX0_row_68 : decode cX0_row 68 = .ok (.aastore, 1) := dk_83 (dk_at dksX0_row_3 8 rfl rfl)
theorem dX0_row_69 : decode cX0_row 69 = .ok (.goto 48, 3) := dk_167 0 48 (dk_at dksX0_row_3 9 rfl rfl)
theorem dX0_row_72 : decode cX0_row 72 = .ok (.aload_n 0, 1) := dk_42 (dk_at dksX0_row_3 12 rfl rfl)
theorem dX0_row_73 : decode cX0_row 73 = .ok (.getfield 160, 3) := dk_180 0 160 (dk_at dksX0_row_3 13 rfl rfl)
theorem dX0_row_76 : decode cX0_row 76 = .ok (.iload_n 1, 1) := dk_27 (dk_at dksX0_row_3 16 rfl rfl)
theorem dX0_row_77 : decode cX0_row 77 = .ok (.iload_n 3, 1) := dk_29 (dk_at dksX0_row_3 17 rfl rfl)
theorem dX0_row_78 : decode cX0_row 78 = .ok (.newarray .char, 2) := dk_188_5 (dk_at dksX0_row_3 18 rfl rfl)
theorem dX0_row_80 : decode cX0_row 80 = .ok (.aastore, 1) := dk_83 (dk_at dksX0_row_3 20 rfl rfl)
theorem dX0_row_81 : decode cX0_row 81 = .ok (.goto 36, 3) := dk_167 0 36 (dk_at dksX0_row_3 21 rfl rfl)
theorem dX0_row_84 : decode cX0_row 84 = .ok (.aload_n 0, 1) := dk_42 (dk_at dksX0_row_4 0 rfl rfl)
theorem dX0_row_85 : decode cX0_row 85 = .ok (.getfield 160, 3) := dk_180 0 160 (dk_at dksX0_row_4 1 rfl rfl)
theorem dX0_row_88 : decode cX0_row 88 = .ok (.iload_n 1, 1) := dk_27 (dk_at dksX0_row_4 4 rfl rfl)
theorem dX0_row_89 : decode cX0_row 89 = .ok (.iload_n 3, 1) := dk_29 (dk_at dksX0_row_4 5 rfl rfl)
theorem dX0_row_90 : decode cX0_row 90 = .ok (.newarray .int, 2) := dk_188_10 (dk_at dksX0_row_4 6 rfl rfl)
theorem dX0_row_92 : decode cX0_row 92 = .ok (.aastore, 1) := dk_83 (dk_at dksX0_row_4 8 rfl rfl)
theorem dX0_row_93 : decode cX0_row 93 = .ok (.goto 24, 3) := dk_167 0 24 (dk_at dksX0_row_4 9 rfl rfl)
theorem dX0_row_96 : decode cX0_row 96 = .ok (.aload_n 0, 1) := dk_42 (dk_at dksX0_row_4 12 rfl rfl)
theorem dX0_row_97 : decode cX0_row 97 = .ok (.getfield 160, 3) := dk_180 0 160 (dk_at dksX0_row_4 13 rfl rfl)
theorem dX0_row_100 : decode cX0_row 100 = .ok (.iload_n 1, 1) := dk_27 (dk_at dksX0_row_4 16 rfl rfl)
theorem dX0_row_101 : decode cX0_row 101 = .ok (.iload_n 3, 1) := dk_29 (dk_at dksX0_row_4 17 rfl rfl)
theorem dX0_row_102 : decode cX0_row 102 = .ok (.newarray .float, 2) := dk_188_6 (dk_at dksX0_row_4 18 rfl rfl)
theorem dX0_row_104 : decode cX0_row 104 = .ok (.aastore, 1) := dk_83 (dk_at dksX0_row_4 20 rfl rfl)
theorem dX0_row_105 : decode cX0_row 105 = .ok (.goto 12, 3) := dk_167 0 12 (dk_at dksX0_row_4 21 rfl rfl)
theorem dX0_row_108 : decode cX0_row 108 = .ok (.aload_n 0, 1) := dk_42 (dk_at dksX0_row_5 0 rfl rfl)
theorem dX0_row_109 : decode cX0_row 109 = .ok (.getfield 160, 3) := dk_180 0 160 (dk_at dksX0_row_5 1 rfl rfl)
theorem dX0_row_112 : decode cX0_row 112 = .ok (.iload_n 1, 1) := dk_27 (dk_at dksX0_row_5 4 rfl rfl)
theorem dX0_row_113 : decode cX0_row 113 = .ok (.iload_n 3, 1) := dk_29 (dk_at dksX0_row_5 5 rfl rfl)
theorem dX0_row_114 : decode cX0_row 114 = .ok (.newarray .double, 2) := dk_188_7 (dk_at dksX0_row_5 6 rfl rfl)
theorem dX0_row_116 : decode cX0_row 116 = .ok (.aastore, 1) := dk_83 (dk_at dksX0_row_5 8 rfl rfl)
theorem dX0_row_117 : decode cX0_row 117 = .ok (.iconst 1, 1) := dk_4 (dk_at dksX0_row_5 9 rfl rfl)
theorem dX0_row_118 : decode cX0_row 118 = .ok (.ireturn, 1) := dk_172 (dk_at dksX0_row_5 10 rfl rfl)
theorem dX0_row_119 : decode cX0_row 119 = .ok (.astore 4, 2) := dk_58 4 (dk_at dksX0_row_5 11 rfl rfl)
theorem dX0_row_121 : decode cX0_row 121 = .ok (.bipush (-14), 2) := dk_16 242 (dk_at dksX0_row_5 13 rfl rfl)
theorem dX0_row_123 : decode cX0_row 123 = .ok (.ireturn, 1) := dk_172 (dk_at dksX0_row_5 15 rfl rfl)
abbrev cX0_put : ByteArray := prog_1_method_96_code
def yX0_put : MethodName := ⟨RX0, "put", "(IIJ)I"⟩
def dkwX0_put_6 : List UInt8 := [167, 0, 12, 25, 6, 192, 1, 85, 28, 33, 138, 82, 4, 172]
abbrev dktX0_put_6 : List UInt8 := dkwX0_put_6 ++ []
def dkwX0_put_5 : List UInt8 := [167, 0, 36, 25, 6, 192, 2, 39, 28, 33, 136, 79, 167, 0, 24, 25, 6, 192, 1, 79, 28, 33, 137, 81]
abbrev dktX0_put_5 : List UInt8 := dkwX0_put_5 ++ dktX0_put_6
def dkwX0_put_4 : List UInt8 := [25, 6, 192, 2, 35, 28, 33, 136, 145, 84, 167, 0, 49, 25, 6, 192, 2, 37, 28, 33, 136, 146, 85]
abbrev dktX0_put_4 : List UInt8 := dkwX0_put_4 ++ dktX0_put_5
def dkwX0_put_3 : List UInt8 := [170, 0, 0, 0, 0, 0, 0, 82, 0, 0, 0, 0, 0, 0, 0, 3, 0, 0, 0, 32, 0, 0, 0, 45, 0, 0, 0, 58, 0, 0, 0, 70]
abbrev dktX0_put_3 : List UInt8 := dkwX0_put_3 ++ dktX0_put_4
def dkwX0_put_2 : List UInt8 := [25, 6, 184, 2, 40]
abbrev dktX0_put_2 : List UInt8 := dkwX0_put_2 ++ dktX0_put_3
def dkwX0_put_1 : List UInt8 := [27, 28, 182, 2, 52, 54, 5, 21, 5, 153, 0, 6, 21, 5, 172, 42, 180, 0, 160, 27, 50, 58, 6]
abbrev dktX0_put_1 : List UInt8 := dkwX0_put_1 ++ dktX0_put_2
def dkwX0_put_0 : List UInt8 := [42, 27, 182, 2, 47, 153, 0, 18, 33, 20, 2, 50, 20, 1, 222, 184, 0, 167, 154, 0, 5, 2, 172, 42]
abbrev dktX0_put_0 : List UInt8 := dkwX0_put_0 ++ dktX0_put_1
theorem dksX0_put_0 : cX0_put.data.toList.drop 0 = dktX0_put_0 := by decide +kernel
theorem dksX0_put_1 : cX0_put.data.toList.drop 24 = dktX0_put_1 := dk_seg dksX0_put_0 24 rfl rfl
theorem dksX0_put_2 : cX0_put.data.toList.drop 47 = dktX0_put_2 := dk_seg dksX0_put_1 23 rfl rfl
theorem dksX0_put_3 : cX0_put.data.toList.drop 52 = dktX0_put_3 := dk_seg dksX0_put_2 5 rfl rfl
theorem dksX0_put_4 : cX0_put.data.toList.drop 84 = dktX0_put_4 := dk_seg dksX0_put_3 32 rfl rfl
theorem dksX0_put_5 : cX0_put.data.toList.drop 107 = dktX0_put_5 := dk_seg dksX0_put_4 23 rfl rfl
theorem dksX0_put_6 : cX0_put.data.toList.drop 131 = dktX0_put_6 := dk_seg dksX0_put_5 24 rfl rfl
theorem dX0_put_0 : decode cX0_put 0 = .ok (.aload_n 0, 1) := dk_42 (dk_at dksX0_put_0 0 rfl rfl)
theorem dX0_put_1 : decode cX0_put 1 = .ok (.iload_n 1, 1) := dk_27 (dk_at dksX0_put_0 1 rfl rfl)
theorem dX0_put_2 : decode cX0_put 2 = .ok (.invokevirtual 559, 3) := dk_182 2 47 (dk_at dksX0_put_0 2 rfl rfl)
theorem dX0_put_5 : decode cX0_put 5 = .ok (.ifCond .eq 18, 3) := dk_153 0 18 (dk_at dksX0_put_0 5 rfl rfl)
theorem dX0_put_8 : decode cX0_put 8 = .ok (.lload_n 3, 1) := dk_33 (dk_at dksX0_put_0 8 rfl rfl)
theorem dX0_put_9 : decode cX0_put 9 = .ok (.ldc2_w 562, 3) := dk_20 2 50 (dk_at dksX0_put_0 9 rfl rfl)
theorem dX0_put_12 : decode cX0_put 12 = .ok (.ldc2_w 478, 3) := dk_20 1 222 (dk_at dksX0_put_0 12 rfl rfl)
theorem dX0_put_15 : decode cX0_put 15 = .ok (.invokestatic 167, 3) := dk_184 0 167 (dk_at dksX0_put_0 15 rfl rfl)
theorem dX0_put_18 : decode cX0_put 18 = .ok (.ifCond .ne 5, 3) := dk_154 0 5 (dk_at dksX0_put_0 18 rfl rfl)
theorem dX0_put_21 : decode cX0_put 21 = .ok (.iconst (-1), 1) := dk_2 (dk_at dksX0_put_0 21 rfl rfl)
theorem dX0_put_22 : decode cX0_put 22 = .ok (.ireturn, 1) := dk_172 (dk_at dksX0_put_0 22 rfl rfl)
theorem dX0_put_23 : decode cX0_put 23 = .ok (.aload_n 0, 1) := dk_42 (dk_at dksX0_put_0 23 rfl rfl)
theorem dX0_put_24 : decode cX0_put 24 = .ok (.iload_n 1, 1) := dk_27 (dk_at dksX0_put_1 0 rfl rfl)
theorem dX0_put_25 : decode cX0_put 25 = .ok (.iload_n 2, 1) := dk_28 (dk_at dksX0_put_1 1 rfl rfl)
theorem dX0_put_26 : decode cX0_put 26 = .ok (.invokevirtual 564, 3) := dk_182 2 52 (dk_at dksX0_put_1 2 rfl rfl)
theorem dX0_put_29 : decode cX0_put 29 = .ok (.istore 5, 2) := dk_54 5 (dk_at dksX0_put_1 5 rfl rfl)
theorem dX0_put_31 : decode cX0_put 31 = .ok (.iload 5, 2) := dk_21 5 (dk_at dksX0_put_1 7 rfl rfl)
theorem dX0_put_33 : decode cX0_put 33 = .ok (.ifCond .eq 6, 3) := dk_153 0 6 (dk_at dksX0_put_1 9 rfl rfl)
theorem dX0_put_36 : decode cX0_put 36 = .ok (.iload 5, 2) := dk_21 5 (dk_at dksX0_put_1 12 rfl rfl)
theorem dX0_put_38 : decode cX0_put 38 = .ok (.ireturn, 1) := dk_172 (dk_at dksX0_put_1 14 rfl rfl)
theorem dX0_put_39 : decode cX0_put 39 = .ok (.aload_n 0, 1) := dk_42 (dk_at dksX0_put_1 15 rfl rfl)
theorem dX0_put_40 : decode cX0_put 40 = .ok (.getfield 160, 3) := dk_180 0 160 (dk_at dksX0_put_1 16 rfl rfl)
theorem dX0_put_43 : decode cX0_put 43 = .ok (.iload_n 1, 1) := dk_27 (dk_at dksX0_put_1 19 rfl rfl)
theorem dX0_put_44 : decode cX0_put 44 = .ok (.aaload, 1) := dk_50 (dk_at dksX0_put_1 20 rfl rfl)
theorem dX0_put_45 : decode cX0_put 45 = .ok (.astore 6, 2) := dk_58 6 (dk_at dksX0_put_1 21 rfl rfl)
theorem dX0_put_47 : decode cX0_put 47 = .ok (.aload 6, 2) := dk_25 6 (dk_at dksX0_put_2 0 rfl rfl)
theorem dX0_put_49 : decode cX0_put 49 = .ok (.invokestatic 552, 3) := dk_184 2 40 (dk_at dksX0_put_2 2 rfl rfl)
theorem dX0_put_52 : decode cX0_put 52 = .ok (.tableswitch 82 0 3 #[32, 45, 58, 70], 32) := by decide +kernel
theorem dX0_put_84 : decode cX0_put 84 = .ok (.aload 6, 2) := dk_25 6 (dk_at dksX0_put_4 0 rfl rfl)
theorem dX0_put_86 : decode cX0_put 86 = .ok (.checkcast 547, 3) := dk_192 2 35 (dk_at dksX0_put_4 2 rfl rfl)
theorem dX0_put_89 : decode cX0_put 89 = .ok (.iload_n 2, 1) := dk_28 (dk_at dksX0_put_4 5 rfl rfl)
theorem dX0_put_90 : decode cX0_put 90 = .ok (.lload_n 3, 1) := dk_33 (dk_at dksX0_put_4 6 rfl rfl)
theorem dX0_put_91 : decode cX0_put 91 = .ok (.l2i, 1) := dk_136 (dk_at dksX0_put_4 7 rfl rfl)
theorem dX0_put_92 : decode cX0_put 92 = .ok (.i2b, 1) := dk_145 (dk_at dksX0_put_4 8 rfl rfl)
theorem dX0_put_93 : decode cX0_put 93 = .ok (.bastore, 1) := dk_84 (dk_at dksX0_put_4 9 rfl rfl)
theorem dX0_put_94 : decode cX0_put 94 = .ok (.goto 49, 3) := dk_167 0 49 (dk_at dksX0_put_4 10 rfl rfl)
theorem dX0_put_97 : decode cX0_put 97 = .ok (.aload 6, 2) := dk_25 6 (dk_at dksX0_put_4 13 rfl rfl)
theorem dX0_put_99 : decode cX0_put 99 = .ok (.checkcast 549, 3) := dk_192 2 37 (dk_at dksX0_put_4 15 rfl rfl)
theorem dX0_put_102 : decode cX0_put 102 = .ok (.iload_n 2, 1) := dk_28 (dk_at dksX0_put_4 18 rfl rfl)
theorem dX0_put_103 : decode cX0_put 103 = .ok (.lload_n 3, 1) := dk_33 (dk_at dksX0_put_4 19 rfl rfl)
theorem dX0_put_104 : decode cX0_put 104 = .ok (.l2i, 1) := dk_136 (dk_at dksX0_put_4 20 rfl rfl)
theorem dX0_put_105 : decode cX0_put 105 = .ok (.i2c, 1) := dk_146 (dk_at dksX0_put_4 21 rfl rfl)
theorem dX0_put_106 : decode cX0_put 106 = .ok (.castore, 1) := dk_85 (dk_at dksX0_put_4 22 rfl rfl)
theorem dX0_put_107 : decode cX0_put 107 = .ok (.goto 36, 3) := dk_167 0 36 (dk_at dksX0_put_5 0 rfl rfl)
theorem dX0_put_110 : decode cX0_put 110 = .ok (.aload 6, 2) := dk_25 6 (dk_at dksX0_put_5 3 rfl rfl)
theorem dX0_put_112 : decode cX0_put 112 = .ok (.checkcast 551, 3) := dk_192 2 39 (dk_at dksX0_put_5 5 rfl rfl)
theorem dX0_put_115 : decode cX0_put 115 = .ok (.iload_n 2, 1) := dk_28 (dk_at dksX0_put_5 8 rfl rfl)
theorem dX0_put_116 : decode cX0_put 116 = .ok (.lload_n 3, 1) := dk_33 (dk_at dksX0_put_5 9 rfl rfl)
theorem dX0_put_117 : decode cX0_put 117 = .ok (.l2i, 1) := dk_136 (dk_at dksX0_put_5 10 rfl rfl)
theorem dX0_put_118 : decode cX0_put 118 = .ok (.iastore, 1) := dk_79 (dk_at dksX0_put_5 11 rfl rfl)
theorem dX0_put_119 : decode cX0_put 119 = .ok (.goto 24, 3) := dk_167 0 24 (dk_at dksX0_put_5 12 rfl rfl)
theorem dX0_put_122 : decode cX0_put 122 = .ok (.aload 6, 2) := dk_25 6 (dk_at dksX0_put_5 15 rfl rfl)
theorem dX0_put_124 : decode cX0_put 124 = .ok (.checkcast 335, 3) := dk_192 1 79 (dk_at dksX0_put_5 17 rfl rfl)
theorem dX0_put_127 : decode cX0_put 127 = .ok (.iload_n 2, 1) := dk_28 (dk_at dksX0_put_5 20 rfl rfl)
theorem dX0_put_128 : decode cX0_put 128 = .ok (.lload_n 3, 1) := dk_33 (dk_at dksX0_put_5 21 rfl rfl)
theorem dX0_put_129 : decode cX0_put 129 = .ok (.l2f, 1) := dk_137 (dk_at dksX0_put_5 22 rfl rfl)
theorem dX0_put_130 : decode cX0_put 130 = .ok (.fastore, 1) := dk_81 (dk_at dksX0_put_5 23 rfl rfl)
theorem dX0_put_131 : decode cX0_put 131 = .ok (.goto 12, 3) := dk_167 0 12 (dk_at dksX0_put_6 0 rfl rfl)
theorem dX0_put_134 : decode cX0_put 134 = .ok (.aload 6, 2) := dk_25 6 (dk_at dksX0_put_6 3 rfl rfl)
theorem dX0_put_136 : decode cX0_put 136 = .ok (.checkcast 341, 3) := dk_192 1 85 (dk_at dksX0_put_6 5 rfl rfl)
theorem dX0_put_139 : decode cX0_put 139 = .ok (.iload_n 2, 1) := dk_28 (dk_at dksX0_put_6 8 rfl rfl)
theorem dX0_put_140 : decode cX0_put 140 = .ok (.lload_n 3, 1) := dk_33 (dk_at dksX0_put_6 9 rfl rfl)
theorem dX0_put_141 : decode cX0_put 141 = .ok (.l2d, 1) := dk_138 (dk_at dksX0_put_6 10 rfl rfl)
theorem dX0_put_142 : decode cX0_put 142 = .ok (.dastore, 1) := dk_82 (dk_at dksX0_put_6 11 rfl rfl)
theorem dX0_put_143 : decode cX0_put 143 = .ok (.iconst 1, 1) := dk_4 (dk_at dksX0_put_6 12 rfl rfl)
theorem dX0_put_144 : decode cX0_put 144 = .ok (.ireturn, 1) := dk_172 (dk_at dksX0_put_6 13 rfl rfl)
abbrev cX0_isOfReals : ByteArray := prog_1_method_95_code
def yX0_isOfReals : MethodName := ⟨RX0, "isOfReals", "(I)Z"⟩
def dkwX0_isOfReals_1 : List UInt8 := [3, 172]
abbrev dktX0_isOfReals_1 : List UInt8 := dkwX0_isOfReals_1 ++ []
def dkwX0_isOfReals_0 : List UInt8 := [27, 184, 1, 87, 153, 0, 20, 42, 180, 0, 160, 27, 50, 184, 2, 40, 5, 164, 0, 7, 4, 167, 0, 4]
abbrev dktX0_isOfReals_0 : List UInt8 := dkwX0_isOfReals_0 ++ dktX0_isOfReals_1
theorem dksX0_isOfReals_0 : cX0_isOfReals.data.toList.drop 0 = dktX0_isOfReals_0 := by decide +kernel
theorem dksX0_isOfReals_1 : cX0_isOfReals.data.toList.drop 24 = dktX0_isOfReals_1 := dk_seg dksX0_isOfReals_0 24 rfl rfl
theorem dX0_isOfReals_0 : decode cX0_isOfReals 0 = .ok (.iload_n 1, 1) := dk_27 (dk_at dksX0_isOfReals_0 0 rfl rfl)
theorem dX0_isOfReals_1 : decode cX0_isOfReals 1 = .ok (.invokestatic 343, 3) := dk_184 1 87 (dk_at dksX0_isOfReals_0 1 rfl rfl)
theorem dX0_isOfReals_4 : decode cX0_isOfReals 4 = .ok (.ifCond .eq 20, 3) := dk_153 0 20 (dk_at dksX0_isOfReals_0 4 rfl rfl)
theorem dX0_isOfReals_7 : decode cX0_isOfReals 7 = .ok (.aload_n 0, 1) := dk_42 (dk_at dksX0_isOfReals_0 7 rfl rfl)
theorem dX0_isOfReals_8 : decode cX0_isOfReals 8 = .ok (.getfield 160, 3) := dk_180 0 160 (dk_at dksX0_isOfReals_0 8 rfl rfl)
theorem dX0_isOfReals_11 : decode cX0_isOfReals 11 = .ok (.iload_n 1, 1) := dk_27 (dk_at dksX0_isOfReals_0 11 rfl rfl)
theorem dX0_isOfReals_12 : decode cX0_isOfReals 12 = .ok (.aaload, 1) := dk_50 (dk_at dksX0_isOfReals_0 12 rfl rfl)
theorem dX0_isOfReals_13 : decode cX0_isOfReals 13 = .ok (.invokestatic 552, 3) := dk_184 2 40 (dk_at dksX0_isOfReals_0 13 rfl rfl)
theorem dX0_isOfReals_16 : decode cX0_isOfReals 16 = .ok (.iconst 2, 1) := dk_5 (dk_at dksX0_isOfReals_0 16 rfl rfl)
theorem dX0_isOfReals_17 : decode cX0_isOfReals 17 = .ok (.if_icmp .le 7, 3) := dk_164 0 7 (dk_at dksX0_isOfReals_0 17 rfl rfl)
theorem dX0_isOfReals_20 : decode cX0_isOfReals 20 = .ok (.iconst 1, 1) := dk_4 (dk_at dksX0_isOfReals_0 20 rfl rfl)
theorem dX0_isOfReals_21 : decode cX0_isOfReals 21 = .ok (.goto 4, 3) := dk_167 0 4 (dk_at dksX0_isOfReals_0 21 rfl rfl)
theorem dX0_isOfReals_24 : decode cX0_isOfReals 24 = .ok (.iconst 0, 1) := dk_3 (dk_at dksX0_isOfReals_1 0 rfl rfl)
theorem dX0_isOfReals_25 : decode cX0_isOfReals 25 = .ok (.ireturn, 1) := dk_172 (dk_at dksX0_isOfReals_1 1 rfl rfl)
abbrev cX0_sortOf : ByteArray := prog_1_method_92_code
def yX0_sortOf : MethodName := ⟨RX0, "sortOf", "(Ljava/lang/Object;)I"⟩
def dkwX0_sortOf_2 : List UInt8 := [193, 1, 85, 153, 0, 7, 7, 167, 0, 4, 2, 172]
abbrev dktX0_sortOf_2 : List UInt8 := dkwX0_sortOf_2 ++ []
def dkwX0_sortOf_1 : List UInt8 := [193, 2, 39, 153, 0, 7, 5, 167, 0, 26, 42, 193, 1, 79, 153, 0, 7, 6, 167, 0, 15, 42]
abbrev dktX0_sortOf_1 : List UInt8 := dkwX0_sortOf_1 ++ dktX0_sortOf_2
def dkwX0_sortOf_0 : List UInt8 := [42, 193, 2, 35, 153, 0, 7, 3, 167, 0, 48, 42, 193, 2, 37, 153, 0, 7, 4, 167, 0, 37, 42]
abbrev dktX0_sortOf_0 : List UInt8 := dkwX0_sortOf_0 ++ dktX0_sortOf_1
theorem dksX0_sortOf_0 : cX0_sortOf.data.toList.drop 0 = dktX0_sortOf_0 := by decide +kernel
theorem dksX0_sortOf_1 : cX0_sortOf.data.toList.drop 23 = dktX0_sortOf_1 := dk_seg dksX0_sortOf_0 23 rfl rfl
theorem dksX0_sortOf_2 : cX0_sortOf.data.toList.drop 45 = dktX0_sortOf_2 := dk_seg dksX0_sortOf_1 22 rfl rfl
theorem dX0_sortOf_0 : decode cX0_sortOf 0 = .ok (.aload_n 0, 1) := dk_42 (dk_at dksX0_sortOf_0 0 rfl rfl)
theorem dX0_sortOf_1 : decode cX0_sortOf 1 = .ok (.instanceof 547, 3) := dk_193 2 35 (dk_at dksX0_sortOf_0 1 rfl rfl)
theorem dX0_sortOf_4 : decode cX0_sortOf 4 = .ok (.ifCond .eq 7, 3) := dk_153 0 7 (dk_at dksX0_sortOf_0 4 rfl rfl)
theorem dX0_sortOf_7 : decode cX0_sortOf 7 = .ok (.iconst 0, 1) := dk_3 (dk_at dksX0_sortOf_0 7 rfl rfl)
theorem dX0_sortOf_8 : decode cX0_sortOf 8 = .ok (.goto 48, 3) := dk_167 0 48 (dk_at dksX0_sortOf_0 8 rfl rfl)
theorem dX0_sortOf_11 : decode cX0_sortOf 11 = .ok (.aload_n 0, 1) := dk_42 (dk_at dksX0_sortOf_0 11 rfl rfl)
theorem dX0_sortOf_12 : decode cX0_sortOf 12 = .ok (.instanceof 549, 3) := dk_193 2 37 (dk_at dksX0_sortOf_0 12 rfl rfl)
theorem dX0_sortOf_15 : decode cX0_sortOf 15 = .ok (.ifCond .eq 7, 3) := dk_153 0 7 (dk_at dksX0_sortOf_0 15 rfl rfl)
theorem dX0_sortOf_18 : decode cX0_sortOf 18 = .ok (.iconst 1, 1) := dk_4 (dk_at dksX0_sortOf_0 18 rfl rfl)
theorem dX0_sortOf_19 : decode cX0_sortOf 19 = .ok (.goto 37, 3) := dk_167 0 37 (dk_at dksX0_sortOf_0 19 rfl rfl)
theorem dX0_sortOf_22 : decode cX0_sortOf 22 = .ok (.aload_n 0, 1) := dk_42 (dk_at dksX0_sortOf_0 22 rfl rfl)
theorem dX0_sortOf_23 : decode cX0_sortOf 23 = .ok (.instanceof 551, 3) := dk_193 2 39 (dk_at dksX0_sortOf_1 0 rfl rfl)
theorem dX0_sortOf_26 : decode cX0_sortOf 26 = .ok (.ifCond .eq 7, 3) := dk_153 0 7 (dk_at dksX0_sortOf_1 3 rfl rfl)
theorem dX0_sortOf_29 : decode cX0_sortOf 29 = .ok (.iconst 2, 1) := dk_5 (dk_at dksX0_sortOf_1 6 rfl rfl)
theorem dX0_sortOf_30 : decode cX0_sortOf 30 = .ok (.goto 26, 3) := dk_167 0 26 (dk_at dksX0_sortOf_1 7 rfl rfl)
theorem dX0_sortOf_33 : decode cX0_sortOf 33 = .ok (.aload_n 0, 1) := dk_42 (dk_at dksX0_sortOf_1 10 rfl rfl)
theorem dX0_sortOf_34 : decode cX0_sortOf 34 = .ok (.instanceof 335, 3) := dk_193 1 79 (dk_at dksX0_sortOf_1 11 rfl rfl)
theorem dX0_sortOf_37 : decode cX0_sortOf 37 = .ok (.ifCond .eq 7, 3) := dk_153 0 7 (dk_at dksX0_sortOf_1 14 rfl rfl)
theorem dX0_sortOf_40 : decode cX0_sortOf 40 = .ok (.iconst 3, 1) := dk_6 (dk_at dksX0_sortOf_1 17 rfl rfl)
theorem dX0_sortOf_41 : decode cX0_sortOf 41 = .ok (.goto 15, 3) := dk_167 0 15 (dk_at dksX0_sortOf_1 18 rfl rfl)
theorem dX0_sortOf_44 : decode cX0_sortOf 44 = .ok (.aload_n 0, 1) := dk_42 (dk_at dksX0_sortOf_1 21 rfl rfl)
theorem dX0_sortOf_45 : decode cX0_sortOf 45 = .ok (.instanceof 341, 3) := dk_193 1 85 (dk_at dksX0_sortOf_2 0 rfl rfl)
theorem dX0_sortOf_48 : decode cX0_sortOf 48 = .ok (.ifCond .eq 7, 3) := dk_153 0 7 (dk_at dksX0_sortOf_2 3 rfl rfl)
theorem dX0_sortOf_51 : decode cX0_sortOf 51 = .ok (.iconst 4, 1) := dk_7 (dk_at dksX0_sortOf_2 6 rfl rfl)
theorem dX0_sortOf_52 : decode cX0_sortOf 52 = .ok (.goto 4, 3) := dk_167 0 4 (dk_at dksX0_sortOf_2 7 rfl rfl)
theorem dX0_sortOf_55 : decode cX0_sortOf 55 = .ok (.iconst (-1), 1) := dk_2 (dk_at dksX0_sortOf_2 10 rfl rfl)
theorem dX0_sortOf_56 : decode cX0_sortOf 56 = .ok (.ireturn, 1) := dk_172 (dk_at dksX0_sortOf_2 11 rfl rfl)
abbrev cX0_refusal : ByteArray := prog_1_method_94_code
def yX0_refusal : MethodName := ⟨RX0, "refusal", "(II)I"⟩
def dkwX0_refusal_2 : List UInt8 := [153, 0, 7, 3, 167, 0, 5, 16, 243, 172]
abbrev dktX0_refusal_2 : List UInt8 := dkwX0_refusal_2 ++ []
def dkwX0_refusal_1 : List UInt8 := [184, 2, 40, 2, 160, 0, 6, 16, 244, 172, 28, 133, 9, 45, 184, 2, 44, 4, 100, 133, 184, 0, 167]
abbrev dktX0_refusal_1 : List UInt8 := dkwX0_refusal_1 ++ dktX0_refusal_2
def dkwX0_refusal_0 : List UInt8 := [27, 184, 1, 87, 154, 0, 5, 2, 172, 42, 180, 0, 160, 27, 50, 78, 45, 199, 0, 6, 16, 245, 172, 45]
abbrev dktX0_refusal_0 : List UInt8 := dkwX0_refusal_0 ++ dktX0_refusal_1
theorem dksX0_refusal_0 : cX0_refusal.data.toList.drop 0 = dktX0_refusal_0 := by decide +kernel
theorem dksX0_refusal_1 : cX0_refusal.data.toList.drop 24 = dktX0_refusal_1 := dk_seg dksX0_refusal_0 24 rfl rfl
theorem dksX0_refusal_2 : cX0_refusal.data.toList.drop 47 = dktX0_refusal_2 := dk_seg dksX0_refusal_1 23 rfl rfl
theorem dX0_refusal_0 : decode cX0_refusal 0 = .ok (.iload_n 1, 1) := dk_27 (dk_at dksX0_refusal_0 0 rfl rfl)
theorem dX0_refusal_1 : decode cX0_refusal 1 = .ok (.invokestatic 343, 3) := dk_184 1 87 (dk_at dksX0_refusal_0 1 rfl rfl)
theorem dX0_refusal_4 : decode cX0_refusal 4 = .ok (.ifCond .ne 5, 3) := dk_154 0 5 (dk_at dksX0_refusal_0 4 rfl rfl)
theorem dX0_refusal_7 : decode cX0_refusal 7 = .ok (.iconst (-1), 1) := dk_2 (dk_at dksX0_refusal_0 7 rfl rfl)
theorem dX0_refusal_8 : decode cX0_refusal 8 = .ok (.ireturn, 1) := dk_172 (dk_at dksX0_refusal_0 8 rfl rfl)
theorem dX0_refusal_9 : decode cX0_refusal 9 = .ok (.aload_n 0, 1) := dk_42 (dk_at dksX0_refusal_0 9 rfl rfl)
theorem dX0_refusal_10 : decode cX0_refusal 10 = .ok (.getfield 160, 3) := dk_180 0 160 (dk_at dksX0_refusal_0 10 rfl rfl)
theorem dX0_refusal_13 : decode cX0_refusal 13 = .ok (.iload_n 1, 1) := dk_27 (dk_at dksX0_refusal_0 13 rfl rfl)
theorem dX0_refusal_14 : decode cX0_refusal 14 = .ok (.aaload, 1) := dk_50 (dk_at dksX0_refusal_0 14 rfl rfl)
theorem dX0_refusal_15 : decode cX0_refusal 15 = .ok (.astore_n 3, 1) := dk_78 (dk_at dksX0_refusal_0 15 rfl rfl)
theorem dX0_refusal_16 : decode cX0_refusal 16 = .ok (.aload_n 3, 1) := dk_45 (dk_at dksX0_refusal_0 16 rfl rfl)
theorem dX0_refusal_17 : decode cX0_refusal 17 = .ok (.ifnonnull 6, 3) := dk_199 0 6 (dk_at dksX0_refusal_0 17 rfl rfl)
theorem dX0_refusal_20 : decode cX0_refusal 20 = .ok (.bipush (-11), 2) := dk_16 245 (dk_at dksX0_refusal_0 20 rfl rfl)
theorem dX0_refusal_22 : decode cX0_refusal 22 = .ok (.ireturn, 1) := dk_172 (dk_at dksX0_refusal_0 22 rfl rfl)
theorem dX0_refusal_23 : decode cX0_refusal 23 = .ok (.aload_n 3, 1) := dk_45 (dk_at dksX0_refusal_0 23 rfl rfl)
theorem dX0_refusal_24 : decode cX0_refusal 24 = .ok (.invokestatic 552, 3) := dk_184 2 40 (dk_at dksX0_refusal_1 0 rfl rfl)
theorem dX0_refusal_27 : decode cX0_refusal 27 = .ok (.iconst (-1), 1) := dk_2 (dk_at dksX0_refusal_1 3 rfl rfl)
theorem dX0_refusal_28 : decode cX0_refusal 28 = .ok (.if_icmp .ne 6, 3) := dk_160 0 6 (dk_at dksX0_refusal_1 4 rfl rfl)
theorem dX0_refusal_31 : decode cX0_refusal 31 = .ok (.bipush (-12), 2) := dk_16 244 (dk_at dksX0_refusal_1 7 rfl rfl)
theorem dX0_refusal_33 : decode cX0_refusal 33 = .ok (.ireturn, 1) := dk_172 (dk_at dksX0_refusal_1 9 rfl rfl)
theorem dX0_refusal_34 : decode cX0_refusal 34 = .ok (.iload_n 2, 1) := dk_28 (dk_at dksX0_refusal_1 10 rfl rfl)
theorem dX0_refusal_35 : decode cX0_refusal 35 = .ok (.i2l, 1) := dk_133 (dk_at dksX0_refusal_1 11 rfl rfl)
theorem dX0_refusal_36 : decode cX0_refusal 36 = .ok (.lconst 0, 1) := dk_9 (dk_at dksX0_refusal_1 12 rfl rfl)
theorem dX0_refusal_37 : decode cX0_refusal 37 = .ok (.aload_n 3, 1) := dk_45 (dk_at dksX0_refusal_1 13 rfl rfl)
theorem dX0_refusal_38 : decode cX0_refusal 38 = .ok (.invokestatic 556, 3) := dk_184 2 44 (dk_at dksX0_refusal_1 14 rfl rfl)
theorem dX0_refusal_41 : decode cX0_refusal 41 = .ok (.iconst 1, 1) := dk_4 (dk_at dksX0_refusal_1 17 rfl rfl)
theorem dX0_refusal_42 : decode cX0_refusal 42 = .ok (.isub, 1) := dk_100 (dk_at dksX0_refusal_1 18 rfl rfl)
theorem dX0_refusal_43 : decode cX0_refusal 43 = .ok (.i2l, 1) := dk_133 (dk_at dksX0_refusal_1 19 rfl rfl)
theorem dX0_refusal_44 : decode cX0_refusal 44 = .ok (.invokestatic 167, 3) := dk_184 0 167 (dk_at dksX0_refusal_1 20 rfl rfl)
theorem dX0_refusal_47 : decode cX0_refusal 47 = .ok (.ifCond .eq 7, 3) := dk_153 0 7 (dk_at dksX0_refusal_2 0 rfl rfl)
theorem dX0_refusal_50 : decode cX0_refusal 50 = .ok (.iconst 0, 1) := dk_3 (dk_at dksX0_refusal_2 3 rfl rfl)
theorem dX0_refusal_51 : decode cX0_refusal 51 = .ok (.goto 5, 3) := dk_167 0 5 (dk_at dksX0_refusal_2 4 rfl rfl)
theorem dX0_refusal_54 : decode cX0_refusal 54 = .ok (.bipush (-13), 2) := dk_16 243 (dk_at dksX0_refusal_2 7 rfl rfl)
theorem dX0_refusal_56 : decode cX0_refusal 56 = .ok (.ireturn, 1) := dk_172 (dk_at dksX0_refusal_2 9 rfl rfl)
abbrev cX0_sizeOf : ByteArray := prog_1_method_93_code
def yX0_sizeOf : MethodName := ⟨RX0, "sizeOf", "(Ljava/lang/Object;)I"⟩
def dkwX0_sizeOf_3 : List UInt8 := [42, 192, 1, 85, 190, 172]
abbrev dktX0_sizeOf_3 : List UInt8 := dkwX0_sizeOf_3 ++ []
def dkwX0_sizeOf_2 : List UInt8 := [42, 192, 2, 35, 190, 172, 42, 192, 2, 37, 190, 172, 42, 192, 2, 39, 190, 172, 42, 192, 1, 79, 190, 172]
abbrev dktX0_sizeOf_2 : List UInt8 := dkwX0_sizeOf_2 ++ dktX0_sizeOf_3
def dkwX0_sizeOf_1 : List UInt8 := [170, 0, 0, 0, 0, 0, 0, 56, 0, 0, 0, 0, 0, 0, 0, 3, 0, 0, 0, 32, 0, 0, 0, 38, 0, 0, 0, 44, 0, 0, 0, 50]
abbrev dktX0_sizeOf_1 : List UInt8 := dkwX0_sizeOf_1 ++ dktX0_sizeOf_2
def dkwX0_sizeOf_0 : List UInt8 := [42, 184, 2, 40]
abbrev dktX0_sizeOf_0 : List UInt8 := dkwX0_sizeOf_0 ++ dktX0_sizeOf_1
theorem dksX0_sizeOf_0 : cX0_sizeOf.data.toList.drop 0 = dktX0_sizeOf_0 := by decide +kernel
theorem dksX0_sizeOf_1 : cX0_sizeOf.data.toList.drop 4 = dktX0_sizeOf_1 := dk_seg dksX0_sizeOf_0 4 rfl rfl
theorem dksX0_sizeOf_2 : cX0_sizeOf.data.toList.drop 36 = dktX0_sizeOf_2 := dk_seg dksX0_sizeOf_1 32 rfl rfl
theorem dksX0_sizeOf_3 : cX0_sizeOf.data.toList.drop 60 = dktX0_sizeOf_3 := dk_seg dksX0_sizeOf_2 24 rfl rfl
theorem dX0_sizeOf_0 : decode cX0_sizeOf 0 = .ok (.aload_n 0, 1) := dk_42 (dk_at dksX0_sizeOf_0 0 rfl rfl)
theorem dX0_sizeOf_1 : decode cX0_sizeOf 1 = .ok (.invokestatic 552, 3) := dk_184 2 40 (dk_at dksX0_sizeOf_0 1 rfl rfl)
theorem dX0_sizeOf_4 : decode cX0_sizeOf 4 = .ok (.tableswitch 56 0 3 #[32, 38, 44, 50], 32) := by decide +kernel
theorem dX0_sizeOf_36 : decode cX0_sizeOf 36 = .ok (.aload_n 0, 1) := dk_42 (dk_at dksX0_sizeOf_2 0 rfl rfl)
theorem dX0_sizeOf_37 : decode cX0_sizeOf 37 = .ok (.checkcast 547, 3) := dk_192 2 35 (dk_at dksX0_sizeOf_2 1 rfl rfl)
theorem dX0_sizeOf_40 : decode cX0_sizeOf 40 = .ok (.arraylength, 1) := dk_190 (dk_at dksX0_sizeOf_2 4 rfl rfl)
theorem dX0_sizeOf_41 : decode cX0_sizeOf 41 = .ok (.ireturn, 1) := dk_172 (dk_at dksX0_sizeOf_2 5 rfl rfl)
theorem dX0_sizeOf_42 : decode cX0_sizeOf 42 = .ok (.aload_n 0, 1) := dk_42 (dk_at dksX0_sizeOf_2 6 rfl rfl)
theorem dX0_sizeOf_43 : decode cX0_sizeOf 43 = .ok (.checkcast 549, 3) := dk_192 2 37 (dk_at dksX0_sizeOf_2 7 rfl rfl)
theorem dX0_sizeOf_46 : decode cX0_sizeOf 46 = .ok (.arraylength, 1) := dk_190 (dk_at dksX0_sizeOf_2 10 rfl rfl)
theorem dX0_sizeOf_47 : decode cX0_sizeOf 47 = .ok (.ireturn, 1) := dk_172 (dk_at dksX0_sizeOf_2 11 rfl rfl)
theorem dX0_sizeOf_48 : decode cX0_sizeOf 48 = .ok (.aload_n 0, 1) := dk_42 (dk_at dksX0_sizeOf_2 12 rfl rfl)
theorem dX0_sizeOf_49 : decode cX0_sizeOf 49 = .ok (.checkcast 551, 3) := dk_192 2 39 (dk_at dksX0_sizeOf_2 13 rfl rfl)
theorem dX0_sizeOf_52 : decode cX0_sizeOf 52 = .ok (.arraylength, 1) := dk_190 (dk_at dksX0_sizeOf_2 16 rfl rfl)
theorem dX0_sizeOf_53 : decode cX0_sizeOf 53 = .ok (.ireturn, 1) := dk_172 (dk_at dksX0_sizeOf_2 17 rfl rfl)
theorem dX0_sizeOf_54 : decode cX0_sizeOf 54 = .ok (.aload_n 0, 1) := dk_42 (dk_at dksX0_sizeOf_2 18 rfl rfl)
theorem dX0_sizeOf_55 : decode cX0_sizeOf 55 = .ok (.checkcast 335, 3) := dk_192 1 79 (dk_at dksX0_sizeOf_2 19 rfl rfl)
theorem dX0_sizeOf_58 : decode cX0_sizeOf 58 = .ok (.arraylength, 1) := dk_190 (dk_at dksX0_sizeOf_2 22 rfl rfl)
theorem dX0_sizeOf_59 : decode cX0_sizeOf 59 = .ok (.ireturn, 1) := dk_172 (dk_at dksX0_sizeOf_2 23 rfl rfl)
theorem dX0_sizeOf_60 : decode cX0_sizeOf 60 = .ok (.aload_n 0, 1) := dk_42 (dk_at dksX0_sizeOf_3 0 rfl rfl)
theorem dX0_sizeOf_61 : decode cX0_sizeOf 61 = .ok (.checkcast 341, 3) := dk_192 1 85 (dk_at dksX0_sizeOf_3 1 rfl rfl)
theorem dX0_sizeOf_64 : decode cX0_sizeOf 64 = .ok (.arraylength, 1) := dk_190 (dk_at dksX0_sizeOf_3 4 rfl rfl)
theorem dX0_sizeOf_65 : decode cX0_sizeOf 65 = .ok (.ireturn, 1) := dk_172 (dk_at dksX0_sizeOf_3 5 rfl rfl)
abbrev cX0_blank : ByteArray := prog_1_method_97_code
def yX0_blank : MethodName := ⟨RX0, "blank", "(II)I"⟩
def dkwX0_blank_3 : List UInt8 := [25, 4, 192, 1, 85, 28, 20, 1, 77, 82, 4, 172]
abbrev dktX0_blank_3 : List UInt8 := dkwX0_blank_3 ++ []
def dkwX0_blank_2 : List UInt8 := [50, 58, 4, 25, 4, 193, 1, 79, 153, 0, 16, 25, 4, 192, 1, 79, 28, 19, 2, 57, 81, 167, 0, 13]
abbrev dktX0_blank_2 : List UInt8 := dkwX0_blank_2 ++ dktX0_blank_3
def dkwX0_blank_1 : List UInt8 := [29, 172, 42, 27, 182, 2, 47, 154, 0, 6, 16, 244, 172, 29, 153, 0, 5, 29, 172, 42, 180, 0, 160, 27]
abbrev dktX0_blank_1 : List UInt8 := dkwX0_blank_1 ++ dktX0_blank_2
def dkwX0_blank_0 : List UInt8 := [42, 27, 28, 182, 2, 52, 62, 29, 2, 159, 0, 15, 29, 16, 245, 159, 0, 9, 29, 16, 244, 160, 0, 5]
abbrev dktX0_blank_0 : List UInt8 := dkwX0_blank_0 ++ dktX0_blank_1
theorem dksX0_blank_0 : cX0_blank.data.toList.drop 0 = dktX0_blank_0 := by decide +kernel
theorem dksX0_blank_1 : cX0_blank.data.toList.drop 24 = dktX0_blank_1 := dk_seg dksX0_blank_0 24 rfl rfl
theorem dksX0_blank_2 : cX0_blank.data.toList.drop 48 = dktX0_blank_2 := dk_seg dksX0_blank_1 24 rfl rfl
theorem dksX0_blank_3 : cX0_blank.data.toList.drop 72 = dktX0_blank_3 := dk_seg dksX0_blank_2 24 rfl rfl
theorem dX0_blank_0 : decode cX0_blank 0 = .ok (.aload_n 0, 1) := dk_42 (dk_at dksX0_blank_0 0 rfl rfl)
theorem dX0_blank_1 : decode cX0_blank 1 = .ok (.iload_n 1, 1) := dk_27 (dk_at dksX0_blank_0 1 rfl rfl)
theorem dX0_blank_2 : decode cX0_blank 2 = .ok (.iload_n 2, 1) := dk_28 (dk_at dksX0_blank_0 2 rfl rfl)
theorem dX0_blank_3 : decode cX0_blank 3 = .ok (.invokevirtual 564, 3) := dk_182 2 52 (dk_at dksX0_blank_0 3 rfl rfl)
theorem dX0_blank_6 : decode cX0_blank 6 = .ok (.istore_n 3, 1) := dk_62 (dk_at dksX0_blank_0 6 rfl rfl)
theorem dX0_blank_7 : decode cX0_blank 7 = .ok (.iload_n 3, 1) := dk_29 (dk_at dksX0_blank_0 7 rfl rfl)
theorem dX0_blank_8 : decode cX0_blank 8 = .ok (.iconst (-1), 1) := dk_2 (dk_at dksX0_blank_0 8 rfl rfl)
theorem dX0_blank_9 : decode cX0_blank 9 = .ok (.if_icmp .eq 15, 3) := dk_159 0 15 (dk_at dksX0_blank_0 9 rfl rfl)
theorem dX0_blank_12 : decode cX0_blank 12 = .ok (.iload_n 3, 1) := dk_29 (dk_at dksX0_blank_0 12 rfl rfl)
theorem dX0_blank_13 : decode cX0_blank 13 = .ok (.bipush (-11), 2) := dk_16 245 (dk_at dksX0_blank_0 13 rfl rfl)
theorem dX0_blank_15 : decode cX0_blank 15 = .ok (.if_icmp .eq 9, 3) := dk_159 0 9 (dk_at dksX0_blank_0 15 rfl rfl)
theorem dX0_blank_18 : decode cX0_blank 18 = .ok (.iload_n 3, 1) := dk_29 (dk_at dksX0_blank_0 18 rfl rfl)
theorem dX0_blank_19 : decode cX0_blank 19 = .ok (.bipush (-12), 2) := dk_16 244 (dk_at dksX0_blank_0 19 rfl rfl)
theorem dX0_blank_21 : decode cX0_blank 21 = .ok (.if_icmp .ne 5, 3) := dk_160 0 5 (dk_at dksX0_blank_0 21 rfl rfl)
theorem dX0_blank_24 : decode cX0_blank 24 = .ok (.iload_n 3, 1) := dk_29 (dk_at dksX0_blank_1 0 rfl rfl)
theorem dX0_blank_25 : decode cX0_blank 25 = .ok (.ireturn, 1) := dk_172 (dk_at dksX0_blank_1 1 rfl rfl)
theorem dX0_blank_26 : decode cX0_blank 26 = .ok (.aload_n 0, 1) := dk_42 (dk_at dksX0_blank_1 2 rfl rfl)
theorem dX0_blank_27 : decode cX0_blank 27 = .ok (.iload_n 1, 1) := dk_27 (dk_at dksX0_blank_1 3 rfl rfl)
theorem dX0_blank_28 : decode cX0_blank 28 = .ok (.invokevirtual 559, 3) := dk_182 2 47 (dk_at dksX0_blank_1 4 rfl rfl)
theorem dX0_blank_31 : decode cX0_blank 31 = .ok (.ifCond .ne 6, 3) := dk_154 0 6 (dk_at dksX0_blank_1 7 rfl rfl)
theorem dX0_blank_34 : decode cX0_blank 34 = .ok (.bipush (-12), 2) := dk_16 244 (dk_at dksX0_blank_1 10 rfl rfl)
theorem dX0_blank_36 : decode cX0_blank 36 = .ok (.ireturn, 1) := dk_172 (dk_at dksX0_blank_1 12 rfl rfl)
theorem dX0_blank_37 : decode cX0_blank 37 = .ok (.iload_n 3, 1) := dk_29 (dk_at dksX0_blank_1 13 rfl rfl)
theorem dX0_blank_38 : decode cX0_blank 38 = .ok (.ifCond .eq 5, 3) := dk_153 0 5 (dk_at dksX0_blank_1 14 rfl rfl)
theorem dX0_blank_41 : decode cX0_blank 41 = .ok (.iload_n 3, 1) := dk_29 (dk_at dksX0_blank_1 17 rfl rfl)
theorem dX0_blank_42 : decode cX0_blank 42 = .ok (.ireturn, 1) := dk_172 (dk_at dksX0_blank_1 18 rfl rfl)
theorem dX0_blank_43 : decode cX0_blank 43 = .ok (.aload_n 0, 1) := dk_42 (dk_at dksX0_blank_1 19 rfl rfl)
theorem dX0_blank_44 : decode cX0_blank 44 = .ok (.getfield 160, 3) := dk_180 0 160 (dk_at dksX0_blank_1 20 rfl rfl)
theorem dX0_blank_47 : decode cX0_blank 47 = .ok (.iload_n 1, 1) := dk_27 (dk_at dksX0_blank_1 23 rfl rfl)
theorem dX0_blank_48 : decode cX0_blank 48 = .ok (.aaload, 1) := dk_50 (dk_at dksX0_blank_2 0 rfl rfl)
theorem dX0_blank_49 : decode cX0_blank 49 = .ok (.astore 4, 2) := dk_58 4 (dk_at dksX0_blank_2 1 rfl rfl)
theorem dX0_blank_51 : decode cX0_blank 51 = .ok (.aload 4, 2) := dk_25 4 (dk_at dksX0_blank_2 3 rfl rfl)
theorem dX0_blank_53 : decode cX0_blank 53 = .ok (.instanceof 335, 3) := dk_193 1 79 (dk_at dksX0_blank_2 5 rfl rfl)
theorem dX0_blank_56 : decode cX0_blank 56 = .ok (.ifCond .eq 16, 3) := dk_153 0 16 (dk_at dksX0_blank_2 8 rfl rfl)
theorem dX0_blank_59 : decode cX0_blank 59 = .ok (.aload 4, 2) := dk_25 4 (dk_at dksX0_blank_2 11 rfl rfl)
theorem dX0_blank_61 : decode cX0_blank 61 = .ok (.checkcast 335, 3) := dk_192 1 79 (dk_at dksX0_blank_2 13 rfl rfl)
theorem dX0_blank_64 : decode cX0_blank 64 = .ok (.iload_n 2, 1) := dk_28 (dk_at dksX0_blank_2 16 rfl rfl)
theorem dX0_blank_65 : decode cX0_blank 65 = .ok (.ldc_w 569, 3) := dk_19 2 57 (dk_at dksX0_blank_2 17 rfl rfl)
theorem dX0_blank_68 : decode cX0_blank 68 = .ok (.fastore, 1) := dk_81 (dk_at dksX0_blank_2 20 rfl rfl)
theorem dX0_blank_69 : decode cX0_blank 69 = .ok (.goto 13, 3) := dk_167 0 13 (dk_at dksX0_blank_2 21 rfl rfl)
theorem dX0_blank_72 : decode cX0_blank 72 = .ok (.aload 4, 2) := dk_25 4 (dk_at dksX0_blank_3 0 rfl rfl)
theorem dX0_blank_74 : decode cX0_blank 74 = .ok (.checkcast 341, 3) := dk_192 1 85 (dk_at dksX0_blank_3 2 rfl rfl)
theorem dX0_blank_77 : decode cX0_blank 77 = .ok (.iload_n 2, 1) := dk_28 (dk_at dksX0_blank_3 5 rfl rfl)
theorem dX0_blank_78 : decode cX0_blank 78 = .ok (.ldc2_w 333, 3) := dk_20 1 77 (dk_at dksX0_blank_3 6 rfl rfl)
theorem dX0_blank_81 : decode cX0_blank 81 = .ok (.dastore, 1) := dk_82 (dk_at dksX0_blank_3 9 rfl rfl)
theorem dX0_blank_82 : decode cX0_blank 82 = .ok (.iconst 1, 1) := dk_4 (dk_at dksX0_blank_3 10 rfl rfl)
theorem dX0_blank_83 : decode cX0_blank 83 = .ok (.ireturn, 1) := dk_172 (dk_at dksX0_blank_3 11 rfl rfl)
abbrev cX0_element : ByteArray := prog_1_method_99_code
def yX0_element : MethodName := ⟨RX0, "element", "(II)J"⟩
def dkwX0_element_3 : List UInt8 := [45, 192, 1, 79, 28, 48, 184, 1, 81, 184, 2, 64, 173, 45, 192, 1, 85, 28, 49, 184, 2, 64, 173]
abbrev dktX0_element_3 : List UInt8 := dkwX0_element_3 ++ []
def dkwX0_element_2 : List UInt8 := [45, 192, 2, 35, 28, 51, 133, 173, 45, 192, 2, 37, 28, 52, 133, 173, 45, 192, 2, 39, 28, 46, 133, 173]
abbrev dktX0_element_2 : List UInt8 := dkwX0_element_2 ++ dktX0_element_3
def dkwX0_element_1 : List UInt8 := [170, 0, 0, 0, 0, 0, 0, 69, 0, 0, 0, 0, 0, 0, 0, 3, 0, 0, 0, 32, 0, 0, 0, 40, 0, 0, 0, 48, 0, 0, 0, 56]
abbrev dktX0_element_1 : List UInt8 := dkwX0_element_1 ++ dktX0_element_2
def dkwX0_element_0 : List UInt8 := [42, 27, 28, 182, 2, 52, 153, 0, 7, 20, 2, 62, 173, 42, 180, 0, 160, 27, 50, 78, 45, 184, 2, 40]
abbrev dktX0_element_0 : List UInt8 := dkwX0_element_0 ++ dktX0_element_1
theorem dksX0_element_0 : cX0_element.data.toList.drop 0 = dktX0_element_0 := by decide +kernel
theorem dksX0_element_1 : cX0_element.data.toList.drop 24 = dktX0_element_1 := dk_seg dksX0_element_0 24 rfl rfl
theorem dksX0_element_2 : cX0_element.data.toList.drop 56 = dktX0_element_2 := dk_seg dksX0_element_1 32 rfl rfl
theorem dksX0_element_3 : cX0_element.data.toList.drop 80 = dktX0_element_3 := dk_seg dksX0_element_2 24 rfl rfl
theorem dX0_element_0 : decode cX0_element 0 = .ok (.aload_n 0, 1) := dk_42 (dk_at dksX0_element_0 0 rfl rfl)
theorem dX0_element_1 : decode cX0_element 1 = .ok (.iload_n 1, 1) := dk_27 (dk_at dksX0_element_0 1 rfl rfl)
theorem dX0_element_2 : decode cX0_element 2 = .ok (.iload_n 2, 1) := dk_28 (dk_at dksX0_element_0 2 rfl rfl)
theorem dX0_element_3 : decode cX0_element 3 = .ok (.invokevirtual 564, 3) := dk_182 2 52 (dk_at dksX0_element_0 3 rfl rfl)
theorem dX0_element_6 : decode cX0_element 6 = .ok (.ifCond .eq 7, 3) := dk_153 0 7 (dk_at dksX0_element_0 6 rfl rfl)
theorem dX0_element_9 : decode cX0_element 9 = .ok (.ldc2_w 574, 3) := dk_20 2 62 (dk_at dksX0_element_0 9 rfl rfl)
theorem dX0_element_12 : decode cX0_element 12 = .ok (.lreturn, 1) := dk_173 (dk_at dksX0_element_0 12 rfl rfl)
theorem dX0_element_13 : decode cX0_element 13 = .ok (.aload_n 0, 1) := dk_42 (dk_at dksX0_element_0 13 rfl rfl)
theorem dX0_element_14 : decode cX0_element 14 = .ok (.getfield 160, 3) := dk_180 0 160 (dk_at dksX0_element_0 14 rfl rfl)
theorem dX0_element_17 : decode cX0_element 17 = .ok (.iload_n 1, 1) := dk_27 (dk_at dksX0_element_0 17 rfl rfl)
theorem dX0_element_18 : decode cX0_element 18 = .ok (.aaload, 1) := dk_50 (dk_at dksX0_element_0 18 rfl rfl)
theorem dX0_element_19 : decode cX0_element 19 = .ok (.astore_n 3, 1) := dk_78 (dk_at dksX0_element_0 19 rfl rfl)
theorem dX0_element_20 : decode cX0_element 20 = .ok (.aload_n 3, 1) := dk_45 (dk_at dksX0_element_0 20 rfl rfl)
theorem dX0_element_21 : decode cX0_element 21 = .ok (.invokestatic 552, 3) := dk_184 2 40 (dk_at dksX0_element_0 21 rfl rfl)
theorem dX0_element_24 : decode cX0_element 24 = .ok (.tableswitch 69 0 3 #[32, 40, 48, 56], 32) := by decide +kernel
theorem dX0_element_56 : decode cX0_element 56 = .ok (.aload_n 3, 1) := dk_45 (dk_at dksX0_element_2 0 rfl rfl)
theorem dX0_element_57 : decode cX0_element 57 = .ok (.checkcast 547, 3) := dk_192 2 35 (dk_at dksX0_element_2 1 rfl rfl)
theorem dX0_element_60 : decode cX0_element 60 = .ok (.iload_n 2, 1) := dk_28 (dk_at dksX0_element_2 4 rfl rfl)
theorem dX0_element_61 : decode cX0_element 61 = .ok (.baload, 1) := dk_51 (dk_at dksX0_element_2 5 rfl rfl)
theorem dX0_element_62 : decode cX0_element 62 = .ok (.i2l, 1) := dk_133 (dk_at dksX0_element_2 6 rfl rfl)
theorem dX0_element_63 : decode cX0_element 63 = .ok (.lreturn, 1) := dk_173 (dk_at dksX0_element_2 7 rfl rfl)
theorem dX0_element_64 : decode cX0_element 64 = .ok (.aload_n 3, 1) := dk_45 (dk_at dksX0_element_2 8 rfl rfl)
theorem dX0_element_65 : decode cX0_element 65 = .ok (.checkcast 549, 3) := dk_192 2 37 (dk_at dksX0_element_2 9 rfl rfl)
theorem dX0_element_68 : decode cX0_element 68 = .ok (.iload_n 2, 1) := dk_28 (dk_at dksX0_element_2 12 rfl rfl)
theorem dX0_element_69 : decode cX0_element 69 = .ok (.caload, 1) := dk_52 (dk_at dksX0_element_2 13 rfl rfl)
theorem dX0_element_70 : decode cX0_element 70 = .ok (.i2l, 1) := dk_133 (dk_at dksX0_element_2 14 rfl rfl)
theorem dX0_element_71 : decode cX0_element 71 = .ok (.lreturn, 1) := dk_173 (dk_at dksX0_element_2 15 rfl rfl)
theorem dX0_element_72 : decode cX0_element 72 = .ok (.aload_n 3, 1) := dk_45 (dk_at dksX0_element_2 16 rfl rfl)
theorem dX0_element_73 : decode cX0_element 73 = .ok (.checkcast 551, 3) := dk_192 2 39 (dk_at dksX0_element_2 17 rfl rfl)
theorem dX0_element_76 : decode cX0_element 76 = .ok (.iload_n 2, 1) := dk_28 (dk_at dksX0_element_2 20 rfl rfl)
theorem dX0_element_77 : decode cX0_element 77 = .ok (.iaload, 1) := dk_46 (dk_at dksX0_element_2 21 rfl rfl)
theorem dX0_element_78 : decode cX0_element 78 = .ok (.i2l, 1) := dk_133 (dk_at dksX0_element_2 22 rfl rfl)
theorem dX0_element_79 : decode cX0_element 79 = .ok (.lreturn, 1) := dk_173 (dk_at dksX0_element_2 23 rfl rfl)
theorem dX0_element_80 : decode cX0_element 80 = .ok (.aload_n 3, 1) := dk_45 (dk_at dksX0_element_3 0 rfl rfl)
theorem dX0_element_81 : decode cX0_element 81 = .ok (.checkcast 335, 3) := dk_192 1 79 (dk_at dksX0_element_3 1 rfl rfl)
theorem dX0_element_84 : decode cX0_element 84 = .ok (.iload_n 2, 1) := dk_28 (dk_at dksX0_element_3 4 rfl rfl)
theorem dX0_element_85 : decode cX0_element 85 = .ok (.faload, 1) := dk_48 (dk_at dksX0_element_3 5 rfl rfl)
theorem dX0_element_86 : decode cX0_element 86 = .ok (.invokestatic 337, 3) := dk_184 1 81 (dk_at dksX0_element_3 6 rfl rfl)
theorem dX0_element_89 : decode cX0_element 89 = .ok (.invokestatic 576, 3) := dk_184 2 64 (dk_at dksX0_element_3 9 rfl rfl)
theorem dX0_element_92 : decode cX0_element 92 = .ok (.lreturn, 1) := dk_173 (dk_at dksX0_element_3 12 rfl rfl)
theorem dX0_element_93 : decode cX0_element 93 = .ok (.aload_n 3, 1) := dk_45 (dk_at dksX0_element_3 13 rfl rfl)
theorem dX0_element_94 : decode cX0_element 94 = .ok (.checkcast 341, 3) := dk_192 1 85 (dk_at dksX0_element_3 14 rfl rfl)
theorem dX0_element_97 : decode cX0_element 97 = .ok (.iload_n 2, 1) := dk_28 (dk_at dksX0_element_3 17 rfl rfl)
theorem dX0_element_98 : decode cX0_element 98 = .ok (.daload, 1) := dk_49 (dk_at dksX0_element_3 18 rfl rfl)
theorem dX0_element_99 : decode cX0_element 99 = .ok (.invokestatic 576, 3) := dk_184 2 64 (dk_at dksX0_element_3 19 rfl rfl)
theorem dX0_element_102 : decode cX0_element 102 = .ok (.lreturn, 1) := dk_173 (dk_at dksX0_element_3 22 rfl rfl)
abbrev cX0_whole : ByteArray := prog_1_method_98_code
def yX0_whole : MethodName := ⟨RX0, "whole", "(D)J"⟩
def dkwX0_whole_0 : List UInt8 := [38, 38, 151, 153, 0, 9, 20, 2, 60, 167, 0, 5, 38, 143, 173]
abbrev dktX0_whole_0 : List UInt8 := dkwX0_whole_0 ++ []
theorem dksX0_whole_0 : cX0_whole.data.toList.drop 0 = dktX0_whole_0 := by decide +kernel
theorem dX0_whole_0 : decode cX0_whole 0 = .ok (.dload_n 0, 1) := dk_38 (dk_at dksX0_whole_0 0 rfl rfl)
theorem dX0_whole_1 : decode cX0_whole 1 = .ok (.dload_n 0, 1) := dk_38 (dk_at dksX0_whole_0 1 rfl rfl)
theorem dX0_whole_2 : decode cX0_whole 2 = .ok (.dcmp .l, 1) := dk_151 (dk_at dksX0_whole_0 2 rfl rfl)
theorem dX0_whole_3 : decode cX0_whole 3 = .ok (.ifCond .eq 9, 3) := dk_153 0 9 (dk_at dksX0_whole_0 3 rfl rfl)
theorem dX0_whole_6 : decode cX0_whole 6 = .ok (.ldc2_w 572, 3) := dk_20 2 60 (dk_at dksX0_whole_0 6 rfl rfl)
theorem dX0_whole_9 : decode cX0_whole 9 = .ok (.goto 5, 3) := dk_167 0 5 (dk_at dksX0_whole_0 9 rfl rfl)
theorem dX0_whole_12 : decode cX0_whole 12 = .ok (.dload_n 0, 1) := dk_38 (dk_at dksX0_whole_0 12 rfl rfl)
theorem dX0_whole_13 : decode cX0_whole 13 = .ok (.d2l, 1) := dk_143 (dk_at dksX0_whole_0 13 rfl rfl)
theorem dX0_whole_14 : decode cX0_whole 14 = .ok (.lreturn, 1) := dk_173 (dk_at dksX0_whole_0 14 rfl rfl)
abbrev cX0_shift : ByteArray := prog_1_method_100_code
def yX0_shift : MethodName := ⟨RX0, "shift", "(IIIII)I"⟩
def dkwX0_shift_5 : List UInt8 := [21, 4, 21, 5, 184, 2, 68, 21, 5, 172]
abbrev dktX0_shift_5 : List UInt8 := dkwX0_shift_5 ++ []
def dkwX0_shift_4 : List UInt8 := [163, 0, 16, 21, 4, 25, 7, 184, 2, 44, 21, 5, 100, 164, 0, 6, 16, 243, 172, 25, 6, 28, 25, 7]
abbrev dktX0_shift_4 : List UInt8 := dkwX0_shift_4 ++ dktX0_shift_5
def dkwX0_shift_3 : List UInt8 := [21, 5, 155, 0, 37, 28, 155, 0, 33, 21, 4, 155, 0, 28, 28, 25, 6, 184, 2, 44, 21, 5, 100]
abbrev dktX0_shift_3 : List UInt8 := dkwX0_shift_3 ++ dktX0_shift_4
def dkwX0_shift_2 : List UInt8 := [184, 2, 40, 2, 159, 0, 16, 25, 6, 184, 2, 40, 25, 7, 184, 2, 40, 159, 0, 6, 16, 244, 172]
abbrev dktX0_shift_2 : List UInt8 := dkwX0_shift_2 ++ dktX0_shift_3
def dkwX0_shift_1 : List UInt8 := [42, 180, 0, 160, 29, 50, 58, 7, 25, 6, 198, 0, 8, 25, 7, 199, 0, 6, 16, 245, 172, 25, 6]
abbrev dktX0_shift_1 : List UInt8 := dkwX0_shift_1 ++ dktX0_shift_2
def dkwX0_shift_0 : List UInt8 := [27, 184, 1, 87, 153, 0, 10, 29, 184, 1, 87, 154, 0, 5, 2, 172, 42, 180, 0, 160, 27, 50, 58, 6]
abbrev dktX0_shift_0 : List UInt8 := dkwX0_shift_0 ++ dktX0_shift_1
theorem dksX0_shift_0 : cX0_shift.data.toList.drop 0 = dktX0_shift_0 := by decide +kernel
theorem dksX0_shift_1 : cX0_shift.data.toList.drop 24 = dktX0_shift_1 := dk_seg dksX0_shift_0 24 rfl rfl
theorem dksX0_shift_2 : cX0_shift.data.toList.drop 47 = dktX0_shift_2 := dk_seg dksX0_shift_1 23 rfl rfl
theorem dksX0_shift_3 : cX0_shift.data.toList.drop 70 = dktX0_shift_3 := dk_seg dksX0_shift_2 23 rfl rfl
theorem dksX0_shift_4 : cX0_shift.data.toList.drop 93 = dktX0_shift_4 := dk_seg dksX0_shift_3 23 rfl rfl
theorem dksX0_shift_5 : cX0_shift.data.toList.drop 117 = dktX0_shift_5 := dk_seg dksX0_shift_4 24 rfl rfl
theorem dX0_shift_0 : decode cX0_shift 0 = .ok (.iload_n 1, 1) := dk_27 (dk_at dksX0_shift_0 0 rfl rfl)
theorem dX0_shift_1 : decode cX0_shift 1 = .ok (.invokestatic 343, 3) := dk_184 1 87 (dk_at dksX0_shift_0 1 rfl rfl)
theorem dX0_shift_4 : decode cX0_shift 4 = .ok (.ifCond .eq 10, 3) := dk_153 0 10 (dk_at dksX0_shift_0 4 rfl rfl)
theorem dX0_shift_7 : decode cX0_shift 7 = .ok (.iload_n 3, 1) := dk_29 (dk_at dksX0_shift_0 7 rfl rfl)
theorem dX0_shift_8 : decode cX0_shift 8 = .ok (.invokestatic 343, 3) := dk_184 1 87 (dk_at dksX0_shift_0 8 rfl rfl)
theorem dX0_shift_11 : decode cX0_shift 11 = .ok (.ifCond .ne 5, 3) := dk_154 0 5 (dk_at dksX0_shift_0 11 rfl rfl)
theorem dX0_shift_14 : decode cX0_shift 14 = .ok (.iconst (-1), 1) := dk_2 (dk_at dksX0_shift_0 14 rfl rfl)
theorem dX0_shift_15 : decode cX0_shift 15 = .ok (.ireturn, 1) := dk_172 (dk_at dksX0_shift_0 15 rfl rfl)
theorem dX0_shift_16 : decode cX0_shift 16 = .ok (.aload_n 0, 1) := dk_42 (dk_at dksX0_shift_0 16 rfl rfl)
theorem dX0_shift_17 : decode cX0_shift 17 = .ok (.getfield 160, 3) := dk_180 0 160 (dk_at dksX0_shift_0 17 rfl rfl)
theorem dX0_shift_20 : decode cX0_shift 20 = .ok (.iload_n 1, 1) := dk_27 (dk_at dksX0_shift_0 20 rfl rfl)
theorem dX0_shift_21 : decode cX0_shift 21 = .ok (.aaload, 1) := dk_50 (dk_at dksX0_shift_0 21 rfl rfl)
theorem dX0_shift_22 : decode cX0_shift 22 = .ok (.astore 6, 2) := dk_58 6 (dk_at dksX0_shift_0 22 rfl rfl)
theorem dX0_shift_24 : decode cX0_shift 24 = .ok (.aload_n 0, 1) := dk_42 (dk_at dksX0_shift_1 0 rfl rfl)
theorem dX0_shift_25 : decode cX0_shift 25 = .ok (.getfield 160, 3) := dk_180 0 160 (dk_at dksX0_shift_1 1 rfl rfl)
theorem dX0_shift_28 : decode cX0_shift 28 = .ok (.iload_n 3, 1) := dk_29 (dk_at dksX0_shift_1 4 rfl rfl)
theorem dX0_shift_29 : decode cX0_shift 29 = .ok (.aaload, 1) := dk_50 (dk_at dksX0_shift_1 5 rfl rfl)
theorem dX0_shift_30 : decode cX0_shift 30 = .ok (.astore 7, 2) := dk_58 7 (dk_at dksX0_shift_1 6 rfl rfl)
theorem dX0_shift_32 : decode cX0_shift 32 = .ok (.aload 6, 2) := dk_25 6 (dk_at dksX0_shift_1 8 rfl rfl)
theorem dX0_shift_34 : decode cX0_shift 34 = .ok (.ifnull 8, 3) := dk_198 0 8 (dk_at dksX0_shift_1 10 rfl rfl)
theorem dX0_shift_37 : decode cX0_shift 37 = .ok (.aload 7, 2) := dk_25 7 (dk_at dksX0_shift_1 13 rfl rfl)
theorem dX0_shift_39 : decode cX0_shift 39 = .ok (.ifnonnull 6, 3) := dk_199 0 6 (dk_at dksX0_shift_1 15 rfl rfl)
theorem dX0_shift_42 : decode cX0_shift 42 = .ok (.bipush (-11), 2) := dk_16 245 (dk_at dksX0_shift_1 18 rfl rfl)
theorem dX0_shift_44 : decode cX0_shift 44 = .ok (.ireturn, 1) := dk_172 (dk_at dksX0_shift_1 20 rfl rfl)
theorem dX0_shift_45 : decode cX0_shift 45 = .ok (.aload 6, 2) := dk_25 6 (dk_at dksX0_shift_1 21 rfl rfl)
theorem dX0_shift_47 : decode cX0_shift 47 = .ok (.invokestatic 552, 3) := dk_184 2 40 (dk_at dksX0_shift_2 0 rfl rfl)
theorem dX0_shift_50 : decode cX0_shift 50 = .ok (.iconst (-1), 1) := dk_2 (dk_at dksX0_shift_2 3 rfl rfl)
theorem dX0_shift_51 : decode cX0_shift 51 = .ok (.if_icmp .eq 16, 3) := dk_159 0 16 (dk_at dksX0_shift_2 4 rfl rfl)
theorem dX0_shift_54 : decode cX0_shift 54 = .ok (.aload 6, 2) := dk_25 6 (dk_at dksX0_shift_2 7 rfl rfl)
theorem dX0_shift_56 : decode cX0_shift 56 = .ok (.invokestatic 552, 3) := dk_184 2 40 (dk_at dksX0_shift_2 9 rfl rfl)
theorem dX0_shift_59 : decode cX0_shift 59 = .ok (.aload 7, 2) := dk_25 7 (dk_at dksX0_shift_2 12 rfl rfl)
theorem dX0_shift_61 : decode cX0_shift 61 = .ok (.invokestatic 552, 3) := dk_184 2 40 (dk_at dksX0_shift_2 14 rfl rfl)
theorem dX0_shift_64 : decode cX0_shift 64 = .ok (.if_icmp .eq 6, 3) := dk_159 0 6 (dk_at dksX0_shift_2 17 rfl rfl)
theorem dX0_shift_67 : decode cX0_shift 67 = .ok (.bipush (-12), 2) := dk_16 244 (dk_at dksX0_shift_2 20 rfl rfl)
theorem dX0_shift_69 : decode cX0_shift 69 = .ok (.ireturn, 1) := dk_172 (dk_at dksX0_shift_2 22 rfl rfl)
theorem dX0_shift_70 : decode cX0_shift 70 = .ok (.iload 5, 2) := dk_21 5 (dk_at dksX0_shift_3 0 rfl rfl)
theorem dX0_shift_72 : decode cX0_shift 72 = .ok (.ifCond .lt 37, 3) := dk_155 0 37 (dk_at dksX0_shift_3 2 rfl rfl)
theorem dX0_shift_75 : decode cX0_shift 75 = .ok (.iload_n 2, 1) := dk_28 (dk_at dksX0_shift_3 5 rfl rfl)
theorem dX0_shift_76 : decode cX0_shift 76 = .ok (.ifCond .lt 33, 3) := dk_155 0 33 (dk_at dksX0_shift_3 6 rfl rfl)
theorem dX0_shift_79 : decode cX0_shift 79 = .ok (.iload 4, 2) := dk_21 4 (dk_at dksX0_shift_3 9 rfl rfl)
theorem dX0_shift_81 : decode cX0_shift 81 = .ok (.ifCond .lt 28, 3) := dk_155 0 28 (dk_at dksX0_shift_3 11 rfl rfl)
theorem dX0_shift_84 : decode cX0_shift 84 = .ok (.iload_n 2, 1) := dk_28 (dk_at dksX0_shift_3 14 rfl rfl)
theorem dX0_shift_85 : decode cX0_shift 85 = .ok (.aload 6, 2) := dk_25 6 (dk_at dksX0_shift_3 15 rfl rfl)
theorem dX0_shift_87 : decode cX0_shift 87 = .ok (.invokestatic 556, 3) := dk_184 2 44 (dk_at dksX0_shift_3 17 rfl rfl)
theorem dX0_shift_90 : decode cX0_shift 90 = .ok (.iload 5, 2) := dk_21 5 (dk_at dksX0_shift_3 20 rfl rfl)
theorem dX0_shift_92 : decode cX0_shift 92 = .ok (.isub, 1) := dk_100 (dk_at dksX0_shift_3 22 rfl rfl)
theorem dX0_shift_93 : decode cX0_shift 93 = .ok (.if_icmp .gt 16, 3) := dk_163 0 16 (dk_at dksX0_shift_4 0 rfl rfl)
theorem dX0_shift_96 : decode cX0_shift 96 = .ok (.iload 4, 2) := dk_21 4 (dk_at dksX0_shift_4 3 rfl rfl)
theorem dX0_shift_98 : decode cX0_shift 98 = .ok (.aload 7, 2) := dk_25 7 (dk_at dksX0_shift_4 5 rfl rfl)
theorem dX0_shift_100 : decode cX0_shift 100 = .ok (.invokestatic 556, 3) := dk_184 2 44 (dk_at dksX0_shift_4 7 rfl rfl)
theorem dX0_shift_103 : decode cX0_shift 103 = .ok (.iload 5, 2) := dk_21 5 (dk_at dksX0_shift_4 10 rfl rfl)
theorem dX0_shift_105 : decode cX0_shift 105 = .ok (.isub, 1) := dk_100 (dk_at dksX0_shift_4 12 rfl rfl)
theorem dX0_shift_106 : decode cX0_shift 106 = .ok (.if_icmp .le 6, 3) := dk_164 0 6 (dk_at dksX0_shift_4 13 rfl rfl)
theorem dX0_shift_109 : decode cX0_shift 109 = .ok (.bipush (-13), 2) := dk_16 243 (dk_at dksX0_shift_4 16 rfl rfl)
theorem dX0_shift_111 : decode cX0_shift 111 = .ok (.ireturn, 1) := dk_172 (dk_at dksX0_shift_4 18 rfl rfl)
theorem dX0_shift_112 : decode cX0_shift 112 = .ok (.aload 6, 2) := dk_25 6 (dk_at dksX0_shift_4 19 rfl rfl)
theorem dX0_shift_114 : decode cX0_shift 114 = .ok (.iload_n 2, 1) := dk_28 (dk_at dksX0_shift_4 21 rfl rfl)
theorem dX0_shift_115 : decode cX0_shift 115 = .ok (.aload 7, 2) := dk_25 7 (dk_at dksX0_shift_4 22 rfl rfl)
theorem dX0_shift_117 : decode cX0_shift 117 = .ok (.iload 4, 2) := dk_21 4 (dk_at dksX0_shift_5 0 rfl rfl)
theorem dX0_shift_119 : decode cX0_shift 119 = .ok (.iload 5, 2) := dk_21 5 (dk_at dksX0_shift_5 2 rfl rfl)
theorem dX0_shift_121 : decode cX0_shift 121 = .ok (.invokestatic 580, 3) := dk_184 2 68 (dk_at dksX0_shift_5 4 rfl rfl)
theorem dX0_shift_124 : decode cX0_shift 124 = .ok (.iload 5, 2) := dk_21 5 (dk_at dksX0_shift_5 7 rfl rfl)
theorem dX0_shift_126 : decode cX0_shift 126 = .ok (.ireturn, 1) := dk_172 (dk_at dksX0_shift_5 9 rfl rfl)
abbrev cX0_taken : ByteArray := prog_1_method_101_code
def yX0_taken : MethodName := ⟨RX0, "taken", "(II)I"⟩
def dkwX0_taken_3 : List UInt8 := [172]
abbrev dktX0_taken_3 : List UInt8 := dkwX0_taken_3 ++ []
def dkwX0_taken_2 : List UInt8 := [192, 0, 26, 58, 4, 25, 4, 28, 182, 2, 76, 153, 0, 11, 25, 4, 182, 1, 23, 167, 0, 5, 16, 244]
abbrev dktX0_taken_2 : List UInt8 := dkwX0_taken_2 ++ dktX0_taken_3
def dkwX0_taken_1 : List UInt8 := [180, 0, 160, 27, 50, 78, 45, 199, 0, 6, 16, 245, 172, 45, 193, 0, 26, 154, 0, 6, 16, 244, 172, 45]
abbrev dktX0_taken_1 : List UInt8 := dkwX0_taken_1 ++ dktX0_taken_2
def dkwX0_taken_0 : List UInt8 := [27, 184, 1, 87, 153, 0, 15, 28, 133, 9, 20, 2, 74, 184, 0, 167, 154, 0, 5, 2, 172, 42]
abbrev dktX0_taken_0 : List UInt8 := dkwX0_taken_0 ++ dktX0_taken_1
theorem dksX0_taken_0 : cX0_taken.data.toList.drop 0 = dktX0_taken_0 := by decide +kernel
theorem dksX0_taken_1 : cX0_taken.data.toList.drop 22 = dktX0_taken_1 := dk_seg dksX0_taken_0 22 rfl rfl
theorem dksX0_taken_2 : cX0_taken.data.toList.drop 46 = dktX0_taken_2 := dk_seg dksX0_taken_1 24 rfl rfl
theorem dksX0_taken_3 : cX0_taken.data.toList.drop 70 = dktX0_taken_3 := dk_seg dksX0_taken_2 24 rfl rfl
theorem dX0_taken_0 : decode cX0_taken 0 = .ok (.iload_n 1, 1) := dk_27 (dk_at dksX0_taken_0 0 rfl rfl)
theorem dX0_taken_1 : decode cX0_taken 1 = .ok (.invokestatic 343, 3) := dk_184 1 87 (dk_at dksX0_taken_0 1 rfl rfl)
theorem dX0_taken_4 : decode cX0_taken 4 = .ok (.ifCond .eq 15, 3) := dk_153 0 15 (dk_at dksX0_taken_0 4 rfl rfl)
theorem dX0_taken_7 : decode cX0_taken 7 = .ok (.iload_n 2, 1) := dk_28 (dk_at dksX0_taken_0 7 rfl rfl)
theorem dX0_taken_8 : decode cX0_taken 8 = .ok (.i2l, 1) := dk_133 (dk_at dksX0_taken_0 8 rfl rfl)
theorem dX0_taken_9 : decode cX0_taken 9 = .ok (.lconst 0, 1) := dk_9 (dk_at dksX0_taken_0 9 rfl rfl)
theorem dX0_taken_10 : decode cX0_taken 10 = .ok (.ldc2_w 586, 3) := dk_20 2 74 (dk_at dksX0_taken_0 10 rfl rfl)
theorem dX0_taken_13 : decode cX0_taken 13 = .ok (.invokestatic 167, 3) := dk_184 0 167 (dk_at dksX0_taken_0 13 rfl rfl)
theorem dX0_taken_16 : decode cX0_taken 16 = .ok (.ifCond .ne 5, 3) := dk_154 0 5 (dk_at dksX0_taken_0 16 rfl rfl)
theorem dX0_taken_19 : decode cX0_taken 19 = .ok (.iconst (-1), 1) := dk_2 (dk_at dksX0_taken_0 19 rfl rfl)
theorem dX0_taken_20 : decode cX0_taken 20 = .ok (.ireturn, 1) := dk_172 (dk_at dksX0_taken_0 20 rfl rfl)
theorem dX0_taken_21 : decode cX0_taken 21 = .ok (.aload_n 0, 1) := dk_42 (dk_at dksX0_taken_0 21 rfl rfl)
theorem dX0_taken_22 : decode cX0_taken 22 = .ok (.getfield 160, 3) := dk_180 0 160 (dk_at dksX0_taken_1 0 rfl rfl)
theorem dX0_taken_25 : decode cX0_taken 25 = .ok (.iload_n 1, 1) := dk_27 (dk_at dksX0_taken_1 3 rfl rfl)
theorem dX0_taken_26 : decode cX0_taken 26 = .ok (.aaload, 1) := dk_50 (dk_at dksX0_taken_1 4 rfl rfl)
theorem dX0_taken_27 : decode cX0_taken 27 = .ok (.astore_n 3, 1) := dk_78 (dk_at dksX0_taken_1 5 rfl rfl)
theorem dX0_taken_28 : decode cX0_taken 28 = .ok (.aload_n 3, 1) := dk_45 (dk_at dksX0_taken_1 6 rfl rfl)
theorem dX0_taken_29 : decode cX0_taken 29 = .ok (.ifnonnull 6, 3) := dk_199 0 6 (dk_at dksX0_taken_1 7 rfl rfl)
theorem dX0_taken_32 : decode cX0_taken 32 = .ok (.bipush (-11), 2) := dk_16 245 (dk_at dksX0_taken_1 10 rfl rfl)
theorem dX0_taken_34 : decode cX0_taken 34 = .ok (.ireturn, 1) := dk_172 (dk_at dksX0_taken_1 12 rfl rfl)
theorem dX0_taken_35 : decode cX0_taken 35 = .ok (.aload_n 3, 1) := dk_45 (dk_at dksX0_taken_1 13 rfl rfl)
theorem dX0_taken_36 : decode cX0_taken 36 = .ok (.instanceof 26, 3) := dk_193 0 26 (dk_at dksX0_taken_1 14 rfl rfl)
theorem dX0_taken_39 : decode cX0_taken 39 = .ok (.ifCond .ne 6, 3) := dk_154 0 6 (dk_at dksX0_taken_1 17 rfl rfl)
theorem dX0_taken_42 : decode cX0_taken 42 = .ok (.bipush (-12), 2) := dk_16 244 (dk_at dksX0_taken_1 20 rfl rfl)
theorem dX0_taken_44 : decode cX0_taken 44 = .ok (.ireturn, 1) := dk_172 (dk_at dksX0_taken_1 22 rfl rfl)
theorem dX0_taken_45 : decode cX0_taken 45 = .ok (.aload_n 3, 1) := dk_45 (dk_at dksX0_taken_1 23 rfl rfl)
theorem dX0_taken_46 : decode cX0_taken 46 = .ok (.checkcast 26, 3) := dk_192 0 26 (dk_at dksX0_taken_2 0 rfl rfl)
theorem dX0_taken_49 : decode cX0_taken 49 = .ok (.astore 4, 2) := dk_58 4 (dk_at dksX0_taken_2 3 rfl rfl)
theorem dX0_taken_51 : decode cX0_taken 51 = .ok (.aload 4, 2) := dk_25 4 (dk_at dksX0_taken_2 5 rfl rfl)
theorem dX0_taken_53 : decode cX0_taken 53 = .ok (.iload_n 2, 1) := dk_28 (dk_at dksX0_taken_2 7 rfl rfl)
theorem dX0_taken_54 : decode cX0_taken 54 = .ok (.invokevirtual 588, 3) := dk_182 2 76 (dk_at dksX0_taken_2 8 rfl rfl)
theorem dX0_taken_57 : decode cX0_taken 57 = .ok (.ifCond .eq 11, 3) := dk_153 0 11 (dk_at dksX0_taken_2 11 rfl rfl)
theorem dX0_taken_60 : decode cX0_taken 60 = .ok (.aload 4, 2) := dk_25 4 (dk_at dksX0_taken_2 14 rfl rfl)
theorem dX0_taken_62 : decode cX0_taken 62 = .ok (.invokevirtual 279, 3) := dk_182 1 23 (dk_at dksX0_taken_2 16 rfl rfl)
theorem dX0_taken_65 : decode cX0_taken 65 = .ok (.goto 5, 3) := dk_167 0 5 (dk_at dksX0_taken_2 19 rfl rfl)
theorem dX0_taken_68 : decode cX0_taken 68 = .ok (.bipush (-12), 2) := dk_16 244 (dk_at dksX0_taken_2 22 rfl rfl)
theorem dX0_taken_70 : decode cX0_taken 70 = .ok (.ireturn, 1) := dk_172 (dk_at dksX0_taken_3 0 rfl rfl)
abbrev cX0_count : ByteArray := prog_1_method_102_code
def yX0_count : MethodName := ⟨RX0, "count", "(I)I"⟩
def dkwX0_count_6 : List UInt8 := [180, 1, 231, 172, 42, 180, 2, 18, 172, 2, 172]
abbrev dktX0_count_6 : List UInt8 := dkwX0_count_6 ++ []
def dkwX0_count_5 : List UInt8 := [180, 1, 121, 172, 42, 180, 1, 152, 172, 42, 180, 1, 146, 172, 29, 172, 42, 180, 1, 215, 172, 42]
abbrev dktX0_count_5 : List UInt8 := dkwX0_count_5 ++ dktX0_count_6
def dkwX0_count_4 : List UInt8 := [42, 180, 0, 184, 172, 28, 172, 42, 182, 1, 184, 172, 42, 182, 1, 178, 172, 42, 180, 1, 58, 172, 42]
abbrev dktX0_count_4 : List UInt8 := dkwX0_count_4 ++ dktX0_count_5
def dkwX0_count_3 : List UInt8 := [170, 0, 0, 0, 0, 0, 0, 118, 0, 0, 0, 0, 0, 0, 0, 11, 0, 0, 0, 64, 0, 0, 0, 69, 0, 0, 0, 71, 0, 0, 0, 76, 0, 0, 0, 81, 0, 0, 0, 86, 0, 0, 0, 91, 0, 0, 0, 96, 0, 0, 0, 101, 0, 0, 0, 103, 0, 0, 0, 108, 0, 0, 0, 113]
abbrev dktX0_count_3 : List UInt8 := dkwX0_count_3 ++ dktX0_count_4
def dkwX0_count_2 : List UInt8 := [21, 4, 182, 1, 27, 180, 1, 2, 167, 0, 4, 3, 96, 62, 132, 4, 1, 167, 255, 199, 27]
abbrev dktX0_count_2 : List UInt8 := dkwX0_count_2 ++ dktX0_count_3
def dkwX0_count_1 : List UInt8 := [198, 0, 7, 4, 167, 0, 4, 3, 184, 1, 12, 96, 61, 29, 42, 21, 4, 182, 1, 27, 198, 0, 15, 42]
abbrev dktX0_count_1 : List UInt8 := dkwX0_count_1 ++ dktX0_count_2
def dkwX0_count_0 : List UInt8 := [3, 61, 3, 62, 3, 54, 4, 21, 4, 42, 180, 0, 184, 162, 0, 54, 28, 42, 21, 4, 182, 1, 27]
abbrev dktX0_count_0 : List UInt8 := dkwX0_count_0 ++ dktX0_count_1
theorem dksX0_count_0 : cX0_count.data.toList.drop 0 = dktX0_count_0 := by decide +kernel
theorem dksX0_count_1 : cX0_count.data.toList.drop 23 = dktX0_count_1 := dk_seg dksX0_count_0 23 rfl rfl
theorem dksX0_count_2 : cX0_count.data.toList.drop 47 = dktX0_count_2 := dk_seg dksX0_count_1 24 rfl rfl
theorem dksX0_count_3 : cX0_count.data.toList.drop 68 = dktX0_count_3 := dk_seg dksX0_count_2 21 rfl rfl
theorem dksX0_count_4 : cX0_count.data.toList.drop 132 = dktX0_count_4 := dk_seg dksX0_count_3 64 rfl rfl
theorem dksX0_count_5 : cX0_count.data.toList.drop 155 = dktX0_count_5 := dk_seg dksX0_count_4 23 rfl rfl
theorem dksX0_count_6 : cX0_count.data.toList.drop 177 = dktX0_count_6 := dk_seg dksX0_count_5 22 rfl rfl
theorem dX0_count_0 : decode cX0_count 0 = .ok (.iconst 0, 1) := dk_3 (dk_at dksX0_count_0 0 rfl rfl)
theorem dX0_count_1 : decode cX0_count 1 = .ok (.istore_n 2, 1) := dk_61 (dk_at dksX0_count_0 1 rfl rfl)
theorem dX0_count_2 : decode cX0_count 2 = .ok (.iconst 0, 1) := dk_3 (dk_at dksX0_count_0 2 rfl rfl)
theorem dX0_count_3 : decode cX0_count 3 = .ok (.istore_n 3, 1) := dk_62 (dk_at dksX0_count_0 3 rfl rfl)
theorem dX0_count_4 : decode cX0_count 4 = .ok (.iconst 0, 1) := dk_3 (dk_at dksX0_count_0 4 rfl rfl)
theorem dX0_count_5 : decode cX0_count 5 = .ok (.istore 4, 2) := dk_54 4 (dk_at dksX0_count_0 5 rfl rfl)
theorem dX0_count_7 : decode cX0_count 7 = .ok (.iload 4, 2) := dk_21 4 (dk_at dksX0_count_0 7 rfl rfl)
theorem dX0_count_9 : decode cX0_count 9 = .ok (.aload_n 0, 1) := dk_42 (dk_at dksX0_count_0 9 rfl rfl)
theorem dX0_count_10 : decode cX0_count 10 = .ok (.getfield 184, 3) := dk_180 0 184 (dk_at dksX0_count_0 10 rfl rfl)
theorem dX0_count_13 : decode cX0_count 13 = .ok (.if_icmp .ge 54, 3) := dk_162 0 54 (dk_at dksX0_count_0 13 rfl rfl)
theorem dX0_count_16 : decode cX0_count 16 = .ok (.iload_n 2, 1) := dk_28 (dk_at dksX0_count_0 16 rfl rfl)
theorem dX0_count_17 : decode cX0_count 17 = .ok (.aload_n 0, 1) := dk_42 (dk_at dksX0_count_0 17 rfl rfl)
theorem dX0_count_18 : decode cX0_count 18 = .ok (.iload 4, 2) := dk_21 4 (dk_at dksX0_count_0 18 rfl rfl)
theorem dX0_count_20 : decode cX0_count 20 = .ok (.invokevirtual 283, 3) := dk_182 1 27 (dk_at dksX0_count_0 20 rfl rfl)
theorem dX0_count_23 : decode cX0_count 23 = .ok (.ifnull 7, 3) := dk_198 0 7 (dk_at dksX0_count_1 0 rfl rfl)
theorem dX0_count_26 : decode cX0_count 26 = .ok (.iconst 1, 1) := dk_4 (dk_at dksX0_count_1 3 rfl rfl)
theorem dX0_count_27 : decode cX0_count 27 = .ok (.goto 4, 3) := dk_167 0 4 (dk_at dksX0_count_1 4 rfl rfl)
theorem dX0_count_30 : decode cX0_count 30 = .ok (.iconst 0, 1) := dk_3 (dk_at dksX0_count_1 7 rfl rfl)
theorem dX0_count_31 : decode cX0_count 31 = .ok (.invokestatic 268, 3) := dk_184 1 12 (dk_at dksX0_count_1 8 rfl rfl)
theorem dX0_count_34 : decode cX0_count 34 = .ok (.iadd, 1) := dk_96 (dk_at dksX0_count_1 11 rfl rfl)
theorem dX0_count_35 : decode cX0_count 35 = .ok (.istore_n 2, 1) := dk_61 (dk_at dksX0_count_1 12 rfl rfl)
theorem dX0_count_36 : decode cX0_count 36 = .ok (.iload_n 3, 1) := dk_29 (dk_at dksX0_count_1 13 rfl rfl)
theorem dX0_count_37 : decode cX0_count 37 = .ok (.aload_n 0, 1) := dk_42 (dk_at dksX0_count_1 14 rfl rfl)
theorem dX0_count_38 : decode cX0_count 38 = .ok (.iload 4, 2) := dk_21 4 (dk_at dksX0_count_1 15 rfl rfl)
theorem dX0_count_40 : decode cX0_count 40 = .ok (.invokevirtual 283, 3) := dk_182 1 27 (dk_at dksX0_count_1 17 rfl rfl)
theorem dX0_count_43 : decode cX0_count 43 = .ok (.ifnull 15, 3) := dk_198 0 15 (dk_at dksX0_count_1 20 rfl rfl)
theorem dX0_count_46 : decode cX0_count 46 = .ok (.aload_n 0, 1) := dk_42 (dk_at dksX0_count_1 23 rfl rfl)
theorem dX0_count_47 : decode cX0_count 47 = .ok (.iload 4, 2) := dk_21 4 (dk_at dksX0_count_2 0 rfl rfl)
theorem dX0_count_49 : decode cX0_count 49 = .ok (.invokevirtual 283, 3) := dk_182 1 27 (dk_at dksX0_count_2 2 rfl rfl)
theorem dX0_count_52 : decode cX0_count 52 = .ok (.getfield 258, 3) := dk_180 1 2 (dk_at dksX0_count_2 5 rfl rfl)
theorem dX0_count_55 : decode cX0_count 55 = .ok (.goto 4, 3) := dk_167 0 4 (dk_at dksX0_count_2 8 rfl rfl)
theorem dX0_count_58 : decode cX0_count 58 = .ok (.iconst 0, 1) := dk_3 (dk_at dksX0_count_2 11 rfl rfl)
theorem dX0_count_59 : decode cX0_count 59 = .ok (.iadd, 1) := dk_96 (dk_at dksX0_count_2 12 rfl rfl)
theorem dX0_count_60 : decode cX0_count 60 = .ok (.istore_n 3, 1) := dk_62 (dk_at dksX0_count_2 13 rfl rfl)
theorem dX0_count_61 : decode cX0_count 61 = .ok (.iinc 4 1, 3) := dk_132 4 1 (dk_at dksX0_count_2 14 rfl rfl)
theorem dX0_count_64 : decode cX0_count 64 = .ok (.goto (-57), 3) := dk_167 255 199 (dk_at dksX0_count_2 17 rfl rfl)
theorem dX0_count_67 : decode cX0_count 67 = .ok (.iload_n 1, 1) := dk_27 (dk_at dksX0_count_2 20 rfl rfl)
theorem dX0_count_68 : decode cX0_count 68 = .ok (.tableswitch 118 0 11 #[64, 69, 71, 76, 81, 86, 91, 96, 101, 103, 108, 113], 64) := by decide +kernel
theorem dX0_count_132 : decode cX0_count 132 = .ok (.aload_n 0, 1) := dk_42 (dk_at dksX0_count_4 0 rfl rfl)
theorem dX0_count_133 : decode cX0_count 133 = .ok (.getfield 184, 3) := dk_180 0 184 (dk_at dksX0_count_4 1 rfl rfl)
theorem dX0_count_136 : decode cX0_count 136 = .ok (.ireturn, 1) := dk_172 (dk_at dksX0_count_4 4 rfl rfl)
theorem dX0_count_137 : decode cX0_count 137 = .ok (.iload_n 2, 1) := dk_28 (dk_at dksX0_count_4 5 rfl rfl)
theorem dX0_count_138 : decode cX0_count 138 = .ok (.ireturn, 1) := dk_172 (dk_at dksX0_count_4 6 rfl rfl)
theorem dX0_count_139 : decode cX0_count 139 = .ok (.aload_n 0, 1) := dk_42 (dk_at dksX0_count_4 7 rfl rfl)
theorem dX0_count_140 : decode cX0_count 140 = .ok (.invokevirtual 440, 3) := dk_182 1 184 (dk_at dksX0_count_4 8 rfl rfl)
theorem dX0_count_143 : decode cX0_count 143 = .ok (.ireturn, 1) := dk_172 (dk_at dksX0_count_4 11 rfl rfl)
theorem dX0_count_144 : decode cX0_count 144 = .ok (.aload_n 0, 1) := dk_42 (dk_at dksX0_count_4 12 rfl rfl)
theorem dX0_count_145 : decode cX0_count 145 = .ok (.invokevirtual 434, 3) := dk_182 1 178 (dk_at dksX0_count_4 13 rfl rfl)
theorem dX0_count_148 : decode cX0_count 148 = .ok (.ireturn, 1) := dk_172 (dk_at dksX0_count_4 16 rfl rfl)
theorem dX0_count_149 : decode cX0_count 149 = .ok (.aload_n 0, 1) := dk_42 (dk_at dksX0_count_4 17 rfl rfl)
theorem dX0_count_150 : decode cX0_count 150 = .ok (.getfield 314, 3) := dk_180 1 58 (dk_at dksX0_count_4 18 rfl rfl)
theorem dX0_count_153 : decode cX0_count 153 = .ok (.ireturn, 1) := dk_172 (dk_at dksX0_count_4 21 rfl rfl)
theorem dX0_count_154 : decode cX0_count 154 = .ok (.aload_n 0, 1) := dk_42 (dk_at dksX0_count_4 22 rfl rfl)
theorem dX0_count_155 : decode cX0_count 155 = .ok (.getfield 377, 3) := dk_180 1 121 (dk_at dksX0_count_5 0 rfl rfl)
theorem dX0_count_158 : decode cX0_count 158 = .ok (.ireturn, 1) := dk_172 (dk_at dksX0_count_5 3 rfl rfl)
theorem dX0_count_159 : decode cX0_count 159 = .ok (.aload_n 0, 1) := dk_42 (dk_at dksX0_count_5 4 rfl rfl)
theorem dX0_count_160 : decode cX0_count 160 = .ok (.getfield 408, 3) := dk_180 1 152 (dk_at dksX0_count_5 5 rfl rfl)
theorem dX0_count_163 : decode cX0_count 163 = .ok (.ireturn, 1) := dk_172 (dk_at dksX0_count_5 8 rfl rfl)
theorem dX0_count_164 : decode cX0_count 164 = .ok (.aload_n 0, 1) := dk_42 (dk_at dksX0_count_5 9 rfl rfl)
theorem dX0_count_165 : decode cX0_count 165 = .ok (.getfield 402, 3) := dk_180 1 146 (dk_at dksX0_count_5 10 rfl rfl)
theorem dX0_count_168 : decode cX0_count 168 = .ok (.ireturn, 1) := dk_172 (dk_at dksX0_count_5 13 rfl rfl)
theorem dX0_count_169 : decode cX0_count 169 = .ok (.iload_n 3, 1) := dk_29 (dk_at dksX0_count_5 14 rfl rfl)
theorem dX0_count_170 : decode cX0_count 170 = .ok (.ireturn, 1) := dk_172 (dk_at dksX0_count_5 15 rfl rfl)
theorem dX0_count_171 : decode cX0_count 171 = .ok (.aload_n 0, 1) := dk_42 (dk_at dksX0_count_5 16 rfl rfl)
theorem dX0_count_172 : decode cX0_count 172 = .ok (.getfield 471, 3) := dk_180 1 215 (dk_at dksX0_count_5 17 rfl rfl)
theorem dX0_count_175 : decode cX0_count 175 = .ok (.ireturn, 1) := dk_172 (dk_at dksX0_count_5 20 rfl rfl)
theorem dX0_count_176 : decode cX0_count 176 = .ok (.aload_n 0, 1) := dk_42 (dk_at dksX0_count_5 21 rfl rfl)
theorem dX0_count_177 : decode cX0_count 177 = .ok (.getfield 487, 3) := dk_180 1 231 (dk_at dksX0_count_6 0 rfl rfl)
theorem dX0_count_180 : decode cX0_count 180 = .ok (.ireturn, 1) := dk_172 (dk_at dksX0_count_6 3 rfl rfl)
theorem dX0_count_181 : decode cX0_count 181 = .ok (.aload_n 0, 1) := dk_42 (dk_at dksX0_count_6 4 rfl rfl)
theorem dX0_count_182 : decode cX0_count 182 = .ok (.getfield 530, 3) := dk_180 2 18 (dk_at dksX0_count_6 5 rfl rfl)
theorem dX0_count_185 : decode cX0_count 185 = .ok (.ireturn, 1) := dk_172 (dk_at dksX0_count_6 8 rfl rfl)
theorem dX0_count_186 : decode cX0_count 186 = .ok (.iconst (-1), 1) := dk_2 (dk_at dksX0_count_6 9 rfl rfl)
theorem dX0_count_187 : decode cX0_count 187 = .ok (.ireturn, 1) := dk_172 (dk_at dksX0_count_6 10 rfl rfl)
theorem q84 : (Jvm.Cond.initialized "ThirtyThreeBelow") ∈ lw_all := lw_g (lw_at lw_m1 1 rfl) rfl
theorem q115 : (Jvm.Cond.instantiable "ThirtyThreeBelow" (59 : Nat)) ∈ lw_all := lw_g (lw_at lw_m1 32 rfl) rfl
theorem q117 : (Jvm.Cond.instanceMethod ({ cls := "ThirtyThreeBelow", name := "<init>", desc := "()V" } : Jvm.MethodName)) ∈ lw_all := lw_g (lw_at lw_m1 34 rfl) rfl
theorem q118 : (Jvm.Cond.code ({ cls := "ThirtyThreeBelow", name := "<init>", desc := "()V" } : Jvm.MethodName) prog_1_method_3_code (2 : Nat) (Option.none : Option Jvm.ClassFile.FieldType)) ∈ lw_all := lw_g (lw_at lw_m1 35 rfl) rfl
theorem q119 : (Jvm.Cond.methodLink "ThirtyThreeBelow" (10 : Nat) ({ cls := "java/lang/Object", name := "<init>", desc := "()V" } : Jvm.MethodName)) ∈ lw_all := lw_g (lw_at lw_m1 36 rfl) rfl
theorem q122 : (Jvm.Cond.classLink "ThirtyThreeBelow" (26 : Nat) "ThirtyThreeBelow$Body") ∈ lw_all := lw_g (lw_at lw_m1 39 rfl) rfl
theorem q124 : (Jvm.Cond.classLink "ThirtyThreeBelow" (38 : Nat) "ThirtyThreeBelow$Hole") ∈ lw_all := lw_g (lw_at lw_m1 41 rfl) rfl
theorem q126 : (Jvm.Cond.classLink "ThirtyThreeBelow" (47 : Nat) "ThirtyThreeBelow$Torn") ∈ lw_all := lw_g (lw_at lw_m1 43 rfl) rfl
theorem q167 : (Jvm.Cond.methodLink "ThirtyThreeBelow" (49 : Nat) ({ cls := "ThirtyThreeBelow$Torn", name := "<init>", desc := "()V" } : Jvm.MethodName)) ∈ lw_all := lw_g (lw_at lw_m1 84 rfl) rfl
theorem q194 : (Jvm.Cond.classLink "ThirtyThreeBelow" (79 : Nat) "ThirtyThreeBelow$Reader") ∈ lw_all := lw_g (lw_at lw_m1 111 rfl) rfl
theorem q196 : (Jvm.Cond.methodLinkNest "ThirtyThreeBelow" (81 : Nat) ({ cls := "ThirtyThreeBelow$Reader", name := "<init>", desc := "(LThirtyThreeBelow;)V" } : Jvm.MethodName) "ThirtyThreeBelow") ∈ lw_tbl := lw_at lw_m1 113 rfl
theorem q228 : (Jvm.Cond.classLink "ThirtyThreeBelow" (88 : Nat) "ThirtyThreeBelow$Text") ∈ lw_all := lw_g (lw_at lw_m1 145 rfl) rfl
theorem q230 : (Jvm.Cond.classLink "ThirtyThreeBelow" (11 : Nat) "java/lang/Object") ∈ lw_all := lw_g (lw_at lw_m1 147 rfl) rfl
theorem q233 : (Jvm.Cond.methodLinkNest "ThirtyThreeBelow" (164 : Nat) ({ cls := "ThirtyThreeBelow$Text", name := "<init>", desc := "(LThirtyThreeBelow;)V" } : Jvm.MethodName) "ThirtyThreeBelow") ∈ lw_tbl := lw_at lw_m1 150 rfl
theorem q245 : (Jvm.Cond.fieldLinkNest "ThirtyThreeBelow" (415 : Nat) "ThirtyThreeBelow$Text" "what" "I" "ThirtyThreeBelow") ∈ lw_tbl := lw_at lw_m1 162 rfl
theorem q246 : (Jvm.Cond.fieldLinkNest "ThirtyThreeBelow" (418 : Nat) "ThirtyThreeBelow$Text" "from" "I" "ThirtyThreeBelow") ∈ lw_tbl := lw_at lw_m1 163 rfl
theorem q247 : (Jvm.Cond.fieldLinkNest "ThirtyThreeBelow" (419 : Nat) "ThirtyThreeBelow$Text" "made" "I" "ThirtyThreeBelow") ∈ lw_tbl := lw_at lw_m1 164 rfl
theorem q265 : (Jvm.Cond.fieldLink "ThirtyThreeBelow" (314 : Nat) "ThirtyThreeBelow" "hour" "I") ∈ lw_all := lw_g (lw_at lw_m1 182 rfl) rfl
theorem q266 : (Jvm.Cond.fieldLink "ThirtyThreeBelow" (18 : Nat) "ThirtyThreeBelow" "hard" "[I") ∈ lw_all := lw_g (lw_at lw_m1 183 rfl) rfl
theorem q268 : (Jvm.Cond.fieldLink "ThirtyThreeBelow" (22 : Nat) "ThirtyThreeBelow" "isOpen" "[Z") ∈ lw_all := lw_g (lw_at lw_m1 185 rfl) rfl
theorem q270 : (Jvm.Cond.fieldLink "ThirtyThreeBelow" (28 : Nat) "ThirtyThreeBelow" "bodies" "[LThirtyThreeBelow$Body;") ∈ lw_all := lw_g (lw_at lw_m1 187 rfl) rfl
theorem q271 : (Jvm.Cond.fieldLink "ThirtyThreeBelow" (184 : Nat) "ThirtyThreeBelow" "bodyMany" "I") ∈ lw_all := lw_g (lw_at lw_m1 188 rfl) rfl
theorem q272 : (Jvm.Cond.fieldLink "ThirtyThreeBelow" (200 : Nat) "ThirtyThreeBelow" "shelter" "LThirtyThreeBelow$Shelter;") ∈ lw_all := lw_g (lw_at lw_m1 189 rfl) rfl
theorem q273 : (Jvm.Cond.fieldLink "ThirtyThreeBelow" (32 : Nat) "ThirtyThreeBelow" "trace" "[I") ∈ lw_all := lw_g (lw_at lw_m1 190 rfl) rfl
theorem q276 : (Jvm.Cond.fieldLink "ThirtyThreeBelow" (530 : Nat) "ThirtyThreeBelow" "ran" "I") ∈ lw_all := lw_g (lw_at lw_m1 193 rfl) rfl
theorem q277 : (Jvm.Cond.fieldLink "ThirtyThreeBelow" (35 : Nat) "ThirtyThreeBelow" "speeds" "[I") ∈ lw_all := lw_g (lw_at lw_m1 194 rfl) rfl
theorem q278 : (Jvm.Cond.fieldLink "ThirtyThreeBelow" (40 : Nat) "ThirtyThreeBelow" "worksOn" "[LThirtyThreeBelow$Hole;") ∈ lw_all := lw_g (lw_at lw_m1 195 rfl) rfl
theorem q279 : (Jvm.Cond.fieldLink "ThirtyThreeBelow" (44 : Nat) "ThirtyThreeBelow" "broken" "[I") ∈ lw_all := lw_g (lw_at lw_m1 196 rfl) rfl
theorem q280 : (Jvm.Cond.fieldLink "ThirtyThreeBelow" (50 : Nat) "ThirtyThreeBelow" "torn" "LThirtyThreeBelow$Torn;") ∈ lw_all := lw_g (lw_at lw_m1 197 rfl) rfl
theorem q281 : (Jvm.Cond.fieldLink "ThirtyThreeBelow" (54 : Nat) "ThirtyThreeBelow" "spread" "I") ∈ lw_all := lw_g (lw_at lw_m1 198 rfl) rfl
theorem q283 : (Jvm.Cond.fieldLink "ThirtyThreeBelow" (58 : Nat) "ThirtyThreeBelow" "mapFrom" "[I") ∈ lw_all := lw_g (lw_at lw_m1 200 rfl) rfl
theorem q284 : (Jvm.Cond.fieldLink "ThirtyThreeBelow" (61 : Nat) "ThirtyThreeBelow" "mapTo" "[I") ∈ lw_all := lw_g (lw_at lw_m1 201 rfl) rfl
theorem q285 : (Jvm.Cond.fieldLink "ThirtyThreeBelow" (64 : Nat) "ThirtyThreeBelow" "mapYard" "[I") ∈ lw_all := lw_g (lw_at lw_m1 202 rfl) rfl
theorem q286 : (Jvm.Cond.fieldLink "ThirtyThreeBelow" (67 : Nat) "ThirtyThreeBelow" "olds" "[Z") ∈ lw_all := lw_g (lw_at lw_m1 203 rfl) rfl
theorem q287 : (Jvm.Cond.fieldLink "ThirtyThreeBelow" (70 : Nat) "ThirtyThreeBelow" "oldMany" "[I") ∈ lw_all := lw_g (lw_at lw_m1 204 rfl) rfl
theorem q288 : (Jvm.Cond.fieldLink "ThirtyThreeBelow" (377 : Nat) "ThirtyThreeBelow" "maps" "I") ∈ lw_all := lw_g (lw_at lw_m1 205 rfl) rfl
theorem q290 : (Jvm.Cond.fieldLink "ThirtyThreeBelow" (73 : Nat) "ThirtyThreeBelow" "names" "[I") ∈ lw_all := lw_g (lw_at lw_m1 207 rfl) rfl
theorem q293 : (Jvm.Cond.fieldLink "ThirtyThreeBelow" (76 : Nat) "ThirtyThreeBelow" "tape" "[I") ∈ lw_all := lw_g (lw_at lw_m1 210 rfl) rfl
theorem q295 : (Jvm.Cond.fieldLink "ThirtyThreeBelow" (402 : Nat) "ThirtyThreeBelow" "length" "I") ∈ lw_all := lw_g (lw_at lw_m1 212 rfl) rfl
theorem q296 : (Jvm.Cond.fieldLink "ThirtyThreeBelow" (84 : Nat) "ThirtyThreeBelow" "reader" "LThirtyThreeBelow$Reader;") ∈ lw_all := lw_g (lw_at lw_m1 213 rfl) rfl
theorem q297 : (Jvm.Cond.fieldLink "ThirtyThreeBelow" (90 : Nat) "ThirtyThreeBelow" "texts" "[LThirtyThreeBelow$Text;") ∈ lw_all := lw_g (lw_at lw_m1 214 rfl) rfl
theorem q298 : (Jvm.Cond.fieldLink "ThirtyThreeBelow" (408 : Nat) "ThirtyThreeBelow" "textMany" "I") ∈ lw_all := lw_g (lw_at lw_m1 215 rfl) rfl
theorem q299 : (Jvm.Cond.fieldLink "ThirtyThreeBelow" (437 : Nat) "ThirtyThreeBelow" "spoons" "I") ∈ lw_all := lw_g (lw_at lw_m1 216 rfl) rfl
theorem q300 : (Jvm.Cond.fieldLink "ThirtyThreeBelow" (471 : Nat) "ThirtyThreeBelow" "eaten" "I") ∈ lw_all := lw_g (lw_at lw_m1 217 rfl) rfl
theorem q301 : (Jvm.Cond.fieldLink "ThirtyThreeBelow" (94 : Nat) "ThirtyThreeBelow" "moves" "[I") ∈ lw_all := lw_g (lw_at lw_m1 218 rfl) rfl
theorem q302 : (Jvm.Cond.fieldLink "ThirtyThreeBelow" (97 : Nat) "ThirtyThreeBelow" "movesOn" "[I") ∈ lw_all := lw_g (lw_at lw_m1 219 rfl) rfl
theorem q303 : (Jvm.Cond.fieldLink "ThirtyThreeBelow" (461 : Nat) "ThirtyThreeBelow" "rockRows" "I") ∈ lw_all := lw_g (lw_at lw_m1 220 rfl) rfl
theorem q304 : (Jvm.Cond.fieldLink "ThirtyThreeBelow" (100 : Nat) "ThirtyThreeBelow" "works" "[Z") ∈ lw_all := lw_g (lw_at lw_m1 221 rfl) rfl
theorem q305 : (Jvm.Cond.fieldLink "ThirtyThreeBelow" (103 : Nat) "ThirtyThreeBelow" "strengths" "[I") ∈ lw_all := lw_g (lw_at lw_m1 222 rfl) rfl
theorem q306 : (Jvm.Cond.fieldLink "ThirtyThreeBelow" (106 : Nat) "ThirtyThreeBelow" "downWhat" "[I") ∈ lw_all := lw_g (lw_at lw_m1 223 rfl) rfl
theorem q307 : (Jvm.Cond.fieldLink "ThirtyThreeBelow" (109 : Nat) "ThirtyThreeBelow" "downOn" "[I") ∈ lw_all := lw_g (lw_at lw_m1 224 rfl) rfl
theorem q308 : (Jvm.Cond.fieldLink "ThirtyThreeBelow" (487 : Nat) "ThirtyThreeBelow" "downMany" "I") ∈ lw_all := lw_g (lw_at lw_m1 225 rfl) rfl
theorem q309 : (Jvm.Cond.fieldLink "ThirtyThreeBelow" (112 : Nat) "ThirtyThreeBelow" "stuffs" "[I") ∈ lw_all := lw_g (lw_at lw_m1 226 rfl) rfl
theorem q310 : (Jvm.Cond.fieldLink "ThirtyThreeBelow" (115 : Nat) "ThirtyThreeBelow" "needHours" "[I") ∈ lw_all := lw_g (lw_at lw_m1 227 rfl) rfl
theorem q311 : (Jvm.Cond.fieldLink "ThirtyThreeBelow" (118 : Nat) "ThirtyThreeBelow" "needWeight" "[I") ∈ lw_all := lw_g (lw_at lw_m1 228 rfl) rfl
theorem q312 : (Jvm.Cond.fieldLink "ThirtyThreeBelow" (121 : Nat) "ThirtyThreeBelow" "needBy" "[I") ∈ lw_all := lw_g (lw_at lw_m1 229 rfl) rfl
theorem q313 : (Jvm.Cond.fieldLink "ThirtyThreeBelow" (493 : Nat) "ThirtyThreeBelow" "needs" "I") ∈ lw_all := lw_g (lw_at lw_m1 230 rfl) rfl
theorem q314 : (Jvm.Cond.fieldLink "ThirtyThreeBelow" (124 : Nat) "ThirtyThreeBelow" "leastOf" "[I") ∈ lw_all := lw_g (lw_at lw_m1 231 rfl) rfl
theorem q315 : (Jvm.Cond.fieldLink "ThirtyThreeBelow" (127 : Nat) "ThirtyThreeBelow" "orderOf" "[I") ∈ lw_all := lw_g (lw_at lw_m1 232 rfl) rfl
theorem q316 : (Jvm.Cond.fieldLink "ThirtyThreeBelow" (505 : Nat) "ThirtyThreeBelow" "orderMany" "I") ∈ lw_all := lw_g (lw_at lw_m1 233 rfl) rfl
theorem q317 : (Jvm.Cond.fieldLink "ThirtyThreeBelow" (130 : Nat) "ThirtyThreeBelow" "watchers" "[I") ∈ lw_all := lw_g (lw_at lw_m1 234 rfl) rfl
theorem q318 : (Jvm.Cond.fieldLink "ThirtyThreeBelow" (510 : Nat) "ThirtyThreeBelow" "watchPlaces" "I") ∈ lw_all := lw_g (lw_at lw_m1 235 rfl) rfl
theorem q319 : (Jvm.Cond.fieldLink "ThirtyThreeBelow" (133 : Nat) "ThirtyThreeBelow" "aimColumn" "[I") ∈ lw_all := lw_g (lw_at lw_m1 236 rfl) rfl
theorem q320 : (Jvm.Cond.fieldLink "ThirtyThreeBelow" (136 : Nat) "ThirtyThreeBelow" "aimMisses" "[I") ∈ lw_all := lw_g (lw_at lw_m1 237 rfl) rfl
theorem q321 : (Jvm.Cond.fieldLink "ThirtyThreeBelow" (515 : Nat) "ThirtyThreeBelow" "aims" "I") ∈ lw_all := lw_g (lw_at lw_m1 238 rfl) rfl
theorem q322 : (Jvm.Cond.fieldLink "ThirtyThreeBelow" (139 : Nat) "ThirtyThreeBelow" "rock" "[I") ∈ lw_all := lw_g (lw_at lw_m1 239 rfl) rfl
theorem q323 : (Jvm.Cond.fieldLink "ThirtyThreeBelow" (142 : Nat) "ThirtyThreeBelow" "aimedPlace" "[I") ∈ lw_all := lw_g (lw_at lw_m2 0 rfl) rfl
theorem q324 : (Jvm.Cond.fieldLink "ThirtyThreeBelow" (145 : Nat) "ThirtyThreeBelow" "aimedMachine" "[I") ∈ lw_all := lw_g (lw_at lw_m2 1 rfl) rfl
theorem q325 : (Jvm.Cond.fieldLink "ThirtyThreeBelow" (522 : Nat) "ThirtyThreeBelow" "aimedMany" "I") ∈ lw_all := lw_g (lw_at lw_m2 2 rfl) rfl
theorem q326 : (Jvm.Cond.fieldLink "ThirtyThreeBelow" (148 : Nat) "ThirtyThreeBelow" "upWho" "[I") ∈ lw_all := lw_g (lw_at lw_m2 3 rfl) rfl
theorem q327 : (Jvm.Cond.fieldLink "ThirtyThreeBelow" (151 : Nat) "ThirtyThreeBelow" "upOn" "[I") ∈ lw_all := lw_g (lw_at lw_m2 4 rfl) rfl
theorem q328 : (Jvm.Cond.fieldLink "ThirtyThreeBelow" (525 : Nat) "ThirtyThreeBelow" "upMany" "I") ∈ lw_all := lw_g (lw_at lw_m2 5 rfl) rfl
theorem q329 : (Jvm.Cond.fieldLink "ThirtyThreeBelow" (154 : Nat) "ThirtyThreeBelow" "upFrom" "I") ∈ lw_all := lw_g (lw_at lw_m2 6 rfl) rfl
theorem q330 : (Jvm.Cond.fieldLink "ThirtyThreeBelow" (157 : Nat) "ThirtyThreeBelow" "firsts" "[I") ∈ lw_all := lw_g (lw_at lw_m2 7 rfl) rfl
theorem q331 : (Jvm.Cond.fieldLink "ThirtyThreeBelow" (160 : Nat) "ThirtyThreeBelow" "shelves" "[Ljava/lang/Object;") ∈ lw_all := lw_g (lw_at lw_m2 8 rfl) rfl
theorem q332 : (Jvm.Cond.lays "ThirtyThreeBelow" "ThirtyThreeBelow" "hour" "I") ∈ lw_all := lw_g (lw_at lw_m2 9 rfl) rfl
theorem q333 : (Jvm.Cond.soleField "ThirtyThreeBelow" "hour") ∈ lw_all := lw_g (lw_at lw_m2 10 rfl) rfl
theorem q334 : (Jvm.Cond.laysFinal "ThirtyThreeBelow" "ThirtyThreeBelow" "hard" "[I") ∈ lw_all := lw_g (lw_at lw_m2 11 rfl) rfl
theorem q335 : (Jvm.Cond.soleField "ThirtyThreeBelow" "hard") ∈ lw_all := lw_g (lw_at lw_m2 12 rfl) rfl
theorem q336 : (Jvm.Cond.laysFinal "ThirtyThreeBelow" "ThirtyThreeBelow" "isOpen" "[Z") ∈ lw_all := lw_g (lw_at lw_m2 13 rfl) rfl
theorem q337 : (Jvm.Cond.soleField "ThirtyThreeBelow" "isOpen") ∈ lw_all := lw_g (lw_at lw_m2 14 rfl) rfl
theorem q338 : (Jvm.Cond.laysFinal "ThirtyThreeBelow" "ThirtyThreeBelow" "bodies" "[LThirtyThreeBelow$Body;") ∈ lw_all := lw_g (lw_at lw_m2 15 rfl) rfl
theorem q339 : (Jvm.Cond.soleField "ThirtyThreeBelow" "bodies") ∈ lw_all := lw_g (lw_at lw_m2 16 rfl) rfl
theorem q340 : (Jvm.Cond.lays "ThirtyThreeBelow" "ThirtyThreeBelow" "bodyMany" "I") ∈ lw_all := lw_g (lw_at lw_m2 17 rfl) rfl
theorem q341 : (Jvm.Cond.soleField "ThirtyThreeBelow" "bodyMany") ∈ lw_all := lw_g (lw_at lw_m2 18 rfl) rfl
theorem q342 : (Jvm.Cond.lays "ThirtyThreeBelow" "ThirtyThreeBelow" "shelter" "LThirtyThreeBelow$Shelter;") ∈ lw_all := lw_g (lw_at lw_m2 19 rfl) rfl
theorem q343 : (Jvm.Cond.soleField "ThirtyThreeBelow" "shelter") ∈ lw_all := lw_g (lw_at lw_m2 20 rfl) rfl
theorem q344 : (Jvm.Cond.laysFinal "ThirtyThreeBelow" "ThirtyThreeBelow" "trace" "[I") ∈ lw_all := lw_g (lw_at lw_m2 21 rfl) rfl
theorem q345 : (Jvm.Cond.soleField "ThirtyThreeBelow" "trace") ∈ lw_all := lw_g (lw_at lw_m2 22 rfl) rfl
theorem q346 : (Jvm.Cond.lays "ThirtyThreeBelow" "ThirtyThreeBelow" "ran" "I") ∈ lw_all := lw_g (lw_at lw_m2 23 rfl) rfl
theorem q347 : (Jvm.Cond.soleField "ThirtyThreeBelow" "ran") ∈ lw_all := lw_g (lw_at lw_m2 24 rfl) rfl
theorem q348 : (Jvm.Cond.laysFinal "ThirtyThreeBelow" "ThirtyThreeBelow" "speeds" "[I") ∈ lw_all := lw_g (lw_at lw_m2 25 rfl) rfl
theorem q349 : (Jvm.Cond.soleField "ThirtyThreeBelow" "speeds") ∈ lw_all := lw_g (lw_at lw_m2 26 rfl) rfl
theorem q350 : (Jvm.Cond.laysFinal "ThirtyThreeBelow" "ThirtyThreeBelow" "worksOn" "[LThirtyThreeBelow$Hole;") ∈ lw_all := lw_g (lw_at lw_m2 27 rfl) rfl
theorem q351 : (Jvm.Cond.soleField "ThirtyThreeBelow" "worksOn") ∈ lw_all := lw_g (lw_at lw_m2 28 rfl) rfl
theorem q352 : (Jvm.Cond.laysFinal "ThirtyThreeBelow" "ThirtyThreeBelow" "broken" "[I") ∈ lw_all := lw_g (lw_at lw_m2 29 rfl) rfl
theorem q353 : (Jvm.Cond.soleField "ThirtyThreeBelow" "broken") ∈ lw_all := lw_g (lw_at lw_m2 30 rfl) rfl
theorem q354 : (Jvm.Cond.laysFinal "ThirtyThreeBelow" "ThirtyThreeBelow" "torn" "LThirtyThreeBelow$Torn;") ∈ lw_all := lw_g (lw_at lw_m2 31 rfl) rfl
theorem q355 : (Jvm.Cond.soleField "ThirtyThreeBelow" "torn") ∈ lw_all := lw_g (lw_at lw_m2 32 rfl) rfl
theorem q356 : (Jvm.Cond.lays "ThirtyThreeBelow" "ThirtyThreeBelow" "spread" "I") ∈ lw_all := lw_g (lw_at lw_m2 33 rfl) rfl
theorem q357 : (Jvm.Cond.soleField "ThirtyThreeBelow" "spread") ∈ lw_all := lw_g (lw_at lw_m2 34 rfl) rfl
theorem q358 : (Jvm.Cond.laysFinal "ThirtyThreeBelow" "ThirtyThreeBelow" "mapFrom" "[I") ∈ lw_all := lw_g (lw_at lw_m2 35 rfl) rfl
theorem q359 : (Jvm.Cond.soleField "ThirtyThreeBelow" "mapFrom") ∈ lw_all := lw_g (lw_at lw_m2 36 rfl) rfl
theorem q360 : (Jvm.Cond.laysFinal "ThirtyThreeBelow" "ThirtyThreeBelow" "mapTo" "[I") ∈ lw_all := lw_g (lw_at lw_m2 37 rfl) rfl
theorem q361 : (Jvm.Cond.soleField "ThirtyThreeBelow" "mapTo") ∈ lw_all := lw_g (lw_at lw_m2 38 rfl) rfl
theorem q362 : (Jvm.Cond.laysFinal "ThirtyThreeBelow" "ThirtyThreeBelow" "mapYard" "[I") ∈ lw_all := lw_g (lw_at lw_m2 39 rfl) rfl
theorem q363 : (Jvm.Cond.soleField "ThirtyThreeBelow" "mapYard") ∈ lw_all := lw_g (lw_at lw_m2 40 rfl) rfl
theorem q364 : (Jvm.Cond.laysFinal "ThirtyThreeBelow" "ThirtyThreeBelow" "olds" "[Z") ∈ lw_all := lw_g (lw_at lw_m2 41 rfl) rfl
theorem q365 : (Jvm.Cond.soleField "ThirtyThreeBelow" "olds") ∈ lw_all := lw_g (lw_at lw_m2 42 rfl) rfl
theorem q366 : (Jvm.Cond.laysFinal "ThirtyThreeBelow" "ThirtyThreeBelow" "oldMany" "[I") ∈ lw_all := lw_g (lw_at lw_m2 43 rfl) rfl
theorem q367 : (Jvm.Cond.soleField "ThirtyThreeBelow" "oldMany") ∈ lw_all := lw_g (lw_at lw_m2 44 rfl) rfl
theorem q368 : (Jvm.Cond.lays "ThirtyThreeBelow" "ThirtyThreeBelow" "maps" "I") ∈ lw_all := lw_g (lw_at lw_m2 45 rfl) rfl
theorem q369 : (Jvm.Cond.soleField "ThirtyThreeBelow" "maps") ∈ lw_all := lw_g (lw_at lw_m2 46 rfl) rfl
theorem q370 : (Jvm.Cond.laysFinal "ThirtyThreeBelow" "ThirtyThreeBelow" "names" "[I") ∈ lw_all := lw_g (lw_at lw_m2 47 rfl) rfl
theorem q371 : (Jvm.Cond.soleField "ThirtyThreeBelow" "names") ∈ lw_all := lw_g (lw_at lw_m2 48 rfl) rfl
theorem q372 : (Jvm.Cond.lays "ThirtyThreeBelow" "ThirtyThreeBelow" "byLine" "I") ∈ lw_all := lw_g (lw_at lw_m2 49 rfl) rfl
theorem q373 : (Jvm.Cond.soleField "ThirtyThreeBelow" "byLine") ∈ lw_all := lw_g (lw_at lw_m2 50 rfl) rfl
theorem q374 : (Jvm.Cond.laysFinal "ThirtyThreeBelow" "ThirtyThreeBelow" "tape" "[I") ∈ lw_all := lw_g (lw_at lw_m2 51 rfl) rfl
theorem q375 : (Jvm.Cond.soleField "ThirtyThreeBelow" "tape") ∈ lw_all := lw_g (lw_at lw_m2 52 rfl) rfl
theorem q376 : (Jvm.Cond.lays "ThirtyThreeBelow" "ThirtyThreeBelow" "length" "I") ∈ lw_all := lw_g (lw_at lw_m2 53 rfl) rfl
theorem q377 : (Jvm.Cond.soleField "ThirtyThreeBelow" "length") ∈ lw_all := lw_g (lw_at lw_m2 54 rfl) rfl
theorem q378 : (Jvm.Cond.laysFinal "ThirtyThreeBelow" "ThirtyThreeBelow" "reader" "LThirtyThreeBelow$Reader;") ∈ lw_all := lw_g (lw_at lw_m2 55 rfl) rfl
theorem q379 : (Jvm.Cond.soleField "ThirtyThreeBelow" "reader") ∈ lw_all := lw_g (lw_at lw_m2 56 rfl) rfl
theorem q380 : (Jvm.Cond.laysFinal "ThirtyThreeBelow" "ThirtyThreeBelow" "texts" "[LThirtyThreeBelow$Text;") ∈ lw_all := lw_g (lw_at lw_m2 57 rfl) rfl
theorem q381 : (Jvm.Cond.soleField "ThirtyThreeBelow" "texts") ∈ lw_all := lw_g (lw_at lw_m2 58 rfl) rfl
theorem q382 : (Jvm.Cond.lays "ThirtyThreeBelow" "ThirtyThreeBelow" "textMany" "I") ∈ lw_all := lw_g (lw_at lw_m2 59 rfl) rfl
theorem q383 : (Jvm.Cond.soleField "ThirtyThreeBelow" "textMany") ∈ lw_all := lw_g (lw_at lw_m2 60 rfl) rfl
theorem q384 : (Jvm.Cond.lays "ThirtyThreeBelow" "ThirtyThreeBelow" "spoons" "I") ∈ lw_all := lw_g (lw_at lw_m2 61 rfl) rfl
theorem q385 : (Jvm.Cond.soleField "ThirtyThreeBelow" "spoons") ∈ lw_all := lw_g (lw_at lw_m2 62 rfl) rfl
theorem q386 : (Jvm.Cond.lays "ThirtyThreeBelow" "ThirtyThreeBelow" "eaten" "I") ∈ lw_all := lw_g (lw_at lw_m2 63 rfl) rfl
theorem q387 : (Jvm.Cond.soleField "ThirtyThreeBelow" "eaten") ∈ lw_all := lw_g (lw_at lw_m2 64 rfl) rfl
theorem q388 : (Jvm.Cond.laysFinal "ThirtyThreeBelow" "ThirtyThreeBelow" "moves" "[I") ∈ lw_all := lw_g (lw_at lw_m2 65 rfl) rfl
theorem q389 : (Jvm.Cond.soleField "ThirtyThreeBelow" "moves") ∈ lw_all := lw_g (lw_at lw_m2 66 rfl) rfl
theorem q390 : (Jvm.Cond.laysFinal "ThirtyThreeBelow" "ThirtyThreeBelow" "movesOn" "[I") ∈ lw_all := lw_g (lw_at lw_m2 67 rfl) rfl
theorem q391 : (Jvm.Cond.soleField "ThirtyThreeBelow" "movesOn") ∈ lw_all := lw_g (lw_at lw_m2 68 rfl) rfl
theorem q392 : (Jvm.Cond.lays "ThirtyThreeBelow" "ThirtyThreeBelow" "rockRows" "I") ∈ lw_all := lw_g (lw_at lw_m2 69 rfl) rfl
theorem q393 : (Jvm.Cond.soleField "ThirtyThreeBelow" "rockRows") ∈ lw_all := lw_g (lw_at lw_m2 70 rfl) rfl
theorem q394 : (Jvm.Cond.laysFinal "ThirtyThreeBelow" "ThirtyThreeBelow" "works" "[Z") ∈ lw_all := lw_g (lw_at lw_m2 71 rfl) rfl
theorem q395 : (Jvm.Cond.soleField "ThirtyThreeBelow" "works") ∈ lw_all := lw_g (lw_at lw_m2 72 rfl) rfl
theorem q396 : (Jvm.Cond.laysFinal "ThirtyThreeBelow" "ThirtyThreeBelow" "strengths" "[I") ∈ lw_all := lw_g (lw_at lw_m2 73 rfl) rfl
theorem q397 : (Jvm.Cond.soleField "ThirtyThreeBelow" "strengths") ∈ lw_all := lw_g (lw_at lw_m2 74 rfl) rfl
theorem q398 : (Jvm.Cond.laysFinal "ThirtyThreeBelow" "ThirtyThreeBelow" "downWhat" "[I") ∈ lw_all := lw_g (lw_at lw_m2 75 rfl) rfl
theorem q399 : (Jvm.Cond.soleField "ThirtyThreeBelow" "downWhat") ∈ lw_all := lw_g (lw_at lw_m2 76 rfl) rfl
theorem q400 : (Jvm.Cond.laysFinal "ThirtyThreeBelow" "ThirtyThreeBelow" "downOn" "[I") ∈ lw_all := lw_g (lw_at lw_m2 77 rfl) rfl
theorem q401 : (Jvm.Cond.soleField "ThirtyThreeBelow" "downOn") ∈ lw_all := lw_g (lw_at lw_m2 78 rfl) rfl
theorem q402 : (Jvm.Cond.lays "ThirtyThreeBelow" "ThirtyThreeBelow" "downMany" "I") ∈ lw_all := lw_g (lw_at lw_m2 79 rfl) rfl
theorem q403 : (Jvm.Cond.soleField "ThirtyThreeBelow" "downMany") ∈ lw_all := lw_g (lw_at lw_m2 80 rfl) rfl
theorem q404 : (Jvm.Cond.laysFinal "ThirtyThreeBelow" "ThirtyThreeBelow" "stuffs" "[I") ∈ lw_all := lw_g (lw_at lw_m2 81 rfl) rfl
theorem q405 : (Jvm.Cond.soleField "ThirtyThreeBelow" "stuffs") ∈ lw_all := lw_g (lw_at lw_m2 82 rfl) rfl
theorem q406 : (Jvm.Cond.laysFinal "ThirtyThreeBelow" "ThirtyThreeBelow" "needHours" "[I") ∈ lw_all := lw_g (lw_at lw_m2 83 rfl) rfl
theorem q407 : (Jvm.Cond.soleField "ThirtyThreeBelow" "needHours") ∈ lw_all := lw_g (lw_at lw_m2 84 rfl) rfl
theorem q408 : (Jvm.Cond.laysFinal "ThirtyThreeBelow" "ThirtyThreeBelow" "needWeight" "[I") ∈ lw_all := lw_g (lw_at lw_m2 85 rfl) rfl
theorem q409 : (Jvm.Cond.soleField "ThirtyThreeBelow" "needWeight") ∈ lw_all := lw_g (lw_at lw_m2 86 rfl) rfl
theorem q410 : (Jvm.Cond.laysFinal "ThirtyThreeBelow" "ThirtyThreeBelow" "needBy" "[I") ∈ lw_all := lw_g (lw_at lw_m2 87 rfl) rfl
theorem q411 : (Jvm.Cond.soleField "ThirtyThreeBelow" "needBy") ∈ lw_all := lw_g (lw_at lw_m2 88 rfl) rfl
theorem q412 : (Jvm.Cond.lays "ThirtyThreeBelow" "ThirtyThreeBelow" "needs" "I") ∈ lw_all := lw_g (lw_at lw_m2 89 rfl) rfl
theorem q413 : (Jvm.Cond.soleField "ThirtyThreeBelow" "needs") ∈ lw_all := lw_g (lw_at lw_m2 90 rfl) rfl
theorem q414 : (Jvm.Cond.laysFinal "ThirtyThreeBelow" "ThirtyThreeBelow" "leastOf" "[I") ∈ lw_all := lw_g (lw_at lw_m2 91 rfl) rfl
theorem q415 : (Jvm.Cond.soleField "ThirtyThreeBelow" "leastOf") ∈ lw_all := lw_g (lw_at lw_m2 92 rfl) rfl
theorem q416 : (Jvm.Cond.laysFinal "ThirtyThreeBelow" "ThirtyThreeBelow" "orderOf" "[I") ∈ lw_all := lw_g (lw_at lw_m2 93 rfl) rfl
theorem q417 : (Jvm.Cond.soleField "ThirtyThreeBelow" "orderOf") ∈ lw_all := lw_g (lw_at lw_m2 94 rfl) rfl
theorem q418 : (Jvm.Cond.lays "ThirtyThreeBelow" "ThirtyThreeBelow" "orderMany" "I") ∈ lw_all := lw_g (lw_at lw_m2 95 rfl) rfl
theorem q419 : (Jvm.Cond.soleField "ThirtyThreeBelow" "orderMany") ∈ lw_all := lw_g (lw_at lw_m2 96 rfl) rfl
theorem q420 : (Jvm.Cond.laysFinal "ThirtyThreeBelow" "ThirtyThreeBelow" "watchers" "[I") ∈ lw_all := lw_g (lw_at lw_m2 97 rfl) rfl
theorem q421 : (Jvm.Cond.soleField "ThirtyThreeBelow" "watchers") ∈ lw_all := lw_g (lw_at lw_m2 98 rfl) rfl
theorem q422 : (Jvm.Cond.lays "ThirtyThreeBelow" "ThirtyThreeBelow" "watchPlaces" "I") ∈ lw_all := lw_g (lw_at lw_m2 99 rfl) rfl
theorem q423 : (Jvm.Cond.soleField "ThirtyThreeBelow" "watchPlaces") ∈ lw_all := lw_g (lw_at lw_m2 100 rfl) rfl
theorem q424 : (Jvm.Cond.laysFinal "ThirtyThreeBelow" "ThirtyThreeBelow" "aimColumn" "[I") ∈ lw_all := lw_g (lw_at lw_m2 101 rfl) rfl
theorem q425 : (Jvm.Cond.soleField "ThirtyThreeBelow" "aimColumn") ∈ lw_all := lw_g (lw_at lw_m2 102 rfl) rfl
theorem q426 : (Jvm.Cond.laysFinal "ThirtyThreeBelow" "ThirtyThreeBelow" "aimMisses" "[I") ∈ lw_all := lw_g (lw_at lw_m2 103 rfl) rfl
theorem q427 : (Jvm.Cond.soleField "ThirtyThreeBelow" "aimMisses") ∈ lw_all := lw_g (lw_at lw_m2 104 rfl) rfl
theorem q428 : (Jvm.Cond.lays "ThirtyThreeBelow" "ThirtyThreeBelow" "aims" "I") ∈ lw_all := lw_g (lw_at lw_m2 105 rfl) rfl
theorem q429 : (Jvm.Cond.soleField "ThirtyThreeBelow" "aims") ∈ lw_all := lw_g (lw_at lw_m2 106 rfl) rfl
theorem q430 : (Jvm.Cond.laysFinal "ThirtyThreeBelow" "ThirtyThreeBelow" "rock" "[I") ∈ lw_all := lw_g (lw_at lw_m2 107 rfl) rfl
theorem q431 : (Jvm.Cond.soleField "ThirtyThreeBelow" "rock") ∈ lw_all := lw_g (lw_at lw_m2 108 rfl) rfl
theorem q432 : (Jvm.Cond.laysFinal "ThirtyThreeBelow" "ThirtyThreeBelow" "aimedPlace" "[I") ∈ lw_all := lw_g (lw_at lw_m2 109 rfl) rfl
theorem q433 : (Jvm.Cond.soleField "ThirtyThreeBelow" "aimedPlace") ∈ lw_all := lw_g (lw_at lw_m2 110 rfl) rfl
theorem q434 : (Jvm.Cond.laysFinal "ThirtyThreeBelow" "ThirtyThreeBelow" "aimedMachine" "[I") ∈ lw_all := lw_g (lw_at lw_m2 111 rfl) rfl
theorem q435 : (Jvm.Cond.soleField "ThirtyThreeBelow" "aimedMachine") ∈ lw_all := lw_g (lw_at lw_m2 112 rfl) rfl
theorem q436 : (Jvm.Cond.lays "ThirtyThreeBelow" "ThirtyThreeBelow" "aimedMany" "I") ∈ lw_all := lw_g (lw_at lw_m2 113 rfl) rfl
theorem q437 : (Jvm.Cond.soleField "ThirtyThreeBelow" "aimedMany") ∈ lw_all := lw_g (lw_at lw_m2 114 rfl) rfl
theorem q438 : (Jvm.Cond.laysFinal "ThirtyThreeBelow" "ThirtyThreeBelow" "upWho" "[I") ∈ lw_all := lw_g (lw_at lw_m2 115 rfl) rfl
theorem q439 : (Jvm.Cond.soleField "ThirtyThreeBelow" "upWho") ∈ lw_all := lw_g (lw_at lw_m2 116 rfl) rfl
theorem q440 : (Jvm.Cond.laysFinal "ThirtyThreeBelow" "ThirtyThreeBelow" "upOn" "[I") ∈ lw_all := lw_g (lw_at lw_m2 117 rfl) rfl
theorem q441 : (Jvm.Cond.soleField "ThirtyThreeBelow" "upOn") ∈ lw_all := lw_g (lw_at lw_m2 118 rfl) rfl
theorem q442 : (Jvm.Cond.lays "ThirtyThreeBelow" "ThirtyThreeBelow" "upMany" "I") ∈ lw_all := lw_g (lw_at lw_m2 119 rfl) rfl
theorem q443 : (Jvm.Cond.soleField "ThirtyThreeBelow" "upMany") ∈ lw_all := lw_g (lw_at lw_m2 120 rfl) rfl
theorem q444 : (Jvm.Cond.lays "ThirtyThreeBelow" "ThirtyThreeBelow" "upFrom" "I") ∈ lw_all := lw_g (lw_at lw_m2 121 rfl) rfl
theorem q445 : (Jvm.Cond.soleField "ThirtyThreeBelow" "upFrom") ∈ lw_all := lw_g (lw_at lw_m2 122 rfl) rfl
theorem q446 : (Jvm.Cond.laysFinal "ThirtyThreeBelow" "ThirtyThreeBelow" "firsts" "[I") ∈ lw_all := lw_g (lw_at lw_m2 123 rfl) rfl
theorem q447 : (Jvm.Cond.soleField "ThirtyThreeBelow" "firsts") ∈ lw_all := lw_g (lw_at lw_m2 124 rfl) rfl
theorem q448 : (Jvm.Cond.laysFinal "ThirtyThreeBelow" "ThirtyThreeBelow" "shelves" "[Ljava/lang/Object;") ∈ lw_all := lw_g (lw_at lw_m2 125 rfl) rfl
theorem q449 : (Jvm.Cond.soleField "ThirtyThreeBelow" "shelves") ∈ lw_all := lw_g (lw_at lw_m2 126 rfl) rfl
theorem q450 : (Jvm.Cond.superclass "ThirtyThreeBelow" "java/lang/Object") ∈ lw_all := lw_g (lw_at lw_m2 127 rfl) rfl
theorem q452 : (Jvm.Cond.instanceMethod ({ cls := "ThirtyThreeBelow", name := "hard", desc := "(II)I" } : Jvm.MethodName)) ∈ lw_all := lw_g (lw_at lw_m2 129 rfl) rfl
theorem q453 : (Jvm.Cond.selects "ThirtyThreeBelow" ({ cls := "ThirtyThreeBelow", name := "hard", desc := "(II)I" } : Jvm.MethodName) ({ cls := "ThirtyThreeBelow", name := "hard", desc := "(II)I" } : Jvm.MethodName)) ∈ lw_all := lw_g (lw_at lw_m2 130 rfl) rfl
theorem q454 : (Jvm.Cond.code ({ cls := "ThirtyThreeBelow", name := "hard", desc := "(II)I" } : Jvm.MethodName) prog_1_method_7_code (4 : Nat) (Option.some Jvm.ClassFile.FieldType.int)) ∈ lw_all := lw_g (lw_at lw_m2 131 rfl) rfl
theorem q455 : (Jvm.Cond.methodLink "ThirtyThreeBelow" (174 : Nat) ({ cls := "ThirtyThreeBelow", name := "isCell", desc := "(I)Z" } : Jvm.MethodName)) ∈ lw_all := lw_g (lw_at lw_m2 132 rfl) rfl
theorem q456 : (Jvm.Cond.static ({ cls := "ThirtyThreeBelow", name := "isCell", desc := "(I)Z" } : Jvm.MethodName)) ∈ lw_all := lw_g (lw_at lw_m2 133 rfl) rfl
theorem q457 : (Jvm.Cond.code ({ cls := "ThirtyThreeBelow", name := "isCell", desc := "(I)Z" } : Jvm.MethodName) prog_1_method_5_code (1 : Nat) (Option.some Jvm.ClassFile.FieldType.boolean)) ∈ lw_all := lw_g (lw_at lw_m2 134 rfl) rfl
theorem q458 : (Jvm.Cond.constantLong "ThirtyThreeBelow" (165 : Nat) (60 : Int64)) ∈ lw_all := lw_g (lw_at lw_m2 135 rfl) rfl
theorem q459 : (Jvm.Cond.methodLink "ThirtyThreeBelow" (167 : Nat) ({ cls := "ThirtyThreeBelow", name := "within", desc := "(JJJ)Z" } : Jvm.MethodName)) ∈ lw_all := lw_g (lw_at lw_m2 136 rfl) rfl
theorem q460 : (Jvm.Cond.static ({ cls := "ThirtyThreeBelow", name := "within", desc := "(JJJ)Z" } : Jvm.MethodName)) ∈ lw_all := lw_g (lw_at lw_m2 137 rfl) rfl
theorem q461 : (Jvm.Cond.code ({ cls := "ThirtyThreeBelow", name := "within", desc := "(JJJ)Z" } : Jvm.MethodName) prog_1_method_1_code (6 : Nat) (Option.some Jvm.ClassFile.FieldType.boolean)) ∈ lw_all := lw_g (lw_at lw_m2 138 rfl) rfl
theorem q462 : (Jvm.Cond.constantLong "ThirtyThreeBelow" (178 : Nat) (9 : Int64)) ∈ lw_all := lw_g (lw_at lw_m2 139 rfl) rfl
theorem q463 : (Jvm.Cond.methodLink "ThirtyThreeBelow" (180 : Nat) ({ cls := "ThirtyThreeBelow", name := "cellAt", desc := "(I)I" } : Jvm.MethodName)) ∈ lw_all := lw_g (lw_at lw_m2 140 rfl) rfl
theorem q464 : (Jvm.Cond.static ({ cls := "ThirtyThreeBelow", name := "cellAt", desc := "(I)I" } : Jvm.MethodName)) ∈ lw_all := lw_g (lw_at lw_m2 141 rfl) rfl
theorem q465 : (Jvm.Cond.code ({ cls := "ThirtyThreeBelow", name := "cellAt", desc := "(I)I" } : Jvm.MethodName) prog_1_method_6_code (1 : Nat) (Option.some Jvm.ClassFile.FieldType.int)) ∈ lw_all := lw_g (lw_at lw_m2 142 rfl) rfl
theorem q466 : (Jvm.Cond.methodLink "ThirtyThreeBelow" (171 : Nat) ({ cls := "ThirtyThreeBelow", name := "at", desc := "(II)I" } : Jvm.MethodName)) ∈ lw_all := lw_g (lw_at lw_m2 143 rfl) rfl
theorem q467 : (Jvm.Cond.static ({ cls := "ThirtyThreeBelow", name := "at", desc := "(II)I" } : Jvm.MethodName)) ∈ lw_all := lw_g (lw_at lw_m2 144 rfl) rfl
theorem q468 : (Jvm.Cond.code ({ cls := "ThirtyThreeBelow", name := "at", desc := "(II)I" } : Jvm.MethodName) prog_1_method_4_code (2 : Nat) (Option.some Jvm.ClassFile.FieldType.int)) ∈ lw_all := lw_g (lw_at lw_m2 145 rfl) rfl
theorem q470 : (Jvm.Cond.instanceMethod ({ cls := "ThirtyThreeBelow", name := "open", desc := "(II)I" } : Jvm.MethodName)) ∈ lw_all := lw_g (lw_at lw_m2 147 rfl) rfl
theorem q471 : (Jvm.Cond.selects "ThirtyThreeBelow" ({ cls := "ThirtyThreeBelow", name := "open", desc := "(II)I" } : Jvm.MethodName) ({ cls := "ThirtyThreeBelow", name := "open", desc := "(II)I" } : Jvm.MethodName)) ∈ lw_all := lw_g (lw_at lw_m2 148 rfl) rfl
theorem q472 : (Jvm.Cond.code ({ cls := "ThirtyThreeBelow", name := "open", desc := "(II)I" } : Jvm.MethodName) prog_1_method_8_code (4 : Nat) (Option.some Jvm.ClassFile.FieldType.int)) ∈ lw_all := lw_g (lw_at lw_m2 149 rfl) rfl
theorem q474 : (Jvm.Cond.instanceMethod ({ cls := "ThirtyThreeBelow", name := "ofCell", desc := "(II)I" } : Jvm.MethodName)) ∈ lw_all := lw_g (lw_at lw_m2 151 rfl) rfl
theorem q475 : (Jvm.Cond.selects "ThirtyThreeBelow" ({ cls := "ThirtyThreeBelow", name := "ofCell", desc := "(II)I" } : Jvm.MethodName) ({ cls := "ThirtyThreeBelow", name := "ofCell", desc := "(II)I" } : Jvm.MethodName)) ∈ lw_all := lw_g (lw_at lw_m2 152 rfl) rfl
theorem q476 : (Jvm.Cond.code ({ cls := "ThirtyThreeBelow", name := "ofCell", desc := "(II)I" } : Jvm.MethodName) prog_1_method_9_code (3 : Nat) (Option.some Jvm.ClassFile.FieldType.int)) ∈ lw_all := lw_g (lw_at lw_m2 153 rfl) rfl
theorem q478 : (Jvm.Cond.instanceMethod ({ cls := "ThirtyThreeBelow", name := "body", desc := "(I)I" } : Jvm.MethodName)) ∈ lw_all := lw_g (lw_at lw_m2 155 rfl) rfl
theorem q479 : (Jvm.Cond.selects "ThirtyThreeBelow" ({ cls := "ThirtyThreeBelow", name := "body", desc := "(I)I" } : Jvm.MethodName) ({ cls := "ThirtyThreeBelow", name := "body", desc := "(I)I" } : Jvm.MethodName)) ∈ lw_all := lw_g (lw_at lw_m2 156 rfl) rfl
theorem q480 : (Jvm.Cond.code ({ cls := "ThirtyThreeBelow", name := "body", desc := "(I)I" } : Jvm.MethodName) prog_1_method_16_code (2 : Nat) (Option.some Jvm.ClassFile.FieldType.int)) ∈ lw_all := lw_g (lw_at lw_m2 157 rfl) rfl
theorem q482 : (Jvm.Cond.methodLink "ThirtyThreeBelow" (215 : Nat) ({ cls := "ThirtyThreeBelow$Body", name := "<init>", desc := "(LThirtyThreeBelow;I)V" } : Jvm.MethodName)) ∈ lw_all := lw_g (lw_at lw_m2 159 rfl) rfl
theorem q487 : (Jvm.Cond.fieldLinkNest "ThirtyThreeBelow" (308 : Nat) "ThirtyThreeBelow$Body" "number" "I" "ThirtyThreeBelow") ∈ lw_tbl := lw_at lw_m2 164 rfl
theorem q494 : (Jvm.Cond.classLink "ThirtyThreeBelow" (218 : Nat) "ThirtyThreeBelow$Way") ∈ lw_all := lw_g (lw_at lw_m2 171 rfl) rfl
theorem q496 : (Jvm.Cond.methodLink "ThirtyThreeBelow" (220 : Nat) ({ cls := "ThirtyThreeBelow$Way", name := "<init>", desc := "(LThirtyThreeBelow;I)V" } : Jvm.MethodName)) ∈ lw_all := lw_g (lw_at lw_m2 173 rfl) rfl
theorem q506 : (Jvm.Cond.methodLink "ThirtyThreeBelow" (221 : Nat) ({ cls := "ThirtyThreeBelow", name := "add", desc := "(LThirtyThreeBelow$Body;)I" } : Jvm.MethodName)) ∈ lw_all := lw_g (lw_at lw_m2 183 rfl) rfl
theorem q507 : (Jvm.Cond.privateMethod ({ cls := "ThirtyThreeBelow", name := "add", desc := "(LThirtyThreeBelow$Body;)I" } : Jvm.MethodName)) ∈ lw_tbl := lw_at lw_m2 184 rfl
theorem q508 : (Jvm.Cond.instanceMethod ({ cls := "ThirtyThreeBelow", name := "add", desc := "(LThirtyThreeBelow$Body;)I" } : Jvm.MethodName)) ∈ lw_all := lw_g (lw_at lw_m2 185 rfl) rfl
theorem q509 : (Jvm.Cond.code ({ cls := "ThirtyThreeBelow", name := "add", desc := "(LThirtyThreeBelow$Body;)I" } : Jvm.MethodName) prog_1_method_15_code (2 : Nat) (Option.some Jvm.ClassFile.FieldType.int)) ∈ lw_all := lw_g (lw_at lw_m2 186 rfl) rfl
theorem q511 : (Jvm.Cond.instanceMethod ({ cls := "ThirtyThreeBelow", name := "hole", desc := "(II)I" } : Jvm.MethodName)) ∈ lw_all := lw_g (lw_at lw_m2 188 rfl) rfl
theorem q512 : (Jvm.Cond.selects "ThirtyThreeBelow" ({ cls := "ThirtyThreeBelow", name := "hole", desc := "(II)I" } : Jvm.MethodName) ({ cls := "ThirtyThreeBelow", name := "hole", desc := "(II)I" } : Jvm.MethodName)) ∈ lw_all := lw_g (lw_at lw_m2 189 rfl) rfl
theorem q513 : (Jvm.Cond.code ({ cls := "ThirtyThreeBelow", name := "hole", desc := "(II)I" } : Jvm.MethodName) prog_1_method_17_code (5 : Nat) (Option.some Jvm.ClassFile.FieldType.int)) ∈ lw_all := lw_g (lw_at lw_m2 190 rfl) rfl
theorem q514 : (Jvm.Cond.constantLong "ThirtyThreeBelow" (225 : Nat) (2 : Int64)) ∈ lw_all := lw_g (lw_at lw_m2 191 rfl) rfl
theorem q515 : (Jvm.Cond.constantLong "ThirtyThreeBelow" (227 : Nat) (5 : Int64)) ∈ lw_all := lw_g (lw_at lw_m2 192 rfl) rfl
theorem q517 : (Jvm.Cond.methodLink "ThirtyThreeBelow" (229 : Nat) ({ cls := "ThirtyThreeBelow$Hole", name := "<init>", desc := "(LThirtyThreeBelow;III)V" } : Jvm.MethodName)) ∈ lw_all := lw_g (lw_at lw_m2 194 rfl) rfl
theorem q522 : (Jvm.Cond.fieldLinkNest "ThirtyThreeBelow" (252 : Nat) "ThirtyThreeBelow$Hole" "column" "I" "ThirtyThreeBelow") ∈ lw_tbl := lw_at lw_m2 199 rfl
theorem q524 : (Jvm.Cond.fieldLinkNest "ThirtyThreeBelow" (255 : Nat) "ThirtyThreeBelow$Hole" "width" "I" "ThirtyThreeBelow") ∈ lw_tbl := lw_at lw_m2 201 rfl
theorem q526 : (Jvm.Cond.fieldLinkNest "ThirtyThreeBelow" (321 : Nat) "ThirtyThreeBelow$Hole" "leans" "[I" "ThirtyThreeBelow") ∈ lw_tbl := lw_at lw_m2 203 rfl
theorem q528 : (Jvm.Cond.fieldLinkNest "ThirtyThreeBelow" (275 : Nat) "ThirtyThreeBelow$Hole" "told" "I" "ThirtyThreeBelow") ∈ lw_tbl := lw_at lw_m2 205 rfl
theorem q530 : (Jvm.Cond.fieldLinkNest "ThirtyThreeBelow" (328 : Nat) "ThirtyThreeBelow$Hole" "met" "[I" "ThirtyThreeBelow") ∈ lw_tbl := lw_at lw_m2 207 rfl
theorem q532 : (Jvm.Cond.fieldLinkNest "ThirtyThreeBelow" (258 : Nat) "ThirtyThreeBelow$Hole" "bored" "I" "ThirtyThreeBelow") ∈ lw_tbl := lw_at lw_m2 209 rfl
theorem q534 : (Jvm.Cond.fieldLinkNest "ThirtyThreeBelow" (261 : Nat) "ThirtyThreeBelow$Hole" "x" "I" "ThirtyThreeBelow") ∈ lw_tbl := lw_at lw_m2 211 rfl
theorem q536 : (Jvm.Cond.fieldLinkNest "ThirtyThreeBelow" (272 : Nat) "ThirtyThreeBelow$Hole" "minutes" "I" "ThirtyThreeBelow") ∈ lw_tbl := lw_at lw_m2 213 rfl
theorem q538 : (Jvm.Cond.fieldLinkNest "ThirtyThreeBelow" (422 : Nat) "ThirtyThreeBelow$Hole" "throughOn" "I" "ThirtyThreeBelow") ∈ lw_tbl := lw_at lw_m2 215 rfl
theorem q540 : (Jvm.Cond.fieldLinkNest "ThirtyThreeBelow" (350 : Nat) "ThirtyThreeBelow$Hole" "logs" "[I" "ThirtyThreeBelow") ∈ lw_tbl := lw_at lw_m2 217 rfl
theorem q542 : (Jvm.Cond.fieldLinkNest "ThirtyThreeBelow" (353 : Nat) "ThirtyThreeBelow$Hole" "hasLog" "[Z" "ThirtyThreeBelow") ∈ lw_tbl := lw_at lw_m2 219 rfl
theorem q572 : (Jvm.Cond.classLink "ThirtyThreeBelow" (232 : Nat) "ThirtyThreeBelow$Tube") ∈ lw_all := lw_g (lw_at lw_m3 9 rfl) rfl
theorem q574 : (Jvm.Cond.methodLink "ThirtyThreeBelow" (234 : Nat) ({ cls := "ThirtyThreeBelow$Tube", name := "<init>", desc := "(LThirtyThreeBelow;III)V" } : Jvm.MethodName)) ∈ lw_all := lw_g (lw_at lw_m3 11 rfl) rfl
theorem q578 : (Jvm.Cond.fieldLinkNest "ThirtyThreeBelow" (490 : Nat) "ThirtyThreeBelow$Tube" "free" "I" "ThirtyThreeBelow") ∈ lw_tbl := lw_at lw_m3 15 rfl
theorem q600 : (Jvm.Cond.classLink "ThirtyThreeBelow" (235 : Nat) "ThirtyThreeBelow$Shaft") ∈ lw_all := lw_g (lw_at lw_m3 37 rfl) rfl
theorem q602 : (Jvm.Cond.methodLink "ThirtyThreeBelow" (237 : Nat) ({ cls := "ThirtyThreeBelow$Shaft", name := "<init>", desc := "(LThirtyThreeBelow;III)V" } : Jvm.MethodName)) ∈ lw_all := lw_g (lw_at lw_m3 39 rfl) rfl
theorem q625 : (Jvm.Cond.classLink "ThirtyThreeBelow" (238 : Nat) "ThirtyThreeBelow$Liner") ∈ lw_all := lw_g (lw_at lw_m3 62 rfl) rfl
theorem q627 : (Jvm.Cond.methodLink "ThirtyThreeBelow" (240 : Nat) ({ cls := "ThirtyThreeBelow$Liner", name := "<init>", desc := "(LThirtyThreeBelow;III)V" } : Jvm.MethodName)) ∈ lw_all := lw_g (lw_at lw_m3 64 rfl) rfl
theorem q652 : (Jvm.Cond.instanceMethod ({ cls := "ThirtyThreeBelow", name := "shelter", desc := "(II)I" } : Jvm.MethodName)) ∈ lw_all := lw_g (lw_at lw_m3 89 rfl) rfl
theorem q653 : (Jvm.Cond.selects "ThirtyThreeBelow" ({ cls := "ThirtyThreeBelow", name := "shelter", desc := "(II)I" } : Jvm.MethodName) ({ cls := "ThirtyThreeBelow", name := "shelter", desc := "(II)I" } : Jvm.MethodName)) ∈ lw_all := lw_g (lw_at lw_m3 90 rfl) rfl
theorem q654 : (Jvm.Cond.code ({ cls := "ThirtyThreeBelow", name := "shelter", desc := "(II)I" } : Jvm.MethodName) prog_1_method_19_code (3 : Nat) (Option.some Jvm.ClassFile.FieldType.int)) ∈ lw_all := lw_g (lw_at lw_m3 91 rfl) rfl
theorem q655 : (Jvm.Cond.methodLink "ThirtyThreeBelow" (241 : Nat) ({ cls := "ThirtyThreeBelow", name := "isSpan", desc := "(I)Z" } : Jvm.MethodName)) ∈ lw_all := lw_g (lw_at lw_m3 92 rfl) rfl
theorem q656 : (Jvm.Cond.static ({ cls := "ThirtyThreeBelow", name := "isSpan", desc := "(I)Z" } : Jvm.MethodName)) ∈ lw_all := lw_g (lw_at lw_m3 93 rfl) rfl
theorem q657 : (Jvm.Cond.code ({ cls := "ThirtyThreeBelow", name := "isSpan", desc := "(I)Z" } : Jvm.MethodName) prog_1_method_18_code (1 : Nat) (Option.some Jvm.ClassFile.FieldType.boolean)) ∈ lw_all := lw_g (lw_at lw_m3 94 rfl) rfl
theorem q658 : (Jvm.Cond.classLink "ThirtyThreeBelow" (205 : Nat) "ThirtyThreeBelow$Shelter") ∈ lw_all := lw_g (lw_at lw_m3 95 rfl) rfl
theorem q660 : (Jvm.Cond.methodLink "ThirtyThreeBelow" (244 : Nat) ({ cls := "ThirtyThreeBelow$Shelter", name := "<init>", desc := "(LThirtyThreeBelow;IIII)V" } : Jvm.MethodName)) ∈ lw_all := lw_g (lw_at lw_m3 97 rfl) rfl
theorem q665 : (Jvm.Cond.fieldLinkNest "ThirtyThreeBelow" (209 : Nat) "ThirtyThreeBelow$Shelter" "from" "I" "ThirtyThreeBelow") ∈ lw_tbl := lw_at lw_m3 102 rfl
theorem q667 : (Jvm.Cond.fieldLinkNest "ThirtyThreeBelow" (212 : Nat) "ThirtyThreeBelow$Shelter" "to" "I" "ThirtyThreeBelow") ∈ lw_tbl := lw_at lw_m3 104 rfl
theorem q669 : (Jvm.Cond.fieldLinkNest "ThirtyThreeBelow" (204 : Nat) "ThirtyThreeBelow$Shelter" "yard" "I" "ThirtyThreeBelow") ∈ lw_tbl := lw_at lw_m3 106 rfl
theorem q670 : (Jvm.Cond.fieldLinkNest "ThirtyThreeBelow" (300 : Nat) "ThirtyThreeBelow$Shelter" "hasHeld" "Z" "ThirtyThreeBelow") ∈ lw_tbl := lw_at lw_m3 107 rfl
theorem q687 : (Jvm.Cond.instanceMethod ({ cls := "ThirtyThreeBelow", name := "man", desc := "(II)I" } : Jvm.MethodName)) ∈ lw_all := lw_g (lw_at lw_m3 124 rfl) rfl
theorem q688 : (Jvm.Cond.selects "ThirtyThreeBelow" ({ cls := "ThirtyThreeBelow", name := "man", desc := "(II)I" } : Jvm.MethodName) ({ cls := "ThirtyThreeBelow", name := "man", desc := "(II)I" } : Jvm.MethodName)) ∈ lw_all := lw_g (lw_at lw_m3 125 rfl) rfl
theorem q689 : (Jvm.Cond.code ({ cls := "ThirtyThreeBelow", name := "man", desc := "(II)I" } : Jvm.MethodName) prog_1_method_20_code (3 : Nat) (Option.some Jvm.ClassFile.FieldType.int)) ∈ lw_all := lw_g (lw_at lw_m3 126 rfl) rfl
theorem q690 : (Jvm.Cond.constantLong "ThirtyThreeBelow" (247 : Nat) (999 : Int64)) ∈ lw_all := lw_g (lw_at lw_m3 127 rfl) rfl
theorem q691 : (Jvm.Cond.constantLong "ThirtyThreeBelow" (249 : Nat) (99 : Int64)) ∈ lw_all := lw_g (lw_at lw_m3 128 rfl) rfl
theorem q692 : (Jvm.Cond.classLink "ThirtyThreeBelow" (190 : Nat) "ThirtyThreeBelow$Man") ∈ lw_all := lw_g (lw_at lw_m3 129 rfl) rfl
theorem q694 : (Jvm.Cond.methodLink "ThirtyThreeBelow" (251 : Nat) ({ cls := "ThirtyThreeBelow$Man", name := "<init>", desc := "(LThirtyThreeBelow;IIII)V" } : Jvm.MethodName)) ∈ lw_all := lw_g (lw_at lw_m3 131 rfl) rfl
theorem q699 : (Jvm.Cond.fieldLinkNest "ThirtyThreeBelow" (291 : Nat) "ThirtyThreeBelow$Man" "strength" "I" "ThirtyThreeBelow") ∈ lw_tbl := lw_at lw_m3 136 rfl
theorem q701 : (Jvm.Cond.fieldLinkNest "ThirtyThreeBelow" (294 : Nat) "ThirtyThreeBelow$Man" "skill" "I" "ThirtyThreeBelow") ∈ lw_tbl := lw_at lw_m3 138 rfl
theorem q703 : (Jvm.Cond.fieldLinkNest "ThirtyThreeBelow" (297 : Nat) "ThirtyThreeBelow$Man" "ill" "I" "ThirtyThreeBelow") ∈ lw_tbl := lw_at lw_m3 140 rfl
theorem q704 : (Jvm.Cond.fieldLinkNest "ThirtyThreeBelow" (196 : Nat) "ThirtyThreeBelow$Man" "isUp" "Z" "ThirtyThreeBelow") ∈ lw_tbl := lw_at lw_m3 141 rfl
theorem q720 : (Jvm.Cond.instanceMethod ({ cls := "ThirtyThreeBelow", name := "ofBody", desc := "(II)I" } : Jvm.MethodName)) ∈ lw_all := lw_g (lw_at lw_m3 157 rfl) rfl
theorem q721 : (Jvm.Cond.selects "ThirtyThreeBelow" ({ cls := "ThirtyThreeBelow", name := "ofBody", desc := "(II)I" } : Jvm.MethodName) ({ cls := "ThirtyThreeBelow", name := "ofBody", desc := "(II)I" } : Jvm.MethodName)) ∈ lw_all := lw_g (lw_at lw_m3 158 rfl) rfl
theorem q722 : (Jvm.Cond.code ({ cls := "ThirtyThreeBelow", name := "ofBody", desc := "(II)I" } : Jvm.MethodName) prog_1_method_23_code (4 : Nat) (Option.some Jvm.ClassFile.FieldType.int)) ∈ lw_all := lw_g (lw_at lw_m3 159 rfl) rfl
theorem q723 : (Jvm.Cond.methodLink "ThirtyThreeBelow" (187 : Nat) ({ cls := "ThirtyThreeBelow", name := "isBody", desc := "(I)Z" } : Jvm.MethodName)) ∈ lw_all := lw_g (lw_at lw_m3 160 rfl) rfl
theorem q724 : (Jvm.Cond.privateMethod ({ cls := "ThirtyThreeBelow", name := "isBody", desc := "(I)Z" } : Jvm.MethodName)) ∈ lw_tbl := lw_at lw_m3 161 rfl
theorem q725 : (Jvm.Cond.instanceMethod ({ cls := "ThirtyThreeBelow", name := "isBody", desc := "(I)Z" } : Jvm.MethodName)) ∈ lw_all := lw_g (lw_at lw_m3 162 rfl) rfl
theorem q726 : (Jvm.Cond.code ({ cls := "ThirtyThreeBelow", name := "isBody", desc := "(I)Z" } : Jvm.MethodName) prog_1_method_10_code (2 : Nat) (Option.some Jvm.ClassFile.FieldType.boolean)) ∈ lw_all := lw_g (lw_at lw_m3 163 rfl) rfl
theorem q727 : (Jvm.Cond.constant "ThirtyThreeBelow" (278 : Nat) (-2000000000 : Int32)) ∈ lw_all := lw_g (lw_at lw_m3 164 rfl) rfl
theorem q728 : (Jvm.Cond.methodLink "ThirtyThreeBelow" (279 : Nat) ({ cls := "ThirtyThreeBelow$Body", name := "kind", desc := "()I" } : Jvm.MethodName)) ∈ lw_all := lw_g (lw_at lw_m3 165 rfl) rfl
theorem q754 : (Jvm.Cond.methodLink "ThirtyThreeBelow" (283 : Nat) ({ cls := "ThirtyThreeBelow", name := "holeOf", desc := "(I)LThirtyThreeBelow$Hole;" } : Jvm.MethodName)) ∈ lw_all := lw_g (lw_at lw_m3 191 rfl) rfl
theorem q755 : (Jvm.Cond.privateMethod ({ cls := "ThirtyThreeBelow", name := "holeOf", desc := "(I)LThirtyThreeBelow$Hole;" } : Jvm.MethodName)) ∈ lw_tbl := lw_at lw_m3 192 rfl
theorem q756 : (Jvm.Cond.instanceMethod ({ cls := "ThirtyThreeBelow", name := "holeOf", desc := "(I)LThirtyThreeBelow$Hole;" } : Jvm.MethodName)) ∈ lw_all := lw_g (lw_at lw_m3 193 rfl) rfl
theorem q757 : (Jvm.Cond.code ({ cls := "ThirtyThreeBelow", name := "holeOf", desc := "(I)LThirtyThreeBelow$Hole;" } : Jvm.MethodName) prog_1_method_11_code (2 : Nat) (Option.some (Jvm.ClassFile.FieldType.object "ThirtyThreeBelow$Hole"))) ∈ lw_all := lw_g (lw_at lw_m3 194 rfl) rfl
theorem q758 : (Jvm.Cond.methodLink "ThirtyThreeBelow" (287 : Nat) ({ cls := "ThirtyThreeBelow", name := "ofHole", desc := "(LThirtyThreeBelow$Hole;I)I" } : Jvm.MethodName)) ∈ lw_all := lw_g (lw_at lw_m3 195 rfl) rfl
theorem q759 : (Jvm.Cond.static ({ cls := "ThirtyThreeBelow", name := "ofHole", desc := "(LThirtyThreeBelow$Hole;I)I" } : Jvm.MethodName)) ∈ lw_all := lw_g (lw_at lw_m3 196 rfl) rfl
theorem q760 : (Jvm.Cond.code ({ cls := "ThirtyThreeBelow", name := "ofHole", desc := "(LThirtyThreeBelow$Hole;I)I" } : Jvm.MethodName) prog_1_method_22_code (2 : Nat) (Option.some Jvm.ClassFile.FieldType.int)) ∈ lw_all := lw_g (lw_at lw_m3 197 rfl) rfl
theorem q761 : (Jvm.Cond.methodLink "ThirtyThreeBelow" (264 : Nat) ({ cls := "ThirtyThreeBelow$Hole", name := "isThrough", desc := "()Z" } : Jvm.MethodName)) ∈ lw_all := lw_g (lw_at lw_m3 198 rfl) rfl
theorem q769 : (Jvm.Cond.methodLink "ThirtyThreeBelow" (268 : Nat) ({ cls := "ThirtyThreeBelow", name := "bit", desc := "(Z)I" } : Jvm.MethodName)) ∈ lw_all := lw_g (lw_at lw_m3 206 rfl) rfl
theorem q770 : (Jvm.Cond.static ({ cls := "ThirtyThreeBelow", name := "bit", desc := "(Z)I" } : Jvm.MethodName)) ∈ lw_all := lw_g (lw_at lw_m3 207 rfl) rfl
theorem q771 : (Jvm.Cond.code ({ cls := "ThirtyThreeBelow", name := "bit", desc := "(Z)I" } : Jvm.MethodName) prog_1_method_21_code (1 : Nat) (Option.some Jvm.ClassFile.FieldType.int)) ∈ lw_all := lw_g (lw_at lw_m3 208 rfl) rfl
theorem q772 : (Jvm.Cond.methodLink "ThirtyThreeBelow" (192 : Nat) ({ cls := "ThirtyThreeBelow", name := "manOf", desc := "(I)LThirtyThreeBelow$Man;" } : Jvm.MethodName)) ∈ lw_all := lw_g (lw_at lw_m3 209 rfl) rfl
theorem q773 : (Jvm.Cond.privateMethod ({ cls := "ThirtyThreeBelow", name := "manOf", desc := "(I)LThirtyThreeBelow$Man;" } : Jvm.MethodName)) ∈ lw_tbl := lw_at lw_m3 210 rfl
theorem q774 : (Jvm.Cond.instanceMethod ({ cls := "ThirtyThreeBelow", name := "manOf", desc := "(I)LThirtyThreeBelow$Man;" } : Jvm.MethodName)) ∈ lw_all := lw_g (lw_at lw_m3 211 rfl) rfl
theorem q775 : (Jvm.Cond.code ({ cls := "ThirtyThreeBelow", name := "manOf", desc := "(I)LThirtyThreeBelow$Man;" } : Jvm.MethodName) prog_1_method_12_code (2 : Nat) (Option.some (Jvm.ClassFile.FieldType.object "ThirtyThreeBelow$Man"))) ∈ lw_all := lw_g (lw_at lw_m3 212 rfl) rfl
theorem q777 : (Jvm.Cond.instanceMethod ({ cls := "ThirtyThreeBelow", name := "ill", desc := "(II)I" } : Jvm.MethodName)) ∈ lw_all := lw_g (lw_at lw_m3 214 rfl) rfl
theorem q778 : (Jvm.Cond.selects "ThirtyThreeBelow" ({ cls := "ThirtyThreeBelow", name := "ill", desc := "(II)I" } : Jvm.MethodName) ({ cls := "ThirtyThreeBelow", name := "ill", desc := "(II)I" } : Jvm.MethodName)) ∈ lw_all := lw_g (lw_at lw_m3 215 rfl) rfl
theorem q779 : (Jvm.Cond.code ({ cls := "ThirtyThreeBelow", name := "ill", desc := "(II)I" } : Jvm.MethodName) prog_1_method_24_code (5 : Nat) (Option.some Jvm.ClassFile.FieldType.int)) ∈ lw_all := lw_g (lw_at lw_m3 216 rfl) rfl
theorem q781 : (Jvm.Cond.instanceMethod ({ cls := "ThirtyThreeBelow", name := "speed", desc := "(II)I" } : Jvm.MethodName)) ∈ lw_all := lw_g (lw_at lw_m3 218 rfl) rfl
theorem q782 : (Jvm.Cond.selects "ThirtyThreeBelow" ({ cls := "ThirtyThreeBelow", name := "speed", desc := "(II)I" } : Jvm.MethodName) ({ cls := "ThirtyThreeBelow", name := "speed", desc := "(II)I" } : Jvm.MethodName)) ∈ lw_all := lw_g (lw_at lw_m3 219 rfl) rfl
theorem q783 : (Jvm.Cond.code ({ cls := "ThirtyThreeBelow", name := "speed", desc := "(II)I" } : Jvm.MethodName) prog_1_method_26_code (4 : Nat) (Option.some Jvm.ClassFile.FieldType.int)) ∈ lw_all := lw_g (lw_at lw_m3 220 rfl) rfl
theorem q784 : (Jvm.Cond.methodLink "ThirtyThreeBelow" (303 : Nat) ({ cls := "ThirtyThreeBelow", name := "isMachine", desc := "(I)Z" } : Jvm.MethodName)) ∈ lw_all := lw_g (lw_at lw_m3 221 rfl) rfl
theorem q785 : (Jvm.Cond.static ({ cls := "ThirtyThreeBelow", name := "isMachine", desc := "(I)Z" } : Jvm.MethodName)) ∈ lw_all := lw_g (lw_at lw_m3 222 rfl) rfl
theorem q786 : (Jvm.Cond.code ({ cls := "ThirtyThreeBelow", name := "isMachine", desc := "(I)Z" } : Jvm.MethodName) prog_1_method_25_code (1 : Nat) (Option.some Jvm.ClassFile.FieldType.boolean)) ∈ lw_all := lw_g (lw_at lw_m3 223 rfl) rfl
theorem q787 : (Jvm.Cond.constantLong "ThirtyThreeBelow" (306 : Nat) (10 : Int64)) ∈ lw_all := lw_g (lw_at lw_m3 224 rfl) rfl
theorem q789 : (Jvm.Cond.instanceMethod ({ cls := "ThirtyThreeBelow", name := "set", desc := "(II)I" } : Jvm.MethodName)) ∈ lw_all := lw_g (lw_at lw_m3 226 rfl) rfl
theorem q790 : (Jvm.Cond.selects "ThirtyThreeBelow" ({ cls := "ThirtyThreeBelow", name := "set", desc := "(II)I" } : Jvm.MethodName) ({ cls := "ThirtyThreeBelow", name := "set", desc := "(II)I" } : Jvm.MethodName)) ∈ lw_all := lw_g (lw_at lw_m3 227 rfl) rfl
theorem q791 : (Jvm.Cond.code ({ cls := "ThirtyThreeBelow", name := "set", desc := "(II)I" } : Jvm.MethodName) prog_1_method_28_code (5 : Nat) (Option.some Jvm.ClassFile.FieldType.int)) ∈ lw_all := lw_g (lw_at lw_m3 228 rfl) rfl
theorem q792 : (Jvm.Cond.methodLink "ThirtyThreeBelow" (311 : Nat) ({ cls := "ThirtyThreeBelow", name := "numberOf", desc := "(LThirtyThreeBelow$Body;)I" } : Jvm.MethodName)) ∈ lw_all := lw_g (lw_at lw_m3 229 rfl) rfl
theorem q793 : (Jvm.Cond.static ({ cls := "ThirtyThreeBelow", name := "numberOf", desc := "(LThirtyThreeBelow$Body;)I" } : Jvm.MethodName)) ∈ lw_all := lw_g (lw_at lw_m3 230 rfl) rfl
theorem q794 : (Jvm.Cond.code ({ cls := "ThirtyThreeBelow", name := "numberOf", desc := "(LThirtyThreeBelow$Body;)I" } : Jvm.MethodName) prog_1_method_27_code (1 : Nat) (Option.some Jvm.ClassFile.FieldType.int)) ∈ lw_all := lw_g (lw_at lw_m3 231 rfl) rfl
theorem q796 : (Jvm.Cond.instanceMethod ({ cls := "ThirtyThreeBelow", name := "breaks", desc := "(II)I" } : Jvm.MethodName)) ∈ lw_all := lw_g (lw_at lw_m3 233 rfl) rfl
theorem q797 : (Jvm.Cond.selects "ThirtyThreeBelow" ({ cls := "ThirtyThreeBelow", name := "breaks", desc := "(II)I" } : Jvm.MethodName) ({ cls := "ThirtyThreeBelow", name := "breaks", desc := "(II)I" } : Jvm.MethodName)) ∈ lw_all := lw_g (lw_at lw_m3 234 rfl) rfl
theorem q798 : (Jvm.Cond.code ({ cls := "ThirtyThreeBelow", name := "breaks", desc := "(II)I" } : Jvm.MethodName) prog_1_method_29_code (3 : Nat) (Option.some Jvm.ClassFile.FieldType.int)) ∈ lw_all := lw_g (lw_at lw_m3 235 rfl) rfl
theorem q799 : (Jvm.Cond.constantLong "ThirtyThreeBelow" (317 : Nat) (1699 : Int64)) ∈ lw_all := lw_g (lw_at lw_m3 236 rfl) rfl
theorem q801 : (Jvm.Cond.instanceMethod ({ cls := "ThirtyThreeBelow", name := "yard", desc := "(II)I" } : Jvm.MethodName)) ∈ lw_all := lw_g (lw_at lw_m3 238 rfl) rfl
theorem q802 : (Jvm.Cond.selects "ThirtyThreeBelow" ({ cls := "ThirtyThreeBelow", name := "yard", desc := "(II)I" } : Jvm.MethodName) ({ cls := "ThirtyThreeBelow", name := "yard", desc := "(II)I" } : Jvm.MethodName)) ∈ lw_all := lw_g (lw_at lw_m3 239 rfl) rfl
theorem q803 : (Jvm.Cond.code ({ cls := "ThirtyThreeBelow", name := "yard", desc := "(II)I" } : Jvm.MethodName) prog_1_method_30_code (4 : Nat) (Option.some Jvm.ClassFile.FieldType.int)) ∈ lw_all := lw_g (lw_at lw_m4 0 rfl) rfl
theorem q804 : (Jvm.Cond.constantLong "ThirtyThreeBelow" (319 : Nat) (-2 : Int64)) ∈ lw_all := lw_g (lw_at lw_m4 1 rfl) rfl
theorem q806 : (Jvm.Cond.instanceMethod ({ cls := "ThirtyThreeBelow", name := "met", desc := "(II)I" } : Jvm.MethodName)) ∈ lw_all := lw_g (lw_at lw_m4 3 rfl) rfl
theorem q807 : (Jvm.Cond.selects "ThirtyThreeBelow" ({ cls := "ThirtyThreeBelow", name := "met", desc := "(II)I" } : Jvm.MethodName) ({ cls := "ThirtyThreeBelow", name := "met", desc := "(II)I" } : Jvm.MethodName)) ∈ lw_all := lw_g (lw_at lw_m4 4 rfl) rfl
theorem q808 : (Jvm.Cond.code ({ cls := "ThirtyThreeBelow", name := "met", desc := "(II)I" } : Jvm.MethodName) prog_1_method_32_code (4 : Nat) (Option.some Jvm.ClassFile.FieldType.int)) ∈ lw_all := lw_g (lw_at lw_m4 5 rfl) rfl
theorem q809 : (Jvm.Cond.methodLink "ThirtyThreeBelow" (324 : Nat) ({ cls := "ThirtyThreeBelow", name := "isBored", desc := "(LThirtyThreeBelow$Hole;I)Z" } : Jvm.MethodName)) ∈ lw_all := lw_g (lw_at lw_m4 6 rfl) rfl
theorem q810 : (Jvm.Cond.static ({ cls := "ThirtyThreeBelow", name := "isBored", desc := "(LThirtyThreeBelow$Hole;I)Z" } : Jvm.MethodName)) ∈ lw_all := lw_g (lw_at lw_m4 7 rfl) rfl
theorem q811 : (Jvm.Cond.code ({ cls := "ThirtyThreeBelow", name := "isBored", desc := "(LThirtyThreeBelow$Hole;I)Z" } : Jvm.MethodName) prog_1_method_31_code (2 : Nat) (Option.some Jvm.ClassFile.FieldType.boolean)) ∈ lw_all := lw_g (lw_at lw_m4 8 rfl) rfl
theorem q813 : (Jvm.Cond.instanceMethod ({ cls := "ThirtyThreeBelow", name := "log", desc := "(IIIII)I" } : Jvm.MethodName)) ∈ lw_all := lw_g (lw_at lw_m4 10 rfl) rfl
theorem q814 : (Jvm.Cond.selects "ThirtyThreeBelow" ({ cls := "ThirtyThreeBelow", name := "log", desc := "(IIIII)I" } : Jvm.MethodName) ({ cls := "ThirtyThreeBelow", name := "log", desc := "(IIIII)I" } : Jvm.MethodName)) ∈ lw_all := lw_g (lw_at lw_m4 11 rfl) rfl
theorem q815 : (Jvm.Cond.codeWith ({ cls := "ThirtyThreeBelow", name := "log", desc := "(IIIII)I" } : Jvm.MethodName) prog_1_method_35_code (15 : Nat) (Option.some Jvm.ClassFile.FieldType.int) [((85 : Nat), (190 : Nat), (227 : Nat), (47 : Nat)), ((85 : Nat), (190 : Nat), (270 : Nat), (0 : Nat)), ((227 : Nat), (233 : Nat), (270 : Nat), (0 : Nat)), ((270 : Nat), (272 : Nat), (270 : Nat), (0 : Nat))]) ∈ lw_all := lw_g (lw_at lw_m4 12 rfl) rfl
theorem q816 : (Jvm.Cond.methodLink "ThirtyThreeBelow" (343 : Nat) ({ cls := "ThirtyThreeBelow", name := "isShelf", desc := "(I)Z" } : Jvm.MethodName)) ∈ lw_all := lw_g (lw_at lw_m4 13 rfl) rfl
theorem q817 : (Jvm.Cond.static ({ cls := "ThirtyThreeBelow", name := "isShelf", desc := "(I)Z" } : Jvm.MethodName)) ∈ lw_all := lw_g (lw_at lw_m4 14 rfl) rfl
theorem q818 : (Jvm.Cond.code ({ cls := "ThirtyThreeBelow", name := "isShelf", desc := "(I)Z" } : Jvm.MethodName) prog_1_method_89_code (1 : Nat) (Option.some Jvm.ClassFile.FieldType.boolean)) ∈ lw_all := lw_g (lw_at lw_m4 15 rfl) rfl
theorem q819 : (Jvm.Cond.classLink "ThirtyThreeBelow" (335 : Nat) "[F") ∈ lw_all := lw_g (lw_at lw_m4 16 rfl) rfl
theorem q820 : (Jvm.Cond.classLink "ThirtyThreeBelow" (341 : Nat) "[D") ∈ lw_all := lw_g (lw_at lw_m4 17 rfl) rfl
theorem q821 : (Jvm.Cond.methodLink "ThirtyThreeBelow" (346 : Nat) ({ cls := "ThirtyThreeBelow", name := "real", desc := "(Ljava/lang/Object;J)D" } : Jvm.MethodName)) ∈ lw_all := lw_g (lw_at lw_m4 18 rfl) rfl
theorem q822 : (Jvm.Cond.privateMethod ({ cls := "ThirtyThreeBelow", name := "real", desc := "(Ljava/lang/Object;J)D" } : Jvm.MethodName)) ∈ lw_tbl := lw_at lw_m4 19 rfl
theorem q823 : (Jvm.Cond.instanceMethod ({ cls := "ThirtyThreeBelow", name := "real", desc := "(Ljava/lang/Object;J)D" } : Jvm.MethodName)) ∈ lw_all := lw_g (lw_at lw_m4 20 rfl) rfl
theorem q824 : (Jvm.Cond.code ({ cls := "ThirtyThreeBelow", name := "real", desc := "(Ljava/lang/Object;J)D" } : Jvm.MethodName) prog_1_method_34_code (5 : Nat) (Option.some Jvm.ClassFile.FieldType.double)) ∈ lw_all := lw_g (lw_at lw_m4 21 rfl) rfl
theorem q825 : (Jvm.Cond.methodLink "ThirtyThreeBelow" (337 : Nat) ({ cls := "ThirtyThreeBelow", name := "widened", desc := "(F)D" } : Jvm.MethodName)) ∈ lw_all := lw_g (lw_at lw_m4 22 rfl) rfl
theorem q826 : (Jvm.Cond.static ({ cls := "ThirtyThreeBelow", name := "widened", desc := "(F)D" } : Jvm.MethodName)) ∈ lw_all := lw_g (lw_at lw_m4 23 rfl) rfl
theorem q827 : (Jvm.Cond.code ({ cls := "ThirtyThreeBelow", name := "widened", desc := "(F)D" } : Jvm.MethodName) prog_1_method_33_code (1 : Nat) (Option.some Jvm.ClassFile.FieldType.double)) ∈ lw_all := lw_g (lw_at lw_m4 24 rfl) rfl
theorem q828 : (Jvm.Cond.constantDouble "ThirtyThreeBelow" (333 : Nat) (9221120237041090560 : UInt64)) ∈ lw_all := lw_g (lw_at lw_m4 25 rfl) rfl
theorem q830 : (Jvm.Cond.instanceMethod ({ cls := "ThirtyThreeBelow", name := "spread", desc := "(I)I" } : Jvm.MethodName)) ∈ lw_all := lw_g (lw_at lw_m4 27 rfl) rfl
theorem q831 : (Jvm.Cond.selects "ThirtyThreeBelow" ({ cls := "ThirtyThreeBelow", name := "spread", desc := "(I)I" } : Jvm.MethodName) ({ cls := "ThirtyThreeBelow", name := "spread", desc := "(I)I" } : Jvm.MethodName)) ∈ lw_all := lw_g (lw_at lw_m4 28 rfl) rfl
theorem q832 : (Jvm.Cond.code ({ cls := "ThirtyThreeBelow", name := "spread", desc := "(I)I" } : Jvm.MethodName) prog_1_method_36_code (3 : Nat) (Option.some Jvm.ClassFile.FieldType.int)) ∈ lw_all := lw_g (lw_at lw_m4 29 rfl) rfl
theorem q833 : (Jvm.Cond.constantLong "ThirtyThreeBelow" (356 : Nat) (8 : Int64)) ∈ lw_all := lw_g (lw_at lw_m4 30 rfl) rfl
theorem q835 : (Jvm.Cond.instanceMethod ({ cls := "ThirtyThreeBelow", name := "canBe", desc := "(III)I" } : Jvm.MethodName)) ∈ lw_all := lw_g (lw_at lw_m4 32 rfl) rfl
theorem q836 : (Jvm.Cond.selects "ThirtyThreeBelow" ({ cls := "ThirtyThreeBelow", name := "canBe", desc := "(III)I" } : Jvm.MethodName) ({ cls := "ThirtyThreeBelow", name := "canBe", desc := "(III)I" } : Jvm.MethodName)) ∈ lw_all := lw_g (lw_at lw_m4 33 rfl) rfl
theorem q837 : (Jvm.Cond.code ({ cls := "ThirtyThreeBelow", name := "canBe", desc := "(III)I" } : Jvm.MethodName) prog_1_method_39_code (7 : Nat) (Option.some Jvm.ClassFile.FieldType.int)) ∈ lw_all := lw_g (lw_at lw_m4 34 rfl) rfl
theorem q838 : (Jvm.Cond.methodLink "ThirtyThreeBelow" (365 : Nat) ({ cls := "ThirtyThreeBelow$Hole", name := "low", desc := "(II)I" } : Jvm.MethodName)) ∈ lw_all := lw_g (lw_at lw_m4 35 rfl) rfl
theorem q846 : (Jvm.Cond.methodLink "ThirtyThreeBelow" (368 : Nat) ({ cls := "ThirtyThreeBelow$Hole", name := "high", desc := "(II)I" } : Jvm.MethodName)) ∈ lw_all := lw_g (lw_at lw_m4 43 rfl) rfl
theorem q854 : (Jvm.Cond.methodLink "ThirtyThreeBelow" (371 : Nat) ({ cls := "ThirtyThreeBelow", name := "least", desc := "(I)I" } : Jvm.MethodName)) ∈ lw_all := lw_g (lw_at lw_m4 51 rfl) rfl
theorem q855 : (Jvm.Cond.static ({ cls := "ThirtyThreeBelow", name := "least", desc := "(I)I" } : Jvm.MethodName)) ∈ lw_all := lw_g (lw_at lw_m4 52 rfl) rfl
theorem q856 : (Jvm.Cond.code ({ cls := "ThirtyThreeBelow", name := "least", desc := "(I)I" } : Jvm.MethodName) prog_1_method_37_code (1 : Nat) (Option.some Jvm.ClassFile.FieldType.int)) ∈ lw_all := lw_g (lw_at lw_m4 53 rfl) rfl
theorem q857 : (Jvm.Cond.methodLink "ThirtyThreeBelow" (358 : Nat) ({ cls := "java/lang/Math", name := "floorDiv", desc := "(II)I" } : Jvm.MethodName)) ∈ lw_all := lw_g (lw_at lw_m4 54 rfl) rfl
theorem q860 : (Jvm.Cond.methodLink "ThirtyThreeBelow" (361 : Nat) ({ cls := "ThirtyThreeBelow", name := "held", desc := "(III)I" } : Jvm.MethodName)) ∈ lw_all := lw_g (lw_at lw_m4 57 rfl) rfl
theorem q861 : (Jvm.Cond.static ({ cls := "ThirtyThreeBelow", name := "held", desc := "(III)I" } : Jvm.MethodName)) ∈ lw_all := lw_g (lw_at lw_m4 58 rfl) rfl
theorem q862 : (Jvm.Cond.code ({ cls := "ThirtyThreeBelow", name := "held", desc := "(III)I" } : Jvm.MethodName) prog_1_method_2_code (3 : Nat) (Option.some Jvm.ClassFile.FieldType.int)) ∈ lw_all := lw_g (lw_at lw_m4 59 rfl) rfl
theorem q863 : (Jvm.Cond.methodLink "ThirtyThreeBelow" (1 : Nat) ({ cls := "java/lang/Math", name := "min", desc := "(II)I" } : Jvm.MethodName)) ∈ lw_all := lw_g (lw_at lw_m4 60 rfl) rfl
theorem q866 : (Jvm.Cond.methodLink "ThirtyThreeBelow" (7 : Nat) ({ cls := "java/lang/Math", name := "max", desc := "(II)I" } : Jvm.MethodName)) ∈ lw_all := lw_g (lw_at lw_m4 63 rfl) rfl
theorem q869 : (Jvm.Cond.methodLink "ThirtyThreeBelow" (374 : Nat) ({ cls := "ThirtyThreeBelow", name := "most", desc := "(I)I" } : Jvm.MethodName)) ∈ lw_all := lw_g (lw_at lw_m4 66 rfl) rfl
theorem q870 : (Jvm.Cond.static ({ cls := "ThirtyThreeBelow", name := "most", desc := "(I)I" } : Jvm.MethodName)) ∈ lw_all := lw_g (lw_at lw_m4 67 rfl) rfl
theorem q871 : (Jvm.Cond.code ({ cls := "ThirtyThreeBelow", name := "most", desc := "(I)I" } : Jvm.MethodName) prog_1_method_38_code (1 : Nat) (Option.some Jvm.ClassFile.FieldType.int)) ∈ lw_all := lw_g (lw_at lw_m4 68 rfl) rfl
theorem q873 : (Jvm.Cond.instanceMethod ({ cls := "ThirtyThreeBelow", name := "map", desc := "(II)I" } : Jvm.MethodName)) ∈ lw_all := lw_g (lw_at lw_m4 70 rfl) rfl
theorem q874 : (Jvm.Cond.selects "ThirtyThreeBelow" ({ cls := "ThirtyThreeBelow", name := "map", desc := "(II)I" } : Jvm.MethodName) ({ cls := "ThirtyThreeBelow", name := "map", desc := "(II)I" } : Jvm.MethodName)) ∈ lw_all := lw_g (lw_at lw_m4 71 rfl) rfl
theorem q875 : (Jvm.Cond.code ({ cls := "ThirtyThreeBelow", name := "map", desc := "(II)I" } : Jvm.MethodName) prog_1_method_41_code (3 : Nat) (Option.some Jvm.ClassFile.FieldType.int)) ∈ lw_all := lw_g (lw_at lw_m4 72 rfl) rfl
theorem q877 : (Jvm.Cond.instanceMethod ({ cls := "ThirtyThreeBelow", name := "old", desc := "(II)I" } : Jvm.MethodName)) ∈ lw_all := lw_g (lw_at lw_m4 74 rfl) rfl
theorem q878 : (Jvm.Cond.selects "ThirtyThreeBelow" ({ cls := "ThirtyThreeBelow", name := "old", desc := "(II)I" } : Jvm.MethodName) ({ cls := "ThirtyThreeBelow", name := "old", desc := "(II)I" } : Jvm.MethodName)) ∈ lw_all := lw_g (lw_at lw_m4 75 rfl) rfl
theorem q879 : (Jvm.Cond.code ({ cls := "ThirtyThreeBelow", name := "old", desc := "(II)I" } : Jvm.MethodName) prog_1_method_44_code (3 : Nat) (Option.some Jvm.ClassFile.FieldType.int)) ∈ lw_all := lw_g (lw_at lw_m4 76 rfl) rfl
theorem q880 : (Jvm.Cond.methodLink "ThirtyThreeBelow" (383 : Nat) ({ cls := "ThirtyThreeBelow", name := "isMap", desc := "(I)Z" } : Jvm.MethodName)) ∈ lw_all := lw_g (lw_at lw_m4 77 rfl) rfl
theorem q881 : (Jvm.Cond.privateMethod ({ cls := "ThirtyThreeBelow", name := "isMap", desc := "(I)Z" } : Jvm.MethodName)) ∈ lw_tbl := lw_at lw_m4 78 rfl
theorem q882 : (Jvm.Cond.instanceMethod ({ cls := "ThirtyThreeBelow", name := "isMap", desc := "(I)Z" } : Jvm.MethodName)) ∈ lw_all := lw_g (lw_at lw_m4 79 rfl) rfl
theorem q883 : (Jvm.Cond.code ({ cls := "ThirtyThreeBelow", name := "isMap", desc := "(I)Z" } : Jvm.MethodName) prog_1_method_40_code (2 : Nat) (Option.some Jvm.ClassFile.FieldType.boolean)) ∈ lw_all := lw_g (lw_at lw_m4 80 rfl) rfl
theorem q884 : (Jvm.Cond.methodLink "ThirtyThreeBelow" (386 : Nat) ({ cls := "ThirtyThreeBelow", name := "isOld", desc := "(III)Z" } : Jvm.MethodName)) ∈ lw_all := lw_g (lw_at lw_m4 81 rfl) rfl
theorem q885 : (Jvm.Cond.privateMethod ({ cls := "ThirtyThreeBelow", name := "isOld", desc := "(III)Z" } : Jvm.MethodName)) ∈ lw_tbl := lw_at lw_m4 82 rfl
theorem q886 : (Jvm.Cond.instanceMethod ({ cls := "ThirtyThreeBelow", name := "isOld", desc := "(III)Z" } : Jvm.MethodName)) ∈ lw_all := lw_g (lw_at lw_m4 83 rfl) rfl
theorem q887 : (Jvm.Cond.code ({ cls := "ThirtyThreeBelow", name := "isOld", desc := "(III)Z" } : Jvm.MethodName) prog_1_method_43_code (4 : Nat) (Option.some Jvm.ClassFile.FieldType.boolean)) ∈ lw_all := lw_g (lw_at lw_m4 84 rfl) rfl
theorem q888 : (Jvm.Cond.methodLink "ThirtyThreeBelow" (380 : Nat) ({ cls := "ThirtyThreeBelow", name := "oldAt", desc := "(III)I" } : Jvm.MethodName)) ∈ lw_all := lw_g (lw_at lw_m4 85 rfl) rfl
theorem q889 : (Jvm.Cond.static ({ cls := "ThirtyThreeBelow", name := "oldAt", desc := "(III)I" } : Jvm.MethodName)) ∈ lw_all := lw_g (lw_at lw_m4 86 rfl) rfl
theorem q890 : (Jvm.Cond.code ({ cls := "ThirtyThreeBelow", name := "oldAt", desc := "(III)I" } : Jvm.MethodName) prog_1_method_42_code (3 : Nat) (Option.some Jvm.ClassFile.FieldType.int)) ∈ lw_all := lw_g (lw_at lw_m4 87 rfl) rfl
theorem q892 : (Jvm.Cond.instanceMethod ({ cls := "ThirtyThreeBelow", name := "wrong", desc := "(I)I" } : Jvm.MethodName)) ∈ lw_all := lw_g (lw_at lw_m4 89 rfl) rfl
theorem q893 : (Jvm.Cond.selects "ThirtyThreeBelow" ({ cls := "ThirtyThreeBelow", name := "wrong", desc := "(I)I" } : Jvm.MethodName) ({ cls := "ThirtyThreeBelow", name := "wrong", desc := "(I)I" } : Jvm.MethodName)) ∈ lw_all := lw_g (lw_at lw_m4 90 rfl) rfl
theorem q894 : (Jvm.Cond.code ({ cls := "ThirtyThreeBelow", name := "wrong", desc := "(I)I" } : Jvm.MethodName) prog_1_method_47_code (9 : Nat) (Option.some Jvm.ClassFile.FieldType.int)) ∈ lw_all := lw_g (lw_at lw_m4 91 rfl) rfl
theorem q895 : (Jvm.Cond.methodLink "ThirtyThreeBelow" (393 : Nat) ({ cls := "ThirtyThreeBelow", name := "isLike", desc := "(IIII)Z" } : Jvm.MethodName)) ∈ lw_all := lw_g (lw_at lw_m4 92 rfl) rfl
theorem q896 : (Jvm.Cond.privateMethod ({ cls := "ThirtyThreeBelow", name := "isLike", desc := "(IIII)Z" } : Jvm.MethodName)) ∈ lw_tbl := lw_at lw_m4 93 rfl
theorem q897 : (Jvm.Cond.instanceMethod ({ cls := "ThirtyThreeBelow", name := "isLike", desc := "(IIII)Z" } : Jvm.MethodName)) ∈ lw_all := lw_g (lw_at lw_m4 94 rfl) rfl
theorem q898 : (Jvm.Cond.code ({ cls := "ThirtyThreeBelow", name := "isLike", desc := "(IIII)Z" } : Jvm.MethodName) prog_1_method_46_code (7 : Nat) (Option.some Jvm.ClassFile.FieldType.boolean)) ∈ lw_all := lw_g (lw_at lw_m4 95 rfl) rfl
theorem q899 : (Jvm.Cond.methodLink "ThirtyThreeBelow" (390 : Nat) ({ cls := "ThirtyThreeBelow", name := "isOfShelter", desc := "(III)Z" } : Jvm.MethodName)) ∈ lw_all := lw_g (lw_at lw_m4 96 rfl) rfl
theorem q900 : (Jvm.Cond.privateMethod ({ cls := "ThirtyThreeBelow", name := "isOfShelter", desc := "(III)Z" } : Jvm.MethodName)) ∈ lw_tbl := lw_at lw_m4 97 rfl
theorem q901 : (Jvm.Cond.instanceMethod ({ cls := "ThirtyThreeBelow", name := "isOfShelter", desc := "(III)Z" } : Jvm.MethodName)) ∈ lw_all := lw_g (lw_at lw_m4 98 rfl) rfl
theorem q902 : (Jvm.Cond.code ({ cls := "ThirtyThreeBelow", name := "isOfShelter", desc := "(III)Z" } : Jvm.MethodName) prog_1_method_45_code (4 : Nat) (Option.some Jvm.ClassFile.FieldType.boolean)) ∈ lw_all := lw_g (lw_at lw_m4 99 rfl) rfl
theorem q904 : (Jvm.Cond.instanceMethod ({ cls := "ThirtyThreeBelow", name := "known", desc := "(I)I" } : Jvm.MethodName)) ∈ lw_all := lw_g (lw_at lw_m4 101 rfl) rfl
theorem q905 : (Jvm.Cond.selects "ThirtyThreeBelow" ({ cls := "ThirtyThreeBelow", name := "known", desc := "(I)I" } : Jvm.MethodName) ({ cls := "ThirtyThreeBelow", name := "known", desc := "(I)I" } : Jvm.MethodName)) ∈ lw_all := lw_g (lw_at lw_m4 102 rfl) rfl
theorem q906 : (Jvm.Cond.code ({ cls := "ThirtyThreeBelow", name := "known", desc := "(I)I" } : Jvm.MethodName) prog_1_method_48_code (9 : Nat) (Option.some Jvm.ClassFile.FieldType.int)) ∈ lw_all := lw_g (lw_at lw_m4 103 rfl) rfl
theorem q907 : (Jvm.Cond.methodLink "ThirtyThreeBelow" (397 : Nat) ({ cls := "ThirtyThreeBelow", name := "wrong", desc := "(I)I" } : Jvm.MethodName)) ∈ lw_all := lw_g (lw_at lw_m4 104 rfl) rfl
theorem q909 : (Jvm.Cond.instanceMethod ({ cls := "ThirtyThreeBelow", name := "feed", desc := "(II)I" } : Jvm.MethodName)) ∈ lw_all := lw_g (lw_at lw_m4 106 rfl) rfl
theorem q910 : (Jvm.Cond.selects "ThirtyThreeBelow" ({ cls := "ThirtyThreeBelow", name := "feed", desc := "(II)I" } : Jvm.MethodName) ({ cls := "ThirtyThreeBelow", name := "feed", desc := "(II)I" } : Jvm.MethodName)) ∈ lw_all := lw_g (lw_at lw_m4 107 rfl) rfl
theorem q911 : (Jvm.Cond.code ({ cls := "ThirtyThreeBelow", name := "feed", desc := "(II)I" } : Jvm.MethodName) prog_1_method_49_code (4 : Nat) (Option.some Jvm.ClassFile.FieldType.int)) ∈ lw_all := lw_g (lw_at lw_m4 108 rfl) rfl
theorem q912 : (Jvm.Cond.constantLong "ThirtyThreeBelow" (400 : Nat) (4 : Int64)) ∈ lw_all := lw_g (lw_at lw_m4 109 rfl) rfl
theorem q914 : (Jvm.Cond.instanceMethod ({ cls := "ThirtyThreeBelow", name := "text", desc := "(II)I" } : Jvm.MethodName)) ∈ lw_all := lw_g (lw_at lw_m4 111 rfl) rfl
theorem q915 : (Jvm.Cond.selects "ThirtyThreeBelow" ({ cls := "ThirtyThreeBelow", name := "text", desc := "(II)I" } : Jvm.MethodName) ({ cls := "ThirtyThreeBelow", name := "text", desc := "(II)I" } : Jvm.MethodName)) ∈ lw_all := lw_g (lw_at lw_m4 112 rfl) rfl
theorem q916 : (Jvm.Cond.code ({ cls := "ThirtyThreeBelow", name := "text", desc := "(II)I" } : Jvm.MethodName) prog_1_method_51_code (5 : Nat) (Option.some Jvm.ClassFile.FieldType.int)) ∈ lw_all := lw_g (lw_at lw_m4 113 rfl) rfl
theorem q917 : (Jvm.Cond.methodLink "ThirtyThreeBelow" (405 : Nat) ({ cls := "ThirtyThreeBelow", name := "isWhat", desc := "(I)Z" } : Jvm.MethodName)) ∈ lw_all := lw_g (lw_at lw_m4 114 rfl) rfl
theorem q918 : (Jvm.Cond.static ({ cls := "ThirtyThreeBelow", name := "isWhat", desc := "(I)Z" } : Jvm.MethodName)) ∈ lw_all := lw_g (lw_at lw_m4 115 rfl) rfl
theorem q919 : (Jvm.Cond.code ({ cls := "ThirtyThreeBelow", name := "isWhat", desc := "(I)Z" } : Jvm.MethodName) prog_1_method_50_code (1 : Nat) (Option.some Jvm.ClassFile.FieldType.boolean)) ∈ lw_all := lw_g (lw_at lw_m4 116 rfl) rfl
theorem q920 : (Jvm.Cond.methodLink "ThirtyThreeBelow" (411 : Nat) ({ cls := "ThirtyThreeBelow$Reader", name := "read", desc := "(LThirtyThreeBelow$Text;)I" } : Jvm.MethodName)) ∈ lw_all := lw_g (lw_at lw_m4 117 rfl) rfl
theorem q1122 : (Jvm.Cond.instanceMethod ({ cls := "ThirtyThreeBelow", name := "inForce", desc := "(III)I" } : Jvm.MethodName)) ∈ lw_all := lw_g (lw_at lw_m5 79 rfl) rfl
theorem q1123 : (Jvm.Cond.selects "ThirtyThreeBelow" ({ cls := "ThirtyThreeBelow", name := "inForce", desc := "(III)I" } : Jvm.MethodName) ({ cls := "ThirtyThreeBelow", name := "inForce", desc := "(III)I" } : Jvm.MethodName)) ∈ lw_all := lw_g (lw_at lw_m5 80 rfl) rfl
theorem q1124 : (Jvm.Cond.code ({ cls := "ThirtyThreeBelow", name := "inForce", desc := "(III)I" } : Jvm.MethodName) prog_1_method_54_code (5 : Nat) (Option.some Jvm.ClassFile.FieldType.int)) ∈ lw_all := lw_g (lw_at lw_m5 81 rfl) rfl
theorem q1125 : (Jvm.Cond.methodLink "ThirtyThreeBelow" (428 : Nat) ({ cls := "ThirtyThreeBelow", name := "force", desc := "(III)I" } : Jvm.MethodName)) ∈ lw_all := lw_g (lw_at lw_m5 82 rfl) rfl
theorem q1126 : (Jvm.Cond.privateMethod ({ cls := "ThirtyThreeBelow", name := "force", desc := "(III)I" } : Jvm.MethodName)) ∈ lw_tbl := lw_at lw_m5 83 rfl
theorem q1127 : (Jvm.Cond.instanceMethod ({ cls := "ThirtyThreeBelow", name := "force", desc := "(III)I" } : Jvm.MethodName)) ∈ lw_all := lw_g (lw_at lw_m5 84 rfl) rfl
theorem q1128 : (Jvm.Cond.code ({ cls := "ThirtyThreeBelow", name := "force", desc := "(III)I" } : Jvm.MethodName) prog_1_method_53_code (6 : Nat) (Option.some Jvm.ClassFile.FieldType.int)) ∈ lw_all := lw_g (lw_at lw_m5 85 rfl) rfl
theorem q1129 : (Jvm.Cond.methodLink "ThirtyThreeBelow" (425 : Nat) ({ cls := "ThirtyThreeBelow", name := "wasThroughBy", desc := "(I)Z" } : Jvm.MethodName)) ∈ lw_all := lw_g (lw_at lw_m5 86 rfl) rfl
theorem q1130 : (Jvm.Cond.privateMethod ({ cls := "ThirtyThreeBelow", name := "wasThroughBy", desc := "(I)Z" } : Jvm.MethodName)) ∈ lw_tbl := lw_at lw_m5 87 rfl
theorem q1131 : (Jvm.Cond.instanceMethod ({ cls := "ThirtyThreeBelow", name := "wasThroughBy", desc := "(I)Z" } : Jvm.MethodName)) ∈ lw_all := lw_g (lw_at lw_m5 88 rfl) rfl
theorem q1132 : (Jvm.Cond.code ({ cls := "ThirtyThreeBelow", name := "wasThroughBy", desc := "(I)Z" } : Jvm.MethodName) prog_1_method_52_code (3 : Nat) (Option.some Jvm.ClassFile.FieldType.boolean)) ∈ lw_all := lw_g (lw_at lw_m5 89 rfl) rfl
theorem q1134 : (Jvm.Cond.instanceMethod ({ cls := "ThirtyThreeBelow", name := "says", desc := "(II)I" } : Jvm.MethodName)) ∈ lw_all := lw_g (lw_at lw_m5 91 rfl) rfl
theorem q1135 : (Jvm.Cond.selects "ThirtyThreeBelow" ({ cls := "ThirtyThreeBelow", name := "says", desc := "(II)I" } : Jvm.MethodName) ({ cls := "ThirtyThreeBelow", name := "says", desc := "(II)I" } : Jvm.MethodName)) ∈ lw_all := lw_g (lw_at lw_m5 92 rfl) rfl
theorem q1136 : (Jvm.Cond.code ({ cls := "ThirtyThreeBelow", name := "says", desc := "(II)I" } : Jvm.MethodName) prog_1_method_58_code (4 : Nat) (Option.some Jvm.ClassFile.FieldType.int)) ∈ lw_all := lw_g (lw_at lw_m5 93 rfl) rfl
theorem q1137 : (Jvm.Cond.methodLink "ThirtyThreeBelow" (446 : Nat) ({ cls := "ThirtyThreeBelow", name := "gives", desc := "(ILThirtyThreeBelow$Man;I)I" } : Jvm.MethodName)) ∈ lw_all := lw_g (lw_at lw_m5 94 rfl) rfl
theorem q1138 : (Jvm.Cond.privateMethod ({ cls := "ThirtyThreeBelow", name := "gives", desc := "(ILThirtyThreeBelow$Man;I)I" } : Jvm.MethodName)) ∈ lw_tbl := lw_at lw_m5 95 rfl
theorem q1139 : (Jvm.Cond.instanceMethod ({ cls := "ThirtyThreeBelow", name := "gives", desc := "(ILThirtyThreeBelow$Man;I)I" } : Jvm.MethodName)) ∈ lw_all := lw_g (lw_at lw_m5 96 rfl) rfl
theorem q1140 : (Jvm.Cond.code ({ cls := "ThirtyThreeBelow", name := "gives", desc := "(ILThirtyThreeBelow$Man;I)I" } : Jvm.MethodName) prog_1_method_57_code (5 : Nat) (Option.some Jvm.ClassFile.FieldType.int)) ∈ lw_all := lw_g (lw_at lw_m5 97 rfl) rfl
theorem q1141 : (Jvm.Cond.methodLink "ThirtyThreeBelow" (434 : Nat) ({ cls := "ThirtyThreeBelow", name := "belowMany", desc := "()I" } : Jvm.MethodName)) ∈ lw_all := lw_g (lw_at lw_m5 98 rfl) rfl
theorem q1142 : (Jvm.Cond.privateMethod ({ cls := "ThirtyThreeBelow", name := "belowMany", desc := "()I" } : Jvm.MethodName)) ∈ lw_tbl := lw_at lw_m5 99 rfl
theorem q1143 : (Jvm.Cond.instanceMethod ({ cls := "ThirtyThreeBelow", name := "belowMany", desc := "()I" } : Jvm.MethodName)) ∈ lw_all := lw_g (lw_at lw_m5 100 rfl) rfl
theorem q1144 : (Jvm.Cond.code ({ cls := "ThirtyThreeBelow", name := "belowMany", desc := "()I" } : Jvm.MethodName) prog_1_method_55_code (3 : Nat) (Option.some Jvm.ClassFile.FieldType.int)) ∈ lw_all := lw_g (lw_at lw_m5 101 rfl) rfl
theorem q1145 : (Jvm.Cond.methodLink "ThirtyThreeBelow" (431 : Nat) ({ cls := "ThirtyThreeBelow", name := "belowOf", desc := "(I)LThirtyThreeBelow$Man;" } : Jvm.MethodName)) ∈ lw_all := lw_g (lw_at lw_m5 102 rfl) rfl
theorem q1146 : (Jvm.Cond.privateMethod ({ cls := "ThirtyThreeBelow", name := "belowOf", desc := "(I)LThirtyThreeBelow$Man;" } : Jvm.MethodName)) ∈ lw_tbl := lw_at lw_m5 103 rfl
theorem q1147 : (Jvm.Cond.instanceMethod ({ cls := "ThirtyThreeBelow", name := "belowOf", desc := "(I)LThirtyThreeBelow$Man;" } : Jvm.MethodName)) ∈ lw_all := lw_g (lw_at lw_m5 104 rfl) rfl
theorem q1148 : (Jvm.Cond.code ({ cls := "ThirtyThreeBelow", name := "belowOf", desc := "(I)LThirtyThreeBelow$Man;" } : Jvm.MethodName) prog_1_method_13_code (2 : Nat) (Option.some (Jvm.ClassFile.FieldType.object "ThirtyThreeBelow$Man"))) ∈ lw_all := lw_g (lw_at lw_m5 105 rfl) rfl
theorem q1149 : (Jvm.Cond.methodLink "ThirtyThreeBelow" (440 : Nat) ({ cls := "ThirtyThreeBelow", name := "throughMany", desc := "()I" } : Jvm.MethodName)) ∈ lw_all := lw_g (lw_at lw_m5 106 rfl) rfl
theorem q1150 : (Jvm.Cond.privateMethod ({ cls := "ThirtyThreeBelow", name := "throughMany", desc := "()I" } : Jvm.MethodName)) ∈ lw_tbl := lw_at lw_m5 107 rfl
theorem q1151 : (Jvm.Cond.instanceMethod ({ cls := "ThirtyThreeBelow", name := "throughMany", desc := "()I" } : Jvm.MethodName)) ∈ lw_all := lw_g (lw_at lw_m5 108 rfl) rfl
theorem q1152 : (Jvm.Cond.code ({ cls := "ThirtyThreeBelow", name := "throughMany", desc := "()I" } : Jvm.MethodName) prog_1_method_56_code (3 : Nat) (Option.some Jvm.ClassFile.FieldType.int)) ∈ lw_all := lw_g (lw_at lw_m5 109 rfl) rfl
theorem q1153 : (Jvm.Cond.methodLink "ThirtyThreeBelow" (443 : Nat) ({ cls := "ThirtyThreeBelow$Text", name := "value", desc := "()I" } : Jvm.MethodName)) ∈ lw_all := lw_g (lw_at lw_m5 110 rfl) rfl
theorem q1175 : (Jvm.Cond.instanceMethod ({ cls := "ThirtyThreeBelow", name := "hours", desc := "(I)I" } : Jvm.MethodName)) ∈ lw_all := lw_g (lw_at lw_m5 132 rfl) rfl
theorem q1176 : (Jvm.Cond.selects "ThirtyThreeBelow" ({ cls := "ThirtyThreeBelow", name := "hours", desc := "(I)I" } : Jvm.MethodName) ({ cls := "ThirtyThreeBelow", name := "hours", desc := "(I)I" } : Jvm.MethodName)) ∈ lw_all := lw_g (lw_at lw_m5 133 rfl) rfl
theorem q1177 : (Jvm.Cond.code ({ cls := "ThirtyThreeBelow", name := "hours", desc := "(I)I" } : Jvm.MethodName) prog_1_method_59_code (4 : Nat) (Option.some Jvm.ClassFile.FieldType.int)) ∈ lw_all := lw_g (lw_at lw_m5 134 rfl) rfl
theorem q1178 : (Jvm.Cond.constantLong "ThirtyThreeBelow" (450 : Nat) (48 : Int64)) ∈ lw_all := lw_g (lw_at lw_m5 135 rfl) rfl
theorem q1179 : (Jvm.Cond.methodLink "ThirtyThreeBelow" (452 : Nat) ({ cls := "ThirtyThreeBelow", name := "drill", desc := "()V" } : Jvm.MethodName)) ∈ lw_all := lw_g (lw_at lw_m5 136 rfl) rfl
theorem q1180 : (Jvm.Cond.privateMethod ({ cls := "ThirtyThreeBelow", name := "drill", desc := "()V" } : Jvm.MethodName)) ∈ lw_tbl := lw_at lw_m5 137 rfl
theorem q1181 : (Jvm.Cond.instanceMethod ({ cls := "ThirtyThreeBelow", name := "drill", desc := "()V" } : Jvm.MethodName)) ∈ lw_all := lw_g (lw_at lw_m5 138 rfl) rfl
theorem q1182 : (Jvm.Cond.code ({ cls := "ThirtyThreeBelow", name := "drill", desc := "()V" } : Jvm.MethodName) prog_1_method_60_code (3 : Nat) (Option.none : Option Jvm.ClassFile.FieldType)) ∈ lw_all := lw_g (lw_at lw_m5 139 rfl) rfl
theorem q1183 : (Jvm.Cond.methodLink "ThirtyThreeBelow" (468 : Nat) ({ cls := "ThirtyThreeBelow$Hole", name := "bore", desc := "(I)V" } : Jvm.MethodName)) ∈ lw_all := lw_g (lw_at lw_m5 140 rfl) rfl
theorem q1195 : (Jvm.Cond.privateMethod ({ cls := "ThirtyThreeBelow", name := "isShelterAt", desc := "(II)Z" } : Jvm.MethodName)) ∈ lw_tbl := lw_at lw_m5 152 rfl
theorem q1196 : (Jvm.Cond.instanceMethod ({ cls := "ThirtyThreeBelow", name := "isShelterAt", desc := "(II)Z" } : Jvm.MethodName)) ∈ lw_all := lw_g (lw_at lw_m5 153 rfl) rfl
theorem q1197 : (Jvm.Cond.code ({ cls := "ThirtyThreeBelow", name := "isShelterAt", desc := "(II)Z" } : Jvm.MethodName) prog_1_method_14_code (3 : Nat) (Option.some Jvm.ClassFile.FieldType.boolean)) ∈ lw_all := lw_g (lw_at lw_m5 154 rfl) rfl
theorem q1198 : (Jvm.Cond.methodLink "ThirtyThreeBelow" (455 : Nat) ({ cls := "ThirtyThreeBelow", name := "arrive", desc := "()V" } : Jvm.MethodName)) ∈ lw_all := lw_g (lw_at lw_m5 155 rfl) rfl
theorem q1199 : (Jvm.Cond.privateMethod ({ cls := "ThirtyThreeBelow", name := "arrive", desc := "()V" } : Jvm.MethodName)) ∈ lw_tbl := lw_at lw_m5 156 rfl
theorem q1200 : (Jvm.Cond.instanceMethod ({ cls := "ThirtyThreeBelow", name := "arrive", desc := "()V" } : Jvm.MethodName)) ∈ lw_all := lw_g (lw_at lw_m5 157 rfl) rfl
theorem q1201 : (Jvm.Cond.code ({ cls := "ThirtyThreeBelow", name := "arrive", desc := "()V" } : Jvm.MethodName) prog_1_method_69_code (3 : Nat) (Option.none : Option Jvm.ClassFile.FieldType)) ∈ lw_all := lw_g (lw_at lw_m5 158 rfl) rfl
theorem q1202 : (Jvm.Cond.methodLink "ThirtyThreeBelow" (458 : Nat) ({ cls := "ThirtyThreeBelow", name := "feedAll", desc := "()V" } : Jvm.MethodName)) ∈ lw_all := lw_g (lw_at lw_m5 159 rfl) rfl
theorem q1203 : (Jvm.Cond.privateMethod ({ cls := "ThirtyThreeBelow", name := "feedAll", desc := "()V" } : Jvm.MethodName)) ∈ lw_tbl := lw_at lw_m5 160 rfl
theorem q1204 : (Jvm.Cond.instanceMethod ({ cls := "ThirtyThreeBelow", name := "feedAll", desc := "()V" } : Jvm.MethodName)) ∈ lw_all := lw_g (lw_at lw_m5 161 rfl) rfl
theorem q1205 : (Jvm.Cond.code ({ cls := "ThirtyThreeBelow", name := "feedAll", desc := "()V" } : Jvm.MethodName) prog_1_method_61_code (4 : Nat) (Option.none : Option Jvm.ClassFile.FieldType)) ∈ lw_all := lw_g (lw_at lw_m5 162 rfl) rfl
theorem q1206 : (Jvm.Cond.methodLink "ThirtyThreeBelow" (464 : Nat) ({ cls := "ThirtyThreeBelow", name := "moveRock", desc := "(I)V" } : Jvm.MethodName)) ∈ lw_all := lw_g (lw_at lw_m5 163 rfl) rfl
theorem q1207 : (Jvm.Cond.privateMethod ({ cls := "ThirtyThreeBelow", name := "moveRock", desc := "(I)V" } : Jvm.MethodName)) ∈ lw_tbl := lw_at lw_m5 164 rfl
theorem q1208 : (Jvm.Cond.instanceMethod ({ cls := "ThirtyThreeBelow", name := "moveRock", desc := "(I)V" } : Jvm.MethodName)) ∈ lw_all := lw_g (lw_at lw_m5 165 rfl) rfl
theorem q1209 : (Jvm.Cond.code ({ cls := "ThirtyThreeBelow", name := "moveRock", desc := "(I)V" } : Jvm.MethodName) prog_1_method_62_code (2 : Nat) (Option.none : Option Jvm.ClassFile.FieldType)) ∈ lw_all := lw_g (lw_at lw_m5 166 rfl) rfl
theorem q1210 : (Jvm.Cond.methodLink "ThirtyThreeBelow" (474 : Nat) ({ cls := "ThirtyThreeBelow", name := "isShelterAt", desc := "(II)Z" } : Jvm.MethodName)) ∈ lw_all := lw_g (lw_at lw_m5 167 rfl) rfl
theorem q1212 : (Jvm.Cond.instanceMethod ({ cls := "ThirtyThreeBelow", name := "spoons", desc := "(I)I" } : Jvm.MethodName)) ∈ lw_all := lw_g (lw_at lw_m5 169 rfl) rfl
theorem q1213 : (Jvm.Cond.selects "ThirtyThreeBelow" ({ cls := "ThirtyThreeBelow", name := "spoons", desc := "(I)I" } : Jvm.MethodName) ({ cls := "ThirtyThreeBelow", name := "spoons", desc := "(I)I" } : Jvm.MethodName)) ∈ lw_all := lw_g (lw_at lw_m5 170 rfl) rfl
theorem q1214 : (Jvm.Cond.code ({ cls := "ThirtyThreeBelow", name := "spoons", desc := "(I)I" } : Jvm.MethodName) prog_1_method_63_code (3 : Nat) (Option.some Jvm.ClassFile.FieldType.int)) ∈ lw_all := lw_g (lw_at lw_m5 171 rfl) rfl
theorem q1215 : (Jvm.Cond.constantLong "ThirtyThreeBelow" (478 : Nat) (9999 : Int64)) ∈ lw_all := lw_g (lw_at lw_m5 172 rfl) rfl
theorem q1217 : (Jvm.Cond.instanceMethod ({ cls := "ThirtyThreeBelow", name := "move", desc := "(II)I" } : Jvm.MethodName)) ∈ lw_all := lw_g (lw_at lw_m5 174 rfl) rfl
theorem q1218 : (Jvm.Cond.selects "ThirtyThreeBelow" ({ cls := "ThirtyThreeBelow", name := "move", desc := "(II)I" } : Jvm.MethodName) ({ cls := "ThirtyThreeBelow", name := "move", desc := "(II)I" } : Jvm.MethodName)) ∈ lw_all := lw_g (lw_at lw_m5 175 rfl) rfl
theorem q1219 : (Jvm.Cond.code ({ cls := "ThirtyThreeBelow", name := "move", desc := "(II)I" } : Jvm.MethodName) prog_1_method_64_code (3 : Nat) (Option.some Jvm.ClassFile.FieldType.int)) ∈ lw_all := lw_g (lw_at lw_m5 176 rfl) rfl
theorem q1221 : (Jvm.Cond.instanceMethod ({ cls := "ThirtyThreeBelow", name := "last", desc := "(II)I" } : Jvm.MethodName)) ∈ lw_all := lw_g (lw_at lw_m5 178 rfl) rfl
theorem q1222 : (Jvm.Cond.selects "ThirtyThreeBelow" ({ cls := "ThirtyThreeBelow", name := "last", desc := "(II)I" } : Jvm.MethodName) ({ cls := "ThirtyThreeBelow", name := "last", desc := "(II)I" } : Jvm.MethodName)) ∈ lw_all := lw_g (lw_at lw_m5 179 rfl) rfl
theorem q1223 : (Jvm.Cond.code ({ cls := "ThirtyThreeBelow", name := "last", desc := "(II)I" } : Jvm.MethodName) prog_1_method_66_code (3 : Nat) (Option.some Jvm.ClassFile.FieldType.int)) ∈ lw_all := lw_g (lw_at lw_m5 180 rfl) rfl
theorem q1224 : (Jvm.Cond.methodLink "ThirtyThreeBelow" (480 : Nat) ({ cls := "ThirtyThreeBelow", name := "lasts", desc := "(II)I" } : Jvm.MethodName)) ∈ lw_all := lw_g (lw_at lw_m5 181 rfl) rfl
theorem q1225 : (Jvm.Cond.privateMethod ({ cls := "ThirtyThreeBelow", name := "lasts", desc := "(II)I" } : Jvm.MethodName)) ∈ lw_tbl := lw_at lw_m5 182 rfl
theorem q1226 : (Jvm.Cond.instanceMethod ({ cls := "ThirtyThreeBelow", name := "lasts", desc := "(II)I" } : Jvm.MethodName)) ∈ lw_all := lw_g (lw_at lw_m5 183 rfl) rfl
theorem q1227 : (Jvm.Cond.code ({ cls := "ThirtyThreeBelow", name := "lasts", desc := "(II)I" } : Jvm.MethodName) prog_1_method_65_code (8 : Nat) (Option.some Jvm.ClassFile.FieldType.int)) ∈ lw_all := lw_g (lw_at lw_m5 184 rfl) rfl
theorem q1229 : (Jvm.Cond.instanceMethod ({ cls := "ThirtyThreeBelow", name := "best", desc := "(I)I" } : Jvm.MethodName)) ∈ lw_all := lw_g (lw_at lw_m5 186 rfl) rfl
theorem q1230 : (Jvm.Cond.selects "ThirtyThreeBelow" ({ cls := "ThirtyThreeBelow", name := "best", desc := "(I)I" } : Jvm.MethodName) ({ cls := "ThirtyThreeBelow", name := "best", desc := "(I)I" } : Jvm.MethodName)) ∈ lw_all := lw_g (lw_at lw_m5 187 rfl) rfl
theorem q1231 : (Jvm.Cond.code ({ cls := "ThirtyThreeBelow", name := "best", desc := "(I)I" } : Jvm.MethodName) prog_1_method_67_code (4 : Nat) (Option.some Jvm.ClassFile.FieldType.int)) ∈ lw_all := lw_g (lw_at lw_m5 188 rfl) rfl
theorem q1233 : (Jvm.Cond.instanceMethod ({ cls := "ThirtyThreeBelow", name := "down", desc := "(III)I" } : Jvm.MethodName)) ∈ lw_all := lw_g (lw_at lw_m5 190 rfl) rfl
theorem q1234 : (Jvm.Cond.selects "ThirtyThreeBelow" ({ cls := "ThirtyThreeBelow", name := "down", desc := "(III)I" } : Jvm.MethodName) ({ cls := "ThirtyThreeBelow", name := "down", desc := "(III)I" } : Jvm.MethodName)) ∈ lw_all := lw_g (lw_at lw_m5 191 rfl) rfl
theorem q1235 : (Jvm.Cond.code ({ cls := "ThirtyThreeBelow", name := "down", desc := "(III)I" } : Jvm.MethodName) prog_1_method_68_code (7 : Nat) (Option.some Jvm.ClassFile.FieldType.int)) ∈ lw_all := lw_g (lw_at lw_m5 192 rfl) rfl
theorem q1236 : (Jvm.Cond.constantLong "ThirtyThreeBelow" (483 : Nat) (11 : Int64)) ∈ lw_all := lw_g (lw_at lw_m5 193 rfl) rfl
theorem q1237 : (Jvm.Cond.constantLong "ThirtyThreeBelow" (485 : Nat) (19 : Int64)) ∈ lw_all := lw_g (lw_at lw_m5 194 rfl) rfl
theorem q1239 : (Jvm.Cond.instanceMethod ({ cls := "ThirtyThreeBelow", name := "below", desc := "(I)I" } : Jvm.MethodName)) ∈ lw_all := lw_g (lw_at lw_m5 196 rfl) rfl
theorem q1240 : (Jvm.Cond.selects "ThirtyThreeBelow" ({ cls := "ThirtyThreeBelow", name := "below", desc := "(I)I" } : Jvm.MethodName) ({ cls := "ThirtyThreeBelow", name := "below", desc := "(I)I" } : Jvm.MethodName)) ∈ lw_all := lw_g (lw_at lw_m5 197 rfl) rfl
theorem q1241 : (Jvm.Cond.code ({ cls := "ThirtyThreeBelow", name := "below", desc := "(I)I" } : Jvm.MethodName) prog_1_method_70_code (2 : Nat) (Option.some Jvm.ClassFile.FieldType.int)) ∈ lw_all := lw_g (lw_at lw_m5 198 rfl) rfl
theorem q1243 : (Jvm.Cond.instanceMethod ({ cls := "ThirtyThreeBelow", name := "need", desc := "(II)I" } : Jvm.MethodName)) ∈ lw_all := lw_g (lw_at lw_m5 200 rfl) rfl
theorem q1244 : (Jvm.Cond.selects "ThirtyThreeBelow" ({ cls := "ThirtyThreeBelow", name := "need", desc := "(II)I" } : Jvm.MethodName) ({ cls := "ThirtyThreeBelow", name := "need", desc := "(II)I" } : Jvm.MethodName)) ∈ lw_all := lw_g (lw_at lw_m5 201 rfl) rfl
theorem q1245 : (Jvm.Cond.code ({ cls := "ThirtyThreeBelow", name := "need", desc := "(II)I" } : Jvm.MethodName) prog_1_method_71_code (3 : Nat) (Option.some Jvm.ClassFile.FieldType.int)) ∈ lw_all := lw_g (lw_at lw_m5 202 rfl) rfl
theorem q1247 : (Jvm.Cond.instanceMethod ({ cls := "ThirtyThreeBelow", name := "order", desc := "()I" } : Jvm.MethodName)) ∈ lw_all := lw_g (lw_at lw_m5 204 rfl) rfl
theorem q1248 : (Jvm.Cond.selects "ThirtyThreeBelow" ({ cls := "ThirtyThreeBelow", name := "order", desc := "()I" } : Jvm.MethodName) ({ cls := "ThirtyThreeBelow", name := "order", desc := "()I" } : Jvm.MethodName)) ∈ lw_all := lw_g (lw_at lw_m5 205 rfl) rfl
theorem q1249 : (Jvm.Cond.code ({ cls := "ThirtyThreeBelow", name := "order", desc := "()I" } : Jvm.MethodName) prog_1_method_74_code (5 : Nat) (Option.some Jvm.ClassFile.FieldType.int)) ∈ lw_all := lw_g (lw_at lw_m5 206 rfl) rfl
theorem q1250 : (Jvm.Cond.constant "ThirtyThreeBelow" (501 : Nat) (2147483647 : Int32)) ∈ lw_all := lw_g (lw_at lw_m5 207 rfl) rfl
theorem q1251 : (Jvm.Cond.methodLink "ThirtyThreeBelow" (502 : Nat) ({ cls := "ThirtyThreeBelow", name := "lateOf", desc := "(II)I" } : Jvm.MethodName)) ∈ lw_all := lw_g (lw_at lw_m5 208 rfl) rfl
theorem q1252 : (Jvm.Cond.privateMethod ({ cls := "ThirtyThreeBelow", name := "lateOf", desc := "(II)I" } : Jvm.MethodName)) ∈ lw_tbl := lw_at lw_m5 209 rfl
theorem q1253 : (Jvm.Cond.instanceMethod ({ cls := "ThirtyThreeBelow", name := "lateOf", desc := "(II)I" } : Jvm.MethodName)) ∈ lw_all := lw_g (lw_at lw_m5 210 rfl) rfl
theorem q1254 : (Jvm.Cond.code ({ cls := "ThirtyThreeBelow", name := "lateOf", desc := "(II)I" } : Jvm.MethodName) prog_1_method_73_code (3 : Nat) (Option.some Jvm.ClassFile.FieldType.int)) ∈ lw_all := lw_g (lw_at lw_m5 211 rfl) rfl
theorem q1255 : (Jvm.Cond.methodLink "ThirtyThreeBelow" (496 : Nat) ({ cls := "ThirtyThreeBelow", name := "hoursOf", desc := "(I)I" } : Jvm.MethodName)) ∈ lw_all := lw_g (lw_at lw_m5 212 rfl) rfl
theorem q1256 : (Jvm.Cond.privateMethod ({ cls := "ThirtyThreeBelow", name := "hoursOf", desc := "(I)I" } : Jvm.MethodName)) ∈ lw_tbl := lw_at lw_m5 213 rfl
theorem q1257 : (Jvm.Cond.instanceMethod ({ cls := "ThirtyThreeBelow", name := "hoursOf", desc := "(I)I" } : Jvm.MethodName)) ∈ lw_all := lw_g (lw_at lw_m5 214 rfl) rfl
theorem q1258 : (Jvm.Cond.code ({ cls := "ThirtyThreeBelow", name := "hoursOf", desc := "(I)I" } : Jvm.MethodName) prog_1_method_72_code (4 : Nat) (Option.some Jvm.ClassFile.FieldType.int)) ∈ lw_all := lw_g (lw_at lw_m5 215 rfl) rfl
theorem q1260 : (Jvm.Cond.instanceMethod ({ cls := "ThirtyThreeBelow", name := "ordered", desc := "(I)I" } : Jvm.MethodName)) ∈ lw_all := lw_g (lw_at lw_m5 217 rfl) rfl
theorem q1261 : (Jvm.Cond.selects "ThirtyThreeBelow" ({ cls := "ThirtyThreeBelow", name := "ordered", desc := "(I)I" } : Jvm.MethodName) ({ cls := "ThirtyThreeBelow", name := "ordered", desc := "(I)I" } : Jvm.MethodName)) ∈ lw_all := lw_g (lw_at lw_m5 218 rfl) rfl
theorem q1262 : (Jvm.Cond.code ({ cls := "ThirtyThreeBelow", name := "ordered", desc := "(I)I" } : Jvm.MethodName) prog_1_method_75_code (2 : Nat) (Option.some Jvm.ClassFile.FieldType.int)) ∈ lw_all := lw_g (lw_at lw_m5 219 rfl) rfl
theorem q1264 : (Jvm.Cond.instanceMethod ({ cls := "ThirtyThreeBelow", name := "watch", desc := "(II)I" } : Jvm.MethodName)) ∈ lw_all := lw_g (lw_at lw_m5 221 rfl) rfl
theorem q1265 : (Jvm.Cond.selects "ThirtyThreeBelow" ({ cls := "ThirtyThreeBelow", name := "watch", desc := "(II)I" } : Jvm.MethodName) ({ cls := "ThirtyThreeBelow", name := "watch", desc := "(II)I" } : Jvm.MethodName)) ∈ lw_all := lw_g (lw_at lw_m5 222 rfl) rfl
theorem q1266 : (Jvm.Cond.code ({ cls := "ThirtyThreeBelow", name := "watch", desc := "(II)I" } : Jvm.MethodName) prog_1_method_76_code (8 : Nat) (Option.some Jvm.ClassFile.FieldType.int)) ∈ lw_all := lw_g (lw_at lw_m5 223 rfl) rfl
theorem q1267 : (Jvm.Cond.constantLong "ThirtyThreeBelow" (508 : Nat) (3 : Int64)) ∈ lw_all := lw_g (lw_at lw_m5 224 rfl) rfl
theorem q1269 : (Jvm.Cond.instanceMethod ({ cls := "ThirtyThreeBelow", name := "watched", desc := "(II)I" } : Jvm.MethodName)) ∈ lw_all := lw_g (lw_at lw_m5 226 rfl) rfl
theorem q1270 : (Jvm.Cond.selects "ThirtyThreeBelow" ({ cls := "ThirtyThreeBelow", name := "watched", desc := "(II)I" } : Jvm.MethodName) ({ cls := "ThirtyThreeBelow", name := "watched", desc := "(II)I" } : Jvm.MethodName)) ∈ lw_all := lw_g (lw_at lw_m5 227 rfl) rfl
theorem q1271 : (Jvm.Cond.code ({ cls := "ThirtyThreeBelow", name := "watched", desc := "(II)I" } : Jvm.MethodName) prog_1_method_77_code (3 : Nat) (Option.some Jvm.ClassFile.FieldType.int)) ∈ lw_all := lw_g (lw_at lw_m5 228 rfl) rfl
theorem q1273 : (Jvm.Cond.instanceMethod ({ cls := "ThirtyThreeBelow", name := "aim", desc := "(II)I" } : Jvm.MethodName)) ∈ lw_all := lw_g (lw_at lw_m5 230 rfl) rfl
theorem q1274 : (Jvm.Cond.selects "ThirtyThreeBelow" ({ cls := "ThirtyThreeBelow", name := "aim", desc := "(II)I" } : Jvm.MethodName) ({ cls := "ThirtyThreeBelow", name := "aim", desc := "(II)I" } : Jvm.MethodName)) ∈ lw_all := lw_g (lw_at lw_m5 231 rfl) rfl
theorem q1275 : (Jvm.Cond.code ({ cls := "ThirtyThreeBelow", name := "aim", desc := "(II)I" } : Jvm.MethodName) prog_1_method_78_code (3 : Nat) (Option.some Jvm.ClassFile.FieldType.int)) ∈ lw_all := lw_g (lw_at lw_m5 232 rfl) rfl
theorem q1276 : (Jvm.Cond.constantLong "ThirtyThreeBelow" (513 : Nat) (31 : Int64)) ∈ lw_all := lw_g (lw_at lw_m5 233 rfl) rfl
theorem q1278 : (Jvm.Cond.instanceMethod ({ cls := "ThirtyThreeBelow", name := "rock", desc := "(III)I" } : Jvm.MethodName)) ∈ lw_all := lw_g (lw_at lw_m5 235 rfl) rfl
theorem q1279 : (Jvm.Cond.selects "ThirtyThreeBelow" ({ cls := "ThirtyThreeBelow", name := "rock", desc := "(III)I" } : Jvm.MethodName) ({ cls := "ThirtyThreeBelow", name := "rock", desc := "(III)I" } : Jvm.MethodName)) ∈ lw_all := lw_g (lw_at lw_m5 236 rfl) rfl
theorem q1280 : (Jvm.Cond.code ({ cls := "ThirtyThreeBelow", name := "rock", desc := "(III)I" } : Jvm.MethodName) prog_1_method_79_code (5 : Nat) (Option.some Jvm.ClassFile.FieldType.int)) ∈ lw_all := lw_g (lw_at lw_m5 237 rfl) rfl
theorem q1282 : (Jvm.Cond.instanceMethod ({ cls := "ThirtyThreeBelow", name := "aimed", desc := "(III)I" } : Jvm.MethodName)) ∈ lw_all := lw_g (lw_at lw_m5 239 rfl) rfl
theorem q1283 : (Jvm.Cond.selects "ThirtyThreeBelow" ({ cls := "ThirtyThreeBelow", name := "aimed", desc := "(III)I" } : Jvm.MethodName) ({ cls := "ThirtyThreeBelow", name := "aimed", desc := "(III)I" } : Jvm.MethodName)) ∈ lw_all := lw_g (lw_at lw_m6 0 rfl) rfl
theorem q1284 : (Jvm.Cond.code ({ cls := "ThirtyThreeBelow", name := "aimed", desc := "(III)I" } : Jvm.MethodName) prog_1_method_81_code (10 : Nat) (Option.some Jvm.ClassFile.FieldType.int)) ∈ lw_all := lw_g (lw_at lw_m6 1 rfl) rfl
theorem q1285 : (Jvm.Cond.methodLink "ThirtyThreeBelow" (518 : Nat) ({ cls := "ThirtyThreeBelow", name := "takes", desc := "(IIII)I" } : Jvm.MethodName)) ∈ lw_all := lw_g (lw_at lw_m6 2 rfl) rfl
theorem q1286 : (Jvm.Cond.privateMethod ({ cls := "ThirtyThreeBelow", name := "takes", desc := "(IIII)I" } : Jvm.MethodName)) ∈ lw_tbl := lw_at lw_m6 3 rfl
theorem q1287 : (Jvm.Cond.instanceMethod ({ cls := "ThirtyThreeBelow", name := "takes", desc := "(IIII)I" } : Jvm.MethodName)) ∈ lw_all := lw_g (lw_at lw_m6 4 rfl) rfl
theorem q1288 : (Jvm.Cond.code ({ cls := "ThirtyThreeBelow", name := "takes", desc := "(IIII)I" } : Jvm.MethodName) prog_1_method_80_code (7 : Nat) (Option.some Jvm.ClassFile.FieldType.int)) ∈ lw_all := lw_g (lw_at lw_m6 5 rfl) rfl
theorem q1290 : (Jvm.Cond.instanceMethod ({ cls := "ThirtyThreeBelow", name := "aimedAt", desc := "(II)I" } : Jvm.MethodName)) ∈ lw_all := lw_g (lw_at lw_m6 7 rfl) rfl
theorem q1291 : (Jvm.Cond.selects "ThirtyThreeBelow" ({ cls := "ThirtyThreeBelow", name := "aimedAt", desc := "(II)I" } : Jvm.MethodName) ({ cls := "ThirtyThreeBelow", name := "aimedAt", desc := "(II)I" } : Jvm.MethodName)) ∈ lw_all := lw_g (lw_at lw_m6 8 rfl) rfl
theorem q1292 : (Jvm.Cond.code ({ cls := "ThirtyThreeBelow", name := "aimedAt", desc := "(II)I" } : Jvm.MethodName) prog_1_method_82_code (3 : Nat) (Option.some Jvm.ClassFile.FieldType.int)) ∈ lw_all := lw_g (lw_at lw_m6 9 rfl) rfl
theorem q1294 : (Jvm.Cond.instanceMethod ({ cls := "ThirtyThreeBelow", name := "race", desc := "(III)I" } : Jvm.MethodName)) ∈ lw_all := lw_g (lw_at lw_m6 11 rfl) rfl
theorem q1295 : (Jvm.Cond.selects "ThirtyThreeBelow" ({ cls := "ThirtyThreeBelow", name := "race", desc := "(III)I" } : Jvm.MethodName) ({ cls := "ThirtyThreeBelow", name := "race", desc := "(III)I" } : Jvm.MethodName)) ∈ lw_all := lw_g (lw_at lw_m6 12 rfl) rfl
theorem q1296 : (Jvm.Cond.code ({ cls := "ThirtyThreeBelow", name := "race", desc := "(III)I" } : Jvm.MethodName) prog_1_method_83_code (7 : Nat) (Option.some Jvm.ClassFile.FieldType.int)) ∈ lw_all := lw_g (lw_at lw_m6 13 rfl) rfl
theorem q1298 : (Jvm.Cond.instanceMethod ({ cls := "ThirtyThreeBelow", name := "capsule", desc := "(I)I" } : Jvm.MethodName)) ∈ lw_all := lw_g (lw_at lw_m6 15 rfl) rfl
theorem q1299 : (Jvm.Cond.selects "ThirtyThreeBelow" ({ cls := "ThirtyThreeBelow", name := "capsule", desc := "(I)I" } : Jvm.MethodName) ({ cls := "ThirtyThreeBelow", name := "capsule", desc := "(I)I" } : Jvm.MethodName)) ∈ lw_all := lw_g (lw_at lw_m6 16 rfl) rfl
theorem q1300 : (Jvm.Cond.code ({ cls := "ThirtyThreeBelow", name := "capsule", desc := "(I)I" } : Jvm.MethodName) prog_1_method_84_code (5 : Nat) (Option.some Jvm.ClassFile.FieldType.int)) ∈ lw_all := lw_g (lw_at lw_m6 17 rfl) rfl
theorem q1302 : (Jvm.Cond.instanceMethod ({ cls := "ThirtyThreeBelow", name := "up", desc := "(II)I" } : Jvm.MethodName)) ∈ lw_all := lw_g (lw_at lw_m6 19 rfl) rfl
theorem q1303 : (Jvm.Cond.selects "ThirtyThreeBelow" ({ cls := "ThirtyThreeBelow", name := "up", desc := "(II)I" } : Jvm.MethodName) ({ cls := "ThirtyThreeBelow", name := "up", desc := "(II)I" } : Jvm.MethodName)) ∈ lw_all := lw_g (lw_at lw_m6 20 rfl) rfl
theorem q1304 : (Jvm.Cond.code ({ cls := "ThirtyThreeBelow", name := "up", desc := "(II)I" } : Jvm.MethodName) prog_1_method_85_code (3 : Nat) (Option.some Jvm.ClassFile.FieldType.int)) ∈ lw_all := lw_g (lw_at lw_m6 21 rfl) rfl
theorem q1306 : (Jvm.Cond.instanceMethod ({ cls := "ThirtyThreeBelow", name := "raise", desc := "(I)I" } : Jvm.MethodName)) ∈ lw_all := lw_g (lw_at lw_m6 23 rfl) rfl
theorem q1307 : (Jvm.Cond.selects "ThirtyThreeBelow" ({ cls := "ThirtyThreeBelow", name := "raise", desc := "(I)I" } : Jvm.MethodName) ({ cls := "ThirtyThreeBelow", name := "raise", desc := "(I)I" } : Jvm.MethodName)) ∈ lw_all := lw_g (lw_at lw_m6 24 rfl) rfl
theorem q1308 : (Jvm.Cond.code ({ cls := "ThirtyThreeBelow", name := "raise", desc := "(I)I" } : Jvm.MethodName) prog_1_method_86_code (5 : Nat) (Option.some Jvm.ClassFile.FieldType.int)) ∈ lw_all := lw_g (lw_at lw_m6 25 rfl) rfl
theorem q1309 : (Jvm.Cond.constantLong "ThirtyThreeBelow" (528 : Nat) (199 : Int64)) ∈ lw_all := lw_g (lw_at lw_m6 26 rfl) rfl
theorem q1311 : (Jvm.Cond.instanceMethod ({ cls := "ThirtyThreeBelow", name := "act", desc := "(III)I" } : Jvm.MethodName)) ∈ lw_all := lw_g (lw_at lw_m6 28 rfl) rfl
theorem q1312 : (Jvm.Cond.selects "ThirtyThreeBelow" ({ cls := "ThirtyThreeBelow", name := "act", desc := "(III)I" } : Jvm.MethodName) ({ cls := "ThirtyThreeBelow", name := "act", desc := "(III)I" } : Jvm.MethodName)) ∈ lw_all := lw_g (lw_at lw_m6 29 rfl) rfl
theorem q1313 : (Jvm.Cond.code ({ cls := "ThirtyThreeBelow", name := "act", desc := "(III)I" } : Jvm.MethodName) prog_1_method_87_code (5 : Nat) (Option.some Jvm.ClassFile.FieldType.int)) ∈ lw_all := lw_g (lw_at lw_m6 30 rfl) rfl
theorem q1406 : (Jvm.Cond.methodLink "ThirtyThreeBelow" (536 : Nat) ({ cls := "ThirtyThreeBelow$Body", name := "carries", desc := "(I)I" } : Jvm.MethodName)) ∈ lw_all := lw_g (lw_at lw_m6 123 rfl) rfl
theorem q1436 : (Jvm.Cond.methodLink "ThirtyThreeBelow" (539 : Nat) ({ cls := "ThirtyThreeBelow$Body", name := "holds", desc := "(I)I" } : Jvm.MethodName)) ∈ lw_all := lw_g (lw_at lw_m6 153 rfl) rfl
theorem q1554 : (Jvm.Cond.instanceMethod ({ cls := "ThirtyThreeBelow", name := "trace", desc := "(I)I" } : Jvm.MethodName)) ∈ lw_all := lw_g (lw_at lw_m7 31 rfl) rfl
theorem q1555 : (Jvm.Cond.selects "ThirtyThreeBelow" ({ cls := "ThirtyThreeBelow", name := "trace", desc := "(I)I" } : Jvm.MethodName) ({ cls := "ThirtyThreeBelow", name := "trace", desc := "(I)I" } : Jvm.MethodName)) ∈ lw_all := lw_g (lw_at lw_m7 32 rfl) rfl
theorem q1556 : (Jvm.Cond.code ({ cls := "ThirtyThreeBelow", name := "trace", desc := "(I)I" } : Jvm.MethodName) prog_1_method_88_code (2 : Nat) (Option.some Jvm.ClassFile.FieldType.int)) ∈ lw_all := lw_g (lw_at lw_m7 33 rfl) rfl
theorem q1558 : (Jvm.Cond.instanceMethod ({ cls := "ThirtyThreeBelow", name := "keep", desc := "(II)I" } : Jvm.MethodName)) ∈ lw_all := lw_g (lw_at lw_m7 35 rfl) rfl
theorem q1559 : (Jvm.Cond.selects "ThirtyThreeBelow" ({ cls := "ThirtyThreeBelow", name := "keep", desc := "(II)I" } : Jvm.MethodName) ({ cls := "ThirtyThreeBelow", name := "keep", desc := "(II)I" } : Jvm.MethodName)) ∈ lw_all := lw_g (lw_at lw_m7 36 rfl) rfl
theorem q1560 : (Jvm.Cond.code ({ cls := "ThirtyThreeBelow", name := "keep", desc := "(II)I" } : Jvm.MethodName) prog_1_method_90_code (3 : Nat) (Option.some Jvm.ClassFile.FieldType.int)) ∈ lw_all := lw_g (lw_at lw_m7 37 rfl) rfl
theorem q1562 : (Jvm.Cond.instanceMethod ({ cls := "ThirtyThreeBelow", name := "row", desc := "(III)I" } : Jvm.MethodName)) ∈ lw_all := lw_g (lw_at lw_m7 39 rfl) rfl
theorem q1563 : (Jvm.Cond.selects "ThirtyThreeBelow" ({ cls := "ThirtyThreeBelow", name := "row", desc := "(III)I" } : Jvm.MethodName) ({ cls := "ThirtyThreeBelow", name := "row", desc := "(III)I" } : Jvm.MethodName)) ∈ lw_all := lw_g (lw_at lw_m7 40 rfl) rfl
theorem q1564 : (Jvm.Cond.codeWith ({ cls := "ThirtyThreeBelow", name := "row", desc := "(III)I" } : Jvm.MethodName) prog_1_method_91_code (5 : Nat) (Option.some Jvm.ClassFile.FieldType.int) [((27 : Nat), (118 : Nat), (119 : Nat), (545 : Nat))]) ∈ lw_all := lw_g (lw_at lw_m7 41 rfl) rfl
theorem q1565 : (Jvm.Cond.classLink "ThirtyThreeBelow" (545 : Nat) "java/lang/NegativeArraySizeException") ∈ lw_all := lw_g (lw_at lw_m7 42 rfl) rfl
theorem q1596 : (Jvm.Cond.instanceMethod ({ cls := "ThirtyThreeBelow", name := "put", desc := "(IIJ)I" } : Jvm.MethodName)) ∈ lw_all := lw_g (lw_at lw_m7 73 rfl) rfl
theorem q1597 : (Jvm.Cond.selects "ThirtyThreeBelow" ({ cls := "ThirtyThreeBelow", name := "put", desc := "(IIJ)I" } : Jvm.MethodName) ({ cls := "ThirtyThreeBelow", name := "put", desc := "(IIJ)I" } : Jvm.MethodName)) ∈ lw_all := lw_g (lw_at lw_m7 74 rfl) rfl
theorem q1598 : (Jvm.Cond.code ({ cls := "ThirtyThreeBelow", name := "put", desc := "(IIJ)I" } : Jvm.MethodName) prog_1_method_96_code (7 : Nat) (Option.some Jvm.ClassFile.FieldType.int)) ∈ lw_all := lw_g (lw_at lw_m7 75 rfl) rfl
theorem q1599 : (Jvm.Cond.methodLink "ThirtyThreeBelow" (559 : Nat) ({ cls := "ThirtyThreeBelow", name := "isOfReals", desc := "(I)Z" } : Jvm.MethodName)) ∈ lw_all := lw_g (lw_at lw_m7 76 rfl) rfl
theorem q1600 : (Jvm.Cond.privateMethod ({ cls := "ThirtyThreeBelow", name := "isOfReals", desc := "(I)Z" } : Jvm.MethodName)) ∈ lw_tbl := lw_at lw_m7 77 rfl
theorem q1601 : (Jvm.Cond.instanceMethod ({ cls := "ThirtyThreeBelow", name := "isOfReals", desc := "(I)Z" } : Jvm.MethodName)) ∈ lw_all := lw_g (lw_at lw_m7 78 rfl) rfl
theorem q1602 : (Jvm.Cond.code ({ cls := "ThirtyThreeBelow", name := "isOfReals", desc := "(I)Z" } : Jvm.MethodName) prog_1_method_95_code (2 : Nat) (Option.some Jvm.ClassFile.FieldType.boolean)) ∈ lw_all := lw_g (lw_at lw_m7 79 rfl) rfl
theorem q1603 : (Jvm.Cond.methodLink "ThirtyThreeBelow" (552 : Nat) ({ cls := "ThirtyThreeBelow", name := "sortOf", desc := "(Ljava/lang/Object;)I" } : Jvm.MethodName)) ∈ lw_all := lw_g (lw_at lw_m7 80 rfl) rfl
theorem q1604 : (Jvm.Cond.static ({ cls := "ThirtyThreeBelow", name := "sortOf", desc := "(Ljava/lang/Object;)I" } : Jvm.MethodName)) ∈ lw_all := lw_g (lw_at lw_m7 81 rfl) rfl
theorem q1605 : (Jvm.Cond.code ({ cls := "ThirtyThreeBelow", name := "sortOf", desc := "(Ljava/lang/Object;)I" } : Jvm.MethodName) prog_1_method_92_code (1 : Nat) (Option.some Jvm.ClassFile.FieldType.int)) ∈ lw_all := lw_g (lw_at lw_m7 82 rfl) rfl
theorem q1606 : (Jvm.Cond.classLink "ThirtyThreeBelow" (547 : Nat) "[B") ∈ lw_all := lw_g (lw_at lw_m7 83 rfl) rfl
theorem q1607 : (Jvm.Cond.classLink "ThirtyThreeBelow" (549 : Nat) "[C") ∈ lw_all := lw_g (lw_at lw_m7 84 rfl) rfl
theorem q1608 : (Jvm.Cond.classLink "ThirtyThreeBelow" (551 : Nat) "[I") ∈ lw_all := lw_g (lw_at lw_m7 85 rfl) rfl
theorem q1609 : (Jvm.Cond.constantLong "ThirtyThreeBelow" (562 : Nat) (-9999 : Int64)) ∈ lw_all := lw_g (lw_at lw_m7 86 rfl) rfl
theorem q1610 : (Jvm.Cond.methodLink "ThirtyThreeBelow" (564 : Nat) ({ cls := "ThirtyThreeBelow", name := "refusal", desc := "(II)I" } : Jvm.MethodName)) ∈ lw_all := lw_g (lw_at lw_m7 87 rfl) rfl
theorem q1611 : (Jvm.Cond.privateMethod ({ cls := "ThirtyThreeBelow", name := "refusal", desc := "(II)I" } : Jvm.MethodName)) ∈ lw_tbl := lw_at lw_m7 88 rfl
theorem q1612 : (Jvm.Cond.instanceMethod ({ cls := "ThirtyThreeBelow", name := "refusal", desc := "(II)I" } : Jvm.MethodName)) ∈ lw_all := lw_g (lw_at lw_m7 89 rfl) rfl
theorem q1613 : (Jvm.Cond.code ({ cls := "ThirtyThreeBelow", name := "refusal", desc := "(II)I" } : Jvm.MethodName) prog_1_method_94_code (4 : Nat) (Option.some Jvm.ClassFile.FieldType.int)) ∈ lw_all := lw_g (lw_at lw_m7 90 rfl) rfl
theorem q1614 : (Jvm.Cond.methodLink "ThirtyThreeBelow" (556 : Nat) ({ cls := "ThirtyThreeBelow", name := "sizeOf", desc := "(Ljava/lang/Object;)I" } : Jvm.MethodName)) ∈ lw_all := lw_g (lw_at lw_m7 91 rfl) rfl
theorem q1615 : (Jvm.Cond.static ({ cls := "ThirtyThreeBelow", name := "sizeOf", desc := "(Ljava/lang/Object;)I" } : Jvm.MethodName)) ∈ lw_all := lw_g (lw_at lw_m7 92 rfl) rfl
theorem q1616 : (Jvm.Cond.code ({ cls := "ThirtyThreeBelow", name := "sizeOf", desc := "(Ljava/lang/Object;)I" } : Jvm.MethodName) prog_1_method_93_code (1 : Nat) (Option.some Jvm.ClassFile.FieldType.int)) ∈ lw_all := lw_g (lw_at lw_m7 93 rfl) rfl
theorem q1618 : (Jvm.Cond.instanceMethod ({ cls := "ThirtyThreeBelow", name := "blank", desc := "(II)I" } : Jvm.MethodName)) ∈ lw_all := lw_g (lw_at lw_m7 95 rfl) rfl
theorem q1619 : (Jvm.Cond.selects "ThirtyThreeBelow" ({ cls := "ThirtyThreeBelow", name := "blank", desc := "(II)I" } : Jvm.MethodName) ({ cls := "ThirtyThreeBelow", name := "blank", desc := "(II)I" } : Jvm.MethodName)) ∈ lw_all := lw_g (lw_at lw_m7 96 rfl) rfl
theorem q1620 : (Jvm.Cond.code ({ cls := "ThirtyThreeBelow", name := "blank", desc := "(II)I" } : Jvm.MethodName) prog_1_method_97_code (5 : Nat) (Option.some Jvm.ClassFile.FieldType.int)) ∈ lw_all := lw_g (lw_at lw_m7 97 rfl) rfl
theorem q1621 : (Jvm.Cond.constantFloat "ThirtyThreeBelow" (569 : Nat) (2143289344 : UInt32)) ∈ lw_all := lw_g (lw_at lw_m7 98 rfl) rfl
theorem q1623 : (Jvm.Cond.instanceMethod ({ cls := "ThirtyThreeBelow", name := "element", desc := "(II)J" } : Jvm.MethodName)) ∈ lw_all := lw_g (lw_at lw_m7 100 rfl) rfl
theorem q1624 : (Jvm.Cond.selects "ThirtyThreeBelow" ({ cls := "ThirtyThreeBelow", name := "element", desc := "(II)J" } : Jvm.MethodName) ({ cls := "ThirtyThreeBelow", name := "element", desc := "(II)J" } : Jvm.MethodName)) ∈ lw_all := lw_g (lw_at lw_m7 101 rfl) rfl
theorem q1625 : (Jvm.Cond.code ({ cls := "ThirtyThreeBelow", name := "element", desc := "(II)J" } : Jvm.MethodName) prog_1_method_99_code (4 : Nat) (Option.some Jvm.ClassFile.FieldType.long)) ∈ lw_all := lw_g (lw_at lw_m7 102 rfl) rfl
theorem q1626 : (Jvm.Cond.constantLong "ThirtyThreeBelow" (574 : Nat) (-9223372036854775808 : Int64)) ∈ lw_all := lw_g (lw_at lw_m7 103 rfl) rfl
theorem q1627 : (Jvm.Cond.methodLink "ThirtyThreeBelow" (576 : Nat) ({ cls := "ThirtyThreeBelow", name := "whole", desc := "(D)J" } : Jvm.MethodName)) ∈ lw_all := lw_g (lw_at lw_m7 104 rfl) rfl
theorem q1628 : (Jvm.Cond.static ({ cls := "ThirtyThreeBelow", name := "whole", desc := "(D)J" } : Jvm.MethodName)) ∈ lw_all := lw_g (lw_at lw_m7 105 rfl) rfl
theorem q1629 : (Jvm.Cond.code ({ cls := "ThirtyThreeBelow", name := "whole", desc := "(D)J" } : Jvm.MethodName) prog_1_method_98_code (2 : Nat) (Option.some Jvm.ClassFile.FieldType.long)) ∈ lw_all := lw_g (lw_at lw_m7 106 rfl) rfl
theorem q1630 : (Jvm.Cond.constantLong "ThirtyThreeBelow" (572 : Nat) (9223372036854775807 : Int64)) ∈ lw_all := lw_g (lw_at lw_m7 107 rfl) rfl
theorem q1632 : (Jvm.Cond.instanceMethod ({ cls := "ThirtyThreeBelow", name := "shift", desc := "(IIIII)I" } : Jvm.MethodName)) ∈ lw_all := lw_g (lw_at lw_m7 109 rfl) rfl
theorem q1633 : (Jvm.Cond.selects "ThirtyThreeBelow" ({ cls := "ThirtyThreeBelow", name := "shift", desc := "(IIIII)I" } : Jvm.MethodName) ({ cls := "ThirtyThreeBelow", name := "shift", desc := "(IIIII)I" } : Jvm.MethodName)) ∈ lw_all := lw_g (lw_at lw_m7 110 rfl) rfl
theorem q1634 : (Jvm.Cond.code ({ cls := "ThirtyThreeBelow", name := "shift", desc := "(IIIII)I" } : Jvm.MethodName) prog_1_method_100_code (8 : Nat) (Option.some Jvm.ClassFile.FieldType.int)) ∈ lw_all := lw_g (lw_at lw_m7 111 rfl) rfl
theorem q1635 : (Jvm.Cond.methodLink "ThirtyThreeBelow" (580 : Nat) ({ cls := "java/lang/System", name := "arraycopy", desc := "(Ljava/lang/Object;ILjava/lang/Object;II)V" } : Jvm.MethodName)) ∈ lw_all := lw_g (lw_at lw_m7 112 rfl) rfl
theorem q1639 : (Jvm.Cond.instanceMethod ({ cls := "ThirtyThreeBelow", name := "taken", desc := "(II)I" } : Jvm.MethodName)) ∈ lw_all := lw_g (lw_at lw_m7 116 rfl) rfl
theorem q1640 : (Jvm.Cond.selects "ThirtyThreeBelow" ({ cls := "ThirtyThreeBelow", name := "taken", desc := "(II)I" } : Jvm.MethodName) ({ cls := "ThirtyThreeBelow", name := "taken", desc := "(II)I" } : Jvm.MethodName)) ∈ lw_all := lw_g (lw_at lw_m7 117 rfl) rfl
theorem q1641 : (Jvm.Cond.code ({ cls := "ThirtyThreeBelow", name := "taken", desc := "(II)I" } : Jvm.MethodName) prog_1_method_101_code (5 : Nat) (Option.some Jvm.ClassFile.FieldType.int)) ∈ lw_all := lw_g (lw_at lw_m7 118 rfl) rfl
theorem q1642 : (Jvm.Cond.constantLong "ThirtyThreeBelow" (586 : Nat) (7 : Int64)) ∈ lw_all := lw_g (lw_at lw_m7 119 rfl) rfl
theorem q1643 : (Jvm.Cond.methodLink "ThirtyThreeBelow" (588 : Nat) ({ cls := "ThirtyThreeBelow$Body", name := "isUnder", desc := "(I)Z" } : Jvm.MethodName)) ∈ lw_all := lw_g (lw_at lw_m7 120 rfl) rfl
theorem q1677 : (Jvm.Cond.instanceMethod ({ cls := "ThirtyThreeBelow", name := "count", desc := "(I)I" } : Jvm.MethodName)) ∈ lw_all := lw_g (lw_at lw_m7 154 rfl) rfl
theorem q1678 : (Jvm.Cond.selects "ThirtyThreeBelow" ({ cls := "ThirtyThreeBelow", name := "count", desc := "(I)I" } : Jvm.MethodName) ({ cls := "ThirtyThreeBelow", name := "count", desc := "(I)I" } : Jvm.MethodName)) ∈ lw_all := lw_g (lw_at lw_m7 155 rfl) rfl
theorem q1679 : (Jvm.Cond.code ({ cls := "ThirtyThreeBelow", name := "count", desc := "(I)I" } : Jvm.MethodName) prog_1_method_102_code (5 : Nat) (Option.some Jvm.ClassFile.FieldType.int)) ∈ lw_all := lw_g (lw_at lw_m7 156 rfl) rfl
theorem q2450 : (Jvm.Cond.castable "ThirtyThreeBelow" "java/lang/Object") ∈ lw_tbl := lw_at lw_m10 207 rfl
theorem in_X0 : ∀ w ∈ wsX00, w ∈ lw_all := lw_in wsX00 [332, 334, 336, 338, 340, 342, 344, 346, 348, 350, 352, 354, 356, 358, 360, 362, 364, 366, 368, 370, 372, 374, 376, 378, 380, 382, 384, 386, 388, 390, 392, 394, 396, 398, 400, 402, 404, 406, 408, 410, 412, 414, 416, 418, 420, 422, 424, 426, 428, 430, 432, 434, 436, 438, 440, 442, 444, 446, 448] (by decide +kernel) (by decide +kernel)
