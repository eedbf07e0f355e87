/-! ThirtyThreeBelow$Torn -/
set_option maxRecDepth 100000
def RX1 : String := "ThirtyThreeBelow$Torn"
def TX1 : u_T := fun k => match k with
  | 0 => ("java/lang/Throwable", "cause", "Ljava/lang/Throwable;", false)
  | 1 => ("java/lang/Throwable", "stackTrace", "[Ljava/lang/StackTraceElement;", false)
  | 2 => ("java/lang/Throwable", "suppressedExceptions", "Ljava/util/List;", false)
  | 3 => ("java/lang/Throwable", "detailMessage", "Ljava/lang/String;", false)
  | 4 => ("java/lang/Throwable", "backtrace", "Ljava/lang/Object;", false)
  | _ => ("java/lang/Throwable", "depth", "I", false)
def tyX1 : Nat → FieldType := fun k => match k with
  | 0 => .object "java/lang/Throwable"
  | 1 => .array (.object "java/lang/StackTraceElement")
  | 2 => .object "java/util/List"
  | 3 => .object "java/lang/String"
  | 4 => .object "java/lang/Object"
  | _ => .int
abbrev wsX10 : List Cond := u_ws RX1 TX1 6
theorem nmX1 : ∀ a, a < 6 → ∀ b, b < 6 → a ≠ b → (TX1 a).2.1 ≠ (TX1 b).2.1 := by decide +kernel
theorem tyX1_ok : ∀ k, k < 6 → parseFieldDescriptor (TX1 k).2.2.1 = some (tyX1 k) := by decide +kernel
abbrev cX1_init : ByteArray := prog_17_method_1_code
def yX1_init : MethodName := ⟨RX1, "<init>", "()V"⟩
def dkwX1_init_0 : List UInt8 := [42, 1, 1, 3, 3, 183, 0, 1, 177]
abbrev dktX1_init_0 : List UInt8 := dkwX1_init_0 ++ []
theorem dksX1_init_0 : cX1_init.data.toList.drop 0 = dktX1_init_0 := by decide +kernel
theorem dX1_init_0 : decode cX1_init 0 = .ok (.aload_n 0, 1) := dk_42 (dk_at dksX1_init_0 0 rfl rfl)
theorem dX1_init_1 : decode cX1_init 1 = .ok (.aconst_null, 1) := dk_1 (dk_at dksX1_init_0 1 rfl rfl)
theorem dX1_init_2 : decode cX1_init 2 = .ok (.aconst_null, 1) := dk_1 (dk_at dksX1_init_0 2 rfl rfl)
theorem dX1_init_3 : decode cX1_init 3 = .ok (.iconst 0, 1) := dk_3 (dk_at dksX1_init_0 3 rfl rfl)
theorem dX1_init_4 : decode cX1_init 4 = .ok (.iconst 0, 1) := dk_3 (dk_at dksX1_init_0 4 rfl rfl)
theorem dX1_init_5 : decode cX1_init 5 = .ok (.invokespecial 1, 3) := dk_183 0 1 (dk_at dksX1_init_0 5 rfl rfl)
theorem dX1_init_8 : decode cX1_init 8 = .ok (.return_, 1) := dk_177 (dk_at dksX1_init_0 8 rfl rfl)
theorem q88 : (Jvm.Cond.initialized "ThirtyThreeBelow$Torn") ∈ lw_all := lw_g (lw_at lw_m1 5 rfl) rfl
theorem q127 : (Jvm.Cond.instantiable "ThirtyThreeBelow$Torn" (6 : Nat)) ∈ lw_all := lw_g (lw_at lw_m1 44 rfl) rfl
theorem q128 : (Jvm.Cond.castable "ThirtyThreeBelow$Torn" "ThirtyThreeBelow$Torn") ∈ lw_tbl := lw_at lw_m1 45 rfl
theorem q135 : (Jvm.Cond.selects "ThirtyThreeBelow$Torn" ({ cls := "java/lang/Throwable", name := "fillInStackTrace", desc := "(I)Ljava/lang/Throwable;" } : Jvm.MethodName) ({ cls := "java/lang/Throwable", name := "fillInStackTrace", desc := "(I)Ljava/lang/Throwable;" } : Jvm.MethodName)) ∈ lw_all := lw_g (lw_at lw_m1 52 rfl) rfl
theorem q136 : (Jvm.Cond.selects "ThirtyThreeBelow$Torn" ({ cls := "java/lang/Throwable", name := "fillInStackTrace", desc := "()Ljava/lang/Throwable;" } : Jvm.MethodName) ({ cls := "java/lang/Throwable", name := "fillInStackTrace", desc := "()Ljava/lang/Throwable;" } : Jvm.MethodName)) ∈ lw_all := lw_g (lw_at lw_m1 53 rfl) rfl
theorem q137 : (Jvm.Cond.lays "ThirtyThreeBelow$Torn" "java/lang/Throwable" "cause" "Ljava/lang/Throwable;") ∈ lw_all := lw_g (lw_at lw_m1 54 rfl) rfl
theorem q139 : (Jvm.Cond.lays "ThirtyThreeBelow$Torn" "java/lang/Throwable" "stackTrace" "[Ljava/lang/StackTraceElement;") ∈ lw_all := lw_g (lw_at lw_m1 56 rfl) rfl
theorem q141 : (Jvm.Cond.lays "ThirtyThreeBelow$Torn" "java/lang/Throwable" "suppressedExceptions" "Ljava/util/List;") ∈ lw_all := lw_g (lw_at lw_m1 58 rfl) rfl
theorem q143 : (Jvm.Cond.lays "ThirtyThreeBelow$Torn" "java/lang/Throwable" "detailMessage" "Ljava/lang/String;") ∈ lw_all := lw_g (lw_at lw_m1 60 rfl) rfl
theorem q145 : (Jvm.Cond.lays "ThirtyThreeBelow$Torn" "java/lang/Throwable" "backtrace" "Ljava/lang/Object;") ∈ lw_all := lw_g (lw_at lw_m1 62 rfl) rfl
theorem q168 : (Jvm.Cond.instanceMethod ({ cls := "ThirtyThreeBelow$Torn", name := "<init>", desc := "()V" } : Jvm.MethodName)) ∈ lw_all := lw_g (lw_at lw_m1 85 rfl) rfl
theorem q169 : (Jvm.Cond.code ({ cls := "ThirtyThreeBelow$Torn", name := "<init>", desc := "()V" } : Jvm.MethodName) prog_17_method_1_code (1 : Nat) (Option.none : Option Jvm.ClassFile.FieldType)) ∈ lw_all := lw_g (lw_at lw_m1 86 rfl) rfl
theorem q170 : (Jvm.Cond.methodLink "ThirtyThreeBelow$Torn" (1 : Nat) ({ cls := "java/lang/RuntimeException", name := "<init>", desc := "(Ljava/lang/String;Ljava/lang/Throwable;ZZ)V" } : Jvm.MethodName)) ∈ lw_all := lw_g (lw_at lw_m1 87 rfl) rfl
theorem q188 : (Jvm.Cond.lays "ThirtyThreeBelow$Torn" "java/lang/Throwable" "depth" "I") ∈ lw_all := lw_g (lw_at lw_m1 105 rfl) rfl
theorem q191 : (Jvm.Cond.superclass "ThirtyThreeBelow$Torn" "java/lang/RuntimeException") ∈ lw_all := lw_g (lw_at lw_m1 108 rfl) rfl
theorem q2451 : (Jvm.Cond.castable "ThirtyThreeBelow$Torn" "java/lang/Object") ∈ lw_tbl := lw_at lw_m10 208 rfl
theorem in_X1 : ∀ w ∈ wsX10, w ∈ lw_all := lw_in wsX10 [137, 139, 141, 143, 145, 188] (by decide +kernel) (by decide +kernel)
/-! ThirtyThreeBelow$Shaft -/
set_option maxRecDepth 100000
def RX10 : String := "ThirtyThreeBelow$Shaft"
def TX10 : u_T := fun k => match k with
  | 0 => ("ThirtyThreeBelow$Body", "number", "I", true)
  | 1 => ("ThirtyThreeBelow$Body", "this$0", "LThirtyThreeBelow;", true)
  | 2 => ("ThirtyThreeBelow$Way", "this$0", "LThirtyThreeBelow;", true)
  | 3 => ("ThirtyThreeBelow$Hole", "column", "I", true)
  | 4 => ("ThirtyThreeBelow$Hole", "width", "I", true)
  | 5 => ("ThirtyThreeBelow$Hole", "leans", "[I", true)
  | 6 => ("ThirtyThreeBelow$Hole", "told", "I", false)
  | 7 => ("ThirtyThreeBelow$Hole", "met", "[I", true)
  | 8 => ("ThirtyThreeBelow$Hole", "bored", "I", false)
  | 9 => ("ThirtyThreeBelow$Hole", "x", "I", false)
  | 10 => ("ThirtyThreeBelow$Hole", "minutes", "I", false)
  | 11 => ("ThirtyThreeBelow$Hole", "throughOn", "I", false)
  | 12 => ("ThirtyThreeBelow$Hole", "logs", "[I", true)
  | 13 => ("ThirtyThreeBelow$Hole", "hasLog", "[Z", true)
  | 14 => ("ThirtyThreeBelow$Hole", "this$0", "LThirtyThreeBelow;", true)
  | _ => ("ThirtyThreeBelow$Shaft", "this$0", "LThirtyThreeBelow;", true)
def tyX10 : Nat → FieldType := fun k => match k with
  | 0 => .int
  | 1 => .object "ThirtyThreeBelow"
  | 2 => .object "ThirtyThreeBelow"
  | 3 => .int
  | 4 => .int
  | 5 => .array .int
  | 6 => .int
  | 7 => .array .int
  | 8 => .int
  | 9 => .int
  | 10 => .int
  | 11 => .int
  | 12 => .array .int
  | 13 => .array .boolean
  | 14 => .object "ThirtyThreeBelow"
  | _ => .object "ThirtyThreeBelow"
abbrev wsX100 : List Cond := u_ws RX10 TX10 16
-- two fields of one name: no nmX10
set_option maxRecDepth 100000 in
theorem tyX10_ok : ∀ k, k < 16 → parseFieldDescriptor (TX10 k).2.2.1 = some (tyX10 k) := by decide +kernel
abbrev cX10_init : ByteArray := prog_12_method_1_code
def yX10_init : MethodName := ⟨RX10, "<init>", "(LThirtyThreeBelow;III)V"⟩
def dkwX10_init_0 : List UInt8 := [42, 43, 181, 0, 1, 42, 43, 28, 29, 21, 4, 183, 0, 7, 177]
abbrev dktX10_init_0 : List UInt8 := dkwX10_init_0 ++ []
theorem dksX10_init_0 : cX10_init.data.toList.drop 0 = dktX10_init_0 := by decide +kernel
theorem dX10_init_0 : decode cX10_init 0 = .ok (.aload_n 0, 1) := dk_42 (dk_at dksX10_init_0 0 rfl rfl)
theorem dX10_init_1 : decode cX10_init 1 = .ok (.aload_n 1, 1) := dk_43 (dk_at dksX10_init_0 1 rfl rfl)
theorem dX10_init_2 : decode cX10_init 2 = .ok (.putfield 1, 3) := dk_181 0 1 (dk_at dksX10_init_0 2 rfl rfl)
theorem dX10_init_5 : decode cX10_init 5 = .ok (.aload_n 0, 1) := dk_42 (dk_at dksX10_init_0 5 rfl rfl)
theorem dX10_init_6 : decode cX10_init 6 = .ok (.aload_n 1, 1) := dk_43 (dk_at dksX10_init_0 6 rfl rfl)
theorem dX10_init_7 : decode cX10_init 7 = .ok (.iload_n 2, 1) := dk_28 (dk_at dksX10_init_0 7 rfl rfl)
theorem dX10_init_8 : decode cX10_init 8 = .ok (.iload_n 3, 1) := dk_29 (dk_at dksX10_init_0 8 rfl rfl)
theorem dX10_init_9 : decode cX10_init 9 = .ok (.iload 4, 2) := dk_21 4 (dk_at dksX10_init_0 9 rfl rfl)
theorem dX10_init_11 : decode cX10_init 11 = .ok (.invokespecial 7, 3) := dk_183 0 7 (dk_at dksX10_init_0 11 rfl rfl)
theorem dX10_init_14 : decode cX10_init 14 = .ok (.return_, 1) := dk_177 (dk_at dksX10_init_0 14 rfl rfl)
abbrev cX10_kind : ByteArray := prog_12_method_2_code
def yX10_kind : MethodName := ⟨RX10, "kind", "()I"⟩
theorem dX10_kind_0 : decode cX10_kind 0 = .ok (.iconst 4, 1) := by decide +kernel
theorem dX10_kind_1 : decode cX10_kind 1 = .ok (.ireturn, 1) := by decide +kernel
abbrev cX10_bores : ByteArray := prog_12_method_4_code
def yX10_bores : MethodName := ⟨RX10, "bores", "(I)I"⟩
def dkwX10_bores_0 : List UInt8 := [42, 16, 50, 182, 0, 17, 42, 27, 4, 96, 183, 0, 21, 172]
abbrev dktX10_bores_0 : List UInt8 := dkwX10_bores_0 ++ []
theorem dksX10_bores_0 : cX10_bores.data.toList.drop 0 = dktX10_bores_0 := by decide +kernel
theorem dX10_bores_0 : decode cX10_bores 0 = .ok (.aload_n 0, 1) := dk_42 (dk_at dksX10_bores_0 0 rfl rfl)
theorem dX10_bores_1 : decode cX10_bores 1 = .ok (.bipush 50, 2) := dk_16 50 (dk_at dksX10_bores_0 1 rfl rfl)
theorem dX10_bores_3 : decode cX10_bores 3 = .ok (.invokevirtual 17, 3) := dk_182 0 17 (dk_at dksX10_bores_0 3 rfl rfl)
theorem dX10_bores_6 : decode cX10_bores 6 = .ok (.aload_n 0, 1) := dk_42 (dk_at dksX10_bores_0 6 rfl rfl)
theorem dX10_bores_7 : decode cX10_bores 7 = .ok (.iload_n 1, 1) := dk_27 (dk_at dksX10_bores_0 7 rfl rfl)
theorem dX10_bores_8 : decode cX10_bores 8 = .ok (.iconst 1, 1) := dk_4 (dk_at dksX10_bores_0 8 rfl rfl)
theorem dX10_bores_9 : decode cX10_bores 9 = .ok (.iadd, 1) := dk_96 (dk_at dksX10_bores_0 9 rfl rfl)
theorem dX10_bores_10 : decode cX10_bores 10 = .ok (.invokespecial 21, 3) := dk_183 0 21 (dk_at dksX10_bores_0 10 rfl rfl)
theorem dX10_bores_13 : decode cX10_bores 13 = .ok (.ireturn, 1) := dk_172 (dk_at dksX10_bores_0 13 rfl rfl)
abbrev cX10_tells : ByteArray := prog_12_method_5_code
def yX10_tells : MethodName := ⟨RX10, "tells", "(I)I"⟩
def dkwX10_tells_0 : List UInt8 := [42, 16, 51, 182, 0, 17, 42, 27, 183, 0, 25, 6, 104, 172]
abbrev dktX10_tells_0 : List UInt8 := dkwX10_tells_0 ++ []
theorem dksX10_tells_0 : cX10_tells.data.toList.drop 0 = dktX10_tells_0 := by decide +kernel
theorem dX10_tells_0 : decode cX10_tells 0 = .ok (.aload_n 0, 1) := dk_42 (dk_at dksX10_tells_0 0 rfl rfl)
theorem dX10_tells_1 : decode cX10_tells 1 = .ok (.bipush 51, 2) := dk_16 51 (dk_at dksX10_tells_0 1 rfl rfl)
theorem dX10_tells_3 : decode cX10_tells 3 = .ok (.invokevirtual 17, 3) := dk_182 0 17 (dk_at dksX10_tells_0 3 rfl rfl)
theorem dX10_tells_6 : decode cX10_tells 6 = .ok (.aload_n 0, 1) := dk_42 (dk_at dksX10_tells_0 6 rfl rfl)
theorem dX10_tells_7 : decode cX10_tells 7 = .ok (.iload_n 1, 1) := dk_27 (dk_at dksX10_tells_0 7 rfl rfl)
theorem dX10_tells_8 : decode cX10_tells 8 = .ok (.invokespecial 25, 3) := dk_183 0 25 (dk_at dksX10_tells_0 8 rfl rfl)
theorem dX10_tells_11 : decode cX10_tells 11 = .ok (.iconst 3, 1) := dk_6 (dk_at dksX10_tells_0 11 rfl rfl)
theorem dX10_tells_12 : decode cX10_tells 12 = .ok (.imul, 1) := dk_104 (dk_at dksX10_tells_0 12 rfl rfl)
theorem dX10_tells_13 : decode cX10_tells 13 = .ok (.ireturn, 1) := dk_172 (dk_at dksX10_tells_0 13 rfl rfl)
abbrev cX10_isUnder : ByteArray := prog_12_method_3_code
def yX10_isUnder : MethodName := ⟨RX10, "isUnder", "(I)Z"⟩
def dkwX10_isUnder_0 : List UInt8 := [27, 7, 159, 0, 11, 42, 27, 183, 0, 13, 153, 0, 7, 4, 167, 0, 4, 3, 172]
abbrev dktX10_isUnder_0 : List UInt8 := dkwX10_isUnder_0 ++ []
theorem dksX10_isUnder_0 : cX10_isUnder.data.toList.drop 0 = dktX10_isUnder_0 := by decide +kernel
theorem dX10_isUnder_0 : decode cX10_isUnder 0 = .ok (.iload_n 1, 1) := dk_27 (dk_at dksX10_isUnder_0 0 rfl rfl)
theorem dX10_isUnder_1 : decode cX10_isUnder 1 = .ok (.iconst 4, 1) := dk_7 (dk_at dksX10_isUnder_0 1 rfl rfl)
theorem dX10_isUnder_2 : decode cX10_isUnder 2 = .ok (.if_icmp .eq 11, 3) := dk_159 0 11 (dk_at dksX10_isUnder_0 2 rfl rfl)
theorem dX10_isUnder_5 : decode cX10_isUnder 5 = .ok (.aload_n 0, 1) := dk_42 (dk_at dksX10_isUnder_0 5 rfl rfl)
theorem dX10_isUnder_6 : decode cX10_isUnder 6 = .ok (.iload_n 1, 1) := dk_27 (dk_at dksX10_isUnder_0 6 rfl rfl)
theorem dX10_isUnder_7 : decode cX10_isUnder 7 = .ok (.invokespecial 13, 3) := dk_183 0 13 (dk_at dksX10_isUnder_0 7 rfl rfl)
theorem dX10_isUnder_10 : decode cX10_isUnder 10 = .ok (.ifCond .eq 7, 3) := dk_153 0 7 (dk_at dksX10_isUnder_0 10 rfl rfl)
theorem dX10_isUnder_13 : decode cX10_isUnder 13 = .ok (.iconst 1, 1) := dk_4 (dk_at dksX10_isUnder_0 13 rfl rfl)
theorem dX10_isUnder_14 : decode cX10_isUnder 14 = .ok (.goto 4, 3) := dk_167 0 4 (dk_at dksX10_isUnder_0 14 rfl rfl)
theorem dX10_isUnder_17 : decode cX10_isUnder 17 = .ok (.iconst 0, 1) := dk_3 (dk_at dksX10_isUnder_0 17 rfl rfl)
theorem dX10_isUnder_18 : decode cX10_isUnder 18 = .ok (.ireturn, 1) := dk_172 (dk_at dksX10_isUnder_0 18 rfl rfl)
theorem q97 : (Jvm.Cond.initialized "ThirtyThreeBelow$Shaft") ∈ lw_all := lw_g (lw_at lw_m1 14 rfl) rfl
theorem q601 : (Jvm.Cond.instantiable "ThirtyThreeBelow$Shaft" (16 : Nat)) ∈ lw_all := lw_g (lw_at lw_m3 38 rfl) rfl
theorem q603 : (Jvm.Cond.instanceMethod ({ cls := "ThirtyThreeBelow$Shaft", name := "<init>", desc := "(LThirtyThreeBelow;III)V" } : Jvm.MethodName)) ∈ lw_all := lw_g (lw_at lw_m3 40 rfl) rfl
theorem q604 : (Jvm.Cond.code ({ cls := "ThirtyThreeBelow$Shaft", name := "<init>", desc := "(LThirtyThreeBelow;III)V" } : Jvm.MethodName) prog_12_method_1_code (5 : Nat) (Option.none : Option Jvm.ClassFile.FieldType)) ∈ lw_all := lw_g (lw_at lw_m3 41 rfl) rfl
theorem q605 : (Jvm.Cond.methodLink "ThirtyThreeBelow$Shaft" (7 : Nat) ({ cls := "ThirtyThreeBelow$Hole", name := "<init>", desc := "(LThirtyThreeBelow;III)V" } : Jvm.MethodName)) ∈ lw_all := lw_g (lw_at lw_m3 42 rfl) rfl
theorem q606 : (Jvm.Cond.fieldLink "ThirtyThreeBelow$Shaft" (1 : Nat) "ThirtyThreeBelow$Shaft" "this$0" "LThirtyThreeBelow;") ∈ lw_all := lw_g (lw_at lw_m3 43 rfl) rfl
theorem q607 : (Jvm.Cond.laysFinal "ThirtyThreeBelow$Shaft" "ThirtyThreeBelow$Shaft" "this$0" "LThirtyThreeBelow;") ∈ lw_all := lw_g (lw_at lw_m3 44 rfl) rfl
theorem q608 : (Jvm.Cond.soleField "ThirtyThreeBelow$Shaft" "this$0") ∈ lw_all := lw_g (lw_at lw_m3 45 rfl) rfl
theorem q609 : (Jvm.Cond.laysFinal "ThirtyThreeBelow$Shaft" "ThirtyThreeBelow$Hole" "column" "I") ∈ lw_all := lw_g (lw_at lw_m3 46 rfl) rfl
theorem q610 : (Jvm.Cond.laysFinal "ThirtyThreeBelow$Shaft" "ThirtyThreeBelow$Hole" "width" "I") ∈ lw_all := lw_g (lw_at lw_m3 47 rfl) rfl
theorem q611 : (Jvm.Cond.laysFinal "ThirtyThreeBelow$Shaft" "ThirtyThreeBelow$Hole" "leans" "[I") ∈ lw_all := lw_g (lw_at lw_m3 48 rfl) rfl
theorem q612 : (Jvm.Cond.lays "ThirtyThreeBelow$Shaft" "ThirtyThreeBelow$Hole" "told" "I") ∈ lw_all := lw_g (lw_at lw_m3 49 rfl) rfl
theorem q613 : (Jvm.Cond.laysFinal "ThirtyThreeBelow$Shaft" "ThirtyThreeBelow$Hole" "met" "[I") ∈ lw_all := lw_g (lw_at lw_m3 50 rfl) rfl
theorem q614 : (Jvm.Cond.lays "ThirtyThreeBelow$Shaft" "ThirtyThreeBelow$Hole" "bored" "I") ∈ lw_all := lw_g (lw_at lw_m3 51 rfl) rfl
theorem q615 : (Jvm.Cond.lays "ThirtyThreeBelow$Shaft" "ThirtyThreeBelow$Hole" "x" "I") ∈ lw_all := lw_g (lw_at lw_m3 52 rfl) rfl
theorem q616 : (Jvm.Cond.lays "ThirtyThreeBelow$Shaft" "ThirtyThreeBelow$Hole" "minutes" "I") ∈ lw_all := lw_g (lw_at lw_m3 53 rfl) rfl
theorem q617 : (Jvm.Cond.lays "ThirtyThreeBelow$Shaft" "ThirtyThreeBelow$Hole" "throughOn" "I") ∈ lw_all := lw_g (lw_at lw_m3 54 rfl) rfl
theorem q618 : (Jvm.Cond.laysFinal "ThirtyThreeBelow$Shaft" "ThirtyThreeBelow$Hole" "logs" "[I") ∈ lw_all := lw_g (lw_at lw_m3 55 rfl) rfl
theorem q619 : (Jvm.Cond.laysFinal "ThirtyThreeBelow$Shaft" "ThirtyThreeBelow$Hole" "hasLog" "[Z") ∈ lw_all := lw_g (lw_at lw_m3 56 rfl) rfl
theorem q620 : (Jvm.Cond.laysFinal "ThirtyThreeBelow$Shaft" "ThirtyThreeBelow$Hole" "this$0" "LThirtyThreeBelow;") ∈ lw_all := lw_g (lw_at lw_m3 57 rfl) rfl
theorem q621 : (Jvm.Cond.laysFinal "ThirtyThreeBelow$Shaft" "ThirtyThreeBelow$Way" "this$0" "LThirtyThreeBelow;") ∈ lw_all := lw_g (lw_at lw_m3 58 rfl) rfl
theorem q622 : (Jvm.Cond.laysFinal "ThirtyThreeBelow$Shaft" "ThirtyThreeBelow$Body" "number" "I") ∈ lw_all := lw_g (lw_at lw_m3 59 rfl) rfl
theorem q623 : (Jvm.Cond.laysFinal "ThirtyThreeBelow$Shaft" "ThirtyThreeBelow$Body" "this$0" "LThirtyThreeBelow;") ∈ lw_all := lw_g (lw_at lw_m3 60 rfl) rfl
theorem q624 : (Jvm.Cond.superclass "ThirtyThreeBelow$Shaft" "ThirtyThreeBelow$Hole") ∈ lw_all := lw_g (lw_at lw_m3 61 rfl) rfl
theorem q741 : (Jvm.Cond.selects "ThirtyThreeBelow$Shaft" ({ cls := "ThirtyThreeBelow$Body", name := "kind", desc := "()I" } : Jvm.MethodName) ({ cls := "ThirtyThreeBelow$Shaft", name := "kind", desc := "()I" } : Jvm.MethodName)) ∈ lw_all := lw_g (lw_at lw_m3 178 rfl) rfl
theorem q742 : (Jvm.Cond.instanceMethod ({ cls := "ThirtyThreeBelow$Shaft", name := "kind", desc := "()I" } : Jvm.MethodName)) ∈ lw_all := lw_g (lw_at lw_m3 179 rfl) rfl
theorem q743 : (Jvm.Cond.code ({ cls := "ThirtyThreeBelow$Shaft", name := "kind", desc := "()I" } : Jvm.MethodName) prog_12_method_2_code (1 : Nat) (Option.some Jvm.ClassFile.FieldType.int)) ∈ lw_all := lw_g (lw_at lw_m3 180 rfl) rfl
theorem q766 : (Jvm.Cond.selects "ThirtyThreeBelow$Shaft" ({ cls := "ThirtyThreeBelow$Hole", name := "isThrough", desc := "()Z" } : Jvm.MethodName) ({ cls := "ThirtyThreeBelow$Hole", name := "isThrough", desc := "()Z" } : Jvm.MethodName)) ∈ lw_all := lw_g (lw_at lw_m3 203 rfl) rfl
theorem q843 : (Jvm.Cond.selects "ThirtyThreeBelow$Shaft" ({ cls := "ThirtyThreeBelow$Hole", name := "low", desc := "(II)I" } : Jvm.MethodName) ({ cls := "ThirtyThreeBelow$Hole", name := "low", desc := "(II)I" } : Jvm.MethodName)) ∈ lw_all := lw_g (lw_at lw_m4 40 rfl) rfl
theorem q851 : (Jvm.Cond.selects "ThirtyThreeBelow$Shaft" ({ cls := "ThirtyThreeBelow$Hole", name := "high", desc := "(II)I" } : Jvm.MethodName) ({ cls := "ThirtyThreeBelow$Hole", name := "high", desc := "(II)I" } : Jvm.MethodName)) ∈ lw_all := lw_g (lw_at lw_m4 48 rfl) rfl
theorem q1188 : (Jvm.Cond.selects "ThirtyThreeBelow$Shaft" ({ cls := "ThirtyThreeBelow$Hole", name := "bore", desc := "(I)V" } : Jvm.MethodName) ({ cls := "ThirtyThreeBelow$Hole", name := "bore", desc := "(I)V" } : Jvm.MethodName)) ∈ lw_all := lw_g (lw_at lw_m5 145 rfl) rfl
theorem q1324 : (Jvm.Cond.selects "ThirtyThreeBelow$Shaft" ({ cls := "ThirtyThreeBelow$Way", name := "begins", desc := "(I)V" } : Jvm.MethodName) ({ cls := "ThirtyThreeBelow$Body", name := "begins", desc := "(I)V" } : Jvm.MethodName)) ∈ lw_all := lw_g (lw_at lw_m6 41 rfl) rfl
theorem q1349 : (Jvm.Cond.castable "ThirtyThreeBelow$Shaft" "ThirtyThreeBelow$Bores") ∈ lw_tbl := lw_at lw_m6 66 rfl
theorem q1350 : (Jvm.Cond.selects "ThirtyThreeBelow$Shaft" ({ cls := "ThirtyThreeBelow$Bores", name := "begins", desc := "(I)V" } : Jvm.MethodName) ({ cls := "ThirtyThreeBelow$Body", name := "begins", desc := "(I)V" } : Jvm.MethodName)) ∈ lw_all := lw_g (lw_at lw_m6 67 rfl) rfl
theorem q1351 : (Jvm.Cond.unhidden "ThirtyThreeBelow$Shaft" "begins" "(I)V") ∈ lw_tbl := lw_at lw_m6 68 rfl
theorem q1376 : (Jvm.Cond.selects "ThirtyThreeBelow$Shaft" ({ cls := "ThirtyThreeBelow$Bores", name := "number", desc := "()I" } : Jvm.MethodName) ({ cls := "ThirtyThreeBelow$Body", name := "number", desc := "()I" } : Jvm.MethodName)) ∈ lw_all := lw_g (lw_at lw_m6 93 rfl) rfl
theorem q1377 : (Jvm.Cond.unhidden "ThirtyThreeBelow$Shaft" "number" "()I") ∈ lw_tbl := lw_at lw_m6 94 rfl
theorem q1391 : (Jvm.Cond.instanceMethod ({ cls := "ThirtyThreeBelow$Shaft", name := "bores", desc := "(I)I" } : Jvm.MethodName)) ∈ lw_all := lw_g (lw_at lw_m6 108 rfl) rfl
theorem q1392 : (Jvm.Cond.code ({ cls := "ThirtyThreeBelow$Shaft", name := "bores", desc := "(I)I" } : Jvm.MethodName) prog_12_method_4_code (2 : Nat) (Option.some Jvm.ClassFile.FieldType.int)) ∈ lw_all := lw_g (lw_at lw_m6 109 rfl) rfl
theorem q1393 : (Jvm.Cond.methodLink "ThirtyThreeBelow$Shaft" (17 : Nat) ({ cls := "ThirtyThreeBelow$Shaft", name := "begins", desc := "(I)V" } : Jvm.MethodName)) ∈ lw_all := lw_g (lw_at lw_m6 110 rfl) rfl
theorem q1394 : (Jvm.Cond.sameMethod "ThirtyThreeBelow$Shaft" "ThirtyThreeBelow$Body" "begins" "(I)V") ∈ lw_all := lw_g (lw_at lw_m6 111 rfl) rfl
theorem q1396 : (Jvm.Cond.selects "ThirtyThreeBelow$Shaft" ({ cls := "ThirtyThreeBelow$Shaft", name := "begins", desc := "(I)V" } : Jvm.MethodName) ({ cls := "ThirtyThreeBelow$Body", name := "begins", desc := "(I)V" } : Jvm.MethodName)) ∈ lw_all := lw_g (lw_at lw_m6 113 rfl) rfl
theorem q1397 : (Jvm.Cond.methodLink "ThirtyThreeBelow$Shaft" (21 : Nat) ({ cls := "ThirtyThreeBelow$Hole", name := "bores", desc := "(I)I" } : Jvm.MethodName)) ∈ lw_all := lw_g (lw_at lw_m6 114 rfl) rfl
theorem q1401 : (Jvm.Cond.selects "ThirtyThreeBelow$Shaft" ({ cls := "ThirtyThreeBelow$Bores", name := "bores", desc := "(I)I" } : Jvm.MethodName) ({ cls := "ThirtyThreeBelow$Shaft", name := "bores", desc := "(I)I" } : Jvm.MethodName)) ∈ lw_all := lw_g (lw_at lw_m6 118 rfl) rfl
theorem q1417 : (Jvm.Cond.selects "ThirtyThreeBelow$Shaft" ({ cls := "ThirtyThreeBelow$Hole", name := "begins", desc := "(I)V" } : Jvm.MethodName) ({ cls := "ThirtyThreeBelow$Body", name := "begins", desc := "(I)V" } : Jvm.MethodName)) ∈ lw_all := lw_g (lw_at lw_m6 134 rfl) rfl
theorem q1432 : (Jvm.Cond.selects "ThirtyThreeBelow$Shaft" ({ cls := "ThirtyThreeBelow$Body", name := "carries", desc := "(I)I" } : Jvm.MethodName) ({ cls := "ThirtyThreeBelow$Hole", name := "carries", desc := "(I)I" } : Jvm.MethodName)) ∈ lw_all := lw_g (lw_at lw_m6 149 rfl) rfl
theorem q1445 : (Jvm.Cond.sameMethod "ThirtyThreeBelow$Shaft" "ThirtyThreeBelow$Body" "holds" "(I)I") ∈ lw_all := lw_g (lw_at lw_m6 162 rfl) rfl
theorem q1449 : (Jvm.Cond.selects "ThirtyThreeBelow$Shaft" ({ cls := "ThirtyThreeBelow$Body", name := "holds", desc := "(I)I" } : Jvm.MethodName) ({ cls := "ThirtyThreeBelow$Body", name := "holds", desc := "(I)I" } : Jvm.MethodName)) ∈ lw_all := lw_g (lw_at lw_m6 166 rfl) rfl
theorem q1476 : (Jvm.Cond.instanceMethod ({ cls := "ThirtyThreeBelow$Shaft", name := "tells", desc := "(I)I" } : Jvm.MethodName)) ∈ lw_all := lw_g (lw_at lw_m6 193 rfl) rfl
theorem q1477 : (Jvm.Cond.code ({ cls := "ThirtyThreeBelow$Shaft", name := "tells", desc := "(I)I" } : Jvm.MethodName) prog_12_method_5_code (2 : Nat) (Option.some Jvm.ClassFile.FieldType.int)) ∈ lw_all := lw_g (lw_at lw_m6 194 rfl) rfl
theorem q1492 : (Jvm.Cond.castable "ThirtyThreeBelow$Shaft" "ThirtyThreeBelow$Tells") ∈ lw_tbl := lw_at lw_m6 209 rfl
theorem q1493 : (Jvm.Cond.selects "ThirtyThreeBelow$Shaft" ({ cls := "ThirtyThreeBelow$Tells", name := "begins", desc := "(I)V" } : Jvm.MethodName) ({ cls := "ThirtyThreeBelow$Body", name := "begins", desc := "(I)V" } : Jvm.MethodName)) ∈ lw_all := lw_g (lw_at lw_m6 210 rfl) rfl
theorem q1515 : (Jvm.Cond.selects "ThirtyThreeBelow$Shaft" ({ cls := "ThirtyThreeBelow$Tells", name := "carries", desc := "(I)I" } : Jvm.MethodName) ({ cls := "ThirtyThreeBelow$Hole", name := "carries", desc := "(I)I" } : Jvm.MethodName)) ∈ lw_all := lw_g (lw_at lw_m6 232 rfl) rfl
theorem q1516 : (Jvm.Cond.unhidden "ThirtyThreeBelow$Shaft" "carries" "(I)I") ∈ lw_tbl := lw_at lw_m6 233 rfl
theorem q1537 : (Jvm.Cond.selects "ThirtyThreeBelow$Shaft" ({ cls := "ThirtyThreeBelow$Tells", name := "holds", desc := "(I)I" } : Jvm.MethodName) ({ cls := "ThirtyThreeBelow$Body", name := "holds", desc := "(I)I" } : Jvm.MethodName)) ∈ lw_all := lw_g (lw_at lw_m7 14 rfl) rfl
theorem q1538 : (Jvm.Cond.unhidden "ThirtyThreeBelow$Shaft" "holds" "(I)I") ∈ lw_tbl := lw_at lw_m7 15 rfl
theorem q1548 : (Jvm.Cond.selects "ThirtyThreeBelow$Shaft" ({ cls := "ThirtyThreeBelow$Tells", name := "tells", desc := "(I)I" } : Jvm.MethodName) ({ cls := "ThirtyThreeBelow$Shaft", name := "tells", desc := "(I)I" } : Jvm.MethodName)) ∈ lw_all := lw_g (lw_at lw_m7 25 rfl) rfl
theorem q1659 : (Jvm.Cond.instanceMethod ({ cls := "ThirtyThreeBelow$Shaft", name := "isUnder", desc := "(I)Z" } : Jvm.MethodName)) ∈ lw_all := lw_g (lw_at lw_m7 136 rfl) rfl
theorem q1660 : (Jvm.Cond.code ({ cls := "ThirtyThreeBelow$Shaft", name := "isUnder", desc := "(I)Z" } : Jvm.MethodName) prog_12_method_3_code (2 : Nat) (Option.some Jvm.ClassFile.FieldType.boolean)) ∈ lw_all := lw_g (lw_at lw_m7 137 rfl) rfl
theorem q1661 : (Jvm.Cond.methodLink "ThirtyThreeBelow$Shaft" (13 : Nat) ({ cls := "ThirtyThreeBelow$Hole", name := "isUnder", desc := "(I)Z" } : Jvm.MethodName)) ∈ lw_all := lw_g (lw_at lw_m7 138 rfl) rfl
theorem q1666 : (Jvm.Cond.selects "ThirtyThreeBelow$Shaft" ({ cls := "ThirtyThreeBelow$Body", name := "isUnder", desc := "(I)Z" } : Jvm.MethodName) ({ cls := "ThirtyThreeBelow$Shaft", name := "isUnder", desc := "(I)Z" } : Jvm.MethodName)) ∈ lw_all := lw_g (lw_at lw_m7 143 rfl) rfl
theorem q2424 : (Jvm.Cond.sameMethod "ThirtyThreeBelow$Shaft" "ThirtyThreeBelow$Shaft" "bores" "(I)I") ∈ lw_all := lw_g (lw_at lw_m10 181 rfl) rfl
theorem q2430 : (Jvm.Cond.selects "ThirtyThreeBelow$Shaft" ({ cls := "ThirtyThreeBelow$Body", name := "begins", desc := "(I)V" } : Jvm.MethodName) ({ cls := "ThirtyThreeBelow$Body", name := "begins", desc := "(I)V" } : Jvm.MethodName)) ∈ lw_all := lw_g (lw_at lw_m10 187 rfl) rfl
theorem q2435 : (Jvm.Cond.sameMethod "ThirtyThreeBelow$Shaft" "ThirtyThreeBelow$Shaft" "isUnder" "(I)Z") ∈ lw_all := lw_g (lw_at lw_m10 192 rfl) rfl
theorem q2440 : (Jvm.Cond.castable "ThirtyThreeBelow$Shaft" "ThirtyThreeBelow$Hole") ∈ lw_tbl := lw_at lw_m10 197 rfl
theorem q2446 : (Jvm.Cond.castable "ThirtyThreeBelow$Shaft" "ThirtyThreeBelow$Body") ∈ lw_tbl := lw_at lw_m10 203 rfl
theorem q2460 : (Jvm.Cond.castable "ThirtyThreeBelow$Shaft" "java/lang/Object") ∈ lw_tbl := lw_at lw_m10 217 rfl
theorem in_X10 : ∀ w ∈ wsX100, w ∈ lw_all := lw_in wsX100 [622, 623, 621, 609, 610, 611, 612, 613, 614, 615, 616, 617, 618, 619, 620, 607] (by decide +kernel) (by decide +kernel)
/-! ThirtyThreeBelow$Liner -/
set_option maxRecDepth 100000
def RX11 : String := "ThirtyThreeBelow$Liner"
def TX11 : u_T := fun k => match k with
  | 0 => ("ThirtyThreeBelow$Body", "number", "I", true)
  | 1 => ("ThirtyThreeBelow$Body", "this$0", "LThirtyThreeBelow;", true)
  | 2 => ("ThirtyThreeBelow$Way", "this$0", "LThirtyThreeBelow;", true)
  | 3 => ("ThirtyThreeBelow$Hole", "column", "I", true)
  | 4 => ("ThirtyThreeBelow$Hole", "width", "I", true)
  | 5 => ("ThirtyThreeBelow$Hole", "leans", "[I", true)
  | 6 => ("ThirtyThreeBelow$Hole", "told", "I", false)
  | 7 => ("ThirtyThreeBelow$Hole", "met", "[I", true)
  | 8 => ("ThirtyThreeBelow$Hole", "bored", "I", false)
  | 9 => ("ThirtyThreeBelow$Hole", "x", "I", false)
  | 10 => ("ThirtyThreeBelow$Hole", "minutes", "I", false)
  | 11 => ("ThirtyThreeBelow$Hole", "throughOn", "I", false)
  | 12 => ("ThirtyThreeBelow$Hole", "logs", "[I", true)
  | 13 => ("ThirtyThreeBelow$Hole", "hasLog", "[Z", true)
  | 14 => ("ThirtyThreeBelow$Hole", "this$0", "LThirtyThreeBelow;", true)
  | 15 => ("ThirtyThreeBelow$Shaft", "this$0", "LThirtyThreeBelow;", true)
  | _ => ("ThirtyThreeBelow$Liner", "this$0", "LThirtyThreeBelow;", true)
def tyX11 : Nat → FieldType := fun k => match k with
  | 0 => .int
  | 1 => .object "ThirtyThreeBelow"
  | 2 => .object "ThirtyThreeBelow"
  | 3 => .int
  | 4 => .int
  | 5 => .array .int
  | 6 => .int
  | 7 => .array .int
  | 8 => .int
  | 9 => .int
  | 10 => .int
  | 11 => .int
  | 12 => .array .int
  | 13 => .array .boolean
  | 14 => .object "ThirtyThreeBelow"
  | 15 => .object "ThirtyThreeBelow"
  | _ => .object "ThirtyThreeBelow"
abbrev wsX110 : List Cond := u_ws RX11 TX11 17
-- two fields of one name: no nmX11
set_option maxRecDepth 100000 in
theorem tyX11_ok : ∀ k, k < 17 → parseFieldDescriptor (TX11 k).2.2.1 = some (tyX11 k) := by decide +kernel
abbrev cX11_init : ByteArray := prog_8_method_1_code
def yX11_init : MethodName := ⟨RX11, "<init>", "(LThirtyThreeBelow;III)V"⟩
def dkwX11_init_0 : List UInt8 := [42, 43, 181, 0, 1, 42, 43, 28, 29, 21, 4, 183, 0, 7, 177]
abbrev dktX11_init_0 : List UInt8 := dkwX11_init_0 ++ []
theorem dksX11_init_0 : cX11_init.data.toList.drop 0 = dktX11_init_0 := by decide +kernel
theorem dX11_init_0 : decode cX11_init 0 = .ok (.aload_n 0, 1) := dk_42 (dk_at dksX11_init_0 0 rfl rfl)
theorem dX11_init_1 : decode cX11_init 1 = .ok (.aload_n 1, 1) := dk_43 (dk_at dksX11_init_0 1 rfl rfl)
theorem dX11_init_2 : decode cX11_init 2 = .ok (.putfield 1, 3) := dk_181 0 1 (dk_at dksX11_init_0 2 rfl rfl)
theorem dX11_init_5 : decode cX11_init 5 = .ok (.aload_n 0, 1) := dk_42 (dk_at dksX11_init_0 5 rfl rfl)
theorem dX11_init_6 : decode cX11_init 6 = .ok (.aload_n 1, 1) := dk_43 (dk_at dksX11_init_0 6 rfl rfl)
theorem dX11_init_7 : decode cX11_init 7 = .ok (.iload_n 2, 1) := dk_28 (dk_at dksX11_init_0 7 rfl rfl)
theorem dX11_init_8 : decode cX11_init 8 = .ok (.iload_n 3, 1) := dk_29 (dk_at dksX11_init_0 8 rfl rfl)
theorem dX11_init_9 : decode cX11_init 9 = .ok (.iload 4, 2) := dk_21 4 (dk_at dksX11_init_0 9 rfl rfl)
theorem dX11_init_11 : decode cX11_init 11 = .ok (.invokespecial 7, 3) := dk_183 0 7 (dk_at dksX11_init_0 11 rfl rfl)
theorem dX11_init_14 : decode cX11_init 14 = .ok (.return_, 1) := dk_177 (dk_at dksX11_init_0 14 rfl rfl)
abbrev cX11_kind : ByteArray := prog_8_method_2_code
def yX11_kind : MethodName := ⟨RX11, "kind", "()I"⟩
theorem dX11_kind_0 : decode cX11_kind 0 = .ok (.iconst 5, 1) := by decide +kernel
theorem dX11_kind_1 : decode cX11_kind 1 = .ok (.ireturn, 1) := by decide +kernel
abbrev cX11_bores : ByteArray := prog_8_method_5_code
def yX11_bores : MethodName := ⟨RX11, "bores", "(I)I"⟩
def dkwX11_bores_0 : List UInt8 := [42, 16, 61, 182, 0, 17, 42, 27, 183, 0, 25, 16, 7, 130, 172]
abbrev dktX11_bores_0 : List UInt8 := dkwX11_bores_0 ++ []
theorem dksX11_bores_0 : cX11_bores.data.toList.drop 0 = dktX11_bores_0 := by decide +kernel
theorem dX11_bores_0 : decode cX11_bores 0 = .ok (.aload_n 0, 1) := dk_42 (dk_at dksX11_bores_0 0 rfl rfl)
theorem dX11_bores_1 : decode cX11_bores 1 = .ok (.bipush 61, 2) := dk_16 61 (dk_at dksX11_bores_0 1 rfl rfl)
theorem dX11_bores_3 : decode cX11_bores 3 = .ok (.invokevirtual 17, 3) := dk_182 0 17 (dk_at dksX11_bores_0 3 rfl rfl)
theorem dX11_bores_6 : decode cX11_bores 6 = .ok (.aload_n 0, 1) := dk_42 (dk_at dksX11_bores_0 6 rfl rfl)
theorem dX11_bores_7 : decode cX11_bores 7 = .ok (.iload_n 1, 1) := dk_27 (dk_at dksX11_bores_0 7 rfl rfl)
theorem dX11_bores_8 : decode cX11_bores 8 = .ok (.invokespecial 25, 3) := dk_183 0 25 (dk_at dksX11_bores_0 8 rfl rfl)
theorem dX11_bores_11 : decode cX11_bores 11 = .ok (.bipush 7, 2) := dk_16 7 (dk_at dksX11_bores_0 11 rfl rfl)
theorem dX11_bores_13 : decode cX11_bores 13 = .ok (.ixor, 1) := dk_130 (dk_at dksX11_bores_0 13 rfl rfl)
theorem dX11_bores_14 : decode cX11_bores 14 = .ok (.ireturn, 1) := dk_172 (dk_at dksX11_bores_0 14 rfl rfl)
abbrev cX11_holds : ByteArray := prog_8_method_4_code
def yX11_holds : MethodName := ⟨RX11, "holds", "(I)I"⟩
def dkwX11_holds_0 : List UInt8 := [42, 16, 60, 182, 0, 17, 42, 27, 183, 0, 21, 116, 172]
abbrev dktX11_holds_0 : List UInt8 := dkwX11_holds_0 ++ []
theorem dksX11_holds_0 : cX11_holds.data.toList.drop 0 = dktX11_holds_0 := by decide +kernel
theorem dX11_holds_0 : decode cX11_holds 0 = .ok (.aload_n 0, 1) := dk_42 (dk_at dksX11_holds_0 0 rfl rfl)
theorem dX11_holds_1 : decode cX11_holds 1 = .ok (.bipush 60, 2) := dk_16 60 (dk_at dksX11_holds_0 1 rfl rfl)
theorem dX11_holds_3 : decode cX11_holds 3 = .ok (.invokevirtual 17, 3) := dk_182 0 17 (dk_at dksX11_holds_0 3 rfl rfl)
theorem dX11_holds_6 : decode cX11_holds 6 = .ok (.aload_n 0, 1) := dk_42 (dk_at dksX11_holds_0 6 rfl rfl)
theorem dX11_holds_7 : decode cX11_holds 7 = .ok (.iload_n 1, 1) := dk_27 (dk_at dksX11_holds_0 7 rfl rfl)
theorem dX11_holds_8 : decode cX11_holds 8 = .ok (.invokespecial 21, 3) := dk_183 0 21 (dk_at dksX11_holds_0 8 rfl rfl)
theorem dX11_holds_11 : decode cX11_holds 11 = .ok (.ineg, 1) := dk_116 (dk_at dksX11_holds_0 11 rfl rfl)
theorem dX11_holds_12 : decode cX11_holds 12 = .ok (.ireturn, 1) := dk_172 (dk_at dksX11_holds_0 12 rfl rfl)
abbrev cX11_isUnder : ByteArray := prog_8_method_3_code
def yX11_isUnder : MethodName := ⟨RX11, "isUnder", "(I)Z"⟩
def dkwX11_isUnder_0 : List UInt8 := [27, 8, 159, 0, 11, 42, 27, 183, 0, 13, 153, 0, 7, 4, 167, 0, 4, 3, 172]
abbrev dktX11_isUnder_0 : List UInt8 := dkwX11_isUnder_0 ++ []
theorem dksX11_isUnder_0 : cX11_isUnder.data.toList.drop 0 = dktX11_isUnder_0 := by decide +kernel
theorem dX11_isUnder_0 : decode cX11_isUnder 0 = .ok (.iload_n 1, 1) := dk_27 (dk_at dksX11_isUnder_0 0 rfl rfl)
theorem dX11_isUnder_1 : decode cX11_isUnder 1 = .ok (.iconst 5, 1) := dk_8 (dk_at dksX11_isUnder_0 1 rfl rfl)
theorem dX11_isUnder_2 : decode cX11_isUnder 2 = .ok (.if_icmp .eq 11, 3) := dk_159 0 11 (dk_at dksX11_isUnder_0 2 rfl rfl)
theorem dX11_isUnder_5 : decode cX11_isUnder 5 = .ok (.aload_n 0, 1) := dk_42 (dk_at dksX11_isUnder_0 5 rfl rfl)
theorem dX11_isUnder_6 : decode cX11_isUnder 6 = .ok (.iload_n 1, 1) := dk_27 (dk_at dksX11_isUnder_0 6 rfl rfl)
theorem dX11_isUnder_7 : decode cX11_isUnder 7 = .ok (.invokespecial 13, 3) := dk_183 0 13 (dk_at dksX11_isUnder_0 7 rfl rfl)
theorem dX11_isUnder_10 : decode cX11_isUnder 10 = .ok (.ifCond .eq 7, 3) := dk_153 0 7 (dk_at dksX11_isUnder_0 10 rfl rfl)
theorem dX11_isUnder_13 : decode cX11_isUnder 13 = .ok (.iconst 1, 1) := dk_4 (dk_at dksX11_isUnder_0 13 rfl rfl)
theorem dX11_isUnder_14 : decode cX11_isUnder 14 = .ok (.goto 4, 3) := dk_167 0 4 (dk_at dksX11_isUnder_0 14 rfl rfl)
theorem dX11_isUnder_17 : decode cX11_isUnder 17 = .ok (.iconst 0, 1) := dk_3 (dk_at dksX11_isUnder_0 17 rfl rfl)
theorem dX11_isUnder_18 : decode cX11_isUnder 18 = .ok (.ireturn, 1) := dk_172 (dk_at dksX11_isUnder_0 18 rfl rfl)
theorem q98 : (Jvm.Cond.initialized "ThirtyThreeBelow$Liner") ∈ lw_all := lw_g (lw_at lw_m1 15 rfl) rfl
theorem q626 : (Jvm.Cond.instantiable "ThirtyThreeBelow$Liner" (17 : Nat)) ∈ lw_all := lw_g (lw_at lw_m3 63 rfl) rfl
theorem q628 : (Jvm.Cond.instanceMethod ({ cls := "ThirtyThreeBelow$Liner", name := "<init>", desc := "(LThirtyThreeBelow;III)V" } : Jvm.MethodName)) ∈ lw_all := lw_g (lw_at lw_m3 65 rfl) rfl
theorem q629 : (Jvm.Cond.code ({ cls := "ThirtyThreeBelow$Liner", name := "<init>", desc := "(LThirtyThreeBelow;III)V" } : Jvm.MethodName) prog_8_method_1_code (5 : Nat) (Option.none : Option Jvm.ClassFile.FieldType)) ∈ lw_all := lw_g (lw_at lw_m3 66 rfl) rfl
theorem q630 : (Jvm.Cond.methodLink "ThirtyThreeBelow$Liner" (7 : Nat) ({ cls := "ThirtyThreeBelow$Shaft", name := "<init>", desc := "(LThirtyThreeBelow;III)V" } : Jvm.MethodName)) ∈ lw_all := lw_g (lw_at lw_m3 67 rfl) rfl
theorem q631 : (Jvm.Cond.fieldLink "ThirtyThreeBelow$Liner" (1 : Nat) "ThirtyThreeBelow$Liner" "this$0" "LThirtyThreeBelow;") ∈ lw_all := lw_g (lw_at lw_m3 68 rfl) rfl
theorem q632 : (Jvm.Cond.laysFinal "ThirtyThreeBelow$Liner" "ThirtyThreeBelow$Liner" "this$0" "LThirtyThreeBelow;") ∈ lw_all := lw_g (lw_at lw_m3 69 rfl) rfl
theorem q633 : (Jvm.Cond.soleField "ThirtyThreeBelow$Liner" "this$0") ∈ lw_all := lw_g (lw_at lw_m3 70 rfl) rfl
theorem q634 : (Jvm.Cond.laysFinal "ThirtyThreeBelow$Liner" "ThirtyThreeBelow$Shaft" "this$0" "LThirtyThreeBelow;") ∈ lw_all := lw_g (lw_at lw_m3 71 rfl) rfl
theorem q635 : (Jvm.Cond.laysFinal "ThirtyThreeBelow$Liner" "ThirtyThreeBelow$Hole" "column" "I") ∈ lw_all := lw_g (lw_at lw_m3 72 rfl) rfl
theorem q636 : (Jvm.Cond.laysFinal "ThirtyThreeBelow$Liner" "ThirtyThreeBelow$Hole" "width" "I") ∈ lw_all := lw_g (lw_at lw_m3 73 rfl) rfl
theorem q637 : (Jvm.Cond.laysFinal "ThirtyThreeBelow$Liner" "ThirtyThreeBelow$Hole" "leans" "[I") ∈ lw_all := lw_g (lw_at lw_m3 74 rfl) rfl
theorem q638 : (Jvm.Cond.lays "ThirtyThreeBelow$Liner" "ThirtyThreeBelow$Hole" "told" "I") ∈ lw_all := lw_g (lw_at lw_m3 75 rfl) rfl
theorem q639 : (Jvm.Cond.laysFinal "ThirtyThreeBelow$Liner" "ThirtyThreeBelow$Hole" "met" "[I") ∈ lw_all := lw_g (lw_at lw_m3 76 rfl) rfl
theorem q640 : (Jvm.Cond.lays "ThirtyThreeBelow$Liner" "ThirtyThreeBelow$Hole" "bored" "I") ∈ lw_all := lw_g (lw_at lw_m3 77 rfl) rfl
theorem q641 : (Jvm.Cond.lays "ThirtyThreeBelow$Liner" "ThirtyThreeBelow$Hole" "x" "I") ∈ lw_all := lw_g (lw_at lw_m3 78 rfl) rfl
theorem q642 : (Jvm.Cond.lays "ThirtyThreeBelow$Liner" "ThirtyThreeBelow$Hole" "minutes" "I") ∈ lw_all := lw_g (lw_at lw_m3 79 rfl) rfl
theorem q643 : (Jvm.Cond.lays "ThirtyThreeBelow$Liner" "ThirtyThreeBelow$Hole" "throughOn" "I") ∈ lw_all := lw_g (lw_at lw_m3 80 rfl) rfl
theorem q644 : (Jvm.Cond.laysFinal "ThirtyThreeBelow$Liner" "ThirtyThreeBelow$Hole" "logs" "[I") ∈ lw_all := lw_g (lw_at lw_m3 81 rfl) rfl
theorem q645 : (Jvm.Cond.laysFinal "ThirtyThreeBelow$Liner" "ThirtyThreeBelow$Hole" "hasLog" "[Z") ∈ lw_all := lw_g (lw_at lw_m3 82 rfl) rfl
theorem q646 : (Jvm.Cond.laysFinal "ThirtyThreeBelow$Liner" "ThirtyThreeBelow$Hole" "this$0" "LThirtyThreeBelow;") ∈ lw_all := lw_g (lw_at lw_m3 83 rfl) rfl
theorem q647 : (Jvm.Cond.laysFinal "ThirtyThreeBelow$Liner" "ThirtyThreeBelow$Way" "this$0" "LThirtyThreeBelow;") ∈ lw_all := lw_g (lw_at lw_m3 84 rfl) rfl
theorem q648 : (Jvm.Cond.laysFinal "ThirtyThreeBelow$Liner" "ThirtyThreeBelow$Body" "number" "I") ∈ lw_all := lw_g (lw_at lw_m3 85 rfl) rfl
theorem q649 : (Jvm.Cond.laysFinal "ThirtyThreeBelow$Liner" "ThirtyThreeBelow$Body" "this$0" "LThirtyThreeBelow;") ∈ lw_all := lw_g (lw_at lw_m3 86 rfl) rfl
theorem q650 : (Jvm.Cond.superclass "ThirtyThreeBelow$Liner" "ThirtyThreeBelow$Shaft") ∈ lw_all := lw_g (lw_at lw_m3 87 rfl) rfl
theorem q735 : (Jvm.Cond.selects "ThirtyThreeBelow$Liner" ({ cls := "ThirtyThreeBelow$Body", name := "kind", desc := "()I" } : Jvm.MethodName) ({ cls := "ThirtyThreeBelow$Liner", name := "kind", desc := "()I" } : Jvm.MethodName)) ∈ lw_all := lw_g (lw_at lw_m3 172 rfl) rfl
theorem q736 : (Jvm.Cond.instanceMethod ({ cls := "ThirtyThreeBelow$Liner", name := "kind", desc := "()I" } : Jvm.MethodName)) ∈ lw_all := lw_g (lw_at lw_m3 173 rfl) rfl
theorem q737 : (Jvm.Cond.code ({ cls := "ThirtyThreeBelow$Liner", name := "kind", desc := "()I" } : Jvm.MethodName) prog_8_method_2_code (1 : Nat) (Option.some Jvm.ClassFile.FieldType.int)) ∈ lw_all := lw_g (lw_at lw_m3 174 rfl) rfl
theorem q765 : (Jvm.Cond.selects "ThirtyThreeBelow$Liner" ({ cls := "ThirtyThreeBelow$Hole", name := "isThrough", desc := "()Z" } : Jvm.MethodName) ({ cls := "ThirtyThreeBelow$Hole", name := "isThrough", desc := "()Z" } : Jvm.MethodName)) ∈ lw_all := lw_g (lw_at lw_m3 202 rfl) rfl
theorem q842 : (Jvm.Cond.selects "ThirtyThreeBelow$Liner" ({ cls := "ThirtyThreeBelow$Hole", name := "low", desc := "(II)I" } : Jvm.MethodName) ({ cls := "ThirtyThreeBelow$Hole", name := "low", desc := "(II)I" } : Jvm.MethodName)) ∈ lw_all := lw_g (lw_at lw_m4 39 rfl) rfl
theorem q850 : (Jvm.Cond.selects "ThirtyThreeBelow$Liner" ({ cls := "ThirtyThreeBelow$Hole", name := "high", desc := "(II)I" } : Jvm.MethodName) ({ cls := "ThirtyThreeBelow$Hole", name := "high", desc := "(II)I" } : Jvm.MethodName)) ∈ lw_all := lw_g (lw_at lw_m4 47 rfl) rfl
theorem q1187 : (Jvm.Cond.selects "ThirtyThreeBelow$Liner" ({ cls := "ThirtyThreeBelow$Hole", name := "bore", desc := "(I)V" } : Jvm.MethodName) ({ cls := "ThirtyThreeBelow$Hole", name := "bore", desc := "(I)V" } : Jvm.MethodName)) ∈ lw_all := lw_g (lw_at lw_m5 144 rfl) rfl
theorem q1323 : (Jvm.Cond.selects "ThirtyThreeBelow$Liner" ({ cls := "ThirtyThreeBelow$Way", name := "begins", desc := "(I)V" } : Jvm.MethodName) ({ cls := "ThirtyThreeBelow$Body", name := "begins", desc := "(I)V" } : Jvm.MethodName)) ∈ lw_all := lw_g (lw_at lw_m6 40 rfl) rfl
theorem q1343 : (Jvm.Cond.castable "ThirtyThreeBelow$Liner" "ThirtyThreeBelow$Bores") ∈ lw_tbl := lw_at lw_m6 60 rfl
theorem q1344 : (Jvm.Cond.selects "ThirtyThreeBelow$Liner" ({ cls := "ThirtyThreeBelow$Bores", name := "begins", desc := "(I)V" } : Jvm.MethodName) ({ cls := "ThirtyThreeBelow$Body", name := "begins", desc := "(I)V" } : Jvm.MethodName)) ∈ lw_all := lw_g (lw_at lw_m6 61 rfl) rfl
theorem q1345 : (Jvm.Cond.unhidden "ThirtyThreeBelow$Liner" "begins" "(I)V") ∈ lw_tbl := lw_at lw_m6 62 rfl
theorem q1372 : (Jvm.Cond.selects "ThirtyThreeBelow$Liner" ({ cls := "ThirtyThreeBelow$Bores", name := "number", desc := "()I" } : Jvm.MethodName) ({ cls := "ThirtyThreeBelow$Body", name := "number", desc := "()I" } : Jvm.MethodName)) ∈ lw_all := lw_g (lw_at lw_m6 89 rfl) rfl
theorem q1373 : (Jvm.Cond.unhidden "ThirtyThreeBelow$Liner" "number" "()I") ∈ lw_tbl := lw_at lw_m6 90 rfl
theorem q1384 : (Jvm.Cond.selects "ThirtyThreeBelow$Liner" ({ cls := "ThirtyThreeBelow$Bores", name := "bores", desc := "(I)I" } : Jvm.MethodName) ({ cls := "ThirtyThreeBelow$Liner", name := "bores", desc := "(I)I" } : Jvm.MethodName)) ∈ lw_all := lw_g (lw_at lw_m6 101 rfl) rfl
theorem q1385 : (Jvm.Cond.instanceMethod ({ cls := "ThirtyThreeBelow$Liner", name := "bores", desc := "(I)I" } : Jvm.MethodName)) ∈ lw_all := lw_g (lw_at lw_m6 102 rfl) rfl
theorem q1386 : (Jvm.Cond.code ({ cls := "ThirtyThreeBelow$Liner", name := "bores", desc := "(I)I" } : Jvm.MethodName) prog_8_method_5_code (2 : Nat) (Option.some Jvm.ClassFile.FieldType.int)) ∈ lw_all := lw_g (lw_at lw_m6 103 rfl) rfl
theorem q1387 : (Jvm.Cond.methodLink "ThirtyThreeBelow$Liner" (17 : Nat) ({ cls := "ThirtyThreeBelow$Liner", name := "begins", desc := "(I)V" } : Jvm.MethodName)) ∈ lw_all := lw_g (lw_at lw_m6 104 rfl) rfl
theorem q1388 : (Jvm.Cond.sameMethod "ThirtyThreeBelow$Liner" "ThirtyThreeBelow$Body" "begins" "(I)V") ∈ lw_all := lw_g (lw_at lw_m6 105 rfl) rfl
theorem q1389 : (Jvm.Cond.selects "ThirtyThreeBelow$Liner" ({ cls := "ThirtyThreeBelow$Liner", name := "begins", desc := "(I)V" } : Jvm.MethodName) ({ cls := "ThirtyThreeBelow$Body", name := "begins", desc := "(I)V" } : Jvm.MethodName)) ∈ lw_all := lw_g (lw_at lw_m6 106 rfl) rfl
theorem q1390 : (Jvm.Cond.methodLink "ThirtyThreeBelow$Liner" (25 : Nat) ({ cls := "ThirtyThreeBelow$Shaft", name := "bores", desc := "(I)I" } : Jvm.MethodName)) ∈ lw_all := lw_g (lw_at lw_m6 107 rfl) rfl
theorem q1395 : (Jvm.Cond.selects "ThirtyThreeBelow$Liner" ({ cls := "ThirtyThreeBelow$Shaft", name := "begins", desc := "(I)V" } : Jvm.MethodName) ({ cls := "ThirtyThreeBelow$Body", name := "begins", desc := "(I)V" } : Jvm.MethodName)) ∈ lw_all := lw_g (lw_at lw_m6 112 rfl) rfl
theorem q1416 : (Jvm.Cond.selects "ThirtyThreeBelow$Liner" ({ cls := "ThirtyThreeBelow$Hole", name := "begins", desc := "(I)V" } : Jvm.MethodName) ({ cls := "ThirtyThreeBelow$Body", name := "begins", desc := "(I)V" } : Jvm.MethodName)) ∈ lw_all := lw_g (lw_at lw_m6 133 rfl) rfl
theorem q1424 : (Jvm.Cond.selects "ThirtyThreeBelow$Liner" ({ cls := "ThirtyThreeBelow$Body", name := "carries", desc := "(I)I" } : Jvm.MethodName) ({ cls := "ThirtyThreeBelow$Hole", name := "carries", desc := "(I)I" } : Jvm.MethodName)) ∈ lw_all := lw_g (lw_at lw_m6 141 rfl) rfl
theorem q1441 : (Jvm.Cond.selects "ThirtyThreeBelow$Liner" ({ cls := "ThirtyThreeBelow$Body", name := "holds", desc := "(I)I" } : Jvm.MethodName) ({ cls := "ThirtyThreeBelow$Liner", name := "holds", desc := "(I)I" } : Jvm.MethodName)) ∈ lw_all := lw_g (lw_at lw_m6 158 rfl) rfl
theorem q1442 : (Jvm.Cond.instanceMethod ({ cls := "ThirtyThreeBelow$Liner", name := "holds", desc := "(I)I" } : Jvm.MethodName)) ∈ lw_all := lw_g (lw_at lw_m6 159 rfl) rfl
theorem q1443 : (Jvm.Cond.code ({ cls := "ThirtyThreeBelow$Liner", name := "holds", desc := "(I)I" } : Jvm.MethodName) prog_8_method_4_code (2 : Nat) (Option.some Jvm.ClassFile.FieldType.int)) ∈ lw_all := lw_g (lw_at lw_m6 160 rfl) rfl
theorem q1444 : (Jvm.Cond.methodLink "ThirtyThreeBelow$Liner" (21 : Nat) ({ cls := "ThirtyThreeBelow$Shaft", name := "holds", desc := "(I)I" } : Jvm.MethodName)) ∈ lw_all := lw_g (lw_at lw_m6 161 rfl) rfl
theorem q1475 : (Jvm.Cond.selects "ThirtyThreeBelow$Liner" ({ cls := "ThirtyThreeBelow$Tells", name := "tells", desc := "(I)I" } : Jvm.MethodName) ({ cls := "ThirtyThreeBelow$Shaft", name := "tells", desc := "(I)I" } : Jvm.MethodName)) ∈ lw_all := lw_g (lw_at lw_m6 192 rfl) rfl
theorem q1488 : (Jvm.Cond.castable "ThirtyThreeBelow$Liner" "ThirtyThreeBelow$Tells") ∈ lw_tbl := lw_at lw_m6 205 rfl
theorem q1489 : (Jvm.Cond.selects "ThirtyThreeBelow$Liner" ({ cls := "ThirtyThreeBelow$Tells", name := "begins", desc := "(I)V" } : Jvm.MethodName) ({ cls := "ThirtyThreeBelow$Body", name := "begins", desc := "(I)V" } : Jvm.MethodName)) ∈ lw_all := lw_g (lw_at lw_m6 206 rfl) rfl
theorem q1510 : (Jvm.Cond.selects "ThirtyThreeBelow$Liner" ({ cls := "ThirtyThreeBelow$Tells", name := "carries", desc := "(I)I" } : Jvm.MethodName) ({ cls := "ThirtyThreeBelow$Hole", name := "carries", desc := "(I)I" } : Jvm.MethodName)) ∈ lw_all := lw_g (lw_at lw_m6 227 rfl) rfl
theorem q1511 : (Jvm.Cond.unhidden "ThirtyThreeBelow$Liner" "carries" "(I)I") ∈ lw_tbl := lw_at lw_m6 228 rfl
theorem q1532 : (Jvm.Cond.selects "ThirtyThreeBelow$Liner" ({ cls := "ThirtyThreeBelow$Tells", name := "holds", desc := "(I)I" } : Jvm.MethodName) ({ cls := "ThirtyThreeBelow$Liner", name := "holds", desc := "(I)I" } : Jvm.MethodName)) ∈ lw_all := lw_g (lw_at lw_m7 9 rfl) rfl
theorem q1533 : (Jvm.Cond.unhidden "ThirtyThreeBelow$Liner" "holds" "(I)I") ∈ lw_tbl := lw_at lw_m7 10 rfl
theorem q1534 : (Jvm.Cond.publicMethod ({ cls := "ThirtyThreeBelow$Liner", name := "holds", desc := "(I)I" } : Jvm.MethodName)) ∈ lw_tbl := lw_at lw_m7 11 rfl
theorem q1655 : (Jvm.Cond.selects "ThirtyThreeBelow$Liner" ({ cls := "ThirtyThreeBelow$Body", name := "isUnder", desc := "(I)Z" } : Jvm.MethodName) ({ cls := "ThirtyThreeBelow$Liner", name := "isUnder", desc := "(I)Z" } : Jvm.MethodName)) ∈ lw_all := lw_g (lw_at lw_m7 132 rfl) rfl
theorem q1656 : (Jvm.Cond.instanceMethod ({ cls := "ThirtyThreeBelow$Liner", name := "isUnder", desc := "(I)Z" } : Jvm.MethodName)) ∈ lw_all := lw_g (lw_at lw_m7 133 rfl) rfl
theorem q1657 : (Jvm.Cond.code ({ cls := "ThirtyThreeBelow$Liner", name := "isUnder", desc := "(I)Z" } : Jvm.MethodName) prog_8_method_3_code (2 : Nat) (Option.some Jvm.ClassFile.FieldType.boolean)) ∈ lw_all := lw_g (lw_at lw_m7 134 rfl) rfl
theorem q1658 : (Jvm.Cond.methodLink "ThirtyThreeBelow$Liner" (13 : Nat) ({ cls := "ThirtyThreeBelow$Shaft", name := "isUnder", desc := "(I)Z" } : Jvm.MethodName)) ∈ lw_all := lw_g (lw_at lw_m7 135 rfl) rfl
theorem q2428 : (Jvm.Cond.selects "ThirtyThreeBelow$Liner" ({ cls := "ThirtyThreeBelow$Body", name := "begins", desc := "(I)V" } : Jvm.MethodName) ({ cls := "ThirtyThreeBelow$Body", name := "begins", desc := "(I)V" } : Jvm.MethodName)) ∈ lw_all := lw_g (lw_at lw_m10 185 rfl) rfl
theorem q2439 : (Jvm.Cond.castable "ThirtyThreeBelow$Liner" "ThirtyThreeBelow$Hole") ∈ lw_tbl := lw_at lw_m10 196 rfl
theorem q2442 : (Jvm.Cond.castable "ThirtyThreeBelow$Liner" "ThirtyThreeBelow$Shaft") ∈ lw_tbl := lw_at lw_m10 199 rfl
theorem q2444 : (Jvm.Cond.castable "ThirtyThreeBelow$Liner" "ThirtyThreeBelow$Body") ∈ lw_tbl := lw_at lw_m10 201 rfl
theorem q2461 : (Jvm.Cond.castable "ThirtyThreeBelow$Liner" "java/lang/Object") ∈ lw_tbl := lw_at lw_m10 218 rfl
theorem in_X11 : ∀ w ∈ wsX110, w ∈ lw_all := lw_in wsX110 [648, 649, 647, 635, 636, 637, 638, 639, 640, 641, 642, 643, 644, 645, 646, 634, 632] (by decide +kernel) (by decide +kernel)
/-! ThirtyThreeBelow$Shelter -/
set_option maxRecDepth 100000
def RX12 : String := "ThirtyThreeBelow$Shelter"
def TX12 : u_T := fun k => match k with
  | 0 => ("ThirtyThreeBelow$Body", "number", "I", true)
  | 1 => ("ThirtyThreeBelow$Body", "this$0", "LThirtyThreeBelow;", true)
  | 2 => ("ThirtyThreeBelow$Way", "this$0", "LThirtyThreeBelow;", true)
  | 3 => ("ThirtyThreeBelow$Shelter", "from", "I", true)
  | 4 => ("ThirtyThreeBelow$Shelter", "to", "I", true)
  | 5 => ("ThirtyThreeBelow$Shelter", "yard", "I", true)
  | 6 => ("ThirtyThreeBelow$Shelter", "hasHeld", "Z", false)
  | _ => ("ThirtyThreeBelow$Shelter", "this$0", "LThirtyThreeBelow;", true)
def tyX12 : Nat → FieldType := fun k => match k with
  | 0 => .int
  | 1 => .object "ThirtyThreeBelow"
  | 2 => .object "ThirtyThreeBelow"
  | 3 => .int
  | 4 => .int
  | 5 => .int
  | 6 => .boolean
  | _ => .object "ThirtyThreeBelow"
abbrev wsX120 : List Cond := u_ws RX12 TX12 8
-- two fields of one name: no nmX12
theorem tyX12_ok : ∀ k, k < 8 → parseFieldDescriptor (TX12 k).2.2.1 = some (tyX12 k) := by decide +kernel
abbrev cX12_init : ByteArray := prog_13_method_1_code
def yX12_init : MethodName := ⟨RX12, "<init>", "(LThirtyThreeBelow;IIII)V"⟩
def dkwX12_init_1 : List UInt8 := [21, 5, 181, 0, 20, 177]
abbrev dktX12_init_1 : List UInt8 := dkwX12_init_1 ++ []
def dkwX12_init_0 : List UInt8 := [42, 43, 181, 0, 1, 42, 43, 28, 183, 0, 7, 42, 29, 181, 0, 13, 42, 21, 4, 181, 0, 17, 42]
abbrev dktX12_init_0 : List UInt8 := dkwX12_init_0 ++ dktX12_init_1
theorem dksX12_init_0 : cX12_init.data.toList.drop 0 = dktX12_init_0 := by decide +kernel
theorem dksX12_init_1 : cX12_init.data.toList.drop 23 = dktX12_init_1 := dk_seg dksX12_init_0 23 rfl rfl
theorem dX12_init_0 : decode cX12_init 0 = .ok (.aload_n 0, 1) := dk_42 (dk_at dksX12_init_0 0 rfl rfl)
theorem dX12_init_1 : decode cX12_init 1 = .ok (.aload_n 1, 1) := dk_43 (dk_at dksX12_init_0 1 rfl rfl)
theorem dX12_init_2 : decode cX12_init 2 = .ok (.putfield 1, 3) := dk_181 0 1 (dk_at dksX12_init_0 2 rfl rfl)
theorem dX12_init_5 : decode cX12_init 5 = .ok (.aload_n 0, 1) := dk_42 (dk_at dksX12_init_0 5 rfl rfl)
theorem dX12_init_6 : decode cX12_init 6 = .ok (.aload_n 1, 1) := dk_43 (dk_at dksX12_init_0 6 rfl rfl)
theorem dX12_init_7 : decode cX12_init 7 = .ok (.iload_n 2, 1) := dk_28 (dk_at dksX12_init_0 7 rfl rfl)
theorem dX12_init_8 : decode cX12_init 8 = .ok (.invokespecial 7, 3) := dk_183 0 7 (dk_at dksX12_init_0 8 rfl rfl)
theorem dX12_init_11 : decode cX12_init 11 = .ok (.aload_n 0, 1) := dk_42 (dk_at dksX12_init_0 11 rfl rfl)
theorem dX12_init_12 : decode cX12_init 12 = .ok (.iload_n 3, 1) := dk_29 (dk_at dksX12_init_0 12 rfl rfl)
theorem dX12_init_13 : decode cX12_init 13 = .ok (.putfield 13, 3) := dk_181 0 13 (dk_at dksX12_init_0 13 rfl rfl)
theorem dX12_init_16 : decode cX12_init 16 = .ok (.aload_n 0, 1) := dk_42 (dk_at dksX12_init_0 16 rfl rfl)
theorem dX12_init_17 : decode cX12_init 17 = .ok (.iload 4, 2) := dk_21 4 (dk_at dksX12_init_0 17 rfl rfl)
theorem dX12_init_19 : decode cX12_init 19 = .ok (.putfield 17, 3) := dk_181 0 17 (dk_at dksX12_init_0 19 rfl rfl)
theorem dX12_init_22 : decode cX12_init 22 = .ok (.aload_n 0, 1) := dk_42 (dk_at dksX12_init_0 22 rfl rfl)
theorem dX12_init_23 : decode cX12_init 23 = .ok (.iload 5, 2) := dk_21 5 (dk_at dksX12_init_1 0 rfl rfl)
theorem dX12_init_25 : decode cX12_init 25 = .ok (.putfield 20, 3) := dk_181 0 20 (dk_at dksX12_init_1 2 rfl rfl)
theorem dX12_init_28 : decode cX12_init 28 = .ok (.return_, 1) := dk_177 (dk_at dksX12_init_1 5 rfl rfl)
abbrev cX12_kind : ByteArray := prog_13_method_2_code
def yX12_kind : MethodName := ⟨RX12, "kind", "()I"⟩
theorem dX12_kind_0 : decode cX12_kind 0 = .ok (.bipush 6, 2) := by decide +kernel
theorem dX12_kind_2 : decode cX12_kind 2 = .ok (.ireturn, 1) := by decide +kernel
abbrev cX12_holds : ByteArray := prog_13_method_4_code
def yX12_holds : MethodName := ⟨RX12, "holds", "(I)I"⟩
def dkwX12_holds_0 : List UInt8 := [42, 16, 70, 182, 0, 27, 42, 27, 183, 0, 31, 61, 28, 42, 27, 183, 0, 35, 96, 172]
abbrev dktX12_holds_0 : List UInt8 := dkwX12_holds_0 ++ []
theorem dksX12_holds_0 : cX12_holds.data.toList.drop 0 = dktX12_holds_0 := by decide +kernel
theorem dX12_holds_0 : decode cX12_holds 0 = .ok (.aload_n 0, 1) := dk_42 (dk_at dksX12_holds_0 0 rfl rfl)
theorem dX12_holds_1 : decode cX12_holds 1 = .ok (.bipush 70, 2) := dk_16 70 (dk_at dksX12_holds_0 1 rfl rfl)
theorem dX12_holds_3 : decode cX12_holds 3 = .ok (.invokevirtual 27, 3) := dk_182 0 27 (dk_at dksX12_holds_0 3 rfl rfl)
theorem dX12_holds_6 : decode cX12_holds 6 = .ok (.aload_n 0, 1) := dk_42 (dk_at dksX12_holds_0 6 rfl rfl)
theorem dX12_holds_7 : decode cX12_holds 7 = .ok (.iload_n 1, 1) := dk_27 (dk_at dksX12_holds_0 7 rfl rfl)
theorem dX12_holds_8 : decode cX12_holds 8 = .ok (.invokespecial 31, 3) := dk_183 0 31 (dk_at dksX12_holds_0 8 rfl rfl)
theorem dX12_holds_11 : decode cX12_holds 11 = .ok (.istore_n 2, 1) := dk_61 (dk_at dksX12_holds_0 11 rfl rfl)
theorem dX12_holds_12 : decode cX12_holds 12 = .ok (.iload_n 2, 1) := dk_28 (dk_at dksX12_holds_0 12 rfl rfl)
theorem dX12_holds_13 : decode cX12_holds 13 = .ok (.aload_n 0, 1) := dk_42 (dk_at dksX12_holds_0 13 rfl rfl)
theorem dX12_holds_14 : decode cX12_holds 14 = .ok (.iload_n 1, 1) := dk_27 (dk_at dksX12_holds_0 14 rfl rfl)
theorem dX12_holds_15 : decode cX12_holds 15 = .ok (.invokespecial 35, 3) := dk_183 0 35 (dk_at dksX12_holds_0 15 rfl rfl)
theorem dX12_holds_18 : decode cX12_holds 18 = .ok (.iadd, 1) := dk_96 (dk_at dksX12_holds_0 18 rfl rfl)
theorem dX12_holds_19 : decode cX12_holds 19 = .ok (.ireturn, 1) := dk_172 (dk_at dksX12_holds_0 19 rfl rfl)
abbrev cX12_isUnder : ByteArray := prog_13_method_3_code
def yX12_isUnder : MethodName := ⟨RX12, "isUnder", "(I)Z"⟩
def dkwX12_isUnder_0 : List UInt8 := [27, 16, 6, 159, 0, 11, 42, 27, 183, 0, 23, 153, 0, 7, 4, 167, 0, 4, 3, 172]
abbrev dktX12_isUnder_0 : List UInt8 := dkwX12_isUnder_0 ++ []
theorem dksX12_isUnder_0 : cX12_isUnder.data.toList.drop 0 = dktX12_isUnder_0 := by decide +kernel
theorem dX12_isUnder_0 : decode cX12_isUnder 0 = .ok (.iload_n 1, 1) := dk_27 (dk_at dksX12_isUnder_0 0 rfl rfl)
theorem dX12_isUnder_1 : decode cX12_isUnder 1 = .ok (.bipush 6, 2) := dk_16 6 (dk_at dksX12_isUnder_0 1 rfl rfl)
theorem dX12_isUnder_3 : decode cX12_isUnder 3 = .ok (.if_icmp .eq 11, 3) := dk_159 0 11 (dk_at dksX12_isUnder_0 3 rfl rfl)
theorem dX12_isUnder_6 : decode cX12_isUnder 6 = .ok (.aload_n 0, 1) := dk_42 (dk_at dksX12_isUnder_0 6 rfl rfl)
theorem dX12_isUnder_7 : decode cX12_isUnder 7 = .ok (.iload_n 1, 1) := dk_27 (dk_at dksX12_isUnder_0 7 rfl rfl)
theorem dX12_isUnder_8 : decode cX12_isUnder 8 = .ok (.invokespecial 23, 3) := dk_183 0 23 (dk_at dksX12_isUnder_0 8 rfl rfl)
theorem dX12_isUnder_11 : decode cX12_isUnder 11 = .ok (.ifCond .eq 7, 3) := dk_153 0 7 (dk_at dksX12_isUnder_0 11 rfl rfl)
theorem dX12_isUnder_14 : decode cX12_isUnder 14 = .ok (.iconst 1, 1) := dk_4 (dk_at dksX12_isUnder_0 14 rfl rfl)
theorem dX12_isUnder_15 : decode cX12_isUnder 15 = .ok (.goto 4, 3) := dk_167 0 4 (dk_at dksX12_isUnder_0 15 rfl rfl)
theorem dX12_isUnder_18 : decode cX12_isUnder 18 = .ok (.iconst 0, 1) := dk_3 (dk_at dksX12_isUnder_0 18 rfl rfl)
theorem dX12_isUnder_19 : decode cX12_isUnder 19 = .ok (.ireturn, 1) := dk_172 (dk_at dksX12_isUnder_0 19 rfl rfl)
theorem q99 : (Jvm.Cond.initialized "ThirtyThreeBelow$Shelter") ∈ lw_all := lw_g (lw_at lw_m1 16 rfl) rfl
theorem q659 : (Jvm.Cond.instantiable "ThirtyThreeBelow$Shelter" (8 : Nat)) ∈ lw_all := lw_g (lw_at lw_m3 96 rfl) rfl
theorem q661 : (Jvm.Cond.instanceMethod ({ cls := "ThirtyThreeBelow$Shelter", name := "<init>", desc := "(LThirtyThreeBelow;IIII)V" } : Jvm.MethodName)) ∈ lw_all := lw_g (lw_at lw_m3 98 rfl) rfl
theorem q662 : (Jvm.Cond.code ({ cls := "ThirtyThreeBelow$Shelter", name := "<init>", desc := "(LThirtyThreeBelow;IIII)V" } : Jvm.MethodName) prog_13_method_1_code (6 : Nat) (Option.none : Option Jvm.ClassFile.FieldType)) ∈ lw_all := lw_g (lw_at lw_m3 99 rfl) rfl
theorem q663 : (Jvm.Cond.methodLink "ThirtyThreeBelow$Shelter" (7 : Nat) ({ cls := "ThirtyThreeBelow$Way", name := "<init>", desc := "(LThirtyThreeBelow;I)V" } : Jvm.MethodName)) ∈ lw_all := lw_g (lw_at lw_m3 100 rfl) rfl
theorem q664 : (Jvm.Cond.fieldLink "ThirtyThreeBelow$Shelter" (13 : Nat) "ThirtyThreeBelow$Shelter" "from" "I") ∈ lw_all := lw_g (lw_at lw_m3 101 rfl) rfl
theorem q666 : (Jvm.Cond.fieldLink "ThirtyThreeBelow$Shelter" (17 : Nat) "ThirtyThreeBelow$Shelter" "to" "I") ∈ lw_all := lw_g (lw_at lw_m3 103 rfl) rfl
theorem q668 : (Jvm.Cond.fieldLink "ThirtyThreeBelow$Shelter" (20 : Nat) "ThirtyThreeBelow$Shelter" "yard" "I") ∈ lw_all := lw_g (lw_at lw_m3 105 rfl) rfl
theorem q671 : (Jvm.Cond.fieldLink "ThirtyThreeBelow$Shelter" (1 : Nat) "ThirtyThreeBelow$Shelter" "this$0" "LThirtyThreeBelow;") ∈ lw_all := lw_g (lw_at lw_m3 108 rfl) rfl
theorem q672 : (Jvm.Cond.laysFinal "ThirtyThreeBelow$Shelter" "ThirtyThreeBelow$Shelter" "from" "I") ∈ lw_all := lw_g (lw_at lw_m3 109 rfl) rfl
theorem q673 : (Jvm.Cond.soleField "ThirtyThreeBelow$Shelter" "from") ∈ lw_all := lw_g (lw_at lw_m3 110 rfl) rfl
theorem q674 : (Jvm.Cond.laysFinal "ThirtyThreeBelow$Shelter" "ThirtyThreeBelow$Shelter" "to" "I") ∈ lw_all := lw_g (lw_at lw_m3 111 rfl) rfl
theorem q675 : (Jvm.Cond.soleField "ThirtyThreeBelow$Shelter" "to") ∈ lw_all := lw_g (lw_at lw_m3 112 rfl) rfl
theorem q676 : (Jvm.Cond.laysFinal "ThirtyThreeBelow$Shelter" "ThirtyThreeBelow$Shelter" "yard" "I") ∈ lw_all := lw_g (lw_at lw_m3 113 rfl) rfl
theorem q677 : (Jvm.Cond.soleField "ThirtyThreeBelow$Shelter" "yard") ∈ lw_all := lw_g (lw_at lw_m3 114 rfl) rfl
theorem q678 : (Jvm.Cond.lays "ThirtyThreeBelow$Shelter" "ThirtyThreeBelow$Shelter" "hasHeld" "Z") ∈ lw_all := lw_g (lw_at lw_m3 115 rfl) rfl
theorem q679 : (Jvm.Cond.soleField "ThirtyThreeBelow$Shelter" "hasHeld") ∈ lw_all := lw_g (lw_at lw_m3 116 rfl) rfl
theorem q680 : (Jvm.Cond.laysFinal "ThirtyThreeBelow$Shelter" "ThirtyThreeBelow$Shelter" "this$0" "LThirtyThreeBelow;") ∈ lw_all := lw_g (lw_at lw_m3 117 rfl) rfl
theorem q681 : (Jvm.Cond.soleField "ThirtyThreeBelow$Shelter" "this$0") ∈ lw_all := lw_g (lw_at lw_m3 118 rfl) rfl
theorem q682 : (Jvm.Cond.laysFinal "ThirtyThreeBelow$Shelter" "ThirtyThreeBelow$Way" "this$0" "LThirtyThreeBelow;") ∈ lw_all := lw_g (lw_at lw_m3 119 rfl) rfl
theorem q683 : (Jvm.Cond.laysFinal "ThirtyThreeBelow$Shelter" "ThirtyThreeBelow$Body" "number" "I") ∈ lw_all := lw_g (lw_at lw_m3 120 rfl) rfl
theorem q684 : (Jvm.Cond.laysFinal "ThirtyThreeBelow$Shelter" "ThirtyThreeBelow$Body" "this$0" "LThirtyThreeBelow;") ∈ lw_all := lw_g (lw_at lw_m3 121 rfl) rfl
theorem q685 : (Jvm.Cond.superclass "ThirtyThreeBelow$Shelter" "ThirtyThreeBelow$Way") ∈ lw_all := lw_g (lw_at lw_m3 122 rfl) rfl
theorem q744 : (Jvm.Cond.selects "ThirtyThreeBelow$Shelter" ({ cls := "ThirtyThreeBelow$Body", name := "kind", desc := "()I" } : Jvm.MethodName) ({ cls := "ThirtyThreeBelow$Shelter", name := "kind", desc := "()I" } : Jvm.MethodName)) ∈ lw_all := lw_g (lw_at lw_m3 181 rfl) rfl
theorem q745 : (Jvm.Cond.instanceMethod ({ cls := "ThirtyThreeBelow$Shelter", name := "kind", desc := "()I" } : Jvm.MethodName)) ∈ lw_all := lw_g (lw_at lw_m3 182 rfl) rfl
theorem q746 : (Jvm.Cond.code ({ cls := "ThirtyThreeBelow$Shelter", name := "kind", desc := "()I" } : Jvm.MethodName) prog_13_method_2_code (1 : Nat) (Option.some Jvm.ClassFile.FieldType.int)) ∈ lw_all := lw_g (lw_at lw_m3 183 rfl) rfl
theorem q1325 : (Jvm.Cond.selects "ThirtyThreeBelow$Shelter" ({ cls := "ThirtyThreeBelow$Way", name := "begins", desc := "(I)V" } : Jvm.MethodName) ({ cls := "ThirtyThreeBelow$Body", name := "begins", desc := "(I)V" } : Jvm.MethodName)) ∈ lw_all := lw_g (lw_at lw_m6 42 rfl) rfl
theorem q1352 : (Jvm.Cond.castable "ThirtyThreeBelow$Shelter" "ThirtyThreeBelow$Bores") ∈ lw_tbl := lw_at lw_m6 69 rfl
theorem q1353 : (Jvm.Cond.selects "ThirtyThreeBelow$Shelter" ({ cls := "ThirtyThreeBelow$Bores", name := "begins", desc := "(I)V" } : Jvm.MethodName) ({ cls := "ThirtyThreeBelow$Body", name := "begins", desc := "(I)V" } : Jvm.MethodName)) ∈ lw_all := lw_g (lw_at lw_m6 70 rfl) rfl
theorem q1354 : (Jvm.Cond.unhidden "ThirtyThreeBelow$Shelter" "begins" "(I)V") ∈ lw_tbl := lw_at lw_m6 71 rfl
theorem q1378 : (Jvm.Cond.selects "ThirtyThreeBelow$Shelter" ({ cls := "ThirtyThreeBelow$Bores", name := "number", desc := "()I" } : Jvm.MethodName) ({ cls := "ThirtyThreeBelow$Body", name := "number", desc := "()I" } : Jvm.MethodName)) ∈ lw_all := lw_g (lw_at lw_m6 95 rfl) rfl
theorem q1379 : (Jvm.Cond.unhidden "ThirtyThreeBelow$Shelter" "number" "()I") ∈ lw_tbl := lw_at lw_m6 96 rfl
theorem q1402 : (Jvm.Cond.selects "ThirtyThreeBelow$Shelter" ({ cls := "ThirtyThreeBelow$Bores", name := "bores", desc := "(I)I" } : Jvm.MethodName) ({ cls := "ThirtyThreeBelow$Way", name := "bores", desc := "(I)I" } : Jvm.MethodName)) ∈ lw_all := lw_g (lw_at lw_m6 119 rfl) rfl
theorem q1433 : (Jvm.Cond.selects "ThirtyThreeBelow$Shelter" ({ cls := "ThirtyThreeBelow$Body", name := "carries", desc := "(I)I" } : Jvm.MethodName) ({ cls := "ThirtyThreeBelow$Body", name := "carries", desc := "(I)I" } : Jvm.MethodName)) ∈ lw_all := lw_g (lw_at lw_m6 150 rfl) rfl
theorem q1450 : (Jvm.Cond.selects "ThirtyThreeBelow$Shelter" ({ cls := "ThirtyThreeBelow$Body", name := "holds", desc := "(I)I" } : Jvm.MethodName) ({ cls := "ThirtyThreeBelow$Shelter", name := "holds", desc := "(I)I" } : Jvm.MethodName)) ∈ lw_all := lw_g (lw_at lw_m6 167 rfl) rfl
theorem q1451 : (Jvm.Cond.instanceMethod ({ cls := "ThirtyThreeBelow$Shelter", name := "holds", desc := "(I)I" } : Jvm.MethodName)) ∈ lw_all := lw_g (lw_at lw_m6 168 rfl) rfl
theorem q1452 : (Jvm.Cond.code ({ cls := "ThirtyThreeBelow$Shelter", name := "holds", desc := "(I)I" } : Jvm.MethodName) prog_13_method_4_code (3 : Nat) (Option.some Jvm.ClassFile.FieldType.int)) ∈ lw_all := lw_g (lw_at lw_m6 169 rfl) rfl
theorem q1453 : (Jvm.Cond.methodLink "ThirtyThreeBelow$Shelter" (27 : Nat) ({ cls := "ThirtyThreeBelow$Shelter", name := "begins", desc := "(I)V" } : Jvm.MethodName)) ∈ lw_all := lw_g (lw_at lw_m6 170 rfl) rfl
theorem q1454 : (Jvm.Cond.sameMethod "ThirtyThreeBelow$Shelter" "ThirtyThreeBelow$Body" "begins" "(I)V") ∈ lw_all := lw_g (lw_at lw_m6 171 rfl) rfl
theorem q1455 : (Jvm.Cond.selects "ThirtyThreeBelow$Shelter" ({ cls := "ThirtyThreeBelow$Shelter", name := "begins", desc := "(I)V" } : Jvm.MethodName) ({ cls := "ThirtyThreeBelow$Body", name := "begins", desc := "(I)V" } : Jvm.MethodName)) ∈ lw_all := lw_g (lw_at lw_m6 172 rfl) rfl
theorem q1456 : (Jvm.Cond.methodLink "ThirtyThreeBelow$Shelter" (31 : Nat) ({ cls := "ThirtyThreeBelow$Way", name := "holds", desc := "(I)I" } : Jvm.MethodName)) ∈ lw_all := lw_g (lw_at lw_m6 173 rfl) rfl
theorem q1458 : (Jvm.Cond.methodLink "ThirtyThreeBelow$Shelter" (35 : Nat) ({ cls := "ThirtyThreeBelow$Way", name := "carries", desc := "(I)I" } : Jvm.MethodName)) ∈ lw_all := lw_g (lw_at lw_m6 175 rfl) rfl
theorem q1494 : (Jvm.Cond.castable "ThirtyThreeBelow$Shelter" "ThirtyThreeBelow$Tells") ∈ lw_tbl := lw_at lw_m6 211 rfl
theorem q1495 : (Jvm.Cond.selects "ThirtyThreeBelow$Shelter" ({ cls := "ThirtyThreeBelow$Tells", name := "begins", desc := "(I)V" } : Jvm.MethodName) ({ cls := "ThirtyThreeBelow$Body", name := "begins", desc := "(I)V" } : Jvm.MethodName)) ∈ lw_all := lw_g (lw_at lw_m6 212 rfl) rfl
theorem q1517 : (Jvm.Cond.selects "ThirtyThreeBelow$Shelter" ({ cls := "ThirtyThreeBelow$Tells", name := "carries", desc := "(I)I" } : Jvm.MethodName) ({ cls := "ThirtyThreeBelow$Body", name := "carries", desc := "(I)I" } : Jvm.MethodName)) ∈ lw_all := lw_g (lw_at lw_m6 234 rfl) rfl
theorem q1518 : (Jvm.Cond.unhidden "ThirtyThreeBelow$Shelter" "carries" "(I)I") ∈ lw_tbl := lw_at lw_m6 235 rfl
theorem q1539 : (Jvm.Cond.selects "ThirtyThreeBelow$Shelter" ({ cls := "ThirtyThreeBelow$Tells", name := "holds", desc := "(I)I" } : Jvm.MethodName) ({ cls := "ThirtyThreeBelow$Shelter", name := "holds", desc := "(I)I" } : Jvm.MethodName)) ∈ lw_all := lw_g (lw_at lw_m7 16 rfl) rfl
theorem q1540 : (Jvm.Cond.unhidden "ThirtyThreeBelow$Shelter" "holds" "(I)I") ∈ lw_tbl := lw_at lw_m7 17 rfl
theorem q1541 : (Jvm.Cond.publicMethod ({ cls := "ThirtyThreeBelow$Shelter", name := "holds", desc := "(I)I" } : Jvm.MethodName)) ∈ lw_tbl := lw_at lw_m7 18 rfl
theorem q1549 : (Jvm.Cond.unhidden "ThirtyThreeBelow$Shelter" "tells" "(I)I") ∈ lw_tbl := lw_at lw_m7 26 rfl
theorem q1667 : (Jvm.Cond.selects "ThirtyThreeBelow$Shelter" ({ cls := "ThirtyThreeBelow$Body", name := "isUnder", desc := "(I)Z" } : Jvm.MethodName) ({ cls := "ThirtyThreeBelow$Shelter", name := "isUnder", desc := "(I)Z" } : Jvm.MethodName)) ∈ lw_all := lw_g (lw_at lw_m7 144 rfl) rfl
theorem q1668 : (Jvm.Cond.instanceMethod ({ cls := "ThirtyThreeBelow$Shelter", name := "isUnder", desc := "(I)Z" } : Jvm.MethodName)) ∈ lw_all := lw_g (lw_at lw_m7 145 rfl) rfl
theorem q1669 : (Jvm.Cond.code ({ cls := "ThirtyThreeBelow$Shelter", name := "isUnder", desc := "(I)Z" } : Jvm.MethodName) prog_13_method_3_code (2 : Nat) (Option.some Jvm.ClassFile.FieldType.boolean)) ∈ lw_all := lw_g (lw_at lw_m7 146 rfl) rfl
theorem q1670 : (Jvm.Cond.methodLink "ThirtyThreeBelow$Shelter" (23 : Nat) ({ cls := "ThirtyThreeBelow$Way", name := "isUnder", desc := "(I)Z" } : Jvm.MethodName)) ∈ lw_all := lw_g (lw_at lw_m7 147 rfl) rfl
theorem q2431 : (Jvm.Cond.selects "ThirtyThreeBelow$Shelter" ({ cls := "ThirtyThreeBelow$Body", name := "begins", desc := "(I)V" } : Jvm.MethodName) ({ cls := "ThirtyThreeBelow$Body", name := "begins", desc := "(I)V" } : Jvm.MethodName)) ∈ lw_all := lw_g (lw_at lw_m10 188 rfl) rfl
theorem q2447 : (Jvm.Cond.castable "ThirtyThreeBelow$Shelter" "ThirtyThreeBelow$Body") ∈ lw_tbl := lw_at lw_m10 204 rfl
theorem q2462 : (Jvm.Cond.castable "ThirtyThreeBelow$Shelter" "java/lang/Object") ∈ lw_tbl := lw_at lw_m10 219 rfl
theorem in_X12 : ∀ w ∈ wsX120, w ∈ lw_all := lw_in wsX120 [683, 684, 682, 672, 674, 676, 678, 680] (by decide +kernel) (by decide +kernel)
/-! ThirtyThreeBelow$Man -/
set_option maxRecDepth 100000
def RX13 : String := "ThirtyThreeBelow$Man"
def TX13 : u_T := fun k => match k with
  | 0 => ("ThirtyThreeBelow$Body", "number", "I", true)
  | 1 => ("ThirtyThreeBelow$Body", "this$0", "LThirtyThreeBelow;", true)
  | 2 => ("ThirtyThreeBelow$Man", "strength", "I", false)
  | 3 => ("ThirtyThreeBelow$Man", "skill", "I", true)
  | 4 => ("ThirtyThreeBelow$Man", "ill", "I", false)
  | 5 => ("ThirtyThreeBelow$Man", "isUp", "Z", false)
  | _ => ("ThirtyThreeBelow$Man", "this$0", "LThirtyThreeBelow;", true)
def tyX13 : Nat → FieldType := fun k => match k with
  | 0 => .int
  | 1 => .object "ThirtyThreeBelow"
  | 2 => .int
  | 3 => .int
  | 4 => .int
  | 5 => .boolean
  | _ => .object "ThirtyThreeBelow"
abbrev wsX130 : List Cond := u_ws RX13 TX13 7
-- two fields of one name: no nmX13
theorem tyX13_ok : ∀ k, k < 7 → parseFieldDescriptor (TX13 k).2.2.1 = some (tyX13 k) := by decide +kernel
abbrev cX13_init : ByteArray := prog_9_method_1_code
def yX13_init : MethodName := ⟨RX13, "<init>", "(LThirtyThreeBelow;IIII)V"⟩
def dkwX13_init_1 : List UInt8 := [21, 5, 181, 0, 20, 177]
abbrev dktX13_init_1 : List UInt8 := dkwX13_init_1 ++ []
def dkwX13_init_0 : List UInt8 := [42, 43, 181, 0, 1, 42, 43, 28, 183, 0, 7, 42, 29, 181, 0, 13, 42, 21, 4, 181, 0, 17, 42]
abbrev dktX13_init_0 : List UInt8 := dkwX13_init_0 ++ dktX13_init_1
theorem dksX13_init_0 : cX13_init.data.toList.drop 0 = dktX13_init_0 := by decide +kernel
theorem dksX13_init_1 : cX13_init.data.toList.drop 23 = dktX13_init_1 := dk_seg dksX13_init_0 23 rfl rfl
theorem dX13_init_0 : decode cX13_init 0 = .ok (.aload_n 0, 1) := dk_42 (dk_at dksX13_init_0 0 rfl rfl)
theorem dX13_init_1 : decode cX13_init 1 = .ok (.aload_n 1, 1) := dk_43 (dk_at dksX13_init_0 1 rfl rfl)
theorem dX13_init_2 : decode cX13_init 2 = .ok (.putfield 1, 3) := dk_181 0 1 (dk_at dksX13_init_0 2 rfl rfl)
theorem dX13_init_5 : decode cX13_init 5 = .ok (.aload_n 0, 1) := dk_42 (dk_at dksX13_init_0 5 rfl rfl)
theorem dX13_init_6 : decode cX13_init 6 = .ok (.aload_n 1, 1) := dk_43 (dk_at dksX13_init_0 6 rfl rfl)
theorem dX13_init_7 : decode cX13_init 7 = .ok (.iload_n 2, 1) := dk_28 (dk_at dksX13_init_0 7 rfl rfl)
theorem dX13_init_8 : decode cX13_init 8 = .ok (.invokespecial 7, 3) := dk_183 0 7 (dk_at dksX13_init_0 8 rfl rfl)
theorem dX13_init_11 : decode cX13_init 11 = .ok (.aload_n 0, 1) := dk_42 (dk_at dksX13_init_0 11 rfl rfl)
theorem dX13_init_12 : decode cX13_init 12 = .ok (.iload_n 3, 1) := dk_29 (dk_at dksX13_init_0 12 rfl rfl)
theorem dX13_init_13 : decode cX13_init 13 = .ok (.putfield 13, 3) := dk_181 0 13 (dk_at dksX13_init_0 13 rfl rfl)
theorem dX13_init_16 : decode cX13_init 16 = .ok (.aload_n 0, 1) := dk_42 (dk_at dksX13_init_0 16 rfl rfl)
theorem dX13_init_17 : decode cX13_init 17 = .ok (.iload 4, 2) := dk_21 4 (dk_at dksX13_init_0 17 rfl rfl)
theorem dX13_init_19 : decode cX13_init 19 = .ok (.putfield 17, 3) := dk_181 0 17 (dk_at dksX13_init_0 19 rfl rfl)
theorem dX13_init_22 : decode cX13_init 22 = .ok (.aload_n 0, 1) := dk_42 (dk_at dksX13_init_0 22 rfl rfl)
theorem dX13_init_23 : decode cX13_init 23 = .ok (.iload 5, 2) := dk_21 5 (dk_at dksX13_init_1 0 rfl rfl)
theorem dX13_init_25 : decode cX13_init 25 = .ok (.putfield 20, 3) := dk_181 0 20 (dk_at dksX13_init_1 2 rfl rfl)
theorem dX13_init_28 : decode cX13_init 28 = .ok (.return_, 1) := dk_177 (dk_at dksX13_init_1 5 rfl rfl)
abbrev cX13_kind : ByteArray := prog_9_method_2_code
def yX13_kind : MethodName := ⟨RX13, "kind", "()I"⟩
theorem dX13_kind_0 : decode cX13_kind 0 = .ok (.bipush 7, 2) := by decide +kernel
theorem dX13_kind_2 : decode cX13_kind 2 = .ok (.ireturn, 1) := by decide +kernel
abbrev cX13_carries : ByteArray := prog_9_method_4_code
def yX13_carries : MethodName := ⟨RX13, "carries", "(I)I"⟩
def dkwX13_carries_0 : List UInt8 := [42, 16, 80, 182, 0, 27, 42, 27, 183, 0, 31, 42, 180, 0, 13, 100, 172]
abbrev dktX13_carries_0 : List UInt8 := dkwX13_carries_0 ++ []
theorem dksX13_carries_0 : cX13_carries.data.toList.drop 0 = dktX13_carries_0 := by decide +kernel
theorem dX13_carries_0 : decode cX13_carries 0 = .ok (.aload_n 0, 1) := dk_42 (dk_at dksX13_carries_0 0 rfl rfl)
theorem dX13_carries_1 : decode cX13_carries 1 = .ok (.bipush 80, 2) := dk_16 80 (dk_at dksX13_carries_0 1 rfl rfl)
theorem dX13_carries_3 : decode cX13_carries 3 = .ok (.invokevirtual 27, 3) := dk_182 0 27 (dk_at dksX13_carries_0 3 rfl rfl)
theorem dX13_carries_6 : decode cX13_carries 6 = .ok (.aload_n 0, 1) := dk_42 (dk_at dksX13_carries_0 6 rfl rfl)
theorem dX13_carries_7 : decode cX13_carries 7 = .ok (.iload_n 1, 1) := dk_27 (dk_at dksX13_carries_0 7 rfl rfl)
theorem dX13_carries_8 : decode cX13_carries 8 = .ok (.invokespecial 31, 3) := dk_183 0 31 (dk_at dksX13_carries_0 8 rfl rfl)
theorem dX13_carries_11 : decode cX13_carries 11 = .ok (.aload_n 0, 1) := dk_42 (dk_at dksX13_carries_0 11 rfl rfl)
theorem dX13_carries_12 : decode cX13_carries 12 = .ok (.getfield 13, 3) := dk_180 0 13 (dk_at dksX13_carries_0 12 rfl rfl)
theorem dX13_carries_15 : decode cX13_carries 15 = .ok (.isub, 1) := dk_100 (dk_at dksX13_carries_0 15 rfl rfl)
theorem dX13_carries_16 : decode cX13_carries 16 = .ok (.ireturn, 1) := dk_172 (dk_at dksX13_carries_0 16 rfl rfl)
abbrev cX13_isUnder : ByteArray := prog_9_method_3_code
def yX13_isUnder : MethodName := ⟨RX13, "isUnder", "(I)Z"⟩
def dkwX13_isUnder_0 : List UInt8 := [27, 16, 7, 159, 0, 11, 42, 27, 183, 0, 23, 153, 0, 7, 4, 167, 0, 4, 3, 172]
abbrev dktX13_isUnder_0 : List UInt8 := dkwX13_isUnder_0 ++ []
theorem dksX13_isUnder_0 : cX13_isUnder.data.toList.drop 0 = dktX13_isUnder_0 := by decide +kernel
theorem dX13_isUnder_0 : decode cX13_isUnder 0 = .ok (.iload_n 1, 1) := dk_27 (dk_at dksX13_isUnder_0 0 rfl rfl)
theorem dX13_isUnder_1 : decode cX13_isUnder 1 = .ok (.bipush 7, 2) := dk_16 7 (dk_at dksX13_isUnder_0 1 rfl rfl)
theorem dX13_isUnder_3 : decode cX13_isUnder 3 = .ok (.if_icmp .eq 11, 3) := dk_159 0 11 (dk_at dksX13_isUnder_0 3 rfl rfl)
theorem dX13_isUnder_6 : decode cX13_isUnder 6 = .ok (.aload_n 0, 1) := dk_42 (dk_at dksX13_isUnder_0 6 rfl rfl)
theorem dX13_isUnder_7 : decode cX13_isUnder 7 = .ok (.iload_n 1, 1) := dk_27 (dk_at dksX13_isUnder_0 7 rfl rfl)
theorem dX13_isUnder_8 : decode cX13_isUnder 8 = .ok (.invokespecial 23, 3) := dk_183 0 23 (dk_at dksX13_isUnder_0 8 rfl rfl)
theorem dX13_isUnder_11 : decode cX13_isUnder 11 = .ok (.ifCond .eq 7, 3) := dk_153 0 7 (dk_at dksX13_isUnder_0 11 rfl rfl)
theorem dX13_isUnder_14 : decode cX13_isUnder 14 = .ok (.iconst 1, 1) := dk_4 (dk_at dksX13_isUnder_0 14 rfl rfl)
theorem dX13_isUnder_15 : decode cX13_isUnder 15 = .ok (.goto 4, 3) := dk_167 0 4 (dk_at dksX13_isUnder_0 15 rfl rfl)
theorem dX13_isUnder_18 : decode cX13_isUnder 18 = .ok (.iconst 0, 1) := dk_3 (dk_at dksX13_isUnder_0 18 rfl rfl)
theorem dX13_isUnder_19 : decode cX13_isUnder 19 = .ok (.ireturn, 1) := dk_172 (dk_at dksX13_isUnder_0 19 rfl rfl)
theorem q100 : (Jvm.Cond.initialized "ThirtyThreeBelow$Man") ∈ lw_all := lw_g (lw_at lw_m1 17 rfl) rfl
theorem q693 : (Jvm.Cond.instantiable "ThirtyThreeBelow$Man" (7 : Nat)) ∈ lw_all := lw_g (lw_at lw_m3 130 rfl) rfl
theorem q695 : (Jvm.Cond.instanceMethod ({ cls := "ThirtyThreeBelow$Man", name := "<init>", desc := "(LThirtyThreeBelow;IIII)V" } : Jvm.MethodName)) ∈ lw_all := lw_g (lw_at lw_m3 132 rfl) rfl
theorem q696 : (Jvm.Cond.code ({ cls := "ThirtyThreeBelow$Man", name := "<init>", desc := "(LThirtyThreeBelow;IIII)V" } : Jvm.MethodName) prog_9_method_1_code (6 : Nat) (Option.none : Option Jvm.ClassFile.FieldType)) ∈ lw_all := lw_g (lw_at lw_m3 133 rfl) rfl
theorem q697 : (Jvm.Cond.methodLink "ThirtyThreeBelow$Man" (7 : Nat) ({ cls := "ThirtyThreeBelow$Body", name := "<init>", desc := "(LThirtyThreeBelow;I)V" } : Jvm.MethodName)) ∈ lw_all := lw_g (lw_at lw_m3 134 rfl) rfl
theorem q698 : (Jvm.Cond.fieldLink "ThirtyThreeBelow$Man" (13 : Nat) "ThirtyThreeBelow$Man" "strength" "I") ∈ lw_all := lw_g (lw_at lw_m3 135 rfl) rfl
theorem q700 : (Jvm.Cond.fieldLink "ThirtyThreeBelow$Man" (17 : Nat) "ThirtyThreeBelow$Man" "skill" "I") ∈ lw_all := lw_g (lw_at lw_m3 137 rfl) rfl
theorem q702 : (Jvm.Cond.fieldLink "ThirtyThreeBelow$Man" (20 : Nat) "ThirtyThreeBelow$Man" "ill" "I") ∈ lw_all := lw_g (lw_at lw_m3 139 rfl) rfl
theorem q705 : (Jvm.Cond.fieldLink "ThirtyThreeBelow$Man" (1 : Nat) "ThirtyThreeBelow$Man" "this$0" "LThirtyThreeBelow;") ∈ lw_all := lw_g (lw_at lw_m3 142 rfl) rfl
theorem q706 : (Jvm.Cond.lays "ThirtyThreeBelow$Man" "ThirtyThreeBelow$Man" "strength" "I") ∈ lw_all := lw_g (lw_at lw_m3 143 rfl) rfl
theorem q707 : (Jvm.Cond.soleField "ThirtyThreeBelow$Man" "strength") ∈ lw_all := lw_g (lw_at lw_m3 144 rfl) rfl
theorem q708 : (Jvm.Cond.laysFinal "ThirtyThreeBelow$Man" "ThirtyThreeBelow$Man" "skill" "I") ∈ lw_all := lw_g (lw_at lw_m3 145 rfl) rfl
theorem q709 : (Jvm.Cond.soleField "ThirtyThreeBelow$Man" "skill") ∈ lw_all := lw_g (lw_at lw_m3 146 rfl) rfl
theorem q710 : (Jvm.Cond.lays "ThirtyThreeBelow$Man" "ThirtyThreeBelow$Man" "ill" "I") ∈ lw_all := lw_g (lw_at lw_m3 147 rfl) rfl
theorem q711 : (Jvm.Cond.soleField "ThirtyThreeBelow$Man" "ill") ∈ lw_all := lw_g (lw_at lw_m3 148 rfl) rfl
theorem q712 : (Jvm.Cond.lays "ThirtyThreeBelow$Man" "ThirtyThreeBelow$Man" "isUp" "Z") ∈ lw_all := lw_g (lw_at lw_m3 149 rfl) rfl
theorem q713 : (Jvm.Cond.soleField "ThirtyThreeBelow$Man" "isUp") ∈ lw_all := lw_g (lw_at lw_m3 150 rfl) rfl
theorem q714 : (Jvm.Cond.laysFinal "ThirtyThreeBelow$Man" "ThirtyThreeBelow$Man" "this$0" "LThirtyThreeBelow;") ∈ lw_all := lw_g (lw_at lw_m3 151 rfl) rfl
theorem q715 : (Jvm.Cond.soleField "ThirtyThreeBelow$Man" "this$0") ∈ lw_all := lw_g (lw_at lw_m3 152 rfl) rfl
theorem q716 : (Jvm.Cond.laysFinal "ThirtyThreeBelow$Man" "ThirtyThreeBelow$Body" "number" "I") ∈ lw_all := lw_g (lw_at lw_m3 153 rfl) rfl
theorem q717 : (Jvm.Cond.laysFinal "ThirtyThreeBelow$Man" "ThirtyThreeBelow$Body" "this$0" "LThirtyThreeBelow;") ∈ lw_all := lw_g (lw_at lw_m3 154 rfl) rfl
theorem q718 : (Jvm.Cond.superclass "ThirtyThreeBelow$Man" "ThirtyThreeBelow$Body") ∈ lw_all := lw_g (lw_at lw_m3 155 rfl) rfl
theorem q738 : (Jvm.Cond.selects "ThirtyThreeBelow$Man" ({ cls := "ThirtyThreeBelow$Body", name := "kind", desc := "()I" } : Jvm.MethodName) ({ cls := "ThirtyThreeBelow$Man", name := "kind", desc := "()I" } : Jvm.MethodName)) ∈ lw_all := lw_g (lw_at lw_m3 175 rfl) rfl
theorem q739 : (Jvm.Cond.instanceMethod ({ cls := "ThirtyThreeBelow$Man", name := "kind", desc := "()I" } : Jvm.MethodName)) ∈ lw_all := lw_g (lw_at lw_m3 176 rfl) rfl
theorem q740 : (Jvm.Cond.code ({ cls := "ThirtyThreeBelow$Man", name := "kind", desc := "()I" } : Jvm.MethodName) prog_9_method_2_code (1 : Nat) (Option.some Jvm.ClassFile.FieldType.int)) ∈ lw_all := lw_g (lw_at lw_m3 177 rfl) rfl
theorem q1346 : (Jvm.Cond.castable "ThirtyThreeBelow$Man" "ThirtyThreeBelow$Bores") ∈ lw_tbl := lw_at lw_m6 63 rfl
theorem q1347 : (Jvm.Cond.selects "ThirtyThreeBelow$Man" ({ cls := "ThirtyThreeBelow$Bores", name := "begins", desc := "(I)V" } : Jvm.MethodName) ({ cls := "ThirtyThreeBelow$Body", name := "begins", desc := "(I)V" } : Jvm.MethodName)) ∈ lw_all := lw_g (lw_at lw_m6 64 rfl) rfl
theorem q1348 : (Jvm.Cond.unhidden "ThirtyThreeBelow$Man" "begins" "(I)V") ∈ lw_tbl := lw_at lw_m6 65 rfl
theorem q1374 : (Jvm.Cond.selects "ThirtyThreeBelow$Man" ({ cls := "ThirtyThreeBelow$Bores", name := "number", desc := "()I" } : Jvm.MethodName) ({ cls := "ThirtyThreeBelow$Body", name := "number", desc := "()I" } : Jvm.MethodName)) ∈ lw_all := lw_g (lw_at lw_m6 91 rfl) rfl
theorem q1375 : (Jvm.Cond.unhidden "ThirtyThreeBelow$Man" "number" "()I") ∈ lw_tbl := lw_at lw_m6 92 rfl
theorem q1400 : (Jvm.Cond.unhidden "ThirtyThreeBelow$Man" "bores" "(I)I") ∈ lw_tbl := lw_at lw_m6 117 rfl
theorem q1425 : (Jvm.Cond.selects "ThirtyThreeBelow$Man" ({ cls := "ThirtyThreeBelow$Body", name := "carries", desc := "(I)I" } : Jvm.MethodName) ({ cls := "ThirtyThreeBelow$Man", name := "carries", desc := "(I)I" } : Jvm.MethodName)) ∈ lw_all := lw_g (lw_at lw_m6 142 rfl) rfl
theorem q1426 : (Jvm.Cond.instanceMethod ({ cls := "ThirtyThreeBelow$Man", name := "carries", desc := "(I)I" } : Jvm.MethodName)) ∈ lw_all := lw_g (lw_at lw_m6 143 rfl) rfl
theorem q1427 : (Jvm.Cond.code ({ cls := "ThirtyThreeBelow$Man", name := "carries", desc := "(I)I" } : Jvm.MethodName) prog_9_method_4_code (2 : Nat) (Option.some Jvm.ClassFile.FieldType.int)) ∈ lw_all := lw_g (lw_at lw_m6 144 rfl) rfl
theorem q1428 : (Jvm.Cond.methodLink "ThirtyThreeBelow$Man" (27 : Nat) ({ cls := "ThirtyThreeBelow$Man", name := "begins", desc := "(I)V" } : Jvm.MethodName)) ∈ lw_all := lw_g (lw_at lw_m6 145 rfl) rfl
theorem q1429 : (Jvm.Cond.sameMethod "ThirtyThreeBelow$Man" "ThirtyThreeBelow$Body" "begins" "(I)V") ∈ lw_all := lw_g (lw_at lw_m6 146 rfl) rfl
theorem q1430 : (Jvm.Cond.selects "ThirtyThreeBelow$Man" ({ cls := "ThirtyThreeBelow$Man", name := "begins", desc := "(I)V" } : Jvm.MethodName) ({ cls := "ThirtyThreeBelow$Body", name := "begins", desc := "(I)V" } : Jvm.MethodName)) ∈ lw_all := lw_g (lw_at lw_m6 147 rfl) rfl
theorem q1431 : (Jvm.Cond.methodLink "ThirtyThreeBelow$Man" (31 : Nat) ({ cls := "ThirtyThreeBelow$Body", name := "carries", desc := "(I)I" } : Jvm.MethodName)) ∈ lw_all := lw_g (lw_at lw_m6 148 rfl) rfl
theorem q1448 : (Jvm.Cond.selects "ThirtyThreeBelow$Man" ({ cls := "ThirtyThreeBelow$Body", name := "holds", desc := "(I)I" } : Jvm.MethodName) ({ cls := "ThirtyThreeBelow$Body", name := "holds", desc := "(I)I" } : Jvm.MethodName)) ∈ lw_all := lw_g (lw_at lw_m6 165 rfl) rfl
theorem q1490 : (Jvm.Cond.castable "ThirtyThreeBelow$Man" "ThirtyThreeBelow$Tells") ∈ lw_tbl := lw_at lw_m6 207 rfl
theorem q1491 : (Jvm.Cond.selects "ThirtyThreeBelow$Man" ({ cls := "ThirtyThreeBelow$Tells", name := "begins", desc := "(I)V" } : Jvm.MethodName) ({ cls := "ThirtyThreeBelow$Body", name := "begins", desc := "(I)V" } : Jvm.MethodName)) ∈ lw_all := lw_g (lw_at lw_m6 208 rfl) rfl
theorem q1512 : (Jvm.Cond.selects "ThirtyThreeBelow$Man" ({ cls := "ThirtyThreeBelow$Tells", name := "carries", desc := "(I)I" } : Jvm.MethodName) ({ cls := "ThirtyThreeBelow$Man", name := "carries", desc := "(I)I" } : Jvm.MethodName)) ∈ lw_all := lw_g (lw_at lw_m6 229 rfl) rfl
theorem q1513 : (Jvm.Cond.unhidden "ThirtyThreeBelow$Man" "carries" "(I)I") ∈ lw_tbl := lw_at lw_m6 230 rfl
theorem q1514 : (Jvm.Cond.publicMethod ({ cls := "ThirtyThreeBelow$Man", name := "carries", desc := "(I)I" } : Jvm.MethodName)) ∈ lw_tbl := lw_at lw_m6 231 rfl
theorem q1535 : (Jvm.Cond.selects "ThirtyThreeBelow$Man" ({ cls := "ThirtyThreeBelow$Tells", name := "holds", desc := "(I)I" } : Jvm.MethodName) ({ cls := "ThirtyThreeBelow$Body", name := "holds", desc := "(I)I" } : Jvm.MethodName)) ∈ lw_all := lw_g (lw_at lw_m7 12 rfl) rfl
theorem q1536 : (Jvm.Cond.unhidden "ThirtyThreeBelow$Man" "holds" "(I)I") ∈ lw_tbl := lw_at lw_m7 13 rfl
theorem q1547 : (Jvm.Cond.unhidden "ThirtyThreeBelow$Man" "tells" "(I)I") ∈ lw_tbl := lw_at lw_m7 24 rfl
theorem q1662 : (Jvm.Cond.selects "ThirtyThreeBelow$Man" ({ cls := "ThirtyThreeBelow$Body", name := "isUnder", desc := "(I)Z" } : Jvm.MethodName) ({ cls := "ThirtyThreeBelow$Man", name := "isUnder", desc := "(I)Z" } : Jvm.MethodName)) ∈ lw_all := lw_g (lw_at lw_m7 139 rfl) rfl
theorem q1663 : (Jvm.Cond.instanceMethod ({ cls := "ThirtyThreeBelow$Man", name := "isUnder", desc := "(I)Z" } : Jvm.MethodName)) ∈ lw_all := lw_g (lw_at lw_m7 140 rfl) rfl
theorem q1664 : (Jvm.Cond.code ({ cls := "ThirtyThreeBelow$Man", name := "isUnder", desc := "(I)Z" } : Jvm.MethodName) prog_9_method_3_code (2 : Nat) (Option.some Jvm.ClassFile.FieldType.boolean)) ∈ lw_all := lw_g (lw_at lw_m7 141 rfl) rfl
theorem q1665 : (Jvm.Cond.methodLink "ThirtyThreeBelow$Man" (23 : Nat) ({ cls := "ThirtyThreeBelow$Body", name := "isUnder", desc := "(I)Z" } : Jvm.MethodName)) ∈ lw_all := lw_g (lw_at lw_m7 142 rfl) rfl
theorem q2429 : (Jvm.Cond.selects "ThirtyThreeBelow$Man" ({ cls := "ThirtyThreeBelow$Body", name := "begins", desc := "(I)V" } : Jvm.MethodName) ({ cls := "ThirtyThreeBelow$Body", name := "begins", desc := "(I)V" } : Jvm.MethodName)) ∈ lw_all := lw_g (lw_at lw_m10 186 rfl) rfl
theorem q2445 : (Jvm.Cond.castable "ThirtyThreeBelow$Man" "ThirtyThreeBelow$Body") ∈ lw_tbl := lw_at lw_m10 202 rfl
theorem q2463 : (Jvm.Cond.castable "ThirtyThreeBelow$Man" "java/lang/Object") ∈ lw_tbl := lw_at lw_m10 220 rfl
theorem in_X13 : ∀ w ∈ wsX130, w ∈ lw_all := lw_in wsX130 [716, 717, 706, 708, 710, 712, 714] (by decide +kernel) (by decide +kernel)
/-! ThirtyThreeBelow$Term -/
set_option maxRecDepth 100000
def RX14 : String := "ThirtyThreeBelow$Term"
abbrev cX14_init : ByteArray := prog_15_method_1_code
def yX14_init : MethodName := ⟨RX14, "<init>", "(LThirtyThreeBelow;)V"⟩
def dkwX14_init_0 : List UInt8 := [42, 43, 181, 0, 1, 42, 183, 0, 7, 177]
abbrev dktX14_init_0 : List UInt8 := dkwX14_init_0 ++ []
theorem dksX14_init_0 : cX14_init.data.toList.drop 0 = dktX14_init_0 := by decide +kernel
theorem dX14_init_0 : decode cX14_init 0 = .ok (.aload_n 0, 1) := dk_42 (dk_at dksX14_init_0 0 rfl rfl)
theorem dX14_init_1 : decode cX14_init 1 = .ok (.aload_n 1, 1) := dk_43 (dk_at dksX14_init_0 1 rfl rfl)
theorem dX14_init_2 : decode cX14_init 2 = .ok (.putfield 1, 3) := dk_181 0 1 (dk_at dksX14_init_0 2 rfl rfl)
theorem dX14_init_5 : decode cX14_init 5 = .ok (.aload_n 0, 1) := dk_42 (dk_at dksX14_init_0 5 rfl rfl)
theorem dX14_init_6 : decode cX14_init 6 = .ok (.invokespecial 7, 3) := dk_183 0 7 (dk_at dksX14_init_0 6 rfl rfl)
theorem dX14_init_9 : decode cX14_init 9 = .ok (.return_, 1) := dk_177 (dk_at dksX14_init_0 9 rfl rfl)
theorem q102 : (Jvm.Cond.initialized "ThirtyThreeBelow$Term") ∈ lw_all := lw_g (lw_at lw_m1 19 rfl) rfl
theorem q966 : (Jvm.Cond.instanceMethod ({ cls := "ThirtyThreeBelow$Term", name := "<init>", desc := "(LThirtyThreeBelow;)V" } : Jvm.MethodName)) ∈ lw_all := lw_g (lw_at lw_m4 163 rfl) rfl
theorem q967 : (Jvm.Cond.code ({ cls := "ThirtyThreeBelow$Term", name := "<init>", desc := "(LThirtyThreeBelow;)V" } : Jvm.MethodName) prog_15_method_1_code (2 : Nat) (Option.none : Option Jvm.ClassFile.FieldType)) ∈ lw_all := lw_g (lw_at lw_m4 164 rfl) rfl
theorem q968 : (Jvm.Cond.methodLink "ThirtyThreeBelow$Term" (7 : Nat) ({ cls := "java/lang/Object", name := "<init>", desc := "()V" } : Jvm.MethodName)) ∈ lw_all := lw_g (lw_at lw_m4 165 rfl) rfl
theorem q972 : (Jvm.Cond.fieldLink "ThirtyThreeBelow$Term" (1 : Nat) "ThirtyThreeBelow$Term" "this$0" "LThirtyThreeBelow;") ∈ lw_all := lw_g (lw_at lw_m4 169 rfl) rfl
theorem q980 : (Jvm.Cond.soleField "ThirtyThreeBelow$Term" "this$0") ∈ lw_all := lw_g (lw_at lw_m4 177 rfl) rfl
theorem q1158 : (Jvm.Cond.declares ({ cls := "ThirtyThreeBelow$Term", name := "value", desc := "()I" } : Jvm.MethodName)) ∈ lw_tbl := lw_at lw_m5 115 rfl
theorem q1159 : (Jvm.Cond.sameMethod "ThirtyThreeBelow$Term" "ThirtyThreeBelow$Term" "value" "()I") ∈ lw_all := lw_g (lw_at lw_m5 116 rfl) rfl
/-! ThirtyThreeBelow$Turned -/
set_option maxRecDepth 100000
def RX15 : String := "ThirtyThreeBelow$Turned"
def TX15 : u_T := fun k => match k with
  | 0 => ("ThirtyThreeBelow$Term", "this$0", "LThirtyThreeBelow;", true)
  | 1 => ("ThirtyThreeBelow$Turned", "isMinus", "Z", true)
  | 2 => ("ThirtyThreeBelow$Turned", "of", "LThirtyThreeBelow$Term;", true)
  | _ => ("ThirtyThreeBelow$Turned", "this$0", "LThirtyThreeBelow;", true)
def tyX15 : Nat → FieldType := fun k => match k with
  | 0 => .object "ThirtyThreeBelow"
  | 1 => .boolean
  | 2 => .object "ThirtyThreeBelow$Term"
  | _ => .object "ThirtyThreeBelow"
abbrev wsX150 : List Cond := u_ws RX15 TX15 4
-- two fields of one name: no nmX15
theorem tyX15_ok : ∀ k, k < 4 → parseFieldDescriptor (TX15 k).2.2.1 = some (tyX15 k) := by decide +kernel
abbrev cX15_init : ByteArray := prog_19_method_1_code
def yX15_init : MethodName := ⟨RX15, "<init>", "(LThirtyThreeBelow;ZLThirtyThreeBelow$Term;)V"⟩
def dkwX15_init_0 : List UInt8 := [42, 43, 181, 0, 1, 42, 43, 183, 0, 7, 42, 28, 181, 0, 13, 42, 45, 181, 0, 17, 177]
abbrev dktX15_init_0 : List UInt8 := dkwX15_init_0 ++ []
theorem dksX15_init_0 : cX15_init.data.toList.drop 0 = dktX15_init_0 := by decide +kernel
theorem dX15_init_0 : decode cX15_init 0 = .ok (.aload_n 0, 1) := dk_42 (dk_at dksX15_init_0 0 rfl rfl)
theorem dX15_init_1 : decode cX15_init 1 = .ok (.aload_n 1, 1) := dk_43 (dk_at dksX15_init_0 1 rfl rfl)
theorem dX15_init_2 : decode cX15_init 2 = .ok (.putfield 1, 3) := dk_181 0 1 (dk_at dksX15_init_0 2 rfl rfl)
theorem dX15_init_5 : decode cX15_init 5 = .ok (.aload_n 0, 1) := dk_42 (dk_at dksX15_init_0 5 rfl rfl)
theorem dX15_init_6 : decode cX15_init 6 = .ok (.aload_n 1, 1) := dk_43 (dk_at dksX15_init_0 6 rfl rfl)
theorem dX15_init_7 : decode cX15_init 7 = .ok (.invokespecial 7, 3) := dk_183 0 7 (dk_at dksX15_init_0 7 rfl rfl)
theorem dX15_init_10 : decode cX15_init 10 = .ok (.aload_n 0, 1) := dk_42 (dk_at dksX15_init_0 10 rfl rfl)
theorem dX15_init_11 : decode cX15_init 11 = .ok (.iload_n 2, 1) := dk_28 (dk_at dksX15_init_0 11 rfl rfl)
theorem dX15_init_12 : decode cX15_init 12 = .ok (.putfield 13, 3) := dk_181 0 13 (dk_at dksX15_init_0 12 rfl rfl)
theorem dX15_init_15 : decode cX15_init 15 = .ok (.aload_n 0, 1) := dk_42 (dk_at dksX15_init_0 15 rfl rfl)
theorem dX15_init_16 : decode cX15_init 16 = .ok (.aload_n 3, 1) := dk_45 (dk_at dksX15_init_0 16 rfl rfl)
theorem dX15_init_17 : decode cX15_init 17 = .ok (.putfield 17, 3) := dk_181 0 17 (dk_at dksX15_init_0 17 rfl rfl)
theorem dX15_init_20 : decode cX15_init 20 = .ok (.return_, 1) := dk_177 (dk_at dksX15_init_0 20 rfl rfl)
abbrev cX15_value : ByteArray := prog_19_method_2_code
def yX15_value : MethodName := ⟨RX15, "value", "()I"⟩
def dkwX15_value_1 : List UInt8 := [4, 167, 0, 4, 3, 172]
abbrev dktX15_value_1 : List UInt8 := dkwX15_value_1 ++ []
def dkwX15_value_0 : List UInt8 := [42, 180, 0, 17, 182, 0, 21, 60, 42, 180, 0, 13, 153, 0, 8, 27, 116, 167, 0, 12, 27, 154, 0, 7]
abbrev dktX15_value_0 : List UInt8 := dkwX15_value_0 ++ dktX15_value_1
theorem dksX15_value_0 : cX15_value.data.toList.drop 0 = dktX15_value_0 := by decide +kernel
theorem dksX15_value_1 : cX15_value.data.toList.drop 24 = dktX15_value_1 := dk_seg dksX15_value_0 24 rfl rfl
theorem dX15_value_0 : decode cX15_value 0 = .ok (.aload_n 0, 1) := dk_42 (dk_at dksX15_value_0 0 rfl rfl)
theorem dX15_value_1 : decode cX15_value 1 = .ok (.getfield 17, 3) := dk_180 0 17 (dk_at dksX15_value_0 1 rfl rfl)
theorem dX15_value_4 : decode cX15_value 4 = .ok (.invokevirtual 21, 3) := dk_182 0 21 (dk_at dksX15_value_0 4 rfl rfl)
theorem dX15_value_7 : decode cX15_value 7 = .ok (.istore_n 1, 1) := dk_60 (dk_at dksX15_value_0 7 rfl rfl)
theorem dX15_value_8 : decode cX15_value 8 = .ok (.aload_n 0, 1) := dk_42 (dk_at dksX15_value_0 8 rfl rfl)
theorem dX15_value_9 : decode cX15_value 9 = .ok (.getfield 13, 3) := dk_180 0 13 (dk_at dksX15_value_0 9 rfl rfl)
theorem dX15_value_12 : decode cX15_value 12 = .ok (.ifCond .eq 8, 3) := dk_153 0 8 (dk_at dksX15_value_0 12 rfl rfl)
theorem dX15_value_15 : decode cX15_value 15 = .ok (.iload_n 1, 1) := dk_27 (dk_at dksX15_value_0 15 rfl rfl)
theorem dX15_value_16 : decode cX15_value 16 = .ok (.ineg, 1) := dk_116 (dk_at dksX15_value_0 16 rfl rfl)
theorem dX15_value_17 : decode cX15_value 17 = .ok (.goto 12, 3) := dk_167 0 12 (dk_at dksX15_value_0 17 rfl rfl)
theorem dX15_value_20 : decode cX15_value 20 = .ok (.iload_n 1, 1) := dk_27 (dk_at dksX15_value_0 20 rfl rfl)
theorem dX15_value_21 : decode cX15_value 21 = .ok (.ifCond .ne 7, 3) := dk_154 0 7 (dk_at dksX15_value_0 21 rfl rfl)
theorem dX15_value_24 : decode cX15_value 24 = .ok (.iconst 1, 1) := dk_4 (dk_at dksX15_value_1 0 rfl rfl)
theorem dX15_value_25 : decode cX15_value 25 = .ok (.goto 4, 3) := dk_167 0 4 (dk_at dksX15_value_1 1 rfl rfl)
theorem dX15_value_28 : decode cX15_value 28 = .ok (.iconst 0, 1) := dk_3 (dk_at dksX15_value_1 4 rfl rfl)
theorem dX15_value_29 : decode cX15_value 29 = .ok (.ireturn, 1) := dk_172 (dk_at dksX15_value_1 5 rfl rfl)
theorem q103 : (Jvm.Cond.initialized "ThirtyThreeBelow$Turned") ∈ lw_all := lw_g (lw_at lw_m1 20 rfl) rfl
theorem q961 : (Jvm.Cond.instantiable "ThirtyThreeBelow$Turned" (4 : Nat)) ∈ lw_all := lw_g (lw_at lw_m4 158 rfl) rfl
theorem q963 : (Jvm.Cond.instanceMethod ({ cls := "ThirtyThreeBelow$Turned", name := "<init>", desc := "(LThirtyThreeBelow;ZLThirtyThreeBelow$Term;)V" } : Jvm.MethodName)) ∈ lw_all := lw_g (lw_at lw_m4 160 rfl) rfl
theorem q964 : (Jvm.Cond.code ({ cls := "ThirtyThreeBelow$Turned", name := "<init>", desc := "(LThirtyThreeBelow;ZLThirtyThreeBelow$Term;)V" } : Jvm.MethodName) prog_19_method_1_code (4 : Nat) (Option.none : Option Jvm.ClassFile.FieldType)) ∈ lw_all := lw_g (lw_at lw_m4 161 rfl) rfl
theorem q965 : (Jvm.Cond.methodLinkNest "ThirtyThreeBelow$Turned" (7 : Nat) ({ cls := "ThirtyThreeBelow$Term", name := "<init>", desc := "(LThirtyThreeBelow;)V" } : Jvm.MethodName) "ThirtyThreeBelow") ∈ lw_tbl := lw_at lw_m4 162 rfl
theorem q969 : (Jvm.Cond.fieldLink "ThirtyThreeBelow$Turned" (13 : Nat) "ThirtyThreeBelow$Turned" "isMinus" "Z") ∈ lw_all := lw_g (lw_at lw_m4 166 rfl) rfl
theorem q970 : (Jvm.Cond.fieldLink "ThirtyThreeBelow$Turned" (17 : Nat) "ThirtyThreeBelow$Turned" "of" "LThirtyThreeBelow$Term;") ∈ lw_all := lw_g (lw_at lw_m4 167 rfl) rfl
theorem q971 : (Jvm.Cond.fieldLink "ThirtyThreeBelow$Turned" (1 : Nat) "ThirtyThreeBelow$Turned" "this$0" "LThirtyThreeBelow;") ∈ lw_all := lw_g (lw_at lw_m4 168 rfl) rfl
theorem q973 : (Jvm.Cond.laysFinal "ThirtyThreeBelow$Turned" "ThirtyThreeBelow$Turned" "isMinus" "Z") ∈ lw_all := lw_g (lw_at lw_m4 170 rfl) rfl
theorem q974 : (Jvm.Cond.soleField "ThirtyThreeBelow$Turned" "isMinus") ∈ lw_all := lw_g (lw_at lw_m4 171 rfl) rfl
theorem q975 : (Jvm.Cond.laysFinal "ThirtyThreeBelow$Turned" "ThirtyThreeBelow$Turned" "of" "LThirtyThreeBelow$Term;") ∈ lw_all := lw_g (lw_at lw_m4 172 rfl) rfl
theorem q976 : (Jvm.Cond.soleField "ThirtyThreeBelow$Turned" "of") ∈ lw_all := lw_g (lw_at lw_m4 173 rfl) rfl
theorem q977 : (Jvm.Cond.laysFinal "ThirtyThreeBelow$Turned" "ThirtyThreeBelow$Turned" "this$0" "LThirtyThreeBelow;") ∈ lw_all := lw_g (lw_at lw_m4 174 rfl) rfl
theorem q978 : (Jvm.Cond.soleField "ThirtyThreeBelow$Turned" "this$0") ∈ lw_all := lw_g (lw_at lw_m4 175 rfl) rfl
theorem q979 : (Jvm.Cond.laysFinal "ThirtyThreeBelow$Turned" "ThirtyThreeBelow$Term" "this$0" "LThirtyThreeBelow;") ∈ lw_all := lw_g (lw_at lw_m4 176 rfl) rfl
theorem q981 : (Jvm.Cond.superclass "ThirtyThreeBelow$Turned" "ThirtyThreeBelow$Term") ∈ lw_all := lw_g (lw_at lw_m4 178 rfl) rfl
theorem q1168 : (Jvm.Cond.instanceMethod ({ cls := "ThirtyThreeBelow$Turned", name := "value", desc := "()I" } : Jvm.MethodName)) ∈ lw_all := lw_g (lw_at lw_m5 125 rfl) rfl
theorem q1169 : (Jvm.Cond.code ({ cls := "ThirtyThreeBelow$Turned", name := "value", desc := "()I" } : Jvm.MethodName) prog_19_method_2_code (2 : Nat) (Option.some Jvm.ClassFile.FieldType.int)) ∈ lw_all := lw_g (lw_at lw_m5 126 rfl) rfl
theorem q1170 : (Jvm.Cond.methodLink "ThirtyThreeBelow$Turned" (21 : Nat) ({ cls := "ThirtyThreeBelow$Term", name := "value", desc := "()I" } : Jvm.MethodName)) ∈ lw_all := lw_g (lw_at lw_m5 127 rfl) rfl
theorem q1173 : (Jvm.Cond.selects "ThirtyThreeBelow$Turned" ({ cls := "ThirtyThreeBelow$Term", name := "value", desc := "()I" } : Jvm.MethodName) ({ cls := "ThirtyThreeBelow$Turned", name := "value", desc := "()I" } : Jvm.MethodName)) ∈ lw_all := lw_g (lw_at lw_m5 130 rfl) rfl
theorem q2464 : (Jvm.Cond.castable "ThirtyThreeBelow$Turned" "java/lang/Object") ∈ lw_tbl := lw_at lw_m10 221 rfl
theorem q2471 : (Jvm.Cond.castable "ThirtyThreeBelow$Turned" "ThirtyThreeBelow$Term") ∈ lw_tbl := lw_at lw_m10 228 rfl
theorem in_X15 : ∀ w ∈ wsX150, w ∈ lw_all := lw_in wsX150 [979, 973, 975, 977] (by decide +kernel) (by decide +kernel)
/-! ThirtyThreeBelow$Named -/
set_option maxRecDepth 100000
def RX16 : String := "ThirtyThreeBelow$Named"
def TX16 : u_T := fun k => match k with
  | 0 => ("ThirtyThreeBelow$Term", "this$0", "LThirtyThreeBelow;", true)
  | 1 => ("ThirtyThreeBelow$Named", "k", "I", true)
  | _ => ("ThirtyThreeBelow$Named", "this$0", "LThirtyThreeBelow;", true)
def tyX16 : Nat → FieldType := fun k => match k with
  | 0 => .object "ThirtyThreeBelow"
  | 1 => .int
  | _ => .object "ThirtyThreeBelow"
abbrev wsX160 : List Cond := u_ws RX16 TX16 3
-- two fields of one name: no nmX16
theorem tyX16_ok : ∀ k, k < 3 → parseFieldDescriptor (TX16 k).2.2.1 = some (tyX16 k) := by decide +kernel
abbrev cX16_init : ByteArray := prog_10_method_1_code
def yX16_init : MethodName := ⟨RX16, "<init>", "(LThirtyThreeBelow;I)V"⟩
def dkwX16_init_0 : List UInt8 := [42, 43, 181, 0, 1, 42, 43, 183, 0, 7, 42, 28, 181, 0, 13, 177]
abbrev dktX16_init_0 : List UInt8 := dkwX16_init_0 ++ []
theorem dksX16_init_0 : cX16_init.data.toList.drop 0 = dktX16_init_0 := by decide +kernel
theorem dX16_init_0 : decode cX16_init 0 = .ok (.aload_n 0, 1) := dk_42 (dk_at dksX16_init_0 0 rfl rfl)
theorem dX16_init_1 : decode cX16_init 1 = .ok (.aload_n 1, 1) := dk_43 (dk_at dksX16_init_0 1 rfl rfl)
theorem dX16_init_2 : decode cX16_init 2 = .ok (.putfield 1, 3) := dk_181 0 1 (dk_at dksX16_init_0 2 rfl rfl)
theorem dX16_init_5 : decode cX16_init 5 = .ok (.aload_n 0, 1) := dk_42 (dk_at dksX16_init_0 5 rfl rfl)
theorem dX16_init_6 : decode cX16_init 6 = .ok (.aload_n 1, 1) := dk_43 (dk_at dksX16_init_0 6 rfl rfl)
theorem dX16_init_7 : decode cX16_init 7 = .ok (.invokespecial 7, 3) := dk_183 0 7 (dk_at dksX16_init_0 7 rfl rfl)
theorem dX16_init_10 : decode cX16_init 10 = .ok (.aload_n 0, 1) := dk_42 (dk_at dksX16_init_0 10 rfl rfl)
theorem dX16_init_11 : decode cX16_init 11 = .ok (.iload_n 2, 1) := dk_28 (dk_at dksX16_init_0 11 rfl rfl)
theorem dX16_init_12 : decode cX16_init 12 = .ok (.putfield 13, 3) := dk_181 0 13 (dk_at dksX16_init_0 12 rfl rfl)
theorem dX16_init_15 : decode cX16_init 15 = .ok (.return_, 1) := dk_177 (dk_at dksX16_init_0 15 rfl rfl)
abbrev cX16_value : ByteArray := prog_10_method_2_code
def yX16_value : MethodName := ⟨RX16, "value", "()I"⟩
def dkwX16_value_0 : List UInt8 := [42, 180, 0, 1, 180, 0, 17, 42, 180, 0, 13, 46, 172]
abbrev dktX16_value_0 : List UInt8 := dkwX16_value_0 ++ []
theorem dksX16_value_0 : cX16_value.data.toList.drop 0 = dktX16_value_0 := by decide +kernel
theorem dX16_value_0 : decode cX16_value 0 = .ok (.aload_n 0, 1) := dk_42 (dk_at dksX16_value_0 0 rfl rfl)
theorem dX16_value_1 : decode cX16_value 1 = .ok (.getfield 1, 3) := dk_180 0 1 (dk_at dksX16_value_0 1 rfl rfl)
theorem dX16_value_4 : decode cX16_value 4 = .ok (.getfield 17, 3) := dk_180 0 17 (dk_at dksX16_value_0 4 rfl rfl)
theorem dX16_value_7 : decode cX16_value 7 = .ok (.aload_n 0, 1) := dk_42 (dk_at dksX16_value_0 7 rfl rfl)
theorem dX16_value_8 : decode cX16_value 8 = .ok (.getfield 13, 3) := dk_180 0 13 (dk_at dksX16_value_0 8 rfl rfl)
theorem dX16_value_11 : decode cX16_value 11 = .ok (.iaload, 1) := dk_46 (dk_at dksX16_value_0 11 rfl rfl)
theorem dX16_value_12 : decode cX16_value 12 = .ok (.ireturn, 1) := dk_172 (dk_at dksX16_value_0 12 rfl rfl)
theorem q109 : (Jvm.Cond.initialized "ThirtyThreeBelow$Named") ∈ lw_all := lw_g (lw_at lw_m1 26 rfl) rfl
theorem q289 : (Jvm.Cond.fieldLinkNest "ThirtyThreeBelow$Named" (17 : Nat) "ThirtyThreeBelow" "names" "[I" "ThirtyThreeBelow") ∈ lw_tbl := lw_at lw_m1 206 rfl
theorem q1070 : (Jvm.Cond.instantiable "ThirtyThreeBelow$Named" (3 : Nat)) ∈ lw_all := lw_g (lw_at lw_m5 27 rfl) rfl
theorem q1072 : (Jvm.Cond.instanceMethod ({ cls := "ThirtyThreeBelow$Named", name := "<init>", desc := "(LThirtyThreeBelow;I)V" } : Jvm.MethodName)) ∈ lw_all := lw_g (lw_at lw_m5 29 rfl) rfl
theorem q1073 : (Jvm.Cond.code ({ cls := "ThirtyThreeBelow$Named", name := "<init>", desc := "(LThirtyThreeBelow;I)V" } : Jvm.MethodName) prog_10_method_1_code (3 : Nat) (Option.none : Option Jvm.ClassFile.FieldType)) ∈ lw_all := lw_g (lw_at lw_m5 30 rfl) rfl
theorem q1074 : (Jvm.Cond.methodLinkNest "ThirtyThreeBelow$Named" (7 : Nat) ({ cls := "ThirtyThreeBelow$Term", name := "<init>", desc := "(LThirtyThreeBelow;)V" } : Jvm.MethodName) "ThirtyThreeBelow") ∈ lw_tbl := lw_at lw_m5 31 rfl
theorem q1075 : (Jvm.Cond.fieldLink "ThirtyThreeBelow$Named" (13 : Nat) "ThirtyThreeBelow$Named" "k" "I") ∈ lw_all := lw_g (lw_at lw_m5 32 rfl) rfl
theorem q1076 : (Jvm.Cond.fieldLink "ThirtyThreeBelow$Named" (1 : Nat) "ThirtyThreeBelow$Named" "this$0" "LThirtyThreeBelow;") ∈ lw_all := lw_g (lw_at lw_m5 33 rfl) rfl
theorem q1077 : (Jvm.Cond.laysFinal "ThirtyThreeBelow$Named" "ThirtyThreeBelow$Named" "k" "I") ∈ lw_all := lw_g (lw_at lw_m5 34 rfl) rfl
theorem q1078 : (Jvm.Cond.soleField "ThirtyThreeBelow$Named" "k") ∈ lw_all := lw_g (lw_at lw_m5 35 rfl) rfl
theorem q1079 : (Jvm.Cond.laysFinal "ThirtyThreeBelow$Named" "ThirtyThreeBelow$Named" "this$0" "LThirtyThreeBelow;") ∈ lw_all := lw_g (lw_at lw_m5 36 rfl) rfl
theorem q1080 : (Jvm.Cond.soleField "ThirtyThreeBelow$Named" "this$0") ∈ lw_all := lw_g (lw_at lw_m5 37 rfl) rfl
theorem q1081 : (Jvm.Cond.laysFinal "ThirtyThreeBelow$Named" "ThirtyThreeBelow$Term" "this$0" "LThirtyThreeBelow;") ∈ lw_all := lw_g (lw_at lw_m5 38 rfl) rfl
theorem q1082 : (Jvm.Cond.superclass "ThirtyThreeBelow$Named" "ThirtyThreeBelow$Term") ∈ lw_all := lw_g (lw_at lw_m5 39 rfl) rfl
theorem q1166 : (Jvm.Cond.instanceMethod ({ cls := "ThirtyThreeBelow$Named", name := "value", desc := "()I" } : Jvm.MethodName)) ∈ lw_all := lw_g (lw_at lw_m5 123 rfl) rfl
theorem q1167 : (Jvm.Cond.code ({ cls := "ThirtyThreeBelow$Named", name := "value", desc := "()I" } : Jvm.MethodName) prog_10_method_2_code (1 : Nat) (Option.some Jvm.ClassFile.FieldType.int)) ∈ lw_all := lw_g (lw_at lw_m5 124 rfl) rfl
theorem q1172 : (Jvm.Cond.selects "ThirtyThreeBelow$Named" ({ cls := "ThirtyThreeBelow$Term", name := "value", desc := "()I" } : Jvm.MethodName) ({ cls := "ThirtyThreeBelow$Named", name := "value", desc := "()I" } : Jvm.MethodName)) ∈ lw_all := lw_g (lw_at lw_m5 129 rfl) rfl
theorem q2465 : (Jvm.Cond.castable "ThirtyThreeBelow$Named" "java/lang/Object") ∈ lw_tbl := lw_at lw_m10 222 rfl
theorem q2472 : (Jvm.Cond.castable "ThirtyThreeBelow$Named" "ThirtyThreeBelow$Term") ∈ lw_tbl := lw_at lw_m10 229 rfl
theorem in_X16 : ∀ w ∈ wsX160, w ∈ lw_all := lw_in wsX160 [1081, 1077, 1079] (by decide +kernel) (by decide +kernel)
/-! ThirtyThreeBelow$Figure -/
set_option maxRecDepth 100000
def RX17 : String := "ThirtyThreeBelow$Figure"
def TX17 : u_T := fun k => match k with
  | 0 => ("ThirtyThreeBelow$Term", "this$0", "LThirtyThreeBelow;", true)
  | 1 => ("ThirtyThreeBelow$Figure", "v", "I", true)
  | _ => ("ThirtyThreeBelow$Figure", "this$0", "LThirtyThreeBelow;", true)
def tyX17 : Nat → FieldType := fun k => match k with
  | 0 => .object "ThirtyThreeBelow"
  | 1 => .int
  | _ => .object "ThirtyThreeBelow"
abbrev wsX170 : List Cond := u_ws RX17 TX17 3
-- two fields of one name: no nmX17
theorem tyX17_ok : ∀ k, k < 3 → parseFieldDescriptor (TX17 k).2.2.1 = some (tyX17 k) := by decide +kernel
abbrev cX17_init : ByteArray := prog_6_method_1_code
def yX17_init : MethodName := ⟨RX17, "<init>", "(LThirtyThreeBelow;I)V"⟩
def dkwX17_init_0 : List UInt8 := [42, 43, 181, 0, 1, 42, 43, 183, 0, 7, 42, 28, 181, 0, 13, 177]
abbrev dktX17_init_0 : List UInt8 := dkwX17_init_0 ++ []
theorem dksX17_init_0 : cX17_init.data.toList.drop 0 = dktX17_init_0 := by decide +kernel
theorem dX17_init_0 : decode cX17_init 0 = .ok (.aload_n 0, 1) := dk_42 (dk_at dksX17_init_0 0 rfl rfl)
theorem dX17_init_1 : decode cX17_init 1 = .ok (.aload_n 1, 1) := dk_43 (dk_at dksX17_init_0 1 rfl rfl)
theorem dX17_init_2 : decode cX17_init 2 = .ok (.putfield 1, 3) := dk_181 0 1 (dk_at dksX17_init_0 2 rfl rfl)
theorem dX17_init_5 : decode cX17_init 5 = .ok (.aload_n 0, 1) := dk_42 (dk_at dksX17_init_0 5 rfl rfl)
theorem dX17_init_6 : decode cX17_init 6 = .ok (.aload_n 1, 1) := dk_43 (dk_at dksX17_init_0 6 rfl rfl)
theorem dX17_init_7 : decode cX17_init 7 = .ok (.invokespecial 7, 3) := dk_183 0 7 (dk_at dksX17_init_0 7 rfl rfl)
theorem dX17_init_10 : decode cX17_init 10 = .ok (.aload_n 0, 1) := dk_42 (dk_at dksX17_init_0 10 rfl rfl)
theorem dX17_init_11 : decode cX17_init 11 = .ok (.iload_n 2, 1) := dk_28 (dk_at dksX17_init_0 11 rfl rfl)
theorem dX17_init_12 : decode cX17_init 12 = .ok (.putfield 13, 3) := dk_181 0 13 (dk_at dksX17_init_0 12 rfl rfl)
theorem dX17_init_15 : decode cX17_init 15 = .ok (.return_, 1) := dk_177 (dk_at dksX17_init_0 15 rfl rfl)
abbrev cX17_value : ByteArray := prog_6_method_2_code
def yX17_value : MethodName := ⟨RX17, "value", "()I"⟩
theorem dX17_value_0 : decode cX17_value 0 = .ok (.aload_n 0, 1) := by decide +kernel
theorem dX17_value_1 : decode cX17_value 1 = .ok (.getfield 13, 3) := by decide +kernel
theorem dX17_value_4 : decode cX17_value 4 = .ok (.ireturn, 1) := by decide +kernel
theorem q110 : (Jvm.Cond.initialized "ThirtyThreeBelow$Figure") ∈ lw_all := lw_g (lw_at lw_m1 27 rfl) rfl
theorem q1088 : (Jvm.Cond.instantiable "ThirtyThreeBelow$Figure" (3 : Nat)) ∈ lw_all := lw_g (lw_at lw_m5 45 rfl) rfl
theorem q1090 : (Jvm.Cond.instanceMethod ({ cls := "ThirtyThreeBelow$Figure", name := "<init>", desc := "(LThirtyThreeBelow;I)V" } : Jvm.MethodName)) ∈ lw_all := lw_g (lw_at lw_m5 47 rfl) rfl
theorem q1091 : (Jvm.Cond.code ({ cls := "ThirtyThreeBelow$Figure", name := "<init>", desc := "(LThirtyThreeBelow;I)V" } : Jvm.MethodName) prog_6_method_1_code (3 : Nat) (Option.none : Option Jvm.ClassFile.FieldType)) ∈ lw_all := lw_g (lw_at lw_m5 48 rfl) rfl
theorem q1092 : (Jvm.Cond.methodLinkNest "ThirtyThreeBelow$Figure" (7 : Nat) ({ cls := "ThirtyThreeBelow$Term", name := "<init>", desc := "(LThirtyThreeBelow;)V" } : Jvm.MethodName) "ThirtyThreeBelow") ∈ lw_tbl := lw_at lw_m5 49 rfl
theorem q1093 : (Jvm.Cond.fieldLink "ThirtyThreeBelow$Figure" (13 : Nat) "ThirtyThreeBelow$Figure" "v" "I") ∈ lw_all := lw_g (lw_at lw_m5 50 rfl) rfl
theorem q1094 : (Jvm.Cond.fieldLink "ThirtyThreeBelow$Figure" (1 : Nat) "ThirtyThreeBelow$Figure" "this$0" "LThirtyThreeBelow;") ∈ lw_all := lw_g (lw_at lw_m5 51 rfl) rfl
theorem q1095 : (Jvm.Cond.laysFinal "ThirtyThreeBelow$Figure" "ThirtyThreeBelow$Figure" "v" "I") ∈ lw_all := lw_g (lw_at lw_m5 52 rfl) rfl
theorem q1096 : (Jvm.Cond.soleField "ThirtyThreeBelow$Figure" "v") ∈ lw_all := lw_g (lw_at lw_m5 53 rfl) rfl
theorem q1097 : (Jvm.Cond.laysFinal "ThirtyThreeBelow$Figure" "ThirtyThreeBelow$Figure" "this$0" "LThirtyThreeBelow;") ∈ lw_all := lw_g (lw_at lw_m5 54 rfl) rfl
theorem q1098 : (Jvm.Cond.soleField "ThirtyThreeBelow$Figure" "this$0") ∈ lw_all := lw_g (lw_at lw_m5 55 rfl) rfl
theorem q1099 : (Jvm.Cond.laysFinal "ThirtyThreeBelow$Figure" "ThirtyThreeBelow$Term" "this$0" "LThirtyThreeBelow;") ∈ lw_all := lw_g (lw_at lw_m5 56 rfl) rfl
theorem q1100 : (Jvm.Cond.superclass "ThirtyThreeBelow$Figure" "ThirtyThreeBelow$Term") ∈ lw_all := lw_g (lw_at lw_m5 57 rfl) rfl
theorem q1164 : (Jvm.Cond.instanceMethod ({ cls := "ThirtyThreeBelow$Figure", name := "value", desc := "()I" } : Jvm.MethodName)) ∈ lw_all := lw_g (lw_at lw_m5 121 rfl) rfl
theorem q1165 : (Jvm.Cond.code ({ cls := "ThirtyThreeBelow$Figure", name := "value", desc := "()I" } : Jvm.MethodName) prog_6_method_2_code (1 : Nat) (Option.some Jvm.ClassFile.FieldType.int)) ∈ lw_all := lw_g (lw_at lw_m5 122 rfl) rfl
theorem q1171 : (Jvm.Cond.selects "ThirtyThreeBelow$Figure" ({ cls := "ThirtyThreeBelow$Term", name := "value", desc := "()I" } : Jvm.MethodName) ({ cls := "ThirtyThreeBelow$Figure", name := "value", desc := "()I" } : Jvm.MethodName)) ∈ lw_all := lw_g (lw_at lw_m5 128 rfl) rfl
theorem q2466 : (Jvm.Cond.castable "ThirtyThreeBelow$Figure" "java/lang/Object") ∈ lw_tbl := lw_at lw_m10 223 rfl
theorem q2473 : (Jvm.Cond.castable "ThirtyThreeBelow$Figure" "ThirtyThreeBelow$Term") ∈ lw_tbl := lw_at lw_m10 230 rfl
theorem in_X17 : ∀ w ∈ wsX170, w ∈ lw_all := lw_in wsX170 [1099, 1095, 1097] (by decide +kernel) (by decide +kernel)
/-! ThirtyThreeBelow$Both -/
set_option maxRecDepth 100000
def RX18 : String := "ThirtyThreeBelow$Both"
def TX18 : u_T := fun k => match k with
  | 0 => ("ThirtyThreeBelow$Term", "this$0", "LThirtyThreeBelow;", true)
  | 1 => ("ThirtyThreeBelow$Both", "sign", "I", true)
  | 2 => ("ThirtyThreeBelow$Both", "left", "LThirtyThreeBelow$Term;", true)
  | 3 => ("ThirtyThreeBelow$Both", "right", "LThirtyThreeBelow$Term;", true)
  | _ => ("ThirtyThreeBelow$Both", "this$0", "LThirtyThreeBelow;", true)
def tyX18 : Nat → FieldType := fun k => match k with
  | 0 => .object "ThirtyThreeBelow"
  | 1 => .int
  | 2 => .object "ThirtyThreeBelow$Term"
  | 3 => .object "ThirtyThreeBelow$Term"
  | _ => .object "ThirtyThreeBelow"
abbrev wsX180 : List Cond := u_ws RX18 TX18 5
-- two fields of one name: no nmX18
theorem tyX18_ok : ∀ k, k < 5 → parseFieldDescriptor (TX18 k).2.2.1 = some (tyX18 k) := by decide +kernel
abbrev cX18_init : ByteArray := prog_4_method_1_code
def yX18_init : MethodName := ⟨RX18, "<init>", "(LThirtyThreeBelow;ILThirtyThreeBelow$Term;LThirtyThreeBelow$Term;)V"⟩
def dkwX18_init_1 : List UInt8 := [181, 0, 21, 177]
abbrev dktX18_init_1 : List UInt8 := dkwX18_init_1 ++ []
def dkwX18_init_0 : List UInt8 := [42, 43, 181, 0, 1, 42, 43, 183, 0, 7, 42, 28, 181, 0, 13, 42, 45, 181, 0, 17, 42, 25, 4]
abbrev dktX18_init_0 : List UInt8 := dkwX18_init_0 ++ dktX18_init_1
theorem dksX18_init_0 : cX18_init.data.toList.drop 0 = dktX18_init_0 := by decide +kernel
theorem dksX18_init_1 : cX18_init.data.toList.drop 23 = dktX18_init_1 := dk_seg dksX18_init_0 23 rfl rfl
theorem dX18_init_0 : decode cX18_init 0 = .ok (.aload_n 0, 1) := dk_42 (dk_at dksX18_init_0 0 rfl rfl)
theorem dX18_init_1 : decode cX18_init 1 = .ok (.aload_n 1, 1) := dk_43 (dk_at dksX18_init_0 1 rfl rfl)
theorem dX18_init_2 : decode cX18_init 2 = .ok (.putfield 1, 3) := dk_181 0 1 (dk_at dksX18_init_0 2 rfl rfl)
theorem dX18_init_5 : decode cX18_init 5 = .ok (.aload_n 0, 1) := dk_42 (dk_at dksX18_init_0 5 rfl rfl)
theorem dX18_init_6 : decode cX18_init 6 = .ok (.aload_n 1, 1) := dk_43 (dk_at dksX18_init_0 6 rfl rfl)
theorem dX18_init_7 : decode cX18_init 7 = .ok (.invokespecial 7, 3) := dk_183 0 7 (dk_at dksX18_init_0 7 rfl rfl)
theorem dX18_init_10 : decode cX18_init 10 = .ok (.aload_n 0, 1) := dk_42 (dk_at dksX18_init_0 10 rfl rfl)
theorem dX18_init_11 : decode cX18_init 11 = .ok (.iload_n 2, 1) := dk_28 (dk_at dksX18_init_0 11 rfl rfl)
theorem dX18_init_12 : decode cX18_init 12 = .ok (.putfield 13, 3) := dk_181 0 13 (dk_at dksX18_init_0 12 rfl rfl)
theorem dX18_init_15 : decode cX18_init 15 = .ok (.aload_n 0, 1) := dk_42 (dk_at dksX18_init_0 15 rfl rfl)
theorem dX18_init_16 : decode cX18_init 16 = .ok (.aload_n 3, 1) := dk_45 (dk_at dksX18_init_0 16 rfl rfl)
theorem dX18_init_17 : decode cX18_init 17 = .ok (.putfield 17, 3) := dk_181 0 17 (dk_at dksX18_init_0 17 rfl rfl)
theorem dX18_init_20 : decode cX18_init 20 = .ok (.aload_n 0, 1) := dk_42 (dk_at dksX18_init_0 20 rfl rfl)
theorem dX18_init_21 : decode cX18_init 21 = .ok (.aload 4, 2) := dk_25 4 (dk_at dksX18_init_0 21 rfl rfl)
theorem dX18_init_23 : decode cX18_init 23 = .ok (.putfield 21, 3) := dk_181 0 21 (dk_at dksX18_init_1 0 rfl rfl)
theorem dX18_init_26 : decode cX18_init 26 = .ok (.return_, 1) := dk_177 (dk_at dksX18_init_1 3 rfl rfl)
abbrev cX18_value : ByteArray := prog_4_method_2_code
def yX18_value : MethodName := ⟨RX18, "value", "()I"⟩
def dkwX18_value_6 : List UInt8 := [167, 0, 4, 3, 172]
abbrev dktX18_value_6 : List UInt8 := dkwX18_value_6 ++ []
def dkwX18_value_5 : List UInt8 := [153, 0, 11, 28, 153, 0, 7, 4, 167, 0, 4, 3, 172, 27, 154, 0, 7, 28, 153, 0, 7, 4]
abbrev dktX18_value_5 : List UInt8 := dkwX18_value_5 ++ dktX18_value_6
def dkwX18_value_4 : List UInt8 := [28, 160, 0, 7, 4, 167, 0, 4, 3, 172, 27, 28, 164, 0, 7, 4, 167, 0, 4, 3, 172, 27]
abbrev dktX18_value_4 : List UInt8 := dkwX18_value_4 ++ dktX18_value_5
def dkwX18_value_3 : List UInt8 := [28, 154, 0, 7, 3, 167, 0, 6, 27, 28, 112, 172, 27, 28, 162, 0, 7, 4, 167, 0, 4, 3, 172, 27]
abbrev dktX18_value_3 : List UInt8 := dkwX18_value_3 ++ dktX18_value_4
def dkwX18_value_2 : List UInt8 := [27, 28, 96, 172, 27, 28, 100, 172, 27, 28, 104, 172, 28, 154, 0, 7, 3, 167, 0, 6, 27, 28, 108, 172]
abbrev dktX18_value_2 : List UInt8 := dkwX18_value_2 ++ dktX18_value_3
def dkwX18_value_1 : List UInt8 := [170, 0, 0, 0, 0, 0, 0, 203, 0, 0, 0, 37, 0, 0, 0, 62, 0, 0, 0, 144, 0, 0, 0, 189, 0, 0, 0, 203, 0, 0, 0, 203, 0, 0, 0, 203, 0, 0, 0, 128, 0, 0, 0, 120, 0, 0, 0, 203, 0, 0, 0, 124, 0, 0, 0, 203, 0, 0, 0, 132, 0, 0, 0, 203, 0, 0, 0, 203, 0, 0, 0, 203, 0, 0, 0, 203, 0, 0, 0, 203, 0, 0, 0, 203, 0, 0, 0, 203, 0, 0, 0, 203, 0, 0, 0, 203, 0, 0, 0, 203, 0, 0, 0, 203, 0, 0, 0, 203, 0, 0, 0, 156, 0, 0, 0, 167, 0, 0, 0, 178]
abbrev dktX18_value_1 : List UInt8 := dkwX18_value_1 ++ dktX18_value_2
def dkwX18_value_0 : List UInt8 := [42, 180, 0, 17, 182, 0, 24, 60, 42, 180, 0, 21, 182, 0, 24, 61, 42, 180, 0, 13]
abbrev dktX18_value_0 : List UInt8 := dkwX18_value_0 ++ dktX18_value_1
theorem dksX18_value_0 : cX18_value.data.toList.drop 0 = dktX18_value_0 := by decide +kernel
theorem dksX18_value_1 : cX18_value.data.toList.drop 20 = dktX18_value_1 := dk_seg dksX18_value_0 20 rfl rfl
theorem dksX18_value_2 : cX18_value.data.toList.drop 140 = dktX18_value_2 := dk_seg dksX18_value_1 120 rfl rfl
theorem dksX18_value_3 : cX18_value.data.toList.drop 164 = dktX18_value_3 := dk_seg dksX18_value_2 24 rfl rfl
theorem dksX18_value_4 : cX18_value.data.toList.drop 188 = dktX18_value_4 := dk_seg dksX18_value_3 24 rfl rfl
theorem dksX18_value_5 : cX18_value.data.toList.drop 210 = dktX18_value_5 := dk_seg dksX18_value_4 22 rfl rfl
theorem dksX18_value_6 : cX18_value.data.toList.drop 232 = dktX18_value_6 := dk_seg dksX18_value_5 22 rfl rfl
theorem dX18_value_0 : decode cX18_value 0 = .ok (.aload_n 0, 1) := dk_42 (dk_at dksX18_value_0 0 rfl rfl)
theorem dX18_value_1 : decode cX18_value 1 = .ok (.getfield 17, 3) := dk_180 0 17 (dk_at dksX18_value_0 1 rfl rfl)
theorem dX18_value_4 : decode cX18_value 4 = .ok (.invokevirtual 24, 3) := dk_182 0 24 (dk_at dksX18_value_0 4 rfl rfl)
theorem dX18_value_7 : decode cX18_value 7 = .ok (.istore_n 1, 1) := dk_60 (dk_at dksX18_value_0 7 rfl rfl)
theorem dX18_value_8 : decode cX18_value 8 = .ok (.aload_n 0, 1) := dk_42 (dk_at dksX18_value_0 8 rfl rfl)
theorem dX18_value_9 : decode cX18_value 9 = .ok (.getfield 21, 3) := dk_180 0 21 (dk_at dksX18_value_0 9 rfl rfl)
theorem dX18_value_12 : decode cX18_value 12 = .ok (.invokevirtual 24, 3) := dk_182 0 24 (dk_at dksX18_value_0 12 rfl rfl)
theorem dX18_value_15 : decode cX18_value 15 = .ok (.istore_n 2, 1) := dk_61 (dk_at dksX18_value_0 15 rfl rfl)
theorem dX18_value_16 : decode cX18_value 16 = .ok (.aload_n 0, 1) := dk_42 (dk_at dksX18_value_0 16 rfl rfl)
theorem dX18_value_17 : decode cX18_value 17 = .ok (.getfield 13, 3) := dk_180 0 13 (dk_at dksX18_value_0 17 rfl rfl)
theorem dX18_value_20 : decode cX18_value 20 = .ok (.tableswitch 203 37 62 #[144, 189, 203, 203, 203, 128, 120, 203, 124, 203, 132, 203, 203, 203, 203, 203, 203, 203, 203, 203, 203, 203, 203, 156, 167, 178], 120) := by decide +kernel
theorem dX18_value_140 : decode cX18_value 140 = .ok (.iload_n 1, 1) := dk_27 (dk_at dksX18_value_2 0 rfl rfl)
theorem dX18_value_141 : decode cX18_value 141 = .ok (.iload_n 2, 1) := dk_28 (dk_at dksX18_value_2 1 rfl rfl)
theorem dX18_value_142 : decode cX18_value 142 = .ok (.iadd, 1) := dk_96 (dk_at dksX18_value_2 2 rfl rfl)
theorem dX18_value_143 : decode cX18_value 143 = .ok (.ireturn, 1) := dk_172 (dk_at dksX18_value_2 3 rfl rfl)
theorem dX18_value_144 : decode cX18_value 144 = .ok (.iload_n 1, 1) := dk_27 (dk_at dksX18_value_2 4 rfl rfl)
theorem dX18_value_145 : decode cX18_value 145 = .ok (.iload_n 2, 1) := dk_28 (dk_at dksX18_value_2 5 rfl rfl)
theorem dX18_value_146 : decode cX18_value 146 = .ok (.isub, 1) := dk_100 (dk_at dksX18_value_2 6 rfl rfl)
theorem dX18_value_147 : decode cX18_value 147 = .ok (.ireturn, 1) := dk_172 (dk_at dksX18_value_2 7 rfl rfl)
theorem dX18_value_148 : decode cX18_value 148 = .ok (.iload_n 1, 1) := dk_27 (dk_at dksX18_value_2 8 rfl rfl)
theorem dX18_value_149 : decode cX18_value 149 = .ok (.iload_n 2, 1) := dk_28 (dk_at dksX18_value_2 9 rfl rfl)
theorem dX18_value_150 : decode cX18_value 150 = .ok (.imul, 1) := dk_104 (dk_at dksX18_value_2 10 rfl rfl)
theorem dX18_value_151 : decode cX18_value 151 = .ok (.ireturn, 1) := dk_172 (dk_at dksX18_value_2 11 rfl rfl)
theorem dX18_value_152 : decode cX18_value 152 = .ok (.iload_n 2, 1) := dk_28 (dk_at dksX18_value_2 12 rfl rfl)
theorem dX18_value_153 : decode cX18_value 153 = .ok (.ifCond .ne 7, 3) := dk_154 0 7 (dk_at dksX18_value_2 13 rfl rfl)
theorem dX18_value_156 : decode cX18_value 156 = .ok (.iconst 0, 1) := dk_3 (dk_at dksX18_value_2 16 rfl rfl)
theorem dX18_value_157 : decode cX18_value 157 = .ok (.goto 6, 3) := dk_167 0 6 (dk_at dksX18_value_2 17 rfl rfl)
theorem dX18_value_160 : decode cX18_value 160 = .ok (.iload_n 1, 1) := dk_27 (dk_at dksX18_value_2 20 rfl rfl)
theorem dX18_value_161 : decode cX18_value 161 = .ok (.iload_n 2, 1) := dk_28 (dk_at dksX18_value_2 21 rfl rfl)
theorem dX18_value_162 : decode cX18_value 162 = .ok (.idiv, 1) := dk_108 (dk_at dksX18_value_2 22 rfl rfl)
theorem dX18_value_163 : decode cX18_value 163 = .ok (.ireturn, 1) := dk_172 (dk_at dksX18_value_2 23 rfl rfl)
theorem dX18_value_164 : decode cX18_value 164 = .ok (.iload_n 2, 1) := dk_28 (dk_at dksX18_value_3 0 rfl rfl)
theorem dX18_value_165 : decode cX18_value 165 = .ok (.ifCond .ne 7, 3) := dk_154 0 7 (dk_at dksX18_value_3 1 rfl rfl)
theorem dX18_value_168 : decode cX18_value 168 = .ok (.iconst 0, 1) := dk_3 (dk_at dksX18_value_3 4 rfl rfl)
theorem dX18_value_169 : decode cX18_value 169 = .ok (.goto 6, 3) := dk_167 0 6 (dk_at dksX18_value_3 5 rfl rfl)
theorem dX18_value_172 : decode cX18_value 172 = .ok (.iload_n 1, 1) := dk_27 (dk_at dksX18_value_3 8 rfl rfl)
theorem dX18_value_173 : decode cX18_value 173 = .ok (.iload_n 2, 1) := dk_28 (dk_at dksX18_value_3 9 rfl rfl)
theorem dX18_value_174 : decode cX18_value 174 = .ok (.irem, 1) := dk_112 (dk_at dksX18_value_3 10 rfl rfl)
theorem dX18_value_175 : decode cX18_value 175 = .ok (.ireturn, 1) := dk_172 (dk_at dksX18_value_3 11 rfl rfl)
theorem dX18_value_176 : decode cX18_value 176 = .ok (.iload_n 1, 1) := dk_27 (dk_at dksX18_value_3 12 rfl rfl)
theorem dX18_value_177 : decode cX18_value 177 = .ok (.iload_n 2, 1) := dk_28 (dk_at dksX18_value_3 13 rfl rfl)
theorem dX18_value_178 : decode cX18_value 178 = .ok (.if_icmp .ge 7, 3) := dk_162 0 7 (dk_at dksX18_value_3 14 rfl rfl)
theorem dX18_value_181 : decode cX18_value 181 = .ok (.iconst 1, 1) := dk_4 (dk_at dksX18_value_3 17 rfl rfl)
theorem dX18_value_182 : decode cX18_value 182 = .ok (.goto 4, 3) := dk_167 0 4 (dk_at dksX18_value_3 18 rfl rfl)
theorem dX18_value_185 : decode cX18_value 185 = .ok (.iconst 0, 1) := dk_3 (dk_at dksX18_value_3 21 rfl rfl)
theorem dX18_value_186 : decode cX18_value 186 = .ok (.ireturn, 1) := dk_172 (dk_at dksX18_value_3 22 rfl rfl)
theorem dX18_value_187 : decode cX18_value 187 = .ok (.iload_n 1, 1) := dk_27 (dk_at dksX18_value_3 23 rfl rfl)
theorem dX18_value_188 : decode cX18_value 188 = .ok (.iload_n 2, 1) := dk_28 (dk_at dksX18_value_4 0 rfl rfl)
theorem dX18_value_189 : decode cX18_value 189 = .ok (.if_icmp .ne 7, 3) := dk_160 0 7 (dk_at dksX18_value_4 1 rfl rfl)
theorem dX18_value_192 : decode cX18_value 192 = .ok (.iconst 1, 1) := dk_4 (dk_at dksX18_value_4 4 rfl rfl)
theorem dX18_value_193 : decode cX18_value 193 = .ok (.goto 4, 3) := dk_167 0 4 (dk_at dksX18_value_4 5 rfl rfl)
theorem dX18_value_196 : decode cX18_value 196 = .ok (.iconst 0, 1) := dk_3 (dk_at dksX18_value_4 8 rfl rfl)
theorem dX18_value_197 : decode cX18_value 197 = .ok (.ireturn, 1) := dk_172 (dk_at dksX18_value_4 9 rfl rfl)
theorem dX18_value_198 : decode cX18_value 198 = .ok (.iload_n 1, 1) := dk_27 (dk_at dksX18_value_4 10 rfl rfl)
theorem dX18_value_199 : decode cX18_value 199 = .ok (.iload_n 2, 1) := dk_28 (dk_at dksX18_value_4 11 rfl rfl)
theorem dX18_value_200 : decode cX18_value 200 = .ok (.if_icmp .le 7, 3) := dk_164 0 7 (dk_at dksX18_value_4 12 rfl rfl)
theorem dX18_value_203 : decode cX18_value 203 = .ok (.iconst 1, 1) := dk_4 (dk_at dksX18_value_4 15 rfl rfl)
theorem dX18_value_204 : decode cX18_value 204 = .ok (.goto 4, 3) := dk_167 0 4 (dk_at dksX18_value_4 16 rfl rfl)
theorem dX18_value_207 : decode cX18_value 207 = .ok (.iconst 0, 1) := dk_3 (dk_at dksX18_value_4 19 rfl rfl)
theorem dX18_value_208 : decode cX18_value 208 = .ok (.ireturn, 1) := dk_172 (dk_at dksX18_value_4 20 rfl rfl)
theorem dX18_value_209 : decode cX18_value 209 = .ok (.iload_n 1, 1) := dk_27 (dk_at dksX18_value_4 21 rfl rfl)
theorem dX18_value_210 : decode cX18_value 210 = .ok (.ifCond .eq 11, 3) := dk_153 0 11 (dk_at dksX18_value_5 0 rfl rfl)
theorem dX18_value_213 : decode cX18_value 213 = .ok (.iload_n 2, 1) := dk_28 (dk_at dksX18_value_5 3 rfl rfl)
theorem dX18_value_214 : decode cX18_value 214 = .ok (.ifCond .eq 7, 3) := dk_153 0 7 (dk_at dksX18_value_5 4 rfl rfl)
theorem dX18_value_217 : decode cX18_value 217 = .ok (.iconst 1, 1) := dk_4 (dk_at dksX18_value_5 7 rfl rfl)
theorem dX18_value_218 : decode cX18_value 218 = .ok (.goto 4, 3) := dk_167 0 4 (dk_at dksX18_value_5 8 rfl rfl)
theorem dX18_value_221 : decode cX18_value 221 = .ok (.iconst 0, 1) := dk_3 (dk_at dksX18_value_5 11 rfl rfl)
theorem dX18_value_222 : decode cX18_value 222 = .ok (.ireturn, 1) := dk_172 (dk_at dksX18_value_5 12 rfl rfl)
theorem dX18_value_223 : decode cX18_value 223 = .ok (.iload_n 1, 1) := dk_27 (dk_at dksX18_value_5 13 rfl rfl)
theorem dX18_value_224 : decode cX18_value 224 = .ok (.ifCond .ne 7, 3) := dk_154 0 7 (dk_at dksX18_value_5 14 rfl rfl)
theorem dX18_value_227 : decode cX18_value 227 = .ok (.iload_n 2, 1) := dk_28 (dk_at dksX18_value_5 17 rfl rfl)
theorem dX18_value_228 : decode cX18_value 228 = .ok (.ifCond .eq 7, 3) := dk_153 0 7 (dk_at dksX18_value_5 18 rfl rfl)
theorem dX18_value_231 : decode cX18_value 231 = .ok (.iconst 1, 1) := dk_4 (dk_at dksX18_value_5 21 rfl rfl)
theorem dX18_value_232 : decode cX18_value 232 = .ok (.goto 4, 3) := dk_167 0 4 (dk_at dksX18_value_6 0 rfl rfl)
theorem dX18_value_235 : decode cX18_value 235 = .ok (.iconst 0, 1) := dk_3 (dk_at dksX18_value_6 3 rfl rfl)
theorem dX18_value_236 : decode cX18_value 236 = .ok (.ireturn, 1) := dk_172 (dk_at dksX18_value_6 4 rfl rfl)
theorem q111 : (Jvm.Cond.initialized "ThirtyThreeBelow$Both") ∈ lw_all := lw_g (lw_at lw_m1 28 rfl) rfl
theorem q1102 : (Jvm.Cond.instantiable "ThirtyThreeBelow$Both" (5 : Nat)) ∈ lw_all := lw_g (lw_at lw_m5 59 rfl) rfl
theorem q1104 : (Jvm.Cond.instanceMethod ({ cls := "ThirtyThreeBelow$Both", name := "<init>", desc := "(LThirtyThreeBelow;ILThirtyThreeBelow$Term;LThirtyThreeBelow$Term;)V" } : Jvm.MethodName)) ∈ lw_all := lw_g (lw_at lw_m5 61 rfl) rfl
theorem q1105 : (Jvm.Cond.code ({ cls := "ThirtyThreeBelow$Both", name := "<init>", desc := "(LThirtyThreeBelow;ILThirtyThreeBelow$Term;LThirtyThreeBelow$Term;)V" } : Jvm.MethodName) prog_4_method_1_code (5 : Nat) (Option.none : Option Jvm.ClassFile.FieldType)) ∈ lw_all := lw_g (lw_at lw_m5 62 rfl) rfl
theorem q1106 : (Jvm.Cond.methodLinkNest "ThirtyThreeBelow$Both" (7 : Nat) ({ cls := "ThirtyThreeBelow$Term", name := "<init>", desc := "(LThirtyThreeBelow;)V" } : Jvm.MethodName) "ThirtyThreeBelow") ∈ lw_tbl := lw_at lw_m5 63 rfl
theorem q1107 : (Jvm.Cond.fieldLink "ThirtyThreeBelow$Both" (13 : Nat) "ThirtyThreeBelow$Both" "sign" "I") ∈ lw_all := lw_g (lw_at lw_m5 64 rfl) rfl
theorem q1108 : (Jvm.Cond.fieldLink "ThirtyThreeBelow$Both" (17 : Nat) "ThirtyThreeBelow$Both" "left" "LThirtyThreeBelow$Term;") ∈ lw_all := lw_g (lw_at lw_m5 65 rfl) rfl
theorem q1109 : (Jvm.Cond.fieldLink "ThirtyThreeBelow$Both" (21 : Nat) "ThirtyThreeBelow$Both" "right" "LThirtyThreeBelow$Term;") ∈ lw_all := lw_g (lw_at lw_m5 66 rfl) rfl
theorem q1110 : (Jvm.Cond.fieldLink "ThirtyThreeBelow$Both" (1 : Nat) "ThirtyThreeBelow$Both" "this$0" "LThirtyThreeBelow;") ∈ lw_all := lw_g (lw_at lw_m5 67 rfl) rfl
theorem q1111 : (Jvm.Cond.laysFinal "ThirtyThreeBelow$Both" "ThirtyThreeBelow$Both" "sign" "I") ∈ lw_all := lw_g (lw_at lw_m5 68 rfl) rfl
theorem q1112 : (Jvm.Cond.soleField "ThirtyThreeBelow$Both" "sign") ∈ lw_all := lw_g (lw_at lw_m5 69 rfl) rfl
theorem q1113 : (Jvm.Cond.laysFinal "ThirtyThreeBelow$Both" "ThirtyThreeBelow$Both" "left" "LThirtyThreeBelow$Term;") ∈ lw_all := lw_g (lw_at lw_m5 70 rfl) rfl
theorem q1114 : (Jvm.Cond.soleField "ThirtyThreeBelow$Both" "left") ∈ lw_all := lw_g (lw_at lw_m5 71 rfl) rfl
theorem q1115 : (Jvm.Cond.laysFinal "ThirtyThreeBelow$Both" "ThirtyThreeBelow$Both" "right" "LThirtyThreeBelow$Term;") ∈ lw_all := lw_g (lw_at lw_m5 72 rfl) rfl
theorem q1116 : (Jvm.Cond.soleField "ThirtyThreeBelow$Both" "right") ∈ lw_all := lw_g (lw_at lw_m5 73 rfl) rfl
theorem q1117 : (Jvm.Cond.laysFinal "ThirtyThreeBelow$Both" "ThirtyThreeBelow$Both" "this$0" "LThirtyThreeBelow;") ∈ lw_all := lw_g (lw_at lw_m5 74 rfl) rfl
theorem q1118 : (Jvm.Cond.soleField "ThirtyThreeBelow$Both" "this$0") ∈ lw_all := lw_g (lw_at lw_m5 75 rfl) rfl
theorem q1119 : (Jvm.Cond.laysFinal "ThirtyThreeBelow$Both" "ThirtyThreeBelow$Term" "this$0" "LThirtyThreeBelow;") ∈ lw_all := lw_g (lw_at lw_m5 76 rfl) rfl
theorem q1120 : (Jvm.Cond.superclass "ThirtyThreeBelow$Both" "ThirtyThreeBelow$Term") ∈ lw_all := lw_g (lw_at lw_m5 77 rfl) rfl
theorem q1160 : (Jvm.Cond.selects "ThirtyThreeBelow$Both" ({ cls := "ThirtyThreeBelow$Term", name := "value", desc := "()I" } : Jvm.MethodName) ({ cls := "ThirtyThreeBelow$Both", name := "value", desc := "()I" } : Jvm.MethodName)) ∈ lw_all := lw_g (lw_at lw_m5 117 rfl) rfl
theorem q1161 : (Jvm.Cond.instanceMethod ({ cls := "ThirtyThreeBelow$Both", name := "value", desc := "()I" } : Jvm.MethodName)) ∈ lw_all := lw_g (lw_at lw_m5 118 rfl) rfl
theorem q1162 : (Jvm.Cond.code ({ cls := "ThirtyThreeBelow$Both", name := "value", desc := "()I" } : Jvm.MethodName) prog_4_method_2_code (3 : Nat) (Option.some Jvm.ClassFile.FieldType.int)) ∈ lw_all := lw_g (lw_at lw_m5 119 rfl) rfl
theorem q1163 : (Jvm.Cond.methodLink "ThirtyThreeBelow$Both" (24 : Nat) ({ cls := "ThirtyThreeBelow$Term", name := "value", desc := "()I" } : Jvm.MethodName)) ∈ lw_all := lw_g (lw_at lw_m5 120 rfl) rfl
theorem q2467 : (Jvm.Cond.castable "ThirtyThreeBelow$Both" "java/lang/Object") ∈ lw_tbl := lw_at lw_m10 224 rfl
theorem q2474 : (Jvm.Cond.castable "ThirtyThreeBelow$Both" "ThirtyThreeBelow$Term") ∈ lw_tbl := lw_at lw_m10 231 rfl
theorem in_X18 : ∀ w ∈ wsX180, w ∈ lw_all := lw_in wsX180 [1119, 1111, 1113, 1115, 1117] (by decide +kernel) (by decide +kernel)
/-! ThirtyThreeBelow$Bores -/
set_option maxRecDepth 100000
def RX19 : String := "ThirtyThreeBelow$Bores"
abbrev cX19_bores : ByteArray := prog_3_method_3_code
def yX19_bores : MethodName := ⟨RX19, "bores", "(I)I"⟩
def dkwX19_bores_0 : List UInt8 := [42, 4, 185, 0, 1, 2, 0, 27, 42, 185, 0, 7, 1, 0, 96, 172]
abbrev dktX19_bores_0 : List UInt8 := dkwX19_bores_0 ++ []
theorem dksX19_bores_0 : cX19_bores.data.toList.drop 0 = dktX19_bores_0 := by decide +kernel
theorem dX19_bores_0 : decode cX19_bores 0 = .ok (.aload_n 0, 1) := dk_42 (dk_at dksX19_bores_0 0 rfl rfl)
theorem dX19_bores_1 : decode cX19_bores 1 = .ok (.iconst 1, 1) := dk_4 (dk_at dksX19_bores_0 1 rfl rfl)
theorem dX19_bores_2 : decode cX19_bores 2 = .ok (.invokeinterface 1 2, 5) := by decide +kernel
theorem dX19_bores_7 : decode cX19_bores 7 = .ok (.iload_n 1, 1) := dk_27 (dk_at dksX19_bores_0 7 rfl rfl)
theorem dX19_bores_8 : decode cX19_bores 8 = .ok (.aload_n 0, 1) := dk_42 (dk_at dksX19_bores_0 8 rfl rfl)
theorem dX19_bores_9 : decode cX19_bores 9 = .ok (.invokeinterface 7 1, 5) := by decide +kernel
theorem dX19_bores_14 : decode cX19_bores 14 = .ok (.iadd, 1) := dk_96 (dk_at dksX19_bores_0 14 rfl rfl)
theorem dX19_bores_15 : decode cX19_bores 15 = .ok (.ireturn, 1) := dk_172 (dk_at dksX19_bores_0 15 rfl rfl)
theorem q1314 : (Jvm.Cond.declares ({ cls := "ThirtyThreeBelow$Bores", name := "bores", desc := "(I)I" } : Jvm.MethodName)) ∈ lw_tbl := lw_at lw_m6 31 rfl
theorem q1330 : (Jvm.Cond.instanceMethod ({ cls := "ThirtyThreeBelow$Bores", name := "bores", desc := "(I)I" } : Jvm.MethodName)) ∈ lw_all := lw_g (lw_at lw_m6 47 rfl) rfl
theorem q1331 : (Jvm.Cond.code ({ cls := "ThirtyThreeBelow$Bores", name := "bores", desc := "(I)I" } : Jvm.MethodName) prog_3_method_3_code (2 : Nat) (Option.some Jvm.ClassFile.FieldType.int)) ∈ lw_all := lw_g (lw_at lw_m6 48 rfl) rfl
theorem q1332 : (Jvm.Cond.interfaceEntry "ThirtyThreeBelow$Bores" (1 : Nat)) ∈ lw_tbl := lw_at lw_m6 49 rfl
theorem q1333 : (Jvm.Cond.methodLink "ThirtyThreeBelow$Bores" (1 : Nat) ({ cls := "ThirtyThreeBelow$Bores", name := "begins", desc := "(I)V" } : Jvm.MethodName)) ∈ lw_all := lw_g (lw_at lw_m6 50 rfl) rfl
theorem q1334 : (Jvm.Cond.interfaceMethod "ThirtyThreeBelow$Bores" "ThirtyThreeBelow$Bores" "begins" "(I)V") ∈ lw_tbl := lw_at lw_m6 51 rfl
theorem q1335 : (Jvm.Cond.declares ({ cls := "ThirtyThreeBelow$Bores", name := "begins", desc := "(I)V" } : Jvm.MethodName)) ∈ lw_tbl := lw_at lw_m6 52 rfl
theorem q1361 : (Jvm.Cond.interfaceEntry "ThirtyThreeBelow$Bores" (7 : Nat)) ∈ lw_tbl := lw_at lw_m6 78 rfl
theorem q1362 : (Jvm.Cond.methodLink "ThirtyThreeBelow$Bores" (7 : Nat) ({ cls := "ThirtyThreeBelow$Bores", name := "number", desc := "()I" } : Jvm.MethodName)) ∈ lw_all := lw_g (lw_at lw_m6 79 rfl) rfl
theorem q1363 : (Jvm.Cond.interfaceMethod "ThirtyThreeBelow$Bores" "ThirtyThreeBelow$Bores" "number" "()I") ∈ lw_tbl := lw_at lw_m6 80 rfl
theorem q1364 : (Jvm.Cond.declares ({ cls := "ThirtyThreeBelow$Bores", name := "number", desc := "()I" } : Jvm.MethodName)) ∈ lw_tbl := lw_at lw_m6 81 rfl
theorem q1405 : (Jvm.Cond.publicMethod ({ cls := "ThirtyThreeBelow$Bores", name := "bores", desc := "(I)I" } : Jvm.MethodName)) ∈ lw_tbl := lw_at lw_m6 122 rfl
theorem q2437 : (Jvm.Cond.initialized "ThirtyThreeBelow$Bores") ∈ lw_all := lw_g (lw_at lw_m10 194 rfl) rfl
/-! ThirtyThreeBelow$Reader -/
set_option maxRecDepth 100000
def RX2 : String := "ThirtyThreeBelow$Reader"
def TX2 : u_T := fun k => match k with
  | 0 => ("ThirtyThreeBelow$Reader", "fault", "LThirtyThreeBelow$Fault;", true)
  | 1 => ("ThirtyThreeBelow$Reader", "at", "I", false)
  | 2 => ("ThirtyThreeBelow$Reader", "open", "I", false)
  | _ => ("ThirtyThreeBelow$Reader", "this$0", "LThirtyThreeBelow;", true)
def tyX2 : Nat → FieldType := fun k => match k with
  | 0 => .object "ThirtyThreeBelow$Fault"
  | 1 => .int
  | 2 => .int
  | _ => .object "ThirtyThreeBelow"
abbrev wsX20 : List Cond := u_ws RX2 TX2 4
theorem nmX2 : ∀ a, a < 4 → ∀ b, b < 4 → a ≠ b → (TX2 a).2.1 ≠ (TX2 b).2.1 := by decide +kernel
theorem tyX2_ok : ∀ k, k < 4 → parseFieldDescriptor (TX2 k).2.2.1 = some (tyX2 k) := by decide +kernel
abbrev cX2_init : ByteArray := prog_11_method_1_code
def yX2_init : MethodName := ⟨RX2, "<init>", "(LThirtyThreeBelow;)V"⟩
def dkwX2_init_0 : List UInt8 := [42, 43, 181, 0, 3, 42, 183, 0, 9, 42, 187, 0, 15, 89, 183, 0, 17, 181, 0, 18, 177]
abbrev dktX2_init_0 : List UInt8 := dkwX2_init_0 ++ []
theorem dksX2_init_0 : cX2_init.data.toList.drop 0 = dktX2_init_0 := by decide +kernel
theorem dX2_init_0 : decode cX2_init 0 = .ok (.aload_n 0, 1) := dk_42 (dk_at dksX2_init_0 0 rfl rfl)
theorem dX2_init_1 : decode cX2_init 1 = .ok (.aload_n 1, 1) := dk_43 (dk_at dksX2_init_0 1 rfl rfl)
theorem dX2_init_2 : decode cX2_init 2 = .ok (.putfield 3, 3) := dk_181 0 3 (dk_at dksX2_init_0 2 rfl rfl)
theorem dX2_init_5 : decode cX2_init 5 = .ok (.aload_n 0, 1) := dk_42 (dk_at dksX2_init_0 5 rfl rfl)
theorem dX2_init_6 : decode cX2_init 6 = .ok (.invokespecial 9, 3) := dk_183 0 9 (dk_at dksX2_init_0 6 rfl rfl)
theorem dX2_init_9 : decode cX2_init 9 = .ok (.aload_n 0, 1) := dk_42 (dk_at dksX2_init_0 9 rfl rfl)
theorem dX2_init_10 : decode cX2_init 10 = .ok (.new 15, 3) := dk_187 0 15 (dk_at dksX2_init_0 10 rfl rfl)
theorem dX2_init_13 : decode cX2_init 13 = .ok (.dup, 1) := dk_89 (dk_at dksX2_init_0 13 rfl rfl)
theorem dX2_init_14 : decode cX2_init 14 = .ok (.invokespecial 17, 3) := dk_183 0 17 (dk_at dksX2_init_0 14 rfl rfl)
theorem dX2_init_17 : decode cX2_init 17 = .ok (.putfield 18, 3) := dk_181 0 18 (dk_at dksX2_init_0 17 rfl rfl)
theorem dX2_init_20 : decode cX2_init 20 = .ok (.return_, 1) := dk_177 (dk_at dksX2_init_0 20 rfl rfl)
abbrev cX2_read : ByteArray := prog_11_method_5_code
def yX2_read : MethodName := ⟨RX2, "read", "(LThirtyThreeBelow$Text;)I"⟩
def dkwX2_read_2 : List UInt8 := [191, 2, 172, 77, 42, 180, 0, 22, 172]
abbrev dktX2_read_2 : List UInt8 := dkwX2_read_2 ++ []
def dkwX2_read_1 : List UInt8 := [182, 0, 49, 154, 255, 245, 42, 180, 0, 22, 42, 180, 0, 3, 180, 0, 26, 162, 0, 8, 42, 180, 0, 18]
abbrev dktX2_read_1 : List UInt8 := dkwX2_read_1 ++ dktX2_read_2
def dkwX2_read_0 : List UInt8 := [42, 3, 181, 0, 22, 42, 3, 181, 0, 37, 43, 3, 181, 0, 40, 42, 43, 182, 0, 45, 42, 16, 59]
abbrev dktX2_read_0 : List UInt8 := dkwX2_read_0 ++ dktX2_read_1
theorem dksX2_read_0 : cX2_read.data.toList.drop 0 = dktX2_read_0 := by decide +kernel
theorem dksX2_read_1 : cX2_read.data.toList.drop 23 = dktX2_read_1 := dk_seg dksX2_read_0 23 rfl rfl
theorem dksX2_read_2 : cX2_read.data.toList.drop 47 = dktX2_read_2 := dk_seg dksX2_read_1 24 rfl rfl
theorem dX2_read_0 : decode cX2_read 0 = .ok (.aload_n 0, 1) := dk_42 (dk_at dksX2_read_0 0 rfl rfl)
theorem dX2_read_1 : decode cX2_read 1 = .ok (.iconst 0, 1) := dk_3 (dk_at dksX2_read_0 1 rfl rfl)
theorem dX2_read_2 : decode cX2_read 2 = .ok (.putfield 22, 3) := dk_181 0 22 (dk_at dksX2_read_0 2 rfl rfl)
theorem dX2_read_5 : decode cX2_read 5 = .ok (.aload_n 0, 1) := dk_42 (dk_at dksX2_read_0 5 rfl rfl)
theorem dX2_read_6 : decode cX2_read 6 = .ok (.iconst 0, 1) := dk_3 (dk_at dksX2_read_0 6 rfl rfl)
theorem dX2_read_7 : decode cX2_read 7 = .ok (.putfield 37, 3) := dk_181 0 37 (dk_at dksX2_read_0 7 rfl rfl)
theorem dX2_read_10 : decode cX2_read 10 = .ok (.aload_n 1, 1) := dk_43 (dk_at dksX2_read_0 10 rfl rfl)
theorem dX2_read_11 : decode cX2_read 11 = .ok (.iconst 0, 1) := dk_3 (dk_at dksX2_read_0 11 rfl rfl)
theorem dX2_read_12 : decode cX2_read 12 = .ok (.putfield 40, 3) := dk_181 0 40 (dk_at dksX2_read_0 12 rfl rfl)
theorem dX2_read_15 : decode cX2_read 15 = .ok (.aload_n 0, 1) := dk_42 (dk_at dksX2_read_0 15 rfl rfl)
theorem dX2_read_16 : decode cX2_read 16 = .ok (.aload_n 1, 1) := dk_43 (dk_at dksX2_read_0 16 rfl rfl)
theorem dX2_read_17 : decode cX2_read 17 = .ok (.invokevirtual 45, 3) := dk_182 0 45 (dk_at dksX2_read_0 17 rfl rfl)
theorem dX2_read_20 : decode cX2_read 20 = .ok (.aload_n 0, 1) := dk_42 (dk_at dksX2_read_0 20 rfl rfl)
theorem dX2_read_21 : decode cX2_read 21 = .ok (.bipush 59, 2) := dk_16 59 (dk_at dksX2_read_0 21 rfl rfl)
theorem dX2_read_23 : decode cX2_read 23 = .ok (.invokevirtual 49, 3) := dk_182 0 49 (dk_at dksX2_read_1 0 rfl rfl)
theorem dX2_read_26 : decode cX2_read 26 = .ok (.ifCond .ne (-11), 3) := dk_154 255 245 (dk_at dksX2_read_1 3 rfl rfl)
theorem dX2_read_29 : decode cX2_read 29 = .ok (.aload_n 0, 1) := dk_42 (dk_at dksX2_read_1 6 rfl rfl)
theorem dX2_read_30 : decode cX2_read 30 = .ok (.getfield 22, 3) := dk_180 0 22 (dk_at dksX2_read_1 7 rfl rfl)
theorem dX2_read_33 : decode cX2_read 33 = .ok (.aload_n 0, 1) := dk_42 (dk_at dksX2_read_1 10 rfl rfl)
theorem dX2_read_34 : decode cX2_read 34 = .ok (.getfield 3, 3) := dk_180 0 3 (dk_at dksX2_read_1 11 rfl rfl)
theorem dX2_read_37 : decode cX2_read 37 = .ok (.getfield 26, 3) := dk_180 0 26 (dk_at dksX2_read_1 14 rfl rfl)
theorem dX2_read_40 : decode cX2_read 40 = .ok (.if_icmp .ge 8, 3) := dk_162 0 8 (dk_at dksX2_read_1 17 rfl rfl)
theorem dX2_read_43 : decode cX2_read 43 = .ok (.aload_n 0, 1) := dk_42 (dk_at dksX2_read_1 20 rfl rfl)
theorem dX2_read_44 : decode cX2_read 44 = .ok (.getfield 18, 3) := dk_180 0 18 (dk_at dksX2_read_1 21 rfl rfl)
theorem dX2_read_47 : decode cX2_read 47 = .ok (.athrow, 1) := dk_191 (dk_at dksX2_read_2 0 rfl rfl)
theorem dX2_read_48 : decode cX2_read 48 = .ok (.iconst (-1), 1) := dk_2 (dk_at dksX2_read_2 1 rfl rfl)
theorem dX2_read_49 : decode cX2_read 49 = .ok (.ireturn, 1) := dk_172 (dk_at dksX2_read_2 2 rfl rfl)
theorem dX2_read_50 : decode cX2_read 50 = .ok (.astore_n 2, 1) := dk_77 (dk_at dksX2_read_2 3 rfl rfl)
theorem dX2_read_51 : decode cX2_read 51 = .ok (.aload_n 0, 1) := dk_42 (dk_at dksX2_read_2 4 rfl rfl)
theorem dX2_read_52 : decode cX2_read 52 = .ok (.getfield 22, 3) := dk_180 0 22 (dk_at dksX2_read_2 5 rfl rfl)
theorem dX2_read_55 : decode cX2_read 55 = .ok (.ireturn, 1) := dk_172 (dk_at dksX2_read_2 8 rfl rfl)
abbrev cX2_line : ByteArray := prog_11_method_6_code
def yX2_line : MethodName := ⟨RX2, "line", "(LThirtyThreeBelow$Text;)V"⟩
def dkwX2_line_2 : List UInt8 := [182, 0, 53, 167, 0, 4, 45, 83, 43, 89, 180, 0, 40, 4, 96, 181, 0, 40, 177]
abbrev dktX2_line_2 : List UInt8 := dkwX2_line_2 ++ []
def dkwX2_line_1 : List UInt8 := [21, 4, 153, 0, 7, 45, 167, 0, 4, 1, 83, 43, 180, 0, 61, 28, 21, 4, 153, 0, 10, 42]
abbrev dktX2_line_1 : List UInt8 := dkwX2_line_1 ++ dktX2_line_2
def dkwX2_line_0 : List UInt8 := [43, 180, 0, 40, 61, 42, 182, 0, 53, 78, 42, 16, 63, 182, 0, 49, 54, 4, 43, 180, 0, 57, 28]
abbrev dktX2_line_0 : List UInt8 := dkwX2_line_0 ++ dktX2_line_1
theorem dksX2_line_0 : cX2_line.data.toList.drop 0 = dktX2_line_0 := by decide +kernel
theorem dksX2_line_1 : cX2_line.data.toList.drop 23 = dktX2_line_1 := dk_seg dksX2_line_0 23 rfl rfl
theorem dksX2_line_2 : cX2_line.data.toList.drop 45 = dktX2_line_2 := dk_seg dksX2_line_1 22 rfl rfl
theorem dX2_line_0 : decode cX2_line 0 = .ok (.aload_n 1, 1) := dk_43 (dk_at dksX2_line_0 0 rfl rfl)
theorem dX2_line_1 : decode cX2_line 1 = .ok (.getfield 40, 3) := dk_180 0 40 (dk_at dksX2_line_0 1 rfl rfl)
theorem dX2_line_4 : decode cX2_line 4 = .ok (.istore_n 2, 1) := dk_61 (dk_at dksX2_line_0 4 rfl rfl)
theorem dX2_line_5 : decode cX2_line 5 = .ok (.aload_n 0, 1) := dk_42 (dk_at dksX2_line_0 5 rfl rfl)
theorem dX2_line_6 : decode cX2_line 6 = .ok (.invokevirtual 53, 3) := dk_182 0 53 (dk_at dksX2_line_0 6 rfl rfl)
theorem dX2_line_9 : decode cX2_line 9 = .ok (.astore_n 3, 1) := dk_78 (dk_at dksX2_line_0 9 rfl rfl)
theorem dX2_line_10 : decode cX2_line 10 = .ok (.aload_n 0, 1) := dk_42 (dk_at dksX2_line_0 10 rfl rfl)
theorem dX2_line_11 : decode cX2_line 11 = .ok (.bipush 63, 2) := dk_16 63 (dk_at dksX2_line_0 11 rfl rfl)
theorem dX2_line_13 : decode cX2_line 13 = .ok (.invokevirtual 49, 3) := dk_182 0 49 (dk_at dksX2_line_0 13 rfl rfl)
theorem dX2_line_16 : decode cX2_line 16 = .ok (.istore 4, 2) := dk_54 4 (dk_at dksX2_line_0 16 rfl rfl)
theorem dX2_line_18 : decode cX2_line 18 = .ok (.aload_n 1, 1) := dk_43 (dk_at dksX2_line_0 18 rfl rfl)
theorem dX2_line_19 : decode cX2_line 19 = .ok (.getfield 57, 3) := dk_180 0 57 (dk_at dksX2_line_0 19 rfl rfl)
theorem dX2_line_22 : decode cX2_line 22 = .ok (.iload_n 2, 1) := dk_28 (dk_at dksX2_line_0 22 rfl rfl)
theorem dX2_line_23 : decode cX2_line 23 = .ok (.iload 4, 2) := dk_21 4 (dk_at dksX2_line_1 0 rfl rfl)
theorem dX2_line_25 : decode cX2_line 25 = .ok (.ifCond .eq 7, 3) := dk_153 0 7 (dk_at dksX2_line_1 2 rfl rfl)
theorem dX2_line_28 : decode cX2_line 28 = .ok (.aload_n 3, 1) := dk_45 (dk_at dksX2_line_1 5 rfl rfl)
theorem dX2_line_29 : decode cX2_line 29 = .ok (.goto 4, 3) := dk_167 0 4 (dk_at dksX2_line_1 6 rfl rfl)
theorem dX2_line_32 : decode cX2_line 32 = .ok (.aconst_null, 1) := dk_1 (dk_at dksX2_line_1 9 rfl rfl)
theorem dX2_line_33 : decode cX2_line 33 = .ok (.aastore, 1) := dk_83 (dk_at dksX2_line_1 10 rfl rfl)
theorem dX2_line_34 : decode cX2_line 34 = .ok (.aload_n 1, 1) := dk_43 (dk_at dksX2_line_1 11 rfl rfl)
theorem dX2_line_35 : decode cX2_line 35 = .ok (.getfield 61, 3) := dk_180 0 61 (dk_at dksX2_line_1 12 rfl rfl)
theorem dX2_line_38 : decode cX2_line 38 = .ok (.iload_n 2, 1) := dk_28 (dk_at dksX2_line_1 15 rfl rfl)
theorem dX2_line_39 : decode cX2_line 39 = .ok (.iload 4, 2) := dk_21 4 (dk_at dksX2_line_1 16 rfl rfl)
theorem dX2_line_41 : decode cX2_line 41 = .ok (.ifCond .eq 10, 3) := dk_153 0 10 (dk_at dksX2_line_1 18 rfl rfl)
theorem dX2_line_44 : decode cX2_line 44 = .ok (.aload_n 0, 1) := dk_42 (dk_at dksX2_line_1 21 rfl rfl)
theorem dX2_line_45 : decode cX2_line 45 = .ok (.invokevirtual 53, 3) := dk_182 0 53 (dk_at dksX2_line_2 0 rfl rfl)
theorem dX2_line_48 : decode cX2_line 48 = .ok (.goto 4, 3) := dk_167 0 4 (dk_at dksX2_line_2 3 rfl rfl)
theorem dX2_line_51 : decode cX2_line 51 = .ok (.aload_n 3, 1) := dk_45 (dk_at dksX2_line_2 6 rfl rfl)
theorem dX2_line_52 : decode cX2_line 52 = .ok (.aastore, 1) := dk_83 (dk_at dksX2_line_2 7 rfl rfl)
theorem dX2_line_53 : decode cX2_line 53 = .ok (.aload_n 1, 1) := dk_43 (dk_at dksX2_line_2 8 rfl rfl)
theorem dX2_line_54 : decode cX2_line 54 = .ok (.dup, 1) := dk_89 (dk_at dksX2_line_2 9 rfl rfl)
theorem dX2_line_55 : decode cX2_line 55 = .ok (.getfield 40, 3) := dk_180 0 40 (dk_at dksX2_line_2 10 rfl rfl)
theorem dX2_line_58 : decode cX2_line 58 = .ok (.iconst 1, 1) := dk_4 (dk_at dksX2_line_2 13 rfl rfl)
theorem dX2_line_59 : decode cX2_line 59 = .ok (.iadd, 1) := dk_96 (dk_at dksX2_line_2 14 rfl rfl)
theorem dX2_line_60 : decode cX2_line 60 = .ok (.putfield 40, 3) := dk_181 0 40 (dk_at dksX2_line_2 15 rfl rfl)
theorem dX2_line_63 : decode cX2_line 63 = .ok (.return_, 1) := dk_177 (dk_at dksX2_line_2 18 rfl rfl)
abbrev cX2_any : ByteArray := prog_11_method_7_code
def yX2_any : MethodName := ⟨RX2, "any", "()LThirtyThreeBelow$Term;"⟩
def dkwX2_any_1 : List UInt8 := [43, 42, 182, 0, 64, 183, 0, 69, 76, 167, 255, 228, 43, 176]
abbrev dktX2_any_1 : List UInt8 := dkwX2_any_1 ++ []
def dkwX2_any_0 : List UInt8 := [42, 182, 0, 64, 76, 42, 16, 124, 182, 0, 49, 153, 0, 25, 187, 0, 67, 89, 42, 180, 0, 3, 16, 124]
abbrev dktX2_any_0 : List UInt8 := dkwX2_any_0 ++ dktX2_any_1
theorem dksX2_any_0 : cX2_any.data.toList.drop 0 = dktX2_any_0 := by decide +kernel
theorem dksX2_any_1 : cX2_any.data.toList.drop 24 = dktX2_any_1 := dk_seg dksX2_any_0 24 rfl rfl
theorem dX2_any_0 : decode cX2_any 0 = .ok (.aload_n 0, 1) := dk_42 (dk_at dksX2_any_0 0 rfl rfl)
theorem dX2_any_1 : decode cX2_any 1 = .ok (.invokevirtual 64, 3) := dk_182 0 64 (dk_at dksX2_any_0 1 rfl rfl)
theorem dX2_any_4 : decode cX2_any 4 = .ok (.astore_n 1, 1) := dk_76 (dk_at dksX2_any_0 4 rfl rfl)
theorem dX2_any_5 : decode cX2_any 5 = .ok (.aload_n 0, 1) := dk_42 (dk_at dksX2_any_0 5 rfl rfl)
theorem dX2_any_6 : decode cX2_any 6 = .ok (.bipush 124, 2) := dk_16 124 (dk_at dksX2_any_0 6 rfl rfl)
theorem dX2_any_8 : decode cX2_any 8 = .ok (.invokevirtual 49, 3) := dk_182 0 49 (dk_at dksX2_any_0 8 rfl rfl)
theorem dX2_any_11 : decode cX2_any 11 = .ok (.ifCond .eq 25, 3) := dk_153 0 25 (dk_at dksX2_any_0 11 rfl rfl)
theorem dX2_any_14 : decode cX2_any 14 = .ok (.new 67, 3) := dk_187 0 67 (dk_at dksX2_any_0 14 rfl rfl)
theorem dX2_any_17 : decode cX2_any 17 = .ok (.dup, 1) := dk_89 (dk_at dksX2_any_0 17 rfl rfl)
theorem dX2_any_18 : decode cX2_any 18 = .ok (.aload_n 0, 1) := dk_42 (dk_at dksX2_any_0 18 rfl rfl)
theorem dX2_any_19 : decode cX2_any 19 = .ok (.getfield 3, 3) := dk_180 0 3 (dk_at dksX2_any_0 19 rfl rfl)
theorem dX2_any_22 : decode cX2_any 22 = .ok (.bipush 124, 2) := dk_16 124 (dk_at dksX2_any_0 22 rfl rfl)
theorem dX2_any_24 : decode cX2_any 24 = .ok (.aload_n 1, 1) := dk_43 (dk_at dksX2_any_1 0 rfl rfl)
theorem dX2_any_25 : decode cX2_any 25 = .ok (.aload_n 0, 1) := dk_42 (dk_at dksX2_any_1 1 rfl rfl)
theorem dX2_any_26 : decode cX2_any 26 = .ok (.invokevirtual 64, 3) := dk_182 0 64 (dk_at dksX2_any_1 2 rfl rfl)
theorem dX2_any_29 : decode cX2_any 29 = .ok (.invokespecial 69, 3) := dk_183 0 69 (dk_at dksX2_any_1 5 rfl rfl)
theorem dX2_any_32 : decode cX2_any 32 = .ok (.astore_n 1, 1) := dk_76 (dk_at dksX2_any_1 8 rfl rfl)
theorem dX2_any_33 : decode cX2_any 33 = .ok (.goto (-28), 3) := dk_167 255 228 (dk_at dksX2_any_1 9 rfl rfl)
theorem dX2_any_36 : decode cX2_any 36 = .ok (.aload_n 1, 1) := dk_43 (dk_at dksX2_any_1 12 rfl rfl)
theorem dX2_any_37 : decode cX2_any 37 = .ok (.areturn, 1) := dk_176 (dk_at dksX2_any_1 13 rfl rfl)
abbrev cX2_all : ByteArray := prog_11_method_8_code
def yX2_all : MethodName := ⟨RX2, "all", "()LThirtyThreeBelow$Term;"⟩
def dkwX2_all_1 : List UInt8 := [43, 42, 182, 0, 72, 183, 0, 69, 76, 167, 255, 228, 43, 176]
abbrev dktX2_all_1 : List UInt8 := dkwX2_all_1 ++ []
def dkwX2_all_0 : List UInt8 := [42, 182, 0, 72, 76, 42, 16, 38, 182, 0, 49, 153, 0, 25, 187, 0, 67, 89, 42, 180, 0, 3, 16, 38]
abbrev dktX2_all_0 : List UInt8 := dkwX2_all_0 ++ dktX2_all_1
theorem dksX2_all_0 : cX2_all.data.toList.drop 0 = dktX2_all_0 := by decide +kernel
theorem dksX2_all_1 : cX2_all.data.toList.drop 24 = dktX2_all_1 := dk_seg dksX2_all_0 24 rfl rfl
theorem dX2_all_0 : decode cX2_all 0 = .ok (.aload_n 0, 1) := dk_42 (dk_at dksX2_all_0 0 rfl rfl)
theorem dX2_all_1 : decode cX2_all 1 = .ok (.invokevirtual 72, 3) := dk_182 0 72 (dk_at dksX2_all_0 1 rfl rfl)
theorem dX2_all_4 : decode cX2_all 4 = .ok (.astore_n 1, 1) := dk_76 (dk_at dksX2_all_0 4 rfl rfl)
theorem dX2_all_5 : decode cX2_all 5 = .ok (.aload_n 0, 1) := dk_42 (dk_at dksX2_all_0 5 rfl rfl)
theorem dX2_all_6 : decode cX2_all 6 = .ok (.bipush 38, 2) := dk_16 38 (dk_at dksX2_all_0 6 rfl rfl)
theorem dX2_all_8 : decode cX2_all 8 = .ok (.invokevirtual 49, 3) := dk_182 0 49 (dk_at dksX2_all_0 8 rfl rfl)
theorem dX2_all_11 : decode cX2_all 11 = .ok (.ifCond .eq 25, 3) := dk_153 0 25 (dk_at dksX2_all_0 11 rfl rfl)
theorem dX2_all_14 : decode cX2_all 14 = .ok (.new 67, 3) := dk_187 0 67 (dk_at dksX2_all_0 14 rfl rfl)
theorem dX2_all_17 : decode cX2_all 17 = .ok (.dup, 1) := dk_89 (dk_at dksX2_all_0 17 rfl rfl)
theorem dX2_all_18 : decode cX2_all 18 = .ok (.aload_n 0, 1) := dk_42 (dk_at dksX2_all_0 18 rfl rfl)
theorem dX2_all_19 : decode cX2_all 19 = .ok (.getfield 3, 3) := dk_180 0 3 (dk_at dksX2_all_0 19 rfl rfl)
theorem dX2_all_22 : decode cX2_all 22 = .ok (.bipush 38, 2) := dk_16 38 (dk_at dksX2_all_0 22 rfl rfl)
theorem dX2_all_24 : decode cX2_all 24 = .ok (.aload_n 1, 1) := dk_43 (dk_at dksX2_all_1 0 rfl rfl)
theorem dX2_all_25 : decode cX2_all 25 = .ok (.aload_n 0, 1) := dk_42 (dk_at dksX2_all_1 1 rfl rfl)
theorem dX2_all_26 : decode cX2_all 26 = .ok (.invokevirtual 72, 3) := dk_182 0 72 (dk_at dksX2_all_1 2 rfl rfl)
theorem dX2_all_29 : decode cX2_all 29 = .ok (.invokespecial 69, 3) := dk_183 0 69 (dk_at dksX2_all_1 5 rfl rfl)
theorem dX2_all_32 : decode cX2_all 32 = .ok (.astore_n 1, 1) := dk_76 (dk_at dksX2_all_1 8 rfl rfl)
theorem dX2_all_33 : decode cX2_all 33 = .ok (.goto (-28), 3) := dk_167 255 228 (dk_at dksX2_all_1 9 rfl rfl)
theorem dX2_all_36 : decode cX2_all 36 = .ok (.aload_n 1, 1) := dk_43 (dk_at dksX2_all_1 12 rfl rfl)
theorem dX2_all_37 : decode cX2_all 37 = .ok (.areturn, 1) := dk_176 (dk_at dksX2_all_1 13 rfl rfl)
abbrev cX2_compared : ByteArray := prog_11_method_9_code
def yX2_compared : MethodName := ⟨RX2, "compared", "()LThirtyThreeBelow$Term;"⟩
def dkwX2_compared_2 : List UInt8 := [180, 0, 3, 28, 43, 42, 182, 0, 75, 183, 0, 69, 176]
abbrev dktX2_compared_2 : List UInt8 := dkwX2_compared_2 ++ []
def dkwX2_compared_1 : List UInt8 := [16, 62, 159, 0, 5, 43, 176, 42, 89, 180, 0, 22, 4, 96, 181, 0, 22, 187, 0, 67, 89, 42]
abbrev dktX2_compared_1 : List UInt8 := dkwX2_compared_1 ++ dktX2_compared_2
def dkwX2_compared_0 : List UInt8 := [42, 182, 0, 75, 76, 42, 182, 0, 33, 61, 28, 16, 60, 159, 0, 17, 28, 16, 61, 159, 0, 11, 28]
abbrev dktX2_compared_0 : List UInt8 := dkwX2_compared_0 ++ dktX2_compared_1
theorem dksX2_compared_0 : cX2_compared.data.toList.drop 0 = dktX2_compared_0 := by decide +kernel
theorem dksX2_compared_1 : cX2_compared.data.toList.drop 23 = dktX2_compared_1 := dk_seg dksX2_compared_0 23 rfl rfl
theorem dksX2_compared_2 : cX2_compared.data.toList.drop 45 = dktX2_compared_2 := dk_seg dksX2_compared_1 22 rfl rfl
theorem dX2_compared_0 : decode cX2_compared 0 = .ok (.aload_n 0, 1) := dk_42 (dk_at dksX2_compared_0 0 rfl rfl)
theorem dX2_compared_1 : decode cX2_compared 1 = .ok (.invokevirtual 75, 3) := dk_182 0 75 (dk_at dksX2_compared_0 1 rfl rfl)
theorem dX2_compared_4 : decode cX2_compared 4 = .ok (.astore_n 1, 1) := dk_76 (dk_at dksX2_compared_0 4 rfl rfl)
theorem dX2_compared_5 : decode cX2_compared 5 = .ok (.aload_n 0, 1) := dk_42 (dk_at dksX2_compared_0 5 rfl rfl)
theorem dX2_compared_6 : decode cX2_compared 6 = .ok (.invokevirtual 33, 3) := dk_182 0 33 (dk_at dksX2_compared_0 6 rfl rfl)
theorem dX2_compared_9 : decode cX2_compared 9 = .ok (.istore_n 2, 1) := dk_61 (dk_at dksX2_compared_0 9 rfl rfl)
theorem dX2_compared_10 : decode cX2_compared 10 = .ok (.iload_n 2, 1) := dk_28 (dk_at dksX2_compared_0 10 rfl rfl)
theorem dX2_compared_11 : decode cX2_compared 11 = .ok (.bipush 60, 2) := dk_16 60 (dk_at dksX2_compared_0 11 rfl rfl)
theorem dX2_compared_13 : decode cX2_compared 13 = .ok (.if_icmp .eq 17, 3) := dk_159 0 17 (dk_at dksX2_compared_0 13 rfl rfl)
theorem dX2_compared_16 : decode cX2_compared 16 = .ok (.iload_n 2, 1) := dk_28 (dk_at dksX2_compared_0 16 rfl rfl)
theorem dX2_compared_17 : decode cX2_compared 17 = .ok (.bipush 61, 2) := dk_16 61 (dk_at dksX2_compared_0 17 rfl rfl)
theorem dX2_compared_19 : decode cX2_compared 19 = .ok (.if_icmp .eq 11, 3) := dk_159 0 11 (dk_at dksX2_compared_0 19 rfl rfl)
theorem dX2_compared_22 : decode cX2_compared 22 = .ok (.iload_n 2, 1) := dk_28 (dk_at dksX2_compared_0 22 rfl rfl)
theorem dX2_compared_23 : decode cX2_compared 23 = .ok (.bipush 62, 2) := dk_16 62 (dk_at dksX2_compared_1 0 rfl rfl)
theorem dX2_compared_25 : decode cX2_compared 25 = .ok (.if_icmp .eq 5, 3) := dk_159 0 5 (dk_at dksX2_compared_1 2 rfl rfl)
theorem dX2_compared_28 : decode cX2_compared 28 = .ok (.aload_n 1, 1) := dk_43 (dk_at dksX2_compared_1 5 rfl rfl)
theorem dX2_compared_29 : decode cX2_compared 29 = .ok (.areturn, 1) := dk_176 (dk_at dksX2_compared_1 6 rfl rfl)
theorem dX2_compared_30 : decode cX2_compared 30 = .ok (.aload_n 0, 1) := dk_42 (dk_at dksX2_compared_1 7 rfl rfl)
theorem dX2_compared_31 : decode cX2_compared 31 = .ok (.dup, 1) := dk_89 (dk_at dksX2_compared_1 8 rfl rfl)
theorem dX2_compared_32 : decode cX2_compared 32 = .ok (.getfield 22, 3) := dk_180 0 22 (dk_at dksX2_compared_1 9 rfl rfl)
theorem dX2_compared_35 : decode cX2_compared 35 = .ok (.iconst 1, 1) := dk_4 (dk_at dksX2_compared_1 12 rfl rfl)
theorem dX2_compared_36 : decode cX2_compared 36 = .ok (.iadd, 1) := dk_96 (dk_at dksX2_compared_1 13 rfl rfl)
theorem dX2_compared_37 : decode cX2_compared 37 = .ok (.putfield 22, 3) := dk_181 0 22 (dk_at dksX2_compared_1 14 rfl rfl)
theorem dX2_compared_40 : decode cX2_compared 40 = .ok (.new 67, 3) := dk_187 0 67 (dk_at dksX2_compared_1 17 rfl rfl)
theorem dX2_compared_43 : decode cX2_compared 43 = .ok (.dup, 1) := dk_89 (dk_at dksX2_compared_1 20 rfl rfl)
theorem dX2_compared_44 : decode cX2_compared 44 = .ok (.aload_n 0, 1) := dk_42 (dk_at dksX2_compared_1 21 rfl rfl)
theorem dX2_compared_45 : decode cX2_compared 45 = .ok (.getfield 3, 3) := dk_180 0 3 (dk_at dksX2_compared_2 0 rfl rfl)
theorem dX2_compared_48 : decode cX2_compared 48 = .ok (.iload_n 2, 1) := dk_28 (dk_at dksX2_compared_2 3 rfl rfl)
theorem dX2_compared_49 : decode cX2_compared 49 = .ok (.aload_n 1, 1) := dk_43 (dk_at dksX2_compared_2 4 rfl rfl)
theorem dX2_compared_50 : decode cX2_compared 50 = .ok (.aload_n 0, 1) := dk_42 (dk_at dksX2_compared_2 5 rfl rfl)
theorem dX2_compared_51 : decode cX2_compared 51 = .ok (.invokevirtual 75, 3) := dk_182 0 75 (dk_at dksX2_compared_2 6 rfl rfl)
theorem dX2_compared_54 : decode cX2_compared 54 = .ok (.invokespecial 69, 3) := dk_183 0 69 (dk_at dksX2_compared_2 9 rfl rfl)
theorem dX2_compared_57 : decode cX2_compared 57 = .ok (.areturn, 1) := dk_176 (dk_at dksX2_compared_2 12 rfl rfl)
abbrev cX2_sum : ByteArray := prog_11_method_10_code
def yX2_sum : MethodName := ⟨RX2, "sum", "()LThirtyThreeBelow$Term;"⟩
def dkwX2_sum_2 : List UInt8 := [180, 0, 3, 28, 43, 42, 182, 0, 78, 183, 0, 69, 76, 167, 255, 200, 43, 176]
abbrev dktX2_sum_2 : List UInt8 := dkwX2_sum_2 ++ []
def dkwX2_sum_1 : List UInt8 := [180, 0, 3, 180, 0, 29, 42, 89, 180, 0, 22, 90, 4, 96, 181, 0, 22, 46, 61, 187, 0, 67, 89, 42]
abbrev dktX2_sum_1 : List UInt8 := dkwX2_sum_1 ++ dktX2_sum_2
def dkwX2_sum_0 : List UInt8 := [42, 182, 0, 78, 76, 42, 182, 0, 33, 16, 43, 159, 0, 12, 42, 182, 0, 33, 16, 45, 160, 0, 44, 42]
abbrev dktX2_sum_0 : List UInt8 := dkwX2_sum_0 ++ dktX2_sum_1
theorem dksX2_sum_0 : cX2_sum.data.toList.drop 0 = dktX2_sum_0 := by decide +kernel
theorem dksX2_sum_1 : cX2_sum.data.toList.drop 24 = dktX2_sum_1 := dk_seg dksX2_sum_0 24 rfl rfl
theorem dksX2_sum_2 : cX2_sum.data.toList.drop 48 = dktX2_sum_2 := dk_seg dksX2_sum_1 24 rfl rfl
theorem dX2_sum_0 : decode cX2_sum 0 = .ok (.aload_n 0, 1) := dk_42 (dk_at dksX2_sum_0 0 rfl rfl)
theorem dX2_sum_1 : decode cX2_sum 1 = .ok (.invokevirtual 78, 3) := dk_182 0 78 (dk_at dksX2_sum_0 1 rfl rfl)
theorem dX2_sum_4 : decode cX2_sum 4 = .ok (.astore_n 1, 1) := dk_76 (dk_at dksX2_sum_0 4 rfl rfl)
theorem dX2_sum_5 : decode cX2_sum 5 = .ok (.aload_n 0, 1) := dk_42 (dk_at dksX2_sum_0 5 rfl rfl)
theorem dX2_sum_6 : decode cX2_sum 6 = .ok (.invokevirtual 33, 3) := dk_182 0 33 (dk_at dksX2_sum_0 6 rfl rfl)
theorem dX2_sum_9 : decode cX2_sum 9 = .ok (.bipush 43, 2) := dk_16 43 (dk_at dksX2_sum_0 9 rfl rfl)
theorem dX2_sum_11 : decode cX2_sum 11 = .ok (.if_icmp .eq 12, 3) := dk_159 0 12 (dk_at dksX2_sum_0 11 rfl rfl)
theorem dX2_sum_14 : decode cX2_sum 14 = .ok (.aload_n 0, 1) := dk_42 (dk_at dksX2_sum_0 14 rfl rfl)
theorem dX2_sum_15 : decode cX2_sum 15 = .ok (.invokevirtual 33, 3) := dk_182 0 33 (dk_at dksX2_sum_0 15 rfl rfl)
theorem dX2_sum_18 : decode cX2_sum 18 = .ok (.bipush 45, 2) := dk_16 45 (dk_at dksX2_sum_0 18 rfl rfl)
theorem dX2_sum_20 : decode cX2_sum 20 = .ok (.if_icmp .ne 44, 3) := dk_160 0 44 (dk_at dksX2_sum_0 20 rfl rfl)
theorem dX2_sum_23 : decode cX2_sum 23 = .ok (.aload_n 0, 1) := dk_42 (dk_at dksX2_sum_0 23 rfl rfl)
theorem dX2_sum_24 : decode cX2_sum 24 = .ok (.getfield 3, 3) := dk_180 0 3 (dk_at dksX2_sum_1 0 rfl rfl)
theorem dX2_sum_27 : decode cX2_sum 27 = .ok (.getfield 29, 3) := dk_180 0 29 (dk_at dksX2_sum_1 3 rfl rfl)
theorem dX2_sum_30 : decode cX2_sum 30 = .ok (.aload_n 0, 1) := dk_42 (dk_at dksX2_sum_1 6 rfl rfl)
theorem dX2_sum_31 : decode cX2_sum 31 = .ok (.dup, 1) := dk_89 (dk_at dksX2_sum_1 7 rfl rfl)
theorem dX2_sum_32 : decode cX2_sum 32 = .ok (.getfield 22, 3) := dk_180 0 22 (dk_at dksX2_sum_1 8 rfl rfl)
theorem dX2_sum_35 : decode cX2_sum 35 = .ok (.dup_x1, 1) := dk_90 (dk_at dksX2_sum_1 11 rfl rfl)
theorem dX2_sum_36 : decode cX2_sum 36 = .ok (.iconst 1, 1) := dk_4 (dk_at dksX2_sum_1 12 rfl rfl)
theorem dX2_sum_37 : decode cX2_sum 37 = .ok (.iadd, 1) := dk_96 (dk_at dksX2_sum_1 13 rfl rfl)
theorem dX2_sum_38 : decode cX2_sum 38 = .ok (.putfield 22, 3) := dk_181 0 22 (dk_at dksX2_sum_1 14 rfl rfl)
theorem dX2_sum_41 : decode cX2_sum 41 = .ok (.iaload, 1) := dk_46 (dk_at dksX2_sum_1 17 rfl rfl)
theorem dX2_sum_42 : decode cX2_sum 42 = .ok (.istore_n 2, 1) := dk_61 (dk_at dksX2_sum_1 18 rfl rfl)
theorem dX2_sum_43 : decode cX2_sum 43 = .ok (.new 67, 3) := dk_187 0 67 (dk_at dksX2_sum_1 19 rfl rfl)
theorem dX2_sum_46 : decode cX2_sum 46 = .ok (.dup, 1) := dk_89 (dk_at dksX2_sum_1 22 rfl rfl)
theorem dX2_sum_47 : decode cX2_sum 47 = .ok (.aload_n 0, 1) := dk_42 (dk_at dksX2_sum_1 23 rfl rfl)
theorem dX2_sum_48 : decode cX2_sum 48 = .ok (.getfield 3, 3) := dk_180 0 3 (dk_at dksX2_sum_2 0 rfl rfl)
theorem dX2_sum_51 : decode cX2_sum 51 = .ok (.iload_n 2, 1) := dk_28 (dk_at dksX2_sum_2 3 rfl rfl)
theorem dX2_sum_52 : decode cX2_sum 52 = .ok (.aload_n 1, 1) := dk_43 (dk_at dksX2_sum_2 4 rfl rfl)
theorem dX2_sum_53 : decode cX2_sum 53 = .ok (.aload_n 0, 1) := dk_42 (dk_at dksX2_sum_2 5 rfl rfl)
theorem dX2_sum_54 : decode cX2_sum 54 = .ok (.invokevirtual 78, 3) := dk_182 0 78 (dk_at dksX2_sum_2 6 rfl rfl)
theorem dX2_sum_57 : decode cX2_sum 57 = .ok (.invokespecial 69, 3) := dk_183 0 69 (dk_at dksX2_sum_2 9 rfl rfl)
theorem dX2_sum_60 : decode cX2_sum 60 = .ok (.astore_n 1, 1) := dk_76 (dk_at dksX2_sum_2 12 rfl rfl)
theorem dX2_sum_61 : decode cX2_sum 61 = .ok (.goto (-56), 3) := dk_167 255 200 (dk_at dksX2_sum_2 13 rfl rfl)
theorem dX2_sum_64 : decode cX2_sum 64 = .ok (.aload_n 1, 1) := dk_43 (dk_at dksX2_sum_2 16 rfl rfl)
theorem dX2_sum_65 : decode cX2_sum 65 = .ok (.areturn, 1) := dk_176 (dk_at dksX2_sum_2 17 rfl rfl)
abbrev cX2_product : ByteArray := prog_11_method_11_code
def yX2_product : MethodName := ⟨RX2, "product", "()LThirtyThreeBelow$Term;"⟩
def dkwX2_product_3 : List UInt8 := [167, 255, 191, 43, 176]
abbrev dktX2_product_3 : List UInt8 := dkwX2_product_3 ++ []
def dkwX2_product_2 : List UInt8 := [181, 0, 22, 46, 61, 187, 0, 67, 89, 42, 180, 0, 3, 28, 43, 42, 182, 0, 81, 183, 0, 69, 76]
abbrev dktX2_product_2 : List UInt8 := dkwX2_product_2 ++ dktX2_product_3
def dkwX2_product_1 : List UInt8 := [182, 0, 33, 16, 37, 160, 0, 44, 42, 180, 0, 3, 180, 0, 29, 42, 89, 180, 0, 22, 90, 4, 96]
abbrev dktX2_product_1 : List UInt8 := dkwX2_product_1 ++ dktX2_product_2
def dkwX2_product_0 : List UInt8 := [42, 182, 0, 81, 76, 42, 182, 0, 33, 16, 42, 159, 0, 21, 42, 182, 0, 33, 16, 47, 159, 0, 12, 42]
abbrev dktX2_product_0 : List UInt8 := dkwX2_product_0 ++ dktX2_product_1
theorem dksX2_product_0 : cX2_product.data.toList.drop 0 = dktX2_product_0 := by decide +kernel
theorem dksX2_product_1 : cX2_product.data.toList.drop 24 = dktX2_product_1 := dk_seg dksX2_product_0 24 rfl rfl
theorem dksX2_product_2 : cX2_product.data.toList.drop 47 = dktX2_product_2 := dk_seg dksX2_product_1 23 rfl rfl
theorem dksX2_product_3 : cX2_product.data.toList.drop 70 = dktX2_product_3 := dk_seg dksX2_product_2 23 rfl rfl
theorem dX2_product_0 : decode cX2_product 0 = .ok (.aload_n 0, 1) := dk_42 (dk_at dksX2_product_0 0 rfl rfl)
theorem dX2_product_1 : decode cX2_product 1 = .ok (.invokevirtual 81, 3) := dk_182 0 81 (dk_at dksX2_product_0 1 rfl rfl)
theorem dX2_product_4 : decode cX2_product 4 = .ok (.astore_n 1, 1) := dk_76 (dk_at dksX2_product_0 4 rfl rfl)
theorem dX2_product_5 : decode cX2_product 5 = .ok (.aload_n 0, 1) := dk_42 (dk_at dksX2_product_0 5 rfl rfl)
theorem dX2_product_6 : decode cX2_product 6 = .ok (.invokevirtual 33, 3) := dk_182 0 33 (dk_at dksX2_product_0 6 rfl rfl)
theorem dX2_product_9 : decode cX2_product 9 = .ok (.bipush 42, 2) := dk_16 42 (dk_at dksX2_product_0 9 rfl rfl)
theorem dX2_product_11 : decode cX2_product 11 = .ok (.if_icmp .eq 21, 3) := dk_159 0 21 (dk_at dksX2_product_0 11 rfl rfl)
theorem dX2_product_14 : decode cX2_product 14 = .ok (.aload_n 0, 1) := dk_42 (dk_at dksX2_product_0 14 rfl rfl)
theorem dX2_product_15 : decode cX2_product 15 = .ok (.invokevirtual 33, 3) := dk_182 0 33 (dk_at dksX2_product_0 15 rfl rfl)
theorem dX2_product_18 : decode cX2_product 18 = .ok (.bipush 47, 2) := dk_16 47 (dk_at dksX2_product_0 18 rfl rfl)
theorem dX2_product_20 : decode cX2_product 20 = .ok (.if_icmp .eq 12, 3) := dk_159 0 12 (dk_at dksX2_product_0 20 rfl rfl)
theorem dX2_product_23 : decode cX2_product 23 = .ok (.aload_n 0, 1) := dk_42 (dk_at dksX2_product_0 23 rfl rfl)
theorem dX2_product_24 : decode cX2_product 24 = .ok (.invokevirtual 33, 3) := dk_182 0 33 (dk_at dksX2_product_1 0 rfl rfl)
theorem dX2_product_27 : decode cX2_product 27 = .ok (.bipush 37, 2) := dk_16 37 (dk_at dksX2_product_1 3 rfl rfl)
theorem dX2_product_29 : decode cX2_product 29 = .ok (.if_icmp .ne 44, 3) := dk_160 0 44 (dk_at dksX2_product_1 5 rfl rfl)
theorem dX2_product_32 : decode cX2_product 32 = .ok (.aload_n 0, 1) := dk_42 (dk_at dksX2_product_1 8 rfl rfl)
theorem dX2_product_33 : decode cX2_product 33 = .ok (.getfield 3, 3) := dk_180 0 3 (dk_at dksX2_product_1 9 rfl rfl)
theorem dX2_product_36 : decode cX2_product 36 = .ok (.getfield 29, 3) := dk_180 0 29 (dk_at dksX2_product_1 12 rfl rfl)
theorem dX2_product_39 : decode cX2_product 39 = .ok (.aload_n 0, 1) := dk_42 (dk_at dksX2_product_1 15 rfl rfl)
theorem dX2_product_40 : decode cX2_product 40 = .ok (.dup, 1) := dk_89 (dk_at dksX2_product_1 16 rfl rfl)
theorem dX2_product_41 : decode cX2_product 41 = .ok (.getfield 22, 3) := dk_180 0 22 (dk_at dksX2_product_1 17 rfl rfl)
theorem dX2_product_44 : decode cX2_product 44 = .ok (.dup_x1, 1) := dk_90 (dk_at dksX2_product_1 20 rfl rfl)
theorem dX2_product_45 : decode cX2_product 45 = .ok (.iconst 1, 1) := dk_4 (dk_at dksX2_product_1 21 rfl rfl)
theorem dX2_product_46 : decode cX2_product 46 = .ok (.iadd, 1) := dk_96 (dk_at dksX2_product_1 22 rfl rfl)
theorem dX2_product_47 : decode cX2_product 47 = .ok (.putfield 22, 3) := dk_181 0 22 (dk_at dksX2_product_2 0 rfl rfl)
theorem dX2_product_50 : decode cX2_product 50 = .ok (.iaload, 1) := dk_46 (dk_at dksX2_product_2 3 rfl rfl)
theorem dX2_product_51 : decode cX2_product 51 = .ok (.istore_n 2, 1) := dk_61 (dk_at dksX2_product_2 4 rfl rfl)
theorem dX2_product_52 : decode cX2_product 52 = .ok (.new 67, 3) := dk_187 0 67 (dk_at dksX2_product_2 5 rfl rfl)
theorem dX2_product_55 : decode cX2_product 55 = .ok (.dup, 1) := dk_89 (dk_at dksX2_product_2 8 rfl rfl)
theorem dX2_product_56 : decode cX2_product 56 = .ok (.aload_n 0, 1) := dk_42 (dk_at dksX2_product_2 9 rfl rfl)
theorem dX2_product_57 : decode cX2_product 57 = .ok (.getfield 3, 3) := dk_180 0 3 (dk_at dksX2_product_2 10 rfl rfl)
theorem dX2_product_60 : decode cX2_product 60 = .ok (.iload_n 2, 1) := dk_28 (dk_at dksX2_product_2 13 rfl rfl)
theorem dX2_product_61 : decode cX2_product 61 = .ok (.aload_n 1, 1) := dk_43 (dk_at dksX2_product_2 14 rfl rfl)
theorem dX2_product_62 : decode cX2_product 62 = .ok (.aload_n 0, 1) := dk_42 (dk_at dksX2_product_2 15 rfl rfl)
theorem dX2_product_63 : decode cX2_product 63 = .ok (.invokevirtual 81, 3) := dk_182 0 81 (dk_at dksX2_product_2 16 rfl rfl)
theorem dX2_product_66 : decode cX2_product 66 = .ok (.invokespecial 69, 3) := dk_183 0 69 (dk_at dksX2_product_2 19 rfl rfl)
theorem dX2_product_69 : decode cX2_product 69 = .ok (.astore_n 1, 1) := dk_76 (dk_at dksX2_product_2 22 rfl rfl)
theorem dX2_product_70 : decode cX2_product 70 = .ok (.goto (-65), 3) := dk_167 255 191 (dk_at dksX2_product_3 0 rfl rfl)
theorem dX2_product_73 : decode cX2_product 73 = .ok (.aload_n 1, 1) := dk_43 (dk_at dksX2_product_3 3 rfl rfl)
theorem dX2_product_74 : decode cX2_product 74 = .ok (.areturn, 1) := dk_176 (dk_at dksX2_product_3 4 rfl rfl)
abbrev cX2_one : ByteArray := prog_11_method_12_code
def yX2_one : MethodName := ⟨RX2, "one", "()LThirtyThreeBelow$Term;"⟩
def dkwX2_one_10 : List UInt8 := [183, 0, 115, 176]
abbrev dktX2_one_10 : List UInt8 := dkwX2_one_10 ++ []
def dkwX2_one_9 : List UInt8 := [132, 3, 1, 167, 255, 203, 29, 154, 0, 8, 42, 180, 0, 18, 191, 187, 0, 113, 89, 42, 180, 0, 3, 28]
abbrev dktX2_one_9 : List UInt8 := dkwX2_one_9 ++ dktX2_one_10
def dkwX2_one_8 : List UInt8 := [42, 180, 0, 3, 180, 0, 29, 42, 89, 180, 0, 22, 90, 4, 96, 181, 0, 22, 46, 96, 16, 48, 100, 61]
abbrev dktX2_one_8 : List UInt8 := dkwX2_one_8 ++ dktX2_one_9
def dkwX2_one_7 : List UInt8 := [162, 0, 54, 42, 182, 0, 33, 133, 20, 0, 105, 20, 0, 107, 184, 0, 109, 153, 0, 37, 16, 10, 28, 104]
abbrev dktX2_one_7 : List UInt8 := dkwX2_one_7 ++ dktX2_one_8
def dkwX2_one_6 : List UInt8 := [96, 181, 0, 22, 187, 0, 100, 89, 42, 180, 0, 3, 27, 183, 0, 102, 176, 3, 61, 3, 62, 29, 8]
abbrev dktX2_one_6 : List UInt8 := dkwX2_one_6 ++ dktX2_one_7
def dkwX2_one_5 : List UInt8 := [18, 92, 42, 182, 0, 33, 182, 0, 94, 167, 0, 4, 2, 60, 27, 155, 0, 26, 42, 89, 180, 0, 22, 4]
abbrev dktX2_one_5 : List UInt8 := dkwX2_one_5 ++ dktX2_one_6
def dkwX2_one_4 : List UInt8 := [180, 0, 18, 191, 42, 89, 180, 0, 37, 4, 100, 181, 0, 37, 43, 176, 42, 182, 0, 33, 158, 0, 15]
abbrev dktX2_one_4 : List UInt8 := dkwX2_one_4 ++ dktX2_one_5
def dkwX2_one_3 : List UInt8 := [16, 40, 160, 0, 38, 42, 182, 0, 84, 42, 182, 0, 53, 76, 42, 16, 41, 182, 0, 49, 154, 0, 8, 42]
abbrev dktX2_one_3 : List UInt8 := dkwX2_one_3 ++ dktX2_one_4
def dkwX2_one_2 : List UInt8 := [182, 0, 81, 183, 0, 89, 77, 42, 89, 180, 0, 37, 4, 100, 181, 0, 37, 44, 176, 42, 182, 0, 33]
abbrev dktX2_one_2 : List UInt8 := dkwX2_one_2 ++ dktX2_one_3
def dkwX2_one_1 : List UInt8 := [160, 0, 7, 4, 167, 0, 4, 3, 60, 42, 182, 0, 84, 187, 0, 87, 89, 42, 180, 0, 3, 27, 42]
abbrev dktX2_one_1 : List UInt8 := dkwX2_one_1 ++ dktX2_one_2
def dkwX2_one_0 : List UInt8 := [42, 182, 0, 33, 16, 33, 159, 0, 12, 42, 182, 0, 33, 16, 45, 160, 0, 51, 42, 182, 0, 33, 16, 45]
abbrev dktX2_one_0 : List UInt8 := dkwX2_one_0 ++ dktX2_one_1
theorem dksX2_one_0 : cX2_one.data.toList.drop 0 = dktX2_one_0 := by decide +kernel
theorem dksX2_one_1 : cX2_one.data.toList.drop 24 = dktX2_one_1 := dk_seg dksX2_one_0 24 rfl rfl
theorem dksX2_one_2 : cX2_one.data.toList.drop 47 = dktX2_one_2 := dk_seg dksX2_one_1 23 rfl rfl
theorem dksX2_one_3 : cX2_one.data.toList.drop 70 = dktX2_one_3 := dk_seg dksX2_one_2 23 rfl rfl
theorem dksX2_one_4 : cX2_one.data.toList.drop 94 = dktX2_one_4 := dk_seg dksX2_one_3 24 rfl rfl
theorem dksX2_one_5 : cX2_one.data.toList.drop 117 = dktX2_one_5 := dk_seg dksX2_one_4 23 rfl rfl
theorem dksX2_one_6 : cX2_one.data.toList.drop 141 = dktX2_one_6 := dk_seg dksX2_one_5 24 rfl rfl
theorem dksX2_one_7 : cX2_one.data.toList.drop 164 = dktX2_one_7 := dk_seg dksX2_one_6 23 rfl rfl
theorem dksX2_one_8 : cX2_one.data.toList.drop 188 = dktX2_one_8 := dk_seg dksX2_one_7 24 rfl rfl
theorem dksX2_one_9 : cX2_one.data.toList.drop 212 = dktX2_one_9 := dk_seg dksX2_one_8 24 rfl rfl
theorem dksX2_one_10 : cX2_one.data.toList.drop 236 = dktX2_one_10 := dk_seg dksX2_one_9 24 rfl rfl
theorem dX2_one_0 : decode cX2_one 0 = .ok (.aload_n 0, 1) := dk_42 (dk_at dksX2_one_0 0 rfl rfl)
theorem dX2_one_1 : decode cX2_one 1 = .ok (.invokevirtual 33, 3) := dk_182 0 33 (dk_at dksX2_one_0 1 rfl rfl)
theorem dX2_one_4 : decode cX2_one 4 = .ok (.bipush 33, 2) := dk_16 33 (dk_at dksX2_one_0 4 rfl rfl)
theorem dX2_one_6 : decode cX2_one 6 = .ok (.if_icmp .eq 12, 3) := dk_159 0 12 (dk_at dksX2_one_0 6 rfl rfl)
theorem dX2_one_9 : decode cX2_one 9 = .ok (.aload_n 0, 1) := dk_42 (dk_at dksX2_one_0 9 rfl rfl)
theorem dX2_one_10 : decode cX2_one 10 = .ok (.invokevirtual 33, 3) := dk_182 0 33 (dk_at dksX2_one_0 10 rfl rfl)
theorem dX2_one_13 : decode cX2_one 13 = .ok (.bipush 45, 2) := dk_16 45 (dk_at dksX2_one_0 13 rfl rfl)
theorem dX2_one_15 : decode cX2_one 15 = .ok (.if_icmp .ne 51, 3) := dk_160 0 51 (dk_at dksX2_one_0 15 rfl rfl)
theorem dX2_one_18 : decode cX2_one 18 = .ok (.aload_n 0, 1) := dk_42 (dk_at dksX2_one_0 18 rfl rfl)
theorem dX2_one_19 : decode cX2_one 19 = .ok (.invokevirtual 33, 3) := dk_182 0 33 (dk_at dksX2_one_0 19 rfl rfl)
theorem dX2_one_22 : decode cX2_one 22 = .ok (.bipush 45, 2) := dk_16 45 (dk_at dksX2_one_0 22 rfl rfl)
theorem dX2_one_24 : decode cX2_one 24 = .ok (.if_icmp .ne 7, 3) := dk_160 0 7 (dk_at dksX2_one_1 0 rfl rfl)
theorem dX2_one_27 : decode cX2_one 27 = .ok (.iconst 1, 1) := dk_4 (dk_at dksX2_one_1 3 rfl rfl)
theorem dX2_one_28 : decode cX2_one 28 = .ok (.goto 4, 3) := dk_167 0 4 (dk_at dksX2_one_1 4 rfl rfl)
theorem dX2_one_31 : decode cX2_one 31 = .ok (.iconst 0, 1) := dk_3 (dk_at dksX2_one_1 7 rfl rfl)
theorem dX2_one_32 : decode cX2_one 32 = .ok (.istore_n 1, 1) := dk_60 (dk_at dksX2_one_1 8 rfl rfl)
theorem dX2_one_33 : decode cX2_one 33 = .ok (.aload_n 0, 1) := dk_42 (dk_at dksX2_one_1 9 rfl rfl)
theorem dX2_one_34 : decode cX2_one 34 = .ok (.invokevirtual 84, 3) := dk_182 0 84 (dk_at dksX2_one_1 10 rfl rfl)
theorem dX2_one_37 : decode cX2_one 37 = .ok (.new 87, 3) := dk_187 0 87 (dk_at dksX2_one_1 13 rfl rfl)
theorem dX2_one_40 : decode cX2_one 40 = .ok (.dup, 1) := dk_89 (dk_at dksX2_one_1 16 rfl rfl)
theorem dX2_one_41 : decode cX2_one 41 = .ok (.aload_n 0, 1) := dk_42 (dk_at dksX2_one_1 17 rfl rfl)
theorem dX2_one_42 : decode cX2_one 42 = .ok (.getfield 3, 3) := dk_180 0 3 (dk_at dksX2_one_1 18 rfl rfl)
theorem dX2_one_45 : decode cX2_one 45 = .ok (.iload_n 1, 1) := dk_27 (dk_at dksX2_one_1 21 rfl rfl)
theorem dX2_one_46 : decode cX2_one 46 = .ok (.aload_n 0, 1) := dk_42 (dk_at dksX2_one_1 22 rfl rfl)
theorem dX2_one_47 : decode cX2_one 47 = .ok (.invokevirtual 81, 3) := dk_182 0 81 (dk_at dksX2_one_2 0 rfl rfl)
theorem dX2_one_50 : decode cX2_one 50 = .ok (.invokespecial 89, 3) := dk_183 0 89 (dk_at dksX2_one_2 3 rfl rfl)
theorem dX2_one_53 : decode cX2_one 53 = .ok (.astore_n 2, 1) := dk_77 (dk_at dksX2_one_2 6 rfl rfl)
theorem dX2_one_54 : decode cX2_one 54 = .ok (.aload_n 0, 1) := dk_42 (dk_at dksX2_one_2 7 rfl rfl)
theorem dX2_one_55 : decode cX2_one 55 = .ok (.dup, 1) := dk_89 (dk_at dksX2_one_2 8 rfl rfl)
theorem dX2_one_56 : decode cX2_one 56 = .ok (.getfield 37, 3) := dk_180 0 37 (dk_at dksX2_one_2 9 rfl rfl)
theorem dX2_one_59 : decode cX2_one 59 = .ok (.iconst 1, 1) := dk_4 (dk_at dksX2_one_2 12 rfl rfl)
theorem dX2_one_60 : decode cX2_one 60 = .ok (.isub, 1) := dk_100 (dk_at dksX2_one_2 13 rfl rfl)
theorem dX2_one_61 : decode cX2_one 61 = .ok (.putfield 37, 3) := dk_181 0 37 (dk_at dksX2_one_2 14 rfl rfl)
theorem dX2_one_64 : decode cX2_one 64 = .ok (.aload_n 2, 1) := dk_44 (dk_at dksX2_one_2 17 rfl rfl)
theorem dX2_one_65 : decode cX2_one 65 = .ok (.areturn, 1) := dk_176 (dk_at dksX2_one_2 18 rfl rfl)
theorem dX2_one_66 : decode cX2_one 66 = .ok (.aload_n 0, 1) := dk_42 (dk_at dksX2_one_2 19 rfl rfl)
theorem dX2_one_67 : decode cX2_one 67 = .ok (.invokevirtual 33, 3) := dk_182 0 33 (dk_at dksX2_one_2 20 rfl rfl)
theorem dX2_one_70 : decode cX2_one 70 = .ok (.bipush 40, 2) := dk_16 40 (dk_at dksX2_one_3 0 rfl rfl)
theorem dX2_one_72 : decode cX2_one 72 = .ok (.if_icmp .ne 38, 3) := dk_160 0 38 (dk_at dksX2_one_3 2 rfl rfl)
theorem dX2_one_75 : decode cX2_one 75 = .ok (.aload_n 0, 1) := dk_42 (dk_at dksX2_one_3 5 rfl rfl)
theorem dX2_one_76 : decode cX2_one 76 = .ok (.invokevirtual 84, 3) := dk_182 0 84 (dk_at dksX2_one_3 6 rfl rfl)
theorem dX2_one_79 : decode cX2_one 79 = .ok (.aload_n 0, 1) := dk_42 (dk_at dksX2_one_3 9 rfl rfl)
theorem dX2_one_80 : decode cX2_one 80 = .ok (.invokevirtual 53, 3) := dk_182 0 53 (dk_at dksX2_one_3 10 rfl rfl)
theorem dX2_one_83 : decode cX2_one 83 = .ok (.astore_n 1, 1) := dk_76 (dk_at dksX2_one_3 13 rfl rfl)
theorem dX2_one_84 : decode cX2_one 84 = .ok (.aload_n 0, 1) := dk_42 (dk_at dksX2_one_3 14 rfl rfl)
theorem dX2_one_85 : decode cX2_one 85 = .ok (.bipush 41, 2) := dk_16 41 (dk_at dksX2_one_3 15 rfl rfl)
theorem dX2_one_87 : decode cX2_one 87 = .ok (.invokevirtual 49, 3) := dk_182 0 49 (dk_at dksX2_one_3 17 rfl rfl)
theorem dX2_one_90 : decode cX2_one 90 = .ok (.ifCond .ne 8, 3) := dk_154 0 8 (dk_at dksX2_one_3 20 rfl rfl)
theorem dX2_one_93 : decode cX2_one 93 = .ok (.aload_n 0, 1) := dk_42 (dk_at dksX2_one_3 23 rfl rfl)
theorem dX2_one_94 : decode cX2_one 94 = .ok (.getfield 18, 3) := dk_180 0 18 (dk_at dksX2_one_4 0 rfl rfl)
theorem dX2_one_97 : decode cX2_one 97 = .ok (.athrow, 1) := dk_191 (dk_at dksX2_one_4 3 rfl rfl)
theorem dX2_one_98 : decode cX2_one 98 = .ok (.aload_n 0, 1) := dk_42 (dk_at dksX2_one_4 4 rfl rfl)
theorem dX2_one_99 : decode cX2_one 99 = .ok (.dup, 1) := dk_89 (dk_at dksX2_one_4 5 rfl rfl)
theorem dX2_one_100 : decode cX2_one 100 = .ok (.getfield 37, 3) := dk_180 0 37 (dk_at dksX2_one_4 6 rfl rfl)
theorem dX2_one_103 : decode cX2_one 103 = .ok (.iconst 1, 1) := dk_4 (dk_at dksX2_one_4 9 rfl rfl)
theorem dX2_one_104 : decode cX2_one 104 = .ok (.isub, 1) := dk_100 (dk_at dksX2_one_4 10 rfl rfl)
theorem dX2_one_105 : decode cX2_one 105 = .ok (.putfield 37, 3) := dk_181 0 37 (dk_at dksX2_one_4 11 rfl rfl)
theorem dX2_one_108 : decode cX2_one 108 = .ok (.aload_n 1, 1) := dk_43 (dk_at dksX2_one_4 14 rfl rfl)
theorem dX2_one_109 : decode cX2_one 109 = .ok (.areturn, 1) := dk_176 (dk_at dksX2_one_4 15 rfl rfl)
theorem dX2_one_110 : decode cX2_one 110 = .ok (.aload_n 0, 1) := dk_42 (dk_at dksX2_one_4 16 rfl rfl)
theorem dX2_one_111 : decode cX2_one 111 = .ok (.invokevirtual 33, 3) := dk_182 0 33 (dk_at dksX2_one_4 17 rfl rfl)
theorem dX2_one_114 : decode cX2_one 114 = .ok (.ifCond .le 15, 3) := dk_158 0 15 (dk_at dksX2_one_4 20 rfl rfl)
theorem dX2_one_117 : decode cX2_one 117 = .ok (.ldc 92, 2) := dk_18 92 (dk_at dksX2_one_5 0 rfl rfl)
theorem dX2_one_119 : decode cX2_one 119 = .ok (.aload_n 0, 1) := dk_42 (dk_at dksX2_one_5 2 rfl rfl)
theorem dX2_one_120 : decode cX2_one 120 = .ok (.invokevirtual 33, 3) := dk_182 0 33 (dk_at dksX2_one_5 3 rfl rfl)
theorem dX2_one_123 : decode cX2_one 123 = .ok (.invokevirtual 94, 3) := dk_182 0 94 (dk_at dksX2_one_5 6 rfl rfl)
theorem dX2_one_126 : decode cX2_one 126 = .ok (.goto 4, 3) := dk_167 0 4 (dk_at dksX2_one_5 9 rfl rfl)
theorem dX2_one_129 : decode cX2_one 129 = .ok (.iconst (-1), 1) := dk_2 (dk_at dksX2_one_5 12 rfl rfl)
theorem dX2_one_130 : decode cX2_one 130 = .ok (.istore_n 1, 1) := dk_60 (dk_at dksX2_one_5 13 rfl rfl)
theorem dX2_one_131 : decode cX2_one 131 = .ok (.iload_n 1, 1) := dk_27 (dk_at dksX2_one_5 14 rfl rfl)
theorem dX2_one_132 : decode cX2_one 132 = .ok (.ifCond .lt 26, 3) := dk_155 0 26 (dk_at dksX2_one_5 15 rfl rfl)
theorem dX2_one_135 : decode cX2_one 135 = .ok (.aload_n 0, 1) := dk_42 (dk_at dksX2_one_5 18 rfl rfl)
theorem dX2_one_136 : decode cX2_one 136 = .ok (.dup, 1) := dk_89 (dk_at dksX2_one_5 19 rfl rfl)
theorem dX2_one_137 : decode cX2_one 137 = .ok (.getfield 22, 3) := dk_180 0 22 (dk_at dksX2_one_5 20 rfl rfl)
theorem dX2_one_140 : decode cX2_one 140 = .ok (.iconst 1, 1) := dk_4 (dk_at dksX2_one_5 23 rfl rfl)
theorem dX2_one_141 : decode cX2_one 141 = .ok (.iadd, 1) := dk_96 (dk_at dksX2_one_6 0 rfl rfl)
theorem dX2_one_142 : decode cX2_one 142 = .ok (.putfield 22, 3) := dk_181 0 22 (dk_at dksX2_one_6 1 rfl rfl)
theorem dX2_one_145 : decode cX2_one 145 = .ok (.new 100, 3) := dk_187 0 100 (dk_at dksX2_one_6 4 rfl rfl)
theorem dX2_one_148 : decode cX2_one 148 = .ok (.dup, 1) := dk_89 (dk_at dksX2_one_6 7 rfl rfl)
theorem dX2_one_149 : decode cX2_one 149 = .ok (.aload_n 0, 1) := dk_42 (dk_at dksX2_one_6 8 rfl rfl)
theorem dX2_one_150 : decode cX2_one 150 = .ok (.getfield 3, 3) := dk_180 0 3 (dk_at dksX2_one_6 9 rfl rfl)
theorem dX2_one_153 : decode cX2_one 153 = .ok (.iload_n 1, 1) := dk_27 (dk_at dksX2_one_6 12 rfl rfl)
theorem dX2_one_154 : decode cX2_one 154 = .ok (.invokespecial 102, 3) := dk_183 0 102 (dk_at dksX2_one_6 13 rfl rfl)
theorem dX2_one_157 : decode cX2_one 157 = .ok (.areturn, 1) := dk_176 (dk_at dksX2_one_6 16 rfl rfl)
theorem dX2_one_158 : decode cX2_one 158 = .ok (.iconst 0, 1) := dk_3 (dk_at dksX2_one_6 17 rfl rfl)
theorem dX2_one_159 : decode cX2_one 159 = .ok (.istore_n 2, 1) := dk_61 (dk_at dksX2_one_6 18 rfl rfl)
theorem dX2_one_160 : decode cX2_one 160 = .ok (.iconst 0, 1) := dk_3 (dk_at dksX2_one_6 19 rfl rfl)
theorem dX2_one_161 : decode cX2_one 161 = .ok (.istore_n 3, 1) := dk_62 (dk_at dksX2_one_6 20 rfl rfl)
theorem dX2_one_162 : decode cX2_one 162 = .ok (.iload_n 3, 1) := dk_29 (dk_at dksX2_one_6 21 rfl rfl)
theorem dX2_one_163 : decode cX2_one 163 = .ok (.iconst 5, 1) := dk_8 (dk_at dksX2_one_6 22 rfl rfl)
theorem dX2_one_164 : decode cX2_one 164 = .ok (.if_icmp .ge 54, 3) := dk_162 0 54 (dk_at dksX2_one_7 0 rfl rfl)
theorem dX2_one_167 : decode cX2_one 167 = .ok (.aload_n 0, 1) := dk_42 (dk_at dksX2_one_7 3 rfl rfl)
theorem dX2_one_168 : decode cX2_one 168 = .ok (.invokevirtual 33, 3) := dk_182 0 33 (dk_at dksX2_one_7 4 rfl rfl)
theorem dX2_one_171 : decode cX2_one 171 = .ok (.i2l, 1) := dk_133 (dk_at dksX2_one_7 7 rfl rfl)
theorem dX2_one_172 : decode cX2_one 172 = .ok (.ldc2_w 105, 3) := dk_20 0 105 (dk_at dksX2_one_7 8 rfl rfl)
theorem dX2_one_175 : decode cX2_one 175 = .ok (.ldc2_w 107, 3) := dk_20 0 107 (dk_at dksX2_one_7 11 rfl rfl)
theorem dX2_one_178 : decode cX2_one 178 = .ok (.invokestatic 109, 3) := dk_184 0 109 (dk_at dksX2_one_7 14 rfl rfl)
theorem dX2_one_181 : decode cX2_one 181 = .ok (.ifCond .eq 37, 3) := dk_153 0 37 (dk_at dksX2_one_7 17 rfl rfl)
theorem dX2_one_184 : decode cX2_one 184 = .ok (.bipush 10, 2) := dk_16 10 (dk_at dksX2_one_7 20 rfl rfl)
theorem dX2_one_186 : decode cX2_one 186 = .ok (.iload_n 2, 1) := dk_28 (dk_at dksX2_one_7 22 rfl rfl)
theorem dX2_one_187 : decode cX2_one 187 = .ok (.imul, 1) := dk_104 (dk_at dksX2_one_7 23 rfl rfl)
theorem dX2_one_188 : decode cX2_one 188 = .ok (.aload_n 0, 1) := dk_42 (dk_at dksX2_one_8 0 rfl rfl)
theorem dX2_one_189 : decode cX2_one 189 = .ok (.getfield 3, 3) := dk_180 0 3 (dk_at dksX2_one_8 1 rfl rfl)
theorem dX2_one_192 : decode cX2_one 192 = .ok (.getfield 29, 3) := dk_180 0 29 (dk_at dksX2_one_8 4 rfl rfl)
theorem dX2_one_195 : decode cX2_one 195 = .ok (.aload_n 0, 1) := dk_42 (dk_at dksX2_one_8 7 rfl rfl)
theorem dX2_one_196 : decode cX2_one 196 = .ok (.dup, 1) := dk_89 (dk_at dksX2_one_8 8 rfl rfl)
theorem dX2_one_197 : decode cX2_one 197 = .ok (.getfield 22, 3) := dk_180 0 22 (dk_at dksX2_one_8 9 rfl rfl)
theorem dX2_one_200 : decode cX2_one 200 = .ok (.dup_x1, 1) := dk_90 (dk_at dksX2_one_8 12 rfl rfl)
theorem dX2_one_201 : decode cX2_one 201 = .ok (.iconst 1, 1) := dk_4 (dk_at dksX2_one_8 13 rfl rfl)
theorem dX2_one_202 : decode cX2_one 202 = .ok (.iadd, 1) := dk_96 (dk_at dksX2_one_8 14 rfl rfl)
theorem dX2_one_203 : decode cX2_one 203 = .ok (.putfield 22, 3) := dk_181 0 22 (dk_at dksX2_one_8 15 rfl rfl)
theorem dX2_one_206 : decode cX2_one 206 = .ok (.iaload, 1) := dk_46 (dk_at dksX2_one_8 18 rfl rfl)
theorem dX2_one_207 : decode cX2_one 207 = .ok (.iadd, 1) := dk_96 (dk_at dksX2_one_8 19 rfl rfl)
theorem dX2_one_208 : decode cX2_one 208 = .ok (.bipush 48, 2) := dk_16 48 (dk_at dksX2_one_8 20 rfl rfl)
theorem dX2_one_210 : decode cX2_one 210 = .ok (.isub, 1) := dk_100 (dk_at dksX2_one_8 22 rfl rfl)
theorem dX2_one_211 : decode cX2_one 211 = .ok (.istore_n 2, 1) := dk_61 (dk_at dksX2_one_8 23 rfl rfl)
theorem dX2_one_212 : decode cX2_one 212 = .ok (.iinc 3 1, 3) := dk_132 3 1 (dk_at dksX2_one_9 0 rfl rfl)
theorem dX2_one_215 : decode cX2_one 215 = .ok (.goto (-53), 3) := dk_167 255 203 (dk_at dksX2_one_9 3 rfl rfl)
theorem dX2_one_218 : decode cX2_one 218 = .ok (.iload_n 3, 1) := dk_29 (dk_at dksX2_one_9 6 rfl rfl)
theorem dX2_one_219 : decode cX2_one 219 = .ok (.ifCond .ne 8, 3) := dk_154 0 8 (dk_at dksX2_one_9 7 rfl rfl)
theorem dX2_one_222 : decode cX2_one 222 = .ok (.aload_n 0, 1) := dk_42 (dk_at dksX2_one_9 10 rfl rfl)
theorem dX2_one_223 : decode cX2_one 223 = .ok (.getfield 18, 3) := dk_180 0 18 (dk_at dksX2_one_9 11 rfl rfl)
theorem dX2_one_226 : decode cX2_one 226 = .ok (.athrow, 1) := dk_191 (dk_at dksX2_one_9 14 rfl rfl)
theorem dX2_one_227 : decode cX2_one 227 = .ok (.new 113, 3) := dk_187 0 113 (dk_at dksX2_one_9 15 rfl rfl)
theorem dX2_one_230 : decode cX2_one 230 = .ok (.dup, 1) := dk_89 (dk_at dksX2_one_9 18 rfl rfl)
theorem dX2_one_231 : decode cX2_one 231 = .ok (.aload_n 0, 1) := dk_42 (dk_at dksX2_one_9 19 rfl rfl)
theorem dX2_one_232 : decode cX2_one 232 = .ok (.getfield 3, 3) := dk_180 0 3 (dk_at dksX2_one_9 20 rfl rfl)
theorem dX2_one_235 : decode cX2_one 235 = .ok (.iload_n 2, 1) := dk_28 (dk_at dksX2_one_9 23 rfl rfl)
theorem dX2_one_236 : decode cX2_one 236 = .ok (.invokespecial 115, 3) := dk_183 0 115 (dk_at dksX2_one_10 0 rfl rfl)
theorem dX2_one_239 : decode cX2_one 239 = .ok (.areturn, 1) := dk_176 (dk_at dksX2_one_10 3 rfl rfl)
abbrev cX2_next : ByteArray := prog_11_method_2_code
def yX2_next : MethodName := ⟨RX2, "next", "()I"⟩
def dkwX2_next_1 : List UInt8 := [180, 0, 22, 46, 167, 0, 4, 2, 172]
abbrev dktX2_next_1 : List UInt8 := dkwX2_next_1 ++ []
def dkwX2_next_0 : List UInt8 := [42, 180, 0, 22, 42, 180, 0, 3, 180, 0, 26, 162, 0, 18, 42, 180, 0, 3, 180, 0, 29, 42]
abbrev dktX2_next_0 : List UInt8 := dkwX2_next_0 ++ dktX2_next_1
theorem dksX2_next_0 : cX2_next.data.toList.drop 0 = dktX2_next_0 := by decide +kernel
theorem dksX2_next_1 : cX2_next.data.toList.drop 22 = dktX2_next_1 := dk_seg dksX2_next_0 22 rfl rfl
theorem dX2_next_0 : decode cX2_next 0 = .ok (.aload_n 0, 1) := dk_42 (dk_at dksX2_next_0 0 rfl rfl)
theorem dX2_next_1 : decode cX2_next 1 = .ok (.getfield 22, 3) := dk_180 0 22 (dk_at dksX2_next_0 1 rfl rfl)
theorem dX2_next_4 : decode cX2_next 4 = .ok (.aload_n 0, 1) := dk_42 (dk_at dksX2_next_0 4 rfl rfl)
theorem dX2_next_5 : decode cX2_next 5 = .ok (.getfield 3, 3) := dk_180 0 3 (dk_at dksX2_next_0 5 rfl rfl)
theorem dX2_next_8 : decode cX2_next 8 = .ok (.getfield 26, 3) := dk_180 0 26 (dk_at dksX2_next_0 8 rfl rfl)
theorem dX2_next_11 : decode cX2_next 11 = .ok (.if_icmp .ge 18, 3) := dk_162 0 18 (dk_at dksX2_next_0 11 rfl rfl)
theorem dX2_next_14 : decode cX2_next 14 = .ok (.aload_n 0, 1) := dk_42 (dk_at dksX2_next_0 14 rfl rfl)
theorem dX2_next_15 : decode cX2_next 15 = .ok (.getfield 3, 3) := dk_180 0 3 (dk_at dksX2_next_0 15 rfl rfl)
theorem dX2_next_18 : decode cX2_next 18 = .ok (.getfield 29, 3) := dk_180 0 29 (dk_at dksX2_next_0 18 rfl rfl)
theorem dX2_next_21 : decode cX2_next 21 = .ok (.aload_n 0, 1) := dk_42 (dk_at dksX2_next_0 21 rfl rfl)
theorem dX2_next_22 : decode cX2_next 22 = .ok (.getfield 22, 3) := dk_180 0 22 (dk_at dksX2_next_1 0 rfl rfl)
theorem dX2_next_25 : decode cX2_next 25 = .ok (.iaload, 1) := dk_46 (dk_at dksX2_next_1 3 rfl rfl)
theorem dX2_next_26 : decode cX2_next 26 = .ok (.goto 4, 3) := dk_167 0 4 (dk_at dksX2_next_1 4 rfl rfl)
theorem dX2_next_29 : decode cX2_next 29 = .ok (.iconst (-1), 1) := dk_2 (dk_at dksX2_next_1 7 rfl rfl)
theorem dX2_next_30 : decode cX2_next 30 = .ok (.ireturn, 1) := dk_172 (dk_at dksX2_next_1 8 rfl rfl)
abbrev cX2_deeper : ByteArray := prog_11_method_4_code
def yX2_deeper : MethodName := ⟨RX2, "deeper", "()V"⟩
def dkwX2_deeper_1 : List UInt8 := [42, 89, 180, 0, 22, 4, 96, 181, 0, 22, 177]
abbrev dktX2_deeper_1 : List UInt8 := dkwX2_deeper_1 ++ []
def dkwX2_deeper_0 : List UInt8 := [42, 180, 0, 37, 16, 8, 160, 0, 8, 42, 180, 0, 18, 191, 42, 89, 180, 0, 37, 4, 96, 181, 0, 37]
abbrev dktX2_deeper_0 : List UInt8 := dkwX2_deeper_0 ++ dktX2_deeper_1
theorem dksX2_deeper_0 : cX2_deeper.data.toList.drop 0 = dktX2_deeper_0 := by decide +kernel
theorem dksX2_deeper_1 : cX2_deeper.data.toList.drop 24 = dktX2_deeper_1 := dk_seg dksX2_deeper_0 24 rfl rfl
theorem dX2_deeper_0 : decode cX2_deeper 0 = .ok (.aload_n 0, 1) := dk_42 (dk_at dksX2_deeper_0 0 rfl rfl)
theorem dX2_deeper_1 : decode cX2_deeper 1 = .ok (.getfield 37, 3) := dk_180 0 37 (dk_at dksX2_deeper_0 1 rfl rfl)
theorem dX2_deeper_4 : decode cX2_deeper 4 = .ok (.bipush 8, 2) := dk_16 8 (dk_at dksX2_deeper_0 4 rfl rfl)
theorem dX2_deeper_6 : decode cX2_deeper 6 = .ok (.if_icmp .ne 8, 3) := dk_160 0 8 (dk_at dksX2_deeper_0 6 rfl rfl)
theorem dX2_deeper_9 : decode cX2_deeper 9 = .ok (.aload_n 0, 1) := dk_42 (dk_at dksX2_deeper_0 9 rfl rfl)
theorem dX2_deeper_10 : decode cX2_deeper 10 = .ok (.getfield 18, 3) := dk_180 0 18 (dk_at dksX2_deeper_0 10 rfl rfl)
theorem dX2_deeper_13 : decode cX2_deeper 13 = .ok (.athrow, 1) := dk_191 (dk_at dksX2_deeper_0 13 rfl rfl)
theorem dX2_deeper_14 : decode cX2_deeper 14 = .ok (.aload_n 0, 1) := dk_42 (dk_at dksX2_deeper_0 14 rfl rfl)
theorem dX2_deeper_15 : decode cX2_deeper 15 = .ok (.dup, 1) := dk_89 (dk_at dksX2_deeper_0 15 rfl rfl)
theorem dX2_deeper_16 : decode cX2_deeper 16 = .ok (.getfield 37, 3) := dk_180 0 37 (dk_at dksX2_deeper_0 16 rfl rfl)
theorem dX2_deeper_19 : decode cX2_deeper 19 = .ok (.iconst 1, 1) := dk_4 (dk_at dksX2_deeper_0 19 rfl rfl)
theorem dX2_deeper_20 : decode cX2_deeper 20 = .ok (.iadd, 1) := dk_96 (dk_at dksX2_deeper_0 20 rfl rfl)
theorem dX2_deeper_21 : decode cX2_deeper 21 = .ok (.putfield 37, 3) := dk_181 0 37 (dk_at dksX2_deeper_0 21 rfl rfl)
theorem dX2_deeper_24 : decode cX2_deeper 24 = .ok (.aload_n 0, 1) := dk_42 (dk_at dksX2_deeper_1 0 rfl rfl)
theorem dX2_deeper_25 : decode cX2_deeper 25 = .ok (.dup, 1) := dk_89 (dk_at dksX2_deeper_1 1 rfl rfl)
theorem dX2_deeper_26 : decode cX2_deeper 26 = .ok (.getfield 22, 3) := dk_180 0 22 (dk_at dksX2_deeper_1 2 rfl rfl)
theorem dX2_deeper_29 : decode cX2_deeper 29 = .ok (.iconst 1, 1) := dk_4 (dk_at dksX2_deeper_1 5 rfl rfl)
theorem dX2_deeper_30 : decode cX2_deeper 30 = .ok (.iadd, 1) := dk_96 (dk_at dksX2_deeper_1 6 rfl rfl)
theorem dX2_deeper_31 : decode cX2_deeper 31 = .ok (.putfield 22, 3) := dk_181 0 22 (dk_at dksX2_deeper_1 7 rfl rfl)
theorem dX2_deeper_34 : decode cX2_deeper 34 = .ok (.return_, 1) := dk_177 (dk_at dksX2_deeper_1 10 rfl rfl)
abbrev cX2_take : ByteArray := prog_11_method_3_code
def yX2_take : MethodName := ⟨RX2, "take", "(I)Z"⟩
def dkwX2_take_0 : List UInt8 := [42, 182, 0, 33, 27, 159, 0, 5, 3, 172, 42, 89, 180, 0, 22, 4, 96, 181, 0, 22, 4, 172]
abbrev dktX2_take_0 : List UInt8 := dkwX2_take_0 ++ []
theorem dksX2_take_0 : cX2_take.data.toList.drop 0 = dktX2_take_0 := by decide +kernel
theorem dX2_take_0 : decode cX2_take 0 = .ok (.aload_n 0, 1) := dk_42 (dk_at dksX2_take_0 0 rfl rfl)
theorem dX2_take_1 : decode cX2_take 1 = .ok (.invokevirtual 33, 3) := dk_182 0 33 (dk_at dksX2_take_0 1 rfl rfl)
theorem dX2_take_4 : decode cX2_take 4 = .ok (.iload_n 1, 1) := dk_27 (dk_at dksX2_take_0 4 rfl rfl)
theorem dX2_take_5 : decode cX2_take 5 = .ok (.if_icmp .eq 5, 3) := dk_159 0 5 (dk_at dksX2_take_0 5 rfl rfl)
theorem dX2_take_8 : decode cX2_take 8 = .ok (.iconst 0, 1) := dk_3 (dk_at dksX2_take_0 8 rfl rfl)
theorem dX2_take_9 : decode cX2_take 9 = .ok (.ireturn, 1) := dk_172 (dk_at dksX2_take_0 9 rfl rfl)
theorem dX2_take_10 : decode cX2_take 10 = .ok (.aload_n 0, 1) := dk_42 (dk_at dksX2_take_0 10 rfl rfl)
theorem dX2_take_11 : decode cX2_take 11 = .ok (.dup, 1) := dk_89 (dk_at dksX2_take_0 11 rfl rfl)
theorem dX2_take_12 : decode cX2_take 12 = .ok (.getfield 22, 3) := dk_180 0 22 (dk_at dksX2_take_0 12 rfl rfl)
theorem dX2_take_15 : decode cX2_take 15 = .ok (.iconst 1, 1) := dk_4 (dk_at dksX2_take_0 15 rfl rfl)
theorem dX2_take_16 : decode cX2_take 16 = .ok (.iadd, 1) := dk_96 (dk_at dksX2_take_0 16 rfl rfl)
theorem dX2_take_17 : decode cX2_take 17 = .ok (.putfield 22, 3) := dk_181 0 22 (dk_at dksX2_take_0 17 rfl rfl)
theorem dX2_take_20 : decode cX2_take 20 = .ok (.iconst 1, 1) := dk_4 (dk_at dksX2_take_0 20 rfl rfl)
theorem dX2_take_21 : decode cX2_take 21 = .ok (.ireturn, 1) := dk_172 (dk_at dksX2_take_0 21 rfl rfl)
theorem q89 : (Jvm.Cond.initialized "ThirtyThreeBelow$Reader") ∈ lw_all := lw_g (lw_at lw_m1 6 rfl) rfl
theorem q195 : (Jvm.Cond.instantiable "ThirtyThreeBelow$Reader" (4 : Nat)) ∈ lw_all := lw_g (lw_at lw_m1 112 rfl) rfl
theorem q197 : (Jvm.Cond.instanceMethod ({ cls := "ThirtyThreeBelow$Reader", name := "<init>", desc := "(LThirtyThreeBelow;)V" } : Jvm.MethodName)) ∈ lw_all := lw_g (lw_at lw_m1 114 rfl) rfl
theorem q198 : (Jvm.Cond.code ({ cls := "ThirtyThreeBelow$Reader", name := "<init>", desc := "(LThirtyThreeBelow;)V" } : Jvm.MethodName) prog_11_method_1_code (2 : Nat) (Option.none : Option Jvm.ClassFile.FieldType)) ∈ lw_all := lw_g (lw_at lw_m1 115 rfl) rfl
theorem q199 : (Jvm.Cond.methodLink "ThirtyThreeBelow$Reader" (9 : Nat) ({ cls := "java/lang/Object", name := "<init>", desc := "()V" } : Jvm.MethodName)) ∈ lw_all := lw_g (lw_at lw_m1 116 rfl) rfl
theorem q200 : (Jvm.Cond.classLink "ThirtyThreeBelow$Reader" (15 : Nat) "ThirtyThreeBelow$Fault") ∈ lw_all := lw_g (lw_at lw_m1 117 rfl) rfl
theorem q209 : (Jvm.Cond.methodLink "ThirtyThreeBelow$Reader" (17 : Nat) ({ cls := "ThirtyThreeBelow$Fault", name := "<init>", desc := "()V" } : Jvm.MethodName)) ∈ lw_all := lw_g (lw_at lw_m1 126 rfl) rfl
theorem q215 : (Jvm.Cond.fieldLink "ThirtyThreeBelow$Reader" (18 : Nat) "ThirtyThreeBelow$Reader" "fault" "LThirtyThreeBelow$Fault;") ∈ lw_all := lw_g (lw_at lw_m1 132 rfl) rfl
theorem q216 : (Jvm.Cond.fieldLink "ThirtyThreeBelow$Reader" (22 : Nat) "ThirtyThreeBelow$Reader" "at" "I") ∈ lw_all := lw_g (lw_at lw_m1 133 rfl) rfl
theorem q217 : (Jvm.Cond.fieldLink "ThirtyThreeBelow$Reader" (37 : Nat) "ThirtyThreeBelow$Reader" "open" "I") ∈ lw_all := lw_g (lw_at lw_m1 134 rfl) rfl
theorem q218 : (Jvm.Cond.fieldLink "ThirtyThreeBelow$Reader" (3 : Nat) "ThirtyThreeBelow$Reader" "this$0" "LThirtyThreeBelow;") ∈ lw_all := lw_g (lw_at lw_m1 135 rfl) rfl
theorem q219 : (Jvm.Cond.laysFinal "ThirtyThreeBelow$Reader" "ThirtyThreeBelow$Reader" "fault" "LThirtyThreeBelow$Fault;") ∈ lw_all := lw_g (lw_at lw_m1 136 rfl) rfl
theorem q220 : (Jvm.Cond.soleField "ThirtyThreeBelow$Reader" "fault") ∈ lw_all := lw_g (lw_at lw_m1 137 rfl) rfl
theorem q221 : (Jvm.Cond.lays "ThirtyThreeBelow$Reader" "ThirtyThreeBelow$Reader" "at" "I") ∈ lw_all := lw_g (lw_at lw_m1 138 rfl) rfl
theorem q222 : (Jvm.Cond.soleField "ThirtyThreeBelow$Reader" "at") ∈ lw_all := lw_g (lw_at lw_m1 139 rfl) rfl
theorem q223 : (Jvm.Cond.lays "ThirtyThreeBelow$Reader" "ThirtyThreeBelow$Reader" "open" "I") ∈ lw_all := lw_g (lw_at lw_m1 140 rfl) rfl
theorem q224 : (Jvm.Cond.soleField "ThirtyThreeBelow$Reader" "open") ∈ lw_all := lw_g (lw_at lw_m1 141 rfl) rfl
theorem q225 : (Jvm.Cond.laysFinal "ThirtyThreeBelow$Reader" "ThirtyThreeBelow$Reader" "this$0" "LThirtyThreeBelow;") ∈ lw_all := lw_g (lw_at lw_m1 142 rfl) rfl
theorem q226 : (Jvm.Cond.soleField "ThirtyThreeBelow$Reader" "this$0") ∈ lw_all := lw_g (lw_at lw_m1 143 rfl) rfl
theorem q227 : (Jvm.Cond.superclass "ThirtyThreeBelow$Reader" "java/lang/Object") ∈ lw_all := lw_g (lw_at lw_m1 144 rfl) rfl
theorem q240 : (Jvm.Cond.fieldLinkNest "ThirtyThreeBelow$Reader" (57 : Nat) "ThirtyThreeBelow$Text" "tests" "[LThirtyThreeBelow$Term;" "ThirtyThreeBelow") ∈ lw_tbl := lw_at lw_m1 157 rfl
theorem q242 : (Jvm.Cond.fieldLinkNest "ThirtyThreeBelow$Reader" (61 : Nat) "ThirtyThreeBelow$Text" "gives" "[LThirtyThreeBelow$Term;" "ThirtyThreeBelow") ∈ lw_tbl := lw_at lw_m1 159 rfl
theorem q244 : (Jvm.Cond.fieldLinkNest "ThirtyThreeBelow$Reader" (40 : Nat) "ThirtyThreeBelow$Text" "lines" "I" "ThirtyThreeBelow") ∈ lw_tbl := lw_at lw_m1 161 rfl
theorem q292 : (Jvm.Cond.fieldLinkNest "ThirtyThreeBelow$Reader" (29 : Nat) "ThirtyThreeBelow" "tape" "[I" "ThirtyThreeBelow") ∈ lw_tbl := lw_at lw_m1 209 rfl
theorem q294 : (Jvm.Cond.fieldLinkNest "ThirtyThreeBelow$Reader" (26 : Nat) "ThirtyThreeBelow" "length" "I" "ThirtyThreeBelow") ∈ lw_tbl := lw_at lw_m1 211 rfl
theorem q921 : (Jvm.Cond.instanceMethod ({ cls := "ThirtyThreeBelow$Reader", name := "read", desc := "(LThirtyThreeBelow$Text;)I" } : Jvm.MethodName)) ∈ lw_all := lw_g (lw_at lw_m4 118 rfl) rfl
theorem q922 : (Jvm.Cond.selects "ThirtyThreeBelow$Reader" ({ cls := "ThirtyThreeBelow$Reader", name := "read", desc := "(LThirtyThreeBelow$Text;)I" } : Jvm.MethodName) ({ cls := "ThirtyThreeBelow$Reader", name := "read", desc := "(LThirtyThreeBelow$Text;)I" } : Jvm.MethodName)) ∈ lw_all := lw_g (lw_at lw_m4 119 rfl) rfl
theorem q923 : (Jvm.Cond.codeWith ({ cls := "ThirtyThreeBelow$Reader", name := "read", desc := "(LThirtyThreeBelow$Text;)I" } : Jvm.MethodName) prog_11_method_5_code (3 : Nat) (Option.some Jvm.ClassFile.FieldType.int) [((15 : Nat), (49 : Nat), (50 : Nat), (15 : Nat))]) ∈ lw_all := lw_g (lw_at lw_m4 120 rfl) rfl
theorem q924 : (Jvm.Cond.methodLink "ThirtyThreeBelow$Reader" (45 : Nat) ({ cls := "ThirtyThreeBelow$Reader", name := "line", desc := "(LThirtyThreeBelow$Text;)V" } : Jvm.MethodName)) ∈ lw_all := lw_g (lw_at lw_m4 121 rfl) rfl
theorem q925 : (Jvm.Cond.privateMethod ({ cls := "ThirtyThreeBelow$Reader", name := "line", desc := "(LThirtyThreeBelow$Text;)V" } : Jvm.MethodName)) ∈ lw_tbl := lw_at lw_m4 122 rfl
theorem q926 : (Jvm.Cond.instanceMethod ({ cls := "ThirtyThreeBelow$Reader", name := "line", desc := "(LThirtyThreeBelow$Text;)V" } : Jvm.MethodName)) ∈ lw_all := lw_g (lw_at lw_m4 123 rfl) rfl
theorem q927 : (Jvm.Cond.code ({ cls := "ThirtyThreeBelow$Reader", name := "line", desc := "(LThirtyThreeBelow$Text;)V" } : Jvm.MethodName) prog_11_method_6_code (5 : Nat) (Option.none : Option Jvm.ClassFile.FieldType)) ∈ lw_all := lw_g (lw_at lw_m4 124 rfl) rfl
theorem q928 : (Jvm.Cond.methodLink "ThirtyThreeBelow$Reader" (53 : Nat) ({ cls := "ThirtyThreeBelow$Reader", name := "any", desc := "()LThirtyThreeBelow$Term;" } : Jvm.MethodName)) ∈ lw_all := lw_g (lw_at lw_m4 125 rfl) rfl
theorem q929 : (Jvm.Cond.privateMethod ({ cls := "ThirtyThreeBelow$Reader", name := "any", desc := "()LThirtyThreeBelow$Term;" } : Jvm.MethodName)) ∈ lw_tbl := lw_at lw_m4 126 rfl
theorem q930 : (Jvm.Cond.instanceMethod ({ cls := "ThirtyThreeBelow$Reader", name := "any", desc := "()LThirtyThreeBelow$Term;" } : Jvm.MethodName)) ∈ lw_all := lw_g (lw_at lw_m4 127 rfl) rfl
theorem q931 : (Jvm.Cond.code ({ cls := "ThirtyThreeBelow$Reader", name := "any", desc := "()LThirtyThreeBelow$Term;" } : Jvm.MethodName) prog_11_method_7_code (2 : Nat) (Option.some (Jvm.ClassFile.FieldType.object "ThirtyThreeBelow$Term"))) ∈ lw_all := lw_g (lw_at lw_m4 128 rfl) rfl
theorem q932 : (Jvm.Cond.methodLink "ThirtyThreeBelow$Reader" (64 : Nat) ({ cls := "ThirtyThreeBelow$Reader", name := "all", desc := "()LThirtyThreeBelow$Term;" } : Jvm.MethodName)) ∈ lw_all := lw_g (lw_at lw_m4 129 rfl) rfl
theorem q933 : (Jvm.Cond.privateMethod ({ cls := "ThirtyThreeBelow$Reader", name := "all", desc := "()LThirtyThreeBelow$Term;" } : Jvm.MethodName)) ∈ lw_tbl := lw_at lw_m4 130 rfl
theorem q934 : (Jvm.Cond.instanceMethod ({ cls := "ThirtyThreeBelow$Reader", name := "all", desc := "()LThirtyThreeBelow$Term;" } : Jvm.MethodName)) ∈ lw_all := lw_g (lw_at lw_m4 131 rfl) rfl
theorem q935 : (Jvm.Cond.code ({ cls := "ThirtyThreeBelow$Reader", name := "all", desc := "()LThirtyThreeBelow$Term;" } : Jvm.MethodName) prog_11_method_8_code (2 : Nat) (Option.some (Jvm.ClassFile.FieldType.object "ThirtyThreeBelow$Term"))) ∈ lw_all := lw_g (lw_at lw_m4 132 rfl) rfl
theorem q936 : (Jvm.Cond.methodLink "ThirtyThreeBelow$Reader" (72 : Nat) ({ cls := "ThirtyThreeBelow$Reader", name := "compared", desc := "()LThirtyThreeBelow$Term;" } : Jvm.MethodName)) ∈ lw_all := lw_g (lw_at lw_m4 133 rfl) rfl
theorem q937 : (Jvm.Cond.privateMethod ({ cls := "ThirtyThreeBelow$Reader", name := "compared", desc := "()LThirtyThreeBelow$Term;" } : Jvm.MethodName)) ∈ lw_tbl := lw_at lw_m4 134 rfl
theorem q938 : (Jvm.Cond.instanceMethod ({ cls := "ThirtyThreeBelow$Reader", name := "compared", desc := "()LThirtyThreeBelow$Term;" } : Jvm.MethodName)) ∈ lw_all := lw_g (lw_at lw_m4 135 rfl) rfl
theorem q939 : (Jvm.Cond.code ({ cls := "ThirtyThreeBelow$Reader", name := "compared", desc := "()LThirtyThreeBelow$Term;" } : Jvm.MethodName) prog_11_method_9_code (3 : Nat) (Option.some (Jvm.ClassFile.FieldType.object "ThirtyThreeBelow$Term"))) ∈ lw_all := lw_g (lw_at lw_m4 136 rfl) rfl
theorem q940 : (Jvm.Cond.methodLink "ThirtyThreeBelow$Reader" (75 : Nat) ({ cls := "ThirtyThreeBelow$Reader", name := "sum", desc := "()LThirtyThreeBelow$Term;" } : Jvm.MethodName)) ∈ lw_all := lw_g (lw_at lw_m4 137 rfl) rfl
theorem q941 : (Jvm.Cond.privateMethod ({ cls := "ThirtyThreeBelow$Reader", name := "sum", desc := "()LThirtyThreeBelow$Term;" } : Jvm.MethodName)) ∈ lw_tbl := lw_at lw_m4 138 rfl
theorem q942 : (Jvm.Cond.instanceMethod ({ cls := "ThirtyThreeBelow$Reader", name := "sum", desc := "()LThirtyThreeBelow$Term;" } : Jvm.MethodName)) ∈ lw_all := lw_g (lw_at lw_m4 139 rfl) rfl
theorem q943 : (Jvm.Cond.code ({ cls := "ThirtyThreeBelow$Reader", name := "sum", desc := "()LThirtyThreeBelow$Term;" } : Jvm.MethodName) prog_11_method_10_code (3 : Nat) (Option.some (Jvm.ClassFile.FieldType.object "ThirtyThreeBelow$Term"))) ∈ lw_all := lw_g (lw_at lw_m4 140 rfl) rfl
theorem q944 : (Jvm.Cond.methodLink "ThirtyThreeBelow$Reader" (78 : Nat) ({ cls := "ThirtyThreeBelow$Reader", name := "product", desc := "()LThirtyThreeBelow$Term;" } : Jvm.MethodName)) ∈ lw_all := lw_g (lw_at lw_m4 141 rfl) rfl
theorem q945 : (Jvm.Cond.privateMethod ({ cls := "ThirtyThreeBelow$Reader", name := "product", desc := "()LThirtyThreeBelow$Term;" } : Jvm.MethodName)) ∈ lw_tbl := lw_at lw_m4 142 rfl
theorem q946 : (Jvm.Cond.instanceMethod ({ cls := "ThirtyThreeBelow$Reader", name := "product", desc := "()LThirtyThreeBelow$Term;" } : Jvm.MethodName)) ∈ lw_all := lw_g (lw_at lw_m4 143 rfl) rfl
theorem q947 : (Jvm.Cond.code ({ cls := "ThirtyThreeBelow$Reader", name := "product", desc := "()LThirtyThreeBelow$Term;" } : Jvm.MethodName) prog_11_method_11_code (3 : Nat) (Option.some (Jvm.ClassFile.FieldType.object "ThirtyThreeBelow$Term"))) ∈ lw_all := lw_g (lw_at lw_m4 144 rfl) rfl
theorem q948 : (Jvm.Cond.methodLink "ThirtyThreeBelow$Reader" (81 : Nat) ({ cls := "ThirtyThreeBelow$Reader", name := "one", desc := "()LThirtyThreeBelow$Term;" } : Jvm.MethodName)) ∈ lw_all := lw_g (lw_at lw_m4 145 rfl) rfl
theorem q949 : (Jvm.Cond.privateMethod ({ cls := "ThirtyThreeBelow$Reader", name := "one", desc := "()LThirtyThreeBelow$Term;" } : Jvm.MethodName)) ∈ lw_tbl := lw_at lw_m4 146 rfl
theorem q950 : (Jvm.Cond.instanceMethod ({ cls := "ThirtyThreeBelow$Reader", name := "one", desc := "()LThirtyThreeBelow$Term;" } : Jvm.MethodName)) ∈ lw_all := lw_g (lw_at lw_m4 147 rfl) rfl
theorem q951 : (Jvm.Cond.code ({ cls := "ThirtyThreeBelow$Reader", name := "one", desc := "()LThirtyThreeBelow$Term;" } : Jvm.MethodName) prog_11_method_12_code (4 : Nat) (Option.some (Jvm.ClassFile.FieldType.object "ThirtyThreeBelow$Term"))) ∈ lw_all := lw_g (lw_at lw_m4 148 rfl) rfl
theorem q952 : (Jvm.Cond.methodLink "ThirtyThreeBelow$Reader" (33 : Nat) ({ cls := "ThirtyThreeBelow$Reader", name := "next", desc := "()I" } : Jvm.MethodName)) ∈ lw_all := lw_g (lw_at lw_m4 149 rfl) rfl
theorem q953 : (Jvm.Cond.privateMethod ({ cls := "ThirtyThreeBelow$Reader", name := "next", desc := "()I" } : Jvm.MethodName)) ∈ lw_tbl := lw_at lw_m4 150 rfl
theorem q954 : (Jvm.Cond.instanceMethod ({ cls := "ThirtyThreeBelow$Reader", name := "next", desc := "()I" } : Jvm.MethodName)) ∈ lw_all := lw_g (lw_at lw_m4 151 rfl) rfl
theorem q955 : (Jvm.Cond.code ({ cls := "ThirtyThreeBelow$Reader", name := "next", desc := "()I" } : Jvm.MethodName) prog_11_method_2_code (1 : Nat) (Option.some Jvm.ClassFile.FieldType.int)) ∈ lw_all := lw_g (lw_at lw_m4 152 rfl) rfl
theorem q956 : (Jvm.Cond.methodLink "ThirtyThreeBelow$Reader" (84 : Nat) ({ cls := "ThirtyThreeBelow$Reader", name := "deeper", desc := "()V" } : Jvm.MethodName)) ∈ lw_all := lw_g (lw_at lw_m4 153 rfl) rfl
theorem q957 : (Jvm.Cond.privateMethod ({ cls := "ThirtyThreeBelow$Reader", name := "deeper", desc := "()V" } : Jvm.MethodName)) ∈ lw_tbl := lw_at lw_m4 154 rfl
theorem q958 : (Jvm.Cond.instanceMethod ({ cls := "ThirtyThreeBelow$Reader", name := "deeper", desc := "()V" } : Jvm.MethodName)) ∈ lw_all := lw_g (lw_at lw_m4 155 rfl) rfl
theorem q959 : (Jvm.Cond.code ({ cls := "ThirtyThreeBelow$Reader", name := "deeper", desc := "()V" } : Jvm.MethodName) prog_11_method_4_code (1 : Nat) (Option.none : Option Jvm.ClassFile.FieldType)) ∈ lw_all := lw_g (lw_at lw_m4 156 rfl) rfl
theorem q960 : (Jvm.Cond.classLink "ThirtyThreeBelow$Reader" (87 : Nat) "ThirtyThreeBelow$Turned") ∈ lw_all := lw_g (lw_at lw_m4 157 rfl) rfl
theorem q962 : (Jvm.Cond.methodLink "ThirtyThreeBelow$Reader" (89 : Nat) ({ cls := "ThirtyThreeBelow$Turned", name := "<init>", desc := "(LThirtyThreeBelow;ZLThirtyThreeBelow$Term;)V" } : Jvm.MethodName)) ∈ lw_all := lw_g (lw_at lw_m4 159 rfl) rfl
theorem q982 : (Jvm.Cond.methodLink "ThirtyThreeBelow$Reader" (49 : Nat) ({ cls := "ThirtyThreeBelow$Reader", name := "take", desc := "(I)Z" } : Jvm.MethodName)) ∈ lw_all := lw_g (lw_at lw_m4 179 rfl) rfl
theorem q983 : (Jvm.Cond.privateMethod ({ cls := "ThirtyThreeBelow$Reader", name := "take", desc := "(I)Z" } : Jvm.MethodName)) ∈ lw_tbl := lw_at lw_m4 180 rfl
theorem q984 : (Jvm.Cond.instanceMethod ({ cls := "ThirtyThreeBelow$Reader", name := "take", desc := "(I)Z" } : Jvm.MethodName)) ∈ lw_all := lw_g (lw_at lw_m4 181 rfl) rfl
theorem q985 : (Jvm.Cond.code ({ cls := "ThirtyThreeBelow$Reader", name := "take", desc := "(I)Z" } : Jvm.MethodName) prog_11_method_3_code (2 : Nat) (Option.some Jvm.ClassFile.FieldType.boolean)) ∈ lw_all := lw_g (lw_at lw_m4 182 rfl) rfl
theorem q986 : (Jvm.Cond.stringRef "ThirtyThreeBelow$Reader" (92 : Nat) "hdskinft") ∈ lw_tbl := lw_at lw_m4 183 rfl
theorem q987 : (Jvm.Cond.methodLink "ThirtyThreeBelow$Reader" (94 : Nat) ({ cls := "java/lang/String", name := "indexOf", desc := "(I)I" } : Jvm.MethodName)) ∈ lw_all := lw_g (lw_at lw_m4 184 rfl) rfl
theorem q1069 : (Jvm.Cond.classLink "ThirtyThreeBelow$Reader" (100 : Nat) "ThirtyThreeBelow$Named") ∈ lw_all := lw_g (lw_at lw_m5 26 rfl) rfl
theorem q1071 : (Jvm.Cond.methodLink "ThirtyThreeBelow$Reader" (102 : Nat) ({ cls := "ThirtyThreeBelow$Named", name := "<init>", desc := "(LThirtyThreeBelow;I)V" } : Jvm.MethodName)) ∈ lw_all := lw_g (lw_at lw_m5 28 rfl) rfl
theorem q1084 : (Jvm.Cond.constantLong "ThirtyThreeBelow$Reader" (105 : Nat) (48 : Int64)) ∈ lw_all := lw_g (lw_at lw_m5 41 rfl) rfl
theorem q1085 : (Jvm.Cond.constantLong "ThirtyThreeBelow$Reader" (107 : Nat) (57 : Int64)) ∈ lw_all := lw_g (lw_at lw_m5 42 rfl) rfl
theorem q1086 : (Jvm.Cond.methodLinkNest "ThirtyThreeBelow$Reader" (109 : Nat) ({ cls := "ThirtyThreeBelow", name := "within", desc := "(JJJ)Z" } : Jvm.MethodName) "ThirtyThreeBelow") ∈ lw_tbl := lw_at lw_m5 43 rfl
theorem q1087 : (Jvm.Cond.classLink "ThirtyThreeBelow$Reader" (113 : Nat) "ThirtyThreeBelow$Figure") ∈ lw_all := lw_g (lw_at lw_m5 44 rfl) rfl
theorem q1089 : (Jvm.Cond.methodLink "ThirtyThreeBelow$Reader" (115 : Nat) ({ cls := "ThirtyThreeBelow$Figure", name := "<init>", desc := "(LThirtyThreeBelow;I)V" } : Jvm.MethodName)) ∈ lw_all := lw_g (lw_at lw_m5 46 rfl) rfl
theorem q1101 : (Jvm.Cond.classLink "ThirtyThreeBelow$Reader" (67 : Nat) "ThirtyThreeBelow$Both") ∈ lw_all := lw_g (lw_at lw_m5 58 rfl) rfl
theorem q1103 : (Jvm.Cond.methodLink "ThirtyThreeBelow$Reader" (69 : Nat) ({ cls := "ThirtyThreeBelow$Both", name := "<init>", desc := "(LThirtyThreeBelow;ILThirtyThreeBelow$Term;LThirtyThreeBelow$Term;)V" } : Jvm.MethodName)) ∈ lw_all := lw_g (lw_at lw_m5 60 rfl) rfl
theorem q2452 : (Jvm.Cond.castable "ThirtyThreeBelow$Reader" "java/lang/Object") ∈ lw_tbl := lw_at lw_m10 209 rfl
theorem in_X2 : ∀ w ∈ wsX20, w ∈ lw_all := lw_in wsX20 [219, 221, 223, 225] (by decide +kernel) (by decide +kernel)
/-! ThirtyThreeBelow$Tells -/
set_option maxRecDepth 100000
def RX20 : String := "ThirtyThreeBelow$Tells"
abbrev cX20_tells : ByteArray := prog_14_method_4_code
def yX20_tells : MethodName := ⟨RX20, "tells", "(I)I"⟩
def dkwX20_tells_1 : List UInt8 := [172]
abbrev dktX20_tells_1 : List UInt8 := dkwX20_tells_1 ++ []
def dkwX20_tells_0 : List UInt8 := [42, 5, 185, 0, 1, 2, 0, 42, 27, 185, 0, 7, 2, 0, 61, 28, 42, 4, 185, 0, 11, 2, 0, 96]
abbrev dktX20_tells_0 : List UInt8 := dkwX20_tells_0 ++ dktX20_tells_1
theorem dksX20_tells_0 : cX20_tells.data.toList.drop 0 = dktX20_tells_0 := by decide +kernel
theorem dksX20_tells_1 : cX20_tells.data.toList.drop 24 = dktX20_tells_1 := dk_seg dksX20_tells_0 24 rfl rfl
theorem dX20_tells_0 : decode cX20_tells 0 = .ok (.aload_n 0, 1) := dk_42 (dk_at dksX20_tells_0 0 rfl rfl)
theorem dX20_tells_1 : decode cX20_tells 1 = .ok (.iconst 2, 1) := dk_5 (dk_at dksX20_tells_0 1 rfl rfl)
theorem dX20_tells_2 : decode cX20_tells 2 = .ok (.invokeinterface 1 2, 5) := by decide +kernel
theorem dX20_tells_7 : decode cX20_tells 7 = .ok (.aload_n 0, 1) := dk_42 (dk_at dksX20_tells_0 7 rfl rfl)
theorem dX20_tells_8 : decode cX20_tells 8 = .ok (.iload_n 1, 1) := dk_27 (dk_at dksX20_tells_0 8 rfl rfl)
theorem dX20_tells_9 : decode cX20_tells 9 = .ok (.invokeinterface 7 2, 5) := by decide +kernel
theorem dX20_tells_14 : decode cX20_tells 14 = .ok (.istore_n 2, 1) := dk_61 (dk_at dksX20_tells_0 14 rfl rfl)
theorem dX20_tells_15 : decode cX20_tells 15 = .ok (.iload_n 2, 1) := dk_28 (dk_at dksX20_tells_0 15 rfl rfl)
theorem dX20_tells_16 : decode cX20_tells 16 = .ok (.aload_n 0, 1) := dk_42 (dk_at dksX20_tells_0 16 rfl rfl)
theorem dX20_tells_17 : decode cX20_tells 17 = .ok (.iconst 1, 1) := dk_4 (dk_at dksX20_tells_0 17 rfl rfl)
theorem dX20_tells_18 : decode cX20_tells 18 = .ok (.invokeinterface 11 2, 5) := by decide +kernel
theorem dX20_tells_23 : decode cX20_tells 23 = .ok (.iadd, 1) := dk_96 (dk_at dksX20_tells_0 23 rfl rfl)
theorem dX20_tells_24 : decode cX20_tells 24 = .ok (.ireturn, 1) := dk_172 (dk_at dksX20_tells_1 0 rfl rfl)
theorem q1472 : (Jvm.Cond.declares ({ cls := "ThirtyThreeBelow$Tells", name := "tells", desc := "(I)I" } : Jvm.MethodName)) ∈ lw_tbl := lw_at lw_m6 189 rfl
theorem q1478 : (Jvm.Cond.instanceMethod ({ cls := "ThirtyThreeBelow$Tells", name := "tells", desc := "(I)I" } : Jvm.MethodName)) ∈ lw_all := lw_g (lw_at lw_m6 195 rfl) rfl
theorem q1479 : (Jvm.Cond.code ({ cls := "ThirtyThreeBelow$Tells", name := "tells", desc := "(I)I" } : Jvm.MethodName) prog_14_method_4_code (3 : Nat) (Option.some Jvm.ClassFile.FieldType.int)) ∈ lw_all := lw_g (lw_at lw_m6 196 rfl) rfl
theorem q1480 : (Jvm.Cond.interfaceEntry "ThirtyThreeBelow$Tells" (1 : Nat)) ∈ lw_tbl := lw_at lw_m6 197 rfl
theorem q1481 : (Jvm.Cond.methodLink "ThirtyThreeBelow$Tells" (1 : Nat) ({ cls := "ThirtyThreeBelow$Tells", name := "begins", desc := "(I)V" } : Jvm.MethodName)) ∈ lw_all := lw_g (lw_at lw_m6 198 rfl) rfl
theorem q1482 : (Jvm.Cond.interfaceMethod "ThirtyThreeBelow$Tells" "ThirtyThreeBelow$Tells" "begins" "(I)V") ∈ lw_tbl := lw_at lw_m6 199 rfl
theorem q1483 : (Jvm.Cond.declares ({ cls := "ThirtyThreeBelow$Tells", name := "begins", desc := "(I)V" } : Jvm.MethodName)) ∈ lw_tbl := lw_at lw_m6 200 rfl
theorem q1500 : (Jvm.Cond.interfaceEntry "ThirtyThreeBelow$Tells" (7 : Nat)) ∈ lw_tbl := lw_at lw_m6 217 rfl
theorem q1501 : (Jvm.Cond.methodLink "ThirtyThreeBelow$Tells" (7 : Nat) ({ cls := "ThirtyThreeBelow$Tells", name := "carries", desc := "(I)I" } : Jvm.MethodName)) ∈ lw_all := lw_g (lw_at lw_m6 218 rfl) rfl
theorem q1502 : (Jvm.Cond.interfaceMethod "ThirtyThreeBelow$Tells" "ThirtyThreeBelow$Tells" "carries" "(I)I") ∈ lw_tbl := lw_at lw_m6 219 rfl
theorem q1503 : (Jvm.Cond.declares ({ cls := "ThirtyThreeBelow$Tells", name := "carries", desc := "(I)I" } : Jvm.MethodName)) ∈ lw_tbl := lw_at lw_m6 220 rfl
theorem q1523 : (Jvm.Cond.interfaceEntry "ThirtyThreeBelow$Tells" (11 : Nat)) ∈ lw_tbl := lw_at lw_m7 0 rfl
theorem q1524 : (Jvm.Cond.methodLink "ThirtyThreeBelow$Tells" (11 : Nat) ({ cls := "ThirtyThreeBelow$Tells", name := "holds", desc := "(I)I" } : Jvm.MethodName)) ∈ lw_all := lw_g (lw_at lw_m7 1 rfl) rfl
theorem q1525 : (Jvm.Cond.interfaceMethod "ThirtyThreeBelow$Tells" "ThirtyThreeBelow$Tells" "holds" "(I)I") ∈ lw_tbl := lw_at lw_m7 2 rfl
theorem q1526 : (Jvm.Cond.declares ({ cls := "ThirtyThreeBelow$Tells", name := "holds", desc := "(I)I" } : Jvm.MethodName)) ∈ lw_tbl := lw_at lw_m7 3 rfl
theorem q1552 : (Jvm.Cond.publicMethod ({ cls := "ThirtyThreeBelow$Tells", name := "tells", desc := "(I)I" } : Jvm.MethodName)) ∈ lw_tbl := lw_at lw_m7 29 rfl
theorem q2438 : (Jvm.Cond.initialized "ThirtyThreeBelow$Tells") ∈ lw_all := lw_g (lw_at lw_m10 195 rfl) rfl
/-! ThirtyThreeBelow$Fault -/
set_option maxRecDepth 100000
def RX3 : String := "ThirtyThreeBelow$Fault"
def TX3 : u_T := fun k => match k with
  | 0 => ("java/lang/Throwable", "cause", "Ljava/lang/Throwable;", false)
  | 1 => ("java/lang/Throwable", "stackTrace", "[Ljava/lang/StackTraceElement;", false)
  | 2 => ("java/lang/Throwable", "suppressedExceptions", "Ljava/util/List;", false)
  | 3 => ("java/lang/Throwable", "detailMessage", "Ljava/lang/String;", false)
  | 4 => ("java/lang/Throwable", "backtrace", "Ljava/lang/Object;", false)
  | _ => ("java/lang/Throwable", "depth", "I", false)
def tyX3 : Nat → FieldType := fun k => match k with
  | 0 => .object "java/lang/Throwable"
  | 1 => .array (.object "java/lang/StackTraceElement")
  | 2 => .object "java/util/List"
  | 3 => .object "java/lang/String"
  | 4 => .object "java/lang/Object"
  | _ => .int
abbrev wsX30 : List Cond := u_ws RX3 TX3 6
theorem nmX3 : ∀ a, a < 6 → ∀ b, b < 6 → a ≠ b → (TX3 a).2.1 ≠ (TX3 b).2.1 := by decide +kernel
theorem tyX3_ok : ∀ k, k < 6 → parseFieldDescriptor (TX3 k).2.2.1 = some (tyX3 k) := by decide +kernel
abbrev cX3_init : ByteArray := prog_5_method_1_code
def yX3_init : MethodName := ⟨RX3, "<init>", "()V"⟩
def dkwX3_init_0 : List UInt8 := [42, 1, 1, 3, 3, 183, 0, 1, 177]
abbrev dktX3_init_0 : List UInt8 := dkwX3_init_0 ++ []
theorem dksX3_init_0 : cX3_init.data.toList.drop 0 = dktX3_init_0 := by decide +kernel
theorem dX3_init_0 : decode cX3_init 0 = .ok (.aload_n 0, 1) := dk_42 (dk_at dksX3_init_0 0 rfl rfl)
theorem dX3_init_1 : decode cX3_init 1 = .ok (.aconst_null, 1) := dk_1 (dk_at dksX3_init_0 1 rfl rfl)
theorem dX3_init_2 : decode cX3_init 2 = .ok (.aconst_null, 1) := dk_1 (dk_at dksX3_init_0 2 rfl rfl)
theorem dX3_init_3 : decode cX3_init 3 = .ok (.iconst 0, 1) := dk_3 (dk_at dksX3_init_0 3 rfl rfl)
theorem dX3_init_4 : decode cX3_init 4 = .ok (.iconst 0, 1) := dk_3 (dk_at dksX3_init_0 4 rfl rfl)
theorem dX3_init_5 : decode cX3_init 5 = .ok (.invokespecial 1, 3) := dk_183 0 1 (dk_at dksX3_init_0 5 rfl rfl)
theorem dX3_init_8 : decode cX3_init 8 = .ok (.return_, 1) := dk_177 (dk_at dksX3_init_0 8 rfl rfl)
theorem q90 : (Jvm.Cond.initialized "ThirtyThreeBelow$Fault") ∈ lw_all := lw_g (lw_at lw_m1 7 rfl) rfl
theorem q159 : (Jvm.Cond.selects "ThirtyThreeBelow$Fault" ({ cls := "java/lang/Throwable", name := "fillInStackTrace", desc := "()Ljava/lang/Throwable;" } : Jvm.MethodName) ({ cls := "java/lang/Throwable", name := "fillInStackTrace", desc := "()Ljava/lang/Throwable;" } : Jvm.MethodName)) ∈ lw_all := lw_g (lw_at lw_m1 76 rfl) rfl
theorem q201 : (Jvm.Cond.instantiable "ThirtyThreeBelow$Fault" (6 : Nat)) ∈ lw_all := lw_g (lw_at lw_m1 118 rfl) rfl
theorem q202 : (Jvm.Cond.castable "ThirtyThreeBelow$Fault" "ThirtyThreeBelow$Fault") ∈ lw_tbl := lw_at lw_m1 119 rfl
theorem q203 : (Jvm.Cond.selects "ThirtyThreeBelow$Fault" ({ cls := "java/lang/Throwable", name := "fillInStackTrace", desc := "(I)Ljava/lang/Throwable;" } : Jvm.MethodName) ({ cls := "java/lang/Throwable", name := "fillInStackTrace", desc := "(I)Ljava/lang/Throwable;" } : Jvm.MethodName)) ∈ lw_all := lw_g (lw_at lw_m1 120 rfl) rfl
theorem q204 : (Jvm.Cond.lays "ThirtyThreeBelow$Fault" "java/lang/Throwable" "cause" "Ljava/lang/Throwable;") ∈ lw_all := lw_g (lw_at lw_m1 121 rfl) rfl
theorem q205 : (Jvm.Cond.lays "ThirtyThreeBelow$Fault" "java/lang/Throwable" "stackTrace" "[Ljava/lang/StackTraceElement;") ∈ lw_all := lw_g (lw_at lw_m1 122 rfl) rfl
theorem q206 : (Jvm.Cond.lays "ThirtyThreeBelow$Fault" "java/lang/Throwable" "suppressedExceptions" "Ljava/util/List;") ∈ lw_all := lw_g (lw_at lw_m1 123 rfl) rfl
theorem q207 : (Jvm.Cond.lays "ThirtyThreeBelow$Fault" "java/lang/Throwable" "detailMessage" "Ljava/lang/String;") ∈ lw_all := lw_g (lw_at lw_m1 124 rfl) rfl
theorem q208 : (Jvm.Cond.lays "ThirtyThreeBelow$Fault" "java/lang/Throwable" "backtrace" "Ljava/lang/Object;") ∈ lw_all := lw_g (lw_at lw_m1 125 rfl) rfl
theorem q210 : (Jvm.Cond.instanceMethod ({ cls := "ThirtyThreeBelow$Fault", name := "<init>", desc := "()V" } : Jvm.MethodName)) ∈ lw_all := lw_g (lw_at lw_m1 127 rfl) rfl
theorem q211 : (Jvm.Cond.code ({ cls := "ThirtyThreeBelow$Fault", name := "<init>", desc := "()V" } : Jvm.MethodName) prog_5_method_1_code (1 : Nat) (Option.none : Option Jvm.ClassFile.FieldType)) ∈ lw_all := lw_g (lw_at lw_m1 128 rfl) rfl
theorem q212 : (Jvm.Cond.methodLink "ThirtyThreeBelow$Fault" (1 : Nat) ({ cls := "java/lang/RuntimeException", name := "<init>", desc := "(Ljava/lang/String;Ljava/lang/Throwable;ZZ)V" } : Jvm.MethodName)) ∈ lw_all := lw_g (lw_at lw_m1 129 rfl) rfl
theorem q213 : (Jvm.Cond.lays "ThirtyThreeBelow$Fault" "java/lang/Throwable" "depth" "I") ∈ lw_all := lw_g (lw_at lw_m1 130 rfl) rfl
theorem q214 : (Jvm.Cond.superclass "ThirtyThreeBelow$Fault" "java/lang/RuntimeException") ∈ lw_all := lw_g (lw_at lw_m1 131 rfl) rfl
theorem q2453 : (Jvm.Cond.castable "ThirtyThreeBelow$Fault" "java/lang/Object") ∈ lw_tbl := lw_at lw_m10 210 rfl
theorem in_X3 : ∀ w ∈ wsX30, w ∈ lw_all := lw_in wsX30 [204, 205, 206, 207, 208, 213] (by decide +kernel) (by decide +kernel)
/-! ThirtyThreeBelow$Text -/
set_option maxRecDepth 100000
def RX4 : String := "ThirtyThreeBelow$Text"
def TX4 : u_T := fun k => match k with
  | 0 => ("ThirtyThreeBelow$Text", "tests", "[LThirtyThreeBelow$Term;", true)
  | 1 => ("ThirtyThreeBelow$Text", "gives", "[LThirtyThreeBelow$Term;", true)
  | 2 => ("ThirtyThreeBelow$Text", "lines", "I", false)
  | 3 => ("ThirtyThreeBelow$Text", "what", "I", false)
  | 4 => ("ThirtyThreeBelow$Text", "from", "I", false)
  | 5 => ("ThirtyThreeBelow$Text", "made", "I", false)
  | _ => ("ThirtyThreeBelow$Text", "this$0", "LThirtyThreeBelow;", true)
def tyX4 : Nat → FieldType := fun k => match k with
  | 0 => .array (.object "ThirtyThreeBelow$Term")
  | 1 => .array (.object "ThirtyThreeBelow$Term")
  | 2 => .int
  | 3 => .int
  | 4 => .int
  | 5 => .int
  | _ => .object "ThirtyThreeBelow"
abbrev wsX40 : List Cond := u_ws RX4 TX4 7
theorem nmX4 : ∀ a, a < 7 → ∀ b, b < 7 → a ≠ b → (TX4 a).2.1 ≠ (TX4 b).2.1 := by decide +kernel
theorem tyX4_ok : ∀ k, k < 7 → parseFieldDescriptor (TX4 k).2.2.1 = some (tyX4 k) := by decide +kernel
abbrev cX4_init : ByteArray := prog_16_method_1_code
def yX4_init : MethodName := ⟨RX4, "<init>", "(LThirtyThreeBelow;)V"⟩
def dkwX4_init_1 : List UInt8 := [189, 0, 15, 181, 0, 21, 177]
abbrev dktX4_init_1 : List UInt8 := dkwX4_init_1 ++ []
def dkwX4_init_0 : List UInt8 := [42, 43, 181, 0, 3, 42, 183, 0, 9, 42, 17, 0, 160, 189, 0, 15, 181, 0, 17, 42, 17, 0, 160]
abbrev dktX4_init_0 : List UInt8 := dkwX4_init_0 ++ dktX4_init_1
theorem dksX4_init_0 : cX4_init.data.toList.drop 0 = dktX4_init_0 := by decide +kernel
theorem dksX4_init_1 : cX4_init.data.toList.drop 23 = dktX4_init_1 := dk_seg dksX4_init_0 23 rfl rfl
theorem dX4_init_0 : decode cX4_init 0 = .ok (.aload_n 0, 1) := dk_42 (dk_at dksX4_init_0 0 rfl rfl)
theorem dX4_init_1 : decode cX4_init 1 = .ok (.aload_n 1, 1) := dk_43 (dk_at dksX4_init_0 1 rfl rfl)
theorem dX4_init_2 : decode cX4_init 2 = .ok (.putfield 3, 3) := dk_181 0 3 (dk_at dksX4_init_0 2 rfl rfl)
theorem dX4_init_5 : decode cX4_init 5 = .ok (.aload_n 0, 1) := dk_42 (dk_at dksX4_init_0 5 rfl rfl)
theorem dX4_init_6 : decode cX4_init 6 = .ok (.invokespecial 9, 3) := dk_183 0 9 (dk_at dksX4_init_0 6 rfl rfl)
theorem dX4_init_9 : decode cX4_init 9 = .ok (.aload_n 0, 1) := dk_42 (dk_at dksX4_init_0 9 rfl rfl)
theorem dX4_init_10 : decode cX4_init 10 = .ok (.sipush 160, 3) := dk_17 0 160 (dk_at dksX4_init_0 10 rfl rfl)
theorem dX4_init_13 : decode cX4_init 13 = .ok (.anewarray 15, 3) := dk_189 0 15 (dk_at dksX4_init_0 13 rfl rfl)
theorem dX4_init_16 : decode cX4_init 16 = .ok (.putfield 17, 3) := dk_181 0 17 (dk_at dksX4_init_0 16 rfl rfl)
theorem dX4_init_19 : decode cX4_init 19 = .ok (.aload_n 0, 1) := dk_42 (dk_at dksX4_init_0 19 rfl rfl)
theorem dX4_init_20 : decode cX4_init 20 = .ok (.sipush 160, 3) := dk_17 0 160 (dk_at dksX4_init_0 20 rfl rfl)
theorem dX4_init_23 : decode cX4_init 23 = .ok (.anewarray 15, 3) := dk_189 0 15 (dk_at dksX4_init_1 0 rfl rfl)
theorem dX4_init_26 : decode cX4_init 26 = .ok (.putfield 21, 3) := dk_181 0 21 (dk_at dksX4_init_1 3 rfl rfl)
theorem dX4_init_29 : decode cX4_init 29 = .ok (.return_, 1) := dk_177 (dk_at dksX4_init_1 6 rfl rfl)
abbrev cX4_value : ByteArray := prog_16_method_2_code
def yX4_value : MethodName := ⟨RX4, "value", "()I"⟩
def dkwX4_value_2 : List UInt8 := [182, 0, 28, 172, 132, 1, 1, 167, 255, 203, 42, 180, 0, 3, 2, 181, 0, 32, 3, 172]
abbrev dktX4_value_2 : List UInt8 := dkwX4_value_2 ++ []
def dkwX4_value_1 : List UInt8 := [50, 182, 0, 28, 154, 0, 6, 167, 0, 21, 42, 180, 0, 3, 27, 181, 0, 32, 42, 180, 0, 21, 27, 50]
abbrev dktX4_value_1 : List UInt8 := dkwX4_value_1 ++ dktX4_value_2
def dkwX4_value_0 : List UInt8 := [3, 60, 27, 42, 180, 0, 24, 162, 0, 51, 42, 180, 0, 17, 27, 50, 198, 0, 18, 42, 180, 0, 17, 27]
abbrev dktX4_value_0 : List UInt8 := dkwX4_value_0 ++ dktX4_value_1
theorem dksX4_value_0 : cX4_value.data.toList.drop 0 = dktX4_value_0 := by decide +kernel
theorem dksX4_value_1 : cX4_value.data.toList.drop 24 = dktX4_value_1 := dk_seg dksX4_value_0 24 rfl rfl
theorem dksX4_value_2 : cX4_value.data.toList.drop 48 = dktX4_value_2 := dk_seg dksX4_value_1 24 rfl rfl
theorem dX4_value_0 : decode cX4_value 0 = .ok (.iconst 0, 1) := dk_3 (dk_at dksX4_value_0 0 rfl rfl)
theorem dX4_value_1 : decode cX4_value 1 = .ok (.istore_n 1, 1) := dk_60 (dk_at dksX4_value_0 1 rfl rfl)
theorem dX4_value_2 : decode cX4_value 2 = .ok (.iload_n 1, 1) := dk_27 (dk_at dksX4_value_0 2 rfl rfl)
theorem dX4_value_3 : decode cX4_value 3 = .ok (.aload_n 0, 1) := dk_42 (dk_at dksX4_value_0 3 rfl rfl)
theorem dX4_value_4 : decode cX4_value 4 = .ok (.getfield 24, 3) := dk_180 0 24 (dk_at dksX4_value_0 4 rfl rfl)
theorem dX4_value_7 : decode cX4_value 7 = .ok (.if_icmp .ge 51, 3) := dk_162 0 51 (dk_at dksX4_value_0 7 rfl rfl)
theorem dX4_value_10 : decode cX4_value 10 = .ok (.aload_n 0, 1) := dk_42 (dk_at dksX4_value_0 10 rfl rfl)
theorem dX4_value_11 : decode cX4_value 11 = .ok (.getfield 17, 3) := dk_180 0 17 (dk_at dksX4_value_0 11 rfl rfl)
theorem dX4_value_14 : decode cX4_value 14 = .ok (.iload_n 1, 1) := dk_27 (dk_at dksX4_value_0 14 rfl rfl)
theorem dX4_value_15 : decode cX4_value 15 = .ok (.aaload, 1) := dk_50 (dk_at dksX4_value_0 15 rfl rfl)
theorem dX4_value_16 : decode cX4_value 16 = .ok (.ifnull 18, 3) := dk_198 0 18 (dk_at dksX4_value_0 16 rfl rfl)
theorem dX4_value_19 : decode cX4_value 19 = .ok (.aload_n 0, 1) := dk_42 (dk_at dksX4_value_0 19 rfl rfl)
theorem dX4_value_20 : decode cX4_value 20 = .ok (.getfield 17, 3) := dk_180 0 17 (dk_at dksX4_value_0 20 rfl rfl)
theorem dX4_value_23 : decode cX4_value 23 = .ok (.iload_n 1, 1) := dk_27 (dk_at dksX4_value_0 23 rfl rfl)
theorem dX4_value_24 : decode cX4_value 24 = .ok (.aaload, 1) := dk_50 (dk_at dksX4_value_1 0 rfl rfl)
theorem dX4_value_25 : decode cX4_value 25 = .ok (.invokevirtual 28, 3) := dk_182 0 28 (dk_at dksX4_value_1 1 rfl rfl)
theorem dX4_value_28 : decode cX4_value 28 = .ok (.ifCond .ne 6, 3) := dk_154 0 6 (dk_at dksX4_value_1 4 rfl rfl)
theorem dX4_value_31 : decode cX4_value 31 = .ok (.goto 21, 3) := dk_167 0 21 (dk_at dksX4_value_1 7 rfl rfl)
theorem dX4_value_34 : decode cX4_value 34 = .ok (.aload_n 0, 1) := dk_42 (dk_at dksX4_value_1 10 rfl rfl)
theorem dX4_value_35 : decode cX4_value 35 = .ok (.getfield 3, 3) := dk_180 0 3 (dk_at dksX4_value_1 11 rfl rfl)
theorem dX4_value_38 : decode cX4_value 38 = .ok (.iload_n 1, 1) := dk_27 (dk_at dksX4_value_1 14 rfl rfl)
theorem dX4_value_39 : decode cX4_value 39 = .ok (.putfield 32, 3) := dk_181 0 32 (dk_at dksX4_value_1 15 rfl rfl)
theorem dX4_value_42 : decode cX4_value 42 = .ok (.aload_n 0, 1) := dk_42 (dk_at dksX4_value_1 18 rfl rfl)
theorem dX4_value_43 : decode cX4_value 43 = .ok (.getfield 21, 3) := dk_180 0 21 (dk_at dksX4_value_1 19 rfl rfl)
theorem dX4_value_46 : decode cX4_value 46 = .ok (.iload_n 1, 1) := dk_27 (dk_at dksX4_value_1 22 rfl rfl)
theorem dX4_value_47 : decode cX4_value 47 = .ok (.aaload, 1) := dk_50 (dk_at dksX4_value_1 23 rfl rfl)
theorem dX4_value_48 : decode cX4_value 48 = .ok (.invokevirtual 28, 3) := dk_182 0 28 (dk_at dksX4_value_2 0 rfl rfl)
theorem dX4_value_51 : decode cX4_value 51 = .ok (.ireturn, 1) := dk_172 (dk_at dksX4_value_2 3 rfl rfl)
theorem dX4_value_52 : decode cX4_value 52 = .ok (.iinc 1 1, 3) := dk_132 1 1 (dk_at dksX4_value_2 4 rfl rfl)
theorem dX4_value_55 : decode cX4_value 55 = .ok (.goto (-53), 3) := dk_167 255 203 (dk_at dksX4_value_2 7 rfl rfl)
theorem dX4_value_58 : decode cX4_value 58 = .ok (.aload_n 0, 1) := dk_42 (dk_at dksX4_value_2 10 rfl rfl)
theorem dX4_value_59 : decode cX4_value 59 = .ok (.getfield 3, 3) := dk_180 0 3 (dk_at dksX4_value_2 11 rfl rfl)
theorem dX4_value_62 : decode cX4_value 62 = .ok (.iconst (-1), 1) := dk_2 (dk_at dksX4_value_2 14 rfl rfl)
theorem dX4_value_63 : decode cX4_value 63 = .ok (.putfield 32, 3) := dk_181 0 32 (dk_at dksX4_value_2 15 rfl rfl)
theorem dX4_value_66 : decode cX4_value 66 = .ok (.iconst 0, 1) := dk_3 (dk_at dksX4_value_2 18 rfl rfl)
theorem dX4_value_67 : decode cX4_value 67 = .ok (.ireturn, 1) := dk_172 (dk_at dksX4_value_2 19 rfl rfl)
theorem q91 : (Jvm.Cond.initialized "ThirtyThreeBelow$Text") ∈ lw_all := lw_g (lw_at lw_m1 8 rfl) rfl
theorem q232 : (Jvm.Cond.instantiable "ThirtyThreeBelow$Text" (7 : Nat)) ∈ lw_all := lw_g (lw_at lw_m1 149 rfl) rfl
theorem q234 : (Jvm.Cond.instanceMethod ({ cls := "ThirtyThreeBelow$Text", name := "<init>", desc := "(LThirtyThreeBelow;)V" } : Jvm.MethodName)) ∈ lw_all := lw_g (lw_at lw_m1 151 rfl) rfl
theorem q235 : (Jvm.Cond.code ({ cls := "ThirtyThreeBelow$Text", name := "<init>", desc := "(LThirtyThreeBelow;)V" } : Jvm.MethodName) prog_16_method_1_code (2 : Nat) (Option.none : Option Jvm.ClassFile.FieldType)) ∈ lw_all := lw_g (lw_at lw_m1 152 rfl) rfl
theorem q236 : (Jvm.Cond.methodLink "ThirtyThreeBelow$Text" (9 : Nat) ({ cls := "java/lang/Object", name := "<init>", desc := "()V" } : Jvm.MethodName)) ∈ lw_all := lw_g (lw_at lw_m1 153 rfl) rfl
theorem q237 : (Jvm.Cond.classLink "ThirtyThreeBelow$Text" (15 : Nat) "ThirtyThreeBelow$Term") ∈ lw_all := lw_g (lw_at lw_m1 154 rfl) rfl
theorem q239 : (Jvm.Cond.fieldLink "ThirtyThreeBelow$Text" (17 : Nat) "ThirtyThreeBelow$Text" "tests" "[LThirtyThreeBelow$Term;") ∈ lw_all := lw_g (lw_at lw_m1 156 rfl) rfl
theorem q241 : (Jvm.Cond.fieldLink "ThirtyThreeBelow$Text" (21 : Nat) "ThirtyThreeBelow$Text" "gives" "[LThirtyThreeBelow$Term;") ∈ lw_all := lw_g (lw_at lw_m1 158 rfl) rfl
theorem q243 : (Jvm.Cond.fieldLink "ThirtyThreeBelow$Text" (24 : Nat) "ThirtyThreeBelow$Text" "lines" "I") ∈ lw_all := lw_g (lw_at lw_m1 160 rfl) rfl
theorem q248 : (Jvm.Cond.fieldLink "ThirtyThreeBelow$Text" (3 : Nat) "ThirtyThreeBelow$Text" "this$0" "LThirtyThreeBelow;") ∈ lw_all := lw_g (lw_at lw_m1 165 rfl) rfl
theorem q249 : (Jvm.Cond.laysFinal "ThirtyThreeBelow$Text" "ThirtyThreeBelow$Text" "tests" "[LThirtyThreeBelow$Term;") ∈ lw_all := lw_g (lw_at lw_m1 166 rfl) rfl
theorem q250 : (Jvm.Cond.soleField "ThirtyThreeBelow$Text" "tests") ∈ lw_all := lw_g (lw_at lw_m1 167 rfl) rfl
theorem q251 : (Jvm.Cond.laysFinal "ThirtyThreeBelow$Text" "ThirtyThreeBelow$Text" "gives" "[LThirtyThreeBelow$Term;") ∈ lw_all := lw_g (lw_at lw_m1 168 rfl) rfl
theorem q252 : (Jvm.Cond.soleField "ThirtyThreeBelow$Text" "gives") ∈ lw_all := lw_g (lw_at lw_m1 169 rfl) rfl
theorem q253 : (Jvm.Cond.lays "ThirtyThreeBelow$Text" "ThirtyThreeBelow$Text" "lines" "I") ∈ lw_all := lw_g (lw_at lw_m1 170 rfl) rfl
theorem q254 : (Jvm.Cond.soleField "ThirtyThreeBelow$Text" "lines") ∈ lw_all := lw_g (lw_at lw_m1 171 rfl) rfl
theorem q255 : (Jvm.Cond.lays "ThirtyThreeBelow$Text" "ThirtyThreeBelow$Text" "what" "I") ∈ lw_all := lw_g (lw_at lw_m1 172 rfl) rfl
theorem q256 : (Jvm.Cond.soleField "ThirtyThreeBelow$Text" "what") ∈ lw_all := lw_g (lw_at lw_m1 173 rfl) rfl
theorem q257 : (Jvm.Cond.lays "ThirtyThreeBelow$Text" "ThirtyThreeBelow$Text" "from" "I") ∈ lw_all := lw_g (lw_at lw_m1 174 rfl) rfl
theorem q258 : (Jvm.Cond.soleField "ThirtyThreeBelow$Text" "from") ∈ lw_all := lw_g (lw_at lw_m1 175 rfl) rfl
theorem q259 : (Jvm.Cond.lays "ThirtyThreeBelow$Text" "ThirtyThreeBelow$Text" "made" "I") ∈ lw_all := lw_g (lw_at lw_m1 176 rfl) rfl
theorem q260 : (Jvm.Cond.soleField "ThirtyThreeBelow$Text" "made") ∈ lw_all := lw_g (lw_at lw_m1 177 rfl) rfl
theorem q261 : (Jvm.Cond.laysFinal "ThirtyThreeBelow$Text" "ThirtyThreeBelow$Text" "this$0" "LThirtyThreeBelow;") ∈ lw_all := lw_g (lw_at lw_m1 178 rfl) rfl
theorem q262 : (Jvm.Cond.soleField "ThirtyThreeBelow$Text" "this$0") ∈ lw_all := lw_g (lw_at lw_m1 179 rfl) rfl
theorem q263 : (Jvm.Cond.superclass "ThirtyThreeBelow$Text" "java/lang/Object") ∈ lw_all := lw_g (lw_at lw_m1 180 rfl) rfl
theorem q291 : (Jvm.Cond.fieldLinkNest "ThirtyThreeBelow$Text" (32 : Nat) "ThirtyThreeBelow" "byLine" "I" "ThirtyThreeBelow") ∈ lw_tbl := lw_at lw_m1 208 rfl
theorem q1154 : (Jvm.Cond.instanceMethod ({ cls := "ThirtyThreeBelow$Text", name := "value", desc := "()I" } : Jvm.MethodName)) ∈ lw_all := lw_g (lw_at lw_m5 111 rfl) rfl
theorem q1155 : (Jvm.Cond.selects "ThirtyThreeBelow$Text" ({ cls := "ThirtyThreeBelow$Text", name := "value", desc := "()I" } : Jvm.MethodName) ({ cls := "ThirtyThreeBelow$Text", name := "value", desc := "()I" } : Jvm.MethodName)) ∈ lw_all := lw_g (lw_at lw_m5 112 rfl) rfl
theorem q1156 : (Jvm.Cond.code ({ cls := "ThirtyThreeBelow$Text", name := "value", desc := "()I" } : Jvm.MethodName) prog_16_method_2_code (2 : Nat) (Option.some Jvm.ClassFile.FieldType.int)) ∈ lw_all := lw_g (lw_at lw_m5 113 rfl) rfl
theorem q1157 : (Jvm.Cond.methodLink "ThirtyThreeBelow$Text" (28 : Nat) ({ cls := "ThirtyThreeBelow$Term", name := "value", desc := "()I" } : Jvm.MethodName)) ∈ lw_all := lw_g (lw_at lw_m5 114 rfl) rfl
theorem q2454 : (Jvm.Cond.castable "ThirtyThreeBelow$Text" "java/lang/Object") ∈ lw_tbl := lw_at lw_m10 211 rfl
theorem in_X4 : ∀ w ∈ wsX40, w ∈ lw_all := lw_in wsX40 [249, 251, 253, 255, 257, 259, 261] (by decide +kernel) (by decide +kernel)
/-! ThirtyThreeBelow$Body -/
set_option maxRecDepth 100000
def RX6 : String := "ThirtyThreeBelow$Body"
def TX6 : u_T := fun k => match k with
  | 0 => ("ThirtyThreeBelow$Body", "number", "I", true)
  | _ => ("ThirtyThreeBelow$Body", "this$0", "LThirtyThreeBelow;", true)
def tyX6 : Nat → FieldType := fun k => match k with
  | 0 => .int
  | _ => .object "ThirtyThreeBelow"
abbrev wsX60 : List Cond := u_ws RX6 TX6 2
theorem nmX6 : ∀ a, a < 2 → ∀ b, b < 2 → a ≠ b → (TX6 a).2.1 ≠ (TX6 b).2.1 := by decide +kernel
theorem tyX6_ok : ∀ k, k < 2 → parseFieldDescriptor (TX6 k).2.2.1 = some (tyX6 k) := by decide +kernel
abbrev cX6_init : ByteArray := prog_2_method_1_code
def yX6_init : MethodName := ⟨RX6, "<init>", "(LThirtyThreeBelow;I)V"⟩
def dkwX6_init_0 : List UInt8 := [42, 43, 181, 0, 3, 42, 183, 0, 9, 42, 28, 181, 0, 15, 177]
abbrev dktX6_init_0 : List UInt8 := dkwX6_init_0 ++ []
theorem dksX6_init_0 : cX6_init.data.toList.drop 0 = dktX6_init_0 := by decide +kernel
theorem dX6_init_0 : decode cX6_init 0 = .ok (.aload_n 0, 1) := dk_42 (dk_at dksX6_init_0 0 rfl rfl)
theorem dX6_init_1 : decode cX6_init 1 = .ok (.aload_n 1, 1) := dk_43 (dk_at dksX6_init_0 1 rfl rfl)
theorem dX6_init_2 : decode cX6_init 2 = .ok (.putfield 3, 3) := dk_181 0 3 (dk_at dksX6_init_0 2 rfl rfl)
theorem dX6_init_5 : decode cX6_init 5 = .ok (.aload_n 0, 1) := dk_42 (dk_at dksX6_init_0 5 rfl rfl)
theorem dX6_init_6 : decode cX6_init 6 = .ok (.invokespecial 9, 3) := dk_183 0 9 (dk_at dksX6_init_0 6 rfl rfl)
theorem dX6_init_9 : decode cX6_init 9 = .ok (.aload_n 0, 1) := dk_42 (dk_at dksX6_init_0 9 rfl rfl)
theorem dX6_init_10 : decode cX6_init 10 = .ok (.iload_n 2, 1) := dk_28 (dk_at dksX6_init_0 10 rfl rfl)
theorem dX6_init_11 : decode cX6_init 11 = .ok (.putfield 15, 3) := dk_181 0 15 (dk_at dksX6_init_0 11 rfl rfl)
theorem dX6_init_14 : decode cX6_init 14 = .ok (.return_, 1) := dk_177 (dk_at dksX6_init_0 14 rfl rfl)
abbrev cX6_kind : ByteArray := prog_2_method_2_code
def yX6_kind : MethodName := ⟨RX6, "kind", "()I"⟩
theorem dX6_kind_0 : decode cX6_kind 0 = .ok (.iconst 0, 1) := by decide +kernel
theorem dX6_kind_1 : decode cX6_kind 1 = .ok (.ireturn, 1) := by decide +kernel
abbrev cX6_begins : ByteArray := prog_2_method_5_code
def yX6_begins : MethodName := ⟨RX6, "begins", "(I)V"⟩
def dkwX6_begins_1 : List UInt8 := [180, 0, 19, 27, 79, 42, 180, 0, 3, 89, 180, 0, 19, 4, 96, 181, 0, 19, 177]
abbrev dktX6_begins_1 : List UInt8 := dkwX6_begins_1 ++ []
def dkwX6_begins_0 : List UInt8 := [42, 180, 0, 3, 180, 0, 19, 16, 24, 162, 0, 19, 42, 180, 0, 3, 180, 0, 22, 42, 180, 0, 3]
abbrev dktX6_begins_0 : List UInt8 := dkwX6_begins_0 ++ dktX6_begins_1
theorem dksX6_begins_0 : cX6_begins.data.toList.drop 0 = dktX6_begins_0 := by decide +kernel
theorem dksX6_begins_1 : cX6_begins.data.toList.drop 23 = dktX6_begins_1 := dk_seg dksX6_begins_0 23 rfl rfl
theorem dX6_begins_0 : decode cX6_begins 0 = .ok (.aload_n 0, 1) := dk_42 (dk_at dksX6_begins_0 0 rfl rfl)
theorem dX6_begins_1 : decode cX6_begins 1 = .ok (.getfield 3, 3) := dk_180 0 3 (dk_at dksX6_begins_0 1 rfl rfl)
theorem dX6_begins_4 : decode cX6_begins 4 = .ok (.getfield 19, 3) := dk_180 0 19 (dk_at dksX6_begins_0 4 rfl rfl)
theorem dX6_begins_7 : decode cX6_begins 7 = .ok (.bipush 24, 2) := dk_16 24 (dk_at dksX6_begins_0 7 rfl rfl)
theorem dX6_begins_9 : decode cX6_begins 9 = .ok (.if_icmp .ge 19, 3) := dk_162 0 19 (dk_at dksX6_begins_0 9 rfl rfl)
theorem dX6_begins_12 : decode cX6_begins 12 = .ok (.aload_n 0, 1) := dk_42 (dk_at dksX6_begins_0 12 rfl rfl)
theorem dX6_begins_13 : decode cX6_begins 13 = .ok (.getfield 3, 3) := dk_180 0 3 (dk_at dksX6_begins_0 13 rfl rfl)
theorem dX6_begins_16 : decode cX6_begins 16 = .ok (.getfield 22, 3) := dk_180 0 22 (dk_at dksX6_begins_0 16 rfl rfl)
theorem dX6_begins_19 : decode cX6_begins 19 = .ok (.aload_n 0, 1) := dk_42 (dk_at dksX6_begins_0 19 rfl rfl)
theorem dX6_begins_20 : decode cX6_begins 20 = .ok (.getfield 3, 3) := dk_180 0 3 (dk_at dksX6_begins_0 20 rfl rfl)
theorem dX6_begins_23 : decode cX6_begins 23 = .ok (.getfield 19, 3) := dk_180 0 19 (dk_at dksX6_begins_1 0 rfl rfl)
theorem dX6_begins_26 : decode cX6_begins 26 = .ok (.iload_n 1, 1) := dk_27 (dk_at dksX6_begins_1 3 rfl rfl)
theorem dX6_begins_27 : decode cX6_begins 27 = .ok (.iastore, 1) := dk_79 (dk_at dksX6_begins_1 4 rfl rfl)
theorem dX6_begins_28 : decode cX6_begins 28 = .ok (.aload_n 0, 1) := dk_42 (dk_at dksX6_begins_1 5 rfl rfl)
theorem dX6_begins_29 : decode cX6_begins 29 = .ok (.getfield 3, 3) := dk_180 0 3 (dk_at dksX6_begins_1 6 rfl rfl)
theorem dX6_begins_32 : decode cX6_begins 32 = .ok (.dup, 1) := dk_89 (dk_at dksX6_begins_1 9 rfl rfl)
theorem dX6_begins_33 : decode cX6_begins 33 = .ok (.getfield 19, 3) := dk_180 0 19 (dk_at dksX6_begins_1 10 rfl rfl)
theorem dX6_begins_36 : decode cX6_begins 36 = .ok (.iconst 1, 1) := dk_4 (dk_at dksX6_begins_1 13 rfl rfl)
theorem dX6_begins_37 : decode cX6_begins 37 = .ok (.iadd, 1) := dk_96 (dk_at dksX6_begins_1 14 rfl rfl)
theorem dX6_begins_38 : decode cX6_begins 38 = .ok (.putfield 19, 3) := dk_181 0 19 (dk_at dksX6_begins_1 15 rfl rfl)
theorem dX6_begins_41 : decode cX6_begins 41 = .ok (.return_, 1) := dk_177 (dk_at dksX6_begins_1 18 rfl rfl)
abbrev cX6_number : ByteArray := prog_2_method_4_code
def yX6_number : MethodName := ⟨RX6, "number", "()I"⟩
theorem dX6_number_0 : decode cX6_number 0 = .ok (.aload_n 0, 1) := by decide +kernel
theorem dX6_number_1 : decode cX6_number 1 = .ok (.getfield 15, 3) := by decide +kernel
theorem dX6_number_4 : decode cX6_number 4 = .ok (.ireturn, 1) := by decide +kernel
abbrev cX6_carries : ByteArray := prog_2_method_6_code
def yX6_carries : MethodName := ⟨RX6, "carries", "(I)I"⟩
def dkwX6_carries_0 : List UInt8 := [42, 16, 10, 182, 0, 26, 42, 27, 182, 0, 30, 4, 100, 172]
abbrev dktX6_carries_0 : List UInt8 := dkwX6_carries_0 ++ []
theorem dksX6_carries_0 : cX6_carries.data.toList.drop 0 = dktX6_carries_0 := by decide +kernel
theorem dX6_carries_0 : decode cX6_carries 0 = .ok (.aload_n 0, 1) := dk_42 (dk_at dksX6_carries_0 0 rfl rfl)
theorem dX6_carries_1 : decode cX6_carries 1 = .ok (.bipush 10, 2) := dk_16 10 (dk_at dksX6_carries_0 1 rfl rfl)
theorem dX6_carries_3 : decode cX6_carries 3 = .ok (.invokevirtual 26, 3) := dk_182 0 26 (dk_at dksX6_carries_0 3 rfl rfl)
theorem dX6_carries_6 : decode cX6_carries 6 = .ok (.aload_n 0, 1) := dk_42 (dk_at dksX6_carries_0 6 rfl rfl)
theorem dX6_carries_7 : decode cX6_carries 7 = .ok (.iload_n 1, 1) := dk_27 (dk_at dksX6_carries_0 7 rfl rfl)
theorem dX6_carries_8 : decode cX6_carries 8 = .ok (.invokevirtual 30, 3) := dk_182 0 30 (dk_at dksX6_carries_0 8 rfl rfl)
theorem dX6_carries_11 : decode cX6_carries 11 = .ok (.iconst 1, 1) := dk_4 (dk_at dksX6_carries_0 11 rfl rfl)
theorem dX6_carries_12 : decode cX6_carries 12 = .ok (.isub, 1) := dk_100 (dk_at dksX6_carries_0 12 rfl rfl)
theorem dX6_carries_13 : decode cX6_carries 13 = .ok (.ireturn, 1) := dk_172 (dk_at dksX6_carries_0 13 rfl rfl)
abbrev cX6_holds : ByteArray := prog_2_method_7_code
def yX6_holds : MethodName := ⟨RX6, "holds", "(I)I"⟩
def dkwX6_holds_0 : List UInt8 := [42, 16, 11, 182, 0, 26, 27, 42, 180, 0, 15, 130, 172]
abbrev dktX6_holds_0 : List UInt8 := dkwX6_holds_0 ++ []
theorem dksX6_holds_0 : cX6_holds.data.toList.drop 0 = dktX6_holds_0 := by decide +kernel
theorem dX6_holds_0 : decode cX6_holds 0 = .ok (.aload_n 0, 1) := dk_42 (dk_at dksX6_holds_0 0 rfl rfl)
theorem dX6_holds_1 : decode cX6_holds 1 = .ok (.bipush 11, 2) := dk_16 11 (dk_at dksX6_holds_0 1 rfl rfl)
theorem dX6_holds_3 : decode cX6_holds 3 = .ok (.invokevirtual 26, 3) := dk_182 0 26 (dk_at dksX6_holds_0 3 rfl rfl)
theorem dX6_holds_6 : decode cX6_holds 6 = .ok (.iload_n 1, 1) := dk_27 (dk_at dksX6_holds_0 6 rfl rfl)
theorem dX6_holds_7 : decode cX6_holds 7 = .ok (.aload_n 0, 1) := dk_42 (dk_at dksX6_holds_0 7 rfl rfl)
theorem dX6_holds_8 : decode cX6_holds 8 = .ok (.getfield 15, 3) := dk_180 0 15 (dk_at dksX6_holds_0 8 rfl rfl)
theorem dX6_holds_11 : decode cX6_holds 11 = .ok (.ixor, 1) := dk_130 (dk_at dksX6_holds_0 11 rfl rfl)
theorem dX6_holds_12 : decode cX6_holds 12 = .ok (.ireturn, 1) := dk_172 (dk_at dksX6_holds_0 12 rfl rfl)
abbrev cX6_isUnder : ByteArray := prog_2_method_3_code
def yX6_isUnder : MethodName := ⟨RX6, "isUnder", "(I)Z"⟩
def dkwX6_isUnder_0 : List UInt8 := [27, 154, 0, 7, 4, 167, 0, 4, 3, 172]
abbrev dktX6_isUnder_0 : List UInt8 := dkwX6_isUnder_0 ++ []
theorem dksX6_isUnder_0 : cX6_isUnder.data.toList.drop 0 = dktX6_isUnder_0 := by decide +kernel
theorem dX6_isUnder_0 : decode cX6_isUnder 0 = .ok (.iload_n 1, 1) := dk_27 (dk_at dksX6_isUnder_0 0 rfl rfl)
theorem dX6_isUnder_1 : decode cX6_isUnder 1 = .ok (.ifCond .ne 7, 3) := dk_154 0 7 (dk_at dksX6_isUnder_0 1 rfl rfl)
theorem dX6_isUnder_4 : decode cX6_isUnder 4 = .ok (.iconst 1, 1) := dk_4 (dk_at dksX6_isUnder_0 4 rfl rfl)
theorem dX6_isUnder_5 : decode cX6_isUnder 5 = .ok (.goto 4, 3) := dk_167 0 4 (dk_at dksX6_isUnder_0 5 rfl rfl)
theorem dX6_isUnder_8 : decode cX6_isUnder 8 = .ok (.iconst 0, 1) := dk_3 (dk_at dksX6_isUnder_0 8 rfl rfl)
theorem dX6_isUnder_9 : decode cX6_isUnder 9 = .ok (.ireturn, 1) := dk_172 (dk_at dksX6_isUnder_0 9 rfl rfl)
theorem q93 : (Jvm.Cond.initialized "ThirtyThreeBelow$Body") ∈ lw_all := lw_g (lw_at lw_m1 10 rfl) rfl
theorem q274 : (Jvm.Cond.fieldLinkNest "ThirtyThreeBelow$Body" (22 : Nat) "ThirtyThreeBelow" "trace" "[I" "ThirtyThreeBelow") ∈ lw_tbl := lw_at lw_m1 191 rfl
theorem q275 : (Jvm.Cond.fieldLinkNest "ThirtyThreeBelow$Body" (19 : Nat) "ThirtyThreeBelow" "ran" "I" "ThirtyThreeBelow") ∈ lw_tbl := lw_at lw_m1 192 rfl
theorem q481 : (Jvm.Cond.instantiable "ThirtyThreeBelow$Body" (2 : Nat)) ∈ lw_all := lw_g (lw_at lw_m2 158 rfl) rfl
theorem q483 : (Jvm.Cond.instanceMethod ({ cls := "ThirtyThreeBelow$Body", name := "<init>", desc := "(LThirtyThreeBelow;I)V" } : Jvm.MethodName)) ∈ lw_all := lw_g (lw_at lw_m2 160 rfl) rfl
theorem q484 : (Jvm.Cond.code ({ cls := "ThirtyThreeBelow$Body", name := "<init>", desc := "(LThirtyThreeBelow;I)V" } : Jvm.MethodName) prog_2_method_1_code (3 : Nat) (Option.none : Option Jvm.ClassFile.FieldType)) ∈ lw_all := lw_g (lw_at lw_m2 161 rfl) rfl
theorem q485 : (Jvm.Cond.methodLink "ThirtyThreeBelow$Body" (9 : Nat) ({ cls := "java/lang/Object", name := "<init>", desc := "()V" } : Jvm.MethodName)) ∈ lw_all := lw_g (lw_at lw_m2 162 rfl) rfl
theorem q486 : (Jvm.Cond.fieldLink "ThirtyThreeBelow$Body" (15 : Nat) "ThirtyThreeBelow$Body" "number" "I") ∈ lw_all := lw_g (lw_at lw_m2 163 rfl) rfl
theorem q488 : (Jvm.Cond.fieldLink "ThirtyThreeBelow$Body" (3 : Nat) "ThirtyThreeBelow$Body" "this$0" "LThirtyThreeBelow;") ∈ lw_all := lw_g (lw_at lw_m2 165 rfl) rfl
theorem q489 : (Jvm.Cond.laysFinal "ThirtyThreeBelow$Body" "ThirtyThreeBelow$Body" "number" "I") ∈ lw_all := lw_g (lw_at lw_m2 166 rfl) rfl
theorem q490 : (Jvm.Cond.soleField "ThirtyThreeBelow$Body" "number") ∈ lw_all := lw_g (lw_at lw_m2 167 rfl) rfl
theorem q491 : (Jvm.Cond.laysFinal "ThirtyThreeBelow$Body" "ThirtyThreeBelow$Body" "this$0" "LThirtyThreeBelow;") ∈ lw_all := lw_g (lw_at lw_m2 168 rfl) rfl
theorem q492 : (Jvm.Cond.soleField "ThirtyThreeBelow$Body" "this$0") ∈ lw_all := lw_g (lw_at lw_m2 169 rfl) rfl
theorem q493 : (Jvm.Cond.superclass "ThirtyThreeBelow$Body" "java/lang/Object") ∈ lw_all := lw_g (lw_at lw_m2 170 rfl) rfl
theorem q729 : (Jvm.Cond.instanceMethod ({ cls := "ThirtyThreeBelow$Body", name := "kind", desc := "()I" } : Jvm.MethodName)) ∈ lw_all := lw_g (lw_at lw_m3 166 rfl) rfl
theorem q730 : (Jvm.Cond.selects "ThirtyThreeBelow$Body" ({ cls := "ThirtyThreeBelow$Body", name := "kind", desc := "()I" } : Jvm.MethodName) ({ cls := "ThirtyThreeBelow$Body", name := "kind", desc := "()I" } : Jvm.MethodName)) ∈ lw_all := lw_g (lw_at lw_m3 167 rfl) rfl
theorem q731 : (Jvm.Cond.sameMethod "ThirtyThreeBelow$Body" "ThirtyThreeBelow$Body" "kind" "()I") ∈ lw_all := lw_g (lw_at lw_m3 168 rfl) rfl
theorem q753 : (Jvm.Cond.code ({ cls := "ThirtyThreeBelow$Body", name := "kind", desc := "()I" } : Jvm.MethodName) prog_2_method_2_code (1 : Nat) (Option.some Jvm.ClassFile.FieldType.int)) ∈ lw_all := lw_g (lw_at lw_m3 190 rfl) rfl
theorem q1315 : (Jvm.Cond.unhidden "ThirtyThreeBelow$Body" "bores" "(I)I") ∈ lw_tbl := lw_at lw_m6 32 rfl
theorem q1321 : (Jvm.Cond.declares ({ cls := "ThirtyThreeBelow$Body", name := "begins", desc := "(I)V" } : Jvm.MethodName)) ∈ lw_tbl := lw_at lw_m6 38 rfl
theorem q1328 : (Jvm.Cond.instanceMethod ({ cls := "ThirtyThreeBelow$Body", name := "begins", desc := "(I)V" } : Jvm.MethodName)) ∈ lw_all := lw_g (lw_at lw_m6 45 rfl) rfl
theorem q1329 : (Jvm.Cond.code ({ cls := "ThirtyThreeBelow$Body", name := "begins", desc := "(I)V" } : Jvm.MethodName) prog_2_method_5_code (2 : Nat) (Option.none : Option Jvm.ClassFile.FieldType)) ∈ lw_all := lw_g (lw_at lw_m6 46 rfl) rfl
theorem q1336 : (Jvm.Cond.castable "ThirtyThreeBelow$Body" "ThirtyThreeBelow$Bores") ∈ lw_tbl := lw_at lw_m6 53 rfl
theorem q1337 : (Jvm.Cond.selects "ThirtyThreeBelow$Body" ({ cls := "ThirtyThreeBelow$Bores", name := "begins", desc := "(I)V" } : Jvm.MethodName) ({ cls := "ThirtyThreeBelow$Body", name := "begins", desc := "(I)V" } : Jvm.MethodName)) ∈ lw_all := lw_g (lw_at lw_m6 54 rfl) rfl
theorem q1338 : (Jvm.Cond.unhidden "ThirtyThreeBelow$Body" "begins" "(I)V") ∈ lw_tbl := lw_at lw_m6 55 rfl
theorem q1339 : (Jvm.Cond.publicMethod ({ cls := "ThirtyThreeBelow$Body", name := "begins", desc := "(I)V" } : Jvm.MethodName)) ∈ lw_tbl := lw_at lw_m6 56 rfl
theorem q1365 : (Jvm.Cond.selects "ThirtyThreeBelow$Body" ({ cls := "ThirtyThreeBelow$Bores", name := "number", desc := "()I" } : Jvm.MethodName) ({ cls := "ThirtyThreeBelow$Body", name := "number", desc := "()I" } : Jvm.MethodName)) ∈ lw_all := lw_g (lw_at lw_m6 82 rfl) rfl
theorem q1366 : (Jvm.Cond.unhidden "ThirtyThreeBelow$Body" "number" "()I") ∈ lw_tbl := lw_at lw_m6 83 rfl
theorem q1367 : (Jvm.Cond.instanceMethod ({ cls := "ThirtyThreeBelow$Body", name := "number", desc := "()I" } : Jvm.MethodName)) ∈ lw_all := lw_g (lw_at lw_m6 84 rfl) rfl
theorem q1368 : (Jvm.Cond.publicMethod ({ cls := "ThirtyThreeBelow$Body", name := "number", desc := "()I" } : Jvm.MethodName)) ∈ lw_tbl := lw_at lw_m6 85 rfl
theorem q1369 : (Jvm.Cond.code ({ cls := "ThirtyThreeBelow$Body", name := "number", desc := "()I" } : Jvm.MethodName) prog_2_method_4_code (1 : Nat) (Option.some Jvm.ClassFile.FieldType.int)) ∈ lw_all := lw_g (lw_at lw_m6 86 rfl) rfl
theorem q1407 : (Jvm.Cond.instanceMethod ({ cls := "ThirtyThreeBelow$Body", name := "carries", desc := "(I)I" } : Jvm.MethodName)) ∈ lw_all := lw_g (lw_at lw_m6 124 rfl) rfl
theorem q1408 : (Jvm.Cond.selects "ThirtyThreeBelow$Body" ({ cls := "ThirtyThreeBelow$Body", name := "carries", desc := "(I)I" } : Jvm.MethodName) ({ cls := "ThirtyThreeBelow$Body", name := "carries", desc := "(I)I" } : Jvm.MethodName)) ∈ lw_all := lw_g (lw_at lw_m6 125 rfl) rfl
theorem q1409 : (Jvm.Cond.sameMethod "ThirtyThreeBelow$Body" "ThirtyThreeBelow$Body" "carries" "(I)I") ∈ lw_all := lw_g (lw_at lw_m6 126 rfl) rfl
theorem q1421 : (Jvm.Cond.declares ({ cls := "ThirtyThreeBelow$Body", name := "carries", desc := "(I)I" } : Jvm.MethodName)) ∈ lw_tbl := lw_at lw_m6 138 rfl
theorem q1422 : (Jvm.Cond.code ({ cls := "ThirtyThreeBelow$Body", name := "carries", desc := "(I)I" } : Jvm.MethodName) prog_2_method_6_code (2 : Nat) (Option.some Jvm.ClassFile.FieldType.int)) ∈ lw_all := lw_g (lw_at lw_m6 139 rfl) rfl
theorem q1423 : (Jvm.Cond.methodLink "ThirtyThreeBelow$Body" (26 : Nat) ({ cls := "ThirtyThreeBelow$Body", name := "begins", desc := "(I)V" } : Jvm.MethodName)) ∈ lw_all := lw_g (lw_at lw_m6 140 rfl) rfl
theorem q1437 : (Jvm.Cond.instanceMethod ({ cls := "ThirtyThreeBelow$Body", name := "holds", desc := "(I)I" } : Jvm.MethodName)) ∈ lw_all := lw_g (lw_at lw_m6 154 rfl) rfl
theorem q1438 : (Jvm.Cond.selects "ThirtyThreeBelow$Body" ({ cls := "ThirtyThreeBelow$Body", name := "holds", desc := "(I)I" } : Jvm.MethodName) ({ cls := "ThirtyThreeBelow$Body", name := "holds", desc := "(I)I" } : Jvm.MethodName)) ∈ lw_all := lw_g (lw_at lw_m6 155 rfl) rfl
theorem q1439 : (Jvm.Cond.sameMethod "ThirtyThreeBelow$Body" "ThirtyThreeBelow$Body" "holds" "(I)I") ∈ lw_all := lw_g (lw_at lw_m6 156 rfl) rfl
theorem q1446 : (Jvm.Cond.declares ({ cls := "ThirtyThreeBelow$Body", name := "holds", desc := "(I)I" } : Jvm.MethodName)) ∈ lw_tbl := lw_at lw_m6 163 rfl
theorem q1447 : (Jvm.Cond.code ({ cls := "ThirtyThreeBelow$Body", name := "holds", desc := "(I)I" } : Jvm.MethodName) prog_2_method_7_code (2 : Nat) (Option.some Jvm.ClassFile.FieldType.int)) ∈ lw_all := lw_g (lw_at lw_m6 164 rfl) rfl
theorem q1473 : (Jvm.Cond.unhidden "ThirtyThreeBelow$Body" "tells" "(I)I") ∈ lw_tbl := lw_at lw_m6 190 rfl
theorem q1484 : (Jvm.Cond.castable "ThirtyThreeBelow$Body" "ThirtyThreeBelow$Tells") ∈ lw_tbl := lw_at lw_m6 201 rfl
theorem q1485 : (Jvm.Cond.selects "ThirtyThreeBelow$Body" ({ cls := "ThirtyThreeBelow$Tells", name := "begins", desc := "(I)V" } : Jvm.MethodName) ({ cls := "ThirtyThreeBelow$Body", name := "begins", desc := "(I)V" } : Jvm.MethodName)) ∈ lw_all := lw_g (lw_at lw_m6 202 rfl) rfl
theorem q1504 : (Jvm.Cond.selects "ThirtyThreeBelow$Body" ({ cls := "ThirtyThreeBelow$Tells", name := "carries", desc := "(I)I" } : Jvm.MethodName) ({ cls := "ThirtyThreeBelow$Body", name := "carries", desc := "(I)I" } : Jvm.MethodName)) ∈ lw_all := lw_g (lw_at lw_m6 221 rfl) rfl
theorem q1505 : (Jvm.Cond.unhidden "ThirtyThreeBelow$Body" "carries" "(I)I") ∈ lw_tbl := lw_at lw_m6 222 rfl
theorem q1506 : (Jvm.Cond.publicMethod ({ cls := "ThirtyThreeBelow$Body", name := "carries", desc := "(I)I" } : Jvm.MethodName)) ∈ lw_tbl := lw_at lw_m6 223 rfl
theorem q1527 : (Jvm.Cond.selects "ThirtyThreeBelow$Body" ({ cls := "ThirtyThreeBelow$Tells", name := "holds", desc := "(I)I" } : Jvm.MethodName) ({ cls := "ThirtyThreeBelow$Body", name := "holds", desc := "(I)I" } : Jvm.MethodName)) ∈ lw_all := lw_g (lw_at lw_m7 4 rfl) rfl
theorem q1528 : (Jvm.Cond.unhidden "ThirtyThreeBelow$Body" "holds" "(I)I") ∈ lw_tbl := lw_at lw_m7 5 rfl
theorem q1529 : (Jvm.Cond.publicMethod ({ cls := "ThirtyThreeBelow$Body", name := "holds", desc := "(I)I" } : Jvm.MethodName)) ∈ lw_tbl := lw_at lw_m7 6 rfl
theorem q1644 : (Jvm.Cond.instanceMethod ({ cls := "ThirtyThreeBelow$Body", name := "isUnder", desc := "(I)Z" } : Jvm.MethodName)) ∈ lw_all := lw_g (lw_at lw_m7 121 rfl) rfl
theorem q1645 : (Jvm.Cond.selects "ThirtyThreeBelow$Body" ({ cls := "ThirtyThreeBelow$Body", name := "isUnder", desc := "(I)Z" } : Jvm.MethodName) ({ cls := "ThirtyThreeBelow$Body", name := "isUnder", desc := "(I)Z" } : Jvm.MethodName)) ∈ lw_all := lw_g (lw_at lw_m7 122 rfl) rfl
theorem q1646 : (Jvm.Cond.sameMethod "ThirtyThreeBelow$Body" "ThirtyThreeBelow$Body" "isUnder" "(I)Z") ∈ lw_all := lw_g (lw_at lw_m7 123 rfl) rfl
theorem q1654 : (Jvm.Cond.code ({ cls := "ThirtyThreeBelow$Body", name := "isUnder", desc := "(I)Z" } : Jvm.MethodName) prog_2_method_3_code (2 : Nat) (Option.some Jvm.ClassFile.FieldType.boolean)) ∈ lw_all := lw_g (lw_at lw_m7 131 rfl) rfl
theorem q2425 : (Jvm.Cond.sameMethod "ThirtyThreeBelow$Body" "ThirtyThreeBelow$Body" "begins" "(I)V") ∈ lw_all := lw_g (lw_at lw_m10 182 rfl) rfl
theorem q2426 : (Jvm.Cond.selects "ThirtyThreeBelow$Body" ({ cls := "ThirtyThreeBelow$Body", name := "begins", desc := "(I)V" } : Jvm.MethodName) ({ cls := "ThirtyThreeBelow$Body", name := "begins", desc := "(I)V" } : Jvm.MethodName)) ∈ lw_all := lw_g (lw_at lw_m10 183 rfl) rfl
theorem q2456 : (Jvm.Cond.castable "ThirtyThreeBelow$Body" "java/lang/Object") ∈ lw_tbl := lw_at lw_m10 213 rfl
theorem in_X6 : ∀ w ∈ wsX60, w ∈ lw_all := lw_in wsX60 [489, 491] (by decide +kernel) (by decide +kernel)
/-! ThirtyThreeBelow$Way -/
set_option maxRecDepth 100000
def RX7 : String := "ThirtyThreeBelow$Way"
def TX7 : u_T := fun k => match k with
  | 0 => ("ThirtyThreeBelow$Body", "number", "I", true)
  | 1 => ("ThirtyThreeBelow$Body", "this$0", "LThirtyThreeBelow;", true)
  | _ => ("ThirtyThreeBelow$Way", "this$0", "LThirtyThreeBelow;", true)
def tyX7 : Nat → FieldType := fun k => match k with
  | 0 => .int
  | 1 => .object "ThirtyThreeBelow"
  | _ => .object "ThirtyThreeBelow"
abbrev wsX70 : List Cond := u_ws RX7 TX7 3
-- two fields of one name: no nmX7
theorem tyX7_ok : ∀ k, k < 3 → parseFieldDescriptor (TX7 k).2.2.1 = some (tyX7 k) := by decide +kernel
abbrev cX7_init : ByteArray := prog_20_method_1_code
def yX7_init : MethodName := ⟨RX7, "<init>", "(LThirtyThreeBelow;I)V"⟩
def dkwX7_init_0 : List UInt8 := [42, 43, 181, 0, 1, 42, 43, 28, 183, 0, 7, 177]
abbrev dktX7_init_0 : List UInt8 := dkwX7_init_0 ++ []
theorem dksX7_init_0 : cX7_init.data.toList.drop 0 = dktX7_init_0 := by decide +kernel
theorem dX7_init_0 : decode cX7_init 0 = .ok (.aload_n 0, 1) := dk_42 (dk_at dksX7_init_0 0 rfl rfl)
theorem dX7_init_1 : decode cX7_init 1 = .ok (.aload_n 1, 1) := dk_43 (dk_at dksX7_init_0 1 rfl rfl)
theorem dX7_init_2 : decode cX7_init 2 = .ok (.putfield 1, 3) := dk_181 0 1 (dk_at dksX7_init_0 2 rfl rfl)
theorem dX7_init_5 : decode cX7_init 5 = .ok (.aload_n 0, 1) := dk_42 (dk_at dksX7_init_0 5 rfl rfl)
theorem dX7_init_6 : decode cX7_init 6 = .ok (.aload_n 1, 1) := dk_43 (dk_at dksX7_init_0 6 rfl rfl)
theorem dX7_init_7 : decode cX7_init 7 = .ok (.iload_n 2, 1) := dk_28 (dk_at dksX7_init_0 7 rfl rfl)
theorem dX7_init_8 : decode cX7_init 8 = .ok (.invokespecial 7, 3) := dk_183 0 7 (dk_at dksX7_init_0 8 rfl rfl)
theorem dX7_init_11 : decode cX7_init 11 = .ok (.return_, 1) := dk_177 (dk_at dksX7_init_0 11 rfl rfl)
abbrev cX7_kind : ByteArray := prog_20_method_2_code
def yX7_kind : MethodName := ⟨RX7, "kind", "()I"⟩
theorem dX7_kind_0 : decode cX7_kind 0 = .ok (.iconst 1, 1) := by decide +kernel
theorem dX7_kind_1 : decode cX7_kind 1 = .ok (.ireturn, 1) := by decide +kernel
abbrev cX7_bores : ByteArray := prog_20_method_4_code
def yX7_bores : MethodName := ⟨RX7, "bores", "(I)I"⟩
def dkwX7_bores_0 : List UInt8 := [42, 16, 20, 182, 0, 17, 42, 27, 183, 0, 21, 5, 104, 172]
abbrev dktX7_bores_0 : List UInt8 := dkwX7_bores_0 ++ []
theorem dksX7_bores_0 : cX7_bores.data.toList.drop 0 = dktX7_bores_0 := by decide +kernel
theorem dX7_bores_0 : decode cX7_bores 0 = .ok (.aload_n 0, 1) := dk_42 (dk_at dksX7_bores_0 0 rfl rfl)
theorem dX7_bores_1 : decode cX7_bores 1 = .ok (.bipush 20, 2) := dk_16 20 (dk_at dksX7_bores_0 1 rfl rfl)
theorem dX7_bores_3 : decode cX7_bores 3 = .ok (.invokevirtual 17, 3) := dk_182 0 17 (dk_at dksX7_bores_0 3 rfl rfl)
theorem dX7_bores_6 : decode cX7_bores 6 = .ok (.aload_n 0, 1) := dk_42 (dk_at dksX7_bores_0 6 rfl rfl)
theorem dX7_bores_7 : decode cX7_bores 7 = .ok (.iload_n 1, 1) := dk_27 (dk_at dksX7_bores_0 7 rfl rfl)
theorem dX7_bores_8 : decode cX7_bores 8 = .ok (.invokespecial 21, 3) := dk_183 0 21 (dk_at dksX7_bores_0 8 rfl rfl)
theorem dX7_bores_11 : decode cX7_bores 11 = .ok (.iconst 2, 1) := dk_5 (dk_at dksX7_bores_0 11 rfl rfl)
theorem dX7_bores_12 : decode cX7_bores 12 = .ok (.imul, 1) := dk_104 (dk_at dksX7_bores_0 12 rfl rfl)
theorem dX7_bores_13 : decode cX7_bores 13 = .ok (.ireturn, 1) := dk_172 (dk_at dksX7_bores_0 13 rfl rfl)
abbrev cX7_isUnder : ByteArray := prog_20_method_3_code
def yX7_isUnder : MethodName := ⟨RX7, "isUnder", "(I)Z"⟩
def dkwX7_isUnder_0 : List UInt8 := [27, 4, 159, 0, 11, 42, 27, 183, 0, 13, 153, 0, 7, 4, 167, 0, 4, 3, 172]
abbrev dktX7_isUnder_0 : List UInt8 := dkwX7_isUnder_0 ++ []
theorem dksX7_isUnder_0 : cX7_isUnder.data.toList.drop 0 = dktX7_isUnder_0 := by decide +kernel
theorem dX7_isUnder_0 : decode cX7_isUnder 0 = .ok (.iload_n 1, 1) := dk_27 (dk_at dksX7_isUnder_0 0 rfl rfl)
theorem dX7_isUnder_1 : decode cX7_isUnder 1 = .ok (.iconst 1, 1) := dk_4 (dk_at dksX7_isUnder_0 1 rfl rfl)
theorem dX7_isUnder_2 : decode cX7_isUnder 2 = .ok (.if_icmp .eq 11, 3) := dk_159 0 11 (dk_at dksX7_isUnder_0 2 rfl rfl)
theorem dX7_isUnder_5 : decode cX7_isUnder 5 = .ok (.aload_n 0, 1) := dk_42 (dk_at dksX7_isUnder_0 5 rfl rfl)
theorem dX7_isUnder_6 : decode cX7_isUnder 6 = .ok (.iload_n 1, 1) := dk_27 (dk_at dksX7_isUnder_0 6 rfl rfl)
theorem dX7_isUnder_7 : decode cX7_isUnder 7 = .ok (.invokespecial 13, 3) := dk_183 0 13 (dk_at dksX7_isUnder_0 7 rfl rfl)
theorem dX7_isUnder_10 : decode cX7_isUnder 10 = .ok (.ifCond .eq 7, 3) := dk_153 0 7 (dk_at dksX7_isUnder_0 10 rfl rfl)
theorem dX7_isUnder_13 : decode cX7_isUnder 13 = .ok (.iconst 1, 1) := dk_4 (dk_at dksX7_isUnder_0 13 rfl rfl)
theorem dX7_isUnder_14 : decode cX7_isUnder 14 = .ok (.goto 4, 3) := dk_167 0 4 (dk_at dksX7_isUnder_0 14 rfl rfl)
theorem dX7_isUnder_17 : decode cX7_isUnder 17 = .ok (.iconst 0, 1) := dk_3 (dk_at dksX7_isUnder_0 17 rfl rfl)
theorem dX7_isUnder_18 : decode cX7_isUnder 18 = .ok (.ireturn, 1) := dk_172 (dk_at dksX7_isUnder_0 18 rfl rfl)
theorem q94 : (Jvm.Cond.initialized "ThirtyThreeBelow$Way") ∈ lw_all := lw_g (lw_at lw_m1 11 rfl) rfl
theorem q495 : (Jvm.Cond.instantiable "ThirtyThreeBelow$Way" (3 : Nat)) ∈ lw_all := lw_g (lw_at lw_m2 172 rfl) rfl
theorem q497 : (Jvm.Cond.instanceMethod ({ cls := "ThirtyThreeBelow$Way", name := "<init>", desc := "(LThirtyThreeBelow;I)V" } : Jvm.MethodName)) ∈ lw_all := lw_g (lw_at lw_m2 174 rfl) rfl
theorem q498 : (Jvm.Cond.code ({ cls := "ThirtyThreeBelow$Way", name := "<init>", desc := "(LThirtyThreeBelow;I)V" } : Jvm.MethodName) prog_20_method_1_code (3 : Nat) (Option.none : Option Jvm.ClassFile.FieldType)) ∈ lw_all := lw_g (lw_at lw_m2 175 rfl) rfl
theorem q499 : (Jvm.Cond.methodLink "ThirtyThreeBelow$Way" (7 : Nat) ({ cls := "ThirtyThreeBelow$Body", name := "<init>", desc := "(LThirtyThreeBelow;I)V" } : Jvm.MethodName)) ∈ lw_all := lw_g (lw_at lw_m2 176 rfl) rfl
theorem q500 : (Jvm.Cond.fieldLink "ThirtyThreeBelow$Way" (1 : Nat) "ThirtyThreeBelow$Way" "this$0" "LThirtyThreeBelow;") ∈ lw_all := lw_g (lw_at lw_m2 177 rfl) rfl
theorem q501 : (Jvm.Cond.laysFinal "ThirtyThreeBelow$Way" "ThirtyThreeBelow$Way" "this$0" "LThirtyThreeBelow;") ∈ lw_all := lw_g (lw_at lw_m2 178 rfl) rfl
theorem q502 : (Jvm.Cond.soleField "ThirtyThreeBelow$Way" "this$0") ∈ lw_all := lw_g (lw_at lw_m2 179 rfl) rfl
theorem q503 : (Jvm.Cond.laysFinal "ThirtyThreeBelow$Way" "ThirtyThreeBelow$Body" "number" "I") ∈ lw_all := lw_g (lw_at lw_m2 180 rfl) rfl
theorem q504 : (Jvm.Cond.laysFinal "ThirtyThreeBelow$Way" "ThirtyThreeBelow$Body" "this$0" "LThirtyThreeBelow;") ∈ lw_all := lw_g (lw_at lw_m2 181 rfl) rfl
theorem q505 : (Jvm.Cond.superclass "ThirtyThreeBelow$Way" "ThirtyThreeBelow$Body") ∈ lw_all := lw_g (lw_at lw_m2 182 rfl) rfl
theorem q750 : (Jvm.Cond.selects "ThirtyThreeBelow$Way" ({ cls := "ThirtyThreeBelow$Body", name := "kind", desc := "()I" } : Jvm.MethodName) ({ cls := "ThirtyThreeBelow$Way", name := "kind", desc := "()I" } : Jvm.MethodName)) ∈ lw_all := lw_g (lw_at lw_m3 187 rfl) rfl
theorem q751 : (Jvm.Cond.instanceMethod ({ cls := "ThirtyThreeBelow$Way", name := "kind", desc := "()I" } : Jvm.MethodName)) ∈ lw_all := lw_g (lw_at lw_m3 188 rfl) rfl
theorem q752 : (Jvm.Cond.code ({ cls := "ThirtyThreeBelow$Way", name := "kind", desc := "()I" } : Jvm.MethodName) prog_20_method_2_code (1 : Nat) (Option.some Jvm.ClassFile.FieldType.int)) ∈ lw_all := lw_g (lw_at lw_m3 189 rfl) rfl
theorem q1317 : (Jvm.Cond.instanceMethod ({ cls := "ThirtyThreeBelow$Way", name := "bores", desc := "(I)I" } : Jvm.MethodName)) ∈ lw_all := lw_g (lw_at lw_m6 34 rfl) rfl
theorem q1318 : (Jvm.Cond.code ({ cls := "ThirtyThreeBelow$Way", name := "bores", desc := "(I)I" } : Jvm.MethodName) prog_20_method_4_code (2 : Nat) (Option.some Jvm.ClassFile.FieldType.int)) ∈ lw_all := lw_g (lw_at lw_m6 35 rfl) rfl
theorem q1319 : (Jvm.Cond.methodLink "ThirtyThreeBelow$Way" (17 : Nat) ({ cls := "ThirtyThreeBelow$Way", name := "begins", desc := "(I)V" } : Jvm.MethodName)) ∈ lw_all := lw_g (lw_at lw_m6 36 rfl) rfl
theorem q1320 : (Jvm.Cond.sameMethod "ThirtyThreeBelow$Way" "ThirtyThreeBelow$Body" "begins" "(I)V") ∈ lw_all := lw_g (lw_at lw_m6 37 rfl) rfl
theorem q1327 : (Jvm.Cond.selects "ThirtyThreeBelow$Way" ({ cls := "ThirtyThreeBelow$Way", name := "begins", desc := "(I)V" } : Jvm.MethodName) ({ cls := "ThirtyThreeBelow$Body", name := "begins", desc := "(I)V" } : Jvm.MethodName)) ∈ lw_all := lw_g (lw_at lw_m6 44 rfl) rfl
theorem q1358 : (Jvm.Cond.castable "ThirtyThreeBelow$Way" "ThirtyThreeBelow$Bores") ∈ lw_tbl := lw_at lw_m6 75 rfl
theorem q1359 : (Jvm.Cond.selects "ThirtyThreeBelow$Way" ({ cls := "ThirtyThreeBelow$Bores", name := "begins", desc := "(I)V" } : Jvm.MethodName) ({ cls := "ThirtyThreeBelow$Body", name := "begins", desc := "(I)V" } : Jvm.MethodName)) ∈ lw_all := lw_g (lw_at lw_m6 76 rfl) rfl
theorem q1360 : (Jvm.Cond.unhidden "ThirtyThreeBelow$Way" "begins" "(I)V") ∈ lw_tbl := lw_at lw_m6 77 rfl
theorem q1382 : (Jvm.Cond.selects "ThirtyThreeBelow$Way" ({ cls := "ThirtyThreeBelow$Bores", name := "number", desc := "()I" } : Jvm.MethodName) ({ cls := "ThirtyThreeBelow$Body", name := "number", desc := "()I" } : Jvm.MethodName)) ∈ lw_all := lw_g (lw_at lw_m6 99 rfl) rfl
theorem q1383 : (Jvm.Cond.unhidden "ThirtyThreeBelow$Way" "number" "()I") ∈ lw_tbl := lw_at lw_m6 100 rfl
theorem q1399 : (Jvm.Cond.declares ({ cls := "ThirtyThreeBelow$Way", name := "bores", desc := "(I)I" } : Jvm.MethodName)) ∈ lw_tbl := lw_at lw_m6 116 rfl
theorem q1404 : (Jvm.Cond.selects "ThirtyThreeBelow$Way" ({ cls := "ThirtyThreeBelow$Bores", name := "bores", desc := "(I)I" } : Jvm.MethodName) ({ cls := "ThirtyThreeBelow$Way", name := "bores", desc := "(I)I" } : Jvm.MethodName)) ∈ lw_all := lw_g (lw_at lw_m6 121 rfl) rfl
theorem q1420 : (Jvm.Cond.sameMethod "ThirtyThreeBelow$Way" "ThirtyThreeBelow$Body" "carries" "(I)I") ∈ lw_all := lw_g (lw_at lw_m6 137 rfl) rfl
theorem q1435 : (Jvm.Cond.selects "ThirtyThreeBelow$Way" ({ cls := "ThirtyThreeBelow$Body", name := "carries", desc := "(I)I" } : Jvm.MethodName) ({ cls := "ThirtyThreeBelow$Body", name := "carries", desc := "(I)I" } : Jvm.MethodName)) ∈ lw_all := lw_g (lw_at lw_m6 152 rfl) rfl
theorem q1457 : (Jvm.Cond.sameMethod "ThirtyThreeBelow$Way" "ThirtyThreeBelow$Body" "holds" "(I)I") ∈ lw_all := lw_g (lw_at lw_m6 174 rfl) rfl
theorem q1471 : (Jvm.Cond.selects "ThirtyThreeBelow$Way" ({ cls := "ThirtyThreeBelow$Body", name := "holds", desc := "(I)I" } : Jvm.MethodName) ({ cls := "ThirtyThreeBelow$Body", name := "holds", desc := "(I)I" } : Jvm.MethodName)) ∈ lw_all := lw_g (lw_at lw_m6 188 rfl) rfl
theorem q1498 : (Jvm.Cond.castable "ThirtyThreeBelow$Way" "ThirtyThreeBelow$Tells") ∈ lw_tbl := lw_at lw_m6 215 rfl
theorem q1499 : (Jvm.Cond.selects "ThirtyThreeBelow$Way" ({ cls := "ThirtyThreeBelow$Tells", name := "begins", desc := "(I)V" } : Jvm.MethodName) ({ cls := "ThirtyThreeBelow$Body", name := "begins", desc := "(I)V" } : Jvm.MethodName)) ∈ lw_all := lw_g (lw_at lw_m6 216 rfl) rfl
theorem q1521 : (Jvm.Cond.selects "ThirtyThreeBelow$Way" ({ cls := "ThirtyThreeBelow$Tells", name := "carries", desc := "(I)I" } : Jvm.MethodName) ({ cls := "ThirtyThreeBelow$Body", name := "carries", desc := "(I)I" } : Jvm.MethodName)) ∈ lw_all := lw_g (lw_at lw_m6 238 rfl) rfl
theorem q1522 : (Jvm.Cond.unhidden "ThirtyThreeBelow$Way" "carries" "(I)I") ∈ lw_tbl := lw_at lw_m6 239 rfl
theorem q1545 : (Jvm.Cond.selects "ThirtyThreeBelow$Way" ({ cls := "ThirtyThreeBelow$Tells", name := "holds", desc := "(I)I" } : Jvm.MethodName) ({ cls := "ThirtyThreeBelow$Body", name := "holds", desc := "(I)I" } : Jvm.MethodName)) ∈ lw_all := lw_g (lw_at lw_m7 22 rfl) rfl
theorem q1546 : (Jvm.Cond.unhidden "ThirtyThreeBelow$Way" "holds" "(I)I") ∈ lw_tbl := lw_at lw_m7 23 rfl
theorem q1551 : (Jvm.Cond.unhidden "ThirtyThreeBelow$Way" "tells" "(I)I") ∈ lw_tbl := lw_at lw_m7 28 rfl
theorem q1651 : (Jvm.Cond.instanceMethod ({ cls := "ThirtyThreeBelow$Way", name := "isUnder", desc := "(I)Z" } : Jvm.MethodName)) ∈ lw_all := lw_g (lw_at lw_m7 128 rfl) rfl
theorem q1652 : (Jvm.Cond.code ({ cls := "ThirtyThreeBelow$Way", name := "isUnder", desc := "(I)Z" } : Jvm.MethodName) prog_20_method_3_code (2 : Nat) (Option.some Jvm.ClassFile.FieldType.boolean)) ∈ lw_all := lw_g (lw_at lw_m7 129 rfl) rfl
theorem q1653 : (Jvm.Cond.methodLink "ThirtyThreeBelow$Way" (13 : Nat) ({ cls := "ThirtyThreeBelow$Body", name := "isUnder", desc := "(I)Z" } : Jvm.MethodName)) ∈ lw_all := lw_g (lw_at lw_m7 130 rfl) rfl
theorem q1675 : (Jvm.Cond.selects "ThirtyThreeBelow$Way" ({ cls := "ThirtyThreeBelow$Body", name := "isUnder", desc := "(I)Z" } : Jvm.MethodName) ({ cls := "ThirtyThreeBelow$Way", name := "isUnder", desc := "(I)Z" } : Jvm.MethodName)) ∈ lw_all := lw_g (lw_at lw_m7 152 rfl) rfl
theorem q2433 : (Jvm.Cond.selects "ThirtyThreeBelow$Way" ({ cls := "ThirtyThreeBelow$Body", name := "begins", desc := "(I)V" } : Jvm.MethodName) ({ cls := "ThirtyThreeBelow$Body", name := "begins", desc := "(I)V" } : Jvm.MethodName)) ∈ lw_all := lw_g (lw_at lw_m10 190 rfl) rfl
theorem q2434 : (Jvm.Cond.sameMethod "ThirtyThreeBelow$Way" "ThirtyThreeBelow$Way" "isUnder" "(I)Z") ∈ lw_all := lw_g (lw_at lw_m10 191 rfl) rfl
theorem q2449 : (Jvm.Cond.castable "ThirtyThreeBelow$Way" "ThirtyThreeBelow$Body") ∈ lw_tbl := lw_at lw_m10 206 rfl
theorem q2457 : (Jvm.Cond.castable "ThirtyThreeBelow$Way" "java/lang/Object") ∈ lw_tbl := lw_at lw_m10 214 rfl
theorem in_X7 : ∀ w ∈ wsX70, w ∈ lw_all := lw_in wsX70 [503, 504, 501] (by decide +kernel) (by decide +kernel)
/-! ThirtyThreeBelow$Hole -/
set_option maxRecDepth 100000
def RX8 : String := "ThirtyThreeBelow$Hole"
def TX8 : u_T := fun k => match k with
  | 0 => ("ThirtyThreeBelow$Body", "number", "I", true)
  | 1 => ("ThirtyThreeBelow$Body", "this$0", "LThirtyThreeBelow;", true)
  | 2 => ("ThirtyThreeBelow$Way", "this$0", "LThirtyThreeBelow;", true)
  | 3 => ("ThirtyThreeBelow$Hole", "column", "I", true)
  | 4 => ("ThirtyThreeBelow$Hole", "width", "I", true)
  | 5 => ("ThirtyThreeBelow$Hole", "leans", "[I", true)
  | 6 => ("ThirtyThreeBelow$Hole", "told", "I", false)
  | 7 => ("ThirtyThreeBelow$Hole", "met", "[I", true)
  | 8 => ("ThirtyThreeBelow$Hole", "bored", "I", false)
  | 9 => ("ThirtyThreeBelow$Hole", "x", "I", false)
  | 10 => ("ThirtyThreeBelow$Hole", "minutes", "I", false)
  | 11 => ("ThirtyThreeBelow$Hole", "throughOn", "I", false)
  | 12 => ("ThirtyThreeBelow$Hole", "logs", "[I", true)
  | 13 => ("ThirtyThreeBelow$Hole", "hasLog", "[Z", true)
  | _ => ("ThirtyThreeBelow$Hole", "this$0", "LThirtyThreeBelow;", true)
def tyX8 : Nat → FieldType := fun k => match k with
  | 0 => .int
  | 1 => .object "ThirtyThreeBelow"
  | 2 => .object "ThirtyThreeBelow"
  | 3 => .int
  | 4 => .int
  | 5 => .array .int
  | 6 => .int
  | 7 => .array .int
  | 8 => .int
  | 9 => .int
  | 10 => .int
  | 11 => .int
  | 12 => .array .int
  | 13 => .array .boolean
  | _ => .object "ThirtyThreeBelow"
abbrev wsX80 : List Cond := u_ws RX8 TX8 15
-- two fields of one name: no nmX8
set_option maxRecDepth 100000 in
theorem tyX8_ok : ∀ k, k < 15 → parseFieldDescriptor (TX8 k).2.2.1 = some (tyX8 k) := by decide +kernel
abbrev cX8_init : ByteArray := prog_7_method_1_code
def yX8_init : MethodName := ⟨RX8, "<init>", "(LThirtyThreeBelow;III)V"⟩
def dkwX8_init_2 : List UInt8 := [42, 29, 181, 0, 33, 42, 21, 4, 181, 0, 36, 42, 29, 181, 0, 39, 177]
abbrev dktX8_init_2 : List UInt8 := dkwX8_init_2 ++ []
def dkwX8_init_1 : List UInt8 := [181, 0, 19, 42, 2, 181, 0, 22, 42, 16, 61, 188, 10, 181, 0, 26, 42, 16, 61, 188, 4, 181, 0, 29]
abbrev dktX8_init_1 : List UInt8 := dkwX8_init_1 ++ dktX8_init_2
def dkwX8_init_0 : List UInt8 := [42, 43, 181, 0, 3, 42, 43, 28, 183, 0, 9, 42, 16, 61, 188, 10, 181, 0, 15, 42, 16, 61, 188, 10]
abbrev dktX8_init_0 : List UInt8 := dkwX8_init_0 ++ dktX8_init_1
theorem dksX8_init_0 : cX8_init.data.toList.drop 0 = dktX8_init_0 := by decide +kernel
theorem dksX8_init_1 : cX8_init.data.toList.drop 24 = dktX8_init_1 := dk_seg dksX8_init_0 24 rfl rfl
theorem dksX8_init_2 : cX8_init.data.toList.drop 48 = dktX8_init_2 := dk_seg dksX8_init_1 24 rfl rfl
theorem dX8_init_0 : decode cX8_init 0 = .ok (.aload_n 0, 1) := dk_42 (dk_at dksX8_init_0 0 rfl rfl)
theorem dX8_init_1 : decode cX8_init 1 = .ok (.aload_n 1, 1) := dk_43 (dk_at dksX8_init_0 1 rfl rfl)
theorem dX8_init_2 : decode cX8_init 2 = .ok (.putfield 3, 3) := dk_181 0 3 (dk_at dksX8_init_0 2 rfl rfl)
theorem dX8_init_5 : decode cX8_init 5 = .ok (.aload_n 0, 1) := dk_42 (dk_at dksX8_init_0 5 rfl rfl)
theorem dX8_init_6 : decode cX8_init 6 = .ok (.aload_n 1, 1) := dk_43 (dk_at dksX8_init_0 6 rfl rfl)
theorem dX8_init_7 : decode cX8_init 7 = .ok (.iload_n 2, 1) := dk_28 (dk_at dksX8_init_0 7 rfl rfl)
theorem dX8_init_8 : decode cX8_init 8 = .ok (.invokespecial 9, 3) := dk_183 0 9 (dk_at dksX8_init_0 8 rfl rfl)
theorem dX8_init_11 : decode cX8_init 11 = .ok (.aload_n 0, 1) := dk_42 (dk_at dksX8_init_0 11 rfl rfl)
theorem dX8_init_12 : decode cX8_init 12 = .ok (.bipush 61, 2) := dk_16 61 (dk_at dksX8_init_0 12 rfl rfl)
theorem dX8_init_14 : decode cX8_init 14 = .ok (.newarray .int, 2) := dk_188_10 (dk_at dksX8_init_0 14 rfl rfl)
theorem dX8_init_16 : decode cX8_init 16 = .ok (.putfield 15, 3) := dk_181 0 15 (dk_at dksX8_init_0 16 rfl rfl)
theorem dX8_init_19 : decode cX8_init 19 = .ok (.aload_n 0, 1) := dk_42 (dk_at dksX8_init_0 19 rfl rfl)
theorem dX8_init_20 : decode cX8_init 20 = .ok (.bipush 61, 2) := dk_16 61 (dk_at dksX8_init_0 20 rfl rfl)
theorem dX8_init_22 : decode cX8_init 22 = .ok (.newarray .int, 2) := dk_188_10 (dk_at dksX8_init_0 22 rfl rfl)
theorem dX8_init_24 : decode cX8_init 24 = .ok (.putfield 19, 3) := dk_181 0 19 (dk_at dksX8_init_1 0 rfl rfl)
theorem dX8_init_27 : decode cX8_init 27 = .ok (.aload_n 0, 1) := dk_42 (dk_at dksX8_init_1 3 rfl rfl)
theorem dX8_init_28 : decode cX8_init 28 = .ok (.iconst (-1), 1) := dk_2 (dk_at dksX8_init_1 4 rfl rfl)
theorem dX8_init_29 : decode cX8_init 29 = .ok (.putfield 22, 3) := dk_181 0 22 (dk_at dksX8_init_1 5 rfl rfl)
theorem dX8_init_32 : decode cX8_init 32 = .ok (.aload_n 0, 1) := dk_42 (dk_at dksX8_init_1 8 rfl rfl)
theorem dX8_init_33 : decode cX8_init 33 = .ok (.bipush 61, 2) := dk_16 61 (dk_at dksX8_init_1 9 rfl rfl)
theorem dX8_init_35 : decode cX8_init 35 = .ok (.newarray .int, 2) := dk_188_10 (dk_at dksX8_init_1 11 rfl rfl)
theorem dX8_init_37 : decode cX8_init 37 = .ok (.putfield 26, 3) := dk_181 0 26 (dk_at dksX8_init_1 13 rfl rfl)
theorem dX8_init_40 : decode cX8_init 40 = .ok (.aload_n 0, 1) := dk_42 (dk_at dksX8_init_1 16 rfl rfl)
theorem dX8_init_41 : decode cX8_init 41 = .ok (.bipush 61, 2) := dk_16 61 (dk_at dksX8_init_1 17 rfl rfl)
theorem dX8_init_43 : decode cX8_init 43 = .ok (.newarray .boolean, 2) := dk_188_4 (dk_at dksX8_init_1 19 rfl rfl)
theorem dX8_init_45 : decode cX8_init 45 = .ok (.putfield 29, 3) := dk_181 0 29 (dk_at dksX8_init_1 21 rfl rfl)
theorem dX8_init_48 : decode cX8_init 48 = .ok (.aload_n 0, 1) := dk_42 (dk_at dksX8_init_2 0 rfl rfl)
theorem dX8_init_49 : decode cX8_init 49 = .ok (.iload_n 3, 1) := dk_29 (dk_at dksX8_init_2 1 rfl rfl)
theorem dX8_init_50 : decode cX8_init 50 = .ok (.putfield 33, 3) := dk_181 0 33 (dk_at dksX8_init_2 2 rfl rfl)
theorem dX8_init_53 : decode cX8_init 53 = .ok (.aload_n 0, 1) := dk_42 (dk_at dksX8_init_2 5 rfl rfl)
theorem dX8_init_54 : decode cX8_init 54 = .ok (.iload 4, 2) := dk_21 4 (dk_at dksX8_init_2 6 rfl rfl)
theorem dX8_init_56 : decode cX8_init 56 = .ok (.putfield 36, 3) := dk_181 0 36 (dk_at dksX8_init_2 8 rfl rfl)
theorem dX8_init_59 : decode cX8_init 59 = .ok (.aload_n 0, 1) := dk_42 (dk_at dksX8_init_2 11 rfl rfl)
theorem dX8_init_60 : decode cX8_init 60 = .ok (.iload_n 3, 1) := dk_29 (dk_at dksX8_init_2 12 rfl rfl)
theorem dX8_init_61 : decode cX8_init 61 = .ok (.putfield 39, 3) := dk_181 0 39 (dk_at dksX8_init_2 13 rfl rfl)
theorem dX8_init_64 : decode cX8_init 64 = .ok (.return_, 1) := dk_177 (dk_at dksX8_init_2 16 rfl rfl)
abbrev cX8_kind : ByteArray := prog_7_method_2_code
def yX8_kind : MethodName := ⟨RX8, "kind", "()I"⟩
theorem dX8_kind_0 : decode cX8_kind 0 = .ok (.iconst 2, 1) := by decide +kernel
theorem dX8_kind_1 : decode cX8_kind 1 = .ok (.ireturn, 1) := by decide +kernel
abbrev cX8_isThrough : ByteArray := prog_7_method_5_code
def yX8_isThrough : MethodName := ⟨RX8, "isThrough", "()Z"⟩
def dkwX8_isThrough_0 : List UInt8 := [42, 180, 0, 22, 2, 159, 0, 7, 4, 167, 0, 4, 3, 172]
abbrev dktX8_isThrough_0 : List UInt8 := dkwX8_isThrough_0 ++ []
theorem dksX8_isThrough_0 : cX8_isThrough.data.toList.drop 0 = dktX8_isThrough_0 := by decide +kernel
theorem dX8_isThrough_0 : decode cX8_isThrough 0 = .ok (.aload_n 0, 1) := dk_42 (dk_at dksX8_isThrough_0 0 rfl rfl)
theorem dX8_isThrough_1 : decode cX8_isThrough 1 = .ok (.getfield 22, 3) := dk_180 0 22 (dk_at dksX8_isThrough_0 1 rfl rfl)
theorem dX8_isThrough_4 : decode cX8_isThrough 4 = .ok (.iconst (-1), 1) := dk_2 (dk_at dksX8_isThrough_0 4 rfl rfl)
theorem dX8_isThrough_5 : decode cX8_isThrough 5 = .ok (.if_icmp .eq 7, 3) := dk_159 0 7 (dk_at dksX8_isThrough_0 5 rfl rfl)
theorem dX8_isThrough_8 : decode cX8_isThrough 8 = .ok (.iconst 1, 1) := dk_4 (dk_at dksX8_isThrough_0 8 rfl rfl)
theorem dX8_isThrough_9 : decode cX8_isThrough 9 = .ok (.goto 4, 3) := dk_167 0 4 (dk_at dksX8_isThrough_0 9 rfl rfl)
theorem dX8_isThrough_12 : decode cX8_isThrough 12 = .ok (.iconst 0, 1) := dk_3 (dk_at dksX8_isThrough_0 12 rfl rfl)
theorem dX8_isThrough_13 : decode cX8_isThrough 13 = .ok (.ireturn, 1) := dk_172 (dk_at dksX8_isThrough_0 13 rfl rfl)
abbrev cX8_low : ByteArray := prog_7_method_7_code
def yX8_low : MethodName := ⟨RX8, "low", "(II)I"⟩
def dkwX8_low_1 : List UInt8 := [167, 0, 5, 16, 248, 96, 172]
abbrev dktX8_low_1 : List UInt8 := dkwX8_low_1 ++ []
def dkwX8_low_0 : List UInt8 := [28, 42, 180, 0, 29, 27, 51, 153, 0, 20, 42, 180, 0, 26, 27, 46, 42, 180, 0, 3, 180, 0, 88, 100]
abbrev dktX8_low_0 : List UInt8 := dkwX8_low_0 ++ dktX8_low_1
theorem dksX8_low_0 : cX8_low.data.toList.drop 0 = dktX8_low_0 := by decide +kernel
theorem dksX8_low_1 : cX8_low.data.toList.drop 24 = dktX8_low_1 := dk_seg dksX8_low_0 24 rfl rfl
theorem dX8_low_0 : decode cX8_low 0 = .ok (.iload_n 2, 1) := dk_28 (dk_at dksX8_low_0 0 rfl rfl)
theorem dX8_low_1 : decode cX8_low 1 = .ok (.aload_n 0, 1) := dk_42 (dk_at dksX8_low_0 1 rfl rfl)
theorem dX8_low_2 : decode cX8_low 2 = .ok (.getfield 29, 3) := dk_180 0 29 (dk_at dksX8_low_0 2 rfl rfl)
theorem dX8_low_5 : decode cX8_low 5 = .ok (.iload_n 1, 1) := dk_27 (dk_at dksX8_low_0 5 rfl rfl)
theorem dX8_low_6 : decode cX8_low 6 = .ok (.baload, 1) := dk_51 (dk_at dksX8_low_0 6 rfl rfl)
theorem dX8_low_7 : decode cX8_low 7 = .ok (.ifCond .eq 20, 3) := dk_153 0 20 (dk_at dksX8_low_0 7 rfl rfl)
theorem dX8_low_10 : decode cX8_low 10 = .ok (.aload_n 0, 1) := dk_42 (dk_at dksX8_low_0 10 rfl rfl)
theorem dX8_low_11 : decode cX8_low 11 = .ok (.getfield 26, 3) := dk_180 0 26 (dk_at dksX8_low_0 11 rfl rfl)
theorem dX8_low_14 : decode cX8_low 14 = .ok (.iload_n 1, 1) := dk_27 (dk_at dksX8_low_0 14 rfl rfl)
theorem dX8_low_15 : decode cX8_low 15 = .ok (.iaload, 1) := dk_46 (dk_at dksX8_low_0 15 rfl rfl)
theorem dX8_low_16 : decode cX8_low 16 = .ok (.aload_n 0, 1) := dk_42 (dk_at dksX8_low_0 16 rfl rfl)
theorem dX8_low_17 : decode cX8_low 17 = .ok (.getfield 3, 3) := dk_180 0 3 (dk_at dksX8_low_0 17 rfl rfl)
theorem dX8_low_20 : decode cX8_low 20 = .ok (.getfield 88, 3) := dk_180 0 88 (dk_at dksX8_low_0 20 rfl rfl)
theorem dX8_low_23 : decode cX8_low 23 = .ok (.isub, 1) := dk_100 (dk_at dksX8_low_0 23 rfl rfl)
theorem dX8_low_24 : decode cX8_low 24 = .ok (.goto 5, 3) := dk_167 0 5 (dk_at dksX8_low_1 0 rfl rfl)
theorem dX8_low_27 : decode cX8_low 27 = .ok (.bipush (-8), 2) := dk_16 248 (dk_at dksX8_low_1 3 rfl rfl)
theorem dX8_low_29 : decode cX8_low 29 = .ok (.iadd, 1) := dk_96 (dk_at dksX8_low_1 5 rfl rfl)
theorem dX8_low_30 : decode cX8_low 30 = .ok (.ireturn, 1) := dk_172 (dk_at dksX8_low_1 6 rfl rfl)
abbrev cX8_high : ByteArray := prog_7_method_8_code
def yX8_high : MethodName := ⟨RX8, "high", "(II)I"⟩
def dkwX8_high_1 : List UInt8 := [167, 0, 5, 16, 8, 96, 172]
abbrev dktX8_high_1 : List UInt8 := dkwX8_high_1 ++ []
def dkwX8_high_0 : List UInt8 := [28, 42, 180, 0, 29, 27, 51, 153, 0, 20, 42, 180, 0, 26, 27, 46, 42, 180, 0, 3, 180, 0, 88, 96]
abbrev dktX8_high_0 : List UInt8 := dkwX8_high_0 ++ dktX8_high_1
theorem dksX8_high_0 : cX8_high.data.toList.drop 0 = dktX8_high_0 := by decide +kernel
theorem dksX8_high_1 : cX8_high.data.toList.drop 24 = dktX8_high_1 := dk_seg dksX8_high_0 24 rfl rfl
theorem dX8_high_0 : decode cX8_high 0 = .ok (.iload_n 2, 1) := dk_28 (dk_at dksX8_high_0 0 rfl rfl)
theorem dX8_high_1 : decode cX8_high 1 = .ok (.aload_n 0, 1) := dk_42 (dk_at dksX8_high_0 1 rfl rfl)
theorem dX8_high_2 : decode cX8_high 2 = .ok (.getfield 29, 3) := dk_180 0 29 (dk_at dksX8_high_0 2 rfl rfl)
theorem dX8_high_5 : decode cX8_high 5 = .ok (.iload_n 1, 1) := dk_27 (dk_at dksX8_high_0 5 rfl rfl)
theorem dX8_high_6 : decode cX8_high 6 = .ok (.baload, 1) := dk_51 (dk_at dksX8_high_0 6 rfl rfl)
theorem dX8_high_7 : decode cX8_high 7 = .ok (.ifCond .eq 20, 3) := dk_153 0 20 (dk_at dksX8_high_0 7 rfl rfl)
theorem dX8_high_10 : decode cX8_high 10 = .ok (.aload_n 0, 1) := dk_42 (dk_at dksX8_high_0 10 rfl rfl)
theorem dX8_high_11 : decode cX8_high 11 = .ok (.getfield 26, 3) := dk_180 0 26 (dk_at dksX8_high_0 11 rfl rfl)
theorem dX8_high_14 : decode cX8_high 14 = .ok (.iload_n 1, 1) := dk_27 (dk_at dksX8_high_0 14 rfl rfl)
theorem dX8_high_15 : decode cX8_high 15 = .ok (.iaload, 1) := dk_46 (dk_at dksX8_high_0 15 rfl rfl)
theorem dX8_high_16 : decode cX8_high 16 = .ok (.aload_n 0, 1) := dk_42 (dk_at dksX8_high_0 16 rfl rfl)
theorem dX8_high_17 : decode cX8_high 17 = .ok (.getfield 3, 3) := dk_180 0 3 (dk_at dksX8_high_0 17 rfl rfl)
theorem dX8_high_20 : decode cX8_high 20 = .ok (.getfield 88, 3) := dk_180 0 88 (dk_at dksX8_high_0 20 rfl rfl)
theorem dX8_high_23 : decode cX8_high 23 = .ok (.iadd, 1) := dk_96 (dk_at dksX8_high_0 23 rfl rfl)
theorem dX8_high_24 : decode cX8_high 24 = .ok (.goto 5, 3) := dk_167 0 5 (dk_at dksX8_high_1 0 rfl rfl)
theorem dX8_high_27 : decode cX8_high 27 = .ok (.bipush 8, 2) := dk_16 8 (dk_at dksX8_high_1 3 rfl rfl)
theorem dX8_high_29 : decode cX8_high 29 = .ok (.iadd, 1) := dk_96 (dk_at dksX8_high_1 5 rfl rfl)
theorem dX8_high_30 : decode cX8_high 30 = .ok (.ireturn, 1) := dk_172 (dk_at dksX8_high_1 6 rfl rfl)
abbrev cX8_bore : ByteArray := prog_7_method_6_code
def yX8_bore : MethodName := ⟨RX8, "bore", "(I)V"⟩
def dkwX8_bore_8 : List UInt8 := [21, 4, 46, 5, 160, 0, 14, 42, 42, 180, 0, 3, 180, 0, 85, 181, 0, 22, 167, 255, 52, 177]
abbrev dktX8_bore_8 : List UInt8 := dkwX8_bore_8 ++ []
def dkwX8_bore_7 : List UInt8 := [180, 0, 68, 29, 21, 4, 184, 0, 71, 51, 153, 0, 7, 4, 167, 0, 4, 3, 79, 42, 180, 0, 19]
abbrev dktX8_bore_7 : List UInt8 := dkwX8_bore_7 ++ dktX8_bore_8
def dkwX8_bore_6 : List UInt8 := [21, 4, 42, 180, 0, 3, 29, 21, 4, 182, 0, 81, 153, 0, 7, 5, 167, 0, 25, 42, 180, 0, 3]
abbrev dktX8_bore_6 : List UInt8 := dkwX8_bore_6 ++ dktX8_bore_7
def dkwX8_bore_5 : List UInt8 := [180, 0, 78, 21, 5, 100, 181, 0, 78, 42, 29, 181, 0, 39, 42, 21, 4, 181, 0, 54, 42, 180, 0, 19]
abbrev dktX8_bore_5 : List UInt8 := dkwX8_bore_5 ++ dktX8_bore_6
def dkwX8_bore_4 : List UInt8 := [42, 180, 0, 78, 163, 0, 7, 4, 167, 0, 4, 3, 61, 28, 154, 0, 6, 167, 255, 145, 42, 89]
abbrev dktX8_bore_4 : List UInt8 := dkwX8_bore_4 ++ dktX8_bore_5
def dkwX8_bore_3 : List UInt8 := [3, 167, 0, 19, 27, 42, 180, 0, 3, 180, 0, 75, 29, 21, 4, 184, 0, 71, 46, 104, 54, 5, 21, 5]
abbrev dktX8_bore_3 : List UInt8 := dkwX8_bore_3 ++ dktX8_bore_4
def dkwX8_bore_2 : List UInt8 := [180, 0, 54, 4, 96, 54, 4, 42, 180, 0, 3, 180, 0, 68, 29, 21, 4, 184, 0, 71, 51, 153, 0, 7]
abbrev dktX8_bore_2 : List UInt8 := dkwX8_bore_2 ++ dktX8_bore_3
def dkwX8_bore_1 : List UInt8 := [42, 180, 0, 39, 42, 180, 0, 15, 42, 180, 0, 54, 4, 96, 46, 96, 3, 16, 31, 184, 0, 64, 62, 42]
abbrev dktX8_bore_1 : List UInt8 := dkwX8_bore_1 ++ dktX8_bore_2
def dkwX8_bore_0 : List UInt8 := [4, 61, 28, 153, 0, 206, 42, 180, 0, 54, 42, 180, 0, 57, 162, 0, 195, 42, 182, 0, 60, 154, 0, 188]
abbrev dktX8_bore_0 : List UInt8 := dkwX8_bore_0 ++ dktX8_bore_1
theorem dksX8_bore_0 : cX8_bore.data.toList.drop 0 = dktX8_bore_0 := by decide +kernel
theorem dksX8_bore_1 : cX8_bore.data.toList.drop 24 = dktX8_bore_1 := dk_seg dksX8_bore_0 24 rfl rfl
theorem dksX8_bore_2 : cX8_bore.data.toList.drop 48 = dktX8_bore_2 := dk_seg dksX8_bore_1 24 rfl rfl
theorem dksX8_bore_3 : cX8_bore.data.toList.drop 72 = dktX8_bore_3 := dk_seg dksX8_bore_2 24 rfl rfl
theorem dksX8_bore_4 : cX8_bore.data.toList.drop 96 = dktX8_bore_4 := dk_seg dksX8_bore_3 24 rfl rfl
theorem dksX8_bore_5 : cX8_bore.data.toList.drop 118 = dktX8_bore_5 := dk_seg dksX8_bore_4 22 rfl rfl
theorem dksX8_bore_6 : cX8_bore.data.toList.drop 142 = dktX8_bore_6 := dk_seg dksX8_bore_5 24 rfl rfl
theorem dksX8_bore_7 : cX8_bore.data.toList.drop 165 = dktX8_bore_7 := dk_seg dksX8_bore_6 23 rfl rfl
theorem dksX8_bore_8 : cX8_bore.data.toList.drop 188 = dktX8_bore_8 := dk_seg dksX8_bore_7 23 rfl rfl
theorem dX8_bore_0 : decode cX8_bore 0 = .ok (.iconst 1, 1) := dk_4 (dk_at dksX8_bore_0 0 rfl rfl)
theorem dX8_bore_1 : decode cX8_bore 1 = .ok (.istore_n 2, 1) := dk_61 (dk_at dksX8_bore_0 1 rfl rfl)
theorem dX8_bore_2 : decode cX8_bore 2 = .ok (.iload_n 2, 1) := dk_28 (dk_at dksX8_bore_0 2 rfl rfl)
theorem dX8_bore_3 : decode cX8_bore 3 = .ok (.ifCond .eq 206, 3) := dk_153 0 206 (dk_at dksX8_bore_0 3 rfl rfl)
theorem dX8_bore_6 : decode cX8_bore 6 = .ok (.aload_n 0, 1) := dk_42 (dk_at dksX8_bore_0 6 rfl rfl)
theorem dX8_bore_7 : decode cX8_bore 7 = .ok (.getfield 54, 3) := dk_180 0 54 (dk_at dksX8_bore_0 7 rfl rfl)
theorem dX8_bore_10 : decode cX8_bore 10 = .ok (.aload_n 0, 1) := dk_42 (dk_at dksX8_bore_0 10 rfl rfl)
theorem dX8_bore_11 : decode cX8_bore 11 = .ok (.getfield 57, 3) := dk_180 0 57 (dk_at dksX8_bore_0 11 rfl rfl)
theorem dX8_bore_14 : decode cX8_bore 14 = .ok (.if_icmp .ge 195, 3) := dk_162 0 195 (dk_at dksX8_bore_0 14 rfl rfl)
theorem dX8_bore_17 : decode cX8_bore 17 = .ok (.aload_n 0, 1) := dk_42 (dk_at dksX8_bore_0 17 rfl rfl)
theorem dX8_bore_18 : decode cX8_bore 18 = .ok (.invokevirtual 60, 3) := dk_182 0 60 (dk_at dksX8_bore_0 18 rfl rfl)
theorem dX8_bore_21 : decode cX8_bore 21 = .ok (.ifCond .ne 188, 3) := dk_154 0 188 (dk_at dksX8_bore_0 21 rfl rfl)
theorem dX8_bore_24 : decode cX8_bore 24 = .ok (.aload_n 0, 1) := dk_42 (dk_at dksX8_bore_1 0 rfl rfl)
theorem dX8_bore_25 : decode cX8_bore 25 = .ok (.getfield 39, 3) := dk_180 0 39 (dk_at dksX8_bore_1 1 rfl rfl)
theorem dX8_bore_28 : decode cX8_bore 28 = .ok (.aload_n 0, 1) := dk_42 (dk_at dksX8_bore_1 4 rfl rfl)
theorem dX8_bore_29 : decode cX8_bore 29 = .ok (.getfield 15, 3) := dk_180 0 15 (dk_at dksX8_bore_1 5 rfl rfl)
theorem dX8_bore_32 : decode cX8_bore 32 = .ok (.aload_n 0, 1) := dk_42 (dk_at dksX8_bore_1 8 rfl rfl)
theorem dX8_bore_33 : decode cX8_bore 33 = .ok (.getfield 54, 3) := dk_180 0 54 (dk_at dksX8_bore_1 9 rfl rfl)
theorem dX8_bore_36 : decode cX8_bore 36 = .ok (.iconst 1, 1) := dk_4 (dk_at dksX8_bore_1 12 rfl rfl)
theorem dX8_bore_37 : decode cX8_bore 37 = .ok (.iadd, 1) := dk_96 (dk_at dksX8_bore_1 13 rfl rfl)
theorem dX8_bore_38 : decode cX8_bore 38 = .ok (.iaload, 1) := dk_46 (dk_at dksX8_bore_1 14 rfl rfl)
theorem dX8_bore_39 : decode cX8_bore 39 = .ok (.iadd, 1) := dk_96 (dk_at dksX8_bore_1 15 rfl rfl)
theorem dX8_bore_40 : decode cX8_bore 40 = .ok (.iconst 0, 1) := dk_3 (dk_at dksX8_bore_1 16 rfl rfl)
theorem dX8_bore_41 : decode cX8_bore 41 = .ok (.bipush 31, 2) := dk_16 31 (dk_at dksX8_bore_1 17 rfl rfl)
theorem dX8_bore_43 : decode cX8_bore 43 = .ok (.invokestatic 64, 3) := dk_184 0 64 (dk_at dksX8_bore_1 19 rfl rfl)
theorem dX8_bore_46 : decode cX8_bore 46 = .ok (.istore_n 3, 1) := dk_62 (dk_at dksX8_bore_1 22 rfl rfl)
theorem dX8_bore_47 : decode cX8_bore 47 = .ok (.aload_n 0, 1) := dk_42 (dk_at dksX8_bore_1 23 rfl rfl)
theorem dX8_bore_48 : decode cX8_bore 48 = .ok (.getfield 54, 3) := dk_180 0 54 (dk_at dksX8_bore_2 0 rfl rfl)
theorem dX8_bore_51 : decode cX8_bore 51 = .ok (.iconst 1, 1) := dk_4 (dk_at dksX8_bore_2 3 rfl rfl)
theorem dX8_bore_52 : decode cX8_bore 52 = .ok (.iadd, 1) := dk_96 (dk_at dksX8_bore_2 4 rfl rfl)
theorem dX8_bore_53 : decode cX8_bore 53 = .ok (.istore 4, 2) := dk_54 4 (dk_at dksX8_bore_2 5 rfl rfl)
theorem dX8_bore_55 : decode cX8_bore 55 = .ok (.aload_n 0, 1) := dk_42 (dk_at dksX8_bore_2 7 rfl rfl)
theorem dX8_bore_56 : decode cX8_bore 56 = .ok (.getfield 3, 3) := dk_180 0 3 (dk_at dksX8_bore_2 8 rfl rfl)
theorem dX8_bore_59 : decode cX8_bore 59 = .ok (.getfield 68, 3) := dk_180 0 68 (dk_at dksX8_bore_2 11 rfl rfl)
theorem dX8_bore_62 : decode cX8_bore 62 = .ok (.iload_n 3, 1) := dk_29 (dk_at dksX8_bore_2 14 rfl rfl)
theorem dX8_bore_63 : decode cX8_bore 63 = .ok (.iload 4, 2) := dk_21 4 (dk_at dksX8_bore_2 15 rfl rfl)
theorem dX8_bore_65 : decode cX8_bore 65 = .ok (.invokestatic 71, 3) := dk_184 0 71 (dk_at dksX8_bore_2 17 rfl rfl)
theorem dX8_bore_68 : decode cX8_bore 68 = .ok (.baload, 1) := dk_51 (dk_at dksX8_bore_2 20 rfl rfl)
theorem dX8_bore_69 : decode cX8_bore 69 = .ok (.ifCond .eq 7, 3) := dk_153 0 7 (dk_at dksX8_bore_2 21 rfl rfl)
theorem dX8_bore_72 : decode cX8_bore 72 = .ok (.iconst 0, 1) := dk_3 (dk_at dksX8_bore_3 0 rfl rfl)
theorem dX8_bore_73 : decode cX8_bore 73 = .ok (.goto 19, 3) := dk_167 0 19 (dk_at dksX8_bore_3 1 rfl rfl)
theorem dX8_bore_76 : decode cX8_bore 76 = .ok (.iload_n 1, 1) := dk_27 (dk_at dksX8_bore_3 4 rfl rfl)
theorem dX8_bore_77 : decode cX8_bore 77 = .ok (.aload_n 0, 1) := dk_42 (dk_at dksX8_bore_3 5 rfl rfl)
theorem dX8_bore_78 : decode cX8_bore 78 = .ok (.getfield 3, 3) := dk_180 0 3 (dk_at dksX8_bore_3 6 rfl rfl)
theorem dX8_bore_81 : decode cX8_bore 81 = .ok (.getfield 75, 3) := dk_180 0 75 (dk_at dksX8_bore_3 9 rfl rfl)
theorem dX8_bore_84 : decode cX8_bore 84 = .ok (.iload_n 3, 1) := dk_29 (dk_at dksX8_bore_3 12 rfl rfl)
theorem dX8_bore_85 : decode cX8_bore 85 = .ok (.iload 4, 2) := dk_21 4 (dk_at dksX8_bore_3 13 rfl rfl)
theorem dX8_bore_87 : decode cX8_bore 87 = .ok (.invokestatic 71, 3) := dk_184 0 71 (dk_at dksX8_bore_3 15 rfl rfl)
theorem dX8_bore_90 : decode cX8_bore 90 = .ok (.iaload, 1) := dk_46 (dk_at dksX8_bore_3 18 rfl rfl)
theorem dX8_bore_91 : decode cX8_bore 91 = .ok (.imul, 1) := dk_104 (dk_at dksX8_bore_3 19 rfl rfl)
theorem dX8_bore_92 : decode cX8_bore 92 = .ok (.istore 5, 2) := dk_54 5 (dk_at dksX8_bore_3 20 rfl rfl)
theorem dX8_bore_94 : decode cX8_bore 94 = .ok (.iload 5, 2) := dk_21 5 (dk_at dksX8_bore_3 22 rfl rfl)
theorem dX8_bore_96 : decode cX8_bore 96 = .ok (.aload_n 0, 1) := dk_42 (dk_at dksX8_bore_4 0 rfl rfl)
theorem dX8_bore_97 : decode cX8_bore 97 = .ok (.getfield 78, 3) := dk_180 0 78 (dk_at dksX8_bore_4 1 rfl rfl)
theorem dX8_bore_100 : decode cX8_bore 100 = .ok (.if_icmp .gt 7, 3) := dk_163 0 7 (dk_at dksX8_bore_4 4 rfl rfl)
theorem dX8_bore_103 : decode cX8_bore 103 = .ok (.iconst 1, 1) := dk_4 (dk_at dksX8_bore_4 7 rfl rfl)
theorem dX8_bore_104 : decode cX8_bore 104 = .ok (.goto 4, 3) := dk_167 0 4 (dk_at dksX8_bore_4 8 rfl rfl)
theorem dX8_bore_107 : decode cX8_bore 107 = .ok (.iconst 0, 1) := dk_3 (dk_at dksX8_bore_4 11 rfl rfl)
theorem dX8_bore_108 : decode cX8_bore 108 = .ok (.istore_n 2, 1) := dk_61 (dk_at dksX8_bore_4 12 rfl rfl)
theorem dX8_bore_109 : decode cX8_bore 109 = .ok (.iload_n 2, 1) := dk_28 (dk_at dksX8_bore_4 13 rfl rfl)
theorem dX8_bore_110 : decode cX8_bore 110 = .ok (.ifCond .ne 6, 3) := dk_154 0 6 (dk_at dksX8_bore_4 14 rfl rfl)
theorem dX8_bore_113 : decode cX8_bore 113 = .ok (.goto (-111), 3) := dk_167 255 145 (dk_at dksX8_bore_4 17 rfl rfl)
theorem dX8_bore_116 : decode cX8_bore 116 = .ok (.aload_n 0, 1) := dk_42 (dk_at dksX8_bore_4 20 rfl rfl)
theorem dX8_bore_117 : decode cX8_bore 117 = .ok (.dup, 1) := dk_89 (dk_at dksX8_bore_4 21 rfl rfl)
theorem dX8_bore_118 : decode cX8_bore 118 = .ok (.getfield 78, 3) := dk_180 0 78 (dk_at dksX8_bore_5 0 rfl rfl)
theorem dX8_bore_121 : decode cX8_bore 121 = .ok (.iload 5, 2) := dk_21 5 (dk_at dksX8_bore_5 3 rfl rfl)
theorem dX8_bore_123 : decode cX8_bore 123 = .ok (.isub, 1) := dk_100 (dk_at dksX8_bore_5 5 rfl rfl)
theorem dX8_bore_124 : decode cX8_bore 124 = .ok (.putfield 78, 3) := dk_181 0 78 (dk_at dksX8_bore_5 6 rfl rfl)
theorem dX8_bore_127 : decode cX8_bore 127 = .ok (.aload_n 0, 1) := dk_42 (dk_at dksX8_bore_5 9 rfl rfl)
theorem dX8_bore_128 : decode cX8_bore 128 = .ok (.iload_n 3, 1) := dk_29 (dk_at dksX8_bore_5 10 rfl rfl)
theorem dX8_bore_129 : decode cX8_bore 129 = .ok (.putfield 39, 3) := dk_181 0 39 (dk_at dksX8_bore_5 11 rfl rfl)
theorem dX8_bore_132 : decode cX8_bore 132 = .ok (.aload_n 0, 1) := dk_42 (dk_at dksX8_bore_5 14 rfl rfl)
theorem dX8_bore_133 : decode cX8_bore 133 = .ok (.iload 4, 2) := dk_21 4 (dk_at dksX8_bore_5 15 rfl rfl)
theorem dX8_bore_135 : decode cX8_bore 135 = .ok (.putfield 54, 3) := dk_181 0 54 (dk_at dksX8_bore_5 17 rfl rfl)
theorem dX8_bore_138 : decode cX8_bore 138 = .ok (.aload_n 0, 1) := dk_42 (dk_at dksX8_bore_5 20 rfl rfl)
theorem dX8_bore_139 : decode cX8_bore 139 = .ok (.getfield 19, 3) := dk_180 0 19 (dk_at dksX8_bore_5 21 rfl rfl)
theorem dX8_bore_142 : decode cX8_bore 142 = .ok (.iload 4, 2) := dk_21 4 (dk_at dksX8_bore_6 0 rfl rfl)
theorem dX8_bore_144 : decode cX8_bore 144 = .ok (.aload_n 0, 1) := dk_42 (dk_at dksX8_bore_6 2 rfl rfl)
theorem dX8_bore_145 : decode cX8_bore 145 = .ok (.getfield 3, 3) := dk_180 0 3 (dk_at dksX8_bore_6 3 rfl rfl)
theorem dX8_bore_148 : decode cX8_bore 148 = .ok (.iload_n 3, 1) := dk_29 (dk_at dksX8_bore_6 6 rfl rfl)
theorem dX8_bore_149 : decode cX8_bore 149 = .ok (.iload 4, 2) := dk_21 4 (dk_at dksX8_bore_6 7 rfl rfl)
theorem dX8_bore_151 : decode cX8_bore 151 = .ok (.invokevirtual 81, 3) := dk_182 0 81 (dk_at dksX8_bore_6 9 rfl rfl)
theorem dX8_bore_154 : decode cX8_bore 154 = .ok (.ifCond .eq 7, 3) := dk_153 0 7 (dk_at dksX8_bore_6 12 rfl rfl)
theorem dX8_bore_157 : decode cX8_bore 157 = .ok (.iconst 2, 1) := dk_5 (dk_at dksX8_bore_6 15 rfl rfl)
theorem dX8_bore_158 : decode cX8_bore 158 = .ok (.goto 25, 3) := dk_167 0 25 (dk_at dksX8_bore_6 16 rfl rfl)
theorem dX8_bore_161 : decode cX8_bore 161 = .ok (.aload_n 0, 1) := dk_42 (dk_at dksX8_bore_6 19 rfl rfl)
theorem dX8_bore_162 : decode cX8_bore 162 = .ok (.getfield 3, 3) := dk_180 0 3 (dk_at dksX8_bore_6 20 rfl rfl)
theorem dX8_bore_165 : decode cX8_bore 165 = .ok (.getfield 68, 3) := dk_180 0 68 (dk_at dksX8_bore_7 0 rfl rfl)
theorem dX8_bore_168 : decode cX8_bore 168 = .ok (.iload_n 3, 1) := dk_29 (dk_at dksX8_bore_7 3 rfl rfl)
theorem dX8_bore_169 : decode cX8_bore 169 = .ok (.iload 4, 2) := dk_21 4 (dk_at dksX8_bore_7 4 rfl rfl)
theorem dX8_bore_171 : decode cX8_bore 171 = .ok (.invokestatic 71, 3) := dk_184 0 71 (dk_at dksX8_bore_7 6 rfl rfl)
theorem dX8_bore_174 : decode cX8_bore 174 = .ok (.baload, 1) := dk_51 (dk_at dksX8_bore_7 9 rfl rfl)
theorem dX8_bore_175 : decode cX8_bore 175 = .ok (.ifCond .eq 7, 3) := dk_153 0 7 (dk_at dksX8_bore_7 10 rfl rfl)
theorem dX8_bore_178 : decode cX8_bore 178 = .ok (.iconst 1, 1) := dk_4 (dk_at dksX8_bore_7 13 rfl rfl)
theorem dX8_bore_179 : decode cX8_bore 179 = .ok (.goto 4, 3) := dk_167 0 4 (dk_at dksX8_bore_7 14 rfl rfl)
theorem dX8_bore_182 : decode cX8_bore 182 = .ok (.iconst 0, 1) := dk_3 (dk_at dksX8_bore_7 17 rfl rfl)
theorem dX8_bore_183 : decode cX8_bore 183 = .ok (.iastore, 1) := dk_79 (dk_at dksX8_bore_7 18 rfl rfl)
theorem dX8_bore_184 : decode cX8_bore 184 = .ok (.aload_n 0, 1) := dk_42 (dk_at dksX8_bore_7 19 rfl rfl)
theorem dX8_bore_185 : decode cX8_bore 185 = .ok (.getfield 19, 3) := dk_180 0 19 (dk_at dksX8_bore_7 20 rfl rfl)
theorem dX8_bore_188 : decode cX8_bore 188 = .ok (.iload 4, 2) := dk_21 4 (dk_at dksX8_bore_8 0 rfl rfl)
theorem dX8_bore_190 : decode cX8_bore 190 = .ok (.iaload, 1) := dk_46 (dk_at dksX8_bore_8 2 rfl rfl)
theorem dX8_bore_191 : decode cX8_bore 191 = .ok (.iconst 2, 1) := dk_5 (dk_at dksX8_bore_8 3 rfl rfl)
theorem dX8_bore_192 : decode cX8_bore 192 = .ok (.if_icmp .ne 14, 3) := dk_160 0 14 (dk_at dksX8_bore_8 4 rfl rfl)
theorem dX8_bore_195 : decode cX8_bore 195 = .ok (.aload_n 0, 1) := dk_42 (dk_at dksX8_bore_8 7 rfl rfl)
theorem dX8_bore_196 : decode cX8_bore 196 = .ok (.aload_n 0, 1) := dk_42 (dk_at dksX8_bore_8 8 rfl rfl)
theorem dX8_bore_197 : decode cX8_bore 197 = .ok (.getfield 3, 3) := dk_180 0 3 (dk_at dksX8_bore_8 9 rfl rfl)
theorem dX8_bore_200 : decode cX8_bore 200 = .ok (.getfield 85, 3) := dk_180 0 85 (dk_at dksX8_bore_8 12 rfl rfl)
theorem dX8_bore_203 : decode cX8_bore 203 = .ok (.putfield 22, 3) := dk_181 0 22 (dk_at dksX8_bore_8 15 rfl rfl)
theorem dX8_bore_206 : decode cX8_bore 206 = .ok (.goto (-204), 3) := dk_167 255 52 (dk_at dksX8_bore_8 18 rfl rfl)
theorem dX8_bore_209 : decode cX8_bore 209 = .ok (.return_, 1) := dk_177 (dk_at dksX8_bore_8 21 rfl rfl)
abbrev cX8_carries : ByteArray := prog_7_method_4_code
def yX8_carries : MethodName := ⟨RX8, "carries", "(I)I"⟩
def dkwX8_carries_0 : List UInt8 := [42, 16, 30, 182, 0, 46, 42, 27, 183, 0, 50, 42, 180, 0, 36, 96, 172]
abbrev dktX8_carries_0 : List UInt8 := dkwX8_carries_0 ++ []
theorem dksX8_carries_0 : cX8_carries.data.toList.drop 0 = dktX8_carries_0 := by decide +kernel
theorem dX8_carries_0 : decode cX8_carries 0 = .ok (.aload_n 0, 1) := dk_42 (dk_at dksX8_carries_0 0 rfl rfl)
theorem dX8_carries_1 : decode cX8_carries 1 = .ok (.bipush 30, 2) := dk_16 30 (dk_at dksX8_carries_0 1 rfl rfl)
theorem dX8_carries_3 : decode cX8_carries 3 = .ok (.invokevirtual 46, 3) := dk_182 0 46 (dk_at dksX8_carries_0 3 rfl rfl)
theorem dX8_carries_6 : decode cX8_carries 6 = .ok (.aload_n 0, 1) := dk_42 (dk_at dksX8_carries_0 6 rfl rfl)
theorem dX8_carries_7 : decode cX8_carries 7 = .ok (.iload_n 1, 1) := dk_27 (dk_at dksX8_carries_0 7 rfl rfl)
theorem dX8_carries_8 : decode cX8_carries 8 = .ok (.invokespecial 50, 3) := dk_183 0 50 (dk_at dksX8_carries_0 8 rfl rfl)
theorem dX8_carries_11 : decode cX8_carries 11 = .ok (.aload_n 0, 1) := dk_42 (dk_at dksX8_carries_0 11 rfl rfl)
theorem dX8_carries_12 : decode cX8_carries 12 = .ok (.getfield 36, 3) := dk_180 0 36 (dk_at dksX8_carries_0 12 rfl rfl)
theorem dX8_carries_15 : decode cX8_carries 15 = .ok (.iadd, 1) := dk_96 (dk_at dksX8_carries_0 15 rfl rfl)
theorem dX8_carries_16 : decode cX8_carries 16 = .ok (.ireturn, 1) := dk_172 (dk_at dksX8_carries_0 16 rfl rfl)
abbrev cX8_isUnder : ByteArray := prog_7_method_3_code
def yX8_isUnder : MethodName := ⟨RX8, "isUnder", "(I)Z"⟩
def dkwX8_isUnder_0 : List UInt8 := [27, 5, 159, 0, 11, 42, 27, 183, 0, 42, 153, 0, 7, 4, 167, 0, 4, 3, 172]
abbrev dktX8_isUnder_0 : List UInt8 := dkwX8_isUnder_0 ++ []
theorem dksX8_isUnder_0 : cX8_isUnder.data.toList.drop 0 = dktX8_isUnder_0 := by decide +kernel
theorem dX8_isUnder_0 : decode cX8_isUnder 0 = .ok (.iload_n 1, 1) := dk_27 (dk_at dksX8_isUnder_0 0 rfl rfl)
theorem dX8_isUnder_1 : decode cX8_isUnder 1 = .ok (.iconst 2, 1) := dk_5 (dk_at dksX8_isUnder_0 1 rfl rfl)
theorem dX8_isUnder_2 : decode cX8_isUnder 2 = .ok (.if_icmp .eq 11, 3) := dk_159 0 11 (dk_at dksX8_isUnder_0 2 rfl rfl)
theorem dX8_isUnder_5 : decode cX8_isUnder 5 = .ok (.aload_n 0, 1) := dk_42 (dk_at dksX8_isUnder_0 5 rfl rfl)
theorem dX8_isUnder_6 : decode cX8_isUnder 6 = .ok (.iload_n 1, 1) := dk_27 (dk_at dksX8_isUnder_0 6 rfl rfl)
theorem dX8_isUnder_7 : decode cX8_isUnder 7 = .ok (.invokespecial 42, 3) := dk_183 0 42 (dk_at dksX8_isUnder_0 7 rfl rfl)
theorem dX8_isUnder_10 : decode cX8_isUnder 10 = .ok (.ifCond .eq 7, 3) := dk_153 0 7 (dk_at dksX8_isUnder_0 10 rfl rfl)
theorem dX8_isUnder_13 : decode cX8_isUnder 13 = .ok (.iconst 1, 1) := dk_4 (dk_at dksX8_isUnder_0 13 rfl rfl)
theorem dX8_isUnder_14 : decode cX8_isUnder 14 = .ok (.goto 4, 3) := dk_167 0 4 (dk_at dksX8_isUnder_0 14 rfl rfl)
theorem dX8_isUnder_17 : decode cX8_isUnder 17 = .ok (.iconst 0, 1) := dk_3 (dk_at dksX8_isUnder_0 17 rfl rfl)
theorem dX8_isUnder_18 : decode cX8_isUnder 18 = .ok (.ireturn, 1) := dk_172 (dk_at dksX8_isUnder_0 18 rfl rfl)
theorem q95 : (Jvm.Cond.initialized "ThirtyThreeBelow$Hole") ∈ lw_all := lw_g (lw_at lw_m1 12 rfl) rfl
theorem q264 : (Jvm.Cond.fieldLinkNest "ThirtyThreeBelow$Hole" (85 : Nat) "ThirtyThreeBelow" "hour" "I" "ThirtyThreeBelow") ∈ lw_tbl := lw_at lw_m1 181 rfl
theorem q267 : (Jvm.Cond.fieldLinkNest "ThirtyThreeBelow$Hole" (75 : Nat) "ThirtyThreeBelow" "hard" "[I" "ThirtyThreeBelow") ∈ lw_tbl := lw_at lw_m1 184 rfl
theorem q269 : (Jvm.Cond.fieldLinkNest "ThirtyThreeBelow$Hole" (68 : Nat) "ThirtyThreeBelow" "isOpen" "[Z" "ThirtyThreeBelow") ∈ lw_tbl := lw_at lw_m1 186 rfl
theorem q282 : (Jvm.Cond.fieldLinkNest "ThirtyThreeBelow$Hole" (88 : Nat) "ThirtyThreeBelow" "spread" "I" "ThirtyThreeBelow") ∈ lw_tbl := lw_at lw_m1 199 rfl
theorem q516 : (Jvm.Cond.instantiable "ThirtyThreeBelow$Hole" (15 : Nat)) ∈ lw_all := lw_g (lw_at lw_m2 193 rfl) rfl
theorem q518 : (Jvm.Cond.instanceMethod ({ cls := "ThirtyThreeBelow$Hole", name := "<init>", desc := "(LThirtyThreeBelow;III)V" } : Jvm.MethodName)) ∈ lw_all := lw_g (lw_at lw_m2 195 rfl) rfl
theorem q519 : (Jvm.Cond.code ({ cls := "ThirtyThreeBelow$Hole", name := "<init>", desc := "(LThirtyThreeBelow;III)V" } : Jvm.MethodName) prog_7_method_1_code (5 : Nat) (Option.none : Option Jvm.ClassFile.FieldType)) ∈ lw_all := lw_g (lw_at lw_m2 196 rfl) rfl
theorem q520 : (Jvm.Cond.methodLink "ThirtyThreeBelow$Hole" (9 : Nat) ({ cls := "ThirtyThreeBelow$Way", name := "<init>", desc := "(LThirtyThreeBelow;I)V" } : Jvm.MethodName)) ∈ lw_all := lw_g (lw_at lw_m2 197 rfl) rfl
theorem q521 : (Jvm.Cond.fieldLink "ThirtyThreeBelow$Hole" (33 : Nat) "ThirtyThreeBelow$Hole" "column" "I") ∈ lw_all := lw_g (lw_at lw_m2 198 rfl) rfl
theorem q523 : (Jvm.Cond.fieldLink "ThirtyThreeBelow$Hole" (36 : Nat) "ThirtyThreeBelow$Hole" "width" "I") ∈ lw_all := lw_g (lw_at lw_m2 200 rfl) rfl
theorem q525 : (Jvm.Cond.fieldLink "ThirtyThreeBelow$Hole" (15 : Nat) "ThirtyThreeBelow$Hole" "leans" "[I") ∈ lw_all := lw_g (lw_at lw_m2 202 rfl) rfl
theorem q527 : (Jvm.Cond.fieldLink "ThirtyThreeBelow$Hole" (57 : Nat) "ThirtyThreeBelow$Hole" "told" "I") ∈ lw_all := lw_g (lw_at lw_m2 204 rfl) rfl
theorem q529 : (Jvm.Cond.fieldLink "ThirtyThreeBelow$Hole" (19 : Nat) "ThirtyThreeBelow$Hole" "met" "[I") ∈ lw_all := lw_g (lw_at lw_m2 206 rfl) rfl
theorem q531 : (Jvm.Cond.fieldLink "ThirtyThreeBelow$Hole" (54 : Nat) "ThirtyThreeBelow$Hole" "bored" "I") ∈ lw_all := lw_g (lw_at lw_m2 208 rfl) rfl
theorem q533 : (Jvm.Cond.fieldLink "ThirtyThreeBelow$Hole" (39 : Nat) "ThirtyThreeBelow$Hole" "x" "I") ∈ lw_all := lw_g (lw_at lw_m2 210 rfl) rfl
theorem q535 : (Jvm.Cond.fieldLink "ThirtyThreeBelow$Hole" (78 : Nat) "ThirtyThreeBelow$Hole" "minutes" "I") ∈ lw_all := lw_g (lw_at lw_m2 212 rfl) rfl
theorem q537 : (Jvm.Cond.fieldLink "ThirtyThreeBelow$Hole" (22 : Nat) "ThirtyThreeBelow$Hole" "throughOn" "I") ∈ lw_all := lw_g (lw_at lw_m2 214 rfl) rfl
theorem q539 : (Jvm.Cond.fieldLink "ThirtyThreeBelow$Hole" (26 : Nat) "ThirtyThreeBelow$Hole" "logs" "[I") ∈ lw_all := lw_g (lw_at lw_m2 216 rfl) rfl
theorem q541 : (Jvm.Cond.fieldLink "ThirtyThreeBelow$Hole" (29 : Nat) "ThirtyThreeBelow$Hole" "hasLog" "[Z") ∈ lw_all := lw_g (lw_at lw_m2 218 rfl) rfl
theorem q543 : (Jvm.Cond.fieldLink "ThirtyThreeBelow$Hole" (3 : Nat) "ThirtyThreeBelow$Hole" "this$0" "LThirtyThreeBelow;") ∈ lw_all := lw_g (lw_at lw_m2 220 rfl) rfl
theorem q544 : (Jvm.Cond.laysFinal "ThirtyThreeBelow$Hole" "ThirtyThreeBelow$Hole" "column" "I") ∈ lw_all := lw_g (lw_at lw_m2 221 rfl) rfl
theorem q545 : (Jvm.Cond.soleField "ThirtyThreeBelow$Hole" "column") ∈ lw_all := lw_g (lw_at lw_m2 222 rfl) rfl
theorem q546 : (Jvm.Cond.laysFinal "ThirtyThreeBelow$Hole" "ThirtyThreeBelow$Hole" "width" "I") ∈ lw_all := lw_g (lw_at lw_m2 223 rfl) rfl
theorem q547 : (Jvm.Cond.soleField "ThirtyThreeBelow$Hole" "width") ∈ lw_all := lw_g (lw_at lw_m2 224 rfl) rfl
theorem q548 : (Jvm.Cond.laysFinal "ThirtyThreeBelow$Hole" "ThirtyThreeBelow$Hole" "leans" "[I") ∈ lw_all := lw_g (lw_at lw_m2 225 rfl) rfl
theorem q549 : (Jvm.Cond.soleField "ThirtyThreeBelow$Hole" "leans") ∈ lw_all := lw_g (lw_at lw_m2 226 rfl) rfl
theorem q550 : (Jvm.Cond.lays "ThirtyThreeBelow$Hole" "ThirtyThreeBelow$Hole" "told" "I") ∈ lw_all := lw_g (lw_at lw_m2 227 rfl) rfl
theorem q551 : (Jvm.Cond.soleField "ThirtyThreeBelow$Hole" "told") ∈ lw_all := lw_g (lw_at lw_m2 228 rfl) rfl
theorem q552 : (Jvm.Cond.laysFinal "ThirtyThreeBelow$Hole" "ThirtyThreeBelow$Hole" "met" "[I") ∈ lw_all := lw_g (lw_at lw_m2 229 rfl) rfl
theorem q553 : (Jvm.Cond.soleField "ThirtyThreeBelow$Hole" "met") ∈ lw_all := lw_g (lw_at lw_m2 230 rfl) rfl
theorem q554 : (Jvm.Cond.lays "ThirtyThreeBelow$Hole" "ThirtyThreeBelow$Hole" "bored" "I") ∈ lw_all := lw_g (lw_at lw_m2 231 rfl) rfl
theorem q555 : (Jvm.Cond.soleField "ThirtyThreeBelow$Hole" "bored") ∈ lw_all := lw_g (lw_at lw_m2 232 rfl) rfl
theorem q556 : (Jvm.Cond.lays "ThirtyThreeBelow$Hole" "ThirtyThreeBelow$Hole" "x" "I") ∈ lw_all := lw_g (lw_at lw_m2 233 rfl) rfl
theorem q557 : (Jvm.Cond.soleField "ThirtyThreeBelow$Hole" "x") ∈ lw_all := lw_g (lw_at lw_m2 234 rfl) rfl
theorem q558 : (Jvm.Cond.lays "ThirtyThreeBelow$Hole" "ThirtyThreeBelow$Hole" "minutes" "I") ∈ lw_all := lw_g (lw_at lw_m2 235 rfl) rfl
theorem q559 : (Jvm.Cond.soleField "ThirtyThreeBelow$Hole" "minutes") ∈ lw_all := lw_g (lw_at lw_m2 236 rfl) rfl
theorem q560 : (Jvm.Cond.lays "ThirtyThreeBelow$Hole" "ThirtyThreeBelow$Hole" "throughOn" "I") ∈ lw_all := lw_g (lw_at lw_m2 237 rfl) rfl
theorem q561 : (Jvm.Cond.soleField "ThirtyThreeBelow$Hole" "throughOn") ∈ lw_all := lw_g (lw_at lw_m2 238 rfl) rfl
theorem q562 : (Jvm.Cond.laysFinal "ThirtyThreeBelow$Hole" "ThirtyThreeBelow$Hole" "logs" "[I") ∈ lw_all := lw_g (lw_at lw_m2 239 rfl) rfl
theorem q563 : (Jvm.Cond.soleField "ThirtyThreeBelow$Hole" "logs") ∈ lw_all := lw_g (lw_at lw_m3 0 rfl) rfl
theorem q564 : (Jvm.Cond.laysFinal "ThirtyThreeBelow$Hole" "ThirtyThreeBelow$Hole" "hasLog" "[Z") ∈ lw_all := lw_g (lw_at lw_m3 1 rfl) rfl
theorem q565 : (Jvm.Cond.soleField "ThirtyThreeBelow$Hole" "hasLog") ∈ lw_all := lw_g (lw_at lw_m3 2 rfl) rfl
theorem q566 : (Jvm.Cond.laysFinal "ThirtyThreeBelow$Hole" "ThirtyThreeBelow$Hole" "this$0" "LThirtyThreeBelow;") ∈ lw_all := lw_g (lw_at lw_m3 3 rfl) rfl
theorem q567 : (Jvm.Cond.soleField "ThirtyThreeBelow$Hole" "this$0") ∈ lw_all := lw_g (lw_at lw_m3 4 rfl) rfl
theorem q568 : (Jvm.Cond.laysFinal "ThirtyThreeBelow$Hole" "ThirtyThreeBelow$Way" "this$0" "LThirtyThreeBelow;") ∈ lw_all := lw_g (lw_at lw_m3 5 rfl) rfl
theorem q569 : (Jvm.Cond.laysFinal "ThirtyThreeBelow$Hole" "ThirtyThreeBelow$Body" "number" "I") ∈ lw_all := lw_g (lw_at lw_m3 6 rfl) rfl
theorem q570 : (Jvm.Cond.laysFinal "ThirtyThreeBelow$Hole" "ThirtyThreeBelow$Body" "this$0" "LThirtyThreeBelow;") ∈ lw_all := lw_g (lw_at lw_m3 7 rfl) rfl
theorem q571 : (Jvm.Cond.superclass "ThirtyThreeBelow$Hole" "ThirtyThreeBelow$Way") ∈ lw_all := lw_g (lw_at lw_m3 8 rfl) rfl
theorem q732 : (Jvm.Cond.selects "ThirtyThreeBelow$Hole" ({ cls := "ThirtyThreeBelow$Body", name := "kind", desc := "()I" } : Jvm.MethodName) ({ cls := "ThirtyThreeBelow$Hole", name := "kind", desc := "()I" } : Jvm.MethodName)) ∈ lw_all := lw_g (lw_at lw_m3 169 rfl) rfl
theorem q733 : (Jvm.Cond.instanceMethod ({ cls := "ThirtyThreeBelow$Hole", name := "kind", desc := "()I" } : Jvm.MethodName)) ∈ lw_all := lw_g (lw_at lw_m3 170 rfl) rfl
theorem q734 : (Jvm.Cond.code ({ cls := "ThirtyThreeBelow$Hole", name := "kind", desc := "()I" } : Jvm.MethodName) prog_7_method_2_code (1 : Nat) (Option.some Jvm.ClassFile.FieldType.int)) ∈ lw_all := lw_g (lw_at lw_m3 171 rfl) rfl
theorem q762 : (Jvm.Cond.instanceMethod ({ cls := "ThirtyThreeBelow$Hole", name := "isThrough", desc := "()Z" } : Jvm.MethodName)) ∈ lw_all := lw_g (lw_at lw_m3 199 rfl) rfl
theorem q763 : (Jvm.Cond.selects "ThirtyThreeBelow$Hole" ({ cls := "ThirtyThreeBelow$Hole", name := "isThrough", desc := "()Z" } : Jvm.MethodName) ({ cls := "ThirtyThreeBelow$Hole", name := "isThrough", desc := "()Z" } : Jvm.MethodName)) ∈ lw_all := lw_g (lw_at lw_m3 200 rfl) rfl
theorem q764 : (Jvm.Cond.sameMethod "ThirtyThreeBelow$Hole" "ThirtyThreeBelow$Hole" "isThrough" "()Z") ∈ lw_all := lw_g (lw_at lw_m3 201 rfl) rfl
theorem q768 : (Jvm.Cond.code ({ cls := "ThirtyThreeBelow$Hole", name := "isThrough", desc := "()Z" } : Jvm.MethodName) prog_7_method_5_code (1 : Nat) (Option.some Jvm.ClassFile.FieldType.boolean)) ∈ lw_all := lw_g (lw_at lw_m3 205 rfl) rfl
theorem q839 : (Jvm.Cond.instanceMethod ({ cls := "ThirtyThreeBelow$Hole", name := "low", desc := "(II)I" } : Jvm.MethodName)) ∈ lw_all := lw_g (lw_at lw_m4 36 rfl) rfl
theorem q840 : (Jvm.Cond.selects "ThirtyThreeBelow$Hole" ({ cls := "ThirtyThreeBelow$Hole", name := "low", desc := "(II)I" } : Jvm.MethodName) ({ cls := "ThirtyThreeBelow$Hole", name := "low", desc := "(II)I" } : Jvm.MethodName)) ∈ lw_all := lw_g (lw_at lw_m4 37 rfl) rfl
theorem q841 : (Jvm.Cond.sameMethod "ThirtyThreeBelow$Hole" "ThirtyThreeBelow$Hole" "low" "(II)I") ∈ lw_all := lw_g (lw_at lw_m4 38 rfl) rfl
theorem q845 : (Jvm.Cond.code ({ cls := "ThirtyThreeBelow$Hole", name := "low", desc := "(II)I" } : Jvm.MethodName) prog_7_method_7_code (3 : Nat) (Option.some Jvm.ClassFile.FieldType.int)) ∈ lw_all := lw_g (lw_at lw_m4 42 rfl) rfl
theorem q847 : (Jvm.Cond.instanceMethod ({ cls := "ThirtyThreeBelow$Hole", name := "high", desc := "(II)I" } : Jvm.MethodName)) ∈ lw_all := lw_g (lw_at lw_m4 44 rfl) rfl
theorem q848 : (Jvm.Cond.selects "ThirtyThreeBelow$Hole" ({ cls := "ThirtyThreeBelow$Hole", name := "high", desc := "(II)I" } : Jvm.MethodName) ({ cls := "ThirtyThreeBelow$Hole", name := "high", desc := "(II)I" } : Jvm.MethodName)) ∈ lw_all := lw_g (lw_at lw_m4 45 rfl) rfl
theorem q849 : (Jvm.Cond.sameMethod "ThirtyThreeBelow$Hole" "ThirtyThreeBelow$Hole" "high" "(II)I") ∈ lw_all := lw_g (lw_at lw_m4 46 rfl) rfl
theorem q853 : (Jvm.Cond.code ({ cls := "ThirtyThreeBelow$Hole", name := "high", desc := "(II)I" } : Jvm.MethodName) prog_7_method_8_code (3 : Nat) (Option.some Jvm.ClassFile.FieldType.int)) ∈ lw_all := lw_g (lw_at lw_m4 50 rfl) rfl
theorem q1184 : (Jvm.Cond.instanceMethod ({ cls := "ThirtyThreeBelow$Hole", name := "bore", desc := "(I)V" } : Jvm.MethodName)) ∈ lw_all := lw_g (lw_at lw_m5 141 rfl) rfl
theorem q1185 : (Jvm.Cond.selects "ThirtyThreeBelow$Hole" ({ cls := "ThirtyThreeBelow$Hole", name := "bore", desc := "(I)V" } : Jvm.MethodName) ({ cls := "ThirtyThreeBelow$Hole", name := "bore", desc := "(I)V" } : Jvm.MethodName)) ∈ lw_all := lw_g (lw_at lw_m5 142 rfl) rfl
theorem q1186 : (Jvm.Cond.sameMethod "ThirtyThreeBelow$Hole" "ThirtyThreeBelow$Hole" "bore" "(I)V") ∈ lw_all := lw_g (lw_at lw_m5 143 rfl) rfl
theorem q1190 : (Jvm.Cond.code ({ cls := "ThirtyThreeBelow$Hole", name := "bore", desc := "(I)V" } : Jvm.MethodName) prog_7_method_6_code (6 : Nat) (Option.none : Option Jvm.ClassFile.FieldType)) ∈ lw_all := lw_g (lw_at lw_m5 147 rfl) rfl
theorem q1191 : (Jvm.Cond.methodLink "ThirtyThreeBelow$Hole" (60 : Nat) ({ cls := "ThirtyThreeBelow$Hole", name := "isThrough", desc := "()Z" } : Jvm.MethodName)) ∈ lw_all := lw_g (lw_at lw_m5 148 rfl) rfl
theorem q1192 : (Jvm.Cond.methodLinkNest "ThirtyThreeBelow$Hole" (64 : Nat) ({ cls := "ThirtyThreeBelow", name := "held", desc := "(III)I" } : Jvm.MethodName) "ThirtyThreeBelow") ∈ lw_tbl := lw_at lw_m5 149 rfl
theorem q1193 : (Jvm.Cond.methodLinkNest "ThirtyThreeBelow$Hole" (71 : Nat) ({ cls := "ThirtyThreeBelow", name := "at", desc := "(II)I" } : Jvm.MethodName) "ThirtyThreeBelow") ∈ lw_tbl := lw_at lw_m5 150 rfl
theorem q1194 : (Jvm.Cond.methodLinkNest "ThirtyThreeBelow$Hole" (81 : Nat) ({ cls := "ThirtyThreeBelow", name := "isShelterAt", desc := "(II)Z" } : Jvm.MethodName) "ThirtyThreeBelow") ∈ lw_tbl := lw_at lw_m5 151 rfl
theorem q1316 : (Jvm.Cond.selects "ThirtyThreeBelow$Hole" ({ cls := "ThirtyThreeBelow$Bores", name := "bores", desc := "(I)I" } : Jvm.MethodName) ({ cls := "ThirtyThreeBelow$Way", name := "bores", desc := "(I)I" } : Jvm.MethodName)) ∈ lw_all := lw_g (lw_at lw_m6 33 rfl) rfl
theorem q1322 : (Jvm.Cond.selects "ThirtyThreeBelow$Hole" ({ cls := "ThirtyThreeBelow$Way", name := "begins", desc := "(I)V" } : Jvm.MethodName) ({ cls := "ThirtyThreeBelow$Body", name := "begins", desc := "(I)V" } : Jvm.MethodName)) ∈ lw_all := lw_g (lw_at lw_m6 39 rfl) rfl
theorem q1340 : (Jvm.Cond.castable "ThirtyThreeBelow$Hole" "ThirtyThreeBelow$Bores") ∈ lw_tbl := lw_at lw_m6 57 rfl
theorem q1341 : (Jvm.Cond.selects "ThirtyThreeBelow$Hole" ({ cls := "ThirtyThreeBelow$Bores", name := "begins", desc := "(I)V" } : Jvm.MethodName) ({ cls := "ThirtyThreeBelow$Body", name := "begins", desc := "(I)V" } : Jvm.MethodName)) ∈ lw_all := lw_g (lw_at lw_m6 58 rfl) rfl
theorem q1342 : (Jvm.Cond.unhidden "ThirtyThreeBelow$Hole" "begins" "(I)V") ∈ lw_tbl := lw_at lw_m6 59 rfl
theorem q1370 : (Jvm.Cond.selects "ThirtyThreeBelow$Hole" ({ cls := "ThirtyThreeBelow$Bores", name := "number", desc := "()I" } : Jvm.MethodName) ({ cls := "ThirtyThreeBelow$Body", name := "number", desc := "()I" } : Jvm.MethodName)) ∈ lw_all := lw_g (lw_at lw_m6 87 rfl) rfl
theorem q1371 : (Jvm.Cond.unhidden "ThirtyThreeBelow$Hole" "number" "()I") ∈ lw_tbl := lw_at lw_m6 88 rfl
theorem q1398 : (Jvm.Cond.sameMethod "ThirtyThreeBelow$Hole" "ThirtyThreeBelow$Way" "bores" "(I)I") ∈ lw_all := lw_g (lw_at lw_m6 115 rfl) rfl
theorem q1410 : (Jvm.Cond.selects "ThirtyThreeBelow$Hole" ({ cls := "ThirtyThreeBelow$Body", name := "carries", desc := "(I)I" } : Jvm.MethodName) ({ cls := "ThirtyThreeBelow$Hole", name := "carries", desc := "(I)I" } : Jvm.MethodName)) ∈ lw_all := lw_g (lw_at lw_m6 127 rfl) rfl
theorem q1411 : (Jvm.Cond.instanceMethod ({ cls := "ThirtyThreeBelow$Hole", name := "carries", desc := "(I)I" } : Jvm.MethodName)) ∈ lw_all := lw_g (lw_at lw_m6 128 rfl) rfl
theorem q1412 : (Jvm.Cond.code ({ cls := "ThirtyThreeBelow$Hole", name := "carries", desc := "(I)I" } : Jvm.MethodName) prog_7_method_4_code (2 : Nat) (Option.some Jvm.ClassFile.FieldType.int)) ∈ lw_all := lw_g (lw_at lw_m6 129 rfl) rfl
theorem q1413 : (Jvm.Cond.methodLink "ThirtyThreeBelow$Hole" (46 : Nat) ({ cls := "ThirtyThreeBelow$Hole", name := "begins", desc := "(I)V" } : Jvm.MethodName)) ∈ lw_all := lw_g (lw_at lw_m6 130 rfl) rfl
theorem q1414 : (Jvm.Cond.sameMethod "ThirtyThreeBelow$Hole" "ThirtyThreeBelow$Body" "begins" "(I)V") ∈ lw_all := lw_g (lw_at lw_m6 131 rfl) rfl
theorem q1415 : (Jvm.Cond.selects "ThirtyThreeBelow$Hole" ({ cls := "ThirtyThreeBelow$Hole", name := "begins", desc := "(I)V" } : Jvm.MethodName) ({ cls := "ThirtyThreeBelow$Body", name := "begins", desc := "(I)V" } : Jvm.MethodName)) ∈ lw_all := lw_g (lw_at lw_m6 132 rfl) rfl
theorem q1419 : (Jvm.Cond.methodLink "ThirtyThreeBelow$Hole" (50 : Nat) ({ cls := "ThirtyThreeBelow$Way", name := "carries", desc := "(I)I" } : Jvm.MethodName)) ∈ lw_all := lw_g (lw_at lw_m6 136 rfl) rfl
theorem q1440 : (Jvm.Cond.selects "ThirtyThreeBelow$Hole" ({ cls := "ThirtyThreeBelow$Body", name := "holds", desc := "(I)I" } : Jvm.MethodName) ({ cls := "ThirtyThreeBelow$Body", name := "holds", desc := "(I)I" } : Jvm.MethodName)) ∈ lw_all := lw_g (lw_at lw_m6 157 rfl) rfl
theorem q1466 : (Jvm.Cond.sameMethod "ThirtyThreeBelow$Hole" "ThirtyThreeBelow$Body" "holds" "(I)I") ∈ lw_all := lw_g (lw_at lw_m6 183 rfl) rfl
theorem q1469 : (Jvm.Cond.declares ({ cls := "ThirtyThreeBelow$Hole", name := "carries", desc := "(I)I" } : Jvm.MethodName)) ∈ lw_tbl := lw_at lw_m6 186 rfl
theorem q1474 : (Jvm.Cond.unhidden "ThirtyThreeBelow$Hole" "tells" "(I)I") ∈ lw_tbl := lw_at lw_m6 191 rfl
theorem q1486 : (Jvm.Cond.castable "ThirtyThreeBelow$Hole" "ThirtyThreeBelow$Tells") ∈ lw_tbl := lw_at lw_m6 203 rfl
theorem q1487 : (Jvm.Cond.selects "ThirtyThreeBelow$Hole" ({ cls := "ThirtyThreeBelow$Tells", name := "begins", desc := "(I)V" } : Jvm.MethodName) ({ cls := "ThirtyThreeBelow$Body", name := "begins", desc := "(I)V" } : Jvm.MethodName)) ∈ lw_all := lw_g (lw_at lw_m6 204 rfl) rfl
theorem q1507 : (Jvm.Cond.selects "ThirtyThreeBelow$Hole" ({ cls := "ThirtyThreeBelow$Tells", name := "carries", desc := "(I)I" } : Jvm.MethodName) ({ cls := "ThirtyThreeBelow$Hole", name := "carries", desc := "(I)I" } : Jvm.MethodName)) ∈ lw_all := lw_g (lw_at lw_m6 224 rfl) rfl
theorem q1508 : (Jvm.Cond.unhidden "ThirtyThreeBelow$Hole" "carries" "(I)I") ∈ lw_tbl := lw_at lw_m6 225 rfl
theorem q1509 : (Jvm.Cond.publicMethod ({ cls := "ThirtyThreeBelow$Hole", name := "carries", desc := "(I)I" } : Jvm.MethodName)) ∈ lw_tbl := lw_at lw_m6 226 rfl
theorem q1530 : (Jvm.Cond.selects "ThirtyThreeBelow$Hole" ({ cls := "ThirtyThreeBelow$Tells", name := "holds", desc := "(I)I" } : Jvm.MethodName) ({ cls := "ThirtyThreeBelow$Body", name := "holds", desc := "(I)I" } : Jvm.MethodName)) ∈ lw_all := lw_g (lw_at lw_m7 7 rfl) rfl
theorem q1531 : (Jvm.Cond.unhidden "ThirtyThreeBelow$Hole" "holds" "(I)I") ∈ lw_tbl := lw_at lw_m7 8 rfl
theorem q1647 : (Jvm.Cond.selects "ThirtyThreeBelow$Hole" ({ cls := "ThirtyThreeBelow$Body", name := "isUnder", desc := "(I)Z" } : Jvm.MethodName) ({ cls := "ThirtyThreeBelow$Hole", name := "isUnder", desc := "(I)Z" } : Jvm.MethodName)) ∈ lw_all := lw_g (lw_at lw_m7 124 rfl) rfl
theorem q1648 : (Jvm.Cond.instanceMethod ({ cls := "ThirtyThreeBelow$Hole", name := "isUnder", desc := "(I)Z" } : Jvm.MethodName)) ∈ lw_all := lw_g (lw_at lw_m7 125 rfl) rfl
theorem q1649 : (Jvm.Cond.code ({ cls := "ThirtyThreeBelow$Hole", name := "isUnder", desc := "(I)Z" } : Jvm.MethodName) prog_7_method_3_code (2 : Nat) (Option.some Jvm.ClassFile.FieldType.boolean)) ∈ lw_all := lw_g (lw_at lw_m7 126 rfl) rfl
theorem q1650 : (Jvm.Cond.methodLink "ThirtyThreeBelow$Hole" (42 : Nat) ({ cls := "ThirtyThreeBelow$Way", name := "isUnder", desc := "(I)Z" } : Jvm.MethodName)) ∈ lw_all := lw_g (lw_at lw_m7 127 rfl) rfl
theorem q2427 : (Jvm.Cond.selects "ThirtyThreeBelow$Hole" ({ cls := "ThirtyThreeBelow$Body", name := "begins", desc := "(I)V" } : Jvm.MethodName) ({ cls := "ThirtyThreeBelow$Body", name := "begins", desc := "(I)V" } : Jvm.MethodName)) ∈ lw_all := lw_g (lw_at lw_m10 184 rfl) rfl
theorem q2436 : (Jvm.Cond.sameMethod "ThirtyThreeBelow$Hole" "ThirtyThreeBelow$Hole" "isUnder" "(I)Z") ∈ lw_all := lw_g (lw_at lw_m10 193 rfl) rfl
theorem q2443 : (Jvm.Cond.castable "ThirtyThreeBelow$Hole" "ThirtyThreeBelow$Body") ∈ lw_tbl := lw_at lw_m10 200 rfl
theorem q2458 : (Jvm.Cond.castable "ThirtyThreeBelow$Hole" "java/lang/Object") ∈ lw_tbl := lw_at lw_m10 215 rfl
theorem in_X8 : ∀ w ∈ wsX80, w ∈ lw_all := lw_in wsX80 [569, 570, 568, 544, 546, 548, 550, 552, 554, 556, 558, 560, 562, 564, 566] (by decide +kernel) (by decide +kernel)
/-! ThirtyThreeBelow$Tube -/
set_option maxRecDepth 100000
def RX9 : String := "ThirtyThreeBelow$Tube"
def TX9 : u_T := fun k => match k with
  | 0 => ("ThirtyThreeBelow$Body", "number", "I", true)
  | 1 => ("ThirtyThreeBelow$Body", "this$0", "LThirtyThreeBelow;", true)
  | 2 => ("ThirtyThreeBelow$Way", "this$0", "LThirtyThreeBelow;", true)
  | 3 => ("ThirtyThreeBelow$Hole", "column", "I", true)
  | 4 => ("ThirtyThreeBelow$Hole", "width", "I", true)
  | 5 => ("ThirtyThreeBelow$Hole", "leans", "[I", true)
  | 6 => ("ThirtyThreeBelow$Hole", "told", "I", false)
  | 7 => ("ThirtyThreeBelow$Hole", "met", "[I", true)
  | 8 => ("ThirtyThreeBelow$Hole", "bored", "I", false)
  | 9 => ("ThirtyThreeBelow$Hole", "x", "I", false)
  | 10 => ("ThirtyThreeBelow$Hole", "minutes", "I", false)
  | 11 => ("ThirtyThreeBelow$Hole", "throughOn", "I", false)
  | 12 => ("ThirtyThreeBelow$Hole", "logs", "[I", true)
  | 13 => ("ThirtyThreeBelow$Hole", "hasLog", "[Z", true)
  | 14 => ("ThirtyThreeBelow$Hole", "this$0", "LThirtyThreeBelow;", true)
  | 15 => ("ThirtyThreeBelow$Tube", "free", "I", false)
  | _ => ("ThirtyThreeBelow$Tube", "this$0", "LThirtyThreeBelow;", true)
def tyX9 : Nat → FieldType := fun k => match k with
  | 0 => .int
  | 1 => .object "ThirtyThreeBelow"
  | 2 => .object "ThirtyThreeBelow"
  | 3 => .int
  | 4 => .int
  | 5 => .array .int
  | 6 => .int
  | 7 => .array .int
  | 8 => .int
  | 9 => .int
  | 10 => .int
  | 11 => .int
  | 12 => .array .int
  | 13 => .array .boolean
  | 14 => .object "ThirtyThreeBelow"
  | 15 => .int
  | _ => .object "ThirtyThreeBelow"
abbrev wsX90 : List Cond := u_ws RX9 TX9 17
-- two fields of one name: no nmX9
set_option maxRecDepth 100000 in
theorem tyX9_ok : ∀ k, k < 17 → parseFieldDescriptor (TX9 k).2.2.1 = some (tyX9 k) := by decide +kernel
abbrev cX9_init : ByteArray := prog_18_method_1_code
def yX9_init : MethodName := ⟨RX9, "<init>", "(LThirtyThreeBelow;III)V"⟩
def dkwX9_init_0 : List UInt8 := [42, 43, 181, 0, 1, 42, 43, 28, 29, 21, 4, 183, 0, 7, 177]
abbrev dktX9_init_0 : List UInt8 := dkwX9_init_0 ++ []
theorem dksX9_init_0 : cX9_init.data.toList.drop 0 = dktX9_init_0 := by decide +kernel
theorem dX9_init_0 : decode cX9_init 0 = .ok (.aload_n 0, 1) := dk_42 (dk_at dksX9_init_0 0 rfl rfl)
theorem dX9_init_1 : decode cX9_init 1 = .ok (.aload_n 1, 1) := dk_43 (dk_at dksX9_init_0 1 rfl rfl)
theorem dX9_init_2 : decode cX9_init 2 = .ok (.putfield 1, 3) := dk_181 0 1 (dk_at dksX9_init_0 2 rfl rfl)
theorem dX9_init_5 : decode cX9_init 5 = .ok (.aload_n 0, 1) := dk_42 (dk_at dksX9_init_0 5 rfl rfl)
theorem dX9_init_6 : decode cX9_init 6 = .ok (.aload_n 1, 1) := dk_43 (dk_at dksX9_init_0 6 rfl rfl)
theorem dX9_init_7 : decode cX9_init 7 = .ok (.iload_n 2, 1) := dk_28 (dk_at dksX9_init_0 7 rfl rfl)
theorem dX9_init_8 : decode cX9_init 8 = .ok (.iload_n 3, 1) := dk_29 (dk_at dksX9_init_0 8 rfl rfl)
theorem dX9_init_9 : decode cX9_init 9 = .ok (.iload 4, 2) := dk_21 4 (dk_at dksX9_init_0 9 rfl rfl)
theorem dX9_init_11 : decode cX9_init 11 = .ok (.invokespecial 7, 3) := dk_183 0 7 (dk_at dksX9_init_0 11 rfl rfl)
theorem dX9_init_14 : decode cX9_init 14 = .ok (.return_, 1) := dk_177 (dk_at dksX9_init_0 14 rfl rfl)
abbrev cX9_kind : ByteArray := prog_18_method_2_code
def yX9_kind : MethodName := ⟨RX9, "kind", "()I"⟩
theorem dX9_kind_0 : decode cX9_kind 0 = .ok (.iconst 3, 1) := by decide +kernel
theorem dX9_kind_1 : decode cX9_kind 1 = .ok (.ireturn, 1) := by decide +kernel
abbrev cX9_holds : ByteArray := prog_18_method_4_code
def yX9_holds : MethodName := ⟨RX9, "holds", "(I)I"⟩
def dkwX9_holds_0 : List UInt8 := [42, 16, 40, 182, 0, 17, 42, 27, 183, 0, 21, 61, 28, 42, 4, 182, 0, 25, 100, 172]
abbrev dktX9_holds_0 : List UInt8 := dkwX9_holds_0 ++ []
theorem dksX9_holds_0 : cX9_holds.data.toList.drop 0 = dktX9_holds_0 := by decide +kernel
theorem dX9_holds_0 : decode cX9_holds 0 = .ok (.aload_n 0, 1) := dk_42 (dk_at dksX9_holds_0 0 rfl rfl)
theorem dX9_holds_1 : decode cX9_holds 1 = .ok (.bipush 40, 2) := dk_16 40 (dk_at dksX9_holds_0 1 rfl rfl)
theorem dX9_holds_3 : decode cX9_holds 3 = .ok (.invokevirtual 17, 3) := dk_182 0 17 (dk_at dksX9_holds_0 3 rfl rfl)
theorem dX9_holds_6 : decode cX9_holds 6 = .ok (.aload_n 0, 1) := dk_42 (dk_at dksX9_holds_0 6 rfl rfl)
theorem dX9_holds_7 : decode cX9_holds 7 = .ok (.iload_n 1, 1) := dk_27 (dk_at dksX9_holds_0 7 rfl rfl)
theorem dX9_holds_8 : decode cX9_holds 8 = .ok (.invokespecial 21, 3) := dk_183 0 21 (dk_at dksX9_holds_0 8 rfl rfl)
theorem dX9_holds_11 : decode cX9_holds 11 = .ok (.istore_n 2, 1) := dk_61 (dk_at dksX9_holds_0 11 rfl rfl)
theorem dX9_holds_12 : decode cX9_holds 12 = .ok (.iload_n 2, 1) := dk_28 (dk_at dksX9_holds_0 12 rfl rfl)
theorem dX9_holds_13 : decode cX9_holds 13 = .ok (.aload_n 0, 1) := dk_42 (dk_at dksX9_holds_0 13 rfl rfl)
theorem dX9_holds_14 : decode cX9_holds 14 = .ok (.iconst 1, 1) := dk_4 (dk_at dksX9_holds_0 14 rfl rfl)
theorem dX9_holds_15 : decode cX9_holds 15 = .ok (.invokevirtual 25, 3) := dk_182 0 25 (dk_at dksX9_holds_0 15 rfl rfl)
theorem dX9_holds_18 : decode cX9_holds 18 = .ok (.isub, 1) := dk_100 (dk_at dksX9_holds_0 18 rfl rfl)
theorem dX9_holds_19 : decode cX9_holds 19 = .ok (.ireturn, 1) := dk_172 (dk_at dksX9_holds_0 19 rfl rfl)
abbrev cX9_isUnder : ByteArray := prog_18_method_3_code
def yX9_isUnder : MethodName := ⟨RX9, "isUnder", "(I)Z"⟩
def dkwX9_isUnder_0 : List UInt8 := [27, 6, 159, 0, 11, 42, 27, 183, 0, 13, 153, 0, 7, 4, 167, 0, 4, 3, 172]
abbrev dktX9_isUnder_0 : List UInt8 := dkwX9_isUnder_0 ++ []
theorem dksX9_isUnder_0 : cX9_isUnder.data.toList.drop 0 = dktX9_isUnder_0 := by decide +kernel
theorem dX9_isUnder_0 : decode cX9_isUnder 0 = .ok (.iload_n 1, 1) := dk_27 (dk_at dksX9_isUnder_0 0 rfl rfl)
theorem dX9_isUnder_1 : decode cX9_isUnder 1 = .ok (.iconst 3, 1) := dk_6 (dk_at dksX9_isUnder_0 1 rfl rfl)
theorem dX9_isUnder_2 : decode cX9_isUnder 2 = .ok (.if_icmp .eq 11, 3) := dk_159 0 11 (dk_at dksX9_isUnder_0 2 rfl rfl)
theorem dX9_isUnder_5 : decode cX9_isUnder 5 = .ok (.aload_n 0, 1) := dk_42 (dk_at dksX9_isUnder_0 5 rfl rfl)
theorem dX9_isUnder_6 : decode cX9_isUnder 6 = .ok (.iload_n 1, 1) := dk_27 (dk_at dksX9_isUnder_0 6 rfl rfl)
theorem dX9_isUnder_7 : decode cX9_isUnder 7 = .ok (.invokespecial 13, 3) := dk_183 0 13 (dk_at dksX9_isUnder_0 7 rfl rfl)
theorem dX9_isUnder_10 : decode cX9_isUnder 10 = .ok (.ifCond .eq 7, 3) := dk_153 0 7 (dk_at dksX9_isUnder_0 10 rfl rfl)
theorem dX9_isUnder_13 : decode cX9_isUnder 13 = .ok (.iconst 1, 1) := dk_4 (dk_at dksX9_isUnder_0 13 rfl rfl)
theorem dX9_isUnder_14 : decode cX9_isUnder 14 = .ok (.goto 4, 3) := dk_167 0 4 (dk_at dksX9_isUnder_0 14 rfl rfl)
theorem dX9_isUnder_17 : decode cX9_isUnder 17 = .ok (.iconst 0, 1) := dk_3 (dk_at dksX9_isUnder_0 17 rfl rfl)
theorem dX9_isUnder_18 : decode cX9_isUnder 18 = .ok (.ireturn, 1) := dk_172 (dk_at dksX9_isUnder_0 18 rfl rfl)
theorem q96 : (Jvm.Cond.initialized "ThirtyThreeBelow$Tube") ∈ lw_all := lw_g (lw_at lw_m1 13 rfl) rfl
theorem q573 : (Jvm.Cond.instantiable "ThirtyThreeBelow$Tube" (17 : Nat)) ∈ lw_all := lw_g (lw_at lw_m3 10 rfl) rfl
theorem q575 : (Jvm.Cond.instanceMethod ({ cls := "ThirtyThreeBelow$Tube", name := "<init>", desc := "(LThirtyThreeBelow;III)V" } : Jvm.MethodName)) ∈ lw_all := lw_g (lw_at lw_m3 12 rfl) rfl
theorem q576 : (Jvm.Cond.code ({ cls := "ThirtyThreeBelow$Tube", name := "<init>", desc := "(LThirtyThreeBelow;III)V" } : Jvm.MethodName) prog_18_method_1_code (5 : Nat) (Option.none : Option Jvm.ClassFile.FieldType)) ∈ lw_all := lw_g (lw_at lw_m3 13 rfl) rfl
theorem q577 : (Jvm.Cond.methodLink "ThirtyThreeBelow$Tube" (7 : Nat) ({ cls := "ThirtyThreeBelow$Hole", name := "<init>", desc := "(LThirtyThreeBelow;III)V" } : Jvm.MethodName)) ∈ lw_all := lw_g (lw_at lw_m3 14 rfl) rfl
theorem q579 : (Jvm.Cond.fieldLink "ThirtyThreeBelow$Tube" (1 : Nat) "ThirtyThreeBelow$Tube" "this$0" "LThirtyThreeBelow;") ∈ lw_all := lw_g (lw_at lw_m3 16 rfl) rfl
theorem q580 : (Jvm.Cond.lays "ThirtyThreeBelow$Tube" "ThirtyThreeBelow$Tube" "free" "I") ∈ lw_all := lw_g (lw_at lw_m3 17 rfl) rfl
theorem q581 : (Jvm.Cond.soleField "ThirtyThreeBelow$Tube" "free") ∈ lw_all := lw_g (lw_at lw_m3 18 rfl) rfl
theorem q582 : (Jvm.Cond.laysFinal "ThirtyThreeBelow$Tube" "ThirtyThreeBelow$Tube" "this$0" "LThirtyThreeBelow;") ∈ lw_all := lw_g (lw_at lw_m3 19 rfl) rfl
theorem q583 : (Jvm.Cond.soleField "ThirtyThreeBelow$Tube" "this$0") ∈ lw_all := lw_g (lw_at lw_m3 20 rfl) rfl
theorem q584 : (Jvm.Cond.laysFinal "ThirtyThreeBelow$Tube" "ThirtyThreeBelow$Hole" "column" "I") ∈ lw_all := lw_g (lw_at lw_m3 21 rfl) rfl
theorem q585 : (Jvm.Cond.laysFinal "ThirtyThreeBelow$Tube" "ThirtyThreeBelow$Hole" "width" "I") ∈ lw_all := lw_g (lw_at lw_m3 22 rfl) rfl
theorem q586 : (Jvm.Cond.laysFinal "ThirtyThreeBelow$Tube" "ThirtyThreeBelow$Hole" "leans" "[I") ∈ lw_all := lw_g (lw_at lw_m3 23 rfl) rfl
theorem q587 : (Jvm.Cond.lays "ThirtyThreeBelow$Tube" "ThirtyThreeBelow$Hole" "told" "I") ∈ lw_all := lw_g (lw_at lw_m3 24 rfl) rfl
theorem q588 : (Jvm.Cond.laysFinal "ThirtyThreeBelow$Tube" "ThirtyThreeBelow$Hole" "met" "[I") ∈ lw_all := lw_g (lw_at lw_m3 25 rfl) rfl
theorem q589 : (Jvm.Cond.lays "ThirtyThreeBelow$Tube" "ThirtyThreeBelow$Hole" "bored" "I") ∈ lw_all := lw_g (lw_at lw_m3 26 rfl) rfl
theorem q590 : (Jvm.Cond.lays "ThirtyThreeBelow$Tube" "ThirtyThreeBelow$Hole" "x" "I") ∈ lw_all := lw_g (lw_at lw_m3 27 rfl) rfl
theorem q591 : (Jvm.Cond.lays "ThirtyThreeBelow$Tube" "ThirtyThreeBelow$Hole" "minutes" "I") ∈ lw_all := lw_g (lw_at lw_m3 28 rfl) rfl
theorem q592 : (Jvm.Cond.lays "ThirtyThreeBelow$Tube" "ThirtyThreeBelow$Hole" "throughOn" "I") ∈ lw_all := lw_g (lw_at lw_m3 29 rfl) rfl
theorem q593 : (Jvm.Cond.laysFinal "ThirtyThreeBelow$Tube" "ThirtyThreeBelow$Hole" "logs" "[I") ∈ lw_all := lw_g (lw_at lw_m3 30 rfl) rfl
theorem q594 : (Jvm.Cond.laysFinal "ThirtyThreeBelow$Tube" "ThirtyThreeBelow$Hole" "hasLog" "[Z") ∈ lw_all := lw_g (lw_at lw_m3 31 rfl) rfl
theorem q595 : (Jvm.Cond.laysFinal "ThirtyThreeBelow$Tube" "ThirtyThreeBelow$Hole" "this$0" "LThirtyThreeBelow;") ∈ lw_all := lw_g (lw_at lw_m3 32 rfl) rfl
theorem q596 : (Jvm.Cond.laysFinal "ThirtyThreeBelow$Tube" "ThirtyThreeBelow$Way" "this$0" "LThirtyThreeBelow;") ∈ lw_all := lw_g (lw_at lw_m3 33 rfl) rfl
theorem q597 : (Jvm.Cond.laysFinal "ThirtyThreeBelow$Tube" "ThirtyThreeBelow$Body" "number" "I") ∈ lw_all := lw_g (lw_at lw_m3 34 rfl) rfl
theorem q598 : (Jvm.Cond.laysFinal "ThirtyThreeBelow$Tube" "ThirtyThreeBelow$Body" "this$0" "LThirtyThreeBelow;") ∈ lw_all := lw_g (lw_at lw_m3 35 rfl) rfl
theorem q599 : (Jvm.Cond.superclass "ThirtyThreeBelow$Tube" "ThirtyThreeBelow$Hole") ∈ lw_all := lw_g (lw_at lw_m3 36 rfl) rfl
theorem q747 : (Jvm.Cond.selects "ThirtyThreeBelow$Tube" ({ cls := "ThirtyThreeBelow$Body", name := "kind", desc := "()I" } : Jvm.MethodName) ({ cls := "ThirtyThreeBelow$Tube", name := "kind", desc := "()I" } : Jvm.MethodName)) ∈ lw_all := lw_g (lw_at lw_m3 184 rfl) rfl
theorem q748 : (Jvm.Cond.instanceMethod ({ cls := "ThirtyThreeBelow$Tube", name := "kind", desc := "()I" } : Jvm.MethodName)) ∈ lw_all := lw_g (lw_at lw_m3 185 rfl) rfl
theorem q749 : (Jvm.Cond.code ({ cls := "ThirtyThreeBelow$Tube", name := "kind", desc := "()I" } : Jvm.MethodName) prog_18_method_2_code (1 : Nat) (Option.some Jvm.ClassFile.FieldType.int)) ∈ lw_all := lw_g (lw_at lw_m3 186 rfl) rfl
theorem q767 : (Jvm.Cond.selects "ThirtyThreeBelow$Tube" ({ cls := "ThirtyThreeBelow$Hole", name := "isThrough", desc := "()Z" } : Jvm.MethodName) ({ cls := "ThirtyThreeBelow$Hole", name := "isThrough", desc := "()Z" } : Jvm.MethodName)) ∈ lw_all := lw_g (lw_at lw_m3 204 rfl) rfl
theorem q844 : (Jvm.Cond.selects "ThirtyThreeBelow$Tube" ({ cls := "ThirtyThreeBelow$Hole", name := "low", desc := "(II)I" } : Jvm.MethodName) ({ cls := "ThirtyThreeBelow$Hole", name := "low", desc := "(II)I" } : Jvm.MethodName)) ∈ lw_all := lw_g (lw_at lw_m4 41 rfl) rfl
theorem q852 : (Jvm.Cond.selects "ThirtyThreeBelow$Tube" ({ cls := "ThirtyThreeBelow$Hole", name := "high", desc := "(II)I" } : Jvm.MethodName) ({ cls := "ThirtyThreeBelow$Hole", name := "high", desc := "(II)I" } : Jvm.MethodName)) ∈ lw_all := lw_g (lw_at lw_m4 49 rfl) rfl
theorem q1189 : (Jvm.Cond.selects "ThirtyThreeBelow$Tube" ({ cls := "ThirtyThreeBelow$Hole", name := "bore", desc := "(I)V" } : Jvm.MethodName) ({ cls := "ThirtyThreeBelow$Hole", name := "bore", desc := "(I)V" } : Jvm.MethodName)) ∈ lw_all := lw_g (lw_at lw_m5 146 rfl) rfl
theorem q1326 : (Jvm.Cond.selects "ThirtyThreeBelow$Tube" ({ cls := "ThirtyThreeBelow$Way", name := "begins", desc := "(I)V" } : Jvm.MethodName) ({ cls := "ThirtyThreeBelow$Body", name := "begins", desc := "(I)V" } : Jvm.MethodName)) ∈ lw_all := lw_g (lw_at lw_m6 43 rfl) rfl
theorem q1355 : (Jvm.Cond.castable "ThirtyThreeBelow$Tube" "ThirtyThreeBelow$Bores") ∈ lw_tbl := lw_at lw_m6 72 rfl
theorem q1356 : (Jvm.Cond.selects "ThirtyThreeBelow$Tube" ({ cls := "ThirtyThreeBelow$Bores", name := "begins", desc := "(I)V" } : Jvm.MethodName) ({ cls := "ThirtyThreeBelow$Body", name := "begins", desc := "(I)V" } : Jvm.MethodName)) ∈ lw_all := lw_g (lw_at lw_m6 73 rfl) rfl
theorem q1357 : (Jvm.Cond.unhidden "ThirtyThreeBelow$Tube" "begins" "(I)V") ∈ lw_tbl := lw_at lw_m6 74 rfl
theorem q1380 : (Jvm.Cond.selects "ThirtyThreeBelow$Tube" ({ cls := "ThirtyThreeBelow$Bores", name := "number", desc := "()I" } : Jvm.MethodName) ({ cls := "ThirtyThreeBelow$Body", name := "number", desc := "()I" } : Jvm.MethodName)) ∈ lw_all := lw_g (lw_at lw_m6 97 rfl) rfl
theorem q1381 : (Jvm.Cond.unhidden "ThirtyThreeBelow$Tube" "number" "()I") ∈ lw_tbl := lw_at lw_m6 98 rfl
theorem q1403 : (Jvm.Cond.selects "ThirtyThreeBelow$Tube" ({ cls := "ThirtyThreeBelow$Bores", name := "bores", desc := "(I)I" } : Jvm.MethodName) ({ cls := "ThirtyThreeBelow$Way", name := "bores", desc := "(I)I" } : Jvm.MethodName)) ∈ lw_all := lw_g (lw_at lw_m6 120 rfl) rfl
theorem q1418 : (Jvm.Cond.selects "ThirtyThreeBelow$Tube" ({ cls := "ThirtyThreeBelow$Hole", name := "begins", desc := "(I)V" } : Jvm.MethodName) ({ cls := "ThirtyThreeBelow$Body", name := "begins", desc := "(I)V" } : Jvm.MethodName)) ∈ lw_all := lw_g (lw_at lw_m6 135 rfl) rfl
theorem q1434 : (Jvm.Cond.selects "ThirtyThreeBelow$Tube" ({ cls := "ThirtyThreeBelow$Body", name := "carries", desc := "(I)I" } : Jvm.MethodName) ({ cls := "ThirtyThreeBelow$Hole", name := "carries", desc := "(I)I" } : Jvm.MethodName)) ∈ lw_all := lw_g (lw_at lw_m6 151 rfl) rfl
theorem q1459 : (Jvm.Cond.selects "ThirtyThreeBelow$Tube" ({ cls := "ThirtyThreeBelow$Body", name := "holds", desc := "(I)I" } : Jvm.MethodName) ({ cls := "ThirtyThreeBelow$Tube", name := "holds", desc := "(I)I" } : Jvm.MethodName)) ∈ lw_all := lw_g (lw_at lw_m6 176 rfl) rfl
theorem q1460 : (Jvm.Cond.instanceMethod ({ cls := "ThirtyThreeBelow$Tube", name := "holds", desc := "(I)I" } : Jvm.MethodName)) ∈ lw_all := lw_g (lw_at lw_m6 177 rfl) rfl
theorem q1461 : (Jvm.Cond.code ({ cls := "ThirtyThreeBelow$Tube", name := "holds", desc := "(I)I" } : Jvm.MethodName) prog_18_method_4_code (3 : Nat) (Option.some Jvm.ClassFile.FieldType.int)) ∈ lw_all := lw_g (lw_at lw_m6 178 rfl) rfl
theorem q1462 : (Jvm.Cond.methodLink "ThirtyThreeBelow$Tube" (17 : Nat) ({ cls := "ThirtyThreeBelow$Tube", name := "begins", desc := "(I)V" } : Jvm.MethodName)) ∈ lw_all := lw_g (lw_at lw_m6 179 rfl) rfl
theorem q1463 : (Jvm.Cond.sameMethod "ThirtyThreeBelow$Tube" "ThirtyThreeBelow$Body" "begins" "(I)V") ∈ lw_all := lw_g (lw_at lw_m6 180 rfl) rfl
theorem q1464 : (Jvm.Cond.selects "ThirtyThreeBelow$Tube" ({ cls := "ThirtyThreeBelow$Tube", name := "begins", desc := "(I)V" } : Jvm.MethodName) ({ cls := "ThirtyThreeBelow$Body", name := "begins", desc := "(I)V" } : Jvm.MethodName)) ∈ lw_all := lw_g (lw_at lw_m6 181 rfl) rfl
theorem q1465 : (Jvm.Cond.methodLink "ThirtyThreeBelow$Tube" (21 : Nat) ({ cls := "ThirtyThreeBelow$Hole", name := "holds", desc := "(I)I" } : Jvm.MethodName)) ∈ lw_all := lw_g (lw_at lw_m6 182 rfl) rfl
theorem q1467 : (Jvm.Cond.methodLink "ThirtyThreeBelow$Tube" (25 : Nat) ({ cls := "ThirtyThreeBelow$Tube", name := "carries", desc := "(I)I" } : Jvm.MethodName)) ∈ lw_all := lw_g (lw_at lw_m6 184 rfl) rfl
theorem q1468 : (Jvm.Cond.sameMethod "ThirtyThreeBelow$Tube" "ThirtyThreeBelow$Hole" "carries" "(I)I") ∈ lw_all := lw_g (lw_at lw_m6 185 rfl) rfl
theorem q1470 : (Jvm.Cond.selects "ThirtyThreeBelow$Tube" ({ cls := "ThirtyThreeBelow$Tube", name := "carries", desc := "(I)I" } : Jvm.MethodName) ({ cls := "ThirtyThreeBelow$Hole", name := "carries", desc := "(I)I" } : Jvm.MethodName)) ∈ lw_all := lw_g (lw_at lw_m6 187 rfl) rfl
theorem q1496 : (Jvm.Cond.castable "ThirtyThreeBelow$Tube" "ThirtyThreeBelow$Tells") ∈ lw_tbl := lw_at lw_m6 213 rfl
theorem q1497 : (Jvm.Cond.selects "ThirtyThreeBelow$Tube" ({ cls := "ThirtyThreeBelow$Tells", name := "begins", desc := "(I)V" } : Jvm.MethodName) ({ cls := "ThirtyThreeBelow$Body", name := "begins", desc := "(I)V" } : Jvm.MethodName)) ∈ lw_all := lw_g (lw_at lw_m6 214 rfl) rfl
theorem q1519 : (Jvm.Cond.selects "ThirtyThreeBelow$Tube" ({ cls := "ThirtyThreeBelow$Tells", name := "carries", desc := "(I)I" } : Jvm.MethodName) ({ cls := "ThirtyThreeBelow$Hole", name := "carries", desc := "(I)I" } : Jvm.MethodName)) ∈ lw_all := lw_g (lw_at lw_m6 236 rfl) rfl
theorem q1520 : (Jvm.Cond.unhidden "ThirtyThreeBelow$Tube" "carries" "(I)I") ∈ lw_tbl := lw_at lw_m6 237 rfl
theorem q1542 : (Jvm.Cond.selects "ThirtyThreeBelow$Tube" ({ cls := "ThirtyThreeBelow$Tells", name := "holds", desc := "(I)I" } : Jvm.MethodName) ({ cls := "ThirtyThreeBelow$Tube", name := "holds", desc := "(I)I" } : Jvm.MethodName)) ∈ lw_all := lw_g (lw_at lw_m7 19 rfl) rfl
theorem q1543 : (Jvm.Cond.unhidden "ThirtyThreeBelow$Tube" "holds" "(I)I") ∈ lw_tbl := lw_at lw_m7 20 rfl
theorem q1544 : (Jvm.Cond.publicMethod ({ cls := "ThirtyThreeBelow$Tube", name := "holds", desc := "(I)I" } : Jvm.MethodName)) ∈ lw_tbl := lw_at lw_m7 21 rfl
theorem q1550 : (Jvm.Cond.unhidden "ThirtyThreeBelow$Tube" "tells" "(I)I") ∈ lw_tbl := lw_at lw_m7 27 rfl
theorem q1671 : (Jvm.Cond.selects "ThirtyThreeBelow$Tube" ({ cls := "ThirtyThreeBelow$Body", name := "isUnder", desc := "(I)Z" } : Jvm.MethodName) ({ cls := "ThirtyThreeBelow$Tube", name := "isUnder", desc := "(I)Z" } : Jvm.MethodName)) ∈ lw_all := lw_g (lw_at lw_m7 148 rfl) rfl
theorem q1672 : (Jvm.Cond.instanceMethod ({ cls := "ThirtyThreeBelow$Tube", name := "isUnder", desc := "(I)Z" } : Jvm.MethodName)) ∈ lw_all := lw_g (lw_at lw_m7 149 rfl) rfl
theorem q1673 : (Jvm.Cond.code ({ cls := "ThirtyThreeBelow$Tube", name := "isUnder", desc := "(I)Z" } : Jvm.MethodName) prog_18_method_3_code (2 : Nat) (Option.some Jvm.ClassFile.FieldType.boolean)) ∈ lw_all := lw_g (lw_at lw_m7 150 rfl) rfl
theorem q1674 : (Jvm.Cond.methodLink "ThirtyThreeBelow$Tube" (13 : Nat) ({ cls := "ThirtyThreeBelow$Hole", name := "isUnder", desc := "(I)Z" } : Jvm.MethodName)) ∈ lw_all := lw_g (lw_at lw_m7 151 rfl) rfl
theorem q2432 : (Jvm.Cond.selects "ThirtyThreeBelow$Tube" ({ cls := "ThirtyThreeBelow$Body", name := "begins", desc := "(I)V" } : Jvm.MethodName) ({ cls := "ThirtyThreeBelow$Body", name := "begins", desc := "(I)V" } : Jvm.MethodName)) ∈ lw_all := lw_g (lw_at lw_m10 189 rfl) rfl
theorem q2441 : (Jvm.Cond.castable "ThirtyThreeBelow$Tube" "ThirtyThreeBelow$Hole") ∈ lw_tbl := lw_at lw_m10 198 rfl
theorem q2448 : (Jvm.Cond.castable "ThirtyThreeBelow$Tube" "ThirtyThreeBelow$Body") ∈ lw_tbl := lw_at lw_m10 205 rfl
theorem q2459 : (Jvm.Cond.castable "ThirtyThreeBelow$Tube" "java/lang/Object") ∈ lw_tbl := lw_at lw_m10 216 rfl
theorem in_X9 : ∀ w ∈ wsX90, w ∈ lw_all := lw_in wsX90 [597, 598, 596, 584, 585, 586, 587, 588, 589, 590, 591, 592, 593, 594, 595, 580, 582] (by decide +kernel) (by decide +kernel)
