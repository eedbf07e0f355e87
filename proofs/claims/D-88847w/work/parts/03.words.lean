theorem q83 : (Jvm.Cond.initialized "ThirtyThreeBelowLaw") ∈ lw_all := lw_g (lw_at lw_m1 0 rfl) rfl
set_option maxRecDepth 100000
theorem q114 : (Jvm.Cond.classLink "ThirtyThreeBelowLaw" (7 : Nat) "ThirtyThreeBelow") ∈ lw_all := lw_g (lw_at lw_m1 31 rfl) rfl
theorem q116 : (Jvm.Cond.methodLink "ThirtyThreeBelowLaw" (9 : Nat) ({ cls := "ThirtyThreeBelow", name := "<init>", desc := "()V" } : Jvm.MethodName)) ∈ lw_all := lw_g (lw_at lw_m1 33 rfl) rfl
theorem q451 : (Jvm.Cond.methodLink "ThirtyThreeBelowLaw" (13 : Nat) ({ cls := "ThirtyThreeBelow", name := "hard", desc := "(II)I" } : Jvm.MethodName)) ∈ lw_all := lw_g (lw_at lw_m2 128 rfl) rfl
theorem q469 : (Jvm.Cond.methodLink "ThirtyThreeBelowLaw" (18 : Nat) ({ cls := "ThirtyThreeBelow", name := "open", desc := "(II)I" } : Jvm.MethodName)) ∈ lw_all := lw_g (lw_at lw_m2 146 rfl) rfl
theorem q473 : (Jvm.Cond.methodLink "ThirtyThreeBelowLaw" (22 : Nat) ({ cls := "ThirtyThreeBelow", name := "ofCell", desc := "(II)I" } : Jvm.MethodName)) ∈ lw_all := lw_g (lw_at lw_m2 150 rfl) rfl
theorem q477 : (Jvm.Cond.methodLink "ThirtyThreeBelowLaw" (26 : Nat) ({ cls := "ThirtyThreeBelow", name := "body", desc := "(I)I" } : Jvm.MethodName)) ∈ lw_all := lw_g (lw_at lw_m2 154 rfl) rfl
theorem q510 : (Jvm.Cond.methodLink "ThirtyThreeBelowLaw" (31 : Nat) ({ cls := "ThirtyThreeBelow", name := "hole", desc := "(II)I" } : Jvm.MethodName)) ∈ lw_all := lw_g (lw_at lw_m2 187 rfl) rfl
theorem q651 : (Jvm.Cond.methodLink "ThirtyThreeBelowLaw" (35 : Nat) ({ cls := "ThirtyThreeBelow", name := "shelter", desc := "(II)I" } : Jvm.MethodName)) ∈ lw_all := lw_g (lw_at lw_m3 88 rfl) rfl
theorem q686 : (Jvm.Cond.methodLink "ThirtyThreeBelowLaw" (39 : Nat) ({ cls := "ThirtyThreeBelow", name := "man", desc := "(II)I" } : Jvm.MethodName)) ∈ lw_all := lw_g (lw_at lw_m3 123 rfl) rfl
theorem q719 : (Jvm.Cond.methodLink "ThirtyThreeBelowLaw" (43 : Nat) ({ cls := "ThirtyThreeBelow", name := "ofBody", desc := "(II)I" } : Jvm.MethodName)) ∈ lw_all := lw_g (lw_at lw_m3 156 rfl) rfl
theorem q776 : (Jvm.Cond.methodLink "ThirtyThreeBelowLaw" (47 : Nat) ({ cls := "ThirtyThreeBelow", name := "ill", desc := "(II)I" } : Jvm.MethodName)) ∈ lw_all := lw_g (lw_at lw_m3 213 rfl) rfl
theorem q780 : (Jvm.Cond.methodLink "ThirtyThreeBelowLaw" (51 : Nat) ({ cls := "ThirtyThreeBelow", name := "speed", desc := "(II)I" } : Jvm.MethodName)) ∈ lw_all := lw_g (lw_at lw_m3 217 rfl) rfl
theorem q788 : (Jvm.Cond.methodLink "ThirtyThreeBelowLaw" (55 : Nat) ({ cls := "ThirtyThreeBelow", name := "set", desc := "(II)I" } : Jvm.MethodName)) ∈ lw_all := lw_g (lw_at lw_m3 225 rfl) rfl
theorem q795 : (Jvm.Cond.methodLink "ThirtyThreeBelowLaw" (59 : Nat) ({ cls := "ThirtyThreeBelow", name := "breaks", desc := "(II)I" } : Jvm.MethodName)) ∈ lw_all := lw_g (lw_at lw_m3 232 rfl) rfl
theorem q800 : (Jvm.Cond.methodLink "ThirtyThreeBelowLaw" (63 : Nat) ({ cls := "ThirtyThreeBelow", name := "yard", desc := "(II)I" } : Jvm.MethodName)) ∈ lw_all := lw_g (lw_at lw_m3 237 rfl) rfl
theorem q805 : (Jvm.Cond.methodLink "ThirtyThreeBelowLaw" (67 : Nat) ({ cls := "ThirtyThreeBelow", name := "met", desc := "(II)I" } : Jvm.MethodName)) ∈ lw_all := lw_g (lw_at lw_m4 2 rfl) rfl
theorem q812 : (Jvm.Cond.methodLink "ThirtyThreeBelowLaw" (71 : Nat) ({ cls := "ThirtyThreeBelow", name := "log", desc := "(IIIII)I" } : Jvm.MethodName)) ∈ lw_all := lw_g (lw_at lw_m4 9 rfl) rfl
theorem q829 : (Jvm.Cond.methodLink "ThirtyThreeBelowLaw" (76 : Nat) ({ cls := "ThirtyThreeBelow", name := "spread", desc := "(I)I" } : Jvm.MethodName)) ∈ lw_all := lw_g (lw_at lw_m4 26 rfl) rfl
theorem q834 : (Jvm.Cond.methodLink "ThirtyThreeBelowLaw" (80 : Nat) ({ cls := "ThirtyThreeBelow", name := "canBe", desc := "(III)I" } : Jvm.MethodName)) ∈ lw_all := lw_g (lw_at lw_m4 31 rfl) rfl
theorem q872 : (Jvm.Cond.methodLink "ThirtyThreeBelowLaw" (85 : Nat) ({ cls := "ThirtyThreeBelow", name := "map", desc := "(II)I" } : Jvm.MethodName)) ∈ lw_all := lw_g (lw_at lw_m4 69 rfl) rfl
theorem q876 : (Jvm.Cond.methodLink "ThirtyThreeBelowLaw" (89 : Nat) ({ cls := "ThirtyThreeBelow", name := "old", desc := "(II)I" } : Jvm.MethodName)) ∈ lw_all := lw_g (lw_at lw_m4 73 rfl) rfl
theorem q891 : (Jvm.Cond.methodLink "ThirtyThreeBelowLaw" (93 : Nat) ({ cls := "ThirtyThreeBelow", name := "wrong", desc := "(I)I" } : Jvm.MethodName)) ∈ lw_all := lw_g (lw_at lw_m4 88 rfl) rfl
theorem q903 : (Jvm.Cond.methodLink "ThirtyThreeBelowLaw" (97 : Nat) ({ cls := "ThirtyThreeBelow", name := "known", desc := "(I)I" } : Jvm.MethodName)) ∈ lw_all := lw_g (lw_at lw_m4 100 rfl) rfl
theorem q908 : (Jvm.Cond.methodLink "ThirtyThreeBelowLaw" (101 : Nat) ({ cls := "ThirtyThreeBelow", name := "feed", desc := "(II)I" } : Jvm.MethodName)) ∈ lw_all := lw_g (lw_at lw_m4 105 rfl) rfl
theorem q913 : (Jvm.Cond.methodLink "ThirtyThreeBelowLaw" (105 : Nat) ({ cls := "ThirtyThreeBelow", name := "text", desc := "(II)I" } : Jvm.MethodName)) ∈ lw_all := lw_g (lw_at lw_m4 110 rfl) rfl
theorem q1121 : (Jvm.Cond.methodLink "ThirtyThreeBelowLaw" (109 : Nat) ({ cls := "ThirtyThreeBelow", name := "inForce", desc := "(III)I" } : Jvm.MethodName)) ∈ lw_all := lw_g (lw_at lw_m5 78 rfl) rfl
theorem q1133 : (Jvm.Cond.methodLink "ThirtyThreeBelowLaw" (113 : Nat) ({ cls := "ThirtyThreeBelow", name := "says", desc := "(II)I" } : Jvm.MethodName)) ∈ lw_all := lw_g (lw_at lw_m5 90 rfl) rfl
theorem q1174 : (Jvm.Cond.methodLink "ThirtyThreeBelowLaw" (117 : Nat) ({ cls := "ThirtyThreeBelow", name := "hours", desc := "(I)I" } : Jvm.MethodName)) ∈ lw_all := lw_g (lw_at lw_m5 131 rfl) rfl
theorem q1211 : (Jvm.Cond.methodLink "ThirtyThreeBelowLaw" (121 : Nat) ({ cls := "ThirtyThreeBelow", name := "spoons", desc := "(I)I" } : Jvm.MethodName)) ∈ lw_all := lw_g (lw_at lw_m5 168 rfl) rfl
theorem q1216 : (Jvm.Cond.methodLink "ThirtyThreeBelowLaw" (125 : Nat) ({ cls := "ThirtyThreeBelow", name := "move", desc := "(II)I" } : Jvm.MethodName)) ∈ lw_all := lw_g (lw_at lw_m5 173 rfl) rfl
theorem q1220 : (Jvm.Cond.methodLink "ThirtyThreeBelowLaw" (129 : Nat) ({ cls := "ThirtyThreeBelow", name := "last", desc := "(II)I" } : Jvm.MethodName)) ∈ lw_all := lw_g (lw_at lw_m5 177 rfl) rfl
theorem q1228 : (Jvm.Cond.methodLink "ThirtyThreeBelowLaw" (133 : Nat) ({ cls := "ThirtyThreeBelow", name := "best", desc := "(I)I" } : Jvm.MethodName)) ∈ lw_all := lw_g (lw_at lw_m5 185 rfl) rfl
theorem q1232 : (Jvm.Cond.methodLink "ThirtyThreeBelowLaw" (137 : Nat) ({ cls := "ThirtyThreeBelow", name := "down", desc := "(III)I" } : Jvm.MethodName)) ∈ lw_all := lw_g (lw_at lw_m5 189 rfl) rfl
theorem q1238 : (Jvm.Cond.methodLink "ThirtyThreeBelowLaw" (141 : Nat) ({ cls := "ThirtyThreeBelow", name := "below", desc := "(I)I" } : Jvm.MethodName)) ∈ lw_all := lw_g (lw_at lw_m5 195 rfl) rfl
theorem q1242 : (Jvm.Cond.methodLink "ThirtyThreeBelowLaw" (145 : Nat) ({ cls := "ThirtyThreeBelow", name := "need", desc := "(II)I" } : Jvm.MethodName)) ∈ lw_all := lw_g (lw_at lw_m5 199 rfl) rfl
theorem q1246 : (Jvm.Cond.methodLink "ThirtyThreeBelowLaw" (149 : Nat) ({ cls := "ThirtyThreeBelow", name := "order", desc := "()I" } : Jvm.MethodName)) ∈ lw_all := lw_g (lw_at lw_m5 203 rfl) rfl
theorem q1259 : (Jvm.Cond.methodLink "ThirtyThreeBelowLaw" (154 : Nat) ({ cls := "ThirtyThreeBelow", name := "ordered", desc := "(I)I" } : Jvm.MethodName)) ∈ lw_all := lw_g (lw_at lw_m5 216 rfl) rfl
theorem q1263 : (Jvm.Cond.methodLink "ThirtyThreeBelowLaw" (158 : Nat) ({ cls := "ThirtyThreeBelow", name := "watch", desc := "(II)I" } : Jvm.MethodName)) ∈ lw_all := lw_g (lw_at lw_m5 220 rfl) rfl
theorem q1268 : (Jvm.Cond.methodLink "ThirtyThreeBelowLaw" (162 : Nat) ({ cls := "ThirtyThreeBelow", name := "watched", desc := "(II)I" } : Jvm.MethodName)) ∈ lw_all := lw_g (lw_at lw_m5 225 rfl) rfl
theorem q1272 : (Jvm.Cond.methodLink "ThirtyThreeBelowLaw" (166 : Nat) ({ cls := "ThirtyThreeBelow", name := "aim", desc := "(II)I" } : Jvm.MethodName)) ∈ lw_all := lw_g (lw_at lw_m5 229 rfl) rfl
theorem q1277 : (Jvm.Cond.methodLink "ThirtyThreeBelowLaw" (170 : Nat) ({ cls := "ThirtyThreeBelow", name := "rock", desc := "(III)I" } : Jvm.MethodName)) ∈ lw_all := lw_g (lw_at lw_m5 234 rfl) rfl
theorem q1281 : (Jvm.Cond.methodLink "ThirtyThreeBelowLaw" (174 : Nat) ({ cls := "ThirtyThreeBelow", name := "aimed", desc := "(III)I" } : Jvm.MethodName)) ∈ lw_all := lw_g (lw_at lw_m5 238 rfl) rfl
theorem q1289 : (Jvm.Cond.methodLink "ThirtyThreeBelowLaw" (178 : Nat) ({ cls := "ThirtyThreeBelow", name := "aimedAt", desc := "(II)I" } : Jvm.MethodName)) ∈ lw_all := lw_g (lw_at lw_m6 6 rfl) rfl
theorem q1293 : (Jvm.Cond.methodLink "ThirtyThreeBelowLaw" (182 : Nat) ({ cls := "ThirtyThreeBelow", name := "race", desc := "(III)I" } : Jvm.MethodName)) ∈ lw_all := lw_g (lw_at lw_m6 10 rfl) rfl
theorem q1297 : (Jvm.Cond.methodLink "ThirtyThreeBelowLaw" (186 : Nat) ({ cls := "ThirtyThreeBelow", name := "capsule", desc := "(I)I" } : Jvm.MethodName)) ∈ lw_all := lw_g (lw_at lw_m6 14 rfl) rfl
theorem q1301 : (Jvm.Cond.methodLink "ThirtyThreeBelowLaw" (190 : Nat) ({ cls := "ThirtyThreeBelow", name := "up", desc := "(II)I" } : Jvm.MethodName)) ∈ lw_all := lw_g (lw_at lw_m6 18 rfl) rfl
theorem q1305 : (Jvm.Cond.methodLink "ThirtyThreeBelowLaw" (194 : Nat) ({ cls := "ThirtyThreeBelow", name := "raise", desc := "(I)I" } : Jvm.MethodName)) ∈ lw_all := lw_g (lw_at lw_m6 22 rfl) rfl
theorem q1310 : (Jvm.Cond.methodLink "ThirtyThreeBelowLaw" (198 : Nat) ({ cls := "ThirtyThreeBelow", name := "act", desc := "(III)I" } : Jvm.MethodName)) ∈ lw_all := lw_g (lw_at lw_m6 27 rfl) rfl
theorem q1553 : (Jvm.Cond.methodLink "ThirtyThreeBelowLaw" (202 : Nat) ({ cls := "ThirtyThreeBelow", name := "trace", desc := "(I)I" } : Jvm.MethodName)) ∈ lw_all := lw_g (lw_at lw_m7 30 rfl) rfl
theorem q1557 : (Jvm.Cond.methodLink "ThirtyThreeBelowLaw" (206 : Nat) ({ cls := "ThirtyThreeBelow", name := "keep", desc := "(II)I" } : Jvm.MethodName)) ∈ lw_all := lw_g (lw_at lw_m7 34 rfl) rfl
theorem q1561 : (Jvm.Cond.methodLink "ThirtyThreeBelowLaw" (210 : Nat) ({ cls := "ThirtyThreeBelow", name := "row", desc := "(III)I" } : Jvm.MethodName)) ∈ lw_all := lw_g (lw_at lw_m7 38 rfl) rfl
theorem q1595 : (Jvm.Cond.methodLink "ThirtyThreeBelowLaw" (216 : Nat) ({ cls := "ThirtyThreeBelow", name := "put", desc := "(IIJ)I" } : Jvm.MethodName)) ∈ lw_all := lw_g (lw_at lw_m7 72 rfl) rfl
theorem q1617 : (Jvm.Cond.methodLink "ThirtyThreeBelowLaw" (221 : Nat) ({ cls := "ThirtyThreeBelow", name := "blank", desc := "(II)I" } : Jvm.MethodName)) ∈ lw_all := lw_g (lw_at lw_m7 94 rfl) rfl
theorem q1622 : (Jvm.Cond.methodLink "ThirtyThreeBelowLaw" (225 : Nat) ({ cls := "ThirtyThreeBelow", name := "element", desc := "(II)J" } : Jvm.MethodName)) ∈ lw_all := lw_g (lw_at lw_m7 99 rfl) rfl
theorem q1631 : (Jvm.Cond.methodLink "ThirtyThreeBelowLaw" (230 : Nat) ({ cls := "ThirtyThreeBelow", name := "shift", desc := "(IIIII)I" } : Jvm.MethodName)) ∈ lw_all := lw_g (lw_at lw_m7 108 rfl) rfl
theorem q1638 : (Jvm.Cond.methodLink "ThirtyThreeBelowLaw" (234 : Nat) ({ cls := "ThirtyThreeBelow", name := "taken", desc := "(II)I" } : Jvm.MethodName)) ∈ lw_all := lw_g (lw_at lw_m7 115 rfl) rfl
theorem q1676 : (Jvm.Cond.methodLink "ThirtyThreeBelowLaw" (238 : Nat) ({ cls := "ThirtyThreeBelow", name := "count", desc := "(I)I" } : Jvm.MethodName)) ∈ lw_all := lw_g (lw_at lw_m7 153 rfl) rfl
theorem q1680 : (Jvm.Cond.classLink "ThirtyThreeBelowLaw" (10 : Nat) "ThirtyThreeBelowModel") ∈ lw_all := lw_g (lw_at lw_m7 157 rfl) rfl
theorem q1682 : (Jvm.Cond.methodLink "ThirtyThreeBelowLaw" (12 : Nat) ({ cls := "ThirtyThreeBelowModel", name := "<init>", desc := "()V" } : Jvm.MethodName)) ∈ lw_all := lw_g (lw_at lw_m7 159 rfl) rfl
theorem q1972 : (Jvm.Cond.methodLink "ThirtyThreeBelowLaw" (17 : Nat) ({ cls := "ThirtyThreeBelowModel", name := "hard", desc := "(II)I" } : Jvm.MethodName)) ∈ lw_all := lw_g (lw_at lw_m8 209 rfl) rfl
theorem q1985 : (Jvm.Cond.methodLink "ThirtyThreeBelowLaw" (21 : Nat) ({ cls := "ThirtyThreeBelowModel", name := "open", desc := "(II)I" } : Jvm.MethodName)) ∈ lw_all := lw_g (lw_at lw_m8 222 rfl) rfl
theorem q1989 : (Jvm.Cond.methodLink "ThirtyThreeBelowLaw" (25 : Nat) ({ cls := "ThirtyThreeBelowModel", name := "ofCell", desc := "(II)I" } : Jvm.MethodName)) ∈ lw_all := lw_g (lw_at lw_m8 226 rfl) rfl
theorem q1993 : (Jvm.Cond.methodLink "ThirtyThreeBelowLaw" (30 : Nat) ({ cls := "ThirtyThreeBelowModel", name := "body", desc := "(I)I" } : Jvm.MethodName)) ∈ lw_all := lw_g (lw_at lw_m8 230 rfl) rfl
theorem q2001 : (Jvm.Cond.methodLink "ThirtyThreeBelowLaw" (34 : Nat) ({ cls := "ThirtyThreeBelowModel", name := "hole", desc := "(II)I" } : Jvm.MethodName)) ∈ lw_all := lw_g (lw_at lw_m8 238 rfl) rfl
theorem q2005 : (Jvm.Cond.methodLink "ThirtyThreeBelowLaw" (38 : Nat) ({ cls := "ThirtyThreeBelowModel", name := "shelter", desc := "(II)I" } : Jvm.MethodName)) ∈ lw_all := lw_g (lw_at lw_m9 2 rfl) rfl
theorem q2012 : (Jvm.Cond.methodLink "ThirtyThreeBelowLaw" (42 : Nat) ({ cls := "ThirtyThreeBelowModel", name := "man", desc := "(II)I" } : Jvm.MethodName)) ∈ lw_all := lw_g (lw_at lw_m9 9 rfl) rfl
theorem q2016 : (Jvm.Cond.methodLink "ThirtyThreeBelowLaw" (46 : Nat) ({ cls := "ThirtyThreeBelowModel", name := "ofBody", desc := "(II)I" } : Jvm.MethodName)) ∈ lw_all := lw_g (lw_at lw_m9 13 rfl) rfl
theorem q2032 : (Jvm.Cond.methodLink "ThirtyThreeBelowLaw" (50 : Nat) ({ cls := "ThirtyThreeBelowModel", name := "ill", desc := "(II)I" } : Jvm.MethodName)) ∈ lw_all := lw_g (lw_at lw_m9 29 rfl) rfl
theorem q2040 : (Jvm.Cond.methodLink "ThirtyThreeBelowLaw" (54 : Nat) ({ cls := "ThirtyThreeBelowModel", name := "speed", desc := "(II)I" } : Jvm.MethodName)) ∈ lw_all := lw_g (lw_at lw_m9 37 rfl) rfl
theorem q2047 : (Jvm.Cond.methodLink "ThirtyThreeBelowLaw" (58 : Nat) ({ cls := "ThirtyThreeBelowModel", name := "set", desc := "(II)I" } : Jvm.MethodName)) ∈ lw_all := lw_g (lw_at lw_m9 44 rfl) rfl
theorem q2051 : (Jvm.Cond.methodLink "ThirtyThreeBelowLaw" (62 : Nat) ({ cls := "ThirtyThreeBelowModel", name := "breaks", desc := "(II)I" } : Jvm.MethodName)) ∈ lw_all := lw_g (lw_at lw_m9 48 rfl) rfl
theorem q2055 : (Jvm.Cond.methodLink "ThirtyThreeBelowLaw" (66 : Nat) ({ cls := "ThirtyThreeBelowModel", name := "yard", desc := "(II)I" } : Jvm.MethodName)) ∈ lw_all := lw_g (lw_at lw_m9 52 rfl) rfl
theorem q2059 : (Jvm.Cond.methodLink "ThirtyThreeBelowLaw" (70 : Nat) ({ cls := "ThirtyThreeBelowModel", name := "met", desc := "(II)I" } : Jvm.MethodName)) ∈ lw_all := lw_g (lw_at lw_m9 56 rfl) rfl
theorem q2063 : (Jvm.Cond.methodLink "ThirtyThreeBelowLaw" (79 : Nat) ({ cls := "ThirtyThreeBelowModel", name := "spread", desc := "(I)I" } : Jvm.MethodName)) ∈ lw_all := lw_g (lw_at lw_m9 60 rfl) rfl
theorem q2067 : (Jvm.Cond.methodLink "ThirtyThreeBelowLaw" (75 : Nat) ({ cls := "ThirtyThreeBelowModel", name := "log", desc := "(IIIII)I" } : Jvm.MethodName)) ∈ lw_all := lw_g (lw_at lw_m9 64 rfl) rfl
theorem q2078 : (Jvm.Cond.methodLink "ThirtyThreeBelowLaw" (84 : Nat) ({ cls := "ThirtyThreeBelowModel", name := "canBe", desc := "(III)I" } : Jvm.MethodName)) ∈ lw_all := lw_g (lw_at lw_m9 75 rfl) rfl
theorem q2092 : (Jvm.Cond.methodLink "ThirtyThreeBelowLaw" (88 : Nat) ({ cls := "ThirtyThreeBelowModel", name := "map", desc := "(II)I" } : Jvm.MethodName)) ∈ lw_all := lw_g (lw_at lw_m9 89 rfl) rfl
theorem q2096 : (Jvm.Cond.methodLink "ThirtyThreeBelowLaw" (92 : Nat) ({ cls := "ThirtyThreeBelowModel", name := "old", desc := "(II)I" } : Jvm.MethodName)) ∈ lw_all := lw_g (lw_at lw_m9 93 rfl) rfl
theorem q2104 : (Jvm.Cond.methodLink "ThirtyThreeBelowLaw" (96 : Nat) ({ cls := "ThirtyThreeBelowModel", name := "wrong", desc := "(I)I" } : Jvm.MethodName)) ∈ lw_all := lw_g (lw_at lw_m9 101 rfl) rfl
theorem q2120 : (Jvm.Cond.methodLink "ThirtyThreeBelowLaw" (100 : Nat) ({ cls := "ThirtyThreeBelowModel", name := "known", desc := "(I)I" } : Jvm.MethodName)) ∈ lw_all := lw_g (lw_at lw_m9 117 rfl) rfl
theorem q2124 : (Jvm.Cond.methodLink "ThirtyThreeBelowLaw" (104 : Nat) ({ cls := "ThirtyThreeBelowModel", name := "feed", desc := "(II)I" } : Jvm.MethodName)) ∈ lw_all := lw_g (lw_at lw_m9 121 rfl) rfl
theorem q2128 : (Jvm.Cond.methodLink "ThirtyThreeBelowLaw" (108 : Nat) ({ cls := "ThirtyThreeBelowModel", name := "text", desc := "(II)I" } : Jvm.MethodName)) ∈ lw_all := lw_g (lw_at lw_m9 125 rfl) rfl
theorem q2182 : (Jvm.Cond.methodLink "ThirtyThreeBelowLaw" (112 : Nat) ({ cls := "ThirtyThreeBelowModel", name := "inForce", desc := "(III)I" } : Jvm.MethodName)) ∈ lw_all := lw_g (lw_at lw_m9 179 rfl) rfl
theorem q2197 : (Jvm.Cond.methodLink "ThirtyThreeBelowLaw" (116 : Nat) ({ cls := "ThirtyThreeBelowModel", name := "says", desc := "(II)I" } : Jvm.MethodName)) ∈ lw_all := lw_g (lw_at lw_m9 194 rfl) rfl
theorem q2220 : (Jvm.Cond.methodLink "ThirtyThreeBelowLaw" (128 : Nat) ({ cls := "ThirtyThreeBelowModel", name := "move", desc := "(II)I" } : Jvm.MethodName)) ∈ lw_all := lw_g (lw_at lw_m9 217 rfl) rfl
theorem q2224 : (Jvm.Cond.methodLink "ThirtyThreeBelowLaw" (124 : Nat) ({ cls := "ThirtyThreeBelowModel", name := "spoons", desc := "(I)I" } : Jvm.MethodName)) ∈ lw_all := lw_g (lw_at lw_m9 221 rfl) rfl
theorem q2228 : (Jvm.Cond.methodLink "ThirtyThreeBelowLaw" (120 : Nat) ({ cls := "ThirtyThreeBelowModel", name := "hours", desc := "(I)I" } : Jvm.MethodName)) ∈ lw_all := lw_g (lw_at lw_m9 225 rfl) rfl
theorem q2248 : (Jvm.Cond.methodLink "ThirtyThreeBelowLaw" (132 : Nat) ({ cls := "ThirtyThreeBelowModel", name := "last", desc := "(II)I" } : Jvm.MethodName)) ∈ lw_all := lw_g (lw_at lw_m10 5 rfl) rfl
theorem q2256 : (Jvm.Cond.methodLink "ThirtyThreeBelowLaw" (136 : Nat) ({ cls := "ThirtyThreeBelowModel", name := "best", desc := "(I)I" } : Jvm.MethodName)) ∈ lw_all := lw_g (lw_at lw_m10 13 rfl) rfl
theorem q2260 : (Jvm.Cond.methodLink "ThirtyThreeBelowLaw" (140 : Nat) ({ cls := "ThirtyThreeBelowModel", name := "down", desc := "(III)I" } : Jvm.MethodName)) ∈ lw_all := lw_g (lw_at lw_m10 17 rfl) rfl
theorem q2264 : (Jvm.Cond.methodLink "ThirtyThreeBelowLaw" (144 : Nat) ({ cls := "ThirtyThreeBelowModel", name := "below", desc := "(I)I" } : Jvm.MethodName)) ∈ lw_all := lw_g (lw_at lw_m10 21 rfl) rfl
theorem q2268 : (Jvm.Cond.methodLink "ThirtyThreeBelowLaw" (148 : Nat) ({ cls := "ThirtyThreeBelowModel", name := "need", desc := "(II)I" } : Jvm.MethodName)) ∈ lw_all := lw_g (lw_at lw_m10 25 rfl) rfl
theorem q2272 : (Jvm.Cond.methodLink "ThirtyThreeBelowLaw" (153 : Nat) ({ cls := "ThirtyThreeBelowModel", name := "order", desc := "()I" } : Jvm.MethodName)) ∈ lw_all := lw_g (lw_at lw_m10 29 rfl) rfl
theorem q2281 : (Jvm.Cond.methodLink "ThirtyThreeBelowLaw" (157 : Nat) ({ cls := "ThirtyThreeBelowModel", name := "ordered", desc := "(I)I" } : Jvm.MethodName)) ∈ lw_all := lw_g (lw_at lw_m10 38 rfl) rfl
theorem q2285 : (Jvm.Cond.methodLink "ThirtyThreeBelowLaw" (161 : Nat) ({ cls := "ThirtyThreeBelowModel", name := "watch", desc := "(II)I" } : Jvm.MethodName)) ∈ lw_all := lw_g (lw_at lw_m10 42 rfl) rfl
theorem q2289 : (Jvm.Cond.methodLink "ThirtyThreeBelowLaw" (165 : Nat) ({ cls := "ThirtyThreeBelowModel", name := "watched", desc := "(II)I" } : Jvm.MethodName)) ∈ lw_all := lw_g (lw_at lw_m10 46 rfl) rfl
theorem q2293 : (Jvm.Cond.methodLink "ThirtyThreeBelowLaw" (169 : Nat) ({ cls := "ThirtyThreeBelowModel", name := "aim", desc := "(II)I" } : Jvm.MethodName)) ∈ lw_all := lw_g (lw_at lw_m10 50 rfl) rfl
theorem q2297 : (Jvm.Cond.methodLink "ThirtyThreeBelowLaw" (173 : Nat) ({ cls := "ThirtyThreeBelowModel", name := "rock", desc := "(III)I" } : Jvm.MethodName)) ∈ lw_all := lw_g (lw_at lw_m10 54 rfl) rfl
theorem q2301 : (Jvm.Cond.methodLink "ThirtyThreeBelowLaw" (177 : Nat) ({ cls := "ThirtyThreeBelowModel", name := "aimed", desc := "(III)I" } : Jvm.MethodName)) ∈ lw_all := lw_g (lw_at lw_m10 58 rfl) rfl
theorem q2309 : (Jvm.Cond.methodLink "ThirtyThreeBelowLaw" (181 : Nat) ({ cls := "ThirtyThreeBelowModel", name := "aimedAt", desc := "(II)I" } : Jvm.MethodName)) ∈ lw_all := lw_g (lw_at lw_m10 66 rfl) rfl
theorem q2313 : (Jvm.Cond.methodLink "ThirtyThreeBelowLaw" (185 : Nat) ({ cls := "ThirtyThreeBelowModel", name := "race", desc := "(III)I" } : Jvm.MethodName)) ∈ lw_all := lw_g (lw_at lw_m10 70 rfl) rfl
theorem q2317 : (Jvm.Cond.methodLink "ThirtyThreeBelowLaw" (189 : Nat) ({ cls := "ThirtyThreeBelowModel", name := "capsule", desc := "(I)I" } : Jvm.MethodName)) ∈ lw_all := lw_g (lw_at lw_m10 74 rfl) rfl
theorem q2321 : (Jvm.Cond.methodLink "ThirtyThreeBelowLaw" (193 : Nat) ({ cls := "ThirtyThreeBelowModel", name := "up", desc := "(II)I" } : Jvm.MethodName)) ∈ lw_all := lw_g (lw_at lw_m10 78 rfl) rfl
theorem q2325 : (Jvm.Cond.methodLink "ThirtyThreeBelowLaw" (197 : Nat) ({ cls := "ThirtyThreeBelowModel", name := "raise", desc := "(I)I" } : Jvm.MethodName)) ∈ lw_all := lw_g (lw_at lw_m10 82 rfl) rfl
theorem q2329 : (Jvm.Cond.methodLink "ThirtyThreeBelowLaw" (201 : Nat) ({ cls := "ThirtyThreeBelowModel", name := "act", desc := "(III)I" } : Jvm.MethodName)) ∈ lw_all := lw_g (lw_at lw_m10 86 rfl) rfl
theorem q2377 : (Jvm.Cond.methodLink "ThirtyThreeBelowLaw" (205 : Nat) ({ cls := "ThirtyThreeBelowModel", name := "trace", desc := "(I)I" } : Jvm.MethodName)) ∈ lw_all := lw_g (lw_at lw_m10 134 rfl) rfl
theorem q2381 : (Jvm.Cond.methodLink "ThirtyThreeBelowLaw" (241 : Nat) ({ cls := "ThirtyThreeBelowModel", name := "count", desc := "(I)I" } : Jvm.MethodName)) ∈ lw_all := lw_g (lw_at lw_m10 138 rfl) rfl
theorem q2385 : (Jvm.Cond.methodLink "ThirtyThreeBelowLaw" (209 : Nat) ({ cls := "ThirtyThreeBelowModel", name := "keep", desc := "(II)I" } : Jvm.MethodName)) ∈ lw_all := lw_g (lw_at lw_m10 142 rfl) rfl
theorem q2389 : (Jvm.Cond.methodLink "ThirtyThreeBelowLaw" (213 : Nat) ({ cls := "ThirtyThreeBelowModel", name := "row", desc := "(III)I" } : Jvm.MethodName)) ∈ lw_all := lw_g (lw_at lw_m10 146 rfl) rfl
theorem q2393 : (Jvm.Cond.methodLink "ThirtyThreeBelowLaw" (220 : Nat) ({ cls := "ThirtyThreeBelowModel", name := "put", desc := "(IIJ)I" } : Jvm.MethodName)) ∈ lw_all := lw_g (lw_at lw_m10 150 rfl) rfl
theorem q2404 : (Jvm.Cond.methodLink "ThirtyThreeBelowLaw" (224 : Nat) ({ cls := "ThirtyThreeBelowModel", name := "blank", desc := "(II)I" } : Jvm.MethodName)) ∈ lw_all := lw_g (lw_at lw_m10 161 rfl) rfl
theorem q2408 : (Jvm.Cond.methodLink "ThirtyThreeBelowLaw" (229 : Nat) ({ cls := "ThirtyThreeBelowModel", name := "element", desc := "(II)J" } : Jvm.MethodName)) ∈ lw_all := lw_g (lw_at lw_m10 165 rfl) rfl
theorem q2414 : (Jvm.Cond.methodLink "ThirtyThreeBelowLaw" (233 : Nat) ({ cls := "ThirtyThreeBelowModel", name := "shift", desc := "(IIIII)I" } : Jvm.MethodName)) ∈ lw_all := lw_g (lw_at lw_m10 171 rfl) rfl
theorem q2418 : (Jvm.Cond.methodLink "ThirtyThreeBelowLaw" (237 : Nat) ({ cls := "ThirtyThreeBelowModel", name := "taken", desc := "(II)I" } : Jvm.MethodName)) ∈ lw_all := lw_g (lw_at lw_m10 175 rfl) rfl
theorem q2422 : (Jvm.Cond.constantLong "ThirtyThreeBelowLaw" (214 : Nat) (4294967295 : Int64)) ∈ lw_all := lw_g (lw_at lw_m10 179 rfl) rfl
theorem q2482 : (Jvm.Cond.castable "[B" "java/lang/Object") ∈ lw_tbl := lw_at lw_m10 239 rfl
set_option maxRecDepth 100000
theorem q2483 : (Jvm.Cond.castable "[C" "java/lang/Object") ∈ lw_tbl := lw_at lw_m11 0 rfl
set_option maxRecDepth 100000
theorem q2485 : (Jvm.Cond.castable "[D" "java/lang/Object") ∈ lw_tbl := lw_at lw_m11 2 rfl
set_option maxRecDepth 100000
theorem q2484 : (Jvm.Cond.castable "[F" "java/lang/Object") ∈ lw_tbl := lw_at lw_m11 1 rfl
set_option maxRecDepth 100000
theorem q2477 : (Jvm.Cond.castable "[I" "java/lang/Object") ∈ lw_tbl := lw_at lw_m10 234 rfl
set_option maxRecDepth 100000
theorem q2486 : (Jvm.Cond.castable "[J" "java/lang/Object") ∈ lw_tbl := lw_at lw_m11 3 rfl
set_option maxRecDepth 100000
theorem q2475 : (Jvm.Cond.castable "[LThirtyThreeBelow$Body;" "java/lang/Object") ∈ lw_tbl := lw_at lw_m10 232 rfl
set_option maxRecDepth 100000
theorem q2476 : (Jvm.Cond.castable "[LThirtyThreeBelow$Hole;" "java/lang/Object") ∈ lw_tbl := lw_at lw_m10 233 rfl
set_option maxRecDepth 100000
theorem q2481 : (Jvm.Cond.castable "[LThirtyThreeBelow$Term;" "java/lang/Object") ∈ lw_tbl := lw_at lw_m10 238 rfl
set_option maxRecDepth 100000
theorem q2479 : (Jvm.Cond.castable "[LThirtyThreeBelow$Text;" "java/lang/Object") ∈ lw_tbl := lw_at lw_m10 236 rfl
set_option maxRecDepth 100000
theorem q2480 : (Jvm.Cond.castable "[Ljava/lang/Object;" "java/lang/Object") ∈ lw_tbl := lw_at lw_m10 237 rfl
set_option maxRecDepth 100000
theorem q2478 : (Jvm.Cond.castable "[Z" "java/lang/Object") ∈ lw_tbl := lw_at lw_m10 235 rfl
set_option maxRecDepth 100000
theorem q113 : (Jvm.Cond.initialized "java/lang/System") ∈ lw_all := lw_g (lw_at lw_m1 30 rfl) rfl
set_option maxRecDepth 100000
theorem q1636 : (Jvm.Cond.static ({ cls := "java/lang/System", name := "arraycopy", desc := "(Ljava/lang/Object;ILjava/lang/Object;II)V" } : Jvm.MethodName)) ∈ lw_all := lw_g (lw_at lw_m7 113 rfl) rfl
theorem q1637 : (Jvm.Cond.native ({ cls := "java/lang/System", name := "arraycopy", desc := "(Ljava/lang/Object;ILjava/lang/Object;II)V" } : Jvm.MethodName)) ∈ lw_all := lw_g (lw_at lw_m7 114 rfl) rfl
theorem q123 : (Jvm.Cond.arrayOver (Jvm.ClassFile.FieldType.object "ThirtyThreeBelow$Body")) ∈ lw_tbl := lw_at lw_m1 40 rfl
set_option maxRecDepth 100000
theorem q125 : (Jvm.Cond.arrayOver (Jvm.ClassFile.FieldType.object "ThirtyThreeBelow$Hole")) ∈ lw_tbl := lw_at lw_m1 42 rfl
theorem q192 : (Jvm.Cond.arrayClass Jvm.ClassFile.FieldType.int) ∈ lw_all := lw_g (lw_at lw_m1 109 rfl) rfl
theorem q193 : (Jvm.Cond.arrayClass Jvm.ClassFile.FieldType.boolean) ∈ lw_all := lw_g (lw_at lw_m1 110 rfl) rfl
theorem q229 : (Jvm.Cond.arrayOver (Jvm.ClassFile.FieldType.object "ThirtyThreeBelow$Text")) ∈ lw_tbl := lw_at lw_m1 146 rfl
theorem q231 : (Jvm.Cond.arrayOver (Jvm.ClassFile.FieldType.object "java/lang/Object")) ∈ lw_tbl := lw_at lw_m1 148 rfl
theorem q238 : (Jvm.Cond.arrayOver (Jvm.ClassFile.FieldType.object "ThirtyThreeBelow$Term")) ∈ lw_tbl := lw_at lw_m1 155 rfl
theorem q1083 : (Jvm.Cond.arrayClass Jvm.ClassFile.FieldType.byte) ∈ lw_all := lw_g (lw_at lw_m5 40 rfl) rfl
theorem q1592 : (Jvm.Cond.arrayClass Jvm.ClassFile.FieldType.char) ∈ lw_all := lw_g (lw_at lw_m7 69 rfl) rfl
theorem q1593 : (Jvm.Cond.arrayClass Jvm.ClassFile.FieldType.float) ∈ lw_all := lw_g (lw_at lw_m7 70 rfl) rfl
theorem q1594 : (Jvm.Cond.arrayClass Jvm.ClassFile.FieldType.double) ∈ lw_all := lw_g (lw_at lw_m7 71 rfl) rfl
theorem q1971 : (Jvm.Cond.arrayClass Jvm.ClassFile.FieldType.long) ∈ lw_all := lw_g (lw_at lw_m8 208 rfl) rfl
