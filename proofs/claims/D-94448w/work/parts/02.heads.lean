set_option maxRecDepth 100000
/-! HouseClapsLaw -/
set_option maxRecDepth 100000
def RX0 : String := "HouseClapsLaw"
abbrev cX0_seat : ByteArray := method_3_code
def yX0_seat : MethodName := ⟨RX0, "seat", "(LHouseClaps;II[J)I"⟩
abbrev cX0_cue : ByteArray := method_4_code
def yX0_cue : MethodName := ⟨RX0, "cue", "(LHouseClaps;II[J)I"⟩
abbrev cX0_worthOf : ByteArray := method_5_code
def yX0_worthOf : MethodName := ⟨RX0, "worthOf", "(LHouseClaps;II[J)I"⟩
theorem q84 : (Jvm.Cond.initialized "HouseClapsLaw") ∈ lw_all := lw_g (lw_at lw_m1 0 rfl) rfl
theorem q128 : (Jvm.Cond.classLink "HouseClapsLaw" (8 : Nat) "HouseClaps") ∈ lw_all := lw_g (lw_at lw_m1 44 rfl) rfl
theorem q130 : (Jvm.Cond.methodLink "HouseClapsLaw" (21 : Nat) ({ cls := "HouseClaps", name := "<init>", desc := "()V" } : Jvm.MethodName)) ∈ lw_all := lw_g (lw_at lw_m1 46 rfl) rfl
theorem q398 : (Jvm.Cond.methodLink "HouseClapsLaw" (25 : Nat) ({ cls := "HouseClaps", name := "feed", desc := "(IIIII)I" } : Jvm.MethodName)) ∈ lw_all := lw_g (lw_at lw_m2 74 rfl) rfl
theorem q406 : (Jvm.Cond.methodLink "HouseClapsLaw" (30 : Nat) ({ cls := "HouseClaps", name := "end", desc := "(I)Z" } : Jvm.MethodName)) ∈ lw_all := lw_g (lw_at lw_m2 82 rfl) rfl
theorem q410 : (Jvm.Cond.methodLink "HouseClapsLaw" (35 : Nat) ({ cls := "HouseClaps", name := "house", desc := "()I" } : Jvm.MethodName)) ∈ lw_all := lw_g (lw_at lw_m2 86 rfl) rfl
theorem q1047 : (Jvm.Cond.methodLink "HouseClapsLaw" (40 : Nat) ({ cls := "HouseClaps", name := "fault", desc := "()I" } : Jvm.MethodName)) ∈ lw_all := lw_g (lw_at lw_m5 3 rfl) rfl
theorem q1051 : (Jvm.Cond.methodLink "HouseClapsLaw" (53 : Nat) ({ cls := "HouseClaps", name := "law", desc := "(II)I" } : Jvm.MethodName)) ∈ lw_all := lw_g (lw_at lw_m5 7 rfl) rfl
theorem q1056 : (Jvm.Cond.methodLink "HouseClapsLaw" (57 : Nat) ({ cls := "HouseClaps", name := "pay", desc := "(II)Z" } : Jvm.MethodName)) ∈ lw_all := lw_g (lw_at lw_m5 12 rfl) rfl
theorem q1068 : (Jvm.Cond.methodLink "HouseClapsLaw" (62 : Nat) ({ cls := "HouseClaps", name := "hiss", desc := "(II)Z" } : Jvm.MethodName)) ∈ lw_all := lw_g (lw_at lw_m5 24 rfl) rfl
theorem q1072 : (Jvm.Cond.methodLink "HouseClapsLaw" (66 : Nat) ({ cls := "HouseClaps", name := "cues", desc := "()I" } : Jvm.MethodName)) ∈ lw_all := lw_g (lw_at lw_m5 28 rfl) rfl
theorem q1234 : (Jvm.Cond.methodLink "HouseClapsLaw" (73 : Nat) ({ cls := "HouseClaps", name := "sees", desc := "(IIII)I" } : Jvm.MethodName)) ∈ lw_all := lw_g (lw_at lw_m5 190 rfl) rfl
theorem q1373 : (Jvm.Cond.methodLink "HouseClapsLaw" (78 : Nat) ({ cls := "HouseClaps", name := "at", desc := "(III)I" } : Jvm.MethodName)) ∈ lw_all := lw_g (lw_at lw_m6 89 rfl) rfl
theorem q1377 : (Jvm.Cond.methodLink "HouseClapsLaw" (83 : Nat) ({ cls := "HouseClaps", name := "many", desc := "(II)I" } : Jvm.MethodName)) ∈ lw_all := lw_g (lw_at lw_m6 93 rfl) rfl
theorem q1389 : (Jvm.Cond.methodLink "HouseClapsLaw" (87 : Nat) ({ cls := "HouseClaps", name := "would", desc := "(III)I" } : Jvm.MethodName)) ∈ lw_all := lw_g (lw_at lw_m6 105 rfl) rfl
theorem q1398 : (Jvm.Cond.methodLink "HouseClapsLaw" (91 : Nat) ({ cls := "HouseClaps", name := "stands", desc := "(I)I" } : Jvm.MethodName)) ∈ lw_all := lw_g (lw_at lw_m6 114 rfl) rfl
theorem q1403 : (Jvm.Cond.methodLink "HouseClapsLaw" (96 : Nat) ({ cls := "HouseClaps", name := "anyway", desc := "(I)I" } : Jvm.MethodName)) ∈ lw_all := lw_g (lw_at lw_m6 119 rfl) rfl
theorem q1407 : (Jvm.Cond.methodLink "HouseClapsLaw" (100 : Nat) ({ cls := "HouseClaps", name := "up", desc := "()I" } : Jvm.MethodName)) ∈ lw_all := lw_g (lw_at lw_m6 123 rfl) rfl
theorem q1416 : (Jvm.Cond.methodLink "HouseClapsLaw" (104 : Nat) ({ cls := "HouseClaps", name := "calls", desc := "(I)I" } : Jvm.MethodName)) ∈ lw_all := lw_g (lw_at lw_m6 132 rfl) rfl
theorem q1420 : (Jvm.Cond.methodLink "HouseClapsLaw" (108 : Nat) ({ cls := "HouseClaps", name := "again", desc := "(I)I" } : Jvm.MethodName)) ∈ lw_all := lw_g (lw_at lw_m6 136 rfl) rfl
theorem q1454 : (Jvm.Cond.methodLink "HouseClapsLaw" (112 : Nat) ({ cls := "HouseClaps", name := "carries", desc := "(I)I" } : Jvm.MethodName)) ∈ lw_all := lw_g (lw_at lw_m6 170 rfl) rfl
theorem q1466 : (Jvm.Cond.methodLink "HouseClapsLaw" (116 : Nat) ({ cls := "HouseClaps", name := "cheapest", desc := "()I" } : Jvm.MethodName)) ∈ lw_all := lw_g (lw_at lw_m6 182 rfl) rfl
theorem q1499 : (Jvm.Cond.methodLink "HouseClapsLaw" (120 : Nat) ({ cls := "HouseClaps", name := "bought", desc := "()I" } : Jvm.MethodName)) ∈ lw_all := lw_g (lw_at lw_m6 215 rfl) rfl
theorem q1503 : (Jvm.Cond.methodLink "HouseClapsLaw" (124 : Nat) ({ cls := "HouseClaps", name := "hush", desc := "()I" } : Jvm.MethodName)) ∈ lw_all := lw_g (lw_at lw_m6 219 rfl) rfl
theorem q1507 : (Jvm.Cond.methodLink "HouseClapsLaw" (128 : Nat) ({ cls := "HouseClaps", name := "coalitions", desc := "(I)I" } : Jvm.MethodName)) ∈ lw_all := lw_g (lw_at lw_m6 223 rfl) rfl
theorem q1515 : (Jvm.Cond.methodLink "HouseClapsLaw" (132 : Nat) ({ cls := "HouseClaps", name := "worth", desc := "()I" } : Jvm.MethodName)) ∈ lw_all := lw_g (lw_at lw_m6 231 rfl) rfl
theorem q1522 : (Jvm.Cond.methodLink "HouseClapsLaw" (139 : Nat) ({ cls := "HouseClaps", name := "sides", desc := "()I" } : Jvm.MethodName)) ∈ lw_all := lw_g (lw_at lw_m6 238 rfl) rfl
theorem q1527 : (Jvm.Cond.methodLink "HouseClapsLaw" (143 : Nat) ({ cls := "HouseClaps", name := "side", desc := "(I)I" } : Jvm.MethodName)) ∈ lw_all := lw_g (lw_at lw_m7 3 rfl) rfl
theorem q1531 : (Jvm.Cond.methodLink "HouseClapsLaw" (147 : Nat) ({ cls := "HouseClaps", name := "began", desc := "(I)I" } : Jvm.MethodName)) ∈ lw_all := lw_g (lw_at lw_m7 7 rfl) rfl
theorem q1541 : (Jvm.Cond.methodLink "HouseClapsLaw" (151 : Nat) ({ cls := "HouseClaps", name := "beganAt", desc := "(I)I" } : Jvm.MethodName)) ∈ lw_all := lw_g (lw_at lw_m7 17 rfl) rfl
theorem q1545 : (Jvm.Cond.methodLink "HouseClapsLaw" (155 : Nat) ({ cls := "HouseClaps", name := "parts", desc := "(II)I" } : Jvm.MethodName)) ∈ lw_all := lw_g (lw_at lw_m7 21 rfl) rfl
theorem q1549 : (Jvm.Cond.methodLink "HouseClapsLaw" (159 : Nat) ({ cls := "HouseClaps", name := "exchanged", desc := "()I" } : Jvm.MethodName)) ∈ lw_all := lw_g (lw_at lw_m7 25 rfl) rfl
theorem q1565 : (Jvm.Cond.methodLink "HouseClapsLaw" (163 : Nat) ({ cls := "HouseClaps", name := "exchange", desc := "(II)Z" } : Jvm.MethodName)) ∈ lw_all := lw_g (lw_at lw_m7 41 rfl) rfl
theorem q1569 : (Jvm.Cond.methodLink "HouseClapsLaw" (167 : Nat) ({ cls := "HouseClaps", name := "starts", desc := "(I)I" } : Jvm.MethodName)) ∈ lw_all := lw_g (lw_at lw_m7 45 rfl) rfl
theorem q1573 : (Jvm.Cond.methodLink "HouseClapsLaw" (171 : Nat) ({ cls := "HouseClaps", name := "leader", desc := "(I)I" } : Jvm.MethodName)) ∈ lw_all := lw_g (lw_at lw_m7 49 rfl) rfl
theorem q1578 : (Jvm.Cond.methodLink "HouseClapsLaw" (175 : Nat) ({ cls := "HouseClaps", name := "drawn", desc := "(II)Z" } : Jvm.MethodName)) ∈ lw_all := lw_g (lw_at lw_m7 54 rfl) rfl
theorem q1587 : (Jvm.Cond.methodLink "HouseClapsLaw" (179 : Nat) ({ cls := "HouseClaps", name := "arrange", desc := "()I" } : Jvm.MethodName)) ∈ lw_all := lw_g (lw_at lw_m7 63 rfl) rfl
theorem q1595 : (Jvm.Cond.methodLink "HouseClapsLaw" (183 : Nat) ({ cls := "HouseClaps", name := "arranged", desc := "()I" } : Jvm.MethodName)) ∈ lw_all := lw_g (lw_at lw_m7 71 rfl) rfl
theorem q1599 : (Jvm.Cond.methodLink "HouseClapsLaw" (187 : Nat) ({ cls := "HouseClaps", name := "image", desc := "(I)Z" } : Jvm.MethodName)) ∈ lw_all := lw_g (lw_at lw_m7 75 rfl) rfl
theorem q1608 : (Jvm.Cond.methodLink "HouseClapsLaw" (191 : Nat) ({ cls := "HouseClaps", name := "restore", desc := "(I)Z" } : Jvm.MethodName)) ∈ lw_all := lw_g (lw_at lw_m7 84 rfl) rfl
theorem q1612 : (Jvm.Cond.methodLink "HouseClapsLaw" (195 : Nat) ({ cls := "HouseClaps", name := "count", desc := "(I)I" } : Jvm.MethodName)) ∈ lw_all := lw_g (lw_at lw_m7 88 rfl) rfl
theorem q1616 : (Jvm.Cond.methodLink "HouseClapsLaw" (44 : Nat) ({ cls := "HouseClapsLaw", name := "seat", desc := "(LHouseClaps;II[J)I" } : Jvm.MethodName)) ∈ lw_all := lw_g (lw_at lw_m7 92 rfl) rfl
theorem q1617 : (Jvm.Cond.static ({ cls := "HouseClapsLaw", name := "seat", desc := "(LHouseClaps;II[J)I" } : Jvm.MethodName)) ∈ lw_all := lw_g (lw_at lw_m7 93 rfl) rfl
theorem q1618 : (Jvm.Cond.codeWith ({ cls := "HouseClapsLaw", name := "seat", desc := "(LHouseClaps;II[J)I" } : Jvm.MethodName) method_3_code (5 : Nat) (Option.some Jvm.ClassFile.FieldType.int) [((0 : Nat), (10 : Nat), (13 : Nat), (13 : Nat))]) ∈ lw_all := lw_g (lw_at lw_m7 94 rfl) rfl
theorem q1619 : (Jvm.Cond.classLink "HouseClapsLaw" (13 : Nat) "java/util/NoSuchElementException") ∈ lw_all := lw_g (lw_at lw_m7 95 rfl) rfl
theorem q1620 : (Jvm.Cond.methodLink "HouseClapsLaw" (7 : Nat) ({ cls := "HouseClaps", name := "seat", desc := "(II)I" } : Jvm.MethodName)) ∈ lw_all := lw_g (lw_at lw_m7 96 rfl) rfl
theorem q1647 : (Jvm.Cond.methodLink "HouseClapsLaw" (70 : Nat) ({ cls := "HouseClapsLaw", name := "cue", desc := "(LHouseClaps;II[J)I" } : Jvm.MethodName)) ∈ lw_all := lw_g (lw_at lw_m7 123 rfl) rfl
theorem q1648 : (Jvm.Cond.static ({ cls := "HouseClapsLaw", name := "cue", desc := "(LHouseClaps;II[J)I" } : Jvm.MethodName)) ∈ lw_all := lw_g (lw_at lw_m7 124 rfl) rfl
theorem q1649 : (Jvm.Cond.codeWith ({ cls := "HouseClapsLaw", name := "cue", desc := "(LHouseClaps;II[J)I" } : Jvm.MethodName) method_4_code (5 : Nat) (Option.some Jvm.ClassFile.FieldType.int) [((0 : Nat), (10 : Nat), (13 : Nat), (13 : Nat))]) ∈ lw_all := lw_g (lw_at lw_m7 125 rfl) rfl
theorem q1650 : (Jvm.Cond.methodLink "HouseClapsLaw" (15 : Nat) ({ cls := "HouseClaps", name := "cue", desc := "(II)I" } : Jvm.MethodName)) ∈ lw_all := lw_g (lw_at lw_m7 126 rfl) rfl
theorem q1662 : (Jvm.Cond.methodLink "HouseClapsLaw" (136 : Nat) ({ cls := "HouseClapsLaw", name := "worthOf", desc := "(LHouseClaps;II[J)I" } : Jvm.MethodName)) ∈ lw_all := lw_g (lw_at lw_m7 138 rfl) rfl
theorem q1663 : (Jvm.Cond.static ({ cls := "HouseClapsLaw", name := "worthOf", desc := "(LHouseClaps;II[J)I" } : Jvm.MethodName)) ∈ lw_all := lw_g (lw_at lw_m7 139 rfl) rfl
theorem q1664 : (Jvm.Cond.codeWith ({ cls := "HouseClapsLaw", name := "worthOf", desc := "(LHouseClaps;II[J)I" } : Jvm.MethodName) method_5_code (5 : Nat) (Option.some Jvm.ClassFile.FieldType.int) [((0 : Nat), (10 : Nat), (13 : Nat), (13 : Nat))]) ∈ lw_all := lw_g (lw_at lw_m7 140 rfl) rfl
theorem q1665 : (Jvm.Cond.methodLink "HouseClapsLaw" (18 : Nat) ({ cls := "HouseClaps", name := "worthOf", desc := "(II)I" } : Jvm.MethodName)) ∈ lw_all := lw_g (lw_at lw_m7 141 rfl) rfl
theorem q1672 : (Jvm.Cond.methodLink "HouseClapsLaw" (50 : Nat) ({ cls := "HouseClapsModel", name := "thrown", desc := "()I" } : Jvm.MethodName)) ∈ lw_all := lw_g (lw_at lw_m7 148 rfl) rfl
theorem q1676 : (Jvm.Cond.methodLink "HouseClapsLaw" (29 : Nat) ({ cls := "HouseClapsModel", name := "feed", desc := "(IIIII)I" } : Jvm.MethodName)) ∈ lw_all := lw_g (lw_at lw_m7 152 rfl) rfl
theorem q1685 : (Jvm.Cond.methodLink "HouseClapsLaw" (34 : Nat) ({ cls := "HouseClapsModel", name := "end", desc := "(I)Z" } : Jvm.MethodName)) ∈ lw_all := lw_g (lw_at lw_m7 161 rfl) rfl
theorem q1689 : (Jvm.Cond.classLink "HouseClapsLaw" (22 : Nat) "HouseClapsModel") ∈ lw_all := lw_g (lw_at lw_m7 165 rfl) rfl
theorem q1690 : (Jvm.Cond.methodLink "HouseClapsLaw" (24 : Nat) ({ cls := "HouseClapsModel", name := "<init>", desc := "()V" } : Jvm.MethodName)) ∈ lw_all := lw_g (lw_at lw_m7 166 rfl) rfl
theorem q1906 : (Jvm.Cond.methodLink "HouseClapsLaw" (39 : Nat) ({ cls := "HouseClapsModel", name := "house", desc := "()I" } : Jvm.MethodName)) ∈ lw_all := lw_g (lw_at lw_m8 142 rfl) rfl
theorem q2032 : (Jvm.Cond.methodLink "HouseClapsLaw" (43 : Nat) ({ cls := "HouseClapsModel", name := "fault", desc := "()I" } : Jvm.MethodName)) ∈ lw_all := lw_g (lw_at lw_m9 28 rfl) rfl
theorem q2036 : (Jvm.Cond.methodLink "HouseClapsLaw" (49 : Nat) ({ cls := "HouseClapsModel", name := "seat", desc := "(II)I" } : Jvm.MethodName)) ∈ lw_all := lw_g (lw_at lw_m9 32 rfl) rfl
theorem q2055 : (Jvm.Cond.methodLink "HouseClapsLaw" (56 : Nat) ({ cls := "HouseClapsModel", name := "law", desc := "(II)I" } : Jvm.MethodName)) ∈ lw_all := lw_g (lw_at lw_m9 51 rfl) rfl
theorem q2059 : (Jvm.Cond.methodLink "HouseClapsLaw" (61 : Nat) ({ cls := "HouseClapsModel", name := "pay", desc := "(II)Z" } : Jvm.MethodName)) ∈ lw_all := lw_g (lw_at lw_m9 55 rfl) rfl
theorem q2064 : (Jvm.Cond.methodLink "HouseClapsLaw" (65 : Nat) ({ cls := "HouseClapsModel", name := "hiss", desc := "(II)Z" } : Jvm.MethodName)) ∈ lw_all := lw_g (lw_at lw_m9 60 rfl) rfl
theorem q2068 : (Jvm.Cond.methodLink "HouseClapsLaw" (69 : Nat) ({ cls := "HouseClapsModel", name := "cues", desc := "()I" } : Jvm.MethodName)) ∈ lw_all := lw_g (lw_at lw_m9 64 rfl) rfl
theorem q2085 : (Jvm.Cond.methodLink "HouseClapsLaw" (72 : Nat) ({ cls := "HouseClapsModel", name := "cue", desc := "(II)I" } : Jvm.MethodName)) ∈ lw_all := lw_g (lw_at lw_m9 81 rfl) rfl
theorem q2089 : (Jvm.Cond.methodLink "HouseClapsLaw" (77 : Nat) ({ cls := "HouseClapsModel", name := "sees", desc := "(IIII)I" } : Jvm.MethodName)) ∈ lw_all := lw_g (lw_at lw_m9 85 rfl) rfl
theorem q2139 : (Jvm.Cond.methodLink "HouseClapsLaw" (82 : Nat) ({ cls := "HouseClapsModel", name := "at", desc := "(III)I" } : Jvm.MethodName)) ∈ lw_all := lw_g (lw_at lw_m9 135 rfl) rfl
theorem q2143 : (Jvm.Cond.methodLink "HouseClapsLaw" (86 : Nat) ({ cls := "HouseClapsModel", name := "many", desc := "(II)I" } : Jvm.MethodName)) ∈ lw_all := lw_g (lw_at lw_m9 139 rfl) rfl
theorem q2147 : (Jvm.Cond.methodLink "HouseClapsLaw" (90 : Nat) ({ cls := "HouseClapsModel", name := "would", desc := "(III)I" } : Jvm.MethodName)) ∈ lw_all := lw_g (lw_at lw_m9 143 rfl) rfl
theorem q2151 : (Jvm.Cond.methodLink "HouseClapsLaw" (95 : Nat) ({ cls := "HouseClapsModel", name := "stands", desc := "(I)I" } : Jvm.MethodName)) ∈ lw_all := lw_g (lw_at lw_m9 147 rfl) rfl
theorem q2155 : (Jvm.Cond.methodLink "HouseClapsLaw" (99 : Nat) ({ cls := "HouseClapsModel", name := "anyway", desc := "(I)I" } : Jvm.MethodName)) ∈ lw_all := lw_g (lw_at lw_m9 151 rfl) rfl
theorem q2159 : (Jvm.Cond.methodLink "HouseClapsLaw" (103 : Nat) ({ cls := "HouseClapsModel", name := "up", desc := "()I" } : Jvm.MethodName)) ∈ lw_all := lw_g (lw_at lw_m9 155 rfl) rfl
theorem q2167 : (Jvm.Cond.methodLink "HouseClapsLaw" (107 : Nat) ({ cls := "HouseClapsModel", name := "calls", desc := "(I)I" } : Jvm.MethodName)) ∈ lw_all := lw_g (lw_at lw_m9 163 rfl) rfl
theorem q2171 : (Jvm.Cond.methodLink "HouseClapsLaw" (111 : Nat) ({ cls := "HouseClapsModel", name := "again", desc := "(I)I" } : Jvm.MethodName)) ∈ lw_all := lw_g (lw_at lw_m9 167 rfl) rfl
theorem q2179 : (Jvm.Cond.methodLink "HouseClapsLaw" (115 : Nat) ({ cls := "HouseClapsModel", name := "carries", desc := "(I)I" } : Jvm.MethodName)) ∈ lw_all := lw_g (lw_at lw_m9 175 rfl) rfl
theorem q2187 : (Jvm.Cond.methodLink "HouseClapsLaw" (119 : Nat) ({ cls := "HouseClapsModel", name := "cheapest", desc := "()I" } : Jvm.MethodName)) ∈ lw_all := lw_g (lw_at lw_m9 183 rfl) rfl
theorem q2204 : (Jvm.Cond.methodLink "HouseClapsLaw" (123 : Nat) ({ cls := "HouseClapsModel", name := "bought", desc := "()I" } : Jvm.MethodName)) ∈ lw_all := lw_g (lw_at lw_m9 200 rfl) rfl
theorem q2208 : (Jvm.Cond.methodLink "HouseClapsLaw" (127 : Nat) ({ cls := "HouseClapsModel", name := "hush", desc := "()I" } : Jvm.MethodName)) ∈ lw_all := lw_g (lw_at lw_m9 204 rfl) rfl
theorem q2212 : (Jvm.Cond.methodLink "HouseClapsLaw" (131 : Nat) ({ cls := "HouseClapsModel", name := "coalitions", desc := "(I)I" } : Jvm.MethodName)) ∈ lw_all := lw_g (lw_at lw_m9 208 rfl) rfl
theorem q2216 : (Jvm.Cond.methodLink "HouseClapsLaw" (135 : Nat) ({ cls := "HouseClapsModel", name := "worth", desc := "()I" } : Jvm.MethodName)) ∈ lw_all := lw_g (lw_at lw_m9 212 rfl) rfl
theorem q2223 : (Jvm.Cond.methodLink "HouseClapsLaw" (138 : Nat) ({ cls := "HouseClapsModel", name := "worthOf", desc := "(II)I" } : Jvm.MethodName)) ∈ lw_all := lw_g (lw_at lw_m9 219 rfl) rfl
theorem q2227 : (Jvm.Cond.methodLink "HouseClapsLaw" (142 : Nat) ({ cls := "HouseClapsModel", name := "sides", desc := "()I" } : Jvm.MethodName)) ∈ lw_all := lw_g (lw_at lw_m9 223 rfl) rfl
theorem q2231 : (Jvm.Cond.methodLink "HouseClapsLaw" (146 : Nat) ({ cls := "HouseClapsModel", name := "side", desc := "(I)I" } : Jvm.MethodName)) ∈ lw_all := lw_g (lw_at lw_m9 227 rfl) rfl
theorem q2235 : (Jvm.Cond.methodLink "HouseClapsLaw" (150 : Nat) ({ cls := "HouseClapsModel", name := "began", desc := "(I)I" } : Jvm.MethodName)) ∈ lw_all := lw_g (lw_at lw_m9 231 rfl) rfl
theorem q2243 : (Jvm.Cond.methodLink "HouseClapsLaw" (154 : Nat) ({ cls := "HouseClapsModel", name := "beganAt", desc := "(I)I" } : Jvm.MethodName)) ∈ lw_all := lw_g (lw_at lw_m9 239 rfl) rfl
theorem q2247 : (Jvm.Cond.methodLink "HouseClapsLaw" (158 : Nat) ({ cls := "HouseClapsModel", name := "parts", desc := "(II)I" } : Jvm.MethodName)) ∈ lw_all := lw_g (lw_at lw_m10 3 rfl) rfl
theorem q2251 : (Jvm.Cond.methodLink "HouseClapsLaw" (162 : Nat) ({ cls := "HouseClapsModel", name := "exchanged", desc := "()I" } : Jvm.MethodName)) ∈ lw_all := lw_g (lw_at lw_m10 7 rfl) rfl
theorem q2263 : (Jvm.Cond.methodLink "HouseClapsLaw" (166 : Nat) ({ cls := "HouseClapsModel", name := "exchange", desc := "(II)Z" } : Jvm.MethodName)) ∈ lw_all := lw_g (lw_at lw_m10 19 rfl) rfl
theorem q2267 : (Jvm.Cond.methodLink "HouseClapsLaw" (182 : Nat) ({ cls := "HouseClapsModel", name := "arrange", desc := "()I" } : Jvm.MethodName)) ∈ lw_all := lw_g (lw_at lw_m10 23 rfl) rfl
theorem q2275 : (Jvm.Cond.methodLink "HouseClapsLaw" (186 : Nat) ({ cls := "HouseClapsModel", name := "arranged", desc := "()I" } : Jvm.MethodName)) ∈ lw_all := lw_g (lw_at lw_m10 31 rfl) rfl
theorem q2279 : (Jvm.Cond.methodLink "HouseClapsLaw" (170 : Nat) ({ cls := "HouseClapsModel", name := "starts", desc := "(I)I" } : Jvm.MethodName)) ∈ lw_all := lw_g (lw_at lw_m10 35 rfl) rfl
theorem q2283 : (Jvm.Cond.methodLink "HouseClapsLaw" (174 : Nat) ({ cls := "HouseClapsModel", name := "leader", desc := "(I)I" } : Jvm.MethodName)) ∈ lw_all := lw_g (lw_at lw_m10 39 rfl) rfl
theorem q2287 : (Jvm.Cond.methodLink "HouseClapsLaw" (178 : Nat) ({ cls := "HouseClapsModel", name := "drawn", desc := "(II)Z" } : Jvm.MethodName)) ∈ lw_all := lw_g (lw_at lw_m10 43 rfl) rfl
theorem q2296 : (Jvm.Cond.methodLink "HouseClapsLaw" (190 : Nat) ({ cls := "HouseClapsModel", name := "image", desc := "(I)Z" } : Jvm.MethodName)) ∈ lw_all := lw_g (lw_at lw_m10 52 rfl) rfl
theorem q2300 : (Jvm.Cond.methodLink "HouseClapsLaw" (194 : Nat) ({ cls := "HouseClapsModel", name := "restore", desc := "(I)Z" } : Jvm.MethodName)) ∈ lw_all := lw_g (lw_at lw_m10 56 rfl) rfl
theorem q2304 : (Jvm.Cond.methodLink "HouseClapsLaw" (198 : Nat) ({ cls := "HouseClapsModel", name := "count", desc := "(I)I" } : Jvm.MethodName)) ∈ lw_all := lw_g (lw_at lw_m10 60 rfl) rfl

/-! HouseClaps -/
set_option maxRecDepth 100000
def RX1 : String := "HouseClaps"
def TX1 : u_T := fun k => match k with
  | 0 => ("HouseClaps", "tape", "[B", true)
  | 1 => ("HouseClaps", "taped", "I", false)
  | 2 => ("HouseClaps", "fault", "I", false)
  | 3 => ("HouseClaps", "house", "LHouseClaps$House;", false)
  | 4 => ("HouseClaps", "paid", "J", false)
  | 5 => ("HouseClaps", "hiss", "J", false)
  | 6 => ("HouseClaps", "cues", "Ljava/util/ArrayList;", false)
  | 7 => ("HouseClaps", "night", "LHouseClaps$Night;", true)
  | 8 => ("HouseClaps", "other", "LHouseClaps$Night;", true)
  | 9 => ("HouseClaps", "states", "[J", true)
  | 10 => ("HouseClaps", "asked", "[I", true)
  | 11 => ("HouseClaps", "bought", "I", false)
  | 12 => ("HouseClaps", "carriesSet", "[Z", true)
  | 13 => ("HouseClaps", "heights", "[I", true)
  | 14 => ("HouseClaps", "worth", "[J", true)
  | 15 => ("HouseClaps", "worthMany", "I", false)
  | 16 => ("HouseClaps", "orders", "J", false)
  | 17 => ("HouseClaps", "mouths", "[I", true)
  | 18 => ("HouseClaps", "sided", "[I", true)
  | 19 => ("HouseClaps", "beganFirst", "I", false)
  | 20 => ("HouseClaps", "beganSecond", "I", false)
  | 21 => ("HouseClaps", "seed", "I", false)
  | 22 => ("HouseClaps", "arranged", "I", false)
  | 23 => ("HouseClaps", "keptHouse", "[LHouseClaps$House;", true)
  | 24 => ("HouseClaps", "keptPaid", "[J", true)
  | 25 => ("HouseClaps", "keptHiss", "[J", true)
  | _ => ("HouseClaps", "keptCues", "Ljava/util/ArrayList;", true)
def tyX1 : Nat → FieldType := fun k => match k with
  | 0 => .array .byte
  | 1 => .int
  | 2 => .int
  | 3 => .object "HouseClaps$House"
  | 4 => .long
  | 5 => .long
  | 6 => .object "java/util/ArrayList"
  | 7 => .object "HouseClaps$Night"
  | 8 => .object "HouseClaps$Night"
  | 9 => .array .long
  | 10 => .array .int
  | 11 => .int
  | 12 => .array .boolean
  | 13 => .array .int
  | 14 => .array .long
  | 15 => .int
  | 16 => .long
  | 17 => .array .int
  | 18 => .array .int
  | 19 => .int
  | 20 => .int
  | 21 => .int
  | 22 => .int
  | 23 => .array (.object "HouseClaps$House")
  | 24 => .array .long
  | 25 => .array .long
  | _ => .object "java/util/ArrayList"
abbrev wsX10 : List Cond := u_ws RX1 TX1 27
set_option maxRecDepth 100000 in
theorem nmX1 : ∀ a, a < 27 → ∀ b, b < 27 → a ≠ b → (TX1 a).2.1 ≠ (TX1 b).2.1 := by decide +kernel
set_option maxRecDepth 100000 in
theorem tyX1_ok : ∀ k, k < 27 → parseFieldDescriptor (TX1 k).2.2.1 = some (tyX1 k) := by decide +kernel
abbrev cX1_init : ByteArray := prog_1_method_5_code
def yX1_init : MethodName := ⟨RX1, "<init>", "()V"⟩
abbrev cX1_feed : ByteArray := prog_1_method_7_code
def yX1_feed : MethodName := ⟨RX1, "feed", "(IIIII)I"⟩
abbrev cX1_come : ByteArray := prog_1_method_6_code
def yX1_come : MethodName := ⟨RX1, "come", "(I)V"⟩
abbrev cX1_end : ByteArray := prog_1_method_8_code
def yX1_end : MethodName := ⟨RX1, "end", "(I)Z"⟩
abbrev cX1_house : ByteArray := prog_1_method_11_code
def yX1_house : MethodName := ⟨RX1, "house", "()I"⟩
abbrev cX1_take : ByteArray := prog_1_method_9_code
def yX1_take : MethodName := ⟨RX1, "take", "()I"⟩
abbrev cX1_isIn : ByteArray := prog_1_method_1_code
def yX1_isIn : MethodName := ⟨RX1, "isIn", "(III)Z"⟩
abbrev cX1_has : ByteArray := prog_1_method_2_code
def yX1_has : MethodName := ⟨RX1, "has", "(II)Z"⟩
abbrev cX1_fault : ByteArray := prog_1_method_12_code
def yX1_fault : MethodName := ⟨RX1, "fault", "()I"⟩
abbrev cX1_law : ByteArray := prog_1_method_14_code
def yX1_law : MethodName := ⟨RX1, "law", "(II)I"⟩
abbrev cX1_pay : ByteArray := prog_1_method_16_code
def yX1_pay : MethodName := ⟨RX1, "pay", "(II)Z"⟩
abbrev cX1_with : ByteArray := prog_1_method_15_code
def yX1_with : MethodName := ⟨RX1, "with", "(JII)J"⟩
abbrev cX1_hiss : ByteArray := prog_1_method_17_code
def yX1_hiss : MethodName := ⟨RX1, "hiss", "(II)Z"⟩
abbrev cX1_cues : ByteArray := prog_1_method_18_code
def yX1_cues : MethodName := ⟨RX1, "cues", "()I"⟩
abbrev cX1_sees : ByteArray := prog_1_method_22_code
def yX1_sees : MethodName := ⟨RX1, "sees", "(IIII)I"⟩
abbrev cX1_isMoment : ByteArray := prog_1_method_21_code
def yX1_isMoment : MethodName := ⟨RX1, "isMoment", "(I)Z"⟩
abbrev cX1_tonight : ByteArray := prog_1_method_20_code
def yX1_tonight : MethodName := ⟨RX1, "tonight", "()LHouseClaps$Night;"⟩
abbrev cX1_has_2 : ByteArray := prog_1_method_3_code
def yX1_has_2 : MethodName := ⟨RX1, "has", "(JI)Z"⟩
abbrev cX1_at : ByteArray := prog_1_method_23_code
def yX1_at : MethodName := ⟨RX1, "at", "(III)I"⟩
abbrev cX1_many : ByteArray := prog_1_method_24_code
def yX1_many : MethodName := ⟨RX1, "many", "(II)I"⟩
abbrev cX1_would : ByteArray := prog_1_method_25_code
def yX1_would : MethodName := ⟨RX1, "would", "(III)I"⟩
abbrev cX1_stands : ByteArray := prog_1_method_26_code
def yX1_stands : MethodName := ⟨RX1, "stands", "(I)I"⟩
abbrev cX1_anyway : ByteArray := prog_1_method_27_code
def yX1_anyway : MethodName := ⟨RX1, "anyway", "(I)I"⟩
abbrev cX1_up : ByteArray := prog_1_method_28_code
def yX1_up : MethodName := ⟨RX1, "up", "()I"⟩
abbrev cX1_calls : ByteArray := prog_1_method_29_code
def yX1_calls : MethodName := ⟨RX1, "calls", "(I)I"⟩
abbrev cX1_again : ByteArray := prog_1_method_32_code
def yX1_again : MethodName := ⟨RX1, "again", "(I)I"⟩
abbrev cX1_quiet : ByteArray := prog_1_method_31_code
def yX1_quiet : MethodName := ⟨RX1, "quiet", "()I"⟩
abbrev cX1_areLike : ByteArray := prog_1_method_30_code
def yX1_areLike : MethodName := ⟨RX1, "areLike", "(II)Z"⟩
abbrev cX1_carries : ByteArray := prog_1_method_35_code
def yX1_carries : MethodName := ⟨RX1, "carries", "(I)I"⟩
abbrev cX1_heightOf : ByteArray := prog_1_method_33_code
def yX1_heightOf : MethodName := ⟨RX1, "heightOf", "(LHouseClaps$House;JJ)I"⟩
abbrev cX1_cheapest : ByteArray := prog_1_method_39_code
def yX1_cheapest : MethodName := ⟨RX1, "cheapest", "()I"⟩
abbrev cX1_takesSeats : ByteArray := prog_1_method_36_code
def yX1_takesSeats : MethodName := ⟨RX1, "takesSeats", "(II[IJ)I"⟩
abbrev cX1_byteAt : ByteArray := prog_1_method_10_code
def yX1_byteAt : MethodName := ⟨RX1, "byteAt", "(I)I"⟩
abbrev cX1_priceOf : ByteArray := prog_1_method_38_code
def yX1_priceOf : MethodName := ⟨RX1, "priceOf", "(I)I"⟩
abbrev cX1_handsOf : ByteArray := prog_1_method_37_code
def yX1_handsOf : MethodName := ⟨RX1, "handsOf", "(I)J"⟩
abbrev cX1_isCarried : ByteArray := prog_1_method_34_code
def yX1_isCarried : MethodName := ⟨RX1, "isCarried", "(LHouseClaps$House;J)Z"⟩
abbrev cX1_bought : ByteArray := prog_1_method_40_code
def yX1_bought : MethodName := ⟨RX1, "bought", "()I"⟩
abbrev cX1_hush : ByteArray := prog_1_method_41_code
def yX1_hush : MethodName := ⟨RX1, "hush", "()I"⟩
abbrev cX1_coalitions : ByteArray := prog_1_method_43_code
def yX1_coalitions : MethodName := ⟨RX1, "coalitions", "(I)I"⟩
abbrev cX1_isBare : ByteArray := prog_1_method_42_code
def yX1_isBare : MethodName := ⟨RX1, "isBare", "(I)Z"⟩
abbrev cX1_worth : ByteArray := prog_1_method_45_code
def yX1_worth : MethodName := ⟨RX1, "worth", "()I"⟩
abbrev cX1_factorial : ByteArray := prog_1_method_44_code
def yX1_factorial : MethodName := ⟨RX1, "factorial", "(I)J"⟩
abbrev cX1_sides : ByteArray := prog_1_method_47_code
def yX1_sides : MethodName := ⟨RX1, "sides", "()I"⟩
abbrev cX1_side : ByteArray := prog_1_method_48_code
def yX1_side : MethodName := ⟨RX1, "side", "(I)I"⟩
abbrev cX1_began : ByteArray := prog_1_method_50_code
def yX1_began : MethodName := ⟨RX1, "began", "(I)I"⟩
abbrev cX1_isLikeSketch : ByteArray := prog_1_method_49_code
def yX1_isLikeSketch : MethodName := ⟨RX1, "isLikeSketch", "(LHouseClaps$Night;)Z"⟩
abbrev cX1_beganAt : ByteArray := prog_1_method_51_code
def yX1_beganAt : MethodName := ⟨RX1, "beganAt", "(I)I"⟩
abbrev cX1_parts : ByteArray := prog_1_method_52_code
def yX1_parts : MethodName := ⟨RX1, "parts", "(II)I"⟩
abbrev cX1_exchanged : ByteArray := prog_1_method_53_code
def yX1_exchanged : MethodName := ⟨RX1, "exchanged", "()I"⟩
abbrev cX1_exchange : ByteArray := prog_1_method_54_code
def yX1_exchange : MethodName := ⟨RX1, "exchange", "(II)Z"⟩
abbrev cX1_starts : ByteArray := prog_1_method_55_code
def yX1_starts : MethodName := ⟨RX1, "starts", "(I)I"⟩
abbrev cX1_leader : ByteArray := prog_1_method_56_code
def yX1_leader : MethodName := ⟨RX1, "leader", "(I)I"⟩
abbrev cX1_drawn : ByteArray := prog_1_method_58_code
def yX1_drawn : MethodName := ⟨RX1, "drawn", "(II)Z"⟩
abbrev cX1_draw : ByteArray := prog_1_method_57_code
def yX1_draw : MethodName := ⟨RX1, "draw", "(I)I"⟩
abbrev cX1_arrange : ByteArray := prog_1_method_60_code
def yX1_arrange : MethodName := ⟨RX1, "arrange", "()I"⟩
abbrev cX1_arrangeOnce : ByteArray := prog_1_method_59_code
def yX1_arrangeOnce : MethodName := ⟨RX1, "arrangeOnce", "(I)I"⟩
abbrev cX1_arranged : ByteArray := prog_1_method_61_code
def yX1_arranged : MethodName := ⟨RX1, "arranged", "()I"⟩
abbrev cX1_image : ByteArray := prog_1_method_62_code
def yX1_image : MethodName := ⟨RX1, "image", "(I)Z"⟩
abbrev cX1_restore : ByteArray := prog_1_method_63_code
def yX1_restore : MethodName := ⟨RX1, "restore", "(I)Z"⟩
abbrev cX1_count : ByteArray := prog_1_method_64_code
def yX1_count : MethodName := ⟨RX1, "count", "(I)I"⟩
abbrev cX1_seat : ByteArray := prog_1_method_13_code
def yX1_seat : MethodName := ⟨RX1, "seat", "(II)I"⟩
abbrev cX1_need : ByteArray := prog_1_method_4_code
def yX1_need : MethodName := ⟨RX1, "need", "(Z)V"⟩
abbrev cX1_cue : ByteArray := prog_1_method_19_code
def yX1_cue : MethodName := ⟨RX1, "cue", "(II)I"⟩
abbrev cX1_worthOf : ByteArray := prog_1_method_46_code
def yX1_worthOf : MethodName := ⟨RX1, "worthOf", "(II)I"⟩
theorem q85 : (Jvm.Cond.initialized "HouseClaps") ∈ lw_all := lw_g (lw_at lw_m1 1 rfl) rfl
theorem q129 : (Jvm.Cond.instantiable "HouseClaps" (27 : Nat)) ∈ lw_all := lw_g (lw_at lw_m1 45 rfl) rfl
theorem q131 : (Jvm.Cond.instanceMethod ({ cls := "HouseClaps", name := "<init>", desc := "()V" } : Jvm.MethodName)) ∈ lw_all := lw_g (lw_at lw_m1 47 rfl) rfl
theorem q132 : (Jvm.Cond.code ({ cls := "HouseClaps", name := "<init>", desc := "()V" } : Jvm.MethodName) prog_1_method_5_code (1 : Nat) (Option.none : Option Jvm.ClassFile.FieldType)) ∈ lw_all := lw_g (lw_at lw_m1 48 rfl) rfl
theorem q133 : (Jvm.Cond.methodLink "HouseClaps" (7 : Nat) ({ cls := "java/lang/Object", name := "<init>", desc := "()V" } : Jvm.MethodName)) ∈ lw_all := lw_g (lw_at lw_m1 49 rfl) rfl
theorem q136 : (Jvm.Cond.classLink "HouseClaps" (16 : Nat) "HouseClaps$House") ∈ lw_all := lw_g (lw_at lw_m1 52 rfl) rfl
theorem q138 : (Jvm.Cond.methodLink "HouseClaps" (18 : Nat) ({ cls := "HouseClaps$House", name := "<init>", desc := "()V" } : Jvm.MethodName)) ∈ lw_all := lw_g (lw_at lw_m1 54 rfl) rfl
theorem q152 : (Jvm.Cond.fieldLinkNest "HouseClaps" (255 : Nat) "HouseClaps$House" "rows" "I" "HouseClaps") ∈ lw_tbl := lw_at lw_m1 68 rfl
theorem q157 : (Jvm.Cond.fieldLinkNest "HouseClaps" (367 : Nat) "HouseClaps$House" "columns" "I" "HouseClaps") ∈ lw_tbl := lw_at lw_m1 73 rfl
theorem q161 : (Jvm.Cond.fieldLinkNest "HouseClaps" (284 : Nat) "HouseClaps$House" "carry" "I" "HouseClaps") ∈ lw_tbl := lw_at lw_m1 77 rfl
theorem q165 : (Jvm.Cond.fieldLinkNest "HouseClaps" (264 : Nat) "HouseClaps$House" "paid" "I" "HouseClaps") ∈ lw_tbl := lw_at lw_m1 81 rfl
theorem q168 : (Jvm.Cond.fieldLinkNest "HouseClaps" (120 : Nat) "HouseClaps$House" "lines" "I" "HouseClaps") ∈ lw_tbl := lw_at lw_m1 84 rfl
theorem q172 : (Jvm.Cond.fieldLinkNest "HouseClaps" (370 : Nat) "HouseClaps$House" "isByRows" "Z" "HouseClaps") ∈ lw_tbl := lw_at lw_m1 88 rfl
theorem q176 : (Jvm.Cond.fieldLinkNest "HouseClaps" (143 : Nat) "HouseClaps$House" "kind" "[I" "HouseClaps") ∈ lw_tbl := lw_at lw_m1 92 rfl
theorem q179 : (Jvm.Cond.fieldLinkNest "HouseClaps" (145 : Nat) "HouseClaps$House" "price" "[I" "HouseClaps") ∈ lw_tbl := lw_at lw_m1 95 rfl
theorem q183 : (Jvm.Cond.fieldLinkNest "HouseClaps" (152 : Nat) "HouseClaps$House" "leaves" "[I" "HouseClaps") ∈ lw_tbl := lw_at lw_m1 99 rfl
theorem q187 : (Jvm.Cond.fieldLinkNest "HouseClaps" (159 : Nat) "HouseClaps$House" "up" "[LHouseClaps$Cond;" "HouseClaps") ∈ lw_tbl := lw_at lw_m1 103 rfl
theorem q191 : (Jvm.Cond.fieldLinkNest "HouseClaps" (163 : Nat) "HouseClaps$House" "down" "[LHouseClaps$Cond;" "HouseClaps") ∈ lw_tbl := lw_at lw_m1 107 rfl
theorem q194 : (Jvm.Cond.fieldLinkNest "HouseClaps" (166 : Nat) "HouseClaps$House" "ones" "[I" "HouseClaps") ∈ lw_tbl := lw_at lw_m1 110 rfl
theorem q197 : (Jvm.Cond.fieldLinkNest "HouseClaps" (208 : Nat) "HouseClaps$House" "area" "[[J" "HouseClaps") ∈ lw_tbl := lw_at lw_m1 113 rfl
theorem q228 : (Jvm.Cond.classLink "HouseClaps" (23 : Nat) "java/util/ArrayList") ∈ lw_all := lw_g (lw_at lw_m1 144 rfl) rfl
theorem q230 : (Jvm.Cond.methodLink "HouseClaps" (25 : Nat) ({ cls := "java/util/ArrayList", name := "<init>", desc := "()V" } : Jvm.MethodName)) ∈ lw_all := lw_g (lw_at lw_m1 146 rfl) rfl
theorem q254 : (Jvm.Cond.classLink "HouseClaps" (30 : Nat) "HouseClaps$Night") ∈ lw_all := lw_g (lw_at lw_m1 170 rfl) rfl
theorem q256 : (Jvm.Cond.methodLinkNest "HouseClaps" (32 : Nat) ({ cls := "HouseClaps$Night", name := "<init>", desc := "()V" } : Jvm.MethodName) "HouseClaps") ∈ lw_tbl := lw_at lw_m1 172 rfl
theorem q268 : (Jvm.Cond.fieldLinkNest "HouseClaps" (245 : Nat) "HouseClaps$Night" "now" "I" "HouseClaps") ∈ lw_tbl := lw_at lw_m1 184 rfl
theorem q276 : (Jvm.Cond.fieldLinkNest "HouseClaps" (228 : Nat) "HouseClaps$Night" "level" "[I" "HouseClaps") ∈ lw_tbl := lw_at lw_m1 192 rfl
theorem q280 : (Jvm.Cond.fieldLinkNest "HouseClaps" (231 : Nat) "HouseClaps$Night" "held" "[I" "HouseClaps") ∈ lw_tbl := lw_at lw_m1 196 rfl
theorem q283 : (Jvm.Cond.fieldLinkNest "HouseClaps" (220 : Nat) "HouseClaps$Night" "with" "[J" "HouseClaps") ∈ lw_tbl := lw_at lw_m1 199 rfl
theorem q315 : (Jvm.Cond.fieldLink "HouseClaps" (12 : Nat) "HouseClaps" "tape" "[B") ∈ lw_all := lw_g (lw_at lw_m1 231 rfl) rfl
theorem q316 : (Jvm.Cond.fieldLink "HouseClaps" (91 : Nat) "HouseClaps" "taped" "I") ∈ lw_all := lw_g (lw_at lw_m1 232 rfl) rfl
theorem q317 : (Jvm.Cond.fieldLink "HouseClaps" (102 : Nat) "HouseClaps" "fault" "I") ∈ lw_all := lw_g (lw_at lw_m1 233 rfl) rfl
theorem q318 : (Jvm.Cond.fieldLink "HouseClaps" (19 : Nat) "HouseClaps" "house" "LHouseClaps$House;") ∈ lw_all := lw_g (lw_at lw_m1 234 rfl) rfl
theorem q319 : (Jvm.Cond.fieldLink "HouseClaps" (114 : Nat) "HouseClaps" "paid" "J") ∈ lw_all := lw_g (lw_at lw_m1 235 rfl) rfl
theorem q320 : (Jvm.Cond.fieldLink "HouseClaps" (117 : Nat) "HouseClaps" "hiss" "J") ∈ lw_all := lw_g (lw_at lw_m1 236 rfl) rfl
theorem q321 : (Jvm.Cond.fieldLink "HouseClaps" (26 : Nat) "HouseClaps" "cues" "Ljava/util/ArrayList;") ∈ lw_all := lw_g (lw_at lw_m1 237 rfl) rfl
theorem q322 : (Jvm.Cond.fieldLink "HouseClaps" (33 : Nat) "HouseClaps" "night" "LHouseClaps$Night;") ∈ lw_all := lw_g (lw_at lw_m1 238 rfl) rfl
theorem q323 : (Jvm.Cond.fieldLink "HouseClaps" (37 : Nat) "HouseClaps" "other" "LHouseClaps$Night;") ∈ lw_all := lw_g (lw_at lw_m1 239 rfl) rfl
theorem q324 : (Jvm.Cond.fieldLink "HouseClaps" (40 : Nat) "HouseClaps" "states" "[J") ∈ lw_all := lw_g (lw_at lw_m2 0 rfl) rfl
theorem q325 : (Jvm.Cond.fieldLink "HouseClaps" (44 : Nat) "HouseClaps" "asked" "[I") ∈ lw_all := lw_g (lw_at lw_m2 1 rfl) rfl
theorem q326 : (Jvm.Cond.fieldLink "HouseClaps" (48 : Nat) "HouseClaps" "bought" "I") ∈ lw_all := lw_g (lw_at lw_m2 2 rfl) rfl
theorem q327 : (Jvm.Cond.fieldLink "HouseClaps" (52 : Nat) "HouseClaps" "carriesSet" "[Z") ∈ lw_all := lw_g (lw_at lw_m2 3 rfl) rfl
theorem q328 : (Jvm.Cond.fieldLink "HouseClaps" (56 : Nat) "HouseClaps" "heights" "[I") ∈ lw_all := lw_g (lw_at lw_m2 4 rfl) rfl
theorem q329 : (Jvm.Cond.fieldLink "HouseClaps" (59 : Nat) "HouseClaps" "worth" "[J") ∈ lw_all := lw_g (lw_at lw_m2 5 rfl) rfl
theorem q330 : (Jvm.Cond.fieldLink "HouseClaps" (314 : Nat) "HouseClaps" "worthMany" "I") ∈ lw_all := lw_g (lw_at lw_m2 6 rfl) rfl
theorem q331 : (Jvm.Cond.fieldLink "HouseClaps" (62 : Nat) "HouseClaps" "orders" "J") ∈ lw_all := lw_g (lw_at lw_m2 7 rfl) rfl
theorem q332 : (Jvm.Cond.fieldLink "HouseClaps" (66 : Nat) "HouseClaps" "mouths" "[I") ∈ lw_all := lw_g (lw_at lw_m2 8 rfl) rfl
theorem q333 : (Jvm.Cond.fieldLink "HouseClaps" (69 : Nat) "HouseClaps" "sided" "[I") ∈ lw_all := lw_g (lw_at lw_m2 9 rfl) rfl
theorem q334 : (Jvm.Cond.fieldLink "HouseClaps" (72 : Nat) "HouseClaps" "beganFirst" "I") ∈ lw_all := lw_g (lw_at lw_m2 10 rfl) rfl
theorem q335 : (Jvm.Cond.fieldLink "HouseClaps" (75 : Nat) "HouseClaps" "beganSecond" "I") ∈ lw_all := lw_g (lw_at lw_m2 11 rfl) rfl
theorem q336 : (Jvm.Cond.fieldLink "HouseClaps" (346 : Nat) "HouseClaps" "seed" "I") ∈ lw_all := lw_g (lw_at lw_m2 12 rfl) rfl
theorem q337 : (Jvm.Cond.fieldLink "HouseClaps" (353 : Nat) "HouseClaps" "arranged" "I") ∈ lw_all := lw_g (lw_at lw_m2 13 rfl) rfl
theorem q338 : (Jvm.Cond.fieldLink "HouseClaps" (78 : Nat) "HouseClaps" "keptHouse" "[LHouseClaps$House;") ∈ lw_all := lw_g (lw_at lw_m2 14 rfl) rfl
theorem q339 : (Jvm.Cond.fieldLink "HouseClaps" (82 : Nat) "HouseClaps" "keptPaid" "[J") ∈ lw_all := lw_g (lw_at lw_m2 15 rfl) rfl
theorem q340 : (Jvm.Cond.fieldLink "HouseClaps" (85 : Nat) "HouseClaps" "keptHiss" "[J") ∈ lw_all := lw_g (lw_at lw_m2 16 rfl) rfl
theorem q341 : (Jvm.Cond.fieldLink "HouseClaps" (88 : Nat) "HouseClaps" "keptCues" "Ljava/util/ArrayList;") ∈ lw_all := lw_g (lw_at lw_m2 17 rfl) rfl
theorem q342 : (Jvm.Cond.laysFinal "HouseClaps" "HouseClaps" "tape" "[B") ∈ lw_all := lw_g (lw_at lw_m2 18 rfl) rfl
theorem q343 : (Jvm.Cond.soleField "HouseClaps" "tape") ∈ lw_all := lw_g (lw_at lw_m2 19 rfl) rfl
theorem q344 : (Jvm.Cond.lays "HouseClaps" "HouseClaps" "taped" "I") ∈ lw_all := lw_g (lw_at lw_m2 20 rfl) rfl
theorem q345 : (Jvm.Cond.soleField "HouseClaps" "taped") ∈ lw_all := lw_g (lw_at lw_m2 21 rfl) rfl
theorem q346 : (Jvm.Cond.lays "HouseClaps" "HouseClaps" "fault" "I") ∈ lw_all := lw_g (lw_at lw_m2 22 rfl) rfl
theorem q347 : (Jvm.Cond.soleField "HouseClaps" "fault") ∈ lw_all := lw_g (lw_at lw_m2 23 rfl) rfl
theorem q348 : (Jvm.Cond.lays "HouseClaps" "HouseClaps" "house" "LHouseClaps$House;") ∈ lw_all := lw_g (lw_at lw_m2 24 rfl) rfl
theorem q349 : (Jvm.Cond.soleField "HouseClaps" "house") ∈ lw_all := lw_g (lw_at lw_m2 25 rfl) rfl
theorem q350 : (Jvm.Cond.lays "HouseClaps" "HouseClaps" "paid" "J") ∈ lw_all := lw_g (lw_at lw_m2 26 rfl) rfl
theorem q351 : (Jvm.Cond.soleField "HouseClaps" "paid") ∈ lw_all := lw_g (lw_at lw_m2 27 rfl) rfl
theorem q352 : (Jvm.Cond.lays "HouseClaps" "HouseClaps" "hiss" "J") ∈ lw_all := lw_g (lw_at lw_m2 28 rfl) rfl
theorem q353 : (Jvm.Cond.soleField "HouseClaps" "hiss") ∈ lw_all := lw_g (lw_at lw_m2 29 rfl) rfl
theorem q354 : (Jvm.Cond.lays "HouseClaps" "HouseClaps" "cues" "Ljava/util/ArrayList;") ∈ lw_all := lw_g (lw_at lw_m2 30 rfl) rfl
theorem q355 : (Jvm.Cond.soleField "HouseClaps" "cues") ∈ lw_all := lw_g (lw_at lw_m2 31 rfl) rfl
theorem q356 : (Jvm.Cond.laysFinal "HouseClaps" "HouseClaps" "night" "LHouseClaps$Night;") ∈ lw_all := lw_g (lw_at lw_m2 32 rfl) rfl
theorem q357 : (Jvm.Cond.soleField "HouseClaps" "night") ∈ lw_all := lw_g (lw_at lw_m2 33 rfl) rfl
theorem q358 : (Jvm.Cond.laysFinal "HouseClaps" "HouseClaps" "other" "LHouseClaps$Night;") ∈ lw_all := lw_g (lw_at lw_m2 34 rfl) rfl
theorem q359 : (Jvm.Cond.soleField "HouseClaps" "other") ∈ lw_all := lw_g (lw_at lw_m2 35 rfl) rfl
theorem q360 : (Jvm.Cond.laysFinal "HouseClaps" "HouseClaps" "states" "[J") ∈ lw_all := lw_g (lw_at lw_m2 36 rfl) rfl
theorem q361 : (Jvm.Cond.soleField "HouseClaps" "states") ∈ lw_all := lw_g (lw_at lw_m2 37 rfl) rfl
theorem q362 : (Jvm.Cond.laysFinal "HouseClaps" "HouseClaps" "asked" "[I") ∈ lw_all := lw_g (lw_at lw_m2 38 rfl) rfl
theorem q363 : (Jvm.Cond.soleField "HouseClaps" "asked") ∈ lw_all := lw_g (lw_at lw_m2 39 rfl) rfl
theorem q364 : (Jvm.Cond.lays "HouseClaps" "HouseClaps" "bought" "I") ∈ lw_all := lw_g (lw_at lw_m2 40 rfl) rfl
theorem q365 : (Jvm.Cond.soleField "HouseClaps" "bought") ∈ lw_all := lw_g (lw_at lw_m2 41 rfl) rfl
theorem q366 : (Jvm.Cond.laysFinal "HouseClaps" "HouseClaps" "carriesSet" "[Z") ∈ lw_all := lw_g (lw_at lw_m2 42 rfl) rfl
theorem q367 : (Jvm.Cond.soleField "HouseClaps" "carriesSet") ∈ lw_all := lw_g (lw_at lw_m2 43 rfl) rfl
theorem q368 : (Jvm.Cond.laysFinal "HouseClaps" "HouseClaps" "heights" "[I") ∈ lw_all := lw_g (lw_at lw_m2 44 rfl) rfl
theorem q369 : (Jvm.Cond.soleField "HouseClaps" "heights") ∈ lw_all := lw_g (lw_at lw_m2 45 rfl) rfl
theorem q370 : (Jvm.Cond.laysFinal "HouseClaps" "HouseClaps" "worth" "[J") ∈ lw_all := lw_g (lw_at lw_m2 46 rfl) rfl
theorem q371 : (Jvm.Cond.soleField "HouseClaps" "worth") ∈ lw_all := lw_g (lw_at lw_m2 47 rfl) rfl
theorem q372 : (Jvm.Cond.lays "HouseClaps" "HouseClaps" "worthMany" "I") ∈ lw_all := lw_g (lw_at lw_m2 48 rfl) rfl
theorem q373 : (Jvm.Cond.soleField "HouseClaps" "worthMany") ∈ lw_all := lw_g (lw_at lw_m2 49 rfl) rfl
theorem q374 : (Jvm.Cond.lays "HouseClaps" "HouseClaps" "orders" "J") ∈ lw_all := lw_g (lw_at lw_m2 50 rfl) rfl
theorem q375 : (Jvm.Cond.soleField "HouseClaps" "orders") ∈ lw_all := lw_g (lw_at lw_m2 51 rfl) rfl
theorem q376 : (Jvm.Cond.laysFinal "HouseClaps" "HouseClaps" "mouths" "[I") ∈ lw_all := lw_g (lw_at lw_m2 52 rfl) rfl
theorem q377 : (Jvm.Cond.soleField "HouseClaps" "mouths") ∈ lw_all := lw_g (lw_at lw_m2 53 rfl) rfl
theorem q378 : (Jvm.Cond.laysFinal "HouseClaps" "HouseClaps" "sided" "[I") ∈ lw_all := lw_g (lw_at lw_m2 54 rfl) rfl
theorem q379 : (Jvm.Cond.soleField "HouseClaps" "sided") ∈ lw_all := lw_g (lw_at lw_m2 55 rfl) rfl
theorem q380 : (Jvm.Cond.lays "HouseClaps" "HouseClaps" "beganFirst" "I") ∈ lw_all := lw_g (lw_at lw_m2 56 rfl) rfl
theorem q381 : (Jvm.Cond.soleField "HouseClaps" "beganFirst") ∈ lw_all := lw_g (lw_at lw_m2 57 rfl) rfl
theorem q382 : (Jvm.Cond.lays "HouseClaps" "HouseClaps" "beganSecond" "I") ∈ lw_all := lw_g (lw_at lw_m2 58 rfl) rfl
theorem q383 : (Jvm.Cond.soleField "HouseClaps" "beganSecond") ∈ lw_all := lw_g (lw_at lw_m2 59 rfl) rfl
theorem q384 : (Jvm.Cond.lays "HouseClaps" "HouseClaps" "seed" "I") ∈ lw_all := lw_g (lw_at lw_m2 60 rfl) rfl
theorem q385 : (Jvm.Cond.soleField "HouseClaps" "seed") ∈ lw_all := lw_g (lw_at lw_m2 61 rfl) rfl
theorem q386 : (Jvm.Cond.lays "HouseClaps" "HouseClaps" "arranged" "I") ∈ lw_all := lw_g (lw_at lw_m2 62 rfl) rfl
theorem q387 : (Jvm.Cond.soleField "HouseClaps" "arranged") ∈ lw_all := lw_g (lw_at lw_m2 63 rfl) rfl
theorem q388 : (Jvm.Cond.laysFinal "HouseClaps" "HouseClaps" "keptHouse" "[LHouseClaps$House;") ∈ lw_all := lw_g (lw_at lw_m2 64 rfl) rfl
theorem q389 : (Jvm.Cond.soleField "HouseClaps" "keptHouse") ∈ lw_all := lw_g (lw_at lw_m2 65 rfl) rfl
theorem q390 : (Jvm.Cond.laysFinal "HouseClaps" "HouseClaps" "keptPaid" "[J") ∈ lw_all := lw_g (lw_at lw_m2 66 rfl) rfl
theorem q391 : (Jvm.Cond.soleField "HouseClaps" "keptPaid") ∈ lw_all := lw_g (lw_at lw_m2 67 rfl) rfl
theorem q392 : (Jvm.Cond.laysFinal "HouseClaps" "HouseClaps" "keptHiss" "[J") ∈ lw_all := lw_g (lw_at lw_m2 68 rfl) rfl
theorem q393 : (Jvm.Cond.soleField "HouseClaps" "keptHiss") ∈ lw_all := lw_g (lw_at lw_m2 69 rfl) rfl
theorem q394 : (Jvm.Cond.laysFinal "HouseClaps" "HouseClaps" "keptCues" "Ljava/util/ArrayList;") ∈ lw_all := lw_g (lw_at lw_m2 70 rfl) rfl
theorem q395 : (Jvm.Cond.soleField "HouseClaps" "keptCues") ∈ lw_all := lw_g (lw_at lw_m2 71 rfl) rfl
theorem q396 : (Jvm.Cond.superclass "HouseClaps" "java/lang/Object") ∈ lw_all := lw_g (lw_at lw_m2 72 rfl) rfl
theorem q399 : (Jvm.Cond.instanceMethod ({ cls := "HouseClaps", name := "feed", desc := "(IIIII)I" } : Jvm.MethodName)) ∈ lw_all := lw_g (lw_at lw_m2 75 rfl) rfl
theorem q400 : (Jvm.Cond.selects "HouseClaps" ({ cls := "HouseClaps", name := "feed", desc := "(IIIII)I" } : Jvm.MethodName) ({ cls := "HouseClaps", name := "feed", desc := "(IIIII)I" } : Jvm.MethodName)) ∈ lw_all := lw_g (lw_at lw_m2 76 rfl) rfl
theorem q401 : (Jvm.Cond.code ({ cls := "HouseClaps", name := "feed", desc := "(IIIII)I" } : Jvm.MethodName) prog_1_method_7_code (6 : Nat) (Option.some Jvm.ClassFile.FieldType.int)) ∈ lw_all := lw_g (lw_at lw_m2 77 rfl) rfl
theorem q402 : (Jvm.Cond.methodLink "HouseClaps" (94 : Nat) ({ cls := "HouseClaps", name := "come", desc := "(I)V" } : Jvm.MethodName)) ∈ lw_all := lw_g (lw_at lw_m2 78 rfl) rfl
theorem q403 : (Jvm.Cond.privateMethod ({ cls := "HouseClaps", name := "come", desc := "(I)V" } : Jvm.MethodName)) ∈ lw_tbl := lw_at lw_m2 79 rfl
theorem q404 : (Jvm.Cond.instanceMethod ({ cls := "HouseClaps", name := "come", desc := "(I)V" } : Jvm.MethodName)) ∈ lw_all := lw_g (lw_at lw_m2 80 rfl) rfl
theorem q405 : (Jvm.Cond.code ({ cls := "HouseClaps", name := "come", desc := "(I)V" } : Jvm.MethodName) prog_1_method_6_code (3 : Nat) (Option.none : Option Jvm.ClassFile.FieldType)) ∈ lw_all := lw_g (lw_at lw_m2 81 rfl) rfl
theorem q407 : (Jvm.Cond.instanceMethod ({ cls := "HouseClaps", name := "end", desc := "(I)Z" } : Jvm.MethodName)) ∈ lw_all := lw_g (lw_at lw_m2 83 rfl) rfl
theorem q408 : (Jvm.Cond.selects "HouseClaps" ({ cls := "HouseClaps", name := "end", desc := "(I)Z" } : Jvm.MethodName) ({ cls := "HouseClaps", name := "end", desc := "(I)Z" } : Jvm.MethodName)) ∈ lw_all := lw_g (lw_at lw_m2 84 rfl) rfl
theorem q409 : (Jvm.Cond.code ({ cls := "HouseClaps", name := "end", desc := "(I)Z" } : Jvm.MethodName) prog_1_method_8_code (2 : Nat) (Option.some Jvm.ClassFile.FieldType.boolean)) ∈ lw_all := lw_g (lw_at lw_m2 85 rfl) rfl
theorem q411 : (Jvm.Cond.instanceMethod ({ cls := "HouseClaps", name := "house", desc := "()I" } : Jvm.MethodName)) ∈ lw_all := lw_g (lw_at lw_m2 87 rfl) rfl
theorem q412 : (Jvm.Cond.selects "HouseClaps" ({ cls := "HouseClaps", name := "house", desc := "()I" } : Jvm.MethodName) ({ cls := "HouseClaps", name := "house", desc := "()I" } : Jvm.MethodName)) ∈ lw_all := lw_g (lw_at lw_m2 88 rfl) rfl
theorem q413 : (Jvm.Cond.codeWith ({ cls := "HouseClaps", name := "house", desc := "()I" } : Jvm.MethodName) prog_1_method_11_code (3 : Nat) (Option.some Jvm.ClassFile.FieldType.int) [((10 : Nat), (57 : Nat), (58 : Nat), (123 : Nat))]) ∈ lw_all := lw_g (lw_at lw_m2 89 rfl) rfl
theorem q414 : (Jvm.Cond.classLink "HouseClaps" (123 : Nat) "HouseClaps$Fault") ∈ lw_all := lw_g (lw_at lw_m2 90 rfl) rfl
theorem q415 : (Jvm.Cond.methodLink "HouseClaps" (98 : Nat) ({ cls := "HouseClaps", name := "take", desc := "()I" } : Jvm.MethodName)) ∈ lw_all := lw_g (lw_at lw_m2 91 rfl) rfl
theorem q416 : (Jvm.Cond.privateMethod ({ cls := "HouseClaps", name := "take", desc := "()I" } : Jvm.MethodName)) ∈ lw_tbl := lw_at lw_m2 92 rfl
theorem q417 : (Jvm.Cond.instanceMethod ({ cls := "HouseClaps", name := "take", desc := "()I" } : Jvm.MethodName)) ∈ lw_all := lw_g (lw_at lw_m2 93 rfl) rfl
theorem q418 : (Jvm.Cond.code ({ cls := "HouseClaps", name := "take", desc := "()I" } : Jvm.MethodName) prog_1_method_9_code (2 : Nat) (Option.some Jvm.ClassFile.FieldType.int)) ∈ lw_all := lw_g (lw_at lw_m2 94 rfl) rfl
theorem q419 : (Jvm.Cond.classLink "HouseClaps" (105 : Nat) "HouseClaps$HouseReader") ∈ lw_all := lw_g (lw_at lw_m2 95 rfl) rfl
theorem q421 : (Jvm.Cond.methodLink "HouseClaps" (107 : Nat) ({ cls := "HouseClaps$HouseReader", name := "<init>", desc := "([BI)V" } : Jvm.MethodName)) ∈ lw_all := lw_g (lw_at lw_m2 97 rfl) rfl
theorem q485 : (Jvm.Cond.methodLink "HouseClaps" (110 : Nat) ({ cls := "HouseClaps$HouseReader", name := "read", desc := "()LHouseClaps$House;" } : Jvm.MethodName)) ∈ lw_all := lw_g (lw_at lw_m2 161 rfl) rfl
theorem q830 : (Jvm.Cond.fieldLinkNest "HouseClaps" (125 : Nat) "HouseClaps$Fault" "kind" "I" "HouseClaps") ∈ lw_tbl := lw_at lw_m4 26 rfl
theorem q832 : (Jvm.Cond.fieldLinkNest "HouseClaps" (128 : Nat) "HouseClaps$Fault" "place" "I" "HouseClaps") ∈ lw_tbl := lw_at lw_m4 28 rfl
theorem q928 : (Jvm.Cond.static ({ cls := "HouseClaps", name := "isIn", desc := "(III)Z" } : Jvm.MethodName)) ∈ lw_all := lw_g (lw_at lw_m4 124 rfl) rfl
theorem q929 : (Jvm.Cond.code ({ cls := "HouseClaps", name := "isIn", desc := "(III)Z" } : Jvm.MethodName) prog_1_method_1_code (3 : Nat) (Option.some Jvm.ClassFile.FieldType.boolean)) ∈ lw_all := lw_g (lw_at lw_m4 125 rfl) rfl
theorem q1017 : (Jvm.Cond.static ({ cls := "HouseClaps", name := "has", desc := "(II)Z" } : Jvm.MethodName)) ∈ lw_all := lw_g (lw_at lw_m4 213 rfl) rfl
theorem q1018 : (Jvm.Cond.code ({ cls := "HouseClaps", name := "has", desc := "(II)Z" } : Jvm.MethodName) prog_1_method_2_code (2 : Nat) (Option.some Jvm.ClassFile.FieldType.boolean)) ∈ lw_all := lw_g (lw_at lw_m4 214 rfl) rfl
theorem q1048 : (Jvm.Cond.instanceMethod ({ cls := "HouseClaps", name := "fault", desc := "()I" } : Jvm.MethodName)) ∈ lw_all := lw_g (lw_at lw_m5 4 rfl) rfl
theorem q1049 : (Jvm.Cond.selects "HouseClaps" ({ cls := "HouseClaps", name := "fault", desc := "()I" } : Jvm.MethodName) ({ cls := "HouseClaps", name := "fault", desc := "()I" } : Jvm.MethodName)) ∈ lw_all := lw_g (lw_at lw_m5 5 rfl) rfl
theorem q1050 : (Jvm.Cond.code ({ cls := "HouseClaps", name := "fault", desc := "()I" } : Jvm.MethodName) prog_1_method_12_code (1 : Nat) (Option.some Jvm.ClassFile.FieldType.int)) ∈ lw_all := lw_g (lw_at lw_m5 6 rfl) rfl
theorem q1052 : (Jvm.Cond.instanceMethod ({ cls := "HouseClaps", name := "law", desc := "(II)I" } : Jvm.MethodName)) ∈ lw_all := lw_g (lw_at lw_m5 8 rfl) rfl
theorem q1053 : (Jvm.Cond.selects "HouseClaps" ({ cls := "HouseClaps", name := "law", desc := "(II)I" } : Jvm.MethodName) ({ cls := "HouseClaps", name := "law", desc := "(II)I" } : Jvm.MethodName)) ∈ lw_all := lw_g (lw_at lw_m5 9 rfl) rfl
theorem q1054 : (Jvm.Cond.code ({ cls := "HouseClaps", name := "law", desc := "(II)I" } : Jvm.MethodName) prog_1_method_14_code (4 : Nat) (Option.some Jvm.ClassFile.FieldType.int)) ∈ lw_all := lw_g (lw_at lw_m5 10 rfl) rfl
theorem q1055 : (Jvm.Cond.methodLink "HouseClaps" (135 : Nat) ({ cls := "HouseClaps", name := "isIn", desc := "(III)Z" } : Jvm.MethodName)) ∈ lw_all := lw_g (lw_at lw_m5 11 rfl) rfl
theorem q1057 : (Jvm.Cond.instanceMethod ({ cls := "HouseClaps", name := "pay", desc := "(II)Z" } : Jvm.MethodName)) ∈ lw_all := lw_g (lw_at lw_m5 13 rfl) rfl
theorem q1058 : (Jvm.Cond.selects "HouseClaps" ({ cls := "HouseClaps", name := "pay", desc := "(II)Z" } : Jvm.MethodName) ({ cls := "HouseClaps", name := "pay", desc := "(II)Z" } : Jvm.MethodName)) ∈ lw_all := lw_g (lw_at lw_m5 14 rfl) rfl
theorem q1059 : (Jvm.Cond.code ({ cls := "HouseClaps", name := "pay", desc := "(II)Z" } : Jvm.MethodName) prog_1_method_16_code (3 : Nat) (Option.some Jvm.ClassFile.FieldType.boolean)) ∈ lw_all := lw_g (lw_at lw_m5 15 rfl) rfl
theorem q1060 : (Jvm.Cond.methodLink "HouseClaps" (131 : Nat) ({ cls := "HouseClaps$House", name := "isSeat", desc := "(I)Z" } : Jvm.MethodName)) ∈ lw_all := lw_g (lw_at lw_m5 16 rfl) rfl
theorem q1064 : (Jvm.Cond.methodLink "HouseClaps" (171 : Nat) ({ cls := "HouseClaps", name := "with", desc := "(JII)J" } : Jvm.MethodName)) ∈ lw_all := lw_g (lw_at lw_m5 20 rfl) rfl
theorem q1065 : (Jvm.Cond.static ({ cls := "HouseClaps", name := "with", desc := "(JII)J" } : Jvm.MethodName)) ∈ lw_all := lw_g (lw_at lw_m5 21 rfl) rfl
theorem q1066 : (Jvm.Cond.code ({ cls := "HouseClaps", name := "with", desc := "(JII)J" } : Jvm.MethodName) prog_1_method_15_code (4 : Nat) (Option.some Jvm.ClassFile.FieldType.long)) ∈ lw_all := lw_g (lw_at lw_m5 22 rfl) rfl
theorem q1067 : (Jvm.Cond.constantLong "HouseClaps" (169 : Nat) (-1 : Int64)) ∈ lw_all := lw_g (lw_at lw_m5 23 rfl) rfl
theorem q1069 : (Jvm.Cond.instanceMethod ({ cls := "HouseClaps", name := "hiss", desc := "(II)Z" } : Jvm.MethodName)) ∈ lw_all := lw_g (lw_at lw_m5 25 rfl) rfl
theorem q1070 : (Jvm.Cond.selects "HouseClaps" ({ cls := "HouseClaps", name := "hiss", desc := "(II)Z" } : Jvm.MethodName) ({ cls := "HouseClaps", name := "hiss", desc := "(II)Z" } : Jvm.MethodName)) ∈ lw_all := lw_g (lw_at lw_m5 26 rfl) rfl
theorem q1071 : (Jvm.Cond.code ({ cls := "HouseClaps", name := "hiss", desc := "(II)Z" } : Jvm.MethodName) prog_1_method_17_code (3 : Nat) (Option.some Jvm.ClassFile.FieldType.boolean)) ∈ lw_all := lw_g (lw_at lw_m5 27 rfl) rfl
theorem q1073 : (Jvm.Cond.instanceMethod ({ cls := "HouseClaps", name := "cues", desc := "()I" } : Jvm.MethodName)) ∈ lw_all := lw_g (lw_at lw_m5 29 rfl) rfl
theorem q1074 : (Jvm.Cond.selects "HouseClaps" ({ cls := "HouseClaps", name := "cues", desc := "()I" } : Jvm.MethodName) ({ cls := "HouseClaps", name := "cues", desc := "()I" } : Jvm.MethodName)) ∈ lw_all := lw_g (lw_at lw_m5 30 rfl) rfl
theorem q1075 : (Jvm.Cond.codeWith ({ cls := "HouseClaps", name := "cues", desc := "()I" } : Jvm.MethodName) prog_1_method_18_code (3 : Nat) (Option.some Jvm.ClassFile.FieldType.int) [((10 : Nat), (40 : Nat), (41 : Nat), (123 : Nat))]) ∈ lw_all := lw_g (lw_at lw_m5 31 rfl) rfl
theorem q1076 : (Jvm.Cond.classLink "HouseClaps" (175 : Nat) "HouseClaps$CueReader") ∈ lw_all := lw_g (lw_at lw_m5 32 rfl) rfl
theorem q1078 : (Jvm.Cond.methodLink "HouseClaps" (177 : Nat) ({ cls := "HouseClaps$CueReader", name := "<init>", desc := "([BILHouseClaps$House;)V" } : Jvm.MethodName)) ∈ lw_all := lw_g (lw_at lw_m5 34 rfl) rfl
theorem q1100 : (Jvm.Cond.methodLink "HouseClaps" (180 : Nat) ({ cls := "HouseClaps$CueReader", name := "read", desc := "()Ljava/util/ArrayList;" } : Jvm.MethodName)) ∈ lw_all := lw_g (lw_at lw_m5 56 rfl) rfl
theorem q1140 : (Jvm.Cond.fieldLink "HouseClaps" (192 : Nat) "HouseClaps$Cue" "moment" "I") ∈ lw_all := lw_g (lw_at lw_m5 96 rfl) rfl
theorem q1200 : (Jvm.Cond.selects "HouseClaps" ({ cls := "java/lang/Object", name := "getClass", desc := "()Ljava/lang/Class;" } : Jvm.MethodName) ({ cls := "java/lang/Object", name := "getClass", desc := "()Ljava/lang/Class;" } : Jvm.MethodName)) ∈ lw_all := lw_g (lw_at lw_m5 156 rfl) rfl
theorem q1233 : (Jvm.Cond.methodLink "HouseClaps" (183 : Nat) ({ cls := "java/util/ArrayList", name := "size", desc := "()I" } : Jvm.MethodName)) ∈ lw_all := lw_g (lw_at lw_m5 189 rfl) rfl
theorem q1235 : (Jvm.Cond.instanceMethod ({ cls := "HouseClaps", name := "sees", desc := "(IIII)I" } : Jvm.MethodName)) ∈ lw_all := lw_g (lw_at lw_m5 191 rfl) rfl
theorem q1236 : (Jvm.Cond.selects "HouseClaps" ({ cls := "HouseClaps", name := "sees", desc := "(IIII)I" } : Jvm.MethodName) ({ cls := "HouseClaps", name := "sees", desc := "(IIII)I" } : Jvm.MethodName)) ∈ lw_all := lw_g (lw_at lw_m5 192 rfl) rfl
theorem q1237 : (Jvm.Cond.code ({ cls := "HouseClaps", name := "sees", desc := "(IIII)I" } : Jvm.MethodName) prog_1_method_22_code (5 : Nat) (Option.some Jvm.ClassFile.FieldType.int)) ∈ lw_all := lw_g (lw_at lw_m5 193 rfl) rfl
theorem q1238 : (Jvm.Cond.methodLink "HouseClaps" (205 : Nat) ({ cls := "HouseClaps", name := "isMoment", desc := "(I)Z" } : Jvm.MethodName)) ∈ lw_all := lw_g (lw_at lw_m5 194 rfl) rfl
theorem q1239 : (Jvm.Cond.static ({ cls := "HouseClaps", name := "isMoment", desc := "(I)Z" } : Jvm.MethodName)) ∈ lw_all := lw_g (lw_at lw_m5 195 rfl) rfl
theorem q1240 : (Jvm.Cond.code ({ cls := "HouseClaps", name := "isMoment", desc := "(I)Z" } : Jvm.MethodName) prog_1_method_21_code (1 : Nat) (Option.some Jvm.ClassFile.FieldType.boolean)) ∈ lw_all := lw_g (lw_at lw_m5 196 rfl) rfl
theorem q1241 : (Jvm.Cond.methodLink "HouseClaps" (212 : Nat) ({ cls := "HouseClaps", name := "tonight", desc := "()LHouseClaps$Night;" } : Jvm.MethodName)) ∈ lw_all := lw_g (lw_at lw_m5 197 rfl) rfl
theorem q1242 : (Jvm.Cond.privateMethod ({ cls := "HouseClaps", name := "tonight", desc := "()LHouseClaps$Night;" } : Jvm.MethodName)) ∈ lw_tbl := lw_at lw_m5 198 rfl
theorem q1243 : (Jvm.Cond.instanceMethod ({ cls := "HouseClaps", name := "tonight", desc := "()LHouseClaps$Night;" } : Jvm.MethodName)) ∈ lw_all := lw_g (lw_at lw_m5 199 rfl) rfl
theorem q1244 : (Jvm.Cond.code ({ cls := "HouseClaps", name := "tonight", desc := "()LHouseClaps$Night;" } : Jvm.MethodName) prog_1_method_20_code (1 : Nat) (Option.some (Jvm.ClassFile.FieldType.object "HouseClaps$Night"))) ∈ lw_all := lw_g (lw_at lw_m5 200 rfl) rfl
theorem q1245 : (Jvm.Cond.methodLink "HouseClaps" (201 : Nat) ({ cls := "HouseClaps$Night", name := "begin", desc := "(LHouseClaps$House;Ljava/util/ArrayList;JJ)LHouseClaps$Night;" } : Jvm.MethodName)) ∈ lw_all := lw_g (lw_at lw_m5 201 rfl) rfl
theorem q1304 : (Jvm.Cond.static ({ cls := "HouseClaps", name := "has", desc := "(JI)Z" } : Jvm.MethodName)) ∈ lw_all := lw_g (lw_at lw_m6 20 rfl) rfl
theorem q1305 : (Jvm.Cond.code ({ cls := "HouseClaps", name := "has", desc := "(JI)Z" } : Jvm.MethodName) prog_1_method_3_code (3 : Nat) (Option.some Jvm.ClassFile.FieldType.boolean)) ∈ lw_all := lw_g (lw_at lw_m6 21 rfl) rfl
theorem q1310 : (Jvm.Cond.methodLink "HouseClaps" (216 : Nat) ({ cls := "HouseClaps$Night", name := "to", desc := "(I)LHouseClaps$Night;" } : Jvm.MethodName)) ∈ lw_all := lw_g (lw_at lw_m6 26 rfl) rfl
theorem q1372 : (Jvm.Cond.methodLink "HouseClaps" (222 : Nat) ({ cls := "java/lang/Long", name := "bitCount", desc := "(J)I" } : Jvm.MethodName)) ∈ lw_all := lw_g (lw_at lw_m6 88 rfl) rfl
theorem q1374 : (Jvm.Cond.instanceMethod ({ cls := "HouseClaps", name := "at", desc := "(III)I" } : Jvm.MethodName)) ∈ lw_all := lw_g (lw_at lw_m6 90 rfl) rfl
theorem q1375 : (Jvm.Cond.selects "HouseClaps" ({ cls := "HouseClaps", name := "at", desc := "(III)I" } : Jvm.MethodName) ({ cls := "HouseClaps", name := "at", desc := "(III)I" } : Jvm.MethodName)) ∈ lw_all := lw_g (lw_at lw_m6 91 rfl) rfl
theorem q1376 : (Jvm.Cond.code ({ cls := "HouseClaps", name := "at", desc := "(III)I" } : Jvm.MethodName) prog_1_method_23_code (5 : Nat) (Option.some Jvm.ClassFile.FieldType.int)) ∈ lw_all := lw_g (lw_at lw_m6 92 rfl) rfl
theorem q1378 : (Jvm.Cond.instanceMethod ({ cls := "HouseClaps", name := "many", desc := "(II)I" } : Jvm.MethodName)) ∈ lw_all := lw_g (lw_at lw_m6 94 rfl) rfl
theorem q1379 : (Jvm.Cond.selects "HouseClaps" ({ cls := "HouseClaps", name := "many", desc := "(II)I" } : Jvm.MethodName) ({ cls := "HouseClaps", name := "many", desc := "(II)I" } : Jvm.MethodName)) ∈ lw_all := lw_g (lw_at lw_m6 95 rfl) rfl
theorem q1380 : (Jvm.Cond.code ({ cls := "HouseClaps", name := "many", desc := "(II)I" } : Jvm.MethodName) prog_1_method_24_code (3 : Nat) (Option.some Jvm.ClassFile.FieldType.int)) ∈ lw_all := lw_g (lw_at lw_m6 96 rfl) rfl
theorem q1381 : (Jvm.Cond.methodLink "HouseClaps" (234 : Nat) ({ cls := "HouseClaps$Night", name := "many", desc := "(I)I" } : Jvm.MethodName)) ∈ lw_all := lw_g (lw_at lw_m6 97 rfl) rfl
theorem q1390 : (Jvm.Cond.instanceMethod ({ cls := "HouseClaps", name := "would", desc := "(III)I" } : Jvm.MethodName)) ∈ lw_all := lw_g (lw_at lw_m6 106 rfl) rfl
theorem q1391 : (Jvm.Cond.selects "HouseClaps" ({ cls := "HouseClaps", name := "would", desc := "(III)I" } : Jvm.MethodName) ({ cls := "HouseClaps", name := "would", desc := "(III)I" } : Jvm.MethodName)) ∈ lw_all := lw_g (lw_at lw_m6 107 rfl) rfl
theorem q1392 : (Jvm.Cond.code ({ cls := "HouseClaps", name := "would", desc := "(III)I" } : Jvm.MethodName) prog_1_method_25_code (5 : Nat) (Option.some Jvm.ClassFile.FieldType.int)) ∈ lw_all := lw_g (lw_at lw_m6 108 rfl) rfl
theorem q1393 : (Jvm.Cond.methodLink "HouseClaps" (237 : Nat) ({ cls := "HouseClaps$Night", name := "asked", desc := "()LHouseClaps$Night;" } : Jvm.MethodName)) ∈ lw_all := lw_g (lw_at lw_m6 109 rfl) rfl
theorem q1397 : (Jvm.Cond.methodLink "HouseClaps" (239 : Nat) ({ cls := "HouseClaps$Cond", name := "holds", desc := "(LHouseClaps$Night;I)Z" } : Jvm.MethodName)) ∈ lw_all := lw_g (lw_at lw_m6 113 rfl) rfl
theorem q1399 : (Jvm.Cond.instanceMethod ({ cls := "HouseClaps", name := "stands", desc := "(I)I" } : Jvm.MethodName)) ∈ lw_all := lw_g (lw_at lw_m6 115 rfl) rfl
theorem q1400 : (Jvm.Cond.selects "HouseClaps" ({ cls := "HouseClaps", name := "stands", desc := "(I)I" } : Jvm.MethodName) ({ cls := "HouseClaps", name := "stands", desc := "(I)I" } : Jvm.MethodName)) ∈ lw_all := lw_g (lw_at lw_m6 116 rfl) rfl
theorem q1401 : (Jvm.Cond.code ({ cls := "HouseClaps", name := "stands", desc := "(I)I" } : Jvm.MethodName) prog_1_method_26_code (3 : Nat) (Option.some Jvm.ClassFile.FieldType.int)) ∈ lw_all := lw_g (lw_at lw_m6 117 rfl) rfl
theorem q1402 : (Jvm.Cond.methodLink "HouseClaps" (248 : Nat) ({ cls := "HouseClaps$Night", name := "step", desc := "()V" } : Jvm.MethodName)) ∈ lw_all := lw_g (lw_at lw_m6 118 rfl) rfl
theorem q1404 : (Jvm.Cond.instanceMethod ({ cls := "HouseClaps", name := "anyway", desc := "(I)I" } : Jvm.MethodName)) ∈ lw_all := lw_g (lw_at lw_m6 120 rfl) rfl
theorem q1405 : (Jvm.Cond.selects "HouseClaps" ({ cls := "HouseClaps", name := "anyway", desc := "(I)I" } : Jvm.MethodName) ({ cls := "HouseClaps", name := "anyway", desc := "(I)I" } : Jvm.MethodName)) ∈ lw_all := lw_g (lw_at lw_m6 121 rfl) rfl
theorem q1406 : (Jvm.Cond.code ({ cls := "HouseClaps", name := "anyway", desc := "(I)I" } : Jvm.MethodName) prog_1_method_27_code (2 : Nat) (Option.some Jvm.ClassFile.FieldType.int)) ∈ lw_all := lw_g (lw_at lw_m6 122 rfl) rfl
theorem q1408 : (Jvm.Cond.instanceMethod ({ cls := "HouseClaps", name := "up", desc := "()I" } : Jvm.MethodName)) ∈ lw_all := lw_g (lw_at lw_m6 124 rfl) rfl
theorem q1409 : (Jvm.Cond.selects "HouseClaps" ({ cls := "HouseClaps", name := "up", desc := "()I" } : Jvm.MethodName) ({ cls := "HouseClaps", name := "up", desc := "()I" } : Jvm.MethodName)) ∈ lw_all := lw_g (lw_at lw_m6 125 rfl) rfl
theorem q1410 : (Jvm.Cond.code ({ cls := "HouseClaps", name := "up", desc := "()I" } : Jvm.MethodName) prog_1_method_28_code (2 : Nat) (Option.some Jvm.ClassFile.FieldType.int)) ∈ lw_all := lw_g (lw_at lw_m6 126 rfl) rfl
theorem q1411 : (Jvm.Cond.methodLink "HouseClaps" (251 : Nat) ({ cls := "HouseClaps$Night", name := "isUp", desc := "()Z" } : Jvm.MethodName)) ∈ lw_all := lw_g (lw_at lw_m6 127 rfl) rfl
theorem q1417 : (Jvm.Cond.instanceMethod ({ cls := "HouseClaps", name := "calls", desc := "(I)I" } : Jvm.MethodName)) ∈ lw_all := lw_g (lw_at lw_m6 133 rfl) rfl
theorem q1418 : (Jvm.Cond.selects "HouseClaps" ({ cls := "HouseClaps", name := "calls", desc := "(I)I" } : Jvm.MethodName) ({ cls := "HouseClaps", name := "calls", desc := "(I)I" } : Jvm.MethodName)) ∈ lw_all := lw_g (lw_at lw_m6 134 rfl) rfl
theorem q1419 : (Jvm.Cond.code ({ cls := "HouseClaps", name := "calls", desc := "(I)I" } : Jvm.MethodName) prog_1_method_29_code (5 : Nat) (Option.some Jvm.ClassFile.FieldType.int)) ∈ lw_all := lw_g (lw_at lw_m6 135 rfl) rfl
theorem q1421 : (Jvm.Cond.instanceMethod ({ cls := "HouseClaps", name := "again", desc := "(I)I" } : Jvm.MethodName)) ∈ lw_all := lw_g (lw_at lw_m6 137 rfl) rfl
theorem q1422 : (Jvm.Cond.selects "HouseClaps" ({ cls := "HouseClaps", name := "again", desc := "(I)I" } : Jvm.MethodName) ({ cls := "HouseClaps", name := "again", desc := "(I)I" } : Jvm.MethodName)) ∈ lw_all := lw_g (lw_at lw_m6 138 rfl) rfl
theorem q1423 : (Jvm.Cond.code ({ cls := "HouseClaps", name := "again", desc := "(I)I" } : Jvm.MethodName) prog_1_method_32_code (5 : Nat) (Option.some Jvm.ClassFile.FieldType.int)) ∈ lw_all := lw_g (lw_at lw_m6 139 rfl) rfl
theorem q1424 : (Jvm.Cond.methodLink "HouseClaps" (266 : Nat) ({ cls := "HouseClaps$Night", name := "pack", desc := "([J)V" } : Jvm.MethodName)) ∈ lw_all := lw_g (lw_at lw_m6 140 rfl) rfl
theorem q1428 : (Jvm.Cond.methodLink "HouseClaps" (270 : Nat) ({ cls := "HouseClaps", name := "quiet", desc := "()I" } : Jvm.MethodName)) ∈ lw_all := lw_g (lw_at lw_m6 144 rfl) rfl
theorem q1429 : (Jvm.Cond.privateMethod ({ cls := "HouseClaps", name := "quiet", desc := "()I" } : Jvm.MethodName)) ∈ lw_tbl := lw_at lw_m6 145 rfl
theorem q1430 : (Jvm.Cond.instanceMethod ({ cls := "HouseClaps", name := "quiet", desc := "()I" } : Jvm.MethodName)) ∈ lw_all := lw_g (lw_at lw_m6 146 rfl) rfl
theorem q1431 : (Jvm.Cond.code ({ cls := "HouseClaps", name := "quiet", desc := "()I" } : Jvm.MethodName) prog_1_method_31_code (4 : Nat) (Option.some Jvm.ClassFile.FieldType.int)) ∈ lw_all := lw_g (lw_at lw_m6 147 rfl) rfl
theorem q1432 : (Jvm.Cond.methodLink "HouseClaps" (258 : Nat) ({ cls := "java/lang/Math", name := "max", desc := "(II)I" } : Jvm.MethodName)) ∈ lw_all := lw_g (lw_at lw_m6 148 rfl) rfl
theorem q1433 : (Jvm.Cond.methodLink "HouseClaps" (186 : Nat) ({ cls := "java/util/ArrayList", name := "get", desc := "(I)Ljava/lang/Object;" } : Jvm.MethodName)) ∈ lw_all := lw_g (lw_at lw_m6 149 rfl) rfl
theorem q1434 : (Jvm.Cond.classLink "HouseClaps" (190 : Nat) "HouseClaps$Cue") ∈ lw_all := lw_g (lw_at lw_m6 150 rfl) rfl
theorem q1435 : (Jvm.Cond.methodLink "HouseClaps" (195 : Nat) ({ cls := "HouseClaps$Cue", name := "what", desc := "()I" } : Jvm.MethodName)) ∈ lw_all := lw_g (lw_at lw_m6 151 rfl) rfl
theorem q1450 : (Jvm.Cond.methodLink "HouseClaps" (273 : Nat) ({ cls := "HouseClaps", name := "areLike", desc := "(II)Z" } : Jvm.MethodName)) ∈ lw_all := lw_g (lw_at lw_m6 166 rfl) rfl
theorem q1451 : (Jvm.Cond.privateMethod ({ cls := "HouseClaps", name := "areLike", desc := "(II)Z" } : Jvm.MethodName)) ∈ lw_tbl := lw_at lw_m6 167 rfl
theorem q1452 : (Jvm.Cond.instanceMethod ({ cls := "HouseClaps", name := "areLike", desc := "(II)Z" } : Jvm.MethodName)) ∈ lw_all := lw_g (lw_at lw_m6 168 rfl) rfl
theorem q1453 : (Jvm.Cond.code ({ cls := "HouseClaps", name := "areLike", desc := "(II)Z" } : Jvm.MethodName) prog_1_method_30_code (4 : Nat) (Option.some Jvm.ClassFile.FieldType.boolean)) ∈ lw_all := lw_g (lw_at lw_m6 169 rfl) rfl
theorem q1455 : (Jvm.Cond.instanceMethod ({ cls := "HouseClaps", name := "carries", desc := "(I)I" } : Jvm.MethodName)) ∈ lw_all := lw_g (lw_at lw_m6 171 rfl) rfl
theorem q1456 : (Jvm.Cond.selects "HouseClaps" ({ cls := "HouseClaps", name := "carries", desc := "(I)I" } : Jvm.MethodName) ({ cls := "HouseClaps", name := "carries", desc := "(I)I" } : Jvm.MethodName)) ∈ lw_all := lw_g (lw_at lw_m6 172 rfl) rfl
theorem q1457 : (Jvm.Cond.code ({ cls := "HouseClaps", name := "carries", desc := "(I)I" } : Jvm.MethodName) prog_1_method_35_code (3 : Nat) (Option.some Jvm.ClassFile.FieldType.int)) ∈ lw_all := lw_g (lw_at lw_m6 173 rfl) rfl
theorem q1458 : (Jvm.Cond.methodLink "HouseClaps" (280 : Nat) ({ cls := "HouseClaps", name := "heightOf", desc := "(LHouseClaps$House;JJ)I" } : Jvm.MethodName)) ∈ lw_all := lw_g (lw_at lw_m6 174 rfl) rfl
theorem q1459 : (Jvm.Cond.privateMethod ({ cls := "HouseClaps", name := "heightOf", desc := "(LHouseClaps$House;JJ)I" } : Jvm.MethodName)) ∈ lw_tbl := lw_at lw_m6 175 rfl
theorem q1460 : (Jvm.Cond.instanceMethod ({ cls := "HouseClaps", name := "heightOf", desc := "(LHouseClaps$House;JJ)I" } : Jvm.MethodName)) ∈ lw_all := lw_g (lw_at lw_m6 176 rfl) rfl
theorem q1461 : (Jvm.Cond.code ({ cls := "HouseClaps", name := "heightOf", desc := "(LHouseClaps$House;JJ)I" } : Jvm.MethodName) prog_1_method_33_code (6 : Nat) (Option.some Jvm.ClassFile.FieldType.int)) ∈ lw_all := lw_g (lw_at lw_m6 177 rfl) rfl
theorem q1462 : (Jvm.Cond.methodLink "HouseClaps" (277 : Nat) ({ cls := "HouseClaps$Night", name := "height", desc := "()I" } : Jvm.MethodName)) ∈ lw_all := lw_g (lw_at lw_m6 178 rfl) rfl
theorem q1467 : (Jvm.Cond.instanceMethod ({ cls := "HouseClaps", name := "cheapest", desc := "()I" } : Jvm.MethodName)) ∈ lw_all := lw_g (lw_at lw_m6 183 rfl) rfl
theorem q1468 : (Jvm.Cond.selects "HouseClaps" ({ cls := "HouseClaps", name := "cheapest", desc := "()I" } : Jvm.MethodName) ({ cls := "HouseClaps", name := "cheapest", desc := "()I" } : Jvm.MethodName)) ∈ lw_all := lw_g (lw_at lw_m6 184 rfl) rfl
theorem q1469 : (Jvm.Cond.code ({ cls := "HouseClaps", name := "cheapest", desc := "()I" } : Jvm.MethodName) prog_1_method_39_code (6 : Nat) (Option.some Jvm.ClassFile.FieldType.int)) ∈ lw_all := lw_g (lw_at lw_m6 185 rfl) rfl
theorem q1470 : (Jvm.Cond.methodLink "HouseClaps" (292 : Nat) ({ cls := "HouseClaps", name := "takesSeats", desc := "(II[IJ)I" } : Jvm.MethodName)) ∈ lw_all := lw_g (lw_at lw_m6 186 rfl) rfl
theorem q1471 : (Jvm.Cond.privateMethod ({ cls := "HouseClaps", name := "takesSeats", desc := "(II[IJ)I" } : Jvm.MethodName)) ∈ lw_tbl := lw_at lw_m6 187 rfl
theorem q1472 : (Jvm.Cond.instanceMethod ({ cls := "HouseClaps", name := "takesSeats", desc := "(II[IJ)I" } : Jvm.MethodName)) ∈ lw_all := lw_g (lw_at lw_m6 188 rfl) rfl
theorem q1473 : (Jvm.Cond.code ({ cls := "HouseClaps", name := "takesSeats", desc := "(II[IJ)I" } : Jvm.MethodName) prog_1_method_36_code (10 : Nat) (Option.some Jvm.ClassFile.FieldType.int)) ∈ lw_all := lw_g (lw_at lw_m6 189 rfl) rfl
theorem q1474 : (Jvm.Cond.methodLink "HouseClaps" (287 : Nat) ({ cls := "HouseClaps", name := "byteAt", desc := "(I)I" } : Jvm.MethodName)) ∈ lw_all := lw_g (lw_at lw_m6 190 rfl) rfl
theorem q1475 : (Jvm.Cond.privateMethod ({ cls := "HouseClaps", name := "byteAt", desc := "(I)I" } : Jvm.MethodName)) ∈ lw_tbl := lw_at lw_m6 191 rfl
theorem q1476 : (Jvm.Cond.instanceMethod ({ cls := "HouseClaps", name := "byteAt", desc := "(I)I" } : Jvm.MethodName)) ∈ lw_all := lw_g (lw_at lw_m6 192 rfl) rfl
theorem q1477 : (Jvm.Cond.code ({ cls := "HouseClaps", name := "byteAt", desc := "(I)I" } : Jvm.MethodName) prog_1_method_10_code (2 : Nat) (Option.some Jvm.ClassFile.FieldType.int)) ∈ lw_all := lw_g (lw_at lw_m6 193 rfl) rfl
theorem q1478 : (Jvm.Cond.methodLink "HouseClaps" (155 : Nat) ({ cls := "HouseClaps", name := "has", desc := "(JI)Z" } : Jvm.MethodName)) ∈ lw_all := lw_g (lw_at lw_m6 194 rfl) rfl
theorem q1479 : (Jvm.Cond.methodLink "HouseClaps" (296 : Nat) ({ cls := "HouseClaps", name := "priceOf", desc := "(I)I" } : Jvm.MethodName)) ∈ lw_all := lw_g (lw_at lw_m6 195 rfl) rfl
theorem q1480 : (Jvm.Cond.privateMethod ({ cls := "HouseClaps", name := "priceOf", desc := "(I)I" } : Jvm.MethodName)) ∈ lw_tbl := lw_at lw_m6 196 rfl
theorem q1481 : (Jvm.Cond.instanceMethod ({ cls := "HouseClaps", name := "priceOf", desc := "(I)I" } : Jvm.MethodName)) ∈ lw_all := lw_g (lw_at lw_m6 197 rfl) rfl
theorem q1482 : (Jvm.Cond.code ({ cls := "HouseClaps", name := "priceOf", desc := "(I)I" } : Jvm.MethodName) prog_1_method_38_code (4 : Nat) (Option.some Jvm.ClassFile.FieldType.int)) ∈ lw_all := lw_g (lw_at lw_m6 198 rfl) rfl
theorem q1483 : (Jvm.Cond.methodLink "HouseClaps" (290 : Nat) ({ cls := "HouseClaps", name := "has", desc := "(II)Z" } : Jvm.MethodName)) ∈ lw_all := lw_g (lw_at lw_m6 199 rfl) rfl
theorem q1484 : (Jvm.Cond.methodLink "HouseClaps" (148 : Nat) ({ cls := "HouseClaps$House", name := "row", desc := "(I)I" } : Jvm.MethodName)) ∈ lw_all := lw_g (lw_at lw_m6 200 rfl) rfl
theorem q1485 : (Jvm.Cond.methodLink "HouseClaps" (299 : Nat) ({ cls := "java/lang/Integer", name := "bitCount", desc := "(I)I" } : Jvm.MethodName)) ∈ lw_all := lw_g (lw_at lw_m6 201 rfl) rfl
theorem q1491 : (Jvm.Cond.methodLink "HouseClaps" (303 : Nat) ({ cls := "HouseClaps", name := "handsOf", desc := "(I)J" } : Jvm.MethodName)) ∈ lw_all := lw_g (lw_at lw_m6 207 rfl) rfl
theorem q1492 : (Jvm.Cond.privateMethod ({ cls := "HouseClaps", name := "handsOf", desc := "(I)J" } : Jvm.MethodName)) ∈ lw_tbl := lw_at lw_m6 208 rfl
theorem q1493 : (Jvm.Cond.instanceMethod ({ cls := "HouseClaps", name := "handsOf", desc := "(I)J" } : Jvm.MethodName)) ∈ lw_all := lw_g (lw_at lw_m6 209 rfl) rfl
theorem q1494 : (Jvm.Cond.code ({ cls := "HouseClaps", name := "handsOf", desc := "(I)J" } : Jvm.MethodName) prog_1_method_37_code (5 : Nat) (Option.some Jvm.ClassFile.FieldType.long)) ∈ lw_all := lw_g (lw_at lw_m6 210 rfl) rfl
theorem q1495 : (Jvm.Cond.methodLink "HouseClaps" (307 : Nat) ({ cls := "HouseClaps", name := "isCarried", desc := "(LHouseClaps$House;J)Z" } : Jvm.MethodName)) ∈ lw_all := lw_g (lw_at lw_m6 211 rfl) rfl
theorem q1496 : (Jvm.Cond.privateMethod ({ cls := "HouseClaps", name := "isCarried", desc := "(LHouseClaps$House;J)Z" } : Jvm.MethodName)) ∈ lw_tbl := lw_at lw_m6 212 rfl
theorem q1497 : (Jvm.Cond.instanceMethod ({ cls := "HouseClaps", name := "isCarried", desc := "(LHouseClaps$House;J)Z" } : Jvm.MethodName)) ∈ lw_all := lw_g (lw_at lw_m6 213 rfl) rfl
theorem q1498 : (Jvm.Cond.code ({ cls := "HouseClaps", name := "isCarried", desc := "(LHouseClaps$House;J)Z" } : Jvm.MethodName) prog_1_method_34_code (4 : Nat) (Option.some Jvm.ClassFile.FieldType.boolean)) ∈ lw_all := lw_g (lw_at lw_m6 214 rfl) rfl
theorem q1500 : (Jvm.Cond.instanceMethod ({ cls := "HouseClaps", name := "bought", desc := "()I" } : Jvm.MethodName)) ∈ lw_all := lw_g (lw_at lw_m6 216 rfl) rfl
theorem q1501 : (Jvm.Cond.selects "HouseClaps" ({ cls := "HouseClaps", name := "bought", desc := "()I" } : Jvm.MethodName) ({ cls := "HouseClaps", name := "bought", desc := "()I" } : Jvm.MethodName)) ∈ lw_all := lw_g (lw_at lw_m6 217 rfl) rfl
theorem q1502 : (Jvm.Cond.code ({ cls := "HouseClaps", name := "bought", desc := "()I" } : Jvm.MethodName) prog_1_method_40_code (1 : Nat) (Option.some Jvm.ClassFile.FieldType.int)) ∈ lw_all := lw_g (lw_at lw_m6 218 rfl) rfl
theorem q1504 : (Jvm.Cond.instanceMethod ({ cls := "HouseClaps", name := "hush", desc := "()I" } : Jvm.MethodName)) ∈ lw_all := lw_g (lw_at lw_m6 220 rfl) rfl
theorem q1505 : (Jvm.Cond.selects "HouseClaps" ({ cls := "HouseClaps", name := "hush", desc := "()I" } : Jvm.MethodName) ({ cls := "HouseClaps", name := "hush", desc := "()I" } : Jvm.MethodName)) ∈ lw_all := lw_g (lw_at lw_m6 221 rfl) rfl
theorem q1506 : (Jvm.Cond.code ({ cls := "HouseClaps", name := "hush", desc := "()I" } : Jvm.MethodName) prog_1_method_41_code (4 : Nat) (Option.some Jvm.ClassFile.FieldType.int)) ∈ lw_all := lw_g (lw_at lw_m6 222 rfl) rfl
theorem q1508 : (Jvm.Cond.instanceMethod ({ cls := "HouseClaps", name := "coalitions", desc := "(I)I" } : Jvm.MethodName)) ∈ lw_all := lw_g (lw_at lw_m6 224 rfl) rfl
theorem q1509 : (Jvm.Cond.selects "HouseClaps" ({ cls := "HouseClaps", name := "coalitions", desc := "(I)I" } : Jvm.MethodName) ({ cls := "HouseClaps", name := "coalitions", desc := "(I)I" } : Jvm.MethodName)) ∈ lw_all := lw_g (lw_at lw_m6 225 rfl) rfl
theorem q1510 : (Jvm.Cond.code ({ cls := "HouseClaps", name := "coalitions", desc := "(I)I" } : Jvm.MethodName) prog_1_method_43_code (5 : Nat) (Option.some Jvm.ClassFile.FieldType.int)) ∈ lw_all := lw_g (lw_at lw_m6 226 rfl) rfl
theorem q1511 : (Jvm.Cond.methodLink "HouseClaps" (311 : Nat) ({ cls := "HouseClaps", name := "isBare", desc := "(I)Z" } : Jvm.MethodName)) ∈ lw_all := lw_g (lw_at lw_m6 227 rfl) rfl
theorem q1512 : (Jvm.Cond.privateMethod ({ cls := "HouseClaps", name := "isBare", desc := "(I)Z" } : Jvm.MethodName)) ∈ lw_tbl := lw_at lw_m6 228 rfl
theorem q1513 : (Jvm.Cond.instanceMethod ({ cls := "HouseClaps", name := "isBare", desc := "(I)Z" } : Jvm.MethodName)) ∈ lw_all := lw_g (lw_at lw_m6 229 rfl) rfl
theorem q1514 : (Jvm.Cond.code ({ cls := "HouseClaps", name := "isBare", desc := "(I)Z" } : Jvm.MethodName) prog_1_method_42_code (3 : Nat) (Option.some Jvm.ClassFile.FieldType.boolean)) ∈ lw_all := lw_g (lw_at lw_m6 230 rfl) rfl
theorem q1516 : (Jvm.Cond.instanceMethod ({ cls := "HouseClaps", name := "worth", desc := "()I" } : Jvm.MethodName)) ∈ lw_all := lw_g (lw_at lw_m6 232 rfl) rfl
theorem q1517 : (Jvm.Cond.selects "HouseClaps" ({ cls := "HouseClaps", name := "worth", desc := "()I" } : Jvm.MethodName) ({ cls := "HouseClaps", name := "worth", desc := "()I" } : Jvm.MethodName)) ∈ lw_all := lw_g (lw_at lw_m6 233 rfl) rfl
theorem q1518 : (Jvm.Cond.code ({ cls := "HouseClaps", name := "worth", desc := "()I" } : Jvm.MethodName) prog_1_method_45_code (5 : Nat) (Option.some Jvm.ClassFile.FieldType.int)) ∈ lw_all := lw_g (lw_at lw_m6 234 rfl) rfl
theorem q1519 : (Jvm.Cond.methodLink "HouseClaps" (317 : Nat) ({ cls := "HouseClaps", name := "factorial", desc := "(I)J" } : Jvm.MethodName)) ∈ lw_all := lw_g (lw_at lw_m6 235 rfl) rfl
theorem q1520 : (Jvm.Cond.static ({ cls := "HouseClaps", name := "factorial", desc := "(I)J" } : Jvm.MethodName)) ∈ lw_all := lw_g (lw_at lw_m6 236 rfl) rfl
theorem q1521 : (Jvm.Cond.code ({ cls := "HouseClaps", name := "factorial", desc := "(I)J" } : Jvm.MethodName) prog_1_method_44_code (4 : Nat) (Option.some Jvm.ClassFile.FieldType.long)) ∈ lw_all := lw_g (lw_at lw_m6 237 rfl) rfl
theorem q1523 : (Jvm.Cond.instanceMethod ({ cls := "HouseClaps", name := "sides", desc := "()I" } : Jvm.MethodName)) ∈ lw_all := lw_g (lw_at lw_m6 239 rfl) rfl
theorem q1524 : (Jvm.Cond.selects "HouseClaps" ({ cls := "HouseClaps", name := "sides", desc := "()I" } : Jvm.MethodName) ({ cls := "HouseClaps", name := "sides", desc := "()I" } : Jvm.MethodName)) ∈ lw_all := lw_g (lw_at lw_m7 0 rfl) rfl
theorem q1525 : (Jvm.Cond.code ({ cls := "HouseClaps", name := "sides", desc := "()I" } : Jvm.MethodName) prog_1_method_47_code (8 : Nat) (Option.some Jvm.ClassFile.FieldType.int)) ∈ lw_all := lw_g (lw_at lw_m7 1 rfl) rfl
theorem q1526 : (Jvm.Cond.methodLink "HouseClaps" (324 : Nat) ({ cls := "java/lang/Math", name := "min", desc := "(II)I" } : Jvm.MethodName)) ∈ lw_all := lw_g (lw_at lw_m7 2 rfl) rfl
theorem q1528 : (Jvm.Cond.instanceMethod ({ cls := "HouseClaps", name := "side", desc := "(I)I" } : Jvm.MethodName)) ∈ lw_all := lw_g (lw_at lw_m7 4 rfl) rfl
theorem q1529 : (Jvm.Cond.selects "HouseClaps" ({ cls := "HouseClaps", name := "side", desc := "(I)I" } : Jvm.MethodName) ({ cls := "HouseClaps", name := "side", desc := "(I)I" } : Jvm.MethodName)) ∈ lw_all := lw_g (lw_at lw_m7 5 rfl) rfl
theorem q1530 : (Jvm.Cond.code ({ cls := "HouseClaps", name := "side", desc := "(I)I" } : Jvm.MethodName) prog_1_method_48_code (2 : Nat) (Option.some Jvm.ClassFile.FieldType.int)) ∈ lw_all := lw_g (lw_at lw_m7 6 rfl) rfl
theorem q1532 : (Jvm.Cond.instanceMethod ({ cls := "HouseClaps", name := "began", desc := "(I)I" } : Jvm.MethodName)) ∈ lw_all := lw_g (lw_at lw_m7 8 rfl) rfl
theorem q1533 : (Jvm.Cond.selects "HouseClaps" ({ cls := "HouseClaps", name := "began", desc := "(I)I" } : Jvm.MethodName) ({ cls := "HouseClaps", name := "began", desc := "(I)I" } : Jvm.MethodName)) ∈ lw_all := lw_g (lw_at lw_m7 9 rfl) rfl
theorem q1534 : (Jvm.Cond.code ({ cls := "HouseClaps", name := "began", desc := "(I)I" } : Jvm.MethodName) prog_1_method_50_code (6 : Nat) (Option.some Jvm.ClassFile.FieldType.int)) ∈ lw_all := lw_g (lw_at lw_m7 10 rfl) rfl
theorem q1535 : (Jvm.Cond.methodLink "HouseClaps" (327 : Nat) ({ cls := "HouseClaps$House", name := "size", desc := "()I" } : Jvm.MethodName)) ∈ lw_all := lw_g (lw_at lw_m7 11 rfl) rfl
theorem q1536 : (Jvm.Cond.methodLink "HouseClaps" (328 : Nat) ({ cls := "HouseClaps$House", name := "seats", desc := "()I" } : Jvm.MethodName)) ∈ lw_all := lw_g (lw_at lw_m7 12 rfl) rfl
theorem q1537 : (Jvm.Cond.methodLink "HouseClaps" (331 : Nat) ({ cls := "HouseClaps", name := "isLikeSketch", desc := "(LHouseClaps$Night;)Z" } : Jvm.MethodName)) ∈ lw_all := lw_g (lw_at lw_m7 13 rfl) rfl
theorem q1538 : (Jvm.Cond.privateMethod ({ cls := "HouseClaps", name := "isLikeSketch", desc := "(LHouseClaps$Night;)Z" } : Jvm.MethodName)) ∈ lw_tbl := lw_at lw_m7 14 rfl
theorem q1539 : (Jvm.Cond.instanceMethod ({ cls := "HouseClaps", name := "isLikeSketch", desc := "(LHouseClaps$Night;)Z" } : Jvm.MethodName)) ∈ lw_all := lw_g (lw_at lw_m7 15 rfl) rfl
theorem q1540 : (Jvm.Cond.code ({ cls := "HouseClaps", name := "isLikeSketch", desc := "(LHouseClaps$Night;)Z" } : Jvm.MethodName) prog_1_method_49_code (3 : Nat) (Option.some Jvm.ClassFile.FieldType.boolean)) ∈ lw_all := lw_g (lw_at lw_m7 16 rfl) rfl
theorem q1542 : (Jvm.Cond.instanceMethod ({ cls := "HouseClaps", name := "beganAt", desc := "(I)I" } : Jvm.MethodName)) ∈ lw_all := lw_g (lw_at lw_m7 18 rfl) rfl
theorem q1543 : (Jvm.Cond.selects "HouseClaps" ({ cls := "HouseClaps", name := "beganAt", desc := "(I)I" } : Jvm.MethodName) ({ cls := "HouseClaps", name := "beganAt", desc := "(I)I" } : Jvm.MethodName)) ∈ lw_all := lw_g (lw_at lw_m7 19 rfl) rfl
theorem q1544 : (Jvm.Cond.code ({ cls := "HouseClaps", name := "beganAt", desc := "(I)I" } : Jvm.MethodName) prog_1_method_51_code (2 : Nat) (Option.some Jvm.ClassFile.FieldType.int)) ∈ lw_all := lw_g (lw_at lw_m7 20 rfl) rfl
theorem q1546 : (Jvm.Cond.instanceMethod ({ cls := "HouseClaps", name := "parts", desc := "(II)I" } : Jvm.MethodName)) ∈ lw_all := lw_g (lw_at lw_m7 22 rfl) rfl
theorem q1547 : (Jvm.Cond.selects "HouseClaps" ({ cls := "HouseClaps", name := "parts", desc := "(II)I" } : Jvm.MethodName) ({ cls := "HouseClaps", name := "parts", desc := "(II)I" } : Jvm.MethodName)) ∈ lw_all := lw_g (lw_at lw_m7 23 rfl) rfl
theorem q1548 : (Jvm.Cond.code ({ cls := "HouseClaps", name := "parts", desc := "(II)I" } : Jvm.MethodName) prog_1_method_52_code (6 : Nat) (Option.some Jvm.ClassFile.FieldType.int)) ∈ lw_all := lw_g (lw_at lw_m7 24 rfl) rfl
theorem q1550 : (Jvm.Cond.instanceMethod ({ cls := "HouseClaps", name := "exchanged", desc := "()I" } : Jvm.MethodName)) ∈ lw_all := lw_g (lw_at lw_m7 26 rfl) rfl
theorem q1551 : (Jvm.Cond.selects "HouseClaps" ({ cls := "HouseClaps", name := "exchanged", desc := "()I" } : Jvm.MethodName) ({ cls := "HouseClaps", name := "exchanged", desc := "()I" } : Jvm.MethodName)) ∈ lw_all := lw_g (lw_at lw_m7 27 rfl) rfl
theorem q1552 : (Jvm.Cond.code ({ cls := "HouseClaps", name := "exchanged", desc := "()I" } : Jvm.MethodName) prog_1_method_53_code (4 : Nat) (Option.some Jvm.ClassFile.FieldType.int)) ∈ lw_all := lw_g (lw_at lw_m7 28 rfl) rfl
theorem q1553 : (Jvm.Cond.methodLink "HouseClaps" (335 : Nat) ({ cls := "HouseClaps$House", name := "exchanged", desc := "(II)LHouseClaps$House;" } : Jvm.MethodName)) ∈ lw_all := lw_g (lw_at lw_m7 29 rfl) rfl
theorem q1564 : (Jvm.Cond.methodLink "HouseClaps" (339 : Nat) ({ cls := "HouseClaps$House", name := "swap", desc := "(II)V" } : Jvm.MethodName)) ∈ lw_all := lw_g (lw_at lw_m7 40 rfl) rfl
theorem q1566 : (Jvm.Cond.instanceMethod ({ cls := "HouseClaps", name := "exchange", desc := "(II)Z" } : Jvm.MethodName)) ∈ lw_all := lw_g (lw_at lw_m7 42 rfl) rfl
theorem q1567 : (Jvm.Cond.selects "HouseClaps" ({ cls := "HouseClaps", name := "exchange", desc := "(II)Z" } : Jvm.MethodName) ({ cls := "HouseClaps", name := "exchange", desc := "(II)Z" } : Jvm.MethodName)) ∈ lw_all := lw_g (lw_at lw_m7 43 rfl) rfl
theorem q1568 : (Jvm.Cond.code ({ cls := "HouseClaps", name := "exchange", desc := "(II)Z" } : Jvm.MethodName) prog_1_method_54_code (3 : Nat) (Option.some Jvm.ClassFile.FieldType.boolean)) ∈ lw_all := lw_g (lw_at lw_m7 44 rfl) rfl
theorem q1570 : (Jvm.Cond.instanceMethod ({ cls := "HouseClaps", name := "starts", desc := "(I)I" } : Jvm.MethodName)) ∈ lw_all := lw_g (lw_at lw_m7 46 rfl) rfl
theorem q1571 : (Jvm.Cond.selects "HouseClaps" ({ cls := "HouseClaps", name := "starts", desc := "(I)I" } : Jvm.MethodName) ({ cls := "HouseClaps", name := "starts", desc := "(I)I" } : Jvm.MethodName)) ∈ lw_all := lw_g (lw_at lw_m7 47 rfl) rfl
theorem q1572 : (Jvm.Cond.code ({ cls := "HouseClaps", name := "starts", desc := "(I)I" } : Jvm.MethodName) prog_1_method_55_code (2 : Nat) (Option.some Jvm.ClassFile.FieldType.int)) ∈ lw_all := lw_g (lw_at lw_m7 48 rfl) rfl
theorem q1574 : (Jvm.Cond.instanceMethod ({ cls := "HouseClaps", name := "leader", desc := "(I)I" } : Jvm.MethodName)) ∈ lw_all := lw_g (lw_at lw_m7 50 rfl) rfl
theorem q1575 : (Jvm.Cond.selects "HouseClaps" ({ cls := "HouseClaps", name := "leader", desc := "(I)I" } : Jvm.MethodName) ({ cls := "HouseClaps", name := "leader", desc := "(I)I" } : Jvm.MethodName)) ∈ lw_all := lw_g (lw_at lw_m7 51 rfl) rfl
theorem q1576 : (Jvm.Cond.code ({ cls := "HouseClaps", name := "leader", desc := "(I)I" } : Jvm.MethodName) prog_1_method_56_code (6 : Nat) (Option.some Jvm.ClassFile.FieldType.int)) ∈ lw_all := lw_g (lw_at lw_m7 52 rfl) rfl
theorem q1577 : (Jvm.Cond.methodLink "HouseClaps" (343 : Nat) ({ cls := "HouseClaps", name := "starts", desc := "(I)I" } : Jvm.MethodName)) ∈ lw_all := lw_g (lw_at lw_m7 53 rfl) rfl
theorem q1579 : (Jvm.Cond.instanceMethod ({ cls := "HouseClaps", name := "drawn", desc := "(II)Z" } : Jvm.MethodName)) ∈ lw_all := lw_g (lw_at lw_m7 55 rfl) rfl
theorem q1580 : (Jvm.Cond.selects "HouseClaps" ({ cls := "HouseClaps", name := "drawn", desc := "(II)Z" } : Jvm.MethodName) ({ cls := "HouseClaps", name := "drawn", desc := "(II)Z" } : Jvm.MethodName)) ∈ lw_all := lw_g (lw_at lw_m7 56 rfl) rfl
theorem q1581 : (Jvm.Cond.code ({ cls := "HouseClaps", name := "drawn", desc := "(II)Z" } : Jvm.MethodName) prog_1_method_58_code (7 : Nat) (Option.some Jvm.ClassFile.FieldType.boolean)) ∈ lw_all := lw_g (lw_at lw_m7 57 rfl) rfl
theorem q1582 : (Jvm.Cond.methodLink "HouseClaps" (350 : Nat) ({ cls := "HouseClaps", name := "draw", desc := "(I)I" } : Jvm.MethodName)) ∈ lw_all := lw_g (lw_at lw_m7 58 rfl) rfl
theorem q1583 : (Jvm.Cond.privateMethod ({ cls := "HouseClaps", name := "draw", desc := "(I)I" } : Jvm.MethodName)) ∈ lw_tbl := lw_at lw_m7 59 rfl
theorem q1584 : (Jvm.Cond.instanceMethod ({ cls := "HouseClaps", name := "draw", desc := "(I)I" } : Jvm.MethodName)) ∈ lw_all := lw_g (lw_at lw_m7 60 rfl) rfl
theorem q1585 : (Jvm.Cond.code ({ cls := "HouseClaps", name := "draw", desc := "(I)I" } : Jvm.MethodName) prog_1_method_57_code (2 : Nat) (Option.some Jvm.ClassFile.FieldType.int)) ∈ lw_all := lw_g (lw_at lw_m7 61 rfl) rfl
theorem q1586 : (Jvm.Cond.constant "HouseClaps" (349 : Nat) (1103515245 : Int32)) ∈ lw_all := lw_g (lw_at lw_m7 62 rfl) rfl
theorem q1588 : (Jvm.Cond.instanceMethod ({ cls := "HouseClaps", name := "arrange", desc := "()I" } : Jvm.MethodName)) ∈ lw_all := lw_g (lw_at lw_m7 64 rfl) rfl
theorem q1589 : (Jvm.Cond.selects "HouseClaps" ({ cls := "HouseClaps", name := "arrange", desc := "()I" } : Jvm.MethodName) ({ cls := "HouseClaps", name := "arrange", desc := "()I" } : Jvm.MethodName)) ∈ lw_all := lw_g (lw_at lw_m7 65 rfl) rfl
theorem q1590 : (Jvm.Cond.code ({ cls := "HouseClaps", name := "arrange", desc := "()I" } : Jvm.MethodName) prog_1_method_60_code (3 : Nat) (Option.some Jvm.ClassFile.FieldType.int)) ∈ lw_all := lw_g (lw_at lw_m7 66 rfl) rfl
theorem q1591 : (Jvm.Cond.methodLink "HouseClaps" (356 : Nat) ({ cls := "HouseClaps", name := "arrangeOnce", desc := "(I)I" } : Jvm.MethodName)) ∈ lw_all := lw_g (lw_at lw_m7 67 rfl) rfl
theorem q1592 : (Jvm.Cond.privateMethod ({ cls := "HouseClaps", name := "arrangeOnce", desc := "(I)I" } : Jvm.MethodName)) ∈ lw_tbl := lw_at lw_m7 68 rfl
theorem q1593 : (Jvm.Cond.instanceMethod ({ cls := "HouseClaps", name := "arrangeOnce", desc := "(I)I" } : Jvm.MethodName)) ∈ lw_all := lw_g (lw_at lw_m7 69 rfl) rfl
theorem q1594 : (Jvm.Cond.code ({ cls := "HouseClaps", name := "arrangeOnce", desc := "(I)I" } : Jvm.MethodName) prog_1_method_59_code (5 : Nat) (Option.some Jvm.ClassFile.FieldType.int)) ∈ lw_all := lw_g (lw_at lw_m7 70 rfl) rfl
theorem q1596 : (Jvm.Cond.instanceMethod ({ cls := "HouseClaps", name := "arranged", desc := "()I" } : Jvm.MethodName)) ∈ lw_all := lw_g (lw_at lw_m7 72 rfl) rfl
theorem q1597 : (Jvm.Cond.selects "HouseClaps" ({ cls := "HouseClaps", name := "arranged", desc := "()I" } : Jvm.MethodName) ({ cls := "HouseClaps", name := "arranged", desc := "()I" } : Jvm.MethodName)) ∈ lw_all := lw_g (lw_at lw_m7 73 rfl) rfl
theorem q1598 : (Jvm.Cond.code ({ cls := "HouseClaps", name := "arranged", desc := "()I" } : Jvm.MethodName) prog_1_method_61_code (1 : Nat) (Option.some Jvm.ClassFile.FieldType.int)) ∈ lw_all := lw_g (lw_at lw_m7 74 rfl) rfl
theorem q1600 : (Jvm.Cond.instanceMethod ({ cls := "HouseClaps", name := "image", desc := "(I)Z" } : Jvm.MethodName)) ∈ lw_all := lw_g (lw_at lw_m7 76 rfl) rfl
theorem q1601 : (Jvm.Cond.selects "HouseClaps" ({ cls := "HouseClaps", name := "image", desc := "(I)Z" } : Jvm.MethodName) ({ cls := "HouseClaps", name := "image", desc := "(I)Z" } : Jvm.MethodName)) ∈ lw_all := lw_g (lw_at lw_m7 77 rfl) rfl
theorem q1602 : (Jvm.Cond.code ({ cls := "HouseClaps", name := "image", desc := "(I)Z" } : Jvm.MethodName) prog_1_method_62_code (2 : Nat) (Option.some Jvm.ClassFile.FieldType.boolean)) ∈ lw_all := lw_g (lw_at lw_m7 78 rfl) rfl
theorem q1603 : (Jvm.Cond.methodLink "HouseClaps" (359 : Nat) ({ cls := "java/util/ArrayList", name := "add", desc := "(Ljava/lang/Object;)Z" } : Jvm.MethodName)) ∈ lw_all := lw_g (lw_at lw_m7 79 rfl) rfl
theorem q1604 : (Jvm.Cond.methodLink "HouseClaps" (363 : Nat) ({ cls := "java/util/ArrayList", name := "set", desc := "(ILjava/lang/Object;)Ljava/lang/Object;" } : Jvm.MethodName)) ∈ lw_all := lw_g (lw_at lw_m7 80 rfl) rfl
theorem q1609 : (Jvm.Cond.instanceMethod ({ cls := "HouseClaps", name := "restore", desc := "(I)Z" } : Jvm.MethodName)) ∈ lw_all := lw_g (lw_at lw_m7 85 rfl) rfl
theorem q1610 : (Jvm.Cond.selects "HouseClaps" ({ cls := "HouseClaps", name := "restore", desc := "(I)Z" } : Jvm.MethodName) ({ cls := "HouseClaps", name := "restore", desc := "(I)Z" } : Jvm.MethodName)) ∈ lw_all := lw_g (lw_at lw_m7 86 rfl) rfl
theorem q1611 : (Jvm.Cond.code ({ cls := "HouseClaps", name := "restore", desc := "(I)Z" } : Jvm.MethodName) prog_1_method_63_code (2 : Nat) (Option.some Jvm.ClassFile.FieldType.boolean)) ∈ lw_all := lw_g (lw_at lw_m7 87 rfl) rfl
theorem q1613 : (Jvm.Cond.instanceMethod ({ cls := "HouseClaps", name := "count", desc := "(I)I" } : Jvm.MethodName)) ∈ lw_all := lw_g (lw_at lw_m7 89 rfl) rfl
theorem q1614 : (Jvm.Cond.selects "HouseClaps" ({ cls := "HouseClaps", name := "count", desc := "(I)I" } : Jvm.MethodName) ({ cls := "HouseClaps", name := "count", desc := "(I)I" } : Jvm.MethodName)) ∈ lw_all := lw_g (lw_at lw_m7 90 rfl) rfl
theorem q1615 : (Jvm.Cond.code ({ cls := "HouseClaps", name := "count", desc := "(I)I" } : Jvm.MethodName) prog_1_method_64_code (2 : Nat) (Option.some Jvm.ClassFile.FieldType.int)) ∈ lw_all := lw_g (lw_at lw_m7 91 rfl) rfl
theorem q1621 : (Jvm.Cond.instanceMethod ({ cls := "HouseClaps", name := "seat", desc := "(II)I" } : Jvm.MethodName)) ∈ lw_all := lw_g (lw_at lw_m7 97 rfl) rfl
theorem q1622 : (Jvm.Cond.selects "HouseClaps" ({ cls := "HouseClaps", name := "seat", desc := "(II)I" } : Jvm.MethodName) ({ cls := "HouseClaps", name := "seat", desc := "(II)I" } : Jvm.MethodName)) ∈ lw_all := lw_g (lw_at lw_m7 98 rfl) rfl
theorem q1623 : (Jvm.Cond.code ({ cls := "HouseClaps", name := "seat", desc := "(II)I" } : Jvm.MethodName) prog_1_method_13_code (3 : Nat) (Option.some Jvm.ClassFile.FieldType.int)) ∈ lw_all := lw_g (lw_at lw_m7 99 rfl) rfl
theorem q1624 : (Jvm.Cond.methodLink "HouseClaps" (139 : Nat) ({ cls := "HouseClaps", name := "need", desc := "(Z)V" } : Jvm.MethodName)) ∈ lw_all := lw_g (lw_at lw_m7 100 rfl) rfl
theorem q1625 : (Jvm.Cond.static ({ cls := "HouseClaps", name := "need", desc := "(Z)V" } : Jvm.MethodName)) ∈ lw_all := lw_g (lw_at lw_m7 101 rfl) rfl
theorem q1626 : (Jvm.Cond.code ({ cls := "HouseClaps", name := "need", desc := "(Z)V" } : Jvm.MethodName) prog_1_method_4_code (1 : Nat) (Option.none : Option Jvm.ClassFile.FieldType)) ∈ lw_all := lw_g (lw_at lw_m7 102 rfl) rfl
theorem q1627 : (Jvm.Cond.classLink "HouseClaps" (1 : Nat) "java/util/NoSuchElementException") ∈ lw_all := lw_g (lw_at lw_m7 103 rfl) rfl
theorem q1638 : (Jvm.Cond.methodLink "HouseClaps" (3 : Nat) ({ cls := "java/util/NoSuchElementException", name := "<init>", desc := "()V" } : Jvm.MethodName)) ∈ lw_all := lw_g (lw_at lw_m7 114 rfl) rfl
theorem q1651 : (Jvm.Cond.instanceMethod ({ cls := "HouseClaps", name := "cue", desc := "(II)I" } : Jvm.MethodName)) ∈ lw_all := lw_g (lw_at lw_m7 127 rfl) rfl
theorem q1652 : (Jvm.Cond.selects "HouseClaps" ({ cls := "HouseClaps", name := "cue", desc := "(II)I" } : Jvm.MethodName) ({ cls := "HouseClaps", name := "cue", desc := "(II)I" } : Jvm.MethodName)) ∈ lw_all := lw_g (lw_at lw_m7 128 rfl) rfl
theorem q1653 : (Jvm.Cond.code ({ cls := "HouseClaps", name := "cue", desc := "(II)I" } : Jvm.MethodName) prog_1_method_19_code (4 : Nat) (Option.some Jvm.ClassFile.FieldType.int)) ∈ lw_all := lw_g (lw_at lw_m7 129 rfl) rfl
theorem q1654 : (Jvm.Cond.methodLink "HouseClaps" (198 : Nat) ({ cls := "HouseClaps$Cue", name := "seat", desc := "()I" } : Jvm.MethodName)) ∈ lw_all := lw_g (lw_at lw_m7 130 rfl) rfl
theorem q1666 : (Jvm.Cond.instanceMethod ({ cls := "HouseClaps", name := "worthOf", desc := "(II)I" } : Jvm.MethodName)) ∈ lw_all := lw_g (lw_at lw_m7 142 rfl) rfl
theorem q1667 : (Jvm.Cond.selects "HouseClaps" ({ cls := "HouseClaps", name := "worthOf", desc := "(II)I" } : Jvm.MethodName) ({ cls := "HouseClaps", name := "worthOf", desc := "(II)I" } : Jvm.MethodName)) ∈ lw_all := lw_g (lw_at lw_m7 143 rfl) rfl
theorem q1668 : (Jvm.Cond.code ({ cls := "HouseClaps", name := "worthOf", desc := "(II)I" } : Jvm.MethodName) prog_1_method_46_code (9 : Nat) (Option.some Jvm.ClassFile.FieldType.int)) ∈ lw_all := lw_g (lw_at lw_m7 144 rfl) rfl
theorem q1669 : (Jvm.Cond.methodLink "HouseClaps" (320 : Nat) ({ cls := "java/lang/Math", name := "abs", desc := "(J)J" } : Jvm.MethodName)) ∈ lw_all := lw_g (lw_at lw_m7 145 rfl) rfl
theorem q2330 : (Jvm.Cond.castable "HouseClaps" "java/lang/Object") ∈ lw_tbl := lw_at lw_m10 86 rfl
theorem in_X1 : ∀ w ∈ wsX10, w ∈ lw_all := lw_in wsX10 [342, 344, 346, 348, 350, 352, 354, 356, 358, 360, 362, 364, 366, 368, 370, 372, 374, 376, 378, 380, 382, 384, 386, 388, 390, 392, 394] (by decide +kernel) (by decide +kernel)

/-! HouseClaps$House -/
set_option maxRecDepth 100000
def RX2 : String := "HouseClaps$House"
def TX2 : u_T := fun k => match k with
  | 0 => ("HouseClaps$House", "rows", "I", false)
  | 1 => ("HouseClaps$House", "columns", "I", false)
  | 2 => ("HouseClaps$House", "carry", "I", false)
  | 3 => ("HouseClaps$House", "paid", "I", false)
  | 4 => ("HouseClaps$House", "lines", "I", false)
  | 5 => ("HouseClaps$House", "isByRows", "Z", false)
  | 6 => ("HouseClaps$House", "kind", "[I", true)
  | 7 => ("HouseClaps$House", "price", "[I", true)
  | 8 => ("HouseClaps$House", "leaves", "[I", true)
  | 9 => ("HouseClaps$House", "up", "[LHouseClaps$Cond;", true)
  | 10 => ("HouseClaps$House", "down", "[LHouseClaps$Cond;", true)
  | 11 => ("HouseClaps$House", "ones", "[I", true)
  | _ => ("HouseClaps$House", "area", "[[J", true)
def tyX2 : Nat → FieldType := fun k => match k with
  | 0 => .int
  | 1 => .int
  | 2 => .int
  | 3 => .int
  | 4 => .int
  | 5 => .boolean
  | 6 => .array .int
  | 7 => .array .int
  | 8 => .array .int
  | 9 => .array (.object "HouseClaps$Cond")
  | 10 => .array (.object "HouseClaps$Cond")
  | 11 => .array .int
  | _ => .array (.array .long)
abbrev wsX20 : List Cond := u_ws RX2 TX2 13
set_option maxRecDepth 100000 in
theorem nmX2 : ∀ a, a < 13 → ∀ b, b < 13 → a ≠ b → (TX2 a).2.1 ≠ (TX2 b).2.1 := by decide +kernel
set_option maxRecDepth 100000 in
theorem tyX2_ok : ∀ k, k < 13 → parseFieldDescriptor (TX2 k).2.2.1 = some (tyX2 k) := by decide +kernel
abbrev cX2_init : ByteArray := prog_11_method_1_code
def yX2_init : MethodName := ⟨RX2, "<init>", "()V"⟩
abbrev cX2_open : ByteArray := prog_11_method_7_code
def yX2_open : MethodName := ⟨RX2, "open", "()LHouseClaps$House;"⟩
abbrev cX2_size : ByteArray := prog_11_method_2_code
def yX2_size : MethodName := ⟨RX2, "size", "()I"⟩
abbrev cX2_see : ByteArray := prog_11_method_6_code
def yX2_see : MethodName := ⟨RX2, "see", "(IIII)V"⟩
abbrev cX2_isSeat : ByteArray := prog_11_method_3_code
def yX2_isSeat : MethodName := ⟨RX2, "isSeat", "(I)Z"⟩
abbrev cX2_row : ByteArray := prog_11_method_5_code
def yX2_row : MethodName := ⟨RX2, "row", "(I)I"⟩
abbrev cX2_seats : ByteArray := prog_11_method_4_code
def yX2_seats : MethodName := ⟨RX2, "seats", "()I"⟩
abbrev cX2_exchanged : ByteArray := prog_11_method_8_code
def yX2_exchanged : MethodName := ⟨RX2, "exchanged", "(II)LHouseClaps$House;"⟩
abbrev cX2_swap : ByteArray := prog_11_method_9_code
def yX2_swap : MethodName := ⟨RX2, "swap", "(II)V"⟩
theorem q86 : (Jvm.Cond.initialized "HouseClaps$House") ∈ lw_all := lw_g (lw_at lw_m1 2 rfl) rfl
theorem q137 : (Jvm.Cond.instantiable "HouseClaps$House" (13 : Nat)) ∈ lw_all := lw_g (lw_at lw_m1 53 rfl) rfl
theorem q139 : (Jvm.Cond.instanceMethod ({ cls := "HouseClaps$House", name := "<init>", desc := "()V" } : Jvm.MethodName)) ∈ lw_all := lw_g (lw_at lw_m1 55 rfl) rfl
theorem q140 : (Jvm.Cond.code ({ cls := "HouseClaps$House", name := "<init>", desc := "()V" } : Jvm.MethodName) prog_11_method_1_code (1 : Nat) (Option.none : Option Jvm.ClassFile.FieldType)) ∈ lw_all := lw_g (lw_at lw_m1 56 rfl) rfl
theorem q141 : (Jvm.Cond.methodLink "HouseClaps$House" (3 : Nat) ({ cls := "java/lang/Object", name := "<init>", desc := "()V" } : Jvm.MethodName)) ∈ lw_all := lw_g (lw_at lw_m1 57 rfl) rfl
theorem q142 : (Jvm.Cond.classLink "HouseClaps$House" (28 : Nat) "HouseClaps$Cond") ∈ lw_all := lw_g (lw_at lw_m1 58 rfl) rfl
theorem q144 : (Jvm.Cond.classLink "HouseClaps$House" (40 : Nat) "[[J") ∈ lw_all := lw_g (lw_at lw_m1 60 rfl) rfl
theorem q146 : (Jvm.Cond.methodLink "HouseClaps$House" (45 : Nat) ({ cls := "java/util/Arrays", name := "fill", desc := "([II)V" } : Jvm.MethodName)) ∈ lw_all := lw_g (lw_at lw_m1 62 rfl) rfl
theorem q149 : (Jvm.Cond.fieldLink "HouseClaps$House" (51 : Nat) "HouseClaps$House" "rows" "I") ∈ lw_all := lw_g (lw_at lw_m1 65 rfl) rfl
theorem q153 : (Jvm.Cond.fieldLink "HouseClaps$House" (54 : Nat) "HouseClaps$House" "columns" "I") ∈ lw_all := lw_g (lw_at lw_m1 69 rfl) rfl
theorem q158 : (Jvm.Cond.fieldLink "HouseClaps$House" (9 : Nat) "HouseClaps$House" "carry" "I") ∈ lw_all := lw_g (lw_at lw_m1 74 rfl) rfl
theorem q162 : (Jvm.Cond.fieldLink "HouseClaps$House" (15 : Nat) "HouseClaps$House" "paid" "I") ∈ lw_all := lw_g (lw_at lw_m1 78 rfl) rfl
theorem q167 : (Jvm.Cond.fieldLink "HouseClaps$House" (74 : Nat) "HouseClaps$House" "lines" "I") ∈ lw_all := lw_g (lw_at lw_m1 83 rfl) rfl
theorem q170 : (Jvm.Cond.fieldLink "HouseClaps$House" (70 : Nat) "HouseClaps$House" "isByRows" "Z") ∈ lw_all := lw_g (lw_at lw_m1 86 rfl) rfl
theorem q173 : (Jvm.Cond.fieldLink "HouseClaps$House" (18 : Nat) "HouseClaps$House" "kind" "[I") ∈ lw_all := lw_g (lw_at lw_m1 89 rfl) rfl
theorem q177 : (Jvm.Cond.fieldLink "HouseClaps$House" (22 : Nat) "HouseClaps$House" "price" "[I") ∈ lw_all := lw_g (lw_at lw_m1 93 rfl) rfl
theorem q180 : (Jvm.Cond.fieldLink "HouseClaps$House" (25 : Nat) "HouseClaps$House" "leaves" "[I") ∈ lw_all := lw_g (lw_at lw_m1 96 rfl) rfl
theorem q184 : (Jvm.Cond.fieldLink "HouseClaps$House" (30 : Nat) "HouseClaps$House" "up" "[LHouseClaps$Cond;") ∈ lw_all := lw_g (lw_at lw_m1 100 rfl) rfl
theorem q188 : (Jvm.Cond.fieldLink "HouseClaps$House" (34 : Nat) "HouseClaps$House" "down" "[LHouseClaps$Cond;") ∈ lw_all := lw_g (lw_at lw_m1 104 rfl) rfl
theorem q192 : (Jvm.Cond.fieldLink "HouseClaps$House" (37 : Nat) "HouseClaps$House" "ones" "[I") ∈ lw_all := lw_g (lw_at lw_m1 108 rfl) rfl
theorem q195 : (Jvm.Cond.fieldLink "HouseClaps$House" (42 : Nat) "HouseClaps$House" "area" "[[J") ∈ lw_all := lw_g (lw_at lw_m1 111 rfl) rfl
theorem q198 : (Jvm.Cond.lays "HouseClaps$House" "HouseClaps$House" "rows" "I") ∈ lw_all := lw_g (lw_at lw_m1 114 rfl) rfl
theorem q199 : (Jvm.Cond.soleField "HouseClaps$House" "rows") ∈ lw_all := lw_g (lw_at lw_m1 115 rfl) rfl
theorem q200 : (Jvm.Cond.lays "HouseClaps$House" "HouseClaps$House" "columns" "I") ∈ lw_all := lw_g (lw_at lw_m1 116 rfl) rfl
theorem q201 : (Jvm.Cond.soleField "HouseClaps$House" "columns") ∈ lw_all := lw_g (lw_at lw_m1 117 rfl) rfl
theorem q202 : (Jvm.Cond.lays "HouseClaps$House" "HouseClaps$House" "carry" "I") ∈ lw_all := lw_g (lw_at lw_m1 118 rfl) rfl
theorem q203 : (Jvm.Cond.soleField "HouseClaps$House" "carry") ∈ lw_all := lw_g (lw_at lw_m1 119 rfl) rfl
theorem q204 : (Jvm.Cond.lays "HouseClaps$House" "HouseClaps$House" "paid" "I") ∈ lw_all := lw_g (lw_at lw_m1 120 rfl) rfl
theorem q205 : (Jvm.Cond.soleField "HouseClaps$House" "paid") ∈ lw_all := lw_g (lw_at lw_m1 121 rfl) rfl
theorem q206 : (Jvm.Cond.lays "HouseClaps$House" "HouseClaps$House" "lines" "I") ∈ lw_all := lw_g (lw_at lw_m1 122 rfl) rfl
theorem q207 : (Jvm.Cond.soleField "HouseClaps$House" "lines") ∈ lw_all := lw_g (lw_at lw_m1 123 rfl) rfl
theorem q208 : (Jvm.Cond.lays "HouseClaps$House" "HouseClaps$House" "isByRows" "Z") ∈ lw_all := lw_g (lw_at lw_m1 124 rfl) rfl
theorem q209 : (Jvm.Cond.soleField "HouseClaps$House" "isByRows") ∈ lw_all := lw_g (lw_at lw_m1 125 rfl) rfl
theorem q210 : (Jvm.Cond.laysFinal "HouseClaps$House" "HouseClaps$House" "kind" "[I") ∈ lw_all := lw_g (lw_at lw_m1 126 rfl) rfl
theorem q211 : (Jvm.Cond.soleField "HouseClaps$House" "kind") ∈ lw_all := lw_g (lw_at lw_m1 127 rfl) rfl
theorem q212 : (Jvm.Cond.laysFinal "HouseClaps$House" "HouseClaps$House" "price" "[I") ∈ lw_all := lw_g (lw_at lw_m1 128 rfl) rfl
theorem q213 : (Jvm.Cond.soleField "HouseClaps$House" "price") ∈ lw_all := lw_g (lw_at lw_m1 129 rfl) rfl
theorem q214 : (Jvm.Cond.laysFinal "HouseClaps$House" "HouseClaps$House" "leaves" "[I") ∈ lw_all := lw_g (lw_at lw_m1 130 rfl) rfl
theorem q215 : (Jvm.Cond.soleField "HouseClaps$House" "leaves") ∈ lw_all := lw_g (lw_at lw_m1 131 rfl) rfl
theorem q216 : (Jvm.Cond.laysFinal "HouseClaps$House" "HouseClaps$House" "up" "[LHouseClaps$Cond;") ∈ lw_all := lw_g (lw_at lw_m1 132 rfl) rfl
theorem q217 : (Jvm.Cond.soleField "HouseClaps$House" "up") ∈ lw_all := lw_g (lw_at lw_m1 133 rfl) rfl
theorem q218 : (Jvm.Cond.laysFinal "HouseClaps$House" "HouseClaps$House" "down" "[LHouseClaps$Cond;") ∈ lw_all := lw_g (lw_at lw_m1 134 rfl) rfl
theorem q219 : (Jvm.Cond.soleField "HouseClaps$House" "down") ∈ lw_all := lw_g (lw_at lw_m1 135 rfl) rfl
theorem q220 : (Jvm.Cond.laysFinal "HouseClaps$House" "HouseClaps$House" "ones" "[I") ∈ lw_all := lw_g (lw_at lw_m1 136 rfl) rfl
theorem q221 : (Jvm.Cond.soleField "HouseClaps$House" "ones") ∈ lw_all := lw_g (lw_at lw_m1 137 rfl) rfl
theorem q222 : (Jvm.Cond.laysFinal "HouseClaps$House" "HouseClaps$House" "area" "[[J") ∈ lw_all := lw_g (lw_at lw_m1 138 rfl) rfl
theorem q223 : (Jvm.Cond.soleField "HouseClaps$House" "area") ∈ lw_all := lw_g (lw_at lw_m1 139 rfl) rfl
theorem q224 : (Jvm.Cond.superclass "HouseClaps$House" "java/lang/Object") ∈ lw_all := lw_g (lw_at lw_m1 140 rfl) rfl
theorem q1035 : (Jvm.Cond.instanceMethod ({ cls := "HouseClaps$House", name := "open", desc := "()LHouseClaps$House;" } : Jvm.MethodName)) ∈ lw_all := lw_g (lw_at lw_m4 231 rfl) rfl
theorem q1036 : (Jvm.Cond.selects "HouseClaps$House" ({ cls := "HouseClaps$House", name := "open", desc := "()LHouseClaps$House;" } : Jvm.MethodName) ({ cls := "HouseClaps$House", name := "open", desc := "()LHouseClaps$House;" } : Jvm.MethodName)) ∈ lw_all := lw_g (lw_at lw_m4 232 rfl) rfl
theorem q1037 : (Jvm.Cond.code ({ cls := "HouseClaps$House", name := "open", desc := "()LHouseClaps$House;" } : Jvm.MethodName) prog_11_method_7_code (7 : Nat) (Option.some (Jvm.ClassFile.FieldType.object "HouseClaps$House"))) ∈ lw_all := lw_g (lw_at lw_m4 233 rfl) rfl
theorem q1038 : (Jvm.Cond.methodLink "HouseClaps$House" (57 : Nat) ({ cls := "HouseClaps$House", name := "size", desc := "()I" } : Jvm.MethodName)) ∈ lw_all := lw_g (lw_at lw_m4 234 rfl) rfl
theorem q1039 : (Jvm.Cond.instanceMethod ({ cls := "HouseClaps$House", name := "size", desc := "()I" } : Jvm.MethodName)) ∈ lw_all := lw_g (lw_at lw_m4 235 rfl) rfl
theorem q1040 : (Jvm.Cond.selects "HouseClaps$House" ({ cls := "HouseClaps$House", name := "size", desc := "()I" } : Jvm.MethodName) ({ cls := "HouseClaps$House", name := "size", desc := "()I" } : Jvm.MethodName)) ∈ lw_all := lw_g (lw_at lw_m4 236 rfl) rfl
theorem q1041 : (Jvm.Cond.code ({ cls := "HouseClaps$House", name := "size", desc := "()I" } : Jvm.MethodName) prog_11_method_2_code (1 : Nat) (Option.some Jvm.ClassFile.FieldType.int)) ∈ lw_all := lw_g (lw_at lw_m4 237 rfl) rfl
theorem q1042 : (Jvm.Cond.methodLink "HouseClaps$House" (65 : Nat) ({ cls := "HouseClaps$House", name := "see", desc := "(IIII)V" } : Jvm.MethodName)) ∈ lw_all := lw_g (lw_at lw_m4 238 rfl) rfl
theorem q1043 : (Jvm.Cond.privateMethod ({ cls := "HouseClaps$House", name := "see", desc := "(IIII)V" } : Jvm.MethodName)) ∈ lw_tbl := lw_at lw_m4 239 rfl
theorem q1044 : (Jvm.Cond.instanceMethod ({ cls := "HouseClaps$House", name := "see", desc := "(IIII)V" } : Jvm.MethodName)) ∈ lw_all := lw_g (lw_at lw_m5 0 rfl) rfl
theorem q1045 : (Jvm.Cond.code ({ cls := "HouseClaps$House", name := "see", desc := "(IIII)V" } : Jvm.MethodName) prog_11_method_6_code (5 : Nat) (Option.none : Option Jvm.ClassFile.FieldType)) ∈ lw_all := lw_g (lw_at lw_m5 1 rfl) rfl
theorem q1046 : (Jvm.Cond.methodLinkNest "HouseClaps$House" (61 : Nat) ({ cls := "HouseClaps", name := "isIn", desc := "(III)Z" } : Jvm.MethodName) "HouseClaps") ∈ lw_tbl := lw_at lw_m5 2 rfl
theorem q1061 : (Jvm.Cond.instanceMethod ({ cls := "HouseClaps$House", name := "isSeat", desc := "(I)Z" } : Jvm.MethodName)) ∈ lw_all := lw_g (lw_at lw_m5 17 rfl) rfl
theorem q1062 : (Jvm.Cond.selects "HouseClaps$House" ({ cls := "HouseClaps$House", name := "isSeat", desc := "(I)Z" } : Jvm.MethodName) ({ cls := "HouseClaps$House", name := "isSeat", desc := "(I)Z" } : Jvm.MethodName)) ∈ lw_all := lw_g (lw_at lw_m5 18 rfl) rfl
theorem q1063 : (Jvm.Cond.code ({ cls := "HouseClaps$House", name := "isSeat", desc := "(I)Z" } : Jvm.MethodName) prog_11_method_3_code (2 : Nat) (Option.some Jvm.ClassFile.FieldType.boolean)) ∈ lw_all := lw_g (lw_at lw_m5 19 rfl) rfl
theorem q1207 : (Jvm.Cond.selects "HouseClaps$House" ({ cls := "java/lang/Object", name := "getClass", desc := "()Ljava/lang/Class;" } : Jvm.MethodName) ({ cls := "java/lang/Object", name := "getClass", desc := "()Ljava/lang/Class;" } : Jvm.MethodName)) ∈ lw_all := lw_g (lw_at lw_m5 163 rfl) rfl
theorem q1300 : (Jvm.Cond.instanceMethod ({ cls := "HouseClaps$House", name := "row", desc := "(I)I" } : Jvm.MethodName)) ∈ lw_all := lw_g (lw_at lw_m6 16 rfl) rfl
theorem q1301 : (Jvm.Cond.selects "HouseClaps$House" ({ cls := "HouseClaps$House", name := "row", desc := "(I)I" } : Jvm.MethodName) ({ cls := "HouseClaps$House", name := "row", desc := "(I)I" } : Jvm.MethodName)) ∈ lw_all := lw_g (lw_at lw_m6 17 rfl) rfl
theorem q1302 : (Jvm.Cond.code ({ cls := "HouseClaps$House", name := "row", desc := "(I)I" } : Jvm.MethodName) prog_11_method_5_code (2 : Nat) (Option.some Jvm.ClassFile.FieldType.int)) ∈ lw_all := lw_g (lw_at lw_m6 18 rfl) rfl
theorem q1386 : (Jvm.Cond.instanceMethod ({ cls := "HouseClaps$House", name := "seats", desc := "()I" } : Jvm.MethodName)) ∈ lw_all := lw_g (lw_at lw_m6 102 rfl) rfl
theorem q1387 : (Jvm.Cond.selects "HouseClaps$House" ({ cls := "HouseClaps$House", name := "seats", desc := "()I" } : Jvm.MethodName) ({ cls := "HouseClaps$House", name := "seats", desc := "()I" } : Jvm.MethodName)) ∈ lw_all := lw_g (lw_at lw_m6 103 rfl) rfl
theorem q1388 : (Jvm.Cond.code ({ cls := "HouseClaps$House", name := "seats", desc := "()I" } : Jvm.MethodName) prog_11_method_4_code (3 : Nat) (Option.some Jvm.ClassFile.FieldType.int)) ∈ lw_all := lw_g (lw_at lw_m6 104 rfl) rfl
theorem q1554 : (Jvm.Cond.instanceMethod ({ cls := "HouseClaps$House", name := "exchanged", desc := "(II)LHouseClaps$House;" } : Jvm.MethodName)) ∈ lw_all := lw_g (lw_at lw_m7 30 rfl) rfl
theorem q1555 : (Jvm.Cond.selects "HouseClaps$House" ({ cls := "HouseClaps$House", name := "exchanged", desc := "(II)LHouseClaps$House;" } : Jvm.MethodName) ({ cls := "HouseClaps$House", name := "exchanged", desc := "(II)LHouseClaps$House;" } : Jvm.MethodName)) ∈ lw_all := lw_g (lw_at lw_m7 31 rfl) rfl
theorem q1556 : (Jvm.Cond.code ({ cls := "HouseClaps$House", name := "exchanged", desc := "(II)LHouseClaps$House;" } : Jvm.MethodName) prog_11_method_8_code (5 : Nat) (Option.some (Jvm.ClassFile.FieldType.object "HouseClaps$House"))) ∈ lw_all := lw_g (lw_at lw_m7 32 rfl) rfl
theorem q1557 : (Jvm.Cond.classLink "HouseClaps$House" (10 : Nat) "HouseClaps$House") ∈ lw_all := lw_g (lw_at lw_m7 33 rfl) rfl
theorem q1558 : (Jvm.Cond.methodLink "HouseClaps$House" (69 : Nat) ({ cls := "HouseClaps$House", name := "<init>", desc := "()V" } : Jvm.MethodName)) ∈ lw_all := lw_g (lw_at lw_m7 34 rfl) rfl
theorem q1559 : (Jvm.Cond.methodLink "HouseClaps$House" (77 : Nat) ({ cls := "java/lang/System", name := "arraycopy", desc := "(Ljava/lang/Object;ILjava/lang/Object;II)V" } : Jvm.MethodName)) ∈ lw_all := lw_g (lw_at lw_m7 35 rfl) rfl
theorem q1560 : (Jvm.Cond.methodLink "HouseClaps$House" (83 : Nat) ({ cls := "HouseClaps$House", name := "swap", desc := "(II)V" } : Jvm.MethodName)) ∈ lw_all := lw_g (lw_at lw_m7 36 rfl) rfl
theorem q1561 : (Jvm.Cond.instanceMethod ({ cls := "HouseClaps$House", name := "swap", desc := "(II)V" } : Jvm.MethodName)) ∈ lw_all := lw_g (lw_at lw_m7 37 rfl) rfl
theorem q1562 : (Jvm.Cond.selects "HouseClaps$House" ({ cls := "HouseClaps$House", name := "swap", desc := "(II)V" } : Jvm.MethodName) ({ cls := "HouseClaps$House", name := "swap", desc := "(II)V" } : Jvm.MethodName)) ∈ lw_all := lw_g (lw_at lw_m7 38 rfl) rfl
theorem q1563 : (Jvm.Cond.code ({ cls := "HouseClaps$House", name := "swap", desc := "(II)V" } : Jvm.MethodName) prog_11_method_9_code (4 : Nat) (Option.none : Option Jvm.ClassFile.FieldType)) ∈ lw_all := lw_g (lw_at lw_m7 39 rfl) rfl
theorem q2329 : (Jvm.Cond.castable "HouseClaps$House" "java/lang/Object") ∈ lw_tbl := lw_at lw_m10 85 rfl
theorem in_X2 : ∀ w ∈ wsX20, w ∈ lw_all := lw_in wsX20 [198, 200, 202, 204, 206, 208, 210, 212, 214, 216, 218, 220, 222] (by decide +kernel) (by decide +kernel)

/-! java/util/Arrays -/
set_option maxRecDepth 100000
def RJ0 : String := "java/util/Arrays"
abbrev cJ0_fill : ByteArray := prog_48_method_103_code
def yJ0_fill : MethodName := ⟨RJ0, "fill", "([II)V"⟩
abbrev cJ0_copyOf : ByteArray := prog_48_method_121_code
def yJ0_copyOf : MethodName := ⟨RJ0, "copyOf", "([BI)[B"⟩
abbrev cJ0_copyOfRange : ByteArray := prog_48_method_132_code
def yJ0_copyOfRange : MethodName := ⟨RJ0, "copyOfRange", "([BII)[B"⟩
abbrev cJ0_copyOfRangeByte : ByteArray := prog_48_method_133_code
def yJ0_copyOfRangeByte : MethodName := ⟨RJ0, "copyOfRangeByte", "([BII)[B"⟩
abbrev cJ0_checkLength : ByteArray := prog_48_method_131_code
def yJ0_checkLength : MethodName := ⟨RJ0, "checkLength", "(II)V"⟩
abbrev cJ0_copyOf_2 : ByteArray := prog_48_method_119_code
def yJ0_copyOf_2 : MethodName := ⟨RJ0, "copyOf", "([Ljava/lang/Object;I)[Ljava/lang/Object;"⟩
abbrev cJ0_copyOf_3 : ByteArray := prog_48_method_120_code
def yJ0_copyOf_3 : MethodName := ⟨RJ0, "copyOf", "([Ljava/lang/Object;ILjava/lang/Class;)[Ljava/lang/Object;"⟩
theorem q87 : (Jvm.Cond.initialized "java/util/Arrays") ∈ lw_all := lw_g (lw_at lw_m1 3 rfl) rfl
theorem q147 : (Jvm.Cond.static ({ cls := "java/util/Arrays", name := "fill", desc := "([II)V" } : Jvm.MethodName)) ∈ lw_all := lw_g (lw_at lw_m1 63 rfl) rfl
theorem q148 : (Jvm.Cond.code ({ cls := "java/util/Arrays", name := "fill", desc := "([II)V" } : Jvm.MethodName) prog_48_method_103_code (4 : Nat) (Option.none : Option Jvm.ClassFile.FieldType)) ∈ lw_all := lw_g (lw_at lw_m1 64 rfl) rfl
theorem q647 : (Jvm.Cond.static ({ cls := "java/util/Arrays", name := "copyOf", desc := "([BI)[B" } : Jvm.MethodName)) ∈ lw_all := lw_g (lw_at lw_m3 83 rfl) rfl
theorem q648 : (Jvm.Cond.code ({ cls := "java/util/Arrays", name := "copyOf", desc := "([BI)[B" } : Jvm.MethodName) prog_48_method_121_code (3 : Nat) (Option.some (Jvm.ClassFile.FieldType.array Jvm.ClassFile.FieldType.byte))) ∈ lw_all := lw_g (lw_at lw_m3 84 rfl) rfl
theorem q649 : (Jvm.Cond.methodLink "java/util/Arrays" (310 : Nat) ({ cls := "[B", name := "clone", desc := "()Ljava/lang/Object;" } : Jvm.MethodName)) ∈ lw_all := lw_g (lw_at lw_m3 85 rfl) rfl
theorem q655 : (Jvm.Cond.classLink "java/util/Arrays" (311 : Nat) "[B") ∈ lw_all := lw_g (lw_at lw_m3 91 rfl) rfl
theorem q656 : (Jvm.Cond.methodLink "java/util/Arrays" (304 : Nat) ({ cls := "java/lang/Math", name := "min", desc := "(II)I" } : Jvm.MethodName)) ∈ lw_all := lw_g (lw_at lw_m3 92 rfl) rfl
theorem q657 : (Jvm.Cond.methodLink "java/util/Arrays" (150 : Nat) ({ cls := "java/lang/System", name := "arraycopy", desc := "(Ljava/lang/Object;ILjava/lang/Object;II)V" } : Jvm.MethodName)) ∈ lw_all := lw_g (lw_at lw_m3 93 rfl) rfl
theorem q730 : (Jvm.Cond.static ({ cls := "java/util/Arrays", name := "copyOfRange", desc := "([BII)[B" } : Jvm.MethodName)) ∈ lw_all := lw_g (lw_at lw_m3 166 rfl) rfl
theorem q731 : (Jvm.Cond.code ({ cls := "java/util/Arrays", name := "copyOfRange", desc := "([BII)[B" } : Jvm.MethodName) prog_48_method_132_code (3 : Nat) (Option.some (Jvm.ClassFile.FieldType.array Jvm.ClassFile.FieldType.byte))) ∈ lw_all := lw_g (lw_at lw_m3 167 rfl) rfl
theorem q732 : (Jvm.Cond.methodLink "java/util/Arrays" (339 : Nat) ({ cls := "java/util/Arrays", name := "copyOfRangeByte", desc := "([BII)[B" } : Jvm.MethodName)) ∈ lw_all := lw_g (lw_at lw_m3 168 rfl) rfl
theorem q733 : (Jvm.Cond.static ({ cls := "java/util/Arrays", name := "copyOfRangeByte", desc := "([BII)[B" } : Jvm.MethodName)) ∈ lw_all := lw_g (lw_at lw_m3 169 rfl) rfl
theorem q734 : (Jvm.Cond.code ({ cls := "java/util/Arrays", name := "copyOfRangeByte", desc := "([BII)[B" } : Jvm.MethodName) prog_48_method_133_code (5 : Nat) (Option.some (Jvm.ClassFile.FieldType.array Jvm.ClassFile.FieldType.byte))) ∈ lw_all := lw_g (lw_at lw_m3 170 rfl) rfl
theorem q735 : (Jvm.Cond.methodLink "java/util/Arrays" (343 : Nat) ({ cls := "java/util/Arrays", name := "checkLength", desc := "(II)V" } : Jvm.MethodName)) ∈ lw_all := lw_g (lw_at lw_m3 171 rfl) rfl
theorem q736 : (Jvm.Cond.static ({ cls := "java/util/Arrays", name := "checkLength", desc := "(II)V" } : Jvm.MethodName)) ∈ lw_all := lw_g (lw_at lw_m3 172 rfl) rfl
theorem q737 : (Jvm.Cond.code ({ cls := "java/util/Arrays", name := "checkLength", desc := "(II)V" } : Jvm.MethodName) prog_48_method_131_code (2 : Nat) (Option.none : Option Jvm.ClassFile.FieldType)) ∈ lw_all := lw_g (lw_at lw_m3 173 rfl) rfl
theorem q1195 : (Jvm.Cond.static ({ cls := "java/util/Arrays", name := "copyOf", desc := "([Ljava/lang/Object;I)[Ljava/lang/Object;" } : Jvm.MethodName)) ∈ lw_all := lw_g (lw_at lw_m5 151 rfl) rfl
theorem q1196 : (Jvm.Cond.code ({ cls := "java/util/Arrays", name := "copyOf", desc := "([Ljava/lang/Object;I)[Ljava/lang/Object;" } : Jvm.MethodName) prog_48_method_119_code (2 : Nat) (Option.some (Jvm.ClassFile.FieldType.array (Jvm.ClassFile.FieldType.object "java/lang/Object")))) ∈ lw_all := lw_g (lw_at lw_m5 152 rfl) rfl
theorem q1197 : (Jvm.Cond.methodLink "java/util/Arrays" (86 : Nat) ({ cls := "java/lang/Object", name := "getClass", desc := "()Ljava/lang/Class;" } : Jvm.MethodName)) ∈ lw_all := lw_g (lw_at lw_m5 153 rfl) rfl
theorem q1222 : (Jvm.Cond.methodLink "java/util/Arrays" (300 : Nat) ({ cls := "java/util/Arrays", name := "copyOf", desc := "([Ljava/lang/Object;ILjava/lang/Class;)[Ljava/lang/Object;" } : Jvm.MethodName)) ∈ lw_all := lw_g (lw_at lw_m5 178 rfl) rfl
theorem q1223 : (Jvm.Cond.static ({ cls := "java/util/Arrays", name := "copyOf", desc := "([Ljava/lang/Object;ILjava/lang/Class;)[Ljava/lang/Object;" } : Jvm.MethodName)) ∈ lw_all := lw_g (lw_at lw_m5 179 rfl) rfl
theorem q1224 : (Jvm.Cond.code ({ cls := "java/util/Arrays", name := "copyOf", desc := "([Ljava/lang/Object;ILjava/lang/Class;)[Ljava/lang/Object;" } : Jvm.MethodName) prog_48_method_120_code (4 : Nat) (Option.some (Jvm.ClassFile.FieldType.array (Jvm.ClassFile.FieldType.object "java/lang/Object")))) ∈ lw_all := lw_g (lw_at lw_m5 180 rfl) rfl
theorem q1225 : (Jvm.Cond.classLink "java/util/Arrays" (110 : Nat) "[Ljava/lang/Object;") ∈ lw_all := lw_g (lw_at lw_m5 181 rfl) rfl
theorem q1227 : (Jvm.Cond.classLink "java/util/Arrays" (2 : Nat) "java/lang/Object") ∈ lw_all := lw_g (lw_at lw_m5 183 rfl) rfl

/-! java/util/AbstractCollection -/
set_option maxRecDepth 100000
def RJ1 : String := "java/util/AbstractCollection"
abbrev cJ1_init : ByteArray := prog_45_method_1_code
def yJ1_init : MethodName := ⟨RJ1, "<init>", "()V"⟩
theorem q88 : (Jvm.Cond.initialized "java/util/AbstractCollection") ∈ lw_all := lw_g (lw_at lw_m1 4 rfl) rfl
theorem q237 : (Jvm.Cond.instanceMethod ({ cls := "java/util/AbstractCollection", name := "<init>", desc := "()V" } : Jvm.MethodName)) ∈ lw_all := lw_g (lw_at lw_m1 153 rfl) rfl
theorem q238 : (Jvm.Cond.code ({ cls := "java/util/AbstractCollection", name := "<init>", desc := "()V" } : Jvm.MethodName) prog_45_method_1_code (1 : Nat) (Option.none : Option Jvm.ClassFile.FieldType)) ∈ lw_all := lw_g (lw_at lw_m1 154 rfl) rfl
theorem q239 : (Jvm.Cond.methodLink "java/util/AbstractCollection" (1 : Nat) ({ cls := "java/lang/Object", name := "<init>", desc := "()V" } : Jvm.MethodName)) ∈ lw_all := lw_g (lw_at lw_m1 155 rfl) rfl

/-! java/util/AbstractList -/
set_option maxRecDepth 100000
def RJ2 : String := "java/util/AbstractList"
abbrev cJ2_init : ByteArray := prog_46_method_1_code
def yJ2_init : MethodName := ⟨RJ2, "<init>", "()V"⟩
theorem q89 : (Jvm.Cond.initialized "java/util/AbstractList") ∈ lw_all := lw_g (lw_at lw_m1 5 rfl) rfl
theorem q234 : (Jvm.Cond.instanceMethod ({ cls := "java/util/AbstractList", name := "<init>", desc := "()V" } : Jvm.MethodName)) ∈ lw_all := lw_g (lw_at lw_m1 150 rfl) rfl
theorem q235 : (Jvm.Cond.code ({ cls := "java/util/AbstractList", name := "<init>", desc := "()V" } : Jvm.MethodName) prog_46_method_1_code (1 : Nat) (Option.none : Option Jvm.ClassFile.FieldType)) ∈ lw_all := lw_g (lw_at lw_m1 151 rfl) rfl
theorem q236 : (Jvm.Cond.methodLink "java/util/AbstractList" (1 : Nat) ({ cls := "java/util/AbstractCollection", name := "<init>", desc := "()V" } : Jvm.MethodName)) ∈ lw_all := lw_g (lw_at lw_m1 152 rfl) rfl
theorem q244 : (Jvm.Cond.fieldLink "java/util/AbstractList" (7 : Nat) "java/util/AbstractList" "modCount" "I") ∈ lw_all := lw_g (lw_at lw_m1 160 rfl) rfl
theorem q252 : (Jvm.Cond.soleField "java/util/AbstractList" "modCount") ∈ lw_all := lw_g (lw_at lw_m1 168 rfl) rfl

/-! java/util/ArrayList -/
set_option maxRecDepth 100000
def RJ3 : String := "java/util/ArrayList"
def TJ3 : u_T := fun k => match k with
  | 0 => ("java/util/AbstractList", "modCount", "I", false)
  | 1 => ("java/util/ArrayList", "elementData", "[Ljava/lang/Object;", false)
  | _ => ("java/util/ArrayList", "size", "I", false)
def tyJ3 : Nat → FieldType := fun k => match k with
  | 0 => .int
  | 1 => .array (.object "java/lang/Object")
  | _ => .int
abbrev wsJ30 : List Cond := u_ws RJ3 TJ3 3
theorem nmJ3 : ∀ a, a < 3 → ∀ b, b < 3 → a ≠ b → (TJ3 a).2.1 ≠ (TJ3 b).2.1 := by decide +kernel
theorem tyJ3_ok : ∀ k, k < 3 → parseFieldDescriptor (TJ3 k).2.2.1 = some (tyJ3 k) := by decide +kernel
abbrev cJ3_init : ByteArray := prog_47_method_2_code
def yJ3_init : MethodName := ⟨RJ3, "<init>", "()V"⟩
abbrev cJ3_size : ByteArray := prog_47_method_8_code
def yJ3_size : MethodName := ⟨RJ3, "size", "()I"⟩
abbrev cJ3_add : ByteArray := prog_47_method_25_code
def yJ3_add : MethodName := ⟨RJ3, "add", "(Ljava/lang/Object;)Z"⟩
abbrev cJ3_add_2 : ByteArray := prog_47_method_24_code
def yJ3_add_2 : MethodName := ⟨RJ3, "add", "(Ljava/lang/Object;[Ljava/lang/Object;I)V"⟩
abbrev cJ3_grow : ByteArray := prog_47_method_7_code
def yJ3_grow : MethodName := ⟨RJ3, "grow", "()[Ljava/lang/Object;"⟩
abbrev cJ3_grow_2 : ByteArray := prog_47_method_6_code
def yJ3_grow_2 : MethodName := ⟨RJ3, "grow", "(I)[Ljava/lang/Object;"⟩
abbrev cJ3_get : ByteArray := prog_47_method_20_code
def yJ3_get : MethodName := ⟨RJ3, "get", "(I)Ljava/lang/Object;"⟩
abbrev cJ3_elementData : ByteArray := prog_47_method_18_code
def yJ3_elementData : MethodName := ⟨RJ3, "elementData", "(I)Ljava/lang/Object;"⟩
abbrev cJ3_set : ByteArray := prog_47_method_23_code
def yJ3_set : MethodName := ⟨RJ3, "set", "(ILjava/lang/Object;)Ljava/lang/Object;"⟩
theorem q90 : (Jvm.Cond.initialized "java/util/ArrayList") ∈ lw_all := lw_g (lw_at lw_m1 6 rfl) rfl
theorem q229 : (Jvm.Cond.instantiable "java/util/ArrayList" (3 : Nat)) ∈ lw_all := lw_g (lw_at lw_m1 145 rfl) rfl
theorem q231 : (Jvm.Cond.instanceMethod ({ cls := "java/util/ArrayList", name := "<init>", desc := "()V" } : Jvm.MethodName)) ∈ lw_all := lw_g (lw_at lw_m1 147 rfl) rfl
theorem q232 : (Jvm.Cond.code ({ cls := "java/util/ArrayList", name := "<init>", desc := "()V" } : Jvm.MethodName) prog_47_method_2_code (1 : Nat) (Option.none : Option Jvm.ClassFile.FieldType)) ∈ lw_all := lw_g (lw_at lw_m1 148 rfl) rfl
theorem q233 : (Jvm.Cond.methodLink "java/util/ArrayList" (1 : Nat) ({ cls := "java/util/AbstractList", name := "<init>", desc := "()V" } : Jvm.MethodName)) ∈ lw_all := lw_g (lw_at lw_m1 149 rfl) rfl
theorem q240 : (Jvm.Cond.fieldLink "java/util/ArrayList" (39 : Nat) "java/util/ArrayList" "DEFAULTCAPACITY_EMPTY_ELEMENTDATA" "[Ljava/lang/Object;") ∈ lw_all := lw_g (lw_at lw_m1 156 rfl) rfl
theorem q241 : (Jvm.Cond.laysStatic "java/util/ArrayList" "DEFAULTCAPACITY_EMPTY_ELEMENTDATA" "[Ljava/lang/Object;") ∈ lw_tbl := lw_at lw_m1 157 rfl
theorem q242 : (Jvm.Cond.fieldLink "java/util/ArrayList" (9 : Nat) "java/util/ArrayList" "elementData" "[Ljava/lang/Object;") ∈ lw_all := lw_g (lw_at lw_m1 158 rfl) rfl
theorem q243 : (Jvm.Cond.fieldLink "java/util/ArrayList" (48 : Nat) "java/util/ArrayList" "size" "I") ∈ lw_all := lw_g (lw_at lw_m1 159 rfl) rfl
theorem q245 : (Jvm.Cond.fieldLink "java/util/ArrayList" (63 : Nat) "java/util/ArrayList" "modCount" "I") ∈ lw_all := lw_g (lw_at lw_m1 161 rfl) rfl
theorem q246 : (Jvm.Cond.sameField "java/util/ArrayList" "java/util/AbstractList" "modCount" "I") ∈ lw_all := lw_g (lw_at lw_m1 162 rfl) rfl
theorem q247 : (Jvm.Cond.lays "java/util/ArrayList" "java/util/ArrayList" "elementData" "[Ljava/lang/Object;") ∈ lw_all := lw_g (lw_at lw_m1 163 rfl) rfl
theorem q248 : (Jvm.Cond.soleField "java/util/ArrayList" "elementData") ∈ lw_all := lw_g (lw_at lw_m1 164 rfl) rfl
theorem q249 : (Jvm.Cond.lays "java/util/ArrayList" "java/util/ArrayList" "size" "I") ∈ lw_all := lw_g (lw_at lw_m1 165 rfl) rfl
theorem q250 : (Jvm.Cond.soleField "java/util/ArrayList" "size") ∈ lw_all := lw_g (lw_at lw_m1 166 rfl) rfl
theorem q251 : (Jvm.Cond.lays "java/util/ArrayList" "java/util/AbstractList" "modCount" "I") ∈ lw_all := lw_g (lw_at lw_m1 167 rfl) rfl
theorem q253 : (Jvm.Cond.superclass "java/util/ArrayList" "java/util/AbstractList") ∈ lw_all := lw_g (lw_at lw_m1 169 rfl) rfl
theorem q1115 : (Jvm.Cond.instanceMethod ({ cls := "java/util/ArrayList", name := "size", desc := "()I" } : Jvm.MethodName)) ∈ lw_all := lw_g (lw_at lw_m5 71 rfl) rfl
theorem q1116 : (Jvm.Cond.selects "java/util/ArrayList" ({ cls := "java/util/ArrayList", name := "size", desc := "()I" } : Jvm.MethodName) ({ cls := "java/util/ArrayList", name := "size", desc := "()I" } : Jvm.MethodName)) ∈ lw_all := lw_g (lw_at lw_m5 72 rfl) rfl
theorem q1117 : (Jvm.Cond.code ({ cls := "java/util/ArrayList", name := "size", desc := "()I" } : Jvm.MethodName) prog_47_method_8_code (1 : Nat) (Option.some Jvm.ClassFile.FieldType.int)) ∈ lw_all := lw_g (lw_at lw_m5 73 rfl) rfl
theorem q1178 : (Jvm.Cond.instanceMethod ({ cls := "java/util/ArrayList", name := "add", desc := "(Ljava/lang/Object;)Z" } : Jvm.MethodName)) ∈ lw_all := lw_g (lw_at lw_m5 134 rfl) rfl
theorem q1179 : (Jvm.Cond.selects "java/util/ArrayList" ({ cls := "java/util/ArrayList", name := "add", desc := "(Ljava/lang/Object;)Z" } : Jvm.MethodName) ({ cls := "java/util/ArrayList", name := "add", desc := "(Ljava/lang/Object;)Z" } : Jvm.MethodName)) ∈ lw_all := lw_g (lw_at lw_m5 135 rfl) rfl
theorem q1180 : (Jvm.Cond.code ({ cls := "java/util/ArrayList", name := "add", desc := "(Ljava/lang/Object;)Z" } : Jvm.MethodName) prog_47_method_25_code (2 : Nat) (Option.some Jvm.ClassFile.FieldType.boolean)) ∈ lw_all := lw_g (lw_at lw_m5 136 rfl) rfl
theorem q1181 : (Jvm.Cond.methodLink "java/util/ArrayList" (131 : Nat) ({ cls := "java/util/ArrayList", name := "add", desc := "(Ljava/lang/Object;[Ljava/lang/Object;I)V" } : Jvm.MethodName)) ∈ lw_all := lw_g (lw_at lw_m5 137 rfl) rfl
theorem q1182 : (Jvm.Cond.privateMethod ({ cls := "java/util/ArrayList", name := "add", desc := "(Ljava/lang/Object;[Ljava/lang/Object;I)V" } : Jvm.MethodName)) ∈ lw_tbl := lw_at lw_m5 138 rfl
theorem q1183 : (Jvm.Cond.instanceMethod ({ cls := "java/util/ArrayList", name := "add", desc := "(Ljava/lang/Object;[Ljava/lang/Object;I)V" } : Jvm.MethodName)) ∈ lw_all := lw_g (lw_at lw_m5 139 rfl) rfl
theorem q1184 : (Jvm.Cond.code ({ cls := "java/util/ArrayList", name := "add", desc := "(Ljava/lang/Object;[Ljava/lang/Object;I)V" } : Jvm.MethodName) prog_47_method_24_code (4 : Nat) (Option.none : Option Jvm.ClassFile.FieldType)) ∈ lw_all := lw_g (lw_at lw_m5 140 rfl) rfl
theorem q1185 : (Jvm.Cond.methodLink "java/util/ArrayList" (129 : Nat) ({ cls := "java/util/ArrayList", name := "grow", desc := "()[Ljava/lang/Object;" } : Jvm.MethodName)) ∈ lw_all := lw_g (lw_at lw_m5 141 rfl) rfl
theorem q1186 : (Jvm.Cond.privateMethod ({ cls := "java/util/ArrayList", name := "grow", desc := "()[Ljava/lang/Object;" } : Jvm.MethodName)) ∈ lw_tbl := lw_at lw_m5 142 rfl
theorem q1187 : (Jvm.Cond.instanceMethod ({ cls := "java/util/ArrayList", name := "grow", desc := "()[Ljava/lang/Object;" } : Jvm.MethodName)) ∈ lw_all := lw_g (lw_at lw_m5 143 rfl) rfl
theorem q1188 : (Jvm.Cond.code ({ cls := "java/util/ArrayList", name := "grow", desc := "()[Ljava/lang/Object;" } : Jvm.MethodName) prog_47_method_7_code (1 : Nat) (Option.some (Jvm.ClassFile.FieldType.array (Jvm.ClassFile.FieldType.object "java/lang/Object")))) ∈ lw_all := lw_g (lw_at lw_m5 144 rfl) rfl
theorem q1189 : (Jvm.Cond.methodLink "java/util/ArrayList" (69 : Nat) ({ cls := "java/util/ArrayList", name := "grow", desc := "(I)[Ljava/lang/Object;" } : Jvm.MethodName)) ∈ lw_all := lw_g (lw_at lw_m5 145 rfl) rfl
theorem q1190 : (Jvm.Cond.privateMethod ({ cls := "java/util/ArrayList", name := "grow", desc := "(I)[Ljava/lang/Object;" } : Jvm.MethodName)) ∈ lw_tbl := lw_at lw_m5 146 rfl
theorem q1191 : (Jvm.Cond.instanceMethod ({ cls := "java/util/ArrayList", name := "grow", desc := "(I)[Ljava/lang/Object;" } : Jvm.MethodName)) ∈ lw_all := lw_g (lw_at lw_m5 147 rfl) rfl
theorem q1192 : (Jvm.Cond.code ({ cls := "java/util/ArrayList", name := "grow", desc := "(I)[Ljava/lang/Object;" } : Jvm.MethodName) prog_47_method_6_code (4 : Nat) (Option.some (Jvm.ClassFile.FieldType.array (Jvm.ClassFile.FieldType.object "java/lang/Object")))) ∈ lw_all := lw_g (lw_at lw_m5 148 rfl) rfl
theorem q1193 : (Jvm.Cond.methodLink "java/util/ArrayList" (73 : Nat) ({ cls := "jdk/internal/util/ArraysSupport", name := "newLength", desc := "(III)I" } : Jvm.MethodName)) ∈ lw_all := lw_g (lw_at lw_m5 149 rfl) rfl
theorem q1194 : (Jvm.Cond.methodLink "java/util/ArrayList" (66 : Nat) ({ cls := "java/util/Arrays", name := "copyOf", desc := "([Ljava/lang/Object;I)[Ljava/lang/Object;" } : Jvm.MethodName)) ∈ lw_all := lw_g (lw_at lw_m5 150 rfl) rfl
theorem q1219 : (Jvm.Cond.selects "java/util/ArrayList" ({ cls := "java/lang/Object", name := "getClass", desc := "()Ljava/lang/Class;" } : Jvm.MethodName) ({ cls := "java/lang/Object", name := "getClass", desc := "()Ljava/lang/Class;" } : Jvm.MethodName)) ∈ lw_all := lw_g (lw_at lw_m5 175 rfl) rfl
theorem q1228 : (Jvm.Cond.methodLink "java/util/ArrayList" (79 : Nat) ({ cls := "java/lang/Math", name := "max", desc := "(II)I" } : Jvm.MethodName)) ∈ lw_all := lw_g (lw_at lw_m5 184 rfl) rfl
theorem q1229 : (Jvm.Cond.classLink "java/util/ArrayList" (7 : Nat) "java/lang/Object") ∈ lw_all := lw_g (lw_at lw_m5 185 rfl) rfl
theorem q1255 : (Jvm.Cond.instanceMethod ({ cls := "java/util/ArrayList", name := "get", desc := "(I)Ljava/lang/Object;" } : Jvm.MethodName)) ∈ lw_all := lw_g (lw_at lw_m5 211 rfl) rfl
theorem q1256 : (Jvm.Cond.selects "java/util/ArrayList" ({ cls := "java/util/ArrayList", name := "get", desc := "(I)Ljava/lang/Object;" } : Jvm.MethodName) ({ cls := "java/util/ArrayList", name := "get", desc := "(I)Ljava/lang/Object;" } : Jvm.MethodName)) ∈ lw_all := lw_g (lw_at lw_m5 212 rfl) rfl
theorem q1257 : (Jvm.Cond.code ({ cls := "java/util/ArrayList", name := "get", desc := "(I)Ljava/lang/Object;" } : Jvm.MethodName) prog_47_method_20_code (2 : Nat) (Option.some (Jvm.ClassFile.FieldType.object "java/lang/Object"))) ∈ lw_all := lw_g (lw_at lw_m5 213 rfl) rfl
theorem q1258 : (Jvm.Cond.methodLink "java/util/ArrayList" (118 : Nat) ({ cls := "java/util/Objects", name := "checkIndex", desc := "(II)I" } : Jvm.MethodName)) ∈ lw_all := lw_g (lw_at lw_m5 214 rfl) rfl
theorem q1262 : (Jvm.Cond.methodLink "java/util/ArrayList" (123 : Nat) ({ cls := "java/util/ArrayList", name := "elementData", desc := "(I)Ljava/lang/Object;" } : Jvm.MethodName)) ∈ lw_all := lw_g (lw_at lw_m5 218 rfl) rfl
theorem q1263 : (Jvm.Cond.instanceMethod ({ cls := "java/util/ArrayList", name := "elementData", desc := "(I)Ljava/lang/Object;" } : Jvm.MethodName)) ∈ lw_all := lw_g (lw_at lw_m5 219 rfl) rfl
theorem q1264 : (Jvm.Cond.selects "java/util/ArrayList" ({ cls := "java/util/ArrayList", name := "elementData", desc := "(I)Ljava/lang/Object;" } : Jvm.MethodName) ({ cls := "java/util/ArrayList", name := "elementData", desc := "(I)Ljava/lang/Object;" } : Jvm.MethodName)) ∈ lw_all := lw_g (lw_at lw_m5 220 rfl) rfl
theorem q1265 : (Jvm.Cond.code ({ cls := "java/util/ArrayList", name := "elementData", desc := "(I)Ljava/lang/Object;" } : Jvm.MethodName) prog_47_method_18_code (2 : Nat) (Option.some (Jvm.ClassFile.FieldType.object "java/lang/Object"))) ∈ lw_all := lw_g (lw_at lw_m5 221 rfl) rfl
theorem q1605 : (Jvm.Cond.instanceMethod ({ cls := "java/util/ArrayList", name := "set", desc := "(ILjava/lang/Object;)Ljava/lang/Object;" } : Jvm.MethodName)) ∈ lw_all := lw_g (lw_at lw_m7 81 rfl) rfl
theorem q1606 : (Jvm.Cond.selects "java/util/ArrayList" ({ cls := "java/util/ArrayList", name := "set", desc := "(ILjava/lang/Object;)Ljava/lang/Object;" } : Jvm.MethodName) ({ cls := "java/util/ArrayList", name := "set", desc := "(ILjava/lang/Object;)Ljava/lang/Object;" } : Jvm.MethodName)) ∈ lw_all := lw_g (lw_at lw_m7 82 rfl) rfl
theorem q1607 : (Jvm.Cond.code ({ cls := "java/util/ArrayList", name := "set", desc := "(ILjava/lang/Object;)Ljava/lang/Object;" } : Jvm.MethodName) prog_47_method_23_code (4 : Nat) (Option.some (Jvm.ClassFile.FieldType.object "java/lang/Object"))) ∈ lw_all := lw_g (lw_at lw_m7 83 rfl) rfl
theorem q2331 : (Jvm.Cond.castable "java/util/ArrayList" "java/lang/Object") ∈ lw_tbl := lw_at lw_m10 87 rfl
theorem in_J3 : ∀ w ∈ wsJ30, w ∈ lw_all := lw_in wsJ30 [251, 247, 249] (by decide +kernel) (by decide +kernel)

/-! HouseClaps$Night -/
set_option maxRecDepth 100000
def RX3 : String := "HouseClaps$Night"
def TX3 : u_T := fun k => match k with
  | 0 => ("HouseClaps$Night", "h", "LHouseClaps$House;", false)
  | 1 => ("HouseClaps$Night", "paid", "J", false)
  | 2 => ("HouseClaps$Night", "hiss", "J", false)
  | 3 => ("HouseClaps$Night", "now", "I", false)
  | 4 => ("HouseClaps$Night", "next", "I", false)
  | 5 => ("HouseClaps$Night", "isStill", "Z", false)
  | 6 => ("HouseClaps$Night", "cues", "Ljava/util/ArrayList;", false)
  | 7 => ("HouseClaps$Night", "was", "[I", false)
  | 8 => ("HouseClaps$Night", "level", "[I", false)
  | 9 => ("HouseClaps$Night", "wasHeld", "[I", false)
  | 10 => ("HouseClaps$Night", "held", "[I", false)
  | 11 => ("HouseClaps$Night", "wasWith", "[J", true)
  | 12 => ("HouseClaps$Night", "with", "[J", true)
  | _ => ("HouseClaps$Night", "ahead", "J", false)
def tyX3 : Nat → FieldType := fun k => match k with
  | 0 => .object "HouseClaps$House"
  | 1 => .long
  | 2 => .long
  | 3 => .int
  | 4 => .int
  | 5 => .boolean
  | 6 => .object "java/util/ArrayList"
  | 7 => .array .int
  | 8 => .array .int
  | 9 => .array .int
  | 10 => .array .int
  | 11 => .array .long
  | 12 => .array .long
  | _ => .long
abbrev wsX30 : List Cond := u_ws RX3 TX3 14
set_option maxRecDepth 100000 in
theorem nmX3 : ∀ a, a < 14 → ∀ b, b < 14 → a ≠ b → (TX3 a).2.1 ≠ (TX3 b).2.1 := by decide +kernel
set_option maxRecDepth 100000 in
theorem tyX3_ok : ∀ k, k < 14 → parseFieldDescriptor (TX3 k).2.2.1 = some (tyX3 k) := by decide +kernel
abbrev cX3_init : ByteArray := prog_13_method_1_code
def yX3_init : MethodName := ⟨RX3, "<init>", "()V"⟩
abbrev cX3_begin : ByteArray := prog_13_method_2_code
def yX3_begin : MethodName := ⟨RX3, "begin", "(LHouseClaps$House;Ljava/util/ArrayList;JJ)LHouseClaps$Night;"⟩
abbrev cX3_cue : ByteArray := prog_13_method_3_code
def yX3_cue : MethodName := ⟨RX3, "cue", "()V"⟩
abbrev cX3_forced : ByteArray := prog_13_method_4_code
def yX3_forced : MethodName := ⟨RX3, "forced", "(I)I"⟩
abbrev cX3_count : ByteArray := prog_13_method_5_code
def yX3_count : MethodName := ⟨RX3, "count", "()V"⟩
abbrev cX3_to : ByteArray := prog_13_method_12_code
def yX3_to : MethodName := ⟨RX3, "to", "(I)LHouseClaps$Night;"⟩
abbrev cX3_step : ByteArray := prog_13_method_9_code
def yX3_step : MethodName := ⟨RX3, "step", "()V"⟩
abbrev cX3_go : ByteArray := prog_13_method_10_code
def yX3_go : MethodName := ⟨RX3, "go", "(I)V"⟩
abbrev cX3_likes : ByteArray := prog_13_method_11_code
def yX3_likes : MethodName := ⟨RX3, "likes", "(I)I"⟩
abbrev cX3_perceives : ByteArray := prog_13_method_6_code
def yX3_perceives : MethodName := ⟨RX3, "perceives", "(III)I"⟩
abbrev cX3_many : ByteArray := prog_13_method_7_code
def yX3_many : MethodName := ⟨RX3, "many", "(I)I"⟩
abbrev cX3_asked : ByteArray := prog_13_method_13_code
def yX3_asked : MethodName := ⟨RX3, "asked", "()LHouseClaps$Night;"⟩
abbrev cX3_isUp : ByteArray := prog_13_method_8_code
def yX3_isUp : MethodName := ⟨RX3, "isUp", "()Z"⟩
abbrev cX3_pack : ByteArray := prog_13_method_15_code
def yX3_pack : MethodName := ⟨RX3, "pack", "([J)V"⟩
abbrev cX3_height : ByteArray := prog_13_method_14_code
def yX3_height : MethodName := ⟨RX3, "height", "()I"⟩
theorem q91 : (Jvm.Cond.initialized "HouseClaps$Night") ∈ lw_all := lw_g (lw_at lw_m1 7 rfl) rfl
theorem q156 : (Jvm.Cond.fieldLinkNest "HouseClaps$Night" (137 : Nat) "HouseClaps$House" "columns" "I" "HouseClaps") ∈ lw_tbl := lw_at lw_m1 72 rfl
theorem q160 : (Jvm.Cond.fieldLinkNest "HouseClaps$Night" (125 : Nat) "HouseClaps$House" "carry" "I" "HouseClaps") ∈ lw_tbl := lw_at lw_m1 76 rfl
theorem q163 : (Jvm.Cond.fieldLinkNest "HouseClaps$Night" (102 : Nat) "HouseClaps$House" "paid" "I" "HouseClaps") ∈ lw_tbl := lw_at lw_m1 79 rfl
theorem q171 : (Jvm.Cond.fieldLinkNest "HouseClaps$Night" (134 : Nat) "HouseClaps$House" "isByRows" "Z" "HouseClaps") ∈ lw_tbl := lw_at lw_m1 87 rfl
theorem q175 : (Jvm.Cond.fieldLinkNest "HouseClaps$Night" (95 : Nat) "HouseClaps$House" "kind" "[I" "HouseClaps") ∈ lw_tbl := lw_at lw_m1 91 rfl
theorem q182 : (Jvm.Cond.fieldLinkNest "HouseClaps$Night" (89 : Nat) "HouseClaps$House" "leaves" "[I" "HouseClaps") ∈ lw_tbl := lw_at lw_m1 98 rfl
theorem q186 : (Jvm.Cond.fieldLinkNest "HouseClaps$Night" (153 : Nat) "HouseClaps$House" "up" "[LHouseClaps$Cond;" "HouseClaps") ∈ lw_tbl := lw_at lw_m1 102 rfl
theorem q190 : (Jvm.Cond.fieldLinkNest "HouseClaps$Night" (157 : Nat) "HouseClaps$House" "down" "[LHouseClaps$Cond;" "HouseClaps") ∈ lw_tbl := lw_at lw_m1 106 rfl
theorem q196 : (Jvm.Cond.fieldLinkNest "HouseClaps$Night" (104 : Nat) "HouseClaps$House" "area" "[[J" "HouseClaps") ∈ lw_tbl := lw_at lw_m1 112 rfl
theorem q255 : (Jvm.Cond.instantiable "HouseClaps$Night" (14 : Nat)) ∈ lw_all := lw_g (lw_at lw_m1 171 rfl) rfl
theorem q257 : (Jvm.Cond.instanceMethod ({ cls := "HouseClaps$Night", name := "<init>", desc := "()V" } : Jvm.MethodName)) ∈ lw_all := lw_g (lw_at lw_m1 173 rfl) rfl
theorem q258 : (Jvm.Cond.code ({ cls := "HouseClaps$Night", name := "<init>", desc := "()V" } : Jvm.MethodName) prog_13_method_1_code (1 : Nat) (Option.none : Option Jvm.ClassFile.FieldType)) ∈ lw_all := lw_g (lw_at lw_m1 174 rfl) rfl
theorem q259 : (Jvm.Cond.methodLink "HouseClaps$Night" (3 : Nat) ({ cls := "java/lang/Object", name := "<init>", desc := "()V" } : Jvm.MethodName)) ∈ lw_all := lw_g (lw_at lw_m1 175 rfl) rfl
theorem q260 : (Jvm.Cond.fieldLink "HouseClaps$Night" (31 : Nat) "HouseClaps$Night" "h" "LHouseClaps$House;") ∈ lw_all := lw_g (lw_at lw_m1 176 rfl) rfl
theorem q261 : (Jvm.Cond.fieldLink "HouseClaps$Night" (39 : Nat) "HouseClaps$Night" "paid" "J") ∈ lw_all := lw_g (lw_at lw_m1 177 rfl) rfl
theorem q264 : (Jvm.Cond.fieldLink "HouseClaps$Night" (43 : Nat) "HouseClaps$Night" "hiss" "J") ∈ lw_all := lw_g (lw_at lw_m1 180 rfl) rfl
theorem q267 : (Jvm.Cond.fieldLink "HouseClaps$Night" (46 : Nat) "HouseClaps$Night" "now" "I") ∈ lw_all := lw_g (lw_at lw_m1 183 rfl) rfl
theorem q269 : (Jvm.Cond.fieldLink "HouseClaps$Night" (50 : Nat) "HouseClaps$Night" "next" "I") ∈ lw_all := lw_g (lw_at lw_m1 185 rfl) rfl
theorem q270 : (Jvm.Cond.fieldLink "HouseClaps$Night" (69 : Nat) "HouseClaps$Night" "isStill" "Z") ∈ lw_all := lw_g (lw_at lw_m1 186 rfl) rfl
theorem q272 : (Jvm.Cond.fieldLink "HouseClaps$Night" (35 : Nat) "HouseClaps$Night" "cues" "Ljava/util/ArrayList;") ∈ lw_all := lw_g (lw_at lw_m1 188 rfl) rfl
theorem q273 : (Jvm.Cond.fieldLink "HouseClaps$Night" (9 : Nat) "HouseClaps$Night" "was" "[I") ∈ lw_all := lw_g (lw_at lw_m1 189 rfl) rfl
theorem q275 : (Jvm.Cond.fieldLink "HouseClaps$Night" (15 : Nat) "HouseClaps$Night" "level" "[I") ∈ lw_all := lw_g (lw_at lw_m1 191 rfl) rfl
theorem q277 : (Jvm.Cond.fieldLink "HouseClaps$Night" (18 : Nat) "HouseClaps$Night" "wasHeld" "[I") ∈ lw_all := lw_g (lw_at lw_m1 193 rfl) rfl
theorem q279 : (Jvm.Cond.fieldLink "HouseClaps$Night" (21 : Nat) "HouseClaps$Night" "held" "[I") ∈ lw_all := lw_g (lw_at lw_m1 195 rfl) rfl
theorem q281 : (Jvm.Cond.fieldLink "HouseClaps$Night" (24 : Nat) "HouseClaps$Night" "wasWith" "[J") ∈ lw_all := lw_g (lw_at lw_m1 197 rfl) rfl
theorem q282 : (Jvm.Cond.fieldLink "HouseClaps$Night" (28 : Nat) "HouseClaps$Night" "with" "[J") ∈ lw_all := lw_g (lw_at lw_m1 198 rfl) rfl
theorem q284 : (Jvm.Cond.fieldLink "HouseClaps$Night" (108 : Nat) "HouseClaps$Night" "ahead" "J") ∈ lw_all := lw_g (lw_at lw_m1 200 rfl) rfl
theorem q285 : (Jvm.Cond.lays "HouseClaps$Night" "HouseClaps$Night" "h" "LHouseClaps$House;") ∈ lw_all := lw_g (lw_at lw_m1 201 rfl) rfl
theorem q286 : (Jvm.Cond.soleField "HouseClaps$Night" "h") ∈ lw_all := lw_g (lw_at lw_m1 202 rfl) rfl
theorem q287 : (Jvm.Cond.lays "HouseClaps$Night" "HouseClaps$Night" "paid" "J") ∈ lw_all := lw_g (lw_at lw_m1 203 rfl) rfl
theorem q288 : (Jvm.Cond.soleField "HouseClaps$Night" "paid") ∈ lw_all := lw_g (lw_at lw_m1 204 rfl) rfl
theorem q289 : (Jvm.Cond.lays "HouseClaps$Night" "HouseClaps$Night" "hiss" "J") ∈ lw_all := lw_g (lw_at lw_m1 205 rfl) rfl
theorem q290 : (Jvm.Cond.soleField "HouseClaps$Night" "hiss") ∈ lw_all := lw_g (lw_at lw_m1 206 rfl) rfl
theorem q291 : (Jvm.Cond.lays "HouseClaps$Night" "HouseClaps$Night" "now" "I") ∈ lw_all := lw_g (lw_at lw_m1 207 rfl) rfl
theorem q292 : (Jvm.Cond.soleField "HouseClaps$Night" "now") ∈ lw_all := lw_g (lw_at lw_m1 208 rfl) rfl
theorem q293 : (Jvm.Cond.lays "HouseClaps$Night" "HouseClaps$Night" "next" "I") ∈ lw_all := lw_g (lw_at lw_m1 209 rfl) rfl
theorem q294 : (Jvm.Cond.soleField "HouseClaps$Night" "next") ∈ lw_all := lw_g (lw_at lw_m1 210 rfl) rfl
theorem q295 : (Jvm.Cond.lays "HouseClaps$Night" "HouseClaps$Night" "isStill" "Z") ∈ lw_all := lw_g (lw_at lw_m1 211 rfl) rfl
theorem q296 : (Jvm.Cond.soleField "HouseClaps$Night" "isStill") ∈ lw_all := lw_g (lw_at lw_m1 212 rfl) rfl
theorem q297 : (Jvm.Cond.lays "HouseClaps$Night" "HouseClaps$Night" "cues" "Ljava/util/ArrayList;") ∈ lw_all := lw_g (lw_at lw_m1 213 rfl) rfl
theorem q298 : (Jvm.Cond.soleField "HouseClaps$Night" "cues") ∈ lw_all := lw_g (lw_at lw_m1 214 rfl) rfl
theorem q299 : (Jvm.Cond.lays "HouseClaps$Night" "HouseClaps$Night" "was" "[I") ∈ lw_all := lw_g (lw_at lw_m1 215 rfl) rfl
theorem q300 : (Jvm.Cond.soleField "HouseClaps$Night" "was") ∈ lw_all := lw_g (lw_at lw_m1 216 rfl) rfl
theorem q301 : (Jvm.Cond.lays "HouseClaps$Night" "HouseClaps$Night" "level" "[I") ∈ lw_all := lw_g (lw_at lw_m1 217 rfl) rfl
theorem q302 : (Jvm.Cond.soleField "HouseClaps$Night" "level") ∈ lw_all := lw_g (lw_at lw_m1 218 rfl) rfl
theorem q303 : (Jvm.Cond.lays "HouseClaps$Night" "HouseClaps$Night" "wasHeld" "[I") ∈ lw_all := lw_g (lw_at lw_m1 219 rfl) rfl
theorem q304 : (Jvm.Cond.soleField "HouseClaps$Night" "wasHeld") ∈ lw_all := lw_g (lw_at lw_m1 220 rfl) rfl
theorem q305 : (Jvm.Cond.lays "HouseClaps$Night" "HouseClaps$Night" "held" "[I") ∈ lw_all := lw_g (lw_at lw_m1 221 rfl) rfl
theorem q306 : (Jvm.Cond.soleField "HouseClaps$Night" "held") ∈ lw_all := lw_g (lw_at lw_m1 222 rfl) rfl
theorem q307 : (Jvm.Cond.laysFinal "HouseClaps$Night" "HouseClaps$Night" "wasWith" "[J") ∈ lw_all := lw_g (lw_at lw_m1 223 rfl) rfl
theorem q308 : (Jvm.Cond.soleField "HouseClaps$Night" "wasWith") ∈ lw_all := lw_g (lw_at lw_m1 224 rfl) rfl
theorem q309 : (Jvm.Cond.laysFinal "HouseClaps$Night" "HouseClaps$Night" "with" "[J") ∈ lw_all := lw_g (lw_at lw_m1 225 rfl) rfl
theorem q310 : (Jvm.Cond.soleField "HouseClaps$Night" "with") ∈ lw_all := lw_g (lw_at lw_m1 226 rfl) rfl
theorem q311 : (Jvm.Cond.lays "HouseClaps$Night" "HouseClaps$Night" "ahead" "J") ∈ lw_all := lw_g (lw_at lw_m1 227 rfl) rfl
theorem q312 : (Jvm.Cond.soleField "HouseClaps$Night" "ahead") ∈ lw_all := lw_g (lw_at lw_m1 228 rfl) rfl
theorem q313 : (Jvm.Cond.superclass "HouseClaps$Night" "java/lang/Object") ∈ lw_all := lw_g (lw_at lw_m1 229 rfl) rfl
theorem q1139 : (Jvm.Cond.fieldLink "HouseClaps$Night" (82 : Nat) "HouseClaps$Cue" "moment" "I") ∈ lw_all := lw_g (lw_at lw_m5 95 rfl) rfl
theorem q1209 : (Jvm.Cond.selects "HouseClaps$Night" ({ cls := "java/lang/Object", name := "getClass", desc := "()Ljava/lang/Class;" } : Jvm.MethodName) ({ cls := "java/lang/Object", name := "getClass", desc := "()Ljava/lang/Class;" } : Jvm.MethodName)) ∈ lw_all := lw_g (lw_at lw_m5 165 rfl) rfl
theorem q1246 : (Jvm.Cond.instanceMethod ({ cls := "HouseClaps$Night", name := "begin", desc := "(LHouseClaps$House;Ljava/util/ArrayList;JJ)LHouseClaps$Night;" } : Jvm.MethodName)) ∈ lw_all := lw_g (lw_at lw_m5 202 rfl) rfl
theorem q1247 : (Jvm.Cond.selects "HouseClaps$Night" ({ cls := "HouseClaps$Night", name := "begin", desc := "(LHouseClaps$House;Ljava/util/ArrayList;JJ)LHouseClaps$Night;" } : Jvm.MethodName) ({ cls := "HouseClaps$Night", name := "begin", desc := "(LHouseClaps$House;Ljava/util/ArrayList;JJ)LHouseClaps$Night;" } : Jvm.MethodName)) ∈ lw_all := lw_g (lw_at lw_m5 203 rfl) rfl
theorem q1248 : (Jvm.Cond.code ({ cls := "HouseClaps$Night", name := "begin", desc := "(LHouseClaps$House;Ljava/util/ArrayList;JJ)LHouseClaps$Night;" } : Jvm.MethodName) prog_13_method_2_code (8 : Nat) (Option.some (Jvm.ClassFile.FieldType.object "HouseClaps$Night"))) ∈ lw_all := lw_g (lw_at lw_m5 204 rfl) rfl
theorem q1249 : (Jvm.Cond.methodLink "HouseClaps$Night" (53 : Nat) ({ cls := "HouseClaps$Night", name := "cue", desc := "()V" } : Jvm.MethodName)) ∈ lw_all := lw_g (lw_at lw_m5 205 rfl) rfl
theorem q1250 : (Jvm.Cond.privateMethod ({ cls := "HouseClaps$Night", name := "cue", desc := "()V" } : Jvm.MethodName)) ∈ lw_tbl := lw_at lw_m5 206 rfl
theorem q1251 : (Jvm.Cond.instanceMethod ({ cls := "HouseClaps$Night", name := "cue", desc := "()V" } : Jvm.MethodName)) ∈ lw_all := lw_g (lw_at lw_m5 207 rfl) rfl
theorem q1252 : (Jvm.Cond.code ({ cls := "HouseClaps$Night", name := "cue", desc := "()V" } : Jvm.MethodName) prog_13_method_3_code (1 : Nat) (Option.none : Option Jvm.ClassFile.FieldType)) ∈ lw_all := lw_g (lw_at lw_m5 208 rfl) rfl
theorem q1253 : (Jvm.Cond.methodLink "HouseClaps$Night" (73 : Nat) ({ cls := "java/util/ArrayList", name := "size", desc := "()I" } : Jvm.MethodName)) ∈ lw_all := lw_g (lw_at lw_m5 209 rfl) rfl
theorem q1254 : (Jvm.Cond.methodLink "HouseClaps$Night" (76 : Nat) ({ cls := "java/util/ArrayList", name := "get", desc := "(I)Ljava/lang/Object;" } : Jvm.MethodName)) ∈ lw_all := lw_g (lw_at lw_m5 210 rfl) rfl
theorem q1266 : (Jvm.Cond.classLink "HouseClaps$Night" (80 : Nat) "HouseClaps$Cue") ∈ lw_all := lw_g (lw_at lw_m5 222 rfl) rfl
theorem q1267 : (Jvm.Cond.methodLink "HouseClaps$Night" (85 : Nat) ({ cls := "HouseClaps$Cue", name := "does", desc := "(LHouseClaps$Night;)V" } : Jvm.MethodName)) ∈ lw_all := lw_g (lw_at lw_m5 223 rfl) rfl
theorem q1294 : (Jvm.Cond.methodLink "HouseClaps$Night" (56 : Nat) ({ cls := "HouseClaps$House", name := "size", desc := "()I" } : Jvm.MethodName)) ∈ lw_all := lw_g (lw_at lw_m6 10 rfl) rfl
theorem q1295 : (Jvm.Cond.methodLink "HouseClaps$Night" (62 : Nat) ({ cls := "HouseClaps$Night", name := "forced", desc := "(I)I" } : Jvm.MethodName)) ∈ lw_all := lw_g (lw_at lw_m6 11 rfl) rfl
theorem q1296 : (Jvm.Cond.privateMethod ({ cls := "HouseClaps$Night", name := "forced", desc := "(I)I" } : Jvm.MethodName)) ∈ lw_tbl := lw_at lw_m6 12 rfl
theorem q1297 : (Jvm.Cond.instanceMethod ({ cls := "HouseClaps$Night", name := "forced", desc := "(I)I" } : Jvm.MethodName)) ∈ lw_all := lw_g (lw_at lw_m6 13 rfl) rfl
theorem q1298 : (Jvm.Cond.code ({ cls := "HouseClaps$Night", name := "forced", desc := "(I)I" } : Jvm.MethodName) prog_13_method_4_code (3 : Nat) (Option.some Jvm.ClassFile.FieldType.int)) ∈ lw_all := lw_g (lw_at lw_m6 14 rfl) rfl
theorem q1299 : (Jvm.Cond.methodLink "HouseClaps$Night" (92 : Nat) ({ cls := "HouseClaps$House", name := "row", desc := "(I)I" } : Jvm.MethodName)) ∈ lw_all := lw_g (lw_at lw_m6 15 rfl) rfl
theorem q1303 : (Jvm.Cond.methodLinkNest "HouseClaps$Night" (98 : Nat) ({ cls := "HouseClaps", name := "has", desc := "(JI)Z" } : Jvm.MethodName) "HouseClaps") ∈ lw_tbl := lw_at lw_m6 19 rfl
theorem q1306 : (Jvm.Cond.methodLink "HouseClaps$Night" (66 : Nat) ({ cls := "HouseClaps$Night", name := "count", desc := "()V" } : Jvm.MethodName)) ∈ lw_all := lw_g (lw_at lw_m6 22 rfl) rfl
theorem q1307 : (Jvm.Cond.privateMethod ({ cls := "HouseClaps$Night", name := "count", desc := "()V" } : Jvm.MethodName)) ∈ lw_tbl := lw_at lw_m6 23 rfl
theorem q1308 : (Jvm.Cond.instanceMethod ({ cls := "HouseClaps$Night", name := "count", desc := "()V" } : Jvm.MethodName)) ∈ lw_all := lw_g (lw_at lw_m6 24 rfl) rfl
theorem q1309 : (Jvm.Cond.code ({ cls := "HouseClaps$Night", name := "count", desc := "()V" } : Jvm.MethodName) prog_13_method_5_code (3 : Nat) (Option.none : Option Jvm.ClassFile.FieldType)) ∈ lw_all := lw_g (lw_at lw_m6 25 rfl) rfl
theorem q1311 : (Jvm.Cond.instanceMethod ({ cls := "HouseClaps$Night", name := "to", desc := "(I)LHouseClaps$Night;" } : Jvm.MethodName)) ∈ lw_all := lw_g (lw_at lw_m6 27 rfl) rfl
theorem q1312 : (Jvm.Cond.selects "HouseClaps$Night" ({ cls := "HouseClaps$Night", name := "to", desc := "(I)LHouseClaps$Night;" } : Jvm.MethodName) ({ cls := "HouseClaps$Night", name := "to", desc := "(I)LHouseClaps$Night;" } : Jvm.MethodName)) ∈ lw_all := lw_g (lw_at lw_m6 28 rfl) rfl
theorem q1313 : (Jvm.Cond.code ({ cls := "HouseClaps$Night", name := "to", desc := "(I)LHouseClaps$Night;" } : Jvm.MethodName) prog_13_method_12_code (2 : Nat) (Option.some (Jvm.ClassFile.FieldType.object "HouseClaps$Night"))) ∈ lw_all := lw_g (lw_at lw_m6 29 rfl) rfl
theorem q1314 : (Jvm.Cond.methodLink "HouseClaps$Night" (169 : Nat) ({ cls := "HouseClaps$Night", name := "step", desc := "()V" } : Jvm.MethodName)) ∈ lw_all := lw_g (lw_at lw_m6 30 rfl) rfl
theorem q1315 : (Jvm.Cond.instanceMethod ({ cls := "HouseClaps$Night", name := "step", desc := "()V" } : Jvm.MethodName)) ∈ lw_all := lw_g (lw_at lw_m6 31 rfl) rfl
theorem q1316 : (Jvm.Cond.selects "HouseClaps$Night" ({ cls := "HouseClaps$Night", name := "step", desc := "()V" } : Jvm.MethodName) ({ cls := "HouseClaps$Night", name := "step", desc := "()V" } : Jvm.MethodName)) ∈ lw_all := lw_g (lw_at lw_m6 32 rfl) rfl
theorem q1317 : (Jvm.Cond.code ({ cls := "HouseClaps$Night", name := "step", desc := "()V" } : Jvm.MethodName) prog_13_method_9_code (4 : Nat) (Option.none : Option Jvm.ClassFile.FieldType)) ∈ lw_all := lw_g (lw_at lw_m6 33 rfl) rfl
theorem q1318 : (Jvm.Cond.methodLink "HouseClaps$Night" (128 : Nat) ({ cls := "java/lang/System", name := "arraycopy", desc := "(Ljava/lang/Object;ILjava/lang/Object;II)V" } : Jvm.MethodName)) ∈ lw_all := lw_g (lw_at lw_m6 34 rfl) rfl
theorem q1319 : (Jvm.Cond.methodLink "HouseClaps$Night" (140 : Nat) ({ cls := "HouseClaps$Night", name := "go", desc := "(I)V" } : Jvm.MethodName)) ∈ lw_all := lw_g (lw_at lw_m6 35 rfl) rfl
theorem q1320 : (Jvm.Cond.privateMethod ({ cls := "HouseClaps$Night", name := "go", desc := "(I)V" } : Jvm.MethodName)) ∈ lw_tbl := lw_at lw_m6 36 rfl
theorem q1321 : (Jvm.Cond.instanceMethod ({ cls := "HouseClaps$Night", name := "go", desc := "(I)V" } : Jvm.MethodName)) ∈ lw_all := lw_g (lw_at lw_m6 37 rfl) rfl
theorem q1322 : (Jvm.Cond.code ({ cls := "HouseClaps$Night", name := "go", desc := "(I)V" } : Jvm.MethodName) prog_13_method_10_code (4 : Nat) (Option.none : Option Jvm.ClassFile.FieldType)) ∈ lw_all := lw_g (lw_at lw_m6 38 rfl) rfl
theorem q1323 : (Jvm.Cond.methodLink "HouseClaps$Night" (144 : Nat) ({ cls := "HouseClaps$Night", name := "likes", desc := "(I)I" } : Jvm.MethodName)) ∈ lw_all := lw_g (lw_at lw_m6 39 rfl) rfl
theorem q1324 : (Jvm.Cond.privateMethod ({ cls := "HouseClaps$Night", name := "likes", desc := "(I)I" } : Jvm.MethodName)) ∈ lw_tbl := lw_at lw_m6 40 rfl
theorem q1325 : (Jvm.Cond.instanceMethod ({ cls := "HouseClaps$Night", name := "likes", desc := "(I)I" } : Jvm.MethodName)) ∈ lw_all := lw_g (lw_at lw_m6 41 rfl) rfl
theorem q1326 : (Jvm.Cond.code ({ cls := "HouseClaps$Night", name := "likes", desc := "(I)I" } : Jvm.MethodName) prog_13_method_11_code (4 : Nat) (Option.some Jvm.ClassFile.FieldType.int)) ∈ lw_all := lw_g (lw_at lw_m6 42 rfl) rfl
theorem q1327 : (Jvm.Cond.methodLink "HouseClaps$Night" (160 : Nat) ({ cls := "HouseClaps$Cond", name := "holds", desc := "(LHouseClaps$Night;I)Z" } : Jvm.MethodName)) ∈ lw_all := lw_g (lw_at lw_m6 43 rfl) rfl
theorem q1346 : (Jvm.Cond.instanceMethod ({ cls := "HouseClaps$Night", name := "perceives", desc := "(III)I" } : Jvm.MethodName)) ∈ lw_all := lw_g (lw_at lw_m6 62 rfl) rfl
theorem q1347 : (Jvm.Cond.selects "HouseClaps$Night" ({ cls := "HouseClaps$Night", name := "perceives", desc := "(III)I" } : Jvm.MethodName) ({ cls := "HouseClaps$Night", name := "perceives", desc := "(III)I" } : Jvm.MethodName)) ∈ lw_all := lw_g (lw_at lw_m6 63 rfl) rfl
theorem q1348 : (Jvm.Cond.code ({ cls := "HouseClaps$Night", name := "perceives", desc := "(III)I" } : Jvm.MethodName) prog_13_method_6_code (4 : Nat) (Option.some Jvm.ClassFile.FieldType.int)) ∈ lw_all := lw_g (lw_at lw_m6 64 rfl) rfl
theorem q1349 : (Jvm.Cond.constantLong "HouseClaps$Night" (111 : Nat) (-1 : Int64)) ∈ lw_all := lw_g (lw_at lw_m6 65 rfl) rfl
theorem q1350 : (Jvm.Cond.methodLink "HouseClaps$Night" (113 : Nat) ({ cls := "java/lang/Long", name := "bitCount", desc := "(J)I" } : Jvm.MethodName)) ∈ lw_all := lw_g (lw_at lw_m6 66 rfl) rfl
theorem q1370 : (Jvm.Cond.methodLink "HouseClaps$Night" (147 : Nat) ({ cls := "java/lang/Math", name := "min", desc := "(II)I" } : Jvm.MethodName)) ∈ lw_all := lw_g (lw_at lw_m6 86 rfl) rfl
theorem q1371 : (Jvm.Cond.methodLink "HouseClaps$Night" (166 : Nat) ({ cls := "java/lang/Math", name := "max", desc := "(II)I" } : Jvm.MethodName)) ∈ lw_all := lw_g (lw_at lw_m6 87 rfl) rfl
theorem q1382 : (Jvm.Cond.instanceMethod ({ cls := "HouseClaps$Night", name := "many", desc := "(I)I" } : Jvm.MethodName)) ∈ lw_all := lw_g (lw_at lw_m6 98 rfl) rfl
theorem q1383 : (Jvm.Cond.selects "HouseClaps$Night" ({ cls := "HouseClaps$Night", name := "many", desc := "(I)I" } : Jvm.MethodName) ({ cls := "HouseClaps$Night", name := "many", desc := "(I)I" } : Jvm.MethodName)) ∈ lw_all := lw_g (lw_at lw_m6 99 rfl) rfl
theorem q1384 : (Jvm.Cond.code ({ cls := "HouseClaps$Night", name := "many", desc := "(I)I" } : Jvm.MethodName) prog_13_method_7_code (2 : Nat) (Option.some Jvm.ClassFile.FieldType.int)) ∈ lw_all := lw_g (lw_at lw_m6 100 rfl) rfl
theorem q1385 : (Jvm.Cond.methodLink "HouseClaps$Night" (119 : Nat) ({ cls := "HouseClaps$House", name := "seats", desc := "()I" } : Jvm.MethodName)) ∈ lw_all := lw_g (lw_at lw_m6 101 rfl) rfl
theorem q1394 : (Jvm.Cond.instanceMethod ({ cls := "HouseClaps$Night", name := "asked", desc := "()LHouseClaps$Night;" } : Jvm.MethodName)) ∈ lw_all := lw_g (lw_at lw_m6 110 rfl) rfl
theorem q1395 : (Jvm.Cond.selects "HouseClaps$Night" ({ cls := "HouseClaps$Night", name := "asked", desc := "()LHouseClaps$Night;" } : Jvm.MethodName) ({ cls := "HouseClaps$Night", name := "asked", desc := "()LHouseClaps$Night;" } : Jvm.MethodName)) ∈ lw_all := lw_g (lw_at lw_m6 111 rfl) rfl
theorem q1396 : (Jvm.Cond.code ({ cls := "HouseClaps$Night", name := "asked", desc := "()LHouseClaps$Night;" } : Jvm.MethodName) prog_13_method_13_code (1 : Nat) (Option.some (Jvm.ClassFile.FieldType.object "HouseClaps$Night"))) ∈ lw_all := lw_g (lw_at lw_m6 112 rfl) rfl
theorem q1412 : (Jvm.Cond.instanceMethod ({ cls := "HouseClaps$Night", name := "isUp", desc := "()Z" } : Jvm.MethodName)) ∈ lw_all := lw_g (lw_at lw_m6 128 rfl) rfl
theorem q1413 : (Jvm.Cond.selects "HouseClaps$Night" ({ cls := "HouseClaps$Night", name := "isUp", desc := "()Z" } : Jvm.MethodName) ({ cls := "HouseClaps$Night", name := "isUp", desc := "()Z" } : Jvm.MethodName)) ∈ lw_all := lw_g (lw_at lw_m6 129 rfl) rfl
theorem q1414 : (Jvm.Cond.code ({ cls := "HouseClaps$Night", name := "isUp", desc := "()Z" } : Jvm.MethodName) prog_13_method_8_code (1 : Nat) (Option.some Jvm.ClassFile.FieldType.boolean)) ∈ lw_all := lw_g (lw_at lw_m6 130 rfl) rfl
theorem q1415 : (Jvm.Cond.methodLink "HouseClaps$Night" (122 : Nat) ({ cls := "HouseClaps$Night", name := "many", desc := "(I)I" } : Jvm.MethodName)) ∈ lw_all := lw_g (lw_at lw_m6 131 rfl) rfl
theorem q1425 : (Jvm.Cond.instanceMethod ({ cls := "HouseClaps$Night", name := "pack", desc := "([J)V" } : Jvm.MethodName)) ∈ lw_all := lw_g (lw_at lw_m6 141 rfl) rfl
theorem q1426 : (Jvm.Cond.selects "HouseClaps$Night" ({ cls := "HouseClaps$Night", name := "pack", desc := "([J)V" } : Jvm.MethodName) ({ cls := "HouseClaps$Night", name := "pack", desc := "([J)V" } : Jvm.MethodName)) ∈ lw_all := lw_g (lw_at lw_m6 142 rfl) rfl
theorem q1427 : (Jvm.Cond.code ({ cls := "HouseClaps$Night", name := "pack", desc := "([J)V" } : Jvm.MethodName) prog_13_method_15_code (3 : Nat) (Option.none : Option Jvm.ClassFile.FieldType)) ∈ lw_all := lw_g (lw_at lw_m6 143 rfl) rfl
theorem q1463 : (Jvm.Cond.instanceMethod ({ cls := "HouseClaps$Night", name := "height", desc := "()I" } : Jvm.MethodName)) ∈ lw_all := lw_g (lw_at lw_m6 179 rfl) rfl
theorem q1464 : (Jvm.Cond.selects "HouseClaps$Night" ({ cls := "HouseClaps$Night", name := "height", desc := "()I" } : Jvm.MethodName) ({ cls := "HouseClaps$Night", name := "height", desc := "()I" } : Jvm.MethodName)) ∈ lw_all := lw_g (lw_at lw_m6 180 rfl) rfl
theorem q1465 : (Jvm.Cond.code ({ cls := "HouseClaps$Night", name := "height", desc := "()I" } : Jvm.MethodName) prog_13_method_14_code (2 : Nat) (Option.some Jvm.ClassFile.FieldType.int)) ∈ lw_all := lw_g (lw_at lw_m6 181 rfl) rfl
theorem q2332 : (Jvm.Cond.castable "HouseClaps$Night" "java/lang/Object") ∈ lw_tbl := lw_at lw_m10 88 rfl
theorem in_X3 : ∀ w ∈ wsX30, w ∈ lw_all := lw_in wsX30 [285, 287, 289, 291, 293, 295, 297, 299, 301, 303, 305, 307, 309, 311] (by decide +kernel) (by decide +kernel)

/-! HouseClapsModel -/
set_option maxRecDepth 100000
def RX4 : String := "HouseClapsModel"
def TX4 : u_T := fun k => match k with
  | 0 => ("HouseClapsModel", "thrown", "I", false)
  | 1 => ("HouseClapsModel", "tape", "[B", true)
  | 2 => ("HouseClapsModel", "length", "I", false)
  | 3 => ("HouseClapsModel", "size", "I", false)
  | 4 => ("HouseClapsModel", "p", "I", false)
  | 5 => ("HouseClapsModel", "limit", "I", false)
  | 6 => ("HouseClapsModel", "s", "[I", true)
  | 7 => ("HouseClapsModel", "h", "[I", true)
  | 8 => ("HouseClapsModel", "newCues", "[I", true)
  | 9 => ("HouseClapsModel", "token", "I", false)
  | 10 => ("HouseClapsModel", "at", "I", false)
  | 11 => ("HouseClapsModel", "span", "I", false)
  | 12 => ("HouseClapsModel", "number", "I", false)
  | 13 => ("HouseClapsModel", "fault", "I", false)
  | 14 => ("HouseClapsModel", "faultAt", "I", false)
  | 15 => ("HouseClapsModel", "word", "J", false)
  | 16 => ("HouseClapsModel", "seatsPaid", "J", false)
  | 17 => ("HouseClapsModel", "seatsHiss", "J", false)
  | 18 => ("HouseClapsModel", "got", "I", false)
  | 19 => ("HouseClapsModel", "lines", "I", false)
  | 20 => ("HouseClapsModel", "prices", "I", false)
  | 21 => ("HouseClapsModel", "leavings", "I", false)
  | 22 => ("HouseClapsModel", "onces", "I", false)
  | 23 => ("HouseClapsModel", "code", "[I", true)
  | 24 => ("HouseClapsModel", "pile", "[I", true)
  | 25 => ("HouseClapsModel", "held", "[Z", true)
  | 26 => ("HouseClapsModel", "codeMany", "I", false)
  | 27 => ("HouseClapsModel", "pileMany", "I", false)
  | 28 => ("HouseClapsModel", "ones", "I", false)
  | 29 => ("HouseClapsModel", "area", "[J", true)
  | 30 => ("HouseClapsModel", "lays", "Z", false)
  | 31 => ("HouseClapsModel", "coming", "I", false)
  | 32 => ("HouseClapsModel", "claps", "[J", true)
  | 33 => ("HouseClapsModel", "stand", "[J", true)
  | 34 => ("HouseClapsModel", "heldLow", "[J", true)
  | 35 => ("HouseClapsModel", "heldHigh", "[J", true)
  | 36 => ("HouseClapsModel", "paidNow", "J", false)
  | 37 => ("HouseClapsModel", "hissNow", "J", false)
  | 38 => ("HouseClapsModel", "clapping", "J", false)
  | 39 => ("HouseClapsModel", "standing", "J", false)
  | 40 => ("HouseClapsModel", "low", "J", false)
  | 41 => ("HouseClapsModel", "high", "J", false)
  | 42 => ("HouseClapsModel", "gone", "I", false)
  | 43 => ("HouseClapsModel", "cueNext", "I", false)
  | 44 => ("HouseClapsModel", "nightHeight", "I", false)
  | 45 => ("HouseClapsModel", "nightCarries", "Z", false)
  | 46 => ("HouseClapsModel", "asked", "[I", true)
  | 47 => ("HouseClapsModel", "askedMany", "I", false)
  | 48 => ("HouseClapsModel", "bought", "I", false)
  | 49 => ("HouseClapsModel", "carried", "[Z", true)
  | 50 => ("HouseClapsModel", "heights", "[I", true)
  | 51 => ("HouseClapsModel", "worths", "[J", true)
  | 52 => ("HouseClapsModel", "worthMany", "I", false)
  | 53 => ("HouseClapsModel", "allOrders", "J", false)
  | 54 => ("HouseClapsModel", "side", "[I", true)
  | 55 => ("HouseClapsModel", "hasSides", "Z", false)
  | 56 => ("HouseClapsModel", "seenClaps", "J", false)
  | 57 => ("HouseClapsModel", "seenStand", "J", false)
  | 58 => ("HouseClapsModel", "seenAll", "J", false)
  | 59 => ("HouseClapsModel", "beganA", "I", false)
  | 60 => ("HouseClapsModel", "beganB", "I", false)
  | 61 => ("HouseClapsModel", "otherClaps", "[J", true)
  | 62 => ("HouseClapsModel", "otherStand", "[J", true)
  | 63 => ("HouseClapsModel", "arranged", "I", false)
  | 64 => ("HouseClapsModel", "seed", "I", false)
  | 65 => ("HouseClapsModel", "kept", "[I", true)
  | 66 => ("HouseClapsModel", "keptPaid", "[J", true)
  | 67 => ("HouseClapsModel", "keptHiss", "[J", true)
  | _ => ("HouseClapsModel", "isKept", "[Z", true)
def tyX4 : Nat → FieldType := fun k => match k with
  | 0 => .int
  | 1 => .array .byte
  | 2 => .int
  | 3 => .int
  | 4 => .int
  | 5 => .int
  | 6 => .array .int
  | 7 => .array .int
  | 8 => .array .int
  | 9 => .int
  | 10 => .int
  | 11 => .int
  | 12 => .int
  | 13 => .int
  | 14 => .int
  | 15 => .long
  | 16 => .long
  | 17 => .long
  | 18 => .int
  | 19 => .int
  | 20 => .int
  | 21 => .int
  | 22 => .int
  | 23 => .array .int
  | 24 => .array .int
  | 25 => .array .boolean
  | 26 => .int
  | 27 => .int
  | 28 => .int
  | 29 => .array .long
  | 30 => .boolean
  | 31 => .int
  | 32 => .array .long
  | 33 => .array .long
  | 34 => .array .long
  | 35 => .array .long
  | 36 => .long
  | 37 => .long
  | 38 => .long
  | 39 => .long
  | 40 => .long
  | 41 => .long
  | 42 => .int
  | 43 => .int
  | 44 => .int
  | 45 => .boolean
  | 46 => .array .int
  | 47 => .int
  | 48 => .int
  | 49 => .array .boolean
  | 50 => .array .int
  | 51 => .array .long
  | 52 => .int
  | 53 => .long
  | 54 => .array .int
  | 55 => .boolean
  | 56 => .long
  | 57 => .long
  | 58 => .long
  | 59 => .int
  | 60 => .int
  | 61 => .array .long
  | 62 => .array .long
  | 63 => .int
  | 64 => .int
  | 65 => .array .int
  | 66 => .array .long
  | 67 => .array .long
  | _ => .array .boolean
abbrev wsX40 : List Cond := u_ws RX4 TX4 69
set_option maxRecDepth 100000 in
theorem nmX4 : ∀ a, a < 69 → ∀ b, b < 69 → a ≠ b → (TX4 a).2.1 ≠ (TX4 b).2.1 := by decide +kernel
set_option maxRecDepth 100000 in
theorem tyX4_ok : ∀ k, k < 69 → parseFieldDescriptor (TX4 k).2.2.1 = some (tyX4 k) := by decide +kernel
abbrev cX4_thrown : ByteArray := prog_23_method_1_code
def yX4_thrown : MethodName := ⟨RX4, "thrown", "()I"⟩
abbrev cX4_feed : ByteArray := prog_23_method_3_code
def yX4_feed : MethodName := ⟨RX4, "feed", "(IIIII)I"⟩
abbrev cX4_four : ByteArray := prog_23_method_4_code
def yX4_four : MethodName := ⟨RX4, "four", "(I)V"⟩
abbrev cX4_end : ByteArray := prog_23_method_5_code
def yX4_end : MethodName := ⟨RX4, "end", "(I)Z"⟩
abbrev cX4_init : ByteArray := prog_23_method_12_code
def yX4_init : MethodName := ⟨RX4, "<init>", "()V"⟩
abbrev cX4_plainHouse : ByteArray := prog_23_method_13_code
def yX4_plainHouse : MethodName := ⟨RX4, "plainHouse", "()V"⟩
abbrev cX4_house : ByteArray := prog_23_method_37_code
def yX4_house : MethodName := ⟨RX4, "house", "()I"⟩
abbrev cX4_taken : ByteArray := prog_23_method_6_code
def yX4_taken : MethodName := ⟨RX4, "taken", "(I)V"⟩
abbrev cX4_next : ByteArray := prog_23_method_17_code
def yX4_next : MethodName := ⟨RX4, "next", "()V"⟩
abbrev cX4_peek : ByteArray := prog_23_method_14_code
def yX4_peek : MethodName := ⟨RX4, "peek", "()I"⟩
abbrev cX4_isSmall : ByteArray := prog_23_method_15_code
def yX4_isSmall : MethodName := ⟨RX4, "isSmall", "(I)Z"⟩
abbrev cX4_isDigit : ByteArray := prog_23_method_16_code
def yX4_isDigit : MethodName := ⟨RX4, "isDigit", "(I)Z"⟩
abbrev cX4_line : ByteArray := prog_23_method_23_code
def yX4_line : MethodName := ⟨RX4, "line", "()Z"⟩
abbrev cX4_isWord : ByteArray := prog_23_method_19_code
def yX4_isWord : MethodName := ⟨RX4, "isWord", "(J)Z"⟩
abbrev cX4_readRow : ByteArray := prog_23_method_26_code
def yX4_readRow : MethodName := ⟨RX4, "readRow", "()Z"⟩
abbrev cX4_bad : ByteArray := prog_23_method_18_code
def yX4_bad : MethodName := ⟨RX4, "bad", "(I)Z"⟩
abbrev cX4_octet : ByteArray := prog_23_method_11_code
def yX4_octet : MethodName := ⟨RX4, "octet", "(I)I"⟩
abbrev cX4_isIn : ByteArray := prog_23_method_7_code
def yX4_isIn : MethodName := ⟨RX4, "isIn", "(III)Z"⟩
abbrev cX4_readLaw : ByteArray := prog_23_method_27_code
def yX4_readLaw : MethodName := ⟨RX4, "readLaw", "(I)Z"⟩
abbrev cX4_cond : ByteArray := prog_23_method_33_code
def yX4_cond : MethodName := ⟨RX4, "cond", "()Z"⟩
abbrev cX4_one : ByteArray := prog_23_method_35_code
def yX4_one : MethodName := ⟨RX4, "one", "()Z"⟩
abbrev cX4_atom : ByteArray := prog_23_method_34_code
def yX4_atom : MethodName := ⟨RX4, "atom", "()I"⟩
abbrev cX4_isSign : ByteArray := prog_23_method_20_code
def yX4_isSign : MethodName := ⟨RX4, "isSign", "(I)Z"⟩
abbrev cX4_opened : ByteArray := prog_23_method_31_code
def yX4_opened : MethodName := ⟨RX4, "opened", "()I"⟩
abbrev cX4_asks : ByteArray := prog_23_method_36_code
def yX4_asks : MethodName := ⟨RX4, "asks", "(I)Z"⟩
abbrev cX4_takes : ByteArray := prog_23_method_22_code
def yX4_takes : MethodName := ⟨RX4, "takes", "(II)Z"⟩
abbrev cX4_write : ByteArray := prog_23_method_28_code
def yX4_write : MethodName := ⟨RX4, "write", "(I)V"⟩
abbrev cX4_writeDown : ByteArray := prog_23_method_29_code
def yX4_writeDown : MethodName := ⟨RX4, "writeDown", "(I)V"⟩
abbrev cX4_binds : ByteArray := prog_23_method_30_code
def yX4_binds : MethodName := ⟨RX4, "binds", "(I)I"⟩
abbrev cX4_isOpen : ByteArray := prog_23_method_32_code
def yX4_isOpen : MethodName := ⟨RX4, "isOpen", "()Z"⟩
abbrev cX4_takesRow : ByteArray := prog_23_method_25_code
def yX4_takesRow : MethodName := ⟨RX4, "takesRow", "(I)Z"⟩
abbrev cX4_has : ByteArray := prog_23_method_8_code
def yX4_has : MethodName := ⟨RX4, "has", "(II)Z"⟩
abbrev cX4_once : ByteArray := prog_23_method_24_code
def yX4_once : MethodName := ⟨RX4, "once", "(IIII)Z"⟩
abbrev cX4_sign : ByteArray := prog_23_method_21_code
def yX4_sign : MethodName := ⟨RX4, "sign", "(I)Z"⟩
abbrev cX4_fault : ByteArray := prog_23_method_38_code
def yX4_fault : MethodName := ⟨RX4, "fault", "()I"⟩
abbrev cX4_seat : ByteArray := prog_23_method_43_code
def yX4_seat : MethodName := ⟨RX4, "seat", "(II)I"⟩
abbrev cX4_isSeat : ByteArray := prog_23_method_39_code
def yX4_isSeat : MethodName := ⟨RX4, "isSeat", "(I)Z"⟩
abbrev cX4_throwsIf : ByteArray := prog_23_method_2_code
def yX4_throwsIf : MethodName := ⟨RX4, "throwsIf", "(Z)Z"⟩
abbrev cX4_price : ByteArray := prog_23_method_44_code
def yX4_price : MethodName := ⟨RX4, "price", "(I)I"⟩
abbrev cX4_holds : ByteArray := prog_23_method_9_code
def yX4_holds : MethodName := ⟨RX4, "holds", "(JI)Z"⟩
abbrev cX4_law : ByteArray := prog_23_method_45_code
def yX4_law : MethodName := ⟨RX4, "law", "(II)I"⟩
abbrev cX4_pay : ByteArray := prog_23_method_46_code
def yX4_pay : MethodName := ⟨RX4, "pay", "(II)Z"⟩
abbrev cX4_hiss : ByteArray := prog_23_method_47_code
def yX4_hiss : MethodName := ⟨RX4, "hiss", "(II)Z"⟩
abbrev cX4_cues : ByteArray := prog_23_method_49_code
def yX4_cues : MethodName := ⟨RX4, "cues", "()I"⟩
abbrev cX4_readCue : ByteArray := prog_23_method_48_code
def yX4_readCue : MethodName := ⟨RX4, "readCue", "()Z"⟩
abbrev cX4_isSeatAt : ByteArray := prog_23_method_40_code
def yX4_isSeatAt : MethodName := ⟨RX4, "isSeatAt", "(II)Z"⟩
abbrev cX4_cue : ByteArray := prog_23_method_50_code
def yX4_cue : MethodName := ⟨RX4, "cue", "(II)I"⟩
abbrev cX4_sees : ByteArray := prog_23_method_60_code
def yX4_sees : MethodName := ⟨RX4, "sees", "(IIII)I"⟩
abbrev cX4_isMoment : ByteArray := prog_23_method_59_code
def yX4_isMoment : MethodName := ⟨RX4, "isMoment", "(I)Z"⟩
abbrev cX4_night : ByteArray := prog_23_method_57_code
def yX4_night : MethodName := ⟨RX4, "night", "(I)V"⟩
abbrev cX4_begin : ByteArray := prog_23_method_55_code
def yX4_begin : MethodName := ⟨RX4, "begin", "(JJ)V"⟩
abbrev cX4_layOut : ByteArray := prog_23_method_42_code
def yX4_layOut : MethodName := ⟨RX4, "layOut", "()V"⟩
abbrev cX4_bitAt : ByteArray := prog_23_method_41_code
def yX4_bitAt : MethodName := ⟨RX4, "bitAt", "(II)J"⟩
abbrev cX4_moment : ByteArray := prog_23_method_56_code
def yX4_moment : MethodName := ⟨RX4, "moment", "()V"⟩
abbrev cX4_levelOf : ByteArray := prog_23_method_52_code
def yX4_levelOf : MethodName := ⟨RX4, "levelOf", "(I)I"⟩
abbrev cX4_heldOf : ByteArray := prog_23_method_53_code
def yX4_heldOf : MethodName := ⟨RX4, "heldOf", "(I)I"⟩
abbrev cX4_lawLevel : ByteArray := prog_23_method_54_code
def yX4_lawLevel : MethodName := ⟨RX4, "lawLevel", "(IJJII)I"⟩
abbrev cX4_isLaw : ByteArray := prog_23_method_51_code
def yX4_isLaw : MethodName := ⟨RX4, "isLaw", "(IIJJII)Z"⟩
abbrev cX4_bits : ByteArray := prog_23_method_10_code
def yX4_bits : MethodName := ⟨RX4, "bits", "(J)I"⟩
abbrev cX4_at : ByteArray := prog_23_method_61_code
def yX4_at : MethodName := ⟨RX4, "at", "(III)I"⟩
abbrev cX4_many : ByteArray := prog_23_method_62_code
def yX4_many : MethodName := ⟨RX4, "many", "(II)I"⟩
abbrev cX4_would : ByteArray := prog_23_method_63_code
def yX4_would : MethodName := ⟨RX4, "would", "(III)I"⟩
abbrev cX4_stands : ByteArray := prog_23_method_64_code
def yX4_stands : MethodName := ⟨RX4, "stands", "(I)I"⟩
abbrev cX4_anyway : ByteArray := prog_23_method_65_code
def yX4_anyway : MethodName := ⟨RX4, "anyway", "(I)I"⟩
abbrev cX4_up : ByteArray := prog_23_method_67_code
def yX4_up : MethodName := ⟨RX4, "up", "()I"⟩
abbrev cX4_isUp : ByteArray := prog_23_method_66_code
def yX4_isUp : MethodName := ⟨RX4, "isUp", "(I)Z"⟩
abbrev cX4_calls : ByteArray := prog_23_method_68_code
def yX4_calls : MethodName := ⟨RX4, "calls", "(I)I"⟩
abbrev cX4_again : ByteArray := prog_23_method_70_code
def yX4_again : MethodName := ⟨RX4, "again", "(I)I"⟩
abbrev cX4_areLike : ByteArray := prog_23_method_69_code
def yX4_areLike : MethodName := ⟨RX4, "areLike", "(II)Z"⟩
abbrev cX4_carries : ByteArray := prog_23_method_71_code
def yX4_carries : MethodName := ⟨RX4, "carries", "(I)I"⟩
abbrev cX4_height : ByteArray := prog_23_method_58_code
def yX4_height : MethodName := ⟨RX4, "height", "(JJ)I"⟩
abbrev cX4_cheapest : ByteArray := prog_23_method_75_code
def yX4_cheapest : MethodName := ⟨RX4, "cheapest", "()I"⟩
abbrev cX4_areEight : ByteArray := prog_23_method_73_code
def yX4_areEight : MethodName := ⟨RX4, "areEight", "()Z"⟩
abbrev cX4_takesSeats : ByteArray := prog_23_method_72_code
def yX4_takesSeats : MethodName := ⟨RX4, "takesSeats", "(II)Z"⟩
abbrev cX4_bitsOf : ByteArray := prog_23_method_74_code
def yX4_bitsOf : MethodName := ⟨RX4, "bitsOf", "(I)J"⟩
abbrev cX4_bought : ByteArray := prog_23_method_76_code
def yX4_bought : MethodName := ⟨RX4, "bought", "()I"⟩
abbrev cX4_hush : ByteArray := prog_23_method_77_code
def yX4_hush : MethodName := ⟨RX4, "hush", "()I"⟩
abbrev cX4_coalitions : ByteArray := prog_23_method_78_code
def yX4_coalitions : MethodName := ⟨RX4, "coalitions", "(I)I"⟩
abbrev cX4_worth : ByteArray := prog_23_method_80_code
def yX4_worth : MethodName := ⟨RX4, "worth", "()I"⟩
abbrev cX4_orders : ByteArray := prog_23_method_79_code
def yX4_orders : MethodName := ⟨RX4, "orders", "(I)J"⟩
abbrev cX4_worthOf : ByteArray := prog_23_method_81_code
def yX4_worthOf : MethodName := ⟨RX4, "worthOf", "(II)I"⟩
abbrev cX4_sides : ByteArray := prog_23_method_82_code
def yX4_sides : MethodName := ⟨RX4, "sides", "()I"⟩
abbrev cX4_side : ByteArray := prog_23_method_83_code
def yX4_side : MethodName := ⟨RX4, "side", "(I)I"⟩
abbrev cX4_began : ByteArray := prog_23_method_85_code
def yX4_began : MethodName := ⟨RX4, "began", "(I)I"⟩
abbrev cX4_isSketch : ByteArray := prog_23_method_84_code
def yX4_isSketch : MethodName := ⟨RX4, "isSketch", "(JI)Z"⟩
abbrev cX4_beganAt : ByteArray := prog_23_method_86_code
def yX4_beganAt : MethodName := ⟨RX4, "beganAt", "(I)I"⟩
abbrev cX4_parts : ByteArray := prog_23_method_87_code
def yX4_parts : MethodName := ⟨RX4, "parts", "(II)I"⟩
abbrev cX4_exchanged : ByteArray := prog_23_method_90_code
def yX4_exchanged : MethodName := ⟨RX4, "exchanged", "()I"⟩
abbrev cX4_areUnlike : ByteArray := prog_23_method_89_code
def yX4_areUnlike : MethodName := ⟨RX4, "areUnlike", "(II)Z"⟩
abbrev cX4_change : ByteArray := prog_23_method_88_code
def yX4_change : MethodName := ⟨RX4, "change", "(II)V"⟩
abbrev cX4_exchange : ByteArray := prog_23_method_91_code
def yX4_exchange : MethodName := ⟨RX4, "exchange", "(II)Z"⟩
abbrev cX4_arrange : ByteArray := prog_23_method_93_code
def yX4_arrange : MethodName := ⟨RX4, "arrange", "()I"⟩
abbrev cX4_arranges : ByteArray := prog_23_method_92_code
def yX4_arranges : MethodName := ⟨RX4, "arranges", "(I)Z"⟩
abbrev cX4_arranged : ByteArray := prog_23_method_94_code
def yX4_arranged : MethodName := ⟨RX4, "arranged", "()I"⟩
abbrev cX4_starts : ByteArray := prog_23_method_95_code
def yX4_starts : MethodName := ⟨RX4, "starts", "(I)I"⟩
abbrev cX4_leader : ByteArray := prog_23_method_96_code
def yX4_leader : MethodName := ⟨RX4, "leader", "(I)I"⟩
abbrev cX4_drawn : ByteArray := prog_23_method_98_code
def yX4_drawn : MethodName := ⟨RX4, "drawn", "(II)Z"⟩
abbrev cX4_draw : ByteArray := prog_23_method_97_code
def yX4_draw : MethodName := ⟨RX4, "draw", "(I)I"⟩
abbrev cX4_image : ByteArray := prog_23_method_99_code
def yX4_image : MethodName := ⟨RX4, "image", "(I)Z"⟩
abbrev cX4_restore : ByteArray := prog_23_method_100_code
def yX4_restore : MethodName := ⟨RX4, "restore", "(I)Z"⟩
abbrev cX4_count : ByteArray := prog_23_method_101_code
def yX4_count : MethodName := ⟨RX4, "count", "(I)I"⟩
theorem q92 : (Jvm.Cond.initialized "HouseClapsModel") ∈ lw_all := lw_g (lw_at lw_m1 8 rfl) rfl
theorem q1216 : (Jvm.Cond.selects "HouseClapsModel" ({ cls := "java/lang/Object", name := "getClass", desc := "()Ljava/lang/Class;" } : Jvm.MethodName) ({ cls := "java/lang/Object", name := "getClass", desc := "()Ljava/lang/Class;" } : Jvm.MethodName)) ∈ lw_all := lw_g (lw_at lw_m5 172 rfl) rfl
theorem q1673 : (Jvm.Cond.instanceMethod ({ cls := "HouseClapsModel", name := "thrown", desc := "()I" } : Jvm.MethodName)) ∈ lw_all := lw_g (lw_at lw_m7 149 rfl) rfl
theorem q1674 : (Jvm.Cond.selects "HouseClapsModel" ({ cls := "HouseClapsModel", name := "thrown", desc := "()I" } : Jvm.MethodName) ({ cls := "HouseClapsModel", name := "thrown", desc := "()I" } : Jvm.MethodName)) ∈ lw_all := lw_g (lw_at lw_m7 150 rfl) rfl
theorem q1675 : (Jvm.Cond.code ({ cls := "HouseClapsModel", name := "thrown", desc := "()I" } : Jvm.MethodName) prog_23_method_1_code (1 : Nat) (Option.some Jvm.ClassFile.FieldType.int)) ∈ lw_all := lw_g (lw_at lw_m7 151 rfl) rfl
theorem q1677 : (Jvm.Cond.instanceMethod ({ cls := "HouseClapsModel", name := "feed", desc := "(IIIII)I" } : Jvm.MethodName)) ∈ lw_all := lw_g (lw_at lw_m7 153 rfl) rfl
theorem q1678 : (Jvm.Cond.selects "HouseClapsModel" ({ cls := "HouseClapsModel", name := "feed", desc := "(IIIII)I" } : Jvm.MethodName) ({ cls := "HouseClapsModel", name := "feed", desc := "(IIIII)I" } : Jvm.MethodName)) ∈ lw_all := lw_g (lw_at lw_m7 154 rfl) rfl
theorem q1679 : (Jvm.Cond.code ({ cls := "HouseClapsModel", name := "feed", desc := "(IIIII)I" } : Jvm.MethodName) prog_23_method_3_code (6 : Nat) (Option.some Jvm.ClassFile.FieldType.int)) ∈ lw_all := lw_g (lw_at lw_m7 155 rfl) rfl
theorem q1680 : (Jvm.Cond.methodLink "HouseClapsModel" (10 : Nat) ({ cls := "HouseClapsModel", name := "four", desc := "(I)V" } : Jvm.MethodName)) ∈ lw_all := lw_g (lw_at lw_m7 156 rfl) rfl
theorem q1681 : (Jvm.Cond.privateMethod ({ cls := "HouseClapsModel", name := "four", desc := "(I)V" } : Jvm.MethodName)) ∈ lw_tbl := lw_at lw_m7 157 rfl
theorem q1682 : (Jvm.Cond.instanceMethod ({ cls := "HouseClapsModel", name := "four", desc := "(I)V" } : Jvm.MethodName)) ∈ lw_all := lw_g (lw_at lw_m7 158 rfl) rfl
theorem q1683 : (Jvm.Cond.instantiable "HouseClapsModel" (69 : Nat)) ∈ lw_all := lw_g (lw_at lw_m7 159 rfl) rfl
theorem q1684 : (Jvm.Cond.code ({ cls := "HouseClapsModel", name := "four", desc := "(I)V" } : Jvm.MethodName) prog_23_method_4_code (3 : Nat) (Option.none : Option Jvm.ClassFile.FieldType)) ∈ lw_all := lw_g (lw_at lw_m7 160 rfl) rfl
theorem q1686 : (Jvm.Cond.instanceMethod ({ cls := "HouseClapsModel", name := "end", desc := "(I)Z" } : Jvm.MethodName)) ∈ lw_all := lw_g (lw_at lw_m7 162 rfl) rfl
theorem q1687 : (Jvm.Cond.selects "HouseClapsModel" ({ cls := "HouseClapsModel", name := "end", desc := "(I)Z" } : Jvm.MethodName) ({ cls := "HouseClapsModel", name := "end", desc := "(I)Z" } : Jvm.MethodName)) ∈ lw_all := lw_g (lw_at lw_m7 163 rfl) rfl
theorem q1688 : (Jvm.Cond.code ({ cls := "HouseClapsModel", name := "end", desc := "(I)Z" } : Jvm.MethodName) prog_23_method_5_code (2 : Nat) (Option.some Jvm.ClassFile.FieldType.boolean)) ∈ lw_all := lw_g (lw_at lw_m7 164 rfl) rfl
theorem q1691 : (Jvm.Cond.instanceMethod ({ cls := "HouseClapsModel", name := "<init>", desc := "()V" } : Jvm.MethodName)) ∈ lw_all := lw_g (lw_at lw_m7 167 rfl) rfl
theorem q1692 : (Jvm.Cond.code ({ cls := "HouseClapsModel", name := "<init>", desc := "()V" } : Jvm.MethodName) prog_23_method_12_code (2 : Nat) (Option.none : Option Jvm.ClassFile.FieldType)) ∈ lw_all := lw_g (lw_at lw_m7 168 rfl) rfl
theorem q1693 : (Jvm.Cond.methodLink "HouseClapsModel" (35 : Nat) ({ cls := "java/lang/Object", name := "<init>", desc := "()V" } : Jvm.MethodName)) ∈ lw_all := lw_g (lw_at lw_m7 169 rfl) rfl
theorem q1694 : (Jvm.Cond.methodLink "HouseClapsModel" (123 : Nat) ({ cls := "HouseClapsModel", name := "plainHouse", desc := "()V" } : Jvm.MethodName)) ∈ lw_all := lw_g (lw_at lw_m7 170 rfl) rfl
theorem q1695 : (Jvm.Cond.privateMethod ({ cls := "HouseClapsModel", name := "plainHouse", desc := "()V" } : Jvm.MethodName)) ∈ lw_tbl := lw_at lw_m7 171 rfl
theorem q1696 : (Jvm.Cond.instanceMethod ({ cls := "HouseClapsModel", name := "plainHouse", desc := "()V" } : Jvm.MethodName)) ∈ lw_all := lw_g (lw_at lw_m7 172 rfl) rfl
theorem q1697 : (Jvm.Cond.code ({ cls := "HouseClapsModel", name := "plainHouse", desc := "()V" } : Jvm.MethodName) prog_23_method_13_code (2 : Nat) (Option.none : Option Jvm.ClassFile.FieldType)) ∈ lw_all := lw_g (lw_at lw_m7 173 rfl) rfl
theorem q1698 : (Jvm.Cond.fieldLink "HouseClapsModel" (1 : Nat) "HouseClapsModel" "thrown" "I") ∈ lw_all := lw_g (lw_at lw_m7 174 rfl) rfl
theorem q1699 : (Jvm.Cond.fieldLink "HouseClapsModel" (14 : Nat) "HouseClapsModel" "tape" "[B") ∈ lw_all := lw_g (lw_at lw_m7 175 rfl) rfl
theorem q1700 : (Jvm.Cond.fieldLink "HouseClapsModel" (7 : Nat) "HouseClapsModel" "length" "I") ∈ lw_all := lw_g (lw_at lw_m7 176 rfl) rfl
theorem q1701 : (Jvm.Cond.fieldLink "HouseClapsModel" (18 : Nat) "HouseClapsModel" "size" "I") ∈ lw_all := lw_g (lw_at lw_m7 177 rfl) rfl
theorem q1702 : (Jvm.Cond.fieldLink "HouseClapsModel" (21 : Nat) "HouseClapsModel" "p" "I") ∈ lw_all := lw_g (lw_at lw_m7 178 rfl) rfl
theorem q1703 : (Jvm.Cond.fieldLink "HouseClapsModel" (24 : Nat) "HouseClapsModel" "limit" "I") ∈ lw_all := lw_g (lw_at lw_m7 179 rfl) rfl
theorem q1704 : (Jvm.Cond.fieldLink "HouseClapsModel" (41 : Nat) "HouseClapsModel" "s" "[I") ∈ lw_all := lw_g (lw_at lw_m7 180 rfl) rfl
theorem q1705 : (Jvm.Cond.fieldLink "HouseClapsModel" (45 : Nat) "HouseClapsModel" "h" "[I") ∈ lw_all := lw_g (lw_at lw_m7 181 rfl) rfl
theorem q1706 : (Jvm.Cond.fieldLink "HouseClapsModel" (48 : Nat) "HouseClapsModel" "newCues" "[I") ∈ lw_all := lw_g (lw_at lw_m7 182 rfl) rfl
theorem q1707 : (Jvm.Cond.fieldLink "HouseClapsModel" (136 : Nat) "HouseClapsModel" "token" "I") ∈ lw_all := lw_g (lw_at lw_m7 183 rfl) rfl
theorem q1708 : (Jvm.Cond.fieldLink "HouseClapsModel" (130 : Nat) "HouseClapsModel" "at" "I") ∈ lw_all := lw_g (lw_at lw_m7 184 rfl) rfl
theorem q1709 : (Jvm.Cond.fieldLink "HouseClapsModel" (133 : Nat) "HouseClapsModel" "span" "I") ∈ lw_all := lw_g (lw_at lw_m7 185 rfl) rfl
theorem q1710 : (Jvm.Cond.fieldLink "HouseClapsModel" (146 : Nat) "HouseClapsModel" "number" "I") ∈ lw_all := lw_g (lw_at lw_m7 186 rfl) rfl
theorem q1711 : (Jvm.Cond.fieldLink "HouseClapsModel" (153 : Nat) "HouseClapsModel" "fault" "I") ∈ lw_all := lw_g (lw_at lw_m7 187 rfl) rfl
theorem q1712 : (Jvm.Cond.fieldLink "HouseClapsModel" (156 : Nat) "HouseClapsModel" "faultAt" "I") ∈ lw_all := lw_g (lw_at lw_m7 188 rfl) rfl
theorem q1713 : (Jvm.Cond.fieldLink "HouseClapsModel" (149 : Nat) "HouseClapsModel" "word" "J") ∈ lw_all := lw_g (lw_at lw_m7 189 rfl) rfl
theorem q1714 : (Jvm.Cond.fieldLink "HouseClapsModel" (299 : Nat) "HouseClapsModel" "seatsPaid" "J") ∈ lw_all := lw_g (lw_at lw_m7 190 rfl) rfl
theorem q1715 : (Jvm.Cond.fieldLink "HouseClapsModel" (302 : Nat) "HouseClapsModel" "seatsHiss" "J") ∈ lw_all := lw_g (lw_at lw_m7 191 rfl) rfl
theorem q1716 : (Jvm.Cond.fieldLink "HouseClapsModel" (172 : Nat) "HouseClapsModel" "got" "I") ∈ lw_all := lw_g (lw_at lw_m7 192 rfl) rfl
theorem q1717 : (Jvm.Cond.fieldLink "HouseClapsModel" (290 : Nat) "HouseClapsModel" "lines" "I") ∈ lw_all := lw_g (lw_at lw_m7 193 rfl) rfl
theorem q1718 : (Jvm.Cond.fieldLink "HouseClapsModel" (194 : Nat) "HouseClapsModel" "prices" "I") ∈ lw_all := lw_g (lw_at lw_m7 194 rfl) rfl
theorem q1719 : (Jvm.Cond.fieldLink "HouseClapsModel" (206 : Nat) "HouseClapsModel" "leavings" "I") ∈ lw_all := lw_g (lw_at lw_m7 195 rfl) rfl
theorem q1720 : (Jvm.Cond.fieldLink "HouseClapsModel" (219 : Nat) "HouseClapsModel" "onces" "I") ∈ lw_all := lw_g (lw_at lw_m7 196 rfl) rfl
theorem q1721 : (Jvm.Cond.fieldLink "HouseClapsModel" (51 : Nat) "HouseClapsModel" "code" "[I") ∈ lw_all := lw_g (lw_at lw_m7 197 rfl) rfl
theorem q1722 : (Jvm.Cond.fieldLink "HouseClapsModel" (54 : Nat) "HouseClapsModel" "pile" "[I") ∈ lw_all := lw_g (lw_at lw_m7 198 rfl) rfl
theorem q1723 : (Jvm.Cond.fieldLink "HouseClapsModel" (57 : Nat) "HouseClapsModel" "held" "[Z") ∈ lw_all := lw_g (lw_at lw_m7 199 rfl) rfl
theorem q1724 : (Jvm.Cond.fieldLink "HouseClapsModel" (229 : Nat) "HouseClapsModel" "codeMany" "I") ∈ lw_all := lw_g (lw_at lw_m7 200 rfl) rfl
theorem q1725 : (Jvm.Cond.fieldLink "HouseClapsModel" (232 : Nat) "HouseClapsModel" "pileMany" "I") ∈ lw_all := lw_g (lw_at lw_m7 201 rfl) rfl
theorem q1726 : (Jvm.Cond.fieldLink "HouseClapsModel" (235 : Nat) "HouseClapsModel" "ones" "I") ∈ lw_all := lw_g (lw_at lw_m7 202 rfl) rfl
theorem q1727 : (Jvm.Cond.fieldLink "HouseClapsModel" (61 : Nat) "HouseClapsModel" "area" "[J") ∈ lw_all := lw_g (lw_at lw_m7 203 rfl) rfl
theorem q1728 : (Jvm.Cond.fieldLink "HouseClapsModel" (65 : Nat) "HouseClapsModel" "lays" "Z") ∈ lw_all := lw_g (lw_at lw_m7 204 rfl) rfl
theorem q1729 : (Jvm.Cond.fieldLink "HouseClapsModel" (330 : Nat) "HouseClapsModel" "coming" "I") ∈ lw_all := lw_g (lw_at lw_m7 205 rfl) rfl
theorem q1730 : (Jvm.Cond.fieldLink "HouseClapsModel" (69 : Nat) "HouseClapsModel" "claps" "[J") ∈ lw_all := lw_g (lw_at lw_m7 206 rfl) rfl
theorem q1731 : (Jvm.Cond.fieldLink "HouseClapsModel" (72 : Nat) "HouseClapsModel" "stand" "[J") ∈ lw_all := lw_g (lw_at lw_m7 207 rfl) rfl
theorem q1732 : (Jvm.Cond.fieldLink "HouseClapsModel" (75 : Nat) "HouseClapsModel" "heldLow" "[J") ∈ lw_all := lw_g (lw_at lw_m7 208 rfl) rfl
theorem q1733 : (Jvm.Cond.fieldLink "HouseClapsModel" (78 : Nat) "HouseClapsModel" "heldHigh" "[J") ∈ lw_all := lw_g (lw_at lw_m7 209 rfl) rfl
theorem q1734 : (Jvm.Cond.fieldLink "HouseClapsModel" (367 : Nat) "HouseClapsModel" "paidNow" "J") ∈ lw_all := lw_g (lw_at lw_m7 210 rfl) rfl
theorem q1735 : (Jvm.Cond.fieldLink "HouseClapsModel" (370 : Nat) "HouseClapsModel" "hissNow" "J") ∈ lw_all := lw_g (lw_at lw_m7 211 rfl) rfl
theorem q1736 : (Jvm.Cond.fieldLink "HouseClapsModel" (351 : Nat) "HouseClapsModel" "clapping" "J") ∈ lw_all := lw_g (lw_at lw_m7 212 rfl) rfl
theorem q1737 : (Jvm.Cond.fieldLink "HouseClapsModel" (348 : Nat) "HouseClapsModel" "standing" "J") ∈ lw_all := lw_g (lw_at lw_m7 213 rfl) rfl
theorem q1738 : (Jvm.Cond.fieldLink "HouseClapsModel" (354 : Nat) "HouseClapsModel" "low" "J") ∈ lw_all := lw_g (lw_at lw_m7 214 rfl) rfl
theorem q1739 : (Jvm.Cond.fieldLink "HouseClapsModel" (357 : Nat) "HouseClapsModel" "high" "J") ∈ lw_all := lw_g (lw_at lw_m7 215 rfl) rfl
theorem q1740 : (Jvm.Cond.fieldLink "HouseClapsModel" (373 : Nat) "HouseClapsModel" "gone" "I") ∈ lw_all := lw_g (lw_at lw_m7 216 rfl) rfl
theorem q1741 : (Jvm.Cond.fieldLink "HouseClapsModel" (376 : Nat) "HouseClapsModel" "cueNext" "I") ∈ lw_all := lw_g (lw_at lw_m7 217 rfl) rfl
theorem q1742 : (Jvm.Cond.fieldLink "HouseClapsModel" (396 : Nat) "HouseClapsModel" "nightHeight" "I") ∈ lw_all := lw_g (lw_at lw_m7 218 rfl) rfl
theorem q1743 : (Jvm.Cond.fieldLink "HouseClapsModel" (399 : Nat) "HouseClapsModel" "nightCarries" "Z") ∈ lw_all := lw_g (lw_at lw_m7 219 rfl) rfl
theorem q1744 : (Jvm.Cond.fieldLink "HouseClapsModel" (81 : Nat) "HouseClapsModel" "asked" "[I") ∈ lw_all := lw_g (lw_at lw_m7 220 rfl) rfl
theorem q1745 : (Jvm.Cond.fieldLink "HouseClapsModel" (418 : Nat) "HouseClapsModel" "askedMany" "I") ∈ lw_all := lw_g (lw_at lw_m7 221 rfl) rfl
theorem q1746 : (Jvm.Cond.fieldLink "HouseClapsModel" (84 : Nat) "HouseClapsModel" "bought" "I") ∈ lw_all := lw_g (lw_at lw_m7 222 rfl) rfl
theorem q1747 : (Jvm.Cond.fieldLink "HouseClapsModel" (87 : Nat) "HouseClapsModel" "carried" "[Z") ∈ lw_all := lw_g (lw_at lw_m7 223 rfl) rfl
theorem q1748 : (Jvm.Cond.fieldLink "HouseClapsModel" (90 : Nat) "HouseClapsModel" "heights" "[I") ∈ lw_all := lw_g (lw_at lw_m7 224 rfl) rfl
theorem q1749 : (Jvm.Cond.fieldLink "HouseClapsModel" (93 : Nat) "HouseClapsModel" "worths" "[J") ∈ lw_all := lw_g (lw_at lw_m7 225 rfl) rfl
theorem q1750 : (Jvm.Cond.fieldLink "HouseClapsModel" (435 : Nat) "HouseClapsModel" "worthMany" "I") ∈ lw_all := lw_g (lw_at lw_m7 226 rfl) rfl
theorem q1751 : (Jvm.Cond.fieldLink "HouseClapsModel" (438 : Nat) "HouseClapsModel" "allOrders" "J") ∈ lw_all := lw_g (lw_at lw_m7 227 rfl) rfl
theorem q1752 : (Jvm.Cond.fieldLink "HouseClapsModel" (96 : Nat) "HouseClapsModel" "side" "[I") ∈ lw_all := lw_g (lw_at lw_m7 228 rfl) rfl
theorem q1753 : (Jvm.Cond.fieldLink "HouseClapsModel" (441 : Nat) "HouseClapsModel" "hasSides" "Z") ∈ lw_all := lw_g (lw_at lw_m7 229 rfl) rfl
theorem q1754 : (Jvm.Cond.fieldLink "HouseClapsModel" (447 : Nat) "HouseClapsModel" "seenClaps" "J") ∈ lw_all := lw_g (lw_at lw_m7 230 rfl) rfl
theorem q1755 : (Jvm.Cond.fieldLink "HouseClapsModel" (450 : Nat) "HouseClapsModel" "seenStand" "J") ∈ lw_all := lw_g (lw_at lw_m7 231 rfl) rfl
theorem q1756 : (Jvm.Cond.fieldLink "HouseClapsModel" (444 : Nat) "HouseClapsModel" "seenAll" "J") ∈ lw_all := lw_g (lw_at lw_m7 232 rfl) rfl
theorem q1757 : (Jvm.Cond.fieldLink "HouseClapsModel" (99 : Nat) "HouseClapsModel" "beganA" "I") ∈ lw_all := lw_g (lw_at lw_m7 233 rfl) rfl
theorem q1758 : (Jvm.Cond.fieldLink "HouseClapsModel" (102 : Nat) "HouseClapsModel" "beganB" "I") ∈ lw_all := lw_g (lw_at lw_m7 234 rfl) rfl
theorem q1759 : (Jvm.Cond.fieldLink "HouseClapsModel" (105 : Nat) "HouseClapsModel" "otherClaps" "[J") ∈ lw_all := lw_g (lw_at lw_m7 235 rfl) rfl
theorem q1760 : (Jvm.Cond.fieldLink "HouseClapsModel" (108 : Nat) "HouseClapsModel" "otherStand" "[J") ∈ lw_all := lw_g (lw_at lw_m7 236 rfl) rfl
theorem q1761 : (Jvm.Cond.fieldLink "HouseClapsModel" (463 : Nat) "HouseClapsModel" "arranged" "I") ∈ lw_all := lw_g (lw_at lw_m7 237 rfl) rfl
theorem q1762 : (Jvm.Cond.fieldLink "HouseClapsModel" (469 : Nat) "HouseClapsModel" "seed" "I") ∈ lw_all := lw_g (lw_at lw_m7 238 rfl) rfl
theorem q1763 : (Jvm.Cond.fieldLink "HouseClapsModel" (111 : Nat) "HouseClapsModel" "kept" "[I") ∈ lw_all := lw_g (lw_at lw_m7 239 rfl) rfl
theorem q1764 : (Jvm.Cond.fieldLink "HouseClapsModel" (114 : Nat) "HouseClapsModel" "keptPaid" "[J") ∈ lw_all := lw_g (lw_at lw_m8 0 rfl) rfl
theorem q1765 : (Jvm.Cond.fieldLink "HouseClapsModel" (117 : Nat) "HouseClapsModel" "keptHiss" "[J") ∈ lw_all := lw_g (lw_at lw_m8 1 rfl) rfl
theorem q1766 : (Jvm.Cond.fieldLink "HouseClapsModel" (120 : Nat) "HouseClapsModel" "isKept" "[Z") ∈ lw_all := lw_g (lw_at lw_m8 2 rfl) rfl
theorem q1767 : (Jvm.Cond.lays "HouseClapsModel" "HouseClapsModel" "thrown" "I") ∈ lw_all := lw_g (lw_at lw_m8 3 rfl) rfl
theorem q1768 : (Jvm.Cond.soleField "HouseClapsModel" "thrown") ∈ lw_all := lw_g (lw_at lw_m8 4 rfl) rfl
theorem q1769 : (Jvm.Cond.laysFinal "HouseClapsModel" "HouseClapsModel" "tape" "[B") ∈ lw_all := lw_g (lw_at lw_m8 5 rfl) rfl
theorem q1770 : (Jvm.Cond.soleField "HouseClapsModel" "tape") ∈ lw_all := lw_g (lw_at lw_m8 6 rfl) rfl
theorem q1771 : (Jvm.Cond.lays "HouseClapsModel" "HouseClapsModel" "length" "I") ∈ lw_all := lw_g (lw_at lw_m8 7 rfl) rfl
theorem q1772 : (Jvm.Cond.soleField "HouseClapsModel" "length") ∈ lw_all := lw_g (lw_at lw_m8 8 rfl) rfl
theorem q1773 : (Jvm.Cond.lays "HouseClapsModel" "HouseClapsModel" "size" "I") ∈ lw_all := lw_g (lw_at lw_m8 9 rfl) rfl
theorem q1774 : (Jvm.Cond.soleField "HouseClapsModel" "size") ∈ lw_all := lw_g (lw_at lw_m8 10 rfl) rfl
theorem q1775 : (Jvm.Cond.lays "HouseClapsModel" "HouseClapsModel" "p" "I") ∈ lw_all := lw_g (lw_at lw_m8 11 rfl) rfl
theorem q1776 : (Jvm.Cond.soleField "HouseClapsModel" "p") ∈ lw_all := lw_g (lw_at lw_m8 12 rfl) rfl
theorem q1777 : (Jvm.Cond.lays "HouseClapsModel" "HouseClapsModel" "limit" "I") ∈ lw_all := lw_g (lw_at lw_m8 13 rfl) rfl
theorem q1778 : (Jvm.Cond.soleField "HouseClapsModel" "limit") ∈ lw_all := lw_g (lw_at lw_m8 14 rfl) rfl
theorem q1779 : (Jvm.Cond.laysFinal "HouseClapsModel" "HouseClapsModel" "s" "[I") ∈ lw_all := lw_g (lw_at lw_m8 15 rfl) rfl
theorem q1780 : (Jvm.Cond.soleField "HouseClapsModel" "s") ∈ lw_all := lw_g (lw_at lw_m8 16 rfl) rfl
theorem q1781 : (Jvm.Cond.laysFinal "HouseClapsModel" "HouseClapsModel" "h" "[I") ∈ lw_all := lw_g (lw_at lw_m8 17 rfl) rfl
theorem q1782 : (Jvm.Cond.soleField "HouseClapsModel" "h") ∈ lw_all := lw_g (lw_at lw_m8 18 rfl) rfl
theorem q1783 : (Jvm.Cond.laysFinal "HouseClapsModel" "HouseClapsModel" "newCues" "[I") ∈ lw_all := lw_g (lw_at lw_m8 19 rfl) rfl
theorem q1784 : (Jvm.Cond.soleField "HouseClapsModel" "newCues") ∈ lw_all := lw_g (lw_at lw_m8 20 rfl) rfl
theorem q1785 : (Jvm.Cond.lays "HouseClapsModel" "HouseClapsModel" "token" "I") ∈ lw_all := lw_g (lw_at lw_m8 21 rfl) rfl
theorem q1786 : (Jvm.Cond.soleField "HouseClapsModel" "token") ∈ lw_all := lw_g (lw_at lw_m8 22 rfl) rfl
theorem q1787 : (Jvm.Cond.lays "HouseClapsModel" "HouseClapsModel" "at" "I") ∈ lw_all := lw_g (lw_at lw_m8 23 rfl) rfl
theorem q1788 : (Jvm.Cond.soleField "HouseClapsModel" "at") ∈ lw_all := lw_g (lw_at lw_m8 24 rfl) rfl
theorem q1789 : (Jvm.Cond.lays "HouseClapsModel" "HouseClapsModel" "span" "I") ∈ lw_all := lw_g (lw_at lw_m8 25 rfl) rfl
theorem q1790 : (Jvm.Cond.soleField "HouseClapsModel" "span") ∈ lw_all := lw_g (lw_at lw_m8 26 rfl) rfl
theorem q1791 : (Jvm.Cond.lays "HouseClapsModel" "HouseClapsModel" "number" "I") ∈ lw_all := lw_g (lw_at lw_m8 27 rfl) rfl
theorem q1792 : (Jvm.Cond.soleField "HouseClapsModel" "number") ∈ lw_all := lw_g (lw_at lw_m8 28 rfl) rfl
theorem q1793 : (Jvm.Cond.lays "HouseClapsModel" "HouseClapsModel" "fault" "I") ∈ lw_all := lw_g (lw_at lw_m8 29 rfl) rfl
theorem q1794 : (Jvm.Cond.soleField "HouseClapsModel" "fault") ∈ lw_all := lw_g (lw_at lw_m8 30 rfl) rfl
theorem q1795 : (Jvm.Cond.lays "HouseClapsModel" "HouseClapsModel" "faultAt" "I") ∈ lw_all := lw_g (lw_at lw_m8 31 rfl) rfl
theorem q1796 : (Jvm.Cond.soleField "HouseClapsModel" "faultAt") ∈ lw_all := lw_g (lw_at lw_m8 32 rfl) rfl
theorem q1797 : (Jvm.Cond.lays "HouseClapsModel" "HouseClapsModel" "word" "J") ∈ lw_all := lw_g (lw_at lw_m8 33 rfl) rfl
theorem q1798 : (Jvm.Cond.soleField "HouseClapsModel" "word") ∈ lw_all := lw_g (lw_at lw_m8 34 rfl) rfl
theorem q1799 : (Jvm.Cond.lays "HouseClapsModel" "HouseClapsModel" "seatsPaid" "J") ∈ lw_all := lw_g (lw_at lw_m8 35 rfl) rfl
theorem q1800 : (Jvm.Cond.soleField "HouseClapsModel" "seatsPaid") ∈ lw_all := lw_g (lw_at lw_m8 36 rfl) rfl
theorem q1801 : (Jvm.Cond.lays "HouseClapsModel" "HouseClapsModel" "seatsHiss" "J") ∈ lw_all := lw_g (lw_at lw_m8 37 rfl) rfl
theorem q1802 : (Jvm.Cond.soleField "HouseClapsModel" "seatsHiss") ∈ lw_all := lw_g (lw_at lw_m8 38 rfl) rfl
theorem q1803 : (Jvm.Cond.lays "HouseClapsModel" "HouseClapsModel" "got" "I") ∈ lw_all := lw_g (lw_at lw_m8 39 rfl) rfl
theorem q1804 : (Jvm.Cond.soleField "HouseClapsModel" "got") ∈ lw_all := lw_g (lw_at lw_m8 40 rfl) rfl
theorem q1805 : (Jvm.Cond.lays "HouseClapsModel" "HouseClapsModel" "lines" "I") ∈ lw_all := lw_g (lw_at lw_m8 41 rfl) rfl
theorem q1806 : (Jvm.Cond.soleField "HouseClapsModel" "lines") ∈ lw_all := lw_g (lw_at lw_m8 42 rfl) rfl
theorem q1807 : (Jvm.Cond.lays "HouseClapsModel" "HouseClapsModel" "prices" "I") ∈ lw_all := lw_g (lw_at lw_m8 43 rfl) rfl
theorem q1808 : (Jvm.Cond.soleField "HouseClapsModel" "prices") ∈ lw_all := lw_g (lw_at lw_m8 44 rfl) rfl
theorem q1809 : (Jvm.Cond.lays "HouseClapsModel" "HouseClapsModel" "leavings" "I") ∈ lw_all := lw_g (lw_at lw_m8 45 rfl) rfl
theorem q1810 : (Jvm.Cond.soleField "HouseClapsModel" "leavings") ∈ lw_all := lw_g (lw_at lw_m8 46 rfl) rfl
theorem q1811 : (Jvm.Cond.lays "HouseClapsModel" "HouseClapsModel" "onces" "I") ∈ lw_all := lw_g (lw_at lw_m8 47 rfl) rfl
theorem q1812 : (Jvm.Cond.soleField "HouseClapsModel" "onces") ∈ lw_all := lw_g (lw_at lw_m8 48 rfl) rfl
theorem q1813 : (Jvm.Cond.laysFinal "HouseClapsModel" "HouseClapsModel" "code" "[I") ∈ lw_all := lw_g (lw_at lw_m8 49 rfl) rfl
theorem q1814 : (Jvm.Cond.soleField "HouseClapsModel" "code") ∈ lw_all := lw_g (lw_at lw_m8 50 rfl) rfl
theorem q1815 : (Jvm.Cond.laysFinal "HouseClapsModel" "HouseClapsModel" "pile" "[I") ∈ lw_all := lw_g (lw_at lw_m8 51 rfl) rfl
theorem q1816 : (Jvm.Cond.soleField "HouseClapsModel" "pile") ∈ lw_all := lw_g (lw_at lw_m8 52 rfl) rfl
theorem q1817 : (Jvm.Cond.laysFinal "HouseClapsModel" "HouseClapsModel" "held" "[Z") ∈ lw_all := lw_g (lw_at lw_m8 53 rfl) rfl
theorem q1818 : (Jvm.Cond.soleField "HouseClapsModel" "held") ∈ lw_all := lw_g (lw_at lw_m8 54 rfl) rfl
theorem q1819 : (Jvm.Cond.lays "HouseClapsModel" "HouseClapsModel" "codeMany" "I") ∈ lw_all := lw_g (lw_at lw_m8 55 rfl) rfl
theorem q1820 : (Jvm.Cond.soleField "HouseClapsModel" "codeMany") ∈ lw_all := lw_g (lw_at lw_m8 56 rfl) rfl
theorem q1821 : (Jvm.Cond.lays "HouseClapsModel" "HouseClapsModel" "pileMany" "I") ∈ lw_all := lw_g (lw_at lw_m8 57 rfl) rfl
theorem q1822 : (Jvm.Cond.soleField "HouseClapsModel" "pileMany") ∈ lw_all := lw_g (lw_at lw_m8 58 rfl) rfl
theorem q1823 : (Jvm.Cond.lays "HouseClapsModel" "HouseClapsModel" "ones" "I") ∈ lw_all := lw_g (lw_at lw_m8 59 rfl) rfl
theorem q1824 : (Jvm.Cond.soleField "HouseClapsModel" "ones") ∈ lw_all := lw_g (lw_at lw_m8 60 rfl) rfl
theorem q1825 : (Jvm.Cond.laysFinal "HouseClapsModel" "HouseClapsModel" "area" "[J") ∈ lw_all := lw_g (lw_at lw_m8 61 rfl) rfl
theorem q1826 : (Jvm.Cond.soleField "HouseClapsModel" "area") ∈ lw_all := lw_g (lw_at lw_m8 62 rfl) rfl
theorem q1827 : (Jvm.Cond.lays "HouseClapsModel" "HouseClapsModel" "lays" "Z") ∈ lw_all := lw_g (lw_at lw_m8 63 rfl) rfl
theorem q1828 : (Jvm.Cond.soleField "HouseClapsModel" "lays") ∈ lw_all := lw_g (lw_at lw_m8 64 rfl) rfl
theorem q1829 : (Jvm.Cond.lays "HouseClapsModel" "HouseClapsModel" "coming" "I") ∈ lw_all := lw_g (lw_at lw_m8 65 rfl) rfl
theorem q1830 : (Jvm.Cond.soleField "HouseClapsModel" "coming") ∈ lw_all := lw_g (lw_at lw_m8 66 rfl) rfl
theorem q1831 : (Jvm.Cond.laysFinal "HouseClapsModel" "HouseClapsModel" "claps" "[J") ∈ lw_all := lw_g (lw_at lw_m8 67 rfl) rfl
theorem q1832 : (Jvm.Cond.soleField "HouseClapsModel" "claps") ∈ lw_all := lw_g (lw_at lw_m8 68 rfl) rfl
theorem q1833 : (Jvm.Cond.laysFinal "HouseClapsModel" "HouseClapsModel" "stand" "[J") ∈ lw_all := lw_g (lw_at lw_m8 69 rfl) rfl
theorem q1834 : (Jvm.Cond.soleField "HouseClapsModel" "stand") ∈ lw_all := lw_g (lw_at lw_m8 70 rfl) rfl
theorem q1835 : (Jvm.Cond.laysFinal "HouseClapsModel" "HouseClapsModel" "heldLow" "[J") ∈ lw_all := lw_g (lw_at lw_m8 71 rfl) rfl
theorem q1836 : (Jvm.Cond.soleField "HouseClapsModel" "heldLow") ∈ lw_all := lw_g (lw_at lw_m8 72 rfl) rfl
theorem q1837 : (Jvm.Cond.laysFinal "HouseClapsModel" "HouseClapsModel" "heldHigh" "[J") ∈ lw_all := lw_g (lw_at lw_m8 73 rfl) rfl
theorem q1838 : (Jvm.Cond.soleField "HouseClapsModel" "heldHigh") ∈ lw_all := lw_g (lw_at lw_m8 74 rfl) rfl
theorem q1839 : (Jvm.Cond.lays "HouseClapsModel" "HouseClapsModel" "paidNow" "J") ∈ lw_all := lw_g (lw_at lw_m8 75 rfl) rfl
theorem q1840 : (Jvm.Cond.soleField "HouseClapsModel" "paidNow") ∈ lw_all := lw_g (lw_at lw_m8 76 rfl) rfl
theorem q1841 : (Jvm.Cond.lays "HouseClapsModel" "HouseClapsModel" "hissNow" "J") ∈ lw_all := lw_g (lw_at lw_m8 77 rfl) rfl
theorem q1842 : (Jvm.Cond.soleField "HouseClapsModel" "hissNow") ∈ lw_all := lw_g (lw_at lw_m8 78 rfl) rfl
theorem q1843 : (Jvm.Cond.lays "HouseClapsModel" "HouseClapsModel" "clapping" "J") ∈ lw_all := lw_g (lw_at lw_m8 79 rfl) rfl
theorem q1844 : (Jvm.Cond.soleField "HouseClapsModel" "clapping") ∈ lw_all := lw_g (lw_at lw_m8 80 rfl) rfl
theorem q1845 : (Jvm.Cond.lays "HouseClapsModel" "HouseClapsModel" "standing" "J") ∈ lw_all := lw_g (lw_at lw_m8 81 rfl) rfl
theorem q1846 : (Jvm.Cond.soleField "HouseClapsModel" "standing") ∈ lw_all := lw_g (lw_at lw_m8 82 rfl) rfl
theorem q1847 : (Jvm.Cond.lays "HouseClapsModel" "HouseClapsModel" "low" "J") ∈ lw_all := lw_g (lw_at lw_m8 83 rfl) rfl
theorem q1848 : (Jvm.Cond.soleField "HouseClapsModel" "low") ∈ lw_all := lw_g (lw_at lw_m8 84 rfl) rfl
theorem q1849 : (Jvm.Cond.lays "HouseClapsModel" "HouseClapsModel" "high" "J") ∈ lw_all := lw_g (lw_at lw_m8 85 rfl) rfl
theorem q1850 : (Jvm.Cond.soleField "HouseClapsModel" "high") ∈ lw_all := lw_g (lw_at lw_m8 86 rfl) rfl
theorem q1851 : (Jvm.Cond.lays "HouseClapsModel" "HouseClapsModel" "gone" "I") ∈ lw_all := lw_g (lw_at lw_m8 87 rfl) rfl
theorem q1852 : (Jvm.Cond.soleField "HouseClapsModel" "gone") ∈ lw_all := lw_g (lw_at lw_m8 88 rfl) rfl
theorem q1853 : (Jvm.Cond.lays "HouseClapsModel" "HouseClapsModel" "cueNext" "I") ∈ lw_all := lw_g (lw_at lw_m8 89 rfl) rfl
theorem q1854 : (Jvm.Cond.soleField "HouseClapsModel" "cueNext") ∈ lw_all := lw_g (lw_at lw_m8 90 rfl) rfl
theorem q1855 : (Jvm.Cond.lays "HouseClapsModel" "HouseClapsModel" "nightHeight" "I") ∈ lw_all := lw_g (lw_at lw_m8 91 rfl) rfl
theorem q1856 : (Jvm.Cond.soleField "HouseClapsModel" "nightHeight") ∈ lw_all := lw_g (lw_at lw_m8 92 rfl) rfl
theorem q1857 : (Jvm.Cond.lays "HouseClapsModel" "HouseClapsModel" "nightCarries" "Z") ∈ lw_all := lw_g (lw_at lw_m8 93 rfl) rfl
theorem q1858 : (Jvm.Cond.soleField "HouseClapsModel" "nightCarries") ∈ lw_all := lw_g (lw_at lw_m8 94 rfl) rfl
theorem q1859 : (Jvm.Cond.laysFinal "HouseClapsModel" "HouseClapsModel" "asked" "[I") ∈ lw_all := lw_g (lw_at lw_m8 95 rfl) rfl
theorem q1860 : (Jvm.Cond.soleField "HouseClapsModel" "asked") ∈ lw_all := lw_g (lw_at lw_m8 96 rfl) rfl
theorem q1861 : (Jvm.Cond.lays "HouseClapsModel" "HouseClapsModel" "askedMany" "I") ∈ lw_all := lw_g (lw_at lw_m8 97 rfl) rfl
theorem q1862 : (Jvm.Cond.soleField "HouseClapsModel" "askedMany") ∈ lw_all := lw_g (lw_at lw_m8 98 rfl) rfl
theorem q1863 : (Jvm.Cond.lays "HouseClapsModel" "HouseClapsModel" "bought" "I") ∈ lw_all := lw_g (lw_at lw_m8 99 rfl) rfl
theorem q1864 : (Jvm.Cond.soleField "HouseClapsModel" "bought") ∈ lw_all := lw_g (lw_at lw_m8 100 rfl) rfl
theorem q1865 : (Jvm.Cond.laysFinal "HouseClapsModel" "HouseClapsModel" "carried" "[Z") ∈ lw_all := lw_g (lw_at lw_m8 101 rfl) rfl
theorem q1866 : (Jvm.Cond.soleField "HouseClapsModel" "carried") ∈ lw_all := lw_g (lw_at lw_m8 102 rfl) rfl
theorem q1867 : (Jvm.Cond.laysFinal "HouseClapsModel" "HouseClapsModel" "heights" "[I") ∈ lw_all := lw_g (lw_at lw_m8 103 rfl) rfl
theorem q1868 : (Jvm.Cond.soleField "HouseClapsModel" "heights") ∈ lw_all := lw_g (lw_at lw_m8 104 rfl) rfl
theorem q1869 : (Jvm.Cond.laysFinal "HouseClapsModel" "HouseClapsModel" "worths" "[J") ∈ lw_all := lw_g (lw_at lw_m8 105 rfl) rfl
theorem q1870 : (Jvm.Cond.soleField "HouseClapsModel" "worths") ∈ lw_all := lw_g (lw_at lw_m8 106 rfl) rfl
theorem q1871 : (Jvm.Cond.lays "HouseClapsModel" "HouseClapsModel" "worthMany" "I") ∈ lw_all := lw_g (lw_at lw_m8 107 rfl) rfl
theorem q1872 : (Jvm.Cond.soleField "HouseClapsModel" "worthMany") ∈ lw_all := lw_g (lw_at lw_m8 108 rfl) rfl
theorem q1873 : (Jvm.Cond.lays "HouseClapsModel" "HouseClapsModel" "allOrders" "J") ∈ lw_all := lw_g (lw_at lw_m8 109 rfl) rfl
theorem q1874 : (Jvm.Cond.soleField "HouseClapsModel" "allOrders") ∈ lw_all := lw_g (lw_at lw_m8 110 rfl) rfl
theorem q1875 : (Jvm.Cond.laysFinal "HouseClapsModel" "HouseClapsModel" "side" "[I") ∈ lw_all := lw_g (lw_at lw_m8 111 rfl) rfl
theorem q1876 : (Jvm.Cond.soleField "HouseClapsModel" "side") ∈ lw_all := lw_g (lw_at lw_m8 112 rfl) rfl
theorem q1877 : (Jvm.Cond.lays "HouseClapsModel" "HouseClapsModel" "hasSides" "Z") ∈ lw_all := lw_g (lw_at lw_m8 113 rfl) rfl
theorem q1878 : (Jvm.Cond.soleField "HouseClapsModel" "hasSides") ∈ lw_all := lw_g (lw_at lw_m8 114 rfl) rfl
theorem q1879 : (Jvm.Cond.lays "HouseClapsModel" "HouseClapsModel" "seenClaps" "J") ∈ lw_all := lw_g (lw_at lw_m8 115 rfl) rfl
theorem q1880 : (Jvm.Cond.soleField "HouseClapsModel" "seenClaps") ∈ lw_all := lw_g (lw_at lw_m8 116 rfl) rfl
theorem q1881 : (Jvm.Cond.lays "HouseClapsModel" "HouseClapsModel" "seenStand" "J") ∈ lw_all := lw_g (lw_at lw_m8 117 rfl) rfl
theorem q1882 : (Jvm.Cond.soleField "HouseClapsModel" "seenStand") ∈ lw_all := lw_g (lw_at lw_m8 118 rfl) rfl
theorem q1883 : (Jvm.Cond.lays "HouseClapsModel" "HouseClapsModel" "seenAll" "J") ∈ lw_all := lw_g (lw_at lw_m8 119 rfl) rfl
theorem q1884 : (Jvm.Cond.soleField "HouseClapsModel" "seenAll") ∈ lw_all := lw_g (lw_at lw_m8 120 rfl) rfl
theorem q1885 : (Jvm.Cond.lays "HouseClapsModel" "HouseClapsModel" "beganA" "I") ∈ lw_all := lw_g (lw_at lw_m8 121 rfl) rfl
theorem q1886 : (Jvm.Cond.soleField "HouseClapsModel" "beganA") ∈ lw_all := lw_g (lw_at lw_m8 122 rfl) rfl
theorem q1887 : (Jvm.Cond.lays "HouseClapsModel" "HouseClapsModel" "beganB" "I") ∈ lw_all := lw_g (lw_at lw_m8 123 rfl) rfl
theorem q1888 : (Jvm.Cond.soleField "HouseClapsModel" "beganB") ∈ lw_all := lw_g (lw_at lw_m8 124 rfl) rfl
theorem q1889 : (Jvm.Cond.laysFinal "HouseClapsModel" "HouseClapsModel" "otherClaps" "[J") ∈ lw_all := lw_g (lw_at lw_m8 125 rfl) rfl
theorem q1890 : (Jvm.Cond.soleField "HouseClapsModel" "otherClaps") ∈ lw_all := lw_g (lw_at lw_m8 126 rfl) rfl
theorem q1891 : (Jvm.Cond.laysFinal "HouseClapsModel" "HouseClapsModel" "otherStand" "[J") ∈ lw_all := lw_g (lw_at lw_m8 127 rfl) rfl
theorem q1892 : (Jvm.Cond.soleField "HouseClapsModel" "otherStand") ∈ lw_all := lw_g (lw_at lw_m8 128 rfl) rfl
theorem q1893 : (Jvm.Cond.lays "HouseClapsModel" "HouseClapsModel" "arranged" "I") ∈ lw_all := lw_g (lw_at lw_m8 129 rfl) rfl
theorem q1894 : (Jvm.Cond.soleField "HouseClapsModel" "arranged") ∈ lw_all := lw_g (lw_at lw_m8 130 rfl) rfl
theorem q1895 : (Jvm.Cond.lays "HouseClapsModel" "HouseClapsModel" "seed" "I") ∈ lw_all := lw_g (lw_at lw_m8 131 rfl) rfl
theorem q1896 : (Jvm.Cond.soleField "HouseClapsModel" "seed") ∈ lw_all := lw_g (lw_at lw_m8 132 rfl) rfl
theorem q1897 : (Jvm.Cond.laysFinal "HouseClapsModel" "HouseClapsModel" "kept" "[I") ∈ lw_all := lw_g (lw_at lw_m8 133 rfl) rfl
theorem q1898 : (Jvm.Cond.soleField "HouseClapsModel" "kept") ∈ lw_all := lw_g (lw_at lw_m8 134 rfl) rfl
theorem q1899 : (Jvm.Cond.laysFinal "HouseClapsModel" "HouseClapsModel" "keptPaid" "[J") ∈ lw_all := lw_g (lw_at lw_m8 135 rfl) rfl
theorem q1900 : (Jvm.Cond.soleField "HouseClapsModel" "keptPaid") ∈ lw_all := lw_g (lw_at lw_m8 136 rfl) rfl
theorem q1901 : (Jvm.Cond.laysFinal "HouseClapsModel" "HouseClapsModel" "keptHiss" "[J") ∈ lw_all := lw_g (lw_at lw_m8 137 rfl) rfl
theorem q1902 : (Jvm.Cond.soleField "HouseClapsModel" "keptHiss") ∈ lw_all := lw_g (lw_at lw_m8 138 rfl) rfl
theorem q1903 : (Jvm.Cond.laysFinal "HouseClapsModel" "HouseClapsModel" "isKept" "[Z") ∈ lw_all := lw_g (lw_at lw_m8 139 rfl) rfl
theorem q1904 : (Jvm.Cond.soleField "HouseClapsModel" "isKept") ∈ lw_all := lw_g (lw_at lw_m8 140 rfl) rfl
theorem q1905 : (Jvm.Cond.superclass "HouseClapsModel" "java/lang/Object") ∈ lw_all := lw_g (lw_at lw_m8 141 rfl) rfl
theorem q1907 : (Jvm.Cond.instanceMethod ({ cls := "HouseClapsModel", name := "house", desc := "()I" } : Jvm.MethodName)) ∈ lw_all := lw_g (lw_at lw_m8 143 rfl) rfl
theorem q1908 : (Jvm.Cond.selects "HouseClapsModel" ({ cls := "HouseClapsModel", name := "house", desc := "()I" } : Jvm.MethodName) ({ cls := "HouseClapsModel", name := "house", desc := "()I" } : Jvm.MethodName)) ∈ lw_all := lw_g (lw_at lw_m8 144 rfl) rfl
theorem q1909 : (Jvm.Cond.code ({ cls := "HouseClapsModel", name := "house", desc := "()I" } : Jvm.MethodName) prog_23_method_37_code (2 : Nat) (Option.some Jvm.ClassFile.FieldType.int)) ∈ lw_all := lw_g (lw_at lw_m8 145 rfl) rfl
theorem q1910 : (Jvm.Cond.methodLink "HouseClapsModel" (287 : Nat) ({ cls := "HouseClapsModel", name := "taken", desc := "(I)V" } : Jvm.MethodName)) ∈ lw_all := lw_g (lw_at lw_m8 146 rfl) rfl
theorem q1911 : (Jvm.Cond.privateMethod ({ cls := "HouseClapsModel", name := "taken", desc := "(I)V" } : Jvm.MethodName)) ∈ lw_tbl := lw_at lw_m8 147 rfl
theorem q1912 : (Jvm.Cond.instanceMethod ({ cls := "HouseClapsModel", name := "taken", desc := "(I)V" } : Jvm.MethodName)) ∈ lw_all := lw_g (lw_at lw_m8 148 rfl) rfl
theorem q1913 : (Jvm.Cond.code ({ cls := "HouseClapsModel", name := "taken", desc := "(I)V" } : Jvm.MethodName) prog_23_method_6_code (2 : Nat) (Option.none : Option Jvm.ClassFile.FieldType)) ∈ lw_all := lw_g (lw_at lw_m8 149 rfl) rfl
theorem q1914 : (Jvm.Cond.methodLink "HouseClapsModel" (165 : Nat) ({ cls := "HouseClapsModel", name := "next", desc := "()V" } : Jvm.MethodName)) ∈ lw_all := lw_g (lw_at lw_m8 150 rfl) rfl
theorem q1915 : (Jvm.Cond.privateMethod ({ cls := "HouseClapsModel", name := "next", desc := "()V" } : Jvm.MethodName)) ∈ lw_tbl := lw_at lw_m8 151 rfl
theorem q1916 : (Jvm.Cond.instanceMethod ({ cls := "HouseClapsModel", name := "next", desc := "()V" } : Jvm.MethodName)) ∈ lw_all := lw_g (lw_at lw_m8 152 rfl) rfl
theorem q1917 : (Jvm.Cond.code ({ cls := "HouseClapsModel", name := "next", desc := "()V" } : Jvm.MethodName) prog_23_method_17_code (4 : Nat) (Option.none : Option Jvm.ClassFile.FieldType)) ∈ lw_all := lw_g (lw_at lw_m8 153 rfl) rfl
theorem q1918 : (Jvm.Cond.methodLink "HouseClapsModel" (126 : Nat) ({ cls := "HouseClapsModel", name := "peek", desc := "()I" } : Jvm.MethodName)) ∈ lw_all := lw_g (lw_at lw_m8 154 rfl) rfl
theorem q1919 : (Jvm.Cond.privateMethod ({ cls := "HouseClapsModel", name := "peek", desc := "()I" } : Jvm.MethodName)) ∈ lw_tbl := lw_at lw_m8 155 rfl
theorem q1920 : (Jvm.Cond.instanceMethod ({ cls := "HouseClapsModel", name := "peek", desc := "()I" } : Jvm.MethodName)) ∈ lw_all := lw_g (lw_at lw_m8 156 rfl) rfl
theorem q1921 : (Jvm.Cond.code ({ cls := "HouseClapsModel", name := "peek", desc := "()I" } : Jvm.MethodName) prog_23_method_14_code (1 : Nat) (Option.some Jvm.ClassFile.FieldType.int)) ∈ lw_all := lw_g (lw_at lw_m8 157 rfl) rfl
theorem q1922 : (Jvm.Cond.methodLink "HouseClapsModel" (139 : Nat) ({ cls := "HouseClapsModel", name := "isSmall", desc := "(I)Z" } : Jvm.MethodName)) ∈ lw_all := lw_g (lw_at lw_m8 158 rfl) rfl
theorem q1923 : (Jvm.Cond.static ({ cls := "HouseClapsModel", name := "isSmall", desc := "(I)Z" } : Jvm.MethodName)) ∈ lw_all := lw_g (lw_at lw_m8 159 rfl) rfl
theorem q1924 : (Jvm.Cond.code ({ cls := "HouseClapsModel", name := "isSmall", desc := "(I)Z" } : Jvm.MethodName) prog_23_method_15_code (1 : Nat) (Option.some Jvm.ClassFile.FieldType.boolean)) ∈ lw_all := lw_g (lw_at lw_m8 160 rfl) rfl
theorem q1925 : (Jvm.Cond.methodLink "HouseClapsModel" (143 : Nat) ({ cls := "HouseClapsModel", name := "isDigit", desc := "(I)Z" } : Jvm.MethodName)) ∈ lw_all := lw_g (lw_at lw_m8 161 rfl) rfl
theorem q1926 : (Jvm.Cond.static ({ cls := "HouseClapsModel", name := "isDigit", desc := "(I)Z" } : Jvm.MethodName)) ∈ lw_all := lw_g (lw_at lw_m8 162 rfl) rfl
theorem q1927 : (Jvm.Cond.code ({ cls := "HouseClapsModel", name := "isDigit", desc := "(I)Z" } : Jvm.MethodName) prog_23_method_16_code (1 : Nat) (Option.some Jvm.ClassFile.FieldType.boolean)) ∈ lw_all := lw_g (lw_at lw_m8 163 rfl) rfl
theorem q1928 : (Jvm.Cond.methodLink "HouseClapsModel" (293 : Nat) ({ cls := "HouseClapsModel", name := "line", desc := "()Z" } : Jvm.MethodName)) ∈ lw_all := lw_g (lw_at lw_m8 164 rfl) rfl
theorem q1929 : (Jvm.Cond.privateMethod ({ cls := "HouseClapsModel", name := "line", desc := "()Z" } : Jvm.MethodName)) ∈ lw_tbl := lw_at lw_m8 165 rfl
theorem q1930 : (Jvm.Cond.instanceMethod ({ cls := "HouseClapsModel", name := "line", desc := "()Z" } : Jvm.MethodName)) ∈ lw_all := lw_g (lw_at lw_m8 166 rfl) rfl
theorem q1931 : (Jvm.Cond.code ({ cls := "HouseClapsModel", name := "line", desc := "()Z" } : Jvm.MethodName) prog_23_method_23_code (2 : Nat) (Option.some Jvm.ClassFile.FieldType.boolean)) ∈ lw_all := lw_g (lw_at lw_m8 167 rfl) rfl
theorem q1932 : (Jvm.Cond.constantLong "HouseClapsModel" (175 : Nat) (7499639 : Int64)) ∈ lw_all := lw_g (lw_at lw_m8 168 rfl) rfl
theorem q1933 : (Jvm.Cond.methodLink "HouseClapsModel" (177 : Nat) ({ cls := "HouseClapsModel", name := "isWord", desc := "(J)Z" } : Jvm.MethodName)) ∈ lw_all := lw_g (lw_at lw_m8 169 rfl) rfl
theorem q1934 : (Jvm.Cond.privateMethod ({ cls := "HouseClapsModel", name := "isWord", desc := "(J)Z" } : Jvm.MethodName)) ∈ lw_tbl := lw_at lw_m8 170 rfl
theorem q1935 : (Jvm.Cond.instanceMethod ({ cls := "HouseClapsModel", name := "isWord", desc := "(J)Z" } : Jvm.MethodName)) ∈ lw_all := lw_g (lw_at lw_m8 171 rfl) rfl
theorem q1936 : (Jvm.Cond.code ({ cls := "HouseClapsModel", name := "isWord", desc := "(J)Z" } : Jvm.MethodName) prog_23_method_19_code (3 : Nat) (Option.some Jvm.ClassFile.FieldType.boolean)) ∈ lw_all := lw_g (lw_at lw_m8 172 rfl) rfl
theorem q1937 : (Jvm.Cond.methodLink "HouseClapsModel" (181 : Nat) ({ cls := "HouseClapsModel", name := "readRow", desc := "()Z" } : Jvm.MethodName)) ∈ lw_all := lw_g (lw_at lw_m8 173 rfl) rfl
theorem q1938 : (Jvm.Cond.privateMethod ({ cls := "HouseClapsModel", name := "readRow", desc := "()Z" } : Jvm.MethodName)) ∈ lw_tbl := lw_at lw_m8 174 rfl
theorem q1939 : (Jvm.Cond.instanceMethod ({ cls := "HouseClapsModel", name := "readRow", desc := "()Z" } : Jvm.MethodName)) ∈ lw_all := lw_g (lw_at lw_m8 175 rfl) rfl
theorem q1940 : (Jvm.Cond.code ({ cls := "HouseClapsModel", name := "readRow", desc := "()Z" } : Jvm.MethodName) prog_23_method_26_code (5 : Nat) (Option.some Jvm.ClassFile.FieldType.boolean)) ∈ lw_all := lw_g (lw_at lw_m8 176 rfl) rfl
theorem q1941 : (Jvm.Cond.methodLink "HouseClapsModel" (162 : Nat) ({ cls := "HouseClapsModel", name := "bad", desc := "(I)Z" } : Jvm.MethodName)) ∈ lw_all := lw_g (lw_at lw_m8 177 rfl) rfl
theorem q1942 : (Jvm.Cond.privateMethod ({ cls := "HouseClapsModel", name := "bad", desc := "(I)Z" } : Jvm.MethodName)) ∈ lw_tbl := lw_at lw_m8 178 rfl
theorem q1943 : (Jvm.Cond.instanceMethod ({ cls := "HouseClapsModel", name := "bad", desc := "(I)Z" } : Jvm.MethodName)) ∈ lw_all := lw_g (lw_at lw_m8 179 rfl) rfl
theorem q1944 : (Jvm.Cond.code ({ cls := "HouseClapsModel", name := "bad", desc := "(I)Z" } : Jvm.MethodName) prog_23_method_18_code (2 : Nat) (Option.some Jvm.ClassFile.FieldType.boolean)) ∈ lw_all := lw_g (lw_at lw_m8 180 rfl) rfl
theorem q1945 : (Jvm.Cond.methodLink "HouseClapsModel" (225 : Nat) ({ cls := "HouseClapsModel", name := "octet", desc := "(I)I" } : Jvm.MethodName)) ∈ lw_all := lw_g (lw_at lw_m8 181 rfl) rfl
theorem q1946 : (Jvm.Cond.privateMethod ({ cls := "HouseClapsModel", name := "octet", desc := "(I)I" } : Jvm.MethodName)) ∈ lw_tbl := lw_at lw_m8 182 rfl
theorem q1947 : (Jvm.Cond.instanceMethod ({ cls := "HouseClapsModel", name := "octet", desc := "(I)I" } : Jvm.MethodName)) ∈ lw_all := lw_g (lw_at lw_m8 183 rfl) rfl
theorem q1948 : (Jvm.Cond.code ({ cls := "HouseClapsModel", name := "octet", desc := "(I)I" } : Jvm.MethodName) prog_23_method_11_code (2 : Nat) (Option.some Jvm.ClassFile.FieldType.int)) ∈ lw_all := lw_g (lw_at lw_m8 184 rfl) rfl
theorem q1949 : (Jvm.Cond.methodLink "HouseClapsModel" (168 : Nat) ({ cls := "HouseClapsModel", name := "isIn", desc := "(III)Z" } : Jvm.MethodName)) ∈ lw_all := lw_g (lw_at lw_m8 185 rfl) rfl
theorem q1950 : (Jvm.Cond.static ({ cls := "HouseClapsModel", name := "isIn", desc := "(III)Z" } : Jvm.MethodName)) ∈ lw_all := lw_g (lw_at lw_m8 186 rfl) rfl
theorem q1951 : (Jvm.Cond.code ({ cls := "HouseClapsModel", name := "isIn", desc := "(III)Z" } : Jvm.MethodName) prog_23_method_7_code (3 : Nat) (Option.some Jvm.ClassFile.FieldType.boolean)) ∈ lw_all := lw_g (lw_at lw_m8 187 rfl) rfl
theorem q1952 : (Jvm.Cond.constantLong "HouseClapsModel" (185 : Nat) (30064 : Int64)) ∈ lw_all := lw_g (lw_at lw_m8 188 rfl) rfl
theorem q1953 : (Jvm.Cond.methodLink "HouseClapsModel" (187 : Nat) ({ cls := "HouseClapsModel", name := "readLaw", desc := "(I)Z" } : Jvm.MethodName)) ∈ lw_all := lw_g (lw_at lw_m8 189 rfl) rfl
theorem q1954 : (Jvm.Cond.privateMethod ({ cls := "HouseClapsModel", name := "readLaw", desc := "(I)Z" } : Jvm.MethodName)) ∈ lw_tbl := lw_at lw_m8 190 rfl
theorem q1955 : (Jvm.Cond.instanceMethod ({ cls := "HouseClapsModel", name := "readLaw", desc := "(I)Z" } : Jvm.MethodName)) ∈ lw_all := lw_g (lw_at lw_m8 191 rfl) rfl
theorem q1956 : (Jvm.Cond.code ({ cls := "HouseClapsModel", name := "readLaw", desc := "(I)Z" } : Jvm.MethodName) prog_23_method_27_code (4 : Nat) (Option.some Jvm.ClassFile.FieldType.boolean)) ∈ lw_all := lw_g (lw_at lw_m8 192 rfl) rfl
theorem q1957 : (Jvm.Cond.methodLink "HouseClapsModel" (238 : Nat) ({ cls := "HouseClapsModel", name := "cond", desc := "()Z" } : Jvm.MethodName)) ∈ lw_all := lw_g (lw_at lw_m8 193 rfl) rfl
theorem q1958 : (Jvm.Cond.privateMethod ({ cls := "HouseClapsModel", name := "cond", desc := "()Z" } : Jvm.MethodName)) ∈ lw_tbl := lw_at lw_m8 194 rfl
theorem q1959 : (Jvm.Cond.instanceMethod ({ cls := "HouseClapsModel", name := "cond", desc := "()Z" } : Jvm.MethodName)) ∈ lw_all := lw_g (lw_at lw_m8 195 rfl) rfl
theorem q1960 : (Jvm.Cond.code ({ cls := "HouseClapsModel", name := "cond", desc := "()Z" } : Jvm.MethodName) prog_23_method_33_code (2 : Nat) (Option.some Jvm.ClassFile.FieldType.boolean)) ∈ lw_all := lw_g (lw_at lw_m8 196 rfl) rfl
theorem q1961 : (Jvm.Cond.methodLink "HouseClapsModel" (247 : Nat) ({ cls := "HouseClapsModel", name := "one", desc := "()Z" } : Jvm.MethodName)) ∈ lw_all := lw_g (lw_at lw_m8 197 rfl) rfl
theorem q1962 : (Jvm.Cond.privateMethod ({ cls := "HouseClapsModel", name := "one", desc := "()Z" } : Jvm.MethodName)) ∈ lw_tbl := lw_at lw_m8 198 rfl
theorem q1963 : (Jvm.Cond.instanceMethod ({ cls := "HouseClapsModel", name := "one", desc := "()Z" } : Jvm.MethodName)) ∈ lw_all := lw_g (lw_at lw_m8 199 rfl) rfl
theorem q1964 : (Jvm.Cond.code ({ cls := "HouseClapsModel", name := "one", desc := "()Z" } : Jvm.MethodName) prog_23_method_35_code (3 : Nat) (Option.some Jvm.ClassFile.FieldType.boolean)) ∈ lw_all := lw_g (lw_at lw_m8 200 rfl) rfl
theorem q1965 : (Jvm.Cond.constantLong "HouseClapsModel" (276 : Nat) (7237492 : Int64)) ∈ lw_all := lw_g (lw_at lw_m8 201 rfl) rfl
theorem q1966 : (Jvm.Cond.methodLink "HouseClapsModel" (278 : Nat) ({ cls := "HouseClapsModel", name := "atom", desc := "()I" } : Jvm.MethodName)) ∈ lw_all := lw_g (lw_at lw_m8 202 rfl) rfl
theorem q1967 : (Jvm.Cond.privateMethod ({ cls := "HouseClapsModel", name := "atom", desc := "()I" } : Jvm.MethodName)) ∈ lw_tbl := lw_at lw_m8 203 rfl
theorem q1968 : (Jvm.Cond.instanceMethod ({ cls := "HouseClapsModel", name := "atom", desc := "()I" } : Jvm.MethodName)) ∈ lw_all := lw_g (lw_at lw_m8 204 rfl) rfl
theorem q1969 : (Jvm.Cond.code ({ cls := "HouseClapsModel", name := "atom", desc := "()I" } : Jvm.MethodName) prog_23_method_34_code (1 : Nat) (Option.some Jvm.ClassFile.FieldType.int)) ∈ lw_all := lw_g (lw_at lw_m8 205 rfl) rfl
theorem q1970 : (Jvm.Cond.constantLong "HouseClapsModel" (260 : Nat) (1852137842 : Int64)) ∈ lw_all := lw_g (lw_at lw_m8 206 rfl) rfl
theorem q1971 : (Jvm.Cond.constantLong "HouseClapsModel" (262 : Nat) (418363302244 : Int64)) ∈ lw_all := lw_g (lw_at lw_m8 207 rfl) rfl
theorem q1972 : (Jvm.Cond.constantLong "HouseClapsModel" (264 : Nat) (108187867505765 : Int64)) ∈ lw_all := lw_g (lw_at lw_m8 208 rfl) rfl
theorem q1973 : (Jvm.Cond.constantLong "HouseClapsModel" (266 : Nat) (108187682958948 : Int64)) ∈ lw_all := lw_g (lw_at lw_m8 209 rfl) rfl
theorem q1974 : (Jvm.Cond.constantLong "HouseClapsModel" (268 : Nat) (1936024942 : Int64)) ∈ lw_all := lw_g (lw_at lw_m8 210 rfl) rfl
theorem q1975 : (Jvm.Cond.constantLong "HouseClapsModel" (270 : Nat) (448546567013 : Int64)) ∈ lw_all := lw_g (lw_at lw_m8 211 rfl) rfl
theorem q1976 : (Jvm.Cond.constantLong "HouseClapsModel" (272 : Nat) (1936026726 : Int64)) ∈ lw_all := lw_g (lw_at lw_m8 212 rfl) rfl
theorem q1977 : (Jvm.Cond.constantLong "HouseClapsModel" (274 : Nat) (1751477348 : Int64)) ∈ lw_all := lw_g (lw_at lw_m8 213 rfl) rfl
theorem q1978 : (Jvm.Cond.methodLink "HouseClapsModel" (159 : Nat) ({ cls := "HouseClapsModel", name := "isSign", desc := "(I)Z" } : Jvm.MethodName)) ∈ lw_all := lw_g (lw_at lw_m8 214 rfl) rfl
theorem q1979 : (Jvm.Cond.privateMethod ({ cls := "HouseClapsModel", name := "isSign", desc := "(I)Z" } : Jvm.MethodName)) ∈ lw_tbl := lw_at lw_m8 215 rfl
theorem q1980 : (Jvm.Cond.instanceMethod ({ cls := "HouseClapsModel", name := "isSign", desc := "(I)Z" } : Jvm.MethodName)) ∈ lw_all := lw_g (lw_at lw_m8 216 rfl) rfl
theorem q1981 : (Jvm.Cond.code ({ cls := "HouseClapsModel", name := "isSign", desc := "(I)Z" } : Jvm.MethodName) prog_23_method_20_code (2 : Nat) (Option.some Jvm.ClassFile.FieldType.boolean)) ∈ lw_all := lw_g (lw_at lw_m8 217 rfl) rfl
theorem q1982 : (Jvm.Cond.methodLink "HouseClapsModel" (281 : Nat) ({ cls := "HouseClapsModel", name := "opened", desc := "()I" } : Jvm.MethodName)) ∈ lw_all := lw_g (lw_at lw_m8 218 rfl) rfl
theorem q1983 : (Jvm.Cond.privateMethod ({ cls := "HouseClapsModel", name := "opened", desc := "()I" } : Jvm.MethodName)) ∈ lw_tbl := lw_at lw_m8 219 rfl
theorem q1984 : (Jvm.Cond.instanceMethod ({ cls := "HouseClapsModel", name := "opened", desc := "()I" } : Jvm.MethodName)) ∈ lw_all := lw_g (lw_at lw_m8 220 rfl) rfl
theorem q1985 : (Jvm.Cond.code ({ cls := "HouseClapsModel", name := "opened", desc := "()I" } : Jvm.MethodName) prog_23_method_31_code (3 : Nat) (Option.some Jvm.ClassFile.FieldType.int)) ∈ lw_all := lw_g (lw_at lw_m8 221 rfl) rfl
theorem q1986 : (Jvm.Cond.methodLink "HouseClapsModel" (284 : Nat) ({ cls := "HouseClapsModel", name := "asks", desc := "(I)Z" } : Jvm.MethodName)) ∈ lw_all := lw_g (lw_at lw_m8 222 rfl) rfl
theorem q1987 : (Jvm.Cond.privateMethod ({ cls := "HouseClapsModel", name := "asks", desc := "(I)Z" } : Jvm.MethodName)) ∈ lw_tbl := lw_at lw_m8 223 rfl
theorem q1988 : (Jvm.Cond.instanceMethod ({ cls := "HouseClapsModel", name := "asks", desc := "(I)Z" } : Jvm.MethodName)) ∈ lw_all := lw_g (lw_at lw_m8 224 rfl) rfl
theorem q1989 : (Jvm.Cond.code ({ cls := "HouseClapsModel", name := "asks", desc := "(I)Z" } : Jvm.MethodName) prog_23_method_36_code (5 : Nat) (Option.some Jvm.ClassFile.FieldType.boolean)) ∈ lw_all := lw_g (lw_at lw_m8 225 rfl) rfl
theorem q1990 : (Jvm.Cond.methodLink "HouseClapsModel" (200 : Nat) ({ cls := "HouseClapsModel", name := "takes", desc := "(II)Z" } : Jvm.MethodName)) ∈ lw_all := lw_g (lw_at lw_m8 226 rfl) rfl
theorem q1991 : (Jvm.Cond.privateMethod ({ cls := "HouseClapsModel", name := "takes", desc := "(II)Z" } : Jvm.MethodName)) ∈ lw_tbl := lw_at lw_m8 227 rfl
theorem q1992 : (Jvm.Cond.instanceMethod ({ cls := "HouseClapsModel", name := "takes", desc := "(II)Z" } : Jvm.MethodName)) ∈ lw_all := lw_g (lw_at lw_m8 228 rfl) rfl
theorem q1993 : (Jvm.Cond.code ({ cls := "HouseClapsModel", name := "takes", desc := "(II)Z" } : Jvm.MethodName) prog_23_method_22_code (3 : Nat) (Option.some Jvm.ClassFile.FieldType.boolean)) ∈ lw_all := lw_g (lw_at lw_m8 229 rfl) rfl
theorem q1994 : (Jvm.Cond.methodLink "HouseClapsModel" (244 : Nat) ({ cls := "HouseClapsModel", name := "write", desc := "(I)V" } : Jvm.MethodName)) ∈ lw_all := lw_g (lw_at lw_m8 230 rfl) rfl
theorem q1995 : (Jvm.Cond.privateMethod ({ cls := "HouseClapsModel", name := "write", desc := "(I)V" } : Jvm.MethodName)) ∈ lw_tbl := lw_at lw_m8 231 rfl
theorem q1996 : (Jvm.Cond.instanceMethod ({ cls := "HouseClapsModel", name := "write", desc := "(I)V" } : Jvm.MethodName)) ∈ lw_all := lw_g (lw_at lw_m8 232 rfl) rfl
theorem q1997 : (Jvm.Cond.code ({ cls := "HouseClapsModel", name := "write", desc := "(I)V" } : Jvm.MethodName) prog_23_method_28_code (2 : Nat) (Option.none : Option Jvm.ClassFile.FieldType)) ∈ lw_all := lw_g (lw_at lw_m8 233 rfl) rfl
theorem q1998 : (Jvm.Cond.methodLink "HouseClapsModel" (253 : Nat) ({ cls := "HouseClapsModel", name := "writeDown", desc := "(I)V" } : Jvm.MethodName)) ∈ lw_all := lw_g (lw_at lw_m8 234 rfl) rfl
theorem q1999 : (Jvm.Cond.privateMethod ({ cls := "HouseClapsModel", name := "writeDown", desc := "(I)V" } : Jvm.MethodName)) ∈ lw_tbl := lw_at lw_m8 235 rfl
theorem q2000 : (Jvm.Cond.instanceMethod ({ cls := "HouseClapsModel", name := "writeDown", desc := "(I)V" } : Jvm.MethodName)) ∈ lw_all := lw_g (lw_at lw_m8 236 rfl) rfl
theorem q2001 : (Jvm.Cond.code ({ cls := "HouseClapsModel", name := "writeDown", desc := "(I)V" } : Jvm.MethodName) prog_23_method_29_code (2 : Nat) (Option.none : Option Jvm.ClassFile.FieldType)) ∈ lw_all := lw_g (lw_at lw_m8 237 rfl) rfl
theorem q2002 : (Jvm.Cond.methodLink "HouseClapsModel" (241 : Nat) ({ cls := "HouseClapsModel", name := "binds", desc := "(I)I" } : Jvm.MethodName)) ∈ lw_all := lw_g (lw_at lw_m8 238 rfl) rfl
theorem q2003 : (Jvm.Cond.static ({ cls := "HouseClapsModel", name := "binds", desc := "(I)I" } : Jvm.MethodName)) ∈ lw_all := lw_g (lw_at lw_m8 239 rfl) rfl
theorem q2004 : (Jvm.Cond.code ({ cls := "HouseClapsModel", name := "binds", desc := "(I)I" } : Jvm.MethodName) prog_23_method_30_code (1 : Nat) (Option.some Jvm.ClassFile.FieldType.int)) ∈ lw_all := lw_g (lw_at lw_m9 0 rfl) rfl
theorem q2005 : (Jvm.Cond.methodLink "HouseClapsModel" (250 : Nat) ({ cls := "HouseClapsModel", name := "isOpen", desc := "()Z" } : Jvm.MethodName)) ∈ lw_all := lw_g (lw_at lw_m9 1 rfl) rfl
theorem q2006 : (Jvm.Cond.privateMethod ({ cls := "HouseClapsModel", name := "isOpen", desc := "()Z" } : Jvm.MethodName)) ∈ lw_tbl := lw_at lw_m9 2 rfl
theorem q2007 : (Jvm.Cond.instanceMethod ({ cls := "HouseClapsModel", name := "isOpen", desc := "()Z" } : Jvm.MethodName)) ∈ lw_all := lw_g (lw_at lw_m9 3 rfl) rfl
theorem q2008 : (Jvm.Cond.code ({ cls := "HouseClapsModel", name := "isOpen", desc := "()Z" } : Jvm.MethodName) prog_23_method_32_code (2 : Nat) (Option.some Jvm.ClassFile.FieldType.boolean)) ∈ lw_all := lw_g (lw_at lw_m9 4 rfl) rfl
theorem q2009 : (Jvm.Cond.constantLong "HouseClapsModel" (256 : Nat) (6385252 : Int64)) ∈ lw_all := lw_g (lw_at lw_m9 5 rfl) rfl
theorem q2010 : (Jvm.Cond.constantLong "HouseClapsModel" (258 : Nat) (28530 : Int64)) ∈ lw_all := lw_g (lw_at lw_m9 6 rfl) rfl
theorem q2011 : (Jvm.Cond.constantLong "HouseClapsModel" (190 : Nat) (1685026670 : Int64)) ∈ lw_all := lw_g (lw_at lw_m9 7 rfl) rfl
theorem q2012 : (Jvm.Cond.constantLong "HouseClapsModel" (192 : Nat) (482955846501 : Int64)) ∈ lw_all := lw_g (lw_at lw_m9 8 rfl) rfl
theorem q2013 : (Jvm.Cond.methodLink "HouseClapsModel" (197 : Nat) ({ cls := "HouseClapsModel", name := "takesRow", desc := "(I)Z" } : Jvm.MethodName)) ∈ lw_all := lw_g (lw_at lw_m9 9 rfl) rfl
theorem q2014 : (Jvm.Cond.privateMethod ({ cls := "HouseClapsModel", name := "takesRow", desc := "(I)Z" } : Jvm.MethodName)) ∈ lw_tbl := lw_at lw_m9 10 rfl
theorem q2015 : (Jvm.Cond.instanceMethod ({ cls := "HouseClapsModel", name := "takesRow", desc := "(I)Z" } : Jvm.MethodName)) ∈ lw_all := lw_g (lw_at lw_m9 11 rfl) rfl
theorem q2016 : (Jvm.Cond.code ({ cls := "HouseClapsModel", name := "takesRow", desc := "(I)Z" } : Jvm.MethodName) prog_23_method_25_code (2 : Nat) (Option.some Jvm.ClassFile.FieldType.boolean)) ∈ lw_all := lw_g (lw_at lw_m9 12 rfl) rfl
theorem q2017 : (Jvm.Cond.methodLink "HouseClapsModel" (222 : Nat) ({ cls := "HouseClapsModel", name := "has", desc := "(II)Z" } : Jvm.MethodName)) ∈ lw_all := lw_g (lw_at lw_m9 13 rfl) rfl
theorem q2018 : (Jvm.Cond.static ({ cls := "HouseClapsModel", name := "has", desc := "(II)Z" } : Jvm.MethodName)) ∈ lw_all := lw_g (lw_at lw_m9 14 rfl) rfl
theorem q2019 : (Jvm.Cond.code ({ cls := "HouseClapsModel", name := "has", desc := "(II)Z" } : Jvm.MethodName) prog_23_method_8_code (2 : Nat) (Option.some Jvm.ClassFile.FieldType.boolean)) ∈ lw_all := lw_g (lw_at lw_m9 15 rfl) rfl
theorem q2020 : (Jvm.Cond.constantLong "HouseClapsModel" (204 : Nat) (119182682645875 : Int64)) ∈ lw_all := lw_g (lw_at lw_m9 16 rfl) rfl
theorem q2021 : (Jvm.Cond.constantLong "HouseClapsModel" (209 : Nat) (426836652665 : Int64)) ∈ lw_all := lw_g (lw_at lw_m9 17 rfl) rfl
theorem q2022 : (Jvm.Cond.methodLink "HouseClapsModel" (211 : Nat) ({ cls := "HouseClapsModel", name := "once", desc := "(IIII)Z" } : Jvm.MethodName)) ∈ lw_all := lw_g (lw_at lw_m9 18 rfl) rfl
theorem q2023 : (Jvm.Cond.privateMethod ({ cls := "HouseClapsModel", name := "once", desc := "(IIII)Z" } : Jvm.MethodName)) ∈ lw_tbl := lw_at lw_m9 19 rfl
theorem q2024 : (Jvm.Cond.instanceMethod ({ cls := "HouseClapsModel", name := "once", desc := "(IIII)Z" } : Jvm.MethodName)) ∈ lw_all := lw_g (lw_at lw_m9 20 rfl) rfl
theorem q2025 : (Jvm.Cond.code ({ cls := "HouseClapsModel", name := "once", desc := "(IIII)Z" } : Jvm.MethodName) prog_23_method_24_code (5 : Nat) (Option.some Jvm.ClassFile.FieldType.boolean)) ∈ lw_all := lw_g (lw_at lw_m9 21 rfl) rfl
theorem q2026 : (Jvm.Cond.constantLong "HouseClapsModel" (215 : Nat) (1885432164 : Int64)) ∈ lw_all := lw_g (lw_at lw_m9 22 rfl) rfl
theorem q2027 : (Jvm.Cond.constantLong "HouseClapsModel" (217 : Nat) (1919907699 : Int64)) ∈ lw_all := lw_g (lw_at lw_m9 23 rfl) rfl
theorem q2028 : (Jvm.Cond.methodLink "HouseClapsModel" (296 : Nat) ({ cls := "HouseClapsModel", name := "sign", desc := "(I)Z" } : Jvm.MethodName)) ∈ lw_all := lw_g (lw_at lw_m9 24 rfl) rfl
theorem q2029 : (Jvm.Cond.privateMethod ({ cls := "HouseClapsModel", name := "sign", desc := "(I)Z" } : Jvm.MethodName)) ∈ lw_tbl := lw_at lw_m9 25 rfl
theorem q2030 : (Jvm.Cond.instanceMethod ({ cls := "HouseClapsModel", name := "sign", desc := "(I)Z" } : Jvm.MethodName)) ∈ lw_all := lw_g (lw_at lw_m9 26 rfl) rfl
theorem q2031 : (Jvm.Cond.code ({ cls := "HouseClapsModel", name := "sign", desc := "(I)Z" } : Jvm.MethodName) prog_23_method_21_code (2 : Nat) (Option.some Jvm.ClassFile.FieldType.boolean)) ∈ lw_all := lw_g (lw_at lw_m9 27 rfl) rfl
theorem q2033 : (Jvm.Cond.instanceMethod ({ cls := "HouseClapsModel", name := "fault", desc := "()I" } : Jvm.MethodName)) ∈ lw_all := lw_g (lw_at lw_m9 29 rfl) rfl
theorem q2034 : (Jvm.Cond.selects "HouseClapsModel" ({ cls := "HouseClapsModel", name := "fault", desc := "()I" } : Jvm.MethodName) ({ cls := "HouseClapsModel", name := "fault", desc := "()I" } : Jvm.MethodName)) ∈ lw_all := lw_g (lw_at lw_m9 30 rfl) rfl
theorem q2035 : (Jvm.Cond.code ({ cls := "HouseClapsModel", name := "fault", desc := "()I" } : Jvm.MethodName) prog_23_method_38_code (1 : Nat) (Option.some Jvm.ClassFile.FieldType.int)) ∈ lw_all := lw_g (lw_at lw_m9 31 rfl) rfl
theorem q2037 : (Jvm.Cond.instanceMethod ({ cls := "HouseClapsModel", name := "seat", desc := "(II)I" } : Jvm.MethodName)) ∈ lw_all := lw_g (lw_at lw_m9 33 rfl) rfl
theorem q2038 : (Jvm.Cond.selects "HouseClapsModel" ({ cls := "HouseClapsModel", name := "seat", desc := "(II)I" } : Jvm.MethodName) ({ cls := "HouseClapsModel", name := "seat", desc := "(II)I" } : Jvm.MethodName)) ∈ lw_all := lw_g (lw_at lw_m9 34 rfl) rfl
theorem q2039 : (Jvm.Cond.code ({ cls := "HouseClapsModel", name := "seat", desc := "(II)I" } : Jvm.MethodName) prog_23_method_43_code (3 : Nat) (Option.some Jvm.ClassFile.FieldType.int)) ∈ lw_all := lw_g (lw_at lw_m9 35 rfl) rfl
theorem q2040 : (Jvm.Cond.methodLink "HouseClapsModel" (314 : Nat) ({ cls := "HouseClapsModel", name := "isSeat", desc := "(I)Z" } : Jvm.MethodName)) ∈ lw_all := lw_g (lw_at lw_m9 36 rfl) rfl
theorem q2041 : (Jvm.Cond.privateMethod ({ cls := "HouseClapsModel", name := "isSeat", desc := "(I)Z" } : Jvm.MethodName)) ∈ lw_tbl := lw_at lw_m9 37 rfl
theorem q2042 : (Jvm.Cond.instanceMethod ({ cls := "HouseClapsModel", name := "isSeat", desc := "(I)Z" } : Jvm.MethodName)) ∈ lw_all := lw_g (lw_at lw_m9 38 rfl) rfl
theorem q2043 : (Jvm.Cond.code ({ cls := "HouseClapsModel", name := "isSeat", desc := "(I)Z" } : Jvm.MethodName) prog_23_method_39_code (2 : Nat) (Option.some Jvm.ClassFile.FieldType.boolean)) ∈ lw_all := lw_g (lw_at lw_m9 39 rfl) rfl
theorem q2044 : (Jvm.Cond.methodLink "HouseClapsModel" (317 : Nat) ({ cls := "HouseClapsModel", name := "throwsIf", desc := "(Z)Z" } : Jvm.MethodName)) ∈ lw_all := lw_g (lw_at lw_m9 40 rfl) rfl
theorem q2045 : (Jvm.Cond.privateMethod ({ cls := "HouseClapsModel", name := "throwsIf", desc := "(Z)Z" } : Jvm.MethodName)) ∈ lw_tbl := lw_at lw_m9 41 rfl
theorem q2046 : (Jvm.Cond.instanceMethod ({ cls := "HouseClapsModel", name := "throwsIf", desc := "(Z)Z" } : Jvm.MethodName)) ∈ lw_all := lw_g (lw_at lw_m9 42 rfl) rfl
theorem q2047 : (Jvm.Cond.code ({ cls := "HouseClapsModel", name := "throwsIf", desc := "(Z)Z" } : Jvm.MethodName) prog_23_method_2_code (2 : Nat) (Option.some Jvm.ClassFile.FieldType.boolean)) ∈ lw_all := lw_g (lw_at lw_m9 43 rfl) rfl
theorem q2048 : (Jvm.Cond.methodLink "HouseClapsModel" (321 : Nat) ({ cls := "HouseClapsModel", name := "price", desc := "(I)I" } : Jvm.MethodName)) ∈ lw_all := lw_g (lw_at lw_m9 44 rfl) rfl
theorem q2049 : (Jvm.Cond.privateMethod ({ cls := "HouseClapsModel", name := "price", desc := "(I)I" } : Jvm.MethodName)) ∈ lw_tbl := lw_at lw_m9 45 rfl
theorem q2050 : (Jvm.Cond.instanceMethod ({ cls := "HouseClapsModel", name := "price", desc := "(I)I" } : Jvm.MethodName)) ∈ lw_all := lw_g (lw_at lw_m9 46 rfl) rfl
theorem q2051 : (Jvm.Cond.code ({ cls := "HouseClapsModel", name := "price", desc := "(I)I" } : Jvm.MethodName) prog_23_method_44_code (2 : Nat) (Option.some Jvm.ClassFile.FieldType.int)) ∈ lw_all := lw_g (lw_at lw_m9 47 rfl) rfl
theorem q2052 : (Jvm.Cond.methodLink "HouseClapsModel" (324 : Nat) ({ cls := "HouseClapsModel", name := "holds", desc := "(JI)Z" } : Jvm.MethodName)) ∈ lw_all := lw_g (lw_at lw_m9 48 rfl) rfl
theorem q2053 : (Jvm.Cond.static ({ cls := "HouseClapsModel", name := "holds", desc := "(JI)Z" } : Jvm.MethodName)) ∈ lw_all := lw_g (lw_at lw_m9 49 rfl) rfl
theorem q2054 : (Jvm.Cond.code ({ cls := "HouseClapsModel", name := "holds", desc := "(JI)Z" } : Jvm.MethodName) prog_23_method_9_code (3 : Nat) (Option.some Jvm.ClassFile.FieldType.boolean)) ∈ lw_all := lw_g (lw_at lw_m9 50 rfl) rfl
theorem q2056 : (Jvm.Cond.instanceMethod ({ cls := "HouseClapsModel", name := "law", desc := "(II)I" } : Jvm.MethodName)) ∈ lw_all := lw_g (lw_at lw_m9 52 rfl) rfl
theorem q2057 : (Jvm.Cond.selects "HouseClapsModel" ({ cls := "HouseClapsModel", name := "law", desc := "(II)I" } : Jvm.MethodName) ({ cls := "HouseClapsModel", name := "law", desc := "(II)I" } : Jvm.MethodName)) ∈ lw_all := lw_g (lw_at lw_m9 53 rfl) rfl
theorem q2058 : (Jvm.Cond.code ({ cls := "HouseClapsModel", name := "law", desc := "(II)I" } : Jvm.MethodName) prog_23_method_45_code (4 : Nat) (Option.some Jvm.ClassFile.FieldType.int)) ∈ lw_all := lw_g (lw_at lw_m9 54 rfl) rfl
theorem q2060 : (Jvm.Cond.instanceMethod ({ cls := "HouseClapsModel", name := "pay", desc := "(II)Z" } : Jvm.MethodName)) ∈ lw_all := lw_g (lw_at lw_m9 56 rfl) rfl
theorem q2061 : (Jvm.Cond.selects "HouseClapsModel" ({ cls := "HouseClapsModel", name := "pay", desc := "(II)Z" } : Jvm.MethodName) ({ cls := "HouseClapsModel", name := "pay", desc := "(II)Z" } : Jvm.MethodName)) ∈ lw_all := lw_g (lw_at lw_m9 57 rfl) rfl
theorem q2062 : (Jvm.Cond.code ({ cls := "HouseClapsModel", name := "pay", desc := "(II)Z" } : Jvm.MethodName) prog_23_method_46_code (3 : Nat) (Option.some Jvm.ClassFile.FieldType.boolean)) ∈ lw_all := lw_g (lw_at lw_m9 58 rfl) rfl
theorem q2063 : (Jvm.Cond.constantLong "HouseClapsModel" (312 : Nat) (-1 : Int64)) ∈ lw_all := lw_g (lw_at lw_m9 59 rfl) rfl
theorem q2065 : (Jvm.Cond.instanceMethod ({ cls := "HouseClapsModel", name := "hiss", desc := "(II)Z" } : Jvm.MethodName)) ∈ lw_all := lw_g (lw_at lw_m9 61 rfl) rfl
theorem q2066 : (Jvm.Cond.selects "HouseClapsModel" ({ cls := "HouseClapsModel", name := "hiss", desc := "(II)Z" } : Jvm.MethodName) ({ cls := "HouseClapsModel", name := "hiss", desc := "(II)Z" } : Jvm.MethodName)) ∈ lw_all := lw_g (lw_at lw_m9 62 rfl) rfl
theorem q2067 : (Jvm.Cond.code ({ cls := "HouseClapsModel", name := "hiss", desc := "(II)Z" } : Jvm.MethodName) prog_23_method_47_code (3 : Nat) (Option.some Jvm.ClassFile.FieldType.boolean)) ∈ lw_all := lw_g (lw_at lw_m9 63 rfl) rfl
theorem q2069 : (Jvm.Cond.instanceMethod ({ cls := "HouseClapsModel", name := "cues", desc := "()I" } : Jvm.MethodName)) ∈ lw_all := lw_g (lw_at lw_m9 65 rfl) rfl
theorem q2070 : (Jvm.Cond.selects "HouseClapsModel" ({ cls := "HouseClapsModel", name := "cues", desc := "()I" } : Jvm.MethodName) ({ cls := "HouseClapsModel", name := "cues", desc := "()I" } : Jvm.MethodName)) ∈ lw_all := lw_g (lw_at lw_m9 66 rfl) rfl
theorem q2071 : (Jvm.Cond.code ({ cls := "HouseClapsModel", name := "cues", desc := "()I" } : Jvm.MethodName) prog_23_method_49_code (2 : Nat) (Option.some Jvm.ClassFile.FieldType.int)) ∈ lw_all := lw_g (lw_at lw_m9 67 rfl) rfl
theorem q2072 : (Jvm.Cond.methodLink "HouseClapsModel" (341 : Nat) ({ cls := "HouseClapsModel", name := "readCue", desc := "()Z" } : Jvm.MethodName)) ∈ lw_all := lw_g (lw_at lw_m9 68 rfl) rfl
theorem q2073 : (Jvm.Cond.privateMethod ({ cls := "HouseClapsModel", name := "readCue", desc := "()Z" } : Jvm.MethodName)) ∈ lw_tbl := lw_at lw_m9 69 rfl
theorem q2074 : (Jvm.Cond.instanceMethod ({ cls := "HouseClapsModel", name := "readCue", desc := "()Z" } : Jvm.MethodName)) ∈ lw_all := lw_g (lw_at lw_m9 70 rfl) rfl
theorem q2075 : (Jvm.Cond.code ({ cls := "HouseClapsModel", name := "readCue", desc := "()Z" } : Jvm.MethodName) prog_23_method_48_code (4 : Nat) (Option.some Jvm.ClassFile.FieldType.boolean)) ∈ lw_all := lw_g (lw_at lw_m9 71 rfl) rfl
theorem q2076 : (Jvm.Cond.constantLong "HouseClapsModel" (328 : Nat) (24948 : Int64)) ∈ lw_all := lw_g (lw_at lw_m9 72 rfl) rfl
theorem q2077 : (Jvm.Cond.constantLong "HouseClapsModel" (333 : Nat) (7364985 : Int64)) ∈ lw_all := lw_g (lw_at lw_m9 73 rfl) rfl
theorem q2078 : (Jvm.Cond.constantLong "HouseClapsModel" (335 : Nat) (1751741299 : Int64)) ∈ lw_all := lw_g (lw_at lw_m9 74 rfl) rfl
theorem q2079 : (Jvm.Cond.constantLong "HouseClapsModel" (337 : Nat) (1718773093 : Int64)) ∈ lw_all := lw_g (lw_at lw_m9 75 rfl) rfl
theorem q2080 : (Jvm.Cond.constantLong "HouseClapsModel" (339 : Nat) (495874305132 : Int64)) ∈ lw_all := lw_g (lw_at lw_m9 76 rfl) rfl
theorem q2081 : (Jvm.Cond.methodLink "HouseClapsModel" (305 : Nat) ({ cls := "HouseClapsModel", name := "isSeatAt", desc := "(II)Z" } : Jvm.MethodName)) ∈ lw_all := lw_g (lw_at lw_m9 77 rfl) rfl
theorem q2082 : (Jvm.Cond.privateMethod ({ cls := "HouseClapsModel", name := "isSeatAt", desc := "(II)Z" } : Jvm.MethodName)) ∈ lw_tbl := lw_at lw_m9 78 rfl
theorem q2083 : (Jvm.Cond.instanceMethod ({ cls := "HouseClapsModel", name := "isSeatAt", desc := "(II)Z" } : Jvm.MethodName)) ∈ lw_all := lw_g (lw_at lw_m9 79 rfl) rfl
theorem q2084 : (Jvm.Cond.code ({ cls := "HouseClapsModel", name := "isSeatAt", desc := "(II)Z" } : Jvm.MethodName) prog_23_method_40_code (3 : Nat) (Option.some Jvm.ClassFile.FieldType.boolean)) ∈ lw_all := lw_g (lw_at lw_m9 80 rfl) rfl
theorem q2086 : (Jvm.Cond.instanceMethod ({ cls := "HouseClapsModel", name := "cue", desc := "(II)I" } : Jvm.MethodName)) ∈ lw_all := lw_g (lw_at lw_m9 82 rfl) rfl
theorem q2087 : (Jvm.Cond.selects "HouseClapsModel" ({ cls := "HouseClapsModel", name := "cue", desc := "(II)I" } : Jvm.MethodName) ({ cls := "HouseClapsModel", name := "cue", desc := "(II)I" } : Jvm.MethodName)) ∈ lw_all := lw_g (lw_at lw_m9 83 rfl) rfl
theorem q2088 : (Jvm.Cond.code ({ cls := "HouseClapsModel", name := "cue", desc := "(II)I" } : Jvm.MethodName) prog_23_method_50_code (3 : Nat) (Option.some Jvm.ClassFile.FieldType.int)) ∈ lw_all := lw_g (lw_at lw_m9 84 rfl) rfl
theorem q2090 : (Jvm.Cond.instanceMethod ({ cls := "HouseClapsModel", name := "sees", desc := "(IIII)I" } : Jvm.MethodName)) ∈ lw_all := lw_g (lw_at lw_m9 86 rfl) rfl
theorem q2091 : (Jvm.Cond.selects "HouseClapsModel" ({ cls := "HouseClapsModel", name := "sees", desc := "(IIII)I" } : Jvm.MethodName) ({ cls := "HouseClapsModel", name := "sees", desc := "(IIII)I" } : Jvm.MethodName)) ∈ lw_all := lw_g (lw_at lw_m9 87 rfl) rfl
theorem q2092 : (Jvm.Cond.code ({ cls := "HouseClapsModel", name := "sees", desc := "(IIII)I" } : Jvm.MethodName) prog_23_method_60_code (5 : Nat) (Option.some Jvm.ClassFile.FieldType.int)) ∈ lw_all := lw_g (lw_at lw_m9 88 rfl) rfl
theorem q2093 : (Jvm.Cond.methodLink "HouseClapsModel" (402 : Nat) ({ cls := "HouseClapsModel", name := "isMoment", desc := "(I)Z" } : Jvm.MethodName)) ∈ lw_all := lw_g (lw_at lw_m9 89 rfl) rfl
theorem q2094 : (Jvm.Cond.static ({ cls := "HouseClapsModel", name := "isMoment", desc := "(I)Z" } : Jvm.MethodName)) ∈ lw_all := lw_g (lw_at lw_m9 90 rfl) rfl
theorem q2095 : (Jvm.Cond.code ({ cls := "HouseClapsModel", name := "isMoment", desc := "(I)Z" } : Jvm.MethodName) prog_23_method_59_code (1 : Nat) (Option.some Jvm.ClassFile.FieldType.boolean)) ∈ lw_all := lw_g (lw_at lw_m9 91 rfl) rfl
theorem q2096 : (Jvm.Cond.methodLink "HouseClapsModel" (405 : Nat) ({ cls := "HouseClapsModel", name := "night", desc := "(I)V" } : Jvm.MethodName)) ∈ lw_all := lw_g (lw_at lw_m9 92 rfl) rfl
theorem q2097 : (Jvm.Cond.privateMethod ({ cls := "HouseClapsModel", name := "night", desc := "(I)V" } : Jvm.MethodName)) ∈ lw_tbl := lw_at lw_m9 93 rfl
theorem q2098 : (Jvm.Cond.instanceMethod ({ cls := "HouseClapsModel", name := "night", desc := "(I)V" } : Jvm.MethodName)) ∈ lw_all := lw_g (lw_at lw_m9 94 rfl) rfl
theorem q2099 : (Jvm.Cond.code ({ cls := "HouseClapsModel", name := "night", desc := "(I)V" } : Jvm.MethodName) prog_23_method_57_code (2 : Nat) (Option.none : Option Jvm.ClassFile.FieldType)) ∈ lw_all := lw_g (lw_at lw_m9 95 rfl) rfl
theorem q2100 : (Jvm.Cond.methodLink "HouseClapsModel" (389 : Nat) ({ cls := "HouseClapsModel", name := "begin", desc := "(JJ)V" } : Jvm.MethodName)) ∈ lw_all := lw_g (lw_at lw_m9 96 rfl) rfl
theorem q2101 : (Jvm.Cond.privateMethod ({ cls := "HouseClapsModel", name := "begin", desc := "(JJ)V" } : Jvm.MethodName)) ∈ lw_tbl := lw_at lw_m9 97 rfl
theorem q2102 : (Jvm.Cond.instanceMethod ({ cls := "HouseClapsModel", name := "begin", desc := "(JJ)V" } : Jvm.MethodName)) ∈ lw_all := lw_g (lw_at lw_m9 98 rfl) rfl
theorem q2103 : (Jvm.Cond.code ({ cls := "HouseClapsModel", name := "begin", desc := "(JJ)V" } : Jvm.MethodName) prog_23_method_55_code (5 : Nat) (Option.none : Option Jvm.ClassFile.FieldType)) ∈ lw_all := lw_g (lw_at lw_m9 99 rfl) rfl
theorem q2104 : (Jvm.Cond.methodLink "HouseClapsModel" (364 : Nat) ({ cls := "HouseClapsModel", name := "layOut", desc := "()V" } : Jvm.MethodName)) ∈ lw_all := lw_g (lw_at lw_m9 100 rfl) rfl
theorem q2105 : (Jvm.Cond.privateMethod ({ cls := "HouseClapsModel", name := "layOut", desc := "()V" } : Jvm.MethodName)) ∈ lw_tbl := lw_at lw_m9 101 rfl
theorem q2106 : (Jvm.Cond.instanceMethod ({ cls := "HouseClapsModel", name := "layOut", desc := "()V" } : Jvm.MethodName)) ∈ lw_all := lw_g (lw_at lw_m9 102 rfl) rfl
theorem q2107 : (Jvm.Cond.code ({ cls := "HouseClapsModel", name := "layOut", desc := "()V" } : Jvm.MethodName) prog_23_method_42_code (13 : Nat) (Option.none : Option Jvm.ClassFile.FieldType)) ∈ lw_all := lw_g (lw_at lw_m9 103 rfl) rfl
theorem q2108 : (Jvm.Cond.methodLink "HouseClapsModel" (308 : Nat) ({ cls := "HouseClapsModel", name := "bitAt", desc := "(II)J" } : Jvm.MethodName)) ∈ lw_all := lw_g (lw_at lw_m9 104 rfl) rfl
theorem q2109 : (Jvm.Cond.privateMethod ({ cls := "HouseClapsModel", name := "bitAt", desc := "(II)J" } : Jvm.MethodName)) ∈ lw_tbl := lw_at lw_m9 105 rfl
theorem q2110 : (Jvm.Cond.instanceMethod ({ cls := "HouseClapsModel", name := "bitAt", desc := "(II)J" } : Jvm.MethodName)) ∈ lw_all := lw_g (lw_at lw_m9 106 rfl) rfl
theorem q2111 : (Jvm.Cond.code ({ cls := "HouseClapsModel", name := "bitAt", desc := "(II)J" } : Jvm.MethodName) prog_23_method_41_code (3 : Nat) (Option.some Jvm.ClassFile.FieldType.long)) ∈ lw_all := lw_g (lw_at lw_m9 107 rfl) rfl
theorem q2112 : (Jvm.Cond.methodLink "HouseClapsModel" (393 : Nat) ({ cls := "HouseClapsModel", name := "moment", desc := "()V" } : Jvm.MethodName)) ∈ lw_all := lw_g (lw_at lw_m9 108 rfl) rfl
theorem q2113 : (Jvm.Cond.privateMethod ({ cls := "HouseClapsModel", name := "moment", desc := "()V" } : Jvm.MethodName)) ∈ lw_tbl := lw_at lw_m9 109 rfl
theorem q2114 : (Jvm.Cond.instanceMethod ({ cls := "HouseClapsModel", name := "moment", desc := "()V" } : Jvm.MethodName)) ∈ lw_all := lw_g (lw_at lw_m9 110 rfl) rfl
theorem q2115 : (Jvm.Cond.code ({ cls := "HouseClapsModel", name := "moment", desc := "()V" } : Jvm.MethodName) prog_23_method_56_code (23 : Nat) (Option.none : Option Jvm.ClassFile.FieldType)) ∈ lw_all := lw_g (lw_at lw_m9 111 rfl) rfl
theorem q2116 : (Jvm.Cond.methodLink "HouseClapsModel" (379 : Nat) ({ cls := "HouseClapsModel", name := "levelOf", desc := "(I)I" } : Jvm.MethodName)) ∈ lw_all := lw_g (lw_at lw_m9 112 rfl) rfl
theorem q2117 : (Jvm.Cond.privateMethod ({ cls := "HouseClapsModel", name := "levelOf", desc := "(I)I" } : Jvm.MethodName)) ∈ lw_tbl := lw_at lw_m9 113 rfl
theorem q2118 : (Jvm.Cond.instanceMethod ({ cls := "HouseClapsModel", name := "levelOf", desc := "(I)I" } : Jvm.MethodName)) ∈ lw_all := lw_g (lw_at lw_m9 114 rfl) rfl
theorem q2119 : (Jvm.Cond.code ({ cls := "HouseClapsModel", name := "levelOf", desc := "(I)I" } : Jvm.MethodName) prog_23_method_52_code (2 : Nat) (Option.some Jvm.ClassFile.FieldType.int)) ∈ lw_all := lw_g (lw_at lw_m9 115 rfl) rfl
theorem q2120 : (Jvm.Cond.methodLink "HouseClapsModel" (382 : Nat) ({ cls := "HouseClapsModel", name := "heldOf", desc := "(I)I" } : Jvm.MethodName)) ∈ lw_all := lw_g (lw_at lw_m9 116 rfl) rfl
theorem q2121 : (Jvm.Cond.privateMethod ({ cls := "HouseClapsModel", name := "heldOf", desc := "(I)I" } : Jvm.MethodName)) ∈ lw_tbl := lw_at lw_m9 117 rfl
theorem q2122 : (Jvm.Cond.instanceMethod ({ cls := "HouseClapsModel", name := "heldOf", desc := "(I)I" } : Jvm.MethodName)) ∈ lw_all := lw_g (lw_at lw_m9 118 rfl) rfl
theorem q2123 : (Jvm.Cond.code ({ cls := "HouseClapsModel", name := "heldOf", desc := "(I)I" } : Jvm.MethodName) prog_23_method_53_code (2 : Nat) (Option.some Jvm.ClassFile.FieldType.int)) ∈ lw_all := lw_g (lw_at lw_m9 119 rfl) rfl
theorem q2124 : (Jvm.Cond.methodLink "HouseClapsModel" (385 : Nat) ({ cls := "HouseClapsModel", name := "lawLevel", desc := "(IJJII)I" } : Jvm.MethodName)) ∈ lw_all := lw_g (lw_at lw_m9 120 rfl) rfl
theorem q2125 : (Jvm.Cond.privateMethod ({ cls := "HouseClapsModel", name := "lawLevel", desc := "(IJJII)I" } : Jvm.MethodName)) ∈ lw_tbl := lw_at lw_m9 121 rfl
theorem q2126 : (Jvm.Cond.instanceMethod ({ cls := "HouseClapsModel", name := "lawLevel", desc := "(IJJII)I" } : Jvm.MethodName)) ∈ lw_all := lw_g (lw_at lw_m9 122 rfl) rfl
theorem q2127 : (Jvm.Cond.code ({ cls := "HouseClapsModel", name := "lawLevel", desc := "(IJJII)I" } : Jvm.MethodName) prog_23_method_54_code (9 : Nat) (Option.some Jvm.ClassFile.FieldType.int)) ∈ lw_all := lw_g (lw_at lw_m9 123 rfl) rfl
theorem q2128 : (Jvm.Cond.methodLink "HouseClapsModel" (360 : Nat) ({ cls := "HouseClapsModel", name := "isLaw", desc := "(IIJJII)Z" } : Jvm.MethodName)) ∈ lw_all := lw_g (lw_at lw_m9 124 rfl) rfl
theorem q2129 : (Jvm.Cond.privateMethod ({ cls := "HouseClapsModel", name := "isLaw", desc := "(IIJJII)Z" } : Jvm.MethodName)) ∈ lw_tbl := lw_at lw_m9 125 rfl
theorem q2130 : (Jvm.Cond.instanceMethod ({ cls := "HouseClapsModel", name := "isLaw", desc := "(IIJJII)Z" } : Jvm.MethodName)) ∈ lw_all := lw_g (lw_at lw_m9 126 rfl) rfl
theorem q2131 : (Jvm.Cond.code ({ cls := "HouseClapsModel", name := "isLaw", desc := "(IIJJII)Z" } : Jvm.MethodName) prog_23_method_51_code (16 : Nat) (Option.some Jvm.ClassFile.FieldType.boolean)) ∈ lw_all := lw_g (lw_at lw_m9 127 rfl) rfl
theorem q2132 : (Jvm.Cond.methodLink "HouseClapsModel" (344 : Nat) ({ cls := "HouseClapsModel", name := "bits", desc := "(J)I" } : Jvm.MethodName)) ∈ lw_all := lw_g (lw_at lw_m9 128 rfl) rfl
theorem q2133 : (Jvm.Cond.static ({ cls := "HouseClapsModel", name := "bits", desc := "(J)I" } : Jvm.MethodName)) ∈ lw_all := lw_g (lw_at lw_m9 129 rfl) rfl
theorem q2134 : (Jvm.Cond.code ({ cls := "HouseClapsModel", name := "bits", desc := "(J)I" } : Jvm.MethodName) prog_23_method_10_code (4 : Nat) (Option.some Jvm.ClassFile.FieldType.int)) ∈ lw_all := lw_g (lw_at lw_m9 130 rfl) rfl
theorem q2135 : (Jvm.Cond.constantLong "HouseClapsModel" (27 : Nat) (6148914691236517205 : Int64)) ∈ lw_all := lw_g (lw_at lw_m9 131 rfl) rfl
theorem q2136 : (Jvm.Cond.constantLong "HouseClapsModel" (29 : Nat) (3689348814741910323 : Int64)) ∈ lw_all := lw_g (lw_at lw_m9 132 rfl) rfl
theorem q2137 : (Jvm.Cond.constantLong "HouseClapsModel" (31 : Nat) (1085102592571150095 : Int64)) ∈ lw_all := lw_g (lw_at lw_m9 133 rfl) rfl
theorem q2138 : (Jvm.Cond.constantLong "HouseClapsModel" (33 : Nat) (72340172838076673 : Int64)) ∈ lw_all := lw_g (lw_at lw_m9 134 rfl) rfl
theorem q2140 : (Jvm.Cond.instanceMethod ({ cls := "HouseClapsModel", name := "at", desc := "(III)I" } : Jvm.MethodName)) ∈ lw_all := lw_g (lw_at lw_m9 136 rfl) rfl
theorem q2141 : (Jvm.Cond.selects "HouseClapsModel" ({ cls := "HouseClapsModel", name := "at", desc := "(III)I" } : Jvm.MethodName) ({ cls := "HouseClapsModel", name := "at", desc := "(III)I" } : Jvm.MethodName)) ∈ lw_all := lw_g (lw_at lw_m9 137 rfl) rfl
theorem q2142 : (Jvm.Cond.code ({ cls := "HouseClapsModel", name := "at", desc := "(III)I" } : Jvm.MethodName) prog_23_method_61_code (4 : Nat) (Option.some Jvm.ClassFile.FieldType.int)) ∈ lw_all := lw_g (lw_at lw_m9 138 rfl) rfl
theorem q2144 : (Jvm.Cond.instanceMethod ({ cls := "HouseClapsModel", name := "many", desc := "(II)I" } : Jvm.MethodName)) ∈ lw_all := lw_g (lw_at lw_m9 140 rfl) rfl
theorem q2145 : (Jvm.Cond.selects "HouseClapsModel" ({ cls := "HouseClapsModel", name := "many", desc := "(II)I" } : Jvm.MethodName) ({ cls := "HouseClapsModel", name := "many", desc := "(II)I" } : Jvm.MethodName)) ∈ lw_all := lw_g (lw_at lw_m9 141 rfl) rfl
theorem q2146 : (Jvm.Cond.code ({ cls := "HouseClapsModel", name := "many", desc := "(II)I" } : Jvm.MethodName) prog_23_method_62_code (3 : Nat) (Option.some Jvm.ClassFile.FieldType.int)) ∈ lw_all := lw_g (lw_at lw_m9 142 rfl) rfl
theorem q2148 : (Jvm.Cond.instanceMethod ({ cls := "HouseClapsModel", name := "would", desc := "(III)I" } : Jvm.MethodName)) ∈ lw_all := lw_g (lw_at lw_m9 144 rfl) rfl
theorem q2149 : (Jvm.Cond.selects "HouseClapsModel" ({ cls := "HouseClapsModel", name := "would", desc := "(III)I" } : Jvm.MethodName) ({ cls := "HouseClapsModel", name := "would", desc := "(III)I" } : Jvm.MethodName)) ∈ lw_all := lw_g (lw_at lw_m9 145 rfl) rfl
theorem q2150 : (Jvm.Cond.code ({ cls := "HouseClapsModel", name := "would", desc := "(III)I" } : Jvm.MethodName) prog_23_method_63_code (5 : Nat) (Option.some Jvm.ClassFile.FieldType.int)) ∈ lw_all := lw_g (lw_at lw_m9 146 rfl) rfl
theorem q2152 : (Jvm.Cond.instanceMethod ({ cls := "HouseClapsModel", name := "stands", desc := "(I)I" } : Jvm.MethodName)) ∈ lw_all := lw_g (lw_at lw_m9 148 rfl) rfl
theorem q2153 : (Jvm.Cond.selects "HouseClapsModel" ({ cls := "HouseClapsModel", name := "stands", desc := "(I)I" } : Jvm.MethodName) ({ cls := "HouseClapsModel", name := "stands", desc := "(I)I" } : Jvm.MethodName)) ∈ lw_all := lw_g (lw_at lw_m9 149 rfl) rfl
theorem q2154 : (Jvm.Cond.code ({ cls := "HouseClapsModel", name := "stands", desc := "(I)I" } : Jvm.MethodName) prog_23_method_64_code (3 : Nat) (Option.some Jvm.ClassFile.FieldType.int)) ∈ lw_all := lw_g (lw_at lw_m9 150 rfl) rfl
theorem q2156 : (Jvm.Cond.instanceMethod ({ cls := "HouseClapsModel", name := "anyway", desc := "(I)I" } : Jvm.MethodName)) ∈ lw_all := lw_g (lw_at lw_m9 152 rfl) rfl
theorem q2157 : (Jvm.Cond.selects "HouseClapsModel" ({ cls := "HouseClapsModel", name := "anyway", desc := "(I)I" } : Jvm.MethodName) ({ cls := "HouseClapsModel", name := "anyway", desc := "(I)I" } : Jvm.MethodName)) ∈ lw_all := lw_g (lw_at lw_m9 153 rfl) rfl
theorem q2158 : (Jvm.Cond.code ({ cls := "HouseClapsModel", name := "anyway", desc := "(I)I" } : Jvm.MethodName) prog_23_method_65_code (4 : Nat) (Option.some Jvm.ClassFile.FieldType.int)) ∈ lw_all := lw_g (lw_at lw_m9 154 rfl) rfl
theorem q2160 : (Jvm.Cond.instanceMethod ({ cls := "HouseClapsModel", name := "up", desc := "()I" } : Jvm.MethodName)) ∈ lw_all := lw_g (lw_at lw_m9 156 rfl) rfl
theorem q2161 : (Jvm.Cond.selects "HouseClapsModel" ({ cls := "HouseClapsModel", name := "up", desc := "()I" } : Jvm.MethodName) ({ cls := "HouseClapsModel", name := "up", desc := "()I" } : Jvm.MethodName)) ∈ lw_all := lw_g (lw_at lw_m9 157 rfl) rfl
theorem q2162 : (Jvm.Cond.code ({ cls := "HouseClapsModel", name := "up", desc := "()I" } : Jvm.MethodName) prog_23_method_67_code (2 : Nat) (Option.some Jvm.ClassFile.FieldType.int)) ∈ lw_all := lw_g (lw_at lw_m9 158 rfl) rfl
theorem q2163 : (Jvm.Cond.methodLink "HouseClapsModel" (408 : Nat) ({ cls := "HouseClapsModel", name := "isUp", desc := "(I)Z" } : Jvm.MethodName)) ∈ lw_all := lw_g (lw_at lw_m9 159 rfl) rfl
theorem q2164 : (Jvm.Cond.privateMethod ({ cls := "HouseClapsModel", name := "isUp", desc := "(I)Z" } : Jvm.MethodName)) ∈ lw_tbl := lw_at lw_m9 160 rfl
theorem q2165 : (Jvm.Cond.instanceMethod ({ cls := "HouseClapsModel", name := "isUp", desc := "(I)Z" } : Jvm.MethodName)) ∈ lw_all := lw_g (lw_at lw_m9 161 rfl) rfl
theorem q2166 : (Jvm.Cond.code ({ cls := "HouseClapsModel", name := "isUp", desc := "(I)Z" } : Jvm.MethodName) prog_23_method_66_code (2 : Nat) (Option.some Jvm.ClassFile.FieldType.boolean)) ∈ lw_all := lw_g (lw_at lw_m9 162 rfl) rfl
theorem q2168 : (Jvm.Cond.instanceMethod ({ cls := "HouseClapsModel", name := "calls", desc := "(I)I" } : Jvm.MethodName)) ∈ lw_all := lw_g (lw_at lw_m9 164 rfl) rfl
theorem q2169 : (Jvm.Cond.selects "HouseClapsModel" ({ cls := "HouseClapsModel", name := "calls", desc := "(I)I" } : Jvm.MethodName) ({ cls := "HouseClapsModel", name := "calls", desc := "(I)I" } : Jvm.MethodName)) ∈ lw_all := lw_g (lw_at lw_m9 165 rfl) rfl
theorem q2170 : (Jvm.Cond.code ({ cls := "HouseClapsModel", name := "calls", desc := "(I)I" } : Jvm.MethodName) prog_23_method_68_code (4 : Nat) (Option.some Jvm.ClassFile.FieldType.int)) ∈ lw_all := lw_g (lw_at lw_m9 166 rfl) rfl
theorem q2172 : (Jvm.Cond.instanceMethod ({ cls := "HouseClapsModel", name := "again", desc := "(I)I" } : Jvm.MethodName)) ∈ lw_all := lw_g (lw_at lw_m9 168 rfl) rfl
theorem q2173 : (Jvm.Cond.selects "HouseClapsModel" ({ cls := "HouseClapsModel", name := "again", desc := "(I)I" } : Jvm.MethodName) ({ cls := "HouseClapsModel", name := "again", desc := "(I)I" } : Jvm.MethodName)) ∈ lw_all := lw_g (lw_at lw_m9 169 rfl) rfl
theorem q2174 : (Jvm.Cond.code ({ cls := "HouseClapsModel", name := "again", desc := "(I)I" } : Jvm.MethodName) prog_23_method_70_code (6 : Nat) (Option.some Jvm.ClassFile.FieldType.int)) ∈ lw_all := lw_g (lw_at lw_m9 170 rfl) rfl
theorem q2175 : (Jvm.Cond.methodLink "HouseClapsModel" (411 : Nat) ({ cls := "HouseClapsModel", name := "areLike", desc := "(II)Z" } : Jvm.MethodName)) ∈ lw_all := lw_g (lw_at lw_m9 171 rfl) rfl
theorem q2176 : (Jvm.Cond.privateMethod ({ cls := "HouseClapsModel", name := "areLike", desc := "(II)Z" } : Jvm.MethodName)) ∈ lw_tbl := lw_at lw_m9 172 rfl
theorem q2177 : (Jvm.Cond.instanceMethod ({ cls := "HouseClapsModel", name := "areLike", desc := "(II)Z" } : Jvm.MethodName)) ∈ lw_all := lw_g (lw_at lw_m9 173 rfl) rfl
theorem q2178 : (Jvm.Cond.code ({ cls := "HouseClapsModel", name := "areLike", desc := "(II)Z" } : Jvm.MethodName) prog_23_method_69_code (3 : Nat) (Option.some Jvm.ClassFile.FieldType.boolean)) ∈ lw_all := lw_g (lw_at lw_m9 174 rfl) rfl
theorem q2180 : (Jvm.Cond.instanceMethod ({ cls := "HouseClapsModel", name := "carries", desc := "(I)I" } : Jvm.MethodName)) ∈ lw_all := lw_g (lw_at lw_m9 176 rfl) rfl
theorem q2181 : (Jvm.Cond.selects "HouseClapsModel" ({ cls := "HouseClapsModel", name := "carries", desc := "(I)I" } : Jvm.MethodName) ({ cls := "HouseClapsModel", name := "carries", desc := "(I)I" } : Jvm.MethodName)) ∈ lw_all := lw_g (lw_at lw_m9 177 rfl) rfl
theorem q2182 : (Jvm.Cond.code ({ cls := "HouseClapsModel", name := "carries", desc := "(I)I" } : Jvm.MethodName) prog_23_method_71_code (2 : Nat) (Option.some Jvm.ClassFile.FieldType.int)) ∈ lw_all := lw_g (lw_at lw_m9 178 rfl) rfl
theorem q2183 : (Jvm.Cond.methodLink "HouseClapsModel" (414 : Nat) ({ cls := "HouseClapsModel", name := "height", desc := "(JJ)I" } : Jvm.MethodName)) ∈ lw_all := lw_g (lw_at lw_m9 179 rfl) rfl
theorem q2184 : (Jvm.Cond.privateMethod ({ cls := "HouseClapsModel", name := "height", desc := "(JJ)I" } : Jvm.MethodName)) ∈ lw_tbl := lw_at lw_m9 180 rfl
theorem q2185 : (Jvm.Cond.instanceMethod ({ cls := "HouseClapsModel", name := "height", desc := "(JJ)I" } : Jvm.MethodName)) ∈ lw_all := lw_g (lw_at lw_m9 181 rfl) rfl
theorem q2186 : (Jvm.Cond.code ({ cls := "HouseClapsModel", name := "height", desc := "(JJ)I" } : Jvm.MethodName) prog_23_method_58_code (6 : Nat) (Option.some Jvm.ClassFile.FieldType.int)) ∈ lw_all := lw_g (lw_at lw_m9 182 rfl) rfl
theorem q2188 : (Jvm.Cond.instanceMethod ({ cls := "HouseClapsModel", name := "cheapest", desc := "()I" } : Jvm.MethodName)) ∈ lw_all := lw_g (lw_at lw_m9 184 rfl) rfl
theorem q2189 : (Jvm.Cond.selects "HouseClapsModel" ({ cls := "HouseClapsModel", name := "cheapest", desc := "()I" } : Jvm.MethodName) ({ cls := "HouseClapsModel", name := "cheapest", desc := "()I" } : Jvm.MethodName)) ∈ lw_all := lw_g (lw_at lw_m9 185 rfl) rfl
theorem q2190 : (Jvm.Cond.code ({ cls := "HouseClapsModel", name := "cheapest", desc := "()I" } : Jvm.MethodName) prog_23_method_75_code (6 : Nat) (Option.some Jvm.ClassFile.FieldType.int)) ∈ lw_all := lw_g (lw_at lw_m9 186 rfl) rfl
theorem q2191 : (Jvm.Cond.methodLink "HouseClapsModel" (424 : Nat) ({ cls := "HouseClapsModel", name := "areEight", desc := "()Z" } : Jvm.MethodName)) ∈ lw_all := lw_g (lw_at lw_m9 187 rfl) rfl
theorem q2192 : (Jvm.Cond.privateMethod ({ cls := "HouseClapsModel", name := "areEight", desc := "()Z" } : Jvm.MethodName)) ∈ lw_tbl := lw_at lw_m9 188 rfl
theorem q2193 : (Jvm.Cond.instanceMethod ({ cls := "HouseClapsModel", name := "areEight", desc := "()Z" } : Jvm.MethodName)) ∈ lw_all := lw_g (lw_at lw_m9 189 rfl) rfl
theorem q2194 : (Jvm.Cond.code ({ cls := "HouseClapsModel", name := "areEight", desc := "()Z" } : Jvm.MethodName) prog_23_method_73_code (1 : Nat) (Option.some Jvm.ClassFile.FieldType.boolean)) ∈ lw_all := lw_g (lw_at lw_m9 190 rfl) rfl
theorem q2195 : (Jvm.Cond.methodLink "HouseClapsModel" (421 : Nat) ({ cls := "HouseClapsModel", name := "takesSeats", desc := "(II)Z" } : Jvm.MethodName)) ∈ lw_all := lw_g (lw_at lw_m9 191 rfl) rfl
theorem q2196 : (Jvm.Cond.privateMethod ({ cls := "HouseClapsModel", name := "takesSeats", desc := "(II)Z" } : Jvm.MethodName)) ∈ lw_tbl := lw_at lw_m9 192 rfl
theorem q2197 : (Jvm.Cond.instanceMethod ({ cls := "HouseClapsModel", name := "takesSeats", desc := "(II)Z" } : Jvm.MethodName)) ∈ lw_all := lw_g (lw_at lw_m9 193 rfl) rfl
theorem q2198 : (Jvm.Cond.code ({ cls := "HouseClapsModel", name := "takesSeats", desc := "(II)Z" } : Jvm.MethodName) prog_23_method_72_code (6 : Nat) (Option.some Jvm.ClassFile.FieldType.boolean)) ∈ lw_all := lw_g (lw_at lw_m9 194 rfl) rfl
theorem q2199 : (Jvm.Cond.constant "HouseClapsModel" (427 : Nat) (1000000000 : Int32)) ∈ lw_all := lw_g (lw_at lw_m9 195 rfl) rfl
theorem q2200 : (Jvm.Cond.methodLink "HouseClapsModel" (428 : Nat) ({ cls := "HouseClapsModel", name := "bitsOf", desc := "(I)J" } : Jvm.MethodName)) ∈ lw_all := lw_g (lw_at lw_m9 196 rfl) rfl
theorem q2201 : (Jvm.Cond.privateMethod ({ cls := "HouseClapsModel", name := "bitsOf", desc := "(I)J" } : Jvm.MethodName)) ∈ lw_tbl := lw_at lw_m9 197 rfl
theorem q2202 : (Jvm.Cond.instanceMethod ({ cls := "HouseClapsModel", name := "bitsOf", desc := "(I)J" } : Jvm.MethodName)) ∈ lw_all := lw_g (lw_at lw_m9 198 rfl) rfl
theorem q2203 : (Jvm.Cond.code ({ cls := "HouseClapsModel", name := "bitsOf", desc := "(I)J" } : Jvm.MethodName) prog_23_method_74_code (5 : Nat) (Option.some Jvm.ClassFile.FieldType.long)) ∈ lw_all := lw_g (lw_at lw_m9 199 rfl) rfl
theorem q2205 : (Jvm.Cond.instanceMethod ({ cls := "HouseClapsModel", name := "bought", desc := "()I" } : Jvm.MethodName)) ∈ lw_all := lw_g (lw_at lw_m9 201 rfl) rfl
theorem q2206 : (Jvm.Cond.selects "HouseClapsModel" ({ cls := "HouseClapsModel", name := "bought", desc := "()I" } : Jvm.MethodName) ({ cls := "HouseClapsModel", name := "bought", desc := "()I" } : Jvm.MethodName)) ∈ lw_all := lw_g (lw_at lw_m9 202 rfl) rfl
theorem q2207 : (Jvm.Cond.code ({ cls := "HouseClapsModel", name := "bought", desc := "()I" } : Jvm.MethodName) prog_23_method_76_code (1 : Nat) (Option.some Jvm.ClassFile.FieldType.int)) ∈ lw_all := lw_g (lw_at lw_m9 203 rfl) rfl
theorem q2209 : (Jvm.Cond.instanceMethod ({ cls := "HouseClapsModel", name := "hush", desc := "()I" } : Jvm.MethodName)) ∈ lw_all := lw_g (lw_at lw_m9 205 rfl) rfl
theorem q2210 : (Jvm.Cond.selects "HouseClapsModel" ({ cls := "HouseClapsModel", name := "hush", desc := "()I" } : Jvm.MethodName) ({ cls := "HouseClapsModel", name := "hush", desc := "()I" } : Jvm.MethodName)) ∈ lw_all := lw_g (lw_at lw_m9 206 rfl) rfl
theorem q2211 : (Jvm.Cond.code ({ cls := "HouseClapsModel", name := "hush", desc := "()I" } : Jvm.MethodName) prog_23_method_77_code (3 : Nat) (Option.some Jvm.ClassFile.FieldType.int)) ∈ lw_all := lw_g (lw_at lw_m9 207 rfl) rfl
theorem q2213 : (Jvm.Cond.instanceMethod ({ cls := "HouseClapsModel", name := "coalitions", desc := "(I)I" } : Jvm.MethodName)) ∈ lw_all := lw_g (lw_at lw_m9 209 rfl) rfl
theorem q2214 : (Jvm.Cond.selects "HouseClapsModel" ({ cls := "HouseClapsModel", name := "coalitions", desc := "(I)I" } : Jvm.MethodName) ({ cls := "HouseClapsModel", name := "coalitions", desc := "(I)I" } : Jvm.MethodName)) ∈ lw_all := lw_g (lw_at lw_m9 210 rfl) rfl
theorem q2215 : (Jvm.Cond.code ({ cls := "HouseClapsModel", name := "coalitions", desc := "(I)I" } : Jvm.MethodName) prog_23_method_78_code (6 : Nat) (Option.some Jvm.ClassFile.FieldType.int)) ∈ lw_all := lw_g (lw_at lw_m9 211 rfl) rfl
theorem q2217 : (Jvm.Cond.instanceMethod ({ cls := "HouseClapsModel", name := "worth", desc := "()I" } : Jvm.MethodName)) ∈ lw_all := lw_g (lw_at lw_m9 213 rfl) rfl
theorem q2218 : (Jvm.Cond.selects "HouseClapsModel" ({ cls := "HouseClapsModel", name := "worth", desc := "()I" } : Jvm.MethodName) ({ cls := "HouseClapsModel", name := "worth", desc := "()I" } : Jvm.MethodName)) ∈ lw_all := lw_g (lw_at lw_m9 214 rfl) rfl
theorem q2219 : (Jvm.Cond.code ({ cls := "HouseClapsModel", name := "worth", desc := "()I" } : Jvm.MethodName) prog_23_method_80_code (4 : Nat) (Option.some Jvm.ClassFile.FieldType.int)) ∈ lw_all := lw_g (lw_at lw_m9 215 rfl) rfl
theorem q2220 : (Jvm.Cond.methodLink "HouseClapsModel" (432 : Nat) ({ cls := "HouseClapsModel", name := "orders", desc := "(I)J" } : Jvm.MethodName)) ∈ lw_all := lw_g (lw_at lw_m9 216 rfl) rfl
theorem q2221 : (Jvm.Cond.static ({ cls := "HouseClapsModel", name := "orders", desc := "(I)J" } : Jvm.MethodName)) ∈ lw_all := lw_g (lw_at lw_m9 217 rfl) rfl
theorem q2222 : (Jvm.Cond.code ({ cls := "HouseClapsModel", name := "orders", desc := "(I)J" } : Jvm.MethodName) prog_23_method_79_code (4 : Nat) (Option.some Jvm.ClassFile.FieldType.long)) ∈ lw_all := lw_g (lw_at lw_m9 218 rfl) rfl
theorem q2224 : (Jvm.Cond.instanceMethod ({ cls := "HouseClapsModel", name := "worthOf", desc := "(II)I" } : Jvm.MethodName)) ∈ lw_all := lw_g (lw_at lw_m9 220 rfl) rfl
theorem q2225 : (Jvm.Cond.selects "HouseClapsModel" ({ cls := "HouseClapsModel", name := "worthOf", desc := "(II)I" } : Jvm.MethodName) ({ cls := "HouseClapsModel", name := "worthOf", desc := "(II)I" } : Jvm.MethodName)) ∈ lw_all := lw_g (lw_at lw_m9 221 rfl) rfl
theorem q2226 : (Jvm.Cond.code ({ cls := "HouseClapsModel", name := "worthOf", desc := "(II)I" } : Jvm.MethodName) prog_23_method_81_code (9 : Nat) (Option.some Jvm.ClassFile.FieldType.int)) ∈ lw_all := lw_g (lw_at lw_m9 222 rfl) rfl
theorem q2228 : (Jvm.Cond.instanceMethod ({ cls := "HouseClapsModel", name := "sides", desc := "()I" } : Jvm.MethodName)) ∈ lw_all := lw_g (lw_at lw_m9 224 rfl) rfl
theorem q2229 : (Jvm.Cond.selects "HouseClapsModel" ({ cls := "HouseClapsModel", name := "sides", desc := "()I" } : Jvm.MethodName) ({ cls := "HouseClapsModel", name := "sides", desc := "()I" } : Jvm.MethodName)) ∈ lw_all := lw_g (lw_at lw_m9 225 rfl) rfl
theorem q2230 : (Jvm.Cond.code ({ cls := "HouseClapsModel", name := "sides", desc := "()I" } : Jvm.MethodName) prog_23_method_82_code (9 : Nat) (Option.some Jvm.ClassFile.FieldType.int)) ∈ lw_all := lw_g (lw_at lw_m9 226 rfl) rfl
theorem q2232 : (Jvm.Cond.instanceMethod ({ cls := "HouseClapsModel", name := "side", desc := "(I)I" } : Jvm.MethodName)) ∈ lw_all := lw_g (lw_at lw_m9 228 rfl) rfl
theorem q2233 : (Jvm.Cond.selects "HouseClapsModel" ({ cls := "HouseClapsModel", name := "side", desc := "(I)I" } : Jvm.MethodName) ({ cls := "HouseClapsModel", name := "side", desc := "(I)I" } : Jvm.MethodName)) ∈ lw_all := lw_g (lw_at lw_m9 229 rfl) rfl
theorem q2234 : (Jvm.Cond.code ({ cls := "HouseClapsModel", name := "side", desc := "(I)I" } : Jvm.MethodName) prog_23_method_83_code (2 : Nat) (Option.some Jvm.ClassFile.FieldType.int)) ∈ lw_all := lw_g (lw_at lw_m9 230 rfl) rfl
theorem q2236 : (Jvm.Cond.instanceMethod ({ cls := "HouseClapsModel", name := "began", desc := "(I)I" } : Jvm.MethodName)) ∈ lw_all := lw_g (lw_at lw_m9 232 rfl) rfl
theorem q2237 : (Jvm.Cond.selects "HouseClapsModel" ({ cls := "HouseClapsModel", name := "began", desc := "(I)I" } : Jvm.MethodName) ({ cls := "HouseClapsModel", name := "began", desc := "(I)I" } : Jvm.MethodName)) ∈ lw_all := lw_g (lw_at lw_m9 233 rfl) rfl
theorem q2238 : (Jvm.Cond.code ({ cls := "HouseClapsModel", name := "began", desc := "(I)I" } : Jvm.MethodName) prog_23_method_85_code (12 : Nat) (Option.some Jvm.ClassFile.FieldType.int)) ∈ lw_all := lw_g (lw_at lw_m9 234 rfl) rfl
theorem q2239 : (Jvm.Cond.methodLink "HouseClapsModel" (453 : Nat) ({ cls := "HouseClapsModel", name := "isSketch", desc := "(JI)Z" } : Jvm.MethodName)) ∈ lw_all := lw_g (lw_at lw_m9 235 rfl) rfl
theorem q2240 : (Jvm.Cond.privateMethod ({ cls := "HouseClapsModel", name := "isSketch", desc := "(JI)Z" } : Jvm.MethodName)) ∈ lw_tbl := lw_at lw_m9 236 rfl
theorem q2241 : (Jvm.Cond.instanceMethod ({ cls := "HouseClapsModel", name := "isSketch", desc := "(JI)Z" } : Jvm.MethodName)) ∈ lw_all := lw_g (lw_at lw_m9 237 rfl) rfl
theorem q2242 : (Jvm.Cond.code ({ cls := "HouseClapsModel", name := "isSketch", desc := "(JI)Z" } : Jvm.MethodName) prog_23_method_84_code (4 : Nat) (Option.some Jvm.ClassFile.FieldType.boolean)) ∈ lw_all := lw_g (lw_at lw_m9 238 rfl) rfl
theorem q2244 : (Jvm.Cond.instanceMethod ({ cls := "HouseClapsModel", name := "beganAt", desc := "(I)I" } : Jvm.MethodName)) ∈ lw_all := lw_g (lw_at lw_m10 0 rfl) rfl
theorem q2245 : (Jvm.Cond.selects "HouseClapsModel" ({ cls := "HouseClapsModel", name := "beganAt", desc := "(I)I" } : Jvm.MethodName) ({ cls := "HouseClapsModel", name := "beganAt", desc := "(I)I" } : Jvm.MethodName)) ∈ lw_all := lw_g (lw_at lw_m10 1 rfl) rfl
theorem q2246 : (Jvm.Cond.code ({ cls := "HouseClapsModel", name := "beganAt", desc := "(I)I" } : Jvm.MethodName) prog_23_method_86_code (2 : Nat) (Option.some Jvm.ClassFile.FieldType.int)) ∈ lw_all := lw_g (lw_at lw_m10 2 rfl) rfl
theorem q2248 : (Jvm.Cond.instanceMethod ({ cls := "HouseClapsModel", name := "parts", desc := "(II)I" } : Jvm.MethodName)) ∈ lw_all := lw_g (lw_at lw_m10 4 rfl) rfl
theorem q2249 : (Jvm.Cond.selects "HouseClapsModel" ({ cls := "HouseClapsModel", name := "parts", desc := "(II)I" } : Jvm.MethodName) ({ cls := "HouseClapsModel", name := "parts", desc := "(II)I" } : Jvm.MethodName)) ∈ lw_all := lw_g (lw_at lw_m10 5 rfl) rfl
theorem q2250 : (Jvm.Cond.code ({ cls := "HouseClapsModel", name := "parts", desc := "(II)I" } : Jvm.MethodName) prog_23_method_87_code (4 : Nat) (Option.some Jvm.ClassFile.FieldType.int)) ∈ lw_all := lw_g (lw_at lw_m10 6 rfl) rfl
theorem q2252 : (Jvm.Cond.instanceMethod ({ cls := "HouseClapsModel", name := "exchanged", desc := "()I" } : Jvm.MethodName)) ∈ lw_all := lw_g (lw_at lw_m10 8 rfl) rfl
theorem q2253 : (Jvm.Cond.selects "HouseClapsModel" ({ cls := "HouseClapsModel", name := "exchanged", desc := "()I" } : Jvm.MethodName) ({ cls := "HouseClapsModel", name := "exchanged", desc := "()I" } : Jvm.MethodName)) ∈ lw_all := lw_g (lw_at lw_m10 9 rfl) rfl
theorem q2254 : (Jvm.Cond.code ({ cls := "HouseClapsModel", name := "exchanged", desc := "()I" } : Jvm.MethodName) prog_23_method_90_code (4 : Nat) (Option.some Jvm.ClassFile.FieldType.int)) ∈ lw_all := lw_g (lw_at lw_m10 10 rfl) rfl
theorem q2255 : (Jvm.Cond.methodLink "HouseClapsModel" (456 : Nat) ({ cls := "HouseClapsModel", name := "areUnlike", desc := "(II)Z" } : Jvm.MethodName)) ∈ lw_all := lw_g (lw_at lw_m10 11 rfl) rfl
theorem q2256 : (Jvm.Cond.privateMethod ({ cls := "HouseClapsModel", name := "areUnlike", desc := "(II)Z" } : Jvm.MethodName)) ∈ lw_tbl := lw_at lw_m10 12 rfl
theorem q2257 : (Jvm.Cond.instanceMethod ({ cls := "HouseClapsModel", name := "areUnlike", desc := "(II)Z" } : Jvm.MethodName)) ∈ lw_all := lw_g (lw_at lw_m10 13 rfl) rfl
theorem q2258 : (Jvm.Cond.code ({ cls := "HouseClapsModel", name := "areUnlike", desc := "(II)Z" } : Jvm.MethodName) prog_23_method_89_code (3 : Nat) (Option.some Jvm.ClassFile.FieldType.boolean)) ∈ lw_all := lw_g (lw_at lw_m10 14 rfl) rfl
theorem q2259 : (Jvm.Cond.methodLink "HouseClapsModel" (459 : Nat) ({ cls := "HouseClapsModel", name := "change", desc := "(II)V" } : Jvm.MethodName)) ∈ lw_all := lw_g (lw_at lw_m10 15 rfl) rfl
theorem q2260 : (Jvm.Cond.privateMethod ({ cls := "HouseClapsModel", name := "change", desc := "(II)V" } : Jvm.MethodName)) ∈ lw_tbl := lw_at lw_m10 16 rfl
theorem q2261 : (Jvm.Cond.instanceMethod ({ cls := "HouseClapsModel", name := "change", desc := "(II)V" } : Jvm.MethodName)) ∈ lw_all := lw_g (lw_at lw_m10 17 rfl) rfl
theorem q2262 : (Jvm.Cond.code ({ cls := "HouseClapsModel", name := "change", desc := "(II)V" } : Jvm.MethodName) prog_23_method_88_code (4 : Nat) (Option.none : Option Jvm.ClassFile.FieldType)) ∈ lw_all := lw_g (lw_at lw_m10 18 rfl) rfl
theorem q2264 : (Jvm.Cond.instanceMethod ({ cls := "HouseClapsModel", name := "exchange", desc := "(II)Z" } : Jvm.MethodName)) ∈ lw_all := lw_g (lw_at lw_m10 20 rfl) rfl
theorem q2265 : (Jvm.Cond.selects "HouseClapsModel" ({ cls := "HouseClapsModel", name := "exchange", desc := "(II)Z" } : Jvm.MethodName) ({ cls := "HouseClapsModel", name := "exchange", desc := "(II)Z" } : Jvm.MethodName)) ∈ lw_all := lw_g (lw_at lw_m10 21 rfl) rfl
theorem q2266 : (Jvm.Cond.code ({ cls := "HouseClapsModel", name := "exchange", desc := "(II)Z" } : Jvm.MethodName) prog_23_method_91_code (3 : Nat) (Option.some Jvm.ClassFile.FieldType.boolean)) ∈ lw_all := lw_g (lw_at lw_m10 22 rfl) rfl
theorem q2268 : (Jvm.Cond.instanceMethod ({ cls := "HouseClapsModel", name := "arrange", desc := "()I" } : Jvm.MethodName)) ∈ lw_all := lw_g (lw_at lw_m10 24 rfl) rfl
theorem q2269 : (Jvm.Cond.selects "HouseClapsModel" ({ cls := "HouseClapsModel", name := "arrange", desc := "()I" } : Jvm.MethodName) ({ cls := "HouseClapsModel", name := "arrange", desc := "()I" } : Jvm.MethodName)) ∈ lw_all := lw_g (lw_at lw_m10 25 rfl) rfl
theorem q2270 : (Jvm.Cond.code ({ cls := "HouseClapsModel", name := "arrange", desc := "()I" } : Jvm.MethodName) prog_23_method_93_code (2 : Nat) (Option.some Jvm.ClassFile.FieldType.int)) ∈ lw_all := lw_g (lw_at lw_m10 26 rfl) rfl
theorem q2271 : (Jvm.Cond.methodLink "HouseClapsModel" (466 : Nat) ({ cls := "HouseClapsModel", name := "arranges", desc := "(I)Z" } : Jvm.MethodName)) ∈ lw_all := lw_g (lw_at lw_m10 27 rfl) rfl
theorem q2272 : (Jvm.Cond.privateMethod ({ cls := "HouseClapsModel", name := "arranges", desc := "(I)Z" } : Jvm.MethodName)) ∈ lw_tbl := lw_at lw_m10 28 rfl
theorem q2273 : (Jvm.Cond.instanceMethod ({ cls := "HouseClapsModel", name := "arranges", desc := "(I)Z" } : Jvm.MethodName)) ∈ lw_all := lw_g (lw_at lw_m10 29 rfl) rfl
theorem q2274 : (Jvm.Cond.code ({ cls := "HouseClapsModel", name := "arranges", desc := "(I)Z" } : Jvm.MethodName) prog_23_method_92_code (5 : Nat) (Option.some Jvm.ClassFile.FieldType.boolean)) ∈ lw_all := lw_g (lw_at lw_m10 30 rfl) rfl
theorem q2276 : (Jvm.Cond.instanceMethod ({ cls := "HouseClapsModel", name := "arranged", desc := "()I" } : Jvm.MethodName)) ∈ lw_all := lw_g (lw_at lw_m10 32 rfl) rfl
theorem q2277 : (Jvm.Cond.selects "HouseClapsModel" ({ cls := "HouseClapsModel", name := "arranged", desc := "()I" } : Jvm.MethodName) ({ cls := "HouseClapsModel", name := "arranged", desc := "()I" } : Jvm.MethodName)) ∈ lw_all := lw_g (lw_at lw_m10 33 rfl) rfl
theorem q2278 : (Jvm.Cond.code ({ cls := "HouseClapsModel", name := "arranged", desc := "()I" } : Jvm.MethodName) prog_23_method_94_code (1 : Nat) (Option.some Jvm.ClassFile.FieldType.int)) ∈ lw_all := lw_g (lw_at lw_m10 34 rfl) rfl
theorem q2280 : (Jvm.Cond.instanceMethod ({ cls := "HouseClapsModel", name := "starts", desc := "(I)I" } : Jvm.MethodName)) ∈ lw_all := lw_g (lw_at lw_m10 36 rfl) rfl
theorem q2281 : (Jvm.Cond.selects "HouseClapsModel" ({ cls := "HouseClapsModel", name := "starts", desc := "(I)I" } : Jvm.MethodName) ({ cls := "HouseClapsModel", name := "starts", desc := "(I)I" } : Jvm.MethodName)) ∈ lw_all := lw_g (lw_at lw_m10 37 rfl) rfl
theorem q2282 : (Jvm.Cond.code ({ cls := "HouseClapsModel", name := "starts", desc := "(I)I" } : Jvm.MethodName) prog_23_method_95_code (2 : Nat) (Option.some Jvm.ClassFile.FieldType.int)) ∈ lw_all := lw_g (lw_at lw_m10 38 rfl) rfl
theorem q2284 : (Jvm.Cond.instanceMethod ({ cls := "HouseClapsModel", name := "leader", desc := "(I)I" } : Jvm.MethodName)) ∈ lw_all := lw_g (lw_at lw_m10 40 rfl) rfl
theorem q2285 : (Jvm.Cond.selects "HouseClapsModel" ({ cls := "HouseClapsModel", name := "leader", desc := "(I)I" } : Jvm.MethodName) ({ cls := "HouseClapsModel", name := "leader", desc := "(I)I" } : Jvm.MethodName)) ∈ lw_all := lw_g (lw_at lw_m10 41 rfl) rfl
theorem q2286 : (Jvm.Cond.code ({ cls := "HouseClapsModel", name := "leader", desc := "(I)I" } : Jvm.MethodName) prog_23_method_96_code (6 : Nat) (Option.some Jvm.ClassFile.FieldType.int)) ∈ lw_all := lw_g (lw_at lw_m10 42 rfl) rfl
theorem q2288 : (Jvm.Cond.instanceMethod ({ cls := "HouseClapsModel", name := "drawn", desc := "(II)Z" } : Jvm.MethodName)) ∈ lw_all := lw_g (lw_at lw_m10 44 rfl) rfl
theorem q2289 : (Jvm.Cond.selects "HouseClapsModel" ({ cls := "HouseClapsModel", name := "drawn", desc := "(II)Z" } : Jvm.MethodName) ({ cls := "HouseClapsModel", name := "drawn", desc := "(II)Z" } : Jvm.MethodName)) ∈ lw_all := lw_g (lw_at lw_m10 45 rfl) rfl
theorem q2290 : (Jvm.Cond.code ({ cls := "HouseClapsModel", name := "drawn", desc := "(II)Z" } : Jvm.MethodName) prog_23_method_98_code (8 : Nat) (Option.some Jvm.ClassFile.FieldType.boolean)) ∈ lw_all := lw_g (lw_at lw_m10 46 rfl) rfl
theorem q2291 : (Jvm.Cond.methodLink "HouseClapsModel" (473 : Nat) ({ cls := "HouseClapsModel", name := "draw", desc := "(I)I" } : Jvm.MethodName)) ∈ lw_all := lw_g (lw_at lw_m10 47 rfl) rfl
theorem q2292 : (Jvm.Cond.privateMethod ({ cls := "HouseClapsModel", name := "draw", desc := "(I)I" } : Jvm.MethodName)) ∈ lw_tbl := lw_at lw_m10 48 rfl
theorem q2293 : (Jvm.Cond.instanceMethod ({ cls := "HouseClapsModel", name := "draw", desc := "(I)I" } : Jvm.MethodName)) ∈ lw_all := lw_g (lw_at lw_m10 49 rfl) rfl
theorem q2294 : (Jvm.Cond.code ({ cls := "HouseClapsModel", name := "draw", desc := "(I)I" } : Jvm.MethodName) prog_23_method_97_code (2 : Nat) (Option.some Jvm.ClassFile.FieldType.int)) ∈ lw_all := lw_g (lw_at lw_m10 50 rfl) rfl
theorem q2295 : (Jvm.Cond.constant "HouseClapsModel" (472 : Nat) (1103515245 : Int32)) ∈ lw_all := lw_g (lw_at lw_m10 51 rfl) rfl
theorem q2297 : (Jvm.Cond.instanceMethod ({ cls := "HouseClapsModel", name := "image", desc := "(I)Z" } : Jvm.MethodName)) ∈ lw_all := lw_g (lw_at lw_m10 53 rfl) rfl
theorem q2298 : (Jvm.Cond.selects "HouseClapsModel" ({ cls := "HouseClapsModel", name := "image", desc := "(I)Z" } : Jvm.MethodName) ({ cls := "HouseClapsModel", name := "image", desc := "(I)Z" } : Jvm.MethodName)) ∈ lw_all := lw_g (lw_at lw_m10 54 rfl) rfl
theorem q2299 : (Jvm.Cond.code ({ cls := "HouseClapsModel", name := "image", desc := "(I)Z" } : Jvm.MethodName) prog_23_method_99_code (3 : Nat) (Option.some Jvm.ClassFile.FieldType.boolean)) ∈ lw_all := lw_g (lw_at lw_m10 55 rfl) rfl
theorem q2301 : (Jvm.Cond.instanceMethod ({ cls := "HouseClapsModel", name := "restore", desc := "(I)Z" } : Jvm.MethodName)) ∈ lw_all := lw_g (lw_at lw_m10 57 rfl) rfl
theorem q2302 : (Jvm.Cond.selects "HouseClapsModel" ({ cls := "HouseClapsModel", name := "restore", desc := "(I)Z" } : Jvm.MethodName) ({ cls := "HouseClapsModel", name := "restore", desc := "(I)Z" } : Jvm.MethodName)) ∈ lw_all := lw_g (lw_at lw_m10 58 rfl) rfl
theorem q2303 : (Jvm.Cond.code ({ cls := "HouseClapsModel", name := "restore", desc := "(I)Z" } : Jvm.MethodName) prog_23_method_100_code (3 : Nat) (Option.some Jvm.ClassFile.FieldType.boolean)) ∈ lw_all := lw_g (lw_at lw_m10 59 rfl) rfl
theorem q2305 : (Jvm.Cond.instanceMethod ({ cls := "HouseClapsModel", name := "count", desc := "(I)I" } : Jvm.MethodName)) ∈ lw_all := lw_g (lw_at lw_m10 61 rfl) rfl
theorem q2306 : (Jvm.Cond.selects "HouseClapsModel" ({ cls := "HouseClapsModel", name := "count", desc := "(I)I" } : Jvm.MethodName) ({ cls := "HouseClapsModel", name := "count", desc := "(I)I" } : Jvm.MethodName)) ∈ lw_all := lw_g (lw_at lw_m10 62 rfl) rfl
theorem q2307 : (Jvm.Cond.code ({ cls := "HouseClapsModel", name := "count", desc := "(I)I" } : Jvm.MethodName) prog_23_method_101_code (2 : Nat) (Option.some Jvm.ClassFile.FieldType.int)) ∈ lw_all := lw_g (lw_at lw_m10 63 rfl) rfl
theorem q2333 : (Jvm.Cond.castable "HouseClapsModel" "java/lang/Object") ∈ lw_tbl := lw_at lw_m10 89 rfl
theorem in_X4 : ∀ w ∈ wsX40, w ∈ lw_all := lw_in wsX40 [1767, 1769, 1771, 1773, 1775, 1777, 1779, 1781, 1783, 1785, 1787, 1789, 1791, 1793, 1795, 1797, 1799, 1801, 1803, 1805, 1807, 1809, 1811, 1813, 1815, 1817, 1819, 1821, 1823, 1825, 1827, 1829, 1831, 1833, 1835, 1837, 1839, 1841, 1843, 1845, 1847, 1849, 1851, 1853, 1855, 1857, 1859, 1861, 1863, 1865, 1867, 1869, 1871, 1873, 1875, 1877, 1879, 1881, 1883, 1885, 1887, 1889, 1891, 1893, 1895, 1897, 1899, 1901, 1903] (by decide +kernel) (by decide +kernel)

/-! HouseClaps$Reader -/
set_option maxRecDepth 100000
def RX5 : String := "HouseClaps$Reader"
abbrev cX5_init : ByteArray := prog_17_method_1_code
def yX5_init : MethodName := ⟨RX5, "<init>", "([BII)V"⟩
abbrev cX5_go : ByteArray := prog_17_method_5_code
def yX5_go : MethodName := ⟨RX5, "go", "()V"⟩
abbrev cX5_byteAt : ByteArray := prog_17_method_2_code
def yX5_byteAt : MethodName := ⟨RX5, "byteAt", "(I)I"⟩
abbrev cX5_isLetter : ByteArray := prog_17_method_4_code
def yX5_isLetter : MethodName := ⟨RX5, "isLetter", "(I)Z"⟩
abbrev cX5_isDigit : ByteArray := prog_17_method_3_code
def yX5_isDigit : MethodName := ⟨RX5, "isDigit", "(I)Z"⟩
abbrev cX5_is : ByteArray := prog_17_method_7_code
def yX5_is : MethodName := ⟨RX5, "is", "(Ljava/lang/String;)Z"⟩
abbrev cX5_need : ByteArray := prog_17_method_6_code
def yX5_need : MethodName := ⟨RX5, "need", "(ZI)V"⟩
abbrev cX5_isSign : ByteArray := prog_17_method_8_code
def yX5_isSign : MethodName := ⟨RX5, "isSign", "(I)Z"⟩
abbrev cX5_number : ByteArray := prog_17_method_10_code
def yX5_number : MethodName := ⟨RX5, "number", "(II)I"⟩
abbrev cX5_hold : ByteArray := prog_17_method_9_code
def yX5_hold : MethodName := ⟨RX5, "hold", "(II)I"⟩
abbrev cX5_end : ByteArray := prog_17_method_11_code
def yX5_end : MethodName := ⟨RX5, "end", "()V"⟩
theorem q93 : (Jvm.Cond.initialized "HouseClaps$Reader") ∈ lw_all := lw_g (lw_at lw_m1 9 rfl) rfl
theorem q425 : (Jvm.Cond.instanceMethod ({ cls := "HouseClaps$Reader", name := "<init>", desc := "([BII)V" } : Jvm.MethodName)) ∈ lw_all := lw_g (lw_at lw_m2 101 rfl) rfl
theorem q426 : (Jvm.Cond.code ({ cls := "HouseClaps$Reader", name := "<init>", desc := "([BII)V" } : Jvm.MethodName) prog_17_method_1_code (4 : Nat) (Option.none : Option Jvm.ClassFile.FieldType)) ∈ lw_all := lw_g (lw_at lw_m2 102 rfl) rfl
theorem q427 : (Jvm.Cond.methodLink "HouseClaps$Reader" (1 : Nat) ({ cls := "java/lang/Object", name := "<init>", desc := "()V" } : Jvm.MethodName)) ∈ lw_all := lw_g (lw_at lw_m2 103 rfl) rfl
theorem q428 : (Jvm.Cond.stringRef "HouseClaps$Reader" (7 : Nat) "") ∈ lw_tbl := lw_at lw_m2 104 rfl
theorem q437 : (Jvm.Cond.fieldLink "HouseClaps$Reader" (15 : Nat) "HouseClaps$Reader" "tape" "[B") ∈ lw_all := lw_g (lw_at lw_m2 113 rfl) rfl
theorem q438 : (Jvm.Cond.fieldLink "HouseClaps$Reader" (19 : Nat) "HouseClaps$Reader" "size" "I") ∈ lw_all := lw_g (lw_at lw_m2 114 rfl) rfl
theorem q439 : (Jvm.Cond.fieldLink "HouseClaps$Reader" (23 : Nat) "HouseClaps$Reader" "limit" "I") ∈ lw_all := lw_g (lw_at lw_m2 115 rfl) rfl
theorem q440 : (Jvm.Cond.fieldLink "HouseClaps$Reader" (26 : Nat) "HouseClaps$Reader" "to" "I") ∈ lw_all := lw_g (lw_at lw_m2 116 rfl) rfl
theorem q445 : (Jvm.Cond.fieldLink "HouseClaps$Reader" (36 : Nat) "HouseClaps$Reader" "kind" "I") ∈ lw_all := lw_g (lw_at lw_m2 121 rfl) rfl
theorem q446 : (Jvm.Cond.fieldLink "HouseClaps$Reader" (33 : Nat) "HouseClaps$Reader" "from" "I") ∈ lw_all := lw_g (lw_at lw_m2 122 rfl) rfl
theorem q447 : (Jvm.Cond.fieldLink "HouseClaps$Reader" (56 : Nat) "HouseClaps$Reader" "number" "I") ∈ lw_all := lw_g (lw_at lw_m2 123 rfl) rfl
theorem q448 : (Jvm.Cond.fieldLink "HouseClaps$Reader" (53 : Nat) "HouseClaps$Reader" "sign" "I") ∈ lw_all := lw_g (lw_at lw_m2 124 rfl) rfl
theorem q451 : (Jvm.Cond.fieldLink "HouseClaps$Reader" (9 : Nat) "HouseClaps$Reader" "word" "Ljava/lang/String;") ∈ lw_all := lw_g (lw_at lw_m2 127 rfl) rfl
theorem q467 : (Jvm.Cond.soleField "HouseClaps$Reader" "tape") ∈ lw_all := lw_g (lw_at lw_m2 143 rfl) rfl
theorem q469 : (Jvm.Cond.soleField "HouseClaps$Reader" "size") ∈ lw_all := lw_g (lw_at lw_m2 145 rfl) rfl
theorem q471 : (Jvm.Cond.soleField "HouseClaps$Reader" "limit") ∈ lw_all := lw_g (lw_at lw_m2 147 rfl) rfl
theorem q473 : (Jvm.Cond.soleField "HouseClaps$Reader" "to") ∈ lw_all := lw_g (lw_at lw_m2 149 rfl) rfl
theorem q475 : (Jvm.Cond.soleField "HouseClaps$Reader" "kind") ∈ lw_all := lw_g (lw_at lw_m2 151 rfl) rfl
theorem q477 : (Jvm.Cond.soleField "HouseClaps$Reader" "from") ∈ lw_all := lw_g (lw_at lw_m2 153 rfl) rfl
theorem q479 : (Jvm.Cond.soleField "HouseClaps$Reader" "number") ∈ lw_all := lw_g (lw_at lw_m2 155 rfl) rfl
theorem q481 : (Jvm.Cond.soleField "HouseClaps$Reader" "sign") ∈ lw_all := lw_g (lw_at lw_m2 157 rfl) rfl
theorem q483 : (Jvm.Cond.soleField "HouseClaps$Reader" "word") ∈ lw_all := lw_g (lw_at lw_m2 159 rfl) rfl
theorem q491 : (Jvm.Cond.declares ({ cls := "HouseClaps$Reader", name := "go", desc := "()V" } : Jvm.MethodName)) ∈ lw_tbl := lw_at lw_m2 167 rfl
theorem q493 : (Jvm.Cond.instanceMethod ({ cls := "HouseClaps$Reader", name := "go", desc := "()V" } : Jvm.MethodName)) ∈ lw_all := lw_g (lw_at lw_m2 169 rfl) rfl
theorem q494 : (Jvm.Cond.code ({ cls := "HouseClaps$Reader", name := "go", desc := "()V" } : Jvm.MethodName) prog_17_method_5_code (5 : Nat) (Option.none : Option Jvm.ClassFile.FieldType)) ∈ lw_all := lw_g (lw_at lw_m2 170 rfl) rfl
theorem q495 : (Jvm.Cond.methodLink "HouseClaps$Reader" (29 : Nat) ({ cls := "HouseClaps$Reader", name := "byteAt", desc := "(I)I" } : Jvm.MethodName)) ∈ lw_all := lw_g (lw_at lw_m2 171 rfl) rfl
theorem q496 : (Jvm.Cond.privateMethod ({ cls := "HouseClaps$Reader", name := "byteAt", desc := "(I)I" } : Jvm.MethodName)) ∈ lw_tbl := lw_at lw_m2 172 rfl
theorem q497 : (Jvm.Cond.instanceMethod ({ cls := "HouseClaps$Reader", name := "byteAt", desc := "(I)I" } : Jvm.MethodName)) ∈ lw_all := lw_g (lw_at lw_m2 173 rfl) rfl
theorem q498 : (Jvm.Cond.code ({ cls := "HouseClaps$Reader", name := "byteAt", desc := "(I)I" } : Jvm.MethodName) prog_17_method_2_code (2 : Nat) (Option.some Jvm.ClassFile.FieldType.int)) ∈ lw_all := lw_g (lw_at lw_m2 174 rfl) rfl
theorem q499 : (Jvm.Cond.methodLink "HouseClaps$Reader" (39 : Nat) ({ cls := "HouseClaps$Reader", name := "isLetter", desc := "(I)Z" } : Jvm.MethodName)) ∈ lw_all := lw_g (lw_at lw_m2 175 rfl) rfl
theorem q500 : (Jvm.Cond.static ({ cls := "HouseClaps$Reader", name := "isLetter", desc := "(I)Z" } : Jvm.MethodName)) ∈ lw_all := lw_g (lw_at lw_m2 176 rfl) rfl
theorem q501 : (Jvm.Cond.code ({ cls := "HouseClaps$Reader", name := "isLetter", desc := "(I)Z" } : Jvm.MethodName) prog_17_method_4_code (1 : Nat) (Option.some Jvm.ClassFile.FieldType.boolean)) ∈ lw_all := lw_g (lw_at lw_m2 177 rfl) rfl
theorem q502 : (Jvm.Cond.methodLink "HouseClaps$Reader" (43 : Nat) ({ cls := "HouseClaps$Reader", name := "isDigit", desc := "(I)Z" } : Jvm.MethodName)) ∈ lw_all := lw_g (lw_at lw_m2 178 rfl) rfl
theorem q503 : (Jvm.Cond.static ({ cls := "HouseClaps$Reader", name := "isDigit", desc := "(I)Z" } : Jvm.MethodName)) ∈ lw_all := lw_g (lw_at lw_m2 179 rfl) rfl
theorem q504 : (Jvm.Cond.code ({ cls := "HouseClaps$Reader", name := "isDigit", desc := "(I)Z" } : Jvm.MethodName) prog_17_method_3_code (1 : Nat) (Option.some Jvm.ClassFile.FieldType.boolean)) ∈ lw_all := lw_g (lw_at lw_m2 180 rfl) rfl
theorem q505 : (Jvm.Cond.stringRef "HouseClaps$Reader" (46 : Nat) ";<=>()") ∈ lw_tbl := lw_at lw_m2 181 rfl
theorem q506 : (Jvm.Cond.methodLink "HouseClaps$Reader" (48 : Nat) ({ cls := "java/lang/String", name := "indexOf", desc := "(I)I" } : Jvm.MethodName)) ∈ lw_all := lw_g (lw_at lw_m2 182 rfl) rfl
theorem q592 : (Jvm.Cond.classLink "HouseClaps$Reader" (59 : Nat) "java/lang/StringBuilder") ∈ lw_all := lw_g (lw_at lw_m3 28 rfl) rfl
theorem q594 : (Jvm.Cond.methodLink "HouseClaps$Reader" (61 : Nat) ({ cls := "java/lang/StringBuilder", name := "<init>", desc := "()V" } : Jvm.MethodName)) ∈ lw_all := lw_g (lw_at lw_m3 30 rfl) rfl
theorem q622 : (Jvm.Cond.methodLink "HouseClaps$Reader" (62 : Nat) ({ cls := "java/lang/StringBuilder", name := "append", desc := "(C)Ljava/lang/StringBuilder;" } : Jvm.MethodName)) ∈ lw_all := lw_g (lw_at lw_m3 58 rfl) rfl
theorem q702 : (Jvm.Cond.methodLink "HouseClaps$Reader" (66 : Nat) ({ cls := "java/lang/StringBuilder", name := "toString", desc := "()Ljava/lang/String;" } : Jvm.MethodName)) ∈ lw_all := lw_g (lw_at lw_m3 138 rfl) rfl
theorem q762 : (Jvm.Cond.declares ({ cls := "HouseClaps$Reader", name := "is", desc := "(Ljava/lang/String;)Z" } : Jvm.MethodName)) ∈ lw_tbl := lw_at lw_m3 198 rfl
theorem q764 : (Jvm.Cond.instanceMethod ({ cls := "HouseClaps$Reader", name := "is", desc := "(Ljava/lang/String;)Z" } : Jvm.MethodName)) ∈ lw_all := lw_g (lw_at lw_m3 200 rfl) rfl
theorem q765 : (Jvm.Cond.code ({ cls := "HouseClaps$Reader", name := "is", desc := "(Ljava/lang/String;)Z" } : Jvm.MethodName) prog_17_method_7_code (2 : Nat) (Option.some Jvm.ClassFile.FieldType.boolean)) ∈ lw_all := lw_g (lw_at lw_m3 201 rfl) rfl
theorem q766 : (Jvm.Cond.methodLink "HouseClaps$Reader" (75 : Nat) ({ cls := "java/lang/String", name := "equals", desc := "(Ljava/lang/Object;)Z" } : Jvm.MethodName)) ∈ lw_all := lw_g (lw_at lw_m3 202 rfl) rfl
theorem q780 : (Jvm.Cond.declares ({ cls := "HouseClaps$Reader", name := "need", desc := "(ZI)V" } : Jvm.MethodName)) ∈ lw_tbl := lw_at lw_m3 216 rfl
theorem q782 : (Jvm.Cond.instanceMethod ({ cls := "HouseClaps$Reader", name := "need", desc := "(ZI)V" } : Jvm.MethodName)) ∈ lw_all := lw_g (lw_at lw_m3 218 rfl) rfl
theorem q783 : (Jvm.Cond.code ({ cls := "HouseClaps$Reader", name := "need", desc := "(ZI)V" } : Jvm.MethodName) prog_17_method_6_code (3 : Nat) (Option.none : Option Jvm.ClassFile.FieldType)) ∈ lw_all := lw_g (lw_at lw_m3 219 rfl) rfl
theorem q784 : (Jvm.Cond.classLink "HouseClaps$Reader" (70 : Nat) "HouseClaps$Fault") ∈ lw_all := lw_g (lw_at lw_m3 220 rfl) rfl
theorem q822 : (Jvm.Cond.methodLink "HouseClaps$Reader" (72 : Nat) ({ cls := "HouseClaps$Fault", name := "<init>", desc := "(II)V" } : Jvm.MethodName)) ∈ lw_all := lw_g (lw_at lw_m4 18 rfl) rfl
theorem q880 : (Jvm.Cond.declares ({ cls := "HouseClaps$Reader", name := "isSign", desc := "(I)Z" } : Jvm.MethodName)) ∈ lw_tbl := lw_at lw_m4 76 rfl
theorem q882 : (Jvm.Cond.instanceMethod ({ cls := "HouseClaps$Reader", name := "isSign", desc := "(I)Z" } : Jvm.MethodName)) ∈ lw_all := lw_g (lw_at lw_m4 78 rfl) rfl
theorem q883 : (Jvm.Cond.code ({ cls := "HouseClaps$Reader", name := "isSign", desc := "(I)Z" } : Jvm.MethodName) prog_17_method_8_code (2 : Nat) (Option.some Jvm.ClassFile.FieldType.boolean)) ∈ lw_all := lw_g (lw_at lw_m4 79 rfl) rfl
theorem q916 : (Jvm.Cond.declares ({ cls := "HouseClaps$Reader", name := "number", desc := "(II)I" } : Jvm.MethodName)) ∈ lw_tbl := lw_at lw_m4 112 rfl
theorem q918 : (Jvm.Cond.instanceMethod ({ cls := "HouseClaps$Reader", name := "number", desc := "(II)I" } : Jvm.MethodName)) ∈ lw_all := lw_g (lw_at lw_m4 114 rfl) rfl
theorem q919 : (Jvm.Cond.code ({ cls := "HouseClaps$Reader", name := "number", desc := "(II)I" } : Jvm.MethodName) prog_17_method_10_code (4 : Nat) (Option.some Jvm.ClassFile.FieldType.int)) ∈ lw_all := lw_g (lw_at lw_m4 115 rfl) rfl
theorem q920 : (Jvm.Cond.methodLink "HouseClaps$Reader" (89 : Nat) ({ cls := "HouseClaps$Reader", name := "hold", desc := "(II)I" } : Jvm.MethodName)) ∈ lw_all := lw_g (lw_at lw_m4 116 rfl) rfl
theorem q921 : (Jvm.Cond.instanceMethod ({ cls := "HouseClaps$Reader", name := "hold", desc := "(II)I" } : Jvm.MethodName)) ∈ lw_all := lw_g (lw_at lw_m4 117 rfl) rfl
theorem q922 : (Jvm.Cond.sameMethod "HouseClaps$Reader" "HouseClaps$Reader" "hold" "(II)I") ∈ lw_all := lw_g (lw_at lw_m4 118 rfl) rfl
theorem q925 : (Jvm.Cond.code ({ cls := "HouseClaps$Reader", name := "hold", desc := "(II)I" } : Jvm.MethodName) prog_17_method_9_code (3 : Nat) (Option.some Jvm.ClassFile.FieldType.int)) ∈ lw_all := lw_g (lw_at lw_m4 121 rfl) rfl
theorem q926 : (Jvm.Cond.methodLink "HouseClaps$Reader" (79 : Nat) ({ cls := "HouseClaps$Reader", name := "need", desc := "(ZI)V" } : Jvm.MethodName)) ∈ lw_all := lw_g (lw_at lw_m4 122 rfl) rfl
theorem q927 : (Jvm.Cond.methodLinkNest "HouseClaps$Reader" (83 : Nat) ({ cls := "HouseClaps", name := "isIn", desc := "(III)Z" } : Jvm.MethodName) "HouseClaps") ∈ lw_tbl := lw_at lw_m4 123 rfl
theorem q930 : (Jvm.Cond.methodLink "HouseClaps$Reader" (93 : Nat) ({ cls := "HouseClaps$Reader", name := "go", desc := "()V" } : Jvm.MethodName)) ∈ lw_all := lw_g (lw_at lw_m4 126 rfl) rfl
theorem q1014 : (Jvm.Cond.declares ({ cls := "HouseClaps$Reader", name := "hold", desc := "(II)I" } : Jvm.MethodName)) ∈ lw_tbl := lw_at lw_m4 210 rfl
theorem q1029 : (Jvm.Cond.declares ({ cls := "HouseClaps$Reader", name := "end", desc := "()V" } : Jvm.MethodName)) ∈ lw_tbl := lw_at lw_m4 225 rfl
theorem q1031 : (Jvm.Cond.instanceMethod ({ cls := "HouseClaps$Reader", name := "end", desc := "()V" } : Jvm.MethodName)) ∈ lw_all := lw_g (lw_at lw_m4 227 rfl) rfl
theorem q1032 : (Jvm.Cond.code ({ cls := "HouseClaps$Reader", name := "end", desc := "()V" } : Jvm.MethodName) prog_17_method_11_code (1 : Nat) (Option.none : Option Jvm.ClassFile.FieldType)) ∈ lw_all := lw_g (lw_at lw_m4 228 rfl) rfl
theorem q1033 : (Jvm.Cond.methodLink "HouseClaps$Reader" (96 : Nat) ({ cls := "HouseClaps$Reader", name := "isSign", desc := "(I)Z" } : Jvm.MethodName)) ∈ lw_all := lw_g (lw_at lw_m4 229 rfl) rfl
theorem q2308 : (Jvm.Cond.sameMethod "HouseClaps$Reader" "HouseClaps$Reader" "byteAt" "(I)I") ∈ lw_all := lw_g (lw_at lw_m10 64 rfl) rfl
theorem q2314 : (Jvm.Cond.sameMethod "HouseClaps$Reader" "HouseClaps$Reader" "need" "(ZI)V") ∈ lw_all := lw_g (lw_at lw_m10 70 rfl) rfl
theorem q2317 : (Jvm.Cond.sameMethod "HouseClaps$Reader" "HouseClaps$Reader" "go" "()V") ∈ lw_all := lw_g (lw_at lw_m10 73 rfl) rfl
theorem q2320 : (Jvm.Cond.sameMethod "HouseClaps$Reader" "HouseClaps$Reader" "isSign" "(I)Z") ∈ lw_all := lw_g (lw_at lw_m10 76 rfl) rfl

/-! HouseClaps$HouseReader -/
set_option maxRecDepth 100000
def RX6 : String := "HouseClaps$HouseReader"
def TX6 : u_T := fun k => match k with
  | 0 => ("HouseClaps$Reader", "tape", "[B", true)
  | 1 => ("HouseClaps$Reader", "size", "I", true)
  | 2 => ("HouseClaps$Reader", "limit", "I", true)
  | 3 => ("HouseClaps$Reader", "to", "I", false)
  | 4 => ("HouseClaps$Reader", "kind", "I", false)
  | 5 => ("HouseClaps$Reader", "from", "I", false)
  | 6 => ("HouseClaps$Reader", "number", "I", false)
  | 7 => ("HouseClaps$Reader", "sign", "I", false)
  | 8 => ("HouseClaps$Reader", "word", "Ljava/lang/String;", false)
  | 9 => ("HouseClaps$HouseReader", "h", "LHouseClaps$House;", true)
  | 10 => ("HouseClaps$HouseReader", "had", "I", false)
  | 11 => ("HouseClaps$HouseReader", "priced", "I", false)
  | 12 => ("HouseClaps$HouseReader", "left", "I", false)
  | 13 => ("HouseClaps$HouseReader", "ones", "I", false)
  | _ => ("HouseClaps$HouseReader", "within", "I", false)
def tyX6 : Nat → FieldType := fun k => match k with
  | 0 => .array .byte
  | 1 => .int
  | 2 => .int
  | 3 => .int
  | 4 => .int
  | 5 => .int
  | 6 => .int
  | 7 => .int
  | 8 => .object "java/lang/String"
  | 9 => .object "HouseClaps$House"
  | 10 => .int
  | 11 => .int
  | 12 => .int
  | 13 => .int
  | _ => .int
abbrev wsX60 : List Cond := u_ws RX6 TX6 15
set_option maxRecDepth 100000 in
theorem nmX6 : ∀ a, a < 15 → ∀ b, b < 15 → a ≠ b → (TX6 a).2.1 ≠ (TX6 b).2.1 := by decide +kernel
set_option maxRecDepth 100000 in
theorem tyX6_ok : ∀ k, k < 15 → parseFieldDescriptor (TX6 k).2.2.1 = some (tyX6 k) := by decide +kernel
abbrev cX6_init : ByteArray := prog_12_method_1_code
def yX6_init : MethodName := ⟨RX6, "<init>", "([BI)V"⟩
abbrev cX6_read : ByteArray := prog_12_method_2_code
def yX6_read : MethodName := ⟨RX6, "read", "()LHouseClaps$House;"⟩
abbrev cX6_row : ByteArray := prog_12_method_3_code
def yX6_row : MethodName := ⟨RX6, "row", "()V"⟩
abbrev cX6_law : ByteArray := prog_12_method_5_code
def yX6_law : MethodName := ⟨RX6, "law", "([LHouseClaps$Cond;I)V"⟩
abbrev cX6_or : ByteArray := prog_12_method_7_code
def yX6_or : MethodName := ⟨RX6, "or", "()LHouseClaps$Cond;"⟩
abbrev cX6_and : ByteArray := prog_12_method_8_code
def yX6_and : MethodName := ⟨RX6, "and", "()LHouseClaps$Cond;"⟩
abbrev cX6_one : ByteArray := prog_12_method_10_code
def yX6_one : MethodName := ⟨RX6, "one", "()LHouseClaps$Cond;"⟩
abbrev cX6_areaAtHand : ByteArray := prog_12_method_9_code
def yX6_areaAtHand : MethodName := ⟨RX6, "areaAtHand", "()I"⟩
abbrev cX6_compare : ByteArray := prog_12_method_11_code
def yX6_compare : MethodName := ⟨RX6, "compare", "(IZ)LHouseClaps$Cond;"⟩
abbrev cX6_rowTold : ByteArray := prog_12_method_4_code
def yX6_rowTold : MethodName := ⟨RX6, "rowTold", "(Z)I"⟩
abbrev cX6_once : ByteArray := prog_12_method_6_code
def yX6_once : MethodName := ⟨RX6, "once", "()V"⟩
theorem q94 : (Jvm.Cond.initialized "HouseClaps$HouseReader") ∈ lw_all := lw_g (lw_at lw_m1 10 rfl) rfl
theorem q150 : (Jvm.Cond.fieldLinkNest "HouseClaps$HouseReader" (78 : Nat) "HouseClaps$House" "rows" "I" "HouseClaps") ∈ lw_tbl := lw_at lw_m1 66 rfl
theorem q154 : (Jvm.Cond.fieldLinkNest "HouseClaps$HouseReader" (95 : Nat) "HouseClaps$House" "columns" "I" "HouseClaps") ∈ lw_tbl := lw_at lw_m1 70 rfl
theorem q159 : (Jvm.Cond.fieldLinkNest "HouseClaps$HouseReader" (137 : Nat) "HouseClaps$House" "carry" "I" "HouseClaps") ∈ lw_tbl := lw_at lw_m1 75 rfl
theorem q164 : (Jvm.Cond.fieldLinkNest "HouseClaps$HouseReader" (139 : Nat) "HouseClaps$House" "paid" "I" "HouseClaps") ∈ lw_tbl := lw_at lw_m1 80 rfl
theorem q166 : (Jvm.Cond.fieldLinkNest "HouseClaps$HouseReader" (71 : Nat) "HouseClaps$House" "lines" "I" "HouseClaps") ∈ lw_tbl := lw_at lw_m1 82 rfl
theorem q169 : (Jvm.Cond.fieldLinkNest "HouseClaps$HouseReader" (141 : Nat) "HouseClaps$House" "isByRows" "Z" "HouseClaps") ∈ lw_tbl := lw_at lw_m1 85 rfl
theorem q174 : (Jvm.Cond.fieldLinkNest "HouseClaps$HouseReader" (102 : Nat) "HouseClaps$House" "kind" "[I" "HouseClaps") ∈ lw_tbl := lw_at lw_m1 90 rfl
theorem q178 : (Jvm.Cond.fieldLinkNest "HouseClaps$HouseReader" (50 : Nat) "HouseClaps$House" "price" "[I" "HouseClaps") ∈ lw_tbl := lw_at lw_m1 94 rfl
theorem q181 : (Jvm.Cond.fieldLinkNest "HouseClaps$HouseReader" (63 : Nat) "HouseClaps$House" "leaves" "[I" "HouseClaps") ∈ lw_tbl := lw_at lw_m1 97 rfl
theorem q185 : (Jvm.Cond.fieldLinkNest "HouseClaps$HouseReader" (37 : Nat) "HouseClaps$House" "up" "[LHouseClaps$Cond;" "HouseClaps") ∈ lw_tbl := lw_at lw_m1 101 rfl
theorem q189 : (Jvm.Cond.fieldLinkNest "HouseClaps$HouseReader" (46 : Nat) "HouseClaps$House" "down" "[LHouseClaps$Cond;" "HouseClaps") ∈ lw_tbl := lw_at lw_m1 105 rfl
theorem q193 : (Jvm.Cond.fieldLinkNest "HouseClaps$HouseReader" (127 : Nat) "HouseClaps$House" "ones" "[I" "HouseClaps") ∈ lw_tbl := lw_at lw_m1 109 rfl
theorem q420 : (Jvm.Cond.instantiable "HouseClaps$HouseReader" (15 : Nat)) ∈ lw_all := lw_g (lw_at lw_m2 96 rfl) rfl
theorem q422 : (Jvm.Cond.instanceMethod ({ cls := "HouseClaps$HouseReader", name := "<init>", desc := "([BI)V" } : Jvm.MethodName)) ∈ lw_all := lw_g (lw_at lw_m2 98 rfl) rfl
theorem q423 : (Jvm.Cond.code ({ cls := "HouseClaps$HouseReader", name := "<init>", desc := "([BI)V" } : Jvm.MethodName) prog_12_method_1_code (3 : Nat) (Option.none : Option Jvm.ClassFile.FieldType)) ∈ lw_all := lw_g (lw_at lw_m2 99 rfl) rfl
theorem q424 : (Jvm.Cond.methodLink "HouseClaps$HouseReader" (3 : Nat) ({ cls := "HouseClaps$Reader", name := "<init>", desc := "([BII)V" } : Jvm.MethodName)) ∈ lw_all := lw_g (lw_at lw_m2 100 rfl) rfl
theorem q429 : (Jvm.Cond.classLink "HouseClaps$HouseReader" (9 : Nat) "HouseClaps$House") ∈ lw_all := lw_g (lw_at lw_m2 105 rfl) rfl
theorem q430 : (Jvm.Cond.methodLink "HouseClaps$HouseReader" (11 : Nat) ({ cls := "HouseClaps$House", name := "<init>", desc := "()V" } : Jvm.MethodName)) ∈ lw_all := lw_g (lw_at lw_m2 106 rfl) rfl
theorem q431 : (Jvm.Cond.fieldLink "HouseClaps$HouseReader" (14 : Nat) "HouseClaps$HouseReader" "h" "LHouseClaps$House;") ∈ lw_all := lw_g (lw_at lw_m2 107 rfl) rfl
theorem q432 : (Jvm.Cond.fieldLink "HouseClaps$HouseReader" (134 : Nat) "HouseClaps$HouseReader" "had" "I") ∈ lw_all := lw_g (lw_at lw_m2 108 rfl) rfl
theorem q433 : (Jvm.Cond.fieldLink "HouseClaps$HouseReader" (107 : Nat) "HouseClaps$HouseReader" "priced" "I") ∈ lw_all := lw_g (lw_at lw_m2 109 rfl) rfl
theorem q434 : (Jvm.Cond.fieldLink "HouseClaps$HouseReader" (110 : Nat) "HouseClaps$HouseReader" "left" "I") ∈ lw_all := lw_g (lw_at lw_m2 110 rfl) rfl
theorem q435 : (Jvm.Cond.fieldLink "HouseClaps$HouseReader" (117 : Nat) "HouseClaps$HouseReader" "ones" "I") ∈ lw_all := lw_g (lw_at lw_m2 111 rfl) rfl
theorem q436 : (Jvm.Cond.fieldLink "HouseClaps$HouseReader" (120 : Nat) "HouseClaps$HouseReader" "within" "I") ∈ lw_all := lw_g (lw_at lw_m2 112 rfl) rfl
theorem q441 : (Jvm.Cond.fieldLink "HouseClaps$HouseReader" (23 : Nat) "HouseClaps$HouseReader" "kind" "I") ∈ lw_all := lw_g (lw_at lw_m2 117 rfl) rfl
theorem q442 : (Jvm.Cond.sameField "HouseClaps$HouseReader" "HouseClaps$Reader" "kind" "I") ∈ lw_all := lw_g (lw_at lw_m2 118 rfl) rfl
theorem q449 : (Jvm.Cond.fieldLink "HouseClaps$HouseReader" (195 : Nat) "HouseClaps$HouseReader" "sign" "I") ∈ lw_all := lw_g (lw_at lw_m2 125 rfl) rfl
theorem q450 : (Jvm.Cond.sameField "HouseClaps$HouseReader" "HouseClaps$Reader" "sign" "I") ∈ lw_all := lw_g (lw_at lw_m2 126 rfl) rfl
theorem q452 : (Jvm.Cond.fieldLink "HouseClaps$HouseReader" (85 : Nat) "HouseClaps$HouseReader" "word" "Ljava/lang/String;") ∈ lw_all := lw_g (lw_at lw_m2 128 rfl) rfl
theorem q453 : (Jvm.Cond.sameField "HouseClaps$HouseReader" "HouseClaps$Reader" "word" "Ljava/lang/String;") ∈ lw_all := lw_g (lw_at lw_m2 129 rfl) rfl
theorem q454 : (Jvm.Cond.laysFinal "HouseClaps$HouseReader" "HouseClaps$HouseReader" "h" "LHouseClaps$House;") ∈ lw_all := lw_g (lw_at lw_m2 130 rfl) rfl
theorem q455 : (Jvm.Cond.soleField "HouseClaps$HouseReader" "h") ∈ lw_all := lw_g (lw_at lw_m2 131 rfl) rfl
theorem q456 : (Jvm.Cond.lays "HouseClaps$HouseReader" "HouseClaps$HouseReader" "had" "I") ∈ lw_all := lw_g (lw_at lw_m2 132 rfl) rfl
theorem q457 : (Jvm.Cond.soleField "HouseClaps$HouseReader" "had") ∈ lw_all := lw_g (lw_at lw_m2 133 rfl) rfl
theorem q458 : (Jvm.Cond.lays "HouseClaps$HouseReader" "HouseClaps$HouseReader" "priced" "I") ∈ lw_all := lw_g (lw_at lw_m2 134 rfl) rfl
theorem q459 : (Jvm.Cond.soleField "HouseClaps$HouseReader" "priced") ∈ lw_all := lw_g (lw_at lw_m2 135 rfl) rfl
theorem q460 : (Jvm.Cond.lays "HouseClaps$HouseReader" "HouseClaps$HouseReader" "left" "I") ∈ lw_all := lw_g (lw_at lw_m2 136 rfl) rfl
theorem q461 : (Jvm.Cond.soleField "HouseClaps$HouseReader" "left") ∈ lw_all := lw_g (lw_at lw_m2 137 rfl) rfl
theorem q462 : (Jvm.Cond.lays "HouseClaps$HouseReader" "HouseClaps$HouseReader" "ones" "I") ∈ lw_all := lw_g (lw_at lw_m2 138 rfl) rfl
theorem q463 : (Jvm.Cond.soleField "HouseClaps$HouseReader" "ones") ∈ lw_all := lw_g (lw_at lw_m2 139 rfl) rfl
theorem q464 : (Jvm.Cond.lays "HouseClaps$HouseReader" "HouseClaps$HouseReader" "within" "I") ∈ lw_all := lw_g (lw_at lw_m2 140 rfl) rfl
theorem q465 : (Jvm.Cond.soleField "HouseClaps$HouseReader" "within") ∈ lw_all := lw_g (lw_at lw_m2 141 rfl) rfl
theorem q466 : (Jvm.Cond.laysFinal "HouseClaps$HouseReader" "HouseClaps$Reader" "tape" "[B") ∈ lw_all := lw_g (lw_at lw_m2 142 rfl) rfl
theorem q468 : (Jvm.Cond.laysFinal "HouseClaps$HouseReader" "HouseClaps$Reader" "size" "I") ∈ lw_all := lw_g (lw_at lw_m2 144 rfl) rfl
theorem q470 : (Jvm.Cond.laysFinal "HouseClaps$HouseReader" "HouseClaps$Reader" "limit" "I") ∈ lw_all := lw_g (lw_at lw_m2 146 rfl) rfl
theorem q472 : (Jvm.Cond.lays "HouseClaps$HouseReader" "HouseClaps$Reader" "to" "I") ∈ lw_all := lw_g (lw_at lw_m2 148 rfl) rfl
theorem q474 : (Jvm.Cond.lays "HouseClaps$HouseReader" "HouseClaps$Reader" "kind" "I") ∈ lw_all := lw_g (lw_at lw_m2 150 rfl) rfl
theorem q476 : (Jvm.Cond.lays "HouseClaps$HouseReader" "HouseClaps$Reader" "from" "I") ∈ lw_all := lw_g (lw_at lw_m2 152 rfl) rfl
theorem q478 : (Jvm.Cond.lays "HouseClaps$HouseReader" "HouseClaps$Reader" "number" "I") ∈ lw_all := lw_g (lw_at lw_m2 154 rfl) rfl
theorem q480 : (Jvm.Cond.lays "HouseClaps$HouseReader" "HouseClaps$Reader" "sign" "I") ∈ lw_all := lw_g (lw_at lw_m2 156 rfl) rfl
theorem q482 : (Jvm.Cond.lays "HouseClaps$HouseReader" "HouseClaps$Reader" "word" "Ljava/lang/String;") ∈ lw_all := lw_g (lw_at lw_m2 158 rfl) rfl
theorem q484 : (Jvm.Cond.superclass "HouseClaps$HouseReader" "HouseClaps$Reader") ∈ lw_all := lw_g (lw_at lw_m2 160 rfl) rfl
theorem q486 : (Jvm.Cond.instanceMethod ({ cls := "HouseClaps$HouseReader", name := "read", desc := "()LHouseClaps$House;" } : Jvm.MethodName)) ∈ lw_all := lw_g (lw_at lw_m2 162 rfl) rfl
theorem q487 : (Jvm.Cond.selects "HouseClaps$HouseReader" ({ cls := "HouseClaps$HouseReader", name := "read", desc := "()LHouseClaps$House;" } : Jvm.MethodName) ({ cls := "HouseClaps$HouseReader", name := "read", desc := "()LHouseClaps$House;" } : Jvm.MethodName)) ∈ lw_all := lw_g (lw_at lw_m2 163 rfl) rfl
theorem q488 : (Jvm.Cond.code ({ cls := "HouseClaps$HouseReader", name := "read", desc := "()LHouseClaps$House;" } : Jvm.MethodName) prog_12_method_2_code (1 : Nat) (Option.some (Jvm.ClassFile.FieldType.object "HouseClaps$House"))) ∈ lw_all := lw_g (lw_at lw_m2 164 rfl) rfl
theorem q489 : (Jvm.Cond.methodLink "HouseClaps$HouseReader" (20 : Nat) ({ cls := "HouseClaps$HouseReader", name := "go", desc := "()V" } : Jvm.MethodName)) ∈ lw_all := lw_g (lw_at lw_m2 165 rfl) rfl
theorem q490 : (Jvm.Cond.sameMethod "HouseClaps$HouseReader" "HouseClaps$Reader" "go" "()V") ∈ lw_all := lw_g (lw_at lw_m2 166 rfl) rfl
theorem q492 : (Jvm.Cond.selects "HouseClaps$HouseReader" ({ cls := "HouseClaps$HouseReader", name := "go", desc := "()V" } : Jvm.MethodName) ({ cls := "HouseClaps$Reader", name := "go", desc := "()V" } : Jvm.MethodName)) ∈ lw_all := lw_g (lw_at lw_m2 168 rfl) rfl
theorem q759 : (Jvm.Cond.stringRef "HouseClaps$HouseReader" (27 : Nat) "row") ∈ lw_tbl := lw_at lw_m3 195 rfl
theorem q760 : (Jvm.Cond.methodLink "HouseClaps$HouseReader" (29 : Nat) ({ cls := "HouseClaps$HouseReader", name := "is", desc := "(Ljava/lang/String;)Z" } : Jvm.MethodName)) ∈ lw_all := lw_g (lw_at lw_m3 196 rfl) rfl
theorem q761 : (Jvm.Cond.sameMethod "HouseClaps$HouseReader" "HouseClaps$Reader" "is" "(Ljava/lang/String;)Z") ∈ lw_all := lw_g (lw_at lw_m3 197 rfl) rfl
theorem q763 : (Jvm.Cond.selects "HouseClaps$HouseReader" ({ cls := "HouseClaps$HouseReader", name := "is", desc := "(Ljava/lang/String;)Z" } : Jvm.MethodName) ({ cls := "HouseClaps$Reader", name := "is", desc := "(Ljava/lang/String;)Z" } : Jvm.MethodName)) ∈ lw_all := lw_g (lw_at lw_m3 199 rfl) rfl
theorem q774 : (Jvm.Cond.methodLink "HouseClaps$HouseReader" (33 : Nat) ({ cls := "HouseClaps$HouseReader", name := "row", desc := "()V" } : Jvm.MethodName)) ∈ lw_all := lw_g (lw_at lw_m3 210 rfl) rfl
theorem q775 : (Jvm.Cond.privateMethod ({ cls := "HouseClaps$HouseReader", name := "row", desc := "()V" } : Jvm.MethodName)) ∈ lw_tbl := lw_at lw_m3 211 rfl
theorem q776 : (Jvm.Cond.instanceMethod ({ cls := "HouseClaps$HouseReader", name := "row", desc := "()V" } : Jvm.MethodName)) ∈ lw_all := lw_g (lw_at lw_m3 212 rfl) rfl
theorem q777 : (Jvm.Cond.code ({ cls := "HouseClaps$HouseReader", name := "row", desc := "()V" } : Jvm.MethodName) prog_12_method_3_code (2 : Nat) (Option.none : Option Jvm.ClassFile.FieldType)) ∈ lw_all := lw_g (lw_at lw_m3 213 rfl) rfl
theorem q778 : (Jvm.Cond.methodLink "HouseClaps$HouseReader" (81 : Nat) ({ cls := "HouseClaps$HouseReader", name := "need", desc := "(ZI)V" } : Jvm.MethodName)) ∈ lw_all := lw_g (lw_at lw_m3 214 rfl) rfl
theorem q779 : (Jvm.Cond.sameMethod "HouseClaps$HouseReader" "HouseClaps$Reader" "need" "(ZI)V") ∈ lw_all := lw_g (lw_at lw_m3 215 rfl) rfl
theorem q781 : (Jvm.Cond.selects "HouseClaps$HouseReader" ({ cls := "HouseClaps$HouseReader", name := "need", desc := "(ZI)V" } : Jvm.MethodName) ({ cls := "HouseClaps$Reader", name := "need", desc := "(ZI)V" } : Jvm.MethodName)) ∈ lw_all := lw_g (lw_at lw_m3 217 rfl) rfl
theorem q849 : (Jvm.Cond.methodLink "HouseClaps$HouseReader" (89 : Nat) ({ cls := "java/lang/String", name := "length", desc := "()I" } : Jvm.MethodName)) ∈ lw_all := lw_g (lw_at lw_m4 45 rfl) rfl
theorem q850 : (Jvm.Cond.methodLink "HouseClaps$HouseReader" (98 : Nat) ({ cls := "java/lang/String", name := "charAt", desc := "(I)C" } : Jvm.MethodName)) ∈ lw_all := lw_g (lw_at lw_m4 46 rfl) rfl
theorem q861 : (Jvm.Cond.stringRef "HouseClaps$HouseReader" (35 : Nat) "up") ∈ lw_tbl := lw_at lw_m4 57 rfl
theorem q862 : (Jvm.Cond.methodLink "HouseClaps$HouseReader" (40 : Nat) ({ cls := "HouseClaps$HouseReader", name := "law", desc := "([LHouseClaps$Cond;I)V" } : Jvm.MethodName)) ∈ lw_all := lw_g (lw_at lw_m4 58 rfl) rfl
theorem q863 : (Jvm.Cond.privateMethod ({ cls := "HouseClaps$HouseReader", name := "law", desc := "([LHouseClaps$Cond;I)V" } : Jvm.MethodName)) ∈ lw_tbl := lw_at lw_m4 59 rfl
theorem q864 : (Jvm.Cond.instanceMethod ({ cls := "HouseClaps$HouseReader", name := "law", desc := "([LHouseClaps$Cond;I)V" } : Jvm.MethodName)) ∈ lw_all := lw_g (lw_at lw_m4 60 rfl) rfl
theorem q865 : (Jvm.Cond.code ({ cls := "HouseClaps$HouseReader", name := "law", desc := "([LHouseClaps$Cond;I)V" } : Jvm.MethodName) prog_12_method_5_code (4 : Nat) (Option.none : Option Jvm.ClassFile.FieldType)) ∈ lw_all := lw_g (lw_at lw_m4 61 rfl) rfl
theorem q866 : (Jvm.Cond.methodLink "HouseClaps$HouseReader" (123 : Nat) ({ cls := "HouseClaps$HouseReader", name := "or", desc := "()LHouseClaps$Cond;" } : Jvm.MethodName)) ∈ lw_all := lw_g (lw_at lw_m4 62 rfl) rfl
theorem q867 : (Jvm.Cond.privateMethod ({ cls := "HouseClaps$HouseReader", name := "or", desc := "()LHouseClaps$Cond;" } : Jvm.MethodName)) ∈ lw_tbl := lw_at lw_m4 63 rfl
theorem q868 : (Jvm.Cond.instanceMethod ({ cls := "HouseClaps$HouseReader", name := "or", desc := "()LHouseClaps$Cond;" } : Jvm.MethodName)) ∈ lw_all := lw_g (lw_at lw_m4 64 rfl) rfl
theorem q869 : (Jvm.Cond.code ({ cls := "HouseClaps$HouseReader", name := "or", desc := "()LHouseClaps$Cond;" } : Jvm.MethodName) prog_12_method_7_code (2 : Nat) (Option.some (Jvm.ClassFile.FieldType.object "HouseClaps$Cond"))) ∈ lw_all := lw_g (lw_at lw_m4 65 rfl) rfl
theorem q870 : (Jvm.Cond.methodLink "HouseClaps$HouseReader" (145 : Nat) ({ cls := "HouseClaps$HouseReader", name := "and", desc := "()LHouseClaps$Cond;" } : Jvm.MethodName)) ∈ lw_all := lw_g (lw_at lw_m4 66 rfl) rfl
theorem q871 : (Jvm.Cond.privateMethod ({ cls := "HouseClaps$HouseReader", name := "and", desc := "()LHouseClaps$Cond;" } : Jvm.MethodName)) ∈ lw_tbl := lw_at lw_m4 67 rfl
theorem q872 : (Jvm.Cond.instanceMethod ({ cls := "HouseClaps$HouseReader", name := "and", desc := "()LHouseClaps$Cond;" } : Jvm.MethodName)) ∈ lw_all := lw_g (lw_at lw_m4 68 rfl) rfl
theorem q873 : (Jvm.Cond.code ({ cls := "HouseClaps$HouseReader", name := "and", desc := "()LHouseClaps$Cond;" } : Jvm.MethodName) prog_12_method_8_code (2 : Nat) (Option.some (Jvm.ClassFile.FieldType.object "HouseClaps$Cond"))) ∈ lw_all := lw_g (lw_at lw_m4 69 rfl) rfl
theorem q874 : (Jvm.Cond.methodLink "HouseClaps$HouseReader" (154 : Nat) ({ cls := "HouseClaps$HouseReader", name := "one", desc := "()LHouseClaps$Cond;" } : Jvm.MethodName)) ∈ lw_all := lw_g (lw_at lw_m4 70 rfl) rfl
theorem q875 : (Jvm.Cond.privateMethod ({ cls := "HouseClaps$HouseReader", name := "one", desc := "()LHouseClaps$Cond;" } : Jvm.MethodName)) ∈ lw_tbl := lw_at lw_m4 71 rfl
theorem q876 : (Jvm.Cond.instanceMethod ({ cls := "HouseClaps$HouseReader", name := "one", desc := "()LHouseClaps$Cond;" } : Jvm.MethodName)) ∈ lw_all := lw_g (lw_at lw_m4 72 rfl) rfl
theorem q877 : (Jvm.Cond.code ({ cls := "HouseClaps$HouseReader", name := "one", desc := "()LHouseClaps$Cond;" } : Jvm.MethodName) prog_12_method_10_code (6 : Nat) (Option.some (Jvm.ClassFile.FieldType.object "HouseClaps$Cond"))) ∈ lw_all := lw_g (lw_at lw_m4 73 rfl) rfl
theorem q878 : (Jvm.Cond.methodLink "HouseClaps$HouseReader" (173 : Nat) ({ cls := "HouseClaps$HouseReader", name := "isSign", desc := "(I)Z" } : Jvm.MethodName)) ∈ lw_all := lw_g (lw_at lw_m4 74 rfl) rfl
theorem q879 : (Jvm.Cond.sameMethod "HouseClaps$HouseReader" "HouseClaps$Reader" "isSign" "(I)Z") ∈ lw_all := lw_g (lw_at lw_m4 75 rfl) rfl
theorem q881 : (Jvm.Cond.selects "HouseClaps$HouseReader" ({ cls := "HouseClaps$HouseReader", name := "isSign", desc := "(I)Z" } : Jvm.MethodName) ({ cls := "HouseClaps$Reader", name := "isSign", desc := "(I)Z" } : Jvm.MethodName)) ∈ lw_all := lw_g (lw_at lw_m4 77 rfl) rfl
theorem q884 : (Jvm.Cond.stringRef "HouseClaps$HouseReader" (177 : Nat) "not") ∈ lw_tbl := lw_at lw_m4 80 rfl
theorem q885 : (Jvm.Cond.stringRef "HouseClaps$HouseReader" (179 : Nat) "self") ∈ lw_tbl := lw_at lw_m4 81 rfl
theorem q886 : (Jvm.Cond.methodLink "HouseClaps$HouseReader" (181 : Nat) ({ cls := "HouseClaps$HouseReader", name := "areaAtHand", desc := "()I" } : Jvm.MethodName)) ∈ lw_all := lw_g (lw_at lw_m4 82 rfl) rfl
theorem q887 : (Jvm.Cond.privateMethod ({ cls := "HouseClaps$HouseReader", name := "areaAtHand", desc := "()I" } : Jvm.MethodName)) ∈ lw_tbl := lw_at lw_m4 83 rfl
theorem q888 : (Jvm.Cond.instanceMethod ({ cls := "HouseClaps$HouseReader", name := "areaAtHand", desc := "()I" } : Jvm.MethodName)) ∈ lw_all := lw_g (lw_at lw_m4 84 rfl) rfl
theorem q889 : (Jvm.Cond.code ({ cls := "HouseClaps$HouseReader", name := "areaAtHand", desc := "()I" } : Jvm.MethodName) prog_12_method_9_code (1 : Nat) (Option.some Jvm.ClassFile.FieldType.int)) ∈ lw_all := lw_g (lw_at lw_m4 85 rfl) rfl
theorem q890 : (Jvm.Cond.stringRef "HouseClaps$HouseReader" (161 : Nat) "near") ∈ lw_tbl := lw_at lw_m4 86 rfl
theorem q891 : (Jvm.Cond.stringRef "HouseClaps$HouseReader" (163 : Nat) "ahead") ∈ lw_tbl := lw_at lw_m4 87 rfl
theorem q892 : (Jvm.Cond.stringRef "HouseClaps$HouseReader" (165 : Nat) "beside") ∈ lw_tbl := lw_at lw_m4 88 rfl
theorem q893 : (Jvm.Cond.stringRef "HouseClaps$HouseReader" (167 : Nat) "behind") ∈ lw_tbl := lw_at lw_m4 89 rfl
theorem q894 : (Jvm.Cond.stringRef "HouseClaps$HouseReader" (169 : Nat) "seen") ∈ lw_tbl := lw_at lw_m4 90 rfl
theorem q895 : (Jvm.Cond.stringRef "HouseClaps$HouseReader" (171 : Nat) "house") ∈ lw_tbl := lw_at lw_m4 91 rfl
theorem q896 : (Jvm.Cond.stringRef "HouseClaps$HouseReader" (184 : Nat) "held") ∈ lw_tbl := lw_at lw_m4 92 rfl
theorem q897 : (Jvm.Cond.classLink "HouseClaps$HouseReader" (186 : Nat) "HouseClaps$Not") ∈ lw_all := lw_g (lw_at lw_m4 93 rfl) rfl
theorem q899 : (Jvm.Cond.methodLink "HouseClaps$HouseReader" (188 : Nat) ({ cls := "HouseClaps$Not", name := "<init>", desc := "(LHouseClaps$Cond;)V" } : Jvm.MethodName)) ∈ lw_all := lw_g (lw_at lw_m4 95 rfl) rfl
theorem q910 : (Jvm.Cond.methodLink "HouseClaps$HouseReader" (191 : Nat) ({ cls := "HouseClaps$HouseReader", name := "compare", desc := "(IZ)LHouseClaps$Cond;" } : Jvm.MethodName)) ∈ lw_all := lw_g (lw_at lw_m4 106 rfl) rfl
theorem q911 : (Jvm.Cond.privateMethod ({ cls := "HouseClaps$HouseReader", name := "compare", desc := "(IZ)LHouseClaps$Cond;" } : Jvm.MethodName)) ∈ lw_tbl := lw_at lw_m4 107 rfl
theorem q912 : (Jvm.Cond.instanceMethod ({ cls := "HouseClaps$HouseReader", name := "compare", desc := "(IZ)LHouseClaps$Cond;" } : Jvm.MethodName)) ∈ lw_all := lw_g (lw_at lw_m4 108 rfl) rfl
theorem q913 : (Jvm.Cond.code ({ cls := "HouseClaps$HouseReader", name := "compare", desc := "(IZ)LHouseClaps$Cond;" } : Jvm.MethodName) prog_12_method_11_code (6 : Nat) (Option.some (Jvm.ClassFile.FieldType.object "HouseClaps$Cond"))) ∈ lw_all := lw_g (lw_at lw_m4 109 rfl) rfl
theorem q914 : (Jvm.Cond.methodLink "HouseClaps$HouseReader" (57 : Nat) ({ cls := "HouseClaps$HouseReader", name := "number", desc := "(II)I" } : Jvm.MethodName)) ∈ lw_all := lw_g (lw_at lw_m4 110 rfl) rfl
theorem q915 : (Jvm.Cond.sameMethod "HouseClaps$HouseReader" "HouseClaps$Reader" "number" "(II)I") ∈ lw_all := lw_g (lw_at lw_m4 111 rfl) rfl
theorem q917 : (Jvm.Cond.selects "HouseClaps$HouseReader" ({ cls := "HouseClaps$HouseReader", name := "number", desc := "(II)I" } : Jvm.MethodName) ({ cls := "HouseClaps$Reader", name := "number", desc := "(II)I" } : Jvm.MethodName)) ∈ lw_all := lw_g (lw_at lw_m4 113 rfl) rfl
theorem q924 : (Jvm.Cond.selects "HouseClaps$HouseReader" ({ cls := "HouseClaps$Reader", name := "hold", desc := "(II)I" } : Jvm.MethodName) ({ cls := "HouseClaps$Reader", name := "hold", desc := "(II)I" } : Jvm.MethodName)) ∈ lw_all := lw_g (lw_at lw_m4 120 rfl) rfl
theorem q931 : (Jvm.Cond.classLink "HouseClaps$HouseReader" (198 : Nat) "HouseClaps$Sees") ∈ lw_all := lw_g (lw_at lw_m4 127 rfl) rfl
theorem q933 : (Jvm.Cond.methodLink "HouseClaps$HouseReader" (200 : Nat) ({ cls := "HouseClaps$Sees", name := "<init>", desc := "(IIII)V" } : Jvm.MethodName)) ∈ lw_all := lw_g (lw_at lw_m4 129 rfl) rfl
theorem q953 : (Jvm.Cond.classLink "HouseClaps$HouseReader" (203 : Nat) "HouseClaps$Self") ∈ lw_all := lw_g (lw_at lw_m4 149 rfl) rfl
theorem q955 : (Jvm.Cond.methodLink "HouseClaps$HouseReader" (205 : Nat) ({ cls := "HouseClaps$Self", name := "<init>", desc := "(II)V" } : Jvm.MethodName)) ∈ lw_all := lw_g (lw_at lw_m4 151 rfl) rfl
theorem q962 : (Jvm.Cond.classLink "HouseClaps$HouseReader" (208 : Nat) "HouseClaps$Held") ∈ lw_all := lw_g (lw_at lw_m4 158 rfl) rfl
theorem q964 : (Jvm.Cond.methodLink "HouseClaps$HouseReader" (210 : Nat) ({ cls := "HouseClaps$Held", name := "<init>", desc := "(II)V" } : Jvm.MethodName)) ∈ lw_all := lw_g (lw_at lw_m4 160 rfl) rfl
theorem q971 : (Jvm.Cond.stringRef "HouseClaps$HouseReader" (157 : Nat) "and") ∈ lw_tbl := lw_at lw_m4 167 rfl
theorem q972 : (Jvm.Cond.classLink "HouseClaps$HouseReader" (158 : Nat) "HouseClaps$And") ∈ lw_all := lw_g (lw_at lw_m4 168 rfl) rfl
theorem q974 : (Jvm.Cond.methodLink "HouseClaps$HouseReader" (160 : Nat) ({ cls := "HouseClaps$And", name := "<init>", desc := "(LHouseClaps$Cond;LHouseClaps$Cond;)V" } : Jvm.MethodName)) ∈ lw_all := lw_g (lw_at lw_m4 170 rfl) rfl
theorem q996 : (Jvm.Cond.stringRef "HouseClaps$HouseReader" (148 : Nat) "or") ∈ lw_tbl := lw_at lw_m4 192 rfl
theorem q997 : (Jvm.Cond.classLink "HouseClaps$HouseReader" (149 : Nat) "HouseClaps$Or") ∈ lw_all := lw_g (lw_at lw_m4 193 rfl) rfl
theorem q999 : (Jvm.Cond.methodLink "HouseClaps$HouseReader" (151 : Nat) ({ cls := "HouseClaps$Or", name := "<init>", desc := "(LHouseClaps$Cond;LHouseClaps$Cond;)V" } : Jvm.MethodName)) ∈ lw_all := lw_g (lw_at lw_m4 195 rfl) rfl
theorem q1006 : (Jvm.Cond.stringRef "HouseClaps$HouseReader" (44 : Nat) "down") ∈ lw_tbl := lw_at lw_m4 202 rfl
theorem q1007 : (Jvm.Cond.stringRef "HouseClaps$HouseReader" (48 : Nat) "price") ∈ lw_tbl := lw_at lw_m4 203 rfl
theorem q1008 : (Jvm.Cond.methodLink "HouseClaps$HouseReader" (53 : Nat) ({ cls := "HouseClaps$HouseReader", name := "rowTold", desc := "(Z)I" } : Jvm.MethodName)) ∈ lw_all := lw_g (lw_at lw_m4 204 rfl) rfl
theorem q1009 : (Jvm.Cond.privateMethod ({ cls := "HouseClaps$HouseReader", name := "rowTold", desc := "(Z)I" } : Jvm.MethodName)) ∈ lw_tbl := lw_at lw_m4 205 rfl
theorem q1010 : (Jvm.Cond.instanceMethod ({ cls := "HouseClaps$HouseReader", name := "rowTold", desc := "(Z)I" } : Jvm.MethodName)) ∈ lw_all := lw_g (lw_at lw_m4 206 rfl) rfl
theorem q1011 : (Jvm.Cond.code ({ cls := "HouseClaps$HouseReader", name := "rowTold", desc := "(Z)I" } : Jvm.MethodName) prog_12_method_4_code (3 : Nat) (Option.some Jvm.ClassFile.FieldType.int)) ∈ lw_all := lw_g (lw_at lw_m4 207 rfl) rfl
theorem q1012 : (Jvm.Cond.methodLink "HouseClaps$HouseReader" (104 : Nat) ({ cls := "HouseClaps$HouseReader", name := "hold", desc := "(II)I" } : Jvm.MethodName)) ∈ lw_all := lw_g (lw_at lw_m4 208 rfl) rfl
theorem q1013 : (Jvm.Cond.sameMethod "HouseClaps$HouseReader" "HouseClaps$Reader" "hold" "(II)I") ∈ lw_all := lw_g (lw_at lw_m4 209 rfl) rfl
theorem q1015 : (Jvm.Cond.selects "HouseClaps$HouseReader" ({ cls := "HouseClaps$HouseReader", name := "hold", desc := "(II)I" } : Jvm.MethodName) ({ cls := "HouseClaps$Reader", name := "hold", desc := "(II)I" } : Jvm.MethodName)) ∈ lw_all := lw_g (lw_at lw_m4 211 rfl) rfl
theorem q1016 : (Jvm.Cond.methodLinkNest "HouseClaps$HouseReader" (113 : Nat) ({ cls := "HouseClaps", name := "has", desc := "(II)Z" } : Jvm.MethodName) "HouseClaps") ∈ lw_tbl := lw_at lw_m4 212 rfl
theorem q1019 : (Jvm.Cond.stringRef "HouseClaps$HouseReader" (61 : Nat) "leaves") ∈ lw_tbl := lw_at lw_m4 215 rfl
theorem q1020 : (Jvm.Cond.methodLink "HouseClaps$HouseReader" (65 : Nat) ({ cls := "HouseClaps$HouseReader", name := "once", desc := "()V" } : Jvm.MethodName)) ∈ lw_all := lw_g (lw_at lw_m4 216 rfl) rfl
theorem q1021 : (Jvm.Cond.privateMethod ({ cls := "HouseClaps$HouseReader", name := "once", desc := "()V" } : Jvm.MethodName)) ∈ lw_tbl := lw_at lw_m4 217 rfl
theorem q1022 : (Jvm.Cond.instanceMethod ({ cls := "HouseClaps$HouseReader", name := "once", desc := "()V" } : Jvm.MethodName)) ∈ lw_all := lw_g (lw_at lw_m4 218 rfl) rfl
theorem q1023 : (Jvm.Cond.code ({ cls := "HouseClaps$HouseReader", name := "once", desc := "()V" } : Jvm.MethodName) prog_12_method_6_code (2 : Nat) (Option.none : Option Jvm.ClassFile.FieldType)) ∈ lw_all := lw_g (lw_at lw_m4 219 rfl) rfl
theorem q1024 : (Jvm.Cond.stringRef "HouseClaps$HouseReader" (129 : Nat) "carry") ∈ lw_tbl := lw_at lw_m4 220 rfl
theorem q1025 : (Jvm.Cond.stringRef "HouseClaps$HouseReader" (131 : Nat) "paid") ∈ lw_tbl := lw_at lw_m4 221 rfl
theorem q1026 : (Jvm.Cond.stringRef "HouseClaps$HouseReader" (133 : Nat) "rows") ∈ lw_tbl := lw_at lw_m4 222 rfl
theorem q1027 : (Jvm.Cond.methodLink "HouseClaps$HouseReader" (68 : Nat) ({ cls := "HouseClaps$HouseReader", name := "end", desc := "()V" } : Jvm.MethodName)) ∈ lw_all := lw_g (lw_at lw_m4 223 rfl) rfl
theorem q1028 : (Jvm.Cond.sameMethod "HouseClaps$HouseReader" "HouseClaps$Reader" "end" "()V") ∈ lw_all := lw_g (lw_at lw_m4 224 rfl) rfl
theorem q1030 : (Jvm.Cond.selects "HouseClaps$HouseReader" ({ cls := "HouseClaps$HouseReader", name := "end", desc := "()V" } : Jvm.MethodName) ({ cls := "HouseClaps$Reader", name := "end", desc := "()V" } : Jvm.MethodName)) ∈ lw_all := lw_g (lw_at lw_m4 226 rfl) rfl
theorem q1034 : (Jvm.Cond.methodLink "HouseClaps$HouseReader" (74 : Nat) ({ cls := "HouseClaps$House", name := "open", desc := "()LHouseClaps$House;" } : Jvm.MethodName)) ∈ lw_all := lw_g (lw_at lw_m4 230 rfl) rfl
theorem q1208 : (Jvm.Cond.selects "HouseClaps$HouseReader" ({ cls := "java/lang/Object", name := "getClass", desc := "()Ljava/lang/Class;" } : Jvm.MethodName) ({ cls := "java/lang/Object", name := "getClass", desc := "()Ljava/lang/Class;" } : Jvm.MethodName)) ∈ lw_all := lw_g (lw_at lw_m5 164 rfl) rfl
theorem q2316 : (Jvm.Cond.selects "HouseClaps$HouseReader" ({ cls := "HouseClaps$Reader", name := "need", desc := "(ZI)V" } : Jvm.MethodName) ({ cls := "HouseClaps$Reader", name := "need", desc := "(ZI)V" } : Jvm.MethodName)) ∈ lw_all := lw_g (lw_at lw_m10 72 rfl) rfl
theorem q2319 : (Jvm.Cond.selects "HouseClaps$HouseReader" ({ cls := "HouseClaps$Reader", name := "go", desc := "()V" } : Jvm.MethodName) ({ cls := "HouseClaps$Reader", name := "go", desc := "()V" } : Jvm.MethodName)) ∈ lw_all := lw_g (lw_at lw_m10 75 rfl) rfl
theorem q2322 : (Jvm.Cond.selects "HouseClaps$HouseReader" ({ cls := "HouseClaps$Reader", name := "isSign", desc := "(I)Z" } : Jvm.MethodName) ({ cls := "HouseClaps$Reader", name := "isSign", desc := "(I)Z" } : Jvm.MethodName)) ∈ lw_all := lw_g (lw_at lw_m10 78 rfl) rfl
theorem q2334 : (Jvm.Cond.castable "HouseClaps$HouseReader" "java/lang/Object") ∈ lw_tbl := lw_at lw_m10 90 rfl
theorem in_X6 : ∀ w ∈ wsX60, w ∈ lw_all := lw_in wsX60 [466, 468, 470, 472, 474, 476, 478, 480, 482, 454, 456, 458, 460, 462, 464] (by decide +kernel) (by decide +kernel)

/-! java/lang/String -/
set_option maxRecDepth 100000
def RJ4 : String := "java/lang/String"
def TJ4 : u_T := fun k => match k with
  | 0 => ("java/lang/String", "value", "[B", true)
  | 1 => ("java/lang/String", "coder", "B", true)
  | 2 => ("java/lang/String", "hash", "I", false)
  | _ => ("java/lang/String", "hashIsZero", "Z", false)
def tyJ4 : Nat → FieldType := fun k => match k with
  | 0 => .array .byte
  | 1 => .byte
  | 2 => .int
  | _ => .boolean
abbrev wsJ40 : List Cond := u_ws RJ4 TJ4 4
theorem nmJ4 : ∀ a, a < 4 → ∀ b, b < 4 → a ≠ b → (TJ4 a).2.1 ≠ (TJ4 b).2.1 := by decide +kernel
theorem tyJ4_ok : ∀ k, k < 4 → parseFieldDescriptor (TJ4 k).2.2.1 = some (tyJ4 k) := by decide +kernel
abbrev cJ4_indexOf : ByteArray := prog_37_method_79_code
def yJ4_indexOf : MethodName := ⟨RJ4, "indexOf", "(I)I"⟩
abbrev cJ4_indexOf_2 : ByteArray := prog_37_method_80_code
def yJ4_indexOf_2 : MethodName := ⟨RJ4, "indexOf", "(II)I"⟩
abbrev cJ4_isLatin1 : ByteArray := prog_37_method_154_code
def yJ4_isLatin1 : MethodName := ⟨RJ4, "isLatin1", "()Z"⟩
abbrev cJ4_length : ByteArray := prog_37_method_54_code
def yJ4_length : MethodName := ⟨RJ4, "length", "()I"⟩
abbrev cJ4_coder : ByteArray := prog_37_method_152_code
def yJ4_coder : MethodName := ⟨RJ4, "coder", "()B"⟩
abbrev cJ4_checkBoundsBeginEnd : ByteArray := prog_37_method_158_code
def yJ4_checkBoundsBeginEnd : MethodName := ⟨RJ4, "checkBoundsBeginEnd", "(III)V"⟩
abbrev cJ4_checkBoundsOffCount : ByteArray := prog_37_method_157_code
def yJ4_checkBoundsOffCount : MethodName := ⟨RJ4, "checkBoundsOffCount", "(III)I"⟩
abbrev cJ4_checkIndex : ByteArray := prog_37_method_155_code
def yJ4_checkIndex : MethodName := ⟨RJ4, "checkIndex", "(II)V"⟩
abbrev cJ4_init : ByteArray := prog_37_method_53_code
def yJ4_init : MethodName := ⟨RJ4, "<init>", "(Ljava/lang/StringBuilder;)V"⟩
abbrev cJ4_init_2 : ByteArray := prog_37_method_150_code
def yJ4_init_2 : MethodName := ⟨RJ4, "<init>", "(Ljava/lang/AbstractStringBuilder;Ljava/lang/Void;)V"⟩
abbrev cJ4_equals : ByteArray := prog_37_method_66_code
def yJ4_equals : MethodName := ⟨RJ4, "equals", "(Ljava/lang/Object;)Z"⟩
abbrev cJ4_charAt : ByteArray := prog_37_method_56_code
def yJ4_charAt : MethodName := ⟨RJ4, "charAt", "(I)C"⟩
theorem q95 : (Jvm.Cond.initialized "java/lang/String") ∈ lw_all := lw_g (lw_at lw_m1 11 rfl) rfl
theorem q507 : (Jvm.Cond.instanceMethod ({ cls := "java/lang/String", name := "indexOf", desc := "(I)I" } : Jvm.MethodName)) ∈ lw_all := lw_g (lw_at lw_m2 183 rfl) rfl
theorem q508 : (Jvm.Cond.selects "java/lang/String" ({ cls := "java/lang/String", name := "indexOf", desc := "(I)I" } : Jvm.MethodName) ({ cls := "java/lang/String", name := "indexOf", desc := "(I)I" } : Jvm.MethodName)) ∈ lw_all := lw_g (lw_at lw_m2 184 rfl) rfl
theorem q509 : (Jvm.Cond.code ({ cls := "java/lang/String", name := "indexOf", desc := "(I)I" } : Jvm.MethodName) prog_37_method_79_code (2 : Nat) (Option.some Jvm.ClassFile.FieldType.int)) ∈ lw_all := lw_g (lw_at lw_m2 185 rfl) rfl
theorem q510 : (Jvm.Cond.methodLink "java/lang/String" (633 : Nat) ({ cls := "java/lang/String", name := "indexOf", desc := "(II)I" } : Jvm.MethodName)) ∈ lw_all := lw_g (lw_at lw_m2 186 rfl) rfl
theorem q511 : (Jvm.Cond.instanceMethod ({ cls := "java/lang/String", name := "indexOf", desc := "(II)I" } : Jvm.MethodName)) ∈ lw_all := lw_g (lw_at lw_m2 187 rfl) rfl
theorem q512 : (Jvm.Cond.selects "java/lang/String" ({ cls := "java/lang/String", name := "indexOf", desc := "(II)I" } : Jvm.MethodName) ({ cls := "java/lang/String", name := "indexOf", desc := "(II)I" } : Jvm.MethodName)) ∈ lw_all := lw_g (lw_at lw_m2 188 rfl) rfl
theorem q513 : (Jvm.Cond.code ({ cls := "java/lang/String", name := "indexOf", desc := "(II)I" } : Jvm.MethodName) prog_37_method_80_code (3 : Nat) (Option.some Jvm.ClassFile.FieldType.int)) ∈ lw_all := lw_g (lw_at lw_m2 189 rfl) rfl
theorem q514 : (Jvm.Cond.methodLink "java/lang/String" (492 : Nat) ({ cls := "java/lang/String", name := "isLatin1", desc := "()Z" } : Jvm.MethodName)) ∈ lw_all := lw_g (lw_at lw_m2 190 rfl) rfl
theorem q515 : (Jvm.Cond.instanceMethod ({ cls := "java/lang/String", name := "isLatin1", desc := "()Z" } : Jvm.MethodName)) ∈ lw_all := lw_g (lw_at lw_m2 191 rfl) rfl
theorem q516 : (Jvm.Cond.selects "java/lang/String" ({ cls := "java/lang/String", name := "isLatin1", desc := "()Z" } : Jvm.MethodName) ({ cls := "java/lang/String", name := "isLatin1", desc := "()Z" } : Jvm.MethodName)) ∈ lw_all := lw_g (lw_at lw_m2 192 rfl) rfl
theorem q517 : (Jvm.Cond.code ({ cls := "java/lang/String", name := "isLatin1", desc := "()Z" } : Jvm.MethodName) prog_37_method_154_code (1 : Nat) (Option.some Jvm.ClassFile.FieldType.boolean)) ∈ lw_all := lw_g (lw_at lw_m2 193 rfl) rfl
theorem q518 : (Jvm.Cond.fieldLink "java/lang/String" (38 : Nat) "java/lang/String" "COMPACT_STRINGS" "Z") ∈ lw_all := lw_g (lw_at lw_m2 194 rfl) rfl
theorem q519 : (Jvm.Cond.laysStatic "java/lang/String" "COMPACT_STRINGS" "Z") ∈ lw_tbl := lw_at lw_m2 195 rfl
theorem q520 : (Jvm.Cond.methodLink "java/lang/String" (505 : Nat) ({ cls := "java/lang/String", name := "length", desc := "()I" } : Jvm.MethodName)) ∈ lw_all := lw_g (lw_at lw_m2 196 rfl) rfl
theorem q521 : (Jvm.Cond.instanceMethod ({ cls := "java/lang/String", name := "length", desc := "()I" } : Jvm.MethodName)) ∈ lw_all := lw_g (lw_at lw_m2 197 rfl) rfl
theorem q522 : (Jvm.Cond.selects "java/lang/String" ({ cls := "java/lang/String", name := "length", desc := "()I" } : Jvm.MethodName) ({ cls := "java/lang/String", name := "length", desc := "()I" } : Jvm.MethodName)) ∈ lw_all := lw_g (lw_at lw_m2 198 rfl) rfl
theorem q523 : (Jvm.Cond.code ({ cls := "java/lang/String", name := "length", desc := "()I" } : Jvm.MethodName) prog_37_method_54_code (1 : Nat) (Option.some Jvm.ClassFile.FieldType.int)) ∈ lw_all := lw_g (lw_at lw_m2 199 rfl) rfl
theorem q524 : (Jvm.Cond.methodLink "java/lang/String" (335 : Nat) ({ cls := "java/lang/String", name := "coder", desc := "()B" } : Jvm.MethodName)) ∈ lw_all := lw_g (lw_at lw_m2 200 rfl) rfl
theorem q525 : (Jvm.Cond.instanceMethod ({ cls := "java/lang/String", name := "coder", desc := "()B" } : Jvm.MethodName)) ∈ lw_all := lw_g (lw_at lw_m2 201 rfl) rfl
theorem q526 : (Jvm.Cond.selects "java/lang/String" ({ cls := "java/lang/String", name := "coder", desc := "()B" } : Jvm.MethodName) ({ cls := "java/lang/String", name := "coder", desc := "()B" } : Jvm.MethodName)) ∈ lw_all := lw_g (lw_at lw_m2 202 rfl) rfl
theorem q527 : (Jvm.Cond.code ({ cls := "java/lang/String", name := "coder", desc := "()B" } : Jvm.MethodName) prog_37_method_152_code (1 : Nat) (Option.some Jvm.ClassFile.FieldType.byte)) ∈ lw_all := lw_g (lw_at lw_m2 203 rfl) rfl
theorem q528 : (Jvm.Cond.methodLink "java/lang/String" (637 : Nat) ({ cls := "java/lang/StringLatin1", name := "indexOf", desc := "([BIII)I" } : Jvm.MethodName)) ∈ lw_all := lw_g (lw_at lw_m2 204 rfl) rfl
theorem q543 : (Jvm.Cond.methodLink "java/lang/String" (640 : Nat) ({ cls := "java/lang/StringUTF16", name := "indexOf", desc := "([BIII)I" } : Jvm.MethodName)) ∈ lw_all := lw_g (lw_at lw_m2 219 rfl) rfl
theorem q559 : (Jvm.Cond.static ({ cls := "java/lang/String", name := "checkBoundsBeginEnd", desc := "(III)V" } : Jvm.MethodName)) ∈ lw_all := lw_g (lw_at lw_m2 235 rfl) rfl
theorem q560 : (Jvm.Cond.code ({ cls := "java/lang/String", name := "checkBoundsBeginEnd", desc := "(III)V" } : Jvm.MethodName) prog_37_method_158_code (3 : Nat) (Option.none : Option Jvm.ClassFile.FieldType)) ∈ lw_all := lw_g (lw_at lw_m2 236 rfl) rfl
theorem q561 : (Jvm.Cond.fieldLink "java/lang/String" (1053 : Nat) "jdk/internal/util/Preconditions" "SIOOBE_FORMATTER" "Ljava/util/function/BiFunction;") ∈ lw_all := lw_g (lw_at lw_m2 237 rfl) rfl
theorem q563 : (Jvm.Cond.methodLink "java/lang/String" (1062 : Nat) ({ cls := "jdk/internal/util/Preconditions", name := "checkFromToIndex", desc := "(IIILjava/util/function/BiFunction;)I" } : Jvm.MethodName)) ∈ lw_all := lw_g (lw_at lw_m2 239 rfl) rfl
theorem q611 : (Jvm.Cond.fieldLink "java/lang/String" (1048 : Nat) "java/lang/AbstractStringBuilder" "maybeLatin1" "Z") ∈ lw_all := lw_g (lw_at lw_m3 47 rfl) rfl
theorem q682 : (Jvm.Cond.static ({ cls := "java/lang/String", name := "checkBoundsOffCount", desc := "(III)I" } : Jvm.MethodName)) ∈ lw_all := lw_g (lw_at lw_m3 118 rfl) rfl
theorem q683 : (Jvm.Cond.code ({ cls := "java/lang/String", name := "checkBoundsOffCount", desc := "(III)I" } : Jvm.MethodName) prog_37_method_157_code (3 : Nat) (Option.some Jvm.ClassFile.FieldType.int)) ∈ lw_all := lw_g (lw_at lw_m3 119 rfl) rfl
theorem q684 : (Jvm.Cond.methodLink "java/lang/String" (1065 : Nat) ({ cls := "jdk/internal/util/Preconditions", name := "checkFromIndexSize", desc := "(IIILjava/util/function/BiFunction;)I" } : Jvm.MethodName)) ∈ lw_all := lw_g (lw_at lw_m3 120 rfl) rfl
theorem q697 : (Jvm.Cond.static ({ cls := "java/lang/String", name := "checkIndex", desc := "(II)V" } : Jvm.MethodName)) ∈ lw_all := lw_g (lw_at lw_m3 133 rfl) rfl
theorem q698 : (Jvm.Cond.code ({ cls := "java/lang/String", name := "checkIndex", desc := "(II)V" } : Jvm.MethodName) prog_37_method_155_code (2 : Nat) (Option.none : Option Jvm.ClassFile.FieldType)) ∈ lw_all := lw_g (lw_at lw_m3 134 rfl) rfl
theorem q699 : (Jvm.Cond.methodLink "java/lang/String" (1059 : Nat) ({ cls := "jdk/internal/util/Preconditions", name := "checkIndex", desc := "(IILjava/util/function/BiFunction;)I" } : Jvm.MethodName)) ∈ lw_all := lw_g (lw_at lw_m3 135 rfl) rfl
theorem q707 : (Jvm.Cond.instantiable "java/lang/String" (4 : Nat)) ∈ lw_all := lw_g (lw_at lw_m3 143 rfl) rfl
theorem q709 : (Jvm.Cond.instanceMethod ({ cls := "java/lang/String", name := "<init>", desc := "(Ljava/lang/StringBuilder;)V" } : Jvm.MethodName)) ∈ lw_all := lw_g (lw_at lw_m3 145 rfl) rfl
theorem q710 : (Jvm.Cond.code ({ cls := "java/lang/String", name := "<init>", desc := "(Ljava/lang/StringBuilder;)V" } : Jvm.MethodName) prog_37_method_53_code (2 : Nat) (Option.none : Option Jvm.ClassFile.FieldType)) ∈ lw_all := lw_g (lw_at lw_m3 146 rfl) rfl
theorem q711 : (Jvm.Cond.methodLink "java/lang/String" (489 : Nat) ({ cls := "java/lang/String", name := "<init>", desc := "(Ljava/lang/AbstractStringBuilder;Ljava/lang/Void;)V" } : Jvm.MethodName)) ∈ lw_all := lw_g (lw_at lw_m3 147 rfl) rfl
theorem q712 : (Jvm.Cond.instanceMethod ({ cls := "java/lang/String", name := "<init>", desc := "(Ljava/lang/AbstractStringBuilder;Ljava/lang/Void;)V" } : Jvm.MethodName)) ∈ lw_all := lw_g (lw_at lw_m3 148 rfl) rfl
theorem q713 : (Jvm.Cond.code ({ cls := "java/lang/String", name := "<init>", desc := "(Ljava/lang/AbstractStringBuilder;Ljava/lang/Void;)V" } : Jvm.MethodName) prog_37_method_150_code (5 : Nat) (Option.none : Option Jvm.ClassFile.FieldType)) ∈ lw_all := lw_g (lw_at lw_m3 149 rfl) rfl
theorem q714 : (Jvm.Cond.methodLink "java/lang/String" (1 : Nat) ({ cls := "java/lang/Object", name := "<init>", desc := "()V" } : Jvm.MethodName)) ∈ lw_all := lw_g (lw_at lw_m3 150 rfl) rfl
theorem q715 : (Jvm.Cond.methodLink "java/lang/String" (552 : Nat) ({ cls := "java/lang/AbstractStringBuilder", name := "getValue", desc := "()[B" } : Jvm.MethodName)) ∈ lw_all := lw_g (lw_at lw_m3 151 rfl) rfl
theorem q720 : (Jvm.Cond.methodLink "java/lang/String" (549 : Nat) ({ cls := "java/lang/AbstractStringBuilder", name := "length", desc := "()I" } : Jvm.MethodName)) ∈ lw_all := lw_g (lw_at lw_m3 156 rfl) rfl
theorem q728 : (Jvm.Cond.methodLink "java/lang/String" (1047 : Nat) ({ cls := "java/lang/AbstractStringBuilder", name := "isLatin1", desc := "()Z" } : Jvm.MethodName)) ∈ lw_all := lw_g (lw_at lw_m3 164 rfl) rfl
theorem q729 : (Jvm.Cond.methodLink "java/lang/String" (54 : Nat) ({ cls := "java/util/Arrays", name := "copyOfRange", desc := "([BII)[B" } : Jvm.MethodName)) ∈ lw_all := lw_g (lw_at lw_m3 165 rfl) rfl
theorem q738 : (Jvm.Cond.methodLink "java/lang/String" (1051 : Nat) ({ cls := "java/lang/StringUTF16", name := "compress", desc := "([BII)[B" } : Jvm.MethodName)) ∈ lw_all := lw_g (lw_at lw_m3 174 rfl) rfl
theorem q745 : (Jvm.Cond.methodLink "java/lang/String" (47 : Nat) ({ cls := "java/lang/StringUTF16", name := "coderFromArrayLen", desc := "([BI)B" } : Jvm.MethodName)) ∈ lw_all := lw_g (lw_at lw_m3 181 rfl) rfl
theorem q748 : (Jvm.Cond.fieldLink "java/lang/String" (9 : Nat) "java/lang/String" "value" "[B") ∈ lw_all := lw_g (lw_at lw_m3 184 rfl) rfl
theorem q749 : (Jvm.Cond.fieldLink "java/lang/String" (15 : Nat) "java/lang/String" "coder" "B") ∈ lw_all := lw_g (lw_at lw_m3 185 rfl) rfl
theorem q750 : (Jvm.Cond.laysFinal "java/lang/String" "java/lang/String" "value" "[B") ∈ lw_all := lw_g (lw_at lw_m3 186 rfl) rfl
theorem q751 : (Jvm.Cond.soleField "java/lang/String" "value") ∈ lw_all := lw_g (lw_at lw_m3 187 rfl) rfl
theorem q752 : (Jvm.Cond.laysFinal "java/lang/String" "java/lang/String" "coder" "B") ∈ lw_all := lw_g (lw_at lw_m3 188 rfl) rfl
theorem q753 : (Jvm.Cond.soleField "java/lang/String" "coder") ∈ lw_all := lw_g (lw_at lw_m3 189 rfl) rfl
theorem q754 : (Jvm.Cond.lays "java/lang/String" "java/lang/String" "hash" "I") ∈ lw_all := lw_g (lw_at lw_m3 190 rfl) rfl
theorem q755 : (Jvm.Cond.soleField "java/lang/String" "hash") ∈ lw_all := lw_g (lw_at lw_m3 191 rfl) rfl
theorem q756 : (Jvm.Cond.lays "java/lang/String" "java/lang/String" "hashIsZero" "Z") ∈ lw_all := lw_g (lw_at lw_m3 192 rfl) rfl
theorem q757 : (Jvm.Cond.soleField "java/lang/String" "hashIsZero") ∈ lw_all := lw_g (lw_at lw_m3 193 rfl) rfl
theorem q758 : (Jvm.Cond.superclass "java/lang/String" "java/lang/Object") ∈ lw_all := lw_g (lw_at lw_m3 194 rfl) rfl
theorem q767 : (Jvm.Cond.instanceMethod ({ cls := "java/lang/String", name := "equals", desc := "(Ljava/lang/Object;)Z" } : Jvm.MethodName)) ∈ lw_all := lw_g (lw_at lw_m3 203 rfl) rfl
theorem q768 : (Jvm.Cond.selects "java/lang/String" ({ cls := "java/lang/String", name := "equals", desc := "(Ljava/lang/Object;)Z" } : Jvm.MethodName) ({ cls := "java/lang/String", name := "equals", desc := "(Ljava/lang/Object;)Z" } : Jvm.MethodName)) ∈ lw_all := lw_g (lw_at lw_m3 204 rfl) rfl
theorem q769 : (Jvm.Cond.code ({ cls := "java/lang/String", name := "equals", desc := "(Ljava/lang/Object;)Z" } : Jvm.MethodName) prog_37_method_66_code (3 : Nat) (Option.some Jvm.ClassFile.FieldType.boolean)) ∈ lw_all := lw_g (lw_at lw_m3 205 rfl) rfl
theorem q770 : (Jvm.Cond.classLink "java/lang/String" (10 : Nat) "java/lang/String") ∈ lw_all := lw_g (lw_at lw_m3 206 rfl) rfl
theorem q771 : (Jvm.Cond.methodLink "java/lang/String" (541 : Nat) ({ cls := "java/lang/StringLatin1", name := "equals", desc := "([B[B)Z" } : Jvm.MethodName)) ∈ lw_all := lw_g (lw_at lw_m3 207 rfl) rfl
theorem q851 : (Jvm.Cond.instanceMethod ({ cls := "java/lang/String", name := "charAt", desc := "(I)C" } : Jvm.MethodName)) ∈ lw_all := lw_g (lw_at lw_m4 47 rfl) rfl
theorem q852 : (Jvm.Cond.selects "java/lang/String" ({ cls := "java/lang/String", name := "charAt", desc := "(I)C" } : Jvm.MethodName) ({ cls := "java/lang/String", name := "charAt", desc := "(I)C" } : Jvm.MethodName)) ∈ lw_all := lw_g (lw_at lw_m4 48 rfl) rfl
theorem q853 : (Jvm.Cond.code ({ cls := "java/lang/String", name := "charAt", desc := "(I)C" } : Jvm.MethodName) prog_37_method_56_code (2 : Nat) (Option.some Jvm.ClassFile.FieldType.char)) ∈ lw_all := lw_g (lw_at lw_m4 49 rfl) rfl
theorem q854 : (Jvm.Cond.methodLink "java/lang/String" (495 : Nat) ({ cls := "java/lang/StringLatin1", name := "charAt", desc := "([BI)C" } : Jvm.MethodName)) ∈ lw_all := lw_g (lw_at lw_m4 50 rfl) rfl
theorem q858 : (Jvm.Cond.methodLink "java/lang/String" (498 : Nat) ({ cls := "java/lang/StringUTF16", name := "charAt", desc := "([BI)C" } : Jvm.MethodName)) ∈ lw_all := lw_g (lw_at lw_m4 54 rfl) rfl
theorem q1217 : (Jvm.Cond.selects "java/lang/String" ({ cls := "java/lang/Object", name := "getClass", desc := "()Ljava/lang/Class;" } : Jvm.MethodName) ({ cls := "java/lang/Object", name := "getClass", desc := "()Ljava/lang/Class;" } : Jvm.MethodName)) ∈ lw_all := lw_g (lw_at lw_m5 173 rfl) rfl
theorem q2336 : (Jvm.Cond.castable "java/lang/String" "java/lang/Object") ∈ lw_tbl := lw_at lw_m10 92 rfl
theorem in_J4 : ∀ w ∈ wsJ40, w ∈ lw_all := lw_in wsJ40 [750, 752, 754, 756] (by decide +kernel) (by decide +kernel)

/-! java/lang/StringLatin1 -/
set_option maxRecDepth 100000
def RJ5 : String := "java/lang/StringLatin1"
abbrev cJ5_indexOf : ByteArray := prog_39_method_22_code
def yJ5_indexOf : MethodName := ⟨RJ5, "indexOf", "([BIII)I"⟩
abbrev cJ5_canEncode : ByteArray := prog_39_method_4_code
def yJ5_canEncode : MethodName := ⟨RJ5, "canEncode", "(I)Z"⟩
abbrev cJ5_indexOfChar : ByteArray := prog_39_method_23_code
def yJ5_indexOfChar : MethodName := ⟨RJ5, "indexOfChar", "([BIII)I"⟩
abbrev cJ5_canEncode_2 : ByteArray := prog_39_method_3_code
def yJ5_canEncode_2 : MethodName := ⟨RJ5, "canEncode", "(C)Z"⟩
abbrev cJ5_inflate : ByteArray := prog_39_method_50_code
def yJ5_inflate : MethodName := ⟨RJ5, "inflate", "([BI[BII)V"⟩
abbrev cJ5_equals : ByteArray := prog_39_method_13_code
def yJ5_equals : MethodName := ⟨RJ5, "equals", "([B[B)Z"⟩
abbrev cJ5_charAt : ByteArray := prog_39_method_2_code
def yJ5_charAt : MethodName := ⟨RJ5, "charAt", "([BI)C"⟩
theorem q96 : (Jvm.Cond.initialized "java/lang/StringLatin1") ∈ lw_all := lw_g (lw_at lw_m1 12 rfl) rfl
theorem q529 : (Jvm.Cond.static ({ cls := "java/lang/StringLatin1", name := "indexOf", desc := "([BIII)I" } : Jvm.MethodName)) ∈ lw_all := lw_g (lw_at lw_m2 205 rfl) rfl
theorem q530 : (Jvm.Cond.code ({ cls := "java/lang/StringLatin1", name := "indexOf", desc := "([BIII)I" } : Jvm.MethodName) prog_39_method_22_code (4 : Nat) (Option.some Jvm.ClassFile.FieldType.int)) ∈ lw_all := lw_g (lw_at lw_m2 206 rfl) rfl
theorem q531 : (Jvm.Cond.methodLink "java/lang/StringLatin1" (88 : Nat) ({ cls := "java/lang/StringLatin1", name := "canEncode", desc := "(I)Z" } : Jvm.MethodName)) ∈ lw_all := lw_g (lw_at lw_m2 207 rfl) rfl
theorem q532 : (Jvm.Cond.static ({ cls := "java/lang/StringLatin1", name := "canEncode", desc := "(I)Z" } : Jvm.MethodName)) ∈ lw_all := lw_g (lw_at lw_m2 208 rfl) rfl
theorem q533 : (Jvm.Cond.code ({ cls := "java/lang/StringLatin1", name := "canEncode", desc := "(I)Z" } : Jvm.MethodName) prog_39_method_4_code (1 : Nat) (Option.some Jvm.ClassFile.FieldType.boolean)) ∈ lw_all := lw_g (lw_at lw_m2 209 rfl) rfl
theorem q534 : (Jvm.Cond.methodLink "java/lang/StringLatin1" (92 : Nat) ({ cls := "java/lang/Math", name := "max", desc := "(II)I" } : Jvm.MethodName)) ∈ lw_all := lw_g (lw_at lw_m2 210 rfl) rfl
theorem q537 : (Jvm.Cond.methodLink "java/lang/StringLatin1" (38 : Nat) ({ cls := "java/lang/Math", name := "min", desc := "(II)I" } : Jvm.MethodName)) ∈ lw_all := lw_g (lw_at lw_m2 213 rfl) rfl
theorem q540 : (Jvm.Cond.methodLink "java/lang/StringLatin1" (95 : Nat) ({ cls := "java/lang/StringLatin1", name := "indexOfChar", desc := "([BIII)I" } : Jvm.MethodName)) ∈ lw_all := lw_g (lw_at lw_m2 216 rfl) rfl
theorem q541 : (Jvm.Cond.static ({ cls := "java/lang/StringLatin1", name := "indexOfChar", desc := "([BIII)I" } : Jvm.MethodName)) ∈ lw_all := lw_g (lw_at lw_m2 217 rfl) rfl
theorem q542 : (Jvm.Cond.code ({ cls := "java/lang/StringLatin1", name := "indexOfChar", desc := "([BIII)I" } : Jvm.MethodName) prog_39_method_23_code (6 : Nat) (Option.some Jvm.ClassFile.FieldType.int)) ∈ lw_all := lw_g (lw_at lw_m2 218 rfl) rfl
theorem q666 : (Jvm.Cond.static ({ cls := "java/lang/StringLatin1", name := "canEncode", desc := "(C)Z" } : Jvm.MethodName)) ∈ lw_all := lw_g (lw_at lw_m3 102 rfl) rfl
theorem q667 : (Jvm.Cond.code ({ cls := "java/lang/StringLatin1", name := "canEncode", desc := "(C)Z" } : Jvm.MethodName) prog_39_method_3_code (1 : Nat) (Option.some Jvm.ClassFile.FieldType.boolean)) ∈ lw_all := lw_g (lw_at lw_m3 103 rfl) rfl
theorem q673 : (Jvm.Cond.static ({ cls := "java/lang/StringLatin1", name := "inflate", desc := "([BI[BII)V" } : Jvm.MethodName)) ∈ lw_all := lw_g (lw_at lw_m3 109 rfl) rfl
theorem q674 : (Jvm.Cond.code ({ cls := "java/lang/StringLatin1", name := "inflate", desc := "([BI[BII)V" } : Jvm.MethodName) prog_39_method_50_code (5 : Nat) (Option.none : Option Jvm.ClassFile.FieldType)) ∈ lw_all := lw_g (lw_at lw_m3 110 rfl) rfl
theorem q675 : (Jvm.Cond.methodLink "java/lang/StringLatin1" (240 : Nat) ({ cls := "java/lang/StringUTF16", name := "inflate", desc := "([BI[BII)V" } : Jvm.MethodName)) ∈ lw_all := lw_g (lw_at lw_m3 111 rfl) rfl
theorem q772 : (Jvm.Cond.static ({ cls := "java/lang/StringLatin1", name := "equals", desc := "([B[B)Z" } : Jvm.MethodName)) ∈ lw_all := lw_g (lw_at lw_m3 208 rfl) rfl
theorem q773 : (Jvm.Cond.code ({ cls := "java/lang/StringLatin1", name := "equals", desc := "([B[B)Z" } : Jvm.MethodName) prog_39_method_13_code (3 : Nat) (Option.some Jvm.ClassFile.FieldType.boolean)) ∈ lw_all := lw_g (lw_at lw_m3 209 rfl) rfl
theorem q855 : (Jvm.Cond.static ({ cls := "java/lang/StringLatin1", name := "charAt", desc := "([BI)C" } : Jvm.MethodName)) ∈ lw_all := lw_g (lw_at lw_m4 51 rfl) rfl
theorem q856 : (Jvm.Cond.code ({ cls := "java/lang/StringLatin1", name := "charAt", desc := "([BI)C" } : Jvm.MethodName) prog_39_method_2_code (2 : Nat) (Option.some Jvm.ClassFile.FieldType.char)) ∈ lw_all := lw_g (lw_at lw_m4 52 rfl) rfl
theorem q857 : (Jvm.Cond.methodLink "java/lang/StringLatin1" (9 : Nat) ({ cls := "java/lang/String", name := "checkIndex", desc := "(II)V" } : Jvm.MethodName)) ∈ lw_all := lw_g (lw_at lw_m4 53 rfl) rfl

/-! java/lang/Math -/
set_option maxRecDepth 100000
def RJ6 : String := "java/lang/Math"
abbrev cJ6_max : ByteArray := prog_35_method_65_code
def yJ6_max : MethodName := ⟨RJ6, "max", "(II)I"⟩
abbrev cJ6_min : ByteArray := prog_35_method_69_code
def yJ6_min : MethodName := ⟨RJ6, "min", "(II)I"⟩
abbrev cJ6_abs : ByteArray := prog_35_method_61_code
def yJ6_abs : MethodName := ⟨RJ6, "abs", "(J)J"⟩
theorem q97 : (Jvm.Cond.initialized "java/lang/Math") ∈ lw_all := lw_g (lw_at lw_m1 13 rfl) rfl
theorem q535 : (Jvm.Cond.static ({ cls := "java/lang/Math", name := "max", desc := "(II)I" } : Jvm.MethodName)) ∈ lw_all := lw_g (lw_at lw_m2 211 rfl) rfl
theorem q536 : (Jvm.Cond.code ({ cls := "java/lang/Math", name := "max", desc := "(II)I" } : Jvm.MethodName) prog_35_method_65_code (2 : Nat) (Option.some Jvm.ClassFile.FieldType.int)) ∈ lw_all := lw_g (lw_at lw_m2 212 rfl) rfl
theorem q538 : (Jvm.Cond.static ({ cls := "java/lang/Math", name := "min", desc := "(II)I" } : Jvm.MethodName)) ∈ lw_all := lw_g (lw_at lw_m2 214 rfl) rfl
theorem q539 : (Jvm.Cond.code ({ cls := "java/lang/Math", name := "min", desc := "(II)I" } : Jvm.MethodName) prog_35_method_69_code (2 : Nat) (Option.some Jvm.ClassFile.FieldType.int)) ∈ lw_all := lw_g (lw_at lw_m2 215 rfl) rfl
theorem q1670 : (Jvm.Cond.static ({ cls := "java/lang/Math", name := "abs", desc := "(J)J" } : Jvm.MethodName)) ∈ lw_all := lw_g (lw_at lw_m7 146 rfl) rfl
theorem q1671 : (Jvm.Cond.code ({ cls := "java/lang/Math", name := "abs", desc := "(J)J" } : Jvm.MethodName) prog_35_method_61_code (2 : Nat) (Option.some Jvm.ClassFile.FieldType.long)) ∈ lw_all := lw_g (lw_at lw_m7 147 rfl) rfl

/-! java/lang/StringUTF16 -/
set_option maxRecDepth 100000
def RJ7 : String := "java/lang/StringUTF16"
abbrev cJ7_indexOf : ByteArray := prog_40_method_40_code
def yJ7_indexOf : MethodName := ⟨RJ7, "indexOf", "([BIII)I"⟩
abbrev cJ7_indexOfChar : ByteArray := prog_40_method_47_code
def yJ7_indexOfChar : MethodName := ⟨RJ7, "indexOfChar", "([BIII)I"⟩
abbrev cJ7_checkBoundsBeginEnd : ByteArray := prog_40_method_93_code
def yJ7_checkBoundsBeginEnd : MethodName := ⟨RJ7, "checkBoundsBeginEnd", "(II[B)V"⟩
abbrev cJ7_length : ByteArray := prog_40_method_6_code
def yJ7_length : MethodName := ⟨RJ7, "length", "([B)I"⟩
abbrev cJ7_indexOfCharUnsafe : ByteArray := prog_40_method_48_code
def yJ7_indexOfCharUnsafe : MethodName := ⟨RJ7, "indexOfCharUnsafe", "([BIII)I"⟩
abbrev cJ7_getChar : ByteArray := prog_40_method_5_code
def yJ7_getChar : MethodName := ⟨RJ7, "getChar", "([BI)C"⟩
abbrev cJ7_indexOfSupplementary : ByteArray := prog_40_method_49_code
def yJ7_indexOfSupplementary : MethodName := ⟨RJ7, "indexOfSupplementary", "([BIII)I"⟩
abbrev cJ7_newBytesFor : ByteArray := prog_40_method_2_code
def yJ7_newBytesFor : MethodName := ⟨RJ7, "newBytesFor", "(I)[B"⟩
abbrev cJ7_newBytesLength : ByteArray := prog_40_method_3_code
def yJ7_newBytesLength : MethodName := ⟨RJ7, "newBytesLength", "(I)I"⟩
abbrev cJ7_inflate : ByteArray := prog_40_method_86_code
def yJ7_inflate : MethodName := ⟨RJ7, "inflate", "([BI[BII)V"⟩
abbrev cJ7_checkBoundsOffCount : ByteArray := prog_40_method_94_code
def yJ7_checkBoundsOffCount : MethodName := ⟨RJ7, "checkBoundsOffCount", "(II[B)V"⟩
abbrev cJ7_putChar : ByteArray := prog_40_method_4_code
def yJ7_putChar : MethodName := ⟨RJ7, "putChar", "([BII)V"⟩
abbrev cJ7_putCharSB : ByteArray := prog_40_method_71_code
def yJ7_putCharSB : MethodName := ⟨RJ7, "putCharSB", "([BII)V"⟩
abbrev cJ7_checkIndex : ByteArray := prog_40_method_91_code
def yJ7_checkIndex : MethodName := ⟨RJ7, "checkIndex", "(I[B)V"⟩
abbrev cJ7_compress : ByteArray := prog_40_method_17_code
def yJ7_compress : MethodName := ⟨RJ7, "compress", "([BII)[B"⟩
abbrev cJ7_compress_2 : ByteArray := prog_40_method_22_code
def yJ7_compress_2 : MethodName := ⟨RJ7, "compress", "([BI[BII)I"⟩
abbrev cJ7_coderFromArrayLen : ByteArray := prog_40_method_15_code
def yJ7_coderFromArrayLen : MethodName := ⟨RJ7, "coderFromArrayLen", "([BI)B"⟩
abbrev cJ7_charAt : ByteArray := prog_40_method_83_code
def yJ7_charAt : MethodName := ⟨RJ7, "charAt", "([BI)C"⟩
theorem q98 : (Jvm.Cond.initialized "java/lang/StringUTF16") ∈ lw_all := lw_g (lw_at lw_m1 14 rfl) rfl
theorem q544 : (Jvm.Cond.static ({ cls := "java/lang/StringUTF16", name := "indexOf", desc := "([BIII)I" } : Jvm.MethodName)) ∈ lw_all := lw_g (lw_at lw_m2 220 rfl) rfl
theorem q545 : (Jvm.Cond.code ({ cls := "java/lang/StringUTF16", name := "indexOf", desc := "([BIII)I" } : Jvm.MethodName) prog_40_method_40_code (4 : Nat) (Option.some Jvm.ClassFile.FieldType.int)) ∈ lw_all := lw_g (lw_at lw_m2 221 rfl) rfl
theorem q546 : (Jvm.Cond.methodLink "java/lang/StringUTF16" (224 : Nat) ({ cls := "java/lang/Math", name := "max", desc := "(II)I" } : Jvm.MethodName)) ∈ lw_all := lw_g (lw_at lw_m2 222 rfl) rfl
theorem q547 : (Jvm.Cond.methodLink "java/lang/StringUTF16" (183 : Nat) ({ cls := "java/lang/Math", name := "min", desc := "(II)I" } : Jvm.MethodName)) ∈ lw_all := lw_g (lw_at lw_m2 223 rfl) rfl
theorem q548 : (Jvm.Cond.constant "java/lang/StringUTF16" (227 : Nat) (65536 : Int32)) ∈ lw_all := lw_g (lw_at lw_m2 224 rfl) rfl
theorem q549 : (Jvm.Cond.methodLink "java/lang/StringUTF16" (228 : Nat) ({ cls := "java/lang/StringUTF16", name := "indexOfChar", desc := "([BIII)I" } : Jvm.MethodName)) ∈ lw_all := lw_g (lw_at lw_m2 225 rfl) rfl
theorem q550 : (Jvm.Cond.static ({ cls := "java/lang/StringUTF16", name := "indexOfChar", desc := "([BIII)I" } : Jvm.MethodName)) ∈ lw_all := lw_g (lw_at lw_m2 226 rfl) rfl
theorem q551 : (Jvm.Cond.code ({ cls := "java/lang/StringUTF16", name := "indexOfChar", desc := "([BIII)I" } : Jvm.MethodName) prog_40_method_47_code (4 : Nat) (Option.some Jvm.ClassFile.FieldType.int)) ∈ lw_all := lw_g (lw_at lw_m2 227 rfl) rfl
theorem q552 : (Jvm.Cond.methodLink "java/lang/StringUTF16" (96 : Nat) ({ cls := "java/lang/StringUTF16", name := "checkBoundsBeginEnd", desc := "(II[B)V" } : Jvm.MethodName)) ∈ lw_all := lw_g (lw_at lw_m2 228 rfl) rfl
theorem q553 : (Jvm.Cond.static ({ cls := "java/lang/StringUTF16", name := "checkBoundsBeginEnd", desc := "(II[B)V" } : Jvm.MethodName)) ∈ lw_all := lw_g (lw_at lw_m2 229 rfl) rfl
theorem q554 : (Jvm.Cond.code ({ cls := "java/lang/StringUTF16", name := "checkBoundsBeginEnd", desc := "(II[B)V" } : Jvm.MethodName) prog_40_method_93_code (3 : Nat) (Option.none : Option Jvm.ClassFile.FieldType)) ∈ lw_all := lw_g (lw_at lw_m2 230 rfl) rfl
theorem q555 : (Jvm.Cond.methodLink "java/lang/StringUTF16" (48 : Nat) ({ cls := "java/lang/StringUTF16", name := "length", desc := "([B)I" } : Jvm.MethodName)) ∈ lw_all := lw_g (lw_at lw_m2 231 rfl) rfl
theorem q556 : (Jvm.Cond.static ({ cls := "java/lang/StringUTF16", name := "length", desc := "([B)I" } : Jvm.MethodName)) ∈ lw_all := lw_g (lw_at lw_m2 232 rfl) rfl
theorem q557 : (Jvm.Cond.code ({ cls := "java/lang/StringUTF16", name := "length", desc := "([B)I" } : Jvm.MethodName) prog_40_method_6_code (1 : Nat) (Option.some Jvm.ClassFile.FieldType.int)) ∈ lw_all := lw_g (lw_at lw_m2 233 rfl) rfl
theorem q558 : (Jvm.Cond.methodLink "java/lang/StringUTF16" (241 : Nat) ({ cls := "java/lang/String", name := "checkBoundsBeginEnd", desc := "(III)V" } : Jvm.MethodName)) ∈ lw_all := lw_g (lw_at lw_m2 234 rfl) rfl
theorem q566 : (Jvm.Cond.methodLink "java/lang/StringUTF16" (244 : Nat) ({ cls := "java/lang/StringUTF16", name := "indexOfCharUnsafe", desc := "([BIII)I" } : Jvm.MethodName)) ∈ lw_all := lw_g (lw_at lw_m3 2 rfl) rfl
theorem q567 : (Jvm.Cond.static ({ cls := "java/lang/StringUTF16", name := "indexOfCharUnsafe", desc := "([BIII)I" } : Jvm.MethodName)) ∈ lw_all := lw_g (lw_at lw_m3 3 rfl) rfl
theorem q568 : (Jvm.Cond.code ({ cls := "java/lang/StringUTF16", name := "indexOfCharUnsafe", desc := "([BIII)I" } : Jvm.MethodName) prog_40_method_48_code (5 : Nat) (Option.some Jvm.ClassFile.FieldType.int)) ∈ lw_all := lw_g (lw_at lw_m3 4 rfl) rfl
theorem q569 : (Jvm.Cond.methodLink "java/lang/StringUTF16" (71 : Nat) ({ cls := "java/lang/StringUTF16", name := "getChar", desc := "([BI)C" } : Jvm.MethodName)) ∈ lw_all := lw_g (lw_at lw_m3 5 rfl) rfl
theorem q570 : (Jvm.Cond.static ({ cls := "java/lang/StringUTF16", name := "getChar", desc := "([BI)C" } : Jvm.MethodName)) ∈ lw_all := lw_g (lw_at lw_m3 6 rfl) rfl
theorem q571 : (Jvm.Cond.code ({ cls := "java/lang/StringUTF16", name := "getChar", desc := "([BI)C" } : Jvm.MethodName) prog_40_method_5_code (2 : Nat) (Option.some Jvm.ClassFile.FieldType.char)) ∈ lw_all := lw_g (lw_at lw_m3 7 rfl) rfl
theorem q572 : (Jvm.Cond.fieldLink "java/lang/StringUTF16" (44 : Nat) "java/lang/StringUTF16" "$assertionsDisabled" "Z") ∈ lw_all := lw_g (lw_at lw_m3 8 rfl) rfl
theorem q573 : (Jvm.Cond.laysStatic "java/lang/StringUTF16" "$assertionsDisabled" "Z") ∈ lw_tbl := lw_at lw_m3 9 rfl
theorem q574 : (Jvm.Cond.fieldLink "java/lang/StringUTF16" (59 : Nat) "java/lang/StringUTF16" "HI_BYTE_SHIFT" "I") ∈ lw_all := lw_g (lw_at lw_m3 10 rfl) rfl
theorem q575 : (Jvm.Cond.laysStatic "java/lang/StringUTF16" "HI_BYTE_SHIFT" "I") ∈ lw_tbl := lw_at lw_m3 11 rfl
theorem q576 : (Jvm.Cond.fieldLink "java/lang/StringUTF16" (63 : Nat) "java/lang/StringUTF16" "LO_BYTE_SHIFT" "I") ∈ lw_all := lw_g (lw_at lw_m3 12 rfl) rfl
theorem q577 : (Jvm.Cond.laysStatic "java/lang/StringUTF16" "LO_BYTE_SHIFT" "I") ∈ lw_tbl := lw_at lw_m3 13 rfl
theorem q578 : (Jvm.Cond.methodLink "java/lang/StringUTF16" (232 : Nat) ({ cls := "java/lang/StringUTF16", name := "indexOfSupplementary", desc := "([BIII)I" } : Jvm.MethodName)) ∈ lw_all := lw_g (lw_at lw_m3 14 rfl) rfl
theorem q579 : (Jvm.Cond.static ({ cls := "java/lang/StringUTF16", name := "indexOfSupplementary", desc := "([BIII)I" } : Jvm.MethodName)) ∈ lw_all := lw_g (lw_at lw_m3 15 rfl) rfl
theorem q580 : (Jvm.Cond.code ({ cls := "java/lang/StringUTF16", name := "indexOfSupplementary", desc := "([BIII)I" } : Jvm.MethodName) prog_40_method_49_code (7 : Nat) (Option.some Jvm.ClassFile.FieldType.int)) ∈ lw_all := lw_g (lw_at lw_m3 16 rfl) rfl
theorem q581 : (Jvm.Cond.methodLink "java/lang/StringUTF16" (164 : Nat) ({ cls := "java/lang/Character", name := "isValidCodePoint", desc := "(I)Z" } : Jvm.MethodName)) ∈ lw_all := lw_g (lw_at lw_m3 17 rfl) rfl
theorem q584 : (Jvm.Cond.methodLink "java/lang/StringUTF16" (157 : Nat) ({ cls := "java/lang/Character", name := "highSurrogate", desc := "(I)C" } : Jvm.MethodName)) ∈ lw_all := lw_g (lw_at lw_m3 20 rfl) rfl
theorem q588 : (Jvm.Cond.methodLink "java/lang/StringUTF16" (161 : Nat) ({ cls := "java/lang/Character", name := "lowSurrogate", desc := "(I)C" } : Jvm.MethodName)) ∈ lw_all := lw_g (lw_at lw_m3 24 rfl) rfl
theorem q603 : (Jvm.Cond.static ({ cls := "java/lang/StringUTF16", name := "newBytesFor", desc := "(I)[B" } : Jvm.MethodName)) ∈ lw_all := lw_g (lw_at lw_m3 39 rfl) rfl
theorem q604 : (Jvm.Cond.code ({ cls := "java/lang/StringUTF16", name := "newBytesFor", desc := "(I)[B" } : Jvm.MethodName) prog_40_method_2_code (1 : Nat) (Option.some (Jvm.ClassFile.FieldType.array Jvm.ClassFile.FieldType.byte))) ∈ lw_all := lw_g (lw_at lw_m3 40 rfl) rfl
theorem q605 : (Jvm.Cond.methodLink "java/lang/StringUTF16" (11 : Nat) ({ cls := "java/lang/StringUTF16", name := "newBytesLength", desc := "(I)I" } : Jvm.MethodName)) ∈ lw_all := lw_g (lw_at lw_m3 41 rfl) rfl
theorem q606 : (Jvm.Cond.static ({ cls := "java/lang/StringUTF16", name := "newBytesLength", desc := "(I)I" } : Jvm.MethodName)) ∈ lw_all := lw_g (lw_at lw_m3 42 rfl) rfl
theorem q607 : (Jvm.Cond.code ({ cls := "java/lang/StringUTF16", name := "newBytesLength", desc := "(I)I" } : Jvm.MethodName) prog_40_method_3_code (1 : Nat) (Option.some Jvm.ClassFile.FieldType.int)) ∈ lw_all := lw_g (lw_at lw_m3 43 rfl) rfl
theorem q608 : (Jvm.Cond.constant "java/lang/StringUTF16" (20 : Nat) (1073741823 : Int32)) ∈ lw_all := lw_g (lw_at lw_m3 44 rfl) rfl
theorem q676 : (Jvm.Cond.static ({ cls := "java/lang/StringUTF16", name := "inflate", desc := "([BI[BII)V" } : Jvm.MethodName)) ∈ lw_all := lw_g (lw_at lw_m3 112 rfl) rfl
theorem q677 : (Jvm.Cond.code ({ cls := "java/lang/StringUTF16", name := "inflate", desc := "([BI[BII)V" } : Jvm.MethodName) prog_40_method_86_code (6 : Nat) (Option.none : Option Jvm.ClassFile.FieldType)) ∈ lw_all := lw_g (lw_at lw_m3 113 rfl) rfl
theorem q678 : (Jvm.Cond.methodLink "java/lang/StringUTF16" (173 : Nat) ({ cls := "java/lang/StringUTF16", name := "checkBoundsOffCount", desc := "(II[B)V" } : Jvm.MethodName)) ∈ lw_all := lw_g (lw_at lw_m3 114 rfl) rfl
theorem q679 : (Jvm.Cond.static ({ cls := "java/lang/StringUTF16", name := "checkBoundsOffCount", desc := "(II[B)V" } : Jvm.MethodName)) ∈ lw_all := lw_g (lw_at lw_m3 115 rfl) rfl
theorem q680 : (Jvm.Cond.code ({ cls := "java/lang/StringUTF16", name := "checkBoundsOffCount", desc := "(II[B)V" } : Jvm.MethodName) prog_40_method_94_code (3 : Nat) (Option.none : Option Jvm.ClassFile.FieldType)) ∈ lw_all := lw_g (lw_at lw_m3 116 rfl) rfl
theorem q681 : (Jvm.Cond.methodLink "java/lang/StringUTF16" (419 : Nat) ({ cls := "java/lang/String", name := "checkBoundsOffCount", desc := "(III)I" } : Jvm.MethodName)) ∈ lw_all := lw_g (lw_at lw_m3 117 rfl) rfl
theorem q687 : (Jvm.Cond.methodLink "java/lang/StringUTF16" (111 : Nat) ({ cls := "java/lang/StringUTF16", name := "putChar", desc := "([BII)V" } : Jvm.MethodName)) ∈ lw_all := lw_g (lw_at lw_m3 123 rfl) rfl
theorem q688 : (Jvm.Cond.static ({ cls := "java/lang/StringUTF16", name := "putChar", desc := "([BII)V" } : Jvm.MethodName)) ∈ lw_all := lw_g (lw_at lw_m3 124 rfl) rfl
theorem q689 : (Jvm.Cond.code ({ cls := "java/lang/StringUTF16", name := "putChar", desc := "([BII)V" } : Jvm.MethodName) prog_40_method_4_code (3 : Nat) (Option.none : Option Jvm.ClassFile.FieldType)) ∈ lw_all := lw_g (lw_at lw_m3 125 rfl) rfl
theorem q691 : (Jvm.Cond.static ({ cls := "java/lang/StringUTF16", name := "putCharSB", desc := "([BII)V" } : Jvm.MethodName)) ∈ lw_all := lw_g (lw_at lw_m3 127 rfl) rfl
theorem q692 : (Jvm.Cond.code ({ cls := "java/lang/StringUTF16", name := "putCharSB", desc := "([BII)V" } : Jvm.MethodName) prog_40_method_71_code (3 : Nat) (Option.none : Option Jvm.ClassFile.FieldType)) ∈ lw_all := lw_g (lw_at lw_m3 128 rfl) rfl
theorem q693 : (Jvm.Cond.methodLink "java/lang/StringUTF16" (67 : Nat) ({ cls := "java/lang/StringUTF16", name := "checkIndex", desc := "(I[B)V" } : Jvm.MethodName)) ∈ lw_all := lw_g (lw_at lw_m3 129 rfl) rfl
theorem q694 : (Jvm.Cond.static ({ cls := "java/lang/StringUTF16", name := "checkIndex", desc := "(I[B)V" } : Jvm.MethodName)) ∈ lw_all := lw_g (lw_at lw_m3 130 rfl) rfl
theorem q695 : (Jvm.Cond.code ({ cls := "java/lang/StringUTF16", name := "checkIndex", desc := "(I[B)V" } : Jvm.MethodName) prog_40_method_91_code (2 : Nat) (Option.none : Option Jvm.ClassFile.FieldType)) ∈ lw_all := lw_g (lw_at lw_m3 131 rfl) rfl
theorem q696 : (Jvm.Cond.methodLink "java/lang/StringUTF16" (414 : Nat) ({ cls := "java/lang/String", name := "checkIndex", desc := "(II)V" } : Jvm.MethodName)) ∈ lw_all := lw_g (lw_at lw_m3 132 rfl) rfl
theorem q739 : (Jvm.Cond.static ({ cls := "java/lang/StringUTF16", name := "compress", desc := "([BII)[B" } : Jvm.MethodName)) ∈ lw_all := lw_g (lw_at lw_m3 175 rfl) rfl
theorem q740 : (Jvm.Cond.code ({ cls := "java/lang/StringUTF16", name := "compress", desc := "([BII)[B" } : Jvm.MethodName) prog_40_method_17_code (6 : Nat) (Option.some (Jvm.ClassFile.FieldType.array Jvm.ClassFile.FieldType.byte))) ∈ lw_all := lw_g (lw_at lw_m3 176 rfl) rfl
theorem q741 : (Jvm.Cond.methodLink "java/lang/StringUTF16" (123 : Nat) ({ cls := "java/lang/StringUTF16", name := "compress", desc := "([BI[BII)I" } : Jvm.MethodName)) ∈ lw_all := lw_g (lw_at lw_m3 177 rfl) rfl
theorem q742 : (Jvm.Cond.static ({ cls := "java/lang/StringUTF16", name := "compress", desc := "([BI[BII)I" } : Jvm.MethodName)) ∈ lw_all := lw_g (lw_at lw_m3 178 rfl) rfl
theorem q743 : (Jvm.Cond.code ({ cls := "java/lang/StringUTF16", name := "compress", desc := "([BI[BII)I" } : Jvm.MethodName) prog_40_method_22_code (7 : Nat) (Option.some Jvm.ClassFile.FieldType.int)) ∈ lw_all := lw_g (lw_at lw_m3 179 rfl) rfl
theorem q744 : (Jvm.Cond.methodLink "java/lang/StringUTF16" (126 : Nat) ({ cls := "java/util/Arrays", name := "copyOfRange", desc := "([BII)[B" } : Jvm.MethodName)) ∈ lw_all := lw_g (lw_at lw_m3 180 rfl) rfl
theorem q746 : (Jvm.Cond.static ({ cls := "java/lang/StringUTF16", name := "coderFromArrayLen", desc := "([BI)B" } : Jvm.MethodName)) ∈ lw_all := lw_g (lw_at lw_m3 182 rfl) rfl
theorem q747 : (Jvm.Cond.code ({ cls := "java/lang/StringUTF16", name := "coderFromArrayLen", desc := "([BI)B" } : Jvm.MethodName) prog_40_method_15_code (2 : Nat) (Option.some Jvm.ClassFile.FieldType.byte)) ∈ lw_all := lw_g (lw_at lw_m3 183 rfl) rfl
theorem q859 : (Jvm.Cond.static ({ cls := "java/lang/StringUTF16", name := "charAt", desc := "([BI)C" } : Jvm.MethodName)) ∈ lw_all := lw_g (lw_at lw_m4 55 rfl) rfl
theorem q860 : (Jvm.Cond.code ({ cls := "java/lang/StringUTF16", name := "charAt", desc := "([BI)C" } : Jvm.MethodName) prog_40_method_83_code (2 : Nat) (Option.some Jvm.ClassFile.FieldType.char)) ∈ lw_all := lw_g (lw_at lw_m4 56 rfl) rfl

/-! jdk/internal/util/Preconditions -/
set_option maxRecDepth 100000
def RJ8 : String := "jdk/internal/util/Preconditions"
abbrev cJ8_checkFromToIndex : ByteArray := prog_56_method_12_code
def yJ8_checkFromToIndex : MethodName := ⟨RJ8, "checkFromToIndex", "(IIILjava/util/function/BiFunction;)I"⟩
abbrev cJ8_checkFromIndexSize : ByteArray := prog_56_method_13_code
def yJ8_checkFromIndexSize : MethodName := ⟨RJ8, "checkFromIndexSize", "(IIILjava/util/function/BiFunction;)I"⟩
abbrev cJ8_checkIndex : ByteArray := prog_56_method_11_code
def yJ8_checkIndex : MethodName := ⟨RJ8, "checkIndex", "(IILjava/util/function/BiFunction;)I"⟩
theorem q99 : (Jvm.Cond.initialized "jdk/internal/util/Preconditions") ∈ lw_all := lw_g (lw_at lw_m1 15 rfl) rfl
theorem q562 : (Jvm.Cond.laysStatic "jdk/internal/util/Preconditions" "SIOOBE_FORMATTER" "Ljava/util/function/BiFunction;") ∈ lw_tbl := lw_at lw_m2 238 rfl
theorem q564 : (Jvm.Cond.static ({ cls := "jdk/internal/util/Preconditions", name := "checkFromToIndex", desc := "(IIILjava/util/function/BiFunction;)I" } : Jvm.MethodName)) ∈ lw_all := lw_g (lw_at lw_m3 0 rfl) rfl
theorem q565 : (Jvm.Cond.code ({ cls := "jdk/internal/util/Preconditions", name := "checkFromToIndex", desc := "(IIILjava/util/function/BiFunction;)I" } : Jvm.MethodName) prog_56_method_12_code (4 : Nat) (Option.some Jvm.ClassFile.FieldType.int)) ∈ lw_all := lw_g (lw_at lw_m3 1 rfl) rfl
theorem q685 : (Jvm.Cond.static ({ cls := "jdk/internal/util/Preconditions", name := "checkFromIndexSize", desc := "(IIILjava/util/function/BiFunction;)I" } : Jvm.MethodName)) ∈ lw_all := lw_g (lw_at lw_m3 121 rfl) rfl
theorem q686 : (Jvm.Cond.code ({ cls := "jdk/internal/util/Preconditions", name := "checkFromIndexSize", desc := "(IIILjava/util/function/BiFunction;)I" } : Jvm.MethodName) prog_56_method_13_code (4 : Nat) (Option.some Jvm.ClassFile.FieldType.int)) ∈ lw_all := lw_g (lw_at lw_m3 122 rfl) rfl
theorem q700 : (Jvm.Cond.static ({ cls := "jdk/internal/util/Preconditions", name := "checkIndex", desc := "(IILjava/util/function/BiFunction;)I" } : Jvm.MethodName)) ∈ lw_all := lw_g (lw_at lw_m3 136 rfl) rfl
theorem q701 : (Jvm.Cond.code ({ cls := "jdk/internal/util/Preconditions", name := "checkIndex", desc := "(IILjava/util/function/BiFunction;)I" } : Jvm.MethodName) prog_56_method_11_code (3 : Nat) (Option.some Jvm.ClassFile.FieldType.int)) ∈ lw_all := lw_g (lw_at lw_m3 137 rfl) rfl

/-! java/lang/Character -/
set_option maxRecDepth 100000
def RJ9 : String := "java/lang/Character"
abbrev cJ9_isValidCodePoint : ByteArray := prog_28_method_11_code
def yJ9_isValidCodePoint : MethodName := ⟨RJ9, "isValidCodePoint", "(I)Z"⟩
abbrev cJ9_highSurrogate : ByteArray := prog_28_method_28_code
def yJ9_highSurrogate : MethodName := ⟨RJ9, "highSurrogate", "(I)C"⟩
abbrev cJ9_lowSurrogate : ByteArray := prog_28_method_29_code
def yJ9_lowSurrogate : MethodName := ⟨RJ9, "lowSurrogate", "(I)C"⟩
theorem q100 : (Jvm.Cond.initialized "java/lang/Character") ∈ lw_all := lw_g (lw_at lw_m1 16 rfl) rfl
theorem q582 : (Jvm.Cond.static ({ cls := "java/lang/Character", name := "isValidCodePoint", desc := "(I)Z" } : Jvm.MethodName)) ∈ lw_all := lw_g (lw_at lw_m3 18 rfl) rfl
theorem q583 : (Jvm.Cond.code ({ cls := "java/lang/Character", name := "isValidCodePoint", desc := "(I)Z" } : Jvm.MethodName) prog_28_method_11_code (2 : Nat) (Option.some Jvm.ClassFile.FieldType.boolean)) ∈ lw_all := lw_g (lw_at lw_m3 19 rfl) rfl
theorem q585 : (Jvm.Cond.static ({ cls := "java/lang/Character", name := "highSurrogate", desc := "(I)C" } : Jvm.MethodName)) ∈ lw_all := lw_g (lw_at lw_m3 21 rfl) rfl
theorem q586 : (Jvm.Cond.code ({ cls := "java/lang/Character", name := "highSurrogate", desc := "(I)C" } : Jvm.MethodName) prog_28_method_28_code (1 : Nat) (Option.some Jvm.ClassFile.FieldType.char)) ∈ lw_all := lw_g (lw_at lw_m3 22 rfl) rfl
theorem q587 : (Jvm.Cond.constant "java/lang/Character" (110 : Nat) (55232 : Int32)) ∈ lw_all := lw_g (lw_at lw_m3 23 rfl) rfl
theorem q589 : (Jvm.Cond.static ({ cls := "java/lang/Character", name := "lowSurrogate", desc := "(I)C" } : Jvm.MethodName)) ∈ lw_all := lw_g (lw_at lw_m3 25 rfl) rfl
theorem q590 : (Jvm.Cond.code ({ cls := "java/lang/Character", name := "lowSurrogate", desc := "(I)C" } : Jvm.MethodName) prog_28_method_29_code (1 : Nat) (Option.some Jvm.ClassFile.FieldType.char)) ∈ lw_all := lw_g (lw_at lw_m3 26 rfl) rfl
theorem q591 : (Jvm.Cond.constant "java/lang/Character" (76 : Nat) (56320 : Int32)) ∈ lw_all := lw_g (lw_at lw_m3 27 rfl) rfl

/-! java/lang/AbstractStringBuilder -/
set_option maxRecDepth 100000
def RJ10 : String := "java/lang/AbstractStringBuilder"
abbrev cJ10_init : ByteArray := prog_25_method_2_code
def yJ10_init : MethodName := ⟨RJ10, "<init>", "(I)V"⟩
abbrev cJ10_append : ByteArray := prog_25_method_31_code
def yJ10_append : MethodName := ⟨RJ10, "append", "(C)Ljava/lang/AbstractStringBuilder;"⟩
abbrev cJ10_ensureCapacityInternal : ByteArray := prog_25_method_9_code
def yJ10_ensureCapacityInternal : MethodName := ⟨RJ10, "ensureCapacityInternal", "(I)V"⟩
abbrev cJ10_newCapacity : ByteArray := prog_25_method_10_code
def yJ10_newCapacity : MethodName := ⟨RJ10, "newCapacity", "(I)I"⟩
abbrev cJ10_isLatin1 : ByteArray := prog_25_method_68_code
def yJ10_isLatin1 : MethodName := ⟨RJ10, "isLatin1", "()Z"⟩
abbrev cJ10_inflate : ByteArray := prog_25_method_11_code
def yJ10_inflate : MethodName := ⟨RJ10, "inflate", "()V"⟩
abbrev cJ10_getValue : ByteArray := prog_25_method_64_code
def yJ10_getValue : MethodName := ⟨RJ10, "getValue", "()[B"⟩
abbrev cJ10_length : ByteArray := prog_25_method_6_code
def yJ10_length : MethodName := ⟨RJ10, "length", "()I"⟩
theorem q101 : (Jvm.Cond.initialized "java/lang/AbstractStringBuilder") ∈ lw_all := lw_g (lw_at lw_m1 17 rfl) rfl
theorem q598 : (Jvm.Cond.instanceMethod ({ cls := "java/lang/AbstractStringBuilder", name := "<init>", desc := "(I)V" } : Jvm.MethodName)) ∈ lw_all := lw_g (lw_at lw_m3 34 rfl) rfl
theorem q599 : (Jvm.Cond.code ({ cls := "java/lang/AbstractStringBuilder", name := "<init>", desc := "(I)V" } : Jvm.MethodName) prog_25_method_2_code (2 : Nat) (Option.none : Option Jvm.ClassFile.FieldType)) ∈ lw_all := lw_g (lw_at lw_m3 35 rfl) rfl
theorem q600 : (Jvm.Cond.methodLink "java/lang/AbstractStringBuilder" (3 : Nat) ({ cls := "java/lang/Object", name := "<init>", desc := "()V" } : Jvm.MethodName)) ∈ lw_all := lw_g (lw_at lw_m3 36 rfl) rfl
theorem q601 : (Jvm.Cond.fieldLink "java/lang/AbstractStringBuilder" (18 : Nat) "java/lang/String" "COMPACT_STRINGS" "Z") ∈ lw_all := lw_g (lw_at lw_m3 37 rfl) rfl
theorem q602 : (Jvm.Cond.methodLink "java/lang/AbstractStringBuilder" (26 : Nat) ({ cls := "java/lang/StringUTF16", name := "newBytesFor", desc := "(I)[B" } : Jvm.MethodName)) ∈ lw_all := lw_g (lw_at lw_m3 38 rfl) rfl
theorem q609 : (Jvm.Cond.fieldLink "java/lang/AbstractStringBuilder" (15 : Nat) "java/lang/AbstractStringBuilder" "value" "[B") ∈ lw_all := lw_g (lw_at lw_m3 45 rfl) rfl
theorem q610 : (Jvm.Cond.fieldLink "java/lang/AbstractStringBuilder" (22 : Nat) "java/lang/AbstractStringBuilder" "coder" "B") ∈ lw_all := lw_g (lw_at lw_m3 46 rfl) rfl
theorem q612 : (Jvm.Cond.fieldLink "java/lang/AbstractStringBuilder" (79 : Nat) "java/lang/AbstractStringBuilder" "count" "I") ∈ lw_all := lw_g (lw_at lw_m3 48 rfl) rfl
theorem q614 : (Jvm.Cond.soleField "java/lang/AbstractStringBuilder" "value") ∈ lw_all := lw_g (lw_at lw_m3 50 rfl) rfl
theorem q616 : (Jvm.Cond.soleField "java/lang/AbstractStringBuilder" "coder") ∈ lw_all := lw_g (lw_at lw_m3 52 rfl) rfl
theorem q618 : (Jvm.Cond.soleField "java/lang/AbstractStringBuilder" "maybeLatin1") ∈ lw_all := lw_g (lw_at lw_m3 54 rfl) rfl
theorem q620 : (Jvm.Cond.soleField "java/lang/AbstractStringBuilder" "count") ∈ lw_all := lw_g (lw_at lw_m3 56 rfl) rfl
theorem q627 : (Jvm.Cond.instanceMethod ({ cls := "java/lang/AbstractStringBuilder", name := "append", desc := "(C)Ljava/lang/AbstractStringBuilder;" } : Jvm.MethodName)) ∈ lw_all := lw_g (lw_at lw_m3 63 rfl) rfl
theorem q628 : (Jvm.Cond.code ({ cls := "java/lang/AbstractStringBuilder", name := "append", desc := "(C)Ljava/lang/AbstractStringBuilder;" } : Jvm.MethodName) prog_25_method_31_code (2 : Nat) (Option.some (Jvm.ClassFile.FieldType.object "java/lang/AbstractStringBuilder"))) ∈ lw_all := lw_g (lw_at lw_m3 64 rfl) rfl
theorem q629 : (Jvm.Cond.methodLink "java/lang/AbstractStringBuilder" (100 : Nat) ({ cls := "java/lang/AbstractStringBuilder", name := "ensureCapacityInternal", desc := "(I)V" } : Jvm.MethodName)) ∈ lw_all := lw_g (lw_at lw_m3 65 rfl) rfl
theorem q630 : (Jvm.Cond.privateMethod ({ cls := "java/lang/AbstractStringBuilder", name := "ensureCapacityInternal", desc := "(I)V" } : Jvm.MethodName)) ∈ lw_tbl := lw_at lw_m3 66 rfl
theorem q631 : (Jvm.Cond.instanceMethod ({ cls := "java/lang/AbstractStringBuilder", name := "ensureCapacityInternal", desc := "(I)V" } : Jvm.MethodName)) ∈ lw_all := lw_g (lw_at lw_m3 67 rfl) rfl
theorem q632 : (Jvm.Cond.code ({ cls := "java/lang/AbstractStringBuilder", name := "ensureCapacityInternal", desc := "(I)V" } : Jvm.MethodName) prog_25_method_9_code (3 : Nat) (Option.none : Option Jvm.ClassFile.FieldType)) ∈ lw_all := lw_g (lw_at lw_m3 68 rfl) rfl
theorem q633 : (Jvm.Cond.methodLink "java/lang/AbstractStringBuilder" (104 : Nat) ({ cls := "java/lang/AbstractStringBuilder", name := "newCapacity", desc := "(I)I" } : Jvm.MethodName)) ∈ lw_all := lw_g (lw_at lw_m3 69 rfl) rfl
theorem q634 : (Jvm.Cond.privateMethod ({ cls := "java/lang/AbstractStringBuilder", name := "newCapacity", desc := "(I)I" } : Jvm.MethodName)) ∈ lw_tbl := lw_at lw_m3 70 rfl
theorem q635 : (Jvm.Cond.instanceMethod ({ cls := "java/lang/AbstractStringBuilder", name := "newCapacity", desc := "(I)I" } : Jvm.MethodName)) ∈ lw_all := lw_g (lw_at lw_m3 71 rfl) rfl
theorem q636 : (Jvm.Cond.code ({ cls := "java/lang/AbstractStringBuilder", name := "newCapacity", desc := "(I)I" } : Jvm.MethodName) prog_25_method_10_code (6 : Nat) (Option.some Jvm.ClassFile.FieldType.int)) ∈ lw_all := lw_g (lw_at lw_m3 72 rfl) rfl
theorem q637 : (Jvm.Cond.methodLink "java/lang/AbstractStringBuilder" (114 : Nat) ({ cls := "jdk/internal/util/ArraysSupport", name := "newLength", desc := "(III)I" } : Jvm.MethodName)) ∈ lw_all := lw_g (lw_at lw_m3 73 rfl) rfl
theorem q645 : (Jvm.Cond.constant "java/lang/AbstractStringBuilder" (39 : Nat) (2147483647 : Int32)) ∈ lw_all := lw_g (lw_at lw_m3 81 rfl) rfl
theorem q646 : (Jvm.Cond.methodLink "java/lang/AbstractStringBuilder" (108 : Nat) ({ cls := "java/util/Arrays", name := "copyOf", desc := "([BI)[B" } : Jvm.MethodName)) ∈ lw_all := lw_g (lw_at lw_m3 82 rfl) rfl
theorem q660 : (Jvm.Cond.methodLink "java/lang/AbstractStringBuilder" (83 : Nat) ({ cls := "java/lang/AbstractStringBuilder", name := "isLatin1", desc := "()Z" } : Jvm.MethodName)) ∈ lw_all := lw_g (lw_at lw_m3 96 rfl) rfl
theorem q661 : (Jvm.Cond.instanceMethod ({ cls := "java/lang/AbstractStringBuilder", name := "isLatin1", desc := "()Z" } : Jvm.MethodName)) ∈ lw_all := lw_g (lw_at lw_m3 97 rfl) rfl
theorem q662 : (Jvm.Cond.sameMethod "java/lang/AbstractStringBuilder" "java/lang/AbstractStringBuilder" "isLatin1" "()Z") ∈ lw_all := lw_g (lw_at lw_m3 98 rfl) rfl
theorem q664 : (Jvm.Cond.code ({ cls := "java/lang/AbstractStringBuilder", name := "isLatin1", desc := "()Z" } : Jvm.MethodName) prog_25_method_68_code (1 : Nat) (Option.some Jvm.ClassFile.FieldType.boolean)) ∈ lw_all := lw_g (lw_at lw_m3 100 rfl) rfl
theorem q665 : (Jvm.Cond.methodLink "java/lang/AbstractStringBuilder" (191 : Nat) ({ cls := "java/lang/StringLatin1", name := "canEncode", desc := "(C)Z" } : Jvm.MethodName)) ∈ lw_all := lw_g (lw_at lw_m3 101 rfl) rfl
theorem q668 : (Jvm.Cond.methodLink "java/lang/AbstractStringBuilder" (195 : Nat) ({ cls := "java/lang/AbstractStringBuilder", name := "inflate", desc := "()V" } : Jvm.MethodName)) ∈ lw_all := lw_g (lw_at lw_m3 104 rfl) rfl
theorem q669 : (Jvm.Cond.privateMethod ({ cls := "java/lang/AbstractStringBuilder", name := "inflate", desc := "()V" } : Jvm.MethodName)) ∈ lw_tbl := lw_at lw_m3 105 rfl
theorem q670 : (Jvm.Cond.instanceMethod ({ cls := "java/lang/AbstractStringBuilder", name := "inflate", desc := "()V" } : Jvm.MethodName)) ∈ lw_all := lw_g (lw_at lw_m3 106 rfl) rfl
theorem q671 : (Jvm.Cond.code ({ cls := "java/lang/AbstractStringBuilder", name := "inflate", desc := "()V" } : Jvm.MethodName) prog_25_method_11_code (2 : Nat) (Option.none : Option Jvm.ClassFile.FieldType)) ∈ lw_all := lw_g (lw_at lw_m3 107 rfl) rfl
theorem q672 : (Jvm.Cond.methodLink "java/lang/AbstractStringBuilder" (125 : Nat) ({ cls := "java/lang/StringLatin1", name := "inflate", desc := "([BI[BII)V" } : Jvm.MethodName)) ∈ lw_all := lw_g (lw_at lw_m3 108 rfl) rfl
theorem q690 : (Jvm.Cond.methodLink "java/lang/AbstractStringBuilder" (197 : Nat) ({ cls := "java/lang/StringUTF16", name := "putCharSB", desc := "([BII)V" } : Jvm.MethodName)) ∈ lw_all := lw_g (lw_at lw_m3 126 rfl) rfl
theorem q716 : (Jvm.Cond.instanceMethod ({ cls := "java/lang/AbstractStringBuilder", name := "getValue", desc := "()[B" } : Jvm.MethodName)) ∈ lw_all := lw_g (lw_at lw_m3 152 rfl) rfl
theorem q717 : (Jvm.Cond.sameMethod "java/lang/AbstractStringBuilder" "java/lang/AbstractStringBuilder" "getValue" "()[B") ∈ lw_all := lw_g (lw_at lw_m3 153 rfl) rfl
theorem q719 : (Jvm.Cond.code ({ cls := "java/lang/AbstractStringBuilder", name := "getValue", desc := "()[B" } : Jvm.MethodName) prog_25_method_64_code (1 : Nat) (Option.some (Jvm.ClassFile.FieldType.array Jvm.ClassFile.FieldType.byte))) ∈ lw_all := lw_g (lw_at lw_m3 155 rfl) rfl
theorem q721 : (Jvm.Cond.instanceMethod ({ cls := "java/lang/AbstractStringBuilder", name := "length", desc := "()I" } : Jvm.MethodName)) ∈ lw_all := lw_g (lw_at lw_m3 157 rfl) rfl
theorem q722 : (Jvm.Cond.sameMethod "java/lang/AbstractStringBuilder" "java/lang/AbstractStringBuilder" "length" "()I") ∈ lw_all := lw_g (lw_at lw_m3 158 rfl) rfl
theorem q727 : (Jvm.Cond.code ({ cls := "java/lang/AbstractStringBuilder", name := "length", desc := "()I" } : Jvm.MethodName) prog_25_method_6_code (1 : Nat) (Option.some Jvm.ClassFile.FieldType.int)) ∈ lw_all := lw_g (lw_at lw_m3 163 rfl) rfl
theorem q2309 : (Jvm.Cond.sameMethod "java/lang/AbstractStringBuilder" "java/lang/AbstractStringBuilder" "append" "(C)Ljava/lang/AbstractStringBuilder;") ∈ lw_all := lw_g (lw_at lw_m10 65 rfl) rfl
theorem q2310 : (Jvm.Cond.sameMethod "java/lang/AbstractStringBuilder" "java/lang/AbstractStringBuilder" "ensureCapacityInternal" "(I)V") ∈ lw_all := lw_g (lw_at lw_m10 66 rfl) rfl
theorem q2311 : (Jvm.Cond.sameMethod "java/lang/AbstractStringBuilder" "java/lang/AbstractStringBuilder" "newCapacity" "(I)I") ∈ lw_all := lw_g (lw_at lw_m10 67 rfl) rfl
theorem q2312 : (Jvm.Cond.sameMethod "java/lang/AbstractStringBuilder" "java/lang/AbstractStringBuilder" "inflate" "()V") ∈ lw_all := lw_g (lw_at lw_m10 68 rfl) rfl

/-! java/lang/StringBuilder -/
set_option maxRecDepth 100000
def RJ11 : String := "java/lang/StringBuilder"
def TJ11 : u_T := fun k => match k with
  | 0 => ("java/lang/AbstractStringBuilder", "value", "[B", false)
  | 1 => ("java/lang/AbstractStringBuilder", "coder", "B", false)
  | 2 => ("java/lang/AbstractStringBuilder", "maybeLatin1", "Z", false)
  | _ => ("java/lang/AbstractStringBuilder", "count", "I", false)
def tyJ11 : Nat → FieldType := fun k => match k with
  | 0 => .array .byte
  | 1 => .byte
  | 2 => .boolean
  | _ => .int
abbrev wsJ110 : List Cond := u_ws RJ11 TJ11 4
theorem nmJ11 : ∀ a, a < 4 → ∀ b, b < 4 → a ≠ b → (TJ11 a).2.1 ≠ (TJ11 b).2.1 := by decide +kernel
theorem tyJ11_ok : ∀ k, k < 4 → parseFieldDescriptor (TJ11 k).2.2.1 = some (tyJ11 k) := by decide +kernel
abbrev cJ11_init : ByteArray := prog_38_method_1_code
def yJ11_init : MethodName := ⟨RJ11, "<init>", "()V"⟩
abbrev cJ11_append : ByteArray := prog_38_method_14_code
def yJ11_append : MethodName := ⟨RJ11, "append", "(C)Ljava/lang/StringBuilder;"⟩
abbrev cJ11_toString : ByteArray := prog_38_method_42_code
def yJ11_toString : MethodName := ⟨RJ11, "toString", "()Ljava/lang/String;"⟩
abbrev cJ11_length : ByteArray := prog_38_method_93_code
def yJ11_length : MethodName := ⟨RJ11, "length", "()I"⟩
theorem q102 : (Jvm.Cond.initialized "java/lang/StringBuilder") ∈ lw_all := lw_g (lw_at lw_m1 18 rfl) rfl
theorem q593 : (Jvm.Cond.instantiable "java/lang/StringBuilder" (4 : Nat)) ∈ lw_all := lw_g (lw_at lw_m3 29 rfl) rfl
theorem q595 : (Jvm.Cond.instanceMethod ({ cls := "java/lang/StringBuilder", name := "<init>", desc := "()V" } : Jvm.MethodName)) ∈ lw_all := lw_g (lw_at lw_m3 31 rfl) rfl
theorem q596 : (Jvm.Cond.code ({ cls := "java/lang/StringBuilder", name := "<init>", desc := "()V" } : Jvm.MethodName) prog_38_method_1_code (1 : Nat) (Option.none : Option Jvm.ClassFile.FieldType)) ∈ lw_all := lw_g (lw_at lw_m3 32 rfl) rfl
theorem q597 : (Jvm.Cond.methodLink "java/lang/StringBuilder" (1 : Nat) ({ cls := "java/lang/AbstractStringBuilder", name := "<init>", desc := "(I)V" } : Jvm.MethodName)) ∈ lw_all := lw_g (lw_at lw_m3 33 rfl) rfl
theorem q613 : (Jvm.Cond.lays "java/lang/StringBuilder" "java/lang/AbstractStringBuilder" "value" "[B") ∈ lw_all := lw_g (lw_at lw_m3 49 rfl) rfl
theorem q615 : (Jvm.Cond.lays "java/lang/StringBuilder" "java/lang/AbstractStringBuilder" "coder" "B") ∈ lw_all := lw_g (lw_at lw_m3 51 rfl) rfl
theorem q617 : (Jvm.Cond.lays "java/lang/StringBuilder" "java/lang/AbstractStringBuilder" "maybeLatin1" "Z") ∈ lw_all := lw_g (lw_at lw_m3 53 rfl) rfl
theorem q619 : (Jvm.Cond.lays "java/lang/StringBuilder" "java/lang/AbstractStringBuilder" "count" "I") ∈ lw_all := lw_g (lw_at lw_m3 55 rfl) rfl
theorem q621 : (Jvm.Cond.superclass "java/lang/StringBuilder" "java/lang/AbstractStringBuilder") ∈ lw_all := lw_g (lw_at lw_m3 57 rfl) rfl
theorem q623 : (Jvm.Cond.instanceMethod ({ cls := "java/lang/StringBuilder", name := "append", desc := "(C)Ljava/lang/StringBuilder;" } : Jvm.MethodName)) ∈ lw_all := lw_g (lw_at lw_m3 59 rfl) rfl
theorem q624 : (Jvm.Cond.selects "java/lang/StringBuilder" ({ cls := "java/lang/StringBuilder", name := "append", desc := "(C)Ljava/lang/StringBuilder;" } : Jvm.MethodName) ({ cls := "java/lang/StringBuilder", name := "append", desc := "(C)Ljava/lang/StringBuilder;" } : Jvm.MethodName)) ∈ lw_all := lw_g (lw_at lw_m3 60 rfl) rfl
theorem q625 : (Jvm.Cond.code ({ cls := "java/lang/StringBuilder", name := "append", desc := "(C)Ljava/lang/StringBuilder;" } : Jvm.MethodName) prog_38_method_14_code (2 : Nat) (Option.some (Jvm.ClassFile.FieldType.object "java/lang/StringBuilder"))) ∈ lw_all := lw_g (lw_at lw_m3 61 rfl) rfl
theorem q626 : (Jvm.Cond.methodLink "java/lang/StringBuilder" (50 : Nat) ({ cls := "java/lang/AbstractStringBuilder", name := "append", desc := "(C)Ljava/lang/AbstractStringBuilder;" } : Jvm.MethodName)) ∈ lw_all := lw_g (lw_at lw_m3 62 rfl) rfl
theorem q663 : (Jvm.Cond.selects "java/lang/StringBuilder" ({ cls := "java/lang/AbstractStringBuilder", name := "isLatin1", desc := "()Z" } : Jvm.MethodName) ({ cls := "java/lang/AbstractStringBuilder", name := "isLatin1", desc := "()Z" } : Jvm.MethodName)) ∈ lw_all := lw_g (lw_at lw_m3 99 rfl) rfl
theorem q703 : (Jvm.Cond.instanceMethod ({ cls := "java/lang/StringBuilder", name := "toString", desc := "()Ljava/lang/String;" } : Jvm.MethodName)) ∈ lw_all := lw_g (lw_at lw_m3 139 rfl) rfl
theorem q704 : (Jvm.Cond.selects "java/lang/StringBuilder" ({ cls := "java/lang/StringBuilder", name := "toString", desc := "()Ljava/lang/String;" } : Jvm.MethodName) ({ cls := "java/lang/StringBuilder", name := "toString", desc := "()Ljava/lang/String;" } : Jvm.MethodName)) ∈ lw_all := lw_g (lw_at lw_m3 140 rfl) rfl
theorem q705 : (Jvm.Cond.code ({ cls := "java/lang/StringBuilder", name := "toString", desc := "()Ljava/lang/String;" } : Jvm.MethodName) prog_38_method_42_code (1 : Nat) (Option.some (Jvm.ClassFile.FieldType.object "java/lang/String"))) ∈ lw_all := lw_g (lw_at lw_m3 141 rfl) rfl
theorem q706 : (Jvm.Cond.classLink "java/lang/StringBuilder" (18 : Nat) "java/lang/String") ∈ lw_all := lw_g (lw_at lw_m3 142 rfl) rfl
theorem q708 : (Jvm.Cond.methodLink "java/lang/StringBuilder" (137 : Nat) ({ cls := "java/lang/String", name := "<init>", desc := "(Ljava/lang/StringBuilder;)V" } : Jvm.MethodName)) ∈ lw_all := lw_g (lw_at lw_m3 144 rfl) rfl
theorem q718 : (Jvm.Cond.selects "java/lang/StringBuilder" ({ cls := "java/lang/AbstractStringBuilder", name := "getValue", desc := "()[B" } : Jvm.MethodName) ({ cls := "java/lang/AbstractStringBuilder", name := "getValue", desc := "()[B" } : Jvm.MethodName)) ∈ lw_all := lw_g (lw_at lw_m3 154 rfl) rfl
theorem q723 : (Jvm.Cond.selects "java/lang/StringBuilder" ({ cls := "java/lang/AbstractStringBuilder", name := "length", desc := "()I" } : Jvm.MethodName) ({ cls := "java/lang/StringBuilder", name := "length", desc := "()I" } : Jvm.MethodName)) ∈ lw_all := lw_g (lw_at lw_m3 159 rfl) rfl
theorem q724 : (Jvm.Cond.instanceMethod ({ cls := "java/lang/StringBuilder", name := "length", desc := "()I" } : Jvm.MethodName)) ∈ lw_all := lw_g (lw_at lw_m3 160 rfl) rfl
theorem q725 : (Jvm.Cond.code ({ cls := "java/lang/StringBuilder", name := "length", desc := "()I" } : Jvm.MethodName) prog_38_method_93_code (1 : Nat) (Option.some Jvm.ClassFile.FieldType.int)) ∈ lw_all := lw_g (lw_at lw_m3 161 rfl) rfl
theorem q726 : (Jvm.Cond.methodLink "java/lang/StringBuilder" (343 : Nat) ({ cls := "java/lang/AbstractStringBuilder", name := "length", desc := "()I" } : Jvm.MethodName)) ∈ lw_all := lw_g (lw_at lw_m3 162 rfl) rfl
theorem q1218 : (Jvm.Cond.selects "java/lang/StringBuilder" ({ cls := "java/lang/Object", name := "getClass", desc := "()Ljava/lang/Class;" } : Jvm.MethodName) ({ cls := "java/lang/Object", name := "getClass", desc := "()Ljava/lang/Class;" } : Jvm.MethodName)) ∈ lw_all := lw_g (lw_at lw_m5 174 rfl) rfl
theorem q2335 : (Jvm.Cond.castable "java/lang/StringBuilder" "java/lang/Object") ∈ lw_tbl := lw_at lw_m10 91 rfl
theorem in_J11 : ∀ w ∈ wsJ110, w ∈ lw_all := lw_in wsJ110 [613, 615, 617, 619] (by decide +kernel) (by decide +kernel)

/-! jdk/internal/util/ArraysSupport -/
set_option maxRecDepth 100000
def RJ12 : String := "jdk/internal/util/ArraysSupport"
abbrev cJ12_newLength : ByteArray := prog_55_method_27_code
def yJ12_newLength : MethodName := ⟨RJ12, "newLength", "(III)I"⟩
abbrev cJ12_hugeLength : ByteArray := prog_55_method_28_code
def yJ12_hugeLength : MethodName := ⟨RJ12, "hugeLength", "(II)I"⟩
theorem q103 : (Jvm.Cond.initialized "jdk/internal/util/ArraysSupport") ∈ lw_all := lw_g (lw_at lw_m1 19 rfl) rfl
theorem q638 : (Jvm.Cond.static ({ cls := "jdk/internal/util/ArraysSupport", name := "newLength", desc := "(III)I" } : Jvm.MethodName)) ∈ lw_all := lw_g (lw_at lw_m3 74 rfl) rfl
theorem q639 : (Jvm.Cond.code ({ cls := "jdk/internal/util/ArraysSupport", name := "newLength", desc := "(III)I" } : Jvm.MethodName) prog_55_method_27_code (4 : Nat) (Option.some Jvm.ClassFile.FieldType.int)) ∈ lw_all := lw_g (lw_at lw_m3 75 rfl) rfl
theorem q640 : (Jvm.Cond.methodLink "jdk/internal/util/ArraysSupport" (194 : Nat) ({ cls := "java/lang/Math", name := "max", desc := "(II)I" } : Jvm.MethodName)) ∈ lw_all := lw_g (lw_at lw_m3 76 rfl) rfl
theorem q641 : (Jvm.Cond.constant "jdk/internal/util/ArraysSupport" (200 : Nat) (2147483639 : Int32)) ∈ lw_all := lw_g (lw_at lw_m3 77 rfl) rfl
theorem q642 : (Jvm.Cond.methodLink "jdk/internal/util/ArraysSupport" (201 : Nat) ({ cls := "jdk/internal/util/ArraysSupport", name := "hugeLength", desc := "(II)I" } : Jvm.MethodName)) ∈ lw_all := lw_g (lw_at lw_m3 78 rfl) rfl
theorem q643 : (Jvm.Cond.static ({ cls := "jdk/internal/util/ArraysSupport", name := "hugeLength", desc := "(II)I" } : Jvm.MethodName)) ∈ lw_all := lw_g (lw_at lw_m3 79 rfl) rfl
theorem q644 : (Jvm.Cond.code ({ cls := "jdk/internal/util/ArraysSupport", name := "hugeLength", desc := "(II)I" } : Jvm.MethodName) prog_55_method_28_code (3 : Nat) (Option.some Jvm.ClassFile.FieldType.int)) ∈ lw_all := lw_g (lw_at lw_m3 80 rfl) rfl

/-! java/lang/Throwable -/
set_option maxRecDepth 100000
def RJ13 : String := "java/lang/Throwable"
def TJ13 : u_T := fun k => match k with
  | 0 => ("java/lang/Throwable", "cause", "Ljava/lang/Throwable;", false)
  | 1 => ("java/lang/Throwable", "stackTrace", "[Ljava/lang/StackTraceElement;", false)
  | 2 => ("java/lang/Throwable", "suppressedExceptions", "Ljava/util/List;", false)
  | 3 => ("java/lang/Throwable", "detailMessage", "Ljava/lang/String;", false)
  | _ => ("java/lang/Throwable", "backtrace", "Ljava/lang/Object;", false)
def tyJ13 : Nat → FieldType := fun k => match k with
  | 0 => .object "java/lang/Throwable"
  | 1 => .array (.object "java/lang/StackTraceElement")
  | 2 => .object "java/util/List"
  | 3 => .object "java/lang/String"
  | _ => .object "java/lang/Object"
abbrev wsJ130 : List Cond := u_ws RJ13 TJ13 5
theorem nmJ13 : ∀ a, a < 5 → ∀ b, b < 5 → a ≠ b → (TJ13 a).2.1 ≠ (TJ13 b).2.1 := by decide +kernel
theorem tyJ13_ok : ∀ k, k < 5 → parseFieldDescriptor (TJ13 k).2.2.1 = some (tyJ13 k) := by decide +kernel
abbrev cJ13_init : ByteArray := prog_42_method_1_code
def yJ13_init : MethodName := ⟨RJ13, "<init>", "()V"⟩
theorem q105 : (Jvm.Cond.initialized "java/lang/Throwable") ∈ lw_all := lw_g (lw_at lw_m1 21 rfl) rfl
theorem q789 : (Jvm.Cond.declares ({ cls := "java/lang/Throwable", name := "<init>", desc := "()V" } : Jvm.MethodName)) ∈ lw_tbl := lw_at lw_m3 225 rfl
theorem q790 : (Jvm.Cond.declares ({ cls := "java/lang/Throwable", name := "<init>", desc := "(Ljava/lang/String;)V" } : Jvm.MethodName)) ∈ lw_tbl := lw_at lw_m3 226 rfl
theorem q794 : (Jvm.Cond.lays "java/lang/Throwable" "java/lang/Throwable" "cause" "Ljava/lang/Throwable;") ∈ lw_all := lw_g (lw_at lw_m3 230 rfl) rfl
theorem q796 : (Jvm.Cond.lays "java/lang/Throwable" "java/lang/Throwable" "stackTrace" "[Ljava/lang/StackTraceElement;") ∈ lw_all := lw_g (lw_at lw_m3 232 rfl) rfl
theorem q798 : (Jvm.Cond.lays "java/lang/Throwable" "java/lang/Throwable" "suppressedExceptions" "Ljava/util/List;") ∈ lw_all := lw_g (lw_at lw_m3 234 rfl) rfl
theorem q800 : (Jvm.Cond.lays "java/lang/Throwable" "java/lang/Throwable" "detailMessage" "Ljava/lang/String;") ∈ lw_all := lw_g (lw_at lw_m3 236 rfl) rfl
theorem q802 : (Jvm.Cond.lays "java/lang/Throwable" "java/lang/Throwable" "backtrace" "Ljava/lang/Object;") ∈ lw_all := lw_g (lw_at lw_m3 238 rfl) rfl
theorem q803 : (Jvm.Cond.fieldLink "java/lang/Throwable" (198 : Nat) "java/lang/Throwable" "backtrace" "Ljava/lang/Object;") ∈ lw_all := lw_g (lw_at lw_m3 239 rfl) rfl
theorem q804 : (Jvm.Cond.superclass "java/lang/Throwable" "java/lang/Object") ∈ lw_all := lw_g (lw_at lw_m4 0 rfl) rfl
theorem q805 : (Jvm.Cond.instanceMethod ({ cls := "java/lang/Throwable", name := "<init>", desc := "()V" } : Jvm.MethodName)) ∈ lw_all := lw_g (lw_at lw_m4 1 rfl) rfl
theorem q806 : (Jvm.Cond.code ({ cls := "java/lang/Throwable", name := "<init>", desc := "()V" } : Jvm.MethodName) prog_42_method_1_code (1 : Nat) (Option.none : Option Jvm.ClassFile.FieldType)) ∈ lw_all := lw_g (lw_at lw_m4 2 rfl) rfl
theorem q807 : (Jvm.Cond.methodLink "java/lang/Throwable" (1 : Nat) ({ cls := "java/lang/Object", name := "<init>", desc := "()V" } : Jvm.MethodName)) ∈ lw_all := lw_g (lw_at lw_m4 3 rfl) rfl
theorem q808 : (Jvm.Cond.fieldLink "java/lang/Throwable" (13 : Nat) "java/lang/Throwable" "UNASSIGNED_STACK" "[Ljava/lang/StackTraceElement;") ∈ lw_all := lw_g (lw_at lw_m4 4 rfl) rfl
theorem q809 : (Jvm.Cond.laysStatic "java/lang/Throwable" "UNASSIGNED_STACK" "[Ljava/lang/StackTraceElement;") ∈ lw_tbl := lw_at lw_m4 5 rfl
theorem q810 : (Jvm.Cond.fieldLink "java/lang/Throwable" (20 : Nat) "java/lang/Throwable" "SUPPRESSED_SENTINEL" "Ljava/util/List;") ∈ lw_all := lw_g (lw_at lw_m4 6 rfl) rfl
theorem q811 : (Jvm.Cond.laysStatic "java/lang/Throwable" "SUPPRESSED_SENTINEL" "Ljava/util/List;") ∈ lw_tbl := lw_at lw_m4 7 rfl
theorem q812 : (Jvm.Cond.methodLink "java/lang/Throwable" (27 : Nat) ({ cls := "java/lang/Throwable", name := "fillInStackTrace", desc := "()Ljava/lang/Throwable;" } : Jvm.MethodName)) ∈ lw_all := lw_g (lw_at lw_m4 8 rfl) rfl
theorem q813 : (Jvm.Cond.instanceMethod ({ cls := "java/lang/Throwable", name := "fillInStackTrace", desc := "()Ljava/lang/Throwable;" } : Jvm.MethodName)) ∈ lw_all := lw_g (lw_at lw_m4 9 rfl) rfl
theorem q814 : (Jvm.Cond.sameMethod "java/lang/Throwable" "java/lang/Throwable" "fillInStackTrace" "()Ljava/lang/Throwable;") ∈ lw_all := lw_g (lw_at lw_m4 10 rfl) rfl
theorem q816 : (Jvm.Cond.codeSync ({ cls := "java/lang/Throwable", name := "fillInStackTrace", desc := "()Ljava/lang/Throwable;" } : Jvm.MethodName) prog_42_method_18_code (1 : Nat) (Option.some (Jvm.ClassFile.FieldType.object "java/lang/Throwable"))) ∈ lw_all := lw_g (lw_at lw_m4 12 rfl) rfl
theorem q817 : (Jvm.Cond.methodLink "java/lang/Throwable" (202 : Nat) ({ cls := "java/lang/Throwable", name := "fillInStackTrace", desc := "(I)Ljava/lang/Throwable;" } : Jvm.MethodName)) ∈ lw_all := lw_g (lw_at lw_m4 13 rfl) rfl
theorem q818 : (Jvm.Cond.privateMethod ({ cls := "java/lang/Throwable", name := "fillInStackTrace", desc := "(I)Ljava/lang/Throwable;" } : Jvm.MethodName)) ∈ lw_tbl := lw_at lw_m4 14 rfl
theorem q819 : (Jvm.Cond.instanceMethod ({ cls := "java/lang/Throwable", name := "fillInStackTrace", desc := "(I)Ljava/lang/Throwable;" } : Jvm.MethodName)) ∈ lw_all := lw_g (lw_at lw_m4 15 rfl) rfl
theorem q820 : (Jvm.Cond.instantiable "java/lang/Throwable" (6 : Nat)) ∈ lw_all := lw_g (lw_at lw_m4 16 rfl) rfl
theorem q821 : (Jvm.Cond.native ({ cls := "java/lang/Throwable", name := "fillInStackTrace", desc := "(I)Ljava/lang/Throwable;" } : Jvm.MethodName)) ∈ lw_all := lw_g (lw_at lw_m4 17 rfl) rfl
theorem q833 : (Jvm.Cond.fieldLink "java/lang/Throwable" (198 : Nat) "java/lang/Throwable" "backtrace" "Ljava/lang/Object;") ∈ lw_all := lw_g (lw_at lw_m4 29 rfl) rfl
theorem q834 : (Jvm.Cond.fieldLink "java/lang/Throwable" (7 : Nat) "java/lang/Throwable" "cause" "Ljava/lang/Throwable;") ∈ lw_all := lw_g (lw_at lw_m4 30 rfl) rfl
theorem q835 : (Jvm.Cond.fieldLink "java/lang/Throwable" (17 : Nat) "java/lang/Throwable" "stackTrace" "[Ljava/lang/StackTraceElement;") ∈ lw_all := lw_g (lw_at lw_m4 31 rfl) rfl
theorem q836 : (Jvm.Cond.fieldLink "java/lang/Throwable" (24 : Nat) "java/lang/Throwable" "suppressedExceptions" "Ljava/util/List;") ∈ lw_all := lw_g (lw_at lw_m4 32 rfl) rfl
theorem q841 : (Jvm.Cond.soleField "java/lang/Throwable" "backtrace") ∈ lw_all := lw_g (lw_at lw_m4 37 rfl) rfl
theorem q842 : (Jvm.Cond.soleField "java/lang/Throwable" "detailMessage") ∈ lw_all := lw_g (lw_at lw_m4 38 rfl) rfl
theorem q843 : (Jvm.Cond.soleField "java/lang/Throwable" "cause") ∈ lw_all := lw_g (lw_at lw_m4 39 rfl) rfl
theorem q844 : (Jvm.Cond.soleField "java/lang/Throwable" "stackTrace") ∈ lw_all := lw_g (lw_at lw_m4 40 rfl) rfl
theorem q846 : (Jvm.Cond.soleField "java/lang/Throwable" "depth") ∈ lw_all := lw_g (lw_at lw_m4 42 rfl) rfl
theorem q847 : (Jvm.Cond.soleField "java/lang/Throwable" "suppressedExceptions") ∈ lw_all := lw_g (lw_at lw_m4 43 rfl) rfl
theorem q2313 : (Jvm.Cond.sameMethod "java/lang/Throwable" "java/lang/Throwable" "fillInStackTrace" "(I)Ljava/lang/Throwable;") ∈ lw_all := lw_g (lw_at lw_m10 69 rfl) rfl
theorem q2350 : (Jvm.Cond.castable "java/lang/Throwable" "java/lang/Object") ∈ lw_tbl := lw_at lw_m10 106 rfl
theorem in_J13 : ∀ w ∈ wsJ130, w ∈ lw_all := lw_in wsJ130 [794, 796, 798, 800, 802] (by decide +kernel) (by decide +kernel)

/-! java/lang/Exception -/
set_option maxRecDepth 100000
def RJ14 : String := "java/lang/Exception"
abbrev cJ14_init : ByteArray := prog_31_method_1_code
def yJ14_init : MethodName := ⟨RJ14, "<init>", "()V"⟩
theorem q106 : (Jvm.Cond.initialized "java/lang/Exception") ∈ lw_all := lw_g (lw_at lw_m1 22 rfl) rfl
theorem q787 : (Jvm.Cond.declares ({ cls := "java/lang/Exception", name := "<init>", desc := "()V" } : Jvm.MethodName)) ∈ lw_tbl := lw_at lw_m3 223 rfl
theorem q788 : (Jvm.Cond.declares ({ cls := "java/lang/Exception", name := "<init>", desc := "(Ljava/lang/String;)V" } : Jvm.MethodName)) ∈ lw_tbl := lw_at lw_m3 224 rfl
theorem q826 : (Jvm.Cond.instanceMethod ({ cls := "java/lang/Exception", name := "<init>", desc := "()V" } : Jvm.MethodName)) ∈ lw_all := lw_g (lw_at lw_m4 22 rfl) rfl
theorem q827 : (Jvm.Cond.code ({ cls := "java/lang/Exception", name := "<init>", desc := "()V" } : Jvm.MethodName) prog_31_method_1_code (1 : Nat) (Option.none : Option Jvm.ClassFile.FieldType)) ∈ lw_all := lw_g (lw_at lw_m4 23 rfl) rfl
theorem q828 : (Jvm.Cond.methodLink "java/lang/Exception" (1 : Nat) ({ cls := "java/lang/Throwable", name := "<init>", desc := "()V" } : Jvm.MethodName)) ∈ lw_all := lw_g (lw_at lw_m4 24 rfl) rfl

/-! HouseClaps$Fault -/
set_option maxRecDepth 100000
def RX7 : String := "HouseClaps$Fault"
def TX7 : u_T := fun k => match k with
  | 0 => ("java/lang/Throwable", "cause", "Ljava/lang/Throwable;", false)
  | 1 => ("java/lang/Throwable", "stackTrace", "[Ljava/lang/StackTraceElement;", false)
  | 2 => ("java/lang/Throwable", "suppressedExceptions", "Ljava/util/List;", false)
  | 3 => ("java/lang/Throwable", "detailMessage", "Ljava/lang/String;", false)
  | 4 => ("java/lang/Throwable", "backtrace", "Ljava/lang/Object;", false)
  | 5 => ("java/lang/Throwable", "depth", "I", false)
  | 6 => ("HouseClaps$Fault", "kind", "I", true)
  | _ => ("HouseClaps$Fault", "place", "I", true)
def tyX7 : Nat → FieldType := fun k => match k with
  | 0 => .object "java/lang/Throwable"
  | 1 => .array (.object "java/lang/StackTraceElement")
  | 2 => .object "java/util/List"
  | 3 => .object "java/lang/String"
  | 4 => .object "java/lang/Object"
  | 5 => .int
  | 6 => .int
  | _ => .int
abbrev wsX70 : List Cond := u_ws RX7 TX7 8
theorem nmX7 : ∀ a, a < 8 → ∀ b, b < 8 → a ≠ b → (TX7 a).2.1 ≠ (TX7 b).2.1 := by decide +kernel
theorem tyX7_ok : ∀ k, k < 8 → parseFieldDescriptor (TX7 k).2.2.1 = some (tyX7 k) := by decide +kernel
abbrev cX7_init : ByteArray := prog_7_method_1_code
def yX7_init : MethodName := ⟨RX7, "<init>", "(II)V"⟩
theorem q107 : (Jvm.Cond.initialized "HouseClaps$Fault") ∈ lw_all := lw_g (lw_at lw_m1 23 rfl) rfl
theorem q785 : (Jvm.Cond.instantiable "HouseClaps$Fault" (8 : Nat)) ∈ lw_all := lw_g (lw_at lw_m3 221 rfl) rfl
theorem q786 : (Jvm.Cond.castable "HouseClaps$Fault" "HouseClaps$Fault") ∈ lw_tbl := lw_at lw_m3 222 rfl
theorem q791 : (Jvm.Cond.selects "HouseClaps$Fault" ({ cls := "java/lang/Throwable", name := "fillInStackTrace", desc := "(I)Ljava/lang/Throwable;" } : Jvm.MethodName) ({ cls := "java/lang/Throwable", name := "fillInStackTrace", desc := "(I)Ljava/lang/Throwable;" } : Jvm.MethodName)) ∈ lw_all := lw_g (lw_at lw_m3 227 rfl) rfl
theorem q792 : (Jvm.Cond.selects "HouseClaps$Fault" ({ cls := "java/lang/Throwable", name := "fillInStackTrace", desc := "()Ljava/lang/Throwable;" } : Jvm.MethodName) ({ cls := "java/lang/Throwable", name := "fillInStackTrace", desc := "()Ljava/lang/Throwable;" } : Jvm.MethodName)) ∈ lw_all := lw_g (lw_at lw_m3 228 rfl) rfl
theorem q793 : (Jvm.Cond.lays "HouseClaps$Fault" "java/lang/Throwable" "cause" "Ljava/lang/Throwable;") ∈ lw_all := lw_g (lw_at lw_m3 229 rfl) rfl
theorem q795 : (Jvm.Cond.lays "HouseClaps$Fault" "java/lang/Throwable" "stackTrace" "[Ljava/lang/StackTraceElement;") ∈ lw_all := lw_g (lw_at lw_m3 231 rfl) rfl
theorem q797 : (Jvm.Cond.lays "HouseClaps$Fault" "java/lang/Throwable" "suppressedExceptions" "Ljava/util/List;") ∈ lw_all := lw_g (lw_at lw_m3 233 rfl) rfl
theorem q799 : (Jvm.Cond.lays "HouseClaps$Fault" "java/lang/Throwable" "detailMessage" "Ljava/lang/String;") ∈ lw_all := lw_g (lw_at lw_m3 235 rfl) rfl
theorem q801 : (Jvm.Cond.lays "HouseClaps$Fault" "java/lang/Throwable" "backtrace" "Ljava/lang/Object;") ∈ lw_all := lw_g (lw_at lw_m3 237 rfl) rfl
theorem q823 : (Jvm.Cond.instanceMethod ({ cls := "HouseClaps$Fault", name := "<init>", desc := "(II)V" } : Jvm.MethodName)) ∈ lw_all := lw_g (lw_at lw_m4 19 rfl) rfl
theorem q824 : (Jvm.Cond.code ({ cls := "HouseClaps$Fault", name := "<init>", desc := "(II)V" } : Jvm.MethodName) prog_7_method_1_code (3 : Nat) (Option.none : Option Jvm.ClassFile.FieldType)) ∈ lw_all := lw_g (lw_at lw_m4 20 rfl) rfl
theorem q825 : (Jvm.Cond.methodLink "HouseClaps$Fault" (1 : Nat) ({ cls := "java/lang/Exception", name := "<init>", desc := "()V" } : Jvm.MethodName)) ∈ lw_all := lw_g (lw_at lw_m4 21 rfl) rfl
theorem q829 : (Jvm.Cond.fieldLink "HouseClaps$Fault" (7 : Nat) "HouseClaps$Fault" "kind" "I") ∈ lw_all := lw_g (lw_at lw_m4 25 rfl) rfl
theorem q831 : (Jvm.Cond.fieldLink "HouseClaps$Fault" (13 : Nat) "HouseClaps$Fault" "place" "I") ∈ lw_all := lw_g (lw_at lw_m4 27 rfl) rfl
theorem q837 : (Jvm.Cond.laysFinal "HouseClaps$Fault" "HouseClaps$Fault" "kind" "I") ∈ lw_all := lw_g (lw_at lw_m4 33 rfl) rfl
theorem q838 : (Jvm.Cond.soleField "HouseClaps$Fault" "kind") ∈ lw_all := lw_g (lw_at lw_m4 34 rfl) rfl
theorem q839 : (Jvm.Cond.laysFinal "HouseClaps$Fault" "HouseClaps$Fault" "place" "I") ∈ lw_all := lw_g (lw_at lw_m4 35 rfl) rfl
theorem q840 : (Jvm.Cond.soleField "HouseClaps$Fault" "place") ∈ lw_all := lw_g (lw_at lw_m4 36 rfl) rfl
theorem q845 : (Jvm.Cond.lays "HouseClaps$Fault" "java/lang/Throwable" "depth" "I") ∈ lw_all := lw_g (lw_at lw_m4 41 rfl) rfl
theorem q848 : (Jvm.Cond.superclass "HouseClaps$Fault" "java/lang/Exception") ∈ lw_all := lw_g (lw_at lw_m4 44 rfl) rfl
theorem q1203 : (Jvm.Cond.selects "HouseClaps$Fault" ({ cls := "java/lang/Object", name := "getClass", desc := "()Ljava/lang/Class;" } : Jvm.MethodName) ({ cls := "java/lang/Object", name := "getClass", desc := "()Ljava/lang/Class;" } : Jvm.MethodName)) ∈ lw_all := lw_g (lw_at lw_m5 159 rfl) rfl
theorem q2337 : (Jvm.Cond.castable "HouseClaps$Fault" "java/lang/Object") ∈ lw_tbl := lw_at lw_m10 93 rfl
theorem in_X7 : ∀ w ∈ wsX70, w ∈ lw_all := lw_in wsX70 [793, 795, 797, 799, 801, 845, 837, 839] (by decide +kernel) (by decide +kernel)

/-! HouseClaps$Cond -/
set_option maxRecDepth 100000
def RX8 : String := "HouseClaps$Cond"
abbrev cX8_init : ByteArray := prog_4_method_1_code
def yX8_init : MethodName := ⟨RX8, "<init>", "()V"⟩
theorem q108 : (Jvm.Cond.initialized "HouseClaps$Cond") ∈ lw_all := lw_g (lw_at lw_m1 24 rfl) rfl
theorem q903 : (Jvm.Cond.instanceMethod ({ cls := "HouseClaps$Cond", name := "<init>", desc := "()V" } : Jvm.MethodName)) ∈ lw_all := lw_g (lw_at lw_m4 99 rfl) rfl
theorem q904 : (Jvm.Cond.code ({ cls := "HouseClaps$Cond", name := "<init>", desc := "()V" } : Jvm.MethodName) prog_4_method_1_code (1 : Nat) (Option.none : Option Jvm.ClassFile.FieldType)) ∈ lw_all := lw_g (lw_at lw_m4 100 rfl) rfl
theorem q905 : (Jvm.Cond.methodLink "HouseClaps$Cond" (1 : Nat) ({ cls := "java/lang/Object", name := "<init>", desc := "()V" } : Jvm.MethodName)) ∈ lw_all := lw_g (lw_at lw_m4 101 rfl) rfl
theorem q1328 : (Jvm.Cond.declares ({ cls := "HouseClaps$Cond", name := "holds", desc := "(LHouseClaps$Night;I)Z" } : Jvm.MethodName)) ∈ lw_tbl := lw_at lw_m6 44 rfl
theorem q1329 : (Jvm.Cond.sameMethod "HouseClaps$Cond" "HouseClaps$Cond" "holds" "(LHouseClaps$Night;I)Z") ∈ lw_all := lw_g (lw_at lw_m6 45 rfl) rfl
theorem q2328 : (Jvm.Cond.castable "HouseClaps$Cond" "java/lang/Object") ∈ lw_tbl := lw_at lw_m10 84 rfl

/-! HouseClaps$Not -/
set_option maxRecDepth 100000
def RX9 : String := "HouseClaps$Not"
def TX9 : u_T := fun k => match k with
  | _ => ("HouseClaps$Not", "a", "LHouseClaps$Cond;", true)
def tyX9 : Nat → FieldType := fun k => match k with
  | _ => .object "HouseClaps$Cond"
abbrev wsX90 : List Cond := u_ws RX9 TX9 1
theorem nmX9 : ∀ a, a < 1 → ∀ b, b < 1 → a ≠ b → (TX9 a).2.1 ≠ (TX9 b).2.1 := by decide +kernel
theorem tyX9_ok : ∀ k, k < 1 → parseFieldDescriptor (TX9 k).2.2.1 = some (tyX9 k) := by decide +kernel
abbrev cX9_init : ByteArray := prog_14_method_1_code
def yX9_init : MethodName := ⟨RX9, "<init>", "(LHouseClaps$Cond;)V"⟩
abbrev cX9_holds : ByteArray := prog_14_method_2_code
def yX9_holds : MethodName := ⟨RX9, "holds", "(LHouseClaps$Night;I)Z"⟩
theorem q109 : (Jvm.Cond.initialized "HouseClaps$Not") ∈ lw_all := lw_g (lw_at lw_m1 25 rfl) rfl
theorem q898 : (Jvm.Cond.instantiable "HouseClaps$Not" (1 : Nat)) ∈ lw_all := lw_g (lw_at lw_m4 94 rfl) rfl
theorem q900 : (Jvm.Cond.instanceMethod ({ cls := "HouseClaps$Not", name := "<init>", desc := "(LHouseClaps$Cond;)V" } : Jvm.MethodName)) ∈ lw_all := lw_g (lw_at lw_m4 96 rfl) rfl
theorem q901 : (Jvm.Cond.code ({ cls := "HouseClaps$Not", name := "<init>", desc := "(LHouseClaps$Cond;)V" } : Jvm.MethodName) prog_14_method_1_code (2 : Nat) (Option.none : Option Jvm.ClassFile.FieldType)) ∈ lw_all := lw_g (lw_at lw_m4 97 rfl) rfl
theorem q902 : (Jvm.Cond.methodLinkNest "HouseClaps$Not" (1 : Nat) ({ cls := "HouseClaps$Cond", name := "<init>", desc := "()V" } : Jvm.MethodName) "HouseClaps") ∈ lw_tbl := lw_at lw_m4 98 rfl
theorem q906 : (Jvm.Cond.fieldLink "HouseClaps$Not" (7 : Nat) "HouseClaps$Not" "a" "LHouseClaps$Cond;") ∈ lw_all := lw_g (lw_at lw_m4 102 rfl) rfl
theorem q907 : (Jvm.Cond.laysFinal "HouseClaps$Not" "HouseClaps$Not" "a" "LHouseClaps$Cond;") ∈ lw_all := lw_g (lw_at lw_m4 103 rfl) rfl
theorem q908 : (Jvm.Cond.soleField "HouseClaps$Not" "a") ∈ lw_all := lw_g (lw_at lw_m4 104 rfl) rfl
theorem q909 : (Jvm.Cond.superclass "HouseClaps$Not" "HouseClaps$Cond") ∈ lw_all := lw_g (lw_at lw_m4 105 rfl) rfl
theorem q1210 : (Jvm.Cond.selects "HouseClaps$Not" ({ cls := "java/lang/Object", name := "getClass", desc := "()Ljava/lang/Class;" } : Jvm.MethodName) ({ cls := "java/lang/Object", name := "getClass", desc := "()Ljava/lang/Class;" } : Jvm.MethodName)) ∈ lw_all := lw_g (lw_at lw_m5 166 rfl) rfl
theorem q1359 : (Jvm.Cond.instanceMethod ({ cls := "HouseClaps$Not", name := "holds", desc := "(LHouseClaps$Night;I)Z" } : Jvm.MethodName)) ∈ lw_all := lw_g (lw_at lw_m6 75 rfl) rfl
theorem q1360 : (Jvm.Cond.code ({ cls := "HouseClaps$Not", name := "holds", desc := "(LHouseClaps$Night;I)Z" } : Jvm.MethodName) prog_14_method_2_code (3 : Nat) (Option.some Jvm.ClassFile.FieldType.boolean)) ∈ lw_all := lw_g (lw_at lw_m6 76 rfl) rfl
theorem q1361 : (Jvm.Cond.methodLink "HouseClaps$Not" (13 : Nat) ({ cls := "HouseClaps$Cond", name := "holds", desc := "(LHouseClaps$Night;I)Z" } : Jvm.MethodName)) ∈ lw_all := lw_g (lw_at lw_m6 77 rfl) rfl
theorem q1366 : (Jvm.Cond.selects "HouseClaps$Not" ({ cls := "HouseClaps$Cond", name := "holds", desc := "(LHouseClaps$Night;I)Z" } : Jvm.MethodName) ({ cls := "HouseClaps$Not", name := "holds", desc := "(LHouseClaps$Night;I)Z" } : Jvm.MethodName)) ∈ lw_all := lw_g (lw_at lw_m6 82 rfl) rfl
theorem q2338 : (Jvm.Cond.castable "HouseClaps$Not" "java/lang/Object") ∈ lw_tbl := lw_at lw_m10 94 rfl
theorem q2351 : (Jvm.Cond.castable "HouseClaps$Not" "HouseClaps$Cond") ∈ lw_tbl := lw_at lw_m10 107 rfl
theorem in_X9 : ∀ w ∈ wsX90, w ∈ lw_all := lw_in wsX90 [907] (by decide +kernel) (by decide +kernel)

/-! HouseClaps$Compare -/
set_option maxRecDepth 100000
def RX10 : String := "HouseClaps$Compare"
abbrev cX10_init : ByteArray := prog_3_method_1_code
def yX10_init : MethodName := ⟨RX10, "<init>", "(II)V"⟩
abbrev cX10_holds : ByteArray := prog_3_method_3_code
def yX10_holds : MethodName := ⟨RX10, "holds", "(LHouseClaps$Night;I)Z"⟩
theorem q110 : (Jvm.Cond.initialized "HouseClaps$Compare") ∈ lw_all := lw_g (lw_at lw_m1 26 rfl) rfl
theorem q937 : (Jvm.Cond.instanceMethod ({ cls := "HouseClaps$Compare", name := "<init>", desc := "(II)V" } : Jvm.MethodName)) ∈ lw_all := lw_g (lw_at lw_m4 133 rfl) rfl
theorem q938 : (Jvm.Cond.code ({ cls := "HouseClaps$Compare", name := "<init>", desc := "(II)V" } : Jvm.MethodName) prog_3_method_1_code (3 : Nat) (Option.none : Option Jvm.ClassFile.FieldType)) ∈ lw_all := lw_g (lw_at lw_m4 134 rfl) rfl
theorem q939 : (Jvm.Cond.methodLinkNest "HouseClaps$Compare" (1 : Nat) ({ cls := "HouseClaps$Cond", name := "<init>", desc := "()V" } : Jvm.MethodName) "HouseClaps") ∈ lw_tbl := lw_at lw_m4 135 rfl
theorem q942 : (Jvm.Cond.fieldLink "HouseClaps$Compare" (7 : Nat) "HouseClaps$Compare" "sign" "I") ∈ lw_all := lw_g (lw_at lw_m4 138 rfl) rfl
theorem q943 : (Jvm.Cond.fieldLink "HouseClaps$Compare" (13 : Nat) "HouseClaps$Compare" "number" "I") ∈ lw_all := lw_g (lw_at lw_m4 139 rfl) rfl
theorem q949 : (Jvm.Cond.soleField "HouseClaps$Compare" "sign") ∈ lw_all := lw_g (lw_at lw_m4 145 rfl) rfl
theorem q951 : (Jvm.Cond.soleField "HouseClaps$Compare" "number") ∈ lw_all := lw_g (lw_at lw_m4 147 rfl) rfl
theorem q1334 : (Jvm.Cond.instanceMethod ({ cls := "HouseClaps$Compare", name := "holds", desc := "(LHouseClaps$Night;I)Z" } : Jvm.MethodName)) ∈ lw_all := lw_g (lw_at lw_m6 50 rfl) rfl
theorem q1335 : (Jvm.Cond.code ({ cls := "HouseClaps$Compare", name := "holds", desc := "(LHouseClaps$Night;I)Z" } : Jvm.MethodName) prog_3_method_3_code (4 : Nat) (Option.some Jvm.ClassFile.FieldType.boolean)) ∈ lw_all := lw_g (lw_at lw_m6 51 rfl) rfl
theorem q1336 : (Jvm.Cond.methodLink "HouseClaps$Compare" (16 : Nat) ({ cls := "HouseClaps$Compare", name := "value", desc := "(LHouseClaps$Night;I)I" } : Jvm.MethodName)) ∈ lw_all := lw_g (lw_at lw_m6 52 rfl) rfl
theorem q1337 : (Jvm.Cond.declares ({ cls := "HouseClaps$Compare", name := "value", desc := "(LHouseClaps$Night;I)I" } : Jvm.MethodName)) ∈ lw_tbl := lw_at lw_m6 53 rfl
theorem q1338 : (Jvm.Cond.sameMethod "HouseClaps$Compare" "HouseClaps$Compare" "value" "(LHouseClaps$Night;I)I") ∈ lw_all := lw_g (lw_at lw_m6 54 rfl) rfl

/-! HouseClaps$Sees -/
set_option maxRecDepth 100000
def RX11 : String := "HouseClaps$Sees"
def TX11 : u_T := fun k => match k with
  | 0 => ("HouseClaps$Compare", "sign", "I", true)
  | 1 => ("HouseClaps$Compare", "number", "I", true)
  | 2 => ("HouseClaps$Sees", "area", "I", true)
  | _ => ("HouseClaps$Sees", "level", "I", true)
def tyX11 : Nat → FieldType := fun k => match k with
  | 0 => .int
  | 1 => .int
  | 2 => .int
  | _ => .int
abbrev wsX110 : List Cond := u_ws RX11 TX11 4
theorem nmX11 : ∀ a, a < 4 → ∀ b, b < 4 → a ≠ b → (TX11 a).2.1 ≠ (TX11 b).2.1 := by decide +kernel
theorem tyX11_ok : ∀ k, k < 4 → parseFieldDescriptor (TX11 k).2.2.1 = some (tyX11 k) := by decide +kernel
abbrev cX11_init : ByteArray := prog_18_method_1_code
def yX11_init : MethodName := ⟨RX11, "<init>", "(IIII)V"⟩
abbrev cX11_value : ByteArray := prog_18_method_2_code
def yX11_value : MethodName := ⟨RX11, "value", "(LHouseClaps$Night;I)I"⟩
theorem q111 : (Jvm.Cond.initialized "HouseClaps$Sees") ∈ lw_all := lw_g (lw_at lw_m1 27 rfl) rfl
theorem q932 : (Jvm.Cond.instantiable "HouseClaps$Sees" (4 : Nat)) ∈ lw_all := lw_g (lw_at lw_m4 128 rfl) rfl
theorem q934 : (Jvm.Cond.instanceMethod ({ cls := "HouseClaps$Sees", name := "<init>", desc := "(IIII)V" } : Jvm.MethodName)) ∈ lw_all := lw_g (lw_at lw_m4 130 rfl) rfl
theorem q935 : (Jvm.Cond.code ({ cls := "HouseClaps$Sees", name := "<init>", desc := "(IIII)V" } : Jvm.MethodName) prog_18_method_1_code (5 : Nat) (Option.none : Option Jvm.ClassFile.FieldType)) ∈ lw_all := lw_g (lw_at lw_m4 131 rfl) rfl
theorem q936 : (Jvm.Cond.methodLink "HouseClaps$Sees" (1 : Nat) ({ cls := "HouseClaps$Compare", name := "<init>", desc := "(II)V" } : Jvm.MethodName)) ∈ lw_all := lw_g (lw_at lw_m4 132 rfl) rfl
theorem q940 : (Jvm.Cond.fieldLink "HouseClaps$Sees" (7 : Nat) "HouseClaps$Sees" "area" "I") ∈ lw_all := lw_g (lw_at lw_m4 136 rfl) rfl
theorem q941 : (Jvm.Cond.fieldLink "HouseClaps$Sees" (13 : Nat) "HouseClaps$Sees" "level" "I") ∈ lw_all := lw_g (lw_at lw_m4 137 rfl) rfl
theorem q944 : (Jvm.Cond.laysFinal "HouseClaps$Sees" "HouseClaps$Sees" "area" "I") ∈ lw_all := lw_g (lw_at lw_m4 140 rfl) rfl
theorem q945 : (Jvm.Cond.soleField "HouseClaps$Sees" "area") ∈ lw_all := lw_g (lw_at lw_m4 141 rfl) rfl
theorem q946 : (Jvm.Cond.laysFinal "HouseClaps$Sees" "HouseClaps$Sees" "level" "I") ∈ lw_all := lw_g (lw_at lw_m4 142 rfl) rfl
theorem q947 : (Jvm.Cond.soleField "HouseClaps$Sees" "level") ∈ lw_all := lw_g (lw_at lw_m4 143 rfl) rfl
theorem q948 : (Jvm.Cond.laysFinal "HouseClaps$Sees" "HouseClaps$Compare" "sign" "I") ∈ lw_all := lw_g (lw_at lw_m4 144 rfl) rfl
theorem q950 : (Jvm.Cond.laysFinal "HouseClaps$Sees" "HouseClaps$Compare" "number" "I") ∈ lw_all := lw_g (lw_at lw_m4 146 rfl) rfl
theorem q952 : (Jvm.Cond.superclass "HouseClaps$Sees" "HouseClaps$Compare") ∈ lw_all := lw_g (lw_at lw_m4 148 rfl) rfl
theorem q1213 : (Jvm.Cond.selects "HouseClaps$Sees" ({ cls := "java/lang/Object", name := "getClass", desc := "()Ljava/lang/Class;" } : Jvm.MethodName) ({ cls := "java/lang/Object", name := "getClass", desc := "()Ljava/lang/Class;" } : Jvm.MethodName)) ∈ lw_all := lw_g (lw_at lw_m5 169 rfl) rfl
theorem q1342 : (Jvm.Cond.selects "HouseClaps$Sees" ({ cls := "HouseClaps$Compare", name := "value", desc := "(LHouseClaps$Night;I)I" } : Jvm.MethodName) ({ cls := "HouseClaps$Sees", name := "value", desc := "(LHouseClaps$Night;I)I" } : Jvm.MethodName)) ∈ lw_all := lw_g (lw_at lw_m6 58 rfl) rfl
theorem q1343 : (Jvm.Cond.instanceMethod ({ cls := "HouseClaps$Sees", name := "value", desc := "(LHouseClaps$Night;I)I" } : Jvm.MethodName)) ∈ lw_all := lw_g (lw_at lw_m6 59 rfl) rfl
theorem q1344 : (Jvm.Cond.code ({ cls := "HouseClaps$Sees", name := "value", desc := "(LHouseClaps$Night;I)I" } : Jvm.MethodName) prog_18_method_2_code (3 : Nat) (Option.some Jvm.ClassFile.FieldType.int)) ∈ lw_all := lw_g (lw_at lw_m6 60 rfl) rfl
theorem q1345 : (Jvm.Cond.methodLink "HouseClaps$Sees" (16 : Nat) ({ cls := "HouseClaps$Night", name := "perceives", desc := "(III)I" } : Jvm.MethodName)) ∈ lw_all := lw_g (lw_at lw_m6 61 rfl) rfl
theorem q1368 : (Jvm.Cond.selects "HouseClaps$Sees" ({ cls := "HouseClaps$Cond", name := "holds", desc := "(LHouseClaps$Night;I)Z" } : Jvm.MethodName) ({ cls := "HouseClaps$Compare", name := "holds", desc := "(LHouseClaps$Night;I)Z" } : Jvm.MethodName)) ∈ lw_all := lw_g (lw_at lw_m6 84 rfl) rfl
theorem q2339 : (Jvm.Cond.castable "HouseClaps$Sees" "java/lang/Object") ∈ lw_tbl := lw_at lw_m10 95 rfl
theorem q2352 : (Jvm.Cond.castable "HouseClaps$Sees" "HouseClaps$Cond") ∈ lw_tbl := lw_at lw_m10 108 rfl
theorem in_X11 : ∀ w ∈ wsX110, w ∈ lw_all := lw_in wsX110 [948, 950, 944, 946] (by decide +kernel) (by decide +kernel)

/-! HouseClaps$Self -/
set_option maxRecDepth 100000
def RX12 : String := "HouseClaps$Self"
def TX12 : u_T := fun k => match k with
  | 0 => ("HouseClaps$Compare", "sign", "I", true)
  | _ => ("HouseClaps$Compare", "number", "I", true)
def tyX12 : Nat → FieldType := fun k => match k with
  | 0 => .int
  | _ => .int
abbrev wsX120 : List Cond := u_ws RX12 TX12 2
theorem nmX12 : ∀ a, a < 2 → ∀ b, b < 2 → a ≠ b → (TX12 a).2.1 ≠ (TX12 b).2.1 := by decide +kernel
theorem tyX12_ok : ∀ k, k < 2 → parseFieldDescriptor (TX12 k).2.2.1 = some (tyX12 k) := by decide +kernel
abbrev cX12_init : ByteArray := prog_19_method_1_code
def yX12_init : MethodName := ⟨RX12, "<init>", "(II)V"⟩
abbrev cX12_value : ByteArray := prog_19_method_2_code
def yX12_value : MethodName := ⟨RX12, "value", "(LHouseClaps$Night;I)I"⟩
theorem q112 : (Jvm.Cond.initialized "HouseClaps$Self") ∈ lw_all := lw_g (lw_at lw_m1 28 rfl) rfl
theorem q274 : (Jvm.Cond.fieldLinkNest "HouseClaps$Self" (7 : Nat) "HouseClaps$Night" "was" "[I" "HouseClaps") ∈ lw_tbl := lw_at lw_m1 190 rfl
theorem q954 : (Jvm.Cond.instantiable "HouseClaps$Self" (2 : Nat)) ∈ lw_all := lw_g (lw_at lw_m4 150 rfl) rfl
theorem q956 : (Jvm.Cond.instanceMethod ({ cls := "HouseClaps$Self", name := "<init>", desc := "(II)V" } : Jvm.MethodName)) ∈ lw_all := lw_g (lw_at lw_m4 152 rfl) rfl
theorem q957 : (Jvm.Cond.code ({ cls := "HouseClaps$Self", name := "<init>", desc := "(II)V" } : Jvm.MethodName) prog_19_method_1_code (3 : Nat) (Option.none : Option Jvm.ClassFile.FieldType)) ∈ lw_all := lw_g (lw_at lw_m4 153 rfl) rfl
theorem q958 : (Jvm.Cond.methodLink "HouseClaps$Self" (1 : Nat) ({ cls := "HouseClaps$Compare", name := "<init>", desc := "(II)V" } : Jvm.MethodName)) ∈ lw_all := lw_g (lw_at lw_m4 154 rfl) rfl
theorem q959 : (Jvm.Cond.laysFinal "HouseClaps$Self" "HouseClaps$Compare" "sign" "I") ∈ lw_all := lw_g (lw_at lw_m4 155 rfl) rfl
theorem q960 : (Jvm.Cond.laysFinal "HouseClaps$Self" "HouseClaps$Compare" "number" "I") ∈ lw_all := lw_g (lw_at lw_m4 156 rfl) rfl
theorem q961 : (Jvm.Cond.superclass "HouseClaps$Self" "HouseClaps$Compare") ∈ lw_all := lw_g (lw_at lw_m4 157 rfl) rfl
theorem q1214 : (Jvm.Cond.selects "HouseClaps$Self" ({ cls := "java/lang/Object", name := "getClass", desc := "()Ljava/lang/Class;" } : Jvm.MethodName) ({ cls := "java/lang/Object", name := "getClass", desc := "()Ljava/lang/Class;" } : Jvm.MethodName)) ∈ lw_all := lw_g (lw_at lw_m5 170 rfl) rfl
theorem q1356 : (Jvm.Cond.selects "HouseClaps$Self" ({ cls := "HouseClaps$Compare", name := "value", desc := "(LHouseClaps$Night;I)I" } : Jvm.MethodName) ({ cls := "HouseClaps$Self", name := "value", desc := "(LHouseClaps$Night;I)I" } : Jvm.MethodName)) ∈ lw_all := lw_g (lw_at lw_m6 72 rfl) rfl
theorem q1357 : (Jvm.Cond.instanceMethod ({ cls := "HouseClaps$Self", name := "value", desc := "(LHouseClaps$Night;I)I" } : Jvm.MethodName)) ∈ lw_all := lw_g (lw_at lw_m6 73 rfl) rfl
theorem q1358 : (Jvm.Cond.code ({ cls := "HouseClaps$Self", name := "value", desc := "(LHouseClaps$Night;I)I" } : Jvm.MethodName) prog_19_method_2_code (3 : Nat) (Option.some Jvm.ClassFile.FieldType.int)) ∈ lw_all := lw_g (lw_at lw_m6 74 rfl) rfl
theorem q1369 : (Jvm.Cond.selects "HouseClaps$Self" ({ cls := "HouseClaps$Cond", name := "holds", desc := "(LHouseClaps$Night;I)Z" } : Jvm.MethodName) ({ cls := "HouseClaps$Compare", name := "holds", desc := "(LHouseClaps$Night;I)Z" } : Jvm.MethodName)) ∈ lw_all := lw_g (lw_at lw_m6 85 rfl) rfl
theorem q2340 : (Jvm.Cond.castable "HouseClaps$Self" "java/lang/Object") ∈ lw_tbl := lw_at lw_m10 96 rfl
theorem q2353 : (Jvm.Cond.castable "HouseClaps$Self" "HouseClaps$Cond") ∈ lw_tbl := lw_at lw_m10 109 rfl
theorem in_X12 : ∀ w ∈ wsX120, w ∈ lw_all := lw_in wsX120 [959, 960] (by decide +kernel) (by decide +kernel)

/-! HouseClaps$Held -/
set_option maxRecDepth 100000
def RX13 : String := "HouseClaps$Held"
def TX13 : u_T := fun k => match k with
  | 0 => ("HouseClaps$Compare", "sign", "I", true)
  | _ => ("HouseClaps$Compare", "number", "I", true)
def tyX13 : Nat → FieldType := fun k => match k with
  | 0 => .int
  | _ => .int
abbrev wsX130 : List Cond := u_ws RX13 TX13 2
theorem nmX13 : ∀ a, a < 2 → ∀ b, b < 2 → a ≠ b → (TX13 a).2.1 ≠ (TX13 b).2.1 := by decide +kernel
theorem tyX13_ok : ∀ k, k < 2 → parseFieldDescriptor (TX13 k).2.2.1 = some (tyX13 k) := by decide +kernel
abbrev cX13_init : ByteArray := prog_9_method_1_code
def yX13_init : MethodName := ⟨RX13, "<init>", "(II)V"⟩
abbrev cX13_value : ByteArray := prog_9_method_2_code
def yX13_value : MethodName := ⟨RX13, "value", "(LHouseClaps$Night;I)I"⟩
theorem q113 : (Jvm.Cond.initialized "HouseClaps$Held") ∈ lw_all := lw_g (lw_at lw_m1 29 rfl) rfl
theorem q278 : (Jvm.Cond.fieldLinkNest "HouseClaps$Held" (7 : Nat) "HouseClaps$Night" "wasHeld" "[I" "HouseClaps") ∈ lw_tbl := lw_at lw_m1 194 rfl
theorem q963 : (Jvm.Cond.instantiable "HouseClaps$Held" (2 : Nat)) ∈ lw_all := lw_g (lw_at lw_m4 159 rfl) rfl
theorem q965 : (Jvm.Cond.instanceMethod ({ cls := "HouseClaps$Held", name := "<init>", desc := "(II)V" } : Jvm.MethodName)) ∈ lw_all := lw_g (lw_at lw_m4 161 rfl) rfl
theorem q966 : (Jvm.Cond.code ({ cls := "HouseClaps$Held", name := "<init>", desc := "(II)V" } : Jvm.MethodName) prog_9_method_1_code (3 : Nat) (Option.none : Option Jvm.ClassFile.FieldType)) ∈ lw_all := lw_g (lw_at lw_m4 162 rfl) rfl
theorem q967 : (Jvm.Cond.methodLink "HouseClaps$Held" (1 : Nat) ({ cls := "HouseClaps$Compare", name := "<init>", desc := "(II)V" } : Jvm.MethodName)) ∈ lw_all := lw_g (lw_at lw_m4 163 rfl) rfl
theorem q968 : (Jvm.Cond.laysFinal "HouseClaps$Held" "HouseClaps$Compare" "sign" "I") ∈ lw_all := lw_g (lw_at lw_m4 164 rfl) rfl
theorem q969 : (Jvm.Cond.laysFinal "HouseClaps$Held" "HouseClaps$Compare" "number" "I") ∈ lw_all := lw_g (lw_at lw_m4 165 rfl) rfl
theorem q970 : (Jvm.Cond.superclass "HouseClaps$Held" "HouseClaps$Compare") ∈ lw_all := lw_g (lw_at lw_m4 166 rfl) rfl
theorem q1205 : (Jvm.Cond.selects "HouseClaps$Held" ({ cls := "java/lang/Object", name := "getClass", desc := "()Ljava/lang/Class;" } : Jvm.MethodName) ({ cls := "java/lang/Object", name := "getClass", desc := "()Ljava/lang/Class;" } : Jvm.MethodName)) ∈ lw_all := lw_g (lw_at lw_m5 161 rfl) rfl
theorem q1339 : (Jvm.Cond.selects "HouseClaps$Held" ({ cls := "HouseClaps$Compare", name := "value", desc := "(LHouseClaps$Night;I)I" } : Jvm.MethodName) ({ cls := "HouseClaps$Held", name := "value", desc := "(LHouseClaps$Night;I)I" } : Jvm.MethodName)) ∈ lw_all := lw_g (lw_at lw_m6 55 rfl) rfl
theorem q1340 : (Jvm.Cond.instanceMethod ({ cls := "HouseClaps$Held", name := "value", desc := "(LHouseClaps$Night;I)I" } : Jvm.MethodName)) ∈ lw_all := lw_g (lw_at lw_m6 56 rfl) rfl
theorem q1341 : (Jvm.Cond.code ({ cls := "HouseClaps$Held", name := "value", desc := "(LHouseClaps$Night;I)I" } : Jvm.MethodName) prog_9_method_2_code (3 : Nat) (Option.some Jvm.ClassFile.FieldType.int)) ∈ lw_all := lw_g (lw_at lw_m6 57 rfl) rfl
theorem q1365 : (Jvm.Cond.selects "HouseClaps$Held" ({ cls := "HouseClaps$Cond", name := "holds", desc := "(LHouseClaps$Night;I)Z" } : Jvm.MethodName) ({ cls := "HouseClaps$Compare", name := "holds", desc := "(LHouseClaps$Night;I)Z" } : Jvm.MethodName)) ∈ lw_all := lw_g (lw_at lw_m6 81 rfl) rfl
theorem q2341 : (Jvm.Cond.castable "HouseClaps$Held" "java/lang/Object") ∈ lw_tbl := lw_at lw_m10 97 rfl
theorem q2354 : (Jvm.Cond.castable "HouseClaps$Held" "HouseClaps$Cond") ∈ lw_tbl := lw_at lw_m10 110 rfl
theorem in_X13 : ∀ w ∈ wsX130, w ∈ lw_all := lw_in wsX130 [968, 969] (by decide +kernel) (by decide +kernel)

/-! HouseClaps$Two -/
set_option maxRecDepth 100000
def RX14 : String := "HouseClaps$Two"
abbrev cX14_init : ByteArray := prog_21_method_1_code
def yX14_init : MethodName := ⟨RX14, "<init>", "(LHouseClaps$Cond;LHouseClaps$Cond;)V"⟩
theorem q114 : (Jvm.Cond.initialized "HouseClaps$Two") ∈ lw_all := lw_g (lw_at lw_m1 30 rfl) rfl
theorem q978 : (Jvm.Cond.instanceMethod ({ cls := "HouseClaps$Two", name := "<init>", desc := "(LHouseClaps$Cond;LHouseClaps$Cond;)V" } : Jvm.MethodName)) ∈ lw_all := lw_g (lw_at lw_m4 174 rfl) rfl
theorem q979 : (Jvm.Cond.code ({ cls := "HouseClaps$Two", name := "<init>", desc := "(LHouseClaps$Cond;LHouseClaps$Cond;)V" } : Jvm.MethodName) prog_21_method_1_code (3 : Nat) (Option.none : Option Jvm.ClassFile.FieldType)) ∈ lw_all := lw_g (lw_at lw_m4 175 rfl) rfl
theorem q980 : (Jvm.Cond.methodLinkNest "HouseClaps$Two" (1 : Nat) ({ cls := "HouseClaps$Cond", name := "<init>", desc := "()V" } : Jvm.MethodName) "HouseClaps") ∈ lw_tbl := lw_at lw_m4 176 rfl
theorem q981 : (Jvm.Cond.fieldLink "HouseClaps$Two" (7 : Nat) "HouseClaps$Two" "a" "LHouseClaps$Cond;") ∈ lw_all := lw_g (lw_at lw_m4 177 rfl) rfl
theorem q986 : (Jvm.Cond.fieldLink "HouseClaps$Two" (13 : Nat) "HouseClaps$Two" "b" "LHouseClaps$Cond;") ∈ lw_all := lw_g (lw_at lw_m4 182 rfl) rfl
theorem q992 : (Jvm.Cond.soleField "HouseClaps$Two" "a") ∈ lw_all := lw_g (lw_at lw_m4 188 rfl) rfl
theorem q994 : (Jvm.Cond.soleField "HouseClaps$Two" "b") ∈ lw_all := lw_g (lw_at lw_m4 190 rfl) rfl

/-! HouseClaps$And -/
set_option maxRecDepth 100000
def RX15 : String := "HouseClaps$And"
def TX15 : u_T := fun k => match k with
  | 0 => ("HouseClaps$Two", "a", "LHouseClaps$Cond;", true)
  | _ => ("HouseClaps$Two", "b", "LHouseClaps$Cond;", true)
def tyX15 : Nat → FieldType := fun k => match k with
  | 0 => .object "HouseClaps$Cond"
  | _ => .object "HouseClaps$Cond"
abbrev wsX150 : List Cond := u_ws RX15 TX15 2
theorem nmX15 : ∀ a, a < 2 → ∀ b, b < 2 → a ≠ b → (TX15 a).2.1 ≠ (TX15 b).2.1 := by decide +kernel
theorem tyX15_ok : ∀ k, k < 2 → parseFieldDescriptor (TX15 k).2.2.1 = some (tyX15 k) := by decide +kernel
abbrev cX15_init : ByteArray := prog_2_method_1_code
def yX15_init : MethodName := ⟨RX15, "<init>", "(LHouseClaps$Cond;LHouseClaps$Cond;)V"⟩
abbrev cX15_holds : ByteArray := prog_2_method_2_code
def yX15_holds : MethodName := ⟨RX15, "holds", "(LHouseClaps$Night;I)Z"⟩
theorem q115 : (Jvm.Cond.initialized "HouseClaps$And") ∈ lw_all := lw_g (lw_at lw_m1 31 rfl) rfl
theorem q973 : (Jvm.Cond.instantiable "HouseClaps$And" (2 : Nat)) ∈ lw_all := lw_g (lw_at lw_m4 169 rfl) rfl
theorem q975 : (Jvm.Cond.instanceMethod ({ cls := "HouseClaps$And", name := "<init>", desc := "(LHouseClaps$Cond;LHouseClaps$Cond;)V" } : Jvm.MethodName)) ∈ lw_all := lw_g (lw_at lw_m4 171 rfl) rfl
theorem q976 : (Jvm.Cond.code ({ cls := "HouseClaps$And", name := "<init>", desc := "(LHouseClaps$Cond;LHouseClaps$Cond;)V" } : Jvm.MethodName) prog_2_method_1_code (3 : Nat) (Option.none : Option Jvm.ClassFile.FieldType)) ∈ lw_all := lw_g (lw_at lw_m4 172 rfl) rfl
theorem q977 : (Jvm.Cond.methodLink "HouseClaps$And" (1 : Nat) ({ cls := "HouseClaps$Two", name := "<init>", desc := "(LHouseClaps$Cond;LHouseClaps$Cond;)V" } : Jvm.MethodName)) ∈ lw_all := lw_g (lw_at lw_m4 173 rfl) rfl
theorem q982 : (Jvm.Cond.fieldLink "HouseClaps$And" (7 : Nat) "HouseClaps$And" "a" "LHouseClaps$Cond;") ∈ lw_all := lw_g (lw_at lw_m4 178 rfl) rfl
theorem q983 : (Jvm.Cond.sameField "HouseClaps$And" "HouseClaps$Two" "a" "LHouseClaps$Cond;") ∈ lw_all := lw_g (lw_at lw_m4 179 rfl) rfl
theorem q989 : (Jvm.Cond.fieldLink "HouseClaps$And" (19 : Nat) "HouseClaps$And" "b" "LHouseClaps$Cond;") ∈ lw_all := lw_g (lw_at lw_m4 185 rfl) rfl
theorem q990 : (Jvm.Cond.sameField "HouseClaps$And" "HouseClaps$Two" "b" "LHouseClaps$Cond;") ∈ lw_all := lw_g (lw_at lw_m4 186 rfl) rfl
theorem q991 : (Jvm.Cond.laysFinal "HouseClaps$And" "HouseClaps$Two" "a" "LHouseClaps$Cond;") ∈ lw_all := lw_g (lw_at lw_m4 187 rfl) rfl
theorem q993 : (Jvm.Cond.laysFinal "HouseClaps$And" "HouseClaps$Two" "b" "LHouseClaps$Cond;") ∈ lw_all := lw_g (lw_at lw_m4 189 rfl) rfl
theorem q995 : (Jvm.Cond.superclass "HouseClaps$And" "HouseClaps$Two") ∈ lw_all := lw_g (lw_at lw_m4 191 rfl) rfl
theorem q1201 : (Jvm.Cond.selects "HouseClaps$And" ({ cls := "java/lang/Object", name := "getClass", desc := "()Ljava/lang/Class;" } : Jvm.MethodName) ({ cls := "java/lang/Object", name := "getClass", desc := "()Ljava/lang/Class;" } : Jvm.MethodName)) ∈ lw_all := lw_g (lw_at lw_m5 157 rfl) rfl
theorem q1330 : (Jvm.Cond.selects "HouseClaps$And" ({ cls := "HouseClaps$Cond", name := "holds", desc := "(LHouseClaps$Night;I)Z" } : Jvm.MethodName) ({ cls := "HouseClaps$And", name := "holds", desc := "(LHouseClaps$Night;I)Z" } : Jvm.MethodName)) ∈ lw_all := lw_g (lw_at lw_m6 46 rfl) rfl
theorem q1331 : (Jvm.Cond.instanceMethod ({ cls := "HouseClaps$And", name := "holds", desc := "(LHouseClaps$Night;I)Z" } : Jvm.MethodName)) ∈ lw_all := lw_g (lw_at lw_m6 47 rfl) rfl
theorem q1332 : (Jvm.Cond.code ({ cls := "HouseClaps$And", name := "holds", desc := "(LHouseClaps$Night;I)Z" } : Jvm.MethodName) prog_2_method_2_code (3 : Nat) (Option.some Jvm.ClassFile.FieldType.boolean)) ∈ lw_all := lw_g (lw_at lw_m6 48 rfl) rfl
theorem q1333 : (Jvm.Cond.methodLink "HouseClaps$And" (13 : Nat) ({ cls := "HouseClaps$Cond", name := "holds", desc := "(LHouseClaps$Night;I)Z" } : Jvm.MethodName)) ∈ lw_all := lw_g (lw_at lw_m6 49 rfl) rfl
theorem q2342 : (Jvm.Cond.castable "HouseClaps$And" "java/lang/Object") ∈ lw_tbl := lw_at lw_m10 98 rfl
theorem q2355 : (Jvm.Cond.castable "HouseClaps$And" "HouseClaps$Cond") ∈ lw_tbl := lw_at lw_m10 111 rfl
theorem in_X15 : ∀ w ∈ wsX150, w ∈ lw_all := lw_in wsX150 [991, 993] (by decide +kernel) (by decide +kernel)

/-! HouseClaps$Or -/
set_option maxRecDepth 100000
def RX16 : String := "HouseClaps$Or"
def TX16 : u_T := fun k => match k with
  | 0 => ("HouseClaps$Two", "a", "LHouseClaps$Cond;", true)
  | _ => ("HouseClaps$Two", "b", "LHouseClaps$Cond;", true)
def tyX16 : Nat → FieldType := fun k => match k with
  | 0 => .object "HouseClaps$Cond"
  | _ => .object "HouseClaps$Cond"
abbrev wsX160 : List Cond := u_ws RX16 TX16 2
theorem nmX16 : ∀ a, a < 2 → ∀ b, b < 2 → a ≠ b → (TX16 a).2.1 ≠ (TX16 b).2.1 := by decide +kernel
theorem tyX16_ok : ∀ k, k < 2 → parseFieldDescriptor (TX16 k).2.2.1 = some (tyX16 k) := by decide +kernel
abbrev cX16_init : ByteArray := prog_15_method_1_code
def yX16_init : MethodName := ⟨RX16, "<init>", "(LHouseClaps$Cond;LHouseClaps$Cond;)V"⟩
abbrev cX16_holds : ByteArray := prog_15_method_2_code
def yX16_holds : MethodName := ⟨RX16, "holds", "(LHouseClaps$Night;I)Z"⟩
theorem q116 : (Jvm.Cond.initialized "HouseClaps$Or") ∈ lw_all := lw_g (lw_at lw_m1 32 rfl) rfl
theorem q984 : (Jvm.Cond.fieldLink "HouseClaps$Or" (7 : Nat) "HouseClaps$Or" "a" "LHouseClaps$Cond;") ∈ lw_all := lw_g (lw_at lw_m4 180 rfl) rfl
theorem q985 : (Jvm.Cond.sameField "HouseClaps$Or" "HouseClaps$Two" "a" "LHouseClaps$Cond;") ∈ lw_all := lw_g (lw_at lw_m4 181 rfl) rfl
theorem q987 : (Jvm.Cond.fieldLink "HouseClaps$Or" (19 : Nat) "HouseClaps$Or" "b" "LHouseClaps$Cond;") ∈ lw_all := lw_g (lw_at lw_m4 183 rfl) rfl
theorem q988 : (Jvm.Cond.sameField "HouseClaps$Or" "HouseClaps$Two" "b" "LHouseClaps$Cond;") ∈ lw_all := lw_g (lw_at lw_m4 184 rfl) rfl
theorem q998 : (Jvm.Cond.instantiable "HouseClaps$Or" (2 : Nat)) ∈ lw_all := lw_g (lw_at lw_m4 194 rfl) rfl
theorem q1000 : (Jvm.Cond.instanceMethod ({ cls := "HouseClaps$Or", name := "<init>", desc := "(LHouseClaps$Cond;LHouseClaps$Cond;)V" } : Jvm.MethodName)) ∈ lw_all := lw_g (lw_at lw_m4 196 rfl) rfl
theorem q1001 : (Jvm.Cond.code ({ cls := "HouseClaps$Or", name := "<init>", desc := "(LHouseClaps$Cond;LHouseClaps$Cond;)V" } : Jvm.MethodName) prog_15_method_1_code (3 : Nat) (Option.none : Option Jvm.ClassFile.FieldType)) ∈ lw_all := lw_g (lw_at lw_m4 197 rfl) rfl
theorem q1002 : (Jvm.Cond.methodLink "HouseClaps$Or" (1 : Nat) ({ cls := "HouseClaps$Two", name := "<init>", desc := "(LHouseClaps$Cond;LHouseClaps$Cond;)V" } : Jvm.MethodName)) ∈ lw_all := lw_g (lw_at lw_m4 198 rfl) rfl
theorem q1003 : (Jvm.Cond.laysFinal "HouseClaps$Or" "HouseClaps$Two" "a" "LHouseClaps$Cond;") ∈ lw_all := lw_g (lw_at lw_m4 199 rfl) rfl
theorem q1004 : (Jvm.Cond.laysFinal "HouseClaps$Or" "HouseClaps$Two" "b" "LHouseClaps$Cond;") ∈ lw_all := lw_g (lw_at lw_m4 200 rfl) rfl
theorem q1005 : (Jvm.Cond.superclass "HouseClaps$Or" "HouseClaps$Two") ∈ lw_all := lw_g (lw_at lw_m4 201 rfl) rfl
theorem q1211 : (Jvm.Cond.selects "HouseClaps$Or" ({ cls := "java/lang/Object", name := "getClass", desc := "()Ljava/lang/Class;" } : Jvm.MethodName) ({ cls := "java/lang/Object", name := "getClass", desc := "()Ljava/lang/Class;" } : Jvm.MethodName)) ∈ lw_all := lw_g (lw_at lw_m5 167 rfl) rfl
theorem q1362 : (Jvm.Cond.instanceMethod ({ cls := "HouseClaps$Or", name := "holds", desc := "(LHouseClaps$Night;I)Z" } : Jvm.MethodName)) ∈ lw_all := lw_g (lw_at lw_m6 78 rfl) rfl
theorem q1363 : (Jvm.Cond.code ({ cls := "HouseClaps$Or", name := "holds", desc := "(LHouseClaps$Night;I)Z" } : Jvm.MethodName) prog_15_method_2_code (3 : Nat) (Option.some Jvm.ClassFile.FieldType.boolean)) ∈ lw_all := lw_g (lw_at lw_m6 79 rfl) rfl
theorem q1364 : (Jvm.Cond.methodLink "HouseClaps$Or" (13 : Nat) ({ cls := "HouseClaps$Cond", name := "holds", desc := "(LHouseClaps$Night;I)Z" } : Jvm.MethodName)) ∈ lw_all := lw_g (lw_at lw_m6 80 rfl) rfl
theorem q1367 : (Jvm.Cond.selects "HouseClaps$Or" ({ cls := "HouseClaps$Cond", name := "holds", desc := "(LHouseClaps$Night;I)Z" } : Jvm.MethodName) ({ cls := "HouseClaps$Or", name := "holds", desc := "(LHouseClaps$Night;I)Z" } : Jvm.MethodName)) ∈ lw_all := lw_g (lw_at lw_m6 83 rfl) rfl
theorem q2343 : (Jvm.Cond.castable "HouseClaps$Or" "java/lang/Object") ∈ lw_tbl := lw_at lw_m10 99 rfl
theorem q2356 : (Jvm.Cond.castable "HouseClaps$Or" "HouseClaps$Cond") ∈ lw_tbl := lw_at lw_m10 112 rfl
theorem in_X16 : ∀ w ∈ wsX160, w ∈ lw_all := lw_in wsX160 [1003, 1004] (by decide +kernel) (by decide +kernel)

/-! java/lang/RuntimeException -/
set_option maxRecDepth 100000
def RJ15 : String := "java/lang/RuntimeException"
abbrev cJ15_init : ByteArray := prog_36_method_1_code
def yJ15_init : MethodName := ⟨RJ15, "<init>", "()V"⟩
theorem q117 : (Jvm.Cond.initialized "java/lang/RuntimeException") ∈ lw_all := lw_g (lw_at lw_m1 33 rfl) rfl
theorem q1630 : (Jvm.Cond.declares ({ cls := "java/lang/RuntimeException", name := "<init>", desc := "()V" } : Jvm.MethodName)) ∈ lw_tbl := lw_at lw_m7 106 rfl
theorem q1631 : (Jvm.Cond.declares ({ cls := "java/lang/RuntimeException", name := "<init>", desc := "(Ljava/lang/String;)V" } : Jvm.MethodName)) ∈ lw_tbl := lw_at lw_m7 107 rfl
theorem q1642 : (Jvm.Cond.instanceMethod ({ cls := "java/lang/RuntimeException", name := "<init>", desc := "()V" } : Jvm.MethodName)) ∈ lw_all := lw_g (lw_at lw_m7 118 rfl) rfl
theorem q1643 : (Jvm.Cond.code ({ cls := "java/lang/RuntimeException", name := "<init>", desc := "()V" } : Jvm.MethodName) prog_36_method_1_code (1 : Nat) (Option.none : Option Jvm.ClassFile.FieldType)) ∈ lw_all := lw_g (lw_at lw_m7 119 rfl) rfl
theorem q1644 : (Jvm.Cond.methodLink "java/lang/RuntimeException" (1 : Nat) ({ cls := "java/lang/Exception", name := "<init>", desc := "()V" } : Jvm.MethodName)) ∈ lw_all := lw_g (lw_at lw_m7 120 rfl) rfl

/-! java/util/NoSuchElementException -/
set_option maxRecDepth 100000
def RJ16 : String := "java/util/NoSuchElementException"
def TJ16 : u_T := fun k => match k with
  | 0 => ("java/lang/Throwable", "cause", "Ljava/lang/Throwable;", false)
  | 1 => ("java/lang/Throwable", "stackTrace", "[Ljava/lang/StackTraceElement;", false)
  | 2 => ("java/lang/Throwable", "suppressedExceptions", "Ljava/util/List;", false)
  | 3 => ("java/lang/Throwable", "detailMessage", "Ljava/lang/String;", false)
  | 4 => ("java/lang/Throwable", "backtrace", "Ljava/lang/Object;", false)
  | _ => ("java/lang/Throwable", "depth", "I", false)
def tyJ16 : Nat → FieldType := fun k => match k with
  | 0 => .object "java/lang/Throwable"
  | 1 => .array (.object "java/lang/StackTraceElement")
  | 2 => .object "java/util/List"
  | 3 => .object "java/lang/String"
  | 4 => .object "java/lang/Object"
  | _ => .int
abbrev wsJ160 : List Cond := u_ws RJ16 TJ16 6
theorem nmJ16 : ∀ a, a < 6 → ∀ b, b < 6 → a ≠ b → (TJ16 a).2.1 ≠ (TJ16 b).2.1 := by decide +kernel
theorem tyJ16_ok : ∀ k, k < 6 → parseFieldDescriptor (TJ16 k).2.2.1 = some (tyJ16 k) := by decide +kernel
abbrev cJ16_init : ByteArray := prog_51_method_1_code
def yJ16_init : MethodName := ⟨RJ16, "<init>", "()V"⟩
theorem q118 : (Jvm.Cond.initialized "java/util/NoSuchElementException") ∈ lw_all := lw_g (lw_at lw_m1 34 rfl) rfl
theorem q815 : (Jvm.Cond.selects "java/util/NoSuchElementException" ({ cls := "java/lang/Throwable", name := "fillInStackTrace", desc := "()Ljava/lang/Throwable;" } : Jvm.MethodName) ({ cls := "java/lang/Throwable", name := "fillInStackTrace", desc := "()Ljava/lang/Throwable;" } : Jvm.MethodName)) ∈ lw_all := lw_g (lw_at lw_m4 11 rfl) rfl
theorem q1220 : (Jvm.Cond.selects "java/util/NoSuchElementException" ({ cls := "java/lang/Object", name := "getClass", desc := "()Ljava/lang/Class;" } : Jvm.MethodName) ({ cls := "java/lang/Object", name := "getClass", desc := "()Ljava/lang/Class;" } : Jvm.MethodName)) ∈ lw_all := lw_g (lw_at lw_m5 176 rfl) rfl
theorem q1628 : (Jvm.Cond.instantiable "java/util/NoSuchElementException" (6 : Nat)) ∈ lw_all := lw_g (lw_at lw_m7 104 rfl) rfl
theorem q1629 : (Jvm.Cond.castable "java/util/NoSuchElementException" "java/util/NoSuchElementException") ∈ lw_tbl := lw_at lw_m7 105 rfl
theorem q1632 : (Jvm.Cond.selects "java/util/NoSuchElementException" ({ cls := "java/lang/Throwable", name := "fillInStackTrace", desc := "(I)Ljava/lang/Throwable;" } : Jvm.MethodName) ({ cls := "java/lang/Throwable", name := "fillInStackTrace", desc := "(I)Ljava/lang/Throwable;" } : Jvm.MethodName)) ∈ lw_all := lw_g (lw_at lw_m7 108 rfl) rfl
theorem q1633 : (Jvm.Cond.lays "java/util/NoSuchElementException" "java/lang/Throwable" "cause" "Ljava/lang/Throwable;") ∈ lw_all := lw_g (lw_at lw_m7 109 rfl) rfl
theorem q1634 : (Jvm.Cond.lays "java/util/NoSuchElementException" "java/lang/Throwable" "stackTrace" "[Ljava/lang/StackTraceElement;") ∈ lw_all := lw_g (lw_at lw_m7 110 rfl) rfl
theorem q1635 : (Jvm.Cond.lays "java/util/NoSuchElementException" "java/lang/Throwable" "suppressedExceptions" "Ljava/util/List;") ∈ lw_all := lw_g (lw_at lw_m7 111 rfl) rfl
theorem q1636 : (Jvm.Cond.lays "java/util/NoSuchElementException" "java/lang/Throwable" "detailMessage" "Ljava/lang/String;") ∈ lw_all := lw_g (lw_at lw_m7 112 rfl) rfl
theorem q1637 : (Jvm.Cond.lays "java/util/NoSuchElementException" "java/lang/Throwable" "backtrace" "Ljava/lang/Object;") ∈ lw_all := lw_g (lw_at lw_m7 113 rfl) rfl
theorem q1639 : (Jvm.Cond.instanceMethod ({ cls := "java/util/NoSuchElementException", name := "<init>", desc := "()V" } : Jvm.MethodName)) ∈ lw_all := lw_g (lw_at lw_m7 115 rfl) rfl
theorem q1640 : (Jvm.Cond.code ({ cls := "java/util/NoSuchElementException", name := "<init>", desc := "()V" } : Jvm.MethodName) prog_51_method_1_code (1 : Nat) (Option.none : Option Jvm.ClassFile.FieldType)) ∈ lw_all := lw_g (lw_at lw_m7 116 rfl) rfl
theorem q1641 : (Jvm.Cond.methodLink "java/util/NoSuchElementException" (1 : Nat) ({ cls := "java/lang/RuntimeException", name := "<init>", desc := "()V" } : Jvm.MethodName)) ∈ lw_all := lw_g (lw_at lw_m7 117 rfl) rfl
theorem q1645 : (Jvm.Cond.lays "java/util/NoSuchElementException" "java/lang/Throwable" "depth" "I") ∈ lw_all := lw_g (lw_at lw_m7 121 rfl) rfl
theorem q1646 : (Jvm.Cond.superclass "java/util/NoSuchElementException" "java/lang/RuntimeException") ∈ lw_all := lw_g (lw_at lw_m7 122 rfl) rfl
theorem q2344 : (Jvm.Cond.castable "java/util/NoSuchElementException" "java/lang/Object") ∈ lw_tbl := lw_at lw_m10 100 rfl
theorem in_J16 : ∀ w ∈ wsJ160, w ∈ lw_all := lw_in wsJ160 [1633, 1634, 1635, 1636, 1637, 1645] (by decide +kernel) (by decide +kernel)

/-! HouseClaps$CueReader -/
set_option maxRecDepth 100000
def RX17 : String := "HouseClaps$CueReader"
def TX17 : u_T := fun k => match k with
  | 0 => ("HouseClaps$Reader", "tape", "[B", true)
  | 1 => ("HouseClaps$Reader", "size", "I", true)
  | 2 => ("HouseClaps$Reader", "limit", "I", true)
  | 3 => ("HouseClaps$Reader", "to", "I", false)
  | 4 => ("HouseClaps$Reader", "kind", "I", false)
  | 5 => ("HouseClaps$Reader", "from", "I", false)
  | 6 => ("HouseClaps$Reader", "number", "I", false)
  | 7 => ("HouseClaps$Reader", "sign", "I", false)
  | 8 => ("HouseClaps$Reader", "word", "Ljava/lang/String;", false)
  | 9 => ("HouseClaps$CueReader", "h", "LHouseClaps$House;", true)
  | _ => ("HouseClaps$CueReader", "cues", "Ljava/util/ArrayList;", true)
def tyX17 : Nat → FieldType := fun k => match k with
  | 0 => .array .byte
  | 1 => .int
  | 2 => .int
  | 3 => .int
  | 4 => .int
  | 5 => .int
  | 6 => .int
  | 7 => .int
  | 8 => .object "java/lang/String"
  | 9 => .object "HouseClaps$House"
  | _ => .object "java/util/ArrayList"
abbrev wsX170 : List Cond := u_ws RX17 TX17 11
theorem nmX17 : ∀ a, a < 11 → ∀ b, b < 11 → a ≠ b → (TX17 a).2.1 ≠ (TX17 b).2.1 := by decide +kernel
theorem tyX17_ok : ∀ k, k < 11 → parseFieldDescriptor (TX17 k).2.2.1 = some (tyX17 k) := by decide +kernel
abbrev cX17_init : ByteArray := prog_6_method_1_code
def yX17_init : MethodName := ⟨RX17, "<init>", "([BILHouseClaps$House;)V"⟩
abbrev cX17_read : ByteArray := prog_6_method_2_code
def yX17_read : MethodName := ⟨RX17, "read", "()Ljava/util/ArrayList;"⟩
abbrev cX17_cue : ByteArray := prog_6_method_3_code
def yX17_cue : MethodName := ⟨RX17, "cue", "(I)LHouseClaps$Cue;"⟩
theorem q119 : (Jvm.Cond.initialized "HouseClaps$CueReader") ∈ lw_all := lw_g (lw_at lw_m1 35 rfl) rfl
theorem q151 : (Jvm.Cond.fieldLinkNest "HouseClaps$CueReader" (73 : Nat) "HouseClaps$House" "rows" "I" "HouseClaps") ∈ lw_tbl := lw_at lw_m1 67 rfl
theorem q155 : (Jvm.Cond.fieldLinkNest "HouseClaps$CueReader" (78 : Nat) "HouseClaps$House" "columns" "I" "HouseClaps") ∈ lw_tbl := lw_at lw_m1 71 rfl
theorem q443 : (Jvm.Cond.fieldLink "HouseClaps$CueReader" (27 : Nat) "HouseClaps$CueReader" "kind" "I") ∈ lw_all := lw_g (lw_at lw_m2 119 rfl) rfl
theorem q444 : (Jvm.Cond.sameField "HouseClaps$CueReader" "HouseClaps$Reader" "kind" "I") ∈ lw_all := lw_g (lw_at lw_m2 120 rfl) rfl
theorem q923 : (Jvm.Cond.selects "HouseClaps$CueReader" ({ cls := "HouseClaps$Reader", name := "hold", desc := "(II)I" } : Jvm.MethodName) ({ cls := "HouseClaps$Reader", name := "hold", desc := "(II)I" } : Jvm.MethodName)) ∈ lw_all := lw_g (lw_at lw_m4 119 rfl) rfl
theorem q1077 : (Jvm.Cond.instantiable "HouseClaps$CueReader" (11 : Nat)) ∈ lw_all := lw_g (lw_at lw_m5 33 rfl) rfl
theorem q1079 : (Jvm.Cond.instanceMethod ({ cls := "HouseClaps$CueReader", name := "<init>", desc := "([BILHouseClaps$House;)V" } : Jvm.MethodName)) ∈ lw_all := lw_g (lw_at lw_m5 35 rfl) rfl
theorem q1080 : (Jvm.Cond.code ({ cls := "HouseClaps$CueReader", name := "<init>", desc := "([BILHouseClaps$House;)V" } : Jvm.MethodName) prog_6_method_1_code (4 : Nat) (Option.none : Option Jvm.ClassFile.FieldType)) ∈ lw_all := lw_g (lw_at lw_m5 36 rfl) rfl
theorem q1081 : (Jvm.Cond.methodLink "HouseClaps$CueReader" (3 : Nat) ({ cls := "HouseClaps$Reader", name := "<init>", desc := "([BII)V" } : Jvm.MethodName)) ∈ lw_all := lw_g (lw_at lw_m5 37 rfl) rfl
theorem q1082 : (Jvm.Cond.classLink "HouseClaps$CueReader" (9 : Nat) "java/util/ArrayList") ∈ lw_all := lw_g (lw_at lw_m5 38 rfl) rfl
theorem q1083 : (Jvm.Cond.methodLink "HouseClaps$CueReader" (11 : Nat) ({ cls := "java/util/ArrayList", name := "<init>", desc := "()V" } : Jvm.MethodName)) ∈ lw_all := lw_g (lw_at lw_m5 39 rfl) rfl
theorem q1084 : (Jvm.Cond.fieldLink "HouseClaps$CueReader" (20 : Nat) "HouseClaps$CueReader" "h" "LHouseClaps$House;") ∈ lw_all := lw_g (lw_at lw_m5 40 rfl) rfl
theorem q1085 : (Jvm.Cond.fieldLink "HouseClaps$CueReader" (14 : Nat) "HouseClaps$CueReader" "cues" "Ljava/util/ArrayList;") ∈ lw_all := lw_g (lw_at lw_m5 41 rfl) rfl
theorem q1086 : (Jvm.Cond.laysFinal "HouseClaps$CueReader" "HouseClaps$CueReader" "h" "LHouseClaps$House;") ∈ lw_all := lw_g (lw_at lw_m5 42 rfl) rfl
theorem q1087 : (Jvm.Cond.soleField "HouseClaps$CueReader" "h") ∈ lw_all := lw_g (lw_at lw_m5 43 rfl) rfl
theorem q1088 : (Jvm.Cond.laysFinal "HouseClaps$CueReader" "HouseClaps$CueReader" "cues" "Ljava/util/ArrayList;") ∈ lw_all := lw_g (lw_at lw_m5 44 rfl) rfl
theorem q1089 : (Jvm.Cond.soleField "HouseClaps$CueReader" "cues") ∈ lw_all := lw_g (lw_at lw_m5 45 rfl) rfl
theorem q1090 : (Jvm.Cond.laysFinal "HouseClaps$CueReader" "HouseClaps$Reader" "tape" "[B") ∈ lw_all := lw_g (lw_at lw_m5 46 rfl) rfl
theorem q1091 : (Jvm.Cond.laysFinal "HouseClaps$CueReader" "HouseClaps$Reader" "size" "I") ∈ lw_all := lw_g (lw_at lw_m5 47 rfl) rfl
theorem q1092 : (Jvm.Cond.laysFinal "HouseClaps$CueReader" "HouseClaps$Reader" "limit" "I") ∈ lw_all := lw_g (lw_at lw_m5 48 rfl) rfl
theorem q1093 : (Jvm.Cond.lays "HouseClaps$CueReader" "HouseClaps$Reader" "to" "I") ∈ lw_all := lw_g (lw_at lw_m5 49 rfl) rfl
theorem q1094 : (Jvm.Cond.lays "HouseClaps$CueReader" "HouseClaps$Reader" "kind" "I") ∈ lw_all := lw_g (lw_at lw_m5 50 rfl) rfl
theorem q1095 : (Jvm.Cond.lays "HouseClaps$CueReader" "HouseClaps$Reader" "from" "I") ∈ lw_all := lw_g (lw_at lw_m5 51 rfl) rfl
theorem q1096 : (Jvm.Cond.lays "HouseClaps$CueReader" "HouseClaps$Reader" "number" "I") ∈ lw_all := lw_g (lw_at lw_m5 52 rfl) rfl
theorem q1097 : (Jvm.Cond.lays "HouseClaps$CueReader" "HouseClaps$Reader" "sign" "I") ∈ lw_all := lw_g (lw_at lw_m5 53 rfl) rfl
theorem q1098 : (Jvm.Cond.lays "HouseClaps$CueReader" "HouseClaps$Reader" "word" "Ljava/lang/String;") ∈ lw_all := lw_g (lw_at lw_m5 54 rfl) rfl
theorem q1099 : (Jvm.Cond.superclass "HouseClaps$CueReader" "HouseClaps$Reader") ∈ lw_all := lw_g (lw_at lw_m5 55 rfl) rfl
theorem q1101 : (Jvm.Cond.instanceMethod ({ cls := "HouseClaps$CueReader", name := "read", desc := "()Ljava/util/ArrayList;" } : Jvm.MethodName)) ∈ lw_all := lw_g (lw_at lw_m5 57 rfl) rfl
theorem q1102 : (Jvm.Cond.selects "HouseClaps$CueReader" ({ cls := "HouseClaps$CueReader", name := "read", desc := "()Ljava/util/ArrayList;" } : Jvm.MethodName) ({ cls := "HouseClaps$CueReader", name := "read", desc := "()Ljava/util/ArrayList;" } : Jvm.MethodName)) ∈ lw_all := lw_g (lw_at lw_m5 58 rfl) rfl
theorem q1103 : (Jvm.Cond.code ({ cls := "HouseClaps$CueReader", name := "read", desc := "()Ljava/util/ArrayList;" } : Jvm.MethodName) prog_6_method_2_code (2 : Nat) (Option.some (Jvm.ClassFile.FieldType.object "java/util/ArrayList"))) ∈ lw_all := lw_g (lw_at lw_m5 59 rfl) rfl
theorem q1104 : (Jvm.Cond.methodLink "HouseClaps$CueReader" (24 : Nat) ({ cls := "HouseClaps$CueReader", name := "go", desc := "()V" } : Jvm.MethodName)) ∈ lw_all := lw_g (lw_at lw_m5 60 rfl) rfl
theorem q1105 : (Jvm.Cond.sameMethod "HouseClaps$CueReader" "HouseClaps$Reader" "go" "()V") ∈ lw_all := lw_g (lw_at lw_m5 61 rfl) rfl
theorem q1106 : (Jvm.Cond.selects "HouseClaps$CueReader" ({ cls := "HouseClaps$CueReader", name := "go", desc := "()V" } : Jvm.MethodName) ({ cls := "HouseClaps$Reader", name := "go", desc := "()V" } : Jvm.MethodName)) ∈ lw_all := lw_g (lw_at lw_m5 62 rfl) rfl
theorem q1107 : (Jvm.Cond.stringRef "HouseClaps$CueReader" (31 : Nat) "at") ∈ lw_tbl := lw_at lw_m5 63 rfl
theorem q1108 : (Jvm.Cond.methodLink "HouseClaps$CueReader" (33 : Nat) ({ cls := "HouseClaps$CueReader", name := "is", desc := "(Ljava/lang/String;)Z" } : Jvm.MethodName)) ∈ lw_all := lw_g (lw_at lw_m5 64 rfl) rfl
theorem q1109 : (Jvm.Cond.sameMethod "HouseClaps$CueReader" "HouseClaps$Reader" "is" "(Ljava/lang/String;)Z") ∈ lw_all := lw_g (lw_at lw_m5 65 rfl) rfl
theorem q1110 : (Jvm.Cond.selects "HouseClaps$CueReader" ({ cls := "HouseClaps$CueReader", name := "is", desc := "(Ljava/lang/String;)Z" } : Jvm.MethodName) ({ cls := "HouseClaps$Reader", name := "is", desc := "(Ljava/lang/String;)Z" } : Jvm.MethodName)) ∈ lw_all := lw_g (lw_at lw_m5 66 rfl) rfl
theorem q1111 : (Jvm.Cond.methodLink "HouseClaps$CueReader" (37 : Nat) ({ cls := "HouseClaps$CueReader", name := "need", desc := "(ZI)V" } : Jvm.MethodName)) ∈ lw_all := lw_g (lw_at lw_m5 67 rfl) rfl
theorem q1112 : (Jvm.Cond.sameMethod "HouseClaps$CueReader" "HouseClaps$Reader" "need" "(ZI)V") ∈ lw_all := lw_g (lw_at lw_m5 68 rfl) rfl
theorem q1113 : (Jvm.Cond.selects "HouseClaps$CueReader" ({ cls := "HouseClaps$CueReader", name := "need", desc := "(ZI)V" } : Jvm.MethodName) ({ cls := "HouseClaps$Reader", name := "need", desc := "(ZI)V" } : Jvm.MethodName)) ∈ lw_all := lw_g (lw_at lw_m5 69 rfl) rfl
theorem q1114 : (Jvm.Cond.methodLink "HouseClaps$CueReader" (41 : Nat) ({ cls := "java/util/ArrayList", name := "size", desc := "()I" } : Jvm.MethodName)) ∈ lw_all := lw_g (lw_at lw_m5 70 rfl) rfl
theorem q1118 : (Jvm.Cond.methodLink "HouseClaps$CueReader" (45 : Nat) ({ cls := "HouseClaps$CueReader", name := "number", desc := "(II)I" } : Jvm.MethodName)) ∈ lw_all := lw_g (lw_at lw_m5 74 rfl) rfl
theorem q1119 : (Jvm.Cond.sameMethod "HouseClaps$CueReader" "HouseClaps$Reader" "number" "(II)I") ∈ lw_all := lw_g (lw_at lw_m5 75 rfl) rfl
theorem q1120 : (Jvm.Cond.selects "HouseClaps$CueReader" ({ cls := "HouseClaps$CueReader", name := "number", desc := "(II)I" } : Jvm.MethodName) ({ cls := "HouseClaps$Reader", name := "number", desc := "(II)I" } : Jvm.MethodName)) ∈ lw_all := lw_g (lw_at lw_m5 76 rfl) rfl
theorem q1121 : (Jvm.Cond.methodLink "HouseClaps$CueReader" (49 : Nat) ({ cls := "HouseClaps$CueReader", name := "cue", desc := "(I)LHouseClaps$Cue;" } : Jvm.MethodName)) ∈ lw_all := lw_g (lw_at lw_m5 77 rfl) rfl
theorem q1122 : (Jvm.Cond.privateMethod ({ cls := "HouseClaps$CueReader", name := "cue", desc := "(I)LHouseClaps$Cue;" } : Jvm.MethodName)) ∈ lw_tbl := lw_at lw_m5 78 rfl
theorem q1123 : (Jvm.Cond.instanceMethod ({ cls := "HouseClaps$CueReader", name := "cue", desc := "(I)LHouseClaps$Cue;" } : Jvm.MethodName)) ∈ lw_all := lw_g (lw_at lw_m5 79 rfl) rfl
theorem q1124 : (Jvm.Cond.code ({ cls := "HouseClaps$CueReader", name := "cue", desc := "(I)LHouseClaps$Cue;" } : Jvm.MethodName) prog_6_method_3_code (8 : Nat) (Option.some (Jvm.ClassFile.FieldType.object "HouseClaps$Cue"))) ∈ lw_all := lw_g (lw_at lw_m5 80 rfl) rfl
theorem q1125 : (Jvm.Cond.stringRef "HouseClaps$CueReader" (60 : Nat) "pay") ∈ lw_tbl := lw_at lw_m5 81 rfl
theorem q1126 : (Jvm.Cond.stringRef "HouseClaps$CueReader" (62 : Nat) "hiss") ∈ lw_tbl := lw_at lw_m5 82 rfl
theorem q1127 : (Jvm.Cond.stringRef "HouseClaps$CueReader" (64 : Nat) "free") ∈ lw_tbl := lw_at lw_m5 83 rfl
theorem q1128 : (Jvm.Cond.stringRef "HouseClaps$CueReader" (66 : Nat) "still") ∈ lw_tbl := lw_at lw_m5 84 rfl
theorem q1129 : (Jvm.Cond.classLink "HouseClaps$CueReader" (68 : Nat) "HouseClaps$Still") ∈ lw_all := lw_g (lw_at lw_m5 85 rfl) rfl
theorem q1131 : (Jvm.Cond.methodLink "HouseClaps$CueReader" (70 : Nat) ({ cls := "HouseClaps$Still", name := "<init>", desc := "(I)V" } : Jvm.MethodName)) ∈ lw_all := lw_g (lw_at lw_m5 87 rfl) rfl
theorem q1144 : (Jvm.Cond.methodLink "HouseClaps$CueReader" (81 : Nat) ({ cls := "HouseClaps$CueReader", name := "hold", desc := "(II)I" } : Jvm.MethodName)) ∈ lw_all := lw_g (lw_at lw_m5 100 rfl) rfl
theorem q1145 : (Jvm.Cond.sameMethod "HouseClaps$CueReader" "HouseClaps$Reader" "hold" "(II)I") ∈ lw_all := lw_g (lw_at lw_m5 101 rfl) rfl
theorem q1146 : (Jvm.Cond.selects "HouseClaps$CueReader" ({ cls := "HouseClaps$CueReader", name := "hold", desc := "(II)I" } : Jvm.MethodName) ({ cls := "HouseClaps$Reader", name := "hold", desc := "(II)I" } : Jvm.MethodName)) ∈ lw_all := lw_g (lw_at lw_m5 102 rfl) rfl
theorem q1147 : (Jvm.Cond.methodLink "HouseClaps$CueReader" (84 : Nat) ({ cls := "HouseClaps$House", name := "isSeat", desc := "(I)Z" } : Jvm.MethodName)) ∈ lw_all := lw_g (lw_at lw_m5 103 rfl) rfl
theorem q1148 : (Jvm.Cond.classLink "HouseClaps$CueReader" (88 : Nat) "HouseClaps$Pay") ∈ lw_all := lw_g (lw_at lw_m5 104 rfl) rfl
theorem q1150 : (Jvm.Cond.methodLink "HouseClaps$CueReader" (90 : Nat) ({ cls := "HouseClaps$Pay", name := "<init>", desc := "(II)V" } : Jvm.MethodName)) ∈ lw_all := lw_g (lw_at lw_m5 106 rfl) rfl
theorem q1162 : (Jvm.Cond.classLink "HouseClaps$CueReader" (93 : Nat) "HouseClaps$Hiss") ∈ lw_all := lw_g (lw_at lw_m5 118 rfl) rfl
theorem q1164 : (Jvm.Cond.methodLink "HouseClaps$CueReader" (95 : Nat) ({ cls := "HouseClaps$Hiss", name := "<init>", desc := "(II)V" } : Jvm.MethodName)) ∈ lw_all := lw_g (lw_at lw_m5 120 rfl) rfl
theorem q1171 : (Jvm.Cond.classLink "HouseClaps$CueReader" (96 : Nat) "HouseClaps$Free") ∈ lw_all := lw_g (lw_at lw_m5 127 rfl) rfl
theorem q1173 : (Jvm.Cond.methodLink "HouseClaps$CueReader" (98 : Nat) ({ cls := "HouseClaps$Free", name := "<init>", desc := "(II)V" } : Jvm.MethodName)) ∈ lw_all := lw_g (lw_at lw_m5 129 rfl) rfl
theorem q1177 : (Jvm.Cond.methodLink "HouseClaps$CueReader" (53 : Nat) ({ cls := "java/util/ArrayList", name := "add", desc := "(Ljava/lang/Object;)Z" } : Jvm.MethodName)) ∈ lw_all := lw_g (lw_at lw_m5 133 rfl) rfl
theorem q1202 : (Jvm.Cond.selects "HouseClaps$CueReader" ({ cls := "java/lang/Object", name := "getClass", desc := "()Ljava/lang/Class;" } : Jvm.MethodName) ({ cls := "java/lang/Object", name := "getClass", desc := "()Ljava/lang/Class;" } : Jvm.MethodName)) ∈ lw_all := lw_g (lw_at lw_m5 158 rfl) rfl
theorem q1230 : (Jvm.Cond.methodLink "HouseClaps$CueReader" (57 : Nat) ({ cls := "HouseClaps$CueReader", name := "end", desc := "()V" } : Jvm.MethodName)) ∈ lw_all := lw_g (lw_at lw_m5 186 rfl) rfl
theorem q1231 : (Jvm.Cond.sameMethod "HouseClaps$CueReader" "HouseClaps$Reader" "end" "()V") ∈ lw_all := lw_g (lw_at lw_m5 187 rfl) rfl
theorem q1232 : (Jvm.Cond.selects "HouseClaps$CueReader" ({ cls := "HouseClaps$CueReader", name := "end", desc := "()V" } : Jvm.MethodName) ({ cls := "HouseClaps$Reader", name := "end", desc := "()V" } : Jvm.MethodName)) ∈ lw_all := lw_g (lw_at lw_m5 188 rfl) rfl
theorem q2315 : (Jvm.Cond.selects "HouseClaps$CueReader" ({ cls := "HouseClaps$Reader", name := "need", desc := "(ZI)V" } : Jvm.MethodName) ({ cls := "HouseClaps$Reader", name := "need", desc := "(ZI)V" } : Jvm.MethodName)) ∈ lw_all := lw_g (lw_at lw_m10 71 rfl) rfl
theorem q2318 : (Jvm.Cond.selects "HouseClaps$CueReader" ({ cls := "HouseClaps$Reader", name := "go", desc := "()V" } : Jvm.MethodName) ({ cls := "HouseClaps$Reader", name := "go", desc := "()V" } : Jvm.MethodName)) ∈ lw_all := lw_g (lw_at lw_m10 74 rfl) rfl
theorem q2321 : (Jvm.Cond.selects "HouseClaps$CueReader" ({ cls := "HouseClaps$Reader", name := "isSign", desc := "(I)Z" } : Jvm.MethodName) ({ cls := "HouseClaps$Reader", name := "isSign", desc := "(I)Z" } : Jvm.MethodName)) ∈ lw_all := lw_g (lw_at lw_m10 77 rfl) rfl
theorem q2345 : (Jvm.Cond.castable "HouseClaps$CueReader" "java/lang/Object") ∈ lw_tbl := lw_at lw_m10 101 rfl
theorem in_X17 : ∀ w ∈ wsX170, w ∈ lw_all := lw_in wsX170 [1090, 1091, 1092, 1093, 1094, 1095, 1096, 1097, 1098, 1086, 1088] (by decide +kernel) (by decide +kernel)

/-! HouseClaps$Cue -/
set_option maxRecDepth 100000
def RX18 : String := "HouseClaps$Cue"
abbrev cX18_init : ByteArray := prog_5_method_1_code
def yX18_init : MethodName := ⟨RX18, "<init>", "(I)V"⟩
abbrev cX18_seat : ByteArray := prog_5_method_3_code
def yX18_seat : MethodName := ⟨RX18, "seat", "()I"⟩
theorem q120 : (Jvm.Cond.initialized "HouseClaps$Cue") ∈ lw_all := lw_g (lw_at lw_m1 36 rfl) rfl
theorem q1135 : (Jvm.Cond.instanceMethod ({ cls := "HouseClaps$Cue", name := "<init>", desc := "(I)V" } : Jvm.MethodName)) ∈ lw_all := lw_g (lw_at lw_m5 91 rfl) rfl
theorem q1136 : (Jvm.Cond.code ({ cls := "HouseClaps$Cue", name := "<init>", desc := "(I)V" } : Jvm.MethodName) prog_5_method_1_code (2 : Nat) (Option.none : Option Jvm.ClassFile.FieldType)) ∈ lw_all := lw_g (lw_at lw_m5 92 rfl) rfl
theorem q1137 : (Jvm.Cond.methodLink "HouseClaps$Cue" (3 : Nat) ({ cls := "java/lang/Object", name := "<init>", desc := "()V" } : Jvm.MethodName)) ∈ lw_all := lw_g (lw_at lw_m5 93 rfl) rfl
theorem q1138 : (Jvm.Cond.fieldLink "HouseClaps$Cue" (9 : Nat) "HouseClaps$Cue" "moment" "I") ∈ lw_all := lw_g (lw_at lw_m5 94 rfl) rfl
theorem q1142 : (Jvm.Cond.soleField "HouseClaps$Cue" "moment") ∈ lw_all := lw_g (lw_at lw_m5 98 rfl) rfl
theorem q1268 : (Jvm.Cond.declares ({ cls := "HouseClaps$Cue", name := "does", desc := "(LHouseClaps$Night;)V" } : Jvm.MethodName)) ∈ lw_tbl := lw_at lw_m5 224 rfl
theorem q1269 : (Jvm.Cond.sameMethod "HouseClaps$Cue" "HouseClaps$Cue" "does" "(LHouseClaps$Night;)V") ∈ lw_all := lw_g (lw_at lw_m5 225 rfl) rfl
theorem q1436 : (Jvm.Cond.declares ({ cls := "HouseClaps$Cue", name := "what", desc := "()I" } : Jvm.MethodName)) ∈ lw_tbl := lw_at lw_m6 152 rfl
theorem q1437 : (Jvm.Cond.sameMethod "HouseClaps$Cue" "HouseClaps$Cue" "what" "()I") ∈ lw_all := lw_g (lw_at lw_m6 153 rfl) rfl
theorem q1655 : (Jvm.Cond.instanceMethod ({ cls := "HouseClaps$Cue", name := "seat", desc := "()I" } : Jvm.MethodName)) ∈ lw_all := lw_g (lw_at lw_m7 131 rfl) rfl
theorem q1656 : (Jvm.Cond.sameMethod "HouseClaps$Cue" "HouseClaps$Cue" "seat" "()I") ∈ lw_all := lw_g (lw_at lw_m7 132 rfl) rfl
theorem q1661 : (Jvm.Cond.code ({ cls := "HouseClaps$Cue", name := "seat", desc := "()I" } : Jvm.MethodName) prog_5_method_3_code (1 : Nat) (Option.some Jvm.ClassFile.FieldType.int)) ∈ lw_all := lw_g (lw_at lw_m7 137 rfl) rfl

/-! HouseClaps$Still -/
set_option maxRecDepth 100000
def RX19 : String := "HouseClaps$Still"
def TX19 : u_T := fun k => match k with
  | _ => ("HouseClaps$Cue", "moment", "I", true)
def tyX19 : Nat → FieldType := fun k => match k with
  | _ => .int
abbrev wsX190 : List Cond := u_ws RX19 TX19 1
theorem nmX19 : ∀ a, a < 1 → ∀ b, b < 1 → a ≠ b → (TX19 a).2.1 ≠ (TX19 b).2.1 := by decide +kernel
theorem tyX19_ok : ∀ k, k < 1 → parseFieldDescriptor (TX19 k).2.2.1 = some (tyX19 k) := by decide +kernel
abbrev cX19_init : ByteArray := prog_20_method_1_code
def yX19_init : MethodName := ⟨RX19, "<init>", "(I)V"⟩
abbrev cX19_does : ByteArray := prog_20_method_3_code
def yX19_does : MethodName := ⟨RX19, "does", "(LHouseClaps$Night;)V"⟩
abbrev cX19_what : ByteArray := prog_20_method_2_code
def yX19_what : MethodName := ⟨RX19, "what", "()I"⟩
theorem q121 : (Jvm.Cond.initialized "HouseClaps$Still") ∈ lw_all := lw_g (lw_at lw_m1 37 rfl) rfl
theorem q271 : (Jvm.Cond.fieldLinkNest "HouseClaps$Still" (7 : Nat) "HouseClaps$Night" "isStill" "Z" "HouseClaps") ∈ lw_tbl := lw_at lw_m1 187 rfl
theorem q1130 : (Jvm.Cond.instantiable "HouseClaps$Still" (1 : Nat)) ∈ lw_all := lw_g (lw_at lw_m5 86 rfl) rfl
theorem q1132 : (Jvm.Cond.instanceMethod ({ cls := "HouseClaps$Still", name := "<init>", desc := "(I)V" } : Jvm.MethodName)) ∈ lw_all := lw_g (lw_at lw_m5 88 rfl) rfl
theorem q1133 : (Jvm.Cond.code ({ cls := "HouseClaps$Still", name := "<init>", desc := "(I)V" } : Jvm.MethodName) prog_20_method_1_code (2 : Nat) (Option.none : Option Jvm.ClassFile.FieldType)) ∈ lw_all := lw_g (lw_at lw_m5 89 rfl) rfl
theorem q1134 : (Jvm.Cond.methodLink "HouseClaps$Still" (1 : Nat) ({ cls := "HouseClaps$Cue", name := "<init>", desc := "(I)V" } : Jvm.MethodName)) ∈ lw_all := lw_g (lw_at lw_m5 90 rfl) rfl
theorem q1141 : (Jvm.Cond.laysFinal "HouseClaps$Still" "HouseClaps$Cue" "moment" "I") ∈ lw_all := lw_g (lw_at lw_m5 97 rfl) rfl
theorem q1143 : (Jvm.Cond.superclass "HouseClaps$Still" "HouseClaps$Cue") ∈ lw_all := lw_g (lw_at lw_m5 99 rfl) rfl
theorem q1215 : (Jvm.Cond.selects "HouseClaps$Still" ({ cls := "java/lang/Object", name := "getClass", desc := "()Ljava/lang/Class;" } : Jvm.MethodName) ({ cls := "java/lang/Object", name := "getClass", desc := "()Ljava/lang/Class;" } : Jvm.MethodName)) ∈ lw_all := lw_g (lw_at lw_m5 171 rfl) rfl
theorem q1291 : (Jvm.Cond.selects "HouseClaps$Still" ({ cls := "HouseClaps$Cue", name := "does", desc := "(LHouseClaps$Night;)V" } : Jvm.MethodName) ({ cls := "HouseClaps$Still", name := "does", desc := "(LHouseClaps$Night;)V" } : Jvm.MethodName)) ∈ lw_all := lw_g (lw_at lw_m6 7 rfl) rfl
theorem q1292 : (Jvm.Cond.instanceMethod ({ cls := "HouseClaps$Still", name := "does", desc := "(LHouseClaps$Night;)V" } : Jvm.MethodName)) ∈ lw_all := lw_g (lw_at lw_m6 8 rfl) rfl
theorem q1293 : (Jvm.Cond.code ({ cls := "HouseClaps$Still", name := "does", desc := "(LHouseClaps$Night;)V" } : Jvm.MethodName) prog_20_method_3_code (2 : Nat) (Option.none : Option Jvm.ClassFile.FieldType)) ∈ lw_all := lw_g (lw_at lw_m6 9 rfl) rfl
theorem q1447 : (Jvm.Cond.selects "HouseClaps$Still" ({ cls := "HouseClaps$Cue", name := "what", desc := "()I" } : Jvm.MethodName) ({ cls := "HouseClaps$Still", name := "what", desc := "()I" } : Jvm.MethodName)) ∈ lw_all := lw_g (lw_at lw_m6 163 rfl) rfl
theorem q1448 : (Jvm.Cond.instanceMethod ({ cls := "HouseClaps$Still", name := "what", desc := "()I" } : Jvm.MethodName)) ∈ lw_all := lw_g (lw_at lw_m6 164 rfl) rfl
theorem q1449 : (Jvm.Cond.code ({ cls := "HouseClaps$Still", name := "what", desc := "()I" } : Jvm.MethodName) prog_20_method_2_code (1 : Nat) (Option.some Jvm.ClassFile.FieldType.int)) ∈ lw_all := lw_g (lw_at lw_m6 165 rfl) rfl
theorem q1660 : (Jvm.Cond.selects "HouseClaps$Still" ({ cls := "HouseClaps$Cue", name := "seat", desc := "()I" } : Jvm.MethodName) ({ cls := "HouseClaps$Cue", name := "seat", desc := "()I" } : Jvm.MethodName)) ∈ lw_all := lw_g (lw_at lw_m7 136 rfl) rfl
theorem q2327 : (Jvm.Cond.castable "HouseClaps$Still" "HouseClaps$Cue") ∈ lw_tbl := lw_at lw_m10 83 rfl
theorem q2346 : (Jvm.Cond.castable "HouseClaps$Still" "java/lang/Object") ∈ lw_tbl := lw_at lw_m10 102 rfl
theorem in_X19 : ∀ w ∈ wsX190, w ∈ lw_all := lw_in wsX190 [1141] (by decide +kernel) (by decide +kernel)

/-! HouseClaps$Free -/
set_option maxRecDepth 100000
def RX20 : String := "HouseClaps$Free"
def TX20 : u_T := fun k => match k with
  | 0 => ("HouseClaps$Cue", "moment", "I", true)
  | _ => ("HouseClaps$Free", "seat", "I", true)
def tyX20 : Nat → FieldType := fun k => match k with
  | 0 => .int
  | _ => .int
abbrev wsX200 : List Cond := u_ws RX20 TX20 2
theorem nmX20 : ∀ a, a < 2 → ∀ b, b < 2 → a ≠ b → (TX20 a).2.1 ≠ (TX20 b).2.1 := by decide +kernel
theorem tyX20_ok : ∀ k, k < 2 → parseFieldDescriptor (TX20 k).2.2.1 = some (tyX20 k) := by decide +kernel
abbrev cX20_init : ByteArray := prog_8_method_1_code
def yX20_init : MethodName := ⟨RX20, "<init>", "(II)V"⟩
abbrev cX20_does : ByteArray := prog_8_method_4_code
def yX20_does : MethodName := ⟨RX20, "does", "(LHouseClaps$Night;)V"⟩
abbrev cX20_seat : ByteArray := prog_8_method_3_code
def yX20_seat : MethodName := ⟨RX20, "seat", "()I"⟩
abbrev cX20_what : ByteArray := prog_8_method_2_code
def yX20_what : MethodName := ⟨RX20, "what", "()I"⟩
theorem q122 : (Jvm.Cond.initialized "HouseClaps$Free") ∈ lw_all := lw_g (lw_at lw_m1 38 rfl) rfl
theorem q263 : (Jvm.Cond.fieldLinkNest "HouseClaps$Free" (13 : Nat) "HouseClaps$Night" "paid" "J" "HouseClaps") ∈ lw_tbl := lw_at lw_m1 179 rfl
theorem q266 : (Jvm.Cond.fieldLinkNest "HouseClaps$Free" (21 : Nat) "HouseClaps$Night" "hiss" "J" "HouseClaps") ∈ lw_tbl := lw_at lw_m1 182 rfl
theorem q1154 : (Jvm.Cond.instanceMethod ({ cls := "HouseClaps$Free", name := "<init>", desc := "(II)V" } : Jvm.MethodName)) ∈ lw_all := lw_g (lw_at lw_m5 110 rfl) rfl
theorem q1155 : (Jvm.Cond.code ({ cls := "HouseClaps$Free", name := "<init>", desc := "(II)V" } : Jvm.MethodName) prog_8_method_1_code (3 : Nat) (Option.none : Option Jvm.ClassFile.FieldType)) ∈ lw_all := lw_g (lw_at lw_m5 111 rfl) rfl
theorem q1156 : (Jvm.Cond.methodLink "HouseClaps$Free" (1 : Nat) ({ cls := "HouseClaps$Cue", name := "<init>", desc := "(I)V" } : Jvm.MethodName)) ∈ lw_all := lw_g (lw_at lw_m5 112 rfl) rfl
theorem q1157 : (Jvm.Cond.fieldLink "HouseClaps$Free" (7 : Nat) "HouseClaps$Free" "seat" "I") ∈ lw_all := lw_g (lw_at lw_m5 113 rfl) rfl
theorem q1159 : (Jvm.Cond.soleField "HouseClaps$Free" "seat") ∈ lw_all := lw_g (lw_at lw_m5 115 rfl) rfl
theorem q1172 : (Jvm.Cond.instantiable "HouseClaps$Free" (2 : Nat)) ∈ lw_all := lw_g (lw_at lw_m5 128 rfl) rfl
theorem q1174 : (Jvm.Cond.laysFinal "HouseClaps$Free" "HouseClaps$Free" "seat" "I") ∈ lw_all := lw_g (lw_at lw_m5 130 rfl) rfl
theorem q1175 : (Jvm.Cond.laysFinal "HouseClaps$Free" "HouseClaps$Cue" "moment" "I") ∈ lw_all := lw_g (lw_at lw_m5 131 rfl) rfl
theorem q1176 : (Jvm.Cond.superclass "HouseClaps$Free" "HouseClaps$Cue") ∈ lw_all := lw_g (lw_at lw_m5 132 rfl) rfl
theorem q1204 : (Jvm.Cond.selects "HouseClaps$Free" ({ cls := "java/lang/Object", name := "getClass", desc := "()Ljava/lang/Class;" } : Jvm.MethodName) ({ cls := "java/lang/Object", name := "getClass", desc := "()Ljava/lang/Class;" } : Jvm.MethodName)) ∈ lw_all := lw_g (lw_at lw_m5 160 rfl) rfl
theorem q1270 : (Jvm.Cond.selects "HouseClaps$Free" ({ cls := "HouseClaps$Cue", name := "does", desc := "(LHouseClaps$Night;)V" } : Jvm.MethodName) ({ cls := "HouseClaps$Free", name := "does", desc := "(LHouseClaps$Night;)V" } : Jvm.MethodName)) ∈ lw_all := lw_g (lw_at lw_m5 226 rfl) rfl
theorem q1271 : (Jvm.Cond.instanceMethod ({ cls := "HouseClaps$Free", name := "does", desc := "(LHouseClaps$Night;)V" } : Jvm.MethodName)) ∈ lw_all := lw_g (lw_at lw_m5 227 rfl) rfl
theorem q1272 : (Jvm.Cond.code ({ cls := "HouseClaps$Free", name := "does", desc := "(LHouseClaps$Night;)V" } : Jvm.MethodName) prog_8_method_4_code (2 : Nat) (Option.none : Option Jvm.ClassFile.FieldType)) ∈ lw_all := lw_g (lw_at lw_m5 228 rfl) rfl
theorem q1273 : (Jvm.Cond.constantLong "HouseClaps$Free" (19 : Nat) (-1 : Int64)) ∈ lw_all := lw_g (lw_at lw_m5 229 rfl) rfl
theorem q1280 : (Jvm.Cond.declares ({ cls := "HouseClaps$Free", name := "seat", desc := "()I" } : Jvm.MethodName)) ∈ lw_tbl := lw_at lw_m5 236 rfl
theorem q1282 : (Jvm.Cond.instanceMethod ({ cls := "HouseClaps$Free", name := "seat", desc := "()I" } : Jvm.MethodName)) ∈ lw_all := lw_g (lw_at lw_m5 238 rfl) rfl
theorem q1283 : (Jvm.Cond.code ({ cls := "HouseClaps$Free", name := "seat", desc := "()I" } : Jvm.MethodName) prog_8_method_3_code (1 : Nat) (Option.some Jvm.ClassFile.FieldType.int)) ∈ lw_all := lw_g (lw_at lw_m5 239 rfl) rfl
theorem q1438 : (Jvm.Cond.selects "HouseClaps$Free" ({ cls := "HouseClaps$Cue", name := "what", desc := "()I" } : Jvm.MethodName) ({ cls := "HouseClaps$Free", name := "what", desc := "()I" } : Jvm.MethodName)) ∈ lw_all := lw_g (lw_at lw_m6 154 rfl) rfl
theorem q1439 : (Jvm.Cond.instanceMethod ({ cls := "HouseClaps$Free", name := "what", desc := "()I" } : Jvm.MethodName)) ∈ lw_all := lw_g (lw_at lw_m6 155 rfl) rfl
theorem q1440 : (Jvm.Cond.code ({ cls := "HouseClaps$Free", name := "what", desc := "()I" } : Jvm.MethodName) prog_8_method_2_code (1 : Nat) (Option.some Jvm.ClassFile.FieldType.int)) ∈ lw_all := lw_g (lw_at lw_m6 156 rfl) rfl
theorem q1657 : (Jvm.Cond.selects "HouseClaps$Free" ({ cls := "HouseClaps$Cue", name := "seat", desc := "()I" } : Jvm.MethodName) ({ cls := "HouseClaps$Free", name := "seat", desc := "()I" } : Jvm.MethodName)) ∈ lw_all := lw_g (lw_at lw_m7 133 rfl) rfl
theorem q2323 : (Jvm.Cond.sameMethod "HouseClaps$Free" "HouseClaps$Free" "does" "(LHouseClaps$Night;)V") ∈ lw_all := lw_g (lw_at lw_m10 79 rfl) rfl
theorem q2324 : (Jvm.Cond.castable "HouseClaps$Free" "HouseClaps$Cue") ∈ lw_tbl := lw_at lw_m10 80 rfl
theorem q2349 : (Jvm.Cond.castable "HouseClaps$Free" "java/lang/Object") ∈ lw_tbl := lw_at lw_m10 105 rfl
theorem in_X20 : ∀ w ∈ wsX200, w ∈ lw_all := lw_in wsX200 [1175, 1174] (by decide +kernel) (by decide +kernel)

/-! HouseClaps$Pay -/
set_option maxRecDepth 100000
def RX21 : String := "HouseClaps$Pay"
def TX21 : u_T := fun k => match k with
  | 0 => ("HouseClaps$Cue", "moment", "I", true)
  | _ => ("HouseClaps$Free", "seat", "I", true)
def tyX21 : Nat → FieldType := fun k => match k with
  | 0 => .int
  | _ => .int
abbrev wsX210 : List Cond := u_ws RX21 TX21 2
theorem nmX21 : ∀ a, a < 2 → ∀ b, b < 2 → a ≠ b → (TX21 a).2.1 ≠ (TX21 b).2.1 := by decide +kernel
theorem tyX21_ok : ∀ k, k < 2 → parseFieldDescriptor (TX21 k).2.2.1 = some (tyX21 k) := by decide +kernel
abbrev cX21_init : ByteArray := prog_16_method_1_code
def yX21_init : MethodName := ⟨RX21, "<init>", "(II)V"⟩
abbrev cX21_does : ByteArray := prog_16_method_3_code
def yX21_does : MethodName := ⟨RX21, "does", "(LHouseClaps$Night;)V"⟩
abbrev cX21_what : ByteArray := prog_16_method_2_code
def yX21_what : MethodName := ⟨RX21, "what", "()I"⟩
theorem q123 : (Jvm.Cond.initialized "HouseClaps$Pay") ∈ lw_all := lw_g (lw_at lw_m1 39 rfl) rfl
theorem q262 : (Jvm.Cond.fieldLinkNest "HouseClaps$Pay" (11 : Nat) "HouseClaps$Night" "paid" "J" "HouseClaps") ∈ lw_tbl := lw_at lw_m1 178 rfl
theorem q1149 : (Jvm.Cond.instantiable "HouseClaps$Pay" (2 : Nat)) ∈ lw_all := lw_g (lw_at lw_m5 105 rfl) rfl
theorem q1151 : (Jvm.Cond.instanceMethod ({ cls := "HouseClaps$Pay", name := "<init>", desc := "(II)V" } : Jvm.MethodName)) ∈ lw_all := lw_g (lw_at lw_m5 107 rfl) rfl
theorem q1152 : (Jvm.Cond.code ({ cls := "HouseClaps$Pay", name := "<init>", desc := "(II)V" } : Jvm.MethodName) prog_16_method_1_code (3 : Nat) (Option.none : Option Jvm.ClassFile.FieldType)) ∈ lw_all := lw_g (lw_at lw_m5 108 rfl) rfl
theorem q1153 : (Jvm.Cond.methodLink "HouseClaps$Pay" (1 : Nat) ({ cls := "HouseClaps$Free", name := "<init>", desc := "(II)V" } : Jvm.MethodName)) ∈ lw_all := lw_g (lw_at lw_m5 109 rfl) rfl
theorem q1158 : (Jvm.Cond.laysFinal "HouseClaps$Pay" "HouseClaps$Free" "seat" "I") ∈ lw_all := lw_g (lw_at lw_m5 114 rfl) rfl
theorem q1160 : (Jvm.Cond.laysFinal "HouseClaps$Pay" "HouseClaps$Cue" "moment" "I") ∈ lw_all := lw_g (lw_at lw_m5 116 rfl) rfl
theorem q1161 : (Jvm.Cond.superclass "HouseClaps$Pay" "HouseClaps$Free") ∈ lw_all := lw_g (lw_at lw_m5 117 rfl) rfl
theorem q1212 : (Jvm.Cond.selects "HouseClaps$Pay" ({ cls := "java/lang/Object", name := "getClass", desc := "()Ljava/lang/Class;" } : Jvm.MethodName) ({ cls := "java/lang/Object", name := "getClass", desc := "()Ljava/lang/Class;" } : Jvm.MethodName)) ∈ lw_all := lw_g (lw_at lw_m5 168 rfl) rfl
theorem q1284 : (Jvm.Cond.selects "HouseClaps$Pay" ({ cls := "HouseClaps$Cue", name := "does", desc := "(LHouseClaps$Night;)V" } : Jvm.MethodName) ({ cls := "HouseClaps$Pay", name := "does", desc := "(LHouseClaps$Night;)V" } : Jvm.MethodName)) ∈ lw_all := lw_g (lw_at lw_m6 0 rfl) rfl
theorem q1285 : (Jvm.Cond.instanceMethod ({ cls := "HouseClaps$Pay", name := "does", desc := "(LHouseClaps$Night;)V" } : Jvm.MethodName)) ∈ lw_all := lw_g (lw_at lw_m6 1 rfl) rfl
theorem q1286 : (Jvm.Cond.code ({ cls := "HouseClaps$Pay", name := "does", desc := "(LHouseClaps$Night;)V" } : Jvm.MethodName) prog_16_method_3_code (2 : Nat) (Option.none : Option Jvm.ClassFile.FieldType)) ∈ lw_all := lw_g (lw_at lw_m6 2 rfl) rfl
theorem q1287 : (Jvm.Cond.methodLink "HouseClaps$Pay" (7 : Nat) ({ cls := "HouseClaps$Free", name := "does", desc := "(LHouseClaps$Night;)V" } : Jvm.MethodName)) ∈ lw_all := lw_g (lw_at lw_m6 3 rfl) rfl
theorem q1288 : (Jvm.Cond.methodLink "HouseClaps$Pay" (17 : Nat) ({ cls := "HouseClaps$Pay", name := "seat", desc := "()I" } : Jvm.MethodName)) ∈ lw_all := lw_g (lw_at lw_m6 4 rfl) rfl
theorem q1289 : (Jvm.Cond.sameMethod "HouseClaps$Pay" "HouseClaps$Free" "seat" "()I") ∈ lw_all := lw_g (lw_at lw_m6 5 rfl) rfl
theorem q1290 : (Jvm.Cond.selects "HouseClaps$Pay" ({ cls := "HouseClaps$Pay", name := "seat", desc := "()I" } : Jvm.MethodName) ({ cls := "HouseClaps$Free", name := "seat", desc := "()I" } : Jvm.MethodName)) ∈ lw_all := lw_g (lw_at lw_m6 6 rfl) rfl
theorem q1444 : (Jvm.Cond.selects "HouseClaps$Pay" ({ cls := "HouseClaps$Cue", name := "what", desc := "()I" } : Jvm.MethodName) ({ cls := "HouseClaps$Pay", name := "what", desc := "()I" } : Jvm.MethodName)) ∈ lw_all := lw_g (lw_at lw_m6 160 rfl) rfl
theorem q1445 : (Jvm.Cond.instanceMethod ({ cls := "HouseClaps$Pay", name := "what", desc := "()I" } : Jvm.MethodName)) ∈ lw_all := lw_g (lw_at lw_m6 161 rfl) rfl
theorem q1446 : (Jvm.Cond.code ({ cls := "HouseClaps$Pay", name := "what", desc := "()I" } : Jvm.MethodName) prog_16_method_2_code (1 : Nat) (Option.some Jvm.ClassFile.FieldType.int)) ∈ lw_all := lw_g (lw_at lw_m6 162 rfl) rfl
theorem q1659 : (Jvm.Cond.selects "HouseClaps$Pay" ({ cls := "HouseClaps$Cue", name := "seat", desc := "()I" } : Jvm.MethodName) ({ cls := "HouseClaps$Free", name := "seat", desc := "()I" } : Jvm.MethodName)) ∈ lw_all := lw_g (lw_at lw_m7 135 rfl) rfl
theorem q2326 : (Jvm.Cond.castable "HouseClaps$Pay" "HouseClaps$Cue") ∈ lw_tbl := lw_at lw_m10 82 rfl
theorem q2347 : (Jvm.Cond.castable "HouseClaps$Pay" "java/lang/Object") ∈ lw_tbl := lw_at lw_m10 103 rfl
theorem in_X21 : ∀ w ∈ wsX210, w ∈ lw_all := lw_in wsX210 [1160, 1158] (by decide +kernel) (by decide +kernel)

/-! HouseClaps$Hiss -/
set_option maxRecDepth 100000
def RX22 : String := "HouseClaps$Hiss"
def TX22 : u_T := fun k => match k with
  | 0 => ("HouseClaps$Cue", "moment", "I", true)
  | _ => ("HouseClaps$Free", "seat", "I", true)
def tyX22 : Nat → FieldType := fun k => match k with
  | 0 => .int
  | _ => .int
abbrev wsX220 : List Cond := u_ws RX22 TX22 2
theorem nmX22 : ∀ a, a < 2 → ∀ b, b < 2 → a ≠ b → (TX22 a).2.1 ≠ (TX22 b).2.1 := by decide +kernel
theorem tyX22_ok : ∀ k, k < 2 → parseFieldDescriptor (TX22 k).2.2.1 = some (tyX22 k) := by decide +kernel
abbrev cX22_init : ByteArray := prog_10_method_1_code
def yX22_init : MethodName := ⟨RX22, "<init>", "(II)V"⟩
abbrev cX22_does : ByteArray := prog_10_method_3_code
def yX22_does : MethodName := ⟨RX22, "does", "(LHouseClaps$Night;)V"⟩
abbrev cX22_what : ByteArray := prog_10_method_2_code
def yX22_what : MethodName := ⟨RX22, "what", "()I"⟩
theorem q124 : (Jvm.Cond.initialized "HouseClaps$Hiss") ∈ lw_all := lw_g (lw_at lw_m1 40 rfl) rfl
theorem q265 : (Jvm.Cond.fieldLinkNest "HouseClaps$Hiss" (11 : Nat) "HouseClaps$Night" "hiss" "J" "HouseClaps") ∈ lw_tbl := lw_at lw_m1 181 rfl
theorem q1163 : (Jvm.Cond.instantiable "HouseClaps$Hiss" (2 : Nat)) ∈ lw_all := lw_g (lw_at lw_m5 119 rfl) rfl
theorem q1165 : (Jvm.Cond.instanceMethod ({ cls := "HouseClaps$Hiss", name := "<init>", desc := "(II)V" } : Jvm.MethodName)) ∈ lw_all := lw_g (lw_at lw_m5 121 rfl) rfl
theorem q1166 : (Jvm.Cond.code ({ cls := "HouseClaps$Hiss", name := "<init>", desc := "(II)V" } : Jvm.MethodName) prog_10_method_1_code (3 : Nat) (Option.none : Option Jvm.ClassFile.FieldType)) ∈ lw_all := lw_g (lw_at lw_m5 122 rfl) rfl
theorem q1167 : (Jvm.Cond.methodLink "HouseClaps$Hiss" (1 : Nat) ({ cls := "HouseClaps$Free", name := "<init>", desc := "(II)V" } : Jvm.MethodName)) ∈ lw_all := lw_g (lw_at lw_m5 123 rfl) rfl
theorem q1168 : (Jvm.Cond.laysFinal "HouseClaps$Hiss" "HouseClaps$Free" "seat" "I") ∈ lw_all := lw_g (lw_at lw_m5 124 rfl) rfl
theorem q1169 : (Jvm.Cond.laysFinal "HouseClaps$Hiss" "HouseClaps$Cue" "moment" "I") ∈ lw_all := lw_g (lw_at lw_m5 125 rfl) rfl
theorem q1170 : (Jvm.Cond.superclass "HouseClaps$Hiss" "HouseClaps$Free") ∈ lw_all := lw_g (lw_at lw_m5 126 rfl) rfl
theorem q1206 : (Jvm.Cond.selects "HouseClaps$Hiss" ({ cls := "java/lang/Object", name := "getClass", desc := "()Ljava/lang/Class;" } : Jvm.MethodName) ({ cls := "java/lang/Object", name := "getClass", desc := "()Ljava/lang/Class;" } : Jvm.MethodName)) ∈ lw_all := lw_g (lw_at lw_m5 162 rfl) rfl
theorem q1274 : (Jvm.Cond.selects "HouseClaps$Hiss" ({ cls := "HouseClaps$Cue", name := "does", desc := "(LHouseClaps$Night;)V" } : Jvm.MethodName) ({ cls := "HouseClaps$Hiss", name := "does", desc := "(LHouseClaps$Night;)V" } : Jvm.MethodName)) ∈ lw_all := lw_g (lw_at lw_m5 230 rfl) rfl
theorem q1275 : (Jvm.Cond.instanceMethod ({ cls := "HouseClaps$Hiss", name := "does", desc := "(LHouseClaps$Night;)V" } : Jvm.MethodName)) ∈ lw_all := lw_g (lw_at lw_m5 231 rfl) rfl
theorem q1276 : (Jvm.Cond.code ({ cls := "HouseClaps$Hiss", name := "does", desc := "(LHouseClaps$Night;)V" } : Jvm.MethodName) prog_10_method_3_code (2 : Nat) (Option.none : Option Jvm.ClassFile.FieldType)) ∈ lw_all := lw_g (lw_at lw_m5 232 rfl) rfl
theorem q1277 : (Jvm.Cond.methodLink "HouseClaps$Hiss" (7 : Nat) ({ cls := "HouseClaps$Free", name := "does", desc := "(LHouseClaps$Night;)V" } : Jvm.MethodName)) ∈ lw_all := lw_g (lw_at lw_m5 233 rfl) rfl
theorem q1278 : (Jvm.Cond.methodLink "HouseClaps$Hiss" (17 : Nat) ({ cls := "HouseClaps$Hiss", name := "seat", desc := "()I" } : Jvm.MethodName)) ∈ lw_all := lw_g (lw_at lw_m5 234 rfl) rfl
theorem q1279 : (Jvm.Cond.sameMethod "HouseClaps$Hiss" "HouseClaps$Free" "seat" "()I") ∈ lw_all := lw_g (lw_at lw_m5 235 rfl) rfl
theorem q1281 : (Jvm.Cond.selects "HouseClaps$Hiss" ({ cls := "HouseClaps$Hiss", name := "seat", desc := "()I" } : Jvm.MethodName) ({ cls := "HouseClaps$Free", name := "seat", desc := "()I" } : Jvm.MethodName)) ∈ lw_all := lw_g (lw_at lw_m5 237 rfl) rfl
theorem q1441 : (Jvm.Cond.selects "HouseClaps$Hiss" ({ cls := "HouseClaps$Cue", name := "what", desc := "()I" } : Jvm.MethodName) ({ cls := "HouseClaps$Hiss", name := "what", desc := "()I" } : Jvm.MethodName)) ∈ lw_all := lw_g (lw_at lw_m6 157 rfl) rfl
theorem q1442 : (Jvm.Cond.instanceMethod ({ cls := "HouseClaps$Hiss", name := "what", desc := "()I" } : Jvm.MethodName)) ∈ lw_all := lw_g (lw_at lw_m6 158 rfl) rfl
theorem q1443 : (Jvm.Cond.code ({ cls := "HouseClaps$Hiss", name := "what", desc := "()I" } : Jvm.MethodName) prog_10_method_2_code (1 : Nat) (Option.some Jvm.ClassFile.FieldType.int)) ∈ lw_all := lw_g (lw_at lw_m6 159 rfl) rfl
theorem q1658 : (Jvm.Cond.selects "HouseClaps$Hiss" ({ cls := "HouseClaps$Cue", name := "seat", desc := "()I" } : Jvm.MethodName) ({ cls := "HouseClaps$Free", name := "seat", desc := "()I" } : Jvm.MethodName)) ∈ lw_all := lw_g (lw_at lw_m7 134 rfl) rfl
theorem q2325 : (Jvm.Cond.castable "HouseClaps$Hiss" "HouseClaps$Cue") ∈ lw_tbl := lw_at lw_m10 81 rfl
theorem q2348 : (Jvm.Cond.castable "HouseClaps$Hiss" "java/lang/Object") ∈ lw_tbl := lw_at lw_m10 104 rfl
theorem in_X22 : ∀ w ∈ wsX220, w ∈ lw_all := lw_in wsX220 [1169, 1168] (by decide +kernel) (by decide +kernel)

/-! java/util/Objects -/
set_option maxRecDepth 100000
def RJ17 : String := "java/util/Objects"
abbrev cJ17_checkIndex : ByteArray := prog_52_method_17_code
def yJ17_checkIndex : MethodName := ⟨RJ17, "checkIndex", "(II)I"⟩
theorem q125 : (Jvm.Cond.initialized "java/util/Objects") ∈ lw_all := lw_g (lw_at lw_m1 41 rfl) rfl
theorem q1259 : (Jvm.Cond.static ({ cls := "java/util/Objects", name := "checkIndex", desc := "(II)I" } : Jvm.MethodName)) ∈ lw_all := lw_g (lw_at lw_m5 215 rfl) rfl
theorem q1260 : (Jvm.Cond.code ({ cls := "java/util/Objects", name := "checkIndex", desc := "(II)I" } : Jvm.MethodName) prog_52_method_17_code (2 : Nat) (Option.some Jvm.ClassFile.FieldType.int)) ∈ lw_all := lw_g (lw_at lw_m5 216 rfl) rfl
theorem q1261 : (Jvm.Cond.methodLink "java/util/Objects" (105 : Nat) ({ cls := "jdk/internal/util/Preconditions", name := "checkIndex", desc := "(IILjava/util/function/BiFunction;)I" } : Jvm.MethodName)) ∈ lw_all := lw_g (lw_at lw_m5 217 rfl) rfl

/-! java/lang/Long -/
set_option maxRecDepth 100000
def RJ18 : String := "java/lang/Long"
abbrev cJ18_bitCount : ByteArray := prog_34_method_50_code
def yJ18_bitCount : MethodName := ⟨RJ18, "bitCount", "(J)I"⟩
theorem q126 : (Jvm.Cond.initialized "java/lang/Long") ∈ lw_all := lw_g (lw_at lw_m1 42 rfl) rfl
theorem q1351 : (Jvm.Cond.static ({ cls := "java/lang/Long", name := "bitCount", desc := "(J)I" } : Jvm.MethodName)) ∈ lw_all := lw_g (lw_at lw_m6 67 rfl) rfl
theorem q1352 : (Jvm.Cond.code ({ cls := "java/lang/Long", name := "bitCount", desc := "(J)I" } : Jvm.MethodName) prog_34_method_50_code (2 : Nat) (Option.some Jvm.ClassFile.FieldType.int)) ∈ lw_all := lw_g (lw_at lw_m6 68 rfl) rfl
theorem q1353 : (Jvm.Cond.constantLong "java/lang/Long" (314 : Nat) (6148914691236517205 : Int64)) ∈ lw_all := lw_g (lw_at lw_m6 69 rfl) rfl
theorem q1354 : (Jvm.Cond.constantLong "java/lang/Long" (316 : Nat) (3689348814741910323 : Int64)) ∈ lw_all := lw_g (lw_at lw_m6 70 rfl) rfl
theorem q1355 : (Jvm.Cond.constantLong "java/lang/Long" (318 : Nat) (1085102592571150095 : Int64)) ∈ lw_all := lw_g (lw_at lw_m6 71 rfl) rfl

/-! java/lang/Integer -/
set_option maxRecDepth 100000
def RJ19 : String := "java/lang/Integer"
abbrev cJ19_bitCount : ByteArray := prog_32_method_49_code
def yJ19_bitCount : MethodName := ⟨RJ19, "bitCount", "(I)I"⟩
theorem q127 : (Jvm.Cond.initialized "java/lang/Integer") ∈ lw_all := lw_g (lw_at lw_m1 43 rfl) rfl
theorem q1486 : (Jvm.Cond.static ({ cls := "java/lang/Integer", name := "bitCount", desc := "(I)I" } : Jvm.MethodName)) ∈ lw_all := lw_g (lw_at lw_m6 202 rfl) rfl
theorem q1487 : (Jvm.Cond.code ({ cls := "java/lang/Integer", name := "bitCount", desc := "(I)I" } : Jvm.MethodName) prog_32_method_49_code (1 : Nat) (Option.some Jvm.ClassFile.FieldType.int)) ∈ lw_all := lw_g (lw_at lw_m6 203 rfl) rfl
theorem q1488 : (Jvm.Cond.constant "java/lang/Integer" (265 : Nat) (1431655765 : Int32)) ∈ lw_all := lw_g (lw_at lw_m6 204 rfl) rfl
theorem q1489 : (Jvm.Cond.constant "java/lang/Integer" (266 : Nat) (858993459 : Int32)) ∈ lw_all := lw_g (lw_at lw_m6 205 rfl) rfl
theorem q1490 : (Jvm.Cond.constant "java/lang/Integer" (267 : Nat) (252645135 : Int32)) ∈ lw_all := lw_g (lw_at lw_m6 206 rfl) rfl

/-! java/lang/Object -/
set_option maxRecDepth 100000
def RJ20 : String := "java/lang/Object"
abbrev cJ20_init : ByteArray := object_method_1_code
def yJ20_init : MethodName := ⟨RJ20, "<init>", "()V"⟩
theorem q134 : (Jvm.Cond.instanceMethod ({ cls := "java/lang/Object", name := "<init>", desc := "()V" } : Jvm.MethodName)) ∈ lw_all := lw_g (lw_at lw_m1 50 rfl) rfl
theorem q135 : (Jvm.Cond.code ({ cls := "java/lang/Object", name := "<init>", desc := "()V" } : Jvm.MethodName) object_method_1_code (1 : Nat) (Option.none : Option Jvm.ClassFile.FieldType)) ∈ lw_all := lw_g (lw_at lw_m1 51 rfl) rfl
theorem q651 : (Jvm.Cond.native ({ cls := "java/lang/Object", name := "clone", desc := "()Ljava/lang/Object;" } : Jvm.MethodName)) ∈ lw_all := lw_g (lw_at lw_m3 87 rfl) rfl
theorem q652 : (Jvm.Cond.instanceMethod ({ cls := "java/lang/Object", name := "clone", desc := "()Ljava/lang/Object;" } : Jvm.MethodName)) ∈ lw_all := lw_g (lw_at lw_m3 88 rfl) rfl
theorem q1198 : (Jvm.Cond.instanceMethod ({ cls := "java/lang/Object", name := "getClass", desc := "()Ljava/lang/Class;" } : Jvm.MethodName)) ∈ lw_all := lw_g (lw_at lw_m5 154 rfl) rfl
theorem q1199 : (Jvm.Cond.sameMethod "java/lang/Object" "java/lang/Object" "getClass" "()Ljava/lang/Class;") ∈ lw_all := lw_g (lw_at lw_m5 155 rfl) rfl
theorem q1221 : (Jvm.Cond.native ({ cls := "java/lang/Object", name := "getClass", desc := "()Ljava/lang/Class;" } : Jvm.MethodName)) ∈ lw_all := lw_g (lw_at lw_m5 177 rfl) rfl
theorem q2359 : (Jvm.Cond.declares ({ cls := "java/lang/Object", name := "getClass", desc := "()Ljava/lang/Class;" } : Jvm.MethodName)) ∈ lw_tbl := lw_at lw_m10 115 rfl

/-! the law's own entry -/
set_option maxRecDepth 100000
abbrev cL_law : ByteArray := code

theorem q143 : (Jvm.Cond.arrayOver (Jvm.ClassFile.FieldType.object "HouseClaps$Cond")) ∈ lw_tbl := lw_at lw_m1 59 rfl
set_option maxRecDepth 100000
theorem q145 : (Jvm.Cond.arrayOver (Jvm.ClassFile.FieldType.array Jvm.ClassFile.FieldType.long)) ∈ lw_tbl := lw_at lw_m1 61 rfl
theorem q225 : (Jvm.Cond.arrayClass Jvm.ClassFile.FieldType.byte) ∈ lw_all := lw_g (lw_at lw_m1 141 rfl) rfl
theorem q226 : (Jvm.Cond.arrayClass Jvm.ClassFile.FieldType.int) ∈ lw_all := lw_g (lw_at lw_m1 142 rfl) rfl
theorem q227 : (Jvm.Cond.arrayClass Jvm.ClassFile.FieldType.long) ∈ lw_all := lw_g (lw_at lw_m1 143 rfl) rfl
theorem q314 : (Jvm.Cond.arrayOver (Jvm.ClassFile.FieldType.object "HouseClaps$House")) ∈ lw_tbl := lw_at lw_m1 230 rfl
theorem q397 : (Jvm.Cond.arrayClass Jvm.ClassFile.FieldType.boolean) ∈ lw_all := lw_g (lw_at lw_m2 73 rfl) rfl
theorem q1226 : (Jvm.Cond.arrayOver (Jvm.ClassFile.FieldType.object "java/lang/Object")) ∈ lw_tbl := lw_at lw_m5 182 rfl

theorem q104 : (Jvm.Cond.initialized "java/lang/System") ∈ lw_all := lw_g (lw_at lw_m1 20 rfl) rfl
set_option maxRecDepth 100000
theorem q658 : (Jvm.Cond.static ({ cls := "java/lang/System", name := "arraycopy", desc := "(Ljava/lang/Object;ILjava/lang/Object;II)V" } : Jvm.MethodName)) ∈ lw_all := lw_g (lw_at lw_m3 94 rfl) rfl
theorem q659 : (Jvm.Cond.native ({ cls := "java/lang/System", name := "arraycopy", desc := "(Ljava/lang/Object;ILjava/lang/Object;II)V" } : Jvm.MethodName)) ∈ lw_all := lw_g (lw_at lw_m3 95 rfl) rfl

theorem q650 : (Jvm.Cond.sameMethod "[B" "java/lang/Object" "clone" "()Ljava/lang/Object;") ∈ lw_all := lw_g (lw_at lw_m3 86 rfl) rfl
set_option maxRecDepth 100000
theorem q653 : (Jvm.Cond.selects "[B" ({ cls := "[B", name := "clone", desc := "()Ljava/lang/Object;" } : Jvm.MethodName) ({ cls := "java/lang/Object", name := "clone", desc := "()Ljava/lang/Object;" } : Jvm.MethodName)) ∈ lw_all := lw_g (lw_at lw_m3 89 rfl) rfl
theorem q654 : (Jvm.Cond.castable "[B" "java/lang/Cloneable") ∈ lw_tbl := lw_at lw_m3 90 rfl
theorem q2362 : (Jvm.Cond.castable "[B" "java/lang/Object") ∈ lw_tbl := lw_at lw_m10 118 rfl

theorem q2357 : (Jvm.Cond.sameMethod "[Ljava/lang/Object;" "java/lang/Object" "getClass" "()Ljava/lang/Class;") ∈ lw_all := lw_g (lw_at lw_m10 113 rfl) rfl
set_option maxRecDepth 100000
theorem q2358 : (Jvm.Cond.selects "[Ljava/lang/Object;" ({ cls := "java/lang/Object", name := "getClass", desc := "()Ljava/lang/Class;" } : Jvm.MethodName) ({ cls := "java/lang/Object", name := "getClass", desc := "()Ljava/lang/Class;" } : Jvm.MethodName)) ∈ lw_all := lw_g (lw_at lw_m10 114 rfl) rfl
theorem q2367 : (Jvm.Cond.castable "[Ljava/lang/Object;" "java/lang/Object") ∈ lw_tbl := lw_at lw_m10 123 rfl

theorem q2360 : (Jvm.Cond.castable "[LHouseClaps$Cond;" "java/lang/Object") ∈ lw_tbl := lw_at lw_m10 116 rfl
set_option maxRecDepth 100000

theorem q2361 : (Jvm.Cond.castable "[[J" "java/lang/Object") ∈ lw_tbl := lw_at lw_m10 117 rfl
set_option maxRecDepth 100000

theorem q2363 : (Jvm.Cond.castable "[I" "java/lang/Object") ∈ lw_tbl := lw_at lw_m10 119 rfl
set_option maxRecDepth 100000

theorem q2364 : (Jvm.Cond.castable "[J" "java/lang/Object") ∈ lw_tbl := lw_at lw_m10 120 rfl
set_option maxRecDepth 100000

theorem q2365 : (Jvm.Cond.castable "[LHouseClaps$House;" "java/lang/Object") ∈ lw_tbl := lw_at lw_m10 121 rfl
set_option maxRecDepth 100000

theorem q2366 : (Jvm.Cond.castable "[Z" "java/lang/Object") ∈ lw_tbl := lw_at lw_m10 122 rfl
set_option maxRecDepth 100000

