/-! YearSkinsLaw -/
set_option maxRecDepth 100000
def RX0 : String := "YearSkinsLaw"
abbrev cX0_led : ByteArray := method_3_code
def yX0_led : MethodName := ⟨RX0, "led", "(LYearSkins;I[J)I"⟩
def dkwX0_led_0 : List UInt8 := [44, 3, 42, 27, 182, 0, 7, 133, 80, 167, 0, 6, 78, 4, 172, 3, 172]
abbrev dktX0_led_0 : List UInt8 := dkwX0_led_0 ++ []
theorem dksX0_led_0 : cX0_led.data.toList.drop 0 = dktX0_led_0 := by decide +kernel
theorem dX0_led_0 : decode cX0_led 0 = .ok (.aload_n 2, 1) := dk_44 (dk_at dksX0_led_0 0 rfl rfl)
theorem dX0_led_1 : decode cX0_led 1 = .ok (.iconst 0, 1) := dk_3 (dk_at dksX0_led_0 1 rfl rfl)
theorem dX0_led_2 : decode cX0_led 2 = .ok (.aload_n 0, 1) := dk_42 (dk_at dksX0_led_0 2 rfl rfl)
theorem dX0_led_3 : decode cX0_led 3 = .ok (.iload_n 1, 1) := dk_27 (dk_at dksX0_led_0 3 rfl rfl)
theorem dX0_led_4 : decode cX0_led 4 = .ok (.invokevirtual 7, 3) := dk_182 0 7 (dk_at dksX0_led_0 4 rfl rfl)
theorem dX0_led_7 : decode cX0_led 7 = .ok (.i2l, 1) := dk_133 (dk_at dksX0_led_0 7 rfl rfl)
theorem dX0_led_8 : decode cX0_led 8 = .ok (.lastore, 1) := dk_80 (dk_at dksX0_led_0 8 rfl rfl)
theorem dX0_led_9 : decode cX0_led 9 = .ok (.goto 6, 3) := dk_167 0 6 (dk_at dksX0_led_0 9 rfl rfl)
theorem dX0_led_12 : decode cX0_led 12 = .ok (.astore_n 3, 1) := dk_78 (dk_at dksX0_led_0 12 rfl rfl)
theorem dX0_led_13 : decode cX0_led 13 = .ok (.iconst 1, 1) := dk_4 (dk_at dksX0_led_0 13 rfl rfl)
theorem dX0_led_14 : decode cX0_led 14 = .ok (.ireturn, 1) := dk_172 (dk_at dksX0_led_0 14 rfl rfl)
theorem dX0_led_15 : decode cX0_led 15 = .ok (.iconst 0, 1) := dk_3 (dk_at dksX0_led_0 15 rfl rfl)
theorem dX0_led_16 : decode cX0_led 16 = .ok (.ireturn, 1) := dk_172 (dk_at dksX0_led_0 16 rfl rfl)
theorem q125 : (Jvm.Cond.initialized "YearSkinsLaw") ∈ lw_all := lw_g (lw_at lw_m1 0 rfl) rfl
theorem q157 : (Jvm.Cond.classLink "YearSkinsLaw" (8 : Nat) "YearSkins") ∈ lw_all := lw_g (lw_at lw_m1 32 rfl) rfl
theorem q159 : (Jvm.Cond.methodLink "YearSkinsLaw" (15 : Nat) ({ cls := "YearSkins", name := "<init>", desc := "()V" } : Jvm.MethodName)) ∈ lw_all := lw_g (lw_at lw_m1 34 rfl) rfl
theorem q515 : (Jvm.Cond.methodLink "YearSkinsLaw" (19 : Nat) ({ cls := "YearSkins", name := "feed", desc := "(IIIII)I" } : Jvm.MethodName)) ∈ lw_all := lw_g (lw_at lw_m2 150 rfl) rfl
theorem q523 : (Jvm.Cond.methodLink "YearSkinsLaw" (24 : Nat) ({ cls := "YearSkins", name := "land", desc := "(I)I" } : Jvm.MethodName)) ∈ lw_all := lw_g (lw_at lw_m2 158 rfl) rfl
theorem q1214 : (Jvm.Cond.methodLink "YearSkinsLaw" (28 : Nat) ({ cls := "YearSkins", name := "fault", desc := "()I" } : Jvm.MethodName)) ∈ lw_all := lw_g (lw_at lw_m5 129 rfl) rfl
theorem q1218 : (Jvm.Cond.methodLink "YearSkinsLaw" (33 : Nat) ({ cls := "YearSkins", name := "where", desc := "()I" } : Jvm.MethodName)) ∈ lw_all := lw_g (lw_at lw_m5 133 rfl) rfl
theorem q1222 : (Jvm.Cond.methodLink "YearSkinsLaw" (37 : Nat) ({ cls := "YearSkins", name := "whose", desc := "(II)I" } : Jvm.MethodName)) ∈ lw_all := lw_g (lw_at lw_m5 137 rfl) rfl
theorem q1228 : (Jvm.Cond.methodLink "YearSkinsLaw" (42 : Nat) ({ cls := "YearSkins", name := "shared", desc := "()I" } : Jvm.MethodName)) ∈ lw_all := lw_g (lw_at lw_m5 143 rfl) rfl
theorem q1237 : (Jvm.Cond.methodLink "YearSkinsLaw" (46 : Nat) ({ cls := "YearSkins", name := "free", desc := "()I" } : Jvm.MethodName)) ∈ lw_all := lw_g (lw_at lw_m5 152 rfl) rfl
theorem q1241 : (Jvm.Cond.methodLink "YearSkinsLaw" (50 : Nat) ({ cls := "YearSkins", name := "house", desc := "(II)I" } : Jvm.MethodName)) ∈ lw_all := lw_g (lw_at lw_m5 156 rfl) rfl
theorem q1274 : (Jvm.Cond.methodLink "YearSkinsLaw" (54 : Nat) ({ cls := "YearSkins", name := "skin", desc := "(III)I" } : Jvm.MethodName)) ∈ lw_all := lw_g (lw_at lw_m5 189 rfl) rfl
theorem q1287 : (Jvm.Cond.methodLink "YearSkinsLaw" (59 : Nat) ({ cls := "YearSkins", name := "warm", desc := "(II)I" } : Jvm.MethodName)) ∈ lw_all := lw_g (lw_at lw_m5 202 rfl) rfl
theorem q1295 : (Jvm.Cond.methodLink "YearSkinsLaw" (63 : Nat) ({ cls := "YearSkins", name := "light", desc := "(II)I" } : Jvm.MethodName)) ∈ lw_all := lw_g (lw_at lw_m5 210 rfl) rfl
theorem q1300 : (Jvm.Cond.methodLink "YearSkinsLaw" (67 : Nat) ({ cls := "YearSkins", name := "heir", desc := "(II)I" } : Jvm.MethodName)) ∈ lw_all := lw_g (lw_at lw_m5 215 rfl) rfl
theorem q1308 : (Jvm.Cond.methodLink "YearSkinsLaw" (71 : Nat) ({ cls := "YearSkins", name := "fits", desc := "(I)I" } : Jvm.MethodName)) ∈ lw_all := lw_g (lw_at lw_m5 223 rfl) rfl
theorem q1313 : (Jvm.Cond.methodLink "YearSkinsLaw" (75 : Nat) ({ cls := "YearSkins", name := "door", desc := "(I)I" } : Jvm.MethodName)) ∈ lw_all := lw_g (lw_at lw_m5 228 rfl) rfl
theorem q1349 : (Jvm.Cond.methodLink "YearSkinsLaw" (79 : Nat) ({ cls := "YearSkins", name := "costs", desc := "(II)I" } : Jvm.MethodName)) ∈ lw_all := lw_g (lw_at lw_m6 24 rfl) rfl
theorem q1361 : (Jvm.Cond.methodLink "YearSkinsLaw" (83 : Nat) ({ cls := "YearSkins", name := "way", desc := "(II)I" } : Jvm.MethodName)) ∈ lw_all := lw_g (lw_at lw_m6 36 rfl) rfl
theorem q1374 : (Jvm.Cond.methodLink "YearSkinsLaw" (87 : Nat) ({ cls := "YearSkins", name := "through", desc := "(II)I" } : Jvm.MethodName)) ∈ lw_all := lw_g (lw_at lw_m6 49 rfl) rfl
theorem q1422 : (Jvm.Cond.methodLink "YearSkinsLaw" (91 : Nat) ({ cls := "YearSkins", name := "breaks", desc := "(II)I" } : Jvm.MethodName)) ∈ lw_all := lw_g (lw_at lw_m6 97 rfl) rfl
theorem q1426 : (Jvm.Cond.methodLink "YearSkinsLaw" (95 : Nat) ({ cls := "YearSkins", name := "round", desc := "(II)I" } : Jvm.MethodName)) ∈ lw_all := lw_g (lw_at lw_m6 101 rfl) rfl
theorem q1431 : (Jvm.Cond.methodLink "YearSkinsLaw" (99 : Nat) ({ cls := "YearSkins", name := "in", desc := "(III)I" } : Jvm.MethodName)) ∈ lw_all := lw_g (lw_at lw_m6 106 rfl) rfl
theorem q1493 : (Jvm.Cond.methodLink "YearSkinsLaw" (103 : Nat) ({ cls := "YearSkins", name := "skinsIn", desc := "(I)I" } : Jvm.MethodName)) ∈ lw_all := lw_g (lw_at lw_m6 168 rfl) rfl
theorem q1501 : (Jvm.Cond.methodLink "YearSkinsLaw" (107 : Nat) ({ cls := "YearSkins", name := "meet", desc := "(III)I" } : Jvm.MethodName)) ∈ lw_all := lw_g (lw_at lw_m6 176 rfl) rfl
theorem q1510 : (Jvm.Cond.methodLink "YearSkinsLaw" (111 : Nat) ({ cls := "YearSkins", name := "falls", desc := "(III)I" } : Jvm.MethodName)) ∈ lw_all := lw_g (lw_at lw_m6 185 rfl) rfl
theorem q1514 : (Jvm.Cond.methodLink "YearSkinsLaw" (115 : Nat) ({ cls := "YearSkins", name := "room", desc := "(I)I" } : Jvm.MethodName)) ∈ lw_all := lw_g (lw_at lw_m6 189 rfl) rfl
theorem q1519 : (Jvm.Cond.methodLink "YearSkinsLaw" (119 : Nat) ({ cls := "YearSkins", name := "first", desc := "(I)I" } : Jvm.MethodName)) ∈ lw_all := lw_g (lw_at lw_m6 194 rfl) rfl
theorem q1533 : (Jvm.Cond.methodLink "YearSkinsLaw" (123 : Nat) ({ cls := "YearSkins", name := "firstAt", desc := "(II)I" } : Jvm.MethodName)) ∈ lw_all := lw_g (lw_at lw_m6 208 rfl) rfl
theorem q1537 : (Jvm.Cond.methodLink "YearSkinsLaw" (127 : Nat) ({ cls := "YearSkins", name := "heads", desc := "(II)I" } : Jvm.MethodName)) ∈ lw_all := lw_g (lw_at lw_m6 212 rfl) rfl
theorem q1546 : (Jvm.Cond.methodLink "YearSkinsLaw" (131 : Nat) ({ cls := "YearSkins", name := "takes", desc := "(I)I" } : Jvm.MethodName)) ∈ lw_all := lw_g (lw_at lw_m6 221 rfl) rfl
theorem q1557 : (Jvm.Cond.methodLink "YearSkinsLaw" (135 : Nat) ({ cls := "YearSkins", name := "worth", desc := "(I)I" } : Jvm.MethodName)) ∈ lw_all := lw_g (lw_at lw_m6 232 rfl) rfl
theorem q1565 : (Jvm.Cond.methodLink "YearSkinsLaw" (139 : Nat) ({ cls := "YearSkins", name := "orders", desc := "()I" } : Jvm.MethodName)) ∈ lw_all := lw_g (lw_at lw_m7 0 rfl) rfl
theorem q1603 : (Jvm.Cond.methodLink "YearSkinsLaw" (143 : Nat) ({ cls := "YearSkins", name := "order", desc := "(II)I" } : Jvm.MethodName)) ∈ lw_all := lw_g (lw_at lw_m7 38 rfl) rfl
theorem q1615 : (Jvm.Cond.methodLink "YearSkinsLaw" (147 : Nat) ({ cls := "YearSkins", name := "soonest", desc := "(I)I" } : Jvm.MethodName)) ∈ lw_all := lw_g (lw_at lw_m7 50 rfl) rfl
theorem q1623 : (Jvm.Cond.methodLink "YearSkinsLaw" (151 : Nat) ({ cls := "YearSkins", name := "latest", desc := "(I)I" } : Jvm.MethodName)) ∈ lw_all := lw_g (lw_at lw_m7 58 rfl) rfl
theorem q1631 : (Jvm.Cond.methodLink "YearSkinsLaw" (155 : Nat) ({ cls := "YearSkins", name := "surely", desc := "(II)I" } : Jvm.MethodName)) ∈ lw_all := lw_g (lw_at lw_m7 66 rfl) rfl
theorem q1644 : (Jvm.Cond.methodLink "YearSkinsLaw" (159 : Nat) ({ cls := "YearSkins", name := "years", desc := "(I)I" } : Jvm.MethodName)) ∈ lw_all := lw_g (lw_at lw_m7 79 rfl) rfl
theorem q1656 : (Jvm.Cond.methodLink "YearSkinsLaw" (163 : Nat) ({ cls := "YearSkins", name := "build", desc := "(IIIII)I" } : Jvm.MethodName)) ∈ lw_all := lw_g (lw_at lw_m7 91 rfl) rfl
theorem q1661 : (Jvm.Cond.methodLink "YearSkinsLaw" (167 : Nat) ({ cls := "YearSkins", name := "fill", desc := "(II)Z" } : Jvm.MethodName)) ∈ lw_all := lw_g (lw_at lw_m7 96 rfl) rfl
theorem q1670 : (Jvm.Cond.methodLink "YearSkinsLaw" (172 : Nat) ({ cls := "YearSkins", name := "take", desc := "(I)I" } : Jvm.MethodName)) ∈ lw_all := lw_g (lw_at lw_m7 105 rfl) rfl
theorem q1675 : (Jvm.Cond.methodLink "YearSkinsLaw" (176 : Nat) ({ cls := "YearSkins", name := "lock", desc := "(III)Z" } : Jvm.MethodName)) ∈ lw_all := lw_g (lw_at lw_m7 110 rfl) rfl
theorem q1679 : (Jvm.Cond.methodLink "YearSkinsLaw" (181 : Nat) ({ cls := "YearSkins", name := "move", desc := "(II)Z" } : Jvm.MethodName)) ∈ lw_all := lw_g (lw_at lw_m7 114 rfl) rfl
theorem q1683 : (Jvm.Cond.methodLink "YearSkinsLaw" (185 : Nat) ({ cls := "YearSkins", name := "give", desc := "(III)Z" } : Jvm.MethodName)) ∈ lw_all := lw_g (lw_at lw_m7 118 rfl) rfl
theorem q1687 : (Jvm.Cond.methodLink "YearSkinsLaw" (189 : Nat) ({ cls := "YearSkins", name := "seed", desc := "(I)Z" } : Jvm.MethodName)) ∈ lw_all := lw_g (lw_at lw_m7 122 rfl) rfl
theorem q1691 : (Jvm.Cond.methodLink "YearSkinsLaw" (194 : Nat) ({ cls := "YearSkins", name := "undo", desc := "()Z" } : Jvm.MethodName)) ∈ lw_all := lw_g (lw_at lw_m7 126 rfl) rfl
theorem q1695 : (Jvm.Cond.methodLink "YearSkinsLaw" (199 : Nat) ({ cls := "YearSkins", name := "mark", desc := "()I" } : Jvm.MethodName)) ∈ lw_all := lw_g (lw_at lw_m7 130 rfl) rfl
theorem q1699 : (Jvm.Cond.methodLink "YearSkinsLaw" (203 : Nat) ({ cls := "YearSkins", name := "back", desc := "(I)Z" } : Jvm.MethodName)) ∈ lw_all := lw_g (lw_at lw_m7 134 rfl) rfl
theorem q1703 : (Jvm.Cond.methodLink "YearSkinsLaw" (207 : Nat) ({ cls := "YearSkins", name := "stone", desc := "(II)I" } : Jvm.MethodName)) ∈ lw_all := lw_g (lw_at lw_m7 138 rfl) rfl
theorem q1719 : (Jvm.Cond.methodLink "YearSkinsLaw" (220 : Nat) ({ cls := "YearSkins", name := "size", desc := "(I)I" } : Jvm.MethodName)) ∈ lw_all := lw_g (lw_at lw_m7 154 rfl) rfl
theorem q1723 : (Jvm.Cond.methodLink "YearSkinsLaw" (224 : Nat) ({ cls := "YearSkins", name := "trouble", desc := "()I" } : Jvm.MethodName)) ∈ lw_all := lw_g (lw_at lw_m7 158 rfl) rfl
theorem q1727 : (Jvm.Cond.methodLink "YearSkinsLaw" (211 : Nat) ({ cls := "YearSkinsLaw", name := "led", desc := "(LYearSkins;I[J)I" } : Jvm.MethodName)) ∈ lw_all := lw_g (lw_at lw_m7 162 rfl) rfl
theorem q1728 : (Jvm.Cond.static ({ cls := "YearSkinsLaw", name := "led", desc := "(LYearSkins;I[J)I" } : Jvm.MethodName)) ∈ lw_all := lw_g (lw_at lw_m7 163 rfl) rfl
theorem q1729 : (Jvm.Cond.codeWith ({ cls := "YearSkinsLaw", name := "led", desc := "(LYearSkins;I[J)I" } : Jvm.MethodName) method_3_code (4 : Nat) (Option.some Jvm.ClassFile.FieldType.int) [((0 : Nat), (9 : Nat), (12 : Nat), (13 : Nat))]) ∈ lw_all := lw_g (lw_at lw_m7 164 rfl) rfl
theorem q1730 : (Jvm.Cond.classLink "YearSkinsLaw" (13 : Nat) "java/util/NoSuchElementException") ∈ lw_all := lw_g (lw_at lw_m7 165 rfl) rfl
theorem q1731 : (Jvm.Cond.methodLink "YearSkinsLaw" (7 : Nat) ({ cls := "YearSkins", name := "led", desc := "(I)I" } : Jvm.MethodName)) ∈ lw_all := lw_g (lw_at lw_m7 166 rfl) rfl
theorem q1756 : (Jvm.Cond.classLink "YearSkinsLaw" (16 : Nat) "YearSkinsModel") ∈ lw_all := lw_g (lw_at lw_m7 191 rfl) rfl
theorem q1758 : (Jvm.Cond.methodLink "YearSkinsLaw" (18 : Nat) ({ cls := "YearSkinsModel", name := "<init>", desc := "()V" } : Jvm.MethodName)) ∈ lw_all := lw_g (lw_at lw_m7 193 rfl) rfl
theorem q1874 : (Jvm.Cond.methodLink "YearSkinsLaw" (217 : Nat) ({ cls := "YearSkinsModel", name := "thrown", desc := "()I" } : Jvm.MethodName)) ∈ lw_all := lw_g (lw_at lw_m8 69 rfl) rfl
theorem q1878 : (Jvm.Cond.methodLink "YearSkinsLaw" (23 : Nat) ({ cls := "YearSkinsModel", name := "feed", desc := "(IIIII)I" } : Jvm.MethodName)) ∈ lw_all := lw_g (lw_at lw_m8 73 rfl) rfl
theorem q1882 : (Jvm.Cond.methodLink "YearSkinsLaw" (27 : Nat) ({ cls := "YearSkinsModel", name := "land", desc := "(I)I" } : Jvm.MethodName)) ∈ lw_all := lw_g (lw_at lw_m8 77 rfl) rfl
theorem q2253 : (Jvm.Cond.methodLink "YearSkinsLaw" (32 : Nat) ({ cls := "YearSkinsModel", name := "fault", desc := "()I" } : Jvm.MethodName)) ∈ lw_all := lw_g (lw_at lw_m9 208 rfl) rfl
theorem q2257 : (Jvm.Cond.methodLink "YearSkinsLaw" (36 : Nat) ({ cls := "YearSkinsModel", name := "where", desc := "()I" } : Jvm.MethodName)) ∈ lw_all := lw_g (lw_at lw_m9 212 rfl) rfl
theorem q2261 : (Jvm.Cond.methodLink "YearSkinsLaw" (41 : Nat) ({ cls := "YearSkinsModel", name := "whose", desc := "(II)I" } : Jvm.MethodName)) ∈ lw_all := lw_g (lw_at lw_m9 216 rfl) rfl
theorem q2269 : (Jvm.Cond.methodLink "YearSkinsLaw" (45 : Nat) ({ cls := "YearSkinsModel", name := "shared", desc := "()I" } : Jvm.MethodName)) ∈ lw_all := lw_g (lw_at lw_m9 224 rfl) rfl
theorem q2284 : (Jvm.Cond.methodLink "YearSkinsLaw" (49 : Nat) ({ cls := "YearSkinsModel", name := "free", desc := "()I" } : Jvm.MethodName)) ∈ lw_all := lw_g (lw_at lw_m9 239 rfl) rfl
theorem q2288 : (Jvm.Cond.methodLink "YearSkinsLaw" (53 : Nat) ({ cls := "YearSkinsModel", name := "house", desc := "(II)I" } : Jvm.MethodName)) ∈ lw_all := lw_g (lw_at lw_m10 3 rfl) rfl
theorem q2315 : (Jvm.Cond.methodLink "YearSkinsLaw" (58 : Nat) ({ cls := "YearSkinsModel", name := "skin", desc := "(III)I" } : Jvm.MethodName)) ∈ lw_all := lw_g (lw_at lw_m10 30 rfl) rfl
theorem q2323 : (Jvm.Cond.methodLink "YearSkinsLaw" (62 : Nat) ({ cls := "YearSkinsModel", name := "warm", desc := "(II)I" } : Jvm.MethodName)) ∈ lw_all := lw_g (lw_at lw_m10 38 rfl) rfl
theorem q2335 : (Jvm.Cond.methodLink "YearSkinsLaw" (66 : Nat) ({ cls := "YearSkinsModel", name := "light", desc := "(II)I" } : Jvm.MethodName)) ∈ lw_all := lw_g (lw_at lw_m10 50 rfl) rfl
theorem q2339 : (Jvm.Cond.methodLink "YearSkinsLaw" (70 : Nat) ({ cls := "YearSkinsModel", name := "heir", desc := "(II)I" } : Jvm.MethodName)) ∈ lw_all := lw_g (lw_at lw_m10 54 rfl) rfl
theorem q2347 : (Jvm.Cond.methodLink "YearSkinsLaw" (74 : Nat) ({ cls := "YearSkinsModel", name := "fits", desc := "(I)I" } : Jvm.MethodName)) ∈ lw_all := lw_g (lw_at lw_m10 62 rfl) rfl
theorem q2351 : (Jvm.Cond.methodLink "YearSkinsLaw" (78 : Nat) ({ cls := "YearSkinsModel", name := "door", desc := "(I)I" } : Jvm.MethodName)) ∈ lw_all := lw_g (lw_at lw_m10 66 rfl) rfl
theorem q2371 : (Jvm.Cond.methodLink "YearSkinsLaw" (82 : Nat) ({ cls := "YearSkinsModel", name := "costs", desc := "(II)I" } : Jvm.MethodName)) ∈ lw_all := lw_g (lw_at lw_m10 86 rfl) rfl
theorem q2383 : (Jvm.Cond.methodLink "YearSkinsLaw" (86 : Nat) ({ cls := "YearSkinsModel", name := "way", desc := "(II)I" } : Jvm.MethodName)) ∈ lw_all := lw_g (lw_at lw_m10 98 rfl) rfl
theorem q2396 : (Jvm.Cond.methodLink "YearSkinsLaw" (90 : Nat) ({ cls := "YearSkinsModel", name := "through", desc := "(II)I" } : Jvm.MethodName)) ∈ lw_all := lw_g (lw_at lw_m10 111 rfl) rfl
theorem q2415 : (Jvm.Cond.methodLink "YearSkinsLaw" (94 : Nat) ({ cls := "YearSkinsModel", name := "breaks", desc := "(II)I" } : Jvm.MethodName)) ∈ lw_all := lw_g (lw_at lw_m10 130 rfl) rfl
theorem q2419 : (Jvm.Cond.methodLink "YearSkinsLaw" (98 : Nat) ({ cls := "YearSkinsModel", name := "round", desc := "(II)I" } : Jvm.MethodName)) ∈ lw_all := lw_g (lw_at lw_m10 134 rfl) rfl
theorem q2423 : (Jvm.Cond.methodLink "YearSkinsLaw" (102 : Nat) ({ cls := "YearSkinsModel", name := "in", desc := "(III)I" } : Jvm.MethodName)) ∈ lw_all := lw_g (lw_at lw_m10 138 rfl) rfl
theorem q2461 : (Jvm.Cond.methodLink "YearSkinsLaw" (106 : Nat) ({ cls := "YearSkinsModel", name := "skinsIn", desc := "(I)I" } : Jvm.MethodName)) ∈ lw_all := lw_g (lw_at lw_m10 176 rfl) rfl
theorem q2468 : (Jvm.Cond.methodLink "YearSkinsLaw" (110 : Nat) ({ cls := "YearSkinsModel", name := "meet", desc := "(III)I" } : Jvm.MethodName)) ∈ lw_all := lw_g (lw_at lw_m10 183 rfl) rfl
theorem q2476 : (Jvm.Cond.methodLink "YearSkinsLaw" (114 : Nat) ({ cls := "YearSkinsModel", name := "falls", desc := "(III)I" } : Jvm.MethodName)) ∈ lw_all := lw_g (lw_at lw_m10 191 rfl) rfl
theorem q2480 : (Jvm.Cond.methodLink "YearSkinsLaw" (118 : Nat) ({ cls := "YearSkinsModel", name := "room", desc := "(I)I" } : Jvm.MethodName)) ∈ lw_all := lw_g (lw_at lw_m10 195 rfl) rfl
theorem q2484 : (Jvm.Cond.methodLink "YearSkinsLaw" (122 : Nat) ({ cls := "YearSkinsModel", name := "first", desc := "(I)I" } : Jvm.MethodName)) ∈ lw_all := lw_g (lw_at lw_m10 199 rfl) rfl
theorem q2498 : (Jvm.Cond.methodLink "YearSkinsLaw" (126 : Nat) ({ cls := "YearSkinsModel", name := "firstAt", desc := "(II)I" } : Jvm.MethodName)) ∈ lw_all := lw_g (lw_at lw_m10 213 rfl) rfl
theorem q2502 : (Jvm.Cond.methodLink "YearSkinsLaw" (130 : Nat) ({ cls := "YearSkinsModel", name := "heads", desc := "(II)I" } : Jvm.MethodName)) ∈ lw_all := lw_g (lw_at lw_m10 217 rfl) rfl
theorem q2507 : (Jvm.Cond.methodLink "YearSkinsLaw" (134 : Nat) ({ cls := "YearSkinsModel", name := "takes", desc := "(I)I" } : Jvm.MethodName)) ∈ lw_all := lw_g (lw_at lw_m10 222 rfl) rfl
theorem q2519 : (Jvm.Cond.methodLink "YearSkinsLaw" (138 : Nat) ({ cls := "YearSkinsModel", name := "worth", desc := "(I)I" } : Jvm.MethodName)) ∈ lw_all := lw_g (lw_at lw_m10 234 rfl) rfl
theorem q2527 : (Jvm.Cond.methodLink "YearSkinsLaw" (142 : Nat) ({ cls := "YearSkinsModel", name := "orders", desc := "()I" } : Jvm.MethodName)) ∈ lw_all := lw_g (lw_at lw_m11 2 rfl) rfl
theorem q2543 : (Jvm.Cond.methodLink "YearSkinsLaw" (146 : Nat) ({ cls := "YearSkinsModel", name := "order", desc := "(II)I" } : Jvm.MethodName)) ∈ lw_all := lw_g (lw_at lw_m11 18 rfl) rfl
theorem q2551 : (Jvm.Cond.methodLink "YearSkinsLaw" (150 : Nat) ({ cls := "YearSkinsModel", name := "soonest", desc := "(I)I" } : Jvm.MethodName)) ∈ lw_all := lw_g (lw_at lw_m11 26 rfl) rfl
theorem q2555 : (Jvm.Cond.methodLink "YearSkinsLaw" (154 : Nat) ({ cls := "YearSkinsModel", name := "latest", desc := "(I)I" } : Jvm.MethodName)) ∈ lw_all := lw_g (lw_at lw_m11 30 rfl) rfl
theorem q2559 : (Jvm.Cond.methodLink "YearSkinsLaw" (158 : Nat) ({ cls := "YearSkinsModel", name := "surely", desc := "(II)I" } : Jvm.MethodName)) ∈ lw_all := lw_g (lw_at lw_m11 34 rfl) rfl
theorem q2563 : (Jvm.Cond.methodLink "YearSkinsLaw" (162 : Nat) ({ cls := "YearSkinsModel", name := "years", desc := "(I)I" } : Jvm.MethodName)) ∈ lw_all := lw_g (lw_at lw_m11 38 rfl) rfl
theorem q2571 : (Jvm.Cond.methodLink "YearSkinsLaw" (166 : Nat) ({ cls := "YearSkinsModel", name := "build", desc := "(IIIII)I" } : Jvm.MethodName)) ∈ lw_all := lw_g (lw_at lw_m11 46 rfl) rfl
theorem q2575 : (Jvm.Cond.methodLink "YearSkinsLaw" (171 : Nat) ({ cls := "YearSkinsModel", name := "fill", desc := "(II)Z" } : Jvm.MethodName)) ∈ lw_all := lw_g (lw_at lw_m11 50 rfl) rfl
theorem q2587 : (Jvm.Cond.methodLink "YearSkinsLaw" (175 : Nat) ({ cls := "YearSkinsModel", name := "take", desc := "(I)I" } : Jvm.MethodName)) ∈ lw_all := lw_g (lw_at lw_m11 62 rfl) rfl
theorem q2591 : (Jvm.Cond.methodLink "YearSkinsLaw" (180 : Nat) ({ cls := "YearSkinsModel", name := "lock", desc := "(III)Z" } : Jvm.MethodName)) ∈ lw_all := lw_g (lw_at lw_m11 66 rfl) rfl
theorem q2595 : (Jvm.Cond.methodLink "YearSkinsLaw" (184 : Nat) ({ cls := "YearSkinsModel", name := "move", desc := "(II)Z" } : Jvm.MethodName)) ∈ lw_all := lw_g (lw_at lw_m11 70 rfl) rfl
theorem q2599 : (Jvm.Cond.methodLink "YearSkinsLaw" (188 : Nat) ({ cls := "YearSkinsModel", name := "give", desc := "(III)Z" } : Jvm.MethodName)) ∈ lw_all := lw_g (lw_at lw_m11 74 rfl) rfl
theorem q2603 : (Jvm.Cond.methodLink "YearSkinsLaw" (193 : Nat) ({ cls := "YearSkinsModel", name := "seed", desc := "(I)Z" } : Jvm.MethodName)) ∈ lw_all := lw_g (lw_at lw_m11 78 rfl) rfl
theorem q2607 : (Jvm.Cond.methodLink "YearSkinsLaw" (198 : Nat) ({ cls := "YearSkinsModel", name := "undo", desc := "()Z" } : Jvm.MethodName)) ∈ lw_all := lw_g (lw_at lw_m11 82 rfl) rfl
theorem q2611 : (Jvm.Cond.methodLink "YearSkinsLaw" (202 : Nat) ({ cls := "YearSkinsModel", name := "mark", desc := "()I" } : Jvm.MethodName)) ∈ lw_all := lw_g (lw_at lw_m11 86 rfl) rfl
theorem q2615 : (Jvm.Cond.methodLink "YearSkinsLaw" (206 : Nat) ({ cls := "YearSkinsModel", name := "back", desc := "(I)Z" } : Jvm.MethodName)) ∈ lw_all := lw_g (lw_at lw_m11 90 rfl) rfl
theorem q2619 : (Jvm.Cond.methodLink "YearSkinsLaw" (210 : Nat) ({ cls := "YearSkinsModel", name := "stone", desc := "(II)I" } : Jvm.MethodName)) ∈ lw_all := lw_g (lw_at lw_m11 94 rfl) rfl
theorem q2623 : (Jvm.Cond.methodLink "YearSkinsLaw" (216 : Nat) ({ cls := "YearSkinsModel", name := "led", desc := "(I)I" } : Jvm.MethodName)) ∈ lw_all := lw_g (lw_at lw_m11 98 rfl) rfl
theorem q2627 : (Jvm.Cond.methodLink "YearSkinsLaw" (223 : Nat) ({ cls := "YearSkinsModel", name := "size", desc := "(I)I" } : Jvm.MethodName)) ∈ lw_all := lw_g (lw_at lw_m11 102 rfl) rfl
theorem q2631 : (Jvm.Cond.methodLink "YearSkinsLaw" (227 : Nat) ({ cls := "YearSkinsModel", name := "trouble", desc := "()I" } : Jvm.MethodName)) ∈ lw_all := lw_g (lw_at lw_m11 106 rfl) rfl
/-! YearSkins$Refused -/
set_option maxRecDepth 100000
def RX3 : String := "YearSkins$Refused"
def TX3 : u_T := fun k => match k with
  | 0 => ("java/lang/Throwable", "cause", "Ljava/lang/Throwable;", false)
  | 1 => ("java/lang/Throwable", "stackTrace", "[Ljava/lang/StackTraceElement;", false)
  | 2 => ("java/lang/Throwable", "suppressedExceptions", "Ljava/util/List;", false)
  | 3 => ("java/lang/Throwable", "detailMessage", "Ljava/lang/String;", false)
  | 4 => ("java/lang/Throwable", "backtrace", "Ljava/lang/Object;", false)
  | 5 => ("java/lang/Throwable", "depth", "I", false)
  | 6 => ("YearSkins$Refused", "fault", "I", false)
  | _ => ("YearSkins$Refused", "place", "I", false)
def tyX3 : Nat → FieldType := fun k => match k with
  | 0 => .object "java/lang/Throwable"
  | 1 => .array (.object "java/lang/StackTraceElement")
  | 2 => .object "java/util/List"
  | 3 => .object "java/lang/String"
  | 4 => .object "java/lang/Object"
  | 5 => .int
  | 6 => .int
  | _ => .int
abbrev wsX30 : List Cond := u_ws RX3 TX3 8
theorem nmX3 : ∀ a, a < 8 → ∀ b, b < 8 → a ≠ b → (TX3 a).2.1 ≠ (TX3 b).2.1 := by decide +kernel
theorem tyX3_ok : ∀ k, k < 8 → parseFieldDescriptor (TX3 k).2.2.1 = some (tyX3 k) := by decide +kernel
abbrev cX3_init : ByteArray := prog_9_method_1_code
def yX3_init : MethodName := ⟨RX3, "<init>", "()V"⟩
def dkwX3_init_0 : List UInt8 := [42, 1, 1, 3, 3, 183, 0, 3, 42, 2, 181, 0, 9, 177]
abbrev dktX3_init_0 : List UInt8 := dkwX3_init_0 ++ []
theorem dksX3_init_0 : cX3_init.data.toList.drop 0 = dktX3_init_0 := by decide +kernel
theorem dX3_init_0 : decode cX3_init 0 = .ok (.aload_n 0, 1) := dk_42 (dk_at dksX3_init_0 0 rfl rfl)
theorem dX3_init_1 : decode cX3_init 1 = .ok (.aconst_null, 1) := dk_1 (dk_at dksX3_init_0 1 rfl rfl)
theorem dX3_init_2 : decode cX3_init 2 = .ok (.aconst_null, 1) := dk_1 (dk_at dksX3_init_0 2 rfl rfl)
theorem dX3_init_3 : decode cX3_init 3 = .ok (.iconst 0, 1) := dk_3 (dk_at dksX3_init_0 3 rfl rfl)
theorem dX3_init_4 : decode cX3_init 4 = .ok (.iconst 0, 1) := dk_3 (dk_at dksX3_init_0 4 rfl rfl)
theorem dX3_init_5 : decode cX3_init 5 = .ok (.invokespecial 3, 3) := dk_183 0 3 (dk_at dksX3_init_0 5 rfl rfl)
theorem dX3_init_8 : decode cX3_init 8 = .ok (.aload_n 0, 1) := dk_42 (dk_at dksX3_init_0 8 rfl rfl)
theorem dX3_init_9 : decode cX3_init 9 = .ok (.iconst (-1), 1) := dk_2 (dk_at dksX3_init_0 9 rfl rfl)
theorem dX3_init_10 : decode cX3_init 10 = .ok (.putfield 9, 3) := dk_181 0 9 (dk_at dksX3_init_0 10 rfl rfl)
theorem dX3_init_13 : decode cX3_init 13 = .ok (.return_, 1) := dk_177 (dk_at dksX3_init_0 13 rfl rfl)
abbrev cX3_at : ByteArray := prog_9_method_2_code
def yX3_at : MethodName := ⟨RX3, "at", "(II)LYearSkins$Refused;"⟩
def dkwX3_at_0 : List UInt8 := [42, 27, 181, 0, 15, 42, 28, 181, 0, 9, 42, 176]
abbrev dktX3_at_0 : List UInt8 := dkwX3_at_0 ++ []
theorem dksX3_at_0 : cX3_at.data.toList.drop 0 = dktX3_at_0 := by decide +kernel
theorem dX3_at_0 : decode cX3_at 0 = .ok (.aload_n 0, 1) := dk_42 (dk_at dksX3_at_0 0 rfl rfl)
theorem dX3_at_1 : decode cX3_at 1 = .ok (.iload_n 1, 1) := dk_27 (dk_at dksX3_at_0 1 rfl rfl)
theorem dX3_at_2 : decode cX3_at 2 = .ok (.putfield 15, 3) := dk_181 0 15 (dk_at dksX3_at_0 2 rfl rfl)
theorem dX3_at_5 : decode cX3_at 5 = .ok (.aload_n 0, 1) := dk_42 (dk_at dksX3_at_0 5 rfl rfl)
theorem dX3_at_6 : decode cX3_at 6 = .ok (.iload_n 2, 1) := dk_28 (dk_at dksX3_at_0 6 rfl rfl)
theorem dX3_at_7 : decode cX3_at 7 = .ok (.putfield 9, 3) := dk_181 0 9 (dk_at dksX3_at_0 7 rfl rfl)
theorem dX3_at_10 : decode cX3_at 10 = .ok (.aload_n 0, 1) := dk_42 (dk_at dksX3_at_0 10 rfl rfl)
theorem dX3_at_11 : decode cX3_at 11 = .ok (.areturn, 1) := dk_176 (dk_at dksX3_at_0 11 rfl rfl)
theorem q131 : (Jvm.Cond.initialized "YearSkins$Refused") ∈ lw_all := lw_g (lw_at lw_m1 6 rfl) rfl
theorem q172 : (Jvm.Cond.instantiable "YearSkins$Refused" (8 : Nat)) ∈ lw_all := lw_g (lw_at lw_m1 47 rfl) rfl
theorem q173 : (Jvm.Cond.castable "YearSkins$Refused" "YearSkins$Refused") ∈ lw_tbl := lw_at lw_m1 48 rfl
theorem q180 : (Jvm.Cond.selects "YearSkins$Refused" ({ cls := "java/lang/Throwable", name := "fillInStackTrace", desc := "(I)Ljava/lang/Throwable;" } : Jvm.MethodName) ({ cls := "java/lang/Throwable", name := "fillInStackTrace", desc := "(I)Ljava/lang/Throwable;" } : Jvm.MethodName)) ∈ lw_all := lw_g (lw_at lw_m1 55 rfl) rfl
theorem q181 : (Jvm.Cond.selects "YearSkins$Refused" ({ cls := "java/lang/Throwable", name := "fillInStackTrace", desc := "()Ljava/lang/Throwable;" } : Jvm.MethodName) ({ cls := "java/lang/Throwable", name := "fillInStackTrace", desc := "()Ljava/lang/Throwable;" } : Jvm.MethodName)) ∈ lw_all := lw_g (lw_at lw_m1 56 rfl) rfl
theorem q182 : (Jvm.Cond.lays "YearSkins$Refused" "java/lang/Throwable" "cause" "Ljava/lang/Throwable;") ∈ lw_all := lw_g (lw_at lw_m1 57 rfl) rfl
theorem q184 : (Jvm.Cond.lays "YearSkins$Refused" "java/lang/Throwable" "stackTrace" "[Ljava/lang/StackTraceElement;") ∈ lw_all := lw_g (lw_at lw_m1 59 rfl) rfl
theorem q186 : (Jvm.Cond.lays "YearSkins$Refused" "java/lang/Throwable" "suppressedExceptions" "Ljava/util/List;") ∈ lw_all := lw_g (lw_at lw_m1 61 rfl) rfl
theorem q188 : (Jvm.Cond.lays "YearSkins$Refused" "java/lang/Throwable" "detailMessage" "Ljava/lang/String;") ∈ lw_all := lw_g (lw_at lw_m1 63 rfl) rfl
theorem q190 : (Jvm.Cond.lays "YearSkins$Refused" "java/lang/Throwable" "backtrace" "Ljava/lang/Object;") ∈ lw_all := lw_g (lw_at lw_m1 65 rfl) rfl
theorem q212 : (Jvm.Cond.instanceMethod ({ cls := "YearSkins$Refused", name := "<init>", desc := "()V" } : Jvm.MethodName)) ∈ lw_all := lw_g (lw_at lw_m1 87 rfl) rfl
theorem q213 : (Jvm.Cond.code ({ cls := "YearSkins$Refused", name := "<init>", desc := "()V" } : Jvm.MethodName) prog_9_method_1_code (1 : Nat) (Option.none : Option Jvm.ClassFile.FieldType)) ∈ lw_all := lw_g (lw_at lw_m1 88 rfl) rfl
theorem q214 : (Jvm.Cond.methodLink "YearSkins$Refused" (3 : Nat) ({ cls := "java/lang/RuntimeException", name := "<init>", desc := "(Ljava/lang/String;Ljava/lang/Throwable;ZZ)V" } : Jvm.MethodName)) ∈ lw_all := lw_g (lw_at lw_m1 89 rfl) rfl
theorem q223 : (Jvm.Cond.fieldLink "YearSkins$Refused" (15 : Nat) "YearSkins$Refused" "fault" "I") ∈ lw_all := lw_g (lw_at lw_m1 98 rfl) rfl
theorem q225 : (Jvm.Cond.fieldLink "YearSkins$Refused" (9 : Nat) "YearSkins$Refused" "place" "I") ∈ lw_all := lw_g (lw_at lw_m1 100 rfl) rfl
theorem q232 : (Jvm.Cond.lays "YearSkins$Refused" "YearSkins$Refused" "fault" "I") ∈ lw_all := lw_g (lw_at lw_m1 107 rfl) rfl
theorem q233 : (Jvm.Cond.soleField "YearSkins$Refused" "fault") ∈ lw_all := lw_g (lw_at lw_m1 108 rfl) rfl
theorem q234 : (Jvm.Cond.lays "YearSkins$Refused" "YearSkins$Refused" "place" "I") ∈ lw_all := lw_g (lw_at lw_m1 109 rfl) rfl
theorem q235 : (Jvm.Cond.soleField "YearSkins$Refused" "place") ∈ lw_all := lw_g (lw_at lw_m1 110 rfl) rfl
theorem q240 : (Jvm.Cond.lays "YearSkins$Refused" "java/lang/Throwable" "depth" "I") ∈ lw_all := lw_g (lw_at lw_m1 115 rfl) rfl
theorem q243 : (Jvm.Cond.superclass "YearSkins$Refused" "java/lang/RuntimeException") ∈ lw_all := lw_g (lw_at lw_m1 118 rfl) rfl
theorem q771 : (Jvm.Cond.instanceMethod ({ cls := "YearSkins$Refused", name := "at", desc := "(II)LYearSkins$Refused;" } : Jvm.MethodName)) ∈ lw_all := lw_g (lw_at lw_m3 166 rfl) rfl
theorem q772 : (Jvm.Cond.selects "YearSkins$Refused" ({ cls := "YearSkins$Refused", name := "at", desc := "(II)LYearSkins$Refused;" } : Jvm.MethodName) ({ cls := "YearSkins$Refused", name := "at", desc := "(II)LYearSkins$Refused;" } : Jvm.MethodName)) ∈ lw_all := lw_g (lw_at lw_m3 167 rfl) rfl
theorem q773 : (Jvm.Cond.code ({ cls := "YearSkins$Refused", name := "at", desc := "(II)LYearSkins$Refused;" } : Jvm.MethodName) prog_9_method_2_code (3 : Nat) (Option.some (Jvm.ClassFile.FieldType.object "YearSkins$Refused"))) ∈ lw_all := lw_g (lw_at lw_m3 168 rfl) rfl
theorem q2641 : (Jvm.Cond.castable "YearSkins$Refused" "java/lang/Object") ∈ lw_tbl := lw_at lw_m11 116 rfl
theorem in_X3 : ∀ w ∈ wsX30, w ∈ lw_all := lw_in wsX30 [182, 184, 186, 188, 190, 240, 232, 234] (by decide +kernel) (by decide +kernel)
/-! YearSkins$Village -/
set_option maxRecDepth 100000
def RX4 : String := "YearSkins$Village"
def TX4 : u_T := fun k => match k with
  | 0 => ("YearSkins$Village", "houses", "[LYearSkins$House;", true)
  | 1 => ("YearSkins$Village", "tried", "LYearSkins$House;", true)
  | 2 => ("YearSkins$Village", "depth", "[I", true)
  | 3 => ("YearSkins$Village", "order", "[I", true)
  | 4 => ("YearSkins$Village", "land", "LYearSkins$Land;", false)
  | 5 => ("YearSkins$Village", "many", "I", false)
  | 6 => ("YearSkins$Village", "year", "I", false)
  | 7 => ("YearSkins$Village", "seed", "I", false)
  | 8 => ("YearSkins$Village", "doorSide", "I", false)
  | _ => ("YearSkins$Village", "doorOn", "I", false)
def tyX4 : Nat → FieldType := fun k => match k with
  | 0 => .array (.object "YearSkins$House")
  | 1 => .object "YearSkins$House"
  | 2 => .array .int
  | 3 => .array .int
  | 4 => .object "YearSkins$Land"
  | 5 => .int
  | 6 => .int
  | 7 => .int
  | 8 => .int
  | _ => .int
abbrev wsX40 : List Cond := u_ws RX4 TX4 10
theorem nmX4 : ∀ a, a < 10 → ∀ b, b < 10 → a ≠ b → (TX4 a).2.1 ≠ (TX4 b).2.1 := by decide +kernel
theorem tyX4_ok : ∀ k, k < 10 → parseFieldDescriptor (TX4 k).2.2.1 = some (tyX4 k) := by decide +kernel
abbrev cX4_init : ByteArray := prog_16_method_1_code
def yX4_init : MethodName := ⟨RX4, "<init>", "()V"⟩
def dkwX4_init_2 : List UInt8 := [180, 0, 11, 27, 187, 0, 9, 89, 183, 0, 17, 83, 132, 1, 1, 167, 255, 235, 42, 182, 0, 29, 177]
abbrev dktX4_init_2 : List UInt8 := dkwX4_init_2 ++ []
def dkwX4_init_1 : List UInt8 := [16, 6, 188, 10, 181, 0, 22, 42, 7, 188, 10, 181, 0, 26, 3, 60, 27, 7, 162, 0, 22, 42]
abbrev dktX4_init_1 : List UInt8 := dkwX4_init_1 ++ dktX4_init_2
def dkwX4_init_0 : List UInt8 := [42, 183, 0, 3, 42, 7, 189, 0, 9, 181, 0, 11, 42, 187, 0, 9, 89, 183, 0, 17, 181, 0, 18, 42]
abbrev dktX4_init_0 : List UInt8 := dkwX4_init_0 ++ dktX4_init_1
theorem dksX4_init_0 : cX4_init.data.toList.drop 0 = dktX4_init_0 := by decide +kernel
theorem dksX4_init_1 : cX4_init.data.toList.drop 24 = dktX4_init_1 := dk_seg dksX4_init_0 24 rfl rfl
theorem dksX4_init_2 : cX4_init.data.toList.drop 46 = dktX4_init_2 := dk_seg dksX4_init_1 22 rfl rfl
theorem dX4_init_0 : decode cX4_init 0 = .ok (.aload_n 0, 1) := dk_42 (dk_at dksX4_init_0 0 rfl rfl)
theorem dX4_init_1 : decode cX4_init 1 = .ok (.invokespecial 3, 3) := dk_183 0 3 (dk_at dksX4_init_0 1 rfl rfl)
theorem dX4_init_4 : decode cX4_init 4 = .ok (.aload_n 0, 1) := dk_42 (dk_at dksX4_init_0 4 rfl rfl)
theorem dX4_init_5 : decode cX4_init 5 = .ok (.iconst 4, 1) := dk_7 (dk_at dksX4_init_0 5 rfl rfl)
theorem dX4_init_6 : decode cX4_init 6 = .ok (.anewarray 9, 3) := dk_189 0 9 (dk_at dksX4_init_0 6 rfl rfl)
theorem dX4_init_9 : decode cX4_init 9 = .ok (.putfield 11, 3) := dk_181 0 11 (dk_at dksX4_init_0 9 rfl rfl)
theorem dX4_init_12 : decode cX4_init 12 = .ok (.aload_n 0, 1) := dk_42 (dk_at dksX4_init_0 12 rfl rfl)
theorem dX4_init_13 : decode cX4_init 13 = .ok (.new 9, 3) := dk_187 0 9 (dk_at dksX4_init_0 13 rfl rfl)
theorem dX4_init_16 : decode cX4_init 16 = .ok (.dup, 1) := dk_89 (dk_at dksX4_init_0 16 rfl rfl)
theorem dX4_init_17 : decode cX4_init 17 = .ok (.invokespecial 17, 3) := dk_183 0 17 (dk_at dksX4_init_0 17 rfl rfl)
theorem dX4_init_20 : decode cX4_init 20 = .ok (.putfield 18, 3) := dk_181 0 18 (dk_at dksX4_init_0 20 rfl rfl)
theorem dX4_init_23 : decode cX4_init 23 = .ok (.aload_n 0, 1) := dk_42 (dk_at dksX4_init_0 23 rfl rfl)
theorem dX4_init_24 : decode cX4_init 24 = .ok (.bipush 6, 2) := dk_16 6 (dk_at dksX4_init_1 0 rfl rfl)
theorem dX4_init_26 : decode cX4_init 26 = .ok (.newarray .int, 2) := dk_188_10 (dk_at dksX4_init_1 2 rfl rfl)
theorem dX4_init_28 : decode cX4_init 28 = .ok (.putfield 22, 3) := dk_181 0 22 (dk_at dksX4_init_1 4 rfl rfl)
theorem dX4_init_31 : decode cX4_init 31 = .ok (.aload_n 0, 1) := dk_42 (dk_at dksX4_init_1 7 rfl rfl)
theorem dX4_init_32 : decode cX4_init 32 = .ok (.iconst 4, 1) := dk_7 (dk_at dksX4_init_1 8 rfl rfl)
theorem dX4_init_33 : decode cX4_init 33 = .ok (.newarray .int, 2) := dk_188_10 (dk_at dksX4_init_1 9 rfl rfl)
theorem dX4_init_35 : decode cX4_init 35 = .ok (.putfield 26, 3) := dk_181 0 26 (dk_at dksX4_init_1 11 rfl rfl)
theorem dX4_init_38 : decode cX4_init 38 = .ok (.iconst 0, 1) := dk_3 (dk_at dksX4_init_1 14 rfl rfl)
theorem dX4_init_39 : decode cX4_init 39 = .ok (.istore_n 1, 1) := dk_60 (dk_at dksX4_init_1 15 rfl rfl)
theorem dX4_init_40 : decode cX4_init 40 = .ok (.iload_n 1, 1) := dk_27 (dk_at dksX4_init_1 16 rfl rfl)
theorem dX4_init_41 : decode cX4_init 41 = .ok (.iconst 4, 1) := dk_7 (dk_at dksX4_init_1 17 rfl rfl)
theorem dX4_init_42 : decode cX4_init 42 = .ok (.if_icmp .ge 22, 3) := dk_162 0 22 (dk_at dksX4_init_1 18 rfl rfl)
theorem dX4_init_45 : decode cX4_init 45 = .ok (.aload_n 0, 1) := dk_42 (dk_at dksX4_init_1 21 rfl rfl)
theorem dX4_init_46 : decode cX4_init 46 = .ok (.getfield 11, 3) := dk_180 0 11 (dk_at dksX4_init_2 0 rfl rfl)
theorem dX4_init_49 : decode cX4_init 49 = .ok (.iload_n 1, 1) := dk_27 (dk_at dksX4_init_2 3 rfl rfl)
theorem dX4_init_50 : decode cX4_init 50 = .ok (.new 9, 3) := dk_187 0 9 (dk_at dksX4_init_2 4 rfl rfl)
theorem dX4_init_53 : decode cX4_init 53 = .ok (.dup, 1) := dk_89 (dk_at dksX4_init_2 7 rfl rfl)
theorem dX4_init_54 : decode cX4_init 54 = .ok (.invokespecial 17, 3) := dk_183 0 17 (dk_at dksX4_init_2 8 rfl rfl)
theorem dX4_init_57 : decode cX4_init 57 = .ok (.aastore, 1) := dk_83 (dk_at dksX4_init_2 11 rfl rfl)
theorem dX4_init_58 : decode cX4_init 58 = .ok (.iinc 1 1, 3) := dk_132 1 1 (dk_at dksX4_init_2 12 rfl rfl)
theorem dX4_init_61 : decode cX4_init 61 = .ok (.goto (-21), 3) := dk_167 255 235 (dk_at dksX4_init_2 15 rfl rfl)
theorem dX4_init_64 : decode cX4_init 64 = .ok (.aload_n 0, 1) := dk_42 (dk_at dksX4_init_2 18 rfl rfl)
theorem dX4_init_65 : decode cX4_init 65 = .ok (.invokevirtual 29, 3) := dk_182 0 29 (dk_at dksX4_init_2 19 rfl rfl)
theorem dX4_init_68 : decode cX4_init 68 = .ok (.return_, 1) := dk_177 (dk_at dksX4_init_2 22 rfl rfl)
abbrev cX4_straight : ByteArray := prog_16_method_5_code
def yX4_straight : MethodName := ⟨RX4, "straight", "()V"⟩
def dkwX4_straight_0 : List UInt8 := [3, 60, 27, 7, 162, 0, 16, 42, 180, 0, 26, 27, 27, 79, 132, 1, 1, 167, 255, 241, 177]
abbrev dktX4_straight_0 : List UInt8 := dkwX4_straight_0 ++ []
theorem dksX4_straight_0 : cX4_straight.data.toList.drop 0 = dktX4_straight_0 := by decide +kernel
theorem dX4_straight_0 : decode cX4_straight 0 = .ok (.iconst 0, 1) := dk_3 (dk_at dksX4_straight_0 0 rfl rfl)
theorem dX4_straight_1 : decode cX4_straight 1 = .ok (.istore_n 1, 1) := dk_60 (dk_at dksX4_straight_0 1 rfl rfl)
theorem dX4_straight_2 : decode cX4_straight 2 = .ok (.iload_n 1, 1) := dk_27 (dk_at dksX4_straight_0 2 rfl rfl)
theorem dX4_straight_3 : decode cX4_straight 3 = .ok (.iconst 4, 1) := dk_7 (dk_at dksX4_straight_0 3 rfl rfl)
theorem dX4_straight_4 : decode cX4_straight 4 = .ok (.if_icmp .ge 16, 3) := dk_162 0 16 (dk_at dksX4_straight_0 4 rfl rfl)
theorem dX4_straight_7 : decode cX4_straight 7 = .ok (.aload_n 0, 1) := dk_42 (dk_at dksX4_straight_0 7 rfl rfl)
theorem dX4_straight_8 : decode cX4_straight 8 = .ok (.getfield 26, 3) := dk_180 0 26 (dk_at dksX4_straight_0 8 rfl rfl)
theorem dX4_straight_11 : decode cX4_straight 11 = .ok (.iload_n 1, 1) := dk_27 (dk_at dksX4_straight_0 11 rfl rfl)
theorem dX4_straight_12 : decode cX4_straight 12 = .ok (.iload_n 1, 1) := dk_27 (dk_at dksX4_straight_0 12 rfl rfl)
theorem dX4_straight_13 : decode cX4_straight 13 = .ok (.iastore, 1) := dk_79 (dk_at dksX4_straight_0 13 rfl rfl)
theorem dX4_straight_14 : decode cX4_straight 14 = .ok (.iinc 1 1, 3) := dk_132 1 1 (dk_at dksX4_straight_0 14 rfl rfl)
theorem dX4_straight_17 : decode cX4_straight 17 = .ok (.goto (-15), 3) := dk_167 255 241 (dk_at dksX4_straight_0 17 rfl rfl)
theorem dX4_straight_20 : decode cX4_straight 20 = .ok (.return_, 1) := dk_177 (dk_at dksX4_straight_0 20 rfl rfl)
abbrev cX4_begin : ByteArray := prog_16_method_2_code
def yX4_begin : MethodName := ⟨RX4, "begin", "(LYearSkins$Land;I)V"⟩
def dkwX4_begin_0 : List UInt8 := [42, 43, 181, 0, 32, 42, 3, 181, 0, 36, 42, 28, 181, 0, 40, 42, 3, 181, 0, 43, 177]
abbrev dktX4_begin_0 : List UInt8 := dkwX4_begin_0 ++ []
theorem dksX4_begin_0 : cX4_begin.data.toList.drop 0 = dktX4_begin_0 := by decide +kernel
theorem dX4_begin_0 : decode cX4_begin 0 = .ok (.aload_n 0, 1) := dk_42 (dk_at dksX4_begin_0 0 rfl rfl)
theorem dX4_begin_1 : decode cX4_begin 1 = .ok (.aload_n 1, 1) := dk_43 (dk_at dksX4_begin_0 1 rfl rfl)
theorem dX4_begin_2 : decode cX4_begin 2 = .ok (.putfield 32, 3) := dk_181 0 32 (dk_at dksX4_begin_0 2 rfl rfl)
theorem dX4_begin_5 : decode cX4_begin 5 = .ok (.aload_n 0, 1) := dk_42 (dk_at dksX4_begin_0 5 rfl rfl)
theorem dX4_begin_6 : decode cX4_begin 6 = .ok (.iconst 0, 1) := dk_3 (dk_at dksX4_begin_0 6 rfl rfl)
theorem dX4_begin_7 : decode cX4_begin 7 = .ok (.putfield 36, 3) := dk_181 0 36 (dk_at dksX4_begin_0 7 rfl rfl)
theorem dX4_begin_10 : decode cX4_begin 10 = .ok (.aload_n 0, 1) := dk_42 (dk_at dksX4_begin_0 10 rfl rfl)
theorem dX4_begin_11 : decode cX4_begin 11 = .ok (.iload_n 2, 1) := dk_28 (dk_at dksX4_begin_0 11 rfl rfl)
theorem dX4_begin_12 : decode cX4_begin 12 = .ok (.putfield 40, 3) := dk_181 0 40 (dk_at dksX4_begin_0 12 rfl rfl)
theorem dX4_begin_15 : decode cX4_begin 15 = .ok (.aload_n 0, 1) := dk_42 (dk_at dksX4_begin_0 15 rfl rfl)
theorem dX4_begin_16 : decode cX4_begin 16 = .ok (.iconst 0, 1) := dk_3 (dk_at dksX4_begin_0 16 rfl rfl)
theorem dX4_begin_17 : decode cX4_begin 17 = .ok (.putfield 43, 3) := dk_181 0 43 (dk_at dksX4_begin_0 17 rfl rfl)
theorem dX4_begin_20 : decode cX4_begin 20 = .ok (.return_, 1) := dk_177 (dk_at dksX4_begin_0 20 rfl rfl)
abbrev cX4_whose : ByteArray := prog_16_method_8_code
def yX4_whose : MethodName := ⟨RX4, "whose", "(II)I"⟩
def dkwX4_whose_1 : List UInt8 := [182, 0, 61, 153, 0, 10, 4, 21, 4, 120, 167, 0, 4, 3, 128, 62, 132, 4, 1, 167, 255, 218, 29, 172]
abbrev dktX4_whose_1 : List UInt8 := dkwX4_whose_1 ++ []
def dkwX4_whose_0 : List UInt8 := [3, 62, 3, 54, 4, 21, 4, 42, 180, 0, 36, 162, 0, 35, 29, 42, 180, 0, 11, 21, 4, 50, 27, 28]
abbrev dktX4_whose_0 : List UInt8 := dkwX4_whose_0 ++ dktX4_whose_1
theorem dksX4_whose_0 : cX4_whose.data.toList.drop 0 = dktX4_whose_0 := by decide +kernel
theorem dksX4_whose_1 : cX4_whose.data.toList.drop 24 = dktX4_whose_1 := dk_seg dksX4_whose_0 24 rfl rfl
theorem dX4_whose_0 : decode cX4_whose 0 = .ok (.iconst 0, 1) := dk_3 (dk_at dksX4_whose_0 0 rfl rfl)
theorem dX4_whose_1 : decode cX4_whose 1 = .ok (.istore_n 3, 1) := dk_62 (dk_at dksX4_whose_0 1 rfl rfl)
theorem dX4_whose_2 : decode cX4_whose 2 = .ok (.iconst 0, 1) := dk_3 (dk_at dksX4_whose_0 2 rfl rfl)
theorem dX4_whose_3 : decode cX4_whose 3 = .ok (.istore 4, 2) := dk_54 4 (dk_at dksX4_whose_0 3 rfl rfl)
theorem dX4_whose_5 : decode cX4_whose 5 = .ok (.iload 4, 2) := dk_21 4 (dk_at dksX4_whose_0 5 rfl rfl)
theorem dX4_whose_7 : decode cX4_whose 7 = .ok (.aload_n 0, 1) := dk_42 (dk_at dksX4_whose_0 7 rfl rfl)
theorem dX4_whose_8 : decode cX4_whose 8 = .ok (.getfield 36, 3) := dk_180 0 36 (dk_at dksX4_whose_0 8 rfl rfl)
theorem dX4_whose_11 : decode cX4_whose 11 = .ok (.if_icmp .ge 35, 3) := dk_162 0 35 (dk_at dksX4_whose_0 11 rfl rfl)
theorem dX4_whose_14 : decode cX4_whose 14 = .ok (.iload_n 3, 1) := dk_29 (dk_at dksX4_whose_0 14 rfl rfl)
theorem dX4_whose_15 : decode cX4_whose 15 = .ok (.aload_n 0, 1) := dk_42 (dk_at dksX4_whose_0 15 rfl rfl)
theorem dX4_whose_16 : decode cX4_whose 16 = .ok (.getfield 11, 3) := dk_180 0 11 (dk_at dksX4_whose_0 16 rfl rfl)
theorem dX4_whose_19 : decode cX4_whose 19 = .ok (.iload 4, 2) := dk_21 4 (dk_at dksX4_whose_0 19 rfl rfl)
theorem dX4_whose_21 : decode cX4_whose 21 = .ok (.aaload, 1) := dk_50 (dk_at dksX4_whose_0 21 rfl rfl)
theorem dX4_whose_22 : decode cX4_whose 22 = .ok (.iload_n 1, 1) := dk_27 (dk_at dksX4_whose_0 22 rfl rfl)
theorem dX4_whose_23 : decode cX4_whose 23 = .ok (.iload_n 2, 1) := dk_28 (dk_at dksX4_whose_0 23 rfl rfl)
theorem dX4_whose_24 : decode cX4_whose 24 = .ok (.invokevirtual 61, 3) := dk_182 0 61 (dk_at dksX4_whose_1 0 rfl rfl)
theorem dX4_whose_27 : decode cX4_whose 27 = .ok (.ifCond .eq 10, 3) := dk_153 0 10 (dk_at dksX4_whose_1 3 rfl rfl)
theorem dX4_whose_30 : decode cX4_whose 30 = .ok (.iconst 1, 1) := dk_4 (dk_at dksX4_whose_1 6 rfl rfl)
theorem dX4_whose_31 : decode cX4_whose 31 = .ok (.iload 4, 2) := dk_21 4 (dk_at dksX4_whose_1 7 rfl rfl)
theorem dX4_whose_33 : decode cX4_whose 33 = .ok (.ishl, 1) := dk_120 (dk_at dksX4_whose_1 9 rfl rfl)
theorem dX4_whose_34 : decode cX4_whose 34 = .ok (.goto 4, 3) := dk_167 0 4 (dk_at dksX4_whose_1 10 rfl rfl)
theorem dX4_whose_37 : decode cX4_whose 37 = .ok (.iconst 0, 1) := dk_3 (dk_at dksX4_whose_1 13 rfl rfl)
theorem dX4_whose_38 : decode cX4_whose 38 = .ok (.ior, 1) := dk_128 (dk_at dksX4_whose_1 14 rfl rfl)
theorem dX4_whose_39 : decode cX4_whose 39 = .ok (.istore_n 3, 1) := dk_62 (dk_at dksX4_whose_1 15 rfl rfl)
theorem dX4_whose_40 : decode cX4_whose 40 = .ok (.iinc 4 1, 3) := dk_132 4 1 (dk_at dksX4_whose_1 16 rfl rfl)
theorem dX4_whose_43 : decode cX4_whose 43 = .ok (.goto (-38), 3) := dk_167 255 218 (dk_at dksX4_whose_1 19 rfl rfl)
theorem dX4_whose_46 : decode cX4_whose 46 = .ok (.iload_n 3, 1) := dk_29 (dk_at dksX4_whose_1 22 rfl rfl)
theorem dX4_whose_47 : decode cX4_whose 47 = .ok (.ireturn, 1) := dk_172 (dk_at dksX4_whose_1 23 rfl rfl)
abbrev cX4_add : ByteArray := prog_16_method_3_code
def yX4_add : MethodName := ⟨RX4, "add", "(LYearSkins$Site;II)V"⟩
def dkwX4_add_1 : List UInt8 := [181, 0, 36, 177]
abbrev dktX4_add_1 : List UInt8 := dkwX4_add_1 ++ []
def dkwX4_add_0 : List UInt8 := [42, 180, 0, 11, 42, 180, 0, 36, 50, 43, 28, 29, 182, 0, 46, 42, 89, 180, 0, 36, 4, 96]
abbrev dktX4_add_0 : List UInt8 := dkwX4_add_0 ++ dktX4_add_1
theorem dksX4_add_0 : cX4_add.data.toList.drop 0 = dktX4_add_0 := by decide +kernel
theorem dksX4_add_1 : cX4_add.data.toList.drop 22 = dktX4_add_1 := dk_seg dksX4_add_0 22 rfl rfl
theorem dX4_add_0 : decode cX4_add 0 = .ok (.aload_n 0, 1) := dk_42 (dk_at dksX4_add_0 0 rfl rfl)
theorem dX4_add_1 : decode cX4_add 1 = .ok (.getfield 11, 3) := dk_180 0 11 (dk_at dksX4_add_0 1 rfl rfl)
theorem dX4_add_4 : decode cX4_add 4 = .ok (.aload_n 0, 1) := dk_42 (dk_at dksX4_add_0 4 rfl rfl)
theorem dX4_add_5 : decode cX4_add 5 = .ok (.getfield 36, 3) := dk_180 0 36 (dk_at dksX4_add_0 5 rfl rfl)
theorem dX4_add_8 : decode cX4_add 8 = .ok (.aaload, 1) := dk_50 (dk_at dksX4_add_0 8 rfl rfl)
theorem dX4_add_9 : decode cX4_add 9 = .ok (.aload_n 1, 1) := dk_43 (dk_at dksX4_add_0 9 rfl rfl)
theorem dX4_add_10 : decode cX4_add 10 = .ok (.iload_n 2, 1) := dk_28 (dk_at dksX4_add_0 10 rfl rfl)
theorem dX4_add_11 : decode cX4_add 11 = .ok (.iload_n 3, 1) := dk_29 (dk_at dksX4_add_0 11 rfl rfl)
theorem dX4_add_12 : decode cX4_add 12 = .ok (.invokevirtual 46, 3) := dk_182 0 46 (dk_at dksX4_add_0 12 rfl rfl)
theorem dX4_add_15 : decode cX4_add 15 = .ok (.aload_n 0, 1) := dk_42 (dk_at dksX4_add_0 15 rfl rfl)
theorem dX4_add_16 : decode cX4_add 16 = .ok (.dup, 1) := dk_89 (dk_at dksX4_add_0 16 rfl rfl)
theorem dX4_add_17 : decode cX4_add 17 = .ok (.getfield 36, 3) := dk_180 0 36 (dk_at dksX4_add_0 17 rfl rfl)
theorem dX4_add_20 : decode cX4_add 20 = .ok (.iconst 1, 1) := dk_4 (dk_at dksX4_add_0 20 rfl rfl)
theorem dX4_add_21 : decode cX4_add 21 = .ok (.iadd, 1) := dk_96 (dk_at dksX4_add_0 21 rfl rfl)
theorem dX4_add_22 : decode cX4_add 22 = .ok (.putfield 36, 3) := dk_181 0 36 (dk_at dksX4_add_1 0 rfl rfl)
theorem dX4_add_25 : decode cX4_add 25 = .ok (.return_, 1) := dk_177 (dk_at dksX4_add_1 3 rfl rfl)
abbrev cX4_house : ByteArray := prog_16_method_6_code
def yX4_house : MethodName := ⟨RX4, "house", "(I)LYearSkins$House;"⟩
def dkwX4_house_0 : List UInt8 := [42, 180, 0, 11, 27, 50, 176]
abbrev dktX4_house_0 : List UInt8 := dkwX4_house_0 ++ []
theorem dksX4_house_0 : cX4_house.data.toList.drop 0 = dktX4_house_0 := by decide +kernel
theorem dX4_house_0 : decode cX4_house 0 = .ok (.aload_n 0, 1) := dk_42 (dk_at dksX4_house_0 0 rfl rfl)
theorem dX4_house_1 : decode cX4_house 1 = .ok (.getfield 11, 3) := dk_180 0 11 (dk_at dksX4_house_0 1 rfl rfl)
theorem dX4_house_4 : decode cX4_house 4 = .ok (.iload_n 1, 1) := dk_27 (dk_at dksX4_house_0 4 rfl rfl)
theorem dX4_house_5 : decode cX4_house 5 = .ok (.aaload, 1) := dk_50 (dk_at dksX4_house_0 5 rfl rfl)
theorem dX4_house_6 : decode cX4_house 6 = .ok (.areturn, 1) := dk_176 (dk_at dksX4_house_0 6 rfl rfl)
abbrev cX4_fits : ByteArray := prog_16_method_10_code
def yX4_fits : MethodName := ⟨RX4, "fits", "(I)Z"⟩
def dkwX4_fits_3 : List UInt8 := [184, 0, 95, 96, 182, 0, 97, 54, 4, 132, 5, 1, 167, 255, 204, 21, 4, 172]
abbrev dktX4_fits_3 : List UInt8 := dkwX4_fits_3 ++ []
def dkwX4_fits_2 : List UInt8 := [180, 0, 78, 180, 0, 82, 29, 21, 5, 184, 0, 87, 96, 44, 180, 0, 78, 180, 0, 92, 29, 21, 5]
abbrev dktX4_fits_2 : List UInt8 := dkwX4_fits_2 ++ dktX4_fits_3
def dkwX4_fits_1 : List UInt8 := [3, 54, 4, 3, 54, 5, 21, 5, 16, 8, 29, 104, 162, 0, 49, 21, 4, 153, 0, 44, 42, 27, 44]
abbrev dktX4_fits_1 : List UInt8 := dkwX4_fits_1 ++ dktX4_fits_2
def dkwX4_fits_0 : List UInt8 := [42, 180, 0, 11, 27, 50, 77, 44, 180, 0, 77, 4, 96, 62, 29, 16, 6, 163, 0, 7, 4, 167, 0, 4]
abbrev dktX4_fits_0 : List UInt8 := dkwX4_fits_0 ++ dktX4_fits_1
theorem dksX4_fits_0 : cX4_fits.data.toList.drop 0 = dktX4_fits_0 := by decide +kernel
theorem dksX4_fits_1 : cX4_fits.data.toList.drop 24 = dktX4_fits_1 := dk_seg dksX4_fits_0 24 rfl rfl
theorem dksX4_fits_2 : cX4_fits.data.toList.drop 47 = dktX4_fits_2 := dk_seg dksX4_fits_1 23 rfl rfl
theorem dksX4_fits_3 : cX4_fits.data.toList.drop 70 = dktX4_fits_3 := dk_seg dksX4_fits_2 23 rfl rfl
theorem dX4_fits_0 : decode cX4_fits 0 = .ok (.aload_n 0, 1) := dk_42 (dk_at dksX4_fits_0 0 rfl rfl)
theorem dX4_fits_1 : decode cX4_fits 1 = .ok (.getfield 11, 3) := dk_180 0 11 (dk_at dksX4_fits_0 1 rfl rfl)
theorem dX4_fits_4 : decode cX4_fits 4 = .ok (.iload_n 1, 1) := dk_27 (dk_at dksX4_fits_0 4 rfl rfl)
theorem dX4_fits_5 : decode cX4_fits 5 = .ok (.aaload, 1) := dk_50 (dk_at dksX4_fits_0 5 rfl rfl)
theorem dX4_fits_6 : decode cX4_fits 6 = .ok (.astore_n 2, 1) := dk_77 (dk_at dksX4_fits_0 6 rfl rfl)
theorem dX4_fits_7 : decode cX4_fits 7 = .ok (.aload_n 2, 1) := dk_44 (dk_at dksX4_fits_0 7 rfl rfl)
theorem dX4_fits_8 : decode cX4_fits 8 = .ok (.getfield 77, 3) := dk_180 0 77 (dk_at dksX4_fits_0 8 rfl rfl)
theorem dX4_fits_11 : decode cX4_fits 11 = .ok (.iconst 1, 1) := dk_4 (dk_at dksX4_fits_0 11 rfl rfl)
theorem dX4_fits_12 : decode cX4_fits 12 = .ok (.iadd, 1) := dk_96 (dk_at dksX4_fits_0 12 rfl rfl)
theorem dX4_fits_13 : decode cX4_fits 13 = .ok (.istore_n 3, 1) := dk_62 (dk_at dksX4_fits_0 13 rfl rfl)
theorem dX4_fits_14 : decode cX4_fits 14 = .ok (.iload_n 3, 1) := dk_29 (dk_at dksX4_fits_0 14 rfl rfl)
theorem dX4_fits_15 : decode cX4_fits 15 = .ok (.bipush 6, 2) := dk_16 6 (dk_at dksX4_fits_0 15 rfl rfl)
theorem dX4_fits_17 : decode cX4_fits 17 = .ok (.if_icmp .gt 7, 3) := dk_163 0 7 (dk_at dksX4_fits_0 17 rfl rfl)
theorem dX4_fits_20 : decode cX4_fits 20 = .ok (.iconst 1, 1) := dk_4 (dk_at dksX4_fits_0 20 rfl rfl)
theorem dX4_fits_21 : decode cX4_fits 21 = .ok (.goto 4, 3) := dk_167 0 4 (dk_at dksX4_fits_0 21 rfl rfl)
theorem dX4_fits_24 : decode cX4_fits 24 = .ok (.iconst 0, 1) := dk_3 (dk_at dksX4_fits_1 0 rfl rfl)
theorem dX4_fits_25 : decode cX4_fits 25 = .ok (.istore 4, 2) := dk_54 4 (dk_at dksX4_fits_1 1 rfl rfl)
theorem dX4_fits_27 : decode cX4_fits 27 = .ok (.iconst 0, 1) := dk_3 (dk_at dksX4_fits_1 3 rfl rfl)
theorem dX4_fits_28 : decode cX4_fits 28 = .ok (.istore 5, 2) := dk_54 5 (dk_at dksX4_fits_1 4 rfl rfl)
theorem dX4_fits_30 : decode cX4_fits 30 = .ok (.iload 5, 2) := dk_21 5 (dk_at dksX4_fits_1 6 rfl rfl)
theorem dX4_fits_32 : decode cX4_fits 32 = .ok (.bipush 8, 2) := dk_16 8 (dk_at dksX4_fits_1 8 rfl rfl)
theorem dX4_fits_34 : decode cX4_fits 34 = .ok (.iload_n 3, 1) := dk_29 (dk_at dksX4_fits_1 10 rfl rfl)
theorem dX4_fits_35 : decode cX4_fits 35 = .ok (.imul, 1) := dk_104 (dk_at dksX4_fits_1 11 rfl rfl)
theorem dX4_fits_36 : decode cX4_fits 36 = .ok (.if_icmp .ge 49, 3) := dk_162 0 49 (dk_at dksX4_fits_1 12 rfl rfl)
theorem dX4_fits_39 : decode cX4_fits 39 = .ok (.iload 4, 2) := dk_21 4 (dk_at dksX4_fits_1 15 rfl rfl)
theorem dX4_fits_41 : decode cX4_fits 41 = .ok (.ifCond .eq 44, 3) := dk_153 0 44 (dk_at dksX4_fits_1 17 rfl rfl)
theorem dX4_fits_44 : decode cX4_fits 44 = .ok (.aload_n 0, 1) := dk_42 (dk_at dksX4_fits_1 20 rfl rfl)
theorem dX4_fits_45 : decode cX4_fits 45 = .ok (.iload_n 1, 1) := dk_27 (dk_at dksX4_fits_1 21 rfl rfl)
theorem dX4_fits_46 : decode cX4_fits 46 = .ok (.aload_n 2, 1) := dk_44 (dk_at dksX4_fits_1 22 rfl rfl)
theorem dX4_fits_47 : decode cX4_fits 47 = .ok (.getfield 78, 3) := dk_180 0 78 (dk_at dksX4_fits_2 0 rfl rfl)
theorem dX4_fits_50 : decode cX4_fits 50 = .ok (.getfield 82, 3) := dk_180 0 82 (dk_at dksX4_fits_2 3 rfl rfl)
theorem dX4_fits_53 : decode cX4_fits 53 = .ok (.iload_n 3, 1) := dk_29 (dk_at dksX4_fits_2 6 rfl rfl)
theorem dX4_fits_54 : decode cX4_fits 54 = .ok (.iload 5, 2) := dk_21 5 (dk_at dksX4_fits_2 7 rfl rfl)
theorem dX4_fits_56 : decode cX4_fits 56 = .ok (.invokestatic 87, 3) := dk_184 0 87 (dk_at dksX4_fits_2 9 rfl rfl)
theorem dX4_fits_59 : decode cX4_fits 59 = .ok (.iadd, 1) := dk_96 (dk_at dksX4_fits_2 12 rfl rfl)
theorem dX4_fits_60 : decode cX4_fits 60 = .ok (.aload_n 2, 1) := dk_44 (dk_at dksX4_fits_2 13 rfl rfl)
theorem dX4_fits_61 : decode cX4_fits 61 = .ok (.getfield 78, 3) := dk_180 0 78 (dk_at dksX4_fits_2 14 rfl rfl)
theorem dX4_fits_64 : decode cX4_fits 64 = .ok (.getfield 92, 3) := dk_180 0 92 (dk_at dksX4_fits_2 17 rfl rfl)
theorem dX4_fits_67 : decode cX4_fits 67 = .ok (.iload_n 3, 1) := dk_29 (dk_at dksX4_fits_2 20 rfl rfl)
theorem dX4_fits_68 : decode cX4_fits 68 = .ok (.iload 5, 2) := dk_21 5 (dk_at dksX4_fits_2 21 rfl rfl)
theorem dX4_fits_70 : decode cX4_fits 70 = .ok (.invokestatic 95, 3) := dk_184 0 95 (dk_at dksX4_fits_3 0 rfl rfl)
theorem dX4_fits_73 : decode cX4_fits 73 = .ok (.iadd, 1) := dk_96 (dk_at dksX4_fits_3 3 rfl rfl)
theorem dX4_fits_74 : decode cX4_fits 74 = .ok (.invokevirtual 97, 3) := dk_182 0 97 (dk_at dksX4_fits_3 4 rfl rfl)
theorem dX4_fits_77 : decode cX4_fits 77 = .ok (.istore 4, 2) := dk_54 4 (dk_at dksX4_fits_3 7 rfl rfl)
theorem dX4_fits_79 : decode cX4_fits 79 = .ok (.iinc 5 1, 3) := dk_132 5 1 (dk_at dksX4_fits_3 9 rfl rfl)
theorem dX4_fits_82 : decode cX4_fits 82 = .ok (.goto (-52), 3) := dk_167 255 204 (dk_at dksX4_fits_3 12 rfl rfl)
theorem dX4_fits_85 : decode cX4_fits 85 = .ok (.iload 4, 2) := dk_21 4 (dk_at dksX4_fits_3 15 rfl rfl)
theorem dX4_fits_87 : decode cX4_fits 87 = .ok (.ireturn, 1) := dk_172 (dk_at dksX4_fits_3 17 rfl rfl)
abbrev cX4_canHave : ByteArray := prog_16_method_9_code
def yX4_canHave : MethodName := ⟨RX4, "canHave", "(III)Z"⟩
def dkwX4_canHave_3 : List UInt8 := [154, 0, 5, 3, 172, 132, 4, 1, 167, 255, 196, 4, 172]
abbrev dktX4_canHave_3 : List UInt8 := dkwX4_canHave_3 ++ []
def dkwX4_canHave_2 : List UInt8 := [42, 180, 0, 32, 180, 0, 70, 153, 0, 18, 42, 180, 0, 11, 21, 4, 50, 28, 29, 182, 0, 74]
abbrev dktX4_canHave_2 : List UInt8 := dkwX4_canHave_2 ++ dktX4_canHave_3
def dkwX4_canHave_1 : List UInt8 := [162, 0, 57, 21, 4, 27, 159, 0, 45, 42, 180, 0, 11, 21, 4, 50, 28, 29, 182, 0, 61, 153, 0, 30]
abbrev dktX4_canHave_1 : List UInt8 := dkwX4_canHave_1 ++ dktX4_canHave_2
def dkwX4_canHave_0 : List UInt8 := [42, 180, 0, 32, 28, 29, 182, 0, 65, 154, 0, 5, 3, 172, 3, 54, 4, 21, 4, 42, 180, 0, 36]
abbrev dktX4_canHave_0 : List UInt8 := dkwX4_canHave_0 ++ dktX4_canHave_1
theorem dksX4_canHave_0 : cX4_canHave.data.toList.drop 0 = dktX4_canHave_0 := by decide +kernel
theorem dksX4_canHave_1 : cX4_canHave.data.toList.drop 23 = dktX4_canHave_1 := dk_seg dksX4_canHave_0 23 rfl rfl
theorem dksX4_canHave_2 : cX4_canHave.data.toList.drop 47 = dktX4_canHave_2 := dk_seg dksX4_canHave_1 24 rfl rfl
theorem dksX4_canHave_3 : cX4_canHave.data.toList.drop 69 = dktX4_canHave_3 := dk_seg dksX4_canHave_2 22 rfl rfl
theorem dX4_canHave_0 : decode cX4_canHave 0 = .ok (.aload_n 0, 1) := dk_42 (dk_at dksX4_canHave_0 0 rfl rfl)
theorem dX4_canHave_1 : decode cX4_canHave 1 = .ok (.getfield 32, 3) := dk_180 0 32 (dk_at dksX4_canHave_0 1 rfl rfl)
theorem dX4_canHave_4 : decode cX4_canHave 4 = .ok (.iload_n 2, 1) := dk_28 (dk_at dksX4_canHave_0 4 rfl rfl)
theorem dX4_canHave_5 : decode cX4_canHave 5 = .ok (.iload_n 3, 1) := dk_29 (dk_at dksX4_canHave_0 5 rfl rfl)
theorem dX4_canHave_6 : decode cX4_canHave 6 = .ok (.invokevirtual 65, 3) := dk_182 0 65 (dk_at dksX4_canHave_0 6 rfl rfl)
theorem dX4_canHave_9 : decode cX4_canHave 9 = .ok (.ifCond .ne 5, 3) := dk_154 0 5 (dk_at dksX4_canHave_0 9 rfl rfl)
theorem dX4_canHave_12 : decode cX4_canHave 12 = .ok (.iconst 0, 1) := dk_3 (dk_at dksX4_canHave_0 12 rfl rfl)
theorem dX4_canHave_13 : decode cX4_canHave 13 = .ok (.ireturn, 1) := dk_172 (dk_at dksX4_canHave_0 13 rfl rfl)
theorem dX4_canHave_14 : decode cX4_canHave 14 = .ok (.iconst 0, 1) := dk_3 (dk_at dksX4_canHave_0 14 rfl rfl)
theorem dX4_canHave_15 : decode cX4_canHave 15 = .ok (.istore 4, 2) := dk_54 4 (dk_at dksX4_canHave_0 15 rfl rfl)
theorem dX4_canHave_17 : decode cX4_canHave 17 = .ok (.iload 4, 2) := dk_21 4 (dk_at dksX4_canHave_0 17 rfl rfl)
theorem dX4_canHave_19 : decode cX4_canHave 19 = .ok (.aload_n 0, 1) := dk_42 (dk_at dksX4_canHave_0 19 rfl rfl)
theorem dX4_canHave_20 : decode cX4_canHave 20 = .ok (.getfield 36, 3) := dk_180 0 36 (dk_at dksX4_canHave_0 20 rfl rfl)
theorem dX4_canHave_23 : decode cX4_canHave 23 = .ok (.if_icmp .ge 57, 3) := dk_162 0 57 (dk_at dksX4_canHave_1 0 rfl rfl)
theorem dX4_canHave_26 : decode cX4_canHave 26 = .ok (.iload 4, 2) := dk_21 4 (dk_at dksX4_canHave_1 3 rfl rfl)
theorem dX4_canHave_28 : decode cX4_canHave 28 = .ok (.iload_n 1, 1) := dk_27 (dk_at dksX4_canHave_1 5 rfl rfl)
theorem dX4_canHave_29 : decode cX4_canHave 29 = .ok (.if_icmp .eq 45, 3) := dk_159 0 45 (dk_at dksX4_canHave_1 6 rfl rfl)
theorem dX4_canHave_32 : decode cX4_canHave 32 = .ok (.aload_n 0, 1) := dk_42 (dk_at dksX4_canHave_1 9 rfl rfl)
theorem dX4_canHave_33 : decode cX4_canHave 33 = .ok (.getfield 11, 3) := dk_180 0 11 (dk_at dksX4_canHave_1 10 rfl rfl)
theorem dX4_canHave_36 : decode cX4_canHave 36 = .ok (.iload 4, 2) := dk_21 4 (dk_at dksX4_canHave_1 13 rfl rfl)
theorem dX4_canHave_38 : decode cX4_canHave 38 = .ok (.aaload, 1) := dk_50 (dk_at dksX4_canHave_1 15 rfl rfl)
theorem dX4_canHave_39 : decode cX4_canHave 39 = .ok (.iload_n 2, 1) := dk_28 (dk_at dksX4_canHave_1 16 rfl rfl)
theorem dX4_canHave_40 : decode cX4_canHave 40 = .ok (.iload_n 3, 1) := dk_29 (dk_at dksX4_canHave_1 17 rfl rfl)
theorem dX4_canHave_41 : decode cX4_canHave 41 = .ok (.invokevirtual 61, 3) := dk_182 0 61 (dk_at dksX4_canHave_1 18 rfl rfl)
theorem dX4_canHave_44 : decode cX4_canHave 44 = .ok (.ifCond .eq 30, 3) := dk_153 0 30 (dk_at dksX4_canHave_1 21 rfl rfl)
theorem dX4_canHave_47 : decode cX4_canHave 47 = .ok (.aload_n 0, 1) := dk_42 (dk_at dksX4_canHave_2 0 rfl rfl)
theorem dX4_canHave_48 : decode cX4_canHave 48 = .ok (.getfield 32, 3) := dk_180 0 32 (dk_at dksX4_canHave_2 1 rfl rfl)
theorem dX4_canHave_51 : decode cX4_canHave 51 = .ok (.getfield 70, 3) := dk_180 0 70 (dk_at dksX4_canHave_2 4 rfl rfl)
theorem dX4_canHave_54 : decode cX4_canHave 54 = .ok (.ifCond .eq 18, 3) := dk_153 0 18 (dk_at dksX4_canHave_2 7 rfl rfl)
theorem dX4_canHave_57 : decode cX4_canHave 57 = .ok (.aload_n 0, 1) := dk_42 (dk_at dksX4_canHave_2 10 rfl rfl)
theorem dX4_canHave_58 : decode cX4_canHave 58 = .ok (.getfield 11, 3) := dk_180 0 11 (dk_at dksX4_canHave_2 11 rfl rfl)
theorem dX4_canHave_61 : decode cX4_canHave 61 = .ok (.iload 4, 2) := dk_21 4 (dk_at dksX4_canHave_2 14 rfl rfl)
theorem dX4_canHave_63 : decode cX4_canHave 63 = .ok (.aaload, 1) := dk_50 (dk_at dksX4_canHave_2 16 rfl rfl)
theorem dX4_canHave_64 : decode cX4_canHave 64 = .ok (.iload_n 2, 1) := dk_28 (dk_at dksX4_canHave_2 17 rfl rfl)
theorem dX4_canHave_65 : decode cX4_canHave 65 = .ok (.iload_n 3, 1) := dk_29 (dk_at dksX4_canHave_2 18 rfl rfl)
theorem dX4_canHave_66 : decode cX4_canHave 66 = .ok (.invokevirtual 74, 3) := dk_182 0 74 (dk_at dksX4_canHave_2 19 rfl rfl)
theorem dX4_canHave_69 : decode cX4_canHave 69 = .ok (.ifCond .ne 5, 3) := dk_154 0 5 (dk_at dksX4_canHave_3 0 rfl rfl)
theorem dX4_canHave_72 : decode cX4_canHave 72 = .ok (.iconst 0, 1) := dk_3 (dk_at dksX4_canHave_3 3 rfl rfl)
theorem dX4_canHave_73 : decode cX4_canHave 73 = .ok (.ireturn, 1) := dk_172 (dk_at dksX4_canHave_3 4 rfl rfl)
theorem dX4_canHave_74 : decode cX4_canHave 74 = .ok (.iinc 4 1, 3) := dk_132 4 1 (dk_at dksX4_canHave_3 5 rfl rfl)
theorem dX4_canHave_77 : decode cX4_canHave 77 = .ok (.goto (-60), 3) := dk_167 255 196 (dk_at dksX4_canHave_3 8 rfl rfl)
theorem dX4_canHave_80 : decode cX4_canHave 80 = .ok (.iconst 1, 1) := dk_4 (dk_at dksX4_canHave_3 11 rfl rfl)
theorem dX4_canHave_81 : decode cX4_canHave 81 = .ok (.ireturn, 1) := dk_172 (dk_at dksX4_canHave_3 12 rfl rfl)
abbrev cX4_become : ByteArray := prog_16_method_4_code
def yX4_become : MethodName := ⟨RX4, "become", "(LYearSkins$Village;)V"⟩
def dkwX4_become_3 : List UInt8 := [3, 16, 6, 184, 0, 54, 177]
abbrev dktX4_become_3 : List UInt8 := dkwX4_become_3 ++ []
def dkwX4_become_2 : List UInt8 := [43, 180, 0, 11, 28, 50, 182, 0, 50, 132, 2, 1, 167, 255, 230, 43, 180, 0, 22, 3, 42, 180, 0, 22]
abbrev dktX4_become_2 : List UInt8 := dkwX4_become_2 ++ dktX4_become_3
def dkwX4_become_1 : List UInt8 := [42, 43, 180, 0, 43, 181, 0, 43, 3, 61, 28, 42, 180, 0, 36, 162, 0, 24, 42, 180, 0, 11, 28, 50]
abbrev dktX4_become_1 : List UInt8 := dkwX4_become_1 ++ dktX4_become_2
def dkwX4_become_0 : List UInt8 := [42, 43, 180, 0, 32, 181, 0, 32, 42, 43, 180, 0, 36, 181, 0, 36, 42, 43, 180, 0, 40, 181, 0, 40]
abbrev dktX4_become_0 : List UInt8 := dkwX4_become_0 ++ dktX4_become_1
theorem dksX4_become_0 : cX4_become.data.toList.drop 0 = dktX4_become_0 := by decide +kernel
theorem dksX4_become_1 : cX4_become.data.toList.drop 24 = dktX4_become_1 := dk_seg dksX4_become_0 24 rfl rfl
theorem dksX4_become_2 : cX4_become.data.toList.drop 48 = dktX4_become_2 := dk_seg dksX4_become_1 24 rfl rfl
theorem dksX4_become_3 : cX4_become.data.toList.drop 72 = dktX4_become_3 := dk_seg dksX4_become_2 24 rfl rfl
theorem dX4_become_0 : decode cX4_become 0 = .ok (.aload_n 0, 1) := dk_42 (dk_at dksX4_become_0 0 rfl rfl)
theorem dX4_become_1 : decode cX4_become 1 = .ok (.aload_n 1, 1) := dk_43 (dk_at dksX4_become_0 1 rfl rfl)
theorem dX4_become_2 : decode cX4_become 2 = .ok (.getfield 32, 3) := dk_180 0 32 (dk_at dksX4_become_0 2 rfl rfl)
theorem dX4_become_5 : decode cX4_become 5 = .ok (.putfield 32, 3) := dk_181 0 32 (dk_at dksX4_become_0 5 rfl rfl)
theorem dX4_become_8 : decode cX4_become 8 = .ok (.aload_n 0, 1) := dk_42 (dk_at dksX4_become_0 8 rfl rfl)
theorem dX4_become_9 : decode cX4_become 9 = .ok (.aload_n 1, 1) := dk_43 (dk_at dksX4_become_0 9 rfl rfl)
theorem dX4_become_10 : decode cX4_become 10 = .ok (.getfield 36, 3) := dk_180 0 36 (dk_at dksX4_become_0 10 rfl rfl)
theorem dX4_become_13 : decode cX4_become 13 = .ok (.putfield 36, 3) := dk_181 0 36 (dk_at dksX4_become_0 13 rfl rfl)
theorem dX4_become_16 : decode cX4_become 16 = .ok (.aload_n 0, 1) := dk_42 (dk_at dksX4_become_0 16 rfl rfl)
theorem dX4_become_17 : decode cX4_become 17 = .ok (.aload_n 1, 1) := dk_43 (dk_at dksX4_become_0 17 rfl rfl)
theorem dX4_become_18 : decode cX4_become 18 = .ok (.getfield 40, 3) := dk_180 0 40 (dk_at dksX4_become_0 18 rfl rfl)
theorem dX4_become_21 : decode cX4_become 21 = .ok (.putfield 40, 3) := dk_181 0 40 (dk_at dksX4_become_0 21 rfl rfl)
theorem dX4_become_24 : decode cX4_become 24 = .ok (.aload_n 0, 1) := dk_42 (dk_at dksX4_become_1 0 rfl rfl)
theorem dX4_become_25 : decode cX4_become 25 = .ok (.aload_n 1, 1) := dk_43 (dk_at dksX4_become_1 1 rfl rfl)
theorem dX4_become_26 : decode cX4_become 26 = .ok (.getfield 43, 3) := dk_180 0 43 (dk_at dksX4_become_1 2 rfl rfl)
theorem dX4_become_29 : decode cX4_become 29 = .ok (.putfield 43, 3) := dk_181 0 43 (dk_at dksX4_become_1 5 rfl rfl)
theorem dX4_become_32 : decode cX4_become 32 = .ok (.iconst 0, 1) := dk_3 (dk_at dksX4_become_1 8 rfl rfl)
theorem dX4_become_33 : decode cX4_become 33 = .ok (.istore_n 2, 1) := dk_61 (dk_at dksX4_become_1 9 rfl rfl)
theorem dX4_become_34 : decode cX4_become 34 = .ok (.iload_n 2, 1) := dk_28 (dk_at dksX4_become_1 10 rfl rfl)
theorem dX4_become_35 : decode cX4_become 35 = .ok (.aload_n 0, 1) := dk_42 (dk_at dksX4_become_1 11 rfl rfl)
theorem dX4_become_36 : decode cX4_become 36 = .ok (.getfield 36, 3) := dk_180 0 36 (dk_at dksX4_become_1 12 rfl rfl)
theorem dX4_become_39 : decode cX4_become 39 = .ok (.if_icmp .ge 24, 3) := dk_162 0 24 (dk_at dksX4_become_1 15 rfl rfl)
theorem dX4_become_42 : decode cX4_become 42 = .ok (.aload_n 0, 1) := dk_42 (dk_at dksX4_become_1 18 rfl rfl)
theorem dX4_become_43 : decode cX4_become 43 = .ok (.getfield 11, 3) := dk_180 0 11 (dk_at dksX4_become_1 19 rfl rfl)
theorem dX4_become_46 : decode cX4_become 46 = .ok (.iload_n 2, 1) := dk_28 (dk_at dksX4_become_1 22 rfl rfl)
theorem dX4_become_47 : decode cX4_become 47 = .ok (.aaload, 1) := dk_50 (dk_at dksX4_become_1 23 rfl rfl)
theorem dX4_become_48 : decode cX4_become 48 = .ok (.aload_n 1, 1) := dk_43 (dk_at dksX4_become_2 0 rfl rfl)
theorem dX4_become_49 : decode cX4_become 49 = .ok (.getfield 11, 3) := dk_180 0 11 (dk_at dksX4_become_2 1 rfl rfl)
theorem dX4_become_52 : decode cX4_become 52 = .ok (.iload_n 2, 1) := dk_28 (dk_at dksX4_become_2 4 rfl rfl)
theorem dX4_become_53 : decode cX4_become 53 = .ok (.aaload, 1) := dk_50 (dk_at dksX4_become_2 5 rfl rfl)
theorem dX4_become_54 : decode cX4_become 54 = .ok (.invokevirtual 50, 3) := dk_182 0 50 (dk_at dksX4_become_2 6 rfl rfl)
theorem dX4_become_57 : decode cX4_become 57 = .ok (.iinc 2 1, 3) := dk_132 2 1 (dk_at dksX4_become_2 9 rfl rfl)
theorem dX4_become_60 : decode cX4_become 60 = .ok (.goto (-26), 3) := dk_167 255 230 (dk_at dksX4_become_2 12 rfl rfl)
theorem dX4_become_63 : decode cX4_become 63 = .ok (.aload_n 1, 1) := dk_43 (dk_at dksX4_become_2 15 rfl rfl)
theorem dX4_become_64 : decode cX4_become 64 = .ok (.getfield 22, 3) := dk_180 0 22 (dk_at dksX4_become_2 16 rfl rfl)
theorem dX4_become_67 : decode cX4_become 67 = .ok (.iconst 0, 1) := dk_3 (dk_at dksX4_become_2 19 rfl rfl)
theorem dX4_become_68 : decode cX4_become 68 = .ok (.aload_n 0, 1) := dk_42 (dk_at dksX4_become_2 20 rfl rfl)
theorem dX4_become_69 : decode cX4_become 69 = .ok (.getfield 22, 3) := dk_180 0 22 (dk_at dksX4_become_2 21 rfl rfl)
theorem dX4_become_72 : decode cX4_become 72 = .ok (.iconst 0, 1) := dk_3 (dk_at dksX4_become_3 0 rfl rfl)
theorem dX4_become_73 : decode cX4_become 73 = .ok (.bipush 6, 2) := dk_16 6 (dk_at dksX4_become_3 1 rfl rfl)
theorem dX4_become_75 : decode cX4_become 75 = .ok (.invokestatic 54, 3) := dk_184 0 54 (dk_at dksX4_become_3 3 rfl rfl)
theorem dX4_become_78 : decode cX4_become 78 = .ok (.return_, 1) := dk_177 (dk_at dksX4_become_3 6 rfl rfl)
abbrev cX4_isShut : ByteArray := prog_16_method_12_code
def yX4_isShut : MethodName := ⟨RX4, "isShut", "(I)Z"⟩
def dkwX4_isShut_4 : List UInt8 := [4, 27, 120, 2, 130, 126, 153, 0, 7, 4, 167, 0, 4, 3, 172]
abbrev dktX4_isShut_4 : List UInt8 := dkwX4_isShut_4 ++ []
def dkwX4_isShut_3 : List UInt8 := [54, 5, 42, 180, 0, 32, 21, 4, 21, 5, 182, 0, 65, 153, 0, 20, 42, 21, 4, 21, 5, 182, 0, 104]
abbrev dktX4_isShut_3 : List UInt8 := dkwX4_isShut_3 ++ dktX4_isShut_4
def dkwX4_isShut_2 : List UInt8 := [184, 0, 87, 96, 54, 4, 44, 180, 0, 78, 180, 0, 92, 44, 180, 0, 77, 4, 96, 29, 184, 0, 95, 96]
abbrev dktX4_isShut_2 : List UInt8 := dkwX4_isShut_2 ++ dktX4_isShut_3
def dkwX4_isShut_1 : List UInt8 := [180, 0, 77, 182, 0, 107, 184, 0, 101, 62, 44, 180, 0, 78, 180, 0, 82, 44, 180, 0, 77, 4, 96, 29]
abbrev dktX4_isShut_1 : List UInt8 := dkwX4_isShut_1 ++ dktX4_isShut_2
def dkwX4_isShut_0 : List UInt8 := [42, 180, 0, 11, 27, 50, 77, 44, 180, 0, 77, 154, 0, 5, 3, 172, 44, 180, 0, 77, 44, 44]
abbrev dktX4_isShut_0 : List UInt8 := dkwX4_isShut_0 ++ dktX4_isShut_1
theorem dksX4_isShut_0 : cX4_isShut.data.toList.drop 0 = dktX4_isShut_0 := by decide +kernel
theorem dksX4_isShut_1 : cX4_isShut.data.toList.drop 22 = dktX4_isShut_1 := dk_seg dksX4_isShut_0 22 rfl rfl
theorem dksX4_isShut_2 : cX4_isShut.data.toList.drop 46 = dktX4_isShut_2 := dk_seg dksX4_isShut_1 24 rfl rfl
theorem dksX4_isShut_3 : cX4_isShut.data.toList.drop 70 = dktX4_isShut_3 := dk_seg dksX4_isShut_2 24 rfl rfl
theorem dksX4_isShut_4 : cX4_isShut.data.toList.drop 94 = dktX4_isShut_4 := dk_seg dksX4_isShut_3 24 rfl rfl
theorem dX4_isShut_0 : decode cX4_isShut 0 = .ok (.aload_n 0, 1) := dk_42 (dk_at dksX4_isShut_0 0 rfl rfl)
theorem dX4_isShut_1 : decode cX4_isShut 1 = .ok (.getfield 11, 3) := dk_180 0 11 (dk_at dksX4_isShut_0 1 rfl rfl)
theorem dX4_isShut_4 : decode cX4_isShut 4 = .ok (.iload_n 1, 1) := dk_27 (dk_at dksX4_isShut_0 4 rfl rfl)
theorem dX4_isShut_5 : decode cX4_isShut 5 = .ok (.aaload, 1) := dk_50 (dk_at dksX4_isShut_0 5 rfl rfl)
theorem dX4_isShut_6 : decode cX4_isShut 6 = .ok (.astore_n 2, 1) := dk_77 (dk_at dksX4_isShut_0 6 rfl rfl)
theorem dX4_isShut_7 : decode cX4_isShut 7 = .ok (.aload_n 2, 1) := dk_44 (dk_at dksX4_isShut_0 7 rfl rfl)
theorem dX4_isShut_8 : decode cX4_isShut 8 = .ok (.getfield 77, 3) := dk_180 0 77 (dk_at dksX4_isShut_0 8 rfl rfl)
theorem dX4_isShut_11 : decode cX4_isShut 11 = .ok (.ifCond .ne 5, 3) := dk_154 0 5 (dk_at dksX4_isShut_0 11 rfl rfl)
theorem dX4_isShut_14 : decode cX4_isShut 14 = .ok (.iconst 0, 1) := dk_3 (dk_at dksX4_isShut_0 14 rfl rfl)
theorem dX4_isShut_15 : decode cX4_isShut 15 = .ok (.ireturn, 1) := dk_172 (dk_at dksX4_isShut_0 15 rfl rfl)
theorem dX4_isShut_16 : decode cX4_isShut 16 = .ok (.aload_n 2, 1) := dk_44 (dk_at dksX4_isShut_0 16 rfl rfl)
theorem dX4_isShut_17 : decode cX4_isShut 17 = .ok (.getfield 77, 3) := dk_180 0 77 (dk_at dksX4_isShut_0 17 rfl rfl)
theorem dX4_isShut_20 : decode cX4_isShut 20 = .ok (.aload_n 2, 1) := dk_44 (dk_at dksX4_isShut_0 20 rfl rfl)
theorem dX4_isShut_21 : decode cX4_isShut 21 = .ok (.aload_n 2, 1) := dk_44 (dk_at dksX4_isShut_0 21 rfl rfl)
theorem dX4_isShut_22 : decode cX4_isShut 22 = .ok (.getfield 77, 3) := dk_180 0 77 (dk_at dksX4_isShut_1 0 rfl rfl)
theorem dX4_isShut_25 : decode cX4_isShut 25 = .ok (.invokevirtual 107, 3) := dk_182 0 107 (dk_at dksX4_isShut_1 3 rfl rfl)
theorem dX4_isShut_28 : decode cX4_isShut 28 = .ok (.invokestatic 101, 3) := dk_184 0 101 (dk_at dksX4_isShut_1 6 rfl rfl)
theorem dX4_isShut_31 : decode cX4_isShut 31 = .ok (.istore_n 3, 1) := dk_62 (dk_at dksX4_isShut_1 9 rfl rfl)
theorem dX4_isShut_32 : decode cX4_isShut 32 = .ok (.aload_n 2, 1) := dk_44 (dk_at dksX4_isShut_1 10 rfl rfl)
theorem dX4_isShut_33 : decode cX4_isShut 33 = .ok (.getfield 78, 3) := dk_180 0 78 (dk_at dksX4_isShut_1 11 rfl rfl)
theorem dX4_isShut_36 : decode cX4_isShut 36 = .ok (.getfield 82, 3) := dk_180 0 82 (dk_at dksX4_isShut_1 14 rfl rfl)
theorem dX4_isShut_39 : decode cX4_isShut 39 = .ok (.aload_n 2, 1) := dk_44 (dk_at dksX4_isShut_1 17 rfl rfl)
theorem dX4_isShut_40 : decode cX4_isShut 40 = .ok (.getfield 77, 3) := dk_180 0 77 (dk_at dksX4_isShut_1 18 rfl rfl)
theorem dX4_isShut_43 : decode cX4_isShut 43 = .ok (.iconst 1, 1) := dk_4 (dk_at dksX4_isShut_1 21 rfl rfl)
theorem dX4_isShut_44 : decode cX4_isShut 44 = .ok (.iadd, 1) := dk_96 (dk_at dksX4_isShut_1 22 rfl rfl)
theorem dX4_isShut_45 : decode cX4_isShut 45 = .ok (.iload_n 3, 1) := dk_29 (dk_at dksX4_isShut_1 23 rfl rfl)
theorem dX4_isShut_46 : decode cX4_isShut 46 = .ok (.invokestatic 87, 3) := dk_184 0 87 (dk_at dksX4_isShut_2 0 rfl rfl)
theorem dX4_isShut_49 : decode cX4_isShut 49 = .ok (.iadd, 1) := dk_96 (dk_at dksX4_isShut_2 3 rfl rfl)
theorem dX4_isShut_50 : decode cX4_isShut 50 = .ok (.istore 4, 2) := dk_54 4 (dk_at dksX4_isShut_2 4 rfl rfl)
theorem dX4_isShut_52 : decode cX4_isShut 52 = .ok (.aload_n 2, 1) := dk_44 (dk_at dksX4_isShut_2 6 rfl rfl)
theorem dX4_isShut_53 : decode cX4_isShut 53 = .ok (.getfield 78, 3) := dk_180 0 78 (dk_at dksX4_isShut_2 7 rfl rfl)
theorem dX4_isShut_56 : decode cX4_isShut 56 = .ok (.getfield 92, 3) := dk_180 0 92 (dk_at dksX4_isShut_2 10 rfl rfl)
theorem dX4_isShut_59 : decode cX4_isShut 59 = .ok (.aload_n 2, 1) := dk_44 (dk_at dksX4_isShut_2 13 rfl rfl)
theorem dX4_isShut_60 : decode cX4_isShut 60 = .ok (.getfield 77, 3) := dk_180 0 77 (dk_at dksX4_isShut_2 14 rfl rfl)
theorem dX4_isShut_63 : decode cX4_isShut 63 = .ok (.iconst 1, 1) := dk_4 (dk_at dksX4_isShut_2 17 rfl rfl)
theorem dX4_isShut_64 : decode cX4_isShut 64 = .ok (.iadd, 1) := dk_96 (dk_at dksX4_isShut_2 18 rfl rfl)
theorem dX4_isShut_65 : decode cX4_isShut 65 = .ok (.iload_n 3, 1) := dk_29 (dk_at dksX4_isShut_2 19 rfl rfl)
theorem dX4_isShut_66 : decode cX4_isShut 66 = .ok (.invokestatic 95, 3) := dk_184 0 95 (dk_at dksX4_isShut_2 20 rfl rfl)
theorem dX4_isShut_69 : decode cX4_isShut 69 = .ok (.iadd, 1) := dk_96 (dk_at dksX4_isShut_2 23 rfl rfl)
theorem dX4_isShut_70 : decode cX4_isShut 70 = .ok (.istore 5, 2) := dk_54 5 (dk_at dksX4_isShut_3 0 rfl rfl)
theorem dX4_isShut_72 : decode cX4_isShut 72 = .ok (.aload_n 0, 1) := dk_42 (dk_at dksX4_isShut_3 2 rfl rfl)
theorem dX4_isShut_73 : decode cX4_isShut 73 = .ok (.getfield 32, 3) := dk_180 0 32 (dk_at dksX4_isShut_3 3 rfl rfl)
theorem dX4_isShut_76 : decode cX4_isShut 76 = .ok (.iload 4, 2) := dk_21 4 (dk_at dksX4_isShut_3 6 rfl rfl)
theorem dX4_isShut_78 : decode cX4_isShut 78 = .ok (.iload 5, 2) := dk_21 5 (dk_at dksX4_isShut_3 8 rfl rfl)
theorem dX4_isShut_80 : decode cX4_isShut 80 = .ok (.invokevirtual 65, 3) := dk_182 0 65 (dk_at dksX4_isShut_3 10 rfl rfl)
theorem dX4_isShut_83 : decode cX4_isShut 83 = .ok (.ifCond .eq 20, 3) := dk_153 0 20 (dk_at dksX4_isShut_3 13 rfl rfl)
theorem dX4_isShut_86 : decode cX4_isShut 86 = .ok (.aload_n 0, 1) := dk_42 (dk_at dksX4_isShut_3 16 rfl rfl)
theorem dX4_isShut_87 : decode cX4_isShut 87 = .ok (.iload 4, 2) := dk_21 4 (dk_at dksX4_isShut_3 17 rfl rfl)
theorem dX4_isShut_89 : decode cX4_isShut 89 = .ok (.iload 5, 2) := dk_21 5 (dk_at dksX4_isShut_3 19 rfl rfl)
theorem dX4_isShut_91 : decode cX4_isShut 91 = .ok (.invokevirtual 104, 3) := dk_182 0 104 (dk_at dksX4_isShut_3 21 rfl rfl)
theorem dX4_isShut_94 : decode cX4_isShut 94 = .ok (.iconst 1, 1) := dk_4 (dk_at dksX4_isShut_4 0 rfl rfl)
theorem dX4_isShut_95 : decode cX4_isShut 95 = .ok (.iload_n 1, 1) := dk_27 (dk_at dksX4_isShut_4 1 rfl rfl)
theorem dX4_isShut_96 : decode cX4_isShut 96 = .ok (.ishl, 1) := dk_120 (dk_at dksX4_isShut_4 2 rfl rfl)
theorem dX4_isShut_97 : decode cX4_isShut 97 = .ok (.iconst (-1), 1) := dk_2 (dk_at dksX4_isShut_4 3 rfl rfl)
theorem dX4_isShut_98 : decode cX4_isShut 98 = .ok (.ixor, 1) := dk_130 (dk_at dksX4_isShut_4 4 rfl rfl)
theorem dX4_isShut_99 : decode cX4_isShut 99 = .ok (.iand, 1) := dk_126 (dk_at dksX4_isShut_4 5 rfl rfl)
theorem dX4_isShut_100 : decode cX4_isShut 100 = .ok (.ifCond .eq 7, 3) := dk_153 0 7 (dk_at dksX4_isShut_4 6 rfl rfl)
theorem dX4_isShut_103 : decode cX4_isShut 103 = .ok (.iconst 1, 1) := dk_4 (dk_at dksX4_isShut_4 9 rfl rfl)
theorem dX4_isShut_104 : decode cX4_isShut 104 = .ok (.goto 4, 3) := dk_167 0 4 (dk_at dksX4_isShut_4 10 rfl rfl)
theorem dX4_isShut_107 : decode cX4_isShut 107 = .ok (.iconst 0, 1) := dk_3 (dk_at dksX4_isShut_4 13 rfl rfl)
theorem dX4_isShut_108 : decode cX4_isShut 108 = .ok (.ireturn, 1) := dk_172 (dk_at dksX4_isShut_4 14 rfl rfl)
abbrev cX4_finds : ByteArray := prog_16_method_14_code
def yX4_finds : MethodName := ⟨RX4, "finds", "(I)Z"⟩
def dkwX4_finds_7 : List UInt8 := [167, 255, 119, 29, 2, 159, 0, 7, 4, 167, 0, 4, 3, 172]
abbrev dktX4_finds_7 : List UInt8 := dkwX4_finds_7 ++ []
def dkwX4_finds_6 : List UInt8 := [21, 6, 62, 42, 21, 4, 181, 0, 140, 42, 21, 5, 181, 0, 143, 132, 5, 1, 167, 255, 134, 132, 4, 1]
abbrev dktX4_finds_6 : List UInt8 := dkwX4_finds_6 ++ dktX4_finds_7
def dkwX4_finds_5 : List UInt8 := [180, 0, 137, 153, 0, 12, 21, 6, 29, 163, 0, 15, 167, 0, 27, 21, 6, 29, 161, 0, 6, 167, 0, 18]
abbrev dktX4_finds_5 : List UInt8 := dkwX4_finds_5 ++ dktX4_finds_6
def dkwX4_finds_4 : List UInt8 := [182, 0, 130, 42, 180, 0, 18, 3, 182, 0, 134, 54, 6, 29, 2, 159, 0, 31, 42, 180, 0, 32]
abbrev dktX4_finds_4 : List UInt8 := dkwX4_finds_4 ++ dktX4_finds_5
def dkwX4_finds_3 : List UInt8 := [182, 0, 50, 42, 180, 0, 18, 42, 180, 0, 18, 180, 0, 78, 180, 0, 126, 21, 4, 21, 5, 3, 3]
abbrev dktX4_finds_3 : List UInt8 := dkwX4_finds_3 ++ dktX4_finds_4
def dkwX4_finds_2 : List UInt8 := [21, 4, 21, 5, 182, 0, 123, 154, 0, 6, 167, 0, 97, 42, 180, 0, 18, 42, 180, 0, 11, 27, 50]
abbrev dktX4_finds_2 : List UInt8 := dkwX4_finds_2 ++ dktX4_finds_3
def dkwX4_finds_1 : List UInt8 := [3, 54, 4, 21, 4, 7, 162, 0, 137, 3, 54, 5, 21, 5, 5, 28, 104, 4, 100, 162, 0, 118, 42, 27]
abbrev dktX4_finds_1 : List UInt8 := dkwX4_finds_1 ++ dktX4_finds_2
def dkwX4_finds_0 : List UInt8 := [42, 27, 182, 0, 119, 154, 0, 5, 3, 172, 42, 180, 0, 11, 27, 50, 180, 0, 77, 4, 96, 61, 2, 62]
abbrev dktX4_finds_0 : List UInt8 := dkwX4_finds_0 ++ dktX4_finds_1
theorem dksX4_finds_0 : cX4_finds.data.toList.drop 0 = dktX4_finds_0 := by decide +kernel
theorem dksX4_finds_1 : cX4_finds.data.toList.drop 24 = dktX4_finds_1 := dk_seg dksX4_finds_0 24 rfl rfl
theorem dksX4_finds_2 : cX4_finds.data.toList.drop 48 = dktX4_finds_2 := dk_seg dksX4_finds_1 24 rfl rfl
theorem dksX4_finds_3 : cX4_finds.data.toList.drop 71 = dktX4_finds_3 := dk_seg dksX4_finds_2 23 rfl rfl
theorem dksX4_finds_4 : cX4_finds.data.toList.drop 94 = dktX4_finds_4 := dk_seg dksX4_finds_3 23 rfl rfl
theorem dksX4_finds_5 : cX4_finds.data.toList.drop 116 = dktX4_finds_5 := dk_seg dksX4_finds_4 22 rfl rfl
theorem dksX4_finds_6 : cX4_finds.data.toList.drop 140 = dktX4_finds_6 := dk_seg dksX4_finds_5 24 rfl rfl
theorem dksX4_finds_7 : cX4_finds.data.toList.drop 164 = dktX4_finds_7 := dk_seg dksX4_finds_6 24 rfl rfl
theorem dX4_finds_0 : decode cX4_finds 0 = .ok (.aload_n 0, 1) := dk_42 (dk_at dksX4_finds_0 0 rfl rfl)
theorem dX4_finds_1 : decode cX4_finds 1 = .ok (.iload_n 1, 1) := dk_27 (dk_at dksX4_finds_0 1 rfl rfl)
theorem dX4_finds_2 : decode cX4_finds 2 = .ok (.invokevirtual 119, 3) := dk_182 0 119 (dk_at dksX4_finds_0 2 rfl rfl)
theorem dX4_finds_5 : decode cX4_finds 5 = .ok (.ifCond .ne 5, 3) := dk_154 0 5 (dk_at dksX4_finds_0 5 rfl rfl)
theorem dX4_finds_8 : decode cX4_finds 8 = .ok (.iconst 0, 1) := dk_3 (dk_at dksX4_finds_0 8 rfl rfl)
theorem dX4_finds_9 : decode cX4_finds 9 = .ok (.ireturn, 1) := dk_172 (dk_at dksX4_finds_0 9 rfl rfl)
theorem dX4_finds_10 : decode cX4_finds 10 = .ok (.aload_n 0, 1) := dk_42 (dk_at dksX4_finds_0 10 rfl rfl)
theorem dX4_finds_11 : decode cX4_finds 11 = .ok (.getfield 11, 3) := dk_180 0 11 (dk_at dksX4_finds_0 11 rfl rfl)
theorem dX4_finds_14 : decode cX4_finds 14 = .ok (.iload_n 1, 1) := dk_27 (dk_at dksX4_finds_0 14 rfl rfl)
theorem dX4_finds_15 : decode cX4_finds 15 = .ok (.aaload, 1) := dk_50 (dk_at dksX4_finds_0 15 rfl rfl)
theorem dX4_finds_16 : decode cX4_finds 16 = .ok (.getfield 77, 3) := dk_180 0 77 (dk_at dksX4_finds_0 16 rfl rfl)
theorem dX4_finds_19 : decode cX4_finds 19 = .ok (.iconst 1, 1) := dk_4 (dk_at dksX4_finds_0 19 rfl rfl)
theorem dX4_finds_20 : decode cX4_finds 20 = .ok (.iadd, 1) := dk_96 (dk_at dksX4_finds_0 20 rfl rfl)
theorem dX4_finds_21 : decode cX4_finds 21 = .ok (.istore_n 2, 1) := dk_61 (dk_at dksX4_finds_0 21 rfl rfl)
theorem dX4_finds_22 : decode cX4_finds 22 = .ok (.iconst (-1), 1) := dk_2 (dk_at dksX4_finds_0 22 rfl rfl)
theorem dX4_finds_23 : decode cX4_finds 23 = .ok (.istore_n 3, 1) := dk_62 (dk_at dksX4_finds_0 23 rfl rfl)
theorem dX4_finds_24 : decode cX4_finds 24 = .ok (.iconst 0, 1) := dk_3 (dk_at dksX4_finds_1 0 rfl rfl)
theorem dX4_finds_25 : decode cX4_finds 25 = .ok (.istore 4, 2) := dk_54 4 (dk_at dksX4_finds_1 1 rfl rfl)
theorem dX4_finds_27 : decode cX4_finds 27 = .ok (.iload 4, 2) := dk_21 4 (dk_at dksX4_finds_1 3 rfl rfl)
theorem dX4_finds_29 : decode cX4_finds 29 = .ok (.iconst 4, 1) := dk_7 (dk_at dksX4_finds_1 5 rfl rfl)
theorem dX4_finds_30 : decode cX4_finds 30 = .ok (.if_icmp .ge 137, 3) := dk_162 0 137 (dk_at dksX4_finds_1 6 rfl rfl)
theorem dX4_finds_33 : decode cX4_finds 33 = .ok (.iconst 0, 1) := dk_3 (dk_at dksX4_finds_1 9 rfl rfl)
theorem dX4_finds_34 : decode cX4_finds 34 = .ok (.istore 5, 2) := dk_54 5 (dk_at dksX4_finds_1 10 rfl rfl)
theorem dX4_finds_36 : decode cX4_finds 36 = .ok (.iload 5, 2) := dk_21 5 (dk_at dksX4_finds_1 12 rfl rfl)
theorem dX4_finds_38 : decode cX4_finds 38 = .ok (.iconst 2, 1) := dk_5 (dk_at dksX4_finds_1 14 rfl rfl)
theorem dX4_finds_39 : decode cX4_finds 39 = .ok (.iload_n 2, 1) := dk_28 (dk_at dksX4_finds_1 15 rfl rfl)
theorem dX4_finds_40 : decode cX4_finds 40 = .ok (.imul, 1) := dk_104 (dk_at dksX4_finds_1 16 rfl rfl)
theorem dX4_finds_41 : decode cX4_finds 41 = .ok (.iconst 1, 1) := dk_4 (dk_at dksX4_finds_1 17 rfl rfl)
theorem dX4_finds_42 : decode cX4_finds 42 = .ok (.isub, 1) := dk_100 (dk_at dksX4_finds_1 18 rfl rfl)
theorem dX4_finds_43 : decode cX4_finds 43 = .ok (.if_icmp .ge 118, 3) := dk_162 0 118 (dk_at dksX4_finds_1 19 rfl rfl)
theorem dX4_finds_46 : decode cX4_finds 46 = .ok (.aload_n 0, 1) := dk_42 (dk_at dksX4_finds_1 22 rfl rfl)
theorem dX4_finds_47 : decode cX4_finds 47 = .ok (.iload_n 1, 1) := dk_27 (dk_at dksX4_finds_1 23 rfl rfl)
theorem dX4_finds_48 : decode cX4_finds 48 = .ok (.iload 4, 2) := dk_21 4 (dk_at dksX4_finds_2 0 rfl rfl)
theorem dX4_finds_50 : decode cX4_finds 50 = .ok (.iload 5, 2) := dk_21 5 (dk_at dksX4_finds_2 2 rfl rfl)
theorem dX4_finds_52 : decode cX4_finds 52 = .ok (.invokevirtual 123, 3) := dk_182 0 123 (dk_at dksX4_finds_2 4 rfl rfl)
theorem dX4_finds_55 : decode cX4_finds 55 = .ok (.ifCond .ne 6, 3) := dk_154 0 6 (dk_at dksX4_finds_2 7 rfl rfl)
theorem dX4_finds_58 : decode cX4_finds 58 = .ok (.goto 97, 3) := dk_167 0 97 (dk_at dksX4_finds_2 10 rfl rfl)
theorem dX4_finds_61 : decode cX4_finds 61 = .ok (.aload_n 0, 1) := dk_42 (dk_at dksX4_finds_2 13 rfl rfl)
theorem dX4_finds_62 : decode cX4_finds 62 = .ok (.getfield 18, 3) := dk_180 0 18 (dk_at dksX4_finds_2 14 rfl rfl)
theorem dX4_finds_65 : decode cX4_finds 65 = .ok (.aload_n 0, 1) := dk_42 (dk_at dksX4_finds_2 17 rfl rfl)
theorem dX4_finds_66 : decode cX4_finds 66 = .ok (.getfield 11, 3) := dk_180 0 11 (dk_at dksX4_finds_2 18 rfl rfl)
theorem dX4_finds_69 : decode cX4_finds 69 = .ok (.iload_n 1, 1) := dk_27 (dk_at dksX4_finds_2 21 rfl rfl)
theorem dX4_finds_70 : decode cX4_finds 70 = .ok (.aaload, 1) := dk_50 (dk_at dksX4_finds_2 22 rfl rfl)
theorem dX4_finds_71 : decode cX4_finds 71 = .ok (.invokevirtual 50, 3) := dk_182 0 50 (dk_at dksX4_finds_3 0 rfl rfl)
theorem dX4_finds_74 : decode cX4_finds 74 = .ok (.aload_n 0, 1) := dk_42 (dk_at dksX4_finds_3 3 rfl rfl)
theorem dX4_finds_75 : decode cX4_finds 75 = .ok (.getfield 18, 3) := dk_180 0 18 (dk_at dksX4_finds_3 4 rfl rfl)
theorem dX4_finds_78 : decode cX4_finds 78 = .ok (.aload_n 0, 1) := dk_42 (dk_at dksX4_finds_3 7 rfl rfl)
theorem dX4_finds_79 : decode cX4_finds 79 = .ok (.getfield 18, 3) := dk_180 0 18 (dk_at dksX4_finds_3 8 rfl rfl)
theorem dX4_finds_82 : decode cX4_finds 82 = .ok (.getfield 78, 3) := dk_180 0 78 (dk_at dksX4_finds_3 11 rfl rfl)
theorem dX4_finds_85 : decode cX4_finds 85 = .ok (.getfield 126, 3) := dk_180 0 126 (dk_at dksX4_finds_3 14 rfl rfl)
theorem dX4_finds_88 : decode cX4_finds 88 = .ok (.iload 4, 2) := dk_21 4 (dk_at dksX4_finds_3 17 rfl rfl)
theorem dX4_finds_90 : decode cX4_finds 90 = .ok (.iload 5, 2) := dk_21 5 (dk_at dksX4_finds_3 19 rfl rfl)
theorem dX4_finds_92 : decode cX4_finds 92 = .ok (.iconst 0, 1) := dk_3 (dk_at dksX4_finds_3 21 rfl rfl)
theorem dX4_finds_93 : decode cX4_finds 93 = .ok (.iconst 0, 1) := dk_3 (dk_at dksX4_finds_3 22 rfl rfl)
theorem dX4_finds_94 : decode cX4_finds 94 = .ok (.invokevirtual 130, 3) := dk_182 0 130 (dk_at dksX4_finds_4 0 rfl rfl)
theorem dX4_finds_97 : decode cX4_finds 97 = .ok (.aload_n 0, 1) := dk_42 (dk_at dksX4_finds_4 3 rfl rfl)
theorem dX4_finds_98 : decode cX4_finds 98 = .ok (.getfield 18, 3) := dk_180 0 18 (dk_at dksX4_finds_4 4 rfl rfl)
theorem dX4_finds_101 : decode cX4_finds 101 = .ok (.iconst 0, 1) := dk_3 (dk_at dksX4_finds_4 7 rfl rfl)
theorem dX4_finds_102 : decode cX4_finds 102 = .ok (.invokevirtual 134, 3) := dk_182 0 134 (dk_at dksX4_finds_4 8 rfl rfl)
theorem dX4_finds_105 : decode cX4_finds 105 = .ok (.istore 6, 2) := dk_54 6 (dk_at dksX4_finds_4 11 rfl rfl)
theorem dX4_finds_107 : decode cX4_finds 107 = .ok (.iload_n 3, 1) := dk_29 (dk_at dksX4_finds_4 13 rfl rfl)
theorem dX4_finds_108 : decode cX4_finds 108 = .ok (.iconst (-1), 1) := dk_2 (dk_at dksX4_finds_4 14 rfl rfl)
theorem dX4_finds_109 : decode cX4_finds 109 = .ok (.if_icmp .eq 31, 3) := dk_159 0 31 (dk_at dksX4_finds_4 15 rfl rfl)
theorem dX4_finds_112 : decode cX4_finds 112 = .ok (.aload_n 0, 1) := dk_42 (dk_at dksX4_finds_4 18 rfl rfl)
theorem dX4_finds_113 : decode cX4_finds 113 = .ok (.getfield 32, 3) := dk_180 0 32 (dk_at dksX4_finds_4 19 rfl rfl)
theorem dX4_finds_116 : decode cX4_finds 116 = .ok (.getfield 137, 3) := dk_180 0 137 (dk_at dksX4_finds_5 0 rfl rfl)
theorem dX4_finds_119 : decode cX4_finds 119 = .ok (.ifCond .eq 12, 3) := dk_153 0 12 (dk_at dksX4_finds_5 3 rfl rfl)
theorem dX4_finds_122 : decode cX4_finds 122 = .ok (.iload 6, 2) := dk_21 6 (dk_at dksX4_finds_5 6 rfl rfl)
theorem dX4_finds_124 : decode cX4_finds 124 = .ok (.iload_n 3, 1) := dk_29 (dk_at dksX4_finds_5 8 rfl rfl)
theorem dX4_finds_125 : decode cX4_finds 125 = .ok (.if_icmp .gt 15, 3) := dk_163 0 15 (dk_at dksX4_finds_5 9 rfl rfl)
theorem dX4_finds_128 : decode cX4_finds 128 = .ok (.goto 27, 3) := dk_167 0 27 (dk_at dksX4_finds_5 12 rfl rfl)
theorem dX4_finds_131 : decode cX4_finds 131 = .ok (.iload 6, 2) := dk_21 6 (dk_at dksX4_finds_5 15 rfl rfl)
theorem dX4_finds_133 : decode cX4_finds 133 = .ok (.iload_n 3, 1) := dk_29 (dk_at dksX4_finds_5 17 rfl rfl)
theorem dX4_finds_134 : decode cX4_finds 134 = .ok (.if_icmp .lt 6, 3) := dk_161 0 6 (dk_at dksX4_finds_5 18 rfl rfl)
theorem dX4_finds_137 : decode cX4_finds 137 = .ok (.goto 18, 3) := dk_167 0 18 (dk_at dksX4_finds_5 21 rfl rfl)
theorem dX4_finds_140 : decode cX4_finds 140 = .ok (.iload 6, 2) := dk_21 6 (dk_at dksX4_finds_6 0 rfl rfl)
theorem dX4_finds_142 : decode cX4_finds 142 = .ok (.istore_n 3, 1) := dk_62 (dk_at dksX4_finds_6 2 rfl rfl)
theorem dX4_finds_143 : decode cX4_finds 143 = .ok (.aload_n 0, 1) := dk_42 (dk_at dksX4_finds_6 3 rfl rfl)
theorem dX4_finds_144 : decode cX4_finds 144 = .ok (.iload 4, 2) := dk_21 4 (dk_at dksX4_finds_6 4 rfl rfl)
theorem dX4_finds_146 : decode cX4_finds 146 = .ok (.putfield 140, 3) := dk_181 0 140 (dk_at dksX4_finds_6 6 rfl rfl)
theorem dX4_finds_149 : decode cX4_finds 149 = .ok (.aload_n 0, 1) := dk_42 (dk_at dksX4_finds_6 9 rfl rfl)
theorem dX4_finds_150 : decode cX4_finds 150 = .ok (.iload 5, 2) := dk_21 5 (dk_at dksX4_finds_6 10 rfl rfl)
theorem dX4_finds_152 : decode cX4_finds 152 = .ok (.putfield 143, 3) := dk_181 0 143 (dk_at dksX4_finds_6 12 rfl rfl)
theorem dX4_finds_155 : decode cX4_finds 155 = .ok (.iinc 5 1, 3) := dk_132 5 1 (dk_at dksX4_finds_6 15 rfl rfl)
theorem dX4_finds_158 : decode cX4_finds 158 = .ok (.goto (-122), 3) := dk_167 255 134 (dk_at dksX4_finds_6 18 rfl rfl)
theorem dX4_finds_161 : decode cX4_finds 161 = .ok (.iinc 4 1, 3) := dk_132 4 1 (dk_at dksX4_finds_6 21 rfl rfl)
theorem dX4_finds_164 : decode cX4_finds 164 = .ok (.goto (-137), 3) := dk_167 255 119 (dk_at dksX4_finds_7 0 rfl rfl)
theorem dX4_finds_167 : decode cX4_finds 167 = .ok (.iload_n 3, 1) := dk_29 (dk_at dksX4_finds_7 3 rfl rfl)
theorem dX4_finds_168 : decode cX4_finds 168 = .ok (.iconst (-1), 1) := dk_2 (dk_at dksX4_finds_7 4 rfl rfl)
theorem dX4_finds_169 : decode cX4_finds 169 = .ok (.if_icmp .eq 7, 3) := dk_159 0 7 (dk_at dksX4_finds_7 5 rfl rfl)
theorem dX4_finds_172 : decode cX4_finds 172 = .ok (.iconst 1, 1) := dk_4 (dk_at dksX4_finds_7 8 rfl rfl)
theorem dX4_finds_173 : decode cX4_finds 173 = .ok (.goto 4, 3) := dk_167 0 4 (dk_at dksX4_finds_7 9 rfl rfl)
theorem dX4_finds_176 : decode cX4_finds 176 = .ok (.iconst 0, 1) := dk_3 (dk_at dksX4_finds_7 12 rfl rfl)
theorem dX4_finds_177 : decode cX4_finds 177 = .ok (.ireturn, 1) := dk_172 (dk_at dksX4_finds_7 13 rfl rfl)
abbrev cX4_canDoor : ByteArray := prog_16_method_13_code
def yX4_canDoor : MethodName := ⟨RX4, "canDoor", "(III)Z"⟩
def dkwX4_canDoor_1 : List UInt8 := [28, 29, 184, 0, 111, 182, 0, 115, 172]
abbrev dktX4_canDoor_1 : List UInt8 := dkwX4_canDoor_1 ++ []
def dkwX4_canDoor_0 : List UInt8 := [42, 180, 0, 11, 27, 50, 180, 0, 77, 4, 96, 54, 4, 42, 42, 180, 0, 11, 27, 50, 21, 4, 21, 4]
abbrev dktX4_canDoor_0 : List UInt8 := dkwX4_canDoor_0 ++ dktX4_canDoor_1
theorem dksX4_canDoor_0 : cX4_canDoor.data.toList.drop 0 = dktX4_canDoor_0 := by decide +kernel
theorem dksX4_canDoor_1 : cX4_canDoor.data.toList.drop 24 = dktX4_canDoor_1 := dk_seg dksX4_canDoor_0 24 rfl rfl
theorem dX4_canDoor_0 : decode cX4_canDoor 0 = .ok (.aload_n 0, 1) := dk_42 (dk_at dksX4_canDoor_0 0 rfl rfl)
theorem dX4_canDoor_1 : decode cX4_canDoor 1 = .ok (.getfield 11, 3) := dk_180 0 11 (dk_at dksX4_canDoor_0 1 rfl rfl)
theorem dX4_canDoor_4 : decode cX4_canDoor 4 = .ok (.iload_n 1, 1) := dk_27 (dk_at dksX4_canDoor_0 4 rfl rfl)
theorem dX4_canDoor_5 : decode cX4_canDoor 5 = .ok (.aaload, 1) := dk_50 (dk_at dksX4_canDoor_0 5 rfl rfl)
theorem dX4_canDoor_6 : decode cX4_canDoor 6 = .ok (.getfield 77, 3) := dk_180 0 77 (dk_at dksX4_canDoor_0 6 rfl rfl)
theorem dX4_canDoor_9 : decode cX4_canDoor 9 = .ok (.iconst 1, 1) := dk_4 (dk_at dksX4_canDoor_0 9 rfl rfl)
theorem dX4_canDoor_10 : decode cX4_canDoor 10 = .ok (.iadd, 1) := dk_96 (dk_at dksX4_canDoor_0 10 rfl rfl)
theorem dX4_canDoor_11 : decode cX4_canDoor 11 = .ok (.istore 4, 2) := dk_54 4 (dk_at dksX4_canDoor_0 11 rfl rfl)
theorem dX4_canDoor_13 : decode cX4_canDoor 13 = .ok (.aload_n 0, 1) := dk_42 (dk_at dksX4_canDoor_0 13 rfl rfl)
theorem dX4_canDoor_14 : decode cX4_canDoor 14 = .ok (.aload_n 0, 1) := dk_42 (dk_at dksX4_canDoor_0 14 rfl rfl)
theorem dX4_canDoor_15 : decode cX4_canDoor 15 = .ok (.getfield 11, 3) := dk_180 0 11 (dk_at dksX4_canDoor_0 15 rfl rfl)
theorem dX4_canDoor_18 : decode cX4_canDoor 18 = .ok (.iload_n 1, 1) := dk_27 (dk_at dksX4_canDoor_0 18 rfl rfl)
theorem dX4_canDoor_19 : decode cX4_canDoor 19 = .ok (.aaload, 1) := dk_50 (dk_at dksX4_canDoor_0 19 rfl rfl)
theorem dX4_canDoor_20 : decode cX4_canDoor 20 = .ok (.iload 4, 2) := dk_21 4 (dk_at dksX4_canDoor_0 20 rfl rfl)
theorem dX4_canDoor_22 : decode cX4_canDoor 22 = .ok (.iload 4, 2) := dk_21 4 (dk_at dksX4_canDoor_0 22 rfl rfl)
theorem dX4_canDoor_24 : decode cX4_canDoor 24 = .ok (.iload_n 2, 1) := dk_28 (dk_at dksX4_canDoor_1 0 rfl rfl)
theorem dX4_canDoor_25 : decode cX4_canDoor 25 = .ok (.iload_n 3, 1) := dk_29 (dk_at dksX4_canDoor_1 1 rfl rfl)
theorem dX4_canDoor_26 : decode cX4_canDoor 26 = .ok (.invokestatic 111, 3) := dk_184 0 111 (dk_at dksX4_canDoor_1 2 rfl rfl)
theorem dX4_canDoor_29 : decode cX4_canDoor 29 = .ok (.invokevirtual 115, 3) := dk_182 0 115 (dk_at dksX4_canDoor_1 5 rfl rfl)
theorem dX4_canDoor_32 : decode cX4_canDoor 32 = .ok (.ireturn, 1) := dk_172 (dk_at dksX4_canDoor_1 8 rfl rfl)
abbrev cX4_isFree : ByteArray := prog_16_method_11_code
def yX4_isFree : MethodName := ⟨RX4, "isFree", "(LYearSkins$House;II)Z"⟩
def dkwX4_isFree_3 : List UInt8 := [167, 0, 4, 3, 172]
abbrev dktX4_isFree_3 : List UInt8 := dkwX4_isFree_3 ++ []
def dkwX4_isFree_2 : List UInt8 := [21, 5, 21, 6, 182, 0, 65, 153, 0, 18, 42, 21, 5, 21, 6, 182, 0, 104, 154, 0, 7, 4]
abbrev dktX4_isFree_2 : List UInt8 := dkwX4_isFree_2 ++ dktX4_isFree_3
def dkwX4_isFree_1 : List UInt8 := [54, 5, 43, 180, 0, 78, 180, 0, 92, 28, 4, 96, 21, 4, 184, 0, 95, 96, 54, 6, 42, 180, 0, 32]
abbrev dktX4_isFree_1 : List UInt8 := dkwX4_isFree_1 ++ dktX4_isFree_2
def dkwX4_isFree_0 : List UInt8 := [28, 29, 184, 0, 101, 54, 4, 43, 180, 0, 78, 180, 0, 82, 28, 4, 96, 21, 4, 184, 0, 87, 96]
abbrev dktX4_isFree_0 : List UInt8 := dkwX4_isFree_0 ++ dktX4_isFree_1
theorem dksX4_isFree_0 : cX4_isFree.data.toList.drop 0 = dktX4_isFree_0 := by decide +kernel
theorem dksX4_isFree_1 : cX4_isFree.data.toList.drop 23 = dktX4_isFree_1 := dk_seg dksX4_isFree_0 23 rfl rfl
theorem dksX4_isFree_2 : cX4_isFree.data.toList.drop 47 = dktX4_isFree_2 := dk_seg dksX4_isFree_1 24 rfl rfl
theorem dksX4_isFree_3 : cX4_isFree.data.toList.drop 69 = dktX4_isFree_3 := dk_seg dksX4_isFree_2 22 rfl rfl
theorem dX4_isFree_0 : decode cX4_isFree 0 = .ok (.iload_n 2, 1) := dk_28 (dk_at dksX4_isFree_0 0 rfl rfl)
theorem dX4_isFree_1 : decode cX4_isFree 1 = .ok (.iload_n 3, 1) := dk_29 (dk_at dksX4_isFree_0 1 rfl rfl)
theorem dX4_isFree_2 : decode cX4_isFree 2 = .ok (.invokestatic 101, 3) := dk_184 0 101 (dk_at dksX4_isFree_0 2 rfl rfl)
theorem dX4_isFree_5 : decode cX4_isFree 5 = .ok (.istore 4, 2) := dk_54 4 (dk_at dksX4_isFree_0 5 rfl rfl)
theorem dX4_isFree_7 : decode cX4_isFree 7 = .ok (.aload_n 1, 1) := dk_43 (dk_at dksX4_isFree_0 7 rfl rfl)
theorem dX4_isFree_8 : decode cX4_isFree 8 = .ok (.getfield 78, 3) := dk_180 0 78 (dk_at dksX4_isFree_0 8 rfl rfl)
theorem dX4_isFree_11 : decode cX4_isFree 11 = .ok (.getfield 82, 3) := dk_180 0 82 (dk_at dksX4_isFree_0 11 rfl rfl)
theorem dX4_isFree_14 : decode cX4_isFree 14 = .ok (.iload_n 2, 1) := dk_28 (dk_at dksX4_isFree_0 14 rfl rfl)
theorem dX4_isFree_15 : decode cX4_isFree 15 = .ok (.iconst 1, 1) := dk_4 (dk_at dksX4_isFree_0 15 rfl rfl)
theorem dX4_isFree_16 : decode cX4_isFree 16 = .ok (.iadd, 1) := dk_96 (dk_at dksX4_isFree_0 16 rfl rfl)
theorem dX4_isFree_17 : decode cX4_isFree 17 = .ok (.iload 4, 2) := dk_21 4 (dk_at dksX4_isFree_0 17 rfl rfl)
theorem dX4_isFree_19 : decode cX4_isFree 19 = .ok (.invokestatic 87, 3) := dk_184 0 87 (dk_at dksX4_isFree_0 19 rfl rfl)
theorem dX4_isFree_22 : decode cX4_isFree 22 = .ok (.iadd, 1) := dk_96 (dk_at dksX4_isFree_0 22 rfl rfl)
theorem dX4_isFree_23 : decode cX4_isFree 23 = .ok (.istore 5, 2) := dk_54 5 (dk_at dksX4_isFree_1 0 rfl rfl)
theorem dX4_isFree_25 : decode cX4_isFree 25 = .ok (.aload_n 1, 1) := dk_43 (dk_at dksX4_isFree_1 2 rfl rfl)
theorem dX4_isFree_26 : decode cX4_isFree 26 = .ok (.getfield 78, 3) := dk_180 0 78 (dk_at dksX4_isFree_1 3 rfl rfl)
theorem dX4_isFree_29 : decode cX4_isFree 29 = .ok (.getfield 92, 3) := dk_180 0 92 (dk_at dksX4_isFree_1 6 rfl rfl)
theorem dX4_isFree_32 : decode cX4_isFree 32 = .ok (.iload_n 2, 1) := dk_28 (dk_at dksX4_isFree_1 9 rfl rfl)
theorem dX4_isFree_33 : decode cX4_isFree 33 = .ok (.iconst 1, 1) := dk_4 (dk_at dksX4_isFree_1 10 rfl rfl)
theorem dX4_isFree_34 : decode cX4_isFree 34 = .ok (.iadd, 1) := dk_96 (dk_at dksX4_isFree_1 11 rfl rfl)
theorem dX4_isFree_35 : decode cX4_isFree 35 = .ok (.iload 4, 2) := dk_21 4 (dk_at dksX4_isFree_1 12 rfl rfl)
theorem dX4_isFree_37 : decode cX4_isFree 37 = .ok (.invokestatic 95, 3) := dk_184 0 95 (dk_at dksX4_isFree_1 14 rfl rfl)
theorem dX4_isFree_40 : decode cX4_isFree 40 = .ok (.iadd, 1) := dk_96 (dk_at dksX4_isFree_1 17 rfl rfl)
theorem dX4_isFree_41 : decode cX4_isFree 41 = .ok (.istore 6, 2) := dk_54 6 (dk_at dksX4_isFree_1 18 rfl rfl)
theorem dX4_isFree_43 : decode cX4_isFree 43 = .ok (.aload_n 0, 1) := dk_42 (dk_at dksX4_isFree_1 20 rfl rfl)
theorem dX4_isFree_44 : decode cX4_isFree 44 = .ok (.getfield 32, 3) := dk_180 0 32 (dk_at dksX4_isFree_1 21 rfl rfl)
theorem dX4_isFree_47 : decode cX4_isFree 47 = .ok (.iload 5, 2) := dk_21 5 (dk_at dksX4_isFree_2 0 rfl rfl)
theorem dX4_isFree_49 : decode cX4_isFree 49 = .ok (.iload 6, 2) := dk_21 6 (dk_at dksX4_isFree_2 2 rfl rfl)
theorem dX4_isFree_51 : decode cX4_isFree 51 = .ok (.invokevirtual 65, 3) := dk_182 0 65 (dk_at dksX4_isFree_2 4 rfl rfl)
theorem dX4_isFree_54 : decode cX4_isFree 54 = .ok (.ifCond .eq 18, 3) := dk_153 0 18 (dk_at dksX4_isFree_2 7 rfl rfl)
theorem dX4_isFree_57 : decode cX4_isFree 57 = .ok (.aload_n 0, 1) := dk_42 (dk_at dksX4_isFree_2 10 rfl rfl)
theorem dX4_isFree_58 : decode cX4_isFree 58 = .ok (.iload 5, 2) := dk_21 5 (dk_at dksX4_isFree_2 11 rfl rfl)
theorem dX4_isFree_60 : decode cX4_isFree 60 = .ok (.iload 6, 2) := dk_21 6 (dk_at dksX4_isFree_2 13 rfl rfl)
theorem dX4_isFree_62 : decode cX4_isFree 62 = .ok (.invokevirtual 104, 3) := dk_182 0 104 (dk_at dksX4_isFree_2 15 rfl rfl)
theorem dX4_isFree_65 : decode cX4_isFree 65 = .ok (.ifCond .ne 7, 3) := dk_154 0 7 (dk_at dksX4_isFree_2 18 rfl rfl)
theorem dX4_isFree_68 : decode cX4_isFree 68 = .ok (.iconst 1, 1) := dk_4 (dk_at dksX4_isFree_2 21 rfl rfl)
theorem dX4_isFree_69 : decode cX4_isFree 69 = .ok (.goto 4, 3) := dk_167 0 4 (dk_at dksX4_isFree_3 0 rfl rfl)
theorem dX4_isFree_72 : decode cX4_isFree 72 = .ok (.iconst 0, 1) := dk_3 (dk_at dksX4_isFree_3 3 rfl rfl)
theorem dX4_isFree_73 : decode cX4_isFree 73 = .ok (.ireturn, 1) := dk_172 (dk_at dksX4_isFree_3 4 rfl rfl)
abbrev cX4_goesOnFor : ByteArray := prog_16_method_18_code
def yX4_goesOnFor : MethodName := ⟨RX4, "goesOnFor", "(I)V"⟩
def dkwX4_goesOnFor_0 : List UInt8 := [3, 61, 28, 27, 162, 0, 13, 42, 182, 0, 190, 132, 2, 1, 167, 255, 244, 177]
abbrev dktX4_goesOnFor_0 : List UInt8 := dkwX4_goesOnFor_0 ++ []
theorem dksX4_goesOnFor_0 : cX4_goesOnFor.data.toList.drop 0 = dktX4_goesOnFor_0 := by decide +kernel
theorem dX4_goesOnFor_0 : decode cX4_goesOnFor 0 = .ok (.iconst 0, 1) := dk_3 (dk_at dksX4_goesOnFor_0 0 rfl rfl)
theorem dX4_goesOnFor_1 : decode cX4_goesOnFor 1 = .ok (.istore_n 2, 1) := dk_61 (dk_at dksX4_goesOnFor_0 1 rfl rfl)
theorem dX4_goesOnFor_2 : decode cX4_goesOnFor 2 = .ok (.iload_n 2, 1) := dk_28 (dk_at dksX4_goesOnFor_0 2 rfl rfl)
theorem dX4_goesOnFor_3 : decode cX4_goesOnFor 3 = .ok (.iload_n 1, 1) := dk_27 (dk_at dksX4_goesOnFor_0 3 rfl rfl)
theorem dX4_goesOnFor_4 : decode cX4_goesOnFor 4 = .ok (.if_icmp .ge 13, 3) := dk_162 0 13 (dk_at dksX4_goesOnFor_0 4 rfl rfl)
theorem dX4_goesOnFor_7 : decode cX4_goesOnFor 7 = .ok (.aload_n 0, 1) := dk_42 (dk_at dksX4_goesOnFor_0 7 rfl rfl)
theorem dX4_goesOnFor_8 : decode cX4_goesOnFor 8 = .ok (.invokevirtual 190, 3) := dk_182 0 190 (dk_at dksX4_goesOnFor_0 8 rfl rfl)
theorem dX4_goesOnFor_11 : decode cX4_goesOnFor 11 = .ok (.iinc 2 1, 3) := dk_132 2 1 (dk_at dksX4_goesOnFor_0 11 rfl rfl)
theorem dX4_goesOnFor_14 : decode cX4_goesOnFor 14 = .ok (.goto (-12), 3) := dk_167 255 244 (dk_at dksX4_goesOnFor_0 14 rfl rfl)
theorem dX4_goesOnFor_17 : decode cX4_goesOnFor 17 = .ok (.return_, 1) := dk_177 (dk_at dksX4_goesOnFor_0 17 rfl rfl)
abbrev cX4_goesOn : ByteArray := prog_16_method_17_code
def yX4_goesOn : MethodName := ⟨RX4, "goesOn", "()V"⟩
def dkwX4_goesOn_1 : List UInt8 := [167, 255, 235, 42, 89, 180, 0, 40, 4, 96, 181, 0, 40, 177]
abbrev dktX4_goesOn_1 : List UInt8 := dkwX4_goesOn_1 ++ []
def dkwX4_goesOn_0 : List UInt8 := [3, 60, 27, 42, 180, 0, 36, 162, 0, 19, 42, 42, 180, 0, 26, 27, 46, 182, 0, 187, 132, 1, 1]
abbrev dktX4_goesOn_0 : List UInt8 := dkwX4_goesOn_0 ++ dktX4_goesOn_1
theorem dksX4_goesOn_0 : cX4_goesOn.data.toList.drop 0 = dktX4_goesOn_0 := by decide +kernel
theorem dksX4_goesOn_1 : cX4_goesOn.data.toList.drop 23 = dktX4_goesOn_1 := dk_seg dksX4_goesOn_0 23 rfl rfl
theorem dX4_goesOn_0 : decode cX4_goesOn 0 = .ok (.iconst 0, 1) := dk_3 (dk_at dksX4_goesOn_0 0 rfl rfl)
theorem dX4_goesOn_1 : decode cX4_goesOn 1 = .ok (.istore_n 1, 1) := dk_60 (dk_at dksX4_goesOn_0 1 rfl rfl)
theorem dX4_goesOn_2 : decode cX4_goesOn 2 = .ok (.iload_n 1, 1) := dk_27 (dk_at dksX4_goesOn_0 2 rfl rfl)
theorem dX4_goesOn_3 : decode cX4_goesOn 3 = .ok (.aload_n 0, 1) := dk_42 (dk_at dksX4_goesOn_0 3 rfl rfl)
theorem dX4_goesOn_4 : decode cX4_goesOn 4 = .ok (.getfield 36, 3) := dk_180 0 36 (dk_at dksX4_goesOn_0 4 rfl rfl)
theorem dX4_goesOn_7 : decode cX4_goesOn 7 = .ok (.if_icmp .ge 19, 3) := dk_162 0 19 (dk_at dksX4_goesOn_0 7 rfl rfl)
theorem dX4_goesOn_10 : decode cX4_goesOn 10 = .ok (.aload_n 0, 1) := dk_42 (dk_at dksX4_goesOn_0 10 rfl rfl)
theorem dX4_goesOn_11 : decode cX4_goesOn 11 = .ok (.aload_n 0, 1) := dk_42 (dk_at dksX4_goesOn_0 11 rfl rfl)
theorem dX4_goesOn_12 : decode cX4_goesOn 12 = .ok (.getfield 26, 3) := dk_180 0 26 (dk_at dksX4_goesOn_0 12 rfl rfl)
theorem dX4_goesOn_15 : decode cX4_goesOn 15 = .ok (.iload_n 1, 1) := dk_27 (dk_at dksX4_goesOn_0 15 rfl rfl)
theorem dX4_goesOn_16 : decode cX4_goesOn 16 = .ok (.iaload, 1) := dk_46 (dk_at dksX4_goesOn_0 16 rfl rfl)
theorem dX4_goesOn_17 : decode cX4_goesOn 17 = .ok (.invokevirtual 187, 3) := dk_182 0 187 (dk_at dksX4_goesOn_0 17 rfl rfl)
theorem dX4_goesOn_20 : decode cX4_goesOn 20 = .ok (.iinc 1 1, 3) := dk_132 1 1 (dk_at dksX4_goesOn_0 20 rfl rfl)
theorem dX4_goesOn_23 : decode cX4_goesOn 23 = .ok (.goto (-21), 3) := dk_167 255 235 (dk_at dksX4_goesOn_1 0 rfl rfl)
theorem dX4_goesOn_26 : decode cX4_goesOn 26 = .ok (.aload_n 0, 1) := dk_42 (dk_at dksX4_goesOn_1 3 rfl rfl)
theorem dX4_goesOn_27 : decode cX4_goesOn 27 = .ok (.dup, 1) := dk_89 (dk_at dksX4_goesOn_1 4 rfl rfl)
theorem dX4_goesOn_28 : decode cX4_goesOn 28 = .ok (.getfield 40, 3) := dk_180 0 40 (dk_at dksX4_goesOn_1 5 rfl rfl)
theorem dX4_goesOn_31 : decode cX4_goesOn 31 = .ok (.iconst 1, 1) := dk_4 (dk_at dksX4_goesOn_1 8 rfl rfl)
theorem dX4_goesOn_32 : decode cX4_goesOn 32 = .ok (.iadd, 1) := dk_96 (dk_at dksX4_goesOn_1 9 rfl rfl)
theorem dX4_goesOn_33 : decode cX4_goesOn 33 = .ok (.putfield 40, 3) := dk_181 0 40 (dk_at dksX4_goesOn_1 10 rfl rfl)
theorem dX4_goesOn_36 : decode cX4_goesOn 36 = .ok (.return_, 1) := dk_177 (dk_at dksX4_goesOn_1 13 rfl rfl)
abbrev cX4_lives : ByteArray := prog_16_method_16_code
def yX4_lives : MethodName := ⟨RX4, "lives", "(I)V"⟩
def dkwX4_lives_4 : List UInt8 := [44, 182, 0, 180, 42, 27, 182, 0, 183, 177]
abbrev dktX4_lives_4 : List UInt8 := dkwX4_lives_4 ++ []
def dkwX4_lives_3 : List UInt8 := [181, 0, 156, 44, 182, 0, 174, 42, 182, 0, 167, 16, 100, 112, 42, 180, 0, 32, 180, 0, 177, 162, 0, 7]
abbrev dktX4_lives_3 : List UInt8 := dkwX4_lives_3 ++ dktX4_lives_4
def dkwX4_lives_2 : List UInt8 := [112, 42, 180, 0, 32, 180, 0, 171, 162, 0, 18, 44, 16, 99, 44, 180, 0, 156, 4, 96, 184, 0, 162]
abbrev dktX4_lives_2 : List UInt8 := dkwX4_lives_2 ++ dktX4_lives_3
def dkwX4_lives_1 : List UInt8 := [180, 0, 156, 42, 180, 0, 32, 180, 0, 159, 104, 96, 184, 0, 162, 181, 0, 146, 42, 182, 0, 167, 16, 100]
abbrev dktX4_lives_1 : List UInt8 := dkwX4_lives_1 ++ dktX4_lives_2
def dkwX4_lives_0 : List UInt8 := [42, 180, 0, 11, 27, 50, 77, 44, 180, 0, 156, 154, 0, 4, 177, 44, 17, 3, 231, 44, 180, 0, 146, 44]
abbrev dktX4_lives_0 : List UInt8 := dkwX4_lives_0 ++ dktX4_lives_1
theorem dksX4_lives_0 : cX4_lives.data.toList.drop 0 = dktX4_lives_0 := by decide +kernel
theorem dksX4_lives_1 : cX4_lives.data.toList.drop 24 = dktX4_lives_1 := dk_seg dksX4_lives_0 24 rfl rfl
theorem dksX4_lives_2 : cX4_lives.data.toList.drop 48 = dktX4_lives_2 := dk_seg dksX4_lives_1 24 rfl rfl
theorem dksX4_lives_3 : cX4_lives.data.toList.drop 71 = dktX4_lives_3 := dk_seg dksX4_lives_2 23 rfl rfl
theorem dksX4_lives_4 : cX4_lives.data.toList.drop 95 = dktX4_lives_4 := dk_seg dksX4_lives_3 24 rfl rfl
theorem dX4_lives_0 : decode cX4_lives 0 = .ok (.aload_n 0, 1) := dk_42 (dk_at dksX4_lives_0 0 rfl rfl)
theorem dX4_lives_1 : decode cX4_lives 1 = .ok (.getfield 11, 3) := dk_180 0 11 (dk_at dksX4_lives_0 1 rfl rfl)
theorem dX4_lives_4 : decode cX4_lives 4 = .ok (.iload_n 1, 1) := dk_27 (dk_at dksX4_lives_0 4 rfl rfl)
theorem dX4_lives_5 : decode cX4_lives 5 = .ok (.aaload, 1) := dk_50 (dk_at dksX4_lives_0 5 rfl rfl)
theorem dX4_lives_6 : decode cX4_lives 6 = .ok (.astore_n 2, 1) := dk_77 (dk_at dksX4_lives_0 6 rfl rfl)
theorem dX4_lives_7 : decode cX4_lives 7 = .ok (.aload_n 2, 1) := dk_44 (dk_at dksX4_lives_0 7 rfl rfl)
theorem dX4_lives_8 : decode cX4_lives 8 = .ok (.getfield 156, 3) := dk_180 0 156 (dk_at dksX4_lives_0 8 rfl rfl)
theorem dX4_lives_11 : decode cX4_lives 11 = .ok (.ifCond .ne 4, 3) := dk_154 0 4 (dk_at dksX4_lives_0 11 rfl rfl)
theorem dX4_lives_14 : decode cX4_lives 14 = .ok (.return_, 1) := dk_177 (dk_at dksX4_lives_0 14 rfl rfl)
theorem dX4_lives_15 : decode cX4_lives 15 = .ok (.aload_n 2, 1) := dk_44 (dk_at dksX4_lives_0 15 rfl rfl)
theorem dX4_lives_16 : decode cX4_lives 16 = .ok (.sipush 999, 3) := dk_17 3 231 (dk_at dksX4_lives_0 16 rfl rfl)
theorem dX4_lives_19 : decode cX4_lives 19 = .ok (.aload_n 2, 1) := dk_44 (dk_at dksX4_lives_0 19 rfl rfl)
theorem dX4_lives_20 : decode cX4_lives 20 = .ok (.getfield 146, 3) := dk_180 0 146 (dk_at dksX4_lives_0 20 rfl rfl)
theorem dX4_lives_23 : decode cX4_lives 23 = .ok (.aload_n 2, 1) := dk_44 (dk_at dksX4_lives_0 23 rfl rfl)
theorem dX4_lives_24 : decode cX4_lives 24 = .ok (.getfield 156, 3) := dk_180 0 156 (dk_at dksX4_lives_1 0 rfl rfl)
theorem dX4_lives_27 : decode cX4_lives 27 = .ok (.aload_n 0, 1) := dk_42 (dk_at dksX4_lives_1 3 rfl rfl)
theorem dX4_lives_28 : decode cX4_lives 28 = .ok (.getfield 32, 3) := dk_180 0 32 (dk_at dksX4_lives_1 4 rfl rfl)
theorem dX4_lives_31 : decode cX4_lives 31 = .ok (.getfield 159, 3) := dk_180 0 159 (dk_at dksX4_lives_1 7 rfl rfl)
theorem dX4_lives_34 : decode cX4_lives 34 = .ok (.imul, 1) := dk_104 (dk_at dksX4_lives_1 10 rfl rfl)
theorem dX4_lives_35 : decode cX4_lives 35 = .ok (.iadd, 1) := dk_96 (dk_at dksX4_lives_1 11 rfl rfl)
theorem dX4_lives_36 : decode cX4_lives 36 = .ok (.invokestatic 162, 3) := dk_184 0 162 (dk_at dksX4_lives_1 12 rfl rfl)
theorem dX4_lives_39 : decode cX4_lives 39 = .ok (.putfield 146, 3) := dk_181 0 146 (dk_at dksX4_lives_1 15 rfl rfl)
theorem dX4_lives_42 : decode cX4_lives 42 = .ok (.aload_n 0, 1) := dk_42 (dk_at dksX4_lives_1 18 rfl rfl)
theorem dX4_lives_43 : decode cX4_lives 43 = .ok (.invokevirtual 167, 3) := dk_182 0 167 (dk_at dksX4_lives_1 19 rfl rfl)
theorem dX4_lives_46 : decode cX4_lives 46 = .ok (.bipush 100, 2) := dk_16 100 (dk_at dksX4_lives_1 22 rfl rfl)
theorem dX4_lives_48 : decode cX4_lives 48 = .ok (.irem, 1) := dk_112 (dk_at dksX4_lives_2 0 rfl rfl)
theorem dX4_lives_49 : decode cX4_lives 49 = .ok (.aload_n 0, 1) := dk_42 (dk_at dksX4_lives_2 1 rfl rfl)
theorem dX4_lives_50 : decode cX4_lives 50 = .ok (.getfield 32, 3) := dk_180 0 32 (dk_at dksX4_lives_2 2 rfl rfl)
theorem dX4_lives_53 : decode cX4_lives 53 = .ok (.getfield 171, 3) := dk_180 0 171 (dk_at dksX4_lives_2 5 rfl rfl)
theorem dX4_lives_56 : decode cX4_lives 56 = .ok (.if_icmp .ge 18, 3) := dk_162 0 18 (dk_at dksX4_lives_2 8 rfl rfl)
theorem dX4_lives_59 : decode cX4_lives 59 = .ok (.aload_n 2, 1) := dk_44 (dk_at dksX4_lives_2 11 rfl rfl)
theorem dX4_lives_60 : decode cX4_lives 60 = .ok (.bipush 99, 2) := dk_16 99 (dk_at dksX4_lives_2 12 rfl rfl)
theorem dX4_lives_62 : decode cX4_lives 62 = .ok (.aload_n 2, 1) := dk_44 (dk_at dksX4_lives_2 14 rfl rfl)
theorem dX4_lives_63 : decode cX4_lives 63 = .ok (.getfield 156, 3) := dk_180 0 156 (dk_at dksX4_lives_2 15 rfl rfl)
theorem dX4_lives_66 : decode cX4_lives 66 = .ok (.iconst 1, 1) := dk_4 (dk_at dksX4_lives_2 18 rfl rfl)
theorem dX4_lives_67 : decode cX4_lives 67 = .ok (.iadd, 1) := dk_96 (dk_at dksX4_lives_2 19 rfl rfl)
theorem dX4_lives_68 : decode cX4_lives 68 = .ok (.invokestatic 162, 3) := dk_184 0 162 (dk_at dksX4_lives_2 20 rfl rfl)
theorem dX4_lives_71 : decode cX4_lives 71 = .ok (.putfield 156, 3) := dk_181 0 156 (dk_at dksX4_lives_3 0 rfl rfl)
theorem dX4_lives_74 : decode cX4_lives 74 = .ok (.aload_n 2, 1) := dk_44 (dk_at dksX4_lives_3 3 rfl rfl)
theorem dX4_lives_75 : decode cX4_lives 75 = .ok (.invokevirtual 174, 3) := dk_182 0 174 (dk_at dksX4_lives_3 4 rfl rfl)
theorem dX4_lives_78 : decode cX4_lives 78 = .ok (.aload_n 0, 1) := dk_42 (dk_at dksX4_lives_3 7 rfl rfl)
theorem dX4_lives_79 : decode cX4_lives 79 = .ok (.invokevirtual 167, 3) := dk_182 0 167 (dk_at dksX4_lives_3 8 rfl rfl)
theorem dX4_lives_82 : decode cX4_lives 82 = .ok (.bipush 100, 2) := dk_16 100 (dk_at dksX4_lives_3 11 rfl rfl)
theorem dX4_lives_84 : decode cX4_lives 84 = .ok (.irem, 1) := dk_112 (dk_at dksX4_lives_3 13 rfl rfl)
theorem dX4_lives_85 : decode cX4_lives 85 = .ok (.aload_n 0, 1) := dk_42 (dk_at dksX4_lives_3 14 rfl rfl)
theorem dX4_lives_86 : decode cX4_lives 86 = .ok (.getfield 32, 3) := dk_180 0 32 (dk_at dksX4_lives_3 15 rfl rfl)
theorem dX4_lives_89 : decode cX4_lives 89 = .ok (.getfield 177, 3) := dk_180 0 177 (dk_at dksX4_lives_3 18 rfl rfl)
theorem dX4_lives_92 : decode cX4_lives 92 = .ok (.if_icmp .ge 7, 3) := dk_162 0 7 (dk_at dksX4_lives_3 21 rfl rfl)
theorem dX4_lives_95 : decode cX4_lives 95 = .ok (.aload_n 2, 1) := dk_44 (dk_at dksX4_lives_4 0 rfl rfl)
theorem dX4_lives_96 : decode cX4_lives 96 = .ok (.invokevirtual 180, 3) := dk_182 0 180 (dk_at dksX4_lives_4 1 rfl rfl)
theorem dX4_lives_99 : decode cX4_lives 99 = .ok (.aload_n 0, 1) := dk_42 (dk_at dksX4_lives_4 4 rfl rfl)
theorem dX4_lives_100 : decode cX4_lives 100 = .ok (.iload_n 1, 1) := dk_27 (dk_at dksX4_lives_4 5 rfl rfl)
theorem dX4_lives_101 : decode cX4_lives 101 = .ok (.invokevirtual 183, 3) := dk_182 0 183 (dk_at dksX4_lives_4 6 rfl rfl)
theorem dX4_lives_104 : decode cX4_lives 104 = .ok (.return_, 1) := dk_177 (dk_at dksX4_lives_4 9 rfl rfl)
abbrev cX4_draw : ByteArray := prog_16_method_7_code
def yX4_draw : MethodName := ⟨RX4, "draw", "()I"⟩
def dkwX4_draw_0 : List UInt8 := [42, 16, 75, 42, 180, 0, 43, 104, 16, 74, 96, 18, 60, 112, 181, 0, 43, 42, 180, 0, 43, 172]
abbrev dktX4_draw_0 : List UInt8 := dkwX4_draw_0 ++ []
theorem dksX4_draw_0 : cX4_draw.data.toList.drop 0 = dktX4_draw_0 := by decide +kernel
theorem dX4_draw_0 : decode cX4_draw 0 = .ok (.aload_n 0, 1) := dk_42 (dk_at dksX4_draw_0 0 rfl rfl)
theorem dX4_draw_1 : decode cX4_draw 1 = .ok (.bipush 75, 2) := dk_16 75 (dk_at dksX4_draw_0 1 rfl rfl)
theorem dX4_draw_3 : decode cX4_draw 3 = .ok (.aload_n 0, 1) := dk_42 (dk_at dksX4_draw_0 3 rfl rfl)
theorem dX4_draw_4 : decode cX4_draw 4 = .ok (.getfield 43, 3) := dk_180 0 43 (dk_at dksX4_draw_0 4 rfl rfl)
theorem dX4_draw_7 : decode cX4_draw 7 = .ok (.imul, 1) := dk_104 (dk_at dksX4_draw_0 7 rfl rfl)
theorem dX4_draw_8 : decode cX4_draw 8 = .ok (.bipush 74, 2) := dk_16 74 (dk_at dksX4_draw_0 8 rfl rfl)
theorem dX4_draw_10 : decode cX4_draw 10 = .ok (.iadd, 1) := dk_96 (dk_at dksX4_draw_0 10 rfl rfl)
theorem dX4_draw_11 : decode cX4_draw 11 = .ok (.ldc 60, 2) := dk_18 60 (dk_at dksX4_draw_0 11 rfl rfl)
theorem dX4_draw_13 : decode cX4_draw 13 = .ok (.irem, 1) := dk_112 (dk_at dksX4_draw_0 13 rfl rfl)
theorem dX4_draw_14 : decode cX4_draw 14 = .ok (.putfield 43, 3) := dk_181 0 43 (dk_at dksX4_draw_0 14 rfl rfl)
theorem dX4_draw_17 : decode cX4_draw 17 = .ok (.aload_n 0, 1) := dk_42 (dk_at dksX4_draw_0 17 rfl rfl)
theorem dX4_draw_18 : decode cX4_draw 18 = .ok (.getfield 43, 3) := dk_180 0 43 (dk_at dksX4_draw_0 18 rfl rfl)
theorem dX4_draw_21 : decode cX4_draw 21 = .ok (.ireturn, 1) := dk_172 (dk_at dksX4_draw_0 21 rfl rfl)
abbrev cX4_grows : ByteArray := prog_16_method_15_code
def yX4_grows : MethodName := ⟨RX4, "grows", "(I)V"⟩
def dkwX4_grows_4 : List UInt8 := [182, 0, 130, 177]
abbrev dktX4_grows_4 : List UInt8 := dkwX4_grows_4 ++ []
def dkwX4_grows_3 : List UInt8 := [180, 0, 126, 42, 180, 0, 140, 42, 180, 0, 143, 44, 180, 0, 156, 16, 10, 112, 42, 180, 0, 40]
abbrev dktX4_grows_3 : List UInt8 := dkwX4_grows_3 ++ dktX4_grows_4
def dkwX4_grows_2 : List UInt8 := [180, 0, 146, 44, 44, 180, 0, 78, 180, 0, 126, 182, 0, 149, 100, 181, 0, 146, 44, 44, 180, 0, 78]
abbrev dktX4_grows_2 : List UInt8 := dkwX4_grows_2 ++ dktX4_grows_3
def dkwX4_grows_1 : List UInt8 := [180, 0, 78, 180, 0, 126, 182, 0, 149, 161, 0, 11, 42, 27, 182, 0, 153, 154, 0, 4, 177, 44, 89]
abbrev dktX4_grows_1 : List UInt8 := dkwX4_grows_1 ++ dktX4_grows_2
def dkwX4_grows_0 : List UInt8 := [42, 180, 0, 11, 27, 50, 77, 44, 180, 0, 77, 16, 6, 159, 0, 29, 44, 180, 0, 146, 44, 44]
abbrev dktX4_grows_0 : List UInt8 := dkwX4_grows_0 ++ dktX4_grows_1
theorem dksX4_grows_0 : cX4_grows.data.toList.drop 0 = dktX4_grows_0 := by decide +kernel
theorem dksX4_grows_1 : cX4_grows.data.toList.drop 22 = dktX4_grows_1 := dk_seg dksX4_grows_0 22 rfl rfl
theorem dksX4_grows_2 : cX4_grows.data.toList.drop 45 = dktX4_grows_2 := dk_seg dksX4_grows_1 23 rfl rfl
theorem dksX4_grows_3 : cX4_grows.data.toList.drop 68 = dktX4_grows_3 := dk_seg dksX4_grows_2 23 rfl rfl
theorem dksX4_grows_4 : cX4_grows.data.toList.drop 90 = dktX4_grows_4 := dk_seg dksX4_grows_3 22 rfl rfl
theorem dX4_grows_0 : decode cX4_grows 0 = .ok (.aload_n 0, 1) := dk_42 (dk_at dksX4_grows_0 0 rfl rfl)
theorem dX4_grows_1 : decode cX4_grows 1 = .ok (.getfield 11, 3) := dk_180 0 11 (dk_at dksX4_grows_0 1 rfl rfl)
theorem dX4_grows_4 : decode cX4_grows 4 = .ok (.iload_n 1, 1) := dk_27 (dk_at dksX4_grows_0 4 rfl rfl)
theorem dX4_grows_5 : decode cX4_grows 5 = .ok (.aaload, 1) := dk_50 (dk_at dksX4_grows_0 5 rfl rfl)
theorem dX4_grows_6 : decode cX4_grows 6 = .ok (.astore_n 2, 1) := dk_77 (dk_at dksX4_grows_0 6 rfl rfl)
theorem dX4_grows_7 : decode cX4_grows 7 = .ok (.aload_n 2, 1) := dk_44 (dk_at dksX4_grows_0 7 rfl rfl)
theorem dX4_grows_8 : decode cX4_grows 8 = .ok (.getfield 77, 3) := dk_180 0 77 (dk_at dksX4_grows_0 8 rfl rfl)
theorem dX4_grows_11 : decode cX4_grows 11 = .ok (.bipush 6, 2) := dk_16 6 (dk_at dksX4_grows_0 11 rfl rfl)
theorem dX4_grows_13 : decode cX4_grows 13 = .ok (.if_icmp .eq 29, 3) := dk_159 0 29 (dk_at dksX4_grows_0 13 rfl rfl)
theorem dX4_grows_16 : decode cX4_grows 16 = .ok (.aload_n 2, 1) := dk_44 (dk_at dksX4_grows_0 16 rfl rfl)
theorem dX4_grows_17 : decode cX4_grows 17 = .ok (.getfield 146, 3) := dk_180 0 146 (dk_at dksX4_grows_0 17 rfl rfl)
theorem dX4_grows_20 : decode cX4_grows 20 = .ok (.aload_n 2, 1) := dk_44 (dk_at dksX4_grows_0 20 rfl rfl)
theorem dX4_grows_21 : decode cX4_grows 21 = .ok (.aload_n 2, 1) := dk_44 (dk_at dksX4_grows_0 21 rfl rfl)
theorem dX4_grows_22 : decode cX4_grows 22 = .ok (.getfield 78, 3) := dk_180 0 78 (dk_at dksX4_grows_1 0 rfl rfl)
theorem dX4_grows_25 : decode cX4_grows 25 = .ok (.getfield 126, 3) := dk_180 0 126 (dk_at dksX4_grows_1 3 rfl rfl)
theorem dX4_grows_28 : decode cX4_grows 28 = .ok (.invokevirtual 149, 3) := dk_182 0 149 (dk_at dksX4_grows_1 6 rfl rfl)
theorem dX4_grows_31 : decode cX4_grows 31 = .ok (.if_icmp .lt 11, 3) := dk_161 0 11 (dk_at dksX4_grows_1 9 rfl rfl)
theorem dX4_grows_34 : decode cX4_grows 34 = .ok (.aload_n 0, 1) := dk_42 (dk_at dksX4_grows_1 12 rfl rfl)
theorem dX4_grows_35 : decode cX4_grows 35 = .ok (.iload_n 1, 1) := dk_27 (dk_at dksX4_grows_1 13 rfl rfl)
theorem dX4_grows_36 : decode cX4_grows 36 = .ok (.invokevirtual 153, 3) := dk_182 0 153 (dk_at dksX4_grows_1 14 rfl rfl)
theorem dX4_grows_39 : decode cX4_grows 39 = .ok (.ifCond .ne 4, 3) := dk_154 0 4 (dk_at dksX4_grows_1 17 rfl rfl)
theorem dX4_grows_42 : decode cX4_grows 42 = .ok (.return_, 1) := dk_177 (dk_at dksX4_grows_1 20 rfl rfl)
theorem dX4_grows_43 : decode cX4_grows 43 = .ok (.aload_n 2, 1) := dk_44 (dk_at dksX4_grows_1 21 rfl rfl)
theorem dX4_grows_44 : decode cX4_grows 44 = .ok (.dup, 1) := dk_89 (dk_at dksX4_grows_1 22 rfl rfl)
theorem dX4_grows_45 : decode cX4_grows 45 = .ok (.getfield 146, 3) := dk_180 0 146 (dk_at dksX4_grows_2 0 rfl rfl)
theorem dX4_grows_48 : decode cX4_grows 48 = .ok (.aload_n 2, 1) := dk_44 (dk_at dksX4_grows_2 3 rfl rfl)
theorem dX4_grows_49 : decode cX4_grows 49 = .ok (.aload_n 2, 1) := dk_44 (dk_at dksX4_grows_2 4 rfl rfl)
theorem dX4_grows_50 : decode cX4_grows 50 = .ok (.getfield 78, 3) := dk_180 0 78 (dk_at dksX4_grows_2 5 rfl rfl)
theorem dX4_grows_53 : decode cX4_grows 53 = .ok (.getfield 126, 3) := dk_180 0 126 (dk_at dksX4_grows_2 8 rfl rfl)
theorem dX4_grows_56 : decode cX4_grows 56 = .ok (.invokevirtual 149, 3) := dk_182 0 149 (dk_at dksX4_grows_2 11 rfl rfl)
theorem dX4_grows_59 : decode cX4_grows 59 = .ok (.isub, 1) := dk_100 (dk_at dksX4_grows_2 14 rfl rfl)
theorem dX4_grows_60 : decode cX4_grows 60 = .ok (.putfield 146, 3) := dk_181 0 146 (dk_at dksX4_grows_2 15 rfl rfl)
theorem dX4_grows_63 : decode cX4_grows 63 = .ok (.aload_n 2, 1) := dk_44 (dk_at dksX4_grows_2 18 rfl rfl)
theorem dX4_grows_64 : decode cX4_grows 64 = .ok (.aload_n 2, 1) := dk_44 (dk_at dksX4_grows_2 19 rfl rfl)
theorem dX4_grows_65 : decode cX4_grows 65 = .ok (.getfield 78, 3) := dk_180 0 78 (dk_at dksX4_grows_2 20 rfl rfl)
theorem dX4_grows_68 : decode cX4_grows 68 = .ok (.getfield 126, 3) := dk_180 0 126 (dk_at dksX4_grows_3 0 rfl rfl)
theorem dX4_grows_71 : decode cX4_grows 71 = .ok (.aload_n 0, 1) := dk_42 (dk_at dksX4_grows_3 3 rfl rfl)
theorem dX4_grows_72 : decode cX4_grows 72 = .ok (.getfield 140, 3) := dk_180 0 140 (dk_at dksX4_grows_3 4 rfl rfl)
theorem dX4_grows_75 : decode cX4_grows 75 = .ok (.aload_n 0, 1) := dk_42 (dk_at dksX4_grows_3 7 rfl rfl)
theorem dX4_grows_76 : decode cX4_grows 76 = .ok (.getfield 143, 3) := dk_180 0 143 (dk_at dksX4_grows_3 8 rfl rfl)
theorem dX4_grows_79 : decode cX4_grows 79 = .ok (.aload_n 2, 1) := dk_44 (dk_at dksX4_grows_3 11 rfl rfl)
theorem dX4_grows_80 : decode cX4_grows 80 = .ok (.getfield 156, 3) := dk_180 0 156 (dk_at dksX4_grows_3 12 rfl rfl)
theorem dX4_grows_83 : decode cX4_grows 83 = .ok (.bipush 10, 2) := dk_16 10 (dk_at dksX4_grows_3 15 rfl rfl)
theorem dX4_grows_85 : decode cX4_grows 85 = .ok (.irem, 1) := dk_112 (dk_at dksX4_grows_3 17 rfl rfl)
theorem dX4_grows_86 : decode cX4_grows 86 = .ok (.aload_n 0, 1) := dk_42 (dk_at dksX4_grows_3 18 rfl rfl)
theorem dX4_grows_87 : decode cX4_grows 87 = .ok (.getfield 40, 3) := dk_180 0 40 (dk_at dksX4_grows_3 19 rfl rfl)
theorem dX4_grows_90 : decode cX4_grows 90 = .ok (.invokevirtual 130, 3) := dk_182 0 130 (dk_at dksX4_grows_4 0 rfl rfl)
theorem dX4_grows_93 : decode cX4_grows 93 = .ok (.return_, 1) := dk_177 (dk_at dksX4_grows_4 3 rfl rfl)
abbrev cX4_skins : ByteArray := prog_16_method_19_code
def yX4_skins : MethodName := ⟨RX4, "skins", "()I"⟩
def dkwX4_skins_1 : List UInt8 := [132, 2, 1, 167, 255, 233, 27, 172]
abbrev dktX4_skins_1 : List UInt8 := dkwX4_skins_1 ++ []
def dkwX4_skins_0 : List UInt8 := [3, 60, 3, 61, 28, 42, 180, 0, 36, 162, 0, 21, 27, 42, 180, 0, 11, 28, 50, 180, 0, 77, 96, 60]
abbrev dktX4_skins_0 : List UInt8 := dkwX4_skins_0 ++ dktX4_skins_1
theorem dksX4_skins_0 : cX4_skins.data.toList.drop 0 = dktX4_skins_0 := by decide +kernel
theorem dksX4_skins_1 : cX4_skins.data.toList.drop 24 = dktX4_skins_1 := dk_seg dksX4_skins_0 24 rfl rfl
theorem dX4_skins_0 : decode cX4_skins 0 = .ok (.iconst 0, 1) := dk_3 (dk_at dksX4_skins_0 0 rfl rfl)
theorem dX4_skins_1 : decode cX4_skins 1 = .ok (.istore_n 1, 1) := dk_60 (dk_at dksX4_skins_0 1 rfl rfl)
theorem dX4_skins_2 : decode cX4_skins 2 = .ok (.iconst 0, 1) := dk_3 (dk_at dksX4_skins_0 2 rfl rfl)
theorem dX4_skins_3 : decode cX4_skins 3 = .ok (.istore_n 2, 1) := dk_61 (dk_at dksX4_skins_0 3 rfl rfl)
theorem dX4_skins_4 : decode cX4_skins 4 = .ok (.iload_n 2, 1) := dk_28 (dk_at dksX4_skins_0 4 rfl rfl)
theorem dX4_skins_5 : decode cX4_skins 5 = .ok (.aload_n 0, 1) := dk_42 (dk_at dksX4_skins_0 5 rfl rfl)
theorem dX4_skins_6 : decode cX4_skins 6 = .ok (.getfield 36, 3) := dk_180 0 36 (dk_at dksX4_skins_0 6 rfl rfl)
theorem dX4_skins_9 : decode cX4_skins 9 = .ok (.if_icmp .ge 21, 3) := dk_162 0 21 (dk_at dksX4_skins_0 9 rfl rfl)
theorem dX4_skins_12 : decode cX4_skins 12 = .ok (.iload_n 1, 1) := dk_27 (dk_at dksX4_skins_0 12 rfl rfl)
theorem dX4_skins_13 : decode cX4_skins 13 = .ok (.aload_n 0, 1) := dk_42 (dk_at dksX4_skins_0 13 rfl rfl)
theorem dX4_skins_14 : decode cX4_skins 14 = .ok (.getfield 11, 3) := dk_180 0 11 (dk_at dksX4_skins_0 14 rfl rfl)
theorem dX4_skins_17 : decode cX4_skins 17 = .ok (.iload_n 2, 1) := dk_28 (dk_at dksX4_skins_0 17 rfl rfl)
theorem dX4_skins_18 : decode cX4_skins 18 = .ok (.aaload, 1) := dk_50 (dk_at dksX4_skins_0 18 rfl rfl)
theorem dX4_skins_19 : decode cX4_skins 19 = .ok (.getfield 77, 3) := dk_180 0 77 (dk_at dksX4_skins_0 19 rfl rfl)
theorem dX4_skins_22 : decode cX4_skins 22 = .ok (.iadd, 1) := dk_96 (dk_at dksX4_skins_0 22 rfl rfl)
theorem dX4_skins_23 : decode cX4_skins 23 = .ok (.istore_n 1, 1) := dk_60 (dk_at dksX4_skins_0 23 rfl rfl)
theorem dX4_skins_24 : decode cX4_skins 24 = .ok (.iinc 2 1, 3) := dk_132 2 1 (dk_at dksX4_skins_1 0 rfl rfl)
theorem dX4_skins_27 : decode cX4_skins 27 = .ok (.goto (-23), 3) := dk_167 255 233 (dk_at dksX4_skins_1 3 rfl rfl)
theorem dX4_skins_30 : decode cX4_skins 30 = .ok (.iload_n 1, 1) := dk_27 (dk_at dksX4_skins_1 6 rfl rfl)
theorem dX4_skins_31 : decode cX4_skins 31 = .ok (.ireturn, 1) := dk_172 (dk_at dksX4_skins_1 7 rfl rfl)
abbrev cX4_doMeet : ByteArray := prog_16_method_21_code
def yX4_doMeet : MethodName := ⟨RX4, "doMeet", "(II)Z"⟩
def dkwX4_doMeet_6 : List UInt8 := [4, 167, 0, 4, 3, 62, 132, 5, 1, 167, 255, 127, 132, 4, 1, 167, 255, 106, 29, 172]
abbrev dktX4_doMeet_6 : List UInt8 := dkwX4_doMeet_6 ++ []
def dkwX4_doMeet_5 : List UInt8 := [182, 0, 61, 154, 0, 21, 42, 180, 0, 11, 28, 50, 21, 5, 21, 4, 4, 96, 182, 0, 61, 153, 0, 7]
abbrev dktX4_doMeet_5 : List UInt8 := dkwX4_doMeet_5 ++ dktX4_doMeet_6
def dkwX4_doMeet_4 : List UInt8 := [21, 5, 4, 96, 21, 4, 182, 0, 61, 154, 0, 39, 42, 180, 0, 11, 28, 50, 21, 5, 21, 4, 4, 100]
abbrev dktX4_doMeet_4 : List UInt8 := dkwX4_doMeet_4 ++ dktX4_doMeet_5
def dkwX4_doMeet_3 : List UInt8 := [180, 0, 11, 28, 50, 21, 5, 4, 100, 21, 4, 182, 0, 61, 154, 0, 57, 42, 180, 0, 11, 28, 50]
abbrev dktX4_doMeet_3 : List UInt8 := dkwX4_doMeet_3 ++ dktX4_doMeet_4
def dkwX4_doMeet_2 : List UInt8 := [153, 0, 101, 29, 154, 0, 91, 42, 180, 0, 11, 28, 50, 21, 5, 21, 4, 182, 0, 61, 154, 0, 75, 42]
abbrev dktX4_doMeet_2 : List UInt8 := dkwX4_doMeet_2 ++ dktX4_doMeet_3
def dkwX4_doMeet_1 : List UInt8 := [180, 0, 32, 180, 0, 196, 162, 0, 123, 42, 180, 0, 11, 27, 50, 21, 5, 21, 4, 182, 0, 61]
abbrev dktX4_doMeet_1 : List UInt8 := dkwX4_doMeet_1 ++ dktX4_doMeet_2
def dkwX4_doMeet_0 : List UInt8 := [3, 62, 3, 54, 4, 21, 4, 42, 180, 0, 32, 180, 0, 193, 162, 0, 144, 3, 54, 5, 21, 5, 42]
abbrev dktX4_doMeet_0 : List UInt8 := dkwX4_doMeet_0 ++ dktX4_doMeet_1
theorem dksX4_doMeet_0 : cX4_doMeet.data.toList.drop 0 = dktX4_doMeet_0 := by decide +kernel
theorem dksX4_doMeet_1 : cX4_doMeet.data.toList.drop 23 = dktX4_doMeet_1 := dk_seg dksX4_doMeet_0 23 rfl rfl
theorem dksX4_doMeet_2 : cX4_doMeet.data.toList.drop 45 = dktX4_doMeet_2 := dk_seg dksX4_doMeet_1 22 rfl rfl
theorem dksX4_doMeet_3 : cX4_doMeet.data.toList.drop 69 = dktX4_doMeet_3 := dk_seg dksX4_doMeet_2 24 rfl rfl
theorem dksX4_doMeet_4 : cX4_doMeet.data.toList.drop 92 = dktX4_doMeet_4 := dk_seg dksX4_doMeet_3 23 rfl rfl
theorem dksX4_doMeet_5 : cX4_doMeet.data.toList.drop 116 = dktX4_doMeet_5 := dk_seg dksX4_doMeet_4 24 rfl rfl
theorem dksX4_doMeet_6 : cX4_doMeet.data.toList.drop 140 = dktX4_doMeet_6 := dk_seg dksX4_doMeet_5 24 rfl rfl
theorem dX4_doMeet_0 : decode cX4_doMeet 0 = .ok (.iconst 0, 1) := dk_3 (dk_at dksX4_doMeet_0 0 rfl rfl)
theorem dX4_doMeet_1 : decode cX4_doMeet 1 = .ok (.istore_n 3, 1) := dk_62 (dk_at dksX4_doMeet_0 1 rfl rfl)
theorem dX4_doMeet_2 : decode cX4_doMeet 2 = .ok (.iconst 0, 1) := dk_3 (dk_at dksX4_doMeet_0 2 rfl rfl)
theorem dX4_doMeet_3 : decode cX4_doMeet 3 = .ok (.istore 4, 2) := dk_54 4 (dk_at dksX4_doMeet_0 3 rfl rfl)
theorem dX4_doMeet_5 : decode cX4_doMeet 5 = .ok (.iload 4, 2) := dk_21 4 (dk_at dksX4_doMeet_0 5 rfl rfl)
theorem dX4_doMeet_7 : decode cX4_doMeet 7 = .ok (.aload_n 0, 1) := dk_42 (dk_at dksX4_doMeet_0 7 rfl rfl)
theorem dX4_doMeet_8 : decode cX4_doMeet 8 = .ok (.getfield 32, 3) := dk_180 0 32 (dk_at dksX4_doMeet_0 8 rfl rfl)
theorem dX4_doMeet_11 : decode cX4_doMeet 11 = .ok (.getfield 193, 3) := dk_180 0 193 (dk_at dksX4_doMeet_0 11 rfl rfl)
theorem dX4_doMeet_14 : decode cX4_doMeet 14 = .ok (.if_icmp .ge 144, 3) := dk_162 0 144 (dk_at dksX4_doMeet_0 14 rfl rfl)
theorem dX4_doMeet_17 : decode cX4_doMeet 17 = .ok (.iconst 0, 1) := dk_3 (dk_at dksX4_doMeet_0 17 rfl rfl)
theorem dX4_doMeet_18 : decode cX4_doMeet 18 = .ok (.istore 5, 2) := dk_54 5 (dk_at dksX4_doMeet_0 18 rfl rfl)
theorem dX4_doMeet_20 : decode cX4_doMeet 20 = .ok (.iload 5, 2) := dk_21 5 (dk_at dksX4_doMeet_0 20 rfl rfl)
theorem dX4_doMeet_22 : decode cX4_doMeet 22 = .ok (.aload_n 0, 1) := dk_42 (dk_at dksX4_doMeet_0 22 rfl rfl)
theorem dX4_doMeet_23 : decode cX4_doMeet 23 = .ok (.getfield 32, 3) := dk_180 0 32 (dk_at dksX4_doMeet_1 0 rfl rfl)
theorem dX4_doMeet_26 : decode cX4_doMeet 26 = .ok (.getfield 196, 3) := dk_180 0 196 (dk_at dksX4_doMeet_1 3 rfl rfl)
theorem dX4_doMeet_29 : decode cX4_doMeet 29 = .ok (.if_icmp .ge 123, 3) := dk_162 0 123 (dk_at dksX4_doMeet_1 6 rfl rfl)
theorem dX4_doMeet_32 : decode cX4_doMeet 32 = .ok (.aload_n 0, 1) := dk_42 (dk_at dksX4_doMeet_1 9 rfl rfl)
theorem dX4_doMeet_33 : decode cX4_doMeet 33 = .ok (.getfield 11, 3) := dk_180 0 11 (dk_at dksX4_doMeet_1 10 rfl rfl)
theorem dX4_doMeet_36 : decode cX4_doMeet 36 = .ok (.iload_n 1, 1) := dk_27 (dk_at dksX4_doMeet_1 13 rfl rfl)
theorem dX4_doMeet_37 : decode cX4_doMeet 37 = .ok (.aaload, 1) := dk_50 (dk_at dksX4_doMeet_1 14 rfl rfl)
theorem dX4_doMeet_38 : decode cX4_doMeet 38 = .ok (.iload 5, 2) := dk_21 5 (dk_at dksX4_doMeet_1 15 rfl rfl)
theorem dX4_doMeet_40 : decode cX4_doMeet 40 = .ok (.iload 4, 2) := dk_21 4 (dk_at dksX4_doMeet_1 17 rfl rfl)
theorem dX4_doMeet_42 : decode cX4_doMeet 42 = .ok (.invokevirtual 61, 3) := dk_182 0 61 (dk_at dksX4_doMeet_1 19 rfl rfl)
theorem dX4_doMeet_45 : decode cX4_doMeet 45 = .ok (.ifCond .eq 101, 3) := dk_153 0 101 (dk_at dksX4_doMeet_2 0 rfl rfl)
theorem dX4_doMeet_48 : decode cX4_doMeet 48 = .ok (.iload_n 3, 1) := dk_29 (dk_at dksX4_doMeet_2 3 rfl rfl)
theorem dX4_doMeet_49 : decode cX4_doMeet 49 = .ok (.ifCond .ne 91, 3) := dk_154 0 91 (dk_at dksX4_doMeet_2 4 rfl rfl)
theorem dX4_doMeet_52 : decode cX4_doMeet 52 = .ok (.aload_n 0, 1) := dk_42 (dk_at dksX4_doMeet_2 7 rfl rfl)
theorem dX4_doMeet_53 : decode cX4_doMeet 53 = .ok (.getfield 11, 3) := dk_180 0 11 (dk_at dksX4_doMeet_2 8 rfl rfl)
theorem dX4_doMeet_56 : decode cX4_doMeet 56 = .ok (.iload_n 2, 1) := dk_28 (dk_at dksX4_doMeet_2 11 rfl rfl)
theorem dX4_doMeet_57 : decode cX4_doMeet 57 = .ok (.aaload, 1) := dk_50 (dk_at dksX4_doMeet_2 12 rfl rfl)
theorem dX4_doMeet_58 : decode cX4_doMeet 58 = .ok (.iload 5, 2) := dk_21 5 (dk_at dksX4_doMeet_2 13 rfl rfl)
theorem dX4_doMeet_60 : decode cX4_doMeet 60 = .ok (.iload 4, 2) := dk_21 4 (dk_at dksX4_doMeet_2 15 rfl rfl)
theorem dX4_doMeet_62 : decode cX4_doMeet 62 = .ok (.invokevirtual 61, 3) := dk_182 0 61 (dk_at dksX4_doMeet_2 17 rfl rfl)
theorem dX4_doMeet_65 : decode cX4_doMeet 65 = .ok (.ifCond .ne 75, 3) := dk_154 0 75 (dk_at dksX4_doMeet_2 20 rfl rfl)
theorem dX4_doMeet_68 : decode cX4_doMeet 68 = .ok (.aload_n 0, 1) := dk_42 (dk_at dksX4_doMeet_2 23 rfl rfl)
theorem dX4_doMeet_69 : decode cX4_doMeet 69 = .ok (.getfield 11, 3) := dk_180 0 11 (dk_at dksX4_doMeet_3 0 rfl rfl)
theorem dX4_doMeet_72 : decode cX4_doMeet 72 = .ok (.iload_n 2, 1) := dk_28 (dk_at dksX4_doMeet_3 3 rfl rfl)
theorem dX4_doMeet_73 : decode cX4_doMeet 73 = .ok (.aaload, 1) := dk_50 (dk_at dksX4_doMeet_3 4 rfl rfl)
theorem dX4_doMeet_74 : decode cX4_doMeet 74 = .ok (.iload 5, 2) := dk_21 5 (dk_at dksX4_doMeet_3 5 rfl rfl)
theorem dX4_doMeet_76 : decode cX4_doMeet 76 = .ok (.iconst 1, 1) := dk_4 (dk_at dksX4_doMeet_3 7 rfl rfl)
theorem dX4_doMeet_77 : decode cX4_doMeet 77 = .ok (.isub, 1) := dk_100 (dk_at dksX4_doMeet_3 8 rfl rfl)
theorem dX4_doMeet_78 : decode cX4_doMeet 78 = .ok (.iload 4, 2) := dk_21 4 (dk_at dksX4_doMeet_3 9 rfl rfl)
theorem dX4_doMeet_80 : decode cX4_doMeet 80 = .ok (.invokevirtual 61, 3) := dk_182 0 61 (dk_at dksX4_doMeet_3 11 rfl rfl)
theorem dX4_doMeet_83 : decode cX4_doMeet 83 = .ok (.ifCond .ne 57, 3) := dk_154 0 57 (dk_at dksX4_doMeet_3 14 rfl rfl)
theorem dX4_doMeet_86 : decode cX4_doMeet 86 = .ok (.aload_n 0, 1) := dk_42 (dk_at dksX4_doMeet_3 17 rfl rfl)
theorem dX4_doMeet_87 : decode cX4_doMeet 87 = .ok (.getfield 11, 3) := dk_180 0 11 (dk_at dksX4_doMeet_3 18 rfl rfl)
theorem dX4_doMeet_90 : decode cX4_doMeet 90 = .ok (.iload_n 2, 1) := dk_28 (dk_at dksX4_doMeet_3 21 rfl rfl)
theorem dX4_doMeet_91 : decode cX4_doMeet 91 = .ok (.aaload, 1) := dk_50 (dk_at dksX4_doMeet_3 22 rfl rfl)
theorem dX4_doMeet_92 : decode cX4_doMeet 92 = .ok (.iload 5, 2) := dk_21 5 (dk_at dksX4_doMeet_4 0 rfl rfl)
theorem dX4_doMeet_94 : decode cX4_doMeet 94 = .ok (.iconst 1, 1) := dk_4 (dk_at dksX4_doMeet_4 2 rfl rfl)
theorem dX4_doMeet_95 : decode cX4_doMeet 95 = .ok (.iadd, 1) := dk_96 (dk_at dksX4_doMeet_4 3 rfl rfl)
theorem dX4_doMeet_96 : decode cX4_doMeet 96 = .ok (.iload 4, 2) := dk_21 4 (dk_at dksX4_doMeet_4 4 rfl rfl)
theorem dX4_doMeet_98 : decode cX4_doMeet 98 = .ok (.invokevirtual 61, 3) := dk_182 0 61 (dk_at dksX4_doMeet_4 6 rfl rfl)
theorem dX4_doMeet_101 : decode cX4_doMeet 101 = .ok (.ifCond .ne 39, 3) := dk_154 0 39 (dk_at dksX4_doMeet_4 9 rfl rfl)
theorem dX4_doMeet_104 : decode cX4_doMeet 104 = .ok (.aload_n 0, 1) := dk_42 (dk_at dksX4_doMeet_4 12 rfl rfl)
theorem dX4_doMeet_105 : decode cX4_doMeet 105 = .ok (.getfield 11, 3) := dk_180 0 11 (dk_at dksX4_doMeet_4 13 rfl rfl)
theorem dX4_doMeet_108 : decode cX4_doMeet 108 = .ok (.iload_n 2, 1) := dk_28 (dk_at dksX4_doMeet_4 16 rfl rfl)
theorem dX4_doMeet_109 : decode cX4_doMeet 109 = .ok (.aaload, 1) := dk_50 (dk_at dksX4_doMeet_4 17 rfl rfl)
theorem dX4_doMeet_110 : decode cX4_doMeet 110 = .ok (.iload 5, 2) := dk_21 5 (dk_at dksX4_doMeet_4 18 rfl rfl)
theorem dX4_doMeet_112 : decode cX4_doMeet 112 = .ok (.iload 4, 2) := dk_21 4 (dk_at dksX4_doMeet_4 20 rfl rfl)
theorem dX4_doMeet_114 : decode cX4_doMeet 114 = .ok (.iconst 1, 1) := dk_4 (dk_at dksX4_doMeet_4 22 rfl rfl)
theorem dX4_doMeet_115 : decode cX4_doMeet 115 = .ok (.isub, 1) := dk_100 (dk_at dksX4_doMeet_4 23 rfl rfl)
theorem dX4_doMeet_116 : decode cX4_doMeet 116 = .ok (.invokevirtual 61, 3) := dk_182 0 61 (dk_at dksX4_doMeet_5 0 rfl rfl)
theorem dX4_doMeet_119 : decode cX4_doMeet 119 = .ok (.ifCond .ne 21, 3) := dk_154 0 21 (dk_at dksX4_doMeet_5 3 rfl rfl)
theorem dX4_doMeet_122 : decode cX4_doMeet 122 = .ok (.aload_n 0, 1) := dk_42 (dk_at dksX4_doMeet_5 6 rfl rfl)
theorem dX4_doMeet_123 : decode cX4_doMeet 123 = .ok (.getfield 11, 3) := dk_180 0 11 (dk_at dksX4_doMeet_5 7 rfl rfl)
theorem dX4_doMeet_126 : decode cX4_doMeet 126 = .ok (.iload_n 2, 1) := dk_28 (dk_at dksX4_doMeet_5 10 rfl rfl)
theorem dX4_doMeet_127 : decode cX4_doMeet 127 = .ok (.aaload, 1) := dk_50 (dk_at dksX4_doMeet_5 11 rfl rfl)
theorem dX4_doMeet_128 : decode cX4_doMeet 128 = .ok (.iload 5, 2) := dk_21 5 (dk_at dksX4_doMeet_5 12 rfl rfl)
theorem dX4_doMeet_130 : decode cX4_doMeet 130 = .ok (.iload 4, 2) := dk_21 4 (dk_at dksX4_doMeet_5 14 rfl rfl)
theorem dX4_doMeet_132 : decode cX4_doMeet 132 = .ok (.iconst 1, 1) := dk_4 (dk_at dksX4_doMeet_5 16 rfl rfl)
theorem dX4_doMeet_133 : decode cX4_doMeet 133 = .ok (.iadd, 1) := dk_96 (dk_at dksX4_doMeet_5 17 rfl rfl)
theorem dX4_doMeet_134 : decode cX4_doMeet 134 = .ok (.invokevirtual 61, 3) := dk_182 0 61 (dk_at dksX4_doMeet_5 18 rfl rfl)
theorem dX4_doMeet_137 : decode cX4_doMeet 137 = .ok (.ifCond .eq 7, 3) := dk_153 0 7 (dk_at dksX4_doMeet_5 21 rfl rfl)
theorem dX4_doMeet_140 : decode cX4_doMeet 140 = .ok (.iconst 1, 1) := dk_4 (dk_at dksX4_doMeet_6 0 rfl rfl)
theorem dX4_doMeet_141 : decode cX4_doMeet 141 = .ok (.goto 4, 3) := dk_167 0 4 (dk_at dksX4_doMeet_6 1 rfl rfl)
theorem dX4_doMeet_144 : decode cX4_doMeet 144 = .ok (.iconst 0, 1) := dk_3 (dk_at dksX4_doMeet_6 4 rfl rfl)
theorem dX4_doMeet_145 : decode cX4_doMeet 145 = .ok (.istore_n 3, 1) := dk_62 (dk_at dksX4_doMeet_6 5 rfl rfl)
theorem dX4_doMeet_146 : decode cX4_doMeet 146 = .ok (.iinc 5 1, 3) := dk_132 5 1 (dk_at dksX4_doMeet_6 6 rfl rfl)
theorem dX4_doMeet_149 : decode cX4_doMeet 149 = .ok (.goto (-129), 3) := dk_167 255 127 (dk_at dksX4_doMeet_6 9 rfl rfl)
theorem dX4_doMeet_152 : decode cX4_doMeet 152 = .ok (.iinc 4 1, 3) := dk_132 4 1 (dk_at dksX4_doMeet_6 12 rfl rfl)
theorem dX4_doMeet_155 : decode cX4_doMeet 155 = .ok (.goto (-150), 3) := dk_167 255 106 (dk_at dksX4_doMeet_6 15 rfl rfl)
theorem dX4_doMeet_158 : decode cX4_doMeet 158 = .ok (.iload_n 3, 1) := dk_29 (dk_at dksX4_doMeet_6 18 rfl rfl)
theorem dX4_doMeet_159 : decode cX4_doMeet 159 = .ok (.ireturn, 1) := dk_172 (dk_at dksX4_doMeet_6 19 rfl rfl)
abbrev cX4_heads : ByteArray := prog_16_method_20_code
def yX4_heads : MethodName := ⟨RX4, "heads", "()I"⟩
def dkwX4_heads_1 : List UInt8 := [132, 2, 1, 167, 255, 233, 27, 172]
abbrev dktX4_heads_1 : List UInt8 := dkwX4_heads_1 ++ []
def dkwX4_heads_0 : List UInt8 := [3, 60, 3, 61, 28, 42, 180, 0, 36, 162, 0, 21, 27, 42, 180, 0, 11, 28, 50, 180, 0, 156, 96, 60]
abbrev dktX4_heads_0 : List UInt8 := dkwX4_heads_0 ++ dktX4_heads_1
theorem dksX4_heads_0 : cX4_heads.data.toList.drop 0 = dktX4_heads_0 := by decide +kernel
theorem dksX4_heads_1 : cX4_heads.data.toList.drop 24 = dktX4_heads_1 := dk_seg dksX4_heads_0 24 rfl rfl
theorem dX4_heads_0 : decode cX4_heads 0 = .ok (.iconst 0, 1) := dk_3 (dk_at dksX4_heads_0 0 rfl rfl)
theorem dX4_heads_1 : decode cX4_heads 1 = .ok (.istore_n 1, 1) := dk_60 (dk_at dksX4_heads_0 1 rfl rfl)
theorem dX4_heads_2 : decode cX4_heads 2 = .ok (.iconst 0, 1) := dk_3 (dk_at dksX4_heads_0 2 rfl rfl)
theorem dX4_heads_3 : decode cX4_heads 3 = .ok (.istore_n 2, 1) := dk_61 (dk_at dksX4_heads_0 3 rfl rfl)
theorem dX4_heads_4 : decode cX4_heads 4 = .ok (.iload_n 2, 1) := dk_28 (dk_at dksX4_heads_0 4 rfl rfl)
theorem dX4_heads_5 : decode cX4_heads 5 = .ok (.aload_n 0, 1) := dk_42 (dk_at dksX4_heads_0 5 rfl rfl)
theorem dX4_heads_6 : decode cX4_heads 6 = .ok (.getfield 36, 3) := dk_180 0 36 (dk_at dksX4_heads_0 6 rfl rfl)
theorem dX4_heads_9 : decode cX4_heads 9 = .ok (.if_icmp .ge 21, 3) := dk_162 0 21 (dk_at dksX4_heads_0 9 rfl rfl)
theorem dX4_heads_12 : decode cX4_heads 12 = .ok (.iload_n 1, 1) := dk_27 (dk_at dksX4_heads_0 12 rfl rfl)
theorem dX4_heads_13 : decode cX4_heads 13 = .ok (.aload_n 0, 1) := dk_42 (dk_at dksX4_heads_0 13 rfl rfl)
theorem dX4_heads_14 : decode cX4_heads 14 = .ok (.getfield 11, 3) := dk_180 0 11 (dk_at dksX4_heads_0 14 rfl rfl)
theorem dX4_heads_17 : decode cX4_heads 17 = .ok (.iload_n 2, 1) := dk_28 (dk_at dksX4_heads_0 17 rfl rfl)
theorem dX4_heads_18 : decode cX4_heads 18 = .ok (.aaload, 1) := dk_50 (dk_at dksX4_heads_0 18 rfl rfl)
theorem dX4_heads_19 : decode cX4_heads 19 = .ok (.getfield 156, 3) := dk_180 0 156 (dk_at dksX4_heads_0 19 rfl rfl)
theorem dX4_heads_22 : decode cX4_heads 22 = .ok (.iadd, 1) := dk_96 (dk_at dksX4_heads_0 22 rfl rfl)
theorem dX4_heads_23 : decode cX4_heads 23 = .ok (.istore_n 1, 1) := dk_60 (dk_at dksX4_heads_0 23 rfl rfl)
theorem dX4_heads_24 : decode cX4_heads 24 = .ok (.iinc 2 1, 3) := dk_132 2 1 (dk_at dksX4_heads_1 0 rfl rfl)
theorem dX4_heads_27 : decode cX4_heads 27 = .ok (.goto (-23), 3) := dk_167 255 233 (dk_at dksX4_heads_1 3 rfl rfl)
theorem dX4_heads_30 : decode cX4_heads 30 = .ok (.iload_n 1, 1) := dk_27 (dk_at dksX4_heads_1 6 rfl rfl)
theorem dX4_heads_31 : decode cX4_heads 31 = .ok (.ireturn, 1) := dk_172 (dk_at dksX4_heads_1 7 rfl rfl)
abbrev cX4_isLivedIn : ByteArray := prog_16_method_22_code
def yX4_isLivedIn : MethodName := ⟨RX4, "isLivedIn", "(II)Z"⟩
def dkwX4_isLivedIn_2 : List UInt8 := [160, 0, 7, 4, 167, 0, 4, 3, 62, 132, 4, 1, 167, 255, 203, 29, 172]
abbrev dktX4_isLivedIn_2 : List UInt8 := dkwX4_isLivedIn_2 ++ []
def dkwX4_isLivedIn_1 : List UInt8 := [180, 0, 32, 180, 0, 202, 21, 4, 50, 180, 0, 206, 27, 160, 0, 18, 42, 180, 0, 22, 21, 4, 46, 28]
abbrev dktX4_isLivedIn_1 : List UInt8 := dkwX4_isLivedIn_1 ++ dktX4_isLivedIn_2
def dkwX4_isLivedIn_0 : List UInt8 := [3, 62, 3, 54, 4, 21, 4, 42, 180, 0, 32, 180, 0, 199, 162, 0, 47, 29, 154, 0, 31, 42]
abbrev dktX4_isLivedIn_0 : List UInt8 := dkwX4_isLivedIn_0 ++ dktX4_isLivedIn_1
theorem dksX4_isLivedIn_0 : cX4_isLivedIn.data.toList.drop 0 = dktX4_isLivedIn_0 := by decide +kernel
theorem dksX4_isLivedIn_1 : cX4_isLivedIn.data.toList.drop 22 = dktX4_isLivedIn_1 := dk_seg dksX4_isLivedIn_0 22 rfl rfl
theorem dksX4_isLivedIn_2 : cX4_isLivedIn.data.toList.drop 46 = dktX4_isLivedIn_2 := dk_seg dksX4_isLivedIn_1 24 rfl rfl
theorem dX4_isLivedIn_0 : decode cX4_isLivedIn 0 = .ok (.iconst 0, 1) := dk_3 (dk_at dksX4_isLivedIn_0 0 rfl rfl)
theorem dX4_isLivedIn_1 : decode cX4_isLivedIn 1 = .ok (.istore_n 3, 1) := dk_62 (dk_at dksX4_isLivedIn_0 1 rfl rfl)
theorem dX4_isLivedIn_2 : decode cX4_isLivedIn 2 = .ok (.iconst 0, 1) := dk_3 (dk_at dksX4_isLivedIn_0 2 rfl rfl)
theorem dX4_isLivedIn_3 : decode cX4_isLivedIn 3 = .ok (.istore 4, 2) := dk_54 4 (dk_at dksX4_isLivedIn_0 3 rfl rfl)
theorem dX4_isLivedIn_5 : decode cX4_isLivedIn 5 = .ok (.iload 4, 2) := dk_21 4 (dk_at dksX4_isLivedIn_0 5 rfl rfl)
theorem dX4_isLivedIn_7 : decode cX4_isLivedIn 7 = .ok (.aload_n 0, 1) := dk_42 (dk_at dksX4_isLivedIn_0 7 rfl rfl)
theorem dX4_isLivedIn_8 : decode cX4_isLivedIn 8 = .ok (.getfield 32, 3) := dk_180 0 32 (dk_at dksX4_isLivedIn_0 8 rfl rfl)
theorem dX4_isLivedIn_11 : decode cX4_isLivedIn 11 = .ok (.getfield 199, 3) := dk_180 0 199 (dk_at dksX4_isLivedIn_0 11 rfl rfl)
theorem dX4_isLivedIn_14 : decode cX4_isLivedIn 14 = .ok (.if_icmp .ge 47, 3) := dk_162 0 47 (dk_at dksX4_isLivedIn_0 14 rfl rfl)
theorem dX4_isLivedIn_17 : decode cX4_isLivedIn 17 = .ok (.iload_n 3, 1) := dk_29 (dk_at dksX4_isLivedIn_0 17 rfl rfl)
theorem dX4_isLivedIn_18 : decode cX4_isLivedIn 18 = .ok (.ifCond .ne 31, 3) := dk_154 0 31 (dk_at dksX4_isLivedIn_0 18 rfl rfl)
theorem dX4_isLivedIn_21 : decode cX4_isLivedIn 21 = .ok (.aload_n 0, 1) := dk_42 (dk_at dksX4_isLivedIn_0 21 rfl rfl)
theorem dX4_isLivedIn_22 : decode cX4_isLivedIn 22 = .ok (.getfield 32, 3) := dk_180 0 32 (dk_at dksX4_isLivedIn_1 0 rfl rfl)
theorem dX4_isLivedIn_25 : decode cX4_isLivedIn 25 = .ok (.getfield 202, 3) := dk_180 0 202 (dk_at dksX4_isLivedIn_1 3 rfl rfl)
theorem dX4_isLivedIn_28 : decode cX4_isLivedIn 28 = .ok (.iload 4, 2) := dk_21 4 (dk_at dksX4_isLivedIn_1 6 rfl rfl)
theorem dX4_isLivedIn_30 : decode cX4_isLivedIn 30 = .ok (.aaload, 1) := dk_50 (dk_at dksX4_isLivedIn_1 8 rfl rfl)
theorem dX4_isLivedIn_31 : decode cX4_isLivedIn 31 = .ok (.getfield 206, 3) := dk_180 0 206 (dk_at dksX4_isLivedIn_1 9 rfl rfl)
theorem dX4_isLivedIn_34 : decode cX4_isLivedIn 34 = .ok (.iload_n 1, 1) := dk_27 (dk_at dksX4_isLivedIn_1 12 rfl rfl)
theorem dX4_isLivedIn_35 : decode cX4_isLivedIn 35 = .ok (.if_icmp .ne 18, 3) := dk_160 0 18 (dk_at dksX4_isLivedIn_1 13 rfl rfl)
theorem dX4_isLivedIn_38 : decode cX4_isLivedIn 38 = .ok (.aload_n 0, 1) := dk_42 (dk_at dksX4_isLivedIn_1 16 rfl rfl)
theorem dX4_isLivedIn_39 : decode cX4_isLivedIn 39 = .ok (.getfield 22, 3) := dk_180 0 22 (dk_at dksX4_isLivedIn_1 17 rfl rfl)
theorem dX4_isLivedIn_42 : decode cX4_isLivedIn 42 = .ok (.iload 4, 2) := dk_21 4 (dk_at dksX4_isLivedIn_1 20 rfl rfl)
theorem dX4_isLivedIn_44 : decode cX4_isLivedIn 44 = .ok (.iaload, 1) := dk_46 (dk_at dksX4_isLivedIn_1 22 rfl rfl)
theorem dX4_isLivedIn_45 : decode cX4_isLivedIn 45 = .ok (.iload_n 2, 1) := dk_28 (dk_at dksX4_isLivedIn_1 23 rfl rfl)
theorem dX4_isLivedIn_46 : decode cX4_isLivedIn 46 = .ok (.if_icmp .ne 7, 3) := dk_160 0 7 (dk_at dksX4_isLivedIn_2 0 rfl rfl)
theorem dX4_isLivedIn_49 : decode cX4_isLivedIn 49 = .ok (.iconst 1, 1) := dk_4 (dk_at dksX4_isLivedIn_2 3 rfl rfl)
theorem dX4_isLivedIn_50 : decode cX4_isLivedIn 50 = .ok (.goto 4, 3) := dk_167 0 4 (dk_at dksX4_isLivedIn_2 4 rfl rfl)
theorem dX4_isLivedIn_53 : decode cX4_isLivedIn 53 = .ok (.iconst 0, 1) := dk_3 (dk_at dksX4_isLivedIn_2 7 rfl rfl)
theorem dX4_isLivedIn_54 : decode cX4_isLivedIn 54 = .ok (.istore_n 3, 1) := dk_62 (dk_at dksX4_isLivedIn_2 8 rfl rfl)
theorem dX4_isLivedIn_55 : decode cX4_isLivedIn 55 = .ok (.iinc 4 1, 3) := dk_132 4 1 (dk_at dksX4_isLivedIn_2 9 rfl rfl)
theorem dX4_isLivedIn_58 : decode cX4_isLivedIn 58 = .ok (.goto (-53), 3) := dk_167 255 203 (dk_at dksX4_isLivedIn_2 12 rfl rfl)
theorem dX4_isLivedIn_61 : decode cX4_isLivedIn 61 = .ok (.iload_n 3, 1) := dk_29 (dk_at dksX4_isLivedIn_2 15 rfl rfl)
theorem dX4_isLivedIn_62 : decode cX4_isLivedIn 62 = .ok (.ireturn, 1) := dk_172 (dk_at dksX4_isLivedIn_2 16 rfl rfl)
theorem q132 : (Jvm.Cond.initialized "YearSkins$Village") ∈ lw_all := lw_g (lw_at lw_m1 7 rfl) rfl
theorem q246 : (Jvm.Cond.instantiable "YearSkins$Village" (10 : Nat)) ∈ lw_all := lw_g (lw_at lw_m1 121 rfl) rfl
theorem q248 : (Jvm.Cond.instanceMethod ({ cls := "YearSkins$Village", name := "<init>", desc := "()V" } : Jvm.MethodName)) ∈ lw_all := lw_g (lw_at lw_m1 123 rfl) rfl
theorem q249 : (Jvm.Cond.code ({ cls := "YearSkins$Village", name := "<init>", desc := "()V" } : Jvm.MethodName) prog_16_method_1_code (2 : Nat) (Option.none : Option Jvm.ClassFile.FieldType)) ∈ lw_all := lw_g (lw_at lw_m1 124 rfl) rfl
theorem q250 : (Jvm.Cond.methodLink "YearSkins$Village" (3 : Nat) ({ cls := "java/lang/Object", name := "<init>", desc := "()V" } : Jvm.MethodName)) ∈ lw_all := lw_g (lw_at lw_m1 125 rfl) rfl
theorem q251 : (Jvm.Cond.classLink "YearSkins$Village" (9 : Nat) "YearSkins$House") ∈ lw_all := lw_g (lw_at lw_m1 126 rfl) rfl
theorem q254 : (Jvm.Cond.methodLink "YearSkins$Village" (17 : Nat) ({ cls := "YearSkins$House", name := "<init>", desc := "()V" } : Jvm.MethodName)) ∈ lw_all := lw_g (lw_at lw_m1 129 rfl) rfl
theorem q309 : (Jvm.Cond.fieldLink "YearSkins$Village" (78 : Nat) "YearSkins$House" "site" "LYearSkins$Site;") ∈ lw_all := lw_g (lw_at lw_m1 184 rfl) rfl
theorem q313 : (Jvm.Cond.fieldLink "YearSkins$Village" (77 : Nat) "YearSkins$House" "many" "I") ∈ lw_all := lw_g (lw_at lw_m1 188 rfl) rfl
theorem q317 : (Jvm.Cond.fieldLink "YearSkins$Village" (156 : Nat) "YearSkins$House" "family" "I") ∈ lw_all := lw_g (lw_at lw_m1 192 rfl) rfl
theorem q320 : (Jvm.Cond.fieldLink "YearSkins$Village" (146 : Nat) "YearSkins$House" "gold" "I") ∈ lw_all := lw_g (lw_at lw_m1 195 rfl) rfl
theorem q333 : (Jvm.Cond.methodLink "YearSkins$Village" (29 : Nat) ({ cls := "YearSkins$Village", name := "straight", desc := "()V" } : Jvm.MethodName)) ∈ lw_all := lw_g (lw_at lw_m1 208 rfl) rfl
theorem q334 : (Jvm.Cond.instanceMethod ({ cls := "YearSkins$Village", name := "straight", desc := "()V" } : Jvm.MethodName)) ∈ lw_all := lw_g (lw_at lw_m1 209 rfl) rfl
theorem q335 : (Jvm.Cond.selects "YearSkins$Village" ({ cls := "YearSkins$Village", name := "straight", desc := "()V" } : Jvm.MethodName) ({ cls := "YearSkins$Village", name := "straight", desc := "()V" } : Jvm.MethodName)) ∈ lw_all := lw_g (lw_at lw_m1 210 rfl) rfl
theorem q336 : (Jvm.Cond.code ({ cls := "YearSkins$Village", name := "straight", desc := "()V" } : Jvm.MethodName) prog_16_method_5_code (2 : Nat) (Option.none : Option Jvm.ClassFile.FieldType)) ∈ lw_all := lw_g (lw_at lw_m1 211 rfl) rfl
theorem q337 : (Jvm.Cond.fieldLink "YearSkins$Village" (11 : Nat) "YearSkins$Village" "houses" "[LYearSkins$House;") ∈ lw_all := lw_g (lw_at lw_m1 212 rfl) rfl
theorem q338 : (Jvm.Cond.fieldLink "YearSkins$Village" (18 : Nat) "YearSkins$Village" "tried" "LYearSkins$House;") ∈ lw_all := lw_g (lw_at lw_m1 213 rfl) rfl
theorem q339 : (Jvm.Cond.fieldLink "YearSkins$Village" (22 : Nat) "YearSkins$Village" "depth" "[I") ∈ lw_all := lw_g (lw_at lw_m1 214 rfl) rfl
theorem q342 : (Jvm.Cond.fieldLink "YearSkins$Village" (26 : Nat) "YearSkins$Village" "order" "[I") ∈ lw_all := lw_g (lw_at lw_m1 217 rfl) rfl
theorem q344 : (Jvm.Cond.fieldLink "YearSkins$Village" (32 : Nat) "YearSkins$Village" "land" "LYearSkins$Land;") ∈ lw_all := lw_g (lw_at lw_m1 219 rfl) rfl
theorem q345 : (Jvm.Cond.fieldLink "YearSkins$Village" (36 : Nat) "YearSkins$Village" "many" "I") ∈ lw_all := lw_g (lw_at lw_m1 220 rfl) rfl
theorem q347 : (Jvm.Cond.fieldLink "YearSkins$Village" (40 : Nat) "YearSkins$Village" "year" "I") ∈ lw_all := lw_g (lw_at lw_m1 222 rfl) rfl
theorem q350 : (Jvm.Cond.fieldLink "YearSkins$Village" (43 : Nat) "YearSkins$Village" "seed" "I") ∈ lw_all := lw_g (lw_at lw_m1 225 rfl) rfl
theorem q352 : (Jvm.Cond.fieldLink "YearSkins$Village" (140 : Nat) "YearSkins$Village" "doorSide" "I") ∈ lw_all := lw_g (lw_at lw_m1 227 rfl) rfl
theorem q354 : (Jvm.Cond.fieldLink "YearSkins$Village" (143 : Nat) "YearSkins$Village" "doorOn" "I") ∈ lw_all := lw_g (lw_at lw_m1 229 rfl) rfl
theorem q356 : (Jvm.Cond.laysFinal "YearSkins$Village" "YearSkins$Village" "houses" "[LYearSkins$House;") ∈ lw_all := lw_g (lw_at lw_m1 231 rfl) rfl
theorem q357 : (Jvm.Cond.soleField "YearSkins$Village" "houses") ∈ lw_all := lw_g (lw_at lw_m1 232 rfl) rfl
theorem q358 : (Jvm.Cond.laysFinal "YearSkins$Village" "YearSkins$Village" "tried" "LYearSkins$House;") ∈ lw_all := lw_g (lw_at lw_m1 233 rfl) rfl
theorem q359 : (Jvm.Cond.soleField "YearSkins$Village" "tried") ∈ lw_all := lw_g (lw_at lw_m1 234 rfl) rfl
theorem q360 : (Jvm.Cond.laysFinal "YearSkins$Village" "YearSkins$Village" "depth" "[I") ∈ lw_all := lw_g (lw_at lw_m1 235 rfl) rfl
theorem q361 : (Jvm.Cond.soleField "YearSkins$Village" "depth") ∈ lw_all := lw_g (lw_at lw_m1 236 rfl) rfl
theorem q362 : (Jvm.Cond.laysFinal "YearSkins$Village" "YearSkins$Village" "order" "[I") ∈ lw_all := lw_g (lw_at lw_m1 237 rfl) rfl
theorem q363 : (Jvm.Cond.soleField "YearSkins$Village" "order") ∈ lw_all := lw_g (lw_at lw_m1 238 rfl) rfl
theorem q364 : (Jvm.Cond.lays "YearSkins$Village" "YearSkins$Village" "land" "LYearSkins$Land;") ∈ lw_all := lw_g (lw_at lw_m1 239 rfl) rfl
theorem q365 : (Jvm.Cond.soleField "YearSkins$Village" "land") ∈ lw_all := lw_g (lw_at lw_m2 0 rfl) rfl
theorem q366 : (Jvm.Cond.lays "YearSkins$Village" "YearSkins$Village" "many" "I") ∈ lw_all := lw_g (lw_at lw_m2 1 rfl) rfl
theorem q367 : (Jvm.Cond.soleField "YearSkins$Village" "many") ∈ lw_all := lw_g (lw_at lw_m2 2 rfl) rfl
theorem q368 : (Jvm.Cond.lays "YearSkins$Village" "YearSkins$Village" "year" "I") ∈ lw_all := lw_g (lw_at lw_m2 3 rfl) rfl
theorem q369 : (Jvm.Cond.soleField "YearSkins$Village" "year") ∈ lw_all := lw_g (lw_at lw_m2 4 rfl) rfl
theorem q370 : (Jvm.Cond.lays "YearSkins$Village" "YearSkins$Village" "seed" "I") ∈ lw_all := lw_g (lw_at lw_m2 5 rfl) rfl
theorem q371 : (Jvm.Cond.soleField "YearSkins$Village" "seed") ∈ lw_all := lw_g (lw_at lw_m2 6 rfl) rfl
theorem q372 : (Jvm.Cond.lays "YearSkins$Village" "YearSkins$Village" "doorSide" "I") ∈ lw_all := lw_g (lw_at lw_m2 7 rfl) rfl
theorem q373 : (Jvm.Cond.soleField "YearSkins$Village" "doorSide") ∈ lw_all := lw_g (lw_at lw_m2 8 rfl) rfl
theorem q374 : (Jvm.Cond.lays "YearSkins$Village" "YearSkins$Village" "doorOn" "I") ∈ lw_all := lw_g (lw_at lw_m2 9 rfl) rfl
theorem q375 : (Jvm.Cond.soleField "YearSkins$Village" "doorOn") ∈ lw_all := lw_g (lw_at lw_m2 10 rfl) rfl
theorem q376 : (Jvm.Cond.superclass "YearSkins$Village" "java/lang/Object") ∈ lw_all := lw_g (lw_at lw_m2 11 rfl) rfl
theorem q573 : (Jvm.Cond.fieldLink "YearSkins$Village" (202 : Nat) "YearSkins$Land" "heirs" "[LYearSkins$Heir;") ∈ lw_all := lw_g (lw_at lw_m2 208 rfl) rfl
theorem q582 : (Jvm.Cond.fieldLink "YearSkins$Village" (196 : Nat) "YearSkins$Land" "wide" "I") ∈ lw_all := lw_g (lw_at lw_m2 217 rfl) rfl
theorem q585 : (Jvm.Cond.fieldLink "YearSkins$Village" (193 : Nat) "YearSkins$Land" "high" "I") ∈ lw_all := lw_g (lw_at lw_m2 220 rfl) rfl
theorem q587 : (Jvm.Cond.fieldLink "YearSkins$Village" (171 : Nat) "YearSkins$Land" "births" "I") ∈ lw_all := lw_g (lw_at lw_m2 222 rfl) rfl
theorem q589 : (Jvm.Cond.fieldLink "YearSkins$Village" (177 : Nat) "YearSkins$Land" "fire" "I") ∈ lw_all := lw_g (lw_at lw_m2 224 rfl) rfl
theorem q591 : (Jvm.Cond.fieldLink "YearSkins$Village" (159 : Nat) "YearSkins$Land" "earns" "I") ∈ lw_all := lw_g (lw_at lw_m2 226 rfl) rfl
theorem q603 : (Jvm.Cond.fieldLink "YearSkins$Village" (199 : Nat) "YearSkins$Land" "heirMany" "I") ∈ lw_all := lw_g (lw_at lw_m2 238 rfl) rfl
theorem q612 : (Jvm.Cond.fieldLink "YearSkins$Village" (137 : Nat) "YearSkins$Land" "far" "Z") ∈ lw_all := lw_g (lw_at lw_m3 7 rfl) rfl
theorem q615 : (Jvm.Cond.fieldLink "YearSkins$Village" (70 : Nat) "YearSkins$Land" "share" "Z") ∈ lw_all := lw_g (lw_at lw_m3 10 rfl) rfl
theorem q665 : (Jvm.Cond.instanceMethod ({ cls := "YearSkins$Village", name := "begin", desc := "(LYearSkins$Land;I)V" } : Jvm.MethodName)) ∈ lw_all := lw_g (lw_at lw_m3 60 rfl) rfl
theorem q666 : (Jvm.Cond.selects "YearSkins$Village" ({ cls := "YearSkins$Village", name := "begin", desc := "(LYearSkins$Land;I)V" } : Jvm.MethodName) ({ cls := "YearSkins$Village", name := "begin", desc := "(LYearSkins$Land;I)V" } : Jvm.MethodName)) ∈ lw_all := lw_g (lw_at lw_m3 61 rfl) rfl
theorem q667 : (Jvm.Cond.code ({ cls := "YearSkins$Village", name := "begin", desc := "(LYearSkins$Land;I)V" } : Jvm.MethodName) prog_16_method_2_code (3 : Nat) (Option.none : Option Jvm.ClassFile.FieldType)) ∈ lw_all := lw_g (lw_at lw_m3 62 rfl) rfl
theorem q1020 : (Jvm.Cond.fieldLink "YearSkins$Village" (82 : Nat) "YearSkins$Site" "x" "I") ∈ lw_all := lw_g (lw_at lw_m4 175 rfl) rfl
theorem q1024 : (Jvm.Cond.fieldLink "YearSkins$Village" (92 : Nat) "YearSkins$Site" "y" "I") ∈ lw_all := lw_g (lw_at lw_m4 179 rfl) rfl
theorem q1027 : (Jvm.Cond.fieldLink "YearSkins$Village" (126 : Nat) "YearSkins$Site" "stone" "LYearSkins$Stone;") ∈ lw_all := lw_g (lw_at lw_m4 182 rfl) rfl
theorem q1041 : (Jvm.Cond.instanceMethod ({ cls := "YearSkins$Village", name := "whose", desc := "(II)I" } : Jvm.MethodName)) ∈ lw_all := lw_g (lw_at lw_m4 196 rfl) rfl
theorem q1042 : (Jvm.Cond.selects "YearSkins$Village" ({ cls := "YearSkins$Village", name := "whose", desc := "(II)I" } : Jvm.MethodName) ({ cls := "YearSkins$Village", name := "whose", desc := "(II)I" } : Jvm.MethodName)) ∈ lw_all := lw_g (lw_at lw_m4 197 rfl) rfl
theorem q1043 : (Jvm.Cond.code ({ cls := "YearSkins$Village", name := "whose", desc := "(II)I" } : Jvm.MethodName) prog_16_method_8_code (5 : Nat) (Option.some Jvm.ClassFile.FieldType.int)) ∈ lw_all := lw_g (lw_at lw_m4 198 rfl) rfl
theorem q1044 : (Jvm.Cond.methodLink "YearSkins$Village" (61 : Nat) ({ cls := "YearSkins$House", name := "has", desc := "(II)Z" } : Jvm.MethodName)) ∈ lw_all := lw_g (lw_at lw_m4 199 rfl) rfl
theorem q1071 : (Jvm.Cond.instanceMethod ({ cls := "YearSkins$Village", name := "add", desc := "(LYearSkins$Site;II)V" } : Jvm.MethodName)) ∈ lw_all := lw_g (lw_at lw_m4 226 rfl) rfl
theorem q1072 : (Jvm.Cond.selects "YearSkins$Village" ({ cls := "YearSkins$Village", name := "add", desc := "(LYearSkins$Site;II)V" } : Jvm.MethodName) ({ cls := "YearSkins$Village", name := "add", desc := "(LYearSkins$Site;II)V" } : Jvm.MethodName)) ∈ lw_all := lw_g (lw_at lw_m4 227 rfl) rfl
theorem q1073 : (Jvm.Cond.code ({ cls := "YearSkins$Village", name := "add", desc := "(LYearSkins$Site;II)V" } : Jvm.MethodName) prog_16_method_3_code (4 : Nat) (Option.none : Option Jvm.ClassFile.FieldType)) ∈ lw_all := lw_g (lw_at lw_m4 228 rfl) rfl
theorem q1074 : (Jvm.Cond.methodLink "YearSkins$Village" (46 : Nat) ({ cls := "YearSkins$House", name := "begin", desc := "(LYearSkins$Site;II)V" } : Jvm.MethodName)) ∈ lw_all := lw_g (lw_at lw_m4 229 rfl) rfl
theorem q1087 : (Jvm.Cond.instanceMethod ({ cls := "YearSkins$Village", name := "house", desc := "(I)LYearSkins$House;" } : Jvm.MethodName)) ∈ lw_all := lw_g (lw_at lw_m5 2 rfl) rfl
theorem q1088 : (Jvm.Cond.selects "YearSkins$Village" ({ cls := "YearSkins$Village", name := "house", desc := "(I)LYearSkins$House;" } : Jvm.MethodName) ({ cls := "YearSkins$Village", name := "house", desc := "(I)LYearSkins$House;" } : Jvm.MethodName)) ∈ lw_all := lw_g (lw_at lw_m5 3 rfl) rfl
theorem q1089 : (Jvm.Cond.code ({ cls := "YearSkins$Village", name := "house", desc := "(I)LYearSkins$House;" } : Jvm.MethodName) prog_16_method_6_code (2 : Nat) (Option.some (Jvm.ClassFile.FieldType.object "YearSkins$House"))) ∈ lw_all := lw_g (lw_at lw_m5 4 rfl) rfl
theorem q1091 : (Jvm.Cond.instanceMethod ({ cls := "YearSkins$Village", name := "fits", desc := "(I)Z" } : Jvm.MethodName)) ∈ lw_all := lw_g (lw_at lw_m5 6 rfl) rfl
theorem q1092 : (Jvm.Cond.selects "YearSkins$Village" ({ cls := "YearSkins$Village", name := "fits", desc := "(I)Z" } : Jvm.MethodName) ({ cls := "YearSkins$Village", name := "fits", desc := "(I)Z" } : Jvm.MethodName)) ∈ lw_all := lw_g (lw_at lw_m5 7 rfl) rfl
theorem q1093 : (Jvm.Cond.code ({ cls := "YearSkins$Village", name := "fits", desc := "(I)Z" } : Jvm.MethodName) prog_16_method_10_code (6 : Nat) (Option.some Jvm.ClassFile.FieldType.boolean)) ∈ lw_all := lw_g (lw_at lw_m5 8 rfl) rfl
theorem q1094 : (Jvm.Cond.methodLink "YearSkins$Village" (87 : Nat) ({ cls := "YearSkins$Ring", name := "x", desc := "(II)I" } : Jvm.MethodName)) ∈ lw_all := lw_g (lw_at lw_m5 9 rfl) rfl
theorem q1097 : (Jvm.Cond.methodLink "YearSkins$Village" (95 : Nat) ({ cls := "YearSkins$Ring", name := "y", desc := "(II)I" } : Jvm.MethodName)) ∈ lw_all := lw_g (lw_at lw_m5 12 rfl) rfl
theorem q1100 : (Jvm.Cond.methodLink "YearSkins$Village" (97 : Nat) ({ cls := "YearSkins$Village", name := "canHave", desc := "(III)Z" } : Jvm.MethodName)) ∈ lw_all := lw_g (lw_at lw_m5 15 rfl) rfl
theorem q1101 : (Jvm.Cond.privateMethod ({ cls := "YearSkins$Village", name := "canHave", desc := "(III)Z" } : Jvm.MethodName)) ∈ lw_tbl := lw_at lw_m5 16 rfl
theorem q1102 : (Jvm.Cond.instanceMethod ({ cls := "YearSkins$Village", name := "canHave", desc := "(III)Z" } : Jvm.MethodName)) ∈ lw_all := lw_g (lw_at lw_m5 17 rfl) rfl
theorem q1103 : (Jvm.Cond.code ({ cls := "YearSkins$Village", name := "canHave", desc := "(III)Z" } : Jvm.MethodName) prog_16_method_9_code (5 : Nat) (Option.some Jvm.ClassFile.FieldType.boolean)) ∈ lw_all := lw_g (lw_at lw_m5 18 rfl) rfl
theorem q1104 : (Jvm.Cond.methodLink "YearSkins$Village" (65 : Nat) ({ cls := "YearSkins$Land", name := "isGround", desc := "(II)Z" } : Jvm.MethodName)) ∈ lw_all := lw_g (lw_at lw_m5 19 rfl) rfl
theorem q1114 : (Jvm.Cond.methodLink "YearSkins$Village" (74 : Nat) ({ cls := "YearSkins$House", name := "isOutermost", desc := "(II)Z" } : Jvm.MethodName)) ∈ lw_all := lw_g (lw_at lw_m5 29 rfl) rfl
theorem q1142 : (Jvm.Cond.fieldLink "YearSkins$Village" (206 : Nat) "YearSkins$Heir" "house" "I") ∈ lw_all := lw_g (lw_at lw_m5 57 rfl) rfl
theorem q1200 : (Jvm.Cond.instanceMethod ({ cls := "YearSkins$Village", name := "become", desc := "(LYearSkins$Village;)V" } : Jvm.MethodName)) ∈ lw_all := lw_g (lw_at lw_m5 115 rfl) rfl
theorem q1201 : (Jvm.Cond.selects "YearSkins$Village" ({ cls := "YearSkins$Village", name := "become", desc := "(LYearSkins$Village;)V" } : Jvm.MethodName) ({ cls := "YearSkins$Village", name := "become", desc := "(LYearSkins$Village;)V" } : Jvm.MethodName)) ∈ lw_all := lw_g (lw_at lw_m5 116 rfl) rfl
theorem q1202 : (Jvm.Cond.code ({ cls := "YearSkins$Village", name := "become", desc := "(LYearSkins$Village;)V" } : Jvm.MethodName) prog_16_method_4_code (3 : Nat) (Option.none : Option Jvm.ClassFile.FieldType)) ∈ lw_all := lw_g (lw_at lw_m5 117 rfl) rfl
theorem q1203 : (Jvm.Cond.methodLink "YearSkins$Village" (50 : Nat) ({ cls := "YearSkins$House", name := "become", desc := "(LYearSkins$House;)V" } : Jvm.MethodName)) ∈ lw_all := lw_g (lw_at lw_m5 118 rfl) rfl
theorem q1211 : (Jvm.Cond.methodLink "YearSkins$Village" (54 : Nat) ({ cls := "java/lang/System", name := "arraycopy", desc := "(Ljava/lang/Object;ILjava/lang/Object;II)V" } : Jvm.MethodName)) ∈ lw_all := lw_g (lw_at lw_m5 126 rfl) rfl
theorem q1251 : (Jvm.Cond.instanceMethod ({ cls := "YearSkins$Village", name := "isShut", desc := "(I)Z" } : Jvm.MethodName)) ∈ lw_all := lw_g (lw_at lw_m5 166 rfl) rfl
theorem q1252 : (Jvm.Cond.selects "YearSkins$Village" ({ cls := "YearSkins$Village", name := "isShut", desc := "(I)Z" } : Jvm.MethodName) ({ cls := "YearSkins$Village", name := "isShut", desc := "(I)Z" } : Jvm.MethodName)) ∈ lw_all := lw_g (lw_at lw_m5 167 rfl) rfl
theorem q1253 : (Jvm.Cond.code ({ cls := "YearSkins$Village", name := "isShut", desc := "(I)Z" } : Jvm.MethodName) prog_16_method_12_code (6 : Nat) (Option.some Jvm.ClassFile.FieldType.boolean)) ∈ lw_all := lw_g (lw_at lw_m5 168 rfl) rfl
theorem q1254 : (Jvm.Cond.methodLink "YearSkins$Village" (107 : Nat) ({ cls := "YearSkins$House", name := "doorOf", desc := "(I)I" } : Jvm.MethodName)) ∈ lw_all := lw_g (lw_at lw_m5 169 rfl) rfl
theorem q1264 : (Jvm.Cond.methodLink "YearSkins$Village" (101 : Nat) ({ cls := "YearSkins$Ring", name := "front", desc := "(II)I" } : Jvm.MethodName)) ∈ lw_all := lw_g (lw_at lw_m5 179 rfl) rfl
theorem q1269 : (Jvm.Cond.methodLink "YearSkins$Village" (104 : Nat) ({ cls := "YearSkins$Village", name := "whose", desc := "(II)I" } : Jvm.MethodName)) ∈ lw_all := lw_g (lw_at lw_m5 184 rfl) rfl
theorem q1318 : (Jvm.Cond.instanceMethod ({ cls := "YearSkins$Village", name := "finds", desc := "(I)Z" } : Jvm.MethodName)) ∈ lw_all := lw_g (lw_at lw_m5 233 rfl) rfl
theorem q1319 : (Jvm.Cond.selects "YearSkins$Village" ({ cls := "YearSkins$Village", name := "finds", desc := "(I)Z" } : Jvm.MethodName) ({ cls := "YearSkins$Village", name := "finds", desc := "(I)Z" } : Jvm.MethodName)) ∈ lw_all := lw_g (lw_at lw_m5 234 rfl) rfl
theorem q1320 : (Jvm.Cond.code ({ cls := "YearSkins$Village", name := "finds", desc := "(I)Z" } : Jvm.MethodName) prog_16_method_14_code (7 : Nat) (Option.some Jvm.ClassFile.FieldType.boolean)) ∈ lw_all := lw_g (lw_at lw_m5 235 rfl) rfl
theorem q1321 : (Jvm.Cond.methodLink "YearSkins$Village" (119 : Nat) ({ cls := "YearSkins$Village", name := "fits", desc := "(I)Z" } : Jvm.MethodName)) ∈ lw_all := lw_g (lw_at lw_m5 236 rfl) rfl
theorem q1322 : (Jvm.Cond.methodLink "YearSkins$Village" (123 : Nat) ({ cls := "YearSkins$Village", name := "canDoor", desc := "(III)Z" } : Jvm.MethodName)) ∈ lw_all := lw_g (lw_at lw_m5 237 rfl) rfl
theorem q1323 : (Jvm.Cond.instanceMethod ({ cls := "YearSkins$Village", name := "canDoor", desc := "(III)Z" } : Jvm.MethodName)) ∈ lw_all := lw_g (lw_at lw_m5 238 rfl) rfl
theorem q1324 : (Jvm.Cond.selects "YearSkins$Village" ({ cls := "YearSkins$Village", name := "canDoor", desc := "(III)Z" } : Jvm.MethodName) ({ cls := "YearSkins$Village", name := "canDoor", desc := "(III)Z" } : Jvm.MethodName)) ∈ lw_all := lw_g (lw_at lw_m5 239 rfl) rfl
theorem q1325 : (Jvm.Cond.code ({ cls := "YearSkins$Village", name := "canDoor", desc := "(III)Z" } : Jvm.MethodName) prog_16_method_13_code (5 : Nat) (Option.some Jvm.ClassFile.FieldType.boolean)) ∈ lw_all := lw_g (lw_at lw_m6 0 rfl) rfl
theorem q1326 : (Jvm.Cond.methodLink "YearSkins$Village" (111 : Nat) ({ cls := "YearSkins$Ring", name := "door", desc := "(III)I" } : Jvm.MethodName)) ∈ lw_all := lw_g (lw_at lw_m6 1 rfl) rfl
theorem q1327 : (Jvm.Cond.methodLink "YearSkins$Village" (115 : Nat) ({ cls := "YearSkins$Village", name := "isFree", desc := "(LYearSkins$House;II)Z" } : Jvm.MethodName)) ∈ lw_all := lw_g (lw_at lw_m6 2 rfl) rfl
theorem q1328 : (Jvm.Cond.privateMethod ({ cls := "YearSkins$Village", name := "isFree", desc := "(LYearSkins$House;II)Z" } : Jvm.MethodName)) ∈ lw_tbl := lw_at lw_m6 3 rfl
theorem q1329 : (Jvm.Cond.instanceMethod ({ cls := "YearSkins$Village", name := "isFree", desc := "(LYearSkins$House;II)Z" } : Jvm.MethodName)) ∈ lw_all := lw_g (lw_at lw_m6 4 rfl) rfl
theorem q1330 : (Jvm.Cond.code ({ cls := "YearSkins$Village", name := "isFree", desc := "(LYearSkins$House;II)Z" } : Jvm.MethodName) prog_16_method_11_code (7 : Nat) (Option.some Jvm.ClassFile.FieldType.boolean)) ∈ lw_all := lw_g (lw_at lw_m6 5 rfl) rfl
theorem q1331 : (Jvm.Cond.methodLink "YearSkins$Village" (130 : Nat) ({ cls := "YearSkins$House", name := "build", desc := "(LYearSkins$Stone;IIII)V" } : Jvm.MethodName)) ∈ lw_all := lw_g (lw_at lw_m6 6 rfl) rfl
theorem q1332 : (Jvm.Cond.methodLink "YearSkins$Village" (134 : Nat) ({ cls := "YearSkins$House", name := "way", desc := "(I)I" } : Jvm.MethodName)) ∈ lw_all := lw_g (lw_at lw_m6 7 rfl) rfl
theorem q1440 : (Jvm.Cond.instanceMethod ({ cls := "YearSkins$Village", name := "goesOnFor", desc := "(I)V" } : Jvm.MethodName)) ∈ lw_all := lw_g (lw_at lw_m6 115 rfl) rfl
theorem q1441 : (Jvm.Cond.selects "YearSkins$Village" ({ cls := "YearSkins$Village", name := "goesOnFor", desc := "(I)V" } : Jvm.MethodName) ({ cls := "YearSkins$Village", name := "goesOnFor", desc := "(I)V" } : Jvm.MethodName)) ∈ lw_all := lw_g (lw_at lw_m6 116 rfl) rfl
theorem q1442 : (Jvm.Cond.code ({ cls := "YearSkins$Village", name := "goesOnFor", desc := "(I)V" } : Jvm.MethodName) prog_16_method_18_code (3 : Nat) (Option.none : Option Jvm.ClassFile.FieldType)) ∈ lw_all := lw_g (lw_at lw_m6 117 rfl) rfl
theorem q1443 : (Jvm.Cond.methodLink "YearSkins$Village" (190 : Nat) ({ cls := "YearSkins$Village", name := "goesOn", desc := "()V" } : Jvm.MethodName)) ∈ lw_all := lw_g (lw_at lw_m6 118 rfl) rfl
theorem q1444 : (Jvm.Cond.instanceMethod ({ cls := "YearSkins$Village", name := "goesOn", desc := "()V" } : Jvm.MethodName)) ∈ lw_all := lw_g (lw_at lw_m6 119 rfl) rfl
theorem q1445 : (Jvm.Cond.selects "YearSkins$Village" ({ cls := "YearSkins$Village", name := "goesOn", desc := "()V" } : Jvm.MethodName) ({ cls := "YearSkins$Village", name := "goesOn", desc := "()V" } : Jvm.MethodName)) ∈ lw_all := lw_g (lw_at lw_m6 120 rfl) rfl
theorem q1446 : (Jvm.Cond.code ({ cls := "YearSkins$Village", name := "goesOn", desc := "()V" } : Jvm.MethodName) prog_16_method_17_code (2 : Nat) (Option.none : Option Jvm.ClassFile.FieldType)) ∈ lw_all := lw_g (lw_at lw_m6 121 rfl) rfl
theorem q1447 : (Jvm.Cond.methodLink "YearSkins$Village" (187 : Nat) ({ cls := "YearSkins$Village", name := "lives", desc := "(I)V" } : Jvm.MethodName)) ∈ lw_all := lw_g (lw_at lw_m6 122 rfl) rfl
theorem q1448 : (Jvm.Cond.privateMethod ({ cls := "YearSkins$Village", name := "lives", desc := "(I)V" } : Jvm.MethodName)) ∈ lw_tbl := lw_at lw_m6 123 rfl
theorem q1449 : (Jvm.Cond.instanceMethod ({ cls := "YearSkins$Village", name := "lives", desc := "(I)V" } : Jvm.MethodName)) ∈ lw_all := lw_g (lw_at lw_m6 124 rfl) rfl
theorem q1450 : (Jvm.Cond.code ({ cls := "YearSkins$Village", name := "lives", desc := "(I)V" } : Jvm.MethodName) prog_16_method_16_code (3 : Nat) (Option.none : Option Jvm.ClassFile.FieldType)) ∈ lw_all := lw_g (lw_at lw_m6 125 rfl) rfl
theorem q1451 : (Jvm.Cond.methodLink "YearSkins$Village" (162 : Nat) ({ cls := "java/lang/Math", name := "min", desc := "(II)I" } : Jvm.MethodName)) ∈ lw_all := lw_g (lw_at lw_m6 126 rfl) rfl
theorem q1452 : (Jvm.Cond.methodLink "YearSkins$Village" (167 : Nat) ({ cls := "YearSkins$Village", name := "draw", desc := "()I" } : Jvm.MethodName)) ∈ lw_all := lw_g (lw_at lw_m6 127 rfl) rfl
theorem q1453 : (Jvm.Cond.instanceMethod ({ cls := "YearSkins$Village", name := "draw", desc := "()I" } : Jvm.MethodName)) ∈ lw_all := lw_g (lw_at lw_m6 128 rfl) rfl
theorem q1454 : (Jvm.Cond.selects "YearSkins$Village" ({ cls := "YearSkins$Village", name := "draw", desc := "()I" } : Jvm.MethodName) ({ cls := "YearSkins$Village", name := "draw", desc := "()I" } : Jvm.MethodName)) ∈ lw_all := lw_g (lw_at lw_m6 129 rfl) rfl
theorem q1455 : (Jvm.Cond.code ({ cls := "YearSkins$Village", name := "draw", desc := "()I" } : Jvm.MethodName) prog_16_method_7_code (1 : Nat) (Option.some Jvm.ClassFile.FieldType.int)) ∈ lw_all := lw_g (lw_at lw_m6 130 rfl) rfl
theorem q1456 : (Jvm.Cond.constant "YearSkins$Village" (60 : Nat) (65537 : Int32)) ∈ lw_all := lw_g (lw_at lw_m6 131 rfl) rfl
theorem q1457 : (Jvm.Cond.methodLink "YearSkins$Village" (174 : Nat) ({ cls := "YearSkins$House", name := "rots", desc := "()V" } : Jvm.MethodName)) ∈ lw_all := lw_g (lw_at lw_m6 132 rfl) rfl
theorem q1470 : (Jvm.Cond.methodLink "YearSkins$Village" (180 : Nat) ({ cls := "YearSkins$House", name := "burns", desc := "()V" } : Jvm.MethodName)) ∈ lw_all := lw_g (lw_at lw_m6 145 rfl) rfl
theorem q1483 : (Jvm.Cond.methodLink "YearSkins$Village" (183 : Nat) ({ cls := "YearSkins$Village", name := "grows", desc := "(I)V" } : Jvm.MethodName)) ∈ lw_all := lw_g (lw_at lw_m6 158 rfl) rfl
theorem q1484 : (Jvm.Cond.privateMethod ({ cls := "YearSkins$Village", name := "grows", desc := "(I)V" } : Jvm.MethodName)) ∈ lw_tbl := lw_at lw_m6 159 rfl
theorem q1485 : (Jvm.Cond.instanceMethod ({ cls := "YearSkins$Village", name := "grows", desc := "(I)V" } : Jvm.MethodName)) ∈ lw_all := lw_g (lw_at lw_m6 160 rfl) rfl
theorem q1486 : (Jvm.Cond.code ({ cls := "YearSkins$Village", name := "grows", desc := "(I)V" } : Jvm.MethodName) prog_16_method_15_code (3 : Nat) (Option.none : Option Jvm.ClassFile.FieldType)) ∈ lw_all := lw_g (lw_at lw_m6 161 rfl) rfl
theorem q1487 : (Jvm.Cond.methodLink "YearSkins$Village" (149 : Nat) ({ cls := "YearSkins$House", name := "costs", desc := "(LYearSkins$Stone;)I" } : Jvm.MethodName)) ∈ lw_all := lw_g (lw_at lw_m6 162 rfl) rfl
theorem q1488 : (Jvm.Cond.methodLink "YearSkins$Village" (153 : Nat) ({ cls := "YearSkins$Village", name := "finds", desc := "(I)Z" } : Jvm.MethodName)) ∈ lw_all := lw_g (lw_at lw_m6 163 rfl) rfl
theorem q1498 : (Jvm.Cond.instanceMethod ({ cls := "YearSkins$Village", name := "skins", desc := "()I" } : Jvm.MethodName)) ∈ lw_all := lw_g (lw_at lw_m6 173 rfl) rfl
theorem q1499 : (Jvm.Cond.selects "YearSkins$Village" ({ cls := "YearSkins$Village", name := "skins", desc := "()I" } : Jvm.MethodName) ({ cls := "YearSkins$Village", name := "skins", desc := "()I" } : Jvm.MethodName)) ∈ lw_all := lw_g (lw_at lw_m6 174 rfl) rfl
theorem q1500 : (Jvm.Cond.code ({ cls := "YearSkins$Village", name := "skins", desc := "()I" } : Jvm.MethodName) prog_16_method_19_code (3 : Nat) (Option.some Jvm.ClassFile.FieldType.int)) ∈ lw_all := lw_g (lw_at lw_m6 175 rfl) rfl
theorem q1506 : (Jvm.Cond.instanceMethod ({ cls := "YearSkins$Village", name := "doMeet", desc := "(II)Z" } : Jvm.MethodName)) ∈ lw_all := lw_g (lw_at lw_m6 181 rfl) rfl
theorem q1507 : (Jvm.Cond.selects "YearSkins$Village" ({ cls := "YearSkins$Village", name := "doMeet", desc := "(II)Z" } : Jvm.MethodName) ({ cls := "YearSkins$Village", name := "doMeet", desc := "(II)Z" } : Jvm.MethodName)) ∈ lw_all := lw_g (lw_at lw_m6 182 rfl) rfl
theorem q1508 : (Jvm.Cond.code ({ cls := "YearSkins$Village", name := "doMeet", desc := "(II)Z" } : Jvm.MethodName) prog_16_method_21_code (6 : Nat) (Option.some Jvm.ClassFile.FieldType.boolean)) ∈ lw_all := lw_g (lw_at lw_m6 183 rfl) rfl
theorem q1543 : (Jvm.Cond.instanceMethod ({ cls := "YearSkins$Village", name := "heads", desc := "()I" } : Jvm.MethodName)) ∈ lw_all := lw_g (lw_at lw_m6 218 rfl) rfl
theorem q1544 : (Jvm.Cond.selects "YearSkins$Village" ({ cls := "YearSkins$Village", name := "heads", desc := "()I" } : Jvm.MethodName) ({ cls := "YearSkins$Village", name := "heads", desc := "()I" } : Jvm.MethodName)) ∈ lw_all := lw_g (lw_at lw_m6 219 rfl) rfl
theorem q1545 : (Jvm.Cond.code ({ cls := "YearSkins$Village", name := "heads", desc := "()I" } : Jvm.MethodName) prog_16_method_20_code (3 : Nat) (Option.some Jvm.ClassFile.FieldType.int)) ∈ lw_all := lw_g (lw_at lw_m6 220 rfl) rfl
theorem q1562 : (Jvm.Cond.instanceMethod ({ cls := "YearSkins$Village", name := "isLivedIn", desc := "(II)Z" } : Jvm.MethodName)) ∈ lw_all := lw_g (lw_at lw_m6 237 rfl) rfl
theorem q1563 : (Jvm.Cond.selects "YearSkins$Village" ({ cls := "YearSkins$Village", name := "isLivedIn", desc := "(II)Z" } : Jvm.MethodName) ({ cls := "YearSkins$Village", name := "isLivedIn", desc := "(II)Z" } : Jvm.MethodName)) ∈ lw_all := lw_g (lw_at lw_m6 238 rfl) rfl
theorem q1564 : (Jvm.Cond.code ({ cls := "YearSkins$Village", name := "isLivedIn", desc := "(II)Z" } : Jvm.MethodName) prog_16_method_22_code (5 : Nat) (Option.some Jvm.ClassFile.FieldType.boolean)) ∈ lw_all := lw_g (lw_at lw_m6 239 rfl) rfl
theorem q2642 : (Jvm.Cond.castable "YearSkins$Village" "java/lang/Object") ∈ lw_tbl := lw_at lw_m11 117 rfl
theorem in_X4 : ∀ w ∈ wsX40, w ∈ lw_all := lw_in wsX40 [356, 358, 360, 362, 364, 366, 368, 370, 372, 374] (by decide +kernel) (by decide +kernel)
/-! YearSkins$House -/
set_option maxRecDepth 100000
def RX5 : String := "YearSkins$House"
def TX5 : u_T := fun k => match k with
  | 0 => ("YearSkins$House", "skins", "[LYearSkins$Skin;", true)
  | 1 => ("YearSkins$House", "site", "LYearSkins$Site;", false)
  | 2 => ("YearSkins$House", "many", "I", false)
  | 3 => ("YearSkins$House", "family", "I", false)
  | _ => ("YearSkins$House", "gold", "I", false)
def tyX5 : Nat → FieldType := fun k => match k with
  | 0 => .array (.object "YearSkins$Skin")
  | 1 => .object "YearSkins$Site"
  | 2 => .int
  | 3 => .int
  | _ => .int
abbrev wsX50 : List Cond := u_ws RX5 TX5 5
theorem nmX5 : ∀ a, a < 5 → ∀ b, b < 5 → a ≠ b → (TX5 a).2.1 ≠ (TX5 b).2.1 := by decide +kernel
theorem tyX5_ok : ∀ k, k < 5 → parseFieldDescriptor (TX5 k).2.2.1 = some (tyX5 k) := by decide +kernel
abbrev cX5_init : ByteArray := prog_4_method_1_code
def yX5_init : MethodName := ⟨RX5, "<init>", "()V"⟩
def dkwX5_init_1 : List UInt8 := [180, 0, 11, 27, 187, 0, 9, 89, 183, 0, 17, 83, 132, 1, 1, 167, 255, 234, 177]
abbrev dktX5_init_1 : List UInt8 := dkwX5_init_1 ++ []
def dkwX5_init_0 : List UInt8 := [42, 183, 0, 3, 42, 16, 6, 189, 0, 9, 181, 0, 11, 3, 60, 27, 16, 6, 162, 0, 22, 42]
abbrev dktX5_init_0 : List UInt8 := dkwX5_init_0 ++ dktX5_init_1
theorem dksX5_init_0 : cX5_init.data.toList.drop 0 = dktX5_init_0 := by decide +kernel
theorem dksX5_init_1 : cX5_init.data.toList.drop 22 = dktX5_init_1 := dk_seg dksX5_init_0 22 rfl rfl
theorem dX5_init_0 : decode cX5_init 0 = .ok (.aload_n 0, 1) := dk_42 (dk_at dksX5_init_0 0 rfl rfl)
theorem dX5_init_1 : decode cX5_init 1 = .ok (.invokespecial 3, 3) := dk_183 0 3 (dk_at dksX5_init_0 1 rfl rfl)
theorem dX5_init_4 : decode cX5_init 4 = .ok (.aload_n 0, 1) := dk_42 (dk_at dksX5_init_0 4 rfl rfl)
theorem dX5_init_5 : decode cX5_init 5 = .ok (.bipush 6, 2) := dk_16 6 (dk_at dksX5_init_0 5 rfl rfl)
theorem dX5_init_7 : decode cX5_init 7 = .ok (.anewarray 9, 3) := dk_189 0 9 (dk_at dksX5_init_0 7 rfl rfl)
theorem dX5_init_10 : decode cX5_init 10 = .ok (.putfield 11, 3) := dk_181 0 11 (dk_at dksX5_init_0 10 rfl rfl)
theorem dX5_init_13 : decode cX5_init 13 = .ok (.iconst 0, 1) := dk_3 (dk_at dksX5_init_0 13 rfl rfl)
theorem dX5_init_14 : decode cX5_init 14 = .ok (.istore_n 1, 1) := dk_60 (dk_at dksX5_init_0 14 rfl rfl)
theorem dX5_init_15 : decode cX5_init 15 = .ok (.iload_n 1, 1) := dk_27 (dk_at dksX5_init_0 15 rfl rfl)
theorem dX5_init_16 : decode cX5_init 16 = .ok (.bipush 6, 2) := dk_16 6 (dk_at dksX5_init_0 16 rfl rfl)
theorem dX5_init_18 : decode cX5_init 18 = .ok (.if_icmp .ge 22, 3) := dk_162 0 22 (dk_at dksX5_init_0 18 rfl rfl)
theorem dX5_init_21 : decode cX5_init 21 = .ok (.aload_n 0, 1) := dk_42 (dk_at dksX5_init_0 21 rfl rfl)
theorem dX5_init_22 : decode cX5_init 22 = .ok (.getfield 11, 3) := dk_180 0 11 (dk_at dksX5_init_1 0 rfl rfl)
theorem dX5_init_25 : decode cX5_init 25 = .ok (.iload_n 1, 1) := dk_27 (dk_at dksX5_init_1 3 rfl rfl)
theorem dX5_init_26 : decode cX5_init 26 = .ok (.new 9, 3) := dk_187 0 9 (dk_at dksX5_init_1 4 rfl rfl)
theorem dX5_init_29 : decode cX5_init 29 = .ok (.dup, 1) := dk_89 (dk_at dksX5_init_1 7 rfl rfl)
theorem dX5_init_30 : decode cX5_init 30 = .ok (.invokespecial 17, 3) := dk_183 0 17 (dk_at dksX5_init_1 8 rfl rfl)
theorem dX5_init_33 : decode cX5_init 33 = .ok (.aastore, 1) := dk_83 (dk_at dksX5_init_1 11 rfl rfl)
theorem dX5_init_34 : decode cX5_init 34 = .ok (.iinc 1 1, 3) := dk_132 1 1 (dk_at dksX5_init_1 12 rfl rfl)
theorem dX5_init_37 : decode cX5_init 37 = .ok (.goto (-22), 3) := dk_167 255 234 (dk_at dksX5_init_1 15 rfl rfl)
theorem dX5_init_40 : decode cX5_init 40 = .ok (.return_, 1) := dk_177 (dk_at dksX5_init_1 18 rfl rfl)
abbrev cX5_has : ByteArray := prog_4_method_6_code
def yX5_has : MethodName := ⟨RX5, "has", "(II)Z"⟩
def dkwX5_has_0 : List UInt8 := [42, 27, 28, 182, 0, 54, 42, 180, 0, 22, 163, 0, 7, 4, 167, 0, 4, 3, 172]
abbrev dktX5_has_0 : List UInt8 := dkwX5_has_0 ++ []
theorem dksX5_has_0 : cX5_has.data.toList.drop 0 = dktX5_has_0 := by decide +kernel
theorem dX5_has_0 : decode cX5_has 0 = .ok (.aload_n 0, 1) := dk_42 (dk_at dksX5_has_0 0 rfl rfl)
theorem dX5_has_1 : decode cX5_has 1 = .ok (.iload_n 1, 1) := dk_27 (dk_at dksX5_has_0 1 rfl rfl)
theorem dX5_has_2 : decode cX5_has 2 = .ok (.iload_n 2, 1) := dk_28 (dk_at dksX5_has_0 2 rfl rfl)
theorem dX5_has_3 : decode cX5_has 3 = .ok (.invokevirtual 54, 3) := dk_182 0 54 (dk_at dksX5_has_0 3 rfl rfl)
theorem dX5_has_6 : decode cX5_has 6 = .ok (.aload_n 0, 1) := dk_42 (dk_at dksX5_has_0 6 rfl rfl)
theorem dX5_has_7 : decode cX5_has 7 = .ok (.getfield 22, 3) := dk_180 0 22 (dk_at dksX5_has_0 7 rfl rfl)
theorem dX5_has_10 : decode cX5_has 10 = .ok (.if_icmp .gt 7, 3) := dk_163 0 7 (dk_at dksX5_has_0 10 rfl rfl)
theorem dX5_has_13 : decode cX5_has 13 = .ok (.iconst 1, 1) := dk_4 (dk_at dksX5_has_0 13 rfl rfl)
theorem dX5_has_14 : decode cX5_has 14 = .ok (.goto 4, 3) := dk_167 0 4 (dk_at dksX5_has_0 14 rfl rfl)
theorem dX5_has_17 : decode cX5_has 17 = .ok (.iconst 0, 1) := dk_3 (dk_at dksX5_has_0 17 rfl rfl)
theorem dX5_has_18 : decode cX5_has 18 = .ok (.ireturn, 1) := dk_172 (dk_at dksX5_has_0 18 rfl rfl)
abbrev cX5_far : ByteArray := prog_4_method_5_code
def yX5_far : MethodName := ⟨RX5, "far", "(II)I"⟩
def dkwX5_far_1 : List UInt8 := [184, 0, 50, 172]
abbrev dktX5_far_1 : List UInt8 := dkwX5_far_1 ++ []
def dkwX5_far_0 : List UInt8 := [27, 42, 180, 0, 18, 180, 0, 36, 100, 184, 0, 41, 28, 42, 180, 0, 18, 180, 0, 47, 100, 184, 0, 41]
abbrev dktX5_far_0 : List UInt8 := dkwX5_far_0 ++ dktX5_far_1
theorem dksX5_far_0 : cX5_far.data.toList.drop 0 = dktX5_far_0 := by decide +kernel
theorem dksX5_far_1 : cX5_far.data.toList.drop 24 = dktX5_far_1 := dk_seg dksX5_far_0 24 rfl rfl
theorem dX5_far_0 : decode cX5_far 0 = .ok (.iload_n 1, 1) := dk_27 (dk_at dksX5_far_0 0 rfl rfl)
theorem dX5_far_1 : decode cX5_far 1 = .ok (.aload_n 0, 1) := dk_42 (dk_at dksX5_far_0 1 rfl rfl)
theorem dX5_far_2 : decode cX5_far 2 = .ok (.getfield 18, 3) := dk_180 0 18 (dk_at dksX5_far_0 2 rfl rfl)
theorem dX5_far_5 : decode cX5_far 5 = .ok (.getfield 36, 3) := dk_180 0 36 (dk_at dksX5_far_0 5 rfl rfl)
theorem dX5_far_8 : decode cX5_far 8 = .ok (.isub, 1) := dk_100 (dk_at dksX5_far_0 8 rfl rfl)
theorem dX5_far_9 : decode cX5_far 9 = .ok (.invokestatic 41, 3) := dk_184 0 41 (dk_at dksX5_far_0 9 rfl rfl)
theorem dX5_far_12 : decode cX5_far 12 = .ok (.iload_n 2, 1) := dk_28 (dk_at dksX5_far_0 12 rfl rfl)
theorem dX5_far_13 : decode cX5_far 13 = .ok (.aload_n 0, 1) := dk_42 (dk_at dksX5_far_0 13 rfl rfl)
theorem dX5_far_14 : decode cX5_far 14 = .ok (.getfield 18, 3) := dk_180 0 18 (dk_at dksX5_far_0 14 rfl rfl)
theorem dX5_far_17 : decode cX5_far 17 = .ok (.getfield 47, 3) := dk_180 0 47 (dk_at dksX5_far_0 17 rfl rfl)
theorem dX5_far_20 : decode cX5_far 20 = .ok (.isub, 1) := dk_100 (dk_at dksX5_far_0 20 rfl rfl)
theorem dX5_far_21 : decode cX5_far 21 = .ok (.invokestatic 41, 3) := dk_184 0 41 (dk_at dksX5_far_0 21 rfl rfl)
theorem dX5_far_24 : decode cX5_far 24 = .ok (.invokestatic 50, 3) := dk_184 0 50 (dk_at dksX5_far_1 0 rfl rfl)
theorem dX5_far_27 : decode cX5_far 27 = .ok (.ireturn, 1) := dk_172 (dk_at dksX5_far_1 3 rfl rfl)
abbrev cX5_begin : ByteArray := prog_4_method_2_code
def yX5_begin : MethodName := ⟨RX5, "begin", "(LYearSkins$Site;II)V"⟩
def dkwX5_begin_0 : List UInt8 := [42, 43, 181, 0, 18, 42, 3, 181, 0, 22, 42, 28, 181, 0, 26, 42, 29, 181, 0, 29, 177]
abbrev dktX5_begin_0 : List UInt8 := dkwX5_begin_0 ++ []
theorem dksX5_begin_0 : cX5_begin.data.toList.drop 0 = dktX5_begin_0 := by decide +kernel
theorem dX5_begin_0 : decode cX5_begin 0 = .ok (.aload_n 0, 1) := dk_42 (dk_at dksX5_begin_0 0 rfl rfl)
theorem dX5_begin_1 : decode cX5_begin 1 = .ok (.aload_n 1, 1) := dk_43 (dk_at dksX5_begin_0 1 rfl rfl)
theorem dX5_begin_2 : decode cX5_begin 2 = .ok (.putfield 18, 3) := dk_181 0 18 (dk_at dksX5_begin_0 2 rfl rfl)
theorem dX5_begin_5 : decode cX5_begin 5 = .ok (.aload_n 0, 1) := dk_42 (dk_at dksX5_begin_0 5 rfl rfl)
theorem dX5_begin_6 : decode cX5_begin 6 = .ok (.iconst 0, 1) := dk_3 (dk_at dksX5_begin_0 6 rfl rfl)
theorem dX5_begin_7 : decode cX5_begin 7 = .ok (.putfield 22, 3) := dk_181 0 22 (dk_at dksX5_begin_0 7 rfl rfl)
theorem dX5_begin_10 : decode cX5_begin 10 = .ok (.aload_n 0, 1) := dk_42 (dk_at dksX5_begin_0 10 rfl rfl)
theorem dX5_begin_11 : decode cX5_begin 11 = .ok (.iload_n 2, 1) := dk_28 (dk_at dksX5_begin_0 11 rfl rfl)
theorem dX5_begin_12 : decode cX5_begin 12 = .ok (.putfield 26, 3) := dk_181 0 26 (dk_at dksX5_begin_0 12 rfl rfl)
theorem dX5_begin_15 : decode cX5_begin 15 = .ok (.aload_n 0, 1) := dk_42 (dk_at dksX5_begin_0 15 rfl rfl)
theorem dX5_begin_16 : decode cX5_begin 16 = .ok (.iload_n 3, 1) := dk_29 (dk_at dksX5_begin_0 16 rfl rfl)
theorem dX5_begin_17 : decode cX5_begin 17 = .ok (.putfield 29, 3) := dk_181 0 29 (dk_at dksX5_begin_0 17 rfl rfl)
theorem dX5_begin_20 : decode cX5_begin 20 = .ok (.return_, 1) := dk_177 (dk_at dksX5_begin_0 20 rfl rfl)
abbrev cX5_isOutermost : ByteArray := prog_4_method_7_code
def yX5_isOutermost : MethodName := ⟨RX5, "isOutermost", "(II)Z"⟩
def dkwX5_isOutermost_1 : List UInt8 := [3, 172]
abbrev dktX5_isOutermost_1 : List UInt8 := dkwX5_isOutermost_1 ++ []
def dkwX5_isOutermost_0 : List UInt8 := [42, 180, 0, 22, 158, 0, 20, 42, 27, 28, 182, 0, 54, 42, 180, 0, 22, 160, 0, 7, 4, 167, 0, 4]
abbrev dktX5_isOutermost_0 : List UInt8 := dkwX5_isOutermost_0 ++ dktX5_isOutermost_1
theorem dksX5_isOutermost_0 : cX5_isOutermost.data.toList.drop 0 = dktX5_isOutermost_0 := by decide +kernel
theorem dksX5_isOutermost_1 : cX5_isOutermost.data.toList.drop 24 = dktX5_isOutermost_1 := dk_seg dksX5_isOutermost_0 24 rfl rfl
theorem dX5_isOutermost_0 : decode cX5_isOutermost 0 = .ok (.aload_n 0, 1) := dk_42 (dk_at dksX5_isOutermost_0 0 rfl rfl)
theorem dX5_isOutermost_1 : decode cX5_isOutermost 1 = .ok (.getfield 22, 3) := dk_180 0 22 (dk_at dksX5_isOutermost_0 1 rfl rfl)
theorem dX5_isOutermost_4 : decode cX5_isOutermost 4 = .ok (.ifCond .le 20, 3) := dk_158 0 20 (dk_at dksX5_isOutermost_0 4 rfl rfl)
theorem dX5_isOutermost_7 : decode cX5_isOutermost 7 = .ok (.aload_n 0, 1) := dk_42 (dk_at dksX5_isOutermost_0 7 rfl rfl)
theorem dX5_isOutermost_8 : decode cX5_isOutermost 8 = .ok (.iload_n 1, 1) := dk_27 (dk_at dksX5_isOutermost_0 8 rfl rfl)
theorem dX5_isOutermost_9 : decode cX5_isOutermost 9 = .ok (.iload_n 2, 1) := dk_28 (dk_at dksX5_isOutermost_0 9 rfl rfl)
theorem dX5_isOutermost_10 : decode cX5_isOutermost 10 = .ok (.invokevirtual 54, 3) := dk_182 0 54 (dk_at dksX5_isOutermost_0 10 rfl rfl)
theorem dX5_isOutermost_13 : decode cX5_isOutermost 13 = .ok (.aload_n 0, 1) := dk_42 (dk_at dksX5_isOutermost_0 13 rfl rfl)
theorem dX5_isOutermost_14 : decode cX5_isOutermost 14 = .ok (.getfield 22, 3) := dk_180 0 22 (dk_at dksX5_isOutermost_0 14 rfl rfl)
theorem dX5_isOutermost_17 : decode cX5_isOutermost 17 = .ok (.if_icmp .ne 7, 3) := dk_160 0 7 (dk_at dksX5_isOutermost_0 17 rfl rfl)
theorem dX5_isOutermost_20 : decode cX5_isOutermost 20 = .ok (.iconst 1, 1) := dk_4 (dk_at dksX5_isOutermost_0 20 rfl rfl)
theorem dX5_isOutermost_21 : decode cX5_isOutermost 21 = .ok (.goto 4, 3) := dk_167 0 4 (dk_at dksX5_isOutermost_0 21 rfl rfl)
theorem dX5_isOutermost_24 : decode cX5_isOutermost 24 = .ok (.iconst 0, 1) := dk_3 (dk_at dksX5_isOutermost_1 0 rfl rfl)
theorem dX5_isOutermost_25 : decode cX5_isOutermost 25 = .ok (.ireturn, 1) := dk_172 (dk_at dksX5_isOutermost_1 1 rfl rfl)
abbrev cX5_build : ByteArray := prog_4_method_15_code
def yX5_build : MethodName := ⟨RX5, "build", "(LYearSkins$Stone;IIII)V"⟩
def dkwX5_build_2 : List UInt8 := [3, 181, 0, 107, 25, 6, 21, 5, 181, 0, 110, 25, 6, 3, 181, 0, 88, 25, 6, 3, 181, 0, 113, 177]
abbrev dktX5_build_2 : List UInt8 := dkwX5_build_2 ++ []
def dkwX5_build_1 : List UInt8 := [181, 0, 92, 25, 6, 28, 181, 0, 61, 25, 6, 29, 181, 0, 64, 25, 6, 21, 4, 181, 0, 104, 25, 6]
abbrev dktX5_build_1 : List UInt8 := dkwX5_build_1 ++ dktX5_build_2
def dkwX5_build_0 : List UInt8 := [42, 89, 180, 0, 22, 4, 96, 181, 0, 22, 42, 42, 180, 0, 22, 182, 0, 57, 58, 6, 25, 6, 43]
abbrev dktX5_build_0 : List UInt8 := dkwX5_build_0 ++ dktX5_build_1
theorem dksX5_build_0 : cX5_build.data.toList.drop 0 = dktX5_build_0 := by decide +kernel
theorem dksX5_build_1 : cX5_build.data.toList.drop 23 = dktX5_build_1 := dk_seg dksX5_build_0 23 rfl rfl
theorem dksX5_build_2 : cX5_build.data.toList.drop 47 = dktX5_build_2 := dk_seg dksX5_build_1 24 rfl rfl
theorem dX5_build_0 : decode cX5_build 0 = .ok (.aload_n 0, 1) := dk_42 (dk_at dksX5_build_0 0 rfl rfl)
theorem dX5_build_1 : decode cX5_build 1 = .ok (.dup, 1) := dk_89 (dk_at dksX5_build_0 1 rfl rfl)
theorem dX5_build_2 : decode cX5_build 2 = .ok (.getfield 22, 3) := dk_180 0 22 (dk_at dksX5_build_0 2 rfl rfl)
theorem dX5_build_5 : decode cX5_build 5 = .ok (.iconst 1, 1) := dk_4 (dk_at dksX5_build_0 5 rfl rfl)
theorem dX5_build_6 : decode cX5_build 6 = .ok (.iadd, 1) := dk_96 (dk_at dksX5_build_0 6 rfl rfl)
theorem dX5_build_7 : decode cX5_build 7 = .ok (.putfield 22, 3) := dk_181 0 22 (dk_at dksX5_build_0 7 rfl rfl)
theorem dX5_build_10 : decode cX5_build 10 = .ok (.aload_n 0, 1) := dk_42 (dk_at dksX5_build_0 10 rfl rfl)
theorem dX5_build_11 : decode cX5_build 11 = .ok (.aload_n 0, 1) := dk_42 (dk_at dksX5_build_0 11 rfl rfl)
theorem dX5_build_12 : decode cX5_build 12 = .ok (.getfield 22, 3) := dk_180 0 22 (dk_at dksX5_build_0 12 rfl rfl)
theorem dX5_build_15 : decode cX5_build 15 = .ok (.invokevirtual 57, 3) := dk_182 0 57 (dk_at dksX5_build_0 15 rfl rfl)
theorem dX5_build_18 : decode cX5_build 18 = .ok (.astore 6, 2) := dk_58 6 (dk_at dksX5_build_0 18 rfl rfl)
theorem dX5_build_20 : decode cX5_build 20 = .ok (.aload 6, 2) := dk_25 6 (dk_at dksX5_build_0 20 rfl rfl)
theorem dX5_build_22 : decode cX5_build 22 = .ok (.aload_n 1, 1) := dk_43 (dk_at dksX5_build_0 22 rfl rfl)
theorem dX5_build_23 : decode cX5_build 23 = .ok (.putfield 92, 3) := dk_181 0 92 (dk_at dksX5_build_1 0 rfl rfl)
theorem dX5_build_26 : decode cX5_build 26 = .ok (.aload 6, 2) := dk_25 6 (dk_at dksX5_build_1 3 rfl rfl)
theorem dX5_build_28 : decode cX5_build 28 = .ok (.iload_n 2, 1) := dk_28 (dk_at dksX5_build_1 5 rfl rfl)
theorem dX5_build_29 : decode cX5_build 29 = .ok (.putfield 61, 3) := dk_181 0 61 (dk_at dksX5_build_1 6 rfl rfl)
theorem dX5_build_32 : decode cX5_build 32 = .ok (.aload 6, 2) := dk_25 6 (dk_at dksX5_build_1 9 rfl rfl)
theorem dX5_build_34 : decode cX5_build 34 = .ok (.iload_n 3, 1) := dk_29 (dk_at dksX5_build_1 11 rfl rfl)
theorem dX5_build_35 : decode cX5_build 35 = .ok (.putfield 64, 3) := dk_181 0 64 (dk_at dksX5_build_1 12 rfl rfl)
theorem dX5_build_38 : decode cX5_build 38 = .ok (.aload 6, 2) := dk_25 6 (dk_at dksX5_build_1 15 rfl rfl)
theorem dX5_build_40 : decode cX5_build 40 = .ok (.iload 4, 2) := dk_21 4 (dk_at dksX5_build_1 17 rfl rfl)
theorem dX5_build_42 : decode cX5_build 42 = .ok (.putfield 104, 3) := dk_181 0 104 (dk_at dksX5_build_1 19 rfl rfl)
theorem dX5_build_45 : decode cX5_build 45 = .ok (.aload 6, 2) := dk_25 6 (dk_at dksX5_build_1 22 rfl rfl)
theorem dX5_build_47 : decode cX5_build 47 = .ok (.iconst 0, 1) := dk_3 (dk_at dksX5_build_2 0 rfl rfl)
theorem dX5_build_48 : decode cX5_build 48 = .ok (.putfield 107, 3) := dk_181 0 107 (dk_at dksX5_build_2 1 rfl rfl)
theorem dX5_build_51 : decode cX5_build 51 = .ok (.aload 6, 2) := dk_25 6 (dk_at dksX5_build_2 4 rfl rfl)
theorem dX5_build_53 : decode cX5_build 53 = .ok (.iload 5, 2) := dk_21 5 (dk_at dksX5_build_2 6 rfl rfl)
theorem dX5_build_55 : decode cX5_build 55 = .ok (.putfield 110, 3) := dk_181 0 110 (dk_at dksX5_build_2 8 rfl rfl)
theorem dX5_build_58 : decode cX5_build 58 = .ok (.aload 6, 2) := dk_25 6 (dk_at dksX5_build_2 11 rfl rfl)
theorem dX5_build_60 : decode cX5_build 60 = .ok (.iconst 0, 1) := dk_3 (dk_at dksX5_build_2 13 rfl rfl)
theorem dX5_build_61 : decode cX5_build 61 = .ok (.putfield 88, 3) := dk_181 0 88 (dk_at dksX5_build_2 14 rfl rfl)
theorem dX5_build_64 : decode cX5_build 64 = .ok (.aload 6, 2) := dk_25 6 (dk_at dksX5_build_2 17 rfl rfl)
theorem dX5_build_66 : decode cX5_build 66 = .ok (.iconst 0, 1) := dk_3 (dk_at dksX5_build_2 19 rfl rfl)
theorem dX5_build_67 : decode cX5_build 67 = .ok (.putfield 113, 3) := dk_181 0 113 (dk_at dksX5_build_2 20 rfl rfl)
theorem dX5_build_70 : decode cX5_build 70 = .ok (.return_, 1) := dk_177 (dk_at dksX5_build_2 23 rfl rfl)
abbrev cX5_skin : ByteArray := prog_4_method_4_code
def yX5_skin : MethodName := ⟨RX5, "skin", "(I)LYearSkins$Skin;"⟩
def dkwX5_skin_0 : List UInt8 := [42, 180, 0, 11, 27, 4, 100, 50, 176]
abbrev dktX5_skin_0 : List UInt8 := dkwX5_skin_0 ++ []
theorem dksX5_skin_0 : cX5_skin.data.toList.drop 0 = dktX5_skin_0 := by decide +kernel
theorem dX5_skin_0 : decode cX5_skin 0 = .ok (.aload_n 0, 1) := dk_42 (dk_at dksX5_skin_0 0 rfl rfl)
theorem dX5_skin_1 : decode cX5_skin 1 = .ok (.getfield 11, 3) := dk_180 0 11 (dk_at dksX5_skin_0 1 rfl rfl)
theorem dX5_skin_4 : decode cX5_skin 4 = .ok (.iload_n 1, 1) := dk_27 (dk_at dksX5_skin_0 4 rfl rfl)
theorem dX5_skin_5 : decode cX5_skin 5 = .ok (.iconst 1, 1) := dk_4 (dk_at dksX5_skin_0 5 rfl rfl)
theorem dX5_skin_6 : decode cX5_skin 6 = .ok (.isub, 1) := dk_100 (dk_at dksX5_skin_0 6 rfl rfl)
theorem dX5_skin_7 : decode cX5_skin 7 = .ok (.aaload, 1) := dk_50 (dk_at dksX5_skin_0 7 rfl rfl)
theorem dX5_skin_8 : decode cX5_skin 8 = .ok (.areturn, 1) := dk_176 (dk_at dksX5_skin_0 8 rfl rfl)
abbrev cX5_become : ByteArray := prog_4_method_3_code
def yX5_become : MethodName := ⟨RX5, "become", "(LYearSkins$House;)V"⟩
def dkwX5_become_2 : List UInt8 := [43, 180, 0, 11, 28, 50, 182, 0, 32, 132, 2, 1, 167, 255, 230, 177]
abbrev dktX5_become_2 : List UInt8 := dkwX5_become_2 ++ []
def dkwX5_become_1 : List UInt8 := [42, 43, 180, 0, 29, 181, 0, 29, 3, 61, 28, 42, 180, 0, 22, 162, 0, 24, 42, 180, 0, 11, 28, 50]
abbrev dktX5_become_1 : List UInt8 := dkwX5_become_1 ++ dktX5_become_2
def dkwX5_become_0 : List UInt8 := [42, 43, 180, 0, 18, 181, 0, 18, 42, 43, 180, 0, 22, 181, 0, 22, 42, 43, 180, 0, 26, 181, 0, 26]
abbrev dktX5_become_0 : List UInt8 := dkwX5_become_0 ++ dktX5_become_1
theorem dksX5_become_0 : cX5_become.data.toList.drop 0 = dktX5_become_0 := by decide +kernel
theorem dksX5_become_1 : cX5_become.data.toList.drop 24 = dktX5_become_1 := dk_seg dksX5_become_0 24 rfl rfl
theorem dksX5_become_2 : cX5_become.data.toList.drop 48 = dktX5_become_2 := dk_seg dksX5_become_1 24 rfl rfl
theorem dX5_become_0 : decode cX5_become 0 = .ok (.aload_n 0, 1) := dk_42 (dk_at dksX5_become_0 0 rfl rfl)
theorem dX5_become_1 : decode cX5_become 1 = .ok (.aload_n 1, 1) := dk_43 (dk_at dksX5_become_0 1 rfl rfl)
theorem dX5_become_2 : decode cX5_become 2 = .ok (.getfield 18, 3) := dk_180 0 18 (dk_at dksX5_become_0 2 rfl rfl)
theorem dX5_become_5 : decode cX5_become 5 = .ok (.putfield 18, 3) := dk_181 0 18 (dk_at dksX5_become_0 5 rfl rfl)
theorem dX5_become_8 : decode cX5_become 8 = .ok (.aload_n 0, 1) := dk_42 (dk_at dksX5_become_0 8 rfl rfl)
theorem dX5_become_9 : decode cX5_become 9 = .ok (.aload_n 1, 1) := dk_43 (dk_at dksX5_become_0 9 rfl rfl)
theorem dX5_become_10 : decode cX5_become 10 = .ok (.getfield 22, 3) := dk_180 0 22 (dk_at dksX5_become_0 10 rfl rfl)
theorem dX5_become_13 : decode cX5_become 13 = .ok (.putfield 22, 3) := dk_181 0 22 (dk_at dksX5_become_0 13 rfl rfl)
theorem dX5_become_16 : decode cX5_become 16 = .ok (.aload_n 0, 1) := dk_42 (dk_at dksX5_become_0 16 rfl rfl)
theorem dX5_become_17 : decode cX5_become 17 = .ok (.aload_n 1, 1) := dk_43 (dk_at dksX5_become_0 17 rfl rfl)
theorem dX5_become_18 : decode cX5_become 18 = .ok (.getfield 26, 3) := dk_180 0 26 (dk_at dksX5_become_0 18 rfl rfl)
theorem dX5_become_21 : decode cX5_become 21 = .ok (.putfield 26, 3) := dk_181 0 26 (dk_at dksX5_become_0 21 rfl rfl)
theorem dX5_become_24 : decode cX5_become 24 = .ok (.aload_n 0, 1) := dk_42 (dk_at dksX5_become_1 0 rfl rfl)
theorem dX5_become_25 : decode cX5_become 25 = .ok (.aload_n 1, 1) := dk_43 (dk_at dksX5_become_1 1 rfl rfl)
theorem dX5_become_26 : decode cX5_become 26 = .ok (.getfield 29, 3) := dk_180 0 29 (dk_at dksX5_become_1 2 rfl rfl)
theorem dX5_become_29 : decode cX5_become 29 = .ok (.putfield 29, 3) := dk_181 0 29 (dk_at dksX5_become_1 5 rfl rfl)
theorem dX5_become_32 : decode cX5_become 32 = .ok (.iconst 0, 1) := dk_3 (dk_at dksX5_become_1 8 rfl rfl)
theorem dX5_become_33 : decode cX5_become 33 = .ok (.istore_n 2, 1) := dk_61 (dk_at dksX5_become_1 9 rfl rfl)
theorem dX5_become_34 : decode cX5_become 34 = .ok (.iload_n 2, 1) := dk_28 (dk_at dksX5_become_1 10 rfl rfl)
theorem dX5_become_35 : decode cX5_become 35 = .ok (.aload_n 0, 1) := dk_42 (dk_at dksX5_become_1 11 rfl rfl)
theorem dX5_become_36 : decode cX5_become 36 = .ok (.getfield 22, 3) := dk_180 0 22 (dk_at dksX5_become_1 12 rfl rfl)
theorem dX5_become_39 : decode cX5_become 39 = .ok (.if_icmp .ge 24, 3) := dk_162 0 24 (dk_at dksX5_become_1 15 rfl rfl)
theorem dX5_become_42 : decode cX5_become 42 = .ok (.aload_n 0, 1) := dk_42 (dk_at dksX5_become_1 18 rfl rfl)
theorem dX5_become_43 : decode cX5_become 43 = .ok (.getfield 11, 3) := dk_180 0 11 (dk_at dksX5_become_1 19 rfl rfl)
theorem dX5_become_46 : decode cX5_become 46 = .ok (.iload_n 2, 1) := dk_28 (dk_at dksX5_become_1 22 rfl rfl)
theorem dX5_become_47 : decode cX5_become 47 = .ok (.aaload, 1) := dk_50 (dk_at dksX5_become_1 23 rfl rfl)
theorem dX5_become_48 : decode cX5_become 48 = .ok (.aload_n 1, 1) := dk_43 (dk_at dksX5_become_2 0 rfl rfl)
theorem dX5_become_49 : decode cX5_become 49 = .ok (.getfield 11, 3) := dk_180 0 11 (dk_at dksX5_become_2 1 rfl rfl)
theorem dX5_become_52 : decode cX5_become 52 = .ok (.iload_n 2, 1) := dk_28 (dk_at dksX5_become_2 4 rfl rfl)
theorem dX5_become_53 : decode cX5_become 53 = .ok (.aaload, 1) := dk_50 (dk_at dksX5_become_2 5 rfl rfl)
theorem dX5_become_54 : decode cX5_become 54 = .ok (.invokevirtual 32, 3) := dk_182 0 32 (dk_at dksX5_become_2 6 rfl rfl)
theorem dX5_become_57 : decode cX5_become 57 = .ok (.iinc 2 1, 3) := dk_132 2 1 (dk_at dksX5_become_2 9 rfl rfl)
theorem dX5_become_60 : decode cX5_become 60 = .ok (.goto (-26), 3) := dk_167 255 230 (dk_at dksX5_become_2 12 rfl rfl)
theorem dX5_become_63 : decode cX5_become 63 = .ok (.return_, 1) := dk_177 (dk_at dksX5_become_2 15 rfl rfl)
abbrev cX5_doorOf : ByteArray := prog_4_method_8_code
def yX5_doorOf : MethodName := ⟨RX5, "doorOf", "(I)I"⟩
def dkwX5_doorOf_0 : List UInt8 := [27, 42, 27, 182, 0, 57, 180, 0, 61, 42, 27, 182, 0, 57, 180, 0, 64, 184, 0, 67, 172]
abbrev dktX5_doorOf_0 : List UInt8 := dkwX5_doorOf_0 ++ []
theorem dksX5_doorOf_0 : cX5_doorOf.data.toList.drop 0 = dktX5_doorOf_0 := by decide +kernel
theorem dX5_doorOf_0 : decode cX5_doorOf 0 = .ok (.iload_n 1, 1) := dk_27 (dk_at dksX5_doorOf_0 0 rfl rfl)
theorem dX5_doorOf_1 : decode cX5_doorOf 1 = .ok (.aload_n 0, 1) := dk_42 (dk_at dksX5_doorOf_0 1 rfl rfl)
theorem dX5_doorOf_2 : decode cX5_doorOf 2 = .ok (.iload_n 1, 1) := dk_27 (dk_at dksX5_doorOf_0 2 rfl rfl)
theorem dX5_doorOf_3 : decode cX5_doorOf 3 = .ok (.invokevirtual 57, 3) := dk_182 0 57 (dk_at dksX5_doorOf_0 3 rfl rfl)
theorem dX5_doorOf_6 : decode cX5_doorOf 6 = .ok (.getfield 61, 3) := dk_180 0 61 (dk_at dksX5_doorOf_0 6 rfl rfl)
theorem dX5_doorOf_9 : decode cX5_doorOf 9 = .ok (.aload_n 0, 1) := dk_42 (dk_at dksX5_doorOf_0 9 rfl rfl)
theorem dX5_doorOf_10 : decode cX5_doorOf 10 = .ok (.iload_n 1, 1) := dk_27 (dk_at dksX5_doorOf_0 10 rfl rfl)
theorem dX5_doorOf_11 : decode cX5_doorOf 11 = .ok (.invokevirtual 57, 3) := dk_182 0 57 (dk_at dksX5_doorOf_0 11 rfl rfl)
theorem dX5_doorOf_14 : decode cX5_doorOf 14 = .ok (.getfield 64, 3) := dk_180 0 64 (dk_at dksX5_doorOf_0 14 rfl rfl)
theorem dX5_doorOf_17 : decode cX5_doorOf 17 = .ok (.invokestatic 67, 3) := dk_184 0 67 (dk_at dksX5_doorOf_0 17 rfl rfl)
theorem dX5_doorOf_20 : decode cX5_doorOf 20 = .ok (.ireturn, 1) := dk_172 (dk_at dksX5_doorOf_0 20 rfl rfl)
abbrev cX5_isCrowded : ByteArray := prog_4_method_13_code
def yX5_isCrowded : MethodName := ⟨RX5, "isCrowded", "()Z"⟩
def dkwX5_isCrowded_1 : List UInt8 := [164, 0, 7, 4, 167, 0, 4, 3, 172]
abbrev dktX5_isCrowded_1 : List UInt8 := dkwX5_isCrowded_1 ++ []
def dkwX5_isCrowded_0 : List UInt8 := [42, 180, 0, 26, 42, 180, 0, 22, 154, 0, 7, 4, 167, 0, 10, 16, 8, 42, 180, 0, 22, 104]
abbrev dktX5_isCrowded_0 : List UInt8 := dkwX5_isCrowded_0 ++ dktX5_isCrowded_1
theorem dksX5_isCrowded_0 : cX5_isCrowded.data.toList.drop 0 = dktX5_isCrowded_0 := by decide +kernel
theorem dksX5_isCrowded_1 : cX5_isCrowded.data.toList.drop 22 = dktX5_isCrowded_1 := dk_seg dksX5_isCrowded_0 22 rfl rfl
theorem dX5_isCrowded_0 : decode cX5_isCrowded 0 = .ok (.aload_n 0, 1) := dk_42 (dk_at dksX5_isCrowded_0 0 rfl rfl)
theorem dX5_isCrowded_1 : decode cX5_isCrowded 1 = .ok (.getfield 26, 3) := dk_180 0 26 (dk_at dksX5_isCrowded_0 1 rfl rfl)
theorem dX5_isCrowded_4 : decode cX5_isCrowded 4 = .ok (.aload_n 0, 1) := dk_42 (dk_at dksX5_isCrowded_0 4 rfl rfl)
theorem dX5_isCrowded_5 : decode cX5_isCrowded 5 = .ok (.getfield 22, 3) := dk_180 0 22 (dk_at dksX5_isCrowded_0 5 rfl rfl)
theorem dX5_isCrowded_8 : decode cX5_isCrowded 8 = .ok (.ifCond .ne 7, 3) := dk_154 0 7 (dk_at dksX5_isCrowded_0 8 rfl rfl)
theorem dX5_isCrowded_11 : decode cX5_isCrowded 11 = .ok (.iconst 1, 1) := dk_4 (dk_at dksX5_isCrowded_0 11 rfl rfl)
theorem dX5_isCrowded_12 : decode cX5_isCrowded 12 = .ok (.goto 10, 3) := dk_167 0 10 (dk_at dksX5_isCrowded_0 12 rfl rfl)
theorem dX5_isCrowded_15 : decode cX5_isCrowded 15 = .ok (.bipush 8, 2) := dk_16 8 (dk_at dksX5_isCrowded_0 15 rfl rfl)
theorem dX5_isCrowded_17 : decode cX5_isCrowded 17 = .ok (.aload_n 0, 1) := dk_42 (dk_at dksX5_isCrowded_0 17 rfl rfl)
theorem dX5_isCrowded_18 : decode cX5_isCrowded 18 = .ok (.getfield 22, 3) := dk_180 0 22 (dk_at dksX5_isCrowded_0 18 rfl rfl)
theorem dX5_isCrowded_21 : decode cX5_isCrowded 21 = .ok (.imul, 1) := dk_104 (dk_at dksX5_isCrowded_0 21 rfl rfl)
theorem dX5_isCrowded_22 : decode cX5_isCrowded 22 = .ok (.if_icmp .le 7, 3) := dk_164 0 7 (dk_at dksX5_isCrowded_1 0 rfl rfl)
theorem dX5_isCrowded_25 : decode cX5_isCrowded 25 = .ok (.iconst 1, 1) := dk_4 (dk_at dksX5_isCrowded_1 3 rfl rfl)
theorem dX5_isCrowded_26 : decode cX5_isCrowded 26 = .ok (.goto 4, 3) := dk_167 0 4 (dk_at dksX5_isCrowded_1 4 rfl rfl)
theorem dX5_isCrowded_29 : decode cX5_isCrowded 29 = .ok (.iconst 0, 1) := dk_3 (dk_at dksX5_isCrowded_1 7 rfl rfl)
theorem dX5_isCrowded_30 : decode cX5_isCrowded 30 = .ok (.ireturn, 1) := dk_172 (dk_at dksX5_isCrowded_1 8 rfl rfl)
abbrev cX5_warm : ByteArray := prog_4_method_12_code
def yX5_warm : MethodName := ⟨RX5, "warm", "(I)I"⟩
def dkwX5_warm_2 : List UInt8 := [132, 3, 1, 167, 255, 216, 28, 172]
abbrev dktX5_warm_2 : List UInt8 := dkwX5_warm_2 ++ []
def dkwX5_warm_1 : List UInt8 := [180, 0, 88, 153, 0, 7, 3, 167, 0, 14, 42, 29, 182, 0, 57, 180, 0, 92, 180, 0, 96, 96, 61]
abbrev dktX5_warm_1 : List UInt8 := dkwX5_warm_1 ++ dktX5_warm_2
def dkwX5_warm_0 : List UInt8 := [3, 61, 4, 27, 184, 0, 50, 62, 29, 42, 180, 0, 22, 163, 0, 38, 28, 42, 29, 182, 0, 57]
abbrev dktX5_warm_0 : List UInt8 := dkwX5_warm_0 ++ dktX5_warm_1
theorem dksX5_warm_0 : cX5_warm.data.toList.drop 0 = dktX5_warm_0 := by decide +kernel
theorem dksX5_warm_1 : cX5_warm.data.toList.drop 22 = dktX5_warm_1 := dk_seg dksX5_warm_0 22 rfl rfl
theorem dksX5_warm_2 : cX5_warm.data.toList.drop 45 = dktX5_warm_2 := dk_seg dksX5_warm_1 23 rfl rfl
theorem dX5_warm_0 : decode cX5_warm 0 = .ok (.iconst 0, 1) := dk_3 (dk_at dksX5_warm_0 0 rfl rfl)
theorem dX5_warm_1 : decode cX5_warm 1 = .ok (.istore_n 2, 1) := dk_61 (dk_at dksX5_warm_0 1 rfl rfl)
theorem dX5_warm_2 : decode cX5_warm 2 = .ok (.iconst 1, 1) := dk_4 (dk_at dksX5_warm_0 2 rfl rfl)
theorem dX5_warm_3 : decode cX5_warm 3 = .ok (.iload_n 1, 1) := dk_27 (dk_at dksX5_warm_0 3 rfl rfl)
theorem dX5_warm_4 : decode cX5_warm 4 = .ok (.invokestatic 50, 3) := dk_184 0 50 (dk_at dksX5_warm_0 4 rfl rfl)
theorem dX5_warm_7 : decode cX5_warm 7 = .ok (.istore_n 3, 1) := dk_62 (dk_at dksX5_warm_0 7 rfl rfl)
theorem dX5_warm_8 : decode cX5_warm 8 = .ok (.iload_n 3, 1) := dk_29 (dk_at dksX5_warm_0 8 rfl rfl)
theorem dX5_warm_9 : decode cX5_warm 9 = .ok (.aload_n 0, 1) := dk_42 (dk_at dksX5_warm_0 9 rfl rfl)
theorem dX5_warm_10 : decode cX5_warm 10 = .ok (.getfield 22, 3) := dk_180 0 22 (dk_at dksX5_warm_0 10 rfl rfl)
theorem dX5_warm_13 : decode cX5_warm 13 = .ok (.if_icmp .gt 38, 3) := dk_163 0 38 (dk_at dksX5_warm_0 13 rfl rfl)
theorem dX5_warm_16 : decode cX5_warm 16 = .ok (.iload_n 2, 1) := dk_28 (dk_at dksX5_warm_0 16 rfl rfl)
theorem dX5_warm_17 : decode cX5_warm 17 = .ok (.aload_n 0, 1) := dk_42 (dk_at dksX5_warm_0 17 rfl rfl)
theorem dX5_warm_18 : decode cX5_warm 18 = .ok (.iload_n 3, 1) := dk_29 (dk_at dksX5_warm_0 18 rfl rfl)
theorem dX5_warm_19 : decode cX5_warm 19 = .ok (.invokevirtual 57, 3) := dk_182 0 57 (dk_at dksX5_warm_0 19 rfl rfl)
theorem dX5_warm_22 : decode cX5_warm 22 = .ok (.getfield 88, 3) := dk_180 0 88 (dk_at dksX5_warm_1 0 rfl rfl)
theorem dX5_warm_25 : decode cX5_warm 25 = .ok (.ifCond .eq 7, 3) := dk_153 0 7 (dk_at dksX5_warm_1 3 rfl rfl)
theorem dX5_warm_28 : decode cX5_warm 28 = .ok (.iconst 0, 1) := dk_3 (dk_at dksX5_warm_1 6 rfl rfl)
theorem dX5_warm_29 : decode cX5_warm 29 = .ok (.goto 14, 3) := dk_167 0 14 (dk_at dksX5_warm_1 7 rfl rfl)
theorem dX5_warm_32 : decode cX5_warm 32 = .ok (.aload_n 0, 1) := dk_42 (dk_at dksX5_warm_1 10 rfl rfl)
theorem dX5_warm_33 : decode cX5_warm 33 = .ok (.iload_n 3, 1) := dk_29 (dk_at dksX5_warm_1 11 rfl rfl)
theorem dX5_warm_34 : decode cX5_warm 34 = .ok (.invokevirtual 57, 3) := dk_182 0 57 (dk_at dksX5_warm_1 12 rfl rfl)
theorem dX5_warm_37 : decode cX5_warm 37 = .ok (.getfield 92, 3) := dk_180 0 92 (dk_at dksX5_warm_1 15 rfl rfl)
theorem dX5_warm_40 : decode cX5_warm 40 = .ok (.getfield 96, 3) := dk_180 0 96 (dk_at dksX5_warm_1 18 rfl rfl)
theorem dX5_warm_43 : decode cX5_warm 43 = .ok (.iadd, 1) := dk_96 (dk_at dksX5_warm_1 21 rfl rfl)
theorem dX5_warm_44 : decode cX5_warm 44 = .ok (.istore_n 2, 1) := dk_61 (dk_at dksX5_warm_1 22 rfl rfl)
theorem dX5_warm_45 : decode cX5_warm 45 = .ok (.iinc 3 1, 3) := dk_132 3 1 (dk_at dksX5_warm_2 0 rfl rfl)
theorem dX5_warm_48 : decode cX5_warm 48 = .ok (.goto (-40), 3) := dk_167 255 216 (dk_at dksX5_warm_2 3 rfl rfl)
theorem dX5_warm_51 : decode cX5_warm 51 = .ok (.iload_n 2, 1) := dk_28 (dk_at dksX5_warm_2 6 rfl rfl)
theorem dX5_warm_52 : decode cX5_warm 52 = .ok (.ireturn, 1) := dk_172 (dk_at dksX5_warm_2 7 rfl rfl)
abbrev cX5_way : ByteArray := prog_4_method_10_code
def yX5_way : MethodName := ⟨RX5, "way", "(I)I"⟩
def dkwX5_way_2 : List UInt8 := [154, 0, 16, 42, 180, 0, 22, 158, 0, 9, 28, 4, 96, 167, 0, 4, 28, 172]
abbrev dktX5_way_2 : List UInt8 := dkwX5_way_2 ++ []
def dkwX5_way_1 : List UInt8 := [4, 164, 0, 11, 42, 29, 182, 0, 82, 167, 0, 4, 3, 96, 96, 61, 132, 3, 255, 167, 255, 220, 27]
abbrev dktX5_way_1 : List UInt8 := dkwX5_way_1 ++ dktX5_way_2
def dkwX5_way_0 : List UInt8 := [3, 61, 42, 180, 0, 22, 62, 29, 27, 161, 0, 37, 29, 158, 0, 33, 28, 4, 29, 27, 164, 0, 16, 29]
abbrev dktX5_way_0 : List UInt8 := dkwX5_way_0 ++ dktX5_way_1
theorem dksX5_way_0 : cX5_way.data.toList.drop 0 = dktX5_way_0 := by decide +kernel
theorem dksX5_way_1 : cX5_way.data.toList.drop 24 = dktX5_way_1 := dk_seg dksX5_way_0 24 rfl rfl
theorem dksX5_way_2 : cX5_way.data.toList.drop 47 = dktX5_way_2 := dk_seg dksX5_way_1 23 rfl rfl
theorem dX5_way_0 : decode cX5_way 0 = .ok (.iconst 0, 1) := dk_3 (dk_at dksX5_way_0 0 rfl rfl)
theorem dX5_way_1 : decode cX5_way 1 = .ok (.istore_n 2, 1) := dk_61 (dk_at dksX5_way_0 1 rfl rfl)
theorem dX5_way_2 : decode cX5_way 2 = .ok (.aload_n 0, 1) := dk_42 (dk_at dksX5_way_0 2 rfl rfl)
theorem dX5_way_3 : decode cX5_way 3 = .ok (.getfield 22, 3) := dk_180 0 22 (dk_at dksX5_way_0 3 rfl rfl)
theorem dX5_way_6 : decode cX5_way 6 = .ok (.istore_n 3, 1) := dk_62 (dk_at dksX5_way_0 6 rfl rfl)
theorem dX5_way_7 : decode cX5_way 7 = .ok (.iload_n 3, 1) := dk_29 (dk_at dksX5_way_0 7 rfl rfl)
theorem dX5_way_8 : decode cX5_way 8 = .ok (.iload_n 1, 1) := dk_27 (dk_at dksX5_way_0 8 rfl rfl)
theorem dX5_way_9 : decode cX5_way 9 = .ok (.if_icmp .lt 37, 3) := dk_161 0 37 (dk_at dksX5_way_0 9 rfl rfl)
theorem dX5_way_12 : decode cX5_way 12 = .ok (.iload_n 3, 1) := dk_29 (dk_at dksX5_way_0 12 rfl rfl)
theorem dX5_way_13 : decode cX5_way 13 = .ok (.ifCond .le 33, 3) := dk_158 0 33 (dk_at dksX5_way_0 13 rfl rfl)
theorem dX5_way_16 : decode cX5_way 16 = .ok (.iload_n 2, 1) := dk_28 (dk_at dksX5_way_0 16 rfl rfl)
theorem dX5_way_17 : decode cX5_way 17 = .ok (.iconst 1, 1) := dk_4 (dk_at dksX5_way_0 17 rfl rfl)
theorem dX5_way_18 : decode cX5_way 18 = .ok (.iload_n 3, 1) := dk_29 (dk_at dksX5_way_0 18 rfl rfl)
theorem dX5_way_19 : decode cX5_way 19 = .ok (.iload_n 1, 1) := dk_27 (dk_at dksX5_way_0 19 rfl rfl)
theorem dX5_way_20 : decode cX5_way 20 = .ok (.if_icmp .le 16, 3) := dk_164 0 16 (dk_at dksX5_way_0 20 rfl rfl)
theorem dX5_way_23 : decode cX5_way 23 = .ok (.iload_n 3, 1) := dk_29 (dk_at dksX5_way_0 23 rfl rfl)
theorem dX5_way_24 : decode cX5_way 24 = .ok (.iconst 1, 1) := dk_4 (dk_at dksX5_way_1 0 rfl rfl)
theorem dX5_way_25 : decode cX5_way 25 = .ok (.if_icmp .le 11, 3) := dk_164 0 11 (dk_at dksX5_way_1 1 rfl rfl)
theorem dX5_way_28 : decode cX5_way 28 = .ok (.aload_n 0, 1) := dk_42 (dk_at dksX5_way_1 4 rfl rfl)
theorem dX5_way_29 : decode cX5_way 29 = .ok (.iload_n 3, 1) := dk_29 (dk_at dksX5_way_1 5 rfl rfl)
theorem dX5_way_30 : decode cX5_way 30 = .ok (.invokevirtual 82, 3) := dk_182 0 82 (dk_at dksX5_way_1 6 rfl rfl)
theorem dX5_way_33 : decode cX5_way 33 = .ok (.goto 4, 3) := dk_167 0 4 (dk_at dksX5_way_1 9 rfl rfl)
theorem dX5_way_36 : decode cX5_way 36 = .ok (.iconst 0, 1) := dk_3 (dk_at dksX5_way_1 12 rfl rfl)
theorem dX5_way_37 : decode cX5_way 37 = .ok (.iadd, 1) := dk_96 (dk_at dksX5_way_1 13 rfl rfl)
theorem dX5_way_38 : decode cX5_way 38 = .ok (.iadd, 1) := dk_96 (dk_at dksX5_way_1 14 rfl rfl)
theorem dX5_way_39 : decode cX5_way 39 = .ok (.istore_n 2, 1) := dk_61 (dk_at dksX5_way_1 15 rfl rfl)
theorem dX5_way_40 : decode cX5_way 40 = .ok (.iinc 3 (-1), 3) := dk_132 3 255 (dk_at dksX5_way_1 16 rfl rfl)
theorem dX5_way_43 : decode cX5_way 43 = .ok (.goto (-36), 3) := dk_167 255 220 (dk_at dksX5_way_1 19 rfl rfl)
theorem dX5_way_46 : decode cX5_way 46 = .ok (.iload_n 1, 1) := dk_27 (dk_at dksX5_way_1 22 rfl rfl)
theorem dX5_way_47 : decode cX5_way 47 = .ok (.ifCond .ne 16, 3) := dk_154 0 16 (dk_at dksX5_way_2 0 rfl rfl)
theorem dX5_way_50 : decode cX5_way 50 = .ok (.aload_n 0, 1) := dk_42 (dk_at dksX5_way_2 3 rfl rfl)
theorem dX5_way_51 : decode cX5_way 51 = .ok (.getfield 22, 3) := dk_180 0 22 (dk_at dksX5_way_2 4 rfl rfl)
theorem dX5_way_54 : decode cX5_way 54 = .ok (.ifCond .le 9, 3) := dk_158 0 9 (dk_at dksX5_way_2 7 rfl rfl)
theorem dX5_way_57 : decode cX5_way 57 = .ok (.iload_n 2, 1) := dk_28 (dk_at dksX5_way_2 10 rfl rfl)
theorem dX5_way_58 : decode cX5_way 58 = .ok (.iconst 1, 1) := dk_4 (dk_at dksX5_way_2 11 rfl rfl)
theorem dX5_way_59 : decode cX5_way 59 = .ok (.iadd, 1) := dk_96 (dk_at dksX5_way_2 12 rfl rfl)
theorem dX5_way_60 : decode cX5_way 60 = .ok (.goto 4, 3) := dk_167 0 4 (dk_at dksX5_way_2 13 rfl rfl)
theorem dX5_way_63 : decode cX5_way 63 = .ok (.iload_n 2, 1) := dk_28 (dk_at dksX5_way_2 16 rfl rfl)
theorem dX5_way_64 : decode cX5_way 64 = .ok (.ireturn, 1) := dk_172 (dk_at dksX5_way_2 17 rfl rfl)
abbrev cX5_round : ByteArray := prog_4_method_9_code
def yX5_round : MethodName := ⟨RX5, "round", "(I)I"⟩
def dkwX5_round_0 : List UInt8 := [27, 42, 27, 182, 0, 73, 27, 4, 100, 42, 27, 4, 100, 182, 0, 73, 184, 0, 76, 184, 0, 79, 172]
abbrev dktX5_round_0 : List UInt8 := dkwX5_round_0 ++ []
theorem dksX5_round_0 : cX5_round.data.toList.drop 0 = dktX5_round_0 := by decide +kernel
theorem dX5_round_0 : decode cX5_round 0 = .ok (.iload_n 1, 1) := dk_27 (dk_at dksX5_round_0 0 rfl rfl)
theorem dX5_round_1 : decode cX5_round 1 = .ok (.aload_n 0, 1) := dk_42 (dk_at dksX5_round_0 1 rfl rfl)
theorem dX5_round_2 : decode cX5_round 2 = .ok (.iload_n 1, 1) := dk_27 (dk_at dksX5_round_0 2 rfl rfl)
theorem dX5_round_3 : decode cX5_round 3 = .ok (.invokevirtual 73, 3) := dk_182 0 73 (dk_at dksX5_round_0 3 rfl rfl)
theorem dX5_round_6 : decode cX5_round 6 = .ok (.iload_n 1, 1) := dk_27 (dk_at dksX5_round_0 6 rfl rfl)
theorem dX5_round_7 : decode cX5_round 7 = .ok (.iconst 1, 1) := dk_4 (dk_at dksX5_round_0 7 rfl rfl)
theorem dX5_round_8 : decode cX5_round 8 = .ok (.isub, 1) := dk_100 (dk_at dksX5_round_0 8 rfl rfl)
theorem dX5_round_9 : decode cX5_round 9 = .ok (.aload_n 0, 1) := dk_42 (dk_at dksX5_round_0 9 rfl rfl)
theorem dX5_round_10 : decode cX5_round 10 = .ok (.iload_n 1, 1) := dk_27 (dk_at dksX5_round_0 10 rfl rfl)
theorem dX5_round_11 : decode cX5_round 11 = .ok (.iconst 1, 1) := dk_4 (dk_at dksX5_round_0 11 rfl rfl)
theorem dX5_round_12 : decode cX5_round 12 = .ok (.isub, 1) := dk_100 (dk_at dksX5_round_0 12 rfl rfl)
theorem dX5_round_13 : decode cX5_round 13 = .ok (.invokevirtual 73, 3) := dk_182 0 73 (dk_at dksX5_round_0 13 rfl rfl)
theorem dX5_round_16 : decode cX5_round 16 = .ok (.invokestatic 76, 3) := dk_184 0 76 (dk_at dksX5_round_0 16 rfl rfl)
theorem dX5_round_19 : decode cX5_round 19 = .ok (.invokestatic 79, 3) := dk_184 0 79 (dk_at dksX5_round_0 19 rfl rfl)
theorem dX5_round_22 : decode cX5_round 22 = .ok (.ireturn, 1) := dk_172 (dk_at dksX5_round_0 22 rfl rfl)
abbrev cX5_costs : ByteArray := prog_4_method_14_code
def yX5_costs : MethodName := ⟨RX5, "costs", "(LYearSkins$Stone;)I"⟩
def dkwX5_costs_0 : List UInt8 := [43, 180, 0, 101, 16, 8, 104, 42, 180, 0, 22, 4, 96, 104, 172]
abbrev dktX5_costs_0 : List UInt8 := dkwX5_costs_0 ++ []
theorem dksX5_costs_0 : cX5_costs.data.toList.drop 0 = dktX5_costs_0 := by decide +kernel
theorem dX5_costs_0 : decode cX5_costs 0 = .ok (.aload_n 1, 1) := dk_43 (dk_at dksX5_costs_0 0 rfl rfl)
theorem dX5_costs_1 : decode cX5_costs 1 = .ok (.getfield 101, 3) := dk_180 0 101 (dk_at dksX5_costs_0 1 rfl rfl)
theorem dX5_costs_4 : decode cX5_costs 4 = .ok (.bipush 8, 2) := dk_16 8 (dk_at dksX5_costs_0 4 rfl rfl)
theorem dX5_costs_6 : decode cX5_costs 6 = .ok (.imul, 1) := dk_104 (dk_at dksX5_costs_0 6 rfl rfl)
theorem dX5_costs_7 : decode cX5_costs 7 = .ok (.aload_n 0, 1) := dk_42 (dk_at dksX5_costs_0 7 rfl rfl)
theorem dX5_costs_8 : decode cX5_costs 8 = .ok (.getfield 22, 3) := dk_180 0 22 (dk_at dksX5_costs_0 8 rfl rfl)
theorem dX5_costs_11 : decode cX5_costs 11 = .ok (.iconst 1, 1) := dk_4 (dk_at dksX5_costs_0 11 rfl rfl)
theorem dX5_costs_12 : decode cX5_costs 12 = .ok (.iadd, 1) := dk_96 (dk_at dksX5_costs_0 12 rfl rfl)
theorem dX5_costs_13 : decode cX5_costs 13 = .ok (.imul, 1) := dk_104 (dk_at dksX5_costs_0 13 rfl rfl)
theorem dX5_costs_14 : decode cX5_costs 14 = .ok (.ireturn, 1) := dk_172 (dk_at dksX5_costs_0 14 rfl rfl)
abbrev cX5_isOpenTo : ByteArray := prog_4_method_11_code
def yX5_isOpenTo : MethodName := ⟨RX5, "isOpenTo", "(I)Z"⟩
def dkwX5_isOpenTo_1 : List UInt8 := [182, 0, 57, 182, 0, 84, 153, 0, 7, 4, 167, 0, 4, 3, 61, 132, 3, 255, 167, 255, 223, 28, 172]
abbrev dktX5_isOpenTo_1 : List UInt8 := dkwX5_isOpenTo_1 ++ []
def dkwX5_isOpenTo_0 : List UInt8 := [4, 61, 42, 180, 0, 22, 62, 29, 27, 161, 0, 34, 29, 158, 0, 30, 28, 153, 0, 18, 42, 29]
abbrev dktX5_isOpenTo_0 : List UInt8 := dkwX5_isOpenTo_0 ++ dktX5_isOpenTo_1
theorem dksX5_isOpenTo_0 : cX5_isOpenTo.data.toList.drop 0 = dktX5_isOpenTo_0 := by decide +kernel
theorem dksX5_isOpenTo_1 : cX5_isOpenTo.data.toList.drop 22 = dktX5_isOpenTo_1 := dk_seg dksX5_isOpenTo_0 22 rfl rfl
theorem dX5_isOpenTo_0 : decode cX5_isOpenTo 0 = .ok (.iconst 1, 1) := dk_4 (dk_at dksX5_isOpenTo_0 0 rfl rfl)
theorem dX5_isOpenTo_1 : decode cX5_isOpenTo 1 = .ok (.istore_n 2, 1) := dk_61 (dk_at dksX5_isOpenTo_0 1 rfl rfl)
theorem dX5_isOpenTo_2 : decode cX5_isOpenTo 2 = .ok (.aload_n 0, 1) := dk_42 (dk_at dksX5_isOpenTo_0 2 rfl rfl)
theorem dX5_isOpenTo_3 : decode cX5_isOpenTo 3 = .ok (.getfield 22, 3) := dk_180 0 22 (dk_at dksX5_isOpenTo_0 3 rfl rfl)
theorem dX5_isOpenTo_6 : decode cX5_isOpenTo 6 = .ok (.istore_n 3, 1) := dk_62 (dk_at dksX5_isOpenTo_0 6 rfl rfl)
theorem dX5_isOpenTo_7 : decode cX5_isOpenTo 7 = .ok (.iload_n 3, 1) := dk_29 (dk_at dksX5_isOpenTo_0 7 rfl rfl)
theorem dX5_isOpenTo_8 : decode cX5_isOpenTo 8 = .ok (.iload_n 1, 1) := dk_27 (dk_at dksX5_isOpenTo_0 8 rfl rfl)
theorem dX5_isOpenTo_9 : decode cX5_isOpenTo 9 = .ok (.if_icmp .lt 34, 3) := dk_161 0 34 (dk_at dksX5_isOpenTo_0 9 rfl rfl)
theorem dX5_isOpenTo_12 : decode cX5_isOpenTo 12 = .ok (.iload_n 3, 1) := dk_29 (dk_at dksX5_isOpenTo_0 12 rfl rfl)
theorem dX5_isOpenTo_13 : decode cX5_isOpenTo 13 = .ok (.ifCond .le 30, 3) := dk_158 0 30 (dk_at dksX5_isOpenTo_0 13 rfl rfl)
theorem dX5_isOpenTo_16 : decode cX5_isOpenTo 16 = .ok (.iload_n 2, 1) := dk_28 (dk_at dksX5_isOpenTo_0 16 rfl rfl)
theorem dX5_isOpenTo_17 : decode cX5_isOpenTo 17 = .ok (.ifCond .eq 18, 3) := dk_153 0 18 (dk_at dksX5_isOpenTo_0 17 rfl rfl)
theorem dX5_isOpenTo_20 : decode cX5_isOpenTo 20 = .ok (.aload_n 0, 1) := dk_42 (dk_at dksX5_isOpenTo_0 20 rfl rfl)
theorem dX5_isOpenTo_21 : decode cX5_isOpenTo 21 = .ok (.iload_n 3, 1) := dk_29 (dk_at dksX5_isOpenTo_0 21 rfl rfl)
theorem dX5_isOpenTo_22 : decode cX5_isOpenTo 22 = .ok (.invokevirtual 57, 3) := dk_182 0 57 (dk_at dksX5_isOpenTo_1 0 rfl rfl)
theorem dX5_isOpenTo_25 : decode cX5_isOpenTo 25 = .ok (.invokevirtual 84, 3) := dk_182 0 84 (dk_at dksX5_isOpenTo_1 3 rfl rfl)
theorem dX5_isOpenTo_28 : decode cX5_isOpenTo 28 = .ok (.ifCond .eq 7, 3) := dk_153 0 7 (dk_at dksX5_isOpenTo_1 6 rfl rfl)
theorem dX5_isOpenTo_31 : decode cX5_isOpenTo 31 = .ok (.iconst 1, 1) := dk_4 (dk_at dksX5_isOpenTo_1 9 rfl rfl)
theorem dX5_isOpenTo_32 : decode cX5_isOpenTo 32 = .ok (.goto 4, 3) := dk_167 0 4 (dk_at dksX5_isOpenTo_1 10 rfl rfl)
theorem dX5_isOpenTo_35 : decode cX5_isOpenTo 35 = .ok (.iconst 0, 1) := dk_3 (dk_at dksX5_isOpenTo_1 13 rfl rfl)
theorem dX5_isOpenTo_36 : decode cX5_isOpenTo 36 = .ok (.istore_n 2, 1) := dk_61 (dk_at dksX5_isOpenTo_1 14 rfl rfl)
theorem dX5_isOpenTo_37 : decode cX5_isOpenTo 37 = .ok (.iinc 3 (-1), 3) := dk_132 3 255 (dk_at dksX5_isOpenTo_1 15 rfl rfl)
theorem dX5_isOpenTo_40 : decode cX5_isOpenTo 40 = .ok (.goto (-33), 3) := dk_167 255 223 (dk_at dksX5_isOpenTo_1 18 rfl rfl)
theorem dX5_isOpenTo_43 : decode cX5_isOpenTo 43 = .ok (.iload_n 2, 1) := dk_28 (dk_at dksX5_isOpenTo_1 21 rfl rfl)
theorem dX5_isOpenTo_44 : decode cX5_isOpenTo 44 = .ok (.ireturn, 1) := dk_172 (dk_at dksX5_isOpenTo_1 22 rfl rfl)
abbrev cX5_rots : ByteArray := prog_4_method_18_code
def yX5_rots : MethodName := ⟨RX5, "rots", "()V"⟩
def dkwX5_rots_4 : List UInt8 := [181, 0, 88, 132, 1, 1, 167, 255, 160, 177]
abbrev dktX5_rots_4 : List UInt8 := dkwX5_rots_4 ++ []
def dkwX5_rots_3 : List UInt8 := [181, 0, 107, 44, 44, 180, 0, 107, 44, 180, 0, 92, 180, 0, 123, 161, 0, 7, 4, 167, 0, 4, 3]
abbrev dktX5_rots_3 : List UInt8 := dkwX5_rots_3 ++ dktX5_rots_4
def dkwX5_rots_2 : List UInt8 := [182, 0, 57, 180, 0, 88, 153, 0, 13, 44, 180, 0, 92, 182, 0, 119, 167, 0, 4, 3, 96, 96]
abbrev dktX5_rots_2 : List UInt8 := dkwX5_rots_2 ++ dktX5_rots_3
def dkwX5_rots_1 : List UInt8 := [167, 0, 72, 44, 89, 180, 0, 107, 44, 180, 0, 92, 180, 0, 116, 27, 4, 164, 0, 26, 42, 27, 4, 100]
abbrev dktX5_rots_1 : List UInt8 := dkwX5_rots_1 ++ dktX5_rots_2
def dkwX5_rots_0 : List UInt8 := [4, 60, 27, 42, 180, 0, 22, 163, 0, 94, 42, 27, 182, 0, 57, 77, 44, 182, 0, 84, 154, 0, 6]
abbrev dktX5_rots_0 : List UInt8 := dkwX5_rots_0 ++ dktX5_rots_1
theorem dksX5_rots_0 : cX5_rots.data.toList.drop 0 = dktX5_rots_0 := by decide +kernel
theorem dksX5_rots_1 : cX5_rots.data.toList.drop 23 = dktX5_rots_1 := dk_seg dksX5_rots_0 23 rfl rfl
theorem dksX5_rots_2 : cX5_rots.data.toList.drop 47 = dktX5_rots_2 := dk_seg dksX5_rots_1 24 rfl rfl
theorem dksX5_rots_3 : cX5_rots.data.toList.drop 69 = dktX5_rots_3 := dk_seg dksX5_rots_2 22 rfl rfl
theorem dksX5_rots_4 : cX5_rots.data.toList.drop 92 = dktX5_rots_4 := dk_seg dksX5_rots_3 23 rfl rfl
theorem dX5_rots_0 : decode cX5_rots 0 = .ok (.iconst 1, 1) := dk_4 (dk_at dksX5_rots_0 0 rfl rfl)
theorem dX5_rots_1 : decode cX5_rots 1 = .ok (.istore_n 1, 1) := dk_60 (dk_at dksX5_rots_0 1 rfl rfl)
theorem dX5_rots_2 : decode cX5_rots 2 = .ok (.iload_n 1, 1) := dk_27 (dk_at dksX5_rots_0 2 rfl rfl)
theorem dX5_rots_3 : decode cX5_rots 3 = .ok (.aload_n 0, 1) := dk_42 (dk_at dksX5_rots_0 3 rfl rfl)
theorem dX5_rots_4 : decode cX5_rots 4 = .ok (.getfield 22, 3) := dk_180 0 22 (dk_at dksX5_rots_0 4 rfl rfl)
theorem dX5_rots_7 : decode cX5_rots 7 = .ok (.if_icmp .gt 94, 3) := dk_163 0 94 (dk_at dksX5_rots_0 7 rfl rfl)
theorem dX5_rots_10 : decode cX5_rots 10 = .ok (.aload_n 0, 1) := dk_42 (dk_at dksX5_rots_0 10 rfl rfl)
theorem dX5_rots_11 : decode cX5_rots 11 = .ok (.iload_n 1, 1) := dk_27 (dk_at dksX5_rots_0 11 rfl rfl)
theorem dX5_rots_12 : decode cX5_rots 12 = .ok (.invokevirtual 57, 3) := dk_182 0 57 (dk_at dksX5_rots_0 12 rfl rfl)
theorem dX5_rots_15 : decode cX5_rots 15 = .ok (.astore_n 2, 1) := dk_77 (dk_at dksX5_rots_0 15 rfl rfl)
theorem dX5_rots_16 : decode cX5_rots 16 = .ok (.aload_n 2, 1) := dk_44 (dk_at dksX5_rots_0 16 rfl rfl)
theorem dX5_rots_17 : decode cX5_rots 17 = .ok (.invokevirtual 84, 3) := dk_182 0 84 (dk_at dksX5_rots_0 17 rfl rfl)
theorem dX5_rots_20 : decode cX5_rots 20 = .ok (.ifCond .ne 6, 3) := dk_154 0 6 (dk_at dksX5_rots_0 20 rfl rfl)
theorem dX5_rots_23 : decode cX5_rots 23 = .ok (.goto 72, 3) := dk_167 0 72 (dk_at dksX5_rots_1 0 rfl rfl)
theorem dX5_rots_26 : decode cX5_rots 26 = .ok (.aload_n 2, 1) := dk_44 (dk_at dksX5_rots_1 3 rfl rfl)
theorem dX5_rots_27 : decode cX5_rots 27 = .ok (.dup, 1) := dk_89 (dk_at dksX5_rots_1 4 rfl rfl)
theorem dX5_rots_28 : decode cX5_rots 28 = .ok (.getfield 107, 3) := dk_180 0 107 (dk_at dksX5_rots_1 5 rfl rfl)
theorem dX5_rots_31 : decode cX5_rots 31 = .ok (.aload_n 2, 1) := dk_44 (dk_at dksX5_rots_1 8 rfl rfl)
theorem dX5_rots_32 : decode cX5_rots 32 = .ok (.getfield 92, 3) := dk_180 0 92 (dk_at dksX5_rots_1 9 rfl rfl)
theorem dX5_rots_35 : decode cX5_rots 35 = .ok (.getfield 116, 3) := dk_180 0 116 (dk_at dksX5_rots_1 12 rfl rfl)
theorem dX5_rots_38 : decode cX5_rots 38 = .ok (.iload_n 1, 1) := dk_27 (dk_at dksX5_rots_1 15 rfl rfl)
theorem dX5_rots_39 : decode cX5_rots 39 = .ok (.iconst 1, 1) := dk_4 (dk_at dksX5_rots_1 16 rfl rfl)
theorem dX5_rots_40 : decode cX5_rots 40 = .ok (.if_icmp .le 26, 3) := dk_164 0 26 (dk_at dksX5_rots_1 17 rfl rfl)
theorem dX5_rots_43 : decode cX5_rots 43 = .ok (.aload_n 0, 1) := dk_42 (dk_at dksX5_rots_1 20 rfl rfl)
theorem dX5_rots_44 : decode cX5_rots 44 = .ok (.iload_n 1, 1) := dk_27 (dk_at dksX5_rots_1 21 rfl rfl)
theorem dX5_rots_45 : decode cX5_rots 45 = .ok (.iconst 1, 1) := dk_4 (dk_at dksX5_rots_1 22 rfl rfl)
theorem dX5_rots_46 : decode cX5_rots 46 = .ok (.isub, 1) := dk_100 (dk_at dksX5_rots_1 23 rfl rfl)
theorem dX5_rots_47 : decode cX5_rots 47 = .ok (.invokevirtual 57, 3) := dk_182 0 57 (dk_at dksX5_rots_2 0 rfl rfl)
theorem dX5_rots_50 : decode cX5_rots 50 = .ok (.getfield 88, 3) := dk_180 0 88 (dk_at dksX5_rots_2 3 rfl rfl)
theorem dX5_rots_53 : decode cX5_rots 53 = .ok (.ifCond .eq 13, 3) := dk_153 0 13 (dk_at dksX5_rots_2 6 rfl rfl)
theorem dX5_rots_56 : decode cX5_rots 56 = .ok (.aload_n 2, 1) := dk_44 (dk_at dksX5_rots_2 9 rfl rfl)
theorem dX5_rots_57 : decode cX5_rots 57 = .ok (.getfield 92, 3) := dk_180 0 92 (dk_at dksX5_rots_2 10 rfl rfl)
theorem dX5_rots_60 : decode cX5_rots 60 = .ok (.invokevirtual 119, 3) := dk_182 0 119 (dk_at dksX5_rots_2 13 rfl rfl)
theorem dX5_rots_63 : decode cX5_rots 63 = .ok (.goto 4, 3) := dk_167 0 4 (dk_at dksX5_rots_2 16 rfl rfl)
theorem dX5_rots_66 : decode cX5_rots 66 = .ok (.iconst 0, 1) := dk_3 (dk_at dksX5_rots_2 19 rfl rfl)
theorem dX5_rots_67 : decode cX5_rots 67 = .ok (.iadd, 1) := dk_96 (dk_at dksX5_rots_2 20 rfl rfl)
theorem dX5_rots_68 : decode cX5_rots 68 = .ok (.iadd, 1) := dk_96 (dk_at dksX5_rots_2 21 rfl rfl)
theorem dX5_rots_69 : decode cX5_rots 69 = .ok (.putfield 107, 3) := dk_181 0 107 (dk_at dksX5_rots_3 0 rfl rfl)
theorem dX5_rots_72 : decode cX5_rots 72 = .ok (.aload_n 2, 1) := dk_44 (dk_at dksX5_rots_3 3 rfl rfl)
theorem dX5_rots_73 : decode cX5_rots 73 = .ok (.aload_n 2, 1) := dk_44 (dk_at dksX5_rots_3 4 rfl rfl)
theorem dX5_rots_74 : decode cX5_rots 74 = .ok (.getfield 107, 3) := dk_180 0 107 (dk_at dksX5_rots_3 5 rfl rfl)
theorem dX5_rots_77 : decode cX5_rots 77 = .ok (.aload_n 2, 1) := dk_44 (dk_at dksX5_rots_3 8 rfl rfl)
theorem dX5_rots_78 : decode cX5_rots 78 = .ok (.getfield 92, 3) := dk_180 0 92 (dk_at dksX5_rots_3 9 rfl rfl)
theorem dX5_rots_81 : decode cX5_rots 81 = .ok (.getfield 123, 3) := dk_180 0 123 (dk_at dksX5_rots_3 12 rfl rfl)
theorem dX5_rots_84 : decode cX5_rots 84 = .ok (.if_icmp .lt 7, 3) := dk_161 0 7 (dk_at dksX5_rots_3 15 rfl rfl)
theorem dX5_rots_87 : decode cX5_rots 87 = .ok (.iconst 1, 1) := dk_4 (dk_at dksX5_rots_3 18 rfl rfl)
theorem dX5_rots_88 : decode cX5_rots 88 = .ok (.goto 4, 3) := dk_167 0 4 (dk_at dksX5_rots_3 19 rfl rfl)
theorem dX5_rots_91 : decode cX5_rots 91 = .ok (.iconst 0, 1) := dk_3 (dk_at dksX5_rots_3 22 rfl rfl)
theorem dX5_rots_92 : decode cX5_rots 92 = .ok (.putfield 88, 3) := dk_181 0 88 (dk_at dksX5_rots_4 0 rfl rfl)
theorem dX5_rots_95 : decode cX5_rots 95 = .ok (.iinc 1 1, 3) := dk_132 1 1 (dk_at dksX5_rots_4 3 rfl rfl)
theorem dX5_rots_98 : decode cX5_rots 98 = .ok (.goto (-96), 3) := dk_167 255 160 (dk_at dksX5_rots_4 6 rfl rfl)
theorem dX5_rots_101 : decode cX5_rots 101 = .ok (.return_, 1) := dk_177 (dk_at dksX5_rots_4 9 rfl rfl)
abbrev cX5_burns : ByteArray := prog_4_method_19_code
def yX5_burns : MethodName := ⟨RX5, "burns", "()V"⟩
def dkwX5_burns_2 : List UInt8 := [181, 0, 88, 132, 1, 1, 167, 255, 206, 177]
abbrev dktX5_burns_2 : List UInt8 := dkwX5_burns_2 ++ []
def dkwX5_burns_1 : List UInt8 := [44, 180, 0, 92, 182, 0, 126, 153, 0, 14, 44, 180, 0, 113, 154, 0, 7, 4, 167, 0, 4, 3]
abbrev dktX5_burns_1 : List UInt8 := dkwX5_burns_1 ++ dktX5_burns_2
def dkwX5_burns_0 : List UInt8 := [4, 60, 27, 42, 180, 0, 22, 163, 0, 48, 42, 27, 182, 0, 57, 77, 44, 44, 180, 0, 88, 154, 0, 20]
abbrev dktX5_burns_0 : List UInt8 := dkwX5_burns_0 ++ dktX5_burns_1
theorem dksX5_burns_0 : cX5_burns.data.toList.drop 0 = dktX5_burns_0 := by decide +kernel
theorem dksX5_burns_1 : cX5_burns.data.toList.drop 24 = dktX5_burns_1 := dk_seg dksX5_burns_0 24 rfl rfl
theorem dksX5_burns_2 : cX5_burns.data.toList.drop 46 = dktX5_burns_2 := dk_seg dksX5_burns_1 22 rfl rfl
theorem dX5_burns_0 : decode cX5_burns 0 = .ok (.iconst 1, 1) := dk_4 (dk_at dksX5_burns_0 0 rfl rfl)
theorem dX5_burns_1 : decode cX5_burns 1 = .ok (.istore_n 1, 1) := dk_60 (dk_at dksX5_burns_0 1 rfl rfl)
theorem dX5_burns_2 : decode cX5_burns 2 = .ok (.iload_n 1, 1) := dk_27 (dk_at dksX5_burns_0 2 rfl rfl)
theorem dX5_burns_3 : decode cX5_burns 3 = .ok (.aload_n 0, 1) := dk_42 (dk_at dksX5_burns_0 3 rfl rfl)
theorem dX5_burns_4 : decode cX5_burns 4 = .ok (.getfield 22, 3) := dk_180 0 22 (dk_at dksX5_burns_0 4 rfl rfl)
theorem dX5_burns_7 : decode cX5_burns 7 = .ok (.if_icmp .gt 48, 3) := dk_163 0 48 (dk_at dksX5_burns_0 7 rfl rfl)
theorem dX5_burns_10 : decode cX5_burns 10 = .ok (.aload_n 0, 1) := dk_42 (dk_at dksX5_burns_0 10 rfl rfl)
theorem dX5_burns_11 : decode cX5_burns 11 = .ok (.iload_n 1, 1) := dk_27 (dk_at dksX5_burns_0 11 rfl rfl)
theorem dX5_burns_12 : decode cX5_burns 12 = .ok (.invokevirtual 57, 3) := dk_182 0 57 (dk_at dksX5_burns_0 12 rfl rfl)
theorem dX5_burns_15 : decode cX5_burns 15 = .ok (.astore_n 2, 1) := dk_77 (dk_at dksX5_burns_0 15 rfl rfl)
theorem dX5_burns_16 : decode cX5_burns 16 = .ok (.aload_n 2, 1) := dk_44 (dk_at dksX5_burns_0 16 rfl rfl)
theorem dX5_burns_17 : decode cX5_burns 17 = .ok (.aload_n 2, 1) := dk_44 (dk_at dksX5_burns_0 17 rfl rfl)
theorem dX5_burns_18 : decode cX5_burns 18 = .ok (.getfield 88, 3) := dk_180 0 88 (dk_at dksX5_burns_0 18 rfl rfl)
theorem dX5_burns_21 : decode cX5_burns 21 = .ok (.ifCond .ne 20, 3) := dk_154 0 20 (dk_at dksX5_burns_0 21 rfl rfl)
theorem dX5_burns_24 : decode cX5_burns 24 = .ok (.aload_n 2, 1) := dk_44 (dk_at dksX5_burns_1 0 rfl rfl)
theorem dX5_burns_25 : decode cX5_burns 25 = .ok (.getfield 92, 3) := dk_180 0 92 (dk_at dksX5_burns_1 1 rfl rfl)
theorem dX5_burns_28 : decode cX5_burns 28 = .ok (.invokevirtual 126, 3) := dk_182 0 126 (dk_at dksX5_burns_1 4 rfl rfl)
theorem dX5_burns_31 : decode cX5_burns 31 = .ok (.ifCond .eq 14, 3) := dk_153 0 14 (dk_at dksX5_burns_1 7 rfl rfl)
theorem dX5_burns_34 : decode cX5_burns 34 = .ok (.aload_n 2, 1) := dk_44 (dk_at dksX5_burns_1 10 rfl rfl)
theorem dX5_burns_35 : decode cX5_burns 35 = .ok (.getfield 113, 3) := dk_180 0 113 (dk_at dksX5_burns_1 11 rfl rfl)
theorem dX5_burns_38 : decode cX5_burns 38 = .ok (.ifCond .ne 7, 3) := dk_154 0 7 (dk_at dksX5_burns_1 14 rfl rfl)
theorem dX5_burns_41 : decode cX5_burns 41 = .ok (.iconst 1, 1) := dk_4 (dk_at dksX5_burns_1 17 rfl rfl)
theorem dX5_burns_42 : decode cX5_burns 42 = .ok (.goto 4, 3) := dk_167 0 4 (dk_at dksX5_burns_1 18 rfl rfl)
theorem dX5_burns_45 : decode cX5_burns 45 = .ok (.iconst 0, 1) := dk_3 (dk_at dksX5_burns_1 21 rfl rfl)
theorem dX5_burns_46 : decode cX5_burns 46 = .ok (.putfield 88, 3) := dk_181 0 88 (dk_at dksX5_burns_2 0 rfl rfl)
theorem dX5_burns_49 : decode cX5_burns 49 = .ok (.iinc 1 1, 3) := dk_132 1 1 (dk_at dksX5_burns_2 3 rfl rfl)
theorem dX5_burns_52 : decode cX5_burns 52 = .ok (.goto (-50), 3) := dk_167 255 206 (dk_at dksX5_burns_2 6 rfl rfl)
theorem dX5_burns_55 : decode cX5_burns 55 = .ok (.return_, 1) := dk_177 (dk_at dksX5_burns_2 9 rfl rfl)
abbrev cX5_collapsed : ByteArray := prog_4_method_17_code
def yX5_collapsed : MethodName := ⟨RX5, "collapsed", "()I"⟩
def dkwX5_collapsed_1 : List UInt8 := [4, 167, 0, 4, 3, 96, 60, 132, 2, 1, 167, 255, 226, 27, 172]
abbrev dktX5_collapsed_1 : List UInt8 := dkwX5_collapsed_1 ++ []
def dkwX5_collapsed_0 : List UInt8 := [3, 60, 4, 61, 28, 42, 180, 0, 22, 163, 0, 28, 27, 42, 28, 182, 0, 57, 180, 0, 88, 153, 0, 7]
abbrev dktX5_collapsed_0 : List UInt8 := dkwX5_collapsed_0 ++ dktX5_collapsed_1
theorem dksX5_collapsed_0 : cX5_collapsed.data.toList.drop 0 = dktX5_collapsed_0 := by decide +kernel
theorem dksX5_collapsed_1 : cX5_collapsed.data.toList.drop 24 = dktX5_collapsed_1 := dk_seg dksX5_collapsed_0 24 rfl rfl
theorem dX5_collapsed_0 : decode cX5_collapsed 0 = .ok (.iconst 0, 1) := dk_3 (dk_at dksX5_collapsed_0 0 rfl rfl)
theorem dX5_collapsed_1 : decode cX5_collapsed 1 = .ok (.istore_n 1, 1) := dk_60 (dk_at dksX5_collapsed_0 1 rfl rfl)
theorem dX5_collapsed_2 : decode cX5_collapsed 2 = .ok (.iconst 1, 1) := dk_4 (dk_at dksX5_collapsed_0 2 rfl rfl)
theorem dX5_collapsed_3 : decode cX5_collapsed 3 = .ok (.istore_n 2, 1) := dk_61 (dk_at dksX5_collapsed_0 3 rfl rfl)
theorem dX5_collapsed_4 : decode cX5_collapsed 4 = .ok (.iload_n 2, 1) := dk_28 (dk_at dksX5_collapsed_0 4 rfl rfl)
theorem dX5_collapsed_5 : decode cX5_collapsed 5 = .ok (.aload_n 0, 1) := dk_42 (dk_at dksX5_collapsed_0 5 rfl rfl)
theorem dX5_collapsed_6 : decode cX5_collapsed 6 = .ok (.getfield 22, 3) := dk_180 0 22 (dk_at dksX5_collapsed_0 6 rfl rfl)
theorem dX5_collapsed_9 : decode cX5_collapsed 9 = .ok (.if_icmp .gt 28, 3) := dk_163 0 28 (dk_at dksX5_collapsed_0 9 rfl rfl)
theorem dX5_collapsed_12 : decode cX5_collapsed 12 = .ok (.iload_n 1, 1) := dk_27 (dk_at dksX5_collapsed_0 12 rfl rfl)
theorem dX5_collapsed_13 : decode cX5_collapsed 13 = .ok (.aload_n 0, 1) := dk_42 (dk_at dksX5_collapsed_0 13 rfl rfl)
theorem dX5_collapsed_14 : decode cX5_collapsed 14 = .ok (.iload_n 2, 1) := dk_28 (dk_at dksX5_collapsed_0 14 rfl rfl)
theorem dX5_collapsed_15 : decode cX5_collapsed 15 = .ok (.invokevirtual 57, 3) := dk_182 0 57 (dk_at dksX5_collapsed_0 15 rfl rfl)
theorem dX5_collapsed_18 : decode cX5_collapsed 18 = .ok (.getfield 88, 3) := dk_180 0 88 (dk_at dksX5_collapsed_0 18 rfl rfl)
theorem dX5_collapsed_21 : decode cX5_collapsed 21 = .ok (.ifCond .eq 7, 3) := dk_153 0 7 (dk_at dksX5_collapsed_0 21 rfl rfl)
theorem dX5_collapsed_24 : decode cX5_collapsed 24 = .ok (.iconst 1, 1) := dk_4 (dk_at dksX5_collapsed_1 0 rfl rfl)
theorem dX5_collapsed_25 : decode cX5_collapsed 25 = .ok (.goto 4, 3) := dk_167 0 4 (dk_at dksX5_collapsed_1 1 rfl rfl)
theorem dX5_collapsed_28 : decode cX5_collapsed 28 = .ok (.iconst 0, 1) := dk_3 (dk_at dksX5_collapsed_1 4 rfl rfl)
theorem dX5_collapsed_29 : decode cX5_collapsed 29 = .ok (.iadd, 1) := dk_96 (dk_at dksX5_collapsed_1 5 rfl rfl)
theorem dX5_collapsed_30 : decode cX5_collapsed 30 = .ok (.istore_n 1, 1) := dk_60 (dk_at dksX5_collapsed_1 6 rfl rfl)
theorem dX5_collapsed_31 : decode cX5_collapsed 31 = .ok (.iinc 2 1, 3) := dk_132 2 1 (dk_at dksX5_collapsed_1 7 rfl rfl)
theorem dX5_collapsed_34 : decode cX5_collapsed 34 = .ok (.goto (-30), 3) := dk_167 255 226 (dk_at dksX5_collapsed_1 10 rfl rfl)
theorem dX5_collapsed_37 : decode cX5_collapsed 37 = .ok (.iload_n 1, 1) := dk_27 (dk_at dksX5_collapsed_1 13 rfl rfl)
theorem dX5_collapsed_38 : decode cX5_collapsed 38 = .ok (.ireturn, 1) := dk_172 (dk_at dksX5_collapsed_1 14 rfl rfl)
abbrev cX5_inmost : ByteArray := prog_4_method_16_code
def yX5_inmost : MethodName := ⟨RX5, "inmost", "()I"⟩
def dkwX5_inmost_1 : List UInt8 := [132, 1, 1, 167, 255, 232, 3, 172]
abbrev dktX5_inmost_1 : List UInt8 := dkwX5_inmost_1 ++ []
def dkwX5_inmost_0 : List UInt8 := [4, 60, 27, 42, 180, 0, 22, 163, 0, 22, 42, 27, 182, 0, 57, 180, 0, 88, 154, 0, 5, 27, 172]
abbrev dktX5_inmost_0 : List UInt8 := dkwX5_inmost_0 ++ dktX5_inmost_1
theorem dksX5_inmost_0 : cX5_inmost.data.toList.drop 0 = dktX5_inmost_0 := by decide +kernel
theorem dksX5_inmost_1 : cX5_inmost.data.toList.drop 23 = dktX5_inmost_1 := dk_seg dksX5_inmost_0 23 rfl rfl
theorem dX5_inmost_0 : decode cX5_inmost 0 = .ok (.iconst 1, 1) := dk_4 (dk_at dksX5_inmost_0 0 rfl rfl)
theorem dX5_inmost_1 : decode cX5_inmost 1 = .ok (.istore_n 1, 1) := dk_60 (dk_at dksX5_inmost_0 1 rfl rfl)
theorem dX5_inmost_2 : decode cX5_inmost 2 = .ok (.iload_n 1, 1) := dk_27 (dk_at dksX5_inmost_0 2 rfl rfl)
theorem dX5_inmost_3 : decode cX5_inmost 3 = .ok (.aload_n 0, 1) := dk_42 (dk_at dksX5_inmost_0 3 rfl rfl)
theorem dX5_inmost_4 : decode cX5_inmost 4 = .ok (.getfield 22, 3) := dk_180 0 22 (dk_at dksX5_inmost_0 4 rfl rfl)
theorem dX5_inmost_7 : decode cX5_inmost 7 = .ok (.if_icmp .gt 22, 3) := dk_163 0 22 (dk_at dksX5_inmost_0 7 rfl rfl)
theorem dX5_inmost_10 : decode cX5_inmost 10 = .ok (.aload_n 0, 1) := dk_42 (dk_at dksX5_inmost_0 10 rfl rfl)
theorem dX5_inmost_11 : decode cX5_inmost 11 = .ok (.iload_n 1, 1) := dk_27 (dk_at dksX5_inmost_0 11 rfl rfl)
theorem dX5_inmost_12 : decode cX5_inmost 12 = .ok (.invokevirtual 57, 3) := dk_182 0 57 (dk_at dksX5_inmost_0 12 rfl rfl)
theorem dX5_inmost_15 : decode cX5_inmost 15 = .ok (.getfield 88, 3) := dk_180 0 88 (dk_at dksX5_inmost_0 15 rfl rfl)
theorem dX5_inmost_18 : decode cX5_inmost 18 = .ok (.ifCond .ne 5, 3) := dk_154 0 5 (dk_at dksX5_inmost_0 18 rfl rfl)
theorem dX5_inmost_21 : decode cX5_inmost 21 = .ok (.iload_n 1, 1) := dk_27 (dk_at dksX5_inmost_0 21 rfl rfl)
theorem dX5_inmost_22 : decode cX5_inmost 22 = .ok (.ireturn, 1) := dk_172 (dk_at dksX5_inmost_0 22 rfl rfl)
theorem dX5_inmost_23 : decode cX5_inmost 23 = .ok (.iinc 1 1, 3) := dk_132 1 1 (dk_at dksX5_inmost_1 0 rfl rfl)
theorem dX5_inmost_26 : decode cX5_inmost 26 = .ok (.goto (-24), 3) := dk_167 255 232 (dk_at dksX5_inmost_1 3 rfl rfl)
theorem dX5_inmost_29 : decode cX5_inmost 29 = .ok (.iconst 0, 1) := dk_3 (dk_at dksX5_inmost_1 6 rfl rfl)
theorem dX5_inmost_30 : decode cX5_inmost 30 = .ok (.ireturn, 1) := dk_172 (dk_at dksX5_inmost_1 7 rfl rfl)
theorem q133 : (Jvm.Cond.initialized "YearSkins$House") ∈ lw_all := lw_g (lw_at lw_m1 8 rfl) rfl
theorem q253 : (Jvm.Cond.instantiable "YearSkins$House" (5 : Nat)) ∈ lw_all := lw_g (lw_at lw_m1 128 rfl) rfl
theorem q255 : (Jvm.Cond.instanceMethod ({ cls := "YearSkins$House", name := "<init>", desc := "()V" } : Jvm.MethodName)) ∈ lw_all := lw_g (lw_at lw_m1 130 rfl) rfl
theorem q256 : (Jvm.Cond.code ({ cls := "YearSkins$House", name := "<init>", desc := "()V" } : Jvm.MethodName) prog_4_method_1_code (2 : Nat) (Option.none : Option Jvm.ClassFile.FieldType)) ∈ lw_all := lw_g (lw_at lw_m1 131 rfl) rfl
theorem q257 : (Jvm.Cond.methodLink "YearSkins$House" (3 : Nat) ({ cls := "java/lang/Object", name := "<init>", desc := "()V" } : Jvm.MethodName)) ∈ lw_all := lw_g (lw_at lw_m1 132 rfl) rfl
theorem q258 : (Jvm.Cond.classLink "YearSkins$House" (9 : Nat) "YearSkins$Skin") ∈ lw_all := lw_g (lw_at lw_m1 133 rfl) rfl
theorem q261 : (Jvm.Cond.methodLinkNest "YearSkins$House" (17 : Nat) ({ cls := "YearSkins$Skin", name := "<init>", desc := "()V" } : Jvm.MethodName) "YearSkins") ∈ lw_tbl := lw_at lw_m1 136 rfl
theorem q266 : (Jvm.Cond.fieldLink "YearSkins$House" (92 : Nat) "YearSkins$Skin" "stone" "LYearSkins$Stone;") ∈ lw_all := lw_g (lw_at lw_m1 141 rfl) rfl
theorem q269 : (Jvm.Cond.fieldLink "YearSkins$House" (61 : Nat) "YearSkins$Skin" "side" "I") ∈ lw_all := lw_g (lw_at lw_m1 144 rfl) rfl
theorem q272 : (Jvm.Cond.fieldLink "YearSkins$House" (64 : Nat) "YearSkins$Skin" "on" "I") ∈ lw_all := lw_g (lw_at lw_m1 147 rfl) rfl
theorem q275 : (Jvm.Cond.fieldLink "YearSkins$House" (104 : Nat) "YearSkins$Skin" "lock" "I") ∈ lw_all := lw_g (lw_at lw_m1 150 rfl) rfl
theorem q278 : (Jvm.Cond.fieldLink "YearSkins$House" (107 : Nat) "YearSkins$Skin" "rot" "I") ∈ lw_all := lw_g (lw_at lw_m1 153 rfl) rfl
theorem q281 : (Jvm.Cond.fieldLink "YearSkins$House" (110 : Nat) "YearSkins$Skin" "built" "I") ∈ lw_all := lw_g (lw_at lw_m1 156 rfl) rfl
theorem q284 : (Jvm.Cond.fieldLink "YearSkins$House" (88 : Nat) "YearSkins$Skin" "collapsed" "Z") ∈ lw_all := lw_g (lw_at lw_m1 159 rfl) rfl
theorem q287 : (Jvm.Cond.fieldLink "YearSkins$House" (113 : Nat) "YearSkins$Skin" "filled" "Z") ∈ lw_all := lw_g (lw_at lw_m1 162 rfl) rfl
theorem q307 : (Jvm.Cond.fieldLink "YearSkins$House" (11 : Nat) "YearSkins$House" "skins" "[LYearSkins$Skin;") ∈ lw_all := lw_g (lw_at lw_m1 182 rfl) rfl
theorem q308 : (Jvm.Cond.fieldLink "YearSkins$House" (18 : Nat) "YearSkins$House" "site" "LYearSkins$Site;") ∈ lw_all := lw_g (lw_at lw_m1 183 rfl) rfl
theorem q311 : (Jvm.Cond.fieldLink "YearSkins$House" (22 : Nat) "YearSkins$House" "many" "I") ∈ lw_all := lw_g (lw_at lw_m1 186 rfl) rfl
theorem q316 : (Jvm.Cond.fieldLink "YearSkins$House" (26 : Nat) "YearSkins$House" "family" "I") ∈ lw_all := lw_g (lw_at lw_m1 191 rfl) rfl
theorem q319 : (Jvm.Cond.fieldLink "YearSkins$House" (29 : Nat) "YearSkins$House" "gold" "I") ∈ lw_all := lw_g (lw_at lw_m1 194 rfl) rfl
theorem q322 : (Jvm.Cond.laysFinal "YearSkins$House" "YearSkins$House" "skins" "[LYearSkins$Skin;") ∈ lw_all := lw_g (lw_at lw_m1 197 rfl) rfl
theorem q323 : (Jvm.Cond.soleField "YearSkins$House" "skins") ∈ lw_all := lw_g (lw_at lw_m1 198 rfl) rfl
theorem q324 : (Jvm.Cond.lays "YearSkins$House" "YearSkins$House" "site" "LYearSkins$Site;") ∈ lw_all := lw_g (lw_at lw_m1 199 rfl) rfl
theorem q325 : (Jvm.Cond.soleField "YearSkins$House" "site") ∈ lw_all := lw_g (lw_at lw_m1 200 rfl) rfl
theorem q326 : (Jvm.Cond.lays "YearSkins$House" "YearSkins$House" "many" "I") ∈ lw_all := lw_g (lw_at lw_m1 201 rfl) rfl
theorem q327 : (Jvm.Cond.soleField "YearSkins$House" "many") ∈ lw_all := lw_g (lw_at lw_m1 202 rfl) rfl
theorem q328 : (Jvm.Cond.lays "YearSkins$House" "YearSkins$House" "family" "I") ∈ lw_all := lw_g (lw_at lw_m1 203 rfl) rfl
theorem q329 : (Jvm.Cond.soleField "YearSkins$House" "family") ∈ lw_all := lw_g (lw_at lw_m1 204 rfl) rfl
theorem q330 : (Jvm.Cond.lays "YearSkins$House" "YearSkins$House" "gold" "I") ∈ lw_all := lw_g (lw_at lw_m1 205 rfl) rfl
theorem q331 : (Jvm.Cond.soleField "YearSkins$House" "gold") ∈ lw_all := lw_g (lw_at lw_m1 206 rfl) rfl
theorem q332 : (Jvm.Cond.superclass "YearSkins$House" "java/lang/Object") ∈ lw_all := lw_g (lw_at lw_m1 207 rfl) rfl
theorem q942 : (Jvm.Cond.fieldLink "YearSkins$House" (101 : Nat) "YearSkins$Stone" "costs" "I") ∈ lw_all := lw_g (lw_at lw_m4 97 rfl) rfl
theorem q945 : (Jvm.Cond.fieldLink "YearSkins$House" (96 : Nat) "YearSkins$Stone" "warm" "I") ∈ lw_all := lw_g (lw_at lw_m4 100 rfl) rfl
theorem q948 : (Jvm.Cond.fieldLink "YearSkins$House" (116 : Nat) "YearSkins$Stone" "rots" "I") ∈ lw_all := lw_g (lw_at lw_m4 103 rfl) rfl
theorem q952 : (Jvm.Cond.fieldLink "YearSkins$House" (123 : Nat) "YearSkins$Stone" "strong" "I") ∈ lw_all := lw_g (lw_at lw_m4 107 rfl) rfl
theorem q1019 : (Jvm.Cond.fieldLink "YearSkins$House" (36 : Nat) "YearSkins$Site" "x" "I") ∈ lw_all := lw_g (lw_at lw_m4 174 rfl) rfl
theorem q1023 : (Jvm.Cond.fieldLink "YearSkins$House" (47 : Nat) "YearSkins$Site" "y" "I") ∈ lw_all := lw_g (lw_at lw_m4 178 rfl) rfl
theorem q1045 : (Jvm.Cond.instanceMethod ({ cls := "YearSkins$House", name := "has", desc := "(II)Z" } : Jvm.MethodName)) ∈ lw_all := lw_g (lw_at lw_m4 200 rfl) rfl
theorem q1046 : (Jvm.Cond.selects "YearSkins$House" ({ cls := "YearSkins$House", name := "has", desc := "(II)Z" } : Jvm.MethodName) ({ cls := "YearSkins$House", name := "has", desc := "(II)Z" } : Jvm.MethodName)) ∈ lw_all := lw_g (lw_at lw_m4 201 rfl) rfl
theorem q1047 : (Jvm.Cond.code ({ cls := "YearSkins$House", name := "has", desc := "(II)Z" } : Jvm.MethodName) prog_4_method_6_code (3 : Nat) (Option.some Jvm.ClassFile.FieldType.boolean)) ∈ lw_all := lw_g (lw_at lw_m4 202 rfl) rfl
theorem q1048 : (Jvm.Cond.methodLink "YearSkins$House" (54 : Nat) ({ cls := "YearSkins$House", name := "far", desc := "(II)I" } : Jvm.MethodName)) ∈ lw_all := lw_g (lw_at lw_m4 203 rfl) rfl
theorem q1049 : (Jvm.Cond.instanceMethod ({ cls := "YearSkins$House", name := "far", desc := "(II)I" } : Jvm.MethodName)) ∈ lw_all := lw_g (lw_at lw_m4 204 rfl) rfl
theorem q1050 : (Jvm.Cond.selects "YearSkins$House" ({ cls := "YearSkins$House", name := "far", desc := "(II)I" } : Jvm.MethodName) ({ cls := "YearSkins$House", name := "far", desc := "(II)I" } : Jvm.MethodName)) ∈ lw_all := lw_g (lw_at lw_m4 205 rfl) rfl
theorem q1051 : (Jvm.Cond.code ({ cls := "YearSkins$House", name := "far", desc := "(II)I" } : Jvm.MethodName) prog_4_method_5_code (3 : Nat) (Option.some Jvm.ClassFile.FieldType.int)) ∈ lw_all := lw_g (lw_at lw_m4 206 rfl) rfl
theorem q1052 : (Jvm.Cond.methodLink "YearSkins$House" (41 : Nat) ({ cls := "java/lang/Math", name := "abs", desc := "(I)I" } : Jvm.MethodName)) ∈ lw_all := lw_g (lw_at lw_m4 207 rfl) rfl
theorem q1055 : (Jvm.Cond.methodLink "YearSkins$House" (50 : Nat) ({ cls := "java/lang/Math", name := "max", desc := "(II)I" } : Jvm.MethodName)) ∈ lw_all := lw_g (lw_at lw_m4 210 rfl) rfl
theorem q1075 : (Jvm.Cond.instanceMethod ({ cls := "YearSkins$House", name := "begin", desc := "(LYearSkins$Site;II)V" } : Jvm.MethodName)) ∈ lw_all := lw_g (lw_at lw_m4 230 rfl) rfl
theorem q1076 : (Jvm.Cond.selects "YearSkins$House" ({ cls := "YearSkins$House", name := "begin", desc := "(LYearSkins$Site;II)V" } : Jvm.MethodName) ({ cls := "YearSkins$House", name := "begin", desc := "(LYearSkins$Site;II)V" } : Jvm.MethodName)) ∈ lw_all := lw_g (lw_at lw_m4 231 rfl) rfl
theorem q1077 : (Jvm.Cond.code ({ cls := "YearSkins$House", name := "begin", desc := "(LYearSkins$Site;II)V" } : Jvm.MethodName) prog_4_method_2_code (4 : Nat) (Option.none : Option Jvm.ClassFile.FieldType)) ∈ lw_all := lw_g (lw_at lw_m4 232 rfl) rfl
theorem q1115 : (Jvm.Cond.instanceMethod ({ cls := "YearSkins$House", name := "isOutermost", desc := "(II)Z" } : Jvm.MethodName)) ∈ lw_all := lw_g (lw_at lw_m5 30 rfl) rfl
theorem q1116 : (Jvm.Cond.selects "YearSkins$House" ({ cls := "YearSkins$House", name := "isOutermost", desc := "(II)Z" } : Jvm.MethodName) ({ cls := "YearSkins$House", name := "isOutermost", desc := "(II)Z" } : Jvm.MethodName)) ∈ lw_all := lw_g (lw_at lw_m5 31 rfl) rfl
theorem q1117 : (Jvm.Cond.code ({ cls := "YearSkins$House", name := "isOutermost", desc := "(II)Z" } : Jvm.MethodName) prog_4_method_7_code (3 : Nat) (Option.some Jvm.ClassFile.FieldType.boolean)) ∈ lw_all := lw_g (lw_at lw_m5 32 rfl) rfl
theorem q1124 : (Jvm.Cond.instanceMethod ({ cls := "YearSkins$House", name := "build", desc := "(LYearSkins$Stone;IIII)V" } : Jvm.MethodName)) ∈ lw_all := lw_g (lw_at lw_m5 39 rfl) rfl
theorem q1125 : (Jvm.Cond.selects "YearSkins$House" ({ cls := "YearSkins$House", name := "build", desc := "(LYearSkins$Stone;IIII)V" } : Jvm.MethodName) ({ cls := "YearSkins$House", name := "build", desc := "(LYearSkins$Stone;IIII)V" } : Jvm.MethodName)) ∈ lw_all := lw_g (lw_at lw_m5 40 rfl) rfl
theorem q1126 : (Jvm.Cond.code ({ cls := "YearSkins$House", name := "build", desc := "(LYearSkins$Stone;IIII)V" } : Jvm.MethodName) prog_4_method_15_code (7 : Nat) (Option.none : Option Jvm.ClassFile.FieldType)) ∈ lw_all := lw_g (lw_at lw_m5 41 rfl) rfl
theorem q1127 : (Jvm.Cond.methodLink "YearSkins$House" (57 : Nat) ({ cls := "YearSkins$House", name := "skin", desc := "(I)LYearSkins$Skin;" } : Jvm.MethodName)) ∈ lw_all := lw_g (lw_at lw_m5 42 rfl) rfl
theorem q1128 : (Jvm.Cond.instanceMethod ({ cls := "YearSkins$House", name := "skin", desc := "(I)LYearSkins$Skin;" } : Jvm.MethodName)) ∈ lw_all := lw_g (lw_at lw_m5 43 rfl) rfl
theorem q1129 : (Jvm.Cond.selects "YearSkins$House" ({ cls := "YearSkins$House", name := "skin", desc := "(I)LYearSkins$Skin;" } : Jvm.MethodName) ({ cls := "YearSkins$House", name := "skin", desc := "(I)LYearSkins$Skin;" } : Jvm.MethodName)) ∈ lw_all := lw_g (lw_at lw_m5 44 rfl) rfl
theorem q1130 : (Jvm.Cond.code ({ cls := "YearSkins$House", name := "skin", desc := "(I)LYearSkins$Skin;" } : Jvm.MethodName) prog_4_method_4_code (2 : Nat) (Option.some (Jvm.ClassFile.FieldType.object "YearSkins$Skin"))) ∈ lw_all := lw_g (lw_at lw_m5 45 rfl) rfl
theorem q1204 : (Jvm.Cond.instanceMethod ({ cls := "YearSkins$House", name := "become", desc := "(LYearSkins$House;)V" } : Jvm.MethodName)) ∈ lw_all := lw_g (lw_at lw_m5 119 rfl) rfl
theorem q1205 : (Jvm.Cond.selects "YearSkins$House" ({ cls := "YearSkins$House", name := "become", desc := "(LYearSkins$House;)V" } : Jvm.MethodName) ({ cls := "YearSkins$House", name := "become", desc := "(LYearSkins$House;)V" } : Jvm.MethodName)) ∈ lw_all := lw_g (lw_at lw_m5 120 rfl) rfl
theorem q1206 : (Jvm.Cond.code ({ cls := "YearSkins$House", name := "become", desc := "(LYearSkins$House;)V" } : Jvm.MethodName) prog_4_method_3_code (3 : Nat) (Option.none : Option Jvm.ClassFile.FieldType)) ∈ lw_all := lw_g (lw_at lw_m5 121 rfl) rfl
theorem q1207 : (Jvm.Cond.methodLink "YearSkins$House" (32 : Nat) ({ cls := "YearSkins$Skin", name := "become", desc := "(LYearSkins$Skin;)V" } : Jvm.MethodName)) ∈ lw_all := lw_g (lw_at lw_m5 122 rfl) rfl
theorem q1255 : (Jvm.Cond.instanceMethod ({ cls := "YearSkins$House", name := "doorOf", desc := "(I)I" } : Jvm.MethodName)) ∈ lw_all := lw_g (lw_at lw_m5 170 rfl) rfl
theorem q1256 : (Jvm.Cond.selects "YearSkins$House" ({ cls := "YearSkins$House", name := "doorOf", desc := "(I)I" } : Jvm.MethodName) ({ cls := "YearSkins$House", name := "doorOf", desc := "(I)I" } : Jvm.MethodName)) ∈ lw_all := lw_g (lw_at lw_m5 171 rfl) rfl
theorem q1257 : (Jvm.Cond.code ({ cls := "YearSkins$House", name := "doorOf", desc := "(I)I" } : Jvm.MethodName) prog_4_method_8_code (2 : Nat) (Option.some Jvm.ClassFile.FieldType.int)) ∈ lw_all := lw_g (lw_at lw_m5 172 rfl) rfl
theorem q1258 : (Jvm.Cond.methodLink "YearSkins$House" (67 : Nat) ({ cls := "YearSkins$Ring", name := "door", desc := "(III)I" } : Jvm.MethodName)) ∈ lw_all := lw_g (lw_at lw_m5 173 rfl) rfl
theorem q1271 : (Jvm.Cond.instanceMethod ({ cls := "YearSkins$House", name := "isCrowded", desc := "()Z" } : Jvm.MethodName)) ∈ lw_all := lw_g (lw_at lw_m5 186 rfl) rfl
theorem q1272 : (Jvm.Cond.selects "YearSkins$House" ({ cls := "YearSkins$House", name := "isCrowded", desc := "()Z" } : Jvm.MethodName) ({ cls := "YearSkins$House", name := "isCrowded", desc := "()Z" } : Jvm.MethodName)) ∈ lw_all := lw_g (lw_at lw_m5 187 rfl) rfl
theorem q1273 : (Jvm.Cond.code ({ cls := "YearSkins$House", name := "isCrowded", desc := "()Z" } : Jvm.MethodName) prog_4_method_13_code (1 : Nat) (Option.some Jvm.ClassFile.FieldType.boolean)) ∈ lw_all := lw_g (lw_at lw_m5 188 rfl) rfl
theorem q1292 : (Jvm.Cond.instanceMethod ({ cls := "YearSkins$House", name := "warm", desc := "(I)I" } : Jvm.MethodName)) ∈ lw_all := lw_g (lw_at lw_m5 207 rfl) rfl
theorem q1293 : (Jvm.Cond.selects "YearSkins$House" ({ cls := "YearSkins$House", name := "warm", desc := "(I)I" } : Jvm.MethodName) ({ cls := "YearSkins$House", name := "warm", desc := "(I)I" } : Jvm.MethodName)) ∈ lw_all := lw_g (lw_at lw_m5 208 rfl) rfl
theorem q1294 : (Jvm.Cond.code ({ cls := "YearSkins$House", name := "warm", desc := "(I)I" } : Jvm.MethodName) prog_4_method_12_code (4 : Nat) (Option.some Jvm.ClassFile.FieldType.int)) ∈ lw_all := lw_g (lw_at lw_m5 209 rfl) rfl
theorem q1333 : (Jvm.Cond.instanceMethod ({ cls := "YearSkins$House", name := "way", desc := "(I)I" } : Jvm.MethodName)) ∈ lw_all := lw_g (lw_at lw_m6 8 rfl) rfl
theorem q1334 : (Jvm.Cond.selects "YearSkins$House" ({ cls := "YearSkins$House", name := "way", desc := "(I)I" } : Jvm.MethodName) ({ cls := "YearSkins$House", name := "way", desc := "(I)I" } : Jvm.MethodName)) ∈ lw_all := lw_g (lw_at lw_m6 9 rfl) rfl
theorem q1335 : (Jvm.Cond.code ({ cls := "YearSkins$House", name := "way", desc := "(I)I" } : Jvm.MethodName) prog_4_method_10_code (4 : Nat) (Option.some Jvm.ClassFile.FieldType.int)) ∈ lw_all := lw_g (lw_at lw_m6 10 rfl) rfl
theorem q1336 : (Jvm.Cond.methodLink "YearSkins$House" (82 : Nat) ({ cls := "YearSkins$House", name := "round", desc := "(I)I" } : Jvm.MethodName)) ∈ lw_all := lw_g (lw_at lw_m6 11 rfl) rfl
theorem q1337 : (Jvm.Cond.instanceMethod ({ cls := "YearSkins$House", name := "round", desc := "(I)I" } : Jvm.MethodName)) ∈ lw_all := lw_g (lw_at lw_m6 12 rfl) rfl
theorem q1338 : (Jvm.Cond.selects "YearSkins$House" ({ cls := "YearSkins$House", name := "round", desc := "(I)I" } : Jvm.MethodName) ({ cls := "YearSkins$House", name := "round", desc := "(I)I" } : Jvm.MethodName)) ∈ lw_all := lw_g (lw_at lw_m6 13 rfl) rfl
theorem q1339 : (Jvm.Cond.code ({ cls := "YearSkins$House", name := "round", desc := "(I)I" } : Jvm.MethodName) prog_4_method_9_code (2 : Nat) (Option.some Jvm.ClassFile.FieldType.int)) ∈ lw_all := lw_g (lw_at lw_m6 14 rfl) rfl
theorem q1340 : (Jvm.Cond.methodLink "YearSkins$House" (73 : Nat) ({ cls := "YearSkins$House", name := "doorOf", desc := "(I)I" } : Jvm.MethodName)) ∈ lw_all := lw_g (lw_at lw_m6 15 rfl) rfl
theorem q1341 : (Jvm.Cond.methodLink "YearSkins$House" (76 : Nat) ({ cls := "YearSkins$Ring", name := "front", desc := "(II)I" } : Jvm.MethodName)) ∈ lw_all := lw_g (lw_at lw_m6 16 rfl) rfl
theorem q1342 : (Jvm.Cond.methodLink "YearSkins$House" (79 : Nat) ({ cls := "YearSkins$Ring", name := "round", desc := "(III)I" } : Jvm.MethodName)) ∈ lw_all := lw_g (lw_at lw_m6 17 rfl) rfl
theorem q1358 : (Jvm.Cond.instanceMethod ({ cls := "YearSkins$House", name := "costs", desc := "(LYearSkins$Stone;)I" } : Jvm.MethodName)) ∈ lw_all := lw_g (lw_at lw_m6 33 rfl) rfl
theorem q1359 : (Jvm.Cond.selects "YearSkins$House" ({ cls := "YearSkins$House", name := "costs", desc := "(LYearSkins$Stone;)I" } : Jvm.MethodName) ({ cls := "YearSkins$House", name := "costs", desc := "(LYearSkins$Stone;)I" } : Jvm.MethodName)) ∈ lw_all := lw_g (lw_at lw_m6 34 rfl) rfl
theorem q1360 : (Jvm.Cond.code ({ cls := "YearSkins$House", name := "costs", desc := "(LYearSkins$Stone;)I" } : Jvm.MethodName) prog_4_method_14_code (2 : Nat) (Option.some Jvm.ClassFile.FieldType.int)) ∈ lw_all := lw_g (lw_at lw_m6 35 rfl) rfl
theorem q1366 : (Jvm.Cond.instanceMethod ({ cls := "YearSkins$House", name := "isOpenTo", desc := "(I)Z" } : Jvm.MethodName)) ∈ lw_all := lw_g (lw_at lw_m6 41 rfl) rfl
theorem q1367 : (Jvm.Cond.selects "YearSkins$House" ({ cls := "YearSkins$House", name := "isOpenTo", desc := "(I)Z" } : Jvm.MethodName) ({ cls := "YearSkins$House", name := "isOpenTo", desc := "(I)Z" } : Jvm.MethodName)) ∈ lw_all := lw_g (lw_at lw_m6 42 rfl) rfl
theorem q1368 : (Jvm.Cond.code ({ cls := "YearSkins$House", name := "isOpenTo", desc := "(I)Z" } : Jvm.MethodName) prog_4_method_11_code (4 : Nat) (Option.some Jvm.ClassFile.FieldType.boolean)) ∈ lw_all := lw_g (lw_at lw_m6 43 rfl) rfl
theorem q1369 : (Jvm.Cond.methodLink "YearSkins$House" (84 : Nat) ({ cls := "YearSkins$Skin", name := "isOpen", desc := "()Z" } : Jvm.MethodName)) ∈ lw_all := lw_g (lw_at lw_m6 44 rfl) rfl
theorem q1458 : (Jvm.Cond.instanceMethod ({ cls := "YearSkins$House", name := "rots", desc := "()V" } : Jvm.MethodName)) ∈ lw_all := lw_g (lw_at lw_m6 133 rfl) rfl
theorem q1459 : (Jvm.Cond.selects "YearSkins$House" ({ cls := "YearSkins$House", name := "rots", desc := "()V" } : Jvm.MethodName) ({ cls := "YearSkins$House", name := "rots", desc := "()V" } : Jvm.MethodName)) ∈ lw_all := lw_g (lw_at lw_m6 134 rfl) rfl
theorem q1460 : (Jvm.Cond.code ({ cls := "YearSkins$House", name := "rots", desc := "()V" } : Jvm.MethodName) prog_4_method_18_code (3 : Nat) (Option.none : Option Jvm.ClassFile.FieldType)) ∈ lw_all := lw_g (lw_at lw_m6 135 rfl) rfl
theorem q1461 : (Jvm.Cond.methodLink "YearSkins$House" (119 : Nat) ({ cls := "YearSkins$Stone", name := "damp", desc := "()I" } : Jvm.MethodName)) ∈ lw_all := lw_g (lw_at lw_m6 136 rfl) rfl
theorem q1471 : (Jvm.Cond.instanceMethod ({ cls := "YearSkins$House", name := "burns", desc := "()V" } : Jvm.MethodName)) ∈ lw_all := lw_g (lw_at lw_m6 146 rfl) rfl
theorem q1472 : (Jvm.Cond.selects "YearSkins$House" ({ cls := "YearSkins$House", name := "burns", desc := "()V" } : Jvm.MethodName) ({ cls := "YearSkins$House", name := "burns", desc := "()V" } : Jvm.MethodName)) ∈ lw_all := lw_g (lw_at lw_m6 147 rfl) rfl
theorem q1473 : (Jvm.Cond.code ({ cls := "YearSkins$House", name := "burns", desc := "()V" } : Jvm.MethodName) prog_4_method_19_code (3 : Nat) (Option.none : Option Jvm.ClassFile.FieldType)) ∈ lw_all := lw_g (lw_at lw_m6 148 rfl) rfl
theorem q1474 : (Jvm.Cond.methodLink "YearSkins$House" (126 : Nat) ({ cls := "YearSkins$Stone", name := "burns", desc := "()Z" } : Jvm.MethodName)) ∈ lw_all := lw_g (lw_at lw_m6 149 rfl) rfl
theorem q1490 : (Jvm.Cond.instanceMethod ({ cls := "YearSkins$House", name := "collapsed", desc := "()I" } : Jvm.MethodName)) ∈ lw_all := lw_g (lw_at lw_m6 165 rfl) rfl
theorem q1491 : (Jvm.Cond.selects "YearSkins$House" ({ cls := "YearSkins$House", name := "collapsed", desc := "()I" } : Jvm.MethodName) ({ cls := "YearSkins$House", name := "collapsed", desc := "()I" } : Jvm.MethodName)) ∈ lw_all := lw_g (lw_at lw_m6 166 rfl) rfl
theorem q1492 : (Jvm.Cond.code ({ cls := "YearSkins$House", name := "collapsed", desc := "()I" } : Jvm.MethodName) prog_4_method_17_code (3 : Nat) (Option.some Jvm.ClassFile.FieldType.int)) ∈ lw_all := lw_g (lw_at lw_m6 167 rfl) rfl
theorem q1551 : (Jvm.Cond.instanceMethod ({ cls := "YearSkins$House", name := "inmost", desc := "()I" } : Jvm.MethodName)) ∈ lw_all := lw_g (lw_at lw_m6 226 rfl) rfl
theorem q1552 : (Jvm.Cond.selects "YearSkins$House" ({ cls := "YearSkins$House", name := "inmost", desc := "()I" } : Jvm.MethodName) ({ cls := "YearSkins$House", name := "inmost", desc := "()I" } : Jvm.MethodName)) ∈ lw_all := lw_g (lw_at lw_m6 227 rfl) rfl
theorem q1553 : (Jvm.Cond.code ({ cls := "YearSkins$House", name := "inmost", desc := "()I" } : Jvm.MethodName) prog_4_method_16_code (2 : Nat) (Option.some Jvm.ClassFile.FieldType.int)) ∈ lw_all := lw_g (lw_at lw_m6 228 rfl) rfl
theorem q2643 : (Jvm.Cond.castable "YearSkins$House" "java/lang/Object") ∈ lw_tbl := lw_at lw_m11 118 rfl
theorem in_X5 : ∀ w ∈ wsX50, w ∈ lw_all := lw_in wsX50 [322, 324, 326, 328, 330] (by decide +kernel) (by decide +kernel)
/-! YearSkins$Skin -/
set_option maxRecDepth 100000
def RX6 : String := "YearSkins$Skin"
def TX6 : u_T := fun k => match k with
  | 0 => ("YearSkins$Skin", "stone", "LYearSkins$Stone;", false)
  | 1 => ("YearSkins$Skin", "side", "I", false)
  | 2 => ("YearSkins$Skin", "on", "I", false)
  | 3 => ("YearSkins$Skin", "lock", "I", false)
  | 4 => ("YearSkins$Skin", "rot", "I", false)
  | 5 => ("YearSkins$Skin", "built", "I", false)
  | 6 => ("YearSkins$Skin", "collapsed", "Z", false)
  | _ => ("YearSkins$Skin", "filled", "Z", false)
def tyX6 : Nat → FieldType := fun k => match k with
  | 0 => .object "YearSkins$Stone"
  | 1 => .int
  | 2 => .int
  | 3 => .int
  | 4 => .int
  | 5 => .int
  | 6 => .boolean
  | _ => .boolean
abbrev wsX60 : List Cond := u_ws RX6 TX6 8
theorem nmX6 : ∀ a, a < 8 → ∀ b, b < 8 → a ≠ b → (TX6 a).2.1 ≠ (TX6 b).2.1 := by decide +kernel
theorem tyX6_ok : ∀ k, k < 8 → parseFieldDescriptor (TX6 k).2.2.1 = some (tyX6 k) := by decide +kernel
abbrev cX6_init : ByteArray := prog_12_method_1_code
def yX6_init : MethodName := ⟨RX6, "<init>", "()V"⟩
theorem dX6_init_0 : decode cX6_init 0 = .ok (.aload_n 0, 1) := by decide +kernel
theorem dX6_init_1 : decode cX6_init 1 = .ok (.invokespecial 3, 3) := by decide +kernel
theorem dX6_init_4 : decode cX6_init 4 = .ok (.return_, 1) := by decide +kernel
abbrev cX6_become : ByteArray := prog_12_method_2_code
def yX6_become : MethodName := ⟨RX6, "become", "(LYearSkins$Skin;)V"⟩
def dkwX6_become_2 : List UInt8 := [42, 43, 180, 0, 31, 181, 0, 31, 42, 43, 180, 0, 35, 181, 0, 35, 177]
abbrev dktX6_become_2 : List UInt8 := dkwX6_become_2 ++ []
def dkwX6_become_1 : List UInt8 := [42, 43, 180, 0, 22, 181, 0, 22, 42, 43, 180, 0, 25, 181, 0, 25, 42, 43, 180, 0, 28, 181, 0, 28]
abbrev dktX6_become_1 : List UInt8 := dkwX6_become_1 ++ dktX6_become_2
def dkwX6_become_0 : List UInt8 := [42, 43, 180, 0, 9, 181, 0, 9, 42, 43, 180, 0, 15, 181, 0, 15, 42, 43, 180, 0, 19, 181, 0, 19]
abbrev dktX6_become_0 : List UInt8 := dkwX6_become_0 ++ dktX6_become_1
theorem dksX6_become_0 : cX6_become.data.toList.drop 0 = dktX6_become_0 := by decide +kernel
theorem dksX6_become_1 : cX6_become.data.toList.drop 24 = dktX6_become_1 := dk_seg dksX6_become_0 24 rfl rfl
theorem dksX6_become_2 : cX6_become.data.toList.drop 48 = dktX6_become_2 := dk_seg dksX6_become_1 24 rfl rfl
theorem dX6_become_0 : decode cX6_become 0 = .ok (.aload_n 0, 1) := dk_42 (dk_at dksX6_become_0 0 rfl rfl)
theorem dX6_become_1 : decode cX6_become 1 = .ok (.aload_n 1, 1) := dk_43 (dk_at dksX6_become_0 1 rfl rfl)
theorem dX6_become_2 : decode cX6_become 2 = .ok (.getfield 9, 3) := dk_180 0 9 (dk_at dksX6_become_0 2 rfl rfl)
theorem dX6_become_5 : decode cX6_become 5 = .ok (.putfield 9, 3) := dk_181 0 9 (dk_at dksX6_become_0 5 rfl rfl)
theorem dX6_become_8 : decode cX6_become 8 = .ok (.aload_n 0, 1) := dk_42 (dk_at dksX6_become_0 8 rfl rfl)
theorem dX6_become_9 : decode cX6_become 9 = .ok (.aload_n 1, 1) := dk_43 (dk_at dksX6_become_0 9 rfl rfl)
theorem dX6_become_10 : decode cX6_become 10 = .ok (.getfield 15, 3) := dk_180 0 15 (dk_at dksX6_become_0 10 rfl rfl)
theorem dX6_become_13 : decode cX6_become 13 = .ok (.putfield 15, 3) := dk_181 0 15 (dk_at dksX6_become_0 13 rfl rfl)
theorem dX6_become_16 : decode cX6_become 16 = .ok (.aload_n 0, 1) := dk_42 (dk_at dksX6_become_0 16 rfl rfl)
theorem dX6_become_17 : decode cX6_become 17 = .ok (.aload_n 1, 1) := dk_43 (dk_at dksX6_become_0 17 rfl rfl)
theorem dX6_become_18 : decode cX6_become 18 = .ok (.getfield 19, 3) := dk_180 0 19 (dk_at dksX6_become_0 18 rfl rfl)
theorem dX6_become_21 : decode cX6_become 21 = .ok (.putfield 19, 3) := dk_181 0 19 (dk_at dksX6_become_0 21 rfl rfl)
theorem dX6_become_24 : decode cX6_become 24 = .ok (.aload_n 0, 1) := dk_42 (dk_at dksX6_become_1 0 rfl rfl)
theorem dX6_become_25 : decode cX6_become 25 = .ok (.aload_n 1, 1) := dk_43 (dk_at dksX6_become_1 1 rfl rfl)
theorem dX6_become_26 : decode cX6_become 26 = .ok (.getfield 22, 3) := dk_180 0 22 (dk_at dksX6_become_1 2 rfl rfl)
theorem dX6_become_29 : decode cX6_become 29 = .ok (.putfield 22, 3) := dk_181 0 22 (dk_at dksX6_become_1 5 rfl rfl)
theorem dX6_become_32 : decode cX6_become 32 = .ok (.aload_n 0, 1) := dk_42 (dk_at dksX6_become_1 8 rfl rfl)
theorem dX6_become_33 : decode cX6_become 33 = .ok (.aload_n 1, 1) := dk_43 (dk_at dksX6_become_1 9 rfl rfl)
theorem dX6_become_34 : decode cX6_become 34 = .ok (.getfield 25, 3) := dk_180 0 25 (dk_at dksX6_become_1 10 rfl rfl)
theorem dX6_become_37 : decode cX6_become 37 = .ok (.putfield 25, 3) := dk_181 0 25 (dk_at dksX6_become_1 13 rfl rfl)
theorem dX6_become_40 : decode cX6_become 40 = .ok (.aload_n 0, 1) := dk_42 (dk_at dksX6_become_1 16 rfl rfl)
theorem dX6_become_41 : decode cX6_become 41 = .ok (.aload_n 1, 1) := dk_43 (dk_at dksX6_become_1 17 rfl rfl)
theorem dX6_become_42 : decode cX6_become 42 = .ok (.getfield 28, 3) := dk_180 0 28 (dk_at dksX6_become_1 18 rfl rfl)
theorem dX6_become_45 : decode cX6_become 45 = .ok (.putfield 28, 3) := dk_181 0 28 (dk_at dksX6_become_1 21 rfl rfl)
theorem dX6_become_48 : decode cX6_become 48 = .ok (.aload_n 0, 1) := dk_42 (dk_at dksX6_become_2 0 rfl rfl)
theorem dX6_become_49 : decode cX6_become 49 = .ok (.aload_n 1, 1) := dk_43 (dk_at dksX6_become_2 1 rfl rfl)
theorem dX6_become_50 : decode cX6_become 50 = .ok (.getfield 31, 3) := dk_180 0 31 (dk_at dksX6_become_2 2 rfl rfl)
theorem dX6_become_53 : decode cX6_become 53 = .ok (.putfield 31, 3) := dk_181 0 31 (dk_at dksX6_become_2 5 rfl rfl)
theorem dX6_become_56 : decode cX6_become 56 = .ok (.aload_n 0, 1) := dk_42 (dk_at dksX6_become_2 8 rfl rfl)
theorem dX6_become_57 : decode cX6_become 57 = .ok (.aload_n 1, 1) := dk_43 (dk_at dksX6_become_2 9 rfl rfl)
theorem dX6_become_58 : decode cX6_become 58 = .ok (.getfield 35, 3) := dk_180 0 35 (dk_at dksX6_become_2 10 rfl rfl)
theorem dX6_become_61 : decode cX6_become 61 = .ok (.putfield 35, 3) := dk_181 0 35 (dk_at dksX6_become_2 13 rfl rfl)
theorem dX6_become_64 : decode cX6_become 64 = .ok (.return_, 1) := dk_177 (dk_at dksX6_become_2 16 rfl rfl)
abbrev cX6_isOpen : ByteArray := prog_12_method_3_code
def yX6_isOpen : MethodName := ⟨RX6, "isOpen", "()Z"⟩
def dkwX6_isOpen_0 : List UInt8 := [42, 180, 0, 31, 154, 0, 14, 42, 180, 0, 35, 154, 0, 7, 4, 167, 0, 4, 3, 172]
abbrev dktX6_isOpen_0 : List UInt8 := dkwX6_isOpen_0 ++ []
theorem dksX6_isOpen_0 : cX6_isOpen.data.toList.drop 0 = dktX6_isOpen_0 := by decide +kernel
theorem dX6_isOpen_0 : decode cX6_isOpen 0 = .ok (.aload_n 0, 1) := dk_42 (dk_at dksX6_isOpen_0 0 rfl rfl)
theorem dX6_isOpen_1 : decode cX6_isOpen 1 = .ok (.getfield 31, 3) := dk_180 0 31 (dk_at dksX6_isOpen_0 1 rfl rfl)
theorem dX6_isOpen_4 : decode cX6_isOpen 4 = .ok (.ifCond .ne 14, 3) := dk_154 0 14 (dk_at dksX6_isOpen_0 4 rfl rfl)
theorem dX6_isOpen_7 : decode cX6_isOpen 7 = .ok (.aload_n 0, 1) := dk_42 (dk_at dksX6_isOpen_0 7 rfl rfl)
theorem dX6_isOpen_8 : decode cX6_isOpen 8 = .ok (.getfield 35, 3) := dk_180 0 35 (dk_at dksX6_isOpen_0 8 rfl rfl)
theorem dX6_isOpen_11 : decode cX6_isOpen 11 = .ok (.ifCond .ne 7, 3) := dk_154 0 7 (dk_at dksX6_isOpen_0 11 rfl rfl)
theorem dX6_isOpen_14 : decode cX6_isOpen 14 = .ok (.iconst 1, 1) := dk_4 (dk_at dksX6_isOpen_0 14 rfl rfl)
theorem dX6_isOpen_15 : decode cX6_isOpen 15 = .ok (.goto 4, 3) := dk_167 0 4 (dk_at dksX6_isOpen_0 15 rfl rfl)
theorem dX6_isOpen_18 : decode cX6_isOpen 18 = .ok (.iconst 0, 1) := dk_3 (dk_at dksX6_isOpen_0 18 rfl rfl)
theorem dX6_isOpen_19 : decode cX6_isOpen 19 = .ok (.ireturn, 1) := dk_172 (dk_at dksX6_isOpen_0 19 rfl rfl)
abbrev cX6_atDoor : ByteArray := prog_12_method_5_code
def yX6_atDoor : MethodName := ⟨RX6, "atDoor", "()I"⟩
def dkwX6_atDoor_1 : List UInt8 := [180, 0, 22, 4, 96, 172]
abbrev dktX6_atDoor_1 : List UInt8 := dkwX6_atDoor_1 ++ []
def dkwX6_atDoor_0 : List UInt8 := [42, 180, 0, 31, 153, 0, 7, 4, 167, 0, 21, 42, 180, 0, 35, 153, 0, 8, 16, 20, 167, 0, 9, 42]
abbrev dktX6_atDoor_0 : List UInt8 := dkwX6_atDoor_0 ++ dktX6_atDoor_1
theorem dksX6_atDoor_0 : cX6_atDoor.data.toList.drop 0 = dktX6_atDoor_0 := by decide +kernel
theorem dksX6_atDoor_1 : cX6_atDoor.data.toList.drop 24 = dktX6_atDoor_1 := dk_seg dksX6_atDoor_0 24 rfl rfl
theorem dX6_atDoor_0 : decode cX6_atDoor 0 = .ok (.aload_n 0, 1) := dk_42 (dk_at dksX6_atDoor_0 0 rfl rfl)
theorem dX6_atDoor_1 : decode cX6_atDoor 1 = .ok (.getfield 31, 3) := dk_180 0 31 (dk_at dksX6_atDoor_0 1 rfl rfl)
theorem dX6_atDoor_4 : decode cX6_atDoor 4 = .ok (.ifCond .eq 7, 3) := dk_153 0 7 (dk_at dksX6_atDoor_0 4 rfl rfl)
theorem dX6_atDoor_7 : decode cX6_atDoor 7 = .ok (.iconst 1, 1) := dk_4 (dk_at dksX6_atDoor_0 7 rfl rfl)
theorem dX6_atDoor_8 : decode cX6_atDoor 8 = .ok (.goto 21, 3) := dk_167 0 21 (dk_at dksX6_atDoor_0 8 rfl rfl)
theorem dX6_atDoor_11 : decode cX6_atDoor 11 = .ok (.aload_n 0, 1) := dk_42 (dk_at dksX6_atDoor_0 11 rfl rfl)
theorem dX6_atDoor_12 : decode cX6_atDoor 12 = .ok (.getfield 35, 3) := dk_180 0 35 (dk_at dksX6_atDoor_0 12 rfl rfl)
theorem dX6_atDoor_15 : decode cX6_atDoor 15 = .ok (.ifCond .eq 8, 3) := dk_153 0 8 (dk_at dksX6_atDoor_0 15 rfl rfl)
theorem dX6_atDoor_18 : decode cX6_atDoor 18 = .ok (.bipush 20, 2) := dk_16 20 (dk_at dksX6_atDoor_0 18 rfl rfl)
theorem dX6_atDoor_20 : decode cX6_atDoor 20 = .ok (.goto 9, 3) := dk_167 0 9 (dk_at dksX6_atDoor_0 20 rfl rfl)
theorem dX6_atDoor_23 : decode cX6_atDoor 23 = .ok (.aload_n 0, 1) := dk_42 (dk_at dksX6_atDoor_0 23 rfl rfl)
theorem dX6_atDoor_24 : decode cX6_atDoor 24 = .ok (.getfield 22, 3) := dk_180 0 22 (dk_at dksX6_atDoor_1 0 rfl rfl)
theorem dX6_atDoor_27 : decode cX6_atDoor 27 = .ok (.iconst 1, 1) := dk_4 (dk_at dksX6_atDoor_1 3 rfl rfl)
theorem dX6_atDoor_28 : decode cX6_atDoor 28 = .ok (.iadd, 1) := dk_96 (dk_at dksX6_atDoor_1 4 rfl rfl)
theorem dX6_atDoor_29 : decode cX6_atDoor 29 = .ok (.ireturn, 1) := dk_172 (dk_at dksX6_atDoor_1 5 rfl rfl)
abbrev cX6_thick : ByteArray := prog_12_method_4_code
def yX6_thick : MethodName := ⟨RX6, "thick", "()I"⟩
def dkwX6_thick_1 : List UInt8 := [42, 180, 0, 9, 180, 0, 38, 42, 180, 0, 25, 100, 184, 0, 43, 172]
abbrev dktX6_thick_1 : List UInt8 := dkwX6_thick_1 ++ []
def dkwX6_thick_0 : List UInt8 := [42, 180, 0, 31, 153, 0, 7, 4, 167, 0, 31, 42, 180, 0, 35, 153, 0, 8, 16, 20, 167, 0, 19, 4]
abbrev dktX6_thick_0 : List UInt8 := dkwX6_thick_0 ++ dktX6_thick_1
theorem dksX6_thick_0 : cX6_thick.data.toList.drop 0 = dktX6_thick_0 := by decide +kernel
theorem dksX6_thick_1 : cX6_thick.data.toList.drop 24 = dktX6_thick_1 := dk_seg dksX6_thick_0 24 rfl rfl
theorem dX6_thick_0 : decode cX6_thick 0 = .ok (.aload_n 0, 1) := dk_42 (dk_at dksX6_thick_0 0 rfl rfl)
theorem dX6_thick_1 : decode cX6_thick 1 = .ok (.getfield 31, 3) := dk_180 0 31 (dk_at dksX6_thick_0 1 rfl rfl)
theorem dX6_thick_4 : decode cX6_thick 4 = .ok (.ifCond .eq 7, 3) := dk_153 0 7 (dk_at dksX6_thick_0 4 rfl rfl)
theorem dX6_thick_7 : decode cX6_thick 7 = .ok (.iconst 1, 1) := dk_4 (dk_at dksX6_thick_0 7 rfl rfl)
theorem dX6_thick_8 : decode cX6_thick 8 = .ok (.goto 31, 3) := dk_167 0 31 (dk_at dksX6_thick_0 8 rfl rfl)
theorem dX6_thick_11 : decode cX6_thick 11 = .ok (.aload_n 0, 1) := dk_42 (dk_at dksX6_thick_0 11 rfl rfl)
theorem dX6_thick_12 : decode cX6_thick 12 = .ok (.getfield 35, 3) := dk_180 0 35 (dk_at dksX6_thick_0 12 rfl rfl)
theorem dX6_thick_15 : decode cX6_thick 15 = .ok (.ifCond .eq 8, 3) := dk_153 0 8 (dk_at dksX6_thick_0 15 rfl rfl)
theorem dX6_thick_18 : decode cX6_thick 18 = .ok (.bipush 20, 2) := dk_16 20 (dk_at dksX6_thick_0 18 rfl rfl)
theorem dX6_thick_20 : decode cX6_thick 20 = .ok (.goto 19, 3) := dk_167 0 19 (dk_at dksX6_thick_0 20 rfl rfl)
theorem dX6_thick_23 : decode cX6_thick 23 = .ok (.iconst 1, 1) := dk_4 (dk_at dksX6_thick_0 23 rfl rfl)
theorem dX6_thick_24 : decode cX6_thick 24 = .ok (.aload_n 0, 1) := dk_42 (dk_at dksX6_thick_1 0 rfl rfl)
theorem dX6_thick_25 : decode cX6_thick 25 = .ok (.getfield 9, 3) := dk_180 0 9 (dk_at dksX6_thick_1 1 rfl rfl)
theorem dX6_thick_28 : decode cX6_thick 28 = .ok (.getfield 38, 3) := dk_180 0 38 (dk_at dksX6_thick_1 4 rfl rfl)
theorem dX6_thick_31 : decode cX6_thick 31 = .ok (.aload_n 0, 1) := dk_42 (dk_at dksX6_thick_1 7 rfl rfl)
theorem dX6_thick_32 : decode cX6_thick 32 = .ok (.getfield 25, 3) := dk_180 0 25 (dk_at dksX6_thick_1 8 rfl rfl)
theorem dX6_thick_35 : decode cX6_thick 35 = .ok (.isub, 1) := dk_100 (dk_at dksX6_thick_1 11 rfl rfl)
theorem dX6_thick_36 : decode cX6_thick 36 = .ok (.invokestatic 43, 3) := dk_184 0 43 (dk_at dksX6_thick_1 12 rfl rfl)
theorem dX6_thick_39 : decode cX6_thick 39 = .ok (.ireturn, 1) := dk_172 (dk_at dksX6_thick_1 15 rfl rfl)
theorem q134 : (Jvm.Cond.initialized "YearSkins$Skin") ∈ lw_all := lw_g (lw_at lw_m1 9 rfl) rfl
theorem q260 : (Jvm.Cond.instantiable "YearSkins$Skin" (8 : Nat)) ∈ lw_all := lw_g (lw_at lw_m1 135 rfl) rfl
theorem q262 : (Jvm.Cond.instanceMethod ({ cls := "YearSkins$Skin", name := "<init>", desc := "()V" } : Jvm.MethodName)) ∈ lw_all := lw_g (lw_at lw_m1 137 rfl) rfl
theorem q263 : (Jvm.Cond.code ({ cls := "YearSkins$Skin", name := "<init>", desc := "()V" } : Jvm.MethodName) prog_12_method_1_code (1 : Nat) (Option.none : Option Jvm.ClassFile.FieldType)) ∈ lw_all := lw_g (lw_at lw_m1 138 rfl) rfl
theorem q264 : (Jvm.Cond.methodLink "YearSkins$Skin" (3 : Nat) ({ cls := "java/lang/Object", name := "<init>", desc := "()V" } : Jvm.MethodName)) ∈ lw_all := lw_g (lw_at lw_m1 139 rfl) rfl
theorem q265 : (Jvm.Cond.fieldLink "YearSkins$Skin" (9 : Nat) "YearSkins$Skin" "stone" "LYearSkins$Stone;") ∈ lw_all := lw_g (lw_at lw_m1 140 rfl) rfl
theorem q268 : (Jvm.Cond.fieldLink "YearSkins$Skin" (15 : Nat) "YearSkins$Skin" "side" "I") ∈ lw_all := lw_g (lw_at lw_m1 143 rfl) rfl
theorem q271 : (Jvm.Cond.fieldLink "YearSkins$Skin" (19 : Nat) "YearSkins$Skin" "on" "I") ∈ lw_all := lw_g (lw_at lw_m1 146 rfl) rfl
theorem q274 : (Jvm.Cond.fieldLink "YearSkins$Skin" (22 : Nat) "YearSkins$Skin" "lock" "I") ∈ lw_all := lw_g (lw_at lw_m1 149 rfl) rfl
theorem q277 : (Jvm.Cond.fieldLink "YearSkins$Skin" (25 : Nat) "YearSkins$Skin" "rot" "I") ∈ lw_all := lw_g (lw_at lw_m1 152 rfl) rfl
theorem q280 : (Jvm.Cond.fieldLink "YearSkins$Skin" (28 : Nat) "YearSkins$Skin" "built" "I") ∈ lw_all := lw_g (lw_at lw_m1 155 rfl) rfl
theorem q283 : (Jvm.Cond.fieldLink "YearSkins$Skin" (31 : Nat) "YearSkins$Skin" "collapsed" "Z") ∈ lw_all := lw_g (lw_at lw_m1 158 rfl) rfl
theorem q286 : (Jvm.Cond.fieldLink "YearSkins$Skin" (35 : Nat) "YearSkins$Skin" "filled" "Z") ∈ lw_all := lw_g (lw_at lw_m1 161 rfl) rfl
theorem q289 : (Jvm.Cond.lays "YearSkins$Skin" "YearSkins$Skin" "stone" "LYearSkins$Stone;") ∈ lw_all := lw_g (lw_at lw_m1 164 rfl) rfl
theorem q290 : (Jvm.Cond.soleField "YearSkins$Skin" "stone") ∈ lw_all := lw_g (lw_at lw_m1 165 rfl) rfl
theorem q291 : (Jvm.Cond.lays "YearSkins$Skin" "YearSkins$Skin" "side" "I") ∈ lw_all := lw_g (lw_at lw_m1 166 rfl) rfl
theorem q292 : (Jvm.Cond.soleField "YearSkins$Skin" "side") ∈ lw_all := lw_g (lw_at lw_m1 167 rfl) rfl
theorem q293 : (Jvm.Cond.lays "YearSkins$Skin" "YearSkins$Skin" "on" "I") ∈ lw_all := lw_g (lw_at lw_m1 168 rfl) rfl
theorem q294 : (Jvm.Cond.soleField "YearSkins$Skin" "on") ∈ lw_all := lw_g (lw_at lw_m1 169 rfl) rfl
theorem q295 : (Jvm.Cond.lays "YearSkins$Skin" "YearSkins$Skin" "lock" "I") ∈ lw_all := lw_g (lw_at lw_m1 170 rfl) rfl
theorem q296 : (Jvm.Cond.soleField "YearSkins$Skin" "lock") ∈ lw_all := lw_g (lw_at lw_m1 171 rfl) rfl
theorem q297 : (Jvm.Cond.lays "YearSkins$Skin" "YearSkins$Skin" "rot" "I") ∈ lw_all := lw_g (lw_at lw_m1 172 rfl) rfl
theorem q298 : (Jvm.Cond.soleField "YearSkins$Skin" "rot") ∈ lw_all := lw_g (lw_at lw_m1 173 rfl) rfl
theorem q299 : (Jvm.Cond.lays "YearSkins$Skin" "YearSkins$Skin" "built" "I") ∈ lw_all := lw_g (lw_at lw_m1 174 rfl) rfl
theorem q300 : (Jvm.Cond.soleField "YearSkins$Skin" "built") ∈ lw_all := lw_g (lw_at lw_m1 175 rfl) rfl
theorem q301 : (Jvm.Cond.lays "YearSkins$Skin" "YearSkins$Skin" "collapsed" "Z") ∈ lw_all := lw_g (lw_at lw_m1 176 rfl) rfl
theorem q302 : (Jvm.Cond.soleField "YearSkins$Skin" "collapsed") ∈ lw_all := lw_g (lw_at lw_m1 177 rfl) rfl
theorem q303 : (Jvm.Cond.lays "YearSkins$Skin" "YearSkins$Skin" "filled" "Z") ∈ lw_all := lw_g (lw_at lw_m1 178 rfl) rfl
theorem q304 : (Jvm.Cond.soleField "YearSkins$Skin" "filled") ∈ lw_all := lw_g (lw_at lw_m1 179 rfl) rfl
theorem q305 : (Jvm.Cond.superclass "YearSkins$Skin" "java/lang/Object") ∈ lw_all := lw_g (lw_at lw_m1 180 rfl) rfl
theorem q951 : (Jvm.Cond.fieldLink "YearSkins$Skin" (38 : Nat) "YearSkins$Stone" "strong" "I") ∈ lw_all := lw_g (lw_at lw_m4 106 rfl) rfl
theorem q1208 : (Jvm.Cond.instanceMethod ({ cls := "YearSkins$Skin", name := "become", desc := "(LYearSkins$Skin;)V" } : Jvm.MethodName)) ∈ lw_all := lw_g (lw_at lw_m5 123 rfl) rfl
theorem q1209 : (Jvm.Cond.selects "YearSkins$Skin" ({ cls := "YearSkins$Skin", name := "become", desc := "(LYearSkins$Skin;)V" } : Jvm.MethodName) ({ cls := "YearSkins$Skin", name := "become", desc := "(LYearSkins$Skin;)V" } : Jvm.MethodName)) ∈ lw_all := lw_g (lw_at lw_m5 124 rfl) rfl
theorem q1210 : (Jvm.Cond.code ({ cls := "YearSkins$Skin", name := "become", desc := "(LYearSkins$Skin;)V" } : Jvm.MethodName) prog_12_method_2_code (2 : Nat) (Option.none : Option Jvm.ClassFile.FieldType)) ∈ lw_all := lw_g (lw_at lw_m5 125 rfl) rfl
theorem q1370 : (Jvm.Cond.instanceMethod ({ cls := "YearSkins$Skin", name := "isOpen", desc := "()Z" } : Jvm.MethodName)) ∈ lw_all := lw_g (lw_at lw_m6 45 rfl) rfl
theorem q1371 : (Jvm.Cond.selects "YearSkins$Skin" ({ cls := "YearSkins$Skin", name := "isOpen", desc := "()Z" } : Jvm.MethodName) ({ cls := "YearSkins$Skin", name := "isOpen", desc := "()Z" } : Jvm.MethodName)) ∈ lw_all := lw_g (lw_at lw_m6 46 rfl) rfl
theorem q1372 : (Jvm.Cond.code ({ cls := "YearSkins$Skin", name := "isOpen", desc := "()Z" } : Jvm.MethodName) prog_12_method_3_code (1 : Nat) (Option.some Jvm.ClassFile.FieldType.boolean)) ∈ lw_all := lw_g (lw_at lw_m6 47 rfl) rfl
theorem q1393 : (Jvm.Cond.instanceMethod ({ cls := "YearSkins$Skin", name := "atDoor", desc := "()I" } : Jvm.MethodName)) ∈ lw_all := lw_g (lw_at lw_m6 68 rfl) rfl
theorem q1394 : (Jvm.Cond.selects "YearSkins$Skin" ({ cls := "YearSkins$Skin", name := "atDoor", desc := "()I" } : Jvm.MethodName) ({ cls := "YearSkins$Skin", name := "atDoor", desc := "()I" } : Jvm.MethodName)) ∈ lw_all := lw_g (lw_at lw_m6 69 rfl) rfl
theorem q1395 : (Jvm.Cond.code ({ cls := "YearSkins$Skin", name := "atDoor", desc := "()I" } : Jvm.MethodName) prog_12_method_5_code (1 : Nat) (Option.some Jvm.ClassFile.FieldType.int)) ∈ lw_all := lw_g (lw_at lw_m6 70 rfl) rfl
theorem q1397 : (Jvm.Cond.instanceMethod ({ cls := "YearSkins$Skin", name := "thick", desc := "()I" } : Jvm.MethodName)) ∈ lw_all := lw_g (lw_at lw_m6 72 rfl) rfl
theorem q1398 : (Jvm.Cond.selects "YearSkins$Skin" ({ cls := "YearSkins$Skin", name := "thick", desc := "()I" } : Jvm.MethodName) ({ cls := "YearSkins$Skin", name := "thick", desc := "()I" } : Jvm.MethodName)) ∈ lw_all := lw_g (lw_at lw_m6 73 rfl) rfl
theorem q1399 : (Jvm.Cond.code ({ cls := "YearSkins$Skin", name := "thick", desc := "()I" } : Jvm.MethodName) prog_12_method_4_code (1 : Nat) (Option.some Jvm.ClassFile.FieldType.int)) ∈ lw_all := lw_g (lw_at lw_m6 74 rfl) rfl
theorem q1400 : (Jvm.Cond.methodLink "YearSkins$Skin" (43 : Nat) ({ cls := "java/lang/Math", name := "max", desc := "(II)I" } : Jvm.MethodName)) ∈ lw_all := lw_g (lw_at lw_m6 75 rfl) rfl
theorem q2644 : (Jvm.Cond.castable "YearSkins$Skin" "java/lang/Object") ∈ lw_tbl := lw_at lw_m11 119 rfl
theorem in_X6 : ∀ w ∈ wsX60, w ∈ lw_all := lw_in wsX60 [289, 291, 293, 295, 297, 299, 301, 303] (by decide +kernel) (by decide +kernel)
/-! YearSkins$Through -/
set_option maxRecDepth 100000
def RX7 : String := "YearSkins$Through"
def TX7 : u_T := fun k => match k with
  | 0 => ("YearSkins$Through", "best", "[I", true)
  | _ => ("YearSkins$Through", "house", "LYearSkins$House;", false)
def tyX7 : Nat → FieldType := fun k => match k with
  | 0 => .array .int
  | _ => .object "YearSkins$House"
abbrev wsX70 : List Cond := u_ws RX7 TX7 2
theorem nmX7 : ∀ a, a < 2 → ∀ b, b < 2 → a ≠ b → (TX7 a).2.1 ≠ (TX7 b).2.1 := by decide +kernel
theorem tyX7_ok : ∀ k, k < 2 → parseFieldDescriptor (TX7 k).2.2.1 = some (tyX7 k) := by decide +kernel
abbrev cX7_init : ByteArray := prog_15_method_1_code
def yX7_init : MethodName := ⟨RX7, "<init>", "()V"⟩
def dkwX7_init_0 : List UInt8 := [42, 183, 0, 1, 42, 17, 0, 168, 188, 10, 181, 0, 9, 177]
abbrev dktX7_init_0 : List UInt8 := dkwX7_init_0 ++ []
theorem dksX7_init_0 : cX7_init.data.toList.drop 0 = dktX7_init_0 := by decide +kernel
theorem dX7_init_0 : decode cX7_init 0 = .ok (.aload_n 0, 1) := dk_42 (dk_at dksX7_init_0 0 rfl rfl)
theorem dX7_init_1 : decode cX7_init 1 = .ok (.invokespecial 1, 3) := dk_183 0 1 (dk_at dksX7_init_0 1 rfl rfl)
theorem dX7_init_4 : decode cX7_init 4 = .ok (.aload_n 0, 1) := dk_42 (dk_at dksX7_init_0 4 rfl rfl)
theorem dX7_init_5 : decode cX7_init 5 = .ok (.sipush 168, 3) := dk_17 0 168 (dk_at dksX7_init_0 5 rfl rfl)
theorem dX7_init_8 : decode cX7_init 8 = .ok (.newarray .int, 2) := dk_188_10 (dk_at dksX7_init_0 8 rfl rfl)
theorem dX7_init_10 : decode cX7_init 10 = .ok (.putfield 9, 3) := dk_181 0 9 (dk_at dksX7_init_0 10 rfl rfl)
theorem dX7_init_13 : decode cX7_init 13 = .ok (.return_, 1) := dk_177 (dk_at dksX7_init_0 13 rfl rfl)
abbrev cX7_lay : ByteArray := prog_15_method_3_code
def yX7_lay : MethodName := ⟨RX7, "lay", "(LYearSkins$House;)V"⟩
def dkwX7_lay_5 : List UInt8 := [153, 0, 7, 4, 167, 0, 4, 3, 62, 132, 4, 255, 167, 255, 229, 167, 255, 214, 177]
abbrev dktX7_lay_5 : List UInt8 := dkwX7_lay_5 ++ []
def dkwX7_lay_4 : List UInt8 := [3, 62, 43, 180, 0, 18, 54, 4, 21, 4, 158, 0, 28, 42, 21, 4, 182, 0, 50, 154, 0, 7, 29]
abbrev dktX7_lay_4 : List UInt8 := dkwX7_lay_4 ++ dktX7_lay_5
def dkwX7_lay_3 : List UInt8 := [182, 0, 35, 104, 17, 3, 232, 44, 182, 0, 41, 104, 4, 96, 184, 0, 44, 79, 4, 62, 29, 153, 0, 44]
abbrev dktX7_lay_3 : List UInt8 := dkwX7_lay_3 ++ dktX7_lay_4
def dkwX7_lay_2 : List UInt8 := [180, 0, 9, 43, 180, 0, 18, 184, 0, 28, 43, 43, 180, 0, 18, 182, 0, 32, 96, 17, 3, 232, 44]
abbrev dktX7_lay_2 : List UInt8 := dkwX7_lay_2 ++ dktX7_lay_3
def dkwX7_lay_1 : List UInt8 := [132, 2, 1, 167, 255, 238, 43, 180, 0, 18, 154, 0, 4, 177, 43, 43, 180, 0, 18, 182, 0, 24, 77, 42]
abbrev dktX7_lay_1 : List UInt8 := dkwX7_lay_1 ++ dktX7_lay_2
def dkwX7_lay_0 : List UInt8 := [42, 43, 181, 0, 13, 3, 61, 28, 17, 0, 168, 162, 0, 17, 42, 180, 0, 9, 28, 18, 17, 79]
abbrev dktX7_lay_0 : List UInt8 := dkwX7_lay_0 ++ dktX7_lay_1
theorem dksX7_lay_0 : cX7_lay.data.toList.drop 0 = dktX7_lay_0 := by decide +kernel
theorem dksX7_lay_1 : cX7_lay.data.toList.drop 22 = dktX7_lay_1 := dk_seg dksX7_lay_0 22 rfl rfl
theorem dksX7_lay_2 : cX7_lay.data.toList.drop 46 = dktX7_lay_2 := dk_seg dksX7_lay_1 24 rfl rfl
theorem dksX7_lay_3 : cX7_lay.data.toList.drop 69 = dktX7_lay_3 := dk_seg dksX7_lay_2 23 rfl rfl
theorem dksX7_lay_4 : cX7_lay.data.toList.drop 93 = dktX7_lay_4 := dk_seg dksX7_lay_3 24 rfl rfl
theorem dksX7_lay_5 : cX7_lay.data.toList.drop 116 = dktX7_lay_5 := dk_seg dksX7_lay_4 23 rfl rfl
theorem dX7_lay_0 : decode cX7_lay 0 = .ok (.aload_n 0, 1) := dk_42 (dk_at dksX7_lay_0 0 rfl rfl)
theorem dX7_lay_1 : decode cX7_lay 1 = .ok (.aload_n 1, 1) := dk_43 (dk_at dksX7_lay_0 1 rfl rfl)
theorem dX7_lay_2 : decode cX7_lay 2 = .ok (.putfield 13, 3) := dk_181 0 13 (dk_at dksX7_lay_0 2 rfl rfl)
theorem dX7_lay_5 : decode cX7_lay 5 = .ok (.iconst 0, 1) := dk_3 (dk_at dksX7_lay_0 5 rfl rfl)
theorem dX7_lay_6 : decode cX7_lay 6 = .ok (.istore_n 2, 1) := dk_61 (dk_at dksX7_lay_0 6 rfl rfl)
theorem dX7_lay_7 : decode cX7_lay 7 = .ok (.iload_n 2, 1) := dk_28 (dk_at dksX7_lay_0 7 rfl rfl)
theorem dX7_lay_8 : decode cX7_lay 8 = .ok (.sipush 168, 3) := dk_17 0 168 (dk_at dksX7_lay_0 8 rfl rfl)
theorem dX7_lay_11 : decode cX7_lay 11 = .ok (.if_icmp .ge 17, 3) := dk_162 0 17 (dk_at dksX7_lay_0 11 rfl rfl)
theorem dX7_lay_14 : decode cX7_lay 14 = .ok (.aload_n 0, 1) := dk_42 (dk_at dksX7_lay_0 14 rfl rfl)
theorem dX7_lay_15 : decode cX7_lay 15 = .ok (.getfield 9, 3) := dk_180 0 9 (dk_at dksX7_lay_0 15 rfl rfl)
theorem dX7_lay_18 : decode cX7_lay 18 = .ok (.iload_n 2, 1) := dk_28 (dk_at dksX7_lay_0 18 rfl rfl)
theorem dX7_lay_19 : decode cX7_lay 19 = .ok (.ldc 17, 2) := dk_18 17 (dk_at dksX7_lay_0 19 rfl rfl)
theorem dX7_lay_21 : decode cX7_lay 21 = .ok (.iastore, 1) := dk_79 (dk_at dksX7_lay_0 21 rfl rfl)
theorem dX7_lay_22 : decode cX7_lay 22 = .ok (.iinc 2 1, 3) := dk_132 2 1 (dk_at dksX7_lay_1 0 rfl rfl)
theorem dX7_lay_25 : decode cX7_lay 25 = .ok (.goto (-18), 3) := dk_167 255 238 (dk_at dksX7_lay_1 3 rfl rfl)
theorem dX7_lay_28 : decode cX7_lay 28 = .ok (.aload_n 1, 1) := dk_43 (dk_at dksX7_lay_1 6 rfl rfl)
theorem dX7_lay_29 : decode cX7_lay 29 = .ok (.getfield 18, 3) := dk_180 0 18 (dk_at dksX7_lay_1 7 rfl rfl)
theorem dX7_lay_32 : decode cX7_lay 32 = .ok (.ifCond .ne 4, 3) := dk_154 0 4 (dk_at dksX7_lay_1 10 rfl rfl)
theorem dX7_lay_35 : decode cX7_lay 35 = .ok (.return_, 1) := dk_177 (dk_at dksX7_lay_1 13 rfl rfl)
theorem dX7_lay_36 : decode cX7_lay 36 = .ok (.aload_n 1, 1) := dk_43 (dk_at dksX7_lay_1 14 rfl rfl)
theorem dX7_lay_37 : decode cX7_lay 37 = .ok (.aload_n 1, 1) := dk_43 (dk_at dksX7_lay_1 15 rfl rfl)
theorem dX7_lay_38 : decode cX7_lay 38 = .ok (.getfield 18, 3) := dk_180 0 18 (dk_at dksX7_lay_1 16 rfl rfl)
theorem dX7_lay_41 : decode cX7_lay 41 = .ok (.invokevirtual 24, 3) := dk_182 0 24 (dk_at dksX7_lay_1 19 rfl rfl)
theorem dX7_lay_44 : decode cX7_lay 44 = .ok (.astore_n 2, 1) := dk_77 (dk_at dksX7_lay_1 22 rfl rfl)
theorem dX7_lay_45 : decode cX7_lay 45 = .ok (.aload_n 0, 1) := dk_42 (dk_at dksX7_lay_1 23 rfl rfl)
theorem dX7_lay_46 : decode cX7_lay 46 = .ok (.getfield 9, 3) := dk_180 0 9 (dk_at dksX7_lay_2 0 rfl rfl)
theorem dX7_lay_49 : decode cX7_lay 49 = .ok (.aload_n 1, 1) := dk_43 (dk_at dksX7_lay_2 3 rfl rfl)
theorem dX7_lay_50 : decode cX7_lay 50 = .ok (.getfield 18, 3) := dk_180 0 18 (dk_at dksX7_lay_2 4 rfl rfl)
theorem dX7_lay_53 : decode cX7_lay 53 = .ok (.invokestatic 28, 3) := dk_184 0 28 (dk_at dksX7_lay_2 7 rfl rfl)
theorem dX7_lay_56 : decode cX7_lay 56 = .ok (.aload_n 1, 1) := dk_43 (dk_at dksX7_lay_2 10 rfl rfl)
theorem dX7_lay_57 : decode cX7_lay 57 = .ok (.aload_n 1, 1) := dk_43 (dk_at dksX7_lay_2 11 rfl rfl)
theorem dX7_lay_58 : decode cX7_lay 58 = .ok (.getfield 18, 3) := dk_180 0 18 (dk_at dksX7_lay_2 12 rfl rfl)
theorem dX7_lay_61 : decode cX7_lay 61 = .ok (.invokevirtual 32, 3) := dk_182 0 32 (dk_at dksX7_lay_2 15 rfl rfl)
theorem dX7_lay_64 : decode cX7_lay 64 = .ok (.iadd, 1) := dk_96 (dk_at dksX7_lay_2 18 rfl rfl)
theorem dX7_lay_65 : decode cX7_lay 65 = .ok (.sipush 1000, 3) := dk_17 3 232 (dk_at dksX7_lay_2 19 rfl rfl)
theorem dX7_lay_68 : decode cX7_lay 68 = .ok (.aload_n 2, 1) := dk_44 (dk_at dksX7_lay_2 22 rfl rfl)
theorem dX7_lay_69 : decode cX7_lay 69 = .ok (.invokevirtual 35, 3) := dk_182 0 35 (dk_at dksX7_lay_3 0 rfl rfl)
theorem dX7_lay_72 : decode cX7_lay 72 = .ok (.imul, 1) := dk_104 (dk_at dksX7_lay_3 3 rfl rfl)
theorem dX7_lay_73 : decode cX7_lay 73 = .ok (.sipush 1000, 3) := dk_17 3 232 (dk_at dksX7_lay_3 4 rfl rfl)
theorem dX7_lay_76 : decode cX7_lay 76 = .ok (.aload_n 2, 1) := dk_44 (dk_at dksX7_lay_3 7 rfl rfl)
theorem dX7_lay_77 : decode cX7_lay 77 = .ok (.invokevirtual 41, 3) := dk_182 0 41 (dk_at dksX7_lay_3 8 rfl rfl)
theorem dX7_lay_80 : decode cX7_lay 80 = .ok (.imul, 1) := dk_104 (dk_at dksX7_lay_3 11 rfl rfl)
theorem dX7_lay_81 : decode cX7_lay 81 = .ok (.iconst 1, 1) := dk_4 (dk_at dksX7_lay_3 12 rfl rfl)
theorem dX7_lay_82 : decode cX7_lay 82 = .ok (.iadd, 1) := dk_96 (dk_at dksX7_lay_3 13 rfl rfl)
theorem dX7_lay_83 : decode cX7_lay 83 = .ok (.invokestatic 44, 3) := dk_184 0 44 (dk_at dksX7_lay_3 14 rfl rfl)
theorem dX7_lay_86 : decode cX7_lay 86 = .ok (.iastore, 1) := dk_79 (dk_at dksX7_lay_3 17 rfl rfl)
theorem dX7_lay_87 : decode cX7_lay 87 = .ok (.iconst 1, 1) := dk_4 (dk_at dksX7_lay_3 18 rfl rfl)
theorem dX7_lay_88 : decode cX7_lay 88 = .ok (.istore_n 3, 1) := dk_62 (dk_at dksX7_lay_3 19 rfl rfl)
theorem dX7_lay_89 : decode cX7_lay 89 = .ok (.iload_n 3, 1) := dk_29 (dk_at dksX7_lay_3 20 rfl rfl)
theorem dX7_lay_90 : decode cX7_lay 90 = .ok (.ifCond .eq 44, 3) := dk_153 0 44 (dk_at dksX7_lay_3 21 rfl rfl)
theorem dX7_lay_93 : decode cX7_lay 93 = .ok (.iconst 0, 1) := dk_3 (dk_at dksX7_lay_4 0 rfl rfl)
theorem dX7_lay_94 : decode cX7_lay 94 = .ok (.istore_n 3, 1) := dk_62 (dk_at dksX7_lay_4 1 rfl rfl)
theorem dX7_lay_95 : decode cX7_lay 95 = .ok (.aload_n 1, 1) := dk_43 (dk_at dksX7_lay_4 2 rfl rfl)
theorem dX7_lay_96 : decode cX7_lay 96 = .ok (.getfield 18, 3) := dk_180 0 18 (dk_at dksX7_lay_4 3 rfl rfl)
theorem dX7_lay_99 : decode cX7_lay 99 = .ok (.istore 4, 2) := dk_54 4 (dk_at dksX7_lay_4 6 rfl rfl)
theorem dX7_lay_101 : decode cX7_lay 101 = .ok (.iload 4, 2) := dk_21 4 (dk_at dksX7_lay_4 8 rfl rfl)
theorem dX7_lay_103 : decode cX7_lay 103 = .ok (.ifCond .le 28, 3) := dk_158 0 28 (dk_at dksX7_lay_4 10 rfl rfl)
theorem dX7_lay_106 : decode cX7_lay 106 = .ok (.aload_n 0, 1) := dk_42 (dk_at dksX7_lay_4 13 rfl rfl)
theorem dX7_lay_107 : decode cX7_lay 107 = .ok (.iload 4, 2) := dk_21 4 (dk_at dksX7_lay_4 14 rfl rfl)
theorem dX7_lay_109 : decode cX7_lay 109 = .ok (.invokevirtual 50, 3) := dk_182 0 50 (dk_at dksX7_lay_4 16 rfl rfl)
theorem dX7_lay_112 : decode cX7_lay 112 = .ok (.ifCond .ne 7, 3) := dk_154 0 7 (dk_at dksX7_lay_4 19 rfl rfl)
theorem dX7_lay_115 : decode cX7_lay 115 = .ok (.iload_n 3, 1) := dk_29 (dk_at dksX7_lay_4 22 rfl rfl)
theorem dX7_lay_116 : decode cX7_lay 116 = .ok (.ifCond .eq 7, 3) := dk_153 0 7 (dk_at dksX7_lay_5 0 rfl rfl)
theorem dX7_lay_119 : decode cX7_lay 119 = .ok (.iconst 1, 1) := dk_4 (dk_at dksX7_lay_5 3 rfl rfl)
theorem dX7_lay_120 : decode cX7_lay 120 = .ok (.goto 4, 3) := dk_167 0 4 (dk_at dksX7_lay_5 4 rfl rfl)
theorem dX7_lay_123 : decode cX7_lay 123 = .ok (.iconst 0, 1) := dk_3 (dk_at dksX7_lay_5 7 rfl rfl)
theorem dX7_lay_124 : decode cX7_lay 124 = .ok (.istore_n 3, 1) := dk_62 (dk_at dksX7_lay_5 8 rfl rfl)
theorem dX7_lay_125 : decode cX7_lay 125 = .ok (.iinc 4 (-1), 3) := dk_132 4 255 (dk_at dksX7_lay_5 9 rfl rfl)
theorem dX7_lay_128 : decode cX7_lay 128 = .ok (.goto (-27), 3) := dk_167 255 229 (dk_at dksX7_lay_5 12 rfl rfl)
theorem dX7_lay_131 : decode cX7_lay 131 = .ok (.goto (-42), 3) := dk_167 255 214 (dk_at dksX7_lay_5 15 rfl rfl)
theorem dX7_lay_134 : decode cX7_lay 134 = .ok (.return_, 1) := dk_177 (dk_at dksX7_lay_5 18 rfl rfl)
abbrev cX7_first : ByteArray := prog_15_method_2_code
def yX7_first : MethodName := ⟨RX7, "first", "(I)I"⟩
def dkwX7_first_0 : List UInt8 := [7, 26, 104, 26, 4, 100, 104, 172]
abbrev dktX7_first_0 : List UInt8 := dkwX7_first_0 ++ []
theorem dksX7_first_0 : cX7_first.data.toList.drop 0 = dktX7_first_0 := by decide +kernel
theorem dX7_first_0 : decode cX7_first 0 = .ok (.iconst 4, 1) := dk_7 (dk_at dksX7_first_0 0 rfl rfl)
theorem dX7_first_1 : decode cX7_first 1 = .ok (.iload_n 0, 1) := dk_26 (dk_at dksX7_first_0 1 rfl rfl)
theorem dX7_first_2 : decode cX7_first 2 = .ok (.imul, 1) := dk_104 (dk_at dksX7_first_0 2 rfl rfl)
theorem dX7_first_3 : decode cX7_first 3 = .ok (.iload_n 0, 1) := dk_26 (dk_at dksX7_first_0 3 rfl rfl)
theorem dX7_first_4 : decode cX7_first 4 = .ok (.iconst 1, 1) := dk_4 (dk_at dksX7_first_0 4 rfl rfl)
theorem dX7_first_5 : decode cX7_first 5 = .ok (.isub, 1) := dk_100 (dk_at dksX7_first_0 5 rfl rfl)
theorem dX7_first_6 : decode cX7_first 6 = .ok (.imul, 1) := dk_104 (dk_at dksX7_first_0 6 rfl rfl)
theorem dX7_first_7 : decode cX7_first 7 = .ok (.ireturn, 1) := dk_172 (dk_at dksX7_first_0 7 rfl rfl)
abbrev cX7_goes : ByteArray := prog_15_method_5_code
def yX7_goes : MethodName := ⟨RX7, "goes", "(I)Z"⟩
def dkwX7_goes_6 : List UInt8 := [167, 255, 121, 28, 172]
abbrev dktX7_goes_6 : List UInt8 := dkwX7_goes_6 ++ []
def dkwX7_goes_5 : List UInt8 := [42, 27, 29, 182, 0, 63, 154, 0, 7, 28, 153, 0, 7, 4, 167, 0, 4, 3, 61, 132, 3, 1]
abbrev dktX7_goes_5 : List UInt8 := dkwX7_goes_5 ++ dktX7_goes_6
def dkwX7_goes_4 : List UInt8 := [167, 0, 4, 3, 61, 27, 42, 180, 0, 13, 180, 0, 18, 162, 0, 30, 27, 29, 184, 0, 58, 154, 0, 22]
abbrev dktX7_goes_4 : List UInt8 := dkwX7_goes_4 ++ dktX7_goes_5
def dkwX7_goes_3 : List UInt8 := [27, 104, 96, 4, 100, 16, 8, 27, 104, 112, 96, 21, 4, 182, 0, 54, 154, 0, 7, 28, 153, 0, 7, 4]
abbrev dktX7_goes_3 : List UInt8 := dkwX7_goes_3 ++ dktX7_goes_4
def dkwX7_goes_2 : List UInt8 := [182, 0, 54, 154, 0, 7, 28, 153, 0, 7, 4, 167, 0, 4, 3, 61, 42, 27, 184, 0, 28, 29, 16, 8]
abbrev dktX7_goes_2 : List UInt8 := dkwX7_goes_2 ++ dktX7_goes_3
def dkwX7_goes_1 : List UInt8 := [17, 3, 232, 96, 54, 4, 42, 27, 184, 0, 28, 29, 4, 96, 16, 8, 27, 104, 112, 96, 21, 4]
abbrev dktX7_goes_1 : List UInt8 := dkwX7_goes_1 ++ dktX7_goes_2
def dkwX7_goes_0 : List UInt8 := [3, 61, 3, 62, 29, 16, 8, 27, 104, 162, 0, 133, 42, 180, 0, 9, 27, 184, 0, 28, 29, 96, 46]
abbrev dktX7_goes_0 : List UInt8 := dkwX7_goes_0 ++ dktX7_goes_1
theorem dksX7_goes_0 : cX7_goes.data.toList.drop 0 = dktX7_goes_0 := by decide +kernel
theorem dksX7_goes_1 : cX7_goes.data.toList.drop 23 = dktX7_goes_1 := dk_seg dksX7_goes_0 23 rfl rfl
theorem dksX7_goes_2 : cX7_goes.data.toList.drop 45 = dktX7_goes_2 := dk_seg dksX7_goes_1 22 rfl rfl
theorem dksX7_goes_3 : cX7_goes.data.toList.drop 69 = dktX7_goes_3 := dk_seg dksX7_goes_2 24 rfl rfl
theorem dksX7_goes_4 : cX7_goes.data.toList.drop 93 = dktX7_goes_4 := dk_seg dksX7_goes_3 24 rfl rfl
theorem dksX7_goes_5 : cX7_goes.data.toList.drop 117 = dktX7_goes_5 := dk_seg dksX7_goes_4 24 rfl rfl
theorem dksX7_goes_6 : cX7_goes.data.toList.drop 139 = dktX7_goes_6 := dk_seg dksX7_goes_5 22 rfl rfl
theorem dX7_goes_0 : decode cX7_goes 0 = .ok (.iconst 0, 1) := dk_3 (dk_at dksX7_goes_0 0 rfl rfl)
theorem dX7_goes_1 : decode cX7_goes 1 = .ok (.istore_n 2, 1) := dk_61 (dk_at dksX7_goes_0 1 rfl rfl)
theorem dX7_goes_2 : decode cX7_goes 2 = .ok (.iconst 0, 1) := dk_3 (dk_at dksX7_goes_0 2 rfl rfl)
theorem dX7_goes_3 : decode cX7_goes 3 = .ok (.istore_n 3, 1) := dk_62 (dk_at dksX7_goes_0 3 rfl rfl)
theorem dX7_goes_4 : decode cX7_goes 4 = .ok (.iload_n 3, 1) := dk_29 (dk_at dksX7_goes_0 4 rfl rfl)
theorem dX7_goes_5 : decode cX7_goes 5 = .ok (.bipush 8, 2) := dk_16 8 (dk_at dksX7_goes_0 5 rfl rfl)
theorem dX7_goes_7 : decode cX7_goes 7 = .ok (.iload_n 1, 1) := dk_27 (dk_at dksX7_goes_0 7 rfl rfl)
theorem dX7_goes_8 : decode cX7_goes 8 = .ok (.imul, 1) := dk_104 (dk_at dksX7_goes_0 8 rfl rfl)
theorem dX7_goes_9 : decode cX7_goes 9 = .ok (.if_icmp .ge 133, 3) := dk_162 0 133 (dk_at dksX7_goes_0 9 rfl rfl)
theorem dX7_goes_12 : decode cX7_goes 12 = .ok (.aload_n 0, 1) := dk_42 (dk_at dksX7_goes_0 12 rfl rfl)
theorem dX7_goes_13 : decode cX7_goes 13 = .ok (.getfield 9, 3) := dk_180 0 9 (dk_at dksX7_goes_0 13 rfl rfl)
theorem dX7_goes_16 : decode cX7_goes 16 = .ok (.iload_n 1, 1) := dk_27 (dk_at dksX7_goes_0 16 rfl rfl)
theorem dX7_goes_17 : decode cX7_goes 17 = .ok (.invokestatic 28, 3) := dk_184 0 28 (dk_at dksX7_goes_0 17 rfl rfl)
theorem dX7_goes_20 : decode cX7_goes 20 = .ok (.iload_n 3, 1) := dk_29 (dk_at dksX7_goes_0 20 rfl rfl)
theorem dX7_goes_21 : decode cX7_goes 21 = .ok (.iadd, 1) := dk_96 (dk_at dksX7_goes_0 21 rfl rfl)
theorem dX7_goes_22 : decode cX7_goes 22 = .ok (.iaload, 1) := dk_46 (dk_at dksX7_goes_0 22 rfl rfl)
theorem dX7_goes_23 : decode cX7_goes 23 = .ok (.sipush 1000, 3) := dk_17 3 232 (dk_at dksX7_goes_1 0 rfl rfl)
theorem dX7_goes_26 : decode cX7_goes 26 = .ok (.iadd, 1) := dk_96 (dk_at dksX7_goes_1 3 rfl rfl)
theorem dX7_goes_27 : decode cX7_goes 27 = .ok (.istore 4, 2) := dk_54 4 (dk_at dksX7_goes_1 4 rfl rfl)
theorem dX7_goes_29 : decode cX7_goes 29 = .ok (.aload_n 0, 1) := dk_42 (dk_at dksX7_goes_1 6 rfl rfl)
theorem dX7_goes_30 : decode cX7_goes 30 = .ok (.iload_n 1, 1) := dk_27 (dk_at dksX7_goes_1 7 rfl rfl)
theorem dX7_goes_31 : decode cX7_goes 31 = .ok (.invokestatic 28, 3) := dk_184 0 28 (dk_at dksX7_goes_1 8 rfl rfl)
theorem dX7_goes_34 : decode cX7_goes 34 = .ok (.iload_n 3, 1) := dk_29 (dk_at dksX7_goes_1 11 rfl rfl)
theorem dX7_goes_35 : decode cX7_goes 35 = .ok (.iconst 1, 1) := dk_4 (dk_at dksX7_goes_1 12 rfl rfl)
theorem dX7_goes_36 : decode cX7_goes 36 = .ok (.iadd, 1) := dk_96 (dk_at dksX7_goes_1 13 rfl rfl)
theorem dX7_goes_37 : decode cX7_goes 37 = .ok (.bipush 8, 2) := dk_16 8 (dk_at dksX7_goes_1 14 rfl rfl)
theorem dX7_goes_39 : decode cX7_goes 39 = .ok (.iload_n 1, 1) := dk_27 (dk_at dksX7_goes_1 16 rfl rfl)
theorem dX7_goes_40 : decode cX7_goes 40 = .ok (.imul, 1) := dk_104 (dk_at dksX7_goes_1 17 rfl rfl)
theorem dX7_goes_41 : decode cX7_goes 41 = .ok (.irem, 1) := dk_112 (dk_at dksX7_goes_1 18 rfl rfl)
theorem dX7_goes_42 : decode cX7_goes 42 = .ok (.iadd, 1) := dk_96 (dk_at dksX7_goes_1 19 rfl rfl)
theorem dX7_goes_43 : decode cX7_goes 43 = .ok (.iload 4, 2) := dk_21 4 (dk_at dksX7_goes_1 20 rfl rfl)
theorem dX7_goes_45 : decode cX7_goes 45 = .ok (.invokevirtual 54, 3) := dk_182 0 54 (dk_at dksX7_goes_2 0 rfl rfl)
theorem dX7_goes_48 : decode cX7_goes 48 = .ok (.ifCond .ne 7, 3) := dk_154 0 7 (dk_at dksX7_goes_2 3 rfl rfl)
theorem dX7_goes_51 : decode cX7_goes 51 = .ok (.iload_n 2, 1) := dk_28 (dk_at dksX7_goes_2 6 rfl rfl)
theorem dX7_goes_52 : decode cX7_goes 52 = .ok (.ifCond .eq 7, 3) := dk_153 0 7 (dk_at dksX7_goes_2 7 rfl rfl)
theorem dX7_goes_55 : decode cX7_goes 55 = .ok (.iconst 1, 1) := dk_4 (dk_at dksX7_goes_2 10 rfl rfl)
theorem dX7_goes_56 : decode cX7_goes 56 = .ok (.goto 4, 3) := dk_167 0 4 (dk_at dksX7_goes_2 11 rfl rfl)
theorem dX7_goes_59 : decode cX7_goes 59 = .ok (.iconst 0, 1) := dk_3 (dk_at dksX7_goes_2 14 rfl rfl)
theorem dX7_goes_60 : decode cX7_goes 60 = .ok (.istore_n 2, 1) := dk_61 (dk_at dksX7_goes_2 15 rfl rfl)
theorem dX7_goes_61 : decode cX7_goes 61 = .ok (.aload_n 0, 1) := dk_42 (dk_at dksX7_goes_2 16 rfl rfl)
theorem dX7_goes_62 : decode cX7_goes 62 = .ok (.iload_n 1, 1) := dk_27 (dk_at dksX7_goes_2 17 rfl rfl)
theorem dX7_goes_63 : decode cX7_goes 63 = .ok (.invokestatic 28, 3) := dk_184 0 28 (dk_at dksX7_goes_2 18 rfl rfl)
theorem dX7_goes_66 : decode cX7_goes 66 = .ok (.iload_n 3, 1) := dk_29 (dk_at dksX7_goes_2 21 rfl rfl)
theorem dX7_goes_67 : decode cX7_goes 67 = .ok (.bipush 8, 2) := dk_16 8 (dk_at dksX7_goes_2 22 rfl rfl)
theorem dX7_goes_69 : decode cX7_goes 69 = .ok (.iload_n 1, 1) := dk_27 (dk_at dksX7_goes_3 0 rfl rfl)
theorem dX7_goes_70 : decode cX7_goes 70 = .ok (.imul, 1) := dk_104 (dk_at dksX7_goes_3 1 rfl rfl)
theorem dX7_goes_71 : decode cX7_goes 71 = .ok (.iadd, 1) := dk_96 (dk_at dksX7_goes_3 2 rfl rfl)
theorem dX7_goes_72 : decode cX7_goes 72 = .ok (.iconst 1, 1) := dk_4 (dk_at dksX7_goes_3 3 rfl rfl)
theorem dX7_goes_73 : decode cX7_goes 73 = .ok (.isub, 1) := dk_100 (dk_at dksX7_goes_3 4 rfl rfl)
theorem dX7_goes_74 : decode cX7_goes 74 = .ok (.bipush 8, 2) := dk_16 8 (dk_at dksX7_goes_3 5 rfl rfl)
theorem dX7_goes_76 : decode cX7_goes 76 = .ok (.iload_n 1, 1) := dk_27 (dk_at dksX7_goes_3 7 rfl rfl)
theorem dX7_goes_77 : decode cX7_goes 77 = .ok (.imul, 1) := dk_104 (dk_at dksX7_goes_3 8 rfl rfl)
theorem dX7_goes_78 : decode cX7_goes 78 = .ok (.irem, 1) := dk_112 (dk_at dksX7_goes_3 9 rfl rfl)
theorem dX7_goes_79 : decode cX7_goes 79 = .ok (.iadd, 1) := dk_96 (dk_at dksX7_goes_3 10 rfl rfl)
theorem dX7_goes_80 : decode cX7_goes 80 = .ok (.iload 4, 2) := dk_21 4 (dk_at dksX7_goes_3 11 rfl rfl)
theorem dX7_goes_82 : decode cX7_goes 82 = .ok (.invokevirtual 54, 3) := dk_182 0 54 (dk_at dksX7_goes_3 13 rfl rfl)
theorem dX7_goes_85 : decode cX7_goes 85 = .ok (.ifCond .ne 7, 3) := dk_154 0 7 (dk_at dksX7_goes_3 16 rfl rfl)
theorem dX7_goes_88 : decode cX7_goes 88 = .ok (.iload_n 2, 1) := dk_28 (dk_at dksX7_goes_3 19 rfl rfl)
theorem dX7_goes_89 : decode cX7_goes 89 = .ok (.ifCond .eq 7, 3) := dk_153 0 7 (dk_at dksX7_goes_3 20 rfl rfl)
theorem dX7_goes_92 : decode cX7_goes 92 = .ok (.iconst 1, 1) := dk_4 (dk_at dksX7_goes_3 23 rfl rfl)
theorem dX7_goes_93 : decode cX7_goes 93 = .ok (.goto 4, 3) := dk_167 0 4 (dk_at dksX7_goes_4 0 rfl rfl)
theorem dX7_goes_96 : decode cX7_goes 96 = .ok (.iconst 0, 1) := dk_3 (dk_at dksX7_goes_4 3 rfl rfl)
theorem dX7_goes_97 : decode cX7_goes 97 = .ok (.istore_n 2, 1) := dk_61 (dk_at dksX7_goes_4 4 rfl rfl)
theorem dX7_goes_98 : decode cX7_goes 98 = .ok (.iload_n 1, 1) := dk_27 (dk_at dksX7_goes_4 5 rfl rfl)
theorem dX7_goes_99 : decode cX7_goes 99 = .ok (.aload_n 0, 1) := dk_42 (dk_at dksX7_goes_4 6 rfl rfl)
theorem dX7_goes_100 : decode cX7_goes 100 = .ok (.getfield 13, 3) := dk_180 0 13 (dk_at dksX7_goes_4 7 rfl rfl)
theorem dX7_goes_103 : decode cX7_goes 103 = .ok (.getfield 18, 3) := dk_180 0 18 (dk_at dksX7_goes_4 10 rfl rfl)
theorem dX7_goes_106 : decode cX7_goes 106 = .ok (.if_icmp .ge 30, 3) := dk_162 0 30 (dk_at dksX7_goes_4 13 rfl rfl)
theorem dX7_goes_109 : decode cX7_goes 109 = .ok (.iload_n 1, 1) := dk_27 (dk_at dksX7_goes_4 16 rfl rfl)
theorem dX7_goes_110 : decode cX7_goes 110 = .ok (.iload_n 3, 1) := dk_29 (dk_at dksX7_goes_4 17 rfl rfl)
theorem dX7_goes_111 : decode cX7_goes 111 = .ok (.invokestatic 58, 3) := dk_184 0 58 (dk_at dksX7_goes_4 18 rfl rfl)
theorem dX7_goes_114 : decode cX7_goes 114 = .ok (.ifCond .ne 22, 3) := dk_154 0 22 (dk_at dksX7_goes_4 21 rfl rfl)
theorem dX7_goes_117 : decode cX7_goes 117 = .ok (.aload_n 0, 1) := dk_42 (dk_at dksX7_goes_5 0 rfl rfl)
theorem dX7_goes_118 : decode cX7_goes 118 = .ok (.iload_n 1, 1) := dk_27 (dk_at dksX7_goes_5 1 rfl rfl)
theorem dX7_goes_119 : decode cX7_goes 119 = .ok (.iload_n 3, 1) := dk_29 (dk_at dksX7_goes_5 2 rfl rfl)
theorem dX7_goes_120 : decode cX7_goes 120 = .ok (.invokevirtual 63, 3) := dk_182 0 63 (dk_at dksX7_goes_5 3 rfl rfl)
theorem dX7_goes_123 : decode cX7_goes 123 = .ok (.ifCond .ne 7, 3) := dk_154 0 7 (dk_at dksX7_goes_5 6 rfl rfl)
theorem dX7_goes_126 : decode cX7_goes 126 = .ok (.iload_n 2, 1) := dk_28 (dk_at dksX7_goes_5 9 rfl rfl)
theorem dX7_goes_127 : decode cX7_goes 127 = .ok (.ifCond .eq 7, 3) := dk_153 0 7 (dk_at dksX7_goes_5 10 rfl rfl)
theorem dX7_goes_130 : decode cX7_goes 130 = .ok (.iconst 1, 1) := dk_4 (dk_at dksX7_goes_5 13 rfl rfl)
theorem dX7_goes_131 : decode cX7_goes 131 = .ok (.goto 4, 3) := dk_167 0 4 (dk_at dksX7_goes_5 14 rfl rfl)
theorem dX7_goes_134 : decode cX7_goes 134 = .ok (.iconst 0, 1) := dk_3 (dk_at dksX7_goes_5 17 rfl rfl)
theorem dX7_goes_135 : decode cX7_goes 135 = .ok (.istore_n 2, 1) := dk_61 (dk_at dksX7_goes_5 18 rfl rfl)
theorem dX7_goes_136 : decode cX7_goes 136 = .ok (.iinc 3 1, 3) := dk_132 3 1 (dk_at dksX7_goes_5 19 rfl rfl)
theorem dX7_goes_139 : decode cX7_goes 139 = .ok (.goto (-135), 3) := dk_167 255 121 (dk_at dksX7_goes_6 0 rfl rfl)
theorem dX7_goes_142 : decode cX7_goes 142 = .ok (.iload_n 2, 1) := dk_28 (dk_at dksX7_goes_6 3 rfl rfl)
theorem dX7_goes_143 : decode cX7_goes 143 = .ok (.ireturn, 1) := dk_172 (dk_at dksX7_goes_6 4 rfl rfl)
abbrev cX7_less : ByteArray := prog_15_method_4_code
def yX7_less : MethodName := ⟨RX7, "less", "(II)Z"⟩
def dkwX7_less_0 : List UInt8 := [28, 42, 180, 0, 9, 27, 46, 161, 0, 5, 3, 172, 42, 180, 0, 9, 27, 28, 79, 4, 172]
abbrev dktX7_less_0 : List UInt8 := dkwX7_less_0 ++ []
theorem dksX7_less_0 : cX7_less.data.toList.drop 0 = dktX7_less_0 := by decide +kernel
theorem dX7_less_0 : decode cX7_less 0 = .ok (.iload_n 2, 1) := dk_28 (dk_at dksX7_less_0 0 rfl rfl)
theorem dX7_less_1 : decode cX7_less 1 = .ok (.aload_n 0, 1) := dk_42 (dk_at dksX7_less_0 1 rfl rfl)
theorem dX7_less_2 : decode cX7_less 2 = .ok (.getfield 9, 3) := dk_180 0 9 (dk_at dksX7_less_0 2 rfl rfl)
theorem dX7_less_5 : decode cX7_less 5 = .ok (.iload_n 1, 1) := dk_27 (dk_at dksX7_less_0 5 rfl rfl)
theorem dX7_less_6 : decode cX7_less 6 = .ok (.iaload, 1) := dk_46 (dk_at dksX7_less_0 6 rfl rfl)
theorem dX7_less_7 : decode cX7_less 7 = .ok (.if_icmp .lt 5, 3) := dk_161 0 5 (dk_at dksX7_less_0 7 rfl rfl)
theorem dX7_less_10 : decode cX7_less 10 = .ok (.iconst 0, 1) := dk_3 (dk_at dksX7_less_0 10 rfl rfl)
theorem dX7_less_11 : decode cX7_less 11 = .ok (.ireturn, 1) := dk_172 (dk_at dksX7_less_0 11 rfl rfl)
theorem dX7_less_12 : decode cX7_less 12 = .ok (.aload_n 0, 1) := dk_42 (dk_at dksX7_less_0 12 rfl rfl)
theorem dX7_less_13 : decode cX7_less 13 = .ok (.getfield 9, 3) := dk_180 0 9 (dk_at dksX7_less_0 13 rfl rfl)
theorem dX7_less_16 : decode cX7_less 16 = .ok (.iload_n 1, 1) := dk_27 (dk_at dksX7_less_0 16 rfl rfl)
theorem dX7_less_17 : decode cX7_less 17 = .ok (.iload_n 2, 1) := dk_28 (dk_at dksX7_less_0 17 rfl rfl)
theorem dX7_less_18 : decode cX7_less 18 = .ok (.iastore, 1) := dk_79 (dk_at dksX7_less_0 18 rfl rfl)
theorem dX7_less_19 : decode cX7_less 19 = .ok (.iconst 1, 1) := dk_4 (dk_at dksX7_less_0 19 rfl rfl)
theorem dX7_less_20 : decode cX7_less 20 = .ok (.ireturn, 1) := dk_172 (dk_at dksX7_less_0 20 rfl rfl)
abbrev cX7_enters : ByteArray := prog_15_method_6_code
def yX7_enters : MethodName := ⟨RX7, "enters", "(II)Z"⟩
def dkwX7_enters_3 : List UInt8 := [184, 0, 44, 167, 0, 5, 21, 5, 96, 182, 0, 54, 172]
abbrev dktX7_enters_3 : List UInt8 := dkwX7_enters_3 ++ []
def dkwX7_enters_2 : List UInt8 := [21, 4, 42, 180, 0, 13, 27, 182, 0, 32, 28, 160, 0, 19, 21, 5, 17, 3, 232, 45, 182, 0, 35, 104]
abbrev dktX7_enters_2 : List UInt8 := dkwX7_enters_2 ++ dktX7_enters_3
def dkwX7_enters_1 : List UInt8 := [96, 46, 54, 4, 17, 3, 232, 45, 182, 0, 41, 104, 4, 96, 54, 5, 42, 27, 184, 0, 28, 28, 96]
abbrev dktX7_enters_1 : List UInt8 := dkwX7_enters_1 ++ dktX7_enters_2
def dkwX7_enters_0 : List UInt8 := [42, 180, 0, 13, 27, 182, 0, 24, 78, 42, 180, 0, 9, 27, 4, 96, 184, 0, 28, 27, 28, 184, 0, 66]
abbrev dktX7_enters_0 : List UInt8 := dkwX7_enters_0 ++ dktX7_enters_1
theorem dksX7_enters_0 : cX7_enters.data.toList.drop 0 = dktX7_enters_0 := by decide +kernel
theorem dksX7_enters_1 : cX7_enters.data.toList.drop 24 = dktX7_enters_1 := dk_seg dksX7_enters_0 24 rfl rfl
theorem dksX7_enters_2 : cX7_enters.data.toList.drop 47 = dktX7_enters_2 := dk_seg dksX7_enters_1 23 rfl rfl
theorem dksX7_enters_3 : cX7_enters.data.toList.drop 71 = dktX7_enters_3 := dk_seg dksX7_enters_2 24 rfl rfl
theorem dX7_enters_0 : decode cX7_enters 0 = .ok (.aload_n 0, 1) := dk_42 (dk_at dksX7_enters_0 0 rfl rfl)
theorem dX7_enters_1 : decode cX7_enters 1 = .ok (.getfield 13, 3) := dk_180 0 13 (dk_at dksX7_enters_0 1 rfl rfl)
theorem dX7_enters_4 : decode cX7_enters 4 = .ok (.iload_n 1, 1) := dk_27 (dk_at dksX7_enters_0 4 rfl rfl)
theorem dX7_enters_5 : decode cX7_enters 5 = .ok (.invokevirtual 24, 3) := dk_182 0 24 (dk_at dksX7_enters_0 5 rfl rfl)
theorem dX7_enters_8 : decode cX7_enters 8 = .ok (.astore_n 3, 1) := dk_78 (dk_at dksX7_enters_0 8 rfl rfl)
theorem dX7_enters_9 : decode cX7_enters 9 = .ok (.aload_n 0, 1) := dk_42 (dk_at dksX7_enters_0 9 rfl rfl)
theorem dX7_enters_10 : decode cX7_enters 10 = .ok (.getfield 9, 3) := dk_180 0 9 (dk_at dksX7_enters_0 10 rfl rfl)
theorem dX7_enters_13 : decode cX7_enters 13 = .ok (.iload_n 1, 1) := dk_27 (dk_at dksX7_enters_0 13 rfl rfl)
theorem dX7_enters_14 : decode cX7_enters 14 = .ok (.iconst 1, 1) := dk_4 (dk_at dksX7_enters_0 14 rfl rfl)
theorem dX7_enters_15 : decode cX7_enters 15 = .ok (.iadd, 1) := dk_96 (dk_at dksX7_enters_0 15 rfl rfl)
theorem dX7_enters_16 : decode cX7_enters 16 = .ok (.invokestatic 28, 3) := dk_184 0 28 (dk_at dksX7_enters_0 16 rfl rfl)
theorem dX7_enters_19 : decode cX7_enters 19 = .ok (.iload_n 1, 1) := dk_27 (dk_at dksX7_enters_0 19 rfl rfl)
theorem dX7_enters_20 : decode cX7_enters 20 = .ok (.iload_n 2, 1) := dk_28 (dk_at dksX7_enters_0 20 rfl rfl)
theorem dX7_enters_21 : decode cX7_enters 21 = .ok (.invokestatic 66, 3) := dk_184 0 66 (dk_at dksX7_enters_0 21 rfl rfl)
theorem dX7_enters_24 : decode cX7_enters 24 = .ok (.iadd, 1) := dk_96 (dk_at dksX7_enters_1 0 rfl rfl)
theorem dX7_enters_25 : decode cX7_enters 25 = .ok (.iaload, 1) := dk_46 (dk_at dksX7_enters_1 1 rfl rfl)
theorem dX7_enters_26 : decode cX7_enters 26 = .ok (.istore 4, 2) := dk_54 4 (dk_at dksX7_enters_1 2 rfl rfl)
theorem dX7_enters_28 : decode cX7_enters 28 = .ok (.sipush 1000, 3) := dk_17 3 232 (dk_at dksX7_enters_1 4 rfl rfl)
theorem dX7_enters_31 : decode cX7_enters 31 = .ok (.aload_n 3, 1) := dk_45 (dk_at dksX7_enters_1 7 rfl rfl)
theorem dX7_enters_32 : decode cX7_enters 32 = .ok (.invokevirtual 41, 3) := dk_182 0 41 (dk_at dksX7_enters_1 8 rfl rfl)
theorem dX7_enters_35 : decode cX7_enters 35 = .ok (.imul, 1) := dk_104 (dk_at dksX7_enters_1 11 rfl rfl)
theorem dX7_enters_36 : decode cX7_enters 36 = .ok (.iconst 1, 1) := dk_4 (dk_at dksX7_enters_1 12 rfl rfl)
theorem dX7_enters_37 : decode cX7_enters 37 = .ok (.iadd, 1) := dk_96 (dk_at dksX7_enters_1 13 rfl rfl)
theorem dX7_enters_38 : decode cX7_enters 38 = .ok (.istore 5, 2) := dk_54 5 (dk_at dksX7_enters_1 14 rfl rfl)
theorem dX7_enters_40 : decode cX7_enters 40 = .ok (.aload_n 0, 1) := dk_42 (dk_at dksX7_enters_1 16 rfl rfl)
theorem dX7_enters_41 : decode cX7_enters 41 = .ok (.iload_n 1, 1) := dk_27 (dk_at dksX7_enters_1 17 rfl rfl)
theorem dX7_enters_42 : decode cX7_enters 42 = .ok (.invokestatic 28, 3) := dk_184 0 28 (dk_at dksX7_enters_1 18 rfl rfl)
theorem dX7_enters_45 : decode cX7_enters 45 = .ok (.iload_n 2, 1) := dk_28 (dk_at dksX7_enters_1 21 rfl rfl)
theorem dX7_enters_46 : decode cX7_enters 46 = .ok (.iadd, 1) := dk_96 (dk_at dksX7_enters_1 22 rfl rfl)
theorem dX7_enters_47 : decode cX7_enters 47 = .ok (.iload 4, 2) := dk_21 4 (dk_at dksX7_enters_2 0 rfl rfl)
theorem dX7_enters_49 : decode cX7_enters 49 = .ok (.aload_n 0, 1) := dk_42 (dk_at dksX7_enters_2 2 rfl rfl)
theorem dX7_enters_50 : decode cX7_enters 50 = .ok (.getfield 13, 3) := dk_180 0 13 (dk_at dksX7_enters_2 3 rfl rfl)
theorem dX7_enters_53 : decode cX7_enters 53 = .ok (.iload_n 1, 1) := dk_27 (dk_at dksX7_enters_2 6 rfl rfl)
theorem dX7_enters_54 : decode cX7_enters 54 = .ok (.invokevirtual 32, 3) := dk_182 0 32 (dk_at dksX7_enters_2 7 rfl rfl)
theorem dX7_enters_57 : decode cX7_enters 57 = .ok (.iload_n 2, 1) := dk_28 (dk_at dksX7_enters_2 10 rfl rfl)
theorem dX7_enters_58 : decode cX7_enters 58 = .ok (.if_icmp .ne 19, 3) := dk_160 0 19 (dk_at dksX7_enters_2 11 rfl rfl)
theorem dX7_enters_61 : decode cX7_enters 61 = .ok (.iload 5, 2) := dk_21 5 (dk_at dksX7_enters_2 14 rfl rfl)
theorem dX7_enters_63 : decode cX7_enters 63 = .ok (.sipush 1000, 3) := dk_17 3 232 (dk_at dksX7_enters_2 16 rfl rfl)
theorem dX7_enters_66 : decode cX7_enters 66 = .ok (.aload_n 3, 1) := dk_45 (dk_at dksX7_enters_2 19 rfl rfl)
theorem dX7_enters_67 : decode cX7_enters 67 = .ok (.invokevirtual 35, 3) := dk_182 0 35 (dk_at dksX7_enters_2 20 rfl rfl)
theorem dX7_enters_70 : decode cX7_enters 70 = .ok (.imul, 1) := dk_104 (dk_at dksX7_enters_2 23 rfl rfl)
theorem dX7_enters_71 : decode cX7_enters 71 = .ok (.invokestatic 44, 3) := dk_184 0 44 (dk_at dksX7_enters_3 0 rfl rfl)
theorem dX7_enters_74 : decode cX7_enters 74 = .ok (.goto 5, 3) := dk_167 0 5 (dk_at dksX7_enters_3 3 rfl rfl)
theorem dX7_enters_77 : decode cX7_enters 77 = .ok (.iload 5, 2) := dk_21 5 (dk_at dksX7_enters_3 6 rfl rfl)
theorem dX7_enters_79 : decode cX7_enters 79 = .ok (.iadd, 1) := dk_96 (dk_at dksX7_enters_3 8 rfl rfl)
theorem dX7_enters_80 : decode cX7_enters 80 = .ok (.invokevirtual 54, 3) := dk_182 0 54 (dk_at dksX7_enters_3 9 rfl rfl)
theorem dX7_enters_83 : decode cX7_enters 83 = .ok (.ireturn, 1) := dk_172 (dk_at dksX7_enters_3 12 rfl rfl)
abbrev cX7_to : ByteArray := prog_15_method_7_code
def yX7_to : MethodName := ⟨RX7, "to", "(I)I"⟩
def dkwX7_to_1 : List UInt8 := [46, 184, 0, 44, 61, 132, 3, 1, 167, 255, 229, 28, 172]
abbrev dktX7_to_1 : List UInt8 := dkwX7_to_1 ++ []
def dkwX7_to_0 : List UInt8 := [18, 17, 61, 3, 62, 29, 16, 8, 27, 104, 162, 0, 25, 28, 42, 180, 0, 9, 27, 184, 0, 28, 29, 96]
abbrev dktX7_to_0 : List UInt8 := dkwX7_to_0 ++ dktX7_to_1
theorem dksX7_to_0 : cX7_to.data.toList.drop 0 = dktX7_to_0 := by decide +kernel
theorem dksX7_to_1 : cX7_to.data.toList.drop 24 = dktX7_to_1 := dk_seg dksX7_to_0 24 rfl rfl
theorem dX7_to_0 : decode cX7_to 0 = .ok (.ldc 17, 2) := dk_18 17 (dk_at dksX7_to_0 0 rfl rfl)
theorem dX7_to_2 : decode cX7_to 2 = .ok (.istore_n 2, 1) := dk_61 (dk_at dksX7_to_0 2 rfl rfl)
theorem dX7_to_3 : decode cX7_to 3 = .ok (.iconst 0, 1) := dk_3 (dk_at dksX7_to_0 3 rfl rfl)
theorem dX7_to_4 : decode cX7_to 4 = .ok (.istore_n 3, 1) := dk_62 (dk_at dksX7_to_0 4 rfl rfl)
theorem dX7_to_5 : decode cX7_to 5 = .ok (.iload_n 3, 1) := dk_29 (dk_at dksX7_to_0 5 rfl rfl)
theorem dX7_to_6 : decode cX7_to 6 = .ok (.bipush 8, 2) := dk_16 8 (dk_at dksX7_to_0 6 rfl rfl)
theorem dX7_to_8 : decode cX7_to 8 = .ok (.iload_n 1, 1) := dk_27 (dk_at dksX7_to_0 8 rfl rfl)
theorem dX7_to_9 : decode cX7_to 9 = .ok (.imul, 1) := dk_104 (dk_at dksX7_to_0 9 rfl rfl)
theorem dX7_to_10 : decode cX7_to 10 = .ok (.if_icmp .ge 25, 3) := dk_162 0 25 (dk_at dksX7_to_0 10 rfl rfl)
theorem dX7_to_13 : decode cX7_to 13 = .ok (.iload_n 2, 1) := dk_28 (dk_at dksX7_to_0 13 rfl rfl)
theorem dX7_to_14 : decode cX7_to 14 = .ok (.aload_n 0, 1) := dk_42 (dk_at dksX7_to_0 14 rfl rfl)
theorem dX7_to_15 : decode cX7_to 15 = .ok (.getfield 9, 3) := dk_180 0 9 (dk_at dksX7_to_0 15 rfl rfl)
theorem dX7_to_18 : decode cX7_to 18 = .ok (.iload_n 1, 1) := dk_27 (dk_at dksX7_to_0 18 rfl rfl)
theorem dX7_to_19 : decode cX7_to 19 = .ok (.invokestatic 28, 3) := dk_184 0 28 (dk_at dksX7_to_0 19 rfl rfl)
theorem dX7_to_22 : decode cX7_to 22 = .ok (.iload_n 3, 1) := dk_29 (dk_at dksX7_to_0 22 rfl rfl)
theorem dX7_to_23 : decode cX7_to 23 = .ok (.iadd, 1) := dk_96 (dk_at dksX7_to_0 23 rfl rfl)
theorem dX7_to_24 : decode cX7_to 24 = .ok (.iaload, 1) := dk_46 (dk_at dksX7_to_1 0 rfl rfl)
theorem dX7_to_25 : decode cX7_to 25 = .ok (.invokestatic 44, 3) := dk_184 0 44 (dk_at dksX7_to_1 1 rfl rfl)
theorem dX7_to_28 : decode cX7_to 28 = .ok (.istore_n 2, 1) := dk_61 (dk_at dksX7_to_1 4 rfl rfl)
theorem dX7_to_29 : decode cX7_to 29 = .ok (.iinc 3 1, 3) := dk_132 3 1 (dk_at dksX7_to_1 5 rfl rfl)
theorem dX7_to_32 : decode cX7_to 32 = .ok (.goto (-27), 3) := dk_167 255 229 (dk_at dksX7_to_1 8 rfl rfl)
theorem dX7_to_35 : decode cX7_to 35 = .ok (.iload_n 2, 1) := dk_28 (dk_at dksX7_to_1 11 rfl rfl)
theorem dX7_to_36 : decode cX7_to 36 = .ok (.ireturn, 1) := dk_172 (dk_at dksX7_to_1 12 rfl rfl)
theorem q135 : (Jvm.Cond.initialized "YearSkins$Through") ∈ lw_all := lw_g (lw_at lw_m1 10 rfl) rfl
theorem q312 : (Jvm.Cond.fieldLink "YearSkins$Through" (18 : Nat) "YearSkins$House" "many" "I") ∈ lw_all := lw_g (lw_at lw_m1 187 rfl) rfl
theorem q418 : (Jvm.Cond.instantiable "YearSkins$Through" (2 : Nat)) ∈ lw_all := lw_g (lw_at lw_m2 53 rfl) rfl
theorem q420 : (Jvm.Cond.instanceMethod ({ cls := "YearSkins$Through", name := "<init>", desc := "()V" } : Jvm.MethodName)) ∈ lw_all := lw_g (lw_at lw_m2 55 rfl) rfl
theorem q421 : (Jvm.Cond.code ({ cls := "YearSkins$Through", name := "<init>", desc := "()V" } : Jvm.MethodName) prog_15_method_1_code (1 : Nat) (Option.none : Option Jvm.ClassFile.FieldType)) ∈ lw_all := lw_g (lw_at lw_m2 56 rfl) rfl
theorem q422 : (Jvm.Cond.methodLink "YearSkins$Through" (1 : Nat) ({ cls := "java/lang/Object", name := "<init>", desc := "()V" } : Jvm.MethodName)) ∈ lw_all := lw_g (lw_at lw_m2 57 rfl) rfl
theorem q423 : (Jvm.Cond.fieldLink "YearSkins$Through" (9 : Nat) "YearSkins$Through" "best" "[I") ∈ lw_all := lw_g (lw_at lw_m2 58 rfl) rfl
theorem q424 : (Jvm.Cond.fieldLink "YearSkins$Through" (13 : Nat) "YearSkins$Through" "house" "LYearSkins$House;") ∈ lw_all := lw_g (lw_at lw_m2 59 rfl) rfl
theorem q425 : (Jvm.Cond.laysFinal "YearSkins$Through" "YearSkins$Through" "best" "[I") ∈ lw_all := lw_g (lw_at lw_m2 60 rfl) rfl
theorem q426 : (Jvm.Cond.soleField "YearSkins$Through" "best") ∈ lw_all := lw_g (lw_at lw_m2 61 rfl) rfl
theorem q427 : (Jvm.Cond.lays "YearSkins$Through" "YearSkins$Through" "house" "LYearSkins$House;") ∈ lw_all := lw_g (lw_at lw_m2 62 rfl) rfl
theorem q428 : (Jvm.Cond.soleField "YearSkins$Through" "house") ∈ lw_all := lw_g (lw_at lw_m2 63 rfl) rfl
theorem q429 : (Jvm.Cond.superclass "YearSkins$Through" "java/lang/Object") ∈ lw_all := lw_g (lw_at lw_m2 64 rfl) rfl
theorem q1383 : (Jvm.Cond.instanceMethod ({ cls := "YearSkins$Through", name := "lay", desc := "(LYearSkins$House;)V" } : Jvm.MethodName)) ∈ lw_all := lw_g (lw_at lw_m6 58 rfl) rfl
theorem q1384 : (Jvm.Cond.selects "YearSkins$Through" ({ cls := "YearSkins$Through", name := "lay", desc := "(LYearSkins$House;)V" } : Jvm.MethodName) ({ cls := "YearSkins$Through", name := "lay", desc := "(LYearSkins$House;)V" } : Jvm.MethodName)) ∈ lw_all := lw_g (lw_at lw_m6 59 rfl) rfl
theorem q1385 : (Jvm.Cond.code ({ cls := "YearSkins$Through", name := "lay", desc := "(LYearSkins$House;)V" } : Jvm.MethodName) prog_15_method_3_code (5 : Nat) (Option.none : Option Jvm.ClassFile.FieldType)) ∈ lw_all := lw_g (lw_at lw_m6 60 rfl) rfl
theorem q1386 : (Jvm.Cond.constant "YearSkins$Through" (17 : Nat) (100000000 : Int32)) ∈ lw_all := lw_g (lw_at lw_m6 61 rfl) rfl
theorem q1387 : (Jvm.Cond.methodLink "YearSkins$Through" (24 : Nat) ({ cls := "YearSkins$House", name := "skin", desc := "(I)LYearSkins$Skin;" } : Jvm.MethodName)) ∈ lw_all := lw_g (lw_at lw_m6 62 rfl) rfl
theorem q1388 : (Jvm.Cond.methodLink "YearSkins$Through" (28 : Nat) ({ cls := "YearSkins$Through", name := "first", desc := "(I)I" } : Jvm.MethodName)) ∈ lw_all := lw_g (lw_at lw_m6 63 rfl) rfl
theorem q1389 : (Jvm.Cond.static ({ cls := "YearSkins$Through", name := "first", desc := "(I)I" } : Jvm.MethodName)) ∈ lw_all := lw_g (lw_at lw_m6 64 rfl) rfl
theorem q1390 : (Jvm.Cond.code ({ cls := "YearSkins$Through", name := "first", desc := "(I)I" } : Jvm.MethodName) prog_15_method_2_code (1 : Nat) (Option.some Jvm.ClassFile.FieldType.int)) ∈ lw_all := lw_g (lw_at lw_m6 65 rfl) rfl
theorem q1391 : (Jvm.Cond.methodLink "YearSkins$Through" (32 : Nat) ({ cls := "YearSkins$House", name := "doorOf", desc := "(I)I" } : Jvm.MethodName)) ∈ lw_all := lw_g (lw_at lw_m6 66 rfl) rfl
theorem q1392 : (Jvm.Cond.methodLink "YearSkins$Through" (35 : Nat) ({ cls := "YearSkins$Skin", name := "atDoor", desc := "()I" } : Jvm.MethodName)) ∈ lw_all := lw_g (lw_at lw_m6 67 rfl) rfl
theorem q1396 : (Jvm.Cond.methodLink "YearSkins$Through" (41 : Nat) ({ cls := "YearSkins$Skin", name := "thick", desc := "()I" } : Jvm.MethodName)) ∈ lw_all := lw_g (lw_at lw_m6 71 rfl) rfl
theorem q1401 : (Jvm.Cond.methodLink "YearSkins$Through" (44 : Nat) ({ cls := "java/lang/Math", name := "min", desc := "(II)I" } : Jvm.MethodName)) ∈ lw_all := lw_g (lw_at lw_m6 76 rfl) rfl
theorem q1402 : (Jvm.Cond.methodLink "YearSkins$Through" (50 : Nat) ({ cls := "YearSkins$Through", name := "goes", desc := "(I)Z" } : Jvm.MethodName)) ∈ lw_all := lw_g (lw_at lw_m6 77 rfl) rfl
theorem q1403 : (Jvm.Cond.privateMethod ({ cls := "YearSkins$Through", name := "goes", desc := "(I)Z" } : Jvm.MethodName)) ∈ lw_tbl := lw_at lw_m6 78 rfl
theorem q1404 : (Jvm.Cond.instanceMethod ({ cls := "YearSkins$Through", name := "goes", desc := "(I)Z" } : Jvm.MethodName)) ∈ lw_all := lw_g (lw_at lw_m6 79 rfl) rfl
theorem q1405 : (Jvm.Cond.code ({ cls := "YearSkins$Through", name := "goes", desc := "(I)Z" } : Jvm.MethodName) prog_15_method_5_code (5 : Nat) (Option.some Jvm.ClassFile.FieldType.boolean)) ∈ lw_all := lw_g (lw_at lw_m6 80 rfl) rfl
theorem q1406 : (Jvm.Cond.methodLink "YearSkins$Through" (54 : Nat) ({ cls := "YearSkins$Through", name := "less", desc := "(II)Z" } : Jvm.MethodName)) ∈ lw_all := lw_g (lw_at lw_m6 81 rfl) rfl
theorem q1407 : (Jvm.Cond.privateMethod ({ cls := "YearSkins$Through", name := "less", desc := "(II)Z" } : Jvm.MethodName)) ∈ lw_tbl := lw_at lw_m6 82 rfl
theorem q1408 : (Jvm.Cond.instanceMethod ({ cls := "YearSkins$Through", name := "less", desc := "(II)Z" } : Jvm.MethodName)) ∈ lw_all := lw_g (lw_at lw_m6 83 rfl) rfl
theorem q1409 : (Jvm.Cond.code ({ cls := "YearSkins$Through", name := "less", desc := "(II)Z" } : Jvm.MethodName) prog_15_method_4_code (3 : Nat) (Option.some Jvm.ClassFile.FieldType.boolean)) ∈ lw_all := lw_g (lw_at lw_m6 84 rfl) rfl
theorem q1410 : (Jvm.Cond.methodLink "YearSkins$Through" (58 : Nat) ({ cls := "YearSkins$Ring", name := "isCorner", desc := "(II)Z" } : Jvm.MethodName)) ∈ lw_all := lw_g (lw_at lw_m6 85 rfl) rfl
theorem q1413 : (Jvm.Cond.methodLink "YearSkins$Through" (63 : Nat) ({ cls := "YearSkins$Through", name := "enters", desc := "(II)Z" } : Jvm.MethodName)) ∈ lw_all := lw_g (lw_at lw_m6 88 rfl) rfl
theorem q1414 : (Jvm.Cond.privateMethod ({ cls := "YearSkins$Through", name := "enters", desc := "(II)Z" } : Jvm.MethodName)) ∈ lw_tbl := lw_at lw_m6 89 rfl
theorem q1415 : (Jvm.Cond.instanceMethod ({ cls := "YearSkins$Through", name := "enters", desc := "(II)Z" } : Jvm.MethodName)) ∈ lw_all := lw_g (lw_at lw_m6 90 rfl) rfl
theorem q1416 : (Jvm.Cond.code ({ cls := "YearSkins$Through", name := "enters", desc := "(II)Z" } : Jvm.MethodName) prog_15_method_6_code (6 : Nat) (Option.some Jvm.ClassFile.FieldType.boolean)) ∈ lw_all := lw_g (lw_at lw_m6 91 rfl) rfl
theorem q1417 : (Jvm.Cond.methodLink "YearSkins$Through" (66 : Nat) ({ cls := "YearSkins$Ring", name := "front", desc := "(II)I" } : Jvm.MethodName)) ∈ lw_all := lw_g (lw_at lw_m6 92 rfl) rfl
theorem q1419 : (Jvm.Cond.instanceMethod ({ cls := "YearSkins$Through", name := "to", desc := "(I)I" } : Jvm.MethodName)) ∈ lw_all := lw_g (lw_at lw_m6 94 rfl) rfl
theorem q1420 : (Jvm.Cond.selects "YearSkins$Through" ({ cls := "YearSkins$Through", name := "to", desc := "(I)I" } : Jvm.MethodName) ({ cls := "YearSkins$Through", name := "to", desc := "(I)I" } : Jvm.MethodName)) ∈ lw_all := lw_g (lw_at lw_m6 95 rfl) rfl
theorem q1421 : (Jvm.Cond.code ({ cls := "YearSkins$Through", name := "to", desc := "(I)I" } : Jvm.MethodName) prog_15_method_7_code (4 : Nat) (Option.some Jvm.ClassFile.FieldType.int)) ∈ lw_all := lw_g (lw_at lw_m6 96 rfl) rfl
theorem q2645 : (Jvm.Cond.castable "YearSkins$Through" "java/lang/Object") ∈ lw_tbl := lw_at lw_m11 120 rfl
theorem in_X7 : ∀ w ∈ wsX70, w ∈ lw_all := lw_in wsX70 [425, 427] (by decide +kernel) (by decide +kernel)
/-! YearSkins$Orders -/
set_option maxRecDepth 100000
def RX8 : String := "YearSkins$Orders"
def TX8 : u_T := fun k => match k with
  | 0 => ("YearSkins$Orders", "order", "[I", true)
  | 1 => ("YearSkins$Orders", "rows", "[I", true)
  | 2 => ("YearSkins$Orders", "soonest", "[I", true)
  | 3 => ("YearSkins$Orders", "latest", "[I", true)
  | 4 => ("YearSkins$Orders", "land", "LYearSkins$Land;", false)
  | 5 => ("YearSkins$Orders", "now", "I", false)
  | _ => ("YearSkins$Orders", "many", "I", false)
def tyX8 : Nat → FieldType := fun k => match k with
  | 0 => .array .int
  | 1 => .array .int
  | 2 => .array .int
  | 3 => .array .int
  | 4 => .object "YearSkins$Land"
  | 5 => .int
  | _ => .int
abbrev wsX80 : List Cond := u_ws RX8 TX8 7
theorem nmX8 : ∀ a, a < 7 → ∀ b, b < 7 → a ≠ b → (TX8 a).2.1 ≠ (TX8 b).2.1 := by decide +kernel
theorem tyX8_ok : ∀ k, k < 7 → parseFieldDescriptor (TX8 k).2.2.1 = some (tyX8 k) := by decide +kernel
abbrev cX8_init : ByteArray := prog_7_method_1_code
def yX8_init : MethodName := ⟨RX8, "<init>", "()V"⟩
def dkwX8_init_1 : List UInt8 := [188, 10, 181, 0, 18, 42, 16, 6, 188, 10, 181, 0, 21, 177]
abbrev dktX8_init_1 : List UInt8 := dkwX8_init_1 ++ []
def dkwX8_init_0 : List UInt8 := [42, 183, 0, 3, 42, 16, 6, 188, 10, 181, 0, 9, 42, 17, 16, 224, 188, 10, 181, 0, 15, 42, 16, 6]
abbrev dktX8_init_0 : List UInt8 := dkwX8_init_0 ++ dktX8_init_1
theorem dksX8_init_0 : cX8_init.data.toList.drop 0 = dktX8_init_0 := by decide +kernel
theorem dksX8_init_1 : cX8_init.data.toList.drop 24 = dktX8_init_1 := dk_seg dksX8_init_0 24 rfl rfl
theorem dX8_init_0 : decode cX8_init 0 = .ok (.aload_n 0, 1) := dk_42 (dk_at dksX8_init_0 0 rfl rfl)
theorem dX8_init_1 : decode cX8_init 1 = .ok (.invokespecial 3, 3) := dk_183 0 3 (dk_at dksX8_init_0 1 rfl rfl)
theorem dX8_init_4 : decode cX8_init 4 = .ok (.aload_n 0, 1) := dk_42 (dk_at dksX8_init_0 4 rfl rfl)
theorem dX8_init_5 : decode cX8_init 5 = .ok (.bipush 6, 2) := dk_16 6 (dk_at dksX8_init_0 5 rfl rfl)
theorem dX8_init_7 : decode cX8_init 7 = .ok (.newarray .int, 2) := dk_188_10 (dk_at dksX8_init_0 7 rfl rfl)
theorem dX8_init_9 : decode cX8_init 9 = .ok (.putfield 9, 3) := dk_181 0 9 (dk_at dksX8_init_0 9 rfl rfl)
theorem dX8_init_12 : decode cX8_init 12 = .ok (.aload_n 0, 1) := dk_42 (dk_at dksX8_init_0 12 rfl rfl)
theorem dX8_init_13 : decode cX8_init 13 = .ok (.sipush 4320, 3) := dk_17 16 224 (dk_at dksX8_init_0 13 rfl rfl)
theorem dX8_init_16 : decode cX8_init 16 = .ok (.newarray .int, 2) := dk_188_10 (dk_at dksX8_init_0 16 rfl rfl)
theorem dX8_init_18 : decode cX8_init 18 = .ok (.putfield 15, 3) := dk_181 0 15 (dk_at dksX8_init_0 18 rfl rfl)
theorem dX8_init_21 : decode cX8_init 21 = .ok (.aload_n 0, 1) := dk_42 (dk_at dksX8_init_0 21 rfl rfl)
theorem dX8_init_22 : decode cX8_init 22 = .ok (.bipush 6, 2) := dk_16 6 (dk_at dksX8_init_0 22 rfl rfl)
theorem dX8_init_24 : decode cX8_init 24 = .ok (.newarray .int, 2) := dk_188_10 (dk_at dksX8_init_1 0 rfl rfl)
theorem dX8_init_26 : decode cX8_init 26 = .ok (.putfield 18, 3) := dk_181 0 18 (dk_at dksX8_init_1 2 rfl rfl)
theorem dX8_init_29 : decode cX8_init 29 = .ok (.aload_n 0, 1) := dk_42 (dk_at dksX8_init_1 5 rfl rfl)
theorem dX8_init_30 : decode cX8_init 30 = .ok (.bipush 6, 2) := dk_16 6 (dk_at dksX8_init_1 6 rfl rfl)
theorem dX8_init_32 : decode cX8_init 32 = .ok (.newarray .int, 2) := dk_188_10 (dk_at dksX8_init_1 8 rfl rfl)
theorem dX8_init_34 : decode cX8_init 34 = .ok (.putfield 21, 3) := dk_181 0 21 (dk_at dksX8_init_1 10 rfl rfl)
theorem dX8_init_37 : decode cX8_init 37 = .ok (.return_, 1) := dk_177 (dk_at dksX8_init_1 13 rfl rfl)
abbrev cX8_lay : ByteArray := prog_7_method_2_code
def yX8_lay : MethodName := ⟨RX8, "lay", "(LYearSkins$Land;I)V"⟩
def dkwX8_lay_2 : List UInt8 := [182, 0, 35, 177]
abbrev dktX8_lay_2 : List UInt8 := dkwX8_lay_2 ++ []
def dkwX8_lay_1 : List UInt8 := [180, 0, 18, 29, 16, 254, 79, 42, 180, 0, 21, 29, 16, 254, 79, 132, 3, 1, 167, 255, 231, 42, 3, 3]
abbrev dktX8_lay_1 : List UInt8 := dkwX8_lay_1 ++ dktX8_lay_2
def dkwX8_lay_0 : List UInt8 := [42, 43, 181, 0, 24, 42, 28, 181, 0, 28, 42, 3, 181, 0, 32, 3, 62, 29, 16, 6, 162, 0, 25, 42]
abbrev dktX8_lay_0 : List UInt8 := dkwX8_lay_0 ++ dktX8_lay_1
theorem dksX8_lay_0 : cX8_lay.data.toList.drop 0 = dktX8_lay_0 := by decide +kernel
theorem dksX8_lay_1 : cX8_lay.data.toList.drop 24 = dktX8_lay_1 := dk_seg dksX8_lay_0 24 rfl rfl
theorem dksX8_lay_2 : cX8_lay.data.toList.drop 48 = dktX8_lay_2 := dk_seg dksX8_lay_1 24 rfl rfl
theorem dX8_lay_0 : decode cX8_lay 0 = .ok (.aload_n 0, 1) := dk_42 (dk_at dksX8_lay_0 0 rfl rfl)
theorem dX8_lay_1 : decode cX8_lay 1 = .ok (.aload_n 1, 1) := dk_43 (dk_at dksX8_lay_0 1 rfl rfl)
theorem dX8_lay_2 : decode cX8_lay 2 = .ok (.putfield 24, 3) := dk_181 0 24 (dk_at dksX8_lay_0 2 rfl rfl)
theorem dX8_lay_5 : decode cX8_lay 5 = .ok (.aload_n 0, 1) := dk_42 (dk_at dksX8_lay_0 5 rfl rfl)
theorem dX8_lay_6 : decode cX8_lay 6 = .ok (.iload_n 2, 1) := dk_28 (dk_at dksX8_lay_0 6 rfl rfl)
theorem dX8_lay_7 : decode cX8_lay 7 = .ok (.putfield 28, 3) := dk_181 0 28 (dk_at dksX8_lay_0 7 rfl rfl)
theorem dX8_lay_10 : decode cX8_lay 10 = .ok (.aload_n 0, 1) := dk_42 (dk_at dksX8_lay_0 10 rfl rfl)
theorem dX8_lay_11 : decode cX8_lay 11 = .ok (.iconst 0, 1) := dk_3 (dk_at dksX8_lay_0 11 rfl rfl)
theorem dX8_lay_12 : decode cX8_lay 12 = .ok (.putfield 32, 3) := dk_181 0 32 (dk_at dksX8_lay_0 12 rfl rfl)
theorem dX8_lay_15 : decode cX8_lay 15 = .ok (.iconst 0, 1) := dk_3 (dk_at dksX8_lay_0 15 rfl rfl)
theorem dX8_lay_16 : decode cX8_lay 16 = .ok (.istore_n 3, 1) := dk_62 (dk_at dksX8_lay_0 16 rfl rfl)
theorem dX8_lay_17 : decode cX8_lay 17 = .ok (.iload_n 3, 1) := dk_29 (dk_at dksX8_lay_0 17 rfl rfl)
theorem dX8_lay_18 : decode cX8_lay 18 = .ok (.bipush 6, 2) := dk_16 6 (dk_at dksX8_lay_0 18 rfl rfl)
theorem dX8_lay_20 : decode cX8_lay 20 = .ok (.if_icmp .ge 25, 3) := dk_162 0 25 (dk_at dksX8_lay_0 20 rfl rfl)
theorem dX8_lay_23 : decode cX8_lay 23 = .ok (.aload_n 0, 1) := dk_42 (dk_at dksX8_lay_0 23 rfl rfl)
theorem dX8_lay_24 : decode cX8_lay 24 = .ok (.getfield 18, 3) := dk_180 0 18 (dk_at dksX8_lay_1 0 rfl rfl)
theorem dX8_lay_27 : decode cX8_lay 27 = .ok (.iload_n 3, 1) := dk_29 (dk_at dksX8_lay_1 3 rfl rfl)
theorem dX8_lay_28 : decode cX8_lay 28 = .ok (.bipush (-2), 2) := dk_16 254 (dk_at dksX8_lay_1 4 rfl rfl)
theorem dX8_lay_30 : decode cX8_lay 30 = .ok (.iastore, 1) := dk_79 (dk_at dksX8_lay_1 6 rfl rfl)
theorem dX8_lay_31 : decode cX8_lay 31 = .ok (.aload_n 0, 1) := dk_42 (dk_at dksX8_lay_1 7 rfl rfl)
theorem dX8_lay_32 : decode cX8_lay 32 = .ok (.getfield 21, 3) := dk_180 0 21 (dk_at dksX8_lay_1 8 rfl rfl)
theorem dX8_lay_35 : decode cX8_lay 35 = .ok (.iload_n 3, 1) := dk_29 (dk_at dksX8_lay_1 11 rfl rfl)
theorem dX8_lay_36 : decode cX8_lay 36 = .ok (.bipush (-2), 2) := dk_16 254 (dk_at dksX8_lay_1 12 rfl rfl)
theorem dX8_lay_38 : decode cX8_lay 38 = .ok (.iastore, 1) := dk_79 (dk_at dksX8_lay_1 14 rfl rfl)
theorem dX8_lay_39 : decode cX8_lay 39 = .ok (.iinc 3 1, 3) := dk_132 3 1 (dk_at dksX8_lay_1 15 rfl rfl)
theorem dX8_lay_42 : decode cX8_lay 42 = .ok (.goto (-25), 3) := dk_167 255 231 (dk_at dksX8_lay_1 18 rfl rfl)
theorem dX8_lay_45 : decode cX8_lay 45 = .ok (.aload_n 0, 1) := dk_42 (dk_at dksX8_lay_1 21 rfl rfl)
theorem dX8_lay_46 : decode cX8_lay 46 = .ok (.iconst 0, 1) := dk_3 (dk_at dksX8_lay_1 22 rfl rfl)
theorem dX8_lay_47 : decode cX8_lay 47 = .ok (.iconst 0, 1) := dk_3 (dk_at dksX8_lay_1 23 rfl rfl)
theorem dX8_lay_48 : decode cX8_lay 48 = .ok (.invokevirtual 35, 3) := dk_182 0 35 (dk_at dksX8_lay_2 0 rfl rfl)
theorem dX8_lay_51 : decode cX8_lay 51 = .ok (.return_, 1) := dk_177 (dk_at dksX8_lay_2 3 rfl rfl)
abbrev cX8_tries : ByteArray := prog_7_method_4_code
def yX8_tries : MethodName := ⟨RX8, "tries", "(II)V"⟩
def dkwX8_tries_3 : List UInt8 := [132, 3, 1, 167, 255, 203, 177]
abbrev dktX8_tries_3 : List UInt8 := dkwX8_tries_3 ++ []
def dkwX8_tries_2 : List UInt8 := [167, 0, 22, 42, 180, 0, 9, 27, 29, 79, 42, 27, 4, 96, 28, 4, 29, 120, 128, 182, 0, 35]
abbrev dktX8_tries_2 : List UInt8 := dkwX8_tries_2 ++ dktX8_tries_3
def dkwX8_tries_1 : List UInt8 := [180, 0, 54, 162, 0, 48, 28, 29, 184, 0, 50, 154, 0, 34, 42, 29, 28, 182, 0, 60, 154, 0, 6]
abbrev dktX8_tries_1 : List UInt8 := dkwX8_tries_1 ++ dktX8_tries_2
def dkwX8_tries_0 : List UInt8 := [27, 42, 180, 0, 24, 180, 0, 54, 160, 0, 8, 42, 182, 0, 57, 177, 3, 62, 29, 42, 180, 0, 24]
abbrev dktX8_tries_0 : List UInt8 := dkwX8_tries_0 ++ dktX8_tries_1
theorem dksX8_tries_0 : cX8_tries.data.toList.drop 0 = dktX8_tries_0 := by decide +kernel
theorem dksX8_tries_1 : cX8_tries.data.toList.drop 23 = dktX8_tries_1 := dk_seg dksX8_tries_0 23 rfl rfl
theorem dksX8_tries_2 : cX8_tries.data.toList.drop 46 = dktX8_tries_2 := dk_seg dksX8_tries_1 23 rfl rfl
theorem dksX8_tries_3 : cX8_tries.data.toList.drop 68 = dktX8_tries_3 := dk_seg dksX8_tries_2 22 rfl rfl
theorem dX8_tries_0 : decode cX8_tries 0 = .ok (.iload_n 1, 1) := dk_27 (dk_at dksX8_tries_0 0 rfl rfl)
theorem dX8_tries_1 : decode cX8_tries 1 = .ok (.aload_n 0, 1) := dk_42 (dk_at dksX8_tries_0 1 rfl rfl)
theorem dX8_tries_2 : decode cX8_tries 2 = .ok (.getfield 24, 3) := dk_180 0 24 (dk_at dksX8_tries_0 2 rfl rfl)
theorem dX8_tries_5 : decode cX8_tries 5 = .ok (.getfield 54, 3) := dk_180 0 54 (dk_at dksX8_tries_0 5 rfl rfl)
theorem dX8_tries_8 : decode cX8_tries 8 = .ok (.if_icmp .ne 8, 3) := dk_160 0 8 (dk_at dksX8_tries_0 8 rfl rfl)
theorem dX8_tries_11 : decode cX8_tries 11 = .ok (.aload_n 0, 1) := dk_42 (dk_at dksX8_tries_0 11 rfl rfl)
theorem dX8_tries_12 : decode cX8_tries 12 = .ok (.invokevirtual 57, 3) := dk_182 0 57 (dk_at dksX8_tries_0 12 rfl rfl)
theorem dX8_tries_15 : decode cX8_tries 15 = .ok (.return_, 1) := dk_177 (dk_at dksX8_tries_0 15 rfl rfl)
theorem dX8_tries_16 : decode cX8_tries 16 = .ok (.iconst 0, 1) := dk_3 (dk_at dksX8_tries_0 16 rfl rfl)
theorem dX8_tries_17 : decode cX8_tries 17 = .ok (.istore_n 3, 1) := dk_62 (dk_at dksX8_tries_0 17 rfl rfl)
theorem dX8_tries_18 : decode cX8_tries 18 = .ok (.iload_n 3, 1) := dk_29 (dk_at dksX8_tries_0 18 rfl rfl)
theorem dX8_tries_19 : decode cX8_tries 19 = .ok (.aload_n 0, 1) := dk_42 (dk_at dksX8_tries_0 19 rfl rfl)
theorem dX8_tries_20 : decode cX8_tries 20 = .ok (.getfield 24, 3) := dk_180 0 24 (dk_at dksX8_tries_0 20 rfl rfl)
theorem dX8_tries_23 : decode cX8_tries 23 = .ok (.getfield 54, 3) := dk_180 0 54 (dk_at dksX8_tries_1 0 rfl rfl)
theorem dX8_tries_26 : decode cX8_tries 26 = .ok (.if_icmp .ge 48, 3) := dk_162 0 48 (dk_at dksX8_tries_1 3 rfl rfl)
theorem dX8_tries_29 : decode cX8_tries 29 = .ok (.iload_n 2, 1) := dk_28 (dk_at dksX8_tries_1 6 rfl rfl)
theorem dX8_tries_30 : decode cX8_tries 30 = .ok (.iload_n 3, 1) := dk_29 (dk_at dksX8_tries_1 7 rfl rfl)
theorem dX8_tries_31 : decode cX8_tries 31 = .ok (.invokestatic 50, 3) := dk_184 0 50 (dk_at dksX8_tries_1 8 rfl rfl)
theorem dX8_tries_34 : decode cX8_tries 34 = .ok (.ifCond .ne 34, 3) := dk_154 0 34 (dk_at dksX8_tries_1 11 rfl rfl)
theorem dX8_tries_37 : decode cX8_tries 37 = .ok (.aload_n 0, 1) := dk_42 (dk_at dksX8_tries_1 14 rfl rfl)
theorem dX8_tries_38 : decode cX8_tries 38 = .ok (.iload_n 3, 1) := dk_29 (dk_at dksX8_tries_1 15 rfl rfl)
theorem dX8_tries_39 : decode cX8_tries 39 = .ok (.iload_n 2, 1) := dk_28 (dk_at dksX8_tries_1 16 rfl rfl)
theorem dX8_tries_40 : decode cX8_tries 40 = .ok (.invokevirtual 60, 3) := dk_182 0 60 (dk_at dksX8_tries_1 17 rfl rfl)
theorem dX8_tries_43 : decode cX8_tries 43 = .ok (.ifCond .ne 6, 3) := dk_154 0 6 (dk_at dksX8_tries_1 20 rfl rfl)
theorem dX8_tries_46 : decode cX8_tries 46 = .ok (.goto 22, 3) := dk_167 0 22 (dk_at dksX8_tries_2 0 rfl rfl)
theorem dX8_tries_49 : decode cX8_tries 49 = .ok (.aload_n 0, 1) := dk_42 (dk_at dksX8_tries_2 3 rfl rfl)
theorem dX8_tries_50 : decode cX8_tries 50 = .ok (.getfield 9, 3) := dk_180 0 9 (dk_at dksX8_tries_2 4 rfl rfl)
theorem dX8_tries_53 : decode cX8_tries 53 = .ok (.iload_n 1, 1) := dk_27 (dk_at dksX8_tries_2 7 rfl rfl)
theorem dX8_tries_54 : decode cX8_tries 54 = .ok (.iload_n 3, 1) := dk_29 (dk_at dksX8_tries_2 8 rfl rfl)
theorem dX8_tries_55 : decode cX8_tries 55 = .ok (.iastore, 1) := dk_79 (dk_at dksX8_tries_2 9 rfl rfl)
theorem dX8_tries_56 : decode cX8_tries 56 = .ok (.aload_n 0, 1) := dk_42 (dk_at dksX8_tries_2 10 rfl rfl)
theorem dX8_tries_57 : decode cX8_tries 57 = .ok (.iload_n 1, 1) := dk_27 (dk_at dksX8_tries_2 11 rfl rfl)
theorem dX8_tries_58 : decode cX8_tries 58 = .ok (.iconst 1, 1) := dk_4 (dk_at dksX8_tries_2 12 rfl rfl)
theorem dX8_tries_59 : decode cX8_tries 59 = .ok (.iadd, 1) := dk_96 (dk_at dksX8_tries_2 13 rfl rfl)
theorem dX8_tries_60 : decode cX8_tries 60 = .ok (.iload_n 2, 1) := dk_28 (dk_at dksX8_tries_2 14 rfl rfl)
theorem dX8_tries_61 : decode cX8_tries 61 = .ok (.iconst 1, 1) := dk_4 (dk_at dksX8_tries_2 15 rfl rfl)
theorem dX8_tries_62 : decode cX8_tries 62 = .ok (.iload_n 3, 1) := dk_29 (dk_at dksX8_tries_2 16 rfl rfl)
theorem dX8_tries_63 : decode cX8_tries 63 = .ok (.ishl, 1) := dk_120 (dk_at dksX8_tries_2 17 rfl rfl)
theorem dX8_tries_64 : decode cX8_tries 64 = .ok (.ior, 1) := dk_128 (dk_at dksX8_tries_2 18 rfl rfl)
theorem dX8_tries_65 : decode cX8_tries 65 = .ok (.invokevirtual 35, 3) := dk_182 0 35 (dk_at dksX8_tries_2 19 rfl rfl)
theorem dX8_tries_68 : decode cX8_tries 68 = .ok (.iinc 3 1, 3) := dk_132 3 1 (dk_at dksX8_tries_3 0 rfl rfl)
theorem dX8_tries_71 : decode cX8_tries 71 = .ok (.goto (-53), 3) := dk_167 255 203 (dk_at dksX8_tries_3 3 rfl rfl)
theorem dX8_tries_74 : decode cX8_tries 74 = .ok (.return_, 1) := dk_177 (dk_at dksX8_tries_3 6 rfl rfl)
abbrev cX8_end : ByteArray := prog_7_method_7_code
def yX8_end : MethodName := ⟨RX8, "end", "()V"⟩
def dkwX8_end_9 : List UInt8 := [184, 0, 91, 42, 89, 180, 0, 32, 4, 96, 181, 0, 32, 177]
abbrev dktX8_end_9 : List UInt8 := dkwX8_end_9 ++ []
def dkwX8_end_8 : List UInt8 := [132, 3, 255, 167, 255, 206, 42, 180, 0, 9, 3, 42, 180, 0, 15, 16, 6, 42, 180, 0, 32, 104, 27]
abbrev dktX8_end_8 : List UInt8 := dkwX8_end_8 ++ dktX8_end_9
def dkwX8_end_7 : List UInt8 := [42, 180, 0, 9, 29, 46, 42, 180, 0, 21, 42, 180, 0, 9, 29, 46, 46, 28, 184, 0, 72, 79]
abbrev dktX8_end_7 : List UInt8 := dkwX8_end_7 ++ dktX8_end_8
def dkwX8_end_6 : List UInt8 := [155, 0, 52, 28, 4, 100, 42, 42, 180, 0, 9, 29, 46, 182, 0, 88, 184, 0, 81, 61, 42, 180, 0, 21]
abbrev dktX8_end_6 : List UInt8 := dkwX8_end_6 ++ dktX8_end_7
def dkwX8_end_5 : List UInt8 := [46, 28, 184, 0, 81, 79, 132, 3, 1, 167, 255, 189, 42, 180, 0, 28, 61, 27, 4, 100, 62, 29]
abbrev dktX8_end_5 : List UInt8 := dkwX8_end_5 ++ dktX8_end_6
def dkwX8_end_4 : List UInt8 := [21, 4, 42, 180, 0, 18, 21, 4, 46, 16, 254, 160, 0, 7, 28, 167, 0, 14, 42, 180, 0, 18, 21, 4]
abbrev dktX8_end_4 : List UInt8 := dkwX8_end_4 ++ dktX8_end_5
def dkwX8_end_3 : List UInt8 := [180, 0, 9, 29, 46, 182, 0, 84, 184, 0, 72, 61, 42, 180, 0, 9, 29, 46, 54, 4, 42, 180, 0, 18]
abbrev dktX8_end_3 : List UInt8 := dkwX8_end_3 ++ dktX8_end_4
def dkwX8_end_2 : List UInt8 := [164, 0, 4, 177, 132, 3, 1, 167, 255, 216, 2, 61, 3, 62, 29, 27, 162, 0, 68, 28, 4, 96, 42, 42]
abbrev dktX8_end_2 : List UInt8 := dkwX8_end_2 ++ dktX8_end_3
def dkwX8_end_1 : List UInt8 := [180, 0, 9, 29, 46, 182, 0, 84, 184, 0, 72, 61, 28, 42, 42, 180, 0, 9, 29, 46, 182, 0, 88]
abbrev dktX8_end_1 : List UInt8 := dkwX8_end_1 ++ dktX8_end_2
def dkwX8_end_0 : List UInt8 := [42, 180, 0, 24, 180, 0, 54, 60, 2, 61, 3, 62, 29, 27, 162, 0, 41, 28, 4, 96, 42, 42]
abbrev dktX8_end_0 : List UInt8 := dkwX8_end_0 ++ dktX8_end_1
theorem dksX8_end_0 : cX8_end.data.toList.drop 0 = dktX8_end_0 := by decide +kernel
theorem dksX8_end_1 : cX8_end.data.toList.drop 22 = dktX8_end_1 := dk_seg dksX8_end_0 22 rfl rfl
theorem dksX8_end_2 : cX8_end.data.toList.drop 45 = dktX8_end_2 := dk_seg dksX8_end_1 23 rfl rfl
theorem dksX8_end_3 : cX8_end.data.toList.drop 69 = dktX8_end_3 := dk_seg dksX8_end_2 24 rfl rfl
theorem dksX8_end_4 : cX8_end.data.toList.drop 93 = dktX8_end_4 := dk_seg dksX8_end_3 24 rfl rfl
theorem dksX8_end_5 : cX8_end.data.toList.drop 117 = dktX8_end_5 := dk_seg dksX8_end_4 24 rfl rfl
theorem dksX8_end_6 : cX8_end.data.toList.drop 139 = dktX8_end_6 := dk_seg dksX8_end_5 22 rfl rfl
theorem dksX8_end_7 : cX8_end.data.toList.drop 163 = dktX8_end_7 := dk_seg dksX8_end_6 24 rfl rfl
theorem dksX8_end_8 : cX8_end.data.toList.drop 185 = dktX8_end_8 := dk_seg dksX8_end_7 22 rfl rfl
theorem dksX8_end_9 : cX8_end.data.toList.drop 208 = dktX8_end_9 := dk_seg dksX8_end_8 23 rfl rfl
theorem dX8_end_0 : decode cX8_end 0 = .ok (.aload_n 0, 1) := dk_42 (dk_at dksX8_end_0 0 rfl rfl)
theorem dX8_end_1 : decode cX8_end 1 = .ok (.getfield 24, 3) := dk_180 0 24 (dk_at dksX8_end_0 1 rfl rfl)
theorem dX8_end_4 : decode cX8_end 4 = .ok (.getfield 54, 3) := dk_180 0 54 (dk_at dksX8_end_0 4 rfl rfl)
theorem dX8_end_7 : decode cX8_end 7 = .ok (.istore_n 1, 1) := dk_60 (dk_at dksX8_end_0 7 rfl rfl)
theorem dX8_end_8 : decode cX8_end 8 = .ok (.iconst (-1), 1) := dk_2 (dk_at dksX8_end_0 8 rfl rfl)
theorem dX8_end_9 : decode cX8_end 9 = .ok (.istore_n 2, 1) := dk_61 (dk_at dksX8_end_0 9 rfl rfl)
theorem dX8_end_10 : decode cX8_end 10 = .ok (.iconst 0, 1) := dk_3 (dk_at dksX8_end_0 10 rfl rfl)
theorem dX8_end_11 : decode cX8_end 11 = .ok (.istore_n 3, 1) := dk_62 (dk_at dksX8_end_0 11 rfl rfl)
theorem dX8_end_12 : decode cX8_end 12 = .ok (.iload_n 3, 1) := dk_29 (dk_at dksX8_end_0 12 rfl rfl)
theorem dX8_end_13 : decode cX8_end 13 = .ok (.iload_n 1, 1) := dk_27 (dk_at dksX8_end_0 13 rfl rfl)
theorem dX8_end_14 : decode cX8_end 14 = .ok (.if_icmp .ge 41, 3) := dk_162 0 41 (dk_at dksX8_end_0 14 rfl rfl)
theorem dX8_end_17 : decode cX8_end 17 = .ok (.iload_n 2, 1) := dk_28 (dk_at dksX8_end_0 17 rfl rfl)
theorem dX8_end_18 : decode cX8_end 18 = .ok (.iconst 1, 1) := dk_4 (dk_at dksX8_end_0 18 rfl rfl)
theorem dX8_end_19 : decode cX8_end 19 = .ok (.iadd, 1) := dk_96 (dk_at dksX8_end_0 19 rfl rfl)
theorem dX8_end_20 : decode cX8_end 20 = .ok (.aload_n 0, 1) := dk_42 (dk_at dksX8_end_0 20 rfl rfl)
theorem dX8_end_21 : decode cX8_end 21 = .ok (.aload_n 0, 1) := dk_42 (dk_at dksX8_end_0 21 rfl rfl)
theorem dX8_end_22 : decode cX8_end 22 = .ok (.getfield 9, 3) := dk_180 0 9 (dk_at dksX8_end_1 0 rfl rfl)
theorem dX8_end_25 : decode cX8_end 25 = .ok (.iload_n 3, 1) := dk_29 (dk_at dksX8_end_1 3 rfl rfl)
theorem dX8_end_26 : decode cX8_end 26 = .ok (.iaload, 1) := dk_46 (dk_at dksX8_end_1 4 rfl rfl)
theorem dX8_end_27 : decode cX8_end 27 = .ok (.invokevirtual 84, 3) := dk_182 0 84 (dk_at dksX8_end_1 5 rfl rfl)
theorem dX8_end_30 : decode cX8_end 30 = .ok (.invokestatic 72, 3) := dk_184 0 72 (dk_at dksX8_end_1 8 rfl rfl)
theorem dX8_end_33 : decode cX8_end 33 = .ok (.istore_n 2, 1) := dk_61 (dk_at dksX8_end_1 11 rfl rfl)
theorem dX8_end_34 : decode cX8_end 34 = .ok (.iload_n 2, 1) := dk_28 (dk_at dksX8_end_1 12 rfl rfl)
theorem dX8_end_35 : decode cX8_end 35 = .ok (.aload_n 0, 1) := dk_42 (dk_at dksX8_end_1 13 rfl rfl)
theorem dX8_end_36 : decode cX8_end 36 = .ok (.aload_n 0, 1) := dk_42 (dk_at dksX8_end_1 14 rfl rfl)
theorem dX8_end_37 : decode cX8_end 37 = .ok (.getfield 9, 3) := dk_180 0 9 (dk_at dksX8_end_1 15 rfl rfl)
theorem dX8_end_40 : decode cX8_end 40 = .ok (.iload_n 3, 1) := dk_29 (dk_at dksX8_end_1 18 rfl rfl)
theorem dX8_end_41 : decode cX8_end 41 = .ok (.iaload, 1) := dk_46 (dk_at dksX8_end_1 19 rfl rfl)
theorem dX8_end_42 : decode cX8_end 42 = .ok (.invokevirtual 88, 3) := dk_182 0 88 (dk_at dksX8_end_1 20 rfl rfl)
theorem dX8_end_45 : decode cX8_end 45 = .ok (.if_icmp .le 4, 3) := dk_164 0 4 (dk_at dksX8_end_2 0 rfl rfl)
theorem dX8_end_48 : decode cX8_end 48 = .ok (.return_, 1) := dk_177 (dk_at dksX8_end_2 3 rfl rfl)
theorem dX8_end_49 : decode cX8_end 49 = .ok (.iinc 3 1, 3) := dk_132 3 1 (dk_at dksX8_end_2 4 rfl rfl)
theorem dX8_end_52 : decode cX8_end 52 = .ok (.goto (-40), 3) := dk_167 255 216 (dk_at dksX8_end_2 7 rfl rfl)
theorem dX8_end_55 : decode cX8_end 55 = .ok (.iconst (-1), 1) := dk_2 (dk_at dksX8_end_2 10 rfl rfl)
theorem dX8_end_56 : decode cX8_end 56 = .ok (.istore_n 2, 1) := dk_61 (dk_at dksX8_end_2 11 rfl rfl)
theorem dX8_end_57 : decode cX8_end 57 = .ok (.iconst 0, 1) := dk_3 (dk_at dksX8_end_2 12 rfl rfl)
theorem dX8_end_58 : decode cX8_end 58 = .ok (.istore_n 3, 1) := dk_62 (dk_at dksX8_end_2 13 rfl rfl)
theorem dX8_end_59 : decode cX8_end 59 = .ok (.iload_n 3, 1) := dk_29 (dk_at dksX8_end_2 14 rfl rfl)
theorem dX8_end_60 : decode cX8_end 60 = .ok (.iload_n 1, 1) := dk_27 (dk_at dksX8_end_2 15 rfl rfl)
theorem dX8_end_61 : decode cX8_end 61 = .ok (.if_icmp .ge 68, 3) := dk_162 0 68 (dk_at dksX8_end_2 16 rfl rfl)
theorem dX8_end_64 : decode cX8_end 64 = .ok (.iload_n 2, 1) := dk_28 (dk_at dksX8_end_2 19 rfl rfl)
theorem dX8_end_65 : decode cX8_end 65 = .ok (.iconst 1, 1) := dk_4 (dk_at dksX8_end_2 20 rfl rfl)
theorem dX8_end_66 : decode cX8_end 66 = .ok (.iadd, 1) := dk_96 (dk_at dksX8_end_2 21 rfl rfl)
theorem dX8_end_67 : decode cX8_end 67 = .ok (.aload_n 0, 1) := dk_42 (dk_at dksX8_end_2 22 rfl rfl)
theorem dX8_end_68 : decode cX8_end 68 = .ok (.aload_n 0, 1) := dk_42 (dk_at dksX8_end_2 23 rfl rfl)
theorem dX8_end_69 : decode cX8_end 69 = .ok (.getfield 9, 3) := dk_180 0 9 (dk_at dksX8_end_3 0 rfl rfl)
theorem dX8_end_72 : decode cX8_end 72 = .ok (.iload_n 3, 1) := dk_29 (dk_at dksX8_end_3 3 rfl rfl)
theorem dX8_end_73 : decode cX8_end 73 = .ok (.iaload, 1) := dk_46 (dk_at dksX8_end_3 4 rfl rfl)
theorem dX8_end_74 : decode cX8_end 74 = .ok (.invokevirtual 84, 3) := dk_182 0 84 (dk_at dksX8_end_3 5 rfl rfl)
theorem dX8_end_77 : decode cX8_end 77 = .ok (.invokestatic 72, 3) := dk_184 0 72 (dk_at dksX8_end_3 8 rfl rfl)
theorem dX8_end_80 : decode cX8_end 80 = .ok (.istore_n 2, 1) := dk_61 (dk_at dksX8_end_3 11 rfl rfl)
theorem dX8_end_81 : decode cX8_end 81 = .ok (.aload_n 0, 1) := dk_42 (dk_at dksX8_end_3 12 rfl rfl)
theorem dX8_end_82 : decode cX8_end 82 = .ok (.getfield 9, 3) := dk_180 0 9 (dk_at dksX8_end_3 13 rfl rfl)
theorem dX8_end_85 : decode cX8_end 85 = .ok (.iload_n 3, 1) := dk_29 (dk_at dksX8_end_3 16 rfl rfl)
theorem dX8_end_86 : decode cX8_end 86 = .ok (.iaload, 1) := dk_46 (dk_at dksX8_end_3 17 rfl rfl)
theorem dX8_end_87 : decode cX8_end 87 = .ok (.istore 4, 2) := dk_54 4 (dk_at dksX8_end_3 18 rfl rfl)
theorem dX8_end_89 : decode cX8_end 89 = .ok (.aload_n 0, 1) := dk_42 (dk_at dksX8_end_3 20 rfl rfl)
theorem dX8_end_90 : decode cX8_end 90 = .ok (.getfield 18, 3) := dk_180 0 18 (dk_at dksX8_end_3 21 rfl rfl)
theorem dX8_end_93 : decode cX8_end 93 = .ok (.iload 4, 2) := dk_21 4 (dk_at dksX8_end_4 0 rfl rfl)
theorem dX8_end_95 : decode cX8_end 95 = .ok (.aload_n 0, 1) := dk_42 (dk_at dksX8_end_4 2 rfl rfl)
theorem dX8_end_96 : decode cX8_end 96 = .ok (.getfield 18, 3) := dk_180 0 18 (dk_at dksX8_end_4 3 rfl rfl)
theorem dX8_end_99 : decode cX8_end 99 = .ok (.iload 4, 2) := dk_21 4 (dk_at dksX8_end_4 6 rfl rfl)
theorem dX8_end_101 : decode cX8_end 101 = .ok (.iaload, 1) := dk_46 (dk_at dksX8_end_4 8 rfl rfl)
theorem dX8_end_102 : decode cX8_end 102 = .ok (.bipush (-2), 2) := dk_16 254 (dk_at dksX8_end_4 9 rfl rfl)
theorem dX8_end_104 : decode cX8_end 104 = .ok (.if_icmp .ne 7, 3) := dk_160 0 7 (dk_at dksX8_end_4 11 rfl rfl)
theorem dX8_end_107 : decode cX8_end 107 = .ok (.iload_n 2, 1) := dk_28 (dk_at dksX8_end_4 14 rfl rfl)
theorem dX8_end_108 : decode cX8_end 108 = .ok (.goto 14, 3) := dk_167 0 14 (dk_at dksX8_end_4 15 rfl rfl)
theorem dX8_end_111 : decode cX8_end 111 = .ok (.aload_n 0, 1) := dk_42 (dk_at dksX8_end_4 18 rfl rfl)
theorem dX8_end_112 : decode cX8_end 112 = .ok (.getfield 18, 3) := dk_180 0 18 (dk_at dksX8_end_4 19 rfl rfl)
theorem dX8_end_115 : decode cX8_end 115 = .ok (.iload 4, 2) := dk_21 4 (dk_at dksX8_end_4 22 rfl rfl)
theorem dX8_end_117 : decode cX8_end 117 = .ok (.iaload, 1) := dk_46 (dk_at dksX8_end_5 0 rfl rfl)
theorem dX8_end_118 : decode cX8_end 118 = .ok (.iload_n 2, 1) := dk_28 (dk_at dksX8_end_5 1 rfl rfl)
theorem dX8_end_119 : decode cX8_end 119 = .ok (.invokestatic 81, 3) := dk_184 0 81 (dk_at dksX8_end_5 2 rfl rfl)
theorem dX8_end_122 : decode cX8_end 122 = .ok (.iastore, 1) := dk_79 (dk_at dksX8_end_5 5 rfl rfl)
theorem dX8_end_123 : decode cX8_end 123 = .ok (.iinc 3 1, 3) := dk_132 3 1 (dk_at dksX8_end_5 6 rfl rfl)
theorem dX8_end_126 : decode cX8_end 126 = .ok (.goto (-67), 3) := dk_167 255 189 (dk_at dksX8_end_5 9 rfl rfl)
theorem dX8_end_129 : decode cX8_end 129 = .ok (.aload_n 0, 1) := dk_42 (dk_at dksX8_end_5 12 rfl rfl)
theorem dX8_end_130 : decode cX8_end 130 = .ok (.getfield 28, 3) := dk_180 0 28 (dk_at dksX8_end_5 13 rfl rfl)
theorem dX8_end_133 : decode cX8_end 133 = .ok (.istore_n 2, 1) := dk_61 (dk_at dksX8_end_5 16 rfl rfl)
theorem dX8_end_134 : decode cX8_end 134 = .ok (.iload_n 1, 1) := dk_27 (dk_at dksX8_end_5 17 rfl rfl)
theorem dX8_end_135 : decode cX8_end 135 = .ok (.iconst 1, 1) := dk_4 (dk_at dksX8_end_5 18 rfl rfl)
theorem dX8_end_136 : decode cX8_end 136 = .ok (.isub, 1) := dk_100 (dk_at dksX8_end_5 19 rfl rfl)
theorem dX8_end_137 : decode cX8_end 137 = .ok (.istore_n 3, 1) := dk_62 (dk_at dksX8_end_5 20 rfl rfl)
theorem dX8_end_138 : decode cX8_end 138 = .ok (.iload_n 3, 1) := dk_29 (dk_at dksX8_end_5 21 rfl rfl)
theorem dX8_end_139 : decode cX8_end 139 = .ok (.ifCond .lt 52, 3) := dk_155 0 52 (dk_at dksX8_end_6 0 rfl rfl)
theorem dX8_end_142 : decode cX8_end 142 = .ok (.iload_n 2, 1) := dk_28 (dk_at dksX8_end_6 3 rfl rfl)
theorem dX8_end_143 : decode cX8_end 143 = .ok (.iconst 1, 1) := dk_4 (dk_at dksX8_end_6 4 rfl rfl)
theorem dX8_end_144 : decode cX8_end 144 = .ok (.isub, 1) := dk_100 (dk_at dksX8_end_6 5 rfl rfl)
theorem dX8_end_145 : decode cX8_end 145 = .ok (.aload_n 0, 1) := dk_42 (dk_at dksX8_end_6 6 rfl rfl)
theorem dX8_end_146 : decode cX8_end 146 = .ok (.aload_n 0, 1) := dk_42 (dk_at dksX8_end_6 7 rfl rfl)
theorem dX8_end_147 : decode cX8_end 147 = .ok (.getfield 9, 3) := dk_180 0 9 (dk_at dksX8_end_6 8 rfl rfl)
theorem dX8_end_150 : decode cX8_end 150 = .ok (.iload_n 3, 1) := dk_29 (dk_at dksX8_end_6 11 rfl rfl)
theorem dX8_end_151 : decode cX8_end 151 = .ok (.iaload, 1) := dk_46 (dk_at dksX8_end_6 12 rfl rfl)
theorem dX8_end_152 : decode cX8_end 152 = .ok (.invokevirtual 88, 3) := dk_182 0 88 (dk_at dksX8_end_6 13 rfl rfl)
theorem dX8_end_155 : decode cX8_end 155 = .ok (.invokestatic 81, 3) := dk_184 0 81 (dk_at dksX8_end_6 16 rfl rfl)
theorem dX8_end_158 : decode cX8_end 158 = .ok (.istore_n 2, 1) := dk_61 (dk_at dksX8_end_6 19 rfl rfl)
theorem dX8_end_159 : decode cX8_end 159 = .ok (.aload_n 0, 1) := dk_42 (dk_at dksX8_end_6 20 rfl rfl)
theorem dX8_end_160 : decode cX8_end 160 = .ok (.getfield 21, 3) := dk_180 0 21 (dk_at dksX8_end_6 21 rfl rfl)
theorem dX8_end_163 : decode cX8_end 163 = .ok (.aload_n 0, 1) := dk_42 (dk_at dksX8_end_7 0 rfl rfl)
theorem dX8_end_164 : decode cX8_end 164 = .ok (.getfield 9, 3) := dk_180 0 9 (dk_at dksX8_end_7 1 rfl rfl)
theorem dX8_end_167 : decode cX8_end 167 = .ok (.iload_n 3, 1) := dk_29 (dk_at dksX8_end_7 4 rfl rfl)
theorem dX8_end_168 : decode cX8_end 168 = .ok (.iaload, 1) := dk_46 (dk_at dksX8_end_7 5 rfl rfl)
theorem dX8_end_169 : decode cX8_end 169 = .ok (.aload_n 0, 1) := dk_42 (dk_at dksX8_end_7 6 rfl rfl)
theorem dX8_end_170 : decode cX8_end 170 = .ok (.getfield 21, 3) := dk_180 0 21 (dk_at dksX8_end_7 7 rfl rfl)
theorem dX8_end_173 : decode cX8_end 173 = .ok (.aload_n 0, 1) := dk_42 (dk_at dksX8_end_7 10 rfl rfl)
theorem dX8_end_174 : decode cX8_end 174 = .ok (.getfield 9, 3) := dk_180 0 9 (dk_at dksX8_end_7 11 rfl rfl)
theorem dX8_end_177 : decode cX8_end 177 = .ok (.iload_n 3, 1) := dk_29 (dk_at dksX8_end_7 14 rfl rfl)
theorem dX8_end_178 : decode cX8_end 178 = .ok (.iaload, 1) := dk_46 (dk_at dksX8_end_7 15 rfl rfl)
theorem dX8_end_179 : decode cX8_end 179 = .ok (.iaload, 1) := dk_46 (dk_at dksX8_end_7 16 rfl rfl)
theorem dX8_end_180 : decode cX8_end 180 = .ok (.iload_n 2, 1) := dk_28 (dk_at dksX8_end_7 17 rfl rfl)
theorem dX8_end_181 : decode cX8_end 181 = .ok (.invokestatic 72, 3) := dk_184 0 72 (dk_at dksX8_end_7 18 rfl rfl)
theorem dX8_end_184 : decode cX8_end 184 = .ok (.iastore, 1) := dk_79 (dk_at dksX8_end_7 21 rfl rfl)
theorem dX8_end_185 : decode cX8_end 185 = .ok (.iinc 3 (-1), 3) := dk_132 3 255 (dk_at dksX8_end_8 0 rfl rfl)
theorem dX8_end_188 : decode cX8_end 188 = .ok (.goto (-50), 3) := dk_167 255 206 (dk_at dksX8_end_8 3 rfl rfl)
theorem dX8_end_191 : decode cX8_end 191 = .ok (.aload_n 0, 1) := dk_42 (dk_at dksX8_end_8 6 rfl rfl)
theorem dX8_end_192 : decode cX8_end 192 = .ok (.getfield 9, 3) := dk_180 0 9 (dk_at dksX8_end_8 7 rfl rfl)
theorem dX8_end_195 : decode cX8_end 195 = .ok (.iconst 0, 1) := dk_3 (dk_at dksX8_end_8 10 rfl rfl)
theorem dX8_end_196 : decode cX8_end 196 = .ok (.aload_n 0, 1) := dk_42 (dk_at dksX8_end_8 11 rfl rfl)
theorem dX8_end_197 : decode cX8_end 197 = .ok (.getfield 15, 3) := dk_180 0 15 (dk_at dksX8_end_8 12 rfl rfl)
theorem dX8_end_200 : decode cX8_end 200 = .ok (.bipush 6, 2) := dk_16 6 (dk_at dksX8_end_8 15 rfl rfl)
theorem dX8_end_202 : decode cX8_end 202 = .ok (.aload_n 0, 1) := dk_42 (dk_at dksX8_end_8 17 rfl rfl)
theorem dX8_end_203 : decode cX8_end 203 = .ok (.getfield 32, 3) := dk_180 0 32 (dk_at dksX8_end_8 18 rfl rfl)
theorem dX8_end_206 : decode cX8_end 206 = .ok (.imul, 1) := dk_104 (dk_at dksX8_end_8 21 rfl rfl)
theorem dX8_end_207 : decode cX8_end 207 = .ok (.iload_n 1, 1) := dk_27 (dk_at dksX8_end_8 22 rfl rfl)
theorem dX8_end_208 : decode cX8_end 208 = .ok (.invokestatic 91, 3) := dk_184 0 91 (dk_at dksX8_end_9 0 rfl rfl)
theorem dX8_end_211 : decode cX8_end 211 = .ok (.aload_n 0, 1) := dk_42 (dk_at dksX8_end_9 3 rfl rfl)
theorem dX8_end_212 : decode cX8_end 212 = .ok (.dup, 1) := dk_89 (dk_at dksX8_end_9 4 rfl rfl)
theorem dX8_end_213 : decode cX8_end 213 = .ok (.getfield 32, 3) := dk_180 0 32 (dk_at dksX8_end_9 5 rfl rfl)
theorem dX8_end_216 : decode cX8_end 216 = .ok (.iconst 1, 1) := dk_4 (dk_at dksX8_end_9 8 rfl rfl)
theorem dX8_end_217 : decode cX8_end 217 = .ok (.iadd, 1) := dk_96 (dk_at dksX8_end_9 9 rfl rfl)
theorem dX8_end_218 : decode cX8_end 218 = .ok (.putfield 32, 3) := dk_181 0 32 (dk_at dksX8_end_9 10 rfl rfl)
theorem dX8_end_221 : decode cX8_end 221 = .ok (.return_, 1) := dk_177 (dk_at dksX8_end_9 13 rfl rfl)
abbrev cX8_low : ByteArray := prog_7_method_5_code
def yX8_low : MethodName := ⟨RX8, "low", "(I)I"⟩
def dkwX8_low_0 : List UInt8 := [3, 42, 180, 0, 24, 180, 0, 63, 27, 50, 180, 0, 67, 184, 0, 72, 172]
abbrev dktX8_low_0 : List UInt8 := dkwX8_low_0 ++ []
theorem dksX8_low_0 : cX8_low.data.toList.drop 0 = dktX8_low_0 := by decide +kernel
theorem dX8_low_0 : decode cX8_low 0 = .ok (.iconst 0, 1) := dk_3 (dk_at dksX8_low_0 0 rfl rfl)
theorem dX8_low_1 : decode cX8_low 1 = .ok (.aload_n 0, 1) := dk_42 (dk_at dksX8_low_0 1 rfl rfl)
theorem dX8_low_2 : decode cX8_low 2 = .ok (.getfield 24, 3) := dk_180 0 24 (dk_at dksX8_low_0 2 rfl rfl)
theorem dX8_low_5 : decode cX8_low 5 = .ok (.getfield 63, 3) := dk_180 0 63 (dk_at dksX8_low_0 5 rfl rfl)
theorem dX8_low_8 : decode cX8_low 8 = .ok (.iload_n 1, 1) := dk_27 (dk_at dksX8_low_0 8 rfl rfl)
theorem dX8_low_9 : decode cX8_low 9 = .ok (.aaload, 1) := dk_50 (dk_at dksX8_low_0 9 rfl rfl)
theorem dX8_low_10 : decode cX8_low 10 = .ok (.getfield 67, 3) := dk_180 0 67 (dk_at dksX8_low_0 10 rfl rfl)
theorem dX8_low_13 : decode cX8_low 13 = .ok (.invokestatic 72, 3) := dk_184 0 72 (dk_at dksX8_low_0 13 rfl rfl)
theorem dX8_low_16 : decode cX8_low 16 = .ok (.ireturn, 1) := dk_172 (dk_at dksX8_low_0 16 rfl rfl)
abbrev cX8_high : ByteArray := prog_7_method_6_code
def yX8_high : MethodName := ⟨RX8, "high", "(I)I"⟩
def dkwX8_high_1 : List UInt8 := [167, 0, 15, 42, 180, 0, 28, 4, 100, 28, 4, 100, 184, 0, 81, 172]
abbrev dktX8_high_1 : List UInt8 := dkwX8_high_1 ++ []
def dkwX8_high_0 : List UInt8 := [42, 180, 0, 24, 180, 0, 63, 27, 50, 180, 0, 78, 61, 28, 2, 160, 0, 12, 42, 180, 0, 28, 4, 100]
abbrev dktX8_high_0 : List UInt8 := dkwX8_high_0 ++ dktX8_high_1
theorem dksX8_high_0 : cX8_high.data.toList.drop 0 = dktX8_high_0 := by decide +kernel
theorem dksX8_high_1 : cX8_high.data.toList.drop 24 = dktX8_high_1 := dk_seg dksX8_high_0 24 rfl rfl
theorem dX8_high_0 : decode cX8_high 0 = .ok (.aload_n 0, 1) := dk_42 (dk_at dksX8_high_0 0 rfl rfl)
theorem dX8_high_1 : decode cX8_high 1 = .ok (.getfield 24, 3) := dk_180 0 24 (dk_at dksX8_high_0 1 rfl rfl)
theorem dX8_high_4 : decode cX8_high 4 = .ok (.getfield 63, 3) := dk_180 0 63 (dk_at dksX8_high_0 4 rfl rfl)
theorem dX8_high_7 : decode cX8_high 7 = .ok (.iload_n 1, 1) := dk_27 (dk_at dksX8_high_0 7 rfl rfl)
theorem dX8_high_8 : decode cX8_high 8 = .ok (.aaload, 1) := dk_50 (dk_at dksX8_high_0 8 rfl rfl)
theorem dX8_high_9 : decode cX8_high 9 = .ok (.getfield 78, 3) := dk_180 0 78 (dk_at dksX8_high_0 9 rfl rfl)
theorem dX8_high_12 : decode cX8_high 12 = .ok (.istore_n 2, 1) := dk_61 (dk_at dksX8_high_0 12 rfl rfl)
theorem dX8_high_13 : decode cX8_high 13 = .ok (.iload_n 2, 1) := dk_28 (dk_at dksX8_high_0 13 rfl rfl)
theorem dX8_high_14 : decode cX8_high 14 = .ok (.iconst (-1), 1) := dk_2 (dk_at dksX8_high_0 14 rfl rfl)
theorem dX8_high_15 : decode cX8_high 15 = .ok (.if_icmp .ne 12, 3) := dk_160 0 12 (dk_at dksX8_high_0 15 rfl rfl)
theorem dX8_high_18 : decode cX8_high 18 = .ok (.aload_n 0, 1) := dk_42 (dk_at dksX8_high_0 18 rfl rfl)
theorem dX8_high_19 : decode cX8_high 19 = .ok (.getfield 28, 3) := dk_180 0 28 (dk_at dksX8_high_0 19 rfl rfl)
theorem dX8_high_22 : decode cX8_high 22 = .ok (.iconst 1, 1) := dk_4 (dk_at dksX8_high_0 22 rfl rfl)
theorem dX8_high_23 : decode cX8_high 23 = .ok (.isub, 1) := dk_100 (dk_at dksX8_high_0 23 rfl rfl)
theorem dX8_high_24 : decode cX8_high 24 = .ok (.goto 15, 3) := dk_167 0 15 (dk_at dksX8_high_1 0 rfl rfl)
theorem dX8_high_27 : decode cX8_high 27 = .ok (.aload_n 0, 1) := dk_42 (dk_at dksX8_high_1 3 rfl rfl)
theorem dX8_high_28 : decode cX8_high 28 = .ok (.getfield 28, 3) := dk_180 0 28 (dk_at dksX8_high_1 4 rfl rfl)
theorem dX8_high_31 : decode cX8_high 31 = .ok (.iconst 1, 1) := dk_4 (dk_at dksX8_high_1 7 rfl rfl)
theorem dX8_high_32 : decode cX8_high 32 = .ok (.isub, 1) := dk_100 (dk_at dksX8_high_1 8 rfl rfl)
theorem dX8_high_33 : decode cX8_high 33 = .ok (.iload_n 2, 1) := dk_28 (dk_at dksX8_high_1 9 rfl rfl)
theorem dX8_high_34 : decode cX8_high 34 = .ok (.iconst 1, 1) := dk_4 (dk_at dksX8_high_1 10 rfl rfl)
theorem dX8_high_35 : decode cX8_high 35 = .ok (.isub, 1) := dk_100 (dk_at dksX8_high_1 11 rfl rfl)
theorem dX8_high_36 : decode cX8_high 36 = .ok (.invokestatic 81, 3) := dk_184 0 81 (dk_at dksX8_high_1 12 rfl rfl)
theorem dX8_high_39 : decode cX8_high 39 = .ok (.ireturn, 1) := dk_172 (dk_at dksX8_high_1 15 rfl rfl)
abbrev cX8_mayBe : ByteArray := prog_7_method_3_code
def yX8_mayBe : MethodName := ⟨RX8, "mayBe", "(II)Z"⟩
def dkwX8_mayBe_2 : List UInt8 := [184, 0, 50, 153, 0, 7, 4, 167, 0, 4, 3, 62, 132, 4, 1, 167, 255, 200, 29, 172]
abbrev dktX8_mayBe_2 : List UInt8 := dkwX8_mayBe_2 ++ []
def dkwX8_mayBe_1 : List UInt8 := [180, 0, 24, 180, 0, 44, 21, 4, 46, 27, 160, 0, 20, 28, 42, 180, 0, 24, 180, 0, 47, 21, 4, 46]
abbrev dktX8_mayBe_1 : List UInt8 := dkwX8_mayBe_1 ++ dktX8_mayBe_2
def dkwX8_mayBe_0 : List UInt8 := [4, 62, 3, 54, 4, 21, 4, 42, 180, 0, 24, 180, 0, 39, 162, 0, 50, 29, 153, 0, 38, 42]
abbrev dktX8_mayBe_0 : List UInt8 := dkwX8_mayBe_0 ++ dktX8_mayBe_1
theorem dksX8_mayBe_0 : cX8_mayBe.data.toList.drop 0 = dktX8_mayBe_0 := by decide +kernel
theorem dksX8_mayBe_1 : cX8_mayBe.data.toList.drop 22 = dktX8_mayBe_1 := dk_seg dksX8_mayBe_0 22 rfl rfl
theorem dksX8_mayBe_2 : cX8_mayBe.data.toList.drop 46 = dktX8_mayBe_2 := dk_seg dksX8_mayBe_1 24 rfl rfl
theorem dX8_mayBe_0 : decode cX8_mayBe 0 = .ok (.iconst 1, 1) := dk_4 (dk_at dksX8_mayBe_0 0 rfl rfl)
theorem dX8_mayBe_1 : decode cX8_mayBe 1 = .ok (.istore_n 3, 1) := dk_62 (dk_at dksX8_mayBe_0 1 rfl rfl)
theorem dX8_mayBe_2 : decode cX8_mayBe 2 = .ok (.iconst 0, 1) := dk_3 (dk_at dksX8_mayBe_0 2 rfl rfl)
theorem dX8_mayBe_3 : decode cX8_mayBe 3 = .ok (.istore 4, 2) := dk_54 4 (dk_at dksX8_mayBe_0 3 rfl rfl)
theorem dX8_mayBe_5 : decode cX8_mayBe 5 = .ok (.iload 4, 2) := dk_21 4 (dk_at dksX8_mayBe_0 5 rfl rfl)
theorem dX8_mayBe_7 : decode cX8_mayBe 7 = .ok (.aload_n 0, 1) := dk_42 (dk_at dksX8_mayBe_0 7 rfl rfl)
theorem dX8_mayBe_8 : decode cX8_mayBe 8 = .ok (.getfield 24, 3) := dk_180 0 24 (dk_at dksX8_mayBe_0 8 rfl rfl)
theorem dX8_mayBe_11 : decode cX8_mayBe 11 = .ok (.getfield 39, 3) := dk_180 0 39 (dk_at dksX8_mayBe_0 11 rfl rfl)
theorem dX8_mayBe_14 : decode cX8_mayBe 14 = .ok (.if_icmp .ge 50, 3) := dk_162 0 50 (dk_at dksX8_mayBe_0 14 rfl rfl)
theorem dX8_mayBe_17 : decode cX8_mayBe 17 = .ok (.iload_n 3, 1) := dk_29 (dk_at dksX8_mayBe_0 17 rfl rfl)
theorem dX8_mayBe_18 : decode cX8_mayBe 18 = .ok (.ifCond .eq 38, 3) := dk_153 0 38 (dk_at dksX8_mayBe_0 18 rfl rfl)
theorem dX8_mayBe_21 : decode cX8_mayBe 21 = .ok (.aload_n 0, 1) := dk_42 (dk_at dksX8_mayBe_0 21 rfl rfl)
theorem dX8_mayBe_22 : decode cX8_mayBe 22 = .ok (.getfield 24, 3) := dk_180 0 24 (dk_at dksX8_mayBe_1 0 rfl rfl)
theorem dX8_mayBe_25 : decode cX8_mayBe 25 = .ok (.getfield 44, 3) := dk_180 0 44 (dk_at dksX8_mayBe_1 3 rfl rfl)
theorem dX8_mayBe_28 : decode cX8_mayBe 28 = .ok (.iload 4, 2) := dk_21 4 (dk_at dksX8_mayBe_1 6 rfl rfl)
theorem dX8_mayBe_30 : decode cX8_mayBe 30 = .ok (.iaload, 1) := dk_46 (dk_at dksX8_mayBe_1 8 rfl rfl)
theorem dX8_mayBe_31 : decode cX8_mayBe 31 = .ok (.iload_n 1, 1) := dk_27 (dk_at dksX8_mayBe_1 9 rfl rfl)
theorem dX8_mayBe_32 : decode cX8_mayBe 32 = .ok (.if_icmp .ne 20, 3) := dk_160 0 20 (dk_at dksX8_mayBe_1 10 rfl rfl)
theorem dX8_mayBe_35 : decode cX8_mayBe 35 = .ok (.iload_n 2, 1) := dk_28 (dk_at dksX8_mayBe_1 13 rfl rfl)
theorem dX8_mayBe_36 : decode cX8_mayBe 36 = .ok (.aload_n 0, 1) := dk_42 (dk_at dksX8_mayBe_1 14 rfl rfl)
theorem dX8_mayBe_37 : decode cX8_mayBe 37 = .ok (.getfield 24, 3) := dk_180 0 24 (dk_at dksX8_mayBe_1 15 rfl rfl)
theorem dX8_mayBe_40 : decode cX8_mayBe 40 = .ok (.getfield 47, 3) := dk_180 0 47 (dk_at dksX8_mayBe_1 18 rfl rfl)
theorem dX8_mayBe_43 : decode cX8_mayBe 43 = .ok (.iload 4, 2) := dk_21 4 (dk_at dksX8_mayBe_1 21 rfl rfl)
theorem dX8_mayBe_45 : decode cX8_mayBe 45 = .ok (.iaload, 1) := dk_46 (dk_at dksX8_mayBe_1 23 rfl rfl)
theorem dX8_mayBe_46 : decode cX8_mayBe 46 = .ok (.invokestatic 50, 3) := dk_184 0 50 (dk_at dksX8_mayBe_2 0 rfl rfl)
theorem dX8_mayBe_49 : decode cX8_mayBe 49 = .ok (.ifCond .eq 7, 3) := dk_153 0 7 (dk_at dksX8_mayBe_2 3 rfl rfl)
theorem dX8_mayBe_52 : decode cX8_mayBe 52 = .ok (.iconst 1, 1) := dk_4 (dk_at dksX8_mayBe_2 6 rfl rfl)
theorem dX8_mayBe_53 : decode cX8_mayBe 53 = .ok (.goto 4, 3) := dk_167 0 4 (dk_at dksX8_mayBe_2 7 rfl rfl)
theorem dX8_mayBe_56 : decode cX8_mayBe 56 = .ok (.iconst 0, 1) := dk_3 (dk_at dksX8_mayBe_2 10 rfl rfl)
theorem dX8_mayBe_57 : decode cX8_mayBe 57 = .ok (.istore_n 3, 1) := dk_62 (dk_at dksX8_mayBe_2 11 rfl rfl)
theorem dX8_mayBe_58 : decode cX8_mayBe 58 = .ok (.iinc 4 1, 3) := dk_132 4 1 (dk_at dksX8_mayBe_2 12 rfl rfl)
theorem dX8_mayBe_61 : decode cX8_mayBe 61 = .ok (.goto (-56), 3) := dk_167 255 200 (dk_at dksX8_mayBe_2 15 rfl rfl)
theorem dX8_mayBe_64 : decode cX8_mayBe 64 = .ok (.iload_n 3, 1) := dk_29 (dk_at dksX8_mayBe_2 18 rfl rfl)
theorem dX8_mayBe_65 : decode cX8_mayBe 65 = .ok (.ireturn, 1) := dk_172 (dk_at dksX8_mayBe_2 19 rfl rfl)
abbrev cX8_at : ByteArray := prog_7_method_8_code
def yX8_at : MethodName := ⟨RX8, "at", "(II)I"⟩
def dkwX8_at_0 : List UInt8 := [42, 180, 0, 15, 16, 6, 27, 104, 28, 96, 46, 172]
abbrev dktX8_at_0 : List UInt8 := dkwX8_at_0 ++ []
theorem dksX8_at_0 : cX8_at.data.toList.drop 0 = dktX8_at_0 := by decide +kernel
theorem dX8_at_0 : decode cX8_at 0 = .ok (.aload_n 0, 1) := dk_42 (dk_at dksX8_at_0 0 rfl rfl)
theorem dX8_at_1 : decode cX8_at 1 = .ok (.getfield 15, 3) := dk_180 0 15 (dk_at dksX8_at_0 1 rfl rfl)
theorem dX8_at_4 : decode cX8_at 4 = .ok (.bipush 6, 2) := dk_16 6 (dk_at dksX8_at_0 4 rfl rfl)
theorem dX8_at_6 : decode cX8_at 6 = .ok (.iload_n 1, 1) := dk_27 (dk_at dksX8_at_0 6 rfl rfl)
theorem dX8_at_7 : decode cX8_at 7 = .ok (.imul, 1) := dk_104 (dk_at dksX8_at_0 7 rfl rfl)
theorem dX8_at_8 : decode cX8_at 8 = .ok (.iload_n 2, 1) := dk_28 (dk_at dksX8_at_0 8 rfl rfl)
theorem dX8_at_9 : decode cX8_at 9 = .ok (.iadd, 1) := dk_96 (dk_at dksX8_at_0 9 rfl rfl)
theorem dX8_at_10 : decode cX8_at 10 = .ok (.iaload, 1) := dk_46 (dk_at dksX8_at_0 10 rfl rfl)
theorem dX8_at_11 : decode cX8_at 11 = .ok (.ireturn, 1) := dk_172 (dk_at dksX8_at_0 11 rfl rfl)
abbrev cX8_soonest : ByteArray := prog_7_method_9_code
def yX8_soonest : MethodName := ⟨RX8, "soonest", "(I)I"⟩
def dkwX8_soonest_0 : List UInt8 := [42, 180, 0, 18, 27, 46, 172]
abbrev dktX8_soonest_0 : List UInt8 := dkwX8_soonest_0 ++ []
theorem dksX8_soonest_0 : cX8_soonest.data.toList.drop 0 = dktX8_soonest_0 := by decide +kernel
theorem dX8_soonest_0 : decode cX8_soonest 0 = .ok (.aload_n 0, 1) := dk_42 (dk_at dksX8_soonest_0 0 rfl rfl)
theorem dX8_soonest_1 : decode cX8_soonest 1 = .ok (.getfield 18, 3) := dk_180 0 18 (dk_at dksX8_soonest_0 1 rfl rfl)
theorem dX8_soonest_4 : decode cX8_soonest 4 = .ok (.iload_n 1, 1) := dk_27 (dk_at dksX8_soonest_0 4 rfl rfl)
theorem dX8_soonest_5 : decode cX8_soonest 5 = .ok (.iaload, 1) := dk_46 (dk_at dksX8_soonest_0 5 rfl rfl)
theorem dX8_soonest_6 : decode cX8_soonest 6 = .ok (.ireturn, 1) := dk_172 (dk_at dksX8_soonest_0 6 rfl rfl)
abbrev cX8_latest : ByteArray := prog_7_method_10_code
def yX8_latest : MethodName := ⟨RX8, "latest", "(I)I"⟩
def dkwX8_latest_0 : List UInt8 := [42, 180, 0, 21, 27, 46, 172]
abbrev dktX8_latest_0 : List UInt8 := dkwX8_latest_0 ++ []
theorem dksX8_latest_0 : cX8_latest.data.toList.drop 0 = dktX8_latest_0 := by decide +kernel
theorem dX8_latest_0 : decode cX8_latest 0 = .ok (.aload_n 0, 1) := dk_42 (dk_at dksX8_latest_0 0 rfl rfl)
theorem dX8_latest_1 : decode cX8_latest 1 = .ok (.getfield 21, 3) := dk_180 0 21 (dk_at dksX8_latest_0 1 rfl rfl)
theorem dX8_latest_4 : decode cX8_latest 4 = .ok (.iload_n 1, 1) := dk_27 (dk_at dksX8_latest_0 4 rfl rfl)
theorem dX8_latest_5 : decode cX8_latest 5 = .ok (.iaload, 1) := dk_46 (dk_at dksX8_latest_0 5 rfl rfl)
theorem dX8_latest_6 : decode cX8_latest 6 = .ok (.ireturn, 1) := dk_172 (dk_at dksX8_latest_0 6 rfl rfl)
abbrev cX8_isSure : ByteArray := prog_7_method_12_code
def yX8_isSure : MethodName := ⟨RX8, "isSure", "(II)Z"⟩
def dkwX8_isSure_2 : List UInt8 := [132, 4, 1, 167, 255, 223, 29, 172]
abbrev dktX8_isSure_2 : List UInt8 := dkwX8_isSure_2 ++ []
def dkwX8_isSure_1 : List UInt8 := [162, 0, 30, 29, 153, 0, 18, 42, 21, 4, 27, 28, 182, 0, 100, 153, 0, 7, 4, 167, 0, 4, 3, 62]
abbrev dktX8_isSure_1 : List UInt8 := dkwX8_isSure_1 ++ dktX8_isSure_2
def dkwX8_isSure_0 : List UInt8 := [42, 180, 0, 32, 158, 0, 7, 4, 167, 0, 4, 3, 62, 3, 54, 4, 21, 4, 42, 180, 0, 32]
abbrev dktX8_isSure_0 : List UInt8 := dkwX8_isSure_0 ++ dktX8_isSure_1
theorem dksX8_isSure_0 : cX8_isSure.data.toList.drop 0 = dktX8_isSure_0 := by decide +kernel
theorem dksX8_isSure_1 : cX8_isSure.data.toList.drop 22 = dktX8_isSure_1 := dk_seg dksX8_isSure_0 22 rfl rfl
theorem dksX8_isSure_2 : cX8_isSure.data.toList.drop 46 = dktX8_isSure_2 := dk_seg dksX8_isSure_1 24 rfl rfl
theorem dX8_isSure_0 : decode cX8_isSure 0 = .ok (.aload_n 0, 1) := dk_42 (dk_at dksX8_isSure_0 0 rfl rfl)
theorem dX8_isSure_1 : decode cX8_isSure 1 = .ok (.getfield 32, 3) := dk_180 0 32 (dk_at dksX8_isSure_0 1 rfl rfl)
theorem dX8_isSure_4 : decode cX8_isSure 4 = .ok (.ifCond .le 7, 3) := dk_158 0 7 (dk_at dksX8_isSure_0 4 rfl rfl)
theorem dX8_isSure_7 : decode cX8_isSure 7 = .ok (.iconst 1, 1) := dk_4 (dk_at dksX8_isSure_0 7 rfl rfl)
theorem dX8_isSure_8 : decode cX8_isSure 8 = .ok (.goto 4, 3) := dk_167 0 4 (dk_at dksX8_isSure_0 8 rfl rfl)
theorem dX8_isSure_11 : decode cX8_isSure 11 = .ok (.iconst 0, 1) := dk_3 (dk_at dksX8_isSure_0 11 rfl rfl)
theorem dX8_isSure_12 : decode cX8_isSure 12 = .ok (.istore_n 3, 1) := dk_62 (dk_at dksX8_isSure_0 12 rfl rfl)
theorem dX8_isSure_13 : decode cX8_isSure 13 = .ok (.iconst 0, 1) := dk_3 (dk_at dksX8_isSure_0 13 rfl rfl)
theorem dX8_isSure_14 : decode cX8_isSure 14 = .ok (.istore 4, 2) := dk_54 4 (dk_at dksX8_isSure_0 14 rfl rfl)
theorem dX8_isSure_16 : decode cX8_isSure 16 = .ok (.iload 4, 2) := dk_21 4 (dk_at dksX8_isSure_0 16 rfl rfl)
theorem dX8_isSure_18 : decode cX8_isSure 18 = .ok (.aload_n 0, 1) := dk_42 (dk_at dksX8_isSure_0 18 rfl rfl)
theorem dX8_isSure_19 : decode cX8_isSure 19 = .ok (.getfield 32, 3) := dk_180 0 32 (dk_at dksX8_isSure_0 19 rfl rfl)
theorem dX8_isSure_22 : decode cX8_isSure 22 = .ok (.if_icmp .ge 30, 3) := dk_162 0 30 (dk_at dksX8_isSure_1 0 rfl rfl)
theorem dX8_isSure_25 : decode cX8_isSure 25 = .ok (.iload_n 3, 1) := dk_29 (dk_at dksX8_isSure_1 3 rfl rfl)
theorem dX8_isSure_26 : decode cX8_isSure 26 = .ok (.ifCond .eq 18, 3) := dk_153 0 18 (dk_at dksX8_isSure_1 4 rfl rfl)
theorem dX8_isSure_29 : decode cX8_isSure 29 = .ok (.aload_n 0, 1) := dk_42 (dk_at dksX8_isSure_1 7 rfl rfl)
theorem dX8_isSure_30 : decode cX8_isSure 30 = .ok (.iload 4, 2) := dk_21 4 (dk_at dksX8_isSure_1 8 rfl rfl)
theorem dX8_isSure_32 : decode cX8_isSure 32 = .ok (.iload_n 1, 1) := dk_27 (dk_at dksX8_isSure_1 10 rfl rfl)
theorem dX8_isSure_33 : decode cX8_isSure 33 = .ok (.iload_n 2, 1) := dk_28 (dk_at dksX8_isSure_1 11 rfl rfl)
theorem dX8_isSure_34 : decode cX8_isSure 34 = .ok (.invokevirtual 100, 3) := dk_182 0 100 (dk_at dksX8_isSure_1 12 rfl rfl)
theorem dX8_isSure_37 : decode cX8_isSure 37 = .ok (.ifCond .eq 7, 3) := dk_153 0 7 (dk_at dksX8_isSure_1 15 rfl rfl)
theorem dX8_isSure_40 : decode cX8_isSure 40 = .ok (.iconst 1, 1) := dk_4 (dk_at dksX8_isSure_1 18 rfl rfl)
theorem dX8_isSure_41 : decode cX8_isSure 41 = .ok (.goto 4, 3) := dk_167 0 4 (dk_at dksX8_isSure_1 19 rfl rfl)
theorem dX8_isSure_44 : decode cX8_isSure 44 = .ok (.iconst 0, 1) := dk_3 (dk_at dksX8_isSure_1 22 rfl rfl)
theorem dX8_isSure_45 : decode cX8_isSure 45 = .ok (.istore_n 3, 1) := dk_62 (dk_at dksX8_isSure_1 23 rfl rfl)
theorem dX8_isSure_46 : decode cX8_isSure 46 = .ok (.iinc 4 1, 3) := dk_132 4 1 (dk_at dksX8_isSure_2 0 rfl rfl)
theorem dX8_isSure_49 : decode cX8_isSure 49 = .ok (.goto (-33), 3) := dk_167 255 223 (dk_at dksX8_isSure_2 3 rfl rfl)
theorem dX8_isSure_52 : decode cX8_isSure 52 = .ok (.iload_n 3, 1) := dk_29 (dk_at dksX8_isSure_2 6 rfl rfl)
theorem dX8_isSure_53 : decode cX8_isSure 53 = .ok (.ireturn, 1) := dk_172 (dk_at dksX8_isSure_2 7 rfl rfl)
abbrev cX8_isAhead : ByteArray := prog_7_method_11_code
def yX8_isAhead : MethodName := ⟨RX8, "isAhead", "(III)Z"⟩
def dkwX8_isAhead_2 : List UInt8 := [160, 0, 7, 4, 167, 0, 4, 3, 172, 132, 4, 1, 167, 255, 202, 3, 172]
abbrev dktX8_isAhead_2 : List UInt8 := dkwX8_isAhead_2 ++ []
def dkwX8_isAhead_1 : List UInt8 := [159, 0, 14, 42, 27, 21, 4, 182, 0, 97, 29, 160, 0, 20, 42, 27, 21, 4, 182, 0, 97, 28]
abbrev dktX8_isAhead_1 : List UInt8 := dkwX8_isAhead_1 ++ dktX8_isAhead_2
def dkwX8_isAhead_0 : List UInt8 := [3, 54, 4, 21, 4, 42, 180, 0, 24, 180, 0, 54, 162, 0, 48, 42, 27, 21, 4, 182, 0, 97, 28]
abbrev dktX8_isAhead_0 : List UInt8 := dkwX8_isAhead_0 ++ dktX8_isAhead_1
theorem dksX8_isAhead_0 : cX8_isAhead.data.toList.drop 0 = dktX8_isAhead_0 := by decide +kernel
theorem dksX8_isAhead_1 : cX8_isAhead.data.toList.drop 23 = dktX8_isAhead_1 := dk_seg dksX8_isAhead_0 23 rfl rfl
theorem dksX8_isAhead_2 : cX8_isAhead.data.toList.drop 45 = dktX8_isAhead_2 := dk_seg dksX8_isAhead_1 22 rfl rfl
theorem dX8_isAhead_0 : decode cX8_isAhead 0 = .ok (.iconst 0, 1) := dk_3 (dk_at dksX8_isAhead_0 0 rfl rfl)
theorem dX8_isAhead_1 : decode cX8_isAhead 1 = .ok (.istore 4, 2) := dk_54 4 (dk_at dksX8_isAhead_0 1 rfl rfl)
theorem dX8_isAhead_3 : decode cX8_isAhead 3 = .ok (.iload 4, 2) := dk_21 4 (dk_at dksX8_isAhead_0 3 rfl rfl)
theorem dX8_isAhead_5 : decode cX8_isAhead 5 = .ok (.aload_n 0, 1) := dk_42 (dk_at dksX8_isAhead_0 5 rfl rfl)
theorem dX8_isAhead_6 : decode cX8_isAhead 6 = .ok (.getfield 24, 3) := dk_180 0 24 (dk_at dksX8_isAhead_0 6 rfl rfl)
theorem dX8_isAhead_9 : decode cX8_isAhead 9 = .ok (.getfield 54, 3) := dk_180 0 54 (dk_at dksX8_isAhead_0 9 rfl rfl)
theorem dX8_isAhead_12 : decode cX8_isAhead 12 = .ok (.if_icmp .ge 48, 3) := dk_162 0 48 (dk_at dksX8_isAhead_0 12 rfl rfl)
theorem dX8_isAhead_15 : decode cX8_isAhead 15 = .ok (.aload_n 0, 1) := dk_42 (dk_at dksX8_isAhead_0 15 rfl rfl)
theorem dX8_isAhead_16 : decode cX8_isAhead 16 = .ok (.iload_n 1, 1) := dk_27 (dk_at dksX8_isAhead_0 16 rfl rfl)
theorem dX8_isAhead_17 : decode cX8_isAhead 17 = .ok (.iload 4, 2) := dk_21 4 (dk_at dksX8_isAhead_0 17 rfl rfl)
theorem dX8_isAhead_19 : decode cX8_isAhead 19 = .ok (.invokevirtual 97, 3) := dk_182 0 97 (dk_at dksX8_isAhead_0 19 rfl rfl)
theorem dX8_isAhead_22 : decode cX8_isAhead 22 = .ok (.iload_n 2, 1) := dk_28 (dk_at dksX8_isAhead_0 22 rfl rfl)
theorem dX8_isAhead_23 : decode cX8_isAhead 23 = .ok (.if_icmp .eq 14, 3) := dk_159 0 14 (dk_at dksX8_isAhead_1 0 rfl rfl)
theorem dX8_isAhead_26 : decode cX8_isAhead 26 = .ok (.aload_n 0, 1) := dk_42 (dk_at dksX8_isAhead_1 3 rfl rfl)
theorem dX8_isAhead_27 : decode cX8_isAhead 27 = .ok (.iload_n 1, 1) := dk_27 (dk_at dksX8_isAhead_1 4 rfl rfl)
theorem dX8_isAhead_28 : decode cX8_isAhead 28 = .ok (.iload 4, 2) := dk_21 4 (dk_at dksX8_isAhead_1 5 rfl rfl)
theorem dX8_isAhead_30 : decode cX8_isAhead 30 = .ok (.invokevirtual 97, 3) := dk_182 0 97 (dk_at dksX8_isAhead_1 7 rfl rfl)
theorem dX8_isAhead_33 : decode cX8_isAhead 33 = .ok (.iload_n 3, 1) := dk_29 (dk_at dksX8_isAhead_1 10 rfl rfl)
theorem dX8_isAhead_34 : decode cX8_isAhead 34 = .ok (.if_icmp .ne 20, 3) := dk_160 0 20 (dk_at dksX8_isAhead_1 11 rfl rfl)
theorem dX8_isAhead_37 : decode cX8_isAhead 37 = .ok (.aload_n 0, 1) := dk_42 (dk_at dksX8_isAhead_1 14 rfl rfl)
theorem dX8_isAhead_38 : decode cX8_isAhead 38 = .ok (.iload_n 1, 1) := dk_27 (dk_at dksX8_isAhead_1 15 rfl rfl)
theorem dX8_isAhead_39 : decode cX8_isAhead 39 = .ok (.iload 4, 2) := dk_21 4 (dk_at dksX8_isAhead_1 16 rfl rfl)
theorem dX8_isAhead_41 : decode cX8_isAhead 41 = .ok (.invokevirtual 97, 3) := dk_182 0 97 (dk_at dksX8_isAhead_1 18 rfl rfl)
theorem dX8_isAhead_44 : decode cX8_isAhead 44 = .ok (.iload_n 2, 1) := dk_28 (dk_at dksX8_isAhead_1 21 rfl rfl)
theorem dX8_isAhead_45 : decode cX8_isAhead 45 = .ok (.if_icmp .ne 7, 3) := dk_160 0 7 (dk_at dksX8_isAhead_2 0 rfl rfl)
theorem dX8_isAhead_48 : decode cX8_isAhead 48 = .ok (.iconst 1, 1) := dk_4 (dk_at dksX8_isAhead_2 3 rfl rfl)
theorem dX8_isAhead_49 : decode cX8_isAhead 49 = .ok (.goto 4, 3) := dk_167 0 4 (dk_at dksX8_isAhead_2 4 rfl rfl)
theorem dX8_isAhead_52 : decode cX8_isAhead 52 = .ok (.iconst 0, 1) := dk_3 (dk_at dksX8_isAhead_2 7 rfl rfl)
theorem dX8_isAhead_53 : decode cX8_isAhead 53 = .ok (.ireturn, 1) := dk_172 (dk_at dksX8_isAhead_2 8 rfl rfl)
theorem dX8_isAhead_54 : decode cX8_isAhead 54 = .ok (.iinc 4 1, 3) := dk_132 4 1 (dk_at dksX8_isAhead_2 9 rfl rfl)
theorem dX8_isAhead_57 : decode cX8_isAhead 57 = .ok (.goto (-54), 3) := dk_167 255 202 (dk_at dksX8_isAhead_2 12 rfl rfl)
theorem dX8_isAhead_60 : decode cX8_isAhead 60 = .ok (.iconst 0, 1) := dk_3 (dk_at dksX8_isAhead_2 15 rfl rfl)
theorem dX8_isAhead_61 : decode cX8_isAhead 61 = .ok (.ireturn, 1) := dk_172 (dk_at dksX8_isAhead_2 16 rfl rfl)
theorem q136 : (Jvm.Cond.initialized "YearSkins$Orders") ∈ lw_all := lw_g (lw_at lw_m1 11 rfl) rfl
theorem q431 : (Jvm.Cond.instantiable "YearSkins$Orders" (7 : Nat)) ∈ lw_all := lw_g (lw_at lw_m2 66 rfl) rfl
theorem q433 : (Jvm.Cond.instanceMethod ({ cls := "YearSkins$Orders", name := "<init>", desc := "()V" } : Jvm.MethodName)) ∈ lw_all := lw_g (lw_at lw_m2 68 rfl) rfl
theorem q434 : (Jvm.Cond.code ({ cls := "YearSkins$Orders", name := "<init>", desc := "()V" } : Jvm.MethodName) prog_7_method_1_code (1 : Nat) (Option.none : Option Jvm.ClassFile.FieldType)) ∈ lw_all := lw_g (lw_at lw_m2 69 rfl) rfl
theorem q435 : (Jvm.Cond.methodLink "YearSkins$Orders" (3 : Nat) ({ cls := "java/lang/Object", name := "<init>", desc := "()V" } : Jvm.MethodName)) ∈ lw_all := lw_g (lw_at lw_m2 70 rfl) rfl
theorem q436 : (Jvm.Cond.fieldLink "YearSkins$Orders" (9 : Nat) "YearSkins$Orders" "order" "[I") ∈ lw_all := lw_g (lw_at lw_m2 71 rfl) rfl
theorem q437 : (Jvm.Cond.fieldLink "YearSkins$Orders" (15 : Nat) "YearSkins$Orders" "rows" "[I") ∈ lw_all := lw_g (lw_at lw_m2 72 rfl) rfl
theorem q438 : (Jvm.Cond.fieldLink "YearSkins$Orders" (18 : Nat) "YearSkins$Orders" "soonest" "[I") ∈ lw_all := lw_g (lw_at lw_m2 73 rfl) rfl
theorem q439 : (Jvm.Cond.fieldLink "YearSkins$Orders" (21 : Nat) "YearSkins$Orders" "latest" "[I") ∈ lw_all := lw_g (lw_at lw_m2 74 rfl) rfl
theorem q440 : (Jvm.Cond.fieldLink "YearSkins$Orders" (24 : Nat) "YearSkins$Orders" "land" "LYearSkins$Land;") ∈ lw_all := lw_g (lw_at lw_m2 75 rfl) rfl
theorem q441 : (Jvm.Cond.fieldLink "YearSkins$Orders" (28 : Nat) "YearSkins$Orders" "now" "I") ∈ lw_all := lw_g (lw_at lw_m2 76 rfl) rfl
theorem q442 : (Jvm.Cond.fieldLink "YearSkins$Orders" (32 : Nat) "YearSkins$Orders" "many" "I") ∈ lw_all := lw_g (lw_at lw_m2 77 rfl) rfl
theorem q444 : (Jvm.Cond.laysFinal "YearSkins$Orders" "YearSkins$Orders" "order" "[I") ∈ lw_all := lw_g (lw_at lw_m2 79 rfl) rfl
theorem q445 : (Jvm.Cond.soleField "YearSkins$Orders" "order") ∈ lw_all := lw_g (lw_at lw_m2 80 rfl) rfl
theorem q446 : (Jvm.Cond.laysFinal "YearSkins$Orders" "YearSkins$Orders" "rows" "[I") ∈ lw_all := lw_g (lw_at lw_m2 81 rfl) rfl
theorem q447 : (Jvm.Cond.soleField "YearSkins$Orders" "rows") ∈ lw_all := lw_g (lw_at lw_m2 82 rfl) rfl
theorem q448 : (Jvm.Cond.laysFinal "YearSkins$Orders" "YearSkins$Orders" "soonest" "[I") ∈ lw_all := lw_g (lw_at lw_m2 83 rfl) rfl
theorem q449 : (Jvm.Cond.soleField "YearSkins$Orders" "soonest") ∈ lw_all := lw_g (lw_at lw_m2 84 rfl) rfl
theorem q450 : (Jvm.Cond.laysFinal "YearSkins$Orders" "YearSkins$Orders" "latest" "[I") ∈ lw_all := lw_g (lw_at lw_m2 85 rfl) rfl
theorem q451 : (Jvm.Cond.soleField "YearSkins$Orders" "latest") ∈ lw_all := lw_g (lw_at lw_m2 86 rfl) rfl
theorem q452 : (Jvm.Cond.lays "YearSkins$Orders" "YearSkins$Orders" "land" "LYearSkins$Land;") ∈ lw_all := lw_g (lw_at lw_m2 87 rfl) rfl
theorem q453 : (Jvm.Cond.soleField "YearSkins$Orders" "land") ∈ lw_all := lw_g (lw_at lw_m2 88 rfl) rfl
theorem q454 : (Jvm.Cond.lays "YearSkins$Orders" "YearSkins$Orders" "now" "I") ∈ lw_all := lw_g (lw_at lw_m2 89 rfl) rfl
theorem q455 : (Jvm.Cond.soleField "YearSkins$Orders" "now") ∈ lw_all := lw_g (lw_at lw_m2 90 rfl) rfl
theorem q456 : (Jvm.Cond.lays "YearSkins$Orders" "YearSkins$Orders" "many" "I") ∈ lw_all := lw_g (lw_at lw_m2 91 rfl) rfl
theorem q457 : (Jvm.Cond.soleField "YearSkins$Orders" "many") ∈ lw_all := lw_g (lw_at lw_m2 92 rfl) rfl
theorem q458 : (Jvm.Cond.superclass "YearSkins$Orders" "java/lang/Object") ∈ lw_all := lw_g (lw_at lw_m2 93 rfl) rfl
theorem q562 : (Jvm.Cond.fieldLink "YearSkins$Orders" (47 : Nat) "YearSkins$Land" "older" "[I") ∈ lw_all := lw_g (lw_at lw_m2 197 rfl) rfl
theorem q565 : (Jvm.Cond.fieldLink "YearSkins$Orders" (44 : Nat) "YearSkins$Land" "younger" "[I") ∈ lw_all := lw_g (lw_at lw_m2 200 rfl) rfl
theorem q577 : (Jvm.Cond.fieldLink "YearSkins$Orders" (63 : Nat) "YearSkins$Land" "walls" "[LYearSkins$Wall;") ∈ lw_all := lw_g (lw_at lw_m2 212 rfl) rfl
theorem q606 : (Jvm.Cond.fieldLink "YearSkins$Orders" (54 : Nat) "YearSkins$Land" "wallMany" "I") ∈ lw_all := lw_g (lw_at lw_m3 1 rfl) rfl
theorem q609 : (Jvm.Cond.fieldLink "YearSkins$Orders" (39 : Nat) "YearSkins$Land" "olderMany" "I") ∈ lw_all := lw_g (lw_at lw_m3 4 rfl) rfl
theorem q1163 : (Jvm.Cond.fieldLink "YearSkins$Orders" (67 : Nat) "YearSkins$Wall" "coin" "I") ∈ lw_all := lw_g (lw_at lw_m5 78 rfl) rfl
theorem q1166 : (Jvm.Cond.fieldLink "YearSkins$Orders" (78 : Nat) "YearSkins$Wall" "smell" "I") ∈ lw_all := lw_g (lw_at lw_m5 81 rfl) rfl
theorem q1574 : (Jvm.Cond.instanceMethod ({ cls := "YearSkins$Orders", name := "lay", desc := "(LYearSkins$Land;I)V" } : Jvm.MethodName)) ∈ lw_all := lw_g (lw_at lw_m7 9 rfl) rfl
theorem q1575 : (Jvm.Cond.selects "YearSkins$Orders" ({ cls := "YearSkins$Orders", name := "lay", desc := "(LYearSkins$Land;I)V" } : Jvm.MethodName) ({ cls := "YearSkins$Orders", name := "lay", desc := "(LYearSkins$Land;I)V" } : Jvm.MethodName)) ∈ lw_all := lw_g (lw_at lw_m7 10 rfl) rfl
theorem q1576 : (Jvm.Cond.code ({ cls := "YearSkins$Orders", name := "lay", desc := "(LYearSkins$Land;I)V" } : Jvm.MethodName) prog_7_method_2_code (4 : Nat) (Option.none : Option Jvm.ClassFile.FieldType)) ∈ lw_all := lw_g (lw_at lw_m7 11 rfl) rfl
theorem q1577 : (Jvm.Cond.methodLink "YearSkins$Orders" (35 : Nat) ({ cls := "YearSkins$Orders", name := "tries", desc := "(II)V" } : Jvm.MethodName)) ∈ lw_all := lw_g (lw_at lw_m7 12 rfl) rfl
theorem q1578 : (Jvm.Cond.privateMethod ({ cls := "YearSkins$Orders", name := "tries", desc := "(II)V" } : Jvm.MethodName)) ∈ lw_tbl := lw_at lw_m7 13 rfl
theorem q1579 : (Jvm.Cond.instanceMethod ({ cls := "YearSkins$Orders", name := "tries", desc := "(II)V" } : Jvm.MethodName)) ∈ lw_all := lw_g (lw_at lw_m7 14 rfl) rfl
theorem q1580 : (Jvm.Cond.code ({ cls := "YearSkins$Orders", name := "tries", desc := "(II)V" } : Jvm.MethodName) prog_7_method_4_code (4 : Nat) (Option.none : Option Jvm.ClassFile.FieldType)) ∈ lw_all := lw_g (lw_at lw_m7 15 rfl) rfl
theorem q1581 : (Jvm.Cond.methodLink "YearSkins$Orders" (57 : Nat) ({ cls := "YearSkins$Orders", name := "end", desc := "()V" } : Jvm.MethodName)) ∈ lw_all := lw_g (lw_at lw_m7 16 rfl) rfl
theorem q1582 : (Jvm.Cond.privateMethod ({ cls := "YearSkins$Orders", name := "end", desc := "()V" } : Jvm.MethodName)) ∈ lw_tbl := lw_at lw_m7 17 rfl
theorem q1583 : (Jvm.Cond.instanceMethod ({ cls := "YearSkins$Orders", name := "end", desc := "()V" } : Jvm.MethodName)) ∈ lw_all := lw_g (lw_at lw_m7 18 rfl) rfl
theorem q1584 : (Jvm.Cond.code ({ cls := "YearSkins$Orders", name := "end", desc := "()V" } : Jvm.MethodName) prog_7_method_7_code (5 : Nat) (Option.none : Option Jvm.ClassFile.FieldType)) ∈ lw_all := lw_g (lw_at lw_m7 19 rfl) rfl
theorem q1585 : (Jvm.Cond.methodLink "YearSkins$Orders" (84 : Nat) ({ cls := "YearSkins$Orders", name := "low", desc := "(I)I" } : Jvm.MethodName)) ∈ lw_all := lw_g (lw_at lw_m7 20 rfl) rfl
theorem q1586 : (Jvm.Cond.privateMethod ({ cls := "YearSkins$Orders", name := "low", desc := "(I)I" } : Jvm.MethodName)) ∈ lw_tbl := lw_at lw_m7 21 rfl
theorem q1587 : (Jvm.Cond.instanceMethod ({ cls := "YearSkins$Orders", name := "low", desc := "(I)I" } : Jvm.MethodName)) ∈ lw_all := lw_g (lw_at lw_m7 22 rfl) rfl
theorem q1588 : (Jvm.Cond.code ({ cls := "YearSkins$Orders", name := "low", desc := "(I)I" } : Jvm.MethodName) prog_7_method_5_code (2 : Nat) (Option.some Jvm.ClassFile.FieldType.int)) ∈ lw_all := lw_g (lw_at lw_m7 23 rfl) rfl
theorem q1589 : (Jvm.Cond.methodLink "YearSkins$Orders" (72 : Nat) ({ cls := "java/lang/Math", name := "max", desc := "(II)I" } : Jvm.MethodName)) ∈ lw_all := lw_g (lw_at lw_m7 24 rfl) rfl
theorem q1590 : (Jvm.Cond.methodLink "YearSkins$Orders" (88 : Nat) ({ cls := "YearSkins$Orders", name := "high", desc := "(I)I" } : Jvm.MethodName)) ∈ lw_all := lw_g (lw_at lw_m7 25 rfl) rfl
theorem q1591 : (Jvm.Cond.privateMethod ({ cls := "YearSkins$Orders", name := "high", desc := "(I)I" } : Jvm.MethodName)) ∈ lw_tbl := lw_at lw_m7 26 rfl
theorem q1592 : (Jvm.Cond.instanceMethod ({ cls := "YearSkins$Orders", name := "high", desc := "(I)I" } : Jvm.MethodName)) ∈ lw_all := lw_g (lw_at lw_m7 27 rfl) rfl
theorem q1593 : (Jvm.Cond.code ({ cls := "YearSkins$Orders", name := "high", desc := "(I)I" } : Jvm.MethodName) prog_7_method_6_code (3 : Nat) (Option.some Jvm.ClassFile.FieldType.int)) ∈ lw_all := lw_g (lw_at lw_m7 28 rfl) rfl
theorem q1594 : (Jvm.Cond.methodLink "YearSkins$Orders" (81 : Nat) ({ cls := "java/lang/Math", name := "min", desc := "(II)I" } : Jvm.MethodName)) ∈ lw_all := lw_g (lw_at lw_m7 29 rfl) rfl
theorem q1595 : (Jvm.Cond.methodLink "YearSkins$Orders" (91 : Nat) ({ cls := "java/lang/System", name := "arraycopy", desc := "(Ljava/lang/Object;ILjava/lang/Object;II)V" } : Jvm.MethodName)) ∈ lw_all := lw_g (lw_at lw_m7 30 rfl) rfl
theorem q1596 : (Jvm.Cond.methodLinkNest "YearSkins$Orders" (50 : Nat) ({ cls := "YearSkins", name := "has", desc := "(II)Z" } : Jvm.MethodName) "YearSkins") ∈ lw_tbl := lw_at lw_m7 31 rfl
theorem q1599 : (Jvm.Cond.methodLink "YearSkins$Orders" (60 : Nat) ({ cls := "YearSkins$Orders", name := "mayBe", desc := "(II)Z" } : Jvm.MethodName)) ∈ lw_all := lw_g (lw_at lw_m7 34 rfl) rfl
theorem q1600 : (Jvm.Cond.privateMethod ({ cls := "YearSkins$Orders", name := "mayBe", desc := "(II)Z" } : Jvm.MethodName)) ∈ lw_tbl := lw_at lw_m7 35 rfl
theorem q1601 : (Jvm.Cond.instanceMethod ({ cls := "YearSkins$Orders", name := "mayBe", desc := "(II)Z" } : Jvm.MethodName)) ∈ lw_all := lw_g (lw_at lw_m7 36 rfl) rfl
theorem q1602 : (Jvm.Cond.code ({ cls := "YearSkins$Orders", name := "mayBe", desc := "(II)Z" } : Jvm.MethodName) prog_7_method_3_code (5 : Nat) (Option.some Jvm.ClassFile.FieldType.boolean)) ∈ lw_all := lw_g (lw_at lw_m7 37 rfl) rfl
theorem q1612 : (Jvm.Cond.instanceMethod ({ cls := "YearSkins$Orders", name := "at", desc := "(II)I" } : Jvm.MethodName)) ∈ lw_all := lw_g (lw_at lw_m7 47 rfl) rfl
theorem q1613 : (Jvm.Cond.selects "YearSkins$Orders" ({ cls := "YearSkins$Orders", name := "at", desc := "(II)I" } : Jvm.MethodName) ({ cls := "YearSkins$Orders", name := "at", desc := "(II)I" } : Jvm.MethodName)) ∈ lw_all := lw_g (lw_at lw_m7 48 rfl) rfl
theorem q1614 : (Jvm.Cond.code ({ cls := "YearSkins$Orders", name := "at", desc := "(II)I" } : Jvm.MethodName) prog_7_method_8_code (3 : Nat) (Option.some Jvm.ClassFile.FieldType.int)) ∈ lw_all := lw_g (lw_at lw_m7 49 rfl) rfl
theorem q1620 : (Jvm.Cond.instanceMethod ({ cls := "YearSkins$Orders", name := "soonest", desc := "(I)I" } : Jvm.MethodName)) ∈ lw_all := lw_g (lw_at lw_m7 55 rfl) rfl
theorem q1621 : (Jvm.Cond.selects "YearSkins$Orders" ({ cls := "YearSkins$Orders", name := "soonest", desc := "(I)I" } : Jvm.MethodName) ({ cls := "YearSkins$Orders", name := "soonest", desc := "(I)I" } : Jvm.MethodName)) ∈ lw_all := lw_g (lw_at lw_m7 56 rfl) rfl
theorem q1622 : (Jvm.Cond.code ({ cls := "YearSkins$Orders", name := "soonest", desc := "(I)I" } : Jvm.MethodName) prog_7_method_9_code (2 : Nat) (Option.some Jvm.ClassFile.FieldType.int)) ∈ lw_all := lw_g (lw_at lw_m7 57 rfl) rfl
theorem q1628 : (Jvm.Cond.instanceMethod ({ cls := "YearSkins$Orders", name := "latest", desc := "(I)I" } : Jvm.MethodName)) ∈ lw_all := lw_g (lw_at lw_m7 63 rfl) rfl
theorem q1629 : (Jvm.Cond.selects "YearSkins$Orders" ({ cls := "YearSkins$Orders", name := "latest", desc := "(I)I" } : Jvm.MethodName) ({ cls := "YearSkins$Orders", name := "latest", desc := "(I)I" } : Jvm.MethodName)) ∈ lw_all := lw_g (lw_at lw_m7 64 rfl) rfl
theorem q1630 : (Jvm.Cond.code ({ cls := "YearSkins$Orders", name := "latest", desc := "(I)I" } : Jvm.MethodName) prog_7_method_10_code (2 : Nat) (Option.some Jvm.ClassFile.FieldType.int)) ∈ lw_all := lw_g (lw_at lw_m7 65 rfl) rfl
theorem q1636 : (Jvm.Cond.instanceMethod ({ cls := "YearSkins$Orders", name := "isSure", desc := "(II)Z" } : Jvm.MethodName)) ∈ lw_all := lw_g (lw_at lw_m7 71 rfl) rfl
theorem q1637 : (Jvm.Cond.selects "YearSkins$Orders" ({ cls := "YearSkins$Orders", name := "isSure", desc := "(II)Z" } : Jvm.MethodName) ({ cls := "YearSkins$Orders", name := "isSure", desc := "(II)Z" } : Jvm.MethodName)) ∈ lw_all := lw_g (lw_at lw_m7 72 rfl) rfl
theorem q1638 : (Jvm.Cond.code ({ cls := "YearSkins$Orders", name := "isSure", desc := "(II)Z" } : Jvm.MethodName) prog_7_method_12_code (5 : Nat) (Option.some Jvm.ClassFile.FieldType.boolean)) ∈ lw_all := lw_g (lw_at lw_m7 73 rfl) rfl
theorem q1639 : (Jvm.Cond.methodLink "YearSkins$Orders" (100 : Nat) ({ cls := "YearSkins$Orders", name := "isAhead", desc := "(III)Z" } : Jvm.MethodName)) ∈ lw_all := lw_g (lw_at lw_m7 74 rfl) rfl
theorem q1640 : (Jvm.Cond.instanceMethod ({ cls := "YearSkins$Orders", name := "isAhead", desc := "(III)Z" } : Jvm.MethodName)) ∈ lw_all := lw_g (lw_at lw_m7 75 rfl) rfl
theorem q1641 : (Jvm.Cond.selects "YearSkins$Orders" ({ cls := "YearSkins$Orders", name := "isAhead", desc := "(III)Z" } : Jvm.MethodName) ({ cls := "YearSkins$Orders", name := "isAhead", desc := "(III)Z" } : Jvm.MethodName)) ∈ lw_all := lw_g (lw_at lw_m7 76 rfl) rfl
theorem q1642 : (Jvm.Cond.code ({ cls := "YearSkins$Orders", name := "isAhead", desc := "(III)Z" } : Jvm.MethodName) prog_7_method_11_code (5 : Nat) (Option.some Jvm.ClassFile.FieldType.boolean)) ∈ lw_all := lw_g (lw_at lw_m7 77 rfl) rfl
theorem q1643 : (Jvm.Cond.methodLink "YearSkins$Orders" (97 : Nat) ({ cls := "YearSkins$Orders", name := "at", desc := "(II)I" } : Jvm.MethodName)) ∈ lw_all := lw_g (lw_at lw_m7 78 rfl) rfl
theorem q2646 : (Jvm.Cond.castable "YearSkins$Orders" "java/lang/Object") ∈ lw_tbl := lw_at lw_m11 121 rfl
theorem in_X8 : ∀ w ∈ wsX80, w ∈ lw_all := lw_in wsX80 [444, 446, 448, 450, 452, 454, 456] (by decide +kernel) (by decide +kernel)
