set_option maxRecDepth 100000
/-! LastAskedLaw -/
set_option maxRecDepth 100000
def RX0 : String := "LastAskedLaw"
abbrev cX0_led : ByteArray := method_3_code
def yX0_led : MethodName := ⟨RX0, "led", "(LLastAsked;I[J)I"⟩
def dkwX0_led_0 : List UInt8 := [44, 3, 42, 27, 182, 0, 7, 133, 80, 167, 0, 6, 78, 4, 172, 3, 172]
abbrev dktX0_led_0 : List UInt8 := dkwX0_led_0 ++ []
theorem dksX0_led_0 : cX0_led.data.toList.drop 0 = dktX0_led_0 := by decide +kernel
theorem dX0_led_0 : decode cX0_led 0 = .ok (.aload_n 2, 1) := dk_44 (dk_at dksX0_led_0 0 rfl rfl)
theorem dX0_led_1 : decode cX0_led 1 = .ok (.iconst 0, 1) := dk_3 (dk_at dksX0_led_0 1 rfl rfl)
theorem dX0_led_2 : decode cX0_led 2 = .ok (.aload_n 0, 1) := dk_42 (dk_at dksX0_led_0 2 rfl rfl)
theorem dX0_led_3 : decode cX0_led 3 = .ok (.iload_n 1, 1) := dk_27 (dk_at dksX0_led_0 3 rfl rfl)
theorem dX0_led_4 : decode cX0_led 4 = .ok (.invokevirtual 7, 3) := dk_182 0 7 (dk_at dksX0_led_0 4 rfl rfl)
theorem dX0_led_7 : decode cX0_led 7 = .ok (.i2l, 1) := dk_133 (dk_at dksX0_led_0 7 rfl rfl)
theorem dX0_led_8 : decode cX0_led 8 = .ok (.lastore, 1) := dk_80 (dk_at dksX0_led_0 8 rfl rfl)
theorem dX0_led_9 : decode cX0_led 9 = .ok (.goto 6, 3) := dk_167 0 6 (dk_at dksX0_led_0 9 rfl rfl)
theorem dX0_led_12 : decode cX0_led 12 = .ok (.astore_n 3, 1) := dk_78 (dk_at dksX0_led_0 12 rfl rfl)
theorem dX0_led_13 : decode cX0_led 13 = .ok (.iconst 1, 1) := dk_4 (dk_at dksX0_led_0 13 rfl rfl)
theorem dX0_led_14 : decode cX0_led 14 = .ok (.ireturn, 1) := dk_172 (dk_at dksX0_led_0 14 rfl rfl)
theorem dX0_led_15 : decode cX0_led 15 = .ok (.iconst 0, 1) := dk_3 (dk_at dksX0_led_0 15 rfl rfl)
theorem dX0_led_16 : decode cX0_led 16 = .ok (.ireturn, 1) := dk_172 (dk_at dksX0_led_0 16 rfl rfl)
theorem q112 : (Jvm.Cond.initialized "LastAskedLaw") ∈ lw_all := lw_g (lw_at lw_m1 0 rfl) rfl
theorem q138 : (Jvm.Cond.classLink "LastAskedLaw" (8 : Nat) "LastAsked") ∈ lw_all := lw_g (lw_at lw_m1 26 rfl) rfl
theorem q140 : (Jvm.Cond.methodLink "LastAskedLaw" (15 : Nat) ({ cls := "LastAsked", name := "<init>", desc := "()V" } : Jvm.MethodName)) ∈ lw_all := lw_g (lw_at lw_m1 28 rfl) rfl
theorem q419 : (Jvm.Cond.methodLink "LastAskedLaw" (19 : Nat) ({ cls := "LastAsked", name := "feed", desc := "(IIIII)I" } : Jvm.MethodName)) ∈ lw_all := lw_g (lw_at lw_m2 67 rfl) rfl
theorem q427 : (Jvm.Cond.methodLink "LastAskedLaw" (24 : Nat) ({ cls := "LastAsked", name := "city", desc := "(I)I" } : Jvm.MethodName)) ∈ lw_all := lw_g (lw_at lw_m2 75 rfl) rfl
theorem q901 : (Jvm.Cond.methodLink "LastAskedLaw" (28 : Nat) ({ cls := "LastAsked", name := "fault", desc := "()I" } : Jvm.MethodName)) ∈ lw_all := lw_g (lw_at lw_m4 69 rfl) rfl
theorem q905 : (Jvm.Cond.methodLink "LastAskedLaw" (33 : Nat) ({ cls := "LastAsked", name := "where", desc := "()I" } : Jvm.MethodName)) ∈ lw_all := lw_g (lw_at lw_m4 73 rfl) rfl
theorem q909 : (Jvm.Cond.methodLink "LastAskedLaw" (37 : Nat) ({ cls := "LastAsked", name := "person", desc := "(II)I" } : Jvm.MethodName)) ∈ lw_all := lw_g (lw_at lw_m4 77 rfl) rfl
theorem q954 : (Jvm.Cond.methodLink "LastAskedLaw" (42 : Nat) ({ cls := "LastAsked", name := "register", desc := "(II)I" } : Jvm.MethodName)) ∈ lw_all := lw_g (lw_at lw_m4 122 rfl) rfl
theorem q966 : (Jvm.Cond.methodLink "LastAskedLaw" (46 : Nat) ({ cls := "LastAsked", name := "heir", desc := "(I)I" } : Jvm.MethodName)) ∈ lw_all := lw_g (lw_at lw_m4 134 rfl) rfl
theorem q979 : (Jvm.Cond.methodLink "LastAskedLaw" (50 : Nat) ({ cls := "LastAsked", name := "heirTo", desc := "(I)I" } : Jvm.MethodName)) ∈ lw_all := lw_g (lw_at lw_m4 147 rfl) rfl
theorem q987 : (Jvm.Cond.methodLink "LastAskedLaw" (54 : Nat) ({ cls := "LastAsked", name := "hopes", desc := "(I)I" } : Jvm.MethodName)) ∈ lw_all := lw_g (lw_at lw_m4 155 rfl) rfl
theorem q1004 : (Jvm.Cond.methodLink "LastAskedLaw" (58 : Nat) ({ cls := "LastAsked", name := "cat", desc := "()I" } : Jvm.MethodName)) ∈ lw_all := lw_g (lw_at lw_m4 172 rfl) rfl
theorem q1008 : (Jvm.Cond.methodLink "LastAskedLaw" (62 : Nat) ({ cls := "LastAsked", name := "richest", desc := "()I" } : Jvm.MethodName)) ∈ lw_all := lw_g (lw_at lw_m4 176 rfl) rfl
theorem q1012 : (Jvm.Cond.methodLink "LastAskedLaw" (66 : Nat) ({ cls := "LastAsked", name := "goesTo", desc := "(II)I" } : Jvm.MethodName)) ∈ lw_all := lw_g (lw_at lw_m4 180 rfl) rfl
theorem q1027 : (Jvm.Cond.methodLink "LastAskedLaw" (70 : Nat) ({ cls := "LastAsked", name := "hasThen", desc := "(II)I" } : Jvm.MethodName)) ∈ lw_all := lw_g (lw_at lw_m4 195 rfl) rfl
theorem q1031 : (Jvm.Cond.methodLink "LastAskedLaw" (74 : Nat) ({ cls := "LastAsked", name := "catThen", desc := "(I)I" } : Jvm.MethodName)) ∈ lw_all := lw_g (lw_at lw_m4 199 rfl) rfl
theorem q1035 : (Jvm.Cond.methodLink "LastAskedLaw" (78 : Nat) ({ cls := "LastAsked", name := "rounds", desc := "()I" } : Jvm.MethodName)) ∈ lw_all := lw_g (lw_at lw_m4 203 rfl) rfl
theorem q1043 : (Jvm.Cond.methodLink "LastAskedLaw" (82 : Nat) ({ cls := "LastAsked", name := "worthiest", desc := "()I" } : Jvm.MethodName)) ∈ lw_all := lw_g (lw_at lw_m4 211 rfl) rfl
theorem q1047 : (Jvm.Cond.methodLink "LastAskedLaw" (86 : Nat) ({ cls := "LastAsked", name := "plot", desc := "(II)I" } : Jvm.MethodName)) ∈ lw_all := lw_g (lw_at lw_m4 215 rfl) rfl
theorem q1054 : (Jvm.Cond.methodLink "LastAskedLaw" (90 : Nat) ({ cls := "LastAsked", name := "mean", desc := "(IZ)J" } : Jvm.MethodName)) ∈ lw_all := lw_g (lw_at lw_m4 222 rfl) rfl
theorem q1079 : (Jvm.Cond.methodLink "LastAskedLaw" (95 : Nat) ({ cls := "LastAsked", name := "odds", desc := "(IIZ)J" } : Jvm.MethodName)) ∈ lw_all := lw_g (lw_at lw_m5 7 rfl) rfl
theorem q1087 : (Jvm.Cond.methodLink "LastAskedLaw" (100 : Nat) ({ cls := "LastAsked", name := "passes", desc := "(IIZ)J" } : Jvm.MethodName)) ∈ lw_all := lw_g (lw_at lw_m5 15 rfl) rfl
theorem q1096 : (Jvm.Cond.methodLink "LastAskedLaw" (104 : Nat) ({ cls := "LastAsked", name := "catMean", desc := "(Z)J" } : Jvm.MethodName)) ∈ lw_all := lw_g (lw_at lw_m5 24 rfl) rfl
theorem q1100 : (Jvm.Cond.methodLink "LastAskedLaw" (109 : Nat) ({ cls := "LastAsked", name := "best", desc := "(II)I" } : Jvm.MethodName)) ∈ lw_all := lw_g (lw_at lw_m5 28 rfl) rfl
theorem q1130 : (Jvm.Cond.methodLink "LastAskedLaw" (113 : Nat) ({ cls := "LastAsked", name := "bestMean", desc := "(IIZ)J" } : Jvm.MethodName)) ∈ lw_all := lw_g (lw_at lw_m5 58 rfl) rfl
theorem q1134 : (Jvm.Cond.methodLink "LastAskedLaw" (117 : Nat) ({ cls := "LastAsked", name := "tour", desc := "(II)I" } : Jvm.MethodName)) ∈ lw_all := lw_g (lw_at lw_m5 62 rfl) rfl
theorem q1157 : (Jvm.Cond.methodLink "LastAskedLaw" (121 : Nat) ({ cls := "LastAsked", name := "tourHours", desc := "(II)I" } : Jvm.MethodName)) ∈ lw_all := lw_g (lw_at lw_m5 85 rfl) rfl
theorem q1161 : (Jvm.Cond.methodLink "LastAskedLaw" (125 : Nat) ({ cls := "LastAsked", name := "apart", desc := "(II)I" } : Jvm.MethodName)) ∈ lw_all := lw_g (lw_at lw_m5 89 rfl) rfl
theorem q1167 : (Jvm.Cond.methodLink "LastAskedLaw" (129 : Nat) ({ cls := "LastAsked", name := "toAsk", desc := "(I)I" } : Jvm.MethodName)) ∈ lw_all := lw_g (lw_at lw_m5 95 rfl) rfl
theorem q1171 : (Jvm.Cond.methodLink "LastAskedLaw" (133 : Nat) ({ cls := "LastAsked", name := "rivals", desc := "(II)I" } : Jvm.MethodName)) ∈ lw_all := lw_g (lw_at lw_m5 99 rfl) rfl
theorem q1179 : (Jvm.Cond.methodLink "LastAskedLaw" (137 : Nat) ({ cls := "LastAsked", name := "fits", desc := "()I" } : Jvm.MethodName)) ∈ lw_all := lw_g (lw_at lw_m5 107 rfl) rfl
theorem q1211 : (Jvm.Cond.methodLink "LastAskedLaw" (141 : Nat) ({ cls := "LastAsked", name := "fitAt", desc := "(II)I" } : Jvm.MethodName)) ∈ lw_all := lw_g (lw_at lw_m5 139 rfl) rfl
theorem q1215 : (Jvm.Cond.methodLink "LastAskedLaw" (145 : Nat) ({ cls := "LastAsked", name := "heirBy", desc := "(II)I" } : Jvm.MethodName)) ∈ lw_all := lw_g (lw_at lw_m5 143 rfl) rfl
theorem q1219 : (Jvm.Cond.methodLink "LastAskedLaw" (149 : Nat) ({ cls := "LastAsked", name := "look", desc := "()I" } : Jvm.MethodName)) ∈ lw_all := lw_g (lw_at lw_m5 147 rfl) rfl
theorem q1232 : (Jvm.Cond.methodLink "LastAskedLaw" (153 : Nat) ({ cls := "LastAsked", name := "lookLeaves", desc := "()I" } : Jvm.MethodName)) ∈ lw_all := lw_g (lw_at lw_m5 160 rfl) rfl
theorem q1236 : (Jvm.Cond.methodLink "LastAskedLaw" (157 : Nat) ({ cls := "LastAsked", name := "judge", desc := "()I" } : Jvm.MethodName)) ∈ lw_all := lw_g (lw_at lw_m5 164 rfl) rfl
theorem q1240 : (Jvm.Cond.methodLink "LastAskedLaw" (161 : Nat) ({ cls := "LastAsked", name := "begs", desc := "(IZZZ)I" } : Jvm.MethodName)) ∈ lw_all := lw_g (lw_at lw_m5 168 rfl) rfl
theorem q1250 : (Jvm.Cond.methodLink "LastAskedLaw" (166 : Nat) ({ cls := "LastAsked", name := "rests", desc := "(I)I" } : Jvm.MethodName)) ∈ lw_all := lw_g (lw_at lw_m5 178 rfl) rfl
theorem q1261 : (Jvm.Cond.methodLink "LastAskedLaw" (170 : Nat) ({ cls := "LastAsked", name := "rest", desc := "(I)I" } : Jvm.MethodName)) ∈ lw_all := lw_g (lw_at lw_m5 189 rfl) rfl
theorem q1265 : (Jvm.Cond.methodLink "LastAskedLaw" (174 : Nat) ({ cls := "LastAsked", name := "nights", desc := "(III)I" } : Jvm.MethodName)) ∈ lw_all := lw_g (lw_at lw_m5 193 rfl) rfl
theorem q1280 : (Jvm.Cond.methodLink "LastAskedLaw" (179 : Nat) ({ cls := "LastAsked", name := "lives", desc := "(II)I" } : Jvm.MethodName)) ∈ lw_all := lw_g (lw_at lw_m5 208 rfl) rfl
theorem q1284 : (Jvm.Cond.methodLink "LastAskedLaw" (183 : Nat) ({ cls := "LastAsked", name := "firstCat", desc := "(II)I" } : Jvm.MethodName)) ∈ lw_all := lw_g (lw_at lw_m5 212 rfl) rfl
theorem q1288 : (Jvm.Cond.methodLink "LastAskedLaw" (187 : Nat) ({ cls := "LastAsked", name := "ask", desc := "(II)I" } : Jvm.MethodName)) ∈ lw_all := lw_g (lw_at lw_m5 216 rfl) rfl
theorem q1301 : (Jvm.Cond.methodLink "LastAskedLaw" (191 : Nat) ({ cls := "LastAsked", name := "die", desc := "(I)I" } : Jvm.MethodName)) ∈ lw_all := lw_g (lw_at lw_m5 229 rfl) rfl
theorem q1305 : (Jvm.Cond.methodLink "LastAskedLaw" (195 : Nat) ({ cls := "LastAsked", name := "night", desc := "()I" } : Jvm.MethodName)) ∈ lw_all := lw_g (lw_at lw_m5 233 rfl) rfl
theorem q1309 : (Jvm.Cond.methodLink "LastAskedLaw" (199 : Nat) ({ cls := "LastAsked", name := "seed", desc := "(I)Z" } : Jvm.MethodName)) ∈ lw_all := lw_g (lw_at lw_m5 237 rfl) rfl
theorem q1317 : (Jvm.Cond.methodLink "LastAskedLaw" (204 : Nat) ({ cls := "LastAsked", name := "undo", desc := "()Z" } : Jvm.MethodName)) ∈ lw_all := lw_g (lw_at lw_m6 5 rfl) rfl
theorem q1321 : (Jvm.Cond.methodLink "LastAskedLaw" (209 : Nat) ({ cls := "LastAsked", name := "image", desc := "()I" } : Jvm.MethodName)) ∈ lw_all := lw_g (lw_at lw_m6 9 rfl) rfl
theorem q1325 : (Jvm.Cond.methodLink "LastAskedLaw" (213 : Nat) ({ cls := "LastAsked", name := "back", desc := "(I)Z" } : Jvm.MethodName)) ∈ lw_all := lw_g (lw_at lw_m6 13 rfl) rfl
theorem q1329 : (Jvm.Cond.methodLink "LastAskedLaw" (226 : Nat) ({ cls := "LastAsked", name := "size", desc := "(I)I" } : Jvm.MethodName)) ∈ lw_all := lw_g (lw_at lw_m6 17 rfl) rfl
theorem q1333 : (Jvm.Cond.methodLink "LastAskedLaw" (230 : Nat) ({ cls := "LastAsked", name := "trouble", desc := "()I" } : Jvm.MethodName)) ∈ lw_all := lw_g (lw_at lw_m6 21 rfl) rfl
theorem q1337 : (Jvm.Cond.methodLink "LastAskedLaw" (217 : Nat) ({ cls := "LastAskedLaw", name := "led", desc := "(LLastAsked;I[J)I" } : Jvm.MethodName)) ∈ lw_all := lw_g (lw_at lw_m6 25 rfl) rfl
theorem q1338 : (Jvm.Cond.static ({ cls := "LastAskedLaw", name := "led", desc := "(LLastAsked;I[J)I" } : Jvm.MethodName)) ∈ lw_all := lw_g (lw_at lw_m6 26 rfl) rfl
theorem q1339 : (Jvm.Cond.codeWith ({ cls := "LastAskedLaw", name := "led", desc := "(LLastAsked;I[J)I" } : Jvm.MethodName) method_3_code (4 : Nat) (Option.some Jvm.ClassFile.FieldType.int) [((0 : Nat), (9 : Nat), (12 : Nat), (13 : Nat))]) ∈ lw_all := lw_g (lw_at lw_m6 27 rfl) rfl
theorem q1340 : (Jvm.Cond.classLink "LastAskedLaw" (13 : Nat) "java/util/NoSuchElementException") ∈ lw_all := lw_g (lw_at lw_m6 28 rfl) rfl
theorem q1341 : (Jvm.Cond.methodLink "LastAskedLaw" (7 : Nat) ({ cls := "LastAsked", name := "led", desc := "(I)I" } : Jvm.MethodName)) ∈ lw_all := lw_g (lw_at lw_m6 29 rfl) rfl
theorem q1366 : (Jvm.Cond.classLink "LastAskedLaw" (16 : Nat) "LastAskedModel") ∈ lw_all := lw_g (lw_at lw_m6 54 rfl) rfl
theorem q1368 : (Jvm.Cond.methodLink "LastAskedLaw" (18 : Nat) ({ cls := "LastAskedModel", name := "<init>", desc := "()V" } : Jvm.MethodName)) ∈ lw_all := lw_g (lw_at lw_m6 56 rfl) rfl
theorem q1484 : (Jvm.Cond.methodLink "LastAskedLaw" (223 : Nat) ({ cls := "LastAskedModel", name := "thrown", desc := "()I" } : Jvm.MethodName)) ∈ lw_all := lw_g (lw_at lw_m6 172 rfl) rfl
theorem q1488 : (Jvm.Cond.methodLink "LastAskedLaw" (23 : Nat) ({ cls := "LastAskedModel", name := "feed", desc := "(IIIII)I" } : Jvm.MethodName)) ∈ lw_all := lw_g (lw_at lw_m6 176 rfl) rfl
theorem q1492 : (Jvm.Cond.methodLink "LastAskedLaw" (27 : Nat) ({ cls := "LastAskedModel", name := "city", desc := "(I)I" } : Jvm.MethodName)) ∈ lw_all := lw_g (lw_at lw_m6 180 rfl) rfl
theorem q1721 : (Jvm.Cond.methodLink "LastAskedLaw" (32 : Nat) ({ cls := "LastAskedModel", name := "fault", desc := "()I" } : Jvm.MethodName)) ∈ lw_all := lw_g (lw_at lw_m7 169 rfl) rfl
theorem q1725 : (Jvm.Cond.methodLink "LastAskedLaw" (36 : Nat) ({ cls := "LastAskedModel", name := "where", desc := "()I" } : Jvm.MethodName)) ∈ lw_all := lw_g (lw_at lw_m7 173 rfl) rfl
theorem q1729 : (Jvm.Cond.methodLink "LastAskedLaw" (41 : Nat) ({ cls := "LastAskedModel", name := "person", desc := "(II)I" } : Jvm.MethodName)) ∈ lw_all := lw_g (lw_at lw_m7 177 rfl) rfl
theorem q1749 : (Jvm.Cond.methodLink "LastAskedLaw" (45 : Nat) ({ cls := "LastAskedModel", name := "register", desc := "(II)I" } : Jvm.MethodName)) ∈ lw_all := lw_g (lw_at lw_m7 197 rfl) rfl
theorem q1757 : (Jvm.Cond.methodLink "LastAskedLaw" (49 : Nat) ({ cls := "LastAskedModel", name := "heir", desc := "(I)I" } : Jvm.MethodName)) ∈ lw_all := lw_g (lw_at lw_m7 205 rfl) rfl
theorem q1781 : (Jvm.Cond.methodLink "LastAskedLaw" (53 : Nat) ({ cls := "LastAskedModel", name := "heirTo", desc := "(I)I" } : Jvm.MethodName)) ∈ lw_all := lw_g (lw_at lw_m7 229 rfl) rfl
theorem q1797 : (Jvm.Cond.methodLink "LastAskedLaw" (57 : Nat) ({ cls := "LastAskedModel", name := "hopes", desc := "(I)I" } : Jvm.MethodName)) ∈ lw_all := lw_g (lw_at lw_m8 5 rfl) rfl
theorem q1809 : (Jvm.Cond.methodLink "LastAskedLaw" (61 : Nat) ({ cls := "LastAskedModel", name := "cat", desc := "()I" } : Jvm.MethodName)) ∈ lw_all := lw_g (lw_at lw_m8 17 rfl) rfl
theorem q1813 : (Jvm.Cond.methodLink "LastAskedLaw" (65 : Nat) ({ cls := "LastAskedModel", name := "richest", desc := "()I" } : Jvm.MethodName)) ∈ lw_all := lw_g (lw_at lw_m8 21 rfl) rfl
theorem q1817 : (Jvm.Cond.methodLink "LastAskedLaw" (69 : Nat) ({ cls := "LastAskedModel", name := "goesTo", desc := "(II)I" } : Jvm.MethodName)) ∈ lw_all := lw_g (lw_at lw_m8 25 rfl) rfl
theorem q1825 : (Jvm.Cond.methodLink "LastAskedLaw" (73 : Nat) ({ cls := "LastAskedModel", name := "hasThen", desc := "(II)I" } : Jvm.MethodName)) ∈ lw_all := lw_g (lw_at lw_m8 33 rfl) rfl
theorem q1829 : (Jvm.Cond.methodLink "LastAskedLaw" (77 : Nat) ({ cls := "LastAskedModel", name := "catThen", desc := "(I)I" } : Jvm.MethodName)) ∈ lw_all := lw_g (lw_at lw_m8 37 rfl) rfl
theorem q1833 : (Jvm.Cond.methodLink "LastAskedLaw" (81 : Nat) ({ cls := "LastAskedModel", name := "rounds", desc := "()I" } : Jvm.MethodName)) ∈ lw_all := lw_g (lw_at lw_m8 41 rfl) rfl
theorem q1837 : (Jvm.Cond.methodLink "LastAskedLaw" (85 : Nat) ({ cls := "LastAskedModel", name := "worthiest", desc := "()I" } : Jvm.MethodName)) ∈ lw_all := lw_g (lw_at lw_m8 45 rfl) rfl
theorem q1841 : (Jvm.Cond.methodLink "LastAskedLaw" (89 : Nat) ({ cls := "LastAskedModel", name := "plot", desc := "(II)I" } : Jvm.MethodName)) ∈ lw_all := lw_g (lw_at lw_m8 49 rfl) rfl
theorem q1848 : (Jvm.Cond.methodLink "LastAskedLaw" (94 : Nat) ({ cls := "LastAskedModel", name := "mean", desc := "(IZ)J" } : Jvm.MethodName)) ∈ lw_all := lw_g (lw_at lw_m8 56 rfl) rfl
theorem q1872 : (Jvm.Cond.methodLink "LastAskedLaw" (99 : Nat) ({ cls := "LastAskedModel", name := "odds", desc := "(IIZ)J" } : Jvm.MethodName)) ∈ lw_all := lw_g (lw_at lw_m8 80 rfl) rfl
theorem q1876 : (Jvm.Cond.methodLink "LastAskedLaw" (103 : Nat) ({ cls := "LastAskedModel", name := "passes", desc := "(IIZ)J" } : Jvm.MethodName)) ∈ lw_all := lw_g (lw_at lw_m8 84 rfl) rfl
theorem q1880 : (Jvm.Cond.methodLink "LastAskedLaw" (108 : Nat) ({ cls := "LastAskedModel", name := "catMean", desc := "(Z)J" } : Jvm.MethodName)) ∈ lw_all := lw_g (lw_at lw_m8 88 rfl) rfl
theorem q1884 : (Jvm.Cond.methodLink "LastAskedLaw" (112 : Nat) ({ cls := "LastAskedModel", name := "best", desc := "(II)I" } : Jvm.MethodName)) ∈ lw_all := lw_g (lw_at lw_m8 92 rfl) rfl
theorem q1901 : (Jvm.Cond.methodLink "LastAskedLaw" (116 : Nat) ({ cls := "LastAskedModel", name := "bestMean", desc := "(IIZ)J" } : Jvm.MethodName)) ∈ lw_all := lw_g (lw_at lw_m8 109 rfl) rfl
theorem q1905 : (Jvm.Cond.methodLink "LastAskedLaw" (120 : Nat) ({ cls := "LastAskedModel", name := "tour", desc := "(II)I" } : Jvm.MethodName)) ∈ lw_all := lw_g (lw_at lw_m8 113 rfl) rfl
theorem q1921 : (Jvm.Cond.methodLink "LastAskedLaw" (124 : Nat) ({ cls := "LastAskedModel", name := "tourHours", desc := "(II)I" } : Jvm.MethodName)) ∈ lw_all := lw_g (lw_at lw_m8 129 rfl) rfl
theorem q1925 : (Jvm.Cond.methodLink "LastAskedLaw" (128 : Nat) ({ cls := "LastAskedModel", name := "apart", desc := "(II)I" } : Jvm.MethodName)) ∈ lw_all := lw_g (lw_at lw_m8 133 rfl) rfl
theorem q1929 : (Jvm.Cond.methodLink "LastAskedLaw" (132 : Nat) ({ cls := "LastAskedModel", name := "toAsk", desc := "(I)I" } : Jvm.MethodName)) ∈ lw_all := lw_g (lw_at lw_m8 137 rfl) rfl
theorem q1933 : (Jvm.Cond.methodLink "LastAskedLaw" (136 : Nat) ({ cls := "LastAskedModel", name := "rivals", desc := "(II)I" } : Jvm.MethodName)) ∈ lw_all := lw_g (lw_at lw_m8 141 rfl) rfl
theorem q1937 : (Jvm.Cond.methodLink "LastAskedLaw" (140 : Nat) ({ cls := "LastAskedModel", name := "fits", desc := "()I" } : Jvm.MethodName)) ∈ lw_all := lw_g (lw_at lw_m8 145 rfl) rfl
theorem q1957 : (Jvm.Cond.methodLink "LastAskedLaw" (144 : Nat) ({ cls := "LastAskedModel", name := "fitAt", desc := "(II)I" } : Jvm.MethodName)) ∈ lw_all := lw_g (lw_at lw_m8 165 rfl) rfl
theorem q1961 : (Jvm.Cond.methodLink "LastAskedLaw" (148 : Nat) ({ cls := "LastAskedModel", name := "heirBy", desc := "(II)I" } : Jvm.MethodName)) ∈ lw_all := lw_g (lw_at lw_m8 169 rfl) rfl
theorem q1965 : (Jvm.Cond.methodLink "LastAskedLaw" (152 : Nat) ({ cls := "LastAskedModel", name := "look", desc := "()I" } : Jvm.MethodName)) ∈ lw_all := lw_g (lw_at lw_m8 173 rfl) rfl
theorem q1973 : (Jvm.Cond.methodLink "LastAskedLaw" (156 : Nat) ({ cls := "LastAskedModel", name := "lookLeaves", desc := "()I" } : Jvm.MethodName)) ∈ lw_all := lw_g (lw_at lw_m8 181 rfl) rfl
theorem q1977 : (Jvm.Cond.methodLink "LastAskedLaw" (160 : Nat) ({ cls := "LastAskedModel", name := "judge", desc := "()I" } : Jvm.MethodName)) ∈ lw_all := lw_g (lw_at lw_m8 185 rfl) rfl
theorem q1981 : (Jvm.Cond.methodLink "LastAskedLaw" (165 : Nat) ({ cls := "LastAskedModel", name := "begs", desc := "(IZZZ)I" } : Jvm.MethodName)) ∈ lw_all := lw_g (lw_at lw_m8 189 rfl) rfl
theorem q1999 : (Jvm.Cond.methodLink "LastAskedLaw" (169 : Nat) ({ cls := "LastAskedModel", name := "rests", desc := "(I)I" } : Jvm.MethodName)) ∈ lw_all := lw_g (lw_at lw_m8 207 rfl) rfl
theorem q2006 : (Jvm.Cond.methodLink "LastAskedLaw" (173 : Nat) ({ cls := "LastAskedModel", name := "rest", desc := "(I)I" } : Jvm.MethodName)) ∈ lw_all := lw_g (lw_at lw_m8 214 rfl) rfl
theorem q2010 : (Jvm.Cond.methodLink "LastAskedLaw" (178 : Nat) ({ cls := "LastAskedModel", name := "nights", desc := "(III)I" } : Jvm.MethodName)) ∈ lw_all := lw_g (lw_at lw_m8 218 rfl) rfl
theorem q2034 : (Jvm.Cond.methodLink "LastAskedLaw" (182 : Nat) ({ cls := "LastAskedModel", name := "lives", desc := "(II)I" } : Jvm.MethodName)) ∈ lw_all := lw_g (lw_at lw_m9 2 rfl) rfl
theorem q2038 : (Jvm.Cond.methodLink "LastAskedLaw" (186 : Nat) ({ cls := "LastAskedModel", name := "firstCat", desc := "(II)I" } : Jvm.MethodName)) ∈ lw_all := lw_g (lw_at lw_m9 6 rfl) rfl
theorem q2042 : (Jvm.Cond.methodLink "LastAskedLaw" (190 : Nat) ({ cls := "LastAskedModel", name := "ask", desc := "(II)I" } : Jvm.MethodName)) ∈ lw_all := lw_g (lw_at lw_m9 10 rfl) rfl
theorem q2054 : (Jvm.Cond.methodLink "LastAskedLaw" (194 : Nat) ({ cls := "LastAskedModel", name := "die", desc := "(I)I" } : Jvm.MethodName)) ∈ lw_all := lw_g (lw_at lw_m9 22 rfl) rfl
theorem q2058 : (Jvm.Cond.methodLink "LastAskedLaw" (198 : Nat) ({ cls := "LastAskedModel", name := "night", desc := "()I" } : Jvm.MethodName)) ∈ lw_all := lw_g (lw_at lw_m9 26 rfl) rfl
theorem q2062 : (Jvm.Cond.methodLink "LastAskedLaw" (203 : Nat) ({ cls := "LastAskedModel", name := "seed", desc := "(I)Z" } : Jvm.MethodName)) ∈ lw_all := lw_g (lw_at lw_m9 30 rfl) rfl
theorem q2074 : (Jvm.Cond.methodLink "LastAskedLaw" (208 : Nat) ({ cls := "LastAskedModel", name := "undo", desc := "()Z" } : Jvm.MethodName)) ∈ lw_all := lw_g (lw_at lw_m9 42 rfl) rfl
theorem q2078 : (Jvm.Cond.methodLink "LastAskedLaw" (212 : Nat) ({ cls := "LastAskedModel", name := "image", desc := "()I" } : Jvm.MethodName)) ∈ lw_all := lw_g (lw_at lw_m9 46 rfl) rfl
theorem q2082 : (Jvm.Cond.methodLink "LastAskedLaw" (216 : Nat) ({ cls := "LastAskedModel", name := "back", desc := "(I)Z" } : Jvm.MethodName)) ∈ lw_all := lw_g (lw_at lw_m9 50 rfl) rfl
theorem q2086 : (Jvm.Cond.methodLink "LastAskedLaw" (222 : Nat) ({ cls := "LastAskedModel", name := "led", desc := "(I)I" } : Jvm.MethodName)) ∈ lw_all := lw_g (lw_at lw_m9 54 rfl) rfl
theorem q2090 : (Jvm.Cond.methodLink "LastAskedLaw" (229 : Nat) ({ cls := "LastAskedModel", name := "size", desc := "(I)I" } : Jvm.MethodName)) ∈ lw_all := lw_g (lw_at lw_m9 58 rfl) rfl
theorem q2094 : (Jvm.Cond.methodLink "LastAskedLaw" (233 : Nat) ({ cls := "LastAskedModel", name := "trouble", desc := "()I" } : Jvm.MethodName)) ∈ lw_all := lw_g (lw_at lw_m9 62 rfl) rfl

/-! LastAsked$Plain -/
set_option maxRecDepth 100000
def RX10 : String := "LastAsked$Plain"
def TX10 : u_T := fun k => match k with
  | 0 => ("LastAsked$Person", "name", "Ljava/lang/String;", true)
  | 1 => ("LastAsked$Person", "number", "I", true)
  | 2 => ("LastAsked$Person", "wealth", "I", false)
  | 3 => ("LastAsked$Person", "dies", "I", false)
  | 4 => ("LastAsked$Person", "near", "I", false)
  | 5 => ("LastAsked$Person", "asks", "I", false)
  | _ => ("LastAsked$Person", "went", "I", false)
def tyX10 : Nat → FieldType := fun k => match k with
  | 0 => .object "java/lang/String"
  | 1 => .int
  | 2 => .int
  | 3 => .int
  | 4 => .int
  | 5 => .int
  | _ => .int
abbrev wsX100 : List Cond := u_ws RX10 TX10 7
theorem nmX10 : ∀ a, a < 7 → ∀ b, b < 7 → a ≠ b → (TX10 a).2.1 ≠ (TX10 b).2.1 := by decide +kernel
theorem tyX10_ok : ∀ k, k < 7 → parseFieldDescriptor (TX10 k).2.2.1 = some (tyX10 k) := by decide +kernel
abbrev cX10_init : ByteArray := prog_7_method_1_code
def yX10_init : MethodName := ⟨RX10, "<init>", "(Ljava/lang/String;I)V"⟩
def dkwX10_init_0 : List UInt8 := [42, 43, 28, 183, 0, 1, 177]
abbrev dktX10_init_0 : List UInt8 := dkwX10_init_0 ++ []
theorem dksX10_init_0 : cX10_init.data.toList.drop 0 = dktX10_init_0 := by decide +kernel
theorem dX10_init_0 : decode cX10_init 0 = .ok (.aload_n 0, 1) := dk_42 (dk_at dksX10_init_0 0 rfl rfl)
theorem dX10_init_1 : decode cX10_init 1 = .ok (.aload_n 1, 1) := dk_43 (dk_at dksX10_init_0 1 rfl rfl)
theorem dX10_init_2 : decode cX10_init 2 = .ok (.iload_n 2, 1) := dk_28 (dk_at dksX10_init_0 2 rfl rfl)
theorem dX10_init_3 : decode cX10_init 3 = .ok (.invokespecial 1, 3) := dk_183 0 1 (dk_at dksX10_init_0 3 rfl rfl)
theorem dX10_init_6 : decode cX10_init 6 = .ok (.return_, 1) := dk_177 (dk_at dksX10_init_0 6 rfl rfl)
abbrev cX10_kind : ByteArray := prog_7_method_2_code
def yX10_kind : MethodName := ⟨RX10, "kind", "()I"⟩
theorem dX10_kind_0 : decode cX10_kind 0 = .ok (.iconst 0, 1) := by decide +kernel
theorem dX10_kind_1 : decode cX10_kind 1 = .ok (.ireturn, 1) := by decide +kernel
theorem q130 : (Jvm.Cond.initialized "LastAsked$Plain") ∈ lw_all := lw_g (lw_at lw_m1 18 rfl) rfl
theorem q740 : (Jvm.Cond.instantiable "LastAsked$Plain" (7 : Nat)) ∈ lw_all := lw_g (lw_at lw_m3 148 rfl) rfl
theorem q742 : (Jvm.Cond.instanceMethod ({ cls := "LastAsked$Plain", name := "<init>", desc := "(Ljava/lang/String;I)V" } : Jvm.MethodName)) ∈ lw_all := lw_g (lw_at lw_m3 150 rfl) rfl
theorem q743 : (Jvm.Cond.code ({ cls := "LastAsked$Plain", name := "<init>", desc := "(Ljava/lang/String;I)V" } : Jvm.MethodName) prog_7_method_1_code (3 : Nat) (Option.none : Option Jvm.ClassFile.FieldType)) ∈ lw_all := lw_g (lw_at lw_m3 151 rfl) rfl
theorem q744 : (Jvm.Cond.methodLink "LastAsked$Plain" (1 : Nat) ({ cls := "LastAsked$Person", name := "<init>", desc := "(Ljava/lang/String;I)V" } : Jvm.MethodName)) ∈ lw_all := lw_g (lw_at lw_m3 152 rfl) rfl
theorem q767 : (Jvm.Cond.laysFinal "LastAsked$Plain" "LastAsked$Person" "name" "Ljava/lang/String;") ∈ lw_all := lw_g (lw_at lw_m3 175 rfl) rfl
theorem q769 : (Jvm.Cond.laysFinal "LastAsked$Plain" "LastAsked$Person" "number" "I") ∈ lw_all := lw_g (lw_at lw_m3 177 rfl) rfl
theorem q771 : (Jvm.Cond.lays "LastAsked$Plain" "LastAsked$Person" "wealth" "I") ∈ lw_all := lw_g (lw_at lw_m3 179 rfl) rfl
theorem q773 : (Jvm.Cond.lays "LastAsked$Plain" "LastAsked$Person" "dies" "I") ∈ lw_all := lw_g (lw_at lw_m3 181 rfl) rfl
theorem q775 : (Jvm.Cond.lays "LastAsked$Plain" "LastAsked$Person" "near" "I") ∈ lw_all := lw_g (lw_at lw_m3 183 rfl) rfl
theorem q777 : (Jvm.Cond.lays "LastAsked$Plain" "LastAsked$Person" "asks" "I") ∈ lw_all := lw_g (lw_at lw_m3 185 rfl) rfl
theorem q779 : (Jvm.Cond.lays "LastAsked$Plain" "LastAsked$Person" "went" "I") ∈ lw_all := lw_g (lw_at lw_m3 187 rfl) rfl
theorem q781 : (Jvm.Cond.superclass "LastAsked$Plain" "LastAsked$Person") ∈ lw_all := lw_g (lw_at lw_m3 189 rfl) rfl
theorem q856 : (Jvm.Cond.selects "LastAsked$Plain" ({ cls := "LastAsked$Person", name := "mayAsk", desc := "()Z" } : Jvm.MethodName) ({ cls := "LastAsked$Person", name := "mayAsk", desc := "()Z" } : Jvm.MethodName)) ∈ lw_all := lw_g (lw_at lw_m4 24 rfl) rfl
theorem q863 : (Jvm.Cond.selects "LastAsked$Plain" ({ cls := "LastAsked$Person", name := "mayBeAskedBy", desc := "(I)Z" } : Jvm.MethodName) ({ cls := "LastAsked$Person", name := "mayBeAskedBy", desc := "(I)Z" } : Jvm.MethodName)) ∈ lw_all := lw_g (lw_at lw_m4 31 rfl) rfl
theorem q868 : (Jvm.Cond.sameMethod "LastAsked$Plain" "LastAsked$Person" "mayBeAskedBy" "(I)Z") ∈ lw_all := lw_g (lw_at lw_m4 36 rfl) rfl
theorem q923 : (Jvm.Cond.selects "LastAsked$Plain" ({ cls := "LastAsked$Person", name := "kind", desc := "()I" } : Jvm.MethodName) ({ cls := "LastAsked$Plain", name := "kind", desc := "()I" } : Jvm.MethodName)) ∈ lw_all := lw_g (lw_at lw_m4 91 rfl) rfl
theorem q924 : (Jvm.Cond.instanceMethod ({ cls := "LastAsked$Plain", name := "kind", desc := "()I" } : Jvm.MethodName)) ∈ lw_all := lw_g (lw_at lw_m4 92 rfl) rfl
theorem q925 : (Jvm.Cond.code ({ cls := "LastAsked$Plain", name := "kind", desc := "()I" } : Jvm.MethodName) prog_7_method_2_code (1 : Nat) (Option.some Jvm.ClassFile.FieldType.int)) ∈ lw_all := lw_g (lw_at lw_m4 93 rfl) rfl
theorem q2099 : (Jvm.Cond.sameMethod "LastAsked$Plain" "LastAsked$Plain" "kind" "()I") ∈ lw_all := lw_g (lw_at lw_m9 67 rfl) rfl
theorem q2110 : (Jvm.Cond.castable "LastAsked$Plain" "java/lang/Object") ∈ lw_tbl := lw_at lw_m9 78 rfl
theorem q2117 : (Jvm.Cond.castable "LastAsked$Plain" "LastAsked$Person") ∈ lw_tbl := lw_at lw_m9 85 rfl
theorem in_X10 : ∀ w ∈ wsX100, w ∈ lw_all := lw_in wsX100 [767, 769, 771, 773, 775, 777, 779] (by decide +kernel) (by decide +kernel)

/-! LastAsked$Shut -/
set_option maxRecDepth 100000
def RX11 : String := "LastAsked$Shut"
def TX11 : u_T := fun k => match k with
  | 0 => ("LastAsked$Person", "name", "Ljava/lang/String;", true)
  | 1 => ("LastAsked$Person", "number", "I", true)
  | 2 => ("LastAsked$Person", "wealth", "I", false)
  | 3 => ("LastAsked$Person", "dies", "I", false)
  | 4 => ("LastAsked$Person", "near", "I", false)
  | 5 => ("LastAsked$Person", "asks", "I", false)
  | _ => ("LastAsked$Person", "went", "I", false)
def tyX11 : Nat → FieldType := fun k => match k with
  | 0 => .object "java/lang/String"
  | 1 => .int
  | 2 => .int
  | 3 => .int
  | 4 => .int
  | 5 => .int
  | _ => .int
abbrev wsX110 : List Cond := u_ws RX11 TX11 7
theorem nmX11 : ∀ a, a < 7 → ∀ b, b < 7 → a ≠ b → (TX11 a).2.1 ≠ (TX11 b).2.1 := by decide +kernel
theorem tyX11_ok : ∀ k, k < 7 → parseFieldDescriptor (TX11 k).2.2.1 = some (tyX11 k) := by decide +kernel
abbrev cX11_init : ByteArray := prog_10_method_1_code
def yX11_init : MethodName := ⟨RX11, "<init>", "(Ljava/lang/String;I)V"⟩
def dkwX11_init_0 : List UInt8 := [42, 43, 28, 183, 0, 1, 177]
abbrev dktX11_init_0 : List UInt8 := dkwX11_init_0 ++ []
theorem dksX11_init_0 : cX11_init.data.toList.drop 0 = dktX11_init_0 := by decide +kernel
theorem dX11_init_0 : decode cX11_init 0 = .ok (.aload_n 0, 1) := dk_42 (dk_at dksX11_init_0 0 rfl rfl)
theorem dX11_init_1 : decode cX11_init 1 = .ok (.aload_n 1, 1) := dk_43 (dk_at dksX11_init_0 1 rfl rfl)
theorem dX11_init_2 : decode cX11_init 2 = .ok (.iload_n 2, 1) := dk_28 (dk_at dksX11_init_0 2 rfl rfl)
theorem dX11_init_3 : decode cX11_init 3 = .ok (.invokespecial 1, 3) := dk_183 0 1 (dk_at dksX11_init_0 3 rfl rfl)
theorem dX11_init_6 : decode cX11_init 6 = .ok (.return_, 1) := dk_177 (dk_at dksX11_init_0 6 rfl rfl)
abbrev cX11_mayBeAskedBy : ByteArray := prog_10_method_3_code
def yX11_mayBeAskedBy : MethodName := ⟨RX11, "mayBeAskedBy", "(I)Z"⟩
def dkwX11_mayBeAskedBy_0 : List UInt8 := [42, 27, 183, 0, 11, 154, 0, 7, 4, 167, 0, 4, 3, 172]
abbrev dktX11_mayBeAskedBy_0 : List UInt8 := dkwX11_mayBeAskedBy_0 ++ []
theorem dksX11_mayBeAskedBy_0 : cX11_mayBeAskedBy.data.toList.drop 0 = dktX11_mayBeAskedBy_0 := by decide +kernel
theorem dX11_mayBeAskedBy_0 : decode cX11_mayBeAskedBy 0 = .ok (.aload_n 0, 1) := dk_42 (dk_at dksX11_mayBeAskedBy_0 0 rfl rfl)
theorem dX11_mayBeAskedBy_1 : decode cX11_mayBeAskedBy 1 = .ok (.iload_n 1, 1) := dk_27 (dk_at dksX11_mayBeAskedBy_0 1 rfl rfl)
theorem dX11_mayBeAskedBy_2 : decode cX11_mayBeAskedBy 2 = .ok (.invokespecial 11, 3) := dk_183 0 11 (dk_at dksX11_mayBeAskedBy_0 2 rfl rfl)
theorem dX11_mayBeAskedBy_5 : decode cX11_mayBeAskedBy 5 = .ok (.ifCond .ne 7, 3) := dk_154 0 7 (dk_at dksX11_mayBeAskedBy_0 5 rfl rfl)
theorem dX11_mayBeAskedBy_8 : decode cX11_mayBeAskedBy 8 = .ok (.iconst 1, 1) := dk_4 (dk_at dksX11_mayBeAskedBy_0 8 rfl rfl)
theorem dX11_mayBeAskedBy_9 : decode cX11_mayBeAskedBy 9 = .ok (.goto 4, 3) := dk_167 0 4 (dk_at dksX11_mayBeAskedBy_0 9 rfl rfl)
theorem dX11_mayBeAskedBy_12 : decode cX11_mayBeAskedBy 12 = .ok (.iconst 0, 1) := dk_3 (dk_at dksX11_mayBeAskedBy_0 12 rfl rfl)
theorem dX11_mayBeAskedBy_13 : decode cX11_mayBeAskedBy 13 = .ok (.ireturn, 1) := dk_172 (dk_at dksX11_mayBeAskedBy_0 13 rfl rfl)
abbrev cX11_kind : ByteArray := prog_10_method_2_code
def yX11_kind : MethodName := ⟨RX11, "kind", "()I"⟩
def dkwX11_kind_0 : List UInt8 := [42, 183, 0, 7, 4, 96, 172]
abbrev dktX11_kind_0 : List UInt8 := dkwX11_kind_0 ++ []
theorem dksX11_kind_0 : cX11_kind.data.toList.drop 0 = dktX11_kind_0 := by decide +kernel
theorem dX11_kind_0 : decode cX11_kind 0 = .ok (.aload_n 0, 1) := dk_42 (dk_at dksX11_kind_0 0 rfl rfl)
theorem dX11_kind_1 : decode cX11_kind 1 = .ok (.invokespecial 7, 3) := dk_183 0 7 (dk_at dksX11_kind_0 1 rfl rfl)
theorem dX11_kind_4 : decode cX11_kind 4 = .ok (.iconst 1, 1) := dk_4 (dk_at dksX11_kind_0 4 rfl rfl)
theorem dX11_kind_5 : decode cX11_kind 5 = .ok (.iadd, 1) := dk_96 (dk_at dksX11_kind_0 5 rfl rfl)
theorem dX11_kind_6 : decode cX11_kind 6 = .ok (.ireturn, 1) := dk_172 (dk_at dksX11_kind_0 6 rfl rfl)
theorem q131 : (Jvm.Cond.initialized "LastAsked$Shut") ∈ lw_all := lw_g (lw_at lw_m1 19 rfl) rfl
theorem q784 : (Jvm.Cond.instantiable "LastAsked$Shut" (7 : Nat)) ∈ lw_all := lw_g (lw_at lw_m3 192 rfl) rfl
theorem q786 : (Jvm.Cond.instanceMethod ({ cls := "LastAsked$Shut", name := "<init>", desc := "(Ljava/lang/String;I)V" } : Jvm.MethodName)) ∈ lw_all := lw_g (lw_at lw_m3 194 rfl) rfl
theorem q787 : (Jvm.Cond.code ({ cls := "LastAsked$Shut", name := "<init>", desc := "(Ljava/lang/String;I)V" } : Jvm.MethodName) prog_10_method_1_code (3 : Nat) (Option.none : Option Jvm.ClassFile.FieldType)) ∈ lw_all := lw_g (lw_at lw_m3 195 rfl) rfl
theorem q788 : (Jvm.Cond.methodLink "LastAsked$Shut" (1 : Nat) ({ cls := "LastAsked$Plain", name := "<init>", desc := "(Ljava/lang/String;I)V" } : Jvm.MethodName)) ∈ lw_all := lw_g (lw_at lw_m3 196 rfl) rfl
theorem q789 : (Jvm.Cond.laysFinal "LastAsked$Shut" "LastAsked$Person" "name" "Ljava/lang/String;") ∈ lw_all := lw_g (lw_at lw_m3 197 rfl) rfl
theorem q790 : (Jvm.Cond.laysFinal "LastAsked$Shut" "LastAsked$Person" "number" "I") ∈ lw_all := lw_g (lw_at lw_m3 198 rfl) rfl
theorem q791 : (Jvm.Cond.lays "LastAsked$Shut" "LastAsked$Person" "wealth" "I") ∈ lw_all := lw_g (lw_at lw_m3 199 rfl) rfl
theorem q792 : (Jvm.Cond.lays "LastAsked$Shut" "LastAsked$Person" "dies" "I") ∈ lw_all := lw_g (lw_at lw_m3 200 rfl) rfl
theorem q793 : (Jvm.Cond.lays "LastAsked$Shut" "LastAsked$Person" "near" "I") ∈ lw_all := lw_g (lw_at lw_m3 201 rfl) rfl
theorem q794 : (Jvm.Cond.lays "LastAsked$Shut" "LastAsked$Person" "asks" "I") ∈ lw_all := lw_g (lw_at lw_m3 202 rfl) rfl
theorem q795 : (Jvm.Cond.lays "LastAsked$Shut" "LastAsked$Person" "went" "I") ∈ lw_all := lw_g (lw_at lw_m3 203 rfl) rfl
theorem q796 : (Jvm.Cond.superclass "LastAsked$Shut" "LastAsked$Plain") ∈ lw_all := lw_g (lw_at lw_m3 204 rfl) rfl
theorem q857 : (Jvm.Cond.selects "LastAsked$Shut" ({ cls := "LastAsked$Person", name := "mayAsk", desc := "()Z" } : Jvm.MethodName) ({ cls := "LastAsked$Person", name := "mayAsk", desc := "()Z" } : Jvm.MethodName)) ∈ lw_all := lw_g (lw_at lw_m4 25 rfl) rfl
theorem q864 : (Jvm.Cond.selects "LastAsked$Shut" ({ cls := "LastAsked$Person", name := "mayBeAskedBy", desc := "(I)Z" } : Jvm.MethodName) ({ cls := "LastAsked$Shut", name := "mayBeAskedBy", desc := "(I)Z" } : Jvm.MethodName)) ∈ lw_all := lw_g (lw_at lw_m4 32 rfl) rfl
theorem q865 : (Jvm.Cond.instanceMethod ({ cls := "LastAsked$Shut", name := "mayBeAskedBy", desc := "(I)Z" } : Jvm.MethodName)) ∈ lw_all := lw_g (lw_at lw_m4 33 rfl) rfl
theorem q866 : (Jvm.Cond.code ({ cls := "LastAsked$Shut", name := "mayBeAskedBy", desc := "(I)Z" } : Jvm.MethodName) prog_10_method_3_code (2 : Nat) (Option.some Jvm.ClassFile.FieldType.boolean)) ∈ lw_all := lw_g (lw_at lw_m4 34 rfl) rfl
theorem q867 : (Jvm.Cond.methodLink "LastAsked$Shut" (11 : Nat) ({ cls := "LastAsked$Plain", name := "mayBeAskedBy", desc := "(I)Z" } : Jvm.MethodName)) ∈ lw_all := lw_g (lw_at lw_m4 35 rfl) rfl
theorem q926 : (Jvm.Cond.selects "LastAsked$Shut" ({ cls := "LastAsked$Person", name := "kind", desc := "()I" } : Jvm.MethodName) ({ cls := "LastAsked$Shut", name := "kind", desc := "()I" } : Jvm.MethodName)) ∈ lw_all := lw_g (lw_at lw_m4 94 rfl) rfl
theorem q927 : (Jvm.Cond.instanceMethod ({ cls := "LastAsked$Shut", name := "kind", desc := "()I" } : Jvm.MethodName)) ∈ lw_all := lw_g (lw_at lw_m4 95 rfl) rfl
theorem q928 : (Jvm.Cond.code ({ cls := "LastAsked$Shut", name := "kind", desc := "()I" } : Jvm.MethodName) prog_10_method_2_code (1 : Nat) (Option.some Jvm.ClassFile.FieldType.int)) ∈ lw_all := lw_g (lw_at lw_m4 96 rfl) rfl
theorem q929 : (Jvm.Cond.methodLink "LastAsked$Shut" (7 : Nat) ({ cls := "LastAsked$Plain", name := "kind", desc := "()I" } : Jvm.MethodName)) ∈ lw_all := lw_g (lw_at lw_m4 97 rfl) rfl
theorem q2111 : (Jvm.Cond.castable "LastAsked$Shut" "java/lang/Object") ∈ lw_tbl := lw_at lw_m9 79 rfl
theorem q2118 : (Jvm.Cond.castable "LastAsked$Shut" "LastAsked$Person") ∈ lw_tbl := lw_at lw_m9 86 rfl
theorem in_X11 : ∀ w ∈ wsX110, w ∈ lw_all := lw_in wsX110 [789, 790, 791, 792, 793, 794, 795] (by decide +kernel) (by decide +kernel)

/-! LastAsked$Walled -/
set_option maxRecDepth 100000
def RX12 : String := "LastAsked$Walled"
def TX12 : u_T := fun k => match k with
  | 0 => ("LastAsked$Person", "name", "Ljava/lang/String;", true)
  | 1 => ("LastAsked$Person", "number", "I", true)
  | 2 => ("LastAsked$Person", "wealth", "I", false)
  | 3 => ("LastAsked$Person", "dies", "I", false)
  | 4 => ("LastAsked$Person", "near", "I", false)
  | 5 => ("LastAsked$Person", "asks", "I", false)
  | _ => ("LastAsked$Person", "went", "I", false)
def tyX12 : Nat → FieldType := fun k => match k with
  | 0 => .object "java/lang/String"
  | 1 => .int
  | 2 => .int
  | 3 => .int
  | 4 => .int
  | 5 => .int
  | _ => .int
abbrev wsX120 : List Cond := u_ws RX12 TX12 7
theorem nmX12 : ∀ a, a < 7 → ∀ b, b < 7 → a ≠ b → (TX12 a).2.1 ≠ (TX12 b).2.1 := by decide +kernel
theorem tyX12_ok : ∀ k, k < 7 → parseFieldDescriptor (TX12 k).2.2.1 = some (tyX12 k) := by decide +kernel
abbrev cX12_init : ByteArray := prog_12_method_1_code
def yX12_init : MethodName := ⟨RX12, "<init>", "(Ljava/lang/String;I)V"⟩
def dkwX12_init_0 : List UInt8 := [42, 43, 28, 183, 0, 1, 177]
abbrev dktX12_init_0 : List UInt8 := dkwX12_init_0 ++ []
theorem dksX12_init_0 : cX12_init.data.toList.drop 0 = dktX12_init_0 := by decide +kernel
theorem dX12_init_0 : decode cX12_init 0 = .ok (.aload_n 0, 1) := dk_42 (dk_at dksX12_init_0 0 rfl rfl)
theorem dX12_init_1 : decode cX12_init 1 = .ok (.aload_n 1, 1) := dk_43 (dk_at dksX12_init_0 1 rfl rfl)
theorem dX12_init_2 : decode cX12_init 2 = .ok (.iload_n 2, 1) := dk_28 (dk_at dksX12_init_0 2 rfl rfl)
theorem dX12_init_3 : decode cX12_init 3 = .ok (.invokespecial 1, 3) := dk_183 0 1 (dk_at dksX12_init_0 3 rfl rfl)
theorem dX12_init_6 : decode cX12_init 6 = .ok (.return_, 1) := dk_177 (dk_at dksX12_init_0 6 rfl rfl)
abbrev cX12_mayBeAskedBy : ByteArray := prog_12_method_3_code
def yX12_mayBeAskedBy : MethodName := ⟨RX12, "mayBeAskedBy", "(I)Z"⟩
def dkwX12_mayBeAskedBy_1 : List UInt8 := [172]
abbrev dktX12_mayBeAskedBy_1 : List UInt8 := dkwX12_mayBeAskedBy_1 ++ []
def dkwX12_mayBeAskedBy_0 : List UInt8 := [42, 27, 183, 0, 11, 153, 0, 18, 42, 180, 0, 15, 27, 184, 0, 21, 153, 0, 7, 4, 167, 0, 4, 3]
abbrev dktX12_mayBeAskedBy_0 : List UInt8 := dkwX12_mayBeAskedBy_0 ++ dktX12_mayBeAskedBy_1
theorem dksX12_mayBeAskedBy_0 : cX12_mayBeAskedBy.data.toList.drop 0 = dktX12_mayBeAskedBy_0 := by decide +kernel
theorem dksX12_mayBeAskedBy_1 : cX12_mayBeAskedBy.data.toList.drop 24 = dktX12_mayBeAskedBy_1 := dk_seg dksX12_mayBeAskedBy_0 24 rfl rfl
theorem dX12_mayBeAskedBy_0 : decode cX12_mayBeAskedBy 0 = .ok (.aload_n 0, 1) := dk_42 (dk_at dksX12_mayBeAskedBy_0 0 rfl rfl)
theorem dX12_mayBeAskedBy_1 : decode cX12_mayBeAskedBy 1 = .ok (.iload_n 1, 1) := dk_27 (dk_at dksX12_mayBeAskedBy_0 1 rfl rfl)
theorem dX12_mayBeAskedBy_2 : decode cX12_mayBeAskedBy 2 = .ok (.invokespecial 11, 3) := dk_183 0 11 (dk_at dksX12_mayBeAskedBy_0 2 rfl rfl)
theorem dX12_mayBeAskedBy_5 : decode cX12_mayBeAskedBy 5 = .ok (.ifCond .eq 18, 3) := dk_153 0 18 (dk_at dksX12_mayBeAskedBy_0 5 rfl rfl)
theorem dX12_mayBeAskedBy_8 : decode cX12_mayBeAskedBy 8 = .ok (.aload_n 0, 1) := dk_42 (dk_at dksX12_mayBeAskedBy_0 8 rfl rfl)
theorem dX12_mayBeAskedBy_9 : decode cX12_mayBeAskedBy 9 = .ok (.getfield 15, 3) := dk_180 0 15 (dk_at dksX12_mayBeAskedBy_0 9 rfl rfl)
theorem dX12_mayBeAskedBy_12 : decode cX12_mayBeAskedBy 12 = .ok (.iload_n 1, 1) := dk_27 (dk_at dksX12_mayBeAskedBy_0 12 rfl rfl)
theorem dX12_mayBeAskedBy_13 : decode cX12_mayBeAskedBy 13 = .ok (.invokestatic 21, 3) := dk_184 0 21 (dk_at dksX12_mayBeAskedBy_0 13 rfl rfl)
theorem dX12_mayBeAskedBy_16 : decode cX12_mayBeAskedBy 16 = .ok (.ifCond .eq 7, 3) := dk_153 0 7 (dk_at dksX12_mayBeAskedBy_0 16 rfl rfl)
theorem dX12_mayBeAskedBy_19 : decode cX12_mayBeAskedBy 19 = .ok (.iconst 1, 1) := dk_4 (dk_at dksX12_mayBeAskedBy_0 19 rfl rfl)
theorem dX12_mayBeAskedBy_20 : decode cX12_mayBeAskedBy 20 = .ok (.goto 4, 3) := dk_167 0 4 (dk_at dksX12_mayBeAskedBy_0 20 rfl rfl)
theorem dX12_mayBeAskedBy_23 : decode cX12_mayBeAskedBy 23 = .ok (.iconst 0, 1) := dk_3 (dk_at dksX12_mayBeAskedBy_0 23 rfl rfl)
theorem dX12_mayBeAskedBy_24 : decode cX12_mayBeAskedBy 24 = .ok (.ireturn, 1) := dk_172 (dk_at dksX12_mayBeAskedBy_1 0 rfl rfl)
abbrev cX12_kind : ByteArray := prog_12_method_2_code
def yX12_kind : MethodName := ⟨RX12, "kind", "()I"⟩
def dkwX12_kind_0 : List UInt8 := [42, 183, 0, 7, 5, 96, 172]
abbrev dktX12_kind_0 : List UInt8 := dkwX12_kind_0 ++ []
theorem dksX12_kind_0 : cX12_kind.data.toList.drop 0 = dktX12_kind_0 := by decide +kernel
theorem dX12_kind_0 : decode cX12_kind 0 = .ok (.aload_n 0, 1) := dk_42 (dk_at dksX12_kind_0 0 rfl rfl)
theorem dX12_kind_1 : decode cX12_kind 1 = .ok (.invokespecial 7, 3) := dk_183 0 7 (dk_at dksX12_kind_0 1 rfl rfl)
theorem dX12_kind_4 : decode cX12_kind 4 = .ok (.iconst 2, 1) := dk_5 (dk_at dksX12_kind_0 4 rfl rfl)
theorem dX12_kind_5 : decode cX12_kind 5 = .ok (.iadd, 1) := dk_96 (dk_at dksX12_kind_0 5 rfl rfl)
theorem dX12_kind_6 : decode cX12_kind 6 = .ok (.ireturn, 1) := dk_172 (dk_at dksX12_kind_0 6 rfl rfl)
theorem q132 : (Jvm.Cond.initialized "LastAsked$Walled") ∈ lw_all := lw_g (lw_at lw_m1 20 rfl) rfl
theorem q758 : (Jvm.Cond.fieldLink "LastAsked$Walled" (15 : Nat) "LastAsked$Walled" "near" "I") ∈ lw_all := lw_g (lw_at lw_m3 166 rfl) rfl
theorem q759 : (Jvm.Cond.sameField "LastAsked$Walled" "LastAsked$Person" "near" "I") ∈ lw_all := lw_g (lw_at lw_m3 167 rfl) rfl
theorem q799 : (Jvm.Cond.instantiable "LastAsked$Walled" (7 : Nat)) ∈ lw_all := lw_g (lw_at lw_m3 207 rfl) rfl
theorem q801 : (Jvm.Cond.instanceMethod ({ cls := "LastAsked$Walled", name := "<init>", desc := "(Ljava/lang/String;I)V" } : Jvm.MethodName)) ∈ lw_all := lw_g (lw_at lw_m3 209 rfl) rfl
theorem q802 : (Jvm.Cond.code ({ cls := "LastAsked$Walled", name := "<init>", desc := "(Ljava/lang/String;I)V" } : Jvm.MethodName) prog_12_method_1_code (3 : Nat) (Option.none : Option Jvm.ClassFile.FieldType)) ∈ lw_all := lw_g (lw_at lw_m3 210 rfl) rfl
theorem q803 : (Jvm.Cond.methodLink "LastAsked$Walled" (1 : Nat) ({ cls := "LastAsked$Plain", name := "<init>", desc := "(Ljava/lang/String;I)V" } : Jvm.MethodName)) ∈ lw_all := lw_g (lw_at lw_m3 211 rfl) rfl
theorem q804 : (Jvm.Cond.laysFinal "LastAsked$Walled" "LastAsked$Person" "name" "Ljava/lang/String;") ∈ lw_all := lw_g (lw_at lw_m3 212 rfl) rfl
theorem q805 : (Jvm.Cond.laysFinal "LastAsked$Walled" "LastAsked$Person" "number" "I") ∈ lw_all := lw_g (lw_at lw_m3 213 rfl) rfl
theorem q806 : (Jvm.Cond.lays "LastAsked$Walled" "LastAsked$Person" "wealth" "I") ∈ lw_all := lw_g (lw_at lw_m3 214 rfl) rfl
theorem q807 : (Jvm.Cond.lays "LastAsked$Walled" "LastAsked$Person" "dies" "I") ∈ lw_all := lw_g (lw_at lw_m3 215 rfl) rfl
theorem q808 : (Jvm.Cond.lays "LastAsked$Walled" "LastAsked$Person" "near" "I") ∈ lw_all := lw_g (lw_at lw_m3 216 rfl) rfl
theorem q809 : (Jvm.Cond.lays "LastAsked$Walled" "LastAsked$Person" "asks" "I") ∈ lw_all := lw_g (lw_at lw_m3 217 rfl) rfl
theorem q810 : (Jvm.Cond.lays "LastAsked$Walled" "LastAsked$Person" "went" "I") ∈ lw_all := lw_g (lw_at lw_m3 218 rfl) rfl
theorem q811 : (Jvm.Cond.superclass "LastAsked$Walled" "LastAsked$Plain") ∈ lw_all := lw_g (lw_at lw_m3 219 rfl) rfl
theorem q858 : (Jvm.Cond.selects "LastAsked$Walled" ({ cls := "LastAsked$Person", name := "mayAsk", desc := "()Z" } : Jvm.MethodName) ({ cls := "LastAsked$Person", name := "mayAsk", desc := "()Z" } : Jvm.MethodName)) ∈ lw_all := lw_g (lw_at lw_m4 26 rfl) rfl
theorem q871 : (Jvm.Cond.selects "LastAsked$Walled" ({ cls := "LastAsked$Person", name := "mayBeAskedBy", desc := "(I)Z" } : Jvm.MethodName) ({ cls := "LastAsked$Walled", name := "mayBeAskedBy", desc := "(I)Z" } : Jvm.MethodName)) ∈ lw_all := lw_g (lw_at lw_m4 39 rfl) rfl
theorem q872 : (Jvm.Cond.instanceMethod ({ cls := "LastAsked$Walled", name := "mayBeAskedBy", desc := "(I)Z" } : Jvm.MethodName)) ∈ lw_all := lw_g (lw_at lw_m4 40 rfl) rfl
theorem q873 : (Jvm.Cond.code ({ cls := "LastAsked$Walled", name := "mayBeAskedBy", desc := "(I)Z" } : Jvm.MethodName) prog_12_method_3_code (2 : Nat) (Option.some Jvm.ClassFile.FieldType.boolean)) ∈ lw_all := lw_g (lw_at lw_m4 41 rfl) rfl
theorem q874 : (Jvm.Cond.methodLink "LastAsked$Walled" (11 : Nat) ({ cls := "LastAsked$Plain", name := "mayBeAskedBy", desc := "(I)Z" } : Jvm.MethodName)) ∈ lw_all := lw_g (lw_at lw_m4 42 rfl) rfl
theorem q875 : (Jvm.Cond.methodLinkNest "LastAsked$Walled" (21 : Nat) ({ cls := "LastAsked", name := "has", desc := "(II)Z" } : Jvm.MethodName) "LastAsked") ∈ lw_tbl := lw_at lw_m4 43 rfl
theorem q930 : (Jvm.Cond.selects "LastAsked$Walled" ({ cls := "LastAsked$Person", name := "kind", desc := "()I" } : Jvm.MethodName) ({ cls := "LastAsked$Walled", name := "kind", desc := "()I" } : Jvm.MethodName)) ∈ lw_all := lw_g (lw_at lw_m4 98 rfl) rfl
theorem q931 : (Jvm.Cond.instanceMethod ({ cls := "LastAsked$Walled", name := "kind", desc := "()I" } : Jvm.MethodName)) ∈ lw_all := lw_g (lw_at lw_m4 99 rfl) rfl
theorem q932 : (Jvm.Cond.code ({ cls := "LastAsked$Walled", name := "kind", desc := "()I" } : Jvm.MethodName) prog_12_method_2_code (1 : Nat) (Option.some Jvm.ClassFile.FieldType.int)) ∈ lw_all := lw_g (lw_at lw_m4 100 rfl) rfl
theorem q933 : (Jvm.Cond.methodLink "LastAsked$Walled" (7 : Nat) ({ cls := "LastAsked$Plain", name := "kind", desc := "()I" } : Jvm.MethodName)) ∈ lw_all := lw_g (lw_at lw_m4 101 rfl) rfl
theorem q2112 : (Jvm.Cond.castable "LastAsked$Walled" "java/lang/Object") ∈ lw_tbl := lw_at lw_m9 80 rfl
theorem q2119 : (Jvm.Cond.castable "LastAsked$Walled" "LastAsked$Person") ∈ lw_tbl := lw_at lw_m9 87 rfl
theorem in_X12 : ∀ w ∈ wsX120, w ∈ lw_all := lw_in wsX120 [804, 805, 806, 807, 808, 809, 810] (by decide +kernel) (by decide +kernel)

/-! LastAsked$Doctor -/
set_option maxRecDepth 100000
def RX13 : String := "LastAsked$Doctor"
def TX13 : u_T := fun k => match k with
  | 0 => ("LastAsked$Person", "name", "Ljava/lang/String;", true)
  | 1 => ("LastAsked$Person", "number", "I", true)
  | 2 => ("LastAsked$Person", "wealth", "I", false)
  | 3 => ("LastAsked$Person", "dies", "I", false)
  | 4 => ("LastAsked$Person", "near", "I", false)
  | 5 => ("LastAsked$Person", "asks", "I", false)
  | _ => ("LastAsked$Person", "went", "I", false)
def tyX13 : Nat → FieldType := fun k => match k with
  | 0 => .object "java/lang/String"
  | 1 => .int
  | 2 => .int
  | 3 => .int
  | 4 => .int
  | 5 => .int
  | _ => .int
abbrev wsX130 : List Cond := u_ws RX13 TX13 7
theorem nmX13 : ∀ a, a < 7 → ∀ b, b < 7 → a ≠ b → (TX13 a).2.1 ≠ (TX13 b).2.1 := by decide +kernel
theorem tyX13_ok : ∀ k, k < 7 → parseFieldDescriptor (TX13 k).2.2.1 = some (tyX13 k) := by decide +kernel
abbrev cX13_init : ByteArray := prog_4_method_1_code
def yX13_init : MethodName := ⟨RX13, "<init>", "(Ljava/lang/String;I)V"⟩
def dkwX13_init_0 : List UInt8 := [42, 43, 28, 183, 0, 1, 177]
abbrev dktX13_init_0 : List UInt8 := dkwX13_init_0 ++ []
theorem dksX13_init_0 : cX13_init.data.toList.drop 0 = dktX13_init_0 := by decide +kernel
theorem dX13_init_0 : decode cX13_init 0 = .ok (.aload_n 0, 1) := dk_42 (dk_at dksX13_init_0 0 rfl rfl)
theorem dX13_init_1 : decode cX13_init 1 = .ok (.aload_n 1, 1) := dk_43 (dk_at dksX13_init_0 1 rfl rfl)
theorem dX13_init_2 : decode cX13_init 2 = .ok (.iload_n 2, 1) := dk_28 (dk_at dksX13_init_0 2 rfl rfl)
theorem dX13_init_3 : decode cX13_init 3 = .ok (.invokespecial 1, 3) := dk_183 0 1 (dk_at dksX13_init_0 3 rfl rfl)
theorem dX13_init_6 : decode cX13_init 6 = .ok (.return_, 1) := dk_177 (dk_at dksX13_init_0 6 rfl rfl)
abbrev cX13_mayAsk : ByteArray := prog_4_method_3_code
def yX13_mayAsk : MethodName := ⟨RX13, "mayAsk", "()Z"⟩
def dkwX13_mayAsk_0 : List UInt8 := [42, 183, 0, 7, 154, 0, 7, 4, 167, 0, 4, 3, 172]
abbrev dktX13_mayAsk_0 : List UInt8 := dkwX13_mayAsk_0 ++ []
theorem dksX13_mayAsk_0 : cX13_mayAsk.data.toList.drop 0 = dktX13_mayAsk_0 := by decide +kernel
theorem dX13_mayAsk_0 : decode cX13_mayAsk 0 = .ok (.aload_n 0, 1) := dk_42 (dk_at dksX13_mayAsk_0 0 rfl rfl)
theorem dX13_mayAsk_1 : decode cX13_mayAsk 1 = .ok (.invokespecial 7, 3) := dk_183 0 7 (dk_at dksX13_mayAsk_0 1 rfl rfl)
theorem dX13_mayAsk_4 : decode cX13_mayAsk 4 = .ok (.ifCond .ne 7, 3) := dk_154 0 7 (dk_at dksX13_mayAsk_0 4 rfl rfl)
theorem dX13_mayAsk_7 : decode cX13_mayAsk 7 = .ok (.iconst 1, 1) := dk_4 (dk_at dksX13_mayAsk_0 7 rfl rfl)
theorem dX13_mayAsk_8 : decode cX13_mayAsk 8 = .ok (.goto 4, 3) := dk_167 0 4 (dk_at dksX13_mayAsk_0 8 rfl rfl)
theorem dX13_mayAsk_11 : decode cX13_mayAsk 11 = .ok (.iconst 0, 1) := dk_3 (dk_at dksX13_mayAsk_0 11 rfl rfl)
theorem dX13_mayAsk_12 : decode cX13_mayAsk 12 = .ok (.ireturn, 1) := dk_172 (dk_at dksX13_mayAsk_0 12 rfl rfl)
abbrev cX13_kind : ByteArray := prog_4_method_2_code
def yX13_kind : MethodName := ⟨RX13, "kind", "()I"⟩
theorem dX13_kind_0 : decode cX13_kind 0 = .ok (.iconst 3, 1) := by decide +kernel
theorem dX13_kind_1 : decode cX13_kind 1 = .ok (.ireturn, 1) := by decide +kernel
theorem q133 : (Jvm.Cond.initialized "LastAsked$Doctor") ∈ lw_all := lw_g (lw_at lw_m1 21 rfl) rfl
theorem q814 : (Jvm.Cond.instantiable "LastAsked$Doctor" (7 : Nat)) ∈ lw_all := lw_g (lw_at lw_m3 222 rfl) rfl
theorem q816 : (Jvm.Cond.instanceMethod ({ cls := "LastAsked$Doctor", name := "<init>", desc := "(Ljava/lang/String;I)V" } : Jvm.MethodName)) ∈ lw_all := lw_g (lw_at lw_m3 224 rfl) rfl
theorem q817 : (Jvm.Cond.code ({ cls := "LastAsked$Doctor", name := "<init>", desc := "(Ljava/lang/String;I)V" } : Jvm.MethodName) prog_4_method_1_code (3 : Nat) (Option.none : Option Jvm.ClassFile.FieldType)) ∈ lw_all := lw_g (lw_at lw_m3 225 rfl) rfl
theorem q818 : (Jvm.Cond.methodLink "LastAsked$Doctor" (1 : Nat) ({ cls := "LastAsked$Person", name := "<init>", desc := "(Ljava/lang/String;I)V" } : Jvm.MethodName)) ∈ lw_all := lw_g (lw_at lw_m3 226 rfl) rfl
theorem q819 : (Jvm.Cond.laysFinal "LastAsked$Doctor" "LastAsked$Person" "name" "Ljava/lang/String;") ∈ lw_all := lw_g (lw_at lw_m3 227 rfl) rfl
theorem q820 : (Jvm.Cond.laysFinal "LastAsked$Doctor" "LastAsked$Person" "number" "I") ∈ lw_all := lw_g (lw_at lw_m3 228 rfl) rfl
theorem q821 : (Jvm.Cond.lays "LastAsked$Doctor" "LastAsked$Person" "wealth" "I") ∈ lw_all := lw_g (lw_at lw_m3 229 rfl) rfl
theorem q822 : (Jvm.Cond.lays "LastAsked$Doctor" "LastAsked$Person" "dies" "I") ∈ lw_all := lw_g (lw_at lw_m3 230 rfl) rfl
theorem q823 : (Jvm.Cond.lays "LastAsked$Doctor" "LastAsked$Person" "near" "I") ∈ lw_all := lw_g (lw_at lw_m3 231 rfl) rfl
theorem q824 : (Jvm.Cond.lays "LastAsked$Doctor" "LastAsked$Person" "asks" "I") ∈ lw_all := lw_g (lw_at lw_m3 232 rfl) rfl
theorem q825 : (Jvm.Cond.lays "LastAsked$Doctor" "LastAsked$Person" "went" "I") ∈ lw_all := lw_g (lw_at lw_m3 233 rfl) rfl
theorem q826 : (Jvm.Cond.superclass "LastAsked$Doctor" "LastAsked$Person") ∈ lw_all := lw_g (lw_at lw_m3 234 rfl) rfl
theorem q851 : (Jvm.Cond.selects "LastAsked$Doctor" ({ cls := "LastAsked$Person", name := "mayAsk", desc := "()Z" } : Jvm.MethodName) ({ cls := "LastAsked$Doctor", name := "mayAsk", desc := "()Z" } : Jvm.MethodName)) ∈ lw_all := lw_g (lw_at lw_m4 19 rfl) rfl
theorem q852 : (Jvm.Cond.instanceMethod ({ cls := "LastAsked$Doctor", name := "mayAsk", desc := "()Z" } : Jvm.MethodName)) ∈ lw_all := lw_g (lw_at lw_m4 20 rfl) rfl
theorem q853 : (Jvm.Cond.code ({ cls := "LastAsked$Doctor", name := "mayAsk", desc := "()Z" } : Jvm.MethodName) prog_4_method_3_code (1 : Nat) (Option.some Jvm.ClassFile.FieldType.boolean)) ∈ lw_all := lw_g (lw_at lw_m4 21 rfl) rfl
theorem q854 : (Jvm.Cond.methodLink "LastAsked$Doctor" (7 : Nat) ({ cls := "LastAsked$Person", name := "mayAsk", desc := "()Z" } : Jvm.MethodName)) ∈ lw_all := lw_g (lw_at lw_m4 22 rfl) rfl
theorem q862 : (Jvm.Cond.selects "LastAsked$Doctor" ({ cls := "LastAsked$Person", name := "mayBeAskedBy", desc := "(I)Z" } : Jvm.MethodName) ({ cls := "LastAsked$Person", name := "mayBeAskedBy", desc := "(I)Z" } : Jvm.MethodName)) ∈ lw_all := lw_g (lw_at lw_m4 30 rfl) rfl
theorem q920 : (Jvm.Cond.selects "LastAsked$Doctor" ({ cls := "LastAsked$Person", name := "kind", desc := "()I" } : Jvm.MethodName) ({ cls := "LastAsked$Doctor", name := "kind", desc := "()I" } : Jvm.MethodName)) ∈ lw_all := lw_g (lw_at lw_m4 88 rfl) rfl
theorem q921 : (Jvm.Cond.instanceMethod ({ cls := "LastAsked$Doctor", name := "kind", desc := "()I" } : Jvm.MethodName)) ∈ lw_all := lw_g (lw_at lw_m4 89 rfl) rfl
theorem q922 : (Jvm.Cond.code ({ cls := "LastAsked$Doctor", name := "kind", desc := "()I" } : Jvm.MethodName) prog_4_method_2_code (1 : Nat) (Option.some Jvm.ClassFile.FieldType.int)) ∈ lw_all := lw_g (lw_at lw_m4 90 rfl) rfl
theorem q2113 : (Jvm.Cond.castable "LastAsked$Doctor" "java/lang/Object") ∈ lw_tbl := lw_at lw_m9 81 rfl
theorem q2120 : (Jvm.Cond.castable "LastAsked$Doctor" "LastAsked$Person") ∈ lw_tbl := lw_at lw_m9 88 rfl
theorem in_X13 : ∀ w ∈ wsX130, w ∈ lw_all := lw_in wsX130 [819, 820, 821, 822, 823, 824, 825] (by decide +kernel) (by decide +kernel)

/-! LastAskedModel$City -/
set_option maxRecDepth 100000
def RX14 : String := "LastAskedModel$City"
def TX14 : u_T := fun k => match k with
  | 0 => ("LastAskedModel$City", "hour", "I", false)
  | 1 => ("LastAskedModel$City", "gives", "I", false)
  | 2 => ("LastAskedModel$City", "people", "I", false)
  | 3 => ("LastAskedModel$City", "nears", "I", false)
  | 4 => ("LastAskedModel$City", "askeds", "I", false)
  | 5 => ("LastAskedModel$City", "heards", "I", false)
  | 6 => ("LastAskedModel$City", "wents", "I", false)
  | 7 => ("LastAskedModel$City", "kind", "[I", true)
  | 8 => ("LastAskedModel$City", "has", "[I", true)
  | 9 => ("LastAskedModel$City", "dies", "[I", true)
  | 10 => ("LastAskedModel$City", "near", "[I", true)
  | 11 => ("LastAskedModel$City", "went", "[I", true)
  | 12 => ("LastAskedModel$City", "asked", "[I", true)
  | 13 => ("LastAskedModel$City", "by", "[I", true)
  | 14 => ("LastAskedModel$City", "of", "[I", true)
  | 15 => ("LastAskedModel$City", "give", "[I", true)
  | _ => ("LastAskedModel$City", "name", "[J", true)
def tyX14 : Nat → FieldType := fun k => match k with
  | 0 => .int
  | 1 => .int
  | 2 => .int
  | 3 => .int
  | 4 => .int
  | 5 => .int
  | 6 => .int
  | 7 => .array .int
  | 8 => .array .int
  | 9 => .array .int
  | 10 => .array .int
  | 11 => .array .int
  | 12 => .array .int
  | 13 => .array .int
  | 14 => .array .int
  | 15 => .array .int
  | _ => .array .long
abbrev wsX140 : List Cond := u_ws RX14 TX14 17
set_option maxRecDepth 100000 in
theorem nmX14 : ∀ a, a < 17 → ∀ b, b < 17 → a ≠ b → (TX14 a).2.1 ≠ (TX14 b).2.1 := by decide +kernel
set_option maxRecDepth 100000 in
theorem tyX14_ok : ∀ k, k < 17 → parseFieldDescriptor (TX14 k).2.2.1 = some (tyX14 k) := by decide +kernel
abbrev cX14_init : ByteArray := prog_15_method_1_code
def yX14_init : MethodName := ⟨RX14, "<init>", "()V"⟩
def dkwX14_init_5 : List UInt8 := [42, 180, 0, 28, 27, 2, 79, 132, 1, 1, 167, 255, 240, 177]
abbrev dktX14_init_5 : List UInt8 := dkwX14_init_5 ++ []
def dkwX14_init_4 : List UInt8 := [162, 0, 16, 42, 180, 0, 31, 27, 2, 79, 132, 1, 1, 167, 255, 240, 3, 60, 27, 16, 6, 162, 0, 16]
abbrev dktX14_init_4 : List UInt8 := dkwX14_init_4 ++ dktX14_init_5
def dkwX14_init_3 : List UInt8 := [181, 0, 37, 42, 6, 188, 10, 181, 0, 40, 42, 16, 6, 188, 11, 181, 0, 43, 3, 60, 27, 16, 36]
abbrev dktX14_init_3 : List UInt8 := dkwX14_init_3 ++ dktX14_init_4
def dkwX14_init_2 : List UInt8 := [181, 0, 28, 42, 16, 36, 188, 10, 181, 0, 31, 42, 6, 188, 10, 181, 0, 34, 42, 6, 188, 10]
abbrev dktX14_init_2 : List UInt8 := dkwX14_init_2 ++ dktX14_init_3
def dkwX14_init_1 : List UInt8 := [181, 0, 19, 42, 16, 6, 188, 10, 181, 0, 22, 42, 16, 6, 188, 10, 181, 0, 25, 42, 16, 6, 188, 10]
abbrev dktX14_init_1 : List UInt8 := dkwX14_init_1 ++ dktX14_init_2
def dkwX14_init_0 : List UInt8 := [42, 183, 0, 3, 42, 2, 181, 0, 9, 42, 16, 6, 188, 10, 181, 0, 15, 42, 16, 6, 188, 10]
abbrev dktX14_init_0 : List UInt8 := dkwX14_init_0 ++ dktX14_init_1
theorem dksX14_init_0 : cX14_init.data.toList.drop 0 = dktX14_init_0 := by decide +kernel
theorem dksX14_init_1 : cX14_init.data.toList.drop 22 = dktX14_init_1 := dk_seg dksX14_init_0 22 rfl rfl
theorem dksX14_init_2 : cX14_init.data.toList.drop 46 = dktX14_init_2 := dk_seg dksX14_init_1 24 rfl rfl
theorem dksX14_init_3 : cX14_init.data.toList.drop 68 = dktX14_init_3 := dk_seg dksX14_init_2 22 rfl rfl
theorem dksX14_init_4 : cX14_init.data.toList.drop 91 = dktX14_init_4 := dk_seg dksX14_init_3 23 rfl rfl
theorem dksX14_init_5 : cX14_init.data.toList.drop 115 = dktX14_init_5 := dk_seg dksX14_init_4 24 rfl rfl
theorem dX14_init_0 : decode cX14_init 0 = .ok (.aload_n 0, 1) := dk_42 (dk_at dksX14_init_0 0 rfl rfl)
theorem dX14_init_1 : decode cX14_init 1 = .ok (.invokespecial 3, 3) := dk_183 0 3 (dk_at dksX14_init_0 1 rfl rfl)
theorem dX14_init_4 : decode cX14_init 4 = .ok (.aload_n 0, 1) := dk_42 (dk_at dksX14_init_0 4 rfl rfl)
theorem dX14_init_5 : decode cX14_init 5 = .ok (.iconst (-1), 1) := dk_2 (dk_at dksX14_init_0 5 rfl rfl)
theorem dX14_init_6 : decode cX14_init 6 = .ok (.putfield 9, 3) := dk_181 0 9 (dk_at dksX14_init_0 6 rfl rfl)
theorem dX14_init_9 : decode cX14_init 9 = .ok (.aload_n 0, 1) := dk_42 (dk_at dksX14_init_0 9 rfl rfl)
theorem dX14_init_10 : decode cX14_init 10 = .ok (.bipush 6, 2) := dk_16 6 (dk_at dksX14_init_0 10 rfl rfl)
theorem dX14_init_12 : decode cX14_init 12 = .ok (.newarray .int, 2) := dk_188_10 (dk_at dksX14_init_0 12 rfl rfl)
theorem dX14_init_14 : decode cX14_init 14 = .ok (.putfield 15, 3) := dk_181 0 15 (dk_at dksX14_init_0 14 rfl rfl)
theorem dX14_init_17 : decode cX14_init 17 = .ok (.aload_n 0, 1) := dk_42 (dk_at dksX14_init_0 17 rfl rfl)
theorem dX14_init_18 : decode cX14_init 18 = .ok (.bipush 6, 2) := dk_16 6 (dk_at dksX14_init_0 18 rfl rfl)
theorem dX14_init_20 : decode cX14_init 20 = .ok (.newarray .int, 2) := dk_188_10 (dk_at dksX14_init_0 20 rfl rfl)
theorem dX14_init_22 : decode cX14_init 22 = .ok (.putfield 19, 3) := dk_181 0 19 (dk_at dksX14_init_1 0 rfl rfl)
theorem dX14_init_25 : decode cX14_init 25 = .ok (.aload_n 0, 1) := dk_42 (dk_at dksX14_init_1 3 rfl rfl)
theorem dX14_init_26 : decode cX14_init 26 = .ok (.bipush 6, 2) := dk_16 6 (dk_at dksX14_init_1 4 rfl rfl)
theorem dX14_init_28 : decode cX14_init 28 = .ok (.newarray .int, 2) := dk_188_10 (dk_at dksX14_init_1 6 rfl rfl)
theorem dX14_init_30 : decode cX14_init 30 = .ok (.putfield 22, 3) := dk_181 0 22 (dk_at dksX14_init_1 8 rfl rfl)
theorem dX14_init_33 : decode cX14_init 33 = .ok (.aload_n 0, 1) := dk_42 (dk_at dksX14_init_1 11 rfl rfl)
theorem dX14_init_34 : decode cX14_init 34 = .ok (.bipush 6, 2) := dk_16 6 (dk_at dksX14_init_1 12 rfl rfl)
theorem dX14_init_36 : decode cX14_init 36 = .ok (.newarray .int, 2) := dk_188_10 (dk_at dksX14_init_1 14 rfl rfl)
theorem dX14_init_38 : decode cX14_init 38 = .ok (.putfield 25, 3) := dk_181 0 25 (dk_at dksX14_init_1 16 rfl rfl)
theorem dX14_init_41 : decode cX14_init 41 = .ok (.aload_n 0, 1) := dk_42 (dk_at dksX14_init_1 19 rfl rfl)
theorem dX14_init_42 : decode cX14_init 42 = .ok (.bipush 6, 2) := dk_16 6 (dk_at dksX14_init_1 20 rfl rfl)
theorem dX14_init_44 : decode cX14_init 44 = .ok (.newarray .int, 2) := dk_188_10 (dk_at dksX14_init_1 22 rfl rfl)
theorem dX14_init_46 : decode cX14_init 46 = .ok (.putfield 28, 3) := dk_181 0 28 (dk_at dksX14_init_2 0 rfl rfl)
theorem dX14_init_49 : decode cX14_init 49 = .ok (.aload_n 0, 1) := dk_42 (dk_at dksX14_init_2 3 rfl rfl)
theorem dX14_init_50 : decode cX14_init 50 = .ok (.bipush 36, 2) := dk_16 36 (dk_at dksX14_init_2 4 rfl rfl)
theorem dX14_init_52 : decode cX14_init 52 = .ok (.newarray .int, 2) := dk_188_10 (dk_at dksX14_init_2 6 rfl rfl)
theorem dX14_init_54 : decode cX14_init 54 = .ok (.putfield 31, 3) := dk_181 0 31 (dk_at dksX14_init_2 8 rfl rfl)
theorem dX14_init_57 : decode cX14_init 57 = .ok (.aload_n 0, 1) := dk_42 (dk_at dksX14_init_2 11 rfl rfl)
theorem dX14_init_58 : decode cX14_init 58 = .ok (.iconst 3, 1) := dk_6 (dk_at dksX14_init_2 12 rfl rfl)
theorem dX14_init_59 : decode cX14_init 59 = .ok (.newarray .int, 2) := dk_188_10 (dk_at dksX14_init_2 13 rfl rfl)
theorem dX14_init_61 : decode cX14_init 61 = .ok (.putfield 34, 3) := dk_181 0 34 (dk_at dksX14_init_2 15 rfl rfl)
theorem dX14_init_64 : decode cX14_init 64 = .ok (.aload_n 0, 1) := dk_42 (dk_at dksX14_init_2 18 rfl rfl)
theorem dX14_init_65 : decode cX14_init 65 = .ok (.iconst 3, 1) := dk_6 (dk_at dksX14_init_2 19 rfl rfl)
theorem dX14_init_66 : decode cX14_init 66 = .ok (.newarray .int, 2) := dk_188_10 (dk_at dksX14_init_2 20 rfl rfl)
theorem dX14_init_68 : decode cX14_init 68 = .ok (.putfield 37, 3) := dk_181 0 37 (dk_at dksX14_init_3 0 rfl rfl)
theorem dX14_init_71 : decode cX14_init 71 = .ok (.aload_n 0, 1) := dk_42 (dk_at dksX14_init_3 3 rfl rfl)
theorem dX14_init_72 : decode cX14_init 72 = .ok (.iconst 3, 1) := dk_6 (dk_at dksX14_init_3 4 rfl rfl)
theorem dX14_init_73 : decode cX14_init 73 = .ok (.newarray .int, 2) := dk_188_10 (dk_at dksX14_init_3 5 rfl rfl)
theorem dX14_init_75 : decode cX14_init 75 = .ok (.putfield 40, 3) := dk_181 0 40 (dk_at dksX14_init_3 7 rfl rfl)
theorem dX14_init_78 : decode cX14_init 78 = .ok (.aload_n 0, 1) := dk_42 (dk_at dksX14_init_3 10 rfl rfl)
theorem dX14_init_79 : decode cX14_init 79 = .ok (.bipush 6, 2) := dk_16 6 (dk_at dksX14_init_3 11 rfl rfl)
theorem dX14_init_81 : decode cX14_init 81 = .ok (.newarray .long, 2) := dk_188_11 (dk_at dksX14_init_3 13 rfl rfl)
theorem dX14_init_83 : decode cX14_init 83 = .ok (.putfield 43, 3) := dk_181 0 43 (dk_at dksX14_init_3 15 rfl rfl)
theorem dX14_init_86 : decode cX14_init 86 = .ok (.iconst 0, 1) := dk_3 (dk_at dksX14_init_3 18 rfl rfl)
theorem dX14_init_87 : decode cX14_init 87 = .ok (.istore_n 1, 1) := dk_60 (dk_at dksX14_init_3 19 rfl rfl)
theorem dX14_init_88 : decode cX14_init 88 = .ok (.iload_n 1, 1) := dk_27 (dk_at dksX14_init_3 20 rfl rfl)
theorem dX14_init_89 : decode cX14_init 89 = .ok (.bipush 36, 2) := dk_16 36 (dk_at dksX14_init_3 21 rfl rfl)
theorem dX14_init_91 : decode cX14_init 91 = .ok (.if_icmp .ge 16, 3) := dk_162 0 16 (dk_at dksX14_init_4 0 rfl rfl)
theorem dX14_init_94 : decode cX14_init 94 = .ok (.aload_n 0, 1) := dk_42 (dk_at dksX14_init_4 3 rfl rfl)
theorem dX14_init_95 : decode cX14_init 95 = .ok (.getfield 31, 3) := dk_180 0 31 (dk_at dksX14_init_4 4 rfl rfl)
theorem dX14_init_98 : decode cX14_init 98 = .ok (.iload_n 1, 1) := dk_27 (dk_at dksX14_init_4 7 rfl rfl)
theorem dX14_init_99 : decode cX14_init 99 = .ok (.iconst (-1), 1) := dk_2 (dk_at dksX14_init_4 8 rfl rfl)
theorem dX14_init_100 : decode cX14_init 100 = .ok (.iastore, 1) := dk_79 (dk_at dksX14_init_4 9 rfl rfl)
theorem dX14_init_101 : decode cX14_init 101 = .ok (.iinc 1 1, 3) := dk_132 1 1 (dk_at dksX14_init_4 10 rfl rfl)
theorem dX14_init_104 : decode cX14_init 104 = .ok (.goto (-16), 3) := dk_167 255 240 (dk_at dksX14_init_4 13 rfl rfl)
theorem dX14_init_107 : decode cX14_init 107 = .ok (.iconst 0, 1) := dk_3 (dk_at dksX14_init_4 16 rfl rfl)
theorem dX14_init_108 : decode cX14_init 108 = .ok (.istore_n 1, 1) := dk_60 (dk_at dksX14_init_4 17 rfl rfl)
theorem dX14_init_109 : decode cX14_init 109 = .ok (.iload_n 1, 1) := dk_27 (dk_at dksX14_init_4 18 rfl rfl)
theorem dX14_init_110 : decode cX14_init 110 = .ok (.bipush 6, 2) := dk_16 6 (dk_at dksX14_init_4 19 rfl rfl)
theorem dX14_init_112 : decode cX14_init 112 = .ok (.if_icmp .ge 16, 3) := dk_162 0 16 (dk_at dksX14_init_4 21 rfl rfl)
theorem dX14_init_115 : decode cX14_init 115 = .ok (.aload_n 0, 1) := dk_42 (dk_at dksX14_init_5 0 rfl rfl)
theorem dX14_init_116 : decode cX14_init 116 = .ok (.getfield 28, 3) := dk_180 0 28 (dk_at dksX14_init_5 1 rfl rfl)
theorem dX14_init_119 : decode cX14_init 119 = .ok (.iload_n 1, 1) := dk_27 (dk_at dksX14_init_5 4 rfl rfl)
theorem dX14_init_120 : decode cX14_init 120 = .ok (.iconst (-1), 1) := dk_2 (dk_at dksX14_init_5 5 rfl rfl)
theorem dX14_init_121 : decode cX14_init 121 = .ok (.iastore, 1) := dk_79 (dk_at dksX14_init_5 6 rfl rfl)
theorem dX14_init_122 : decode cX14_init 122 = .ok (.iinc 1 1, 3) := dk_132 1 1 (dk_at dksX14_init_5 7 rfl rfl)
theorem dX14_init_125 : decode cX14_init 125 = .ok (.goto (-16), 3) := dk_167 255 240 (dk_at dksX14_init_5 10 rfl rfl)
theorem dX14_init_128 : decode cX14_init 128 = .ok (.return_, 1) := dk_177 (dk_at dksX14_init_5 13 rfl rfl)
abbrev cX14_find : ByteArray := prog_15_method_2_code
def yX14_find : MethodName := ⟨RX14, "find", "(J)I"⟩
def dkwX14_find_1 : List UInt8 := [132, 3, 1, 167, 255, 232, 2, 172]
abbrev dktX14_find_1 : List UInt8 := dkwX14_find_1 ++ []
def dkwX14_find_0 : List UInt8 := [3, 62, 29, 42, 180, 0, 47, 162, 0, 22, 42, 180, 0, 43, 29, 47, 31, 148, 154, 0, 5, 29, 172]
abbrev dktX14_find_0 : List UInt8 := dkwX14_find_0 ++ dktX14_find_1
theorem dksX14_find_0 : cX14_find.data.toList.drop 0 = dktX14_find_0 := by decide +kernel
theorem dksX14_find_1 : cX14_find.data.toList.drop 23 = dktX14_find_1 := dk_seg dksX14_find_0 23 rfl rfl
theorem dX14_find_0 : decode cX14_find 0 = .ok (.iconst 0, 1) := dk_3 (dk_at dksX14_find_0 0 rfl rfl)
theorem dX14_find_1 : decode cX14_find 1 = .ok (.istore_n 3, 1) := dk_62 (dk_at dksX14_find_0 1 rfl rfl)
theorem dX14_find_2 : decode cX14_find 2 = .ok (.iload_n 3, 1) := dk_29 (dk_at dksX14_find_0 2 rfl rfl)
theorem dX14_find_3 : decode cX14_find 3 = .ok (.aload_n 0, 1) := dk_42 (dk_at dksX14_find_0 3 rfl rfl)
theorem dX14_find_4 : decode cX14_find 4 = .ok (.getfield 47, 3) := dk_180 0 47 (dk_at dksX14_find_0 4 rfl rfl)
theorem dX14_find_7 : decode cX14_find 7 = .ok (.if_icmp .ge 22, 3) := dk_162 0 22 (dk_at dksX14_find_0 7 rfl rfl)
theorem dX14_find_10 : decode cX14_find 10 = .ok (.aload_n 0, 1) := dk_42 (dk_at dksX14_find_0 10 rfl rfl)
theorem dX14_find_11 : decode cX14_find 11 = .ok (.getfield 43, 3) := dk_180 0 43 (dk_at dksX14_find_0 11 rfl rfl)
theorem dX14_find_14 : decode cX14_find 14 = .ok (.iload_n 3, 1) := dk_29 (dk_at dksX14_find_0 14 rfl rfl)
theorem dX14_find_15 : decode cX14_find 15 = .ok (.laload, 1) := dk_47 (dk_at dksX14_find_0 15 rfl rfl)
theorem dX14_find_16 : decode cX14_find 16 = .ok (.lload_n 1, 1) := dk_31 (dk_at dksX14_find_0 16 rfl rfl)
theorem dX14_find_17 : decode cX14_find 17 = .ok (.lcmp, 1) := dk_148 (dk_at dksX14_find_0 17 rfl rfl)
theorem dX14_find_18 : decode cX14_find 18 = .ok (.ifCond .ne 5, 3) := dk_154 0 5 (dk_at dksX14_find_0 18 rfl rfl)
theorem dX14_find_21 : decode cX14_find 21 = .ok (.iload_n 3, 1) := dk_29 (dk_at dksX14_find_0 21 rfl rfl)
theorem dX14_find_22 : decode cX14_find 22 = .ok (.ireturn, 1) := dk_172 (dk_at dksX14_find_0 22 rfl rfl)
theorem dX14_find_23 : decode cX14_find 23 = .ok (.iinc 3 1, 3) := dk_132 3 1 (dk_at dksX14_find_1 0 rfl rfl)
theorem dX14_find_26 : decode cX14_find 26 = .ok (.goto (-24), 3) := dk_167 255 232 (dk_at dksX14_find_1 3 rfl rfl)
theorem dX14_find_29 : decode cX14_find 29 = .ok (.iconst (-1), 1) := dk_2 (dk_at dksX14_find_1 6 rfl rfl)
theorem dX14_find_30 : decode cX14_find 30 = .ok (.ireturn, 1) := dk_172 (dk_at dksX14_find_1 7 rfl rfl)
abbrev cX14_mayAsk : ByteArray := prog_15_method_3_code
def yX14_mayAsk : MethodName := ⟨RX14, "mayAsk", "(II)Z"⟩
def dkwX14_mayAsk_2 : List UInt8 := [172]
abbrev dktX14_mayAsk_2 : List UInt8 := dkwX14_mayAsk_2 ++ []
def dkwX14_mayAsk_1 : List UInt8 := [28, 46, 5, 160, 0, 16, 42, 180, 0, 25, 28, 46, 27, 184, 0, 50, 153, 0, 7, 4, 167, 0, 4, 3]
abbrev dktX14_mayAsk_1 : List UInt8 := dkwX14_mayAsk_1 ++ dktX14_mayAsk_2
def dkwX14_mayAsk_0 : List UInt8 := [42, 180, 0, 15, 27, 46, 6, 159, 0, 40, 42, 180, 0, 15, 28, 46, 4, 159, 0, 30, 42, 180, 0, 15]
abbrev dktX14_mayAsk_0 : List UInt8 := dkwX14_mayAsk_0 ++ dktX14_mayAsk_1
theorem dksX14_mayAsk_0 : cX14_mayAsk.data.toList.drop 0 = dktX14_mayAsk_0 := by decide +kernel
theorem dksX14_mayAsk_1 : cX14_mayAsk.data.toList.drop 24 = dktX14_mayAsk_1 := dk_seg dksX14_mayAsk_0 24 rfl rfl
theorem dksX14_mayAsk_2 : cX14_mayAsk.data.toList.drop 48 = dktX14_mayAsk_2 := dk_seg dksX14_mayAsk_1 24 rfl rfl
theorem dX14_mayAsk_0 : decode cX14_mayAsk 0 = .ok (.aload_n 0, 1) := dk_42 (dk_at dksX14_mayAsk_0 0 rfl rfl)
theorem dX14_mayAsk_1 : decode cX14_mayAsk 1 = .ok (.getfield 15, 3) := dk_180 0 15 (dk_at dksX14_mayAsk_0 1 rfl rfl)
theorem dX14_mayAsk_4 : decode cX14_mayAsk 4 = .ok (.iload_n 1, 1) := dk_27 (dk_at dksX14_mayAsk_0 4 rfl rfl)
theorem dX14_mayAsk_5 : decode cX14_mayAsk 5 = .ok (.iaload, 1) := dk_46 (dk_at dksX14_mayAsk_0 5 rfl rfl)
theorem dX14_mayAsk_6 : decode cX14_mayAsk 6 = .ok (.iconst 3, 1) := dk_6 (dk_at dksX14_mayAsk_0 6 rfl rfl)
theorem dX14_mayAsk_7 : decode cX14_mayAsk 7 = .ok (.if_icmp .eq 40, 3) := dk_159 0 40 (dk_at dksX14_mayAsk_0 7 rfl rfl)
theorem dX14_mayAsk_10 : decode cX14_mayAsk 10 = .ok (.aload_n 0, 1) := dk_42 (dk_at dksX14_mayAsk_0 10 rfl rfl)
theorem dX14_mayAsk_11 : decode cX14_mayAsk 11 = .ok (.getfield 15, 3) := dk_180 0 15 (dk_at dksX14_mayAsk_0 11 rfl rfl)
theorem dX14_mayAsk_14 : decode cX14_mayAsk 14 = .ok (.iload_n 2, 1) := dk_28 (dk_at dksX14_mayAsk_0 14 rfl rfl)
theorem dX14_mayAsk_15 : decode cX14_mayAsk 15 = .ok (.iaload, 1) := dk_46 (dk_at dksX14_mayAsk_0 15 rfl rfl)
theorem dX14_mayAsk_16 : decode cX14_mayAsk 16 = .ok (.iconst 1, 1) := dk_4 (dk_at dksX14_mayAsk_0 16 rfl rfl)
theorem dX14_mayAsk_17 : decode cX14_mayAsk 17 = .ok (.if_icmp .eq 30, 3) := dk_159 0 30 (dk_at dksX14_mayAsk_0 17 rfl rfl)
theorem dX14_mayAsk_20 : decode cX14_mayAsk 20 = .ok (.aload_n 0, 1) := dk_42 (dk_at dksX14_mayAsk_0 20 rfl rfl)
theorem dX14_mayAsk_21 : decode cX14_mayAsk 21 = .ok (.getfield 15, 3) := dk_180 0 15 (dk_at dksX14_mayAsk_0 21 rfl rfl)
theorem dX14_mayAsk_24 : decode cX14_mayAsk 24 = .ok (.iload_n 2, 1) := dk_28 (dk_at dksX14_mayAsk_1 0 rfl rfl)
theorem dX14_mayAsk_25 : decode cX14_mayAsk 25 = .ok (.iaload, 1) := dk_46 (dk_at dksX14_mayAsk_1 1 rfl rfl)
theorem dX14_mayAsk_26 : decode cX14_mayAsk 26 = .ok (.iconst 2, 1) := dk_5 (dk_at dksX14_mayAsk_1 2 rfl rfl)
theorem dX14_mayAsk_27 : decode cX14_mayAsk 27 = .ok (.if_icmp .ne 16, 3) := dk_160 0 16 (dk_at dksX14_mayAsk_1 3 rfl rfl)
theorem dX14_mayAsk_30 : decode cX14_mayAsk 30 = .ok (.aload_n 0, 1) := dk_42 (dk_at dksX14_mayAsk_1 6 rfl rfl)
theorem dX14_mayAsk_31 : decode cX14_mayAsk 31 = .ok (.getfield 25, 3) := dk_180 0 25 (dk_at dksX14_mayAsk_1 7 rfl rfl)
theorem dX14_mayAsk_34 : decode cX14_mayAsk 34 = .ok (.iload_n 2, 1) := dk_28 (dk_at dksX14_mayAsk_1 10 rfl rfl)
theorem dX14_mayAsk_35 : decode cX14_mayAsk 35 = .ok (.iaload, 1) := dk_46 (dk_at dksX14_mayAsk_1 11 rfl rfl)
theorem dX14_mayAsk_36 : decode cX14_mayAsk 36 = .ok (.iload_n 1, 1) := dk_27 (dk_at dksX14_mayAsk_1 12 rfl rfl)
theorem dX14_mayAsk_37 : decode cX14_mayAsk 37 = .ok (.invokestatic 50, 3) := dk_184 0 50 (dk_at dksX14_mayAsk_1 13 rfl rfl)
theorem dX14_mayAsk_40 : decode cX14_mayAsk 40 = .ok (.ifCond .eq 7, 3) := dk_153 0 7 (dk_at dksX14_mayAsk_1 16 rfl rfl)
theorem dX14_mayAsk_43 : decode cX14_mayAsk 43 = .ok (.iconst 1, 1) := dk_4 (dk_at dksX14_mayAsk_1 19 rfl rfl)
theorem dX14_mayAsk_44 : decode cX14_mayAsk 44 = .ok (.goto 4, 3) := dk_167 0 4 (dk_at dksX14_mayAsk_1 20 rfl rfl)
theorem dX14_mayAsk_47 : decode cX14_mayAsk 47 = .ok (.iconst 0, 1) := dk_3 (dk_at dksX14_mayAsk_1 23 rfl rfl)
theorem dX14_mayAsk_48 : decode cX14_mayAsk 48 = .ok (.ireturn, 1) := dk_172 (dk_at dksX14_mayAsk_2 0 rfl rfl)
theorem q135 : (Jvm.Cond.initialized "LastAskedModel$City") ∈ lw_all := lw_g (lw_at lw_m1 23 rfl) rfl
theorem q1501 : (Jvm.Cond.instantiable "LastAskedModel$City" (17 : Nat)) ∈ lw_all := lw_g (lw_at lw_m6 189 rfl) rfl
theorem q1503 : (Jvm.Cond.instanceMethod ({ cls := "LastAskedModel$City", name := "<init>", desc := "()V" } : Jvm.MethodName)) ∈ lw_all := lw_g (lw_at lw_m6 191 rfl) rfl
theorem q1504 : (Jvm.Cond.code ({ cls := "LastAskedModel$City", name := "<init>", desc := "()V" } : Jvm.MethodName) prog_15_method_1_code (2 : Nat) (Option.none : Option Jvm.ClassFile.FieldType)) ∈ lw_all := lw_g (lw_at lw_m6 192 rfl) rfl
theorem q1505 : (Jvm.Cond.methodLink "LastAskedModel$City" (3 : Nat) ({ cls := "java/lang/Object", name := "<init>", desc := "()V" } : Jvm.MethodName)) ∈ lw_all := lw_g (lw_at lw_m6 193 rfl) rfl
theorem q1506 : (Jvm.Cond.fieldLink "LastAskedModel$City" (9 : Nat) "LastAskedModel$City" "hour" "I") ∈ lw_all := lw_g (lw_at lw_m6 194 rfl) rfl
theorem q1509 : (Jvm.Cond.fieldLink "LastAskedModel$City" (47 : Nat) "LastAskedModel$City" "people" "I") ∈ lw_all := lw_g (lw_at lw_m6 197 rfl) rfl
theorem q1515 : (Jvm.Cond.fieldLink "LastAskedModel$City" (15 : Nat) "LastAskedModel$City" "kind" "[I") ∈ lw_all := lw_g (lw_at lw_m6 203 rfl) rfl
theorem q1517 : (Jvm.Cond.fieldLink "LastAskedModel$City" (19 : Nat) "LastAskedModel$City" "has" "[I") ∈ lw_all := lw_g (lw_at lw_m6 205 rfl) rfl
theorem q1519 : (Jvm.Cond.fieldLink "LastAskedModel$City" (22 : Nat) "LastAskedModel$City" "dies" "[I") ∈ lw_all := lw_g (lw_at lw_m6 207 rfl) rfl
theorem q1521 : (Jvm.Cond.fieldLink "LastAskedModel$City" (25 : Nat) "LastAskedModel$City" "near" "[I") ∈ lw_all := lw_g (lw_at lw_m6 209 rfl) rfl
theorem q1523 : (Jvm.Cond.fieldLink "LastAskedModel$City" (28 : Nat) "LastAskedModel$City" "went" "[I") ∈ lw_all := lw_g (lw_at lw_m6 211 rfl) rfl
theorem q1525 : (Jvm.Cond.fieldLink "LastAskedModel$City" (31 : Nat) "LastAskedModel$City" "asked" "[I") ∈ lw_all := lw_g (lw_at lw_m6 213 rfl) rfl
theorem q1527 : (Jvm.Cond.fieldLink "LastAskedModel$City" (34 : Nat) "LastAskedModel$City" "by" "[I") ∈ lw_all := lw_g (lw_at lw_m6 215 rfl) rfl
theorem q1529 : (Jvm.Cond.fieldLink "LastAskedModel$City" (37 : Nat) "LastAskedModel$City" "of" "[I") ∈ lw_all := lw_g (lw_at lw_m6 217 rfl) rfl
theorem q1531 : (Jvm.Cond.fieldLink "LastAskedModel$City" (40 : Nat) "LastAskedModel$City" "give" "[I") ∈ lw_all := lw_g (lw_at lw_m6 219 rfl) rfl
theorem q1533 : (Jvm.Cond.fieldLink "LastAskedModel$City" (43 : Nat) "LastAskedModel$City" "name" "[J") ∈ lw_all := lw_g (lw_at lw_m6 221 rfl) rfl
theorem q1535 : (Jvm.Cond.lays "LastAskedModel$City" "LastAskedModel$City" "hour" "I") ∈ lw_all := lw_g (lw_at lw_m6 223 rfl) rfl
theorem q1536 : (Jvm.Cond.soleField "LastAskedModel$City" "hour") ∈ lw_all := lw_g (lw_at lw_m6 224 rfl) rfl
theorem q1537 : (Jvm.Cond.lays "LastAskedModel$City" "LastAskedModel$City" "gives" "I") ∈ lw_all := lw_g (lw_at lw_m6 225 rfl) rfl
theorem q1538 : (Jvm.Cond.soleField "LastAskedModel$City" "gives") ∈ lw_all := lw_g (lw_at lw_m6 226 rfl) rfl
theorem q1539 : (Jvm.Cond.lays "LastAskedModel$City" "LastAskedModel$City" "people" "I") ∈ lw_all := lw_g (lw_at lw_m6 227 rfl) rfl
theorem q1540 : (Jvm.Cond.soleField "LastAskedModel$City" "people") ∈ lw_all := lw_g (lw_at lw_m6 228 rfl) rfl
theorem q1541 : (Jvm.Cond.lays "LastAskedModel$City" "LastAskedModel$City" "nears" "I") ∈ lw_all := lw_g (lw_at lw_m6 229 rfl) rfl
theorem q1542 : (Jvm.Cond.soleField "LastAskedModel$City" "nears") ∈ lw_all := lw_g (lw_at lw_m6 230 rfl) rfl
theorem q1543 : (Jvm.Cond.lays "LastAskedModel$City" "LastAskedModel$City" "askeds" "I") ∈ lw_all := lw_g (lw_at lw_m6 231 rfl) rfl
theorem q1544 : (Jvm.Cond.soleField "LastAskedModel$City" "askeds") ∈ lw_all := lw_g (lw_at lw_m6 232 rfl) rfl
theorem q1545 : (Jvm.Cond.lays "LastAskedModel$City" "LastAskedModel$City" "heards" "I") ∈ lw_all := lw_g (lw_at lw_m6 233 rfl) rfl
theorem q1546 : (Jvm.Cond.soleField "LastAskedModel$City" "heards") ∈ lw_all := lw_g (lw_at lw_m6 234 rfl) rfl
theorem q1547 : (Jvm.Cond.lays "LastAskedModel$City" "LastAskedModel$City" "wents" "I") ∈ lw_all := lw_g (lw_at lw_m6 235 rfl) rfl
theorem q1548 : (Jvm.Cond.soleField "LastAskedModel$City" "wents") ∈ lw_all := lw_g (lw_at lw_m6 236 rfl) rfl
theorem q1549 : (Jvm.Cond.laysFinal "LastAskedModel$City" "LastAskedModel$City" "kind" "[I") ∈ lw_all := lw_g (lw_at lw_m6 237 rfl) rfl
theorem q1550 : (Jvm.Cond.soleField "LastAskedModel$City" "kind") ∈ lw_all := lw_g (lw_at lw_m6 238 rfl) rfl
theorem q1551 : (Jvm.Cond.laysFinal "LastAskedModel$City" "LastAskedModel$City" "has" "[I") ∈ lw_all := lw_g (lw_at lw_m6 239 rfl) rfl
theorem q1552 : (Jvm.Cond.soleField "LastAskedModel$City" "has") ∈ lw_all := lw_g (lw_at lw_m7 0 rfl) rfl
theorem q1553 : (Jvm.Cond.laysFinal "LastAskedModel$City" "LastAskedModel$City" "dies" "[I") ∈ lw_all := lw_g (lw_at lw_m7 1 rfl) rfl
theorem q1554 : (Jvm.Cond.soleField "LastAskedModel$City" "dies") ∈ lw_all := lw_g (lw_at lw_m7 2 rfl) rfl
theorem q1555 : (Jvm.Cond.laysFinal "LastAskedModel$City" "LastAskedModel$City" "near" "[I") ∈ lw_all := lw_g (lw_at lw_m7 3 rfl) rfl
theorem q1556 : (Jvm.Cond.soleField "LastAskedModel$City" "near") ∈ lw_all := lw_g (lw_at lw_m7 4 rfl) rfl
theorem q1557 : (Jvm.Cond.laysFinal "LastAskedModel$City" "LastAskedModel$City" "went" "[I") ∈ lw_all := lw_g (lw_at lw_m7 5 rfl) rfl
theorem q1558 : (Jvm.Cond.soleField "LastAskedModel$City" "went") ∈ lw_all := lw_g (lw_at lw_m7 6 rfl) rfl
theorem q1559 : (Jvm.Cond.laysFinal "LastAskedModel$City" "LastAskedModel$City" "asked" "[I") ∈ lw_all := lw_g (lw_at lw_m7 7 rfl) rfl
theorem q1560 : (Jvm.Cond.soleField "LastAskedModel$City" "asked") ∈ lw_all := lw_g (lw_at lw_m7 8 rfl) rfl
theorem q1561 : (Jvm.Cond.laysFinal "LastAskedModel$City" "LastAskedModel$City" "by" "[I") ∈ lw_all := lw_g (lw_at lw_m7 9 rfl) rfl
theorem q1562 : (Jvm.Cond.soleField "LastAskedModel$City" "by") ∈ lw_all := lw_g (lw_at lw_m7 10 rfl) rfl
theorem q1563 : (Jvm.Cond.laysFinal "LastAskedModel$City" "LastAskedModel$City" "of" "[I") ∈ lw_all := lw_g (lw_at lw_m7 11 rfl) rfl
theorem q1564 : (Jvm.Cond.soleField "LastAskedModel$City" "of") ∈ lw_all := lw_g (lw_at lw_m7 12 rfl) rfl
theorem q1565 : (Jvm.Cond.laysFinal "LastAskedModel$City" "LastAskedModel$City" "give" "[I") ∈ lw_all := lw_g (lw_at lw_m7 13 rfl) rfl
theorem q1566 : (Jvm.Cond.soleField "LastAskedModel$City" "give") ∈ lw_all := lw_g (lw_at lw_m7 14 rfl) rfl
theorem q1567 : (Jvm.Cond.laysFinal "LastAskedModel$City" "LastAskedModel$City" "name" "[J") ∈ lw_all := lw_g (lw_at lw_m7 15 rfl) rfl
theorem q1568 : (Jvm.Cond.soleField "LastAskedModel$City" "name") ∈ lw_all := lw_g (lw_at lw_m7 16 rfl) rfl
theorem q1569 : (Jvm.Cond.superclass "LastAskedModel$City" "java/lang/Object") ∈ lw_all := lw_g (lw_at lw_m7 17 rfl) rfl
theorem q1666 : (Jvm.Cond.instanceMethod ({ cls := "LastAskedModel$City", name := "find", desc := "(J)I" } : Jvm.MethodName)) ∈ lw_all := lw_g (lw_at lw_m7 114 rfl) rfl
theorem q1667 : (Jvm.Cond.selects "LastAskedModel$City" ({ cls := "LastAskedModel$City", name := "find", desc := "(J)I" } : Jvm.MethodName) ({ cls := "LastAskedModel$City", name := "find", desc := "(J)I" } : Jvm.MethodName)) ∈ lw_all := lw_g (lw_at lw_m7 115 rfl) rfl
theorem q1668 : (Jvm.Cond.code ({ cls := "LastAskedModel$City", name := "find", desc := "(J)I" } : Jvm.MethodName) prog_15_method_2_code (4 : Nat) (Option.some Jvm.ClassFile.FieldType.int)) ∈ lw_all := lw_g (lw_at lw_m7 116 rfl) rfl
theorem q1695 : (Jvm.Cond.instanceMethod ({ cls := "LastAskedModel$City", name := "mayAsk", desc := "(II)Z" } : Jvm.MethodName)) ∈ lw_all := lw_g (lw_at lw_m7 143 rfl) rfl
theorem q1696 : (Jvm.Cond.selects "LastAskedModel$City" ({ cls := "LastAskedModel$City", name := "mayAsk", desc := "(II)Z" } : Jvm.MethodName) ({ cls := "LastAskedModel$City", name := "mayAsk", desc := "(II)Z" } : Jvm.MethodName)) ∈ lw_all := lw_g (lw_at lw_m7 144 rfl) rfl
theorem q1697 : (Jvm.Cond.code ({ cls := "LastAskedModel$City", name := "mayAsk", desc := "(II)Z" } : Jvm.MethodName) prog_15_method_3_code (3 : Nat) (Option.some Jvm.ClassFile.FieldType.boolean)) ∈ lw_all := lw_g (lw_at lw_m7 145 rfl) rfl
theorem q1698 : (Jvm.Cond.methodLinkNest "LastAskedModel$City" (50 : Nat) ({ cls := "LastAskedModel", name := "bit", desc := "(II)Z" } : Jvm.MethodName) "LastAskedModel") ∈ lw_tbl := lw_at lw_m7 146 rfl
theorem q2114 : (Jvm.Cond.castable "LastAskedModel$City" "java/lang/Object") ∈ lw_tbl := lw_at lw_m9 82 rfl
theorem in_X14 : ∀ w ∈ wsX140, w ∈ lw_all := lw_in wsX140 [1535, 1537, 1539, 1541, 1543, 1545, 1547, 1549, 1551, 1553, 1555, 1557, 1559, 1561, 1563, 1565, 1567] (by decide +kernel) (by decide +kernel)

/-! LastAsked$Scanner -/
set_option maxRecDepth 100000
def RX2 : String := "LastAsked$Scanner"
def TX2 : u_T := fun k => match k with
  | 0 => ("LastAsked$Scanner", "wrong", "LLastAsked$Refused;", true)
  | 1 => ("LastAsked$Scanner", "text", "[B", true)
  | 2 => ("LastAsked$Scanner", "letters", "[C", true)
  | 3 => ("LastAsked$Scanner", "size", "I", false)
  | 4 => ("LastAsked$Scanner", "end", "I", false)
  | 5 => ("LastAsked$Scanner", "token", "I", false)
  | 6 => ("LastAsked$Scanner", "at", "I", false)
  | 7 => ("LastAsked$Scanner", "whole", "I", false)
  | 8 => ("LastAsked$Scanner", "word", "Ljava/lang/String;", false)
  | 9 => ("LastAsked$Scanner", "city", "LLastAsked$City;", false)
  | _ => ("LastAsked$Scanner", "asker", "LLastAsked$Person;", false)
def tyX2 : Nat → FieldType := fun k => match k with
  | 0 => .object "LastAsked$Refused"
  | 1 => .array .byte
  | 2 => .array .char
  | 3 => .int
  | 4 => .int
  | 5 => .int
  | 6 => .int
  | 7 => .int
  | 8 => .object "java/lang/String"
  | 9 => .object "LastAsked$City"
  | _ => .object "LastAsked$Person"
abbrev wsX20 : List Cond := u_ws RX2 TX2 11
theorem nmX2 : ∀ a, a < 11 → ∀ b, b < 11 → a ≠ b → (TX2 a).2.1 ≠ (TX2 b).2.1 := by decide +kernel
theorem tyX2_ok : ∀ k, k < 11 → parseFieldDescriptor (TX2 k).2.2.1 = some (tyX2 k) := by decide +kernel
abbrev cX2_init : ByteArray := prog_9_method_1_code
def yX2_init : MethodName := ⟨RX2, "<init>", "([B)V"⟩
def dkwX2_init_1 : List UInt8 := [43, 181, 0, 22, 177]
abbrev dktX2_init_1 : List UInt8 := dkwX2_init_1 ++ []
def dkwX2_init_0 : List UInt8 := [42, 183, 0, 3, 42, 187, 0, 9, 89, 183, 0, 11, 181, 0, 12, 42, 16, 8, 188, 5, 181, 0, 18, 42]
abbrev dktX2_init_0 : List UInt8 := dkwX2_init_0 ++ dktX2_init_1
theorem dksX2_init_0 : cX2_init.data.toList.drop 0 = dktX2_init_0 := by decide +kernel
theorem dksX2_init_1 : cX2_init.data.toList.drop 24 = dktX2_init_1 := dk_seg dksX2_init_0 24 rfl rfl
theorem dX2_init_0 : decode cX2_init 0 = .ok (.aload_n 0, 1) := dk_42 (dk_at dksX2_init_0 0 rfl rfl)
theorem dX2_init_1 : decode cX2_init 1 = .ok (.invokespecial 3, 3) := dk_183 0 3 (dk_at dksX2_init_0 1 rfl rfl)
theorem dX2_init_4 : decode cX2_init 4 = .ok (.aload_n 0, 1) := dk_42 (dk_at dksX2_init_0 4 rfl rfl)
theorem dX2_init_5 : decode cX2_init 5 = .ok (.new 9, 3) := dk_187 0 9 (dk_at dksX2_init_0 5 rfl rfl)
theorem dX2_init_8 : decode cX2_init 8 = .ok (.dup, 1) := dk_89 (dk_at dksX2_init_0 8 rfl rfl)
theorem dX2_init_9 : decode cX2_init 9 = .ok (.invokespecial 11, 3) := dk_183 0 11 (dk_at dksX2_init_0 9 rfl rfl)
theorem dX2_init_12 : decode cX2_init 12 = .ok (.putfield 12, 3) := dk_181 0 12 (dk_at dksX2_init_0 12 rfl rfl)
theorem dX2_init_15 : decode cX2_init 15 = .ok (.aload_n 0, 1) := dk_42 (dk_at dksX2_init_0 15 rfl rfl)
theorem dX2_init_16 : decode cX2_init 16 = .ok (.bipush 8, 2) := dk_16 8 (dk_at dksX2_init_0 16 rfl rfl)
theorem dX2_init_18 : decode cX2_init 18 = .ok (.newarray .char, 2) := dk_188_5 (dk_at dksX2_init_0 18 rfl rfl)
theorem dX2_init_20 : decode cX2_init 20 = .ok (.putfield 18, 3) := dk_181 0 18 (dk_at dksX2_init_0 20 rfl rfl)
theorem dX2_init_23 : decode cX2_init 23 = .ok (.aload_n 0, 1) := dk_42 (dk_at dksX2_init_0 23 rfl rfl)
theorem dX2_init_24 : decode cX2_init 24 = .ok (.aload_n 1, 1) := dk_43 (dk_at dksX2_init_1 0 rfl rfl)
theorem dX2_init_25 : decode cX2_init 25 = .ok (.putfield 22, 3) := dk_181 0 22 (dk_at dksX2_init_1 1 rfl rfl)
theorem dX2_init_28 : decode cX2_init 28 = .ok (.return_, 1) := dk_177 (dk_at dksX2_init_1 4 rfl rfl)
abbrev cX2_read : ByteArray := prog_9_method_14_code
def yX2_read : MethodName := ⟨RX2, "read", "(I)LLastAsked$City;"⟩
def dkwX2_read_5 : List UInt8 := [176]
abbrev dktX2_read_5 : List UInt8 := dkwX2_read_5 ++ []
def dkwX2_read_4 : List UInt8 := [155, 0, 13, 42, 180, 0, 107, 180, 0, 131, 154, 0, 10, 42, 16, 6, 182, 0, 82, 191, 42, 180, 0, 107]
abbrev dktX2_read_4 : List UInt8 := dkwX2_read_4 ++ dktX2_read_5
def dkwX2_read_3 : List UInt8 := [167, 255, 239, 42, 180, 0, 47, 153, 0, 9, 42, 4, 182, 0, 82, 191, 42, 180, 0, 107, 180, 0, 120]
abbrev dktX2_read_3 : List UInt8 := dkwX2_read_3 ++ dktX2_read_4
def dkwX2_read_2 : List UInt8 := [182, 0, 75, 42, 182, 0, 128, 42, 180, 0, 47, 16, 59, 160, 0, 14, 42, 182, 0, 75, 42, 182, 0, 128]
abbrev dktX2_read_2 : List UInt8 := dkwX2_read_2 ++ dktX2_read_3
def dkwX2_read_1 : List UInt8 := [16, 36, 162, 0, 20, 42, 180, 0, 107, 180, 0, 124, 28, 16, 254, 79, 132, 2, 1, 167, 255, 236, 42]
abbrev dktX2_read_1 : List UInt8 := dkwX2_read_1 ++ dktX2_read_2
def dkwX2_read_0 : List UInt8 := [42, 27, 181, 0, 33, 42, 3, 181, 0, 40, 42, 187, 0, 111, 89, 183, 0, 123, 181, 0, 107, 3, 61, 28]
abbrev dktX2_read_0 : List UInt8 := dkwX2_read_0 ++ dktX2_read_1
theorem dksX2_read_0 : cX2_read.data.toList.drop 0 = dktX2_read_0 := by decide +kernel
theorem dksX2_read_1 : cX2_read.data.toList.drop 24 = dktX2_read_1 := dk_seg dksX2_read_0 24 rfl rfl
theorem dksX2_read_2 : cX2_read.data.toList.drop 47 = dktX2_read_2 := dk_seg dksX2_read_1 23 rfl rfl
theorem dksX2_read_3 : cX2_read.data.toList.drop 71 = dktX2_read_3 := dk_seg dksX2_read_2 24 rfl rfl
theorem dksX2_read_4 : cX2_read.data.toList.drop 94 = dktX2_read_4 := dk_seg dksX2_read_3 23 rfl rfl
theorem dksX2_read_5 : cX2_read.data.toList.drop 118 = dktX2_read_5 := dk_seg dksX2_read_4 24 rfl rfl
theorem dX2_read_0 : decode cX2_read 0 = .ok (.aload_n 0, 1) := dk_42 (dk_at dksX2_read_0 0 rfl rfl)
theorem dX2_read_1 : decode cX2_read 1 = .ok (.iload_n 1, 1) := dk_27 (dk_at dksX2_read_0 1 rfl rfl)
theorem dX2_read_2 : decode cX2_read 2 = .ok (.putfield 33, 3) := dk_181 0 33 (dk_at dksX2_read_0 2 rfl rfl)
theorem dX2_read_5 : decode cX2_read 5 = .ok (.aload_n 0, 1) := dk_42 (dk_at dksX2_read_0 5 rfl rfl)
theorem dX2_read_6 : decode cX2_read 6 = .ok (.iconst 0, 1) := dk_3 (dk_at dksX2_read_0 6 rfl rfl)
theorem dX2_read_7 : decode cX2_read 7 = .ok (.putfield 40, 3) := dk_181 0 40 (dk_at dksX2_read_0 7 rfl rfl)
theorem dX2_read_10 : decode cX2_read 10 = .ok (.aload_n 0, 1) := dk_42 (dk_at dksX2_read_0 10 rfl rfl)
theorem dX2_read_11 : decode cX2_read 11 = .ok (.new 111, 3) := dk_187 0 111 (dk_at dksX2_read_0 11 rfl rfl)
theorem dX2_read_14 : decode cX2_read 14 = .ok (.dup, 1) := dk_89 (dk_at dksX2_read_0 14 rfl rfl)
theorem dX2_read_15 : decode cX2_read 15 = .ok (.invokespecial 123, 3) := dk_183 0 123 (dk_at dksX2_read_0 15 rfl rfl)
theorem dX2_read_18 : decode cX2_read 18 = .ok (.putfield 107, 3) := dk_181 0 107 (dk_at dksX2_read_0 18 rfl rfl)
theorem dX2_read_21 : decode cX2_read 21 = .ok (.iconst 0, 1) := dk_3 (dk_at dksX2_read_0 21 rfl rfl)
theorem dX2_read_22 : decode cX2_read 22 = .ok (.istore_n 2, 1) := dk_61 (dk_at dksX2_read_0 22 rfl rfl)
theorem dX2_read_23 : decode cX2_read 23 = .ok (.iload_n 2, 1) := dk_28 (dk_at dksX2_read_0 23 rfl rfl)
theorem dX2_read_24 : decode cX2_read 24 = .ok (.bipush 36, 2) := dk_16 36 (dk_at dksX2_read_1 0 rfl rfl)
theorem dX2_read_26 : decode cX2_read 26 = .ok (.if_icmp .ge 20, 3) := dk_162 0 20 (dk_at dksX2_read_1 2 rfl rfl)
theorem dX2_read_29 : decode cX2_read 29 = .ok (.aload_n 0, 1) := dk_42 (dk_at dksX2_read_1 5 rfl rfl)
theorem dX2_read_30 : decode cX2_read 30 = .ok (.getfield 107, 3) := dk_180 0 107 (dk_at dksX2_read_1 6 rfl rfl)
theorem dX2_read_33 : decode cX2_read 33 = .ok (.getfield 124, 3) := dk_180 0 124 (dk_at dksX2_read_1 9 rfl rfl)
theorem dX2_read_36 : decode cX2_read 36 = .ok (.iload_n 2, 1) := dk_28 (dk_at dksX2_read_1 12 rfl rfl)
theorem dX2_read_37 : decode cX2_read 37 = .ok (.bipush (-2), 2) := dk_16 254 (dk_at dksX2_read_1 13 rfl rfl)
theorem dX2_read_39 : decode cX2_read 39 = .ok (.iastore, 1) := dk_79 (dk_at dksX2_read_1 15 rfl rfl)
theorem dX2_read_40 : decode cX2_read 40 = .ok (.iinc 2 1, 3) := dk_132 2 1 (dk_at dksX2_read_1 16 rfl rfl)
theorem dX2_read_43 : decode cX2_read 43 = .ok (.goto (-20), 3) := dk_167 255 236 (dk_at dksX2_read_1 19 rfl rfl)
theorem dX2_read_46 : decode cX2_read 46 = .ok (.aload_n 0, 1) := dk_42 (dk_at dksX2_read_1 22 rfl rfl)
theorem dX2_read_47 : decode cX2_read 47 = .ok (.invokevirtual 75, 3) := dk_182 0 75 (dk_at dksX2_read_2 0 rfl rfl)
theorem dX2_read_50 : decode cX2_read 50 = .ok (.aload_n 0, 1) := dk_42 (dk_at dksX2_read_2 3 rfl rfl)
theorem dX2_read_51 : decode cX2_read 51 = .ok (.invokevirtual 128, 3) := dk_182 0 128 (dk_at dksX2_read_2 4 rfl rfl)
theorem dX2_read_54 : decode cX2_read 54 = .ok (.aload_n 0, 1) := dk_42 (dk_at dksX2_read_2 7 rfl rfl)
theorem dX2_read_55 : decode cX2_read 55 = .ok (.getfield 47, 3) := dk_180 0 47 (dk_at dksX2_read_2 8 rfl rfl)
theorem dX2_read_58 : decode cX2_read 58 = .ok (.bipush 59, 2) := dk_16 59 (dk_at dksX2_read_2 11 rfl rfl)
theorem dX2_read_60 : decode cX2_read 60 = .ok (.if_icmp .ne 14, 3) := dk_160 0 14 (dk_at dksX2_read_2 13 rfl rfl)
theorem dX2_read_63 : decode cX2_read 63 = .ok (.aload_n 0, 1) := dk_42 (dk_at dksX2_read_2 16 rfl rfl)
theorem dX2_read_64 : decode cX2_read 64 = .ok (.invokevirtual 75, 3) := dk_182 0 75 (dk_at dksX2_read_2 17 rfl rfl)
theorem dX2_read_67 : decode cX2_read 67 = .ok (.aload_n 0, 1) := dk_42 (dk_at dksX2_read_2 20 rfl rfl)
theorem dX2_read_68 : decode cX2_read 68 = .ok (.invokevirtual 128, 3) := dk_182 0 128 (dk_at dksX2_read_2 21 rfl rfl)
theorem dX2_read_71 : decode cX2_read 71 = .ok (.goto (-17), 3) := dk_167 255 239 (dk_at dksX2_read_3 0 rfl rfl)
theorem dX2_read_74 : decode cX2_read 74 = .ok (.aload_n 0, 1) := dk_42 (dk_at dksX2_read_3 3 rfl rfl)
theorem dX2_read_75 : decode cX2_read 75 = .ok (.getfield 47, 3) := dk_180 0 47 (dk_at dksX2_read_3 4 rfl rfl)
theorem dX2_read_78 : decode cX2_read 78 = .ok (.ifCond .eq 9, 3) := dk_153 0 9 (dk_at dksX2_read_3 7 rfl rfl)
theorem dX2_read_81 : decode cX2_read 81 = .ok (.aload_n 0, 1) := dk_42 (dk_at dksX2_read_3 10 rfl rfl)
theorem dX2_read_82 : decode cX2_read 82 = .ok (.iconst 1, 1) := dk_4 (dk_at dksX2_read_3 11 rfl rfl)
theorem dX2_read_83 : decode cX2_read 83 = .ok (.invokevirtual 82, 3) := dk_182 0 82 (dk_at dksX2_read_3 12 rfl rfl)
theorem dX2_read_86 : decode cX2_read 86 = .ok (.athrow, 1) := dk_191 (dk_at dksX2_read_3 15 rfl rfl)
theorem dX2_read_87 : decode cX2_read 87 = .ok (.aload_n 0, 1) := dk_42 (dk_at dksX2_read_3 16 rfl rfl)
theorem dX2_read_88 : decode cX2_read 88 = .ok (.getfield 107, 3) := dk_180 0 107 (dk_at dksX2_read_3 17 rfl rfl)
theorem dX2_read_91 : decode cX2_read 91 = .ok (.getfield 120, 3) := dk_180 0 120 (dk_at dksX2_read_3 20 rfl rfl)
theorem dX2_read_94 : decode cX2_read 94 = .ok (.ifCond .lt 13, 3) := dk_155 0 13 (dk_at dksX2_read_4 0 rfl rfl)
theorem dX2_read_97 : decode cX2_read 97 = .ok (.aload_n 0, 1) := dk_42 (dk_at dksX2_read_4 3 rfl rfl)
theorem dX2_read_98 : decode cX2_read 98 = .ok (.getfield 107, 3) := dk_180 0 107 (dk_at dksX2_read_4 4 rfl rfl)
theorem dX2_read_101 : decode cX2_read 101 = .ok (.getfield 131, 3) := dk_180 0 131 (dk_at dksX2_read_4 7 rfl rfl)
theorem dX2_read_104 : decode cX2_read 104 = .ok (.ifCond .ne 10, 3) := dk_154 0 10 (dk_at dksX2_read_4 10 rfl rfl)
theorem dX2_read_107 : decode cX2_read 107 = .ok (.aload_n 0, 1) := dk_42 (dk_at dksX2_read_4 13 rfl rfl)
theorem dX2_read_108 : decode cX2_read 108 = .ok (.bipush 6, 2) := dk_16 6 (dk_at dksX2_read_4 14 rfl rfl)
theorem dX2_read_110 : decode cX2_read 110 = .ok (.invokevirtual 82, 3) := dk_182 0 82 (dk_at dksX2_read_4 16 rfl rfl)
theorem dX2_read_113 : decode cX2_read 113 = .ok (.athrow, 1) := dk_191 (dk_at dksX2_read_4 19 rfl rfl)
theorem dX2_read_114 : decode cX2_read 114 = .ok (.aload_n 0, 1) := dk_42 (dk_at dksX2_read_4 20 rfl rfl)
theorem dX2_read_115 : decode cX2_read 115 = .ok (.getfield 107, 3) := dk_180 0 107 (dk_at dksX2_read_4 21 rfl rfl)
theorem dX2_read_118 : decode cX2_read 118 = .ok (.areturn, 1) := dk_176 (dk_at dksX2_read_5 0 rfl rfl)
abbrev cX2_step : ByteArray := prog_9_method_6_code
def yX2_step : MethodName := ⟨RX2, "step", "()V"⟩
def dkwX2_step_12 : List UInt8 := [181, 0, 47, 167, 0, 18, 42, 28, 16, 59, 160, 0, 7, 28, 167, 0, 4, 4, 181, 0, 47, 177]
abbrev dktX2_step_12 : List UInt8 := dkwX2_step_12 ++ []
def dkwX2_step_11 : List UInt8 := [181, 0, 40, 167, 255, 199, 42, 42, 180, 0, 40, 27, 100, 6, 164, 0, 7, 4, 167, 0, 4, 6]
abbrev dktX2_step_11 : List UInt8 := dkwX2_step_11 ++ dktX2_step_12
def dkwX2_step_10 : List UInt8 := [42, 42, 180, 0, 40, 182, 0, 43, 96, 16, 48, 100, 181, 0, 68, 42, 89, 180, 0, 40, 4, 96]
abbrev dktX2_step_10 : List UInt8 := dkwX2_step_10 ++ dktX2_step_11
def dkwX2_step_9 : List UInt8 := [184, 0, 65, 153, 0, 49, 42, 180, 0, 40, 27, 100, 6, 162, 0, 26, 42, 16, 10, 42, 180, 0, 68, 104]
abbrev dktX2_step_9 : List UInt8 := dkwX2_step_9 ++ dktX2_step_10
def dkwX2_step_8 : List UInt8 := [184, 0, 65, 153, 0, 95, 42, 3, 181, 0, 68, 42, 27, 181, 0, 40, 42, 42, 180, 0, 40, 182, 0, 43]
abbrev dktX2_step_8 : List UInt8 := dkwX2_step_8 ++ dktX2_step_9
def dkwX2_step_7 : List UInt8 := [3, 42, 180, 0, 40, 27, 100, 183, 0, 56, 167, 0, 5, 18, 59, 181, 0, 61, 167, 0, 117, 28]
abbrev dktX2_step_7 : List UInt8 := dkwX2_step_7 ++ dktX2_step_8
def dkwX2_step_6 : List UInt8 := [167, 0, 4, 5, 181, 0, 47, 42, 42, 180, 0, 47, 5, 160, 0, 24, 187, 0, 54, 89, 42, 180, 0, 18]
abbrev dktX2_step_6 : List UInt8 := dkwX2_step_6 ++ dktX2_step_7
def dkwX2_step_5 : List UInt8 := [180, 0, 40, 4, 96, 181, 0, 40, 167, 255, 201, 42, 42, 180, 0, 40, 27, 100, 16, 8, 164, 0, 7, 4]
abbrev dktX2_step_5 : List UInt8 := dkwX2_step_5 ++ dktX2_step_6
def dkwX2_step_4 : List UInt8 := [42, 180, 0, 18, 42, 180, 0, 40, 27, 100, 42, 42, 180, 0, 40, 182, 0, 43, 146, 85, 42, 89]
abbrev dktX2_step_4 : List UInt8 := dkwX2_step_4 ++ dktX2_step_5
def dkwX2_step_3 : List UInt8 := [42, 180, 0, 40, 182, 0, 43, 184, 0, 50, 153, 0, 47, 42, 180, 0, 40, 27, 100, 16, 8, 162, 0, 23]
abbrev dktX2_step_3 : List UInt8 := dkwX2_step_3 ++ dktX2_step_4
def dkwX2_step_2 : List UInt8 := [181, 0, 47, 42, 27, 181, 0, 40, 167, 0, 245, 28, 184, 0, 50, 153, 0, 124, 42, 27, 181, 0, 40, 42]
abbrev dktX2_step_2 : List UInt8 := dkwX2_step_2 ++ dktX2_step_3
def dkwX2_step_1 : List UInt8 := [181, 0, 26, 42, 27, 4, 96, 181, 0, 40, 42, 27, 182, 0, 43, 61, 28, 2, 160, 0, 16, 42, 3]
abbrev dktX2_step_1 : List UInt8 := dkwX2_step_1 ++ dktX2_step_2
def dkwX2_step_0 : List UInt8 := [42, 180, 0, 40, 60, 42, 27, 182, 0, 43, 16, 32, 160, 0, 9, 132, 1, 1, 167, 255, 243, 42, 27]
abbrev dktX2_step_0 : List UInt8 := dkwX2_step_0 ++ dktX2_step_1
theorem dksX2_step_0 : cX2_step.data.toList.drop 0 = dktX2_step_0 := by decide +kernel
theorem dksX2_step_1 : cX2_step.data.toList.drop 23 = dktX2_step_1 := dk_seg dksX2_step_0 23 rfl rfl
theorem dksX2_step_2 : cX2_step.data.toList.drop 46 = dktX2_step_2 := dk_seg dksX2_step_1 23 rfl rfl
theorem dksX2_step_3 : cX2_step.data.toList.drop 70 = dktX2_step_3 := dk_seg dksX2_step_2 24 rfl rfl
theorem dksX2_step_4 : cX2_step.data.toList.drop 94 = dktX2_step_4 := dk_seg dksX2_step_3 24 rfl rfl
theorem dksX2_step_5 : cX2_step.data.toList.drop 116 = dktX2_step_5 := dk_seg dksX2_step_4 22 rfl rfl
theorem dksX2_step_6 : cX2_step.data.toList.drop 140 = dktX2_step_6 := dk_seg dksX2_step_5 24 rfl rfl
theorem dksX2_step_7 : cX2_step.data.toList.drop 164 = dktX2_step_7 := dk_seg dksX2_step_6 24 rfl rfl
theorem dksX2_step_8 : cX2_step.data.toList.drop 186 = dktX2_step_8 := dk_seg dksX2_step_7 22 rfl rfl
theorem dksX2_step_9 : cX2_step.data.toList.drop 210 = dktX2_step_9 := dk_seg dksX2_step_8 24 rfl rfl
theorem dksX2_step_10 : cX2_step.data.toList.drop 234 = dktX2_step_10 := dk_seg dksX2_step_9 24 rfl rfl
theorem dksX2_step_11 : cX2_step.data.toList.drop 256 = dktX2_step_11 := dk_seg dksX2_step_10 22 rfl rfl
theorem dksX2_step_12 : cX2_step.data.toList.drop 278 = dktX2_step_12 := dk_seg dksX2_step_11 22 rfl rfl
theorem dX2_step_0 : decode cX2_step 0 = .ok (.aload_n 0, 1) := dk_42 (dk_at dksX2_step_0 0 rfl rfl)
theorem dX2_step_1 : decode cX2_step 1 = .ok (.getfield 40, 3) := dk_180 0 40 (dk_at dksX2_step_0 1 rfl rfl)
theorem dX2_step_4 : decode cX2_step 4 = .ok (.istore_n 1, 1) := dk_60 (dk_at dksX2_step_0 4 rfl rfl)
theorem dX2_step_5 : decode cX2_step 5 = .ok (.aload_n 0, 1) := dk_42 (dk_at dksX2_step_0 5 rfl rfl)
theorem dX2_step_6 : decode cX2_step 6 = .ok (.iload_n 1, 1) := dk_27 (dk_at dksX2_step_0 6 rfl rfl)
theorem dX2_step_7 : decode cX2_step 7 = .ok (.invokevirtual 43, 3) := dk_182 0 43 (dk_at dksX2_step_0 7 rfl rfl)
theorem dX2_step_10 : decode cX2_step 10 = .ok (.bipush 32, 2) := dk_16 32 (dk_at dksX2_step_0 10 rfl rfl)
theorem dX2_step_12 : decode cX2_step 12 = .ok (.if_icmp .ne 9, 3) := dk_160 0 9 (dk_at dksX2_step_0 12 rfl rfl)
theorem dX2_step_15 : decode cX2_step 15 = .ok (.iinc 1 1, 3) := dk_132 1 1 (dk_at dksX2_step_0 15 rfl rfl)
theorem dX2_step_18 : decode cX2_step 18 = .ok (.goto (-13), 3) := dk_167 255 243 (dk_at dksX2_step_0 18 rfl rfl)
theorem dX2_step_21 : decode cX2_step 21 = .ok (.aload_n 0, 1) := dk_42 (dk_at dksX2_step_0 21 rfl rfl)
theorem dX2_step_22 : decode cX2_step 22 = .ok (.iload_n 1, 1) := dk_27 (dk_at dksX2_step_0 22 rfl rfl)
theorem dX2_step_23 : decode cX2_step 23 = .ok (.putfield 26, 3) := dk_181 0 26 (dk_at dksX2_step_1 0 rfl rfl)
theorem dX2_step_26 : decode cX2_step 26 = .ok (.aload_n 0, 1) := dk_42 (dk_at dksX2_step_1 3 rfl rfl)
theorem dX2_step_27 : decode cX2_step 27 = .ok (.iload_n 1, 1) := dk_27 (dk_at dksX2_step_1 4 rfl rfl)
theorem dX2_step_28 : decode cX2_step 28 = .ok (.iconst 1, 1) := dk_4 (dk_at dksX2_step_1 5 rfl rfl)
theorem dX2_step_29 : decode cX2_step 29 = .ok (.iadd, 1) := dk_96 (dk_at dksX2_step_1 6 rfl rfl)
theorem dX2_step_30 : decode cX2_step 30 = .ok (.putfield 40, 3) := dk_181 0 40 (dk_at dksX2_step_1 7 rfl rfl)
theorem dX2_step_33 : decode cX2_step 33 = .ok (.aload_n 0, 1) := dk_42 (dk_at dksX2_step_1 10 rfl rfl)
theorem dX2_step_34 : decode cX2_step 34 = .ok (.iload_n 1, 1) := dk_27 (dk_at dksX2_step_1 11 rfl rfl)
theorem dX2_step_35 : decode cX2_step 35 = .ok (.invokevirtual 43, 3) := dk_182 0 43 (dk_at dksX2_step_1 12 rfl rfl)
theorem dX2_step_38 : decode cX2_step 38 = .ok (.istore_n 2, 1) := dk_61 (dk_at dksX2_step_1 15 rfl rfl)
theorem dX2_step_39 : decode cX2_step 39 = .ok (.iload_n 2, 1) := dk_28 (dk_at dksX2_step_1 16 rfl rfl)
theorem dX2_step_40 : decode cX2_step 40 = .ok (.iconst (-1), 1) := dk_2 (dk_at dksX2_step_1 17 rfl rfl)
theorem dX2_step_41 : decode cX2_step 41 = .ok (.if_icmp .ne 16, 3) := dk_160 0 16 (dk_at dksX2_step_1 18 rfl rfl)
theorem dX2_step_44 : decode cX2_step 44 = .ok (.aload_n 0, 1) := dk_42 (dk_at dksX2_step_1 21 rfl rfl)
theorem dX2_step_45 : decode cX2_step 45 = .ok (.iconst 0, 1) := dk_3 (dk_at dksX2_step_1 22 rfl rfl)
theorem dX2_step_46 : decode cX2_step 46 = .ok (.putfield 47, 3) := dk_181 0 47 (dk_at dksX2_step_2 0 rfl rfl)
theorem dX2_step_49 : decode cX2_step 49 = .ok (.aload_n 0, 1) := dk_42 (dk_at dksX2_step_2 3 rfl rfl)
theorem dX2_step_50 : decode cX2_step 50 = .ok (.iload_n 1, 1) := dk_27 (dk_at dksX2_step_2 4 rfl rfl)
theorem dX2_step_51 : decode cX2_step 51 = .ok (.putfield 40, 3) := dk_181 0 40 (dk_at dksX2_step_2 5 rfl rfl)
theorem dX2_step_54 : decode cX2_step 54 = .ok (.goto 245, 3) := dk_167 0 245 (dk_at dksX2_step_2 8 rfl rfl)
theorem dX2_step_57 : decode cX2_step 57 = .ok (.iload_n 2, 1) := dk_28 (dk_at dksX2_step_2 11 rfl rfl)
theorem dX2_step_58 : decode cX2_step 58 = .ok (.invokestatic 50, 3) := dk_184 0 50 (dk_at dksX2_step_2 12 rfl rfl)
theorem dX2_step_61 : decode cX2_step 61 = .ok (.ifCond .eq 124, 3) := dk_153 0 124 (dk_at dksX2_step_2 15 rfl rfl)
theorem dX2_step_64 : decode cX2_step 64 = .ok (.aload_n 0, 1) := dk_42 (dk_at dksX2_step_2 18 rfl rfl)
theorem dX2_step_65 : decode cX2_step 65 = .ok (.iload_n 1, 1) := dk_27 (dk_at dksX2_step_2 19 rfl rfl)
theorem dX2_step_66 : decode cX2_step 66 = .ok (.putfield 40, 3) := dk_181 0 40 (dk_at dksX2_step_2 20 rfl rfl)
theorem dX2_step_69 : decode cX2_step 69 = .ok (.aload_n 0, 1) := dk_42 (dk_at dksX2_step_2 23 rfl rfl)
theorem dX2_step_70 : decode cX2_step 70 = .ok (.aload_n 0, 1) := dk_42 (dk_at dksX2_step_3 0 rfl rfl)
theorem dX2_step_71 : decode cX2_step 71 = .ok (.getfield 40, 3) := dk_180 0 40 (dk_at dksX2_step_3 1 rfl rfl)
theorem dX2_step_74 : decode cX2_step 74 = .ok (.invokevirtual 43, 3) := dk_182 0 43 (dk_at dksX2_step_3 4 rfl rfl)
theorem dX2_step_77 : decode cX2_step 77 = .ok (.invokestatic 50, 3) := dk_184 0 50 (dk_at dksX2_step_3 7 rfl rfl)
theorem dX2_step_80 : decode cX2_step 80 = .ok (.ifCond .eq 47, 3) := dk_153 0 47 (dk_at dksX2_step_3 10 rfl rfl)
theorem dX2_step_83 : decode cX2_step 83 = .ok (.aload_n 0, 1) := dk_42 (dk_at dksX2_step_3 13 rfl rfl)
theorem dX2_step_84 : decode cX2_step 84 = .ok (.getfield 40, 3) := dk_180 0 40 (dk_at dksX2_step_3 14 rfl rfl)
theorem dX2_step_87 : decode cX2_step 87 = .ok (.iload_n 1, 1) := dk_27 (dk_at dksX2_step_3 17 rfl rfl)
theorem dX2_step_88 : decode cX2_step 88 = .ok (.isub, 1) := dk_100 (dk_at dksX2_step_3 18 rfl rfl)
theorem dX2_step_89 : decode cX2_step 89 = .ok (.bipush 8, 2) := dk_16 8 (dk_at dksX2_step_3 19 rfl rfl)
theorem dX2_step_91 : decode cX2_step 91 = .ok (.if_icmp .ge 23, 3) := dk_162 0 23 (dk_at dksX2_step_3 21 rfl rfl)
theorem dX2_step_94 : decode cX2_step 94 = .ok (.aload_n 0, 1) := dk_42 (dk_at dksX2_step_4 0 rfl rfl)
theorem dX2_step_95 : decode cX2_step 95 = .ok (.getfield 18, 3) := dk_180 0 18 (dk_at dksX2_step_4 1 rfl rfl)
theorem dX2_step_98 : decode cX2_step 98 = .ok (.aload_n 0, 1) := dk_42 (dk_at dksX2_step_4 4 rfl rfl)
theorem dX2_step_99 : decode cX2_step 99 = .ok (.getfield 40, 3) := dk_180 0 40 (dk_at dksX2_step_4 5 rfl rfl)
theorem dX2_step_102 : decode cX2_step 102 = .ok (.iload_n 1, 1) := dk_27 (dk_at dksX2_step_4 8 rfl rfl)
theorem dX2_step_103 : decode cX2_step 103 = .ok (.isub, 1) := dk_100 (dk_at dksX2_step_4 9 rfl rfl)
theorem dX2_step_104 : decode cX2_step 104 = .ok (.aload_n 0, 1) := dk_42 (dk_at dksX2_step_4 10 rfl rfl)
theorem dX2_step_105 : decode cX2_step 105 = .ok (.aload_n 0, 1) := dk_42 (dk_at dksX2_step_4 11 rfl rfl)
theorem dX2_step_106 : decode cX2_step 106 = .ok (.getfield 40, 3) := dk_180 0 40 (dk_at dksX2_step_4 12 rfl rfl)
theorem dX2_step_109 : decode cX2_step 109 = .ok (.invokevirtual 43, 3) := dk_182 0 43 (dk_at dksX2_step_4 15 rfl rfl)
theorem dX2_step_112 : decode cX2_step 112 = .ok (.i2c, 1) := dk_146 (dk_at dksX2_step_4 18 rfl rfl)
theorem dX2_step_113 : decode cX2_step 113 = .ok (.castore, 1) := dk_85 (dk_at dksX2_step_4 19 rfl rfl)
theorem dX2_step_114 : decode cX2_step 114 = .ok (.aload_n 0, 1) := dk_42 (dk_at dksX2_step_4 20 rfl rfl)
theorem dX2_step_115 : decode cX2_step 115 = .ok (.dup, 1) := dk_89 (dk_at dksX2_step_4 21 rfl rfl)
theorem dX2_step_116 : decode cX2_step 116 = .ok (.getfield 40, 3) := dk_180 0 40 (dk_at dksX2_step_5 0 rfl rfl)
theorem dX2_step_119 : decode cX2_step 119 = .ok (.iconst 1, 1) := dk_4 (dk_at dksX2_step_5 3 rfl rfl)
theorem dX2_step_120 : decode cX2_step 120 = .ok (.iadd, 1) := dk_96 (dk_at dksX2_step_5 4 rfl rfl)
theorem dX2_step_121 : decode cX2_step 121 = .ok (.putfield 40, 3) := dk_181 0 40 (dk_at dksX2_step_5 5 rfl rfl)
theorem dX2_step_124 : decode cX2_step 124 = .ok (.goto (-55), 3) := dk_167 255 201 (dk_at dksX2_step_5 8 rfl rfl)
theorem dX2_step_127 : decode cX2_step 127 = .ok (.aload_n 0, 1) := dk_42 (dk_at dksX2_step_5 11 rfl rfl)
theorem dX2_step_128 : decode cX2_step 128 = .ok (.aload_n 0, 1) := dk_42 (dk_at dksX2_step_5 12 rfl rfl)
theorem dX2_step_129 : decode cX2_step 129 = .ok (.getfield 40, 3) := dk_180 0 40 (dk_at dksX2_step_5 13 rfl rfl)
theorem dX2_step_132 : decode cX2_step 132 = .ok (.iload_n 1, 1) := dk_27 (dk_at dksX2_step_5 16 rfl rfl)
theorem dX2_step_133 : decode cX2_step 133 = .ok (.isub, 1) := dk_100 (dk_at dksX2_step_5 17 rfl rfl)
theorem dX2_step_134 : decode cX2_step 134 = .ok (.bipush 8, 2) := dk_16 8 (dk_at dksX2_step_5 18 rfl rfl)
theorem dX2_step_136 : decode cX2_step 136 = .ok (.if_icmp .le 7, 3) := dk_164 0 7 (dk_at dksX2_step_5 20 rfl rfl)
theorem dX2_step_139 : decode cX2_step 139 = .ok (.iconst 1, 1) := dk_4 (dk_at dksX2_step_5 23 rfl rfl)
theorem dX2_step_140 : decode cX2_step 140 = .ok (.goto 4, 3) := dk_167 0 4 (dk_at dksX2_step_6 0 rfl rfl)
theorem dX2_step_143 : decode cX2_step 143 = .ok (.iconst 2, 1) := dk_5 (dk_at dksX2_step_6 3 rfl rfl)
theorem dX2_step_144 : decode cX2_step 144 = .ok (.putfield 47, 3) := dk_181 0 47 (dk_at dksX2_step_6 4 rfl rfl)
theorem dX2_step_147 : decode cX2_step 147 = .ok (.aload_n 0, 1) := dk_42 (dk_at dksX2_step_6 7 rfl rfl)
theorem dX2_step_148 : decode cX2_step 148 = .ok (.aload_n 0, 1) := dk_42 (dk_at dksX2_step_6 8 rfl rfl)
theorem dX2_step_149 : decode cX2_step 149 = .ok (.getfield 47, 3) := dk_180 0 47 (dk_at dksX2_step_6 9 rfl rfl)
theorem dX2_step_152 : decode cX2_step 152 = .ok (.iconst 2, 1) := dk_5 (dk_at dksX2_step_6 12 rfl rfl)
theorem dX2_step_153 : decode cX2_step 153 = .ok (.if_icmp .ne 24, 3) := dk_160 0 24 (dk_at dksX2_step_6 13 rfl rfl)
theorem dX2_step_156 : decode cX2_step 156 = .ok (.new 54, 3) := dk_187 0 54 (dk_at dksX2_step_6 16 rfl rfl)
theorem dX2_step_159 : decode cX2_step 159 = .ok (.dup, 1) := dk_89 (dk_at dksX2_step_6 19 rfl rfl)
theorem dX2_step_160 : decode cX2_step 160 = .ok (.aload_n 0, 1) := dk_42 (dk_at dksX2_step_6 20 rfl rfl)
theorem dX2_step_161 : decode cX2_step 161 = .ok (.getfield 18, 3) := dk_180 0 18 (dk_at dksX2_step_6 21 rfl rfl)
theorem dX2_step_164 : decode cX2_step 164 = .ok (.iconst 0, 1) := dk_3 (dk_at dksX2_step_7 0 rfl rfl)
theorem dX2_step_165 : decode cX2_step 165 = .ok (.aload_n 0, 1) := dk_42 (dk_at dksX2_step_7 1 rfl rfl)
theorem dX2_step_166 : decode cX2_step 166 = .ok (.getfield 40, 3) := dk_180 0 40 (dk_at dksX2_step_7 2 rfl rfl)
theorem dX2_step_169 : decode cX2_step 169 = .ok (.iload_n 1, 1) := dk_27 (dk_at dksX2_step_7 5 rfl rfl)
theorem dX2_step_170 : decode cX2_step 170 = .ok (.isub, 1) := dk_100 (dk_at dksX2_step_7 6 rfl rfl)
theorem dX2_step_171 : decode cX2_step 171 = .ok (.invokespecial 56, 3) := dk_183 0 56 (dk_at dksX2_step_7 7 rfl rfl)
theorem dX2_step_174 : decode cX2_step 174 = .ok (.goto 5, 3) := dk_167 0 5 (dk_at dksX2_step_7 10 rfl rfl)
theorem dX2_step_177 : decode cX2_step 177 = .ok (.ldc 59, 2) := dk_18 59 (dk_at dksX2_step_7 13 rfl rfl)
theorem dX2_step_179 : decode cX2_step 179 = .ok (.putfield 61, 3) := dk_181 0 61 (dk_at dksX2_step_7 15 rfl rfl)
theorem dX2_step_182 : decode cX2_step 182 = .ok (.goto 117, 3) := dk_167 0 117 (dk_at dksX2_step_7 18 rfl rfl)
theorem dX2_step_185 : decode cX2_step 185 = .ok (.iload_n 2, 1) := dk_28 (dk_at dksX2_step_7 21 rfl rfl)
theorem dX2_step_186 : decode cX2_step 186 = .ok (.invokestatic 65, 3) := dk_184 0 65 (dk_at dksX2_step_8 0 rfl rfl)
theorem dX2_step_189 : decode cX2_step 189 = .ok (.ifCond .eq 95, 3) := dk_153 0 95 (dk_at dksX2_step_8 3 rfl rfl)
theorem dX2_step_192 : decode cX2_step 192 = .ok (.aload_n 0, 1) := dk_42 (dk_at dksX2_step_8 6 rfl rfl)
theorem dX2_step_193 : decode cX2_step 193 = .ok (.iconst 0, 1) := dk_3 (dk_at dksX2_step_8 7 rfl rfl)
theorem dX2_step_194 : decode cX2_step 194 = .ok (.putfield 68, 3) := dk_181 0 68 (dk_at dksX2_step_8 8 rfl rfl)
theorem dX2_step_197 : decode cX2_step 197 = .ok (.aload_n 0, 1) := dk_42 (dk_at dksX2_step_8 11 rfl rfl)
theorem dX2_step_198 : decode cX2_step 198 = .ok (.iload_n 1, 1) := dk_27 (dk_at dksX2_step_8 12 rfl rfl)
theorem dX2_step_199 : decode cX2_step 199 = .ok (.putfield 40, 3) := dk_181 0 40 (dk_at dksX2_step_8 13 rfl rfl)
theorem dX2_step_202 : decode cX2_step 202 = .ok (.aload_n 0, 1) := dk_42 (dk_at dksX2_step_8 16 rfl rfl)
theorem dX2_step_203 : decode cX2_step 203 = .ok (.aload_n 0, 1) := dk_42 (dk_at dksX2_step_8 17 rfl rfl)
theorem dX2_step_204 : decode cX2_step 204 = .ok (.getfield 40, 3) := dk_180 0 40 (dk_at dksX2_step_8 18 rfl rfl)
theorem dX2_step_207 : decode cX2_step 207 = .ok (.invokevirtual 43, 3) := dk_182 0 43 (dk_at dksX2_step_8 21 rfl rfl)
theorem dX2_step_210 : decode cX2_step 210 = .ok (.invokestatic 65, 3) := dk_184 0 65 (dk_at dksX2_step_9 0 rfl rfl)
theorem dX2_step_213 : decode cX2_step 213 = .ok (.ifCond .eq 49, 3) := dk_153 0 49 (dk_at dksX2_step_9 3 rfl rfl)
theorem dX2_step_216 : decode cX2_step 216 = .ok (.aload_n 0, 1) := dk_42 (dk_at dksX2_step_9 6 rfl rfl)
theorem dX2_step_217 : decode cX2_step 217 = .ok (.getfield 40, 3) := dk_180 0 40 (dk_at dksX2_step_9 7 rfl rfl)
theorem dX2_step_220 : decode cX2_step 220 = .ok (.iload_n 1, 1) := dk_27 (dk_at dksX2_step_9 10 rfl rfl)
theorem dX2_step_221 : decode cX2_step 221 = .ok (.isub, 1) := dk_100 (dk_at dksX2_step_9 11 rfl rfl)
theorem dX2_step_222 : decode cX2_step 222 = .ok (.iconst 3, 1) := dk_6 (dk_at dksX2_step_9 12 rfl rfl)
theorem dX2_step_223 : decode cX2_step 223 = .ok (.if_icmp .ge 26, 3) := dk_162 0 26 (dk_at dksX2_step_9 13 rfl rfl)
theorem dX2_step_226 : decode cX2_step 226 = .ok (.aload_n 0, 1) := dk_42 (dk_at dksX2_step_9 16 rfl rfl)
theorem dX2_step_227 : decode cX2_step 227 = .ok (.bipush 10, 2) := dk_16 10 (dk_at dksX2_step_9 17 rfl rfl)
theorem dX2_step_229 : decode cX2_step 229 = .ok (.aload_n 0, 1) := dk_42 (dk_at dksX2_step_9 19 rfl rfl)
theorem dX2_step_230 : decode cX2_step 230 = .ok (.getfield 68, 3) := dk_180 0 68 (dk_at dksX2_step_9 20 rfl rfl)
theorem dX2_step_233 : decode cX2_step 233 = .ok (.imul, 1) := dk_104 (dk_at dksX2_step_9 23 rfl rfl)
theorem dX2_step_234 : decode cX2_step 234 = .ok (.aload_n 0, 1) := dk_42 (dk_at dksX2_step_10 0 rfl rfl)
theorem dX2_step_235 : decode cX2_step 235 = .ok (.aload_n 0, 1) := dk_42 (dk_at dksX2_step_10 1 rfl rfl)
theorem dX2_step_236 : decode cX2_step 236 = .ok (.getfield 40, 3) := dk_180 0 40 (dk_at dksX2_step_10 2 rfl rfl)
theorem dX2_step_239 : decode cX2_step 239 = .ok (.invokevirtual 43, 3) := dk_182 0 43 (dk_at dksX2_step_10 5 rfl rfl)
theorem dX2_step_242 : decode cX2_step 242 = .ok (.iadd, 1) := dk_96 (dk_at dksX2_step_10 8 rfl rfl)
theorem dX2_step_243 : decode cX2_step 243 = .ok (.bipush 48, 2) := dk_16 48 (dk_at dksX2_step_10 9 rfl rfl)
theorem dX2_step_245 : decode cX2_step 245 = .ok (.isub, 1) := dk_100 (dk_at dksX2_step_10 11 rfl rfl)
theorem dX2_step_246 : decode cX2_step 246 = .ok (.putfield 68, 3) := dk_181 0 68 (dk_at dksX2_step_10 12 rfl rfl)
theorem dX2_step_249 : decode cX2_step 249 = .ok (.aload_n 0, 1) := dk_42 (dk_at dksX2_step_10 15 rfl rfl)
theorem dX2_step_250 : decode cX2_step 250 = .ok (.dup, 1) := dk_89 (dk_at dksX2_step_10 16 rfl rfl)
theorem dX2_step_251 : decode cX2_step 251 = .ok (.getfield 40, 3) := dk_180 0 40 (dk_at dksX2_step_10 17 rfl rfl)
theorem dX2_step_254 : decode cX2_step 254 = .ok (.iconst 1, 1) := dk_4 (dk_at dksX2_step_10 20 rfl rfl)
theorem dX2_step_255 : decode cX2_step 255 = .ok (.iadd, 1) := dk_96 (dk_at dksX2_step_10 21 rfl rfl)
theorem dX2_step_256 : decode cX2_step 256 = .ok (.putfield 40, 3) := dk_181 0 40 (dk_at dksX2_step_11 0 rfl rfl)
theorem dX2_step_259 : decode cX2_step 259 = .ok (.goto (-57), 3) := dk_167 255 199 (dk_at dksX2_step_11 3 rfl rfl)
theorem dX2_step_262 : decode cX2_step 262 = .ok (.aload_n 0, 1) := dk_42 (dk_at dksX2_step_11 6 rfl rfl)
theorem dX2_step_263 : decode cX2_step 263 = .ok (.aload_n 0, 1) := dk_42 (dk_at dksX2_step_11 7 rfl rfl)
theorem dX2_step_264 : decode cX2_step 264 = .ok (.getfield 40, 3) := dk_180 0 40 (dk_at dksX2_step_11 8 rfl rfl)
theorem dX2_step_267 : decode cX2_step 267 = .ok (.iload_n 1, 1) := dk_27 (dk_at dksX2_step_11 11 rfl rfl)
theorem dX2_step_268 : decode cX2_step 268 = .ok (.isub, 1) := dk_100 (dk_at dksX2_step_11 12 rfl rfl)
theorem dX2_step_269 : decode cX2_step 269 = .ok (.iconst 3, 1) := dk_6 (dk_at dksX2_step_11 13 rfl rfl)
theorem dX2_step_270 : decode cX2_step 270 = .ok (.if_icmp .le 7, 3) := dk_164 0 7 (dk_at dksX2_step_11 14 rfl rfl)
theorem dX2_step_273 : decode cX2_step 273 = .ok (.iconst 1, 1) := dk_4 (dk_at dksX2_step_11 17 rfl rfl)
theorem dX2_step_274 : decode cX2_step 274 = .ok (.goto 4, 3) := dk_167 0 4 (dk_at dksX2_step_11 18 rfl rfl)
theorem dX2_step_277 : decode cX2_step 277 = .ok (.iconst 3, 1) := dk_6 (dk_at dksX2_step_11 21 rfl rfl)
theorem dX2_step_278 : decode cX2_step 278 = .ok (.putfield 47, 3) := dk_181 0 47 (dk_at dksX2_step_12 0 rfl rfl)
theorem dX2_step_281 : decode cX2_step 281 = .ok (.goto 18, 3) := dk_167 0 18 (dk_at dksX2_step_12 3 rfl rfl)
theorem dX2_step_284 : decode cX2_step 284 = .ok (.aload_n 0, 1) := dk_42 (dk_at dksX2_step_12 6 rfl rfl)
theorem dX2_step_285 : decode cX2_step 285 = .ok (.iload_n 2, 1) := dk_28 (dk_at dksX2_step_12 7 rfl rfl)
theorem dX2_step_286 : decode cX2_step 286 = .ok (.bipush 59, 2) := dk_16 59 (dk_at dksX2_step_12 8 rfl rfl)
theorem dX2_step_288 : decode cX2_step 288 = .ok (.if_icmp .ne 7, 3) := dk_160 0 7 (dk_at dksX2_step_12 10 rfl rfl)
theorem dX2_step_291 : decode cX2_step 291 = .ok (.iload_n 2, 1) := dk_28 (dk_at dksX2_step_12 13 rfl rfl)
theorem dX2_step_292 : decode cX2_step 292 = .ok (.goto 4, 3) := dk_167 0 4 (dk_at dksX2_step_12 14 rfl rfl)
theorem dX2_step_295 : decode cX2_step 295 = .ok (.iconst 1, 1) := dk_4 (dk_at dksX2_step_12 17 rfl rfl)
theorem dX2_step_296 : decode cX2_step 296 = .ok (.putfield 47, 3) := dk_181 0 47 (dk_at dksX2_step_12 18 rfl rfl)
theorem dX2_step_299 : decode cX2_step 299 = .ok (.return_, 1) := dk_177 (dk_at dksX2_step_12 21 rfl rfl)
abbrev cX2_see : ByteArray := prog_9_method_3_code
def yX2_see : MethodName := ⟨RX2, "see", "(I)I"⟩
def dkwX2_see_0 : List UInt8 := [27, 42, 180, 0, 33, 162, 0, 16, 42, 180, 0, 22, 27, 51, 17, 0, 255, 126, 167, 0, 4, 2, 172]
abbrev dktX2_see_0 : List UInt8 := dkwX2_see_0 ++ []
theorem dksX2_see_0 : cX2_see.data.toList.drop 0 = dktX2_see_0 := by decide +kernel
theorem dX2_see_0 : decode cX2_see 0 = .ok (.iload_n 1, 1) := dk_27 (dk_at dksX2_see_0 0 rfl rfl)
theorem dX2_see_1 : decode cX2_see 1 = .ok (.aload_n 0, 1) := dk_42 (dk_at dksX2_see_0 1 rfl rfl)
theorem dX2_see_2 : decode cX2_see 2 = .ok (.getfield 33, 3) := dk_180 0 33 (dk_at dksX2_see_0 2 rfl rfl)
theorem dX2_see_5 : decode cX2_see 5 = .ok (.if_icmp .ge 16, 3) := dk_162 0 16 (dk_at dksX2_see_0 5 rfl rfl)
theorem dX2_see_8 : decode cX2_see 8 = .ok (.aload_n 0, 1) := dk_42 (dk_at dksX2_see_0 8 rfl rfl)
theorem dX2_see_9 : decode cX2_see 9 = .ok (.getfield 22, 3) := dk_180 0 22 (dk_at dksX2_see_0 9 rfl rfl)
theorem dX2_see_12 : decode cX2_see 12 = .ok (.iload_n 1, 1) := dk_27 (dk_at dksX2_see_0 12 rfl rfl)
theorem dX2_see_13 : decode cX2_see 13 = .ok (.baload, 1) := dk_51 (dk_at dksX2_see_0 13 rfl rfl)
theorem dX2_see_14 : decode cX2_see 14 = .ok (.sipush 255, 3) := dk_17 0 255 (dk_at dksX2_see_0 14 rfl rfl)
theorem dX2_see_17 : decode cX2_see 17 = .ok (.iand, 1) := dk_126 (dk_at dksX2_see_0 17 rfl rfl)
theorem dX2_see_18 : decode cX2_see 18 = .ok (.goto 4, 3) := dk_167 0 4 (dk_at dksX2_see_0 18 rfl rfl)
theorem dX2_see_21 : decode cX2_see 21 = .ok (.iconst (-1), 1) := dk_2 (dk_at dksX2_see_0 21 rfl rfl)
theorem dX2_see_22 : decode cX2_see 22 = .ok (.ireturn, 1) := dk_172 (dk_at dksX2_see_0 22 rfl rfl)
abbrev cX2_isSmall : ByteArray := prog_9_method_4_code
def yX2_isSmall : MethodName := ⟨RX2, "isSmall", "(I)Z"⟩
def dkwX2_isSmall_0 : List UInt8 := [26, 16, 97, 16, 122, 184, 0, 36, 172]
abbrev dktX2_isSmall_0 : List UInt8 := dkwX2_isSmall_0 ++ []
theorem dksX2_isSmall_0 : cX2_isSmall.data.toList.drop 0 = dktX2_isSmall_0 := by decide +kernel
theorem dX2_isSmall_0 : decode cX2_isSmall 0 = .ok (.iload_n 0, 1) := dk_26 (dk_at dksX2_isSmall_0 0 rfl rfl)
theorem dX2_isSmall_1 : decode cX2_isSmall 1 = .ok (.bipush 97, 2) := dk_16 97 (dk_at dksX2_isSmall_0 1 rfl rfl)
theorem dX2_isSmall_3 : decode cX2_isSmall 3 = .ok (.bipush 122, 2) := dk_16 122 (dk_at dksX2_isSmall_0 3 rfl rfl)
theorem dX2_isSmall_5 : decode cX2_isSmall 5 = .ok (.invokestatic 36, 3) := dk_184 0 36 (dk_at dksX2_isSmall_0 5 rfl rfl)
theorem dX2_isSmall_8 : decode cX2_isSmall 8 = .ok (.ireturn, 1) := dk_172 (dk_at dksX2_isSmall_0 8 rfl rfl)
abbrev cX2_isDigit : ByteArray := prog_9_method_5_code
def yX2_isDigit : MethodName := ⟨RX2, "isDigit", "(I)Z"⟩
def dkwX2_isDigit_0 : List UInt8 := [26, 16, 48, 16, 57, 184, 0, 36, 172]
abbrev dktX2_isDigit_0 : List UInt8 := dkwX2_isDigit_0 ++ []
theorem dksX2_isDigit_0 : cX2_isDigit.data.toList.drop 0 = dktX2_isDigit_0 := by decide +kernel
theorem dX2_isDigit_0 : decode cX2_isDigit 0 = .ok (.iload_n 0, 1) := dk_26 (dk_at dksX2_isDigit_0 0 rfl rfl)
theorem dX2_isDigit_1 : decode cX2_isDigit 1 = .ok (.bipush 48, 2) := dk_16 48 (dk_at dksX2_isDigit_0 1 rfl rfl)
theorem dX2_isDigit_3 : decode cX2_isDigit 3 = .ok (.bipush 57, 2) := dk_16 57 (dk_at dksX2_isDigit_0 3 rfl rfl)
theorem dX2_isDigit_5 : decode cX2_isDigit 5 = .ok (.invokestatic 36, 3) := dk_184 0 36 (dk_at dksX2_isDigit_0 5 rfl rfl)
theorem dX2_isDigit_8 : decode cX2_isDigit 8 = .ok (.ireturn, 1) := dk_172 (dk_at dksX2_isDigit_0 8 rfl rfl)
abbrev cX2_line : ByteArray := prog_9_method_15_code
def yX2_line : MethodName := ⟨RX2, "line", "()V"⟩
def dkwX2_line_10 : List UInt8 := [182, 0, 82, 191, 177]
abbrev dktX2_line_10 : List UInt8 := dkwX2_line_10 ++ []
def dkwX2_line_9 : List UInt8 := [182, 0, 143, 167, 0, 23, 42, 182, 0, 146, 167, 0, 16, 42, 182, 0, 149, 167, 0, 9, 42, 4]
abbrev dktX2_line_9 : List UInt8 := dkwX2_line_9 ++ dktX2_line_10
def dkwX2_line_8 : List UInt8 := [42, 182, 0, 134, 167, 0, 44, 42, 182, 0, 137, 167, 0, 37, 42, 182, 0, 140, 167, 0, 30, 42]
abbrev dktX2_line_8 : List UInt8 := dkwX2_line_8 ++ dktX2_line_9
def dkwX2_line_7 : List UInt8 := [170, 0, 0, 0, 0, 80, 0, 0, 0, 0, 0, 0, 0, 5, 0, 0, 0, 38, 0, 0, 0, 45, 0, 0, 0, 52, 0, 0, 0, 59, 0, 0, 0, 66, 0, 0, 0, 73]
abbrev dktX2_line_7 : List UInt8 := dkwX2_line_7 ++ dktX2_line_8
def dkwX2_line_6 : List UInt8 := [18, 100, 182, 0, 71, 153, 0, 5, 8, 61, 28]
abbrev dktX2_line_6 : List UInt8 := dkwX2_line_6 ++ dktX2_line_7
def dkwX2_line_5 : List UInt8 := [153, 0, 33, 6, 61, 167, 0, 28, 43, 18, 98, 182, 0, 71, 153, 0, 19, 7, 61, 167, 0, 14, 43]
abbrev dktX2_line_5 : List UInt8 := dkwX2_line_5 ++ dktX2_line_6
def dkwX2_line_4 : List UInt8 := [61, 167, 0, 56, 43, 18, 94, 182, 0, 71, 153, 0, 47, 5, 61, 167, 0, 42, 43, 18, 96, 182, 0, 71]
abbrev dktX2_line_4 : List UInt8 := dkwX2_line_4 ++ dktX2_line_5
def dkwX2_line_3 : List UInt8 := [43, 18, 90, 182, 0, 71, 153, 0, 75, 3, 61, 167, 0, 70, 43, 18, 92, 182, 0, 71, 153, 0, 61, 4]
abbrev dktX2_line_3 : List UInt8 := dkwX2_line_3 ++ dktX2_line_4
def dkwX2_line_2 : List UInt8 := [171, 0, 0, 0, 0, 0, 140, 0, 0, 0, 6, 196, 227, 155, 85, 0, 0, 0, 73, 0, 46, 153, 107, 0, 0, 0, 59, 0, 51, 136, 40, 0, 0, 0, 87, 0, 55, 161, 20, 0, 0, 0, 129, 5, 140, 204, 216, 0, 0, 0, 101, 5, 232, 240, 54, 0, 0, 0, 115]
abbrev dktX2_line_2 : List UInt8 := dkwX2_line_2 ++ dktX2_line_3
def dkwX2_line_1 : List UInt8 := [182, 0, 86]
abbrev dktX2_line_1 : List UInt8 := dkwX2_line_1 ++ dktX2_line_2
def dkwX2_line_0 : List UInt8 := [42, 180, 0, 47, 5, 159, 0, 9, 42, 4, 182, 0, 82, 191, 42, 180, 0, 61, 76, 2, 61, 43]
abbrev dktX2_line_0 : List UInt8 := dkwX2_line_0 ++ dktX2_line_1
theorem dksX2_line_0 : cX2_line.data.toList.drop 0 = dktX2_line_0 := by decide +kernel
theorem dksX2_line_1 : cX2_line.data.toList.drop 22 = dktX2_line_1 := dk_seg dksX2_line_0 22 rfl rfl
theorem dksX2_line_2 : cX2_line.data.toList.drop 25 = dktX2_line_2 := dk_seg dksX2_line_1 3 rfl rfl
theorem dksX2_line_3 : cX2_line.data.toList.drop 84 = dktX2_line_3 := dk_seg dksX2_line_2 59 rfl rfl
theorem dksX2_line_4 : cX2_line.data.toList.drop 108 = dktX2_line_4 := dk_seg dksX2_line_3 24 rfl rfl
theorem dksX2_line_5 : cX2_line.data.toList.drop 132 = dktX2_line_5 := dk_seg dksX2_line_4 24 rfl rfl
theorem dksX2_line_6 : cX2_line.data.toList.drop 155 = dktX2_line_6 := dk_seg dksX2_line_5 23 rfl rfl
theorem dksX2_line_7 : cX2_line.data.toList.drop 166 = dktX2_line_7 := dk_seg dksX2_line_6 11 rfl rfl
theorem dksX2_line_8 : cX2_line.data.toList.drop 204 = dktX2_line_8 := dk_seg dksX2_line_7 38 rfl rfl
theorem dksX2_line_9 : cX2_line.data.toList.drop 226 = dktX2_line_9 := dk_seg dksX2_line_8 22 rfl rfl
theorem dksX2_line_10 : cX2_line.data.toList.drop 248 = dktX2_line_10 := dk_seg dksX2_line_9 22 rfl rfl
theorem dX2_line_0 : decode cX2_line 0 = .ok (.aload_n 0, 1) := dk_42 (dk_at dksX2_line_0 0 rfl rfl)
theorem dX2_line_1 : decode cX2_line 1 = .ok (.getfield 47, 3) := dk_180 0 47 (dk_at dksX2_line_0 1 rfl rfl)
theorem dX2_line_4 : decode cX2_line 4 = .ok (.iconst 2, 1) := dk_5 (dk_at dksX2_line_0 4 rfl rfl)
theorem dX2_line_5 : decode cX2_line 5 = .ok (.if_icmp .eq 9, 3) := dk_159 0 9 (dk_at dksX2_line_0 5 rfl rfl)
theorem dX2_line_8 : decode cX2_line 8 = .ok (.aload_n 0, 1) := dk_42 (dk_at dksX2_line_0 8 rfl rfl)
theorem dX2_line_9 : decode cX2_line 9 = .ok (.iconst 1, 1) := dk_4 (dk_at dksX2_line_0 9 rfl rfl)
theorem dX2_line_10 : decode cX2_line 10 = .ok (.invokevirtual 82, 3) := dk_182 0 82 (dk_at dksX2_line_0 10 rfl rfl)
theorem dX2_line_13 : decode cX2_line 13 = .ok (.athrow, 1) := dk_191 (dk_at dksX2_line_0 13 rfl rfl)
theorem dX2_line_14 : decode cX2_line 14 = .ok (.aload_n 0, 1) := dk_42 (dk_at dksX2_line_0 14 rfl rfl)
theorem dX2_line_15 : decode cX2_line 15 = .ok (.getfield 61, 3) := dk_180 0 61 (dk_at dksX2_line_0 15 rfl rfl)
theorem dX2_line_18 : decode cX2_line 18 = .ok (.astore_n 1, 1) := dk_76 (dk_at dksX2_line_0 18 rfl rfl)
theorem dX2_line_19 : decode cX2_line 19 = .ok (.iconst (-1), 1) := dk_2 (dk_at dksX2_line_0 19 rfl rfl)
theorem dX2_line_20 : decode cX2_line 20 = .ok (.istore_n 2, 1) := dk_61 (dk_at dksX2_line_0 20 rfl rfl)
theorem dX2_line_21 : decode cX2_line 21 = .ok (.aload_n 1, 1) := dk_43 (dk_at dksX2_line_0 21 rfl rfl)
theorem dX2_line_22 : decode cX2_line 22 = .ok (.invokevirtual 86, 3) := dk_182 0 86 (dk_at dksX2_line_1 0 rfl rfl)
theorem dX2_line_25 : decode cX2_line 25 = .ok (.lookupswitch 140 #[(-991716523, 73), (3053931, 59), (3377192, 87), (3645716, 129), (93113560, 101), (99151926, 115)], 59) := by decide +kernel
theorem dX2_line_84 : decode cX2_line 84 = .ok (.aload_n 1, 1) := dk_43 (dk_at dksX2_line_3 0 rfl rfl)
theorem dX2_line_85 : decode cX2_line 85 = .ok (.ldc 90, 2) := dk_18 90 (dk_at dksX2_line_3 1 rfl rfl)
theorem dX2_line_87 : decode cX2_line 87 = .ok (.invokevirtual 71, 3) := dk_182 0 71 (dk_at dksX2_line_3 3 rfl rfl)
theorem dX2_line_90 : decode cX2_line 90 = .ok (.ifCond .eq 75, 3) := dk_153 0 75 (dk_at dksX2_line_3 6 rfl rfl)
theorem dX2_line_93 : decode cX2_line 93 = .ok (.iconst 0, 1) := dk_3 (dk_at dksX2_line_3 9 rfl rfl)
theorem dX2_line_94 : decode cX2_line 94 = .ok (.istore_n 2, 1) := dk_61 (dk_at dksX2_line_3 10 rfl rfl)
theorem dX2_line_95 : decode cX2_line 95 = .ok (.goto 70, 3) := dk_167 0 70 (dk_at dksX2_line_3 11 rfl rfl)
theorem dX2_line_98 : decode cX2_line 98 = .ok (.aload_n 1, 1) := dk_43 (dk_at dksX2_line_3 14 rfl rfl)
theorem dX2_line_99 : decode cX2_line 99 = .ok (.ldc 92, 2) := dk_18 92 (dk_at dksX2_line_3 15 rfl rfl)
theorem dX2_line_101 : decode cX2_line 101 = .ok (.invokevirtual 71, 3) := dk_182 0 71 (dk_at dksX2_line_3 17 rfl rfl)
theorem dX2_line_104 : decode cX2_line 104 = .ok (.ifCond .eq 61, 3) := dk_153 0 61 (dk_at dksX2_line_3 20 rfl rfl)
theorem dX2_line_107 : decode cX2_line 107 = .ok (.iconst 1, 1) := dk_4 (dk_at dksX2_line_3 23 rfl rfl)
theorem dX2_line_108 : decode cX2_line 108 = .ok (.istore_n 2, 1) := dk_61 (dk_at dksX2_line_4 0 rfl rfl)
theorem dX2_line_109 : decode cX2_line 109 = .ok (.goto 56, 3) := dk_167 0 56 (dk_at dksX2_line_4 1 rfl rfl)
theorem dX2_line_112 : decode cX2_line 112 = .ok (.aload_n 1, 1) := dk_43 (dk_at dksX2_line_4 4 rfl rfl)
theorem dX2_line_113 : decode cX2_line 113 = .ok (.ldc 94, 2) := dk_18 94 (dk_at dksX2_line_4 5 rfl rfl)
theorem dX2_line_115 : decode cX2_line 115 = .ok (.invokevirtual 71, 3) := dk_182 0 71 (dk_at dksX2_line_4 7 rfl rfl)
theorem dX2_line_118 : decode cX2_line 118 = .ok (.ifCond .eq 47, 3) := dk_153 0 47 (dk_at dksX2_line_4 10 rfl rfl)
theorem dX2_line_121 : decode cX2_line 121 = .ok (.iconst 2, 1) := dk_5 (dk_at dksX2_line_4 13 rfl rfl)
theorem dX2_line_122 : decode cX2_line 122 = .ok (.istore_n 2, 1) := dk_61 (dk_at dksX2_line_4 14 rfl rfl)
theorem dX2_line_123 : decode cX2_line 123 = .ok (.goto 42, 3) := dk_167 0 42 (dk_at dksX2_line_4 15 rfl rfl)
theorem dX2_line_126 : decode cX2_line 126 = .ok (.aload_n 1, 1) := dk_43 (dk_at dksX2_line_4 18 rfl rfl)
theorem dX2_line_127 : decode cX2_line 127 = .ok (.ldc 96, 2) := dk_18 96 (dk_at dksX2_line_4 19 rfl rfl)
theorem dX2_line_129 : decode cX2_line 129 = .ok (.invokevirtual 71, 3) := dk_182 0 71 (dk_at dksX2_line_4 21 rfl rfl)
theorem dX2_line_132 : decode cX2_line 132 = .ok (.ifCond .eq 33, 3) := dk_153 0 33 (dk_at dksX2_line_5 0 rfl rfl)
theorem dX2_line_135 : decode cX2_line 135 = .ok (.iconst 3, 1) := dk_6 (dk_at dksX2_line_5 3 rfl rfl)
theorem dX2_line_136 : decode cX2_line 136 = .ok (.istore_n 2, 1) := dk_61 (dk_at dksX2_line_5 4 rfl rfl)
theorem dX2_line_137 : decode cX2_line 137 = .ok (.goto 28, 3) := dk_167 0 28 (dk_at dksX2_line_5 5 rfl rfl)
theorem dX2_line_140 : decode cX2_line 140 = .ok (.aload_n 1, 1) := dk_43 (dk_at dksX2_line_5 8 rfl rfl)
theorem dX2_line_141 : decode cX2_line 141 = .ok (.ldc 98, 2) := dk_18 98 (dk_at dksX2_line_5 9 rfl rfl)
theorem dX2_line_143 : decode cX2_line 143 = .ok (.invokevirtual 71, 3) := dk_182 0 71 (dk_at dksX2_line_5 11 rfl rfl)
theorem dX2_line_146 : decode cX2_line 146 = .ok (.ifCond .eq 19, 3) := dk_153 0 19 (dk_at dksX2_line_5 14 rfl rfl)
theorem dX2_line_149 : decode cX2_line 149 = .ok (.iconst 4, 1) := dk_7 (dk_at dksX2_line_5 17 rfl rfl)
theorem dX2_line_150 : decode cX2_line 150 = .ok (.istore_n 2, 1) := dk_61 (dk_at dksX2_line_5 18 rfl rfl)
theorem dX2_line_151 : decode cX2_line 151 = .ok (.goto 14, 3) := dk_167 0 14 (dk_at dksX2_line_5 19 rfl rfl)
theorem dX2_line_154 : decode cX2_line 154 = .ok (.aload_n 1, 1) := dk_43 (dk_at dksX2_line_5 22 rfl rfl)
theorem dX2_line_155 : decode cX2_line 155 = .ok (.ldc 100, 2) := dk_18 100 (dk_at dksX2_line_6 0 rfl rfl)
theorem dX2_line_157 : decode cX2_line 157 = .ok (.invokevirtual 71, 3) := dk_182 0 71 (dk_at dksX2_line_6 2 rfl rfl)
theorem dX2_line_160 : decode cX2_line 160 = .ok (.ifCond .eq 5, 3) := dk_153 0 5 (dk_at dksX2_line_6 5 rfl rfl)
theorem dX2_line_163 : decode cX2_line 163 = .ok (.iconst 5, 1) := dk_8 (dk_at dksX2_line_6 8 rfl rfl)
theorem dX2_line_164 : decode cX2_line 164 = .ok (.istore_n 2, 1) := dk_61 (dk_at dksX2_line_6 9 rfl rfl)
theorem dX2_line_165 : decode cX2_line 165 = .ok (.iload_n 2, 1) := dk_28 (dk_at dksX2_line_6 10 rfl rfl)
theorem dX2_line_166 : decode cX2_line 166 = .ok (.tableswitch 80 0 5 #[38, 45, 52, 59, 66, 73], 38) := by decide +kernel
theorem dX2_line_204 : decode cX2_line 204 = .ok (.aload_n 0, 1) := dk_42 (dk_at dksX2_line_8 0 rfl rfl)
theorem dX2_line_205 : decode cX2_line 205 = .ok (.invokevirtual 134, 3) := dk_182 0 134 (dk_at dksX2_line_8 1 rfl rfl)
theorem dX2_line_208 : decode cX2_line 208 = .ok (.goto 44, 3) := dk_167 0 44 (dk_at dksX2_line_8 4 rfl rfl)
theorem dX2_line_211 : decode cX2_line 211 = .ok (.aload_n 0, 1) := dk_42 (dk_at dksX2_line_8 7 rfl rfl)
theorem dX2_line_212 : decode cX2_line 212 = .ok (.invokevirtual 137, 3) := dk_182 0 137 (dk_at dksX2_line_8 8 rfl rfl)
theorem dX2_line_215 : decode cX2_line 215 = .ok (.goto 37, 3) := dk_167 0 37 (dk_at dksX2_line_8 11 rfl rfl)
theorem dX2_line_218 : decode cX2_line 218 = .ok (.aload_n 0, 1) := dk_42 (dk_at dksX2_line_8 14 rfl rfl)
theorem dX2_line_219 : decode cX2_line 219 = .ok (.invokevirtual 140, 3) := dk_182 0 140 (dk_at dksX2_line_8 15 rfl rfl)
theorem dX2_line_222 : decode cX2_line 222 = .ok (.goto 30, 3) := dk_167 0 30 (dk_at dksX2_line_8 18 rfl rfl)
theorem dX2_line_225 : decode cX2_line 225 = .ok (.aload_n 0, 1) := dk_42 (dk_at dksX2_line_8 21 rfl rfl)
theorem dX2_line_226 : decode cX2_line 226 = .ok (.invokevirtual 143, 3) := dk_182 0 143 (dk_at dksX2_line_9 0 rfl rfl)
theorem dX2_line_229 : decode cX2_line 229 = .ok (.goto 23, 3) := dk_167 0 23 (dk_at dksX2_line_9 3 rfl rfl)
theorem dX2_line_232 : decode cX2_line 232 = .ok (.aload_n 0, 1) := dk_42 (dk_at dksX2_line_9 6 rfl rfl)
theorem dX2_line_233 : decode cX2_line 233 = .ok (.invokevirtual 146, 3) := dk_182 0 146 (dk_at dksX2_line_9 7 rfl rfl)
theorem dX2_line_236 : decode cX2_line 236 = .ok (.goto 16, 3) := dk_167 0 16 (dk_at dksX2_line_9 10 rfl rfl)
theorem dX2_line_239 : decode cX2_line 239 = .ok (.aload_n 0, 1) := dk_42 (dk_at dksX2_line_9 13 rfl rfl)
theorem dX2_line_240 : decode cX2_line 240 = .ok (.invokevirtual 149, 3) := dk_182 0 149 (dk_at dksX2_line_9 14 rfl rfl)
theorem dX2_line_243 : decode cX2_line 243 = .ok (.goto 9, 3) := dk_167 0 9 (dk_at dksX2_line_9 17 rfl rfl)
theorem dX2_line_246 : decode cX2_line 246 = .ok (.aload_n 0, 1) := dk_42 (dk_at dksX2_line_9 20 rfl rfl)
theorem dX2_line_247 : decode cX2_line 247 = .ok (.iconst 1, 1) := dk_4 (dk_at dksX2_line_9 21 rfl rfl)
theorem dX2_line_248 : decode cX2_line 248 = .ok (.invokevirtual 82, 3) := dk_182 0 82 (dk_at dksX2_line_10 0 rfl rfl)
theorem dX2_line_251 : decode cX2_line 251 = .ok (.athrow, 1) := dk_191 (dk_at dksX2_line_10 3 rfl rfl)
theorem dX2_line_252 : decode cX2_line 252 = .ok (.return_, 1) := dk_177 (dk_at dksX2_line_10 4 rfl rfl)
abbrev cX2_fail : ByteArray := prog_9_method_2_code
def yX2_fail : MethodName := ⟨RX2, "fail", "(I)LLastAsked$Refused;"⟩
def dkwX2_fail_0 : List UInt8 := [42, 180, 0, 12, 27, 42, 180, 0, 26, 182, 0, 30, 176]
abbrev dktX2_fail_0 : List UInt8 := dkwX2_fail_0 ++ []
theorem dksX2_fail_0 : cX2_fail.data.toList.drop 0 = dktX2_fail_0 := by decide +kernel
theorem dX2_fail_0 : decode cX2_fail 0 = .ok (.aload_n 0, 1) := dk_42 (dk_at dksX2_fail_0 0 rfl rfl)
theorem dX2_fail_1 : decode cX2_fail 1 = .ok (.getfield 12, 3) := dk_180 0 12 (dk_at dksX2_fail_0 1 rfl rfl)
theorem dX2_fail_4 : decode cX2_fail 4 = .ok (.iload_n 1, 1) := dk_27 (dk_at dksX2_fail_0 4 rfl rfl)
theorem dX2_fail_5 : decode cX2_fail 5 = .ok (.aload_n 0, 1) := dk_42 (dk_at dksX2_fail_0 5 rfl rfl)
theorem dX2_fail_6 : decode cX2_fail 6 = .ok (.getfield 26, 3) := dk_180 0 26 (dk_at dksX2_fail_0 6 rfl rfl)
theorem dX2_fail_9 : decode cX2_fail 9 = .ok (.invokevirtual 30, 3) := dk_182 0 30 (dk_at dksX2_fail_0 9 rfl rfl)
theorem dX2_fail_12 : decode cX2_fail 12 = .ok (.areturn, 1) := dk_176 (dk_at dksX2_fail_0 12 rfl rfl)
abbrev cX2_cityLine : ByteArray := prog_9_method_16_code
def yX2_cityLine : MethodName := ⟨RX2, "cityLine", "()V"⟩
def dkwX2_cityLine_2 : List UInt8 := [180, 0, 107, 27, 181, 0, 120, 177]
abbrev dktX2_cityLine_2 : List UInt8 := dkwX2_cityLine_2 ++ []
def dkwX2_cityLine_1 : List UInt8 := [16, 99, 182, 0, 153, 60, 42, 180, 0, 107, 42, 18, 157, 3, 16, 9, 182, 0, 153, 181, 0, 159, 42]
abbrev dktX2_cityLine_1 : List UInt8 := dkwX2_cityLine_1 ++ dktX2_cityLine_2
def dkwX2_cityLine_0 : List UInt8 := [42, 180, 0, 107, 180, 0, 120, 155, 0, 9, 42, 6, 182, 0, 82, 191, 42, 182, 0, 75, 42, 18, 152, 3]
abbrev dktX2_cityLine_0 : List UInt8 := dkwX2_cityLine_0 ++ dktX2_cityLine_1
theorem dksX2_cityLine_0 : cX2_cityLine.data.toList.drop 0 = dktX2_cityLine_0 := by decide +kernel
theorem dksX2_cityLine_1 : cX2_cityLine.data.toList.drop 24 = dktX2_cityLine_1 := dk_seg dksX2_cityLine_0 24 rfl rfl
theorem dksX2_cityLine_2 : cX2_cityLine.data.toList.drop 47 = dktX2_cityLine_2 := dk_seg dksX2_cityLine_1 23 rfl rfl
theorem dX2_cityLine_0 : decode cX2_cityLine 0 = .ok (.aload_n 0, 1) := dk_42 (dk_at dksX2_cityLine_0 0 rfl rfl)
theorem dX2_cityLine_1 : decode cX2_cityLine 1 = .ok (.getfield 107, 3) := dk_180 0 107 (dk_at dksX2_cityLine_0 1 rfl rfl)
theorem dX2_cityLine_4 : decode cX2_cityLine 4 = .ok (.getfield 120, 3) := dk_180 0 120 (dk_at dksX2_cityLine_0 4 rfl rfl)
theorem dX2_cityLine_7 : decode cX2_cityLine 7 = .ok (.ifCond .lt 9, 3) := dk_155 0 9 (dk_at dksX2_cityLine_0 7 rfl rfl)
theorem dX2_cityLine_10 : decode cX2_cityLine 10 = .ok (.aload_n 0, 1) := dk_42 (dk_at dksX2_cityLine_0 10 rfl rfl)
theorem dX2_cityLine_11 : decode cX2_cityLine 11 = .ok (.iconst 3, 1) := dk_6 (dk_at dksX2_cityLine_0 11 rfl rfl)
theorem dX2_cityLine_12 : decode cX2_cityLine 12 = .ok (.invokevirtual 82, 3) := dk_182 0 82 (dk_at dksX2_cityLine_0 12 rfl rfl)
theorem dX2_cityLine_15 : decode cX2_cityLine 15 = .ok (.athrow, 1) := dk_191 (dk_at dksX2_cityLine_0 15 rfl rfl)
theorem dX2_cityLine_16 : decode cX2_cityLine 16 = .ok (.aload_n 0, 1) := dk_42 (dk_at dksX2_cityLine_0 16 rfl rfl)
theorem dX2_cityLine_17 : decode cX2_cityLine 17 = .ok (.invokevirtual 75, 3) := dk_182 0 75 (dk_at dksX2_cityLine_0 17 rfl rfl)
theorem dX2_cityLine_20 : decode cX2_cityLine 20 = .ok (.aload_n 0, 1) := dk_42 (dk_at dksX2_cityLine_0 20 rfl rfl)
theorem dX2_cityLine_21 : decode cX2_cityLine 21 = .ok (.ldc 152, 2) := dk_18 152 (dk_at dksX2_cityLine_0 21 rfl rfl)
theorem dX2_cityLine_23 : decode cX2_cityLine 23 = .ok (.iconst 0, 1) := dk_3 (dk_at dksX2_cityLine_0 23 rfl rfl)
theorem dX2_cityLine_24 : decode cX2_cityLine 24 = .ok (.bipush 99, 2) := dk_16 99 (dk_at dksX2_cityLine_1 0 rfl rfl)
theorem dX2_cityLine_26 : decode cX2_cityLine 26 = .ok (.invokevirtual 153, 3) := dk_182 0 153 (dk_at dksX2_cityLine_1 2 rfl rfl)
theorem dX2_cityLine_29 : decode cX2_cityLine 29 = .ok (.istore_n 1, 1) := dk_60 (dk_at dksX2_cityLine_1 5 rfl rfl)
theorem dX2_cityLine_30 : decode cX2_cityLine 30 = .ok (.aload_n 0, 1) := dk_42 (dk_at dksX2_cityLine_1 6 rfl rfl)
theorem dX2_cityLine_31 : decode cX2_cityLine 31 = .ok (.getfield 107, 3) := dk_180 0 107 (dk_at dksX2_cityLine_1 7 rfl rfl)
theorem dX2_cityLine_34 : decode cX2_cityLine 34 = .ok (.aload_n 0, 1) := dk_42 (dk_at dksX2_cityLine_1 10 rfl rfl)
theorem dX2_cityLine_35 : decode cX2_cityLine 35 = .ok (.ldc 157, 2) := dk_18 157 (dk_at dksX2_cityLine_1 11 rfl rfl)
theorem dX2_cityLine_37 : decode cX2_cityLine 37 = .ok (.iconst 0, 1) := dk_3 (dk_at dksX2_cityLine_1 13 rfl rfl)
theorem dX2_cityLine_38 : decode cX2_cityLine 38 = .ok (.bipush 9, 2) := dk_16 9 (dk_at dksX2_cityLine_1 14 rfl rfl)
theorem dX2_cityLine_40 : decode cX2_cityLine 40 = .ok (.invokevirtual 153, 3) := dk_182 0 153 (dk_at dksX2_cityLine_1 16 rfl rfl)
theorem dX2_cityLine_43 : decode cX2_cityLine 43 = .ok (.putfield 159, 3) := dk_181 0 159 (dk_at dksX2_cityLine_1 19 rfl rfl)
theorem dX2_cityLine_46 : decode cX2_cityLine 46 = .ok (.aload_n 0, 1) := dk_42 (dk_at dksX2_cityLine_1 22 rfl rfl)
theorem dX2_cityLine_47 : decode cX2_cityLine 47 = .ok (.getfield 107, 3) := dk_180 0 107 (dk_at dksX2_cityLine_2 0 rfl rfl)
theorem dX2_cityLine_50 : decode cX2_cityLine 50 = .ok (.iload_n 1, 1) := dk_27 (dk_at dksX2_cityLine_2 3 rfl rfl)
theorem dX2_cityLine_51 : decode cX2_cityLine 51 = .ok (.putfield 120, 3) := dk_181 0 120 (dk_at dksX2_cityLine_2 4 rfl rfl)
theorem dX2_cityLine_54 : decode cX2_cityLine 54 = .ok (.return_, 1) := dk_177 (dk_at dksX2_cityLine_2 7 rfl rfl)
abbrev cX2_after : ByteArray := prog_9_method_12_code
def yX2_after : MethodName := ⟨RX2, "after", "(Ljava/lang/String;II)I"⟩
def dkwX2_after_2 : List UInt8 := [21, 4, 172]
abbrev dktX2_after_2 : List UInt8 := dkwX2_after_2 ++ []
def dkwX2_after_1 : List UInt8 := [29, 184, 0, 36, 154, 0, 9, 42, 7, 182, 0, 82, 191, 42, 180, 0, 68, 54, 4, 42, 182, 0, 75]
abbrev dktX2_after_1 : List UInt8 := dkwX2_after_1 ++ dktX2_after_2
def dkwX2_after_0 : List UInt8 := [42, 43, 182, 0, 116, 42, 180, 0, 47, 6, 159, 0, 9, 42, 4, 182, 0, 82, 191, 42, 180, 0, 68, 28]
abbrev dktX2_after_0 : List UInt8 := dkwX2_after_0 ++ dktX2_after_1
theorem dksX2_after_0 : cX2_after.data.toList.drop 0 = dktX2_after_0 := by decide +kernel
theorem dksX2_after_1 : cX2_after.data.toList.drop 24 = dktX2_after_1 := dk_seg dksX2_after_0 24 rfl rfl
theorem dksX2_after_2 : cX2_after.data.toList.drop 47 = dktX2_after_2 := dk_seg dksX2_after_1 23 rfl rfl
theorem dX2_after_0 : decode cX2_after 0 = .ok (.aload_n 0, 1) := dk_42 (dk_at dksX2_after_0 0 rfl rfl)
theorem dX2_after_1 : decode cX2_after 1 = .ok (.aload_n 1, 1) := dk_43 (dk_at dksX2_after_0 1 rfl rfl)
theorem dX2_after_2 : decode cX2_after 2 = .ok (.invokevirtual 116, 3) := dk_182 0 116 (dk_at dksX2_after_0 2 rfl rfl)
theorem dX2_after_5 : decode cX2_after 5 = .ok (.aload_n 0, 1) := dk_42 (dk_at dksX2_after_0 5 rfl rfl)
theorem dX2_after_6 : decode cX2_after 6 = .ok (.getfield 47, 3) := dk_180 0 47 (dk_at dksX2_after_0 6 rfl rfl)
theorem dX2_after_9 : decode cX2_after 9 = .ok (.iconst 3, 1) := dk_6 (dk_at dksX2_after_0 9 rfl rfl)
theorem dX2_after_10 : decode cX2_after 10 = .ok (.if_icmp .eq 9, 3) := dk_159 0 9 (dk_at dksX2_after_0 10 rfl rfl)
theorem dX2_after_13 : decode cX2_after 13 = .ok (.aload_n 0, 1) := dk_42 (dk_at dksX2_after_0 13 rfl rfl)
theorem dX2_after_14 : decode cX2_after 14 = .ok (.iconst 1, 1) := dk_4 (dk_at dksX2_after_0 14 rfl rfl)
theorem dX2_after_15 : decode cX2_after 15 = .ok (.invokevirtual 82, 3) := dk_182 0 82 (dk_at dksX2_after_0 15 rfl rfl)
theorem dX2_after_18 : decode cX2_after 18 = .ok (.athrow, 1) := dk_191 (dk_at dksX2_after_0 18 rfl rfl)
theorem dX2_after_19 : decode cX2_after 19 = .ok (.aload_n 0, 1) := dk_42 (dk_at dksX2_after_0 19 rfl rfl)
theorem dX2_after_20 : decode cX2_after 20 = .ok (.getfield 68, 3) := dk_180 0 68 (dk_at dksX2_after_0 20 rfl rfl)
theorem dX2_after_23 : decode cX2_after 23 = .ok (.iload_n 2, 1) := dk_28 (dk_at dksX2_after_0 23 rfl rfl)
theorem dX2_after_24 : decode cX2_after 24 = .ok (.iload_n 3, 1) := dk_29 (dk_at dksX2_after_1 0 rfl rfl)
theorem dX2_after_25 : decode cX2_after 25 = .ok (.invokestatic 36, 3) := dk_184 0 36 (dk_at dksX2_after_1 1 rfl rfl)
theorem dX2_after_28 : decode cX2_after 28 = .ok (.ifCond .ne 9, 3) := dk_154 0 9 (dk_at dksX2_after_1 4 rfl rfl)
theorem dX2_after_31 : decode cX2_after 31 = .ok (.aload_n 0, 1) := dk_42 (dk_at dksX2_after_1 7 rfl rfl)
theorem dX2_after_32 : decode cX2_after 32 = .ok (.iconst 4, 1) := dk_7 (dk_at dksX2_after_1 8 rfl rfl)
theorem dX2_after_33 : decode cX2_after 33 = .ok (.invokevirtual 82, 3) := dk_182 0 82 (dk_at dksX2_after_1 9 rfl rfl)
theorem dX2_after_36 : decode cX2_after 36 = .ok (.athrow, 1) := dk_191 (dk_at dksX2_after_1 12 rfl rfl)
theorem dX2_after_37 : decode cX2_after 37 = .ok (.aload_n 0, 1) := dk_42 (dk_at dksX2_after_1 13 rfl rfl)
theorem dX2_after_38 : decode cX2_after 38 = .ok (.getfield 68, 3) := dk_180 0 68 (dk_at dksX2_after_1 14 rfl rfl)
theorem dX2_after_41 : decode cX2_after 41 = .ok (.istore 4, 2) := dk_54 4 (dk_at dksX2_after_1 17 rfl rfl)
theorem dX2_after_43 : decode cX2_after 43 = .ok (.aload_n 0, 1) := dk_42 (dk_at dksX2_after_1 19 rfl rfl)
theorem dX2_after_44 : decode cX2_after 44 = .ok (.invokevirtual 75, 3) := dk_182 0 75 (dk_at dksX2_after_1 20 rfl rfl)
theorem dX2_after_47 : decode cX2_after 47 = .ok (.iload 4, 2) := dk_21 4 (dk_at dksX2_after_2 0 rfl rfl)
theorem dX2_after_49 : decode cX2_after 49 = .ok (.ireturn, 1) := dk_172 (dk_at dksX2_after_2 2 rfl rfl)
abbrev cX2_must : ByteArray := prog_9_method_8_code
def yX2_must : MethodName := ⟨RX2, "must", "(Ljava/lang/String;)V"⟩
def dkwX2_must_0 : List UInt8 := [42, 43, 182, 0, 78, 154, 0, 9, 42, 4, 182, 0, 82, 191, 177]
abbrev dktX2_must_0 : List UInt8 := dkwX2_must_0 ++ []
theorem dksX2_must_0 : cX2_must.data.toList.drop 0 = dktX2_must_0 := by decide +kernel
theorem dX2_must_0 : decode cX2_must 0 = .ok (.aload_n 0, 1) := dk_42 (dk_at dksX2_must_0 0 rfl rfl)
theorem dX2_must_1 : decode cX2_must 1 = .ok (.aload_n 1, 1) := dk_43 (dk_at dksX2_must_0 1 rfl rfl)
theorem dX2_must_2 : decode cX2_must 2 = .ok (.invokevirtual 78, 3) := dk_182 0 78 (dk_at dksX2_must_0 2 rfl rfl)
theorem dX2_must_5 : decode cX2_must 5 = .ok (.ifCond .ne 9, 3) := dk_154 0 9 (dk_at dksX2_must_0 5 rfl rfl)
theorem dX2_must_8 : decode cX2_must 8 = .ok (.aload_n 0, 1) := dk_42 (dk_at dksX2_must_0 8 rfl rfl)
theorem dX2_must_9 : decode cX2_must 9 = .ok (.iconst 1, 1) := dk_4 (dk_at dksX2_must_0 9 rfl rfl)
theorem dX2_must_10 : decode cX2_must 10 = .ok (.invokevirtual 82, 3) := dk_182 0 82 (dk_at dksX2_must_0 10 rfl rfl)
theorem dX2_must_13 : decode cX2_must 13 = .ok (.athrow, 1) := dk_191 (dk_at dksX2_must_0 13 rfl rfl)
theorem dX2_must_14 : decode cX2_must 14 = .ok (.return_, 1) := dk_177 (dk_at dksX2_must_0 14 rfl rfl)
abbrev cX2_takes : ByteArray := prog_9_method_7_code
def yX2_takes : MethodName := ⟨RX2, "takes", "(Ljava/lang/String;)Z"⟩
def dkwX2_takes_1 : List UInt8 := [182, 0, 75, 4, 172]
abbrev dktX2_takes_1 : List UInt8 := dkwX2_takes_1 ++ []
def dkwX2_takes_0 : List UInt8 := [42, 180, 0, 47, 5, 160, 0, 14, 42, 180, 0, 61, 43, 182, 0, 71, 154, 0, 5, 3, 172, 42]
abbrev dktX2_takes_0 : List UInt8 := dkwX2_takes_0 ++ dktX2_takes_1
theorem dksX2_takes_0 : cX2_takes.data.toList.drop 0 = dktX2_takes_0 := by decide +kernel
theorem dksX2_takes_1 : cX2_takes.data.toList.drop 22 = dktX2_takes_1 := dk_seg dksX2_takes_0 22 rfl rfl
theorem dX2_takes_0 : decode cX2_takes 0 = .ok (.aload_n 0, 1) := dk_42 (dk_at dksX2_takes_0 0 rfl rfl)
theorem dX2_takes_1 : decode cX2_takes 1 = .ok (.getfield 47, 3) := dk_180 0 47 (dk_at dksX2_takes_0 1 rfl rfl)
theorem dX2_takes_4 : decode cX2_takes 4 = .ok (.iconst 2, 1) := dk_5 (dk_at dksX2_takes_0 4 rfl rfl)
theorem dX2_takes_5 : decode cX2_takes 5 = .ok (.if_icmp .ne 14, 3) := dk_160 0 14 (dk_at dksX2_takes_0 5 rfl rfl)
theorem dX2_takes_8 : decode cX2_takes 8 = .ok (.aload_n 0, 1) := dk_42 (dk_at dksX2_takes_0 8 rfl rfl)
theorem dX2_takes_9 : decode cX2_takes 9 = .ok (.getfield 61, 3) := dk_180 0 61 (dk_at dksX2_takes_0 9 rfl rfl)
theorem dX2_takes_12 : decode cX2_takes 12 = .ok (.aload_n 1, 1) := dk_43 (dk_at dksX2_takes_0 12 rfl rfl)
theorem dX2_takes_13 : decode cX2_takes 13 = .ok (.invokevirtual 71, 3) := dk_182 0 71 (dk_at dksX2_takes_0 13 rfl rfl)
theorem dX2_takes_16 : decode cX2_takes 16 = .ok (.ifCond .ne 5, 3) := dk_154 0 5 (dk_at dksX2_takes_0 16 rfl rfl)
theorem dX2_takes_19 : decode cX2_takes 19 = .ok (.iconst 0, 1) := dk_3 (dk_at dksX2_takes_0 19 rfl rfl)
theorem dX2_takes_20 : decode cX2_takes 20 = .ok (.ireturn, 1) := dk_172 (dk_at dksX2_takes_0 20 rfl rfl)
theorem dX2_takes_21 : decode cX2_takes 21 = .ok (.aload_n 0, 1) := dk_42 (dk_at dksX2_takes_0 21 rfl rfl)
theorem dX2_takes_22 : decode cX2_takes 22 = .ok (.invokevirtual 75, 3) := dk_182 0 75 (dk_at dksX2_takes_1 0 rfl rfl)
theorem dX2_takes_25 : decode cX2_takes 25 = .ok (.iconst 1, 1) := dk_4 (dk_at dksX2_takes_1 3 rfl rfl)
theorem dX2_takes_26 : decode cX2_takes 26 = .ok (.ireturn, 1) := dk_172 (dk_at dksX2_takes_1 4 rfl rfl)
abbrev cX2_personLine : ByteArray := prog_9_method_18_code
def yX2_personLine : MethodName := ⟨RX2, "personLine", "()V"⟩
def dkwX2_personLine_3 : List UInt8 := [180, 0, 107, 180, 0, 131, 43, 83, 42, 180, 0, 107, 89, 180, 0, 131, 4, 96, 181, 0, 131, 177]
abbrev dktX2_personLine_3 : List UInt8 := dkwX2_personLine_3 ++ []
def dkwX2_personLine_2 : List UInt8 := [181, 0, 197, 43, 42, 18, 202, 3, 16, 100, 182, 0, 153, 181, 0, 204, 42, 180, 0, 107, 180, 0, 206, 42]
abbrev dktX2_personLine_2 : List UInt8 := dkwX2_personLine_2 ++ dktX2_personLine_3
def dkwX2_personLine_1 : List UInt8 := [182, 0, 187, 42, 180, 0, 107, 180, 0, 131, 182, 0, 191, 76, 43, 42, 18, 195, 3, 16, 99, 182, 0, 153]
abbrev dktX2_personLine_1 : List UInt8 := dkwX2_personLine_1 ++ dktX2_personLine_2
def dkwX2_personLine_0 : List UInt8 := [42, 42, 180, 0, 107, 180, 0, 131, 16, 6, 162, 0, 7, 4, 167, 0, 4, 3, 182, 0, 183, 42, 42]
abbrev dktX2_personLine_0 : List UInt8 := dkwX2_personLine_0 ++ dktX2_personLine_1
theorem dksX2_personLine_0 : cX2_personLine.data.toList.drop 0 = dktX2_personLine_0 := by decide +kernel
theorem dksX2_personLine_1 : cX2_personLine.data.toList.drop 23 = dktX2_personLine_1 := dk_seg dksX2_personLine_0 23 rfl rfl
theorem dksX2_personLine_2 : cX2_personLine.data.toList.drop 47 = dktX2_personLine_2 := dk_seg dksX2_personLine_1 24 rfl rfl
theorem dksX2_personLine_3 : cX2_personLine.data.toList.drop 71 = dktX2_personLine_3 := dk_seg dksX2_personLine_2 24 rfl rfl
theorem dX2_personLine_0 : decode cX2_personLine 0 = .ok (.aload_n 0, 1) := dk_42 (dk_at dksX2_personLine_0 0 rfl rfl)
theorem dX2_personLine_1 : decode cX2_personLine 1 = .ok (.aload_n 0, 1) := dk_42 (dk_at dksX2_personLine_0 1 rfl rfl)
theorem dX2_personLine_2 : decode cX2_personLine 2 = .ok (.getfield 107, 3) := dk_180 0 107 (dk_at dksX2_personLine_0 2 rfl rfl)
theorem dX2_personLine_5 : decode cX2_personLine 5 = .ok (.getfield 131, 3) := dk_180 0 131 (dk_at dksX2_personLine_0 5 rfl rfl)
theorem dX2_personLine_8 : decode cX2_personLine 8 = .ok (.bipush 6, 2) := dk_16 6 (dk_at dksX2_personLine_0 8 rfl rfl)
theorem dX2_personLine_10 : decode cX2_personLine 10 = .ok (.if_icmp .ge 7, 3) := dk_162 0 7 (dk_at dksX2_personLine_0 10 rfl rfl)
theorem dX2_personLine_13 : decode cX2_personLine 13 = .ok (.iconst 1, 1) := dk_4 (dk_at dksX2_personLine_0 13 rfl rfl)
theorem dX2_personLine_14 : decode cX2_personLine 14 = .ok (.goto 4, 3) := dk_167 0 4 (dk_at dksX2_personLine_0 14 rfl rfl)
theorem dX2_personLine_17 : decode cX2_personLine 17 = .ok (.iconst 0, 1) := dk_3 (dk_at dksX2_personLine_0 17 rfl rfl)
theorem dX2_personLine_18 : decode cX2_personLine 18 = .ok (.invokevirtual 183, 3) := dk_182 0 183 (dk_at dksX2_personLine_0 18 rfl rfl)
theorem dX2_personLine_21 : decode cX2_personLine 21 = .ok (.aload_n 0, 1) := dk_42 (dk_at dksX2_personLine_0 21 rfl rfl)
theorem dX2_personLine_22 : decode cX2_personLine 22 = .ok (.aload_n 0, 1) := dk_42 (dk_at dksX2_personLine_0 22 rfl rfl)
theorem dX2_personLine_23 : decode cX2_personLine 23 = .ok (.invokevirtual 187, 3) := dk_182 0 187 (dk_at dksX2_personLine_1 0 rfl rfl)
theorem dX2_personLine_26 : decode cX2_personLine 26 = .ok (.aload_n 0, 1) := dk_42 (dk_at dksX2_personLine_1 3 rfl rfl)
theorem dX2_personLine_27 : decode cX2_personLine 27 = .ok (.getfield 107, 3) := dk_180 0 107 (dk_at dksX2_personLine_1 4 rfl rfl)
theorem dX2_personLine_30 : decode cX2_personLine 30 = .ok (.getfield 131, 3) := dk_180 0 131 (dk_at dksX2_personLine_1 7 rfl rfl)
theorem dX2_personLine_33 : decode cX2_personLine 33 = .ok (.invokevirtual 191, 3) := dk_182 0 191 (dk_at dksX2_personLine_1 10 rfl rfl)
theorem dX2_personLine_36 : decode cX2_personLine 36 = .ok (.astore_n 1, 1) := dk_76 (dk_at dksX2_personLine_1 13 rfl rfl)
theorem dX2_personLine_37 : decode cX2_personLine 37 = .ok (.aload_n 1, 1) := dk_43 (dk_at dksX2_personLine_1 14 rfl rfl)
theorem dX2_personLine_38 : decode cX2_personLine 38 = .ok (.aload_n 0, 1) := dk_42 (dk_at dksX2_personLine_1 15 rfl rfl)
theorem dX2_personLine_39 : decode cX2_personLine 39 = .ok (.ldc 195, 2) := dk_18 195 (dk_at dksX2_personLine_1 16 rfl rfl)
theorem dX2_personLine_41 : decode cX2_personLine 41 = .ok (.iconst 0, 1) := dk_3 (dk_at dksX2_personLine_1 18 rfl rfl)
theorem dX2_personLine_42 : decode cX2_personLine 42 = .ok (.bipush 99, 2) := dk_16 99 (dk_at dksX2_personLine_1 19 rfl rfl)
theorem dX2_personLine_44 : decode cX2_personLine 44 = .ok (.invokevirtual 153, 3) := dk_182 0 153 (dk_at dksX2_personLine_1 21 rfl rfl)
theorem dX2_personLine_47 : decode cX2_personLine 47 = .ok (.putfield 197, 3) := dk_181 0 197 (dk_at dksX2_personLine_2 0 rfl rfl)
theorem dX2_personLine_50 : decode cX2_personLine 50 = .ok (.aload_n 1, 1) := dk_43 (dk_at dksX2_personLine_2 3 rfl rfl)
theorem dX2_personLine_51 : decode cX2_personLine 51 = .ok (.aload_n 0, 1) := dk_42 (dk_at dksX2_personLine_2 4 rfl rfl)
theorem dX2_personLine_52 : decode cX2_personLine 52 = .ok (.ldc 202, 2) := dk_18 202 (dk_at dksX2_personLine_2 5 rfl rfl)
theorem dX2_personLine_54 : decode cX2_personLine 54 = .ok (.iconst 0, 1) := dk_3 (dk_at dksX2_personLine_2 7 rfl rfl)
theorem dX2_personLine_55 : decode cX2_personLine 55 = .ok (.bipush 100, 2) := dk_16 100 (dk_at dksX2_personLine_2 8 rfl rfl)
theorem dX2_personLine_57 : decode cX2_personLine 57 = .ok (.invokevirtual 153, 3) := dk_182 0 153 (dk_at dksX2_personLine_2 10 rfl rfl)
theorem dX2_personLine_60 : decode cX2_personLine 60 = .ok (.putfield 204, 3) := dk_181 0 204 (dk_at dksX2_personLine_2 13 rfl rfl)
theorem dX2_personLine_63 : decode cX2_personLine 63 = .ok (.aload_n 0, 1) := dk_42 (dk_at dksX2_personLine_2 16 rfl rfl)
theorem dX2_personLine_64 : decode cX2_personLine 64 = .ok (.getfield 107, 3) := dk_180 0 107 (dk_at dksX2_personLine_2 17 rfl rfl)
theorem dX2_personLine_67 : decode cX2_personLine 67 = .ok (.getfield 206, 3) := dk_180 0 206 (dk_at dksX2_personLine_2 20 rfl rfl)
theorem dX2_personLine_70 : decode cX2_personLine 70 = .ok (.aload_n 0, 1) := dk_42 (dk_at dksX2_personLine_2 23 rfl rfl)
theorem dX2_personLine_71 : decode cX2_personLine 71 = .ok (.getfield 107, 3) := dk_180 0 107 (dk_at dksX2_personLine_3 0 rfl rfl)
theorem dX2_personLine_74 : decode cX2_personLine 74 = .ok (.getfield 131, 3) := dk_180 0 131 (dk_at dksX2_personLine_3 3 rfl rfl)
theorem dX2_personLine_77 : decode cX2_personLine 77 = .ok (.aload_n 1, 1) := dk_43 (dk_at dksX2_personLine_3 6 rfl rfl)
theorem dX2_personLine_78 : decode cX2_personLine 78 = .ok (.aastore, 1) := dk_83 (dk_at dksX2_personLine_3 7 rfl rfl)
theorem dX2_personLine_79 : decode cX2_personLine 79 = .ok (.aload_n 0, 1) := dk_42 (dk_at dksX2_personLine_3 8 rfl rfl)
theorem dX2_personLine_80 : decode cX2_personLine 80 = .ok (.getfield 107, 3) := dk_180 0 107 (dk_at dksX2_personLine_3 9 rfl rfl)
theorem dX2_personLine_83 : decode cX2_personLine 83 = .ok (.dup, 1) := dk_89 (dk_at dksX2_personLine_3 12 rfl rfl)
theorem dX2_personLine_84 : decode cX2_personLine 84 = .ok (.getfield 131, 3) := dk_180 0 131 (dk_at dksX2_personLine_3 13 rfl rfl)
theorem dX2_personLine_87 : decode cX2_personLine 87 = .ok (.iconst 1, 1) := dk_4 (dk_at dksX2_personLine_3 16 rfl rfl)
theorem dX2_personLine_88 : decode cX2_personLine 88 = .ok (.iadd, 1) := dk_96 (dk_at dksX2_personLine_3 17 rfl rfl)
theorem dX2_personLine_89 : decode cX2_personLine 89 = .ok (.putfield 131, 3) := dk_181 0 131 (dk_at dksX2_personLine_3 18 rfl rfl)
theorem dX2_personLine_92 : decode cX2_personLine 92 = .ok (.return_, 1) := dk_177 (dk_at dksX2_personLine_3 21 rfl rfl)
abbrev cX2_begins : ByteArray := prog_9_method_13_code
def yX2_begins : MethodName := ⟨RX2, "begins", "(Z)V"⟩
def dkwX2_begins_1 : List UInt8 := [182, 0, 82, 191, 42, 182, 0, 75, 177]
abbrev dktX2_begins_1 : List UInt8 := dkwX2_begins_1 ++ []
def dkwX2_begins_0 : List UInt8 := [27, 154, 0, 9, 42, 8, 182, 0, 82, 191, 42, 180, 0, 107, 180, 0, 120, 156, 0, 10, 42, 16, 6]
abbrev dktX2_begins_0 : List UInt8 := dkwX2_begins_0 ++ dktX2_begins_1
theorem dksX2_begins_0 : cX2_begins.data.toList.drop 0 = dktX2_begins_0 := by decide +kernel
theorem dksX2_begins_1 : cX2_begins.data.toList.drop 23 = dktX2_begins_1 := dk_seg dksX2_begins_0 23 rfl rfl
theorem dX2_begins_0 : decode cX2_begins 0 = .ok (.iload_n 1, 1) := dk_27 (dk_at dksX2_begins_0 0 rfl rfl)
theorem dX2_begins_1 : decode cX2_begins 1 = .ok (.ifCond .ne 9, 3) := dk_154 0 9 (dk_at dksX2_begins_0 1 rfl rfl)
theorem dX2_begins_4 : decode cX2_begins 4 = .ok (.aload_n 0, 1) := dk_42 (dk_at dksX2_begins_0 4 rfl rfl)
theorem dX2_begins_5 : decode cX2_begins 5 = .ok (.iconst 5, 1) := dk_8 (dk_at dksX2_begins_0 5 rfl rfl)
theorem dX2_begins_6 : decode cX2_begins 6 = .ok (.invokevirtual 82, 3) := dk_182 0 82 (dk_at dksX2_begins_0 6 rfl rfl)
theorem dX2_begins_9 : decode cX2_begins 9 = .ok (.athrow, 1) := dk_191 (dk_at dksX2_begins_0 9 rfl rfl)
theorem dX2_begins_10 : decode cX2_begins 10 = .ok (.aload_n 0, 1) := dk_42 (dk_at dksX2_begins_0 10 rfl rfl)
theorem dX2_begins_11 : decode cX2_begins 11 = .ok (.getfield 107, 3) := dk_180 0 107 (dk_at dksX2_begins_0 11 rfl rfl)
theorem dX2_begins_14 : decode cX2_begins 14 = .ok (.getfield 120, 3) := dk_180 0 120 (dk_at dksX2_begins_0 14 rfl rfl)
theorem dX2_begins_17 : decode cX2_begins 17 = .ok (.ifCond .ge 10, 3) := dk_156 0 10 (dk_at dksX2_begins_0 17 rfl rfl)
theorem dX2_begins_20 : decode cX2_begins 20 = .ok (.aload_n 0, 1) := dk_42 (dk_at dksX2_begins_0 20 rfl rfl)
theorem dX2_begins_21 : decode cX2_begins 21 = .ok (.bipush 6, 2) := dk_16 6 (dk_at dksX2_begins_0 21 rfl rfl)
theorem dX2_begins_23 : decode cX2_begins 23 = .ok (.invokevirtual 82, 3) := dk_182 0 82 (dk_at dksX2_begins_1 0 rfl rfl)
theorem dX2_begins_26 : decode cX2_begins 26 = .ok (.athrow, 1) := dk_191 (dk_at dksX2_begins_1 3 rfl rfl)
theorem dX2_begins_27 : decode cX2_begins 27 = .ok (.aload_n 0, 1) := dk_42 (dk_at dksX2_begins_1 4 rfl rfl)
theorem dX2_begins_28 : decode cX2_begins 28 = .ok (.invokevirtual 75, 3) := dk_182 0 75 (dk_at dksX2_begins_1 5 rfl rfl)
theorem dX2_begins_31 : decode cX2_begins 31 = .ok (.return_, 1) := dk_177 (dk_at dksX2_begins_1 8 rfl rfl)
abbrev cX2_newName : ByteArray := prog_9_method_10_code
def yX2_newName : MethodName := ⟨RX2, "newName", "()Ljava/lang/String;"⟩
def dkwX2_newName_1 : List UInt8 := [42, 180, 0, 61, 76, 42, 182, 0, 75, 43, 176]
abbrev dktX2_newName_1 : List UInt8 := dkwX2_newName_1 ++ []
def dkwX2_newName_0 : List UInt8 := [42, 182, 0, 104, 42, 180, 0, 107, 42, 180, 0, 61, 182, 0, 110, 198, 0, 9, 42, 6, 182, 0, 82, 191]
abbrev dktX2_newName_0 : List UInt8 := dkwX2_newName_0 ++ dktX2_newName_1
theorem dksX2_newName_0 : cX2_newName.data.toList.drop 0 = dktX2_newName_0 := by decide +kernel
theorem dksX2_newName_1 : cX2_newName.data.toList.drop 24 = dktX2_newName_1 := dk_seg dksX2_newName_0 24 rfl rfl
theorem dX2_newName_0 : decode cX2_newName 0 = .ok (.aload_n 0, 1) := dk_42 (dk_at dksX2_newName_0 0 rfl rfl)
theorem dX2_newName_1 : decode cX2_newName 1 = .ok (.invokevirtual 104, 3) := dk_182 0 104 (dk_at dksX2_newName_0 1 rfl rfl)
theorem dX2_newName_4 : decode cX2_newName 4 = .ok (.aload_n 0, 1) := dk_42 (dk_at dksX2_newName_0 4 rfl rfl)
theorem dX2_newName_5 : decode cX2_newName 5 = .ok (.getfield 107, 3) := dk_180 0 107 (dk_at dksX2_newName_0 5 rfl rfl)
theorem dX2_newName_8 : decode cX2_newName 8 = .ok (.aload_n 0, 1) := dk_42 (dk_at dksX2_newName_0 8 rfl rfl)
theorem dX2_newName_9 : decode cX2_newName 9 = .ok (.getfield 61, 3) := dk_180 0 61 (dk_at dksX2_newName_0 9 rfl rfl)
theorem dX2_newName_12 : decode cX2_newName 12 = .ok (.invokevirtual 110, 3) := dk_182 0 110 (dk_at dksX2_newName_0 12 rfl rfl)
theorem dX2_newName_15 : decode cX2_newName 15 = .ok (.ifnull 9, 3) := dk_198 0 9 (dk_at dksX2_newName_0 15 rfl rfl)
theorem dX2_newName_18 : decode cX2_newName 18 = .ok (.aload_n 0, 1) := dk_42 (dk_at dksX2_newName_0 18 rfl rfl)
theorem dX2_newName_19 : decode cX2_newName 19 = .ok (.iconst 3, 1) := dk_6 (dk_at dksX2_newName_0 19 rfl rfl)
theorem dX2_newName_20 : decode cX2_newName 20 = .ok (.invokevirtual 82, 3) := dk_182 0 82 (dk_at dksX2_newName_0 20 rfl rfl)
theorem dX2_newName_23 : decode cX2_newName 23 = .ok (.athrow, 1) := dk_191 (dk_at dksX2_newName_0 23 rfl rfl)
theorem dX2_newName_24 : decode cX2_newName 24 = .ok (.aload_n 0, 1) := dk_42 (dk_at dksX2_newName_1 0 rfl rfl)
theorem dX2_newName_25 : decode cX2_newName 25 = .ok (.getfield 61, 3) := dk_180 0 61 (dk_at dksX2_newName_1 1 rfl rfl)
theorem dX2_newName_28 : decode cX2_newName 28 = .ok (.astore_n 1, 1) := dk_76 (dk_at dksX2_newName_1 4 rfl rfl)
theorem dX2_newName_29 : decode cX2_newName 29 = .ok (.aload_n 0, 1) := dk_42 (dk_at dksX2_newName_1 5 rfl rfl)
theorem dX2_newName_30 : decode cX2_newName 30 = .ok (.invokevirtual 75, 3) := dk_182 0 75 (dk_at dksX2_newName_1 6 rfl rfl)
theorem dX2_newName_33 : decode cX2_newName 33 = .ok (.aload_n 1, 1) := dk_43 (dk_at dksX2_newName_1 9 rfl rfl)
theorem dX2_newName_34 : decode cX2_newName 34 = .ok (.areturn, 1) := dk_176 (dk_at dksX2_newName_1 10 rfl rfl)
abbrev cX2_mustName : ByteArray := prog_9_method_9_code
def yX2_mustName : MethodName := ⟨RX2, "mustName", "()V"⟩
def dkwX2_mustName_9 : List UInt8 := [42, 4, 182, 0, 82, 191, 177]
abbrev dktX2_mustName_9 : List UInt8 := dkwX2_mustName_9 ++ []
def dkwX2_mustName_8 : List UInt8 := [170, 0, 0, 0, 0, 0, 49, 0, 0, 0, 0, 0, 0, 0, 6, 0, 0, 0, 43, 0, 0, 0, 43, 0, 0, 0, 43, 0, 0, 0, 43, 0, 0, 0, 43, 0, 0, 0, 43, 0, 0, 0, 43]
abbrev dktX2_mustName_8 : List UInt8 := dkwX2_mustName_8 ++ dktX2_mustName_9
def dkwX2_mustName_7 : List UInt8 := [61, 28]
abbrev dktX2_mustName_7 : List UInt8 := dkwX2_mustName_7 ++ dktX2_mustName_8
def dkwX2_mustName_6 : List UInt8 := [18, 100, 182, 0, 71, 153, 0, 20, 8, 61, 167, 0, 15, 43, 18, 102, 182, 0, 71, 153, 0, 6, 16, 6]
abbrev dktX2_mustName_6 : List UInt8 := dkwX2_mustName_6 ++ dktX2_mustName_7
def dkwX2_mustName_5 : List UInt8 := [153, 0, 48, 6, 61, 167, 0, 43, 43, 18, 98, 182, 0, 71, 153, 0, 34, 7, 61, 167, 0, 29, 43]
abbrev dktX2_mustName_5 : List UInt8 := dkwX2_mustName_5 ++ dktX2_mustName_6
def dkwX2_mustName_4 : List UInt8 := [61, 167, 0, 71, 43, 18, 94, 182, 0, 71, 153, 0, 62, 5, 61, 167, 0, 57, 43, 18, 96, 182, 0, 71]
abbrev dktX2_mustName_4 : List UInt8 := dkwX2_mustName_4 ++ dktX2_mustName_5
def dkwX2_mustName_3 : List UInt8 := [43, 18, 90, 182, 0, 71, 153, 0, 90, 3, 61, 167, 0, 85, 43, 18, 92, 182, 0, 71, 153, 0, 76, 4]
abbrev dktX2_mustName_3 : List UInt8 := dkwX2_mustName_3 ++ dktX2_mustName_4
def dkwX2_mustName_2 : List UInt8 := [171, 0, 0, 0, 0, 0, 163, 0, 0, 0, 7, 196, 227, 155, 85, 0, 0, 0, 81, 0, 1, 127, 214, 0, 0, 0, 151, 0, 46, 153, 107, 0, 0, 0, 67, 0, 51, 136, 40, 0, 0, 0, 95, 0, 55, 161, 20, 0, 0, 0, 137, 5, 140, 204, 216, 0, 0, 0, 109, 5, 232, 240, 54, 0, 0, 0, 123]
abbrev dktX2_mustName_2 : List UInt8 := dkwX2_mustName_2 ++ dktX2_mustName_3
def dkwX2_mustName_1 : List UInt8 := [182, 0, 86]
abbrev dktX2_mustName_1 : List UInt8 := dkwX2_mustName_1 ++ dktX2_mustName_2
def dkwX2_mustName_0 : List UInt8 := [42, 180, 0, 47, 5, 159, 0, 9, 42, 4, 182, 0, 82, 191, 42, 180, 0, 61, 76, 2, 61, 43]
abbrev dktX2_mustName_0 : List UInt8 := dkwX2_mustName_0 ++ dktX2_mustName_1
theorem dksX2_mustName_0 : cX2_mustName.data.toList.drop 0 = dktX2_mustName_0 := by decide +kernel
theorem dksX2_mustName_1 : cX2_mustName.data.toList.drop 22 = dktX2_mustName_1 := dk_seg dksX2_mustName_0 22 rfl rfl
theorem dksX2_mustName_2 : cX2_mustName.data.toList.drop 25 = dktX2_mustName_2 := dk_seg dksX2_mustName_1 3 rfl rfl
theorem dksX2_mustName_3 : cX2_mustName.data.toList.drop 92 = dktX2_mustName_3 := dk_seg dksX2_mustName_2 67 rfl rfl
theorem dksX2_mustName_4 : cX2_mustName.data.toList.drop 116 = dktX2_mustName_4 := dk_seg dksX2_mustName_3 24 rfl rfl
theorem dksX2_mustName_5 : cX2_mustName.data.toList.drop 140 = dktX2_mustName_5 := dk_seg dksX2_mustName_4 24 rfl rfl
theorem dksX2_mustName_6 : cX2_mustName.data.toList.drop 163 = dktX2_mustName_6 := dk_seg dksX2_mustName_5 23 rfl rfl
theorem dksX2_mustName_7 : cX2_mustName.data.toList.drop 187 = dktX2_mustName_7 := dk_seg dksX2_mustName_6 24 rfl rfl
theorem dksX2_mustName_8 : cX2_mustName.data.toList.drop 189 = dktX2_mustName_8 := dk_seg dksX2_mustName_7 2 rfl rfl
theorem dksX2_mustName_9 : cX2_mustName.data.toList.drop 232 = dktX2_mustName_9 := dk_seg dksX2_mustName_8 43 rfl rfl
theorem dX2_mustName_0 : decode cX2_mustName 0 = .ok (.aload_n 0, 1) := dk_42 (dk_at dksX2_mustName_0 0 rfl rfl)
theorem dX2_mustName_1 : decode cX2_mustName 1 = .ok (.getfield 47, 3) := dk_180 0 47 (dk_at dksX2_mustName_0 1 rfl rfl)
theorem dX2_mustName_4 : decode cX2_mustName 4 = .ok (.iconst 2, 1) := dk_5 (dk_at dksX2_mustName_0 4 rfl rfl)
theorem dX2_mustName_5 : decode cX2_mustName 5 = .ok (.if_icmp .eq 9, 3) := dk_159 0 9 (dk_at dksX2_mustName_0 5 rfl rfl)
theorem dX2_mustName_8 : decode cX2_mustName 8 = .ok (.aload_n 0, 1) := dk_42 (dk_at dksX2_mustName_0 8 rfl rfl)
theorem dX2_mustName_9 : decode cX2_mustName 9 = .ok (.iconst 1, 1) := dk_4 (dk_at dksX2_mustName_0 9 rfl rfl)
theorem dX2_mustName_10 : decode cX2_mustName 10 = .ok (.invokevirtual 82, 3) := dk_182 0 82 (dk_at dksX2_mustName_0 10 rfl rfl)
theorem dX2_mustName_13 : decode cX2_mustName 13 = .ok (.athrow, 1) := dk_191 (dk_at dksX2_mustName_0 13 rfl rfl)
theorem dX2_mustName_14 : decode cX2_mustName 14 = .ok (.aload_n 0, 1) := dk_42 (dk_at dksX2_mustName_0 14 rfl rfl)
theorem dX2_mustName_15 : decode cX2_mustName 15 = .ok (.getfield 61, 3) := dk_180 0 61 (dk_at dksX2_mustName_0 15 rfl rfl)
theorem dX2_mustName_18 : decode cX2_mustName 18 = .ok (.astore_n 1, 1) := dk_76 (dk_at dksX2_mustName_0 18 rfl rfl)
theorem dX2_mustName_19 : decode cX2_mustName 19 = .ok (.iconst (-1), 1) := dk_2 (dk_at dksX2_mustName_0 19 rfl rfl)
theorem dX2_mustName_20 : decode cX2_mustName 20 = .ok (.istore_n 2, 1) := dk_61 (dk_at dksX2_mustName_0 20 rfl rfl)
theorem dX2_mustName_21 : decode cX2_mustName 21 = .ok (.aload_n 1, 1) := dk_43 (dk_at dksX2_mustName_0 21 rfl rfl)
theorem dX2_mustName_22 : decode cX2_mustName 22 = .ok (.invokevirtual 86, 3) := dk_182 0 86 (dk_at dksX2_mustName_1 0 rfl rfl)
theorem dX2_mustName_25 : decode cX2_mustName 25 = .ok (.lookupswitch 163 #[(-991716523, 81), (98262, 151), (3053931, 67), (3377192, 95), (3645716, 137), (93113560, 109), (99151926, 123)], 67) := by decide +kernel
theorem dX2_mustName_92 : decode cX2_mustName 92 = .ok (.aload_n 1, 1) := dk_43 (dk_at dksX2_mustName_3 0 rfl rfl)
theorem dX2_mustName_93 : decode cX2_mustName 93 = .ok (.ldc 90, 2) := dk_18 90 (dk_at dksX2_mustName_3 1 rfl rfl)
theorem dX2_mustName_95 : decode cX2_mustName 95 = .ok (.invokevirtual 71, 3) := dk_182 0 71 (dk_at dksX2_mustName_3 3 rfl rfl)
theorem dX2_mustName_98 : decode cX2_mustName 98 = .ok (.ifCond .eq 90, 3) := dk_153 0 90 (dk_at dksX2_mustName_3 6 rfl rfl)
theorem dX2_mustName_101 : decode cX2_mustName 101 = .ok (.iconst 0, 1) := dk_3 (dk_at dksX2_mustName_3 9 rfl rfl)
theorem dX2_mustName_102 : decode cX2_mustName 102 = .ok (.istore_n 2, 1) := dk_61 (dk_at dksX2_mustName_3 10 rfl rfl)
theorem dX2_mustName_103 : decode cX2_mustName 103 = .ok (.goto 85, 3) := dk_167 0 85 (dk_at dksX2_mustName_3 11 rfl rfl)
theorem dX2_mustName_106 : decode cX2_mustName 106 = .ok (.aload_n 1, 1) := dk_43 (dk_at dksX2_mustName_3 14 rfl rfl)
theorem dX2_mustName_107 : decode cX2_mustName 107 = .ok (.ldc 92, 2) := dk_18 92 (dk_at dksX2_mustName_3 15 rfl rfl)
theorem dX2_mustName_109 : decode cX2_mustName 109 = .ok (.invokevirtual 71, 3) := dk_182 0 71 (dk_at dksX2_mustName_3 17 rfl rfl)
theorem dX2_mustName_112 : decode cX2_mustName 112 = .ok (.ifCond .eq 76, 3) := dk_153 0 76 (dk_at dksX2_mustName_3 20 rfl rfl)
theorem dX2_mustName_115 : decode cX2_mustName 115 = .ok (.iconst 1, 1) := dk_4 (dk_at dksX2_mustName_3 23 rfl rfl)
theorem dX2_mustName_116 : decode cX2_mustName 116 = .ok (.istore_n 2, 1) := dk_61 (dk_at dksX2_mustName_4 0 rfl rfl)
theorem dX2_mustName_117 : decode cX2_mustName 117 = .ok (.goto 71, 3) := dk_167 0 71 (dk_at dksX2_mustName_4 1 rfl rfl)
theorem dX2_mustName_120 : decode cX2_mustName 120 = .ok (.aload_n 1, 1) := dk_43 (dk_at dksX2_mustName_4 4 rfl rfl)
theorem dX2_mustName_121 : decode cX2_mustName 121 = .ok (.ldc 94, 2) := dk_18 94 (dk_at dksX2_mustName_4 5 rfl rfl)
theorem dX2_mustName_123 : decode cX2_mustName 123 = .ok (.invokevirtual 71, 3) := dk_182 0 71 (dk_at dksX2_mustName_4 7 rfl rfl)
theorem dX2_mustName_126 : decode cX2_mustName 126 = .ok (.ifCond .eq 62, 3) := dk_153 0 62 (dk_at dksX2_mustName_4 10 rfl rfl)
theorem dX2_mustName_129 : decode cX2_mustName 129 = .ok (.iconst 2, 1) := dk_5 (dk_at dksX2_mustName_4 13 rfl rfl)
theorem dX2_mustName_130 : decode cX2_mustName 130 = .ok (.istore_n 2, 1) := dk_61 (dk_at dksX2_mustName_4 14 rfl rfl)
theorem dX2_mustName_131 : decode cX2_mustName 131 = .ok (.goto 57, 3) := dk_167 0 57 (dk_at dksX2_mustName_4 15 rfl rfl)
theorem dX2_mustName_134 : decode cX2_mustName 134 = .ok (.aload_n 1, 1) := dk_43 (dk_at dksX2_mustName_4 18 rfl rfl)
theorem dX2_mustName_135 : decode cX2_mustName 135 = .ok (.ldc 96, 2) := dk_18 96 (dk_at dksX2_mustName_4 19 rfl rfl)
theorem dX2_mustName_137 : decode cX2_mustName 137 = .ok (.invokevirtual 71, 3) := dk_182 0 71 (dk_at dksX2_mustName_4 21 rfl rfl)
theorem dX2_mustName_140 : decode cX2_mustName 140 = .ok (.ifCond .eq 48, 3) := dk_153 0 48 (dk_at dksX2_mustName_5 0 rfl rfl)
theorem dX2_mustName_143 : decode cX2_mustName 143 = .ok (.iconst 3, 1) := dk_6 (dk_at dksX2_mustName_5 3 rfl rfl)
theorem dX2_mustName_144 : decode cX2_mustName 144 = .ok (.istore_n 2, 1) := dk_61 (dk_at dksX2_mustName_5 4 rfl rfl)
theorem dX2_mustName_145 : decode cX2_mustName 145 = .ok (.goto 43, 3) := dk_167 0 43 (dk_at dksX2_mustName_5 5 rfl rfl)
theorem dX2_mustName_148 : decode cX2_mustName 148 = .ok (.aload_n 1, 1) := dk_43 (dk_at dksX2_mustName_5 8 rfl rfl)
theorem dX2_mustName_149 : decode cX2_mustName 149 = .ok (.ldc 98, 2) := dk_18 98 (dk_at dksX2_mustName_5 9 rfl rfl)
theorem dX2_mustName_151 : decode cX2_mustName 151 = .ok (.invokevirtual 71, 3) := dk_182 0 71 (dk_at dksX2_mustName_5 11 rfl rfl)
theorem dX2_mustName_154 : decode cX2_mustName 154 = .ok (.ifCond .eq 34, 3) := dk_153 0 34 (dk_at dksX2_mustName_5 14 rfl rfl)
theorem dX2_mustName_157 : decode cX2_mustName 157 = .ok (.iconst 4, 1) := dk_7 (dk_at dksX2_mustName_5 17 rfl rfl)
theorem dX2_mustName_158 : decode cX2_mustName 158 = .ok (.istore_n 2, 1) := dk_61 (dk_at dksX2_mustName_5 18 rfl rfl)
theorem dX2_mustName_159 : decode cX2_mustName 159 = .ok (.goto 29, 3) := dk_167 0 29 (dk_at dksX2_mustName_5 19 rfl rfl)
theorem dX2_mustName_162 : decode cX2_mustName 162 = .ok (.aload_n 1, 1) := dk_43 (dk_at dksX2_mustName_5 22 rfl rfl)
theorem dX2_mustName_163 : decode cX2_mustName 163 = .ok (.ldc 100, 2) := dk_18 100 (dk_at dksX2_mustName_6 0 rfl rfl)
theorem dX2_mustName_165 : decode cX2_mustName 165 = .ok (.invokevirtual 71, 3) := dk_182 0 71 (dk_at dksX2_mustName_6 2 rfl rfl)
theorem dX2_mustName_168 : decode cX2_mustName 168 = .ok (.ifCond .eq 20, 3) := dk_153 0 20 (dk_at dksX2_mustName_6 5 rfl rfl)
theorem dX2_mustName_171 : decode cX2_mustName 171 = .ok (.iconst 5, 1) := dk_8 (dk_at dksX2_mustName_6 8 rfl rfl)
theorem dX2_mustName_172 : decode cX2_mustName 172 = .ok (.istore_n 2, 1) := dk_61 (dk_at dksX2_mustName_6 9 rfl rfl)
theorem dX2_mustName_173 : decode cX2_mustName 173 = .ok (.goto 15, 3) := dk_167 0 15 (dk_at dksX2_mustName_6 10 rfl rfl)
theorem dX2_mustName_176 : decode cX2_mustName 176 = .ok (.aload_n 1, 1) := dk_43 (dk_at dksX2_mustName_6 13 rfl rfl)
theorem dX2_mustName_177 : decode cX2_mustName 177 = .ok (.ldc 102, 2) := dk_18 102 (dk_at dksX2_mustName_6 14 rfl rfl)
theorem dX2_mustName_179 : decode cX2_mustName 179 = .ok (.invokevirtual 71, 3) := dk_182 0 71 (dk_at dksX2_mustName_6 16 rfl rfl)
theorem dX2_mustName_182 : decode cX2_mustName 182 = .ok (.ifCond .eq 6, 3) := dk_153 0 6 (dk_at dksX2_mustName_6 19 rfl rfl)
theorem dX2_mustName_185 : decode cX2_mustName 185 = .ok (.bipush 6, 2) := dk_16 6 (dk_at dksX2_mustName_6 22 rfl rfl)
theorem dX2_mustName_187 : decode cX2_mustName 187 = .ok (.istore_n 2, 1) := dk_61 (dk_at dksX2_mustName_7 0 rfl rfl)
theorem dX2_mustName_188 : decode cX2_mustName 188 = .ok (.iload_n 2, 1) := dk_28 (dk_at dksX2_mustName_7 1 rfl rfl)
theorem dX2_mustName_189 : decode cX2_mustName 189 = .ok (.tableswitch 49 0 6 #[43, 43, 43, 43, 43, 43, 43], 43) := by decide +kernel
theorem dX2_mustName_232 : decode cX2_mustName 232 = .ok (.aload_n 0, 1) := dk_42 (dk_at dksX2_mustName_9 0 rfl rfl)
theorem dX2_mustName_233 : decode cX2_mustName 233 = .ok (.iconst 1, 1) := dk_4 (dk_at dksX2_mustName_9 1 rfl rfl)
theorem dX2_mustName_234 : decode cX2_mustName 234 = .ok (.invokevirtual 82, 3) := dk_182 0 82 (dk_at dksX2_mustName_9 2 rfl rfl)
theorem dX2_mustName_237 : decode cX2_mustName 237 = .ok (.athrow, 1) := dk_191 (dk_at dksX2_mustName_9 5 rfl rfl)
theorem dX2_mustName_238 : decode cX2_mustName 238 = .ok (.return_, 1) := dk_177 (dk_at dksX2_mustName_9 6 rfl rfl)
abbrev cX2_personOf : ByteArray := prog_9_method_17_code
def yX2_personOf : MethodName := ⟨RX2, "personOf", "(Ljava/lang/String;I)LLastAsked$Person;"⟩
def dkwX2_personOf_3 : List UInt8 := [28, 183, 0, 182, 176]
abbrev dktX2_personOf_3 : List UInt8 := dkwX2_personOf_3 ++ []
def dkwX2_personOf_2 : List UInt8 := [153, 0, 13, 187, 0, 175, 89, 43, 28, 183, 0, 177, 176, 42, 18, 178, 182, 0, 116, 187, 0, 180, 89, 43]
abbrev dktX2_personOf_2 : List UInt8 := dkwX2_personOf_2 ++ dktX2_personOf_3
def dkwX2_personOf_1 : List UInt8 := [182, 0, 78, 153, 0, 13, 187, 0, 170, 89, 43, 28, 183, 0, 172, 176, 42, 18, 173, 182, 0, 78]
abbrev dktX2_personOf_1 : List UInt8 := dkwX2_personOf_1 ++ dktX2_personOf_2
def dkwX2_personOf_0 : List UInt8 := [42, 18, 161, 182, 0, 78, 153, 0, 13, 187, 0, 163, 89, 43, 28, 183, 0, 165, 176, 42, 18, 168]
abbrev dktX2_personOf_0 : List UInt8 := dkwX2_personOf_0 ++ dktX2_personOf_1
theorem dksX2_personOf_0 : cX2_personOf.data.toList.drop 0 = dktX2_personOf_0 := by decide +kernel
theorem dksX2_personOf_1 : cX2_personOf.data.toList.drop 22 = dktX2_personOf_1 := dk_seg dksX2_personOf_0 22 rfl rfl
theorem dksX2_personOf_2 : cX2_personOf.data.toList.drop 44 = dktX2_personOf_2 := dk_seg dksX2_personOf_1 22 rfl rfl
theorem dksX2_personOf_3 : cX2_personOf.data.toList.drop 68 = dktX2_personOf_3 := dk_seg dksX2_personOf_2 24 rfl rfl
theorem dX2_personOf_0 : decode cX2_personOf 0 = .ok (.aload_n 0, 1) := dk_42 (dk_at dksX2_personOf_0 0 rfl rfl)
theorem dX2_personOf_1 : decode cX2_personOf 1 = .ok (.ldc 161, 2) := dk_18 161 (dk_at dksX2_personOf_0 1 rfl rfl)
theorem dX2_personOf_3 : decode cX2_personOf 3 = .ok (.invokevirtual 78, 3) := dk_182 0 78 (dk_at dksX2_personOf_0 3 rfl rfl)
theorem dX2_personOf_6 : decode cX2_personOf 6 = .ok (.ifCond .eq 13, 3) := dk_153 0 13 (dk_at dksX2_personOf_0 6 rfl rfl)
theorem dX2_personOf_9 : decode cX2_personOf 9 = .ok (.new 163, 3) := dk_187 0 163 (dk_at dksX2_personOf_0 9 rfl rfl)
theorem dX2_personOf_12 : decode cX2_personOf 12 = .ok (.dup, 1) := dk_89 (dk_at dksX2_personOf_0 12 rfl rfl)
theorem dX2_personOf_13 : decode cX2_personOf 13 = .ok (.aload_n 1, 1) := dk_43 (dk_at dksX2_personOf_0 13 rfl rfl)
theorem dX2_personOf_14 : decode cX2_personOf 14 = .ok (.iload_n 2, 1) := dk_28 (dk_at dksX2_personOf_0 14 rfl rfl)
theorem dX2_personOf_15 : decode cX2_personOf 15 = .ok (.invokespecial 165, 3) := dk_183 0 165 (dk_at dksX2_personOf_0 15 rfl rfl)
theorem dX2_personOf_18 : decode cX2_personOf 18 = .ok (.areturn, 1) := dk_176 (dk_at dksX2_personOf_0 18 rfl rfl)
theorem dX2_personOf_19 : decode cX2_personOf 19 = .ok (.aload_n 0, 1) := dk_42 (dk_at dksX2_personOf_0 19 rfl rfl)
theorem dX2_personOf_20 : decode cX2_personOf 20 = .ok (.ldc 168, 2) := dk_18 168 (dk_at dksX2_personOf_0 20 rfl rfl)
theorem dX2_personOf_22 : decode cX2_personOf 22 = .ok (.invokevirtual 78, 3) := dk_182 0 78 (dk_at dksX2_personOf_1 0 rfl rfl)
theorem dX2_personOf_25 : decode cX2_personOf 25 = .ok (.ifCond .eq 13, 3) := dk_153 0 13 (dk_at dksX2_personOf_1 3 rfl rfl)
theorem dX2_personOf_28 : decode cX2_personOf 28 = .ok (.new 170, 3) := dk_187 0 170 (dk_at dksX2_personOf_1 6 rfl rfl)
theorem dX2_personOf_31 : decode cX2_personOf 31 = .ok (.dup, 1) := dk_89 (dk_at dksX2_personOf_1 9 rfl rfl)
theorem dX2_personOf_32 : decode cX2_personOf 32 = .ok (.aload_n 1, 1) := dk_43 (dk_at dksX2_personOf_1 10 rfl rfl)
theorem dX2_personOf_33 : decode cX2_personOf 33 = .ok (.iload_n 2, 1) := dk_28 (dk_at dksX2_personOf_1 11 rfl rfl)
theorem dX2_personOf_34 : decode cX2_personOf 34 = .ok (.invokespecial 172, 3) := dk_183 0 172 (dk_at dksX2_personOf_1 12 rfl rfl)
theorem dX2_personOf_37 : decode cX2_personOf 37 = .ok (.areturn, 1) := dk_176 (dk_at dksX2_personOf_1 15 rfl rfl)
theorem dX2_personOf_38 : decode cX2_personOf 38 = .ok (.aload_n 0, 1) := dk_42 (dk_at dksX2_personOf_1 16 rfl rfl)
theorem dX2_personOf_39 : decode cX2_personOf 39 = .ok (.ldc 173, 2) := dk_18 173 (dk_at dksX2_personOf_1 17 rfl rfl)
theorem dX2_personOf_41 : decode cX2_personOf 41 = .ok (.invokevirtual 78, 3) := dk_182 0 78 (dk_at dksX2_personOf_1 19 rfl rfl)
theorem dX2_personOf_44 : decode cX2_personOf 44 = .ok (.ifCond .eq 13, 3) := dk_153 0 13 (dk_at dksX2_personOf_2 0 rfl rfl)
theorem dX2_personOf_47 : decode cX2_personOf 47 = .ok (.new 175, 3) := dk_187 0 175 (dk_at dksX2_personOf_2 3 rfl rfl)
theorem dX2_personOf_50 : decode cX2_personOf 50 = .ok (.dup, 1) := dk_89 (dk_at dksX2_personOf_2 6 rfl rfl)
theorem dX2_personOf_51 : decode cX2_personOf 51 = .ok (.aload_n 1, 1) := dk_43 (dk_at dksX2_personOf_2 7 rfl rfl)
theorem dX2_personOf_52 : decode cX2_personOf 52 = .ok (.iload_n 2, 1) := dk_28 (dk_at dksX2_personOf_2 8 rfl rfl)
theorem dX2_personOf_53 : decode cX2_personOf 53 = .ok (.invokespecial 177, 3) := dk_183 0 177 (dk_at dksX2_personOf_2 9 rfl rfl)
theorem dX2_personOf_56 : decode cX2_personOf 56 = .ok (.areturn, 1) := dk_176 (dk_at dksX2_personOf_2 12 rfl rfl)
theorem dX2_personOf_57 : decode cX2_personOf 57 = .ok (.aload_n 0, 1) := dk_42 (dk_at dksX2_personOf_2 13 rfl rfl)
theorem dX2_personOf_58 : decode cX2_personOf 58 = .ok (.ldc 178, 2) := dk_18 178 (dk_at dksX2_personOf_2 14 rfl rfl)
theorem dX2_personOf_60 : decode cX2_personOf 60 = .ok (.invokevirtual 116, 3) := dk_182 0 116 (dk_at dksX2_personOf_2 16 rfl rfl)
theorem dX2_personOf_63 : decode cX2_personOf 63 = .ok (.new 180, 3) := dk_187 0 180 (dk_at dksX2_personOf_2 19 rfl rfl)
theorem dX2_personOf_66 : decode cX2_personOf 66 = .ok (.dup, 1) := dk_89 (dk_at dksX2_personOf_2 22 rfl rfl)
theorem dX2_personOf_67 : decode cX2_personOf 67 = .ok (.aload_n 1, 1) := dk_43 (dk_at dksX2_personOf_2 23 rfl rfl)
theorem dX2_personOf_68 : decode cX2_personOf 68 = .ok (.iload_n 2, 1) := dk_28 (dk_at dksX2_personOf_3 0 rfl rfl)
theorem dX2_personOf_69 : decode cX2_personOf 69 = .ok (.invokespecial 182, 3) := dk_183 0 182 (dk_at dksX2_personOf_3 1 rfl rfl)
theorem dX2_personOf_72 : decode cX2_personOf 72 = .ok (.areturn, 1) := dk_176 (dk_at dksX2_personOf_3 4 rfl rfl)
abbrev cX2_nearLine : ByteArray := prog_9_method_19_code
def yX2_nearLine : MethodName := ⟨RX2, "nearLine", "()V"⟩
def dkwX2_nearLine_4 : List UInt8 := [181, 0, 217, 42, 180, 0, 107, 89, 180, 0, 210, 4, 96, 181, 0, 210, 177]
abbrev dktX2_nearLine_4 : List UInt8 := dkwX2_nearLine_4 ++ []
def dkwX2_nearLine_3 : List UInt8 := [4, 44, 180, 0, 219, 120, 128, 181, 0, 217, 44, 89, 180, 0, 217, 4, 43, 180, 0, 219, 120, 128]
abbrev dktX2_nearLine_3 : List UInt8 := dkwX2_nearLine_3 ++ dktX2_nearLine_4
def dkwX2_nearLine_2 : List UInt8 := [180, 0, 219, 184, 0, 222, 153, 0, 9, 42, 6, 182, 0, 82, 191, 42, 182, 0, 75, 43, 89, 180, 0, 217]
abbrev dktX2_nearLine_2 : List UInt8 := dkwX2_nearLine_2 ++ dktX2_nearLine_3
def dkwX2_nearLine_1 : List UInt8 := [182, 0, 213, 76, 42, 182, 0, 75, 42, 182, 0, 213, 77, 43, 44, 165, 0, 17, 43, 180, 0, 217, 44]
abbrev dktX2_nearLine_1 : List UInt8 := dkwX2_nearLine_1 ++ dktX2_nearLine_2
def dkwX2_nearLine_0 : List UInt8 := [42, 42, 180, 0, 107, 180, 0, 210, 16, 9, 162, 0, 7, 4, 167, 0, 4, 3, 182, 0, 183, 42]
abbrev dktX2_nearLine_0 : List UInt8 := dkwX2_nearLine_0 ++ dktX2_nearLine_1
theorem dksX2_nearLine_0 : cX2_nearLine.data.toList.drop 0 = dktX2_nearLine_0 := by decide +kernel
theorem dksX2_nearLine_1 : cX2_nearLine.data.toList.drop 22 = dktX2_nearLine_1 := dk_seg dksX2_nearLine_0 22 rfl rfl
theorem dksX2_nearLine_2 : cX2_nearLine.data.toList.drop 45 = dktX2_nearLine_2 := dk_seg dksX2_nearLine_1 23 rfl rfl
theorem dksX2_nearLine_3 : cX2_nearLine.data.toList.drop 69 = dktX2_nearLine_3 := dk_seg dksX2_nearLine_2 24 rfl rfl
theorem dksX2_nearLine_4 : cX2_nearLine.data.toList.drop 91 = dktX2_nearLine_4 := dk_seg dksX2_nearLine_3 22 rfl rfl
theorem dX2_nearLine_0 : decode cX2_nearLine 0 = .ok (.aload_n 0, 1) := dk_42 (dk_at dksX2_nearLine_0 0 rfl rfl)
theorem dX2_nearLine_1 : decode cX2_nearLine 1 = .ok (.aload_n 0, 1) := dk_42 (dk_at dksX2_nearLine_0 1 rfl rfl)
theorem dX2_nearLine_2 : decode cX2_nearLine 2 = .ok (.getfield 107, 3) := dk_180 0 107 (dk_at dksX2_nearLine_0 2 rfl rfl)
theorem dX2_nearLine_5 : decode cX2_nearLine 5 = .ok (.getfield 210, 3) := dk_180 0 210 (dk_at dksX2_nearLine_0 5 rfl rfl)
theorem dX2_nearLine_8 : decode cX2_nearLine 8 = .ok (.bipush 9, 2) := dk_16 9 (dk_at dksX2_nearLine_0 8 rfl rfl)
theorem dX2_nearLine_10 : decode cX2_nearLine 10 = .ok (.if_icmp .ge 7, 3) := dk_162 0 7 (dk_at dksX2_nearLine_0 10 rfl rfl)
theorem dX2_nearLine_13 : decode cX2_nearLine 13 = .ok (.iconst 1, 1) := dk_4 (dk_at dksX2_nearLine_0 13 rfl rfl)
theorem dX2_nearLine_14 : decode cX2_nearLine 14 = .ok (.goto 4, 3) := dk_167 0 4 (dk_at dksX2_nearLine_0 14 rfl rfl)
theorem dX2_nearLine_17 : decode cX2_nearLine 17 = .ok (.iconst 0, 1) := dk_3 (dk_at dksX2_nearLine_0 17 rfl rfl)
theorem dX2_nearLine_18 : decode cX2_nearLine 18 = .ok (.invokevirtual 183, 3) := dk_182 0 183 (dk_at dksX2_nearLine_0 18 rfl rfl)
theorem dX2_nearLine_21 : decode cX2_nearLine 21 = .ok (.aload_n 0, 1) := dk_42 (dk_at dksX2_nearLine_0 21 rfl rfl)
theorem dX2_nearLine_22 : decode cX2_nearLine 22 = .ok (.invokevirtual 213, 3) := dk_182 0 213 (dk_at dksX2_nearLine_1 0 rfl rfl)
theorem dX2_nearLine_25 : decode cX2_nearLine 25 = .ok (.astore_n 1, 1) := dk_76 (dk_at dksX2_nearLine_1 3 rfl rfl)
theorem dX2_nearLine_26 : decode cX2_nearLine 26 = .ok (.aload_n 0, 1) := dk_42 (dk_at dksX2_nearLine_1 4 rfl rfl)
theorem dX2_nearLine_27 : decode cX2_nearLine 27 = .ok (.invokevirtual 75, 3) := dk_182 0 75 (dk_at dksX2_nearLine_1 5 rfl rfl)
theorem dX2_nearLine_30 : decode cX2_nearLine 30 = .ok (.aload_n 0, 1) := dk_42 (dk_at dksX2_nearLine_1 8 rfl rfl)
theorem dX2_nearLine_31 : decode cX2_nearLine 31 = .ok (.invokevirtual 213, 3) := dk_182 0 213 (dk_at dksX2_nearLine_1 9 rfl rfl)
theorem dX2_nearLine_34 : decode cX2_nearLine 34 = .ok (.astore_n 2, 1) := dk_77 (dk_at dksX2_nearLine_1 12 rfl rfl)
theorem dX2_nearLine_35 : decode cX2_nearLine 35 = .ok (.aload_n 1, 1) := dk_43 (dk_at dksX2_nearLine_1 13 rfl rfl)
theorem dX2_nearLine_36 : decode cX2_nearLine 36 = .ok (.aload_n 2, 1) := dk_44 (dk_at dksX2_nearLine_1 14 rfl rfl)
theorem dX2_nearLine_37 : decode cX2_nearLine 37 = .ok (.if_acmp .eq 17, 3) := dk_165 0 17 (dk_at dksX2_nearLine_1 15 rfl rfl)
theorem dX2_nearLine_40 : decode cX2_nearLine 40 = .ok (.aload_n 1, 1) := dk_43 (dk_at dksX2_nearLine_1 18 rfl rfl)
theorem dX2_nearLine_41 : decode cX2_nearLine 41 = .ok (.getfield 217, 3) := dk_180 0 217 (dk_at dksX2_nearLine_1 19 rfl rfl)
theorem dX2_nearLine_44 : decode cX2_nearLine 44 = .ok (.aload_n 2, 1) := dk_44 (dk_at dksX2_nearLine_1 22 rfl rfl)
theorem dX2_nearLine_45 : decode cX2_nearLine 45 = .ok (.getfield 219, 3) := dk_180 0 219 (dk_at dksX2_nearLine_2 0 rfl rfl)
theorem dX2_nearLine_48 : decode cX2_nearLine 48 = .ok (.invokestatic 222, 3) := dk_184 0 222 (dk_at dksX2_nearLine_2 3 rfl rfl)
theorem dX2_nearLine_51 : decode cX2_nearLine 51 = .ok (.ifCond .eq 9, 3) := dk_153 0 9 (dk_at dksX2_nearLine_2 6 rfl rfl)
theorem dX2_nearLine_54 : decode cX2_nearLine 54 = .ok (.aload_n 0, 1) := dk_42 (dk_at dksX2_nearLine_2 9 rfl rfl)
theorem dX2_nearLine_55 : decode cX2_nearLine 55 = .ok (.iconst 3, 1) := dk_6 (dk_at dksX2_nearLine_2 10 rfl rfl)
theorem dX2_nearLine_56 : decode cX2_nearLine 56 = .ok (.invokevirtual 82, 3) := dk_182 0 82 (dk_at dksX2_nearLine_2 11 rfl rfl)
theorem dX2_nearLine_59 : decode cX2_nearLine 59 = .ok (.athrow, 1) := dk_191 (dk_at dksX2_nearLine_2 14 rfl rfl)
theorem dX2_nearLine_60 : decode cX2_nearLine 60 = .ok (.aload_n 0, 1) := dk_42 (dk_at dksX2_nearLine_2 15 rfl rfl)
theorem dX2_nearLine_61 : decode cX2_nearLine 61 = .ok (.invokevirtual 75, 3) := dk_182 0 75 (dk_at dksX2_nearLine_2 16 rfl rfl)
theorem dX2_nearLine_64 : decode cX2_nearLine 64 = .ok (.aload_n 1, 1) := dk_43 (dk_at dksX2_nearLine_2 19 rfl rfl)
theorem dX2_nearLine_65 : decode cX2_nearLine 65 = .ok (.dup, 1) := dk_89 (dk_at dksX2_nearLine_2 20 rfl rfl)
theorem dX2_nearLine_66 : decode cX2_nearLine 66 = .ok (.getfield 217, 3) := dk_180 0 217 (dk_at dksX2_nearLine_2 21 rfl rfl)
theorem dX2_nearLine_69 : decode cX2_nearLine 69 = .ok (.iconst 1, 1) := dk_4 (dk_at dksX2_nearLine_3 0 rfl rfl)
theorem dX2_nearLine_70 : decode cX2_nearLine 70 = .ok (.aload_n 2, 1) := dk_44 (dk_at dksX2_nearLine_3 1 rfl rfl)
theorem dX2_nearLine_71 : decode cX2_nearLine 71 = .ok (.getfield 219, 3) := dk_180 0 219 (dk_at dksX2_nearLine_3 2 rfl rfl)
theorem dX2_nearLine_74 : decode cX2_nearLine 74 = .ok (.ishl, 1) := dk_120 (dk_at dksX2_nearLine_3 5 rfl rfl)
theorem dX2_nearLine_75 : decode cX2_nearLine 75 = .ok (.ior, 1) := dk_128 (dk_at dksX2_nearLine_3 6 rfl rfl)
theorem dX2_nearLine_76 : decode cX2_nearLine 76 = .ok (.putfield 217, 3) := dk_181 0 217 (dk_at dksX2_nearLine_3 7 rfl rfl)
theorem dX2_nearLine_79 : decode cX2_nearLine 79 = .ok (.aload_n 2, 1) := dk_44 (dk_at dksX2_nearLine_3 10 rfl rfl)
theorem dX2_nearLine_80 : decode cX2_nearLine 80 = .ok (.dup, 1) := dk_89 (dk_at dksX2_nearLine_3 11 rfl rfl)
theorem dX2_nearLine_81 : decode cX2_nearLine 81 = .ok (.getfield 217, 3) := dk_180 0 217 (dk_at dksX2_nearLine_3 12 rfl rfl)
theorem dX2_nearLine_84 : decode cX2_nearLine 84 = .ok (.iconst 1, 1) := dk_4 (dk_at dksX2_nearLine_3 15 rfl rfl)
theorem dX2_nearLine_85 : decode cX2_nearLine 85 = .ok (.aload_n 1, 1) := dk_43 (dk_at dksX2_nearLine_3 16 rfl rfl)
theorem dX2_nearLine_86 : decode cX2_nearLine 86 = .ok (.getfield 219, 3) := dk_180 0 219 (dk_at dksX2_nearLine_3 17 rfl rfl)
theorem dX2_nearLine_89 : decode cX2_nearLine 89 = .ok (.ishl, 1) := dk_120 (dk_at dksX2_nearLine_3 20 rfl rfl)
theorem dX2_nearLine_90 : decode cX2_nearLine 90 = .ok (.ior, 1) := dk_128 (dk_at dksX2_nearLine_3 21 rfl rfl)
theorem dX2_nearLine_91 : decode cX2_nearLine 91 = .ok (.putfield 217, 3) := dk_181 0 217 (dk_at dksX2_nearLine_4 0 rfl rfl)
theorem dX2_nearLine_94 : decode cX2_nearLine 94 = .ok (.aload_n 0, 1) := dk_42 (dk_at dksX2_nearLine_4 3 rfl rfl)
theorem dX2_nearLine_95 : decode cX2_nearLine 95 = .ok (.getfield 107, 3) := dk_180 0 107 (dk_at dksX2_nearLine_4 4 rfl rfl)
theorem dX2_nearLine_98 : decode cX2_nearLine 98 = .ok (.dup, 1) := dk_89 (dk_at dksX2_nearLine_4 7 rfl rfl)
theorem dX2_nearLine_99 : decode cX2_nearLine 99 = .ok (.getfield 210, 3) := dk_180 0 210 (dk_at dksX2_nearLine_4 8 rfl rfl)
theorem dX2_nearLine_102 : decode cX2_nearLine 102 = .ok (.iconst 1, 1) := dk_4 (dk_at dksX2_nearLine_4 11 rfl rfl)
theorem dX2_nearLine_103 : decode cX2_nearLine 103 = .ok (.iadd, 1) := dk_96 (dk_at dksX2_nearLine_4 12 rfl rfl)
theorem dX2_nearLine_104 : decode cX2_nearLine 104 = .ok (.putfield 210, 3) := dk_181 0 210 (dk_at dksX2_nearLine_4 13 rfl rfl)
theorem dX2_nearLine_107 : decode cX2_nearLine 107 = .ok (.return_, 1) := dk_177 (dk_at dksX2_nearLine_4 16 rfl rfl)
abbrev cX2_personHere : ByteArray := prog_9_method_11_code
def yX2_personHere : MethodName := ⟨RX2, "personHere", "()LLastAsked$Person;"⟩
def dkwX2_personHere_1 : List UInt8 := [182, 0, 82, 191, 43, 176]
abbrev dktX2_personHere_1 : List UInt8 := dkwX2_personHere_1 ++ []
def dkwX2_personHere_0 : List UInt8 := [42, 182, 0, 104, 42, 180, 0, 107, 42, 180, 0, 61, 182, 0, 110, 76, 43, 199, 0, 9, 42, 5]
abbrev dktX2_personHere_0 : List UInt8 := dkwX2_personHere_0 ++ dktX2_personHere_1
theorem dksX2_personHere_0 : cX2_personHere.data.toList.drop 0 = dktX2_personHere_0 := by decide +kernel
theorem dksX2_personHere_1 : cX2_personHere.data.toList.drop 22 = dktX2_personHere_1 := dk_seg dksX2_personHere_0 22 rfl rfl
theorem dX2_personHere_0 : decode cX2_personHere 0 = .ok (.aload_n 0, 1) := dk_42 (dk_at dksX2_personHere_0 0 rfl rfl)
theorem dX2_personHere_1 : decode cX2_personHere 1 = .ok (.invokevirtual 104, 3) := dk_182 0 104 (dk_at dksX2_personHere_0 1 rfl rfl)
theorem dX2_personHere_4 : decode cX2_personHere 4 = .ok (.aload_n 0, 1) := dk_42 (dk_at dksX2_personHere_0 4 rfl rfl)
theorem dX2_personHere_5 : decode cX2_personHere 5 = .ok (.getfield 107, 3) := dk_180 0 107 (dk_at dksX2_personHere_0 5 rfl rfl)
theorem dX2_personHere_8 : decode cX2_personHere 8 = .ok (.aload_n 0, 1) := dk_42 (dk_at dksX2_personHere_0 8 rfl rfl)
theorem dX2_personHere_9 : decode cX2_personHere 9 = .ok (.getfield 61, 3) := dk_180 0 61 (dk_at dksX2_personHere_0 9 rfl rfl)
theorem dX2_personHere_12 : decode cX2_personHere 12 = .ok (.invokevirtual 110, 3) := dk_182 0 110 (dk_at dksX2_personHere_0 12 rfl rfl)
theorem dX2_personHere_15 : decode cX2_personHere 15 = .ok (.astore_n 1, 1) := dk_76 (dk_at dksX2_personHere_0 15 rfl rfl)
theorem dX2_personHere_16 : decode cX2_personHere 16 = .ok (.aload_n 1, 1) := dk_43 (dk_at dksX2_personHere_0 16 rfl rfl)
theorem dX2_personHere_17 : decode cX2_personHere 17 = .ok (.ifnonnull 9, 3) := dk_199 0 9 (dk_at dksX2_personHere_0 17 rfl rfl)
theorem dX2_personHere_20 : decode cX2_personHere 20 = .ok (.aload_n 0, 1) := dk_42 (dk_at dksX2_personHere_0 20 rfl rfl)
theorem dX2_personHere_21 : decode cX2_personHere 21 = .ok (.iconst 2, 1) := dk_5 (dk_at dksX2_personHere_0 21 rfl rfl)
theorem dX2_personHere_22 : decode cX2_personHere 22 = .ok (.invokevirtual 82, 3) := dk_182 0 82 (dk_at dksX2_personHere_1 0 rfl rfl)
theorem dX2_personHere_25 : decode cX2_personHere 25 = .ok (.athrow, 1) := dk_191 (dk_at dksX2_personHere_1 3 rfl rfl)
theorem dX2_personHere_26 : decode cX2_personHere 26 = .ok (.aload_n 1, 1) := dk_43 (dk_at dksX2_personHere_1 4 rfl rfl)
theorem dX2_personHere_27 : decode cX2_personHere 27 = .ok (.areturn, 1) := dk_176 (dk_at dksX2_personHere_1 5 rfl rfl)
abbrev cX2_askedLine : ByteArray := prog_9_method_22_code
def yX2_askedLine : MethodName := ⟨RX2, "askedLine", "()V"⟩
def dkwX2_askedLine_2 : List UInt8 := [180, 0, 107, 89, 180, 0, 239, 4, 96, 181, 0, 239, 177]
abbrev dktX2_askedLine_2 : List UInt8 := dkwX2_askedLine_2 ++ []
def dkwX2_askedLine_1 : List UInt8 := [182, 0, 242, 76, 42, 43, 42, 18, 245, 3, 42, 180, 0, 107, 180, 0, 120, 182, 0, 153, 182, 0, 246, 42]
abbrev dktX2_askedLine_1 : List UInt8 := dkwX2_askedLine_1 ++ dktX2_askedLine_2
def dkwX2_askedLine_0 : List UInt8 := [42, 42, 180, 0, 107, 180, 0, 239, 16, 12, 162, 0, 7, 4, 167, 0, 4, 3, 182, 0, 183, 42]
abbrev dktX2_askedLine_0 : List UInt8 := dkwX2_askedLine_0 ++ dktX2_askedLine_1
theorem dksX2_askedLine_0 : cX2_askedLine.data.toList.drop 0 = dktX2_askedLine_0 := by decide +kernel
theorem dksX2_askedLine_1 : cX2_askedLine.data.toList.drop 22 = dktX2_askedLine_1 := dk_seg dksX2_askedLine_0 22 rfl rfl
theorem dksX2_askedLine_2 : cX2_askedLine.data.toList.drop 46 = dktX2_askedLine_2 := dk_seg dksX2_askedLine_1 24 rfl rfl
theorem dX2_askedLine_0 : decode cX2_askedLine 0 = .ok (.aload_n 0, 1) := dk_42 (dk_at dksX2_askedLine_0 0 rfl rfl)
theorem dX2_askedLine_1 : decode cX2_askedLine 1 = .ok (.aload_n 0, 1) := dk_42 (dk_at dksX2_askedLine_0 1 rfl rfl)
theorem dX2_askedLine_2 : decode cX2_askedLine 2 = .ok (.getfield 107, 3) := dk_180 0 107 (dk_at dksX2_askedLine_0 2 rfl rfl)
theorem dX2_askedLine_5 : decode cX2_askedLine 5 = .ok (.getfield 239, 3) := dk_180 0 239 (dk_at dksX2_askedLine_0 5 rfl rfl)
theorem dX2_askedLine_8 : decode cX2_askedLine 8 = .ok (.bipush 12, 2) := dk_16 12 (dk_at dksX2_askedLine_0 8 rfl rfl)
theorem dX2_askedLine_10 : decode cX2_askedLine 10 = .ok (.if_icmp .ge 7, 3) := dk_162 0 7 (dk_at dksX2_askedLine_0 10 rfl rfl)
theorem dX2_askedLine_13 : decode cX2_askedLine 13 = .ok (.iconst 1, 1) := dk_4 (dk_at dksX2_askedLine_0 13 rfl rfl)
theorem dX2_askedLine_14 : decode cX2_askedLine 14 = .ok (.goto 4, 3) := dk_167 0 4 (dk_at dksX2_askedLine_0 14 rfl rfl)
theorem dX2_askedLine_17 : decode cX2_askedLine 17 = .ok (.iconst 0, 1) := dk_3 (dk_at dksX2_askedLine_0 17 rfl rfl)
theorem dX2_askedLine_18 : decode cX2_askedLine 18 = .ok (.invokevirtual 183, 3) := dk_182 0 183 (dk_at dksX2_askedLine_0 18 rfl rfl)
theorem dX2_askedLine_21 : decode cX2_askedLine 21 = .ok (.aload_n 0, 1) := dk_42 (dk_at dksX2_askedLine_0 21 rfl rfl)
theorem dX2_askedLine_22 : decode cX2_askedLine 22 = .ok (.invokevirtual 242, 3) := dk_182 0 242 (dk_at dksX2_askedLine_1 0 rfl rfl)
theorem dX2_askedLine_25 : decode cX2_askedLine 25 = .ok (.astore_n 1, 1) := dk_76 (dk_at dksX2_askedLine_1 3 rfl rfl)
theorem dX2_askedLine_26 : decode cX2_askedLine 26 = .ok (.aload_n 0, 1) := dk_42 (dk_at dksX2_askedLine_1 4 rfl rfl)
theorem dX2_askedLine_27 : decode cX2_askedLine 27 = .ok (.aload_n 1, 1) := dk_43 (dk_at dksX2_askedLine_1 5 rfl rfl)
theorem dX2_askedLine_28 : decode cX2_askedLine 28 = .ok (.aload_n 0, 1) := dk_42 (dk_at dksX2_askedLine_1 6 rfl rfl)
theorem dX2_askedLine_29 : decode cX2_askedLine 29 = .ok (.ldc 245, 2) := dk_18 245 (dk_at dksX2_askedLine_1 7 rfl rfl)
theorem dX2_askedLine_31 : decode cX2_askedLine 31 = .ok (.iconst 0, 1) := dk_3 (dk_at dksX2_askedLine_1 9 rfl rfl)
theorem dX2_askedLine_32 : decode cX2_askedLine 32 = .ok (.aload_n 0, 1) := dk_42 (dk_at dksX2_askedLine_1 10 rfl rfl)
theorem dX2_askedLine_33 : decode cX2_askedLine 33 = .ok (.getfield 107, 3) := dk_180 0 107 (dk_at dksX2_askedLine_1 11 rfl rfl)
theorem dX2_askedLine_36 : decode cX2_askedLine 36 = .ok (.getfield 120, 3) := dk_180 0 120 (dk_at dksX2_askedLine_1 14 rfl rfl)
theorem dX2_askedLine_39 : decode cX2_askedLine 39 = .ok (.invokevirtual 153, 3) := dk_182 0 153 (dk_at dksX2_askedLine_1 17 rfl rfl)
theorem dX2_askedLine_42 : decode cX2_askedLine 42 = .ok (.invokevirtual 246, 3) := dk_182 0 246 (dk_at dksX2_askedLine_1 20 rfl rfl)
theorem dX2_askedLine_45 : decode cX2_askedLine 45 = .ok (.aload_n 0, 1) := dk_42 (dk_at dksX2_askedLine_1 23 rfl rfl)
theorem dX2_askedLine_46 : decode cX2_askedLine 46 = .ok (.getfield 107, 3) := dk_180 0 107 (dk_at dksX2_askedLine_2 0 rfl rfl)
theorem dX2_askedLine_49 : decode cX2_askedLine 49 = .ok (.dup, 1) := dk_89 (dk_at dksX2_askedLine_2 3 rfl rfl)
theorem dX2_askedLine_50 : decode cX2_askedLine 50 = .ok (.getfield 239, 3) := dk_180 0 239 (dk_at dksX2_askedLine_2 4 rfl rfl)
theorem dX2_askedLine_53 : decode cX2_askedLine 53 = .ok (.iconst 1, 1) := dk_4 (dk_at dksX2_askedLine_2 7 rfl rfl)
theorem dX2_askedLine_54 : decode cX2_askedLine 54 = .ok (.iadd, 1) := dk_96 (dk_at dksX2_askedLine_2 8 rfl rfl)
theorem dX2_askedLine_55 : decode cX2_askedLine 55 = .ok (.putfield 239, 3) := dk_181 0 239 (dk_at dksX2_askedLine_2 9 rfl rfl)
theorem dX2_askedLine_58 : decode cX2_askedLine 58 = .ok (.return_, 1) := dk_177 (dk_at dksX2_askedLine_2 12 rfl rfl)
abbrev cX2_asking : ByteArray := prog_9_method_20_code
def yX2_asking : MethodName := ⟨RX2, "asking", "()LLastAsked$Person;"⟩
def dkwX2_asking_3 : List UInt8 := [180, 0, 219, 182, 0, 236, 154, 0, 10, 42, 16, 7, 182, 0, 82, 191, 42, 182, 0, 75, 43, 176]
abbrev dktX2_asking_3 : List UInt8 := dkwX2_asking_3 ++ []
def dkwX2_asking_2 : List UInt8 := [180, 0, 233, 43, 180, 0, 219, 184, 0, 222, 153, 0, 9, 42, 6, 182, 0, 82, 191, 43, 42, 180, 0, 225]
abbrev dktX2_asking_2 : List UInt8 := dkwX2_asking_2 ++ dktX2_asking_3
def dkwX2_asking_1 : List UInt8 := [191, 42, 182, 0, 75, 42, 182, 0, 213, 76, 42, 180, 0, 225, 43, 165, 0, 20, 42, 180, 0, 225]
abbrev dktX2_asking_1 : List UInt8 := dkwX2_asking_1 ++ dktX2_asking_2
def dkwX2_asking_0 : List UInt8 := [42, 42, 182, 0, 213, 181, 0, 225, 42, 180, 0, 225, 182, 0, 229, 154, 0, 10, 42, 16, 7, 182, 0, 82]
abbrev dktX2_asking_0 : List UInt8 := dkwX2_asking_0 ++ dktX2_asking_1
theorem dksX2_asking_0 : cX2_asking.data.toList.drop 0 = dktX2_asking_0 := by decide +kernel
theorem dksX2_asking_1 : cX2_asking.data.toList.drop 24 = dktX2_asking_1 := dk_seg dksX2_asking_0 24 rfl rfl
theorem dksX2_asking_2 : cX2_asking.data.toList.drop 46 = dktX2_asking_2 := dk_seg dksX2_asking_1 22 rfl rfl
theorem dksX2_asking_3 : cX2_asking.data.toList.drop 70 = dktX2_asking_3 := dk_seg dksX2_asking_2 24 rfl rfl
theorem dX2_asking_0 : decode cX2_asking 0 = .ok (.aload_n 0, 1) := dk_42 (dk_at dksX2_asking_0 0 rfl rfl)
theorem dX2_asking_1 : decode cX2_asking 1 = .ok (.aload_n 0, 1) := dk_42 (dk_at dksX2_asking_0 1 rfl rfl)
theorem dX2_asking_2 : decode cX2_asking 2 = .ok (.invokevirtual 213, 3) := dk_182 0 213 (dk_at dksX2_asking_0 2 rfl rfl)
theorem dX2_asking_5 : decode cX2_asking 5 = .ok (.putfield 225, 3) := dk_181 0 225 (dk_at dksX2_asking_0 5 rfl rfl)
theorem dX2_asking_8 : decode cX2_asking 8 = .ok (.aload_n 0, 1) := dk_42 (dk_at dksX2_asking_0 8 rfl rfl)
theorem dX2_asking_9 : decode cX2_asking 9 = .ok (.getfield 225, 3) := dk_180 0 225 (dk_at dksX2_asking_0 9 rfl rfl)
theorem dX2_asking_12 : decode cX2_asking 12 = .ok (.invokevirtual 229, 3) := dk_182 0 229 (dk_at dksX2_asking_0 12 rfl rfl)
theorem dX2_asking_15 : decode cX2_asking 15 = .ok (.ifCond .ne 10, 3) := dk_154 0 10 (dk_at dksX2_asking_0 15 rfl rfl)
theorem dX2_asking_18 : decode cX2_asking 18 = .ok (.aload_n 0, 1) := dk_42 (dk_at dksX2_asking_0 18 rfl rfl)
theorem dX2_asking_19 : decode cX2_asking 19 = .ok (.bipush 7, 2) := dk_16 7 (dk_at dksX2_asking_0 19 rfl rfl)
theorem dX2_asking_21 : decode cX2_asking 21 = .ok (.invokevirtual 82, 3) := dk_182 0 82 (dk_at dksX2_asking_0 21 rfl rfl)
theorem dX2_asking_24 : decode cX2_asking 24 = .ok (.athrow, 1) := dk_191 (dk_at dksX2_asking_1 0 rfl rfl)
theorem dX2_asking_25 : decode cX2_asking 25 = .ok (.aload_n 0, 1) := dk_42 (dk_at dksX2_asking_1 1 rfl rfl)
theorem dX2_asking_26 : decode cX2_asking 26 = .ok (.invokevirtual 75, 3) := dk_182 0 75 (dk_at dksX2_asking_1 2 rfl rfl)
theorem dX2_asking_29 : decode cX2_asking 29 = .ok (.aload_n 0, 1) := dk_42 (dk_at dksX2_asking_1 5 rfl rfl)
theorem dX2_asking_30 : decode cX2_asking 30 = .ok (.invokevirtual 213, 3) := dk_182 0 213 (dk_at dksX2_asking_1 6 rfl rfl)
theorem dX2_asking_33 : decode cX2_asking 33 = .ok (.astore_n 1, 1) := dk_76 (dk_at dksX2_asking_1 9 rfl rfl)
theorem dX2_asking_34 : decode cX2_asking 34 = .ok (.aload_n 0, 1) := dk_42 (dk_at dksX2_asking_1 10 rfl rfl)
theorem dX2_asking_35 : decode cX2_asking 35 = .ok (.getfield 225, 3) := dk_180 0 225 (dk_at dksX2_asking_1 11 rfl rfl)
theorem dX2_asking_38 : decode cX2_asking 38 = .ok (.aload_n 1, 1) := dk_43 (dk_at dksX2_asking_1 14 rfl rfl)
theorem dX2_asking_39 : decode cX2_asking 39 = .ok (.if_acmp .eq 20, 3) := dk_165 0 20 (dk_at dksX2_asking_1 15 rfl rfl)
theorem dX2_asking_42 : decode cX2_asking 42 = .ok (.aload_n 0, 1) := dk_42 (dk_at dksX2_asking_1 18 rfl rfl)
theorem dX2_asking_43 : decode cX2_asking 43 = .ok (.getfield 225, 3) := dk_180 0 225 (dk_at dksX2_asking_1 19 rfl rfl)
theorem dX2_asking_46 : decode cX2_asking 46 = .ok (.getfield 233, 3) := dk_180 0 233 (dk_at dksX2_asking_2 0 rfl rfl)
theorem dX2_asking_49 : decode cX2_asking 49 = .ok (.aload_n 1, 1) := dk_43 (dk_at dksX2_asking_2 3 rfl rfl)
theorem dX2_asking_50 : decode cX2_asking 50 = .ok (.getfield 219, 3) := dk_180 0 219 (dk_at dksX2_asking_2 4 rfl rfl)
theorem dX2_asking_53 : decode cX2_asking 53 = .ok (.invokestatic 222, 3) := dk_184 0 222 (dk_at dksX2_asking_2 7 rfl rfl)
theorem dX2_asking_56 : decode cX2_asking 56 = .ok (.ifCond .eq 9, 3) := dk_153 0 9 (dk_at dksX2_asking_2 10 rfl rfl)
theorem dX2_asking_59 : decode cX2_asking 59 = .ok (.aload_n 0, 1) := dk_42 (dk_at dksX2_asking_2 13 rfl rfl)
theorem dX2_asking_60 : decode cX2_asking 60 = .ok (.iconst 3, 1) := dk_6 (dk_at dksX2_asking_2 14 rfl rfl)
theorem dX2_asking_61 : decode cX2_asking 61 = .ok (.invokevirtual 82, 3) := dk_182 0 82 (dk_at dksX2_asking_2 15 rfl rfl)
theorem dX2_asking_64 : decode cX2_asking 64 = .ok (.athrow, 1) := dk_191 (dk_at dksX2_asking_2 18 rfl rfl)
theorem dX2_asking_65 : decode cX2_asking 65 = .ok (.aload_n 1, 1) := dk_43 (dk_at dksX2_asking_2 19 rfl rfl)
theorem dX2_asking_66 : decode cX2_asking 66 = .ok (.aload_n 0, 1) := dk_42 (dk_at dksX2_asking_2 20 rfl rfl)
theorem dX2_asking_67 : decode cX2_asking 67 = .ok (.getfield 225, 3) := dk_180 0 225 (dk_at dksX2_asking_2 21 rfl rfl)
theorem dX2_asking_70 : decode cX2_asking 70 = .ok (.getfield 219, 3) := dk_180 0 219 (dk_at dksX2_asking_3 0 rfl rfl)
theorem dX2_asking_73 : decode cX2_asking 73 = .ok (.invokevirtual 236, 3) := dk_182 0 236 (dk_at dksX2_asking_3 3 rfl rfl)
theorem dX2_asking_76 : decode cX2_asking 76 = .ok (.ifCond .ne 10, 3) := dk_154 0 10 (dk_at dksX2_asking_3 6 rfl rfl)
theorem dX2_asking_79 : decode cX2_asking 79 = .ok (.aload_n 0, 1) := dk_42 (dk_at dksX2_asking_3 9 rfl rfl)
theorem dX2_asking_80 : decode cX2_asking 80 = .ok (.bipush 7, 2) := dk_16 7 (dk_at dksX2_asking_3 10 rfl rfl)
theorem dX2_asking_82 : decode cX2_asking 82 = .ok (.invokevirtual 82, 3) := dk_182 0 82 (dk_at dksX2_asking_3 12 rfl rfl)
theorem dX2_asking_85 : decode cX2_asking 85 = .ok (.athrow, 1) := dk_191 (dk_at dksX2_asking_3 15 rfl rfl)
theorem dX2_asking_86 : decode cX2_asking 86 = .ok (.aload_n 0, 1) := dk_42 (dk_at dksX2_asking_3 16 rfl rfl)
theorem dX2_asking_87 : decode cX2_asking 87 = .ok (.invokevirtual 75, 3) := dk_182 0 75 (dk_at dksX2_asking_3 17 rfl rfl)
theorem dX2_asking_90 : decode cX2_asking 90 = .ok (.aload_n 1, 1) := dk_43 (dk_at dksX2_asking_3 20 rfl rfl)
theorem dX2_asking_91 : decode cX2_asking 91 = .ok (.areturn, 1) := dk_176 (dk_at dksX2_asking_3 21 rfl rfl)
abbrev cX2_lay : ByteArray := prog_9_method_21_code
def yX2_lay : MethodName := ⟨RX2, "lay", "(LLastAsked$Person;I)V"⟩
def dkwX2_lay_1 : List UInt8 := [180, 0, 124, 16, 6, 42, 180, 0, 225, 180, 0, 219, 104, 43, 180, 0, 219, 96, 28, 79, 177]
abbrev dktX2_lay_1 : List UInt8 := dkwX2_lay_1 ++ []
def dkwX2_lay_0 : List UInt8 := [42, 180, 0, 225, 89, 180, 0, 233, 4, 43, 180, 0, 219, 120, 128, 181, 0, 233, 42, 180, 0, 107]
abbrev dktX2_lay_0 : List UInt8 := dkwX2_lay_0 ++ dktX2_lay_1
theorem dksX2_lay_0 : cX2_lay.data.toList.drop 0 = dktX2_lay_0 := by decide +kernel
theorem dksX2_lay_1 : cX2_lay.data.toList.drop 22 = dktX2_lay_1 := dk_seg dksX2_lay_0 22 rfl rfl
theorem dX2_lay_0 : decode cX2_lay 0 = .ok (.aload_n 0, 1) := dk_42 (dk_at dksX2_lay_0 0 rfl rfl)
theorem dX2_lay_1 : decode cX2_lay 1 = .ok (.getfield 225, 3) := dk_180 0 225 (dk_at dksX2_lay_0 1 rfl rfl)
theorem dX2_lay_4 : decode cX2_lay 4 = .ok (.dup, 1) := dk_89 (dk_at dksX2_lay_0 4 rfl rfl)
theorem dX2_lay_5 : decode cX2_lay 5 = .ok (.getfield 233, 3) := dk_180 0 233 (dk_at dksX2_lay_0 5 rfl rfl)
theorem dX2_lay_8 : decode cX2_lay 8 = .ok (.iconst 1, 1) := dk_4 (dk_at dksX2_lay_0 8 rfl rfl)
theorem dX2_lay_9 : decode cX2_lay 9 = .ok (.aload_n 1, 1) := dk_43 (dk_at dksX2_lay_0 9 rfl rfl)
theorem dX2_lay_10 : decode cX2_lay 10 = .ok (.getfield 219, 3) := dk_180 0 219 (dk_at dksX2_lay_0 10 rfl rfl)
theorem dX2_lay_13 : decode cX2_lay 13 = .ok (.ishl, 1) := dk_120 (dk_at dksX2_lay_0 13 rfl rfl)
theorem dX2_lay_14 : decode cX2_lay 14 = .ok (.ior, 1) := dk_128 (dk_at dksX2_lay_0 14 rfl rfl)
theorem dX2_lay_15 : decode cX2_lay 15 = .ok (.putfield 233, 3) := dk_181 0 233 (dk_at dksX2_lay_0 15 rfl rfl)
theorem dX2_lay_18 : decode cX2_lay 18 = .ok (.aload_n 0, 1) := dk_42 (dk_at dksX2_lay_0 18 rfl rfl)
theorem dX2_lay_19 : decode cX2_lay 19 = .ok (.getfield 107, 3) := dk_180 0 107 (dk_at dksX2_lay_0 19 rfl rfl)
theorem dX2_lay_22 : decode cX2_lay 22 = .ok (.getfield 124, 3) := dk_180 0 124 (dk_at dksX2_lay_1 0 rfl rfl)
theorem dX2_lay_25 : decode cX2_lay 25 = .ok (.bipush 6, 2) := dk_16 6 (dk_at dksX2_lay_1 3 rfl rfl)
theorem dX2_lay_27 : decode cX2_lay 27 = .ok (.aload_n 0, 1) := dk_42 (dk_at dksX2_lay_1 5 rfl rfl)
theorem dX2_lay_28 : decode cX2_lay 28 = .ok (.getfield 225, 3) := dk_180 0 225 (dk_at dksX2_lay_1 6 rfl rfl)
theorem dX2_lay_31 : decode cX2_lay 31 = .ok (.getfield 219, 3) := dk_180 0 219 (dk_at dksX2_lay_1 9 rfl rfl)
theorem dX2_lay_34 : decode cX2_lay 34 = .ok (.imul, 1) := dk_104 (dk_at dksX2_lay_1 12 rfl rfl)
theorem dX2_lay_35 : decode cX2_lay 35 = .ok (.aload_n 1, 1) := dk_43 (dk_at dksX2_lay_1 13 rfl rfl)
theorem dX2_lay_36 : decode cX2_lay 36 = .ok (.getfield 219, 3) := dk_180 0 219 (dk_at dksX2_lay_1 14 rfl rfl)
theorem dX2_lay_39 : decode cX2_lay 39 = .ok (.iadd, 1) := dk_96 (dk_at dksX2_lay_1 17 rfl rfl)
theorem dX2_lay_40 : decode cX2_lay 40 = .ok (.iload_n 2, 1) := dk_28 (dk_at dksX2_lay_1 18 rfl rfl)
theorem dX2_lay_41 : decode cX2_lay 41 = .ok (.iastore, 1) := dk_79 (dk_at dksX2_lay_1 19 rfl rfl)
theorem dX2_lay_42 : decode cX2_lay 42 = .ok (.return_, 1) := dk_177 (dk_at dksX2_lay_1 20 rfl rfl)
abbrev cX2_heardLine : ByteArray := prog_9_method_23_code
def yX2_heardLine : MethodName := ⟨RX2, "heardLine", "()V"⟩
def dkwX2_heardLine_5 : List UInt8 := [180, 0, 107, 89, 180, 0, 250, 4, 96, 181, 0, 250, 177]
abbrev dktX2_heardLine_5 : List UInt8 := dkwX2_heardLine_5 ++ []
def dkwX2_heardLine_4 : List UInt8 := [19, 1, 9, 3, 6, 182, 0, 153, 79, 42, 43, 42, 180, 0, 107, 180, 1, 3, 28, 46, 182, 0, 246, 42]
abbrev dktX2_heardLine_4 : List UInt8 := dkwX2_heardLine_4 ++ dktX2_heardLine_5
def dkwX2_heardLine_3 : List UInt8 := [18, 245, 3, 42, 180, 0, 107, 180, 0, 120, 182, 0, 153, 79, 42, 180, 0, 107, 180, 1, 6, 28, 42]
abbrev dktX2_heardLine_3 : List UInt8 := dkwX2_heardLine_3 ++ dktX2_heardLine_4
def dkwX2_heardLine_2 : List UInt8 := [79, 42, 180, 0, 107, 180, 1, 0, 28, 43, 180, 0, 219, 79, 42, 180, 0, 107, 180, 1, 3, 28, 42]
abbrev dktX2_heardLine_2 : List UInt8 := dkwX2_heardLine_2 ++ dktX2_heardLine_3
def dkwX2_heardLine_1 : List UInt8 := [76, 42, 180, 0, 107, 180, 0, 250, 61, 42, 180, 0, 107, 180, 0, 253, 28, 42, 180, 0, 225, 180, 0, 219]
abbrev dktX2_heardLine_1 : List UInt8 := dkwX2_heardLine_1 ++ dktX2_heardLine_2
def dkwX2_heardLine_0 : List UInt8 := [42, 42, 180, 0, 107, 180, 0, 250, 6, 162, 0, 7, 4, 167, 0, 4, 3, 182, 0, 183, 42, 182, 0, 242]
abbrev dktX2_heardLine_0 : List UInt8 := dkwX2_heardLine_0 ++ dktX2_heardLine_1
theorem dksX2_heardLine_0 : cX2_heardLine.data.toList.drop 0 = dktX2_heardLine_0 := by decide +kernel
theorem dksX2_heardLine_1 : cX2_heardLine.data.toList.drop 24 = dktX2_heardLine_1 := dk_seg dksX2_heardLine_0 24 rfl rfl
theorem dksX2_heardLine_2 : cX2_heardLine.data.toList.drop 48 = dktX2_heardLine_2 := dk_seg dksX2_heardLine_1 24 rfl rfl
theorem dksX2_heardLine_3 : cX2_heardLine.data.toList.drop 71 = dktX2_heardLine_3 := dk_seg dksX2_heardLine_2 23 rfl rfl
theorem dksX2_heardLine_4 : cX2_heardLine.data.toList.drop 94 = dktX2_heardLine_4 := dk_seg dksX2_heardLine_3 23 rfl rfl
theorem dksX2_heardLine_5 : cX2_heardLine.data.toList.drop 118 = dktX2_heardLine_5 := dk_seg dksX2_heardLine_4 24 rfl rfl
theorem dX2_heardLine_0 : decode cX2_heardLine 0 = .ok (.aload_n 0, 1) := dk_42 (dk_at dksX2_heardLine_0 0 rfl rfl)
theorem dX2_heardLine_1 : decode cX2_heardLine 1 = .ok (.aload_n 0, 1) := dk_42 (dk_at dksX2_heardLine_0 1 rfl rfl)
theorem dX2_heardLine_2 : decode cX2_heardLine 2 = .ok (.getfield 107, 3) := dk_180 0 107 (dk_at dksX2_heardLine_0 2 rfl rfl)
theorem dX2_heardLine_5 : decode cX2_heardLine 5 = .ok (.getfield 250, 3) := dk_180 0 250 (dk_at dksX2_heardLine_0 5 rfl rfl)
theorem dX2_heardLine_8 : decode cX2_heardLine 8 = .ok (.iconst 3, 1) := dk_6 (dk_at dksX2_heardLine_0 8 rfl rfl)
theorem dX2_heardLine_9 : decode cX2_heardLine 9 = .ok (.if_icmp .ge 7, 3) := dk_162 0 7 (dk_at dksX2_heardLine_0 9 rfl rfl)
theorem dX2_heardLine_12 : decode cX2_heardLine 12 = .ok (.iconst 1, 1) := dk_4 (dk_at dksX2_heardLine_0 12 rfl rfl)
theorem dX2_heardLine_13 : decode cX2_heardLine 13 = .ok (.goto 4, 3) := dk_167 0 4 (dk_at dksX2_heardLine_0 13 rfl rfl)
theorem dX2_heardLine_16 : decode cX2_heardLine 16 = .ok (.iconst 0, 1) := dk_3 (dk_at dksX2_heardLine_0 16 rfl rfl)
theorem dX2_heardLine_17 : decode cX2_heardLine 17 = .ok (.invokevirtual 183, 3) := dk_182 0 183 (dk_at dksX2_heardLine_0 17 rfl rfl)
theorem dX2_heardLine_20 : decode cX2_heardLine 20 = .ok (.aload_n 0, 1) := dk_42 (dk_at dksX2_heardLine_0 20 rfl rfl)
theorem dX2_heardLine_21 : decode cX2_heardLine 21 = .ok (.invokevirtual 242, 3) := dk_182 0 242 (dk_at dksX2_heardLine_0 21 rfl rfl)
theorem dX2_heardLine_24 : decode cX2_heardLine 24 = .ok (.astore_n 1, 1) := dk_76 (dk_at dksX2_heardLine_1 0 rfl rfl)
theorem dX2_heardLine_25 : decode cX2_heardLine 25 = .ok (.aload_n 0, 1) := dk_42 (dk_at dksX2_heardLine_1 1 rfl rfl)
theorem dX2_heardLine_26 : decode cX2_heardLine 26 = .ok (.getfield 107, 3) := dk_180 0 107 (dk_at dksX2_heardLine_1 2 rfl rfl)
theorem dX2_heardLine_29 : decode cX2_heardLine 29 = .ok (.getfield 250, 3) := dk_180 0 250 (dk_at dksX2_heardLine_1 5 rfl rfl)
theorem dX2_heardLine_32 : decode cX2_heardLine 32 = .ok (.istore_n 2, 1) := dk_61 (dk_at dksX2_heardLine_1 8 rfl rfl)
theorem dX2_heardLine_33 : decode cX2_heardLine 33 = .ok (.aload_n 0, 1) := dk_42 (dk_at dksX2_heardLine_1 9 rfl rfl)
theorem dX2_heardLine_34 : decode cX2_heardLine 34 = .ok (.getfield 107, 3) := dk_180 0 107 (dk_at dksX2_heardLine_1 10 rfl rfl)
theorem dX2_heardLine_37 : decode cX2_heardLine 37 = .ok (.getfield 253, 3) := dk_180 0 253 (dk_at dksX2_heardLine_1 13 rfl rfl)
theorem dX2_heardLine_40 : decode cX2_heardLine 40 = .ok (.iload_n 2, 1) := dk_28 (dk_at dksX2_heardLine_1 16 rfl rfl)
theorem dX2_heardLine_41 : decode cX2_heardLine 41 = .ok (.aload_n 0, 1) := dk_42 (dk_at dksX2_heardLine_1 17 rfl rfl)
theorem dX2_heardLine_42 : decode cX2_heardLine 42 = .ok (.getfield 225, 3) := dk_180 0 225 (dk_at dksX2_heardLine_1 18 rfl rfl)
theorem dX2_heardLine_45 : decode cX2_heardLine 45 = .ok (.getfield 219, 3) := dk_180 0 219 (dk_at dksX2_heardLine_1 21 rfl rfl)
theorem dX2_heardLine_48 : decode cX2_heardLine 48 = .ok (.iastore, 1) := dk_79 (dk_at dksX2_heardLine_2 0 rfl rfl)
theorem dX2_heardLine_49 : decode cX2_heardLine 49 = .ok (.aload_n 0, 1) := dk_42 (dk_at dksX2_heardLine_2 1 rfl rfl)
theorem dX2_heardLine_50 : decode cX2_heardLine 50 = .ok (.getfield 107, 3) := dk_180 0 107 (dk_at dksX2_heardLine_2 2 rfl rfl)
theorem dX2_heardLine_53 : decode cX2_heardLine 53 = .ok (.getfield 256, 3) := dk_180 1 0 (dk_at dksX2_heardLine_2 5 rfl rfl)
theorem dX2_heardLine_56 : decode cX2_heardLine 56 = .ok (.iload_n 2, 1) := dk_28 (dk_at dksX2_heardLine_2 8 rfl rfl)
theorem dX2_heardLine_57 : decode cX2_heardLine 57 = .ok (.aload_n 1, 1) := dk_43 (dk_at dksX2_heardLine_2 9 rfl rfl)
theorem dX2_heardLine_58 : decode cX2_heardLine 58 = .ok (.getfield 219, 3) := dk_180 0 219 (dk_at dksX2_heardLine_2 10 rfl rfl)
theorem dX2_heardLine_61 : decode cX2_heardLine 61 = .ok (.iastore, 1) := dk_79 (dk_at dksX2_heardLine_2 13 rfl rfl)
theorem dX2_heardLine_62 : decode cX2_heardLine 62 = .ok (.aload_n 0, 1) := dk_42 (dk_at dksX2_heardLine_2 14 rfl rfl)
theorem dX2_heardLine_63 : decode cX2_heardLine 63 = .ok (.getfield 107, 3) := dk_180 0 107 (dk_at dksX2_heardLine_2 15 rfl rfl)
theorem dX2_heardLine_66 : decode cX2_heardLine 66 = .ok (.getfield 259, 3) := dk_180 1 3 (dk_at dksX2_heardLine_2 18 rfl rfl)
theorem dX2_heardLine_69 : decode cX2_heardLine 69 = .ok (.iload_n 2, 1) := dk_28 (dk_at dksX2_heardLine_2 21 rfl rfl)
theorem dX2_heardLine_70 : decode cX2_heardLine 70 = .ok (.aload_n 0, 1) := dk_42 (dk_at dksX2_heardLine_2 22 rfl rfl)
theorem dX2_heardLine_71 : decode cX2_heardLine 71 = .ok (.ldc 245, 2) := dk_18 245 (dk_at dksX2_heardLine_3 0 rfl rfl)
theorem dX2_heardLine_73 : decode cX2_heardLine 73 = .ok (.iconst 0, 1) := dk_3 (dk_at dksX2_heardLine_3 2 rfl rfl)
theorem dX2_heardLine_74 : decode cX2_heardLine 74 = .ok (.aload_n 0, 1) := dk_42 (dk_at dksX2_heardLine_3 3 rfl rfl)
theorem dX2_heardLine_75 : decode cX2_heardLine 75 = .ok (.getfield 107, 3) := dk_180 0 107 (dk_at dksX2_heardLine_3 4 rfl rfl)
theorem dX2_heardLine_78 : decode cX2_heardLine 78 = .ok (.getfield 120, 3) := dk_180 0 120 (dk_at dksX2_heardLine_3 7 rfl rfl)
theorem dX2_heardLine_81 : decode cX2_heardLine 81 = .ok (.invokevirtual 153, 3) := dk_182 0 153 (dk_at dksX2_heardLine_3 10 rfl rfl)
theorem dX2_heardLine_84 : decode cX2_heardLine 84 = .ok (.iastore, 1) := dk_79 (dk_at dksX2_heardLine_3 13 rfl rfl)
theorem dX2_heardLine_85 : decode cX2_heardLine 85 = .ok (.aload_n 0, 1) := dk_42 (dk_at dksX2_heardLine_3 14 rfl rfl)
theorem dX2_heardLine_86 : decode cX2_heardLine 86 = .ok (.getfield 107, 3) := dk_180 0 107 (dk_at dksX2_heardLine_3 15 rfl rfl)
theorem dX2_heardLine_89 : decode cX2_heardLine 89 = .ok (.getfield 262, 3) := dk_180 1 6 (dk_at dksX2_heardLine_3 18 rfl rfl)
theorem dX2_heardLine_92 : decode cX2_heardLine 92 = .ok (.iload_n 2, 1) := dk_28 (dk_at dksX2_heardLine_3 21 rfl rfl)
theorem dX2_heardLine_93 : decode cX2_heardLine 93 = .ok (.aload_n 0, 1) := dk_42 (dk_at dksX2_heardLine_3 22 rfl rfl)
theorem dX2_heardLine_94 : decode cX2_heardLine 94 = .ok (.ldc_w 265, 3) := dk_19 1 9 (dk_at dksX2_heardLine_4 0 rfl rfl)
theorem dX2_heardLine_97 : decode cX2_heardLine 97 = .ok (.iconst 0, 1) := dk_3 (dk_at dksX2_heardLine_4 3 rfl rfl)
theorem dX2_heardLine_98 : decode cX2_heardLine 98 = .ok (.iconst 3, 1) := dk_6 (dk_at dksX2_heardLine_4 4 rfl rfl)
theorem dX2_heardLine_99 : decode cX2_heardLine 99 = .ok (.invokevirtual 153, 3) := dk_182 0 153 (dk_at dksX2_heardLine_4 5 rfl rfl)
theorem dX2_heardLine_102 : decode cX2_heardLine 102 = .ok (.iastore, 1) := dk_79 (dk_at dksX2_heardLine_4 8 rfl rfl)
theorem dX2_heardLine_103 : decode cX2_heardLine 103 = .ok (.aload_n 0, 1) := dk_42 (dk_at dksX2_heardLine_4 9 rfl rfl)
theorem dX2_heardLine_104 : decode cX2_heardLine 104 = .ok (.aload_n 1, 1) := dk_43 (dk_at dksX2_heardLine_4 10 rfl rfl)
theorem dX2_heardLine_105 : decode cX2_heardLine 105 = .ok (.aload_n 0, 1) := dk_42 (dk_at dksX2_heardLine_4 11 rfl rfl)
theorem dX2_heardLine_106 : decode cX2_heardLine 106 = .ok (.getfield 107, 3) := dk_180 0 107 (dk_at dksX2_heardLine_4 12 rfl rfl)
theorem dX2_heardLine_109 : decode cX2_heardLine 109 = .ok (.getfield 259, 3) := dk_180 1 3 (dk_at dksX2_heardLine_4 15 rfl rfl)
theorem dX2_heardLine_112 : decode cX2_heardLine 112 = .ok (.iload_n 2, 1) := dk_28 (dk_at dksX2_heardLine_4 18 rfl rfl)
theorem dX2_heardLine_113 : decode cX2_heardLine 113 = .ok (.iaload, 1) := dk_46 (dk_at dksX2_heardLine_4 19 rfl rfl)
theorem dX2_heardLine_114 : decode cX2_heardLine 114 = .ok (.invokevirtual 246, 3) := dk_182 0 246 (dk_at dksX2_heardLine_4 20 rfl rfl)
theorem dX2_heardLine_117 : decode cX2_heardLine 117 = .ok (.aload_n 0, 1) := dk_42 (dk_at dksX2_heardLine_4 23 rfl rfl)
theorem dX2_heardLine_118 : decode cX2_heardLine 118 = .ok (.getfield 107, 3) := dk_180 0 107 (dk_at dksX2_heardLine_5 0 rfl rfl)
theorem dX2_heardLine_121 : decode cX2_heardLine 121 = .ok (.dup, 1) := dk_89 (dk_at dksX2_heardLine_5 3 rfl rfl)
theorem dX2_heardLine_122 : decode cX2_heardLine 122 = .ok (.getfield 250, 3) := dk_180 0 250 (dk_at dksX2_heardLine_5 4 rfl rfl)
theorem dX2_heardLine_125 : decode cX2_heardLine 125 = .ok (.iconst 1, 1) := dk_4 (dk_at dksX2_heardLine_5 7 rfl rfl)
theorem dX2_heardLine_126 : decode cX2_heardLine 126 = .ok (.iadd, 1) := dk_96 (dk_at dksX2_heardLine_5 8 rfl rfl)
theorem dX2_heardLine_127 : decode cX2_heardLine 127 = .ok (.putfield 250, 3) := dk_181 0 250 (dk_at dksX2_heardLine_5 9 rfl rfl)
theorem dX2_heardLine_130 : decode cX2_heardLine 130 = .ok (.return_, 1) := dk_177 (dk_at dksX2_heardLine_5 12 rfl rfl)
abbrev cX2_wentLine : ByteArray := prog_9_method_24_code
def yX2_wentLine : MethodName := ⟨RX2, "wentLine", "()V"⟩
def dkwX2_wentLine_3 : List UInt8 := [180, 0, 107, 89, 180, 1, 13, 4, 96, 181, 1, 13, 177]
abbrev dktX2_wentLine_3 : List UInt8 := dkwX2_wentLine_3 ++ []
def dkwX2_wentLine_2 : List UInt8 := [166, 0, 9, 42, 6, 182, 0, 82, 191, 42, 182, 0, 75, 45, 180, 0, 219, 61, 43, 28, 181, 1, 11, 42]
abbrev dktX2_wentLine_2 : List UInt8 := dkwX2_wentLine_2 ++ dktX2_wentLine_3
def dkwX2_wentLine_1 : List UInt8 := [42, 182, 0, 75, 16, 254, 61, 42, 18, 102, 182, 0, 78, 154, 0, 28, 42, 182, 0, 213, 78, 45, 43]
abbrev dktX2_wentLine_1 : List UInt8 := dkwX2_wentLine_1 ++ dktX2_wentLine_2
def dkwX2_wentLine_0 : List UInt8 := [42, 4, 182, 0, 183, 42, 182, 0, 213, 76, 43, 180, 1, 11, 2, 159, 0, 9, 42, 6, 182, 0, 82, 191]
abbrev dktX2_wentLine_0 : List UInt8 := dkwX2_wentLine_0 ++ dktX2_wentLine_1
theorem dksX2_wentLine_0 : cX2_wentLine.data.toList.drop 0 = dktX2_wentLine_0 := by decide +kernel
theorem dksX2_wentLine_1 : cX2_wentLine.data.toList.drop 24 = dktX2_wentLine_1 := dk_seg dksX2_wentLine_0 24 rfl rfl
theorem dksX2_wentLine_2 : cX2_wentLine.data.toList.drop 47 = dktX2_wentLine_2 := dk_seg dksX2_wentLine_1 23 rfl rfl
theorem dksX2_wentLine_3 : cX2_wentLine.data.toList.drop 71 = dktX2_wentLine_3 := dk_seg dksX2_wentLine_2 24 rfl rfl
theorem dX2_wentLine_0 : decode cX2_wentLine 0 = .ok (.aload_n 0, 1) := dk_42 (dk_at dksX2_wentLine_0 0 rfl rfl)
theorem dX2_wentLine_1 : decode cX2_wentLine 1 = .ok (.iconst 1, 1) := dk_4 (dk_at dksX2_wentLine_0 1 rfl rfl)
theorem dX2_wentLine_2 : decode cX2_wentLine 2 = .ok (.invokevirtual 183, 3) := dk_182 0 183 (dk_at dksX2_wentLine_0 2 rfl rfl)
theorem dX2_wentLine_5 : decode cX2_wentLine 5 = .ok (.aload_n 0, 1) := dk_42 (dk_at dksX2_wentLine_0 5 rfl rfl)
theorem dX2_wentLine_6 : decode cX2_wentLine 6 = .ok (.invokevirtual 213, 3) := dk_182 0 213 (dk_at dksX2_wentLine_0 6 rfl rfl)
theorem dX2_wentLine_9 : decode cX2_wentLine 9 = .ok (.astore_n 1, 1) := dk_76 (dk_at dksX2_wentLine_0 9 rfl rfl)
theorem dX2_wentLine_10 : decode cX2_wentLine 10 = .ok (.aload_n 1, 1) := dk_43 (dk_at dksX2_wentLine_0 10 rfl rfl)
theorem dX2_wentLine_11 : decode cX2_wentLine 11 = .ok (.getfield 267, 3) := dk_180 1 11 (dk_at dksX2_wentLine_0 11 rfl rfl)
theorem dX2_wentLine_14 : decode cX2_wentLine 14 = .ok (.iconst (-1), 1) := dk_2 (dk_at dksX2_wentLine_0 14 rfl rfl)
theorem dX2_wentLine_15 : decode cX2_wentLine 15 = .ok (.if_icmp .eq 9, 3) := dk_159 0 9 (dk_at dksX2_wentLine_0 15 rfl rfl)
theorem dX2_wentLine_18 : decode cX2_wentLine 18 = .ok (.aload_n 0, 1) := dk_42 (dk_at dksX2_wentLine_0 18 rfl rfl)
theorem dX2_wentLine_19 : decode cX2_wentLine 19 = .ok (.iconst 3, 1) := dk_6 (dk_at dksX2_wentLine_0 19 rfl rfl)
theorem dX2_wentLine_20 : decode cX2_wentLine 20 = .ok (.invokevirtual 82, 3) := dk_182 0 82 (dk_at dksX2_wentLine_0 20 rfl rfl)
theorem dX2_wentLine_23 : decode cX2_wentLine 23 = .ok (.athrow, 1) := dk_191 (dk_at dksX2_wentLine_0 23 rfl rfl)
theorem dX2_wentLine_24 : decode cX2_wentLine 24 = .ok (.aload_n 0, 1) := dk_42 (dk_at dksX2_wentLine_1 0 rfl rfl)
theorem dX2_wentLine_25 : decode cX2_wentLine 25 = .ok (.invokevirtual 75, 3) := dk_182 0 75 (dk_at dksX2_wentLine_1 1 rfl rfl)
theorem dX2_wentLine_28 : decode cX2_wentLine 28 = .ok (.bipush (-2), 2) := dk_16 254 (dk_at dksX2_wentLine_1 4 rfl rfl)
theorem dX2_wentLine_30 : decode cX2_wentLine 30 = .ok (.istore_n 2, 1) := dk_61 (dk_at dksX2_wentLine_1 6 rfl rfl)
theorem dX2_wentLine_31 : decode cX2_wentLine 31 = .ok (.aload_n 0, 1) := dk_42 (dk_at dksX2_wentLine_1 7 rfl rfl)
theorem dX2_wentLine_32 : decode cX2_wentLine 32 = .ok (.ldc 102, 2) := dk_18 102 (dk_at dksX2_wentLine_1 8 rfl rfl)
theorem dX2_wentLine_34 : decode cX2_wentLine 34 = .ok (.invokevirtual 78, 3) := dk_182 0 78 (dk_at dksX2_wentLine_1 10 rfl rfl)
theorem dX2_wentLine_37 : decode cX2_wentLine 37 = .ok (.ifCond .ne 28, 3) := dk_154 0 28 (dk_at dksX2_wentLine_1 13 rfl rfl)
theorem dX2_wentLine_40 : decode cX2_wentLine 40 = .ok (.aload_n 0, 1) := dk_42 (dk_at dksX2_wentLine_1 16 rfl rfl)
theorem dX2_wentLine_41 : decode cX2_wentLine 41 = .ok (.invokevirtual 213, 3) := dk_182 0 213 (dk_at dksX2_wentLine_1 17 rfl rfl)
theorem dX2_wentLine_44 : decode cX2_wentLine 44 = .ok (.astore_n 3, 1) := dk_78 (dk_at dksX2_wentLine_1 20 rfl rfl)
theorem dX2_wentLine_45 : decode cX2_wentLine 45 = .ok (.aload_n 3, 1) := dk_45 (dk_at dksX2_wentLine_1 21 rfl rfl)
theorem dX2_wentLine_46 : decode cX2_wentLine 46 = .ok (.aload_n 1, 1) := dk_43 (dk_at dksX2_wentLine_1 22 rfl rfl)
theorem dX2_wentLine_47 : decode cX2_wentLine 47 = .ok (.if_acmp .ne 9, 3) := dk_166 0 9 (dk_at dksX2_wentLine_2 0 rfl rfl)
theorem dX2_wentLine_50 : decode cX2_wentLine 50 = .ok (.aload_n 0, 1) := dk_42 (dk_at dksX2_wentLine_2 3 rfl rfl)
theorem dX2_wentLine_51 : decode cX2_wentLine 51 = .ok (.iconst 3, 1) := dk_6 (dk_at dksX2_wentLine_2 4 rfl rfl)
theorem dX2_wentLine_52 : decode cX2_wentLine 52 = .ok (.invokevirtual 82, 3) := dk_182 0 82 (dk_at dksX2_wentLine_2 5 rfl rfl)
theorem dX2_wentLine_55 : decode cX2_wentLine 55 = .ok (.athrow, 1) := dk_191 (dk_at dksX2_wentLine_2 8 rfl rfl)
theorem dX2_wentLine_56 : decode cX2_wentLine 56 = .ok (.aload_n 0, 1) := dk_42 (dk_at dksX2_wentLine_2 9 rfl rfl)
theorem dX2_wentLine_57 : decode cX2_wentLine 57 = .ok (.invokevirtual 75, 3) := dk_182 0 75 (dk_at dksX2_wentLine_2 10 rfl rfl)
theorem dX2_wentLine_60 : decode cX2_wentLine 60 = .ok (.aload_n 3, 1) := dk_45 (dk_at dksX2_wentLine_2 13 rfl rfl)
theorem dX2_wentLine_61 : decode cX2_wentLine 61 = .ok (.getfield 219, 3) := dk_180 0 219 (dk_at dksX2_wentLine_2 14 rfl rfl)
theorem dX2_wentLine_64 : decode cX2_wentLine 64 = .ok (.istore_n 2, 1) := dk_61 (dk_at dksX2_wentLine_2 17 rfl rfl)
theorem dX2_wentLine_65 : decode cX2_wentLine 65 = .ok (.aload_n 1, 1) := dk_43 (dk_at dksX2_wentLine_2 18 rfl rfl)
theorem dX2_wentLine_66 : decode cX2_wentLine 66 = .ok (.iload_n 2, 1) := dk_28 (dk_at dksX2_wentLine_2 19 rfl rfl)
theorem dX2_wentLine_67 : decode cX2_wentLine 67 = .ok (.putfield 267, 3) := dk_181 1 11 (dk_at dksX2_wentLine_2 20 rfl rfl)
theorem dX2_wentLine_70 : decode cX2_wentLine 70 = .ok (.aload_n 0, 1) := dk_42 (dk_at dksX2_wentLine_2 23 rfl rfl)
theorem dX2_wentLine_71 : decode cX2_wentLine 71 = .ok (.getfield 107, 3) := dk_180 0 107 (dk_at dksX2_wentLine_3 0 rfl rfl)
theorem dX2_wentLine_74 : decode cX2_wentLine 74 = .ok (.dup, 1) := dk_89 (dk_at dksX2_wentLine_3 3 rfl rfl)
theorem dX2_wentLine_75 : decode cX2_wentLine 75 = .ok (.getfield 269, 3) := dk_180 1 13 (dk_at dksX2_wentLine_3 4 rfl rfl)
theorem dX2_wentLine_78 : decode cX2_wentLine 78 = .ok (.iconst 1, 1) := dk_4 (dk_at dksX2_wentLine_3 7 rfl rfl)
theorem dX2_wentLine_79 : decode cX2_wentLine 79 = .ok (.iadd, 1) := dk_96 (dk_at dksX2_wentLine_3 8 rfl rfl)
theorem dX2_wentLine_80 : decode cX2_wentLine 80 = .ok (.putfield 269, 3) := dk_181 1 13 (dk_at dksX2_wentLine_3 9 rfl rfl)
theorem dX2_wentLine_83 : decode cX2_wentLine 83 = .ok (.return_, 1) := dk_177 (dk_at dksX2_wentLine_3 12 rfl rfl)
theorem q114 : (Jvm.Cond.initialized "LastAsked$Scanner") ∈ lw_all := lw_g (lw_at lw_m1 2 rfl) rfl
theorem q147 : (Jvm.Cond.instantiable "LastAsked$Scanner" (11 : Nat)) ∈ lw_all := lw_g (lw_at lw_m1 35 rfl) rfl
theorem q149 : (Jvm.Cond.instanceMethod ({ cls := "LastAsked$Scanner", name := "<init>", desc := "([B)V" } : Jvm.MethodName)) ∈ lw_all := lw_g (lw_at lw_m1 37 rfl) rfl
theorem q150 : (Jvm.Cond.code ({ cls := "LastAsked$Scanner", name := "<init>", desc := "([B)V" } : Jvm.MethodName) prog_9_method_1_code (2 : Nat) (Option.none : Option Jvm.ClassFile.FieldType)) ∈ lw_all := lw_g (lw_at lw_m1 38 rfl) rfl
theorem q151 : (Jvm.Cond.methodLink "LastAsked$Scanner" (3 : Nat) ({ cls := "java/lang/Object", name := "<init>", desc := "()V" } : Jvm.MethodName)) ∈ lw_all := lw_g (lw_at lw_m1 39 rfl) rfl
theorem q152 : (Jvm.Cond.classLink "LastAsked$Scanner" (9 : Nat) "LastAsked$Refused") ∈ lw_all := lw_g (lw_at lw_m1 40 rfl) rfl
theorem q192 : (Jvm.Cond.methodLink "LastAsked$Scanner" (11 : Nat) ({ cls := "LastAsked$Refused", name := "<init>", desc := "()V" } : Jvm.MethodName)) ∈ lw_all := lw_g (lw_at lw_m1 80 rfl) rfl
theorem q226 : (Jvm.Cond.fieldLink "LastAsked$Scanner" (12 : Nat) "LastAsked$Scanner" "wrong" "LLastAsked$Refused;") ∈ lw_all := lw_g (lw_at lw_m1 114 rfl) rfl
theorem q227 : (Jvm.Cond.fieldLink "LastAsked$Scanner" (22 : Nat) "LastAsked$Scanner" "text" "[B") ∈ lw_all := lw_g (lw_at lw_m1 115 rfl) rfl
theorem q228 : (Jvm.Cond.fieldLink "LastAsked$Scanner" (18 : Nat) "LastAsked$Scanner" "letters" "[C") ∈ lw_all := lw_g (lw_at lw_m1 116 rfl) rfl
theorem q229 : (Jvm.Cond.fieldLink "LastAsked$Scanner" (33 : Nat) "LastAsked$Scanner" "size" "I") ∈ lw_all := lw_g (lw_at lw_m1 117 rfl) rfl
theorem q230 : (Jvm.Cond.fieldLink "LastAsked$Scanner" (40 : Nat) "LastAsked$Scanner" "end" "I") ∈ lw_all := lw_g (lw_at lw_m1 118 rfl) rfl
theorem q231 : (Jvm.Cond.fieldLink "LastAsked$Scanner" (47 : Nat) "LastAsked$Scanner" "token" "I") ∈ lw_all := lw_g (lw_at lw_m1 119 rfl) rfl
theorem q232 : (Jvm.Cond.fieldLink "LastAsked$Scanner" (26 : Nat) "LastAsked$Scanner" "at" "I") ∈ lw_all := lw_g (lw_at lw_m1 120 rfl) rfl
theorem q233 : (Jvm.Cond.fieldLink "LastAsked$Scanner" (68 : Nat) "LastAsked$Scanner" "whole" "I") ∈ lw_all := lw_g (lw_at lw_m1 121 rfl) rfl
theorem q234 : (Jvm.Cond.fieldLink "LastAsked$Scanner" (61 : Nat) "LastAsked$Scanner" "word" "Ljava/lang/String;") ∈ lw_all := lw_g (lw_at lw_m1 122 rfl) rfl
theorem q235 : (Jvm.Cond.fieldLink "LastAsked$Scanner" (107 : Nat) "LastAsked$Scanner" "city" "LLastAsked$City;") ∈ lw_all := lw_g (lw_at lw_m1 123 rfl) rfl
theorem q236 : (Jvm.Cond.fieldLink "LastAsked$Scanner" (225 : Nat) "LastAsked$Scanner" "asker" "LLastAsked$Person;") ∈ lw_all := lw_g (lw_at lw_m1 124 rfl) rfl
theorem q237 : (Jvm.Cond.laysFinal "LastAsked$Scanner" "LastAsked$Scanner" "wrong" "LLastAsked$Refused;") ∈ lw_all := lw_g (lw_at lw_m1 125 rfl) rfl
theorem q238 : (Jvm.Cond.soleField "LastAsked$Scanner" "wrong") ∈ lw_all := lw_g (lw_at lw_m1 126 rfl) rfl
theorem q239 : (Jvm.Cond.laysFinal "LastAsked$Scanner" "LastAsked$Scanner" "text" "[B") ∈ lw_all := lw_g (lw_at lw_m1 127 rfl) rfl
theorem q240 : (Jvm.Cond.soleField "LastAsked$Scanner" "text") ∈ lw_all := lw_g (lw_at lw_m1 128 rfl) rfl
theorem q241 : (Jvm.Cond.laysFinal "LastAsked$Scanner" "LastAsked$Scanner" "letters" "[C") ∈ lw_all := lw_g (lw_at lw_m1 129 rfl) rfl
theorem q242 : (Jvm.Cond.soleField "LastAsked$Scanner" "letters") ∈ lw_all := lw_g (lw_at lw_m1 130 rfl) rfl
theorem q243 : (Jvm.Cond.lays "LastAsked$Scanner" "LastAsked$Scanner" "size" "I") ∈ lw_all := lw_g (lw_at lw_m1 131 rfl) rfl
theorem q244 : (Jvm.Cond.soleField "LastAsked$Scanner" "size") ∈ lw_all := lw_g (lw_at lw_m1 132 rfl) rfl
theorem q245 : (Jvm.Cond.lays "LastAsked$Scanner" "LastAsked$Scanner" "end" "I") ∈ lw_all := lw_g (lw_at lw_m1 133 rfl) rfl
theorem q246 : (Jvm.Cond.soleField "LastAsked$Scanner" "end") ∈ lw_all := lw_g (lw_at lw_m1 134 rfl) rfl
theorem q247 : (Jvm.Cond.lays "LastAsked$Scanner" "LastAsked$Scanner" "token" "I") ∈ lw_all := lw_g (lw_at lw_m1 135 rfl) rfl
theorem q248 : (Jvm.Cond.soleField "LastAsked$Scanner" "token") ∈ lw_all := lw_g (lw_at lw_m1 136 rfl) rfl
theorem q249 : (Jvm.Cond.lays "LastAsked$Scanner" "LastAsked$Scanner" "at" "I") ∈ lw_all := lw_g (lw_at lw_m1 137 rfl) rfl
theorem q250 : (Jvm.Cond.soleField "LastAsked$Scanner" "at") ∈ lw_all := lw_g (lw_at lw_m1 138 rfl) rfl
theorem q251 : (Jvm.Cond.lays "LastAsked$Scanner" "LastAsked$Scanner" "whole" "I") ∈ lw_all := lw_g (lw_at lw_m1 139 rfl) rfl
theorem q252 : (Jvm.Cond.soleField "LastAsked$Scanner" "whole") ∈ lw_all := lw_g (lw_at lw_m1 140 rfl) rfl
theorem q253 : (Jvm.Cond.lays "LastAsked$Scanner" "LastAsked$Scanner" "word" "Ljava/lang/String;") ∈ lw_all := lw_g (lw_at lw_m1 141 rfl) rfl
theorem q254 : (Jvm.Cond.soleField "LastAsked$Scanner" "word") ∈ lw_all := lw_g (lw_at lw_m1 142 rfl) rfl
theorem q255 : (Jvm.Cond.lays "LastAsked$Scanner" "LastAsked$Scanner" "city" "LLastAsked$City;") ∈ lw_all := lw_g (lw_at lw_m1 143 rfl) rfl
theorem q256 : (Jvm.Cond.soleField "LastAsked$Scanner" "city") ∈ lw_all := lw_g (lw_at lw_m1 144 rfl) rfl
theorem q257 : (Jvm.Cond.lays "LastAsked$Scanner" "LastAsked$Scanner" "asker" "LLastAsked$Person;") ∈ lw_all := lw_g (lw_at lw_m1 145 rfl) rfl
theorem q258 : (Jvm.Cond.soleField "LastAsked$Scanner" "asker") ∈ lw_all := lw_g (lw_at lw_m1 146 rfl) rfl
theorem q259 : (Jvm.Cond.superclass "LastAsked$Scanner" "java/lang/Object") ∈ lw_all := lw_g (lw_at lw_m1 147 rfl) rfl
theorem q444 : (Jvm.Cond.instanceMethod ({ cls := "LastAsked$Scanner", name := "read", desc := "(I)LLastAsked$City;" } : Jvm.MethodName)) ∈ lw_all := lw_g (lw_at lw_m2 92 rfl) rfl
theorem q445 : (Jvm.Cond.selects "LastAsked$Scanner" ({ cls := "LastAsked$Scanner", name := "read", desc := "(I)LLastAsked$City;" } : Jvm.MethodName) ({ cls := "LastAsked$Scanner", name := "read", desc := "(I)LLastAsked$City;" } : Jvm.MethodName)) ∈ lw_all := lw_g (lw_at lw_m2 93 rfl) rfl
theorem q446 : (Jvm.Cond.code ({ cls := "LastAsked$Scanner", name := "read", desc := "(I)LLastAsked$City;" } : Jvm.MethodName) prog_9_method_14_code (3 : Nat) (Option.some (Jvm.ClassFile.FieldType.object "LastAsked$City"))) ∈ lw_all := lw_g (lw_at lw_m2 94 rfl) rfl
theorem q447 : (Jvm.Cond.classLink "LastAsked$Scanner" (111 : Nat) "LastAsked$City") ∈ lw_all := lw_g (lw_at lw_m2 95 rfl) rfl
theorem q449 : (Jvm.Cond.methodLinkNest "LastAsked$Scanner" (123 : Nat) ({ cls := "LastAsked$City", name := "<init>", desc := "()V" } : Jvm.MethodName) "LastAsked") ∈ lw_tbl := lw_at lw_m2 97 rfl
theorem q459 : (Jvm.Cond.fieldLink "LastAsked$Scanner" (206 : Nat) "LastAsked$City" "people" "[LLastAsked$Person;") ∈ lw_all := lw_g (lw_at lw_m2 107 rfl) rfl
theorem q463 : (Jvm.Cond.fieldLink "LastAsked$Scanner" (124 : Nat) "LastAsked$City" "hours" "[I") ∈ lw_all := lw_g (lw_at lw_m2 111 rfl) rfl
theorem q465 : (Jvm.Cond.fieldLink "LastAsked$Scanner" (253 : Nat) "LastAsked$City" "heardBy" "[I") ∈ lw_all := lw_g (lw_at lw_m2 113 rfl) rfl
theorem q468 : (Jvm.Cond.fieldLink "LastAsked$Scanner" (256 : Nat) "LastAsked$City" "heardOf" "[I") ∈ lw_all := lw_g (lw_at lw_m2 116 rfl) rfl
theorem q471 : (Jvm.Cond.fieldLink "LastAsked$Scanner" (259 : Nat) "LastAsked$City" "heardAt" "[I") ∈ lw_all := lw_g (lw_at lw_m2 119 rfl) rfl
theorem q473 : (Jvm.Cond.fieldLink "LastAsked$Scanner" (262 : Nat) "LastAsked$City" "heardGive" "[I") ∈ lw_all := lw_g (lw_at lw_m2 121 rfl) rfl
theorem q476 : (Jvm.Cond.fieldLink "LastAsked$Scanner" (120 : Nat) "LastAsked$City" "hour" "I") ∈ lw_all := lw_g (lw_at lw_m2 124 rfl) rfl
theorem q478 : (Jvm.Cond.fieldLink "LastAsked$Scanner" (159 : Nat) "LastAsked$City" "gives" "I") ∈ lw_all := lw_g (lw_at lw_m2 126 rfl) rfl
theorem q485 : (Jvm.Cond.fieldLink "LastAsked$Scanner" (131 : Nat) "LastAsked$City" "peopleMany" "I") ∈ lw_all := lw_g (lw_at lw_m2 133 rfl) rfl
theorem q486 : (Jvm.Cond.fieldLink "LastAsked$Scanner" (210 : Nat) "LastAsked$City" "nearMany" "I") ∈ lw_all := lw_g (lw_at lw_m2 134 rfl) rfl
theorem q488 : (Jvm.Cond.fieldLink "LastAsked$Scanner" (239 : Nat) "LastAsked$City" "askedMany" "I") ∈ lw_all := lw_g (lw_at lw_m2 136 rfl) rfl
theorem q490 : (Jvm.Cond.fieldLink "LastAsked$Scanner" (250 : Nat) "LastAsked$City" "heardMany" "I") ∈ lw_all := lw_g (lw_at lw_m2 138 rfl) rfl
theorem q492 : (Jvm.Cond.fieldLink "LastAsked$Scanner" (269 : Nat) "LastAsked$City" "wentMany" "I") ∈ lw_all := lw_g (lw_at lw_m2 140 rfl) rfl
theorem q521 : (Jvm.Cond.methodLink "LastAsked$Scanner" (75 : Nat) ({ cls := "LastAsked$Scanner", name := "step", desc := "()V" } : Jvm.MethodName)) ∈ lw_all := lw_g (lw_at lw_m2 169 rfl) rfl
theorem q522 : (Jvm.Cond.privateMethod ({ cls := "LastAsked$Scanner", name := "step", desc := "()V" } : Jvm.MethodName)) ∈ lw_tbl := lw_at lw_m2 170 rfl
theorem q523 : (Jvm.Cond.instanceMethod ({ cls := "LastAsked$Scanner", name := "step", desc := "()V" } : Jvm.MethodName)) ∈ lw_all := lw_g (lw_at lw_m2 171 rfl) rfl
theorem q524 : (Jvm.Cond.code ({ cls := "LastAsked$Scanner", name := "step", desc := "()V" } : Jvm.MethodName) prog_9_method_6_code (3 : Nat) (Option.none : Option Jvm.ClassFile.FieldType)) ∈ lw_all := lw_g (lw_at lw_m2 172 rfl) rfl
theorem q525 : (Jvm.Cond.methodLink "LastAsked$Scanner" (43 : Nat) ({ cls := "LastAsked$Scanner", name := "see", desc := "(I)I" } : Jvm.MethodName)) ∈ lw_all := lw_g (lw_at lw_m2 173 rfl) rfl
theorem q526 : (Jvm.Cond.privateMethod ({ cls := "LastAsked$Scanner", name := "see", desc := "(I)I" } : Jvm.MethodName)) ∈ lw_tbl := lw_at lw_m2 174 rfl
theorem q527 : (Jvm.Cond.instanceMethod ({ cls := "LastAsked$Scanner", name := "see", desc := "(I)I" } : Jvm.MethodName)) ∈ lw_all := lw_g (lw_at lw_m2 175 rfl) rfl
theorem q528 : (Jvm.Cond.code ({ cls := "LastAsked$Scanner", name := "see", desc := "(I)I" } : Jvm.MethodName) prog_9_method_3_code (2 : Nat) (Option.some Jvm.ClassFile.FieldType.int)) ∈ lw_all := lw_g (lw_at lw_m2 176 rfl) rfl
theorem q529 : (Jvm.Cond.methodLink "LastAsked$Scanner" (50 : Nat) ({ cls := "LastAsked$Scanner", name := "isSmall", desc := "(I)Z" } : Jvm.MethodName)) ∈ lw_all := lw_g (lw_at lw_m2 177 rfl) rfl
theorem q530 : (Jvm.Cond.static ({ cls := "LastAsked$Scanner", name := "isSmall", desc := "(I)Z" } : Jvm.MethodName)) ∈ lw_all := lw_g (lw_at lw_m2 178 rfl) rfl
theorem q531 : (Jvm.Cond.code ({ cls := "LastAsked$Scanner", name := "isSmall", desc := "(I)Z" } : Jvm.MethodName) prog_9_method_4_code (1 : Nat) (Option.some Jvm.ClassFile.FieldType.boolean)) ∈ lw_all := lw_g (lw_at lw_m2 179 rfl) rfl
theorem q532 : (Jvm.Cond.methodLinkNest "LastAsked$Scanner" (36 : Nat) ({ cls := "LastAsked", name := "in", desc := "(III)Z" } : Jvm.MethodName) "LastAsked") ∈ lw_tbl := lw_at lw_m2 180 rfl
theorem q533 : (Jvm.Cond.classLink "LastAsked$Scanner" (54 : Nat) "java/lang/String") ∈ lw_all := lw_g (lw_at lw_m2 181 rfl) rfl
theorem q535 : (Jvm.Cond.methodLink "LastAsked$Scanner" (56 : Nat) ({ cls := "java/lang/String", name := "<init>", desc := "([CII)V" } : Jvm.MethodName)) ∈ lw_all := lw_g (lw_at lw_m2 183 rfl) rfl
theorem q611 : (Jvm.Cond.stringRef "LastAsked$Scanner" (59 : Nat) "") ∈ lw_tbl := lw_at lw_m3 19 rfl
theorem q612 : (Jvm.Cond.methodLink "LastAsked$Scanner" (65 : Nat) ({ cls := "LastAsked$Scanner", name := "isDigit", desc := "(I)Z" } : Jvm.MethodName)) ∈ lw_all := lw_g (lw_at lw_m3 20 rfl) rfl
theorem q613 : (Jvm.Cond.static ({ cls := "LastAsked$Scanner", name := "isDigit", desc := "(I)Z" } : Jvm.MethodName)) ∈ lw_all := lw_g (lw_at lw_m3 21 rfl) rfl
theorem q614 : (Jvm.Cond.code ({ cls := "LastAsked$Scanner", name := "isDigit", desc := "(I)Z" } : Jvm.MethodName) prog_9_method_5_code (1 : Nat) (Option.some Jvm.ClassFile.FieldType.boolean)) ∈ lw_all := lw_g (lw_at lw_m3 22 rfl) rfl
theorem q615 : (Jvm.Cond.methodLink "LastAsked$Scanner" (128 : Nat) ({ cls := "LastAsked$Scanner", name := "line", desc := "()V" } : Jvm.MethodName)) ∈ lw_all := lw_g (lw_at lw_m3 23 rfl) rfl
theorem q616 : (Jvm.Cond.privateMethod ({ cls := "LastAsked$Scanner", name := "line", desc := "()V" } : Jvm.MethodName)) ∈ lw_tbl := lw_at lw_m3 24 rfl
theorem q617 : (Jvm.Cond.instanceMethod ({ cls := "LastAsked$Scanner", name := "line", desc := "()V" } : Jvm.MethodName)) ∈ lw_all := lw_g (lw_at lw_m3 25 rfl) rfl
theorem q618 : (Jvm.Cond.code ({ cls := "LastAsked$Scanner", name := "line", desc := "()V" } : Jvm.MethodName) prog_9_method_15_code (3 : Nat) (Option.none : Option Jvm.ClassFile.FieldType)) ∈ lw_all := lw_g (lw_at lw_m3 26 rfl) rfl
theorem q619 : (Jvm.Cond.methodLink "LastAsked$Scanner" (82 : Nat) ({ cls := "LastAsked$Scanner", name := "fail", desc := "(I)LLastAsked$Refused;" } : Jvm.MethodName)) ∈ lw_all := lw_g (lw_at lw_m3 27 rfl) rfl
theorem q620 : (Jvm.Cond.privateMethod ({ cls := "LastAsked$Scanner", name := "fail", desc := "(I)LLastAsked$Refused;" } : Jvm.MethodName)) ∈ lw_tbl := lw_at lw_m3 28 rfl
theorem q621 : (Jvm.Cond.instanceMethod ({ cls := "LastAsked$Scanner", name := "fail", desc := "(I)LLastAsked$Refused;" } : Jvm.MethodName)) ∈ lw_all := lw_g (lw_at lw_m3 29 rfl) rfl
theorem q622 : (Jvm.Cond.code ({ cls := "LastAsked$Scanner", name := "fail", desc := "(I)LLastAsked$Refused;" } : Jvm.MethodName) prog_9_method_2_code (2 : Nat) (Option.some (Jvm.ClassFile.FieldType.object "LastAsked$Refused"))) ∈ lw_all := lw_g (lw_at lw_m3 30 rfl) rfl
theorem q623 : (Jvm.Cond.methodLink "LastAsked$Scanner" (30 : Nat) ({ cls := "LastAsked$Refused", name := "at", desc := "(II)LLastAsked$Refused;" } : Jvm.MethodName)) ∈ lw_all := lw_g (lw_at lw_m3 31 rfl) rfl
theorem q627 : (Jvm.Cond.methodLink "LastAsked$Scanner" (86 : Nat) ({ cls := "java/lang/String", name := "hashCode", desc := "()I" } : Jvm.MethodName)) ∈ lw_all := lw_g (lw_at lw_m3 35 rfl) rfl
theorem q680 : (Jvm.Cond.stringRef "LastAsked$Scanner" (90 : Nat) "city") ∈ lw_tbl := lw_at lw_m3 88 rfl
theorem q681 : (Jvm.Cond.methodLink "LastAsked$Scanner" (71 : Nat) ({ cls := "java/lang/String", name := "equals", desc := "(Ljava/lang/Object;)Z" } : Jvm.MethodName)) ∈ lw_all := lw_g (lw_at lw_m3 89 rfl) rfl
theorem q689 : (Jvm.Cond.stringRef "LastAsked$Scanner" (92 : Nat) "person") ∈ lw_tbl := lw_at lw_m3 97 rfl
theorem q690 : (Jvm.Cond.stringRef "LastAsked$Scanner" (94 : Nat) "near") ∈ lw_tbl := lw_at lw_m3 98 rfl
theorem q691 : (Jvm.Cond.stringRef "LastAsked$Scanner" (96 : Nat) "asked") ∈ lw_tbl := lw_at lw_m3 99 rfl
theorem q692 : (Jvm.Cond.stringRef "LastAsked$Scanner" (98 : Nat) "heard") ∈ lw_tbl := lw_at lw_m3 100 rfl
theorem q693 : (Jvm.Cond.stringRef "LastAsked$Scanner" (100 : Nat) "went") ∈ lw_tbl := lw_at lw_m3 101 rfl
theorem q694 : (Jvm.Cond.methodLink "LastAsked$Scanner" (134 : Nat) ({ cls := "LastAsked$Scanner", name := "cityLine", desc := "()V" } : Jvm.MethodName)) ∈ lw_all := lw_g (lw_at lw_m3 102 rfl) rfl
theorem q695 : (Jvm.Cond.privateMethod ({ cls := "LastAsked$Scanner", name := "cityLine", desc := "()V" } : Jvm.MethodName)) ∈ lw_tbl := lw_at lw_m3 103 rfl
theorem q696 : (Jvm.Cond.instanceMethod ({ cls := "LastAsked$Scanner", name := "cityLine", desc := "()V" } : Jvm.MethodName)) ∈ lw_all := lw_g (lw_at lw_m3 104 rfl) rfl
theorem q697 : (Jvm.Cond.code ({ cls := "LastAsked$Scanner", name := "cityLine", desc := "()V" } : Jvm.MethodName) prog_9_method_16_code (2 : Nat) (Option.none : Option Jvm.ClassFile.FieldType)) ∈ lw_all := lw_g (lw_at lw_m3 105 rfl) rfl
theorem q698 : (Jvm.Cond.stringRef "LastAsked$Scanner" (152 : Nat) "hour") ∈ lw_tbl := lw_at lw_m3 106 rfl
theorem q699 : (Jvm.Cond.methodLink "LastAsked$Scanner" (153 : Nat) ({ cls := "LastAsked$Scanner", name := "after", desc := "(Ljava/lang/String;II)I" } : Jvm.MethodName)) ∈ lw_all := lw_g (lw_at lw_m3 107 rfl) rfl
theorem q700 : (Jvm.Cond.privateMethod ({ cls := "LastAsked$Scanner", name := "after", desc := "(Ljava/lang/String;II)I" } : Jvm.MethodName)) ∈ lw_tbl := lw_at lw_m3 108 rfl
theorem q701 : (Jvm.Cond.instanceMethod ({ cls := "LastAsked$Scanner", name := "after", desc := "(Ljava/lang/String;II)I" } : Jvm.MethodName)) ∈ lw_all := lw_g (lw_at lw_m3 109 rfl) rfl
theorem q702 : (Jvm.Cond.code ({ cls := "LastAsked$Scanner", name := "after", desc := "(Ljava/lang/String;II)I" } : Jvm.MethodName) prog_9_method_12_code (5 : Nat) (Option.some Jvm.ClassFile.FieldType.int)) ∈ lw_all := lw_g (lw_at lw_m3 110 rfl) rfl
theorem q703 : (Jvm.Cond.methodLink "LastAsked$Scanner" (116 : Nat) ({ cls := "LastAsked$Scanner", name := "must", desc := "(Ljava/lang/String;)V" } : Jvm.MethodName)) ∈ lw_all := lw_g (lw_at lw_m3 111 rfl) rfl
theorem q704 : (Jvm.Cond.privateMethod ({ cls := "LastAsked$Scanner", name := "must", desc := "(Ljava/lang/String;)V" } : Jvm.MethodName)) ∈ lw_tbl := lw_at lw_m3 112 rfl
theorem q705 : (Jvm.Cond.instanceMethod ({ cls := "LastAsked$Scanner", name := "must", desc := "(Ljava/lang/String;)V" } : Jvm.MethodName)) ∈ lw_all := lw_g (lw_at lw_m3 113 rfl) rfl
theorem q706 : (Jvm.Cond.code ({ cls := "LastAsked$Scanner", name := "must", desc := "(Ljava/lang/String;)V" } : Jvm.MethodName) prog_9_method_8_code (2 : Nat) (Option.none : Option Jvm.ClassFile.FieldType)) ∈ lw_all := lw_g (lw_at lw_m3 114 rfl) rfl
theorem q707 : (Jvm.Cond.methodLink "LastAsked$Scanner" (78 : Nat) ({ cls := "LastAsked$Scanner", name := "takes", desc := "(Ljava/lang/String;)Z" } : Jvm.MethodName)) ∈ lw_all := lw_g (lw_at lw_m3 115 rfl) rfl
theorem q708 : (Jvm.Cond.privateMethod ({ cls := "LastAsked$Scanner", name := "takes", desc := "(Ljava/lang/String;)Z" } : Jvm.MethodName)) ∈ lw_tbl := lw_at lw_m3 116 rfl
theorem q709 : (Jvm.Cond.instanceMethod ({ cls := "LastAsked$Scanner", name := "takes", desc := "(Ljava/lang/String;)Z" } : Jvm.MethodName)) ∈ lw_all := lw_g (lw_at lw_m3 117 rfl) rfl
theorem q710 : (Jvm.Cond.code ({ cls := "LastAsked$Scanner", name := "takes", desc := "(Ljava/lang/String;)Z" } : Jvm.MethodName) prog_9_method_7_code (2 : Nat) (Option.some Jvm.ClassFile.FieldType.boolean)) ∈ lw_all := lw_g (lw_at lw_m3 118 rfl) rfl
theorem q711 : (Jvm.Cond.stringRef "LastAsked$Scanner" (157 : Nat) "gives") ∈ lw_tbl := lw_at lw_m3 119 rfl
theorem q712 : (Jvm.Cond.methodLink "LastAsked$Scanner" (137 : Nat) ({ cls := "LastAsked$Scanner", name := "personLine", desc := "()V" } : Jvm.MethodName)) ∈ lw_all := lw_g (lw_at lw_m3 120 rfl) rfl
theorem q713 : (Jvm.Cond.privateMethod ({ cls := "LastAsked$Scanner", name := "personLine", desc := "()V" } : Jvm.MethodName)) ∈ lw_tbl := lw_at lw_m3 121 rfl
theorem q714 : (Jvm.Cond.instanceMethod ({ cls := "LastAsked$Scanner", name := "personLine", desc := "()V" } : Jvm.MethodName)) ∈ lw_all := lw_g (lw_at lw_m3 122 rfl) rfl
theorem q715 : (Jvm.Cond.code ({ cls := "LastAsked$Scanner", name := "personLine", desc := "()V" } : Jvm.MethodName) prog_9_method_18_code (2 : Nat) (Option.none : Option Jvm.ClassFile.FieldType)) ∈ lw_all := lw_g (lw_at lw_m3 123 rfl) rfl
theorem q716 : (Jvm.Cond.methodLink "LastAsked$Scanner" (183 : Nat) ({ cls := "LastAsked$Scanner", name := "begins", desc := "(Z)V" } : Jvm.MethodName)) ∈ lw_all := lw_g (lw_at lw_m3 124 rfl) rfl
theorem q717 : (Jvm.Cond.privateMethod ({ cls := "LastAsked$Scanner", name := "begins", desc := "(Z)V" } : Jvm.MethodName)) ∈ lw_tbl := lw_at lw_m3 125 rfl
theorem q718 : (Jvm.Cond.instanceMethod ({ cls := "LastAsked$Scanner", name := "begins", desc := "(Z)V" } : Jvm.MethodName)) ∈ lw_all := lw_g (lw_at lw_m3 126 rfl) rfl
theorem q719 : (Jvm.Cond.code ({ cls := "LastAsked$Scanner", name := "begins", desc := "(Z)V" } : Jvm.MethodName) prog_9_method_13_code (2 : Nat) (Option.none : Option Jvm.ClassFile.FieldType)) ∈ lw_all := lw_g (lw_at lw_m3 127 rfl) rfl
theorem q720 : (Jvm.Cond.methodLink "LastAsked$Scanner" (187 : Nat) ({ cls := "LastAsked$Scanner", name := "newName", desc := "()Ljava/lang/String;" } : Jvm.MethodName)) ∈ lw_all := lw_g (lw_at lw_m3 128 rfl) rfl
theorem q721 : (Jvm.Cond.privateMethod ({ cls := "LastAsked$Scanner", name := "newName", desc := "()Ljava/lang/String;" } : Jvm.MethodName)) ∈ lw_tbl := lw_at lw_m3 129 rfl
theorem q722 : (Jvm.Cond.instanceMethod ({ cls := "LastAsked$Scanner", name := "newName", desc := "()Ljava/lang/String;" } : Jvm.MethodName)) ∈ lw_all := lw_g (lw_at lw_m3 130 rfl) rfl
theorem q723 : (Jvm.Cond.code ({ cls := "LastAsked$Scanner", name := "newName", desc := "()Ljava/lang/String;" } : Jvm.MethodName) prog_9_method_10_code (2 : Nat) (Option.some (Jvm.ClassFile.FieldType.object "java/lang/String"))) ∈ lw_all := lw_g (lw_at lw_m3 131 rfl) rfl
theorem q724 : (Jvm.Cond.methodLink "LastAsked$Scanner" (104 : Nat) ({ cls := "LastAsked$Scanner", name := "mustName", desc := "()V" } : Jvm.MethodName)) ∈ lw_all := lw_g (lw_at lw_m3 132 rfl) rfl
theorem q725 : (Jvm.Cond.privateMethod ({ cls := "LastAsked$Scanner", name := "mustName", desc := "()V" } : Jvm.MethodName)) ∈ lw_tbl := lw_at lw_m3 133 rfl
theorem q726 : (Jvm.Cond.instanceMethod ({ cls := "LastAsked$Scanner", name := "mustName", desc := "()V" } : Jvm.MethodName)) ∈ lw_all := lw_g (lw_at lw_m3 134 rfl) rfl
theorem q727 : (Jvm.Cond.code ({ cls := "LastAsked$Scanner", name := "mustName", desc := "()V" } : Jvm.MethodName) prog_9_method_9_code (3 : Nat) (Option.none : Option Jvm.ClassFile.FieldType)) ∈ lw_all := lw_g (lw_at lw_m3 135 rfl) rfl
theorem q728 : (Jvm.Cond.stringRef "LastAsked$Scanner" (102 : Nat) "cat") ∈ lw_tbl := lw_at lw_m3 136 rfl
theorem q729 : (Jvm.Cond.methodLink "LastAsked$Scanner" (110 : Nat) ({ cls := "LastAsked$City", name := "find", desc := "(Ljava/lang/String;)LLastAsked$Person;" } : Jvm.MethodName)) ∈ lw_all := lw_g (lw_at lw_m3 137 rfl) rfl
theorem q734 : (Jvm.Cond.methodLink "LastAsked$Scanner" (191 : Nat) ({ cls := "LastAsked$Scanner", name := "personOf", desc := "(Ljava/lang/String;I)LLastAsked$Person;" } : Jvm.MethodName)) ∈ lw_all := lw_g (lw_at lw_m3 142 rfl) rfl
theorem q735 : (Jvm.Cond.privateMethod ({ cls := "LastAsked$Scanner", name := "personOf", desc := "(Ljava/lang/String;I)LLastAsked$Person;" } : Jvm.MethodName)) ∈ lw_tbl := lw_at lw_m3 143 rfl
theorem q736 : (Jvm.Cond.instanceMethod ({ cls := "LastAsked$Scanner", name := "personOf", desc := "(Ljava/lang/String;I)LLastAsked$Person;" } : Jvm.MethodName)) ∈ lw_all := lw_g (lw_at lw_m3 144 rfl) rfl
theorem q737 : (Jvm.Cond.code ({ cls := "LastAsked$Scanner", name := "personOf", desc := "(Ljava/lang/String;I)LLastAsked$Person;" } : Jvm.MethodName) prog_9_method_17_code (3 : Nat) (Option.some (Jvm.ClassFile.FieldType.object "LastAsked$Person"))) ∈ lw_all := lw_g (lw_at lw_m3 145 rfl) rfl
theorem q738 : (Jvm.Cond.stringRef "LastAsked$Scanner" (161 : Nat) "plain") ∈ lw_tbl := lw_at lw_m3 146 rfl
theorem q739 : (Jvm.Cond.classLink "LastAsked$Scanner" (163 : Nat) "LastAsked$Plain") ∈ lw_all := lw_g (lw_at lw_m3 147 rfl) rfl
theorem q741 : (Jvm.Cond.methodLink "LastAsked$Scanner" (165 : Nat) ({ cls := "LastAsked$Plain", name := "<init>", desc := "(Ljava/lang/String;I)V" } : Jvm.MethodName)) ∈ lw_all := lw_g (lw_at lw_m3 149 rfl) rfl
theorem q751 : (Jvm.Cond.fieldLink "LastAsked$Scanner" (219 : Nat) "LastAsked$Person" "number" "I") ∈ lw_all := lw_g (lw_at lw_m3 159 rfl) rfl
theorem q753 : (Jvm.Cond.fieldLink "LastAsked$Scanner" (197 : Nat) "LastAsked$Person" "wealth" "I") ∈ lw_all := lw_g (lw_at lw_m3 161 rfl) rfl
theorem q756 : (Jvm.Cond.fieldLink "LastAsked$Scanner" (204 : Nat) "LastAsked$Person" "dies" "I") ∈ lw_all := lw_g (lw_at lw_m3 164 rfl) rfl
theorem q761 : (Jvm.Cond.fieldLink "LastAsked$Scanner" (217 : Nat) "LastAsked$Person" "near" "I") ∈ lw_all := lw_g (lw_at lw_m3 169 rfl) rfl
theorem q763 : (Jvm.Cond.fieldLink "LastAsked$Scanner" (233 : Nat) "LastAsked$Person" "asks" "I") ∈ lw_all := lw_g (lw_at lw_m3 171 rfl) rfl
theorem q765 : (Jvm.Cond.fieldLink "LastAsked$Scanner" (267 : Nat) "LastAsked$Person" "went" "I") ∈ lw_all := lw_g (lw_at lw_m3 173 rfl) rfl
theorem q782 : (Jvm.Cond.stringRef "LastAsked$Scanner" (168 : Nat) "shut") ∈ lw_tbl := lw_at lw_m3 190 rfl
theorem q783 : (Jvm.Cond.classLink "LastAsked$Scanner" (170 : Nat) "LastAsked$Shut") ∈ lw_all := lw_g (lw_at lw_m3 191 rfl) rfl
theorem q785 : (Jvm.Cond.methodLink "LastAsked$Scanner" (172 : Nat) ({ cls := "LastAsked$Shut", name := "<init>", desc := "(Ljava/lang/String;I)V" } : Jvm.MethodName)) ∈ lw_all := lw_g (lw_at lw_m3 193 rfl) rfl
theorem q797 : (Jvm.Cond.stringRef "LastAsked$Scanner" (173 : Nat) "walled") ∈ lw_tbl := lw_at lw_m3 205 rfl
theorem q798 : (Jvm.Cond.classLink "LastAsked$Scanner" (175 : Nat) "LastAsked$Walled") ∈ lw_all := lw_g (lw_at lw_m3 206 rfl) rfl
theorem q800 : (Jvm.Cond.methodLink "LastAsked$Scanner" (177 : Nat) ({ cls := "LastAsked$Walled", name := "<init>", desc := "(Ljava/lang/String;I)V" } : Jvm.MethodName)) ∈ lw_all := lw_g (lw_at lw_m3 208 rfl) rfl
theorem q812 : (Jvm.Cond.stringRef "LastAsked$Scanner" (178 : Nat) "doctor") ∈ lw_tbl := lw_at lw_m3 220 rfl
theorem q813 : (Jvm.Cond.classLink "LastAsked$Scanner" (180 : Nat) "LastAsked$Doctor") ∈ lw_all := lw_g (lw_at lw_m3 221 rfl) rfl
theorem q815 : (Jvm.Cond.methodLink "LastAsked$Scanner" (182 : Nat) ({ cls := "LastAsked$Doctor", name := "<init>", desc := "(Ljava/lang/String;I)V" } : Jvm.MethodName)) ∈ lw_all := lw_g (lw_at lw_m3 223 rfl) rfl
theorem q827 : (Jvm.Cond.stringRef "LastAsked$Scanner" (195 : Nat) "has") ∈ lw_tbl := lw_at lw_m3 235 rfl
theorem q828 : (Jvm.Cond.stringRef "LastAsked$Scanner" (202 : Nat) "dies") ∈ lw_tbl := lw_at lw_m3 236 rfl
theorem q829 : (Jvm.Cond.methodLink "LastAsked$Scanner" (140 : Nat) ({ cls := "LastAsked$Scanner", name := "nearLine", desc := "()V" } : Jvm.MethodName)) ∈ lw_all := lw_g (lw_at lw_m3 237 rfl) rfl
theorem q830 : (Jvm.Cond.privateMethod ({ cls := "LastAsked$Scanner", name := "nearLine", desc := "()V" } : Jvm.MethodName)) ∈ lw_tbl := lw_at lw_m3 238 rfl
theorem q831 : (Jvm.Cond.instanceMethod ({ cls := "LastAsked$Scanner", name := "nearLine", desc := "()V" } : Jvm.MethodName)) ∈ lw_all := lw_g (lw_at lw_m3 239 rfl) rfl
theorem q832 : (Jvm.Cond.code ({ cls := "LastAsked$Scanner", name := "nearLine", desc := "()V" } : Jvm.MethodName) prog_9_method_19_code (3 : Nat) (Option.none : Option Jvm.ClassFile.FieldType)) ∈ lw_all := lw_g (lw_at lw_m4 0 rfl) rfl
theorem q833 : (Jvm.Cond.methodLink "LastAsked$Scanner" (213 : Nat) ({ cls := "LastAsked$Scanner", name := "personHere", desc := "()LLastAsked$Person;" } : Jvm.MethodName)) ∈ lw_all := lw_g (lw_at lw_m4 1 rfl) rfl
theorem q834 : (Jvm.Cond.privateMethod ({ cls := "LastAsked$Scanner", name := "personHere", desc := "()LLastAsked$Person;" } : Jvm.MethodName)) ∈ lw_tbl := lw_at lw_m4 2 rfl
theorem q835 : (Jvm.Cond.instanceMethod ({ cls := "LastAsked$Scanner", name := "personHere", desc := "()LLastAsked$Person;" } : Jvm.MethodName)) ∈ lw_all := lw_g (lw_at lw_m4 3 rfl) rfl
theorem q836 : (Jvm.Cond.code ({ cls := "LastAsked$Scanner", name := "personHere", desc := "()LLastAsked$Person;" } : Jvm.MethodName) prog_9_method_11_code (2 : Nat) (Option.some (Jvm.ClassFile.FieldType.object "LastAsked$Person"))) ∈ lw_all := lw_g (lw_at lw_m4 4 rfl) rfl
theorem q837 : (Jvm.Cond.methodLinkNest "LastAsked$Scanner" (222 : Nat) ({ cls := "LastAsked", name := "has", desc := "(II)Z" } : Jvm.MethodName) "LastAsked") ∈ lw_tbl := lw_at lw_m4 5 rfl
theorem q840 : (Jvm.Cond.methodLink "LastAsked$Scanner" (143 : Nat) ({ cls := "LastAsked$Scanner", name := "askedLine", desc := "()V" } : Jvm.MethodName)) ∈ lw_all := lw_g (lw_at lw_m4 8 rfl) rfl
theorem q841 : (Jvm.Cond.privateMethod ({ cls := "LastAsked$Scanner", name := "askedLine", desc := "()V" } : Jvm.MethodName)) ∈ lw_tbl := lw_at lw_m4 9 rfl
theorem q842 : (Jvm.Cond.instanceMethod ({ cls := "LastAsked$Scanner", name := "askedLine", desc := "()V" } : Jvm.MethodName)) ∈ lw_all := lw_g (lw_at lw_m4 10 rfl) rfl
theorem q843 : (Jvm.Cond.code ({ cls := "LastAsked$Scanner", name := "askedLine", desc := "()V" } : Jvm.MethodName) prog_9_method_22_code (2 : Nat) (Option.none : Option Jvm.ClassFile.FieldType)) ∈ lw_all := lw_g (lw_at lw_m4 11 rfl) rfl
theorem q844 : (Jvm.Cond.methodLink "LastAsked$Scanner" (242 : Nat) ({ cls := "LastAsked$Scanner", name := "asking", desc := "()LLastAsked$Person;" } : Jvm.MethodName)) ∈ lw_all := lw_g (lw_at lw_m4 12 rfl) rfl
theorem q845 : (Jvm.Cond.privateMethod ({ cls := "LastAsked$Scanner", name := "asking", desc := "()LLastAsked$Person;" } : Jvm.MethodName)) ∈ lw_tbl := lw_at lw_m4 13 rfl
theorem q846 : (Jvm.Cond.instanceMethod ({ cls := "LastAsked$Scanner", name := "asking", desc := "()LLastAsked$Person;" } : Jvm.MethodName)) ∈ lw_all := lw_g (lw_at lw_m4 14 rfl) rfl
theorem q847 : (Jvm.Cond.code ({ cls := "LastAsked$Scanner", name := "asking", desc := "()LLastAsked$Person;" } : Jvm.MethodName) prog_9_method_20_code (2 : Nat) (Option.some (Jvm.ClassFile.FieldType.object "LastAsked$Person"))) ∈ lw_all := lw_g (lw_at lw_m4 15 rfl) rfl
theorem q848 : (Jvm.Cond.methodLink "LastAsked$Scanner" (229 : Nat) ({ cls := "LastAsked$Person", name := "mayAsk", desc := "()Z" } : Jvm.MethodName)) ∈ lw_all := lw_g (lw_at lw_m4 16 rfl) rfl
theorem q859 : (Jvm.Cond.methodLink "LastAsked$Scanner" (236 : Nat) ({ cls := "LastAsked$Person", name := "mayBeAskedBy", desc := "(I)Z" } : Jvm.MethodName)) ∈ lw_all := lw_g (lw_at lw_m4 27 rfl) rfl
theorem q876 : (Jvm.Cond.stringRef "LastAsked$Scanner" (245 : Nat) "at") ∈ lw_tbl := lw_at lw_m4 44 rfl
theorem q877 : (Jvm.Cond.methodLink "LastAsked$Scanner" (246 : Nat) ({ cls := "LastAsked$Scanner", name := "lay", desc := "(LLastAsked$Person;I)V" } : Jvm.MethodName)) ∈ lw_all := lw_g (lw_at lw_m4 45 rfl) rfl
theorem q878 : (Jvm.Cond.privateMethod ({ cls := "LastAsked$Scanner", name := "lay", desc := "(LLastAsked$Person;I)V" } : Jvm.MethodName)) ∈ lw_tbl := lw_at lw_m4 46 rfl
theorem q879 : (Jvm.Cond.instanceMethod ({ cls := "LastAsked$Scanner", name := "lay", desc := "(LLastAsked$Person;I)V" } : Jvm.MethodName)) ∈ lw_all := lw_g (lw_at lw_m4 47 rfl) rfl
theorem q880 : (Jvm.Cond.code ({ cls := "LastAsked$Scanner", name := "lay", desc := "(LLastAsked$Person;I)V" } : Jvm.MethodName) prog_9_method_21_code (3 : Nat) (Option.none : Option Jvm.ClassFile.FieldType)) ∈ lw_all := lw_g (lw_at lw_m4 48 rfl) rfl
theorem q881 : (Jvm.Cond.methodLink "LastAsked$Scanner" (146 : Nat) ({ cls := "LastAsked$Scanner", name := "heardLine", desc := "()V" } : Jvm.MethodName)) ∈ lw_all := lw_g (lw_at lw_m4 49 rfl) rfl
theorem q882 : (Jvm.Cond.privateMethod ({ cls := "LastAsked$Scanner", name := "heardLine", desc := "()V" } : Jvm.MethodName)) ∈ lw_tbl := lw_at lw_m4 50 rfl
theorem q883 : (Jvm.Cond.instanceMethod ({ cls := "LastAsked$Scanner", name := "heardLine", desc := "()V" } : Jvm.MethodName)) ∈ lw_all := lw_g (lw_at lw_m4 51 rfl) rfl
theorem q884 : (Jvm.Cond.code ({ cls := "LastAsked$Scanner", name := "heardLine", desc := "()V" } : Jvm.MethodName) prog_9_method_23_code (3 : Nat) (Option.none : Option Jvm.ClassFile.FieldType)) ∈ lw_all := lw_g (lw_at lw_m4 52 rfl) rfl
theorem q885 : (Jvm.Cond.stringRef "LastAsked$Scanner" (265 : Nat) "give") ∈ lw_tbl := lw_at lw_m4 53 rfl
theorem q886 : (Jvm.Cond.methodLink "LastAsked$Scanner" (149 : Nat) ({ cls := "LastAsked$Scanner", name := "wentLine", desc := "()V" } : Jvm.MethodName)) ∈ lw_all := lw_g (lw_at lw_m4 54 rfl) rfl
theorem q887 : (Jvm.Cond.privateMethod ({ cls := "LastAsked$Scanner", name := "wentLine", desc := "()V" } : Jvm.MethodName)) ∈ lw_tbl := lw_at lw_m4 55 rfl
theorem q888 : (Jvm.Cond.instanceMethod ({ cls := "LastAsked$Scanner", name := "wentLine", desc := "()V" } : Jvm.MethodName)) ∈ lw_all := lw_g (lw_at lw_m4 56 rfl) rfl
theorem q889 : (Jvm.Cond.code ({ cls := "LastAsked$Scanner", name := "wentLine", desc := "()V" } : Jvm.MethodName) prog_9_method_24_code (4 : Nat) (Option.none : Option Jvm.ClassFile.FieldType)) ∈ lw_all := lw_g (lw_at lw_m4 57 rfl) rfl
theorem q2101 : (Jvm.Cond.castable "LastAsked$Scanner" "java/lang/Object") ∈ lw_tbl := lw_at lw_m9 69 rfl
theorem in_X2 : ∀ w ∈ wsX20, w ∈ lw_all := lw_in wsX20 [237, 239, 241, 243, 245, 247, 249, 251, 253, 255, 257] (by decide +kernel) (by decide +kernel)

/-! LastAsked$Refused -/
set_option maxRecDepth 100000
def RX3 : String := "LastAsked$Refused"
def TX3 : u_T := fun k => match k with
  | 0 => ("java/lang/Throwable", "cause", "Ljava/lang/Throwable;", false)
  | 1 => ("java/lang/Throwable", "stackTrace", "[Ljava/lang/StackTraceElement;", false)
  | 2 => ("java/lang/Throwable", "suppressedExceptions", "Ljava/util/List;", false)
  | 3 => ("java/lang/Throwable", "detailMessage", "Ljava/lang/String;", false)
  | 4 => ("java/lang/Throwable", "backtrace", "Ljava/lang/Object;", false)
  | 5 => ("java/lang/Throwable", "depth", "I", false)
  | 6 => ("LastAsked$Refused", "fault", "I", false)
  | _ => ("LastAsked$Refused", "place", "I", false)
def tyX3 : Nat → FieldType := fun k => match k with
  | 0 => .object "java/lang/Throwable"
  | 1 => .array (.object "java/lang/StackTraceElement")
  | 2 => .object "java/util/List"
  | 3 => .object "java/lang/String"
  | 4 => .object "java/lang/Object"
  | 5 => .int
  | 6 => .int
  | _ => .int
abbrev wsX30 : List Cond := u_ws RX3 TX3 8
theorem nmX3 : ∀ a, a < 8 → ∀ b, b < 8 → a ≠ b → (TX3 a).2.1 ≠ (TX3 b).2.1 := by decide +kernel
theorem tyX3_ok : ∀ k, k < 8 → parseFieldDescriptor (TX3 k).2.2.1 = some (tyX3 k) := by decide +kernel
abbrev cX3_init : ByteArray := prog_8_method_1_code
def yX3_init : MethodName := ⟨RX3, "<init>", "()V"⟩
def dkwX3_init_0 : List UInt8 := [42, 1, 1, 3, 3, 183, 0, 3, 42, 2, 181, 0, 9, 177]
abbrev dktX3_init_0 : List UInt8 := dkwX3_init_0 ++ []
theorem dksX3_init_0 : cX3_init.data.toList.drop 0 = dktX3_init_0 := by decide +kernel
theorem dX3_init_0 : decode cX3_init 0 = .ok (.aload_n 0, 1) := dk_42 (dk_at dksX3_init_0 0 rfl rfl)
theorem dX3_init_1 : decode cX3_init 1 = .ok (.aconst_null, 1) := dk_1 (dk_at dksX3_init_0 1 rfl rfl)
theorem dX3_init_2 : decode cX3_init 2 = .ok (.aconst_null, 1) := dk_1 (dk_at dksX3_init_0 2 rfl rfl)
theorem dX3_init_3 : decode cX3_init 3 = .ok (.iconst 0, 1) := dk_3 (dk_at dksX3_init_0 3 rfl rfl)
theorem dX3_init_4 : decode cX3_init 4 = .ok (.iconst 0, 1) := dk_3 (dk_at dksX3_init_0 4 rfl rfl)
theorem dX3_init_5 : decode cX3_init 5 = .ok (.invokespecial 3, 3) := dk_183 0 3 (dk_at dksX3_init_0 5 rfl rfl)
theorem dX3_init_8 : decode cX3_init 8 = .ok (.aload_n 0, 1) := dk_42 (dk_at dksX3_init_0 8 rfl rfl)
theorem dX3_init_9 : decode cX3_init 9 = .ok (.iconst (-1), 1) := dk_2 (dk_at dksX3_init_0 9 rfl rfl)
theorem dX3_init_10 : decode cX3_init 10 = .ok (.putfield 9, 3) := dk_181 0 9 (dk_at dksX3_init_0 10 rfl rfl)
theorem dX3_init_13 : decode cX3_init 13 = .ok (.return_, 1) := dk_177 (dk_at dksX3_init_0 13 rfl rfl)
abbrev cX3_at : ByteArray := prog_8_method_2_code
def yX3_at : MethodName := ⟨RX3, "at", "(II)LLastAsked$Refused;"⟩
def dkwX3_at_0 : List UInt8 := [42, 27, 181, 0, 15, 42, 28, 181, 0, 9, 42, 176]
abbrev dktX3_at_0 : List UInt8 := dkwX3_at_0 ++ []
theorem dksX3_at_0 : cX3_at.data.toList.drop 0 = dktX3_at_0 := by decide +kernel
theorem dX3_at_0 : decode cX3_at 0 = .ok (.aload_n 0, 1) := dk_42 (dk_at dksX3_at_0 0 rfl rfl)
theorem dX3_at_1 : decode cX3_at 1 = .ok (.iload_n 1, 1) := dk_27 (dk_at dksX3_at_0 1 rfl rfl)
theorem dX3_at_2 : decode cX3_at 2 = .ok (.putfield 15, 3) := dk_181 0 15 (dk_at dksX3_at_0 2 rfl rfl)
theorem dX3_at_5 : decode cX3_at 5 = .ok (.aload_n 0, 1) := dk_42 (dk_at dksX3_at_0 5 rfl rfl)
theorem dX3_at_6 : decode cX3_at 6 = .ok (.iload_n 2, 1) := dk_28 (dk_at dksX3_at_0 6 rfl rfl)
theorem dX3_at_7 : decode cX3_at 7 = .ok (.putfield 9, 3) := dk_181 0 9 (dk_at dksX3_at_0 7 rfl rfl)
theorem dX3_at_10 : decode cX3_at 10 = .ok (.aload_n 0, 1) := dk_42 (dk_at dksX3_at_0 10 rfl rfl)
theorem dX3_at_11 : decode cX3_at 11 = .ok (.areturn, 1) := dk_176 (dk_at dksX3_at_0 11 rfl rfl)
theorem q118 : (Jvm.Cond.initialized "LastAsked$Refused") ∈ lw_all := lw_g (lw_at lw_m1 6 rfl) rfl
theorem q153 : (Jvm.Cond.instantiable "LastAsked$Refused" (8 : Nat)) ∈ lw_all := lw_g (lw_at lw_m1 41 rfl) rfl
theorem q154 : (Jvm.Cond.castable "LastAsked$Refused" "LastAsked$Refused") ∈ lw_tbl := lw_at lw_m1 42 rfl
theorem q161 : (Jvm.Cond.selects "LastAsked$Refused" ({ cls := "java/lang/Throwable", name := "fillInStackTrace", desc := "(I)Ljava/lang/Throwable;" } : Jvm.MethodName) ({ cls := "java/lang/Throwable", name := "fillInStackTrace", desc := "(I)Ljava/lang/Throwable;" } : Jvm.MethodName)) ∈ lw_all := lw_g (lw_at lw_m1 49 rfl) rfl
theorem q162 : (Jvm.Cond.selects "LastAsked$Refused" ({ cls := "java/lang/Throwable", name := "fillInStackTrace", desc := "()Ljava/lang/Throwable;" } : Jvm.MethodName) ({ cls := "java/lang/Throwable", name := "fillInStackTrace", desc := "()Ljava/lang/Throwable;" } : Jvm.MethodName)) ∈ lw_all := lw_g (lw_at lw_m1 50 rfl) rfl
theorem q163 : (Jvm.Cond.lays "LastAsked$Refused" "java/lang/Throwable" "cause" "Ljava/lang/Throwable;") ∈ lw_all := lw_g (lw_at lw_m1 51 rfl) rfl
theorem q165 : (Jvm.Cond.lays "LastAsked$Refused" "java/lang/Throwable" "stackTrace" "[Ljava/lang/StackTraceElement;") ∈ lw_all := lw_g (lw_at lw_m1 53 rfl) rfl
theorem q167 : (Jvm.Cond.lays "LastAsked$Refused" "java/lang/Throwable" "suppressedExceptions" "Ljava/util/List;") ∈ lw_all := lw_g (lw_at lw_m1 55 rfl) rfl
theorem q169 : (Jvm.Cond.lays "LastAsked$Refused" "java/lang/Throwable" "detailMessage" "Ljava/lang/String;") ∈ lw_all := lw_g (lw_at lw_m1 57 rfl) rfl
theorem q171 : (Jvm.Cond.lays "LastAsked$Refused" "java/lang/Throwable" "backtrace" "Ljava/lang/Object;") ∈ lw_all := lw_g (lw_at lw_m1 59 rfl) rfl
theorem q193 : (Jvm.Cond.instanceMethod ({ cls := "LastAsked$Refused", name := "<init>", desc := "()V" } : Jvm.MethodName)) ∈ lw_all := lw_g (lw_at lw_m1 81 rfl) rfl
theorem q194 : (Jvm.Cond.code ({ cls := "LastAsked$Refused", name := "<init>", desc := "()V" } : Jvm.MethodName) prog_8_method_1_code (1 : Nat) (Option.none : Option Jvm.ClassFile.FieldType)) ∈ lw_all := lw_g (lw_at lw_m1 82 rfl) rfl
theorem q195 : (Jvm.Cond.methodLink "LastAsked$Refused" (3 : Nat) ({ cls := "java/lang/RuntimeException", name := "<init>", desc := "(Ljava/lang/String;Ljava/lang/Throwable;ZZ)V" } : Jvm.MethodName)) ∈ lw_all := lw_g (lw_at lw_m1 83 rfl) rfl
theorem q204 : (Jvm.Cond.fieldLink "LastAsked$Refused" (15 : Nat) "LastAsked$Refused" "fault" "I") ∈ lw_all := lw_g (lw_at lw_m1 92 rfl) rfl
theorem q206 : (Jvm.Cond.fieldLink "LastAsked$Refused" (9 : Nat) "LastAsked$Refused" "place" "I") ∈ lw_all := lw_g (lw_at lw_m1 94 rfl) rfl
theorem q213 : (Jvm.Cond.lays "LastAsked$Refused" "LastAsked$Refused" "fault" "I") ∈ lw_all := lw_g (lw_at lw_m1 101 rfl) rfl
theorem q214 : (Jvm.Cond.soleField "LastAsked$Refused" "fault") ∈ lw_all := lw_g (lw_at lw_m1 102 rfl) rfl
theorem q215 : (Jvm.Cond.lays "LastAsked$Refused" "LastAsked$Refused" "place" "I") ∈ lw_all := lw_g (lw_at lw_m1 103 rfl) rfl
theorem q216 : (Jvm.Cond.soleField "LastAsked$Refused" "place") ∈ lw_all := lw_g (lw_at lw_m1 104 rfl) rfl
theorem q221 : (Jvm.Cond.lays "LastAsked$Refused" "java/lang/Throwable" "depth" "I") ∈ lw_all := lw_g (lw_at lw_m1 109 rfl) rfl
theorem q224 : (Jvm.Cond.superclass "LastAsked$Refused" "java/lang/RuntimeException") ∈ lw_all := lw_g (lw_at lw_m1 112 rfl) rfl
theorem q624 : (Jvm.Cond.instanceMethod ({ cls := "LastAsked$Refused", name := "at", desc := "(II)LLastAsked$Refused;" } : Jvm.MethodName)) ∈ lw_all := lw_g (lw_at lw_m3 32 rfl) rfl
theorem q625 : (Jvm.Cond.selects "LastAsked$Refused" ({ cls := "LastAsked$Refused", name := "at", desc := "(II)LLastAsked$Refused;" } : Jvm.MethodName) ({ cls := "LastAsked$Refused", name := "at", desc := "(II)LLastAsked$Refused;" } : Jvm.MethodName)) ∈ lw_all := lw_g (lw_at lw_m3 33 rfl) rfl
theorem q626 : (Jvm.Cond.code ({ cls := "LastAsked$Refused", name := "at", desc := "(II)LLastAsked$Refused;" } : Jvm.MethodName) prog_8_method_2_code (3 : Nat) (Option.some (Jvm.ClassFile.FieldType.object "LastAsked$Refused"))) ∈ lw_all := lw_g (lw_at lw_m3 34 rfl) rfl
theorem q2102 : (Jvm.Cond.castable "LastAsked$Refused" "java/lang/Object") ∈ lw_tbl := lw_at lw_m9 70 rfl
theorem in_X3 : ∀ w ∈ wsX30, w ∈ lw_all := lw_in wsX30 [163, 165, 167, 169, 171, 221, 213, 215] (by decide +kernel) (by decide +kernel)

/-! LastAsked$Town -/
set_option maxRecDepth 100000
def RX4 : String := "LastAsked$Town"
def TX4 : u_T := fun k => match k with
  | 0 => ("LastAsked$Town", "has", "[I", true)
  | 1 => ("LastAsked$Town", "hours", "[I", true)
  | 2 => ("LastAsked$Town", "city", "LLastAsked$City;", false)
  | 3 => ("LastAsked$Town", "living", "I", false)
  | 4 => ("LastAsked$Town", "hour", "I", false)
  | 5 => ("LastAsked$Town", "cat", "I", false)
  | 6 => ("LastAsked$Town", "nights", "I", false)
  | _ => ("LastAsked$Town", "seed", "I", false)
def tyX4 : Nat → FieldType := fun k => match k with
  | 0 => .array .int
  | 1 => .array .int
  | 2 => .object "LastAsked$City"
  | 3 => .int
  | 4 => .int
  | 5 => .int
  | 6 => .int
  | _ => .int
abbrev wsX40 : List Cond := u_ws RX4 TX4 8
theorem nmX4 : ∀ a, a < 8 → ∀ b, b < 8 → a ≠ b → (TX4 a).2.1 ≠ (TX4 b).2.1 := by decide +kernel
theorem tyX4_ok : ∀ k, k < 8 → parseFieldDescriptor (TX4 k).2.2.1 = some (tyX4 k) := by decide +kernel
abbrev cX4_init : ByteArray := prog_11_method_1_code
def yX4_init : MethodName := ⟨RX4, "<init>", "()V"⟩
def dkwX4_init_0 : List UInt8 := [42, 183, 0, 3, 42, 16, 6, 188, 10, 181, 0, 9, 42, 16, 36, 188, 10, 181, 0, 15, 177]
abbrev dktX4_init_0 : List UInt8 := dkwX4_init_0 ++ []
theorem dksX4_init_0 : cX4_init.data.toList.drop 0 = dktX4_init_0 := by decide +kernel
theorem dX4_init_0 : decode cX4_init 0 = .ok (.aload_n 0, 1) := dk_42 (dk_at dksX4_init_0 0 rfl rfl)
theorem dX4_init_1 : decode cX4_init 1 = .ok (.invokespecial 3, 3) := dk_183 0 3 (dk_at dksX4_init_0 1 rfl rfl)
theorem dX4_init_4 : decode cX4_init 4 = .ok (.aload_n 0, 1) := dk_42 (dk_at dksX4_init_0 4 rfl rfl)
theorem dX4_init_5 : decode cX4_init 5 = .ok (.bipush 6, 2) := dk_16 6 (dk_at dksX4_init_0 5 rfl rfl)
theorem dX4_init_7 : decode cX4_init 7 = .ok (.newarray .int, 2) := dk_188_10 (dk_at dksX4_init_0 7 rfl rfl)
theorem dX4_init_9 : decode cX4_init 9 = .ok (.putfield 9, 3) := dk_181 0 9 (dk_at dksX4_init_0 9 rfl rfl)
theorem dX4_init_12 : decode cX4_init 12 = .ok (.aload_n 0, 1) := dk_42 (dk_at dksX4_init_0 12 rfl rfl)
theorem dX4_init_13 : decode cX4_init 13 = .ok (.bipush 36, 2) := dk_16 36 (dk_at dksX4_init_0 13 rfl rfl)
theorem dX4_init_15 : decode cX4_init 15 = .ok (.newarray .int, 2) := dk_188_10 (dk_at dksX4_init_0 15 rfl rfl)
theorem dX4_init_17 : decode cX4_init 17 = .ok (.putfield 15, 3) := dk_181 0 15 (dk_at dksX4_init_0 17 rfl rfl)
theorem dX4_init_20 : decode cX4_init 20 = .ok (.return_, 1) := dk_177 (dk_at dksX4_init_0 20 rfl rfl)
abbrev cX4_begin : ByteArray := prog_11_method_2_code
def yX4_begin : MethodName := ⟨RX4, "begin", "(LLastAsked$City;)LLastAsked$Town;"⟩
def dkwX4_begin_3 : List UInt8 := [28, 50, 180, 0, 59, 79, 132, 2, 1, 167, 255, 230, 42, 176]
abbrev dktX4_begin_3 : List UInt8 := dkwX4_begin_3 ++ []
def dkwX4_begin_2 : List UInt8 := [16, 36, 184, 0, 46, 3, 61, 28, 43, 180, 0, 52, 162, 0, 24, 42, 180, 0, 9, 28, 43, 180, 0, 55]
abbrev dktX4_begin_2 : List UInt8 := dkwX4_begin_2 ++ dktX4_begin_3
def dkwX4_begin_1 : List UInt8 := [181, 0, 36, 42, 3, 181, 0, 39, 42, 3, 181, 0, 42, 43, 180, 0, 45, 3, 42, 180, 0, 15, 3]
abbrev dktX4_begin_1 : List UInt8 := dkwX4_begin_1 ++ dktX4_begin_2
def dkwX4_begin_0 : List UInt8 := [42, 43, 181, 0, 18, 42, 43, 182, 0, 22, 181, 0, 28, 42, 43, 180, 0, 32, 181, 0, 35, 42, 3]
abbrev dktX4_begin_0 : List UInt8 := dkwX4_begin_0 ++ dktX4_begin_1
theorem dksX4_begin_0 : cX4_begin.data.toList.drop 0 = dktX4_begin_0 := by decide +kernel
theorem dksX4_begin_1 : cX4_begin.data.toList.drop 23 = dktX4_begin_1 := dk_seg dksX4_begin_0 23 rfl rfl
theorem dksX4_begin_2 : cX4_begin.data.toList.drop 46 = dktX4_begin_2 := dk_seg dksX4_begin_1 23 rfl rfl
theorem dksX4_begin_3 : cX4_begin.data.toList.drop 70 = dktX4_begin_3 := dk_seg dksX4_begin_2 24 rfl rfl
theorem dX4_begin_0 : decode cX4_begin 0 = .ok (.aload_n 0, 1) := dk_42 (dk_at dksX4_begin_0 0 rfl rfl)
theorem dX4_begin_1 : decode cX4_begin 1 = .ok (.aload_n 1, 1) := dk_43 (dk_at dksX4_begin_0 1 rfl rfl)
theorem dX4_begin_2 : decode cX4_begin 2 = .ok (.putfield 18, 3) := dk_181 0 18 (dk_at dksX4_begin_0 2 rfl rfl)
theorem dX4_begin_5 : decode cX4_begin 5 = .ok (.aload_n 0, 1) := dk_42 (dk_at dksX4_begin_0 5 rfl rfl)
theorem dX4_begin_6 : decode cX4_begin 6 = .ok (.aload_n 1, 1) := dk_43 (dk_at dksX4_begin_0 6 rfl rfl)
theorem dX4_begin_7 : decode cX4_begin 7 = .ok (.invokevirtual 22, 3) := dk_182 0 22 (dk_at dksX4_begin_0 7 rfl rfl)
theorem dX4_begin_10 : decode cX4_begin 10 = .ok (.putfield 28, 3) := dk_181 0 28 (dk_at dksX4_begin_0 10 rfl rfl)
theorem dX4_begin_13 : decode cX4_begin 13 = .ok (.aload_n 0, 1) := dk_42 (dk_at dksX4_begin_0 13 rfl rfl)
theorem dX4_begin_14 : decode cX4_begin 14 = .ok (.aload_n 1, 1) := dk_43 (dk_at dksX4_begin_0 14 rfl rfl)
theorem dX4_begin_15 : decode cX4_begin 15 = .ok (.getfield 32, 3) := dk_180 0 32 (dk_at dksX4_begin_0 15 rfl rfl)
theorem dX4_begin_18 : decode cX4_begin 18 = .ok (.putfield 35, 3) := dk_181 0 35 (dk_at dksX4_begin_0 18 rfl rfl)
theorem dX4_begin_21 : decode cX4_begin 21 = .ok (.aload_n 0, 1) := dk_42 (dk_at dksX4_begin_0 21 rfl rfl)
theorem dX4_begin_22 : decode cX4_begin 22 = .ok (.iconst 0, 1) := dk_3 (dk_at dksX4_begin_0 22 rfl rfl)
theorem dX4_begin_23 : decode cX4_begin 23 = .ok (.putfield 36, 3) := dk_181 0 36 (dk_at dksX4_begin_1 0 rfl rfl)
theorem dX4_begin_26 : decode cX4_begin 26 = .ok (.aload_n 0, 1) := dk_42 (dk_at dksX4_begin_1 3 rfl rfl)
theorem dX4_begin_27 : decode cX4_begin 27 = .ok (.iconst 0, 1) := dk_3 (dk_at dksX4_begin_1 4 rfl rfl)
theorem dX4_begin_28 : decode cX4_begin 28 = .ok (.putfield 39, 3) := dk_181 0 39 (dk_at dksX4_begin_1 5 rfl rfl)
theorem dX4_begin_31 : decode cX4_begin 31 = .ok (.aload_n 0, 1) := dk_42 (dk_at dksX4_begin_1 8 rfl rfl)
theorem dX4_begin_32 : decode cX4_begin 32 = .ok (.iconst 0, 1) := dk_3 (dk_at dksX4_begin_1 9 rfl rfl)
theorem dX4_begin_33 : decode cX4_begin 33 = .ok (.putfield 42, 3) := dk_181 0 42 (dk_at dksX4_begin_1 10 rfl rfl)
theorem dX4_begin_36 : decode cX4_begin 36 = .ok (.aload_n 1, 1) := dk_43 (dk_at dksX4_begin_1 13 rfl rfl)
theorem dX4_begin_37 : decode cX4_begin 37 = .ok (.getfield 45, 3) := dk_180 0 45 (dk_at dksX4_begin_1 14 rfl rfl)
theorem dX4_begin_40 : decode cX4_begin 40 = .ok (.iconst 0, 1) := dk_3 (dk_at dksX4_begin_1 17 rfl rfl)
theorem dX4_begin_41 : decode cX4_begin 41 = .ok (.aload_n 0, 1) := dk_42 (dk_at dksX4_begin_1 18 rfl rfl)
theorem dX4_begin_42 : decode cX4_begin 42 = .ok (.getfield 15, 3) := dk_180 0 15 (dk_at dksX4_begin_1 19 rfl rfl)
theorem dX4_begin_45 : decode cX4_begin 45 = .ok (.iconst 0, 1) := dk_3 (dk_at dksX4_begin_1 22 rfl rfl)
theorem dX4_begin_46 : decode cX4_begin 46 = .ok (.bipush 36, 2) := dk_16 36 (dk_at dksX4_begin_2 0 rfl rfl)
theorem dX4_begin_48 : decode cX4_begin 48 = .ok (.invokestatic 46, 3) := dk_184 0 46 (dk_at dksX4_begin_2 2 rfl rfl)
theorem dX4_begin_51 : decode cX4_begin 51 = .ok (.iconst 0, 1) := dk_3 (dk_at dksX4_begin_2 5 rfl rfl)
theorem dX4_begin_52 : decode cX4_begin 52 = .ok (.istore_n 2, 1) := dk_61 (dk_at dksX4_begin_2 6 rfl rfl)
theorem dX4_begin_53 : decode cX4_begin 53 = .ok (.iload_n 2, 1) := dk_28 (dk_at dksX4_begin_2 7 rfl rfl)
theorem dX4_begin_54 : decode cX4_begin 54 = .ok (.aload_n 1, 1) := dk_43 (dk_at dksX4_begin_2 8 rfl rfl)
theorem dX4_begin_55 : decode cX4_begin 55 = .ok (.getfield 52, 3) := dk_180 0 52 (dk_at dksX4_begin_2 9 rfl rfl)
theorem dX4_begin_58 : decode cX4_begin 58 = .ok (.if_icmp .ge 24, 3) := dk_162 0 24 (dk_at dksX4_begin_2 12 rfl rfl)
theorem dX4_begin_61 : decode cX4_begin 61 = .ok (.aload_n 0, 1) := dk_42 (dk_at dksX4_begin_2 15 rfl rfl)
theorem dX4_begin_62 : decode cX4_begin 62 = .ok (.getfield 9, 3) := dk_180 0 9 (dk_at dksX4_begin_2 16 rfl rfl)
theorem dX4_begin_65 : decode cX4_begin 65 = .ok (.iload_n 2, 1) := dk_28 (dk_at dksX4_begin_2 19 rfl rfl)
theorem dX4_begin_66 : decode cX4_begin 66 = .ok (.aload_n 1, 1) := dk_43 (dk_at dksX4_begin_2 20 rfl rfl)
theorem dX4_begin_67 : decode cX4_begin 67 = .ok (.getfield 55, 3) := dk_180 0 55 (dk_at dksX4_begin_2 21 rfl rfl)
theorem dX4_begin_70 : decode cX4_begin 70 = .ok (.iload_n 2, 1) := dk_28 (dk_at dksX4_begin_3 0 rfl rfl)
theorem dX4_begin_71 : decode cX4_begin 71 = .ok (.aaload, 1) := dk_50 (dk_at dksX4_begin_3 1 rfl rfl)
theorem dX4_begin_72 : decode cX4_begin 72 = .ok (.getfield 59, 3) := dk_180 0 59 (dk_at dksX4_begin_3 2 rfl rfl)
theorem dX4_begin_75 : decode cX4_begin 75 = .ok (.iastore, 1) := dk_79 (dk_at dksX4_begin_3 5 rfl rfl)
theorem dX4_begin_76 : decode cX4_begin 76 = .ok (.iinc 2 1, 3) := dk_132 2 1 (dk_at dksX4_begin_3 6 rfl rfl)
theorem dX4_begin_79 : decode cX4_begin 79 = .ok (.goto (-26), 3) := dk_167 255 230 (dk_at dksX4_begin_3 9 rfl rfl)
theorem dX4_begin_82 : decode cX4_begin 82 = .ok (.aload_n 0, 1) := dk_42 (dk_at dksX4_begin_3 12 rfl rfl)
theorem dX4_begin_83 : decode cX4_begin 83 = .ok (.areturn, 1) := dk_176 (dk_at dksX4_begin_3 13 rfl rfl)
abbrev cX4_isLiving : ByteArray := prog_11_method_4_code
def yX4_isLiving : MethodName := ⟨RX4, "isLiving", "(I)Z"⟩
def dkwX4_isLiving_0 : List UInt8 := [42, 180, 0, 28, 27, 184, 0, 64, 172]
abbrev dktX4_isLiving_0 : List UInt8 := dkwX4_isLiving_0 ++ []
theorem dksX4_isLiving_0 : cX4_isLiving.data.toList.drop 0 = dktX4_isLiving_0 := by decide +kernel
theorem dX4_isLiving_0 : decode cX4_isLiving 0 = .ok (.aload_n 0, 1) := dk_42 (dk_at dksX4_isLiving_0 0 rfl rfl)
theorem dX4_isLiving_1 : decode cX4_isLiving 1 = .ok (.getfield 28, 3) := dk_180 0 28 (dk_at dksX4_isLiving_0 1 rfl rfl)
theorem dX4_isLiving_4 : decode cX4_isLiving 4 = .ok (.iload_n 1, 1) := dk_27 (dk_at dksX4_isLiving_0 4 rfl rfl)
theorem dX4_isLiving_5 : decode cX4_isLiving 5 = .ok (.invokestatic 64, 3) := dk_184 0 64 (dk_at dksX4_isLiving_0 5 rfl rfl)
theorem dX4_isLiving_8 : decode cX4_isLiving 8 = .ok (.ireturn, 1) := dk_172 (dk_at dksX4_isLiving_0 8 rfl rfl)
abbrev cX4_canAsk : ByteArray := prog_11_method_6_code
def yX4_canAsk : MethodName := ⟨RX4, "canAsk", "(II)Z"⟩
def dkwX4_canAsk_2 : List UInt8 := [182, 0, 75, 153, 0, 7, 4, 167, 0, 4, 3, 172]
abbrev dktX4_canAsk_2 : List UInt8 := dkwX4_canAsk_2 ++ []
def dkwX4_canAsk_1 : List UInt8 := [180, 0, 18, 180, 0, 55, 27, 50, 182, 0, 71, 153, 0, 23, 42, 180, 0, 18, 180, 0, 55, 28, 50, 27]
abbrev dktX4_canAsk_1 : List UInt8 := dkwX4_canAsk_1 ++ dktX4_canAsk_2
def dkwX4_canAsk_0 : List UInt8 := [27, 28, 159, 0, 54, 42, 27, 182, 0, 67, 153, 0, 46, 42, 28, 182, 0, 67, 153, 0, 38, 42]
abbrev dktX4_canAsk_0 : List UInt8 := dkwX4_canAsk_0 ++ dktX4_canAsk_1
theorem dksX4_canAsk_0 : cX4_canAsk.data.toList.drop 0 = dktX4_canAsk_0 := by decide +kernel
theorem dksX4_canAsk_1 : cX4_canAsk.data.toList.drop 22 = dktX4_canAsk_1 := dk_seg dksX4_canAsk_0 22 rfl rfl
theorem dksX4_canAsk_2 : cX4_canAsk.data.toList.drop 46 = dktX4_canAsk_2 := dk_seg dksX4_canAsk_1 24 rfl rfl
theorem dX4_canAsk_0 : decode cX4_canAsk 0 = .ok (.iload_n 1, 1) := dk_27 (dk_at dksX4_canAsk_0 0 rfl rfl)
theorem dX4_canAsk_1 : decode cX4_canAsk 1 = .ok (.iload_n 2, 1) := dk_28 (dk_at dksX4_canAsk_0 1 rfl rfl)
theorem dX4_canAsk_2 : decode cX4_canAsk 2 = .ok (.if_icmp .eq 54, 3) := dk_159 0 54 (dk_at dksX4_canAsk_0 2 rfl rfl)
theorem dX4_canAsk_5 : decode cX4_canAsk 5 = .ok (.aload_n 0, 1) := dk_42 (dk_at dksX4_canAsk_0 5 rfl rfl)
theorem dX4_canAsk_6 : decode cX4_canAsk 6 = .ok (.iload_n 1, 1) := dk_27 (dk_at dksX4_canAsk_0 6 rfl rfl)
theorem dX4_canAsk_7 : decode cX4_canAsk 7 = .ok (.invokevirtual 67, 3) := dk_182 0 67 (dk_at dksX4_canAsk_0 7 rfl rfl)
theorem dX4_canAsk_10 : decode cX4_canAsk 10 = .ok (.ifCond .eq 46, 3) := dk_153 0 46 (dk_at dksX4_canAsk_0 10 rfl rfl)
theorem dX4_canAsk_13 : decode cX4_canAsk 13 = .ok (.aload_n 0, 1) := dk_42 (dk_at dksX4_canAsk_0 13 rfl rfl)
theorem dX4_canAsk_14 : decode cX4_canAsk 14 = .ok (.iload_n 2, 1) := dk_28 (dk_at dksX4_canAsk_0 14 rfl rfl)
theorem dX4_canAsk_15 : decode cX4_canAsk 15 = .ok (.invokevirtual 67, 3) := dk_182 0 67 (dk_at dksX4_canAsk_0 15 rfl rfl)
theorem dX4_canAsk_18 : decode cX4_canAsk 18 = .ok (.ifCond .eq 38, 3) := dk_153 0 38 (dk_at dksX4_canAsk_0 18 rfl rfl)
theorem dX4_canAsk_21 : decode cX4_canAsk 21 = .ok (.aload_n 0, 1) := dk_42 (dk_at dksX4_canAsk_0 21 rfl rfl)
theorem dX4_canAsk_22 : decode cX4_canAsk 22 = .ok (.getfield 18, 3) := dk_180 0 18 (dk_at dksX4_canAsk_1 0 rfl rfl)
theorem dX4_canAsk_25 : decode cX4_canAsk 25 = .ok (.getfield 55, 3) := dk_180 0 55 (dk_at dksX4_canAsk_1 3 rfl rfl)
theorem dX4_canAsk_28 : decode cX4_canAsk 28 = .ok (.iload_n 1, 1) := dk_27 (dk_at dksX4_canAsk_1 6 rfl rfl)
theorem dX4_canAsk_29 : decode cX4_canAsk 29 = .ok (.aaload, 1) := dk_50 (dk_at dksX4_canAsk_1 7 rfl rfl)
theorem dX4_canAsk_30 : decode cX4_canAsk 30 = .ok (.invokevirtual 71, 3) := dk_182 0 71 (dk_at dksX4_canAsk_1 8 rfl rfl)
theorem dX4_canAsk_33 : decode cX4_canAsk 33 = .ok (.ifCond .eq 23, 3) := dk_153 0 23 (dk_at dksX4_canAsk_1 11 rfl rfl)
theorem dX4_canAsk_36 : decode cX4_canAsk 36 = .ok (.aload_n 0, 1) := dk_42 (dk_at dksX4_canAsk_1 14 rfl rfl)
theorem dX4_canAsk_37 : decode cX4_canAsk 37 = .ok (.getfield 18, 3) := dk_180 0 18 (dk_at dksX4_canAsk_1 15 rfl rfl)
theorem dX4_canAsk_40 : decode cX4_canAsk 40 = .ok (.getfield 55, 3) := dk_180 0 55 (dk_at dksX4_canAsk_1 18 rfl rfl)
theorem dX4_canAsk_43 : decode cX4_canAsk 43 = .ok (.iload_n 2, 1) := dk_28 (dk_at dksX4_canAsk_1 21 rfl rfl)
theorem dX4_canAsk_44 : decode cX4_canAsk 44 = .ok (.aaload, 1) := dk_50 (dk_at dksX4_canAsk_1 22 rfl rfl)
theorem dX4_canAsk_45 : decode cX4_canAsk 45 = .ok (.iload_n 1, 1) := dk_27 (dk_at dksX4_canAsk_1 23 rfl rfl)
theorem dX4_canAsk_46 : decode cX4_canAsk 46 = .ok (.invokevirtual 75, 3) := dk_182 0 75 (dk_at dksX4_canAsk_2 0 rfl rfl)
theorem dX4_canAsk_49 : decode cX4_canAsk 49 = .ok (.ifCond .eq 7, 3) := dk_153 0 7 (dk_at dksX4_canAsk_2 3 rfl rfl)
theorem dX4_canAsk_52 : decode cX4_canAsk 52 = .ok (.iconst 1, 1) := dk_4 (dk_at dksX4_canAsk_2 6 rfl rfl)
theorem dX4_canAsk_53 : decode cX4_canAsk 53 = .ok (.goto 4, 3) := dk_167 0 4 (dk_at dksX4_canAsk_2 7 rfl rfl)
theorem dX4_canAsk_56 : decode cX4_canAsk 56 = .ok (.iconst 0, 1) := dk_3 (dk_at dksX4_canAsk_2 10 rfl rfl)
theorem dX4_canAsk_57 : decode cX4_canAsk 57 = .ok (.ireturn, 1) := dk_172 (dk_at dksX4_canAsk_2 11 rfl rfl)
abbrev cX4_hourOf : ByteArray := prog_11_method_5_code
def yX4_hourOf : MethodName := ⟨RX4, "hourOf", "(II)I"⟩
def dkwX4_hourOf_0 : List UInt8 := [42, 180, 0, 15, 16, 6, 27, 104, 28, 96, 46, 172]
abbrev dktX4_hourOf_0 : List UInt8 := dkwX4_hourOf_0 ++ []
theorem dksX4_hourOf_0 : cX4_hourOf.data.toList.drop 0 = dktX4_hourOf_0 := by decide +kernel
theorem dX4_hourOf_0 : decode cX4_hourOf 0 = .ok (.aload_n 0, 1) := dk_42 (dk_at dksX4_hourOf_0 0 rfl rfl)
theorem dX4_hourOf_1 : decode cX4_hourOf 1 = .ok (.getfield 15, 3) := dk_180 0 15 (dk_at dksX4_hourOf_0 1 rfl rfl)
theorem dX4_hourOf_4 : decode cX4_hourOf 4 = .ok (.bipush 6, 2) := dk_16 6 (dk_at dksX4_hourOf_0 4 rfl rfl)
theorem dX4_hourOf_6 : decode cX4_hourOf 6 = .ok (.iload_n 1, 1) := dk_27 (dk_at dksX4_hourOf_0 6 rfl rfl)
theorem dX4_hourOf_7 : decode cX4_hourOf 7 = .ok (.imul, 1) := dk_104 (dk_at dksX4_hourOf_0 7 rfl rfl)
theorem dX4_hourOf_8 : decode cX4_hourOf 8 = .ok (.iload_n 2, 1) := dk_28 (dk_at dksX4_hourOf_0 8 rfl rfl)
theorem dX4_hourOf_9 : decode cX4_hourOf 9 = .ok (.iadd, 1) := dk_96 (dk_at dksX4_hourOf_0 9 rfl rfl)
theorem dX4_hourOf_10 : decode cX4_hourOf 10 = .ok (.iaload, 1) := dk_46 (dk_at dksX4_hourOf_0 10 rfl rfl)
theorem dX4_hourOf_11 : decode cX4_hourOf 11 = .ok (.ireturn, 1) := dk_172 (dk_at dksX4_hourOf_0 11 rfl rfl)
abbrev cX4_heir : ByteArray := prog_11_method_7_code
def yX4_heir : MethodName := ⟨RX4, "heir", "(I)I"⟩
def dkwX4_heir_2 : List UInt8 := [182, 0, 78, 42, 28, 27, 182, 0, 78, 164, 0, 5, 29, 61, 132, 3, 1, 167, 255, 197, 28, 172]
abbrev dktX4_heir_2 : List UInt8 := dkwX4_heir_2 ++ []
def dkwX4_heir_1 : List UInt8 := [182, 0, 67, 153, 0, 35, 42, 29, 27, 182, 0, 78, 155, 0, 26, 28, 16, 254, 159, 0, 18, 42, 29, 27]
abbrev dktX4_heir_1 : List UInt8 := dkwX4_heir_1 ++ dktX4_heir_2
def dkwX4_heir_0 : List UInt8 := [16, 254, 61, 3, 62, 29, 42, 180, 0, 18, 180, 0, 52, 162, 0, 54, 29, 27, 159, 0, 43, 42, 29]
abbrev dktX4_heir_0 : List UInt8 := dkwX4_heir_0 ++ dktX4_heir_1
theorem dksX4_heir_0 : cX4_heir.data.toList.drop 0 = dktX4_heir_0 := by decide +kernel
theorem dksX4_heir_1 : cX4_heir.data.toList.drop 23 = dktX4_heir_1 := dk_seg dksX4_heir_0 23 rfl rfl
theorem dksX4_heir_2 : cX4_heir.data.toList.drop 47 = dktX4_heir_2 := dk_seg dksX4_heir_1 24 rfl rfl
theorem dX4_heir_0 : decode cX4_heir 0 = .ok (.bipush (-2), 2) := dk_16 254 (dk_at dksX4_heir_0 0 rfl rfl)
theorem dX4_heir_2 : decode cX4_heir 2 = .ok (.istore_n 2, 1) := dk_61 (dk_at dksX4_heir_0 2 rfl rfl)
theorem dX4_heir_3 : decode cX4_heir 3 = .ok (.iconst 0, 1) := dk_3 (dk_at dksX4_heir_0 3 rfl rfl)
theorem dX4_heir_4 : decode cX4_heir 4 = .ok (.istore_n 3, 1) := dk_62 (dk_at dksX4_heir_0 4 rfl rfl)
theorem dX4_heir_5 : decode cX4_heir 5 = .ok (.iload_n 3, 1) := dk_29 (dk_at dksX4_heir_0 5 rfl rfl)
theorem dX4_heir_6 : decode cX4_heir 6 = .ok (.aload_n 0, 1) := dk_42 (dk_at dksX4_heir_0 6 rfl rfl)
theorem dX4_heir_7 : decode cX4_heir 7 = .ok (.getfield 18, 3) := dk_180 0 18 (dk_at dksX4_heir_0 7 rfl rfl)
theorem dX4_heir_10 : decode cX4_heir 10 = .ok (.getfield 52, 3) := dk_180 0 52 (dk_at dksX4_heir_0 10 rfl rfl)
theorem dX4_heir_13 : decode cX4_heir 13 = .ok (.if_icmp .ge 54, 3) := dk_162 0 54 (dk_at dksX4_heir_0 13 rfl rfl)
theorem dX4_heir_16 : decode cX4_heir 16 = .ok (.iload_n 3, 1) := dk_29 (dk_at dksX4_heir_0 16 rfl rfl)
theorem dX4_heir_17 : decode cX4_heir 17 = .ok (.iload_n 1, 1) := dk_27 (dk_at dksX4_heir_0 17 rfl rfl)
theorem dX4_heir_18 : decode cX4_heir 18 = .ok (.if_icmp .eq 43, 3) := dk_159 0 43 (dk_at dksX4_heir_0 18 rfl rfl)
theorem dX4_heir_21 : decode cX4_heir 21 = .ok (.aload_n 0, 1) := dk_42 (dk_at dksX4_heir_0 21 rfl rfl)
theorem dX4_heir_22 : decode cX4_heir 22 = .ok (.iload_n 3, 1) := dk_29 (dk_at dksX4_heir_0 22 rfl rfl)
theorem dX4_heir_23 : decode cX4_heir 23 = .ok (.invokevirtual 67, 3) := dk_182 0 67 (dk_at dksX4_heir_1 0 rfl rfl)
theorem dX4_heir_26 : decode cX4_heir 26 = .ok (.ifCond .eq 35, 3) := dk_153 0 35 (dk_at dksX4_heir_1 3 rfl rfl)
theorem dX4_heir_29 : decode cX4_heir 29 = .ok (.aload_n 0, 1) := dk_42 (dk_at dksX4_heir_1 6 rfl rfl)
theorem dX4_heir_30 : decode cX4_heir 30 = .ok (.iload_n 3, 1) := dk_29 (dk_at dksX4_heir_1 7 rfl rfl)
theorem dX4_heir_31 : decode cX4_heir 31 = .ok (.iload_n 1, 1) := dk_27 (dk_at dksX4_heir_1 8 rfl rfl)
theorem dX4_heir_32 : decode cX4_heir 32 = .ok (.invokevirtual 78, 3) := dk_182 0 78 (dk_at dksX4_heir_1 9 rfl rfl)
theorem dX4_heir_35 : decode cX4_heir 35 = .ok (.ifCond .lt 26, 3) := dk_155 0 26 (dk_at dksX4_heir_1 12 rfl rfl)
theorem dX4_heir_38 : decode cX4_heir 38 = .ok (.iload_n 2, 1) := dk_28 (dk_at dksX4_heir_1 15 rfl rfl)
theorem dX4_heir_39 : decode cX4_heir 39 = .ok (.bipush (-2), 2) := dk_16 254 (dk_at dksX4_heir_1 16 rfl rfl)
theorem dX4_heir_41 : decode cX4_heir 41 = .ok (.if_icmp .eq 18, 3) := dk_159 0 18 (dk_at dksX4_heir_1 18 rfl rfl)
theorem dX4_heir_44 : decode cX4_heir 44 = .ok (.aload_n 0, 1) := dk_42 (dk_at dksX4_heir_1 21 rfl rfl)
theorem dX4_heir_45 : decode cX4_heir 45 = .ok (.iload_n 3, 1) := dk_29 (dk_at dksX4_heir_1 22 rfl rfl)
theorem dX4_heir_46 : decode cX4_heir 46 = .ok (.iload_n 1, 1) := dk_27 (dk_at dksX4_heir_1 23 rfl rfl)
theorem dX4_heir_47 : decode cX4_heir 47 = .ok (.invokevirtual 78, 3) := dk_182 0 78 (dk_at dksX4_heir_2 0 rfl rfl)
theorem dX4_heir_50 : decode cX4_heir 50 = .ok (.aload_n 0, 1) := dk_42 (dk_at dksX4_heir_2 3 rfl rfl)
theorem dX4_heir_51 : decode cX4_heir 51 = .ok (.iload_n 2, 1) := dk_28 (dk_at dksX4_heir_2 4 rfl rfl)
theorem dX4_heir_52 : decode cX4_heir 52 = .ok (.iload_n 1, 1) := dk_27 (dk_at dksX4_heir_2 5 rfl rfl)
theorem dX4_heir_53 : decode cX4_heir 53 = .ok (.invokevirtual 78, 3) := dk_182 0 78 (dk_at dksX4_heir_2 6 rfl rfl)
theorem dX4_heir_56 : decode cX4_heir 56 = .ok (.if_icmp .le 5, 3) := dk_164 0 5 (dk_at dksX4_heir_2 9 rfl rfl)
theorem dX4_heir_59 : decode cX4_heir 59 = .ok (.iload_n 3, 1) := dk_29 (dk_at dksX4_heir_2 12 rfl rfl)
theorem dX4_heir_60 : decode cX4_heir 60 = .ok (.istore_n 2, 1) := dk_61 (dk_at dksX4_heir_2 13 rfl rfl)
theorem dX4_heir_61 : decode cX4_heir 61 = .ok (.iinc 3 1, 3) := dk_132 3 1 (dk_at dksX4_heir_2 14 rfl rfl)
theorem dX4_heir_64 : decode cX4_heir 64 = .ok (.goto (-59), 3) := dk_167 255 197 (dk_at dksX4_heir_2 17 rfl rfl)
theorem dX4_heir_67 : decode cX4_heir 67 = .ok (.iload_n 2, 1) := dk_28 (dk_at dksX4_heir_2 20 rfl rfl)
theorem dX4_heir_68 : decode cX4_heir 68 = .ok (.ireturn, 1) := dk_172 (dk_at dksX4_heir_2 21 rfl rfl)
abbrev cX4_dies : ByteArray := prog_11_method_9_code
def yX4_dies : MethodName := ⟨RX4, "dies", "(LLastAsked$Town;I)LLastAsked$Town;"⟩
def dkwX4_dies_4 : List UInt8 := [180, 0, 28, 28, 2, 130, 126, 181, 0, 28, 42, 176]
abbrev dktX4_dies_4 : List UInt8 := dkwX4_dies_4 ++ []
def dkwX4_dies_3 : List UInt8 := [180, 0, 9, 21, 4, 92, 46, 43, 180, 0, 9, 29, 46, 96, 79, 132, 3, 1, 167, 255, 175, 42, 89]
abbrev dktX4_dies_3 : List UInt8 := dkwX4_dies_3 ++ dktX4_dies_4
def dkwX4_dies_2 : List UInt8 := [16, 254, 160, 0, 21, 42, 89, 180, 0, 36, 43, 180, 0, 9, 29, 46, 96, 181, 0, 36, 167, 0, 19, 42]
abbrev dktX4_dies_2 : List UInt8 := dkwX4_dies_2 ++ dktX4_dies_3
def dkwX4_dies_1 : List UInt8 := [154, 0, 6, 167, 0, 59, 43, 29, 28, 182, 0, 90, 54, 4, 42, 180, 0, 9, 29, 3, 79, 21, 4]
abbrev dktX4_dies_1 : List UInt8 := dkwX4_dies_1 ++ dktX4_dies_2
def dkwX4_dies_0 : List UInt8 := [42, 43, 182, 0, 86, 87, 3, 62, 29, 42, 180, 0, 18, 180, 0, 52, 162, 0, 76, 28, 29, 184, 0, 64]
abbrev dktX4_dies_0 : List UInt8 := dkwX4_dies_0 ++ dktX4_dies_1
theorem dksX4_dies_0 : cX4_dies.data.toList.drop 0 = dktX4_dies_0 := by decide +kernel
theorem dksX4_dies_1 : cX4_dies.data.toList.drop 24 = dktX4_dies_1 := dk_seg dksX4_dies_0 24 rfl rfl
theorem dksX4_dies_2 : cX4_dies.data.toList.drop 47 = dktX4_dies_2 := dk_seg dksX4_dies_1 23 rfl rfl
theorem dksX4_dies_3 : cX4_dies.data.toList.drop 71 = dktX4_dies_3 := dk_seg dksX4_dies_2 24 rfl rfl
theorem dksX4_dies_4 : cX4_dies.data.toList.drop 94 = dktX4_dies_4 := dk_seg dksX4_dies_3 23 rfl rfl
theorem dX4_dies_0 : decode cX4_dies 0 = .ok (.aload_n 0, 1) := dk_42 (dk_at dksX4_dies_0 0 rfl rfl)
theorem dX4_dies_1 : decode cX4_dies 1 = .ok (.aload_n 1, 1) := dk_43 (dk_at dksX4_dies_0 1 rfl rfl)
theorem dX4_dies_2 : decode cX4_dies 2 = .ok (.invokevirtual 86, 3) := dk_182 0 86 (dk_at dksX4_dies_0 2 rfl rfl)
theorem dX4_dies_5 : decode cX4_dies 5 = .ok (.pop, 1) := dk_87 (dk_at dksX4_dies_0 5 rfl rfl)
theorem dX4_dies_6 : decode cX4_dies 6 = .ok (.iconst 0, 1) := dk_3 (dk_at dksX4_dies_0 6 rfl rfl)
theorem dX4_dies_7 : decode cX4_dies 7 = .ok (.istore_n 3, 1) := dk_62 (dk_at dksX4_dies_0 7 rfl rfl)
theorem dX4_dies_8 : decode cX4_dies 8 = .ok (.iload_n 3, 1) := dk_29 (dk_at dksX4_dies_0 8 rfl rfl)
theorem dX4_dies_9 : decode cX4_dies 9 = .ok (.aload_n 0, 1) := dk_42 (dk_at dksX4_dies_0 9 rfl rfl)
theorem dX4_dies_10 : decode cX4_dies 10 = .ok (.getfield 18, 3) := dk_180 0 18 (dk_at dksX4_dies_0 10 rfl rfl)
theorem dX4_dies_13 : decode cX4_dies 13 = .ok (.getfield 52, 3) := dk_180 0 52 (dk_at dksX4_dies_0 13 rfl rfl)
theorem dX4_dies_16 : decode cX4_dies 16 = .ok (.if_icmp .ge 76, 3) := dk_162 0 76 (dk_at dksX4_dies_0 16 rfl rfl)
theorem dX4_dies_19 : decode cX4_dies 19 = .ok (.iload_n 2, 1) := dk_28 (dk_at dksX4_dies_0 19 rfl rfl)
theorem dX4_dies_20 : decode cX4_dies 20 = .ok (.iload_n 3, 1) := dk_29 (dk_at dksX4_dies_0 20 rfl rfl)
theorem dX4_dies_21 : decode cX4_dies 21 = .ok (.invokestatic 64, 3) := dk_184 0 64 (dk_at dksX4_dies_0 21 rfl rfl)
theorem dX4_dies_24 : decode cX4_dies 24 = .ok (.ifCond .ne 6, 3) := dk_154 0 6 (dk_at dksX4_dies_1 0 rfl rfl)
theorem dX4_dies_27 : decode cX4_dies 27 = .ok (.goto 59, 3) := dk_167 0 59 (dk_at dksX4_dies_1 3 rfl rfl)
theorem dX4_dies_30 : decode cX4_dies 30 = .ok (.aload_n 1, 1) := dk_43 (dk_at dksX4_dies_1 6 rfl rfl)
theorem dX4_dies_31 : decode cX4_dies 31 = .ok (.iload_n 3, 1) := dk_29 (dk_at dksX4_dies_1 7 rfl rfl)
theorem dX4_dies_32 : decode cX4_dies 32 = .ok (.iload_n 2, 1) := dk_28 (dk_at dksX4_dies_1 8 rfl rfl)
theorem dX4_dies_33 : decode cX4_dies 33 = .ok (.invokevirtual 90, 3) := dk_182 0 90 (dk_at dksX4_dies_1 9 rfl rfl)
theorem dX4_dies_36 : decode cX4_dies 36 = .ok (.istore 4, 2) := dk_54 4 (dk_at dksX4_dies_1 12 rfl rfl)
theorem dX4_dies_38 : decode cX4_dies 38 = .ok (.aload_n 0, 1) := dk_42 (dk_at dksX4_dies_1 14 rfl rfl)
theorem dX4_dies_39 : decode cX4_dies 39 = .ok (.getfield 9, 3) := dk_180 0 9 (dk_at dksX4_dies_1 15 rfl rfl)
theorem dX4_dies_42 : decode cX4_dies 42 = .ok (.iload_n 3, 1) := dk_29 (dk_at dksX4_dies_1 18 rfl rfl)
theorem dX4_dies_43 : decode cX4_dies 43 = .ok (.iconst 0, 1) := dk_3 (dk_at dksX4_dies_1 19 rfl rfl)
theorem dX4_dies_44 : decode cX4_dies 44 = .ok (.iastore, 1) := dk_79 (dk_at dksX4_dies_1 20 rfl rfl)
theorem dX4_dies_45 : decode cX4_dies 45 = .ok (.iload 4, 2) := dk_21 4 (dk_at dksX4_dies_1 21 rfl rfl)
theorem dX4_dies_47 : decode cX4_dies 47 = .ok (.bipush (-2), 2) := dk_16 254 (dk_at dksX4_dies_2 0 rfl rfl)
theorem dX4_dies_49 : decode cX4_dies 49 = .ok (.if_icmp .ne 21, 3) := dk_160 0 21 (dk_at dksX4_dies_2 2 rfl rfl)
theorem dX4_dies_52 : decode cX4_dies 52 = .ok (.aload_n 0, 1) := dk_42 (dk_at dksX4_dies_2 5 rfl rfl)
theorem dX4_dies_53 : decode cX4_dies 53 = .ok (.dup, 1) := dk_89 (dk_at dksX4_dies_2 6 rfl rfl)
theorem dX4_dies_54 : decode cX4_dies 54 = .ok (.getfield 36, 3) := dk_180 0 36 (dk_at dksX4_dies_2 7 rfl rfl)
theorem dX4_dies_57 : decode cX4_dies 57 = .ok (.aload_n 1, 1) := dk_43 (dk_at dksX4_dies_2 10 rfl rfl)
theorem dX4_dies_58 : decode cX4_dies 58 = .ok (.getfield 9, 3) := dk_180 0 9 (dk_at dksX4_dies_2 11 rfl rfl)
theorem dX4_dies_61 : decode cX4_dies 61 = .ok (.iload_n 3, 1) := dk_29 (dk_at dksX4_dies_2 14 rfl rfl)
theorem dX4_dies_62 : decode cX4_dies 62 = .ok (.iaload, 1) := dk_46 (dk_at dksX4_dies_2 15 rfl rfl)
theorem dX4_dies_63 : decode cX4_dies 63 = .ok (.iadd, 1) := dk_96 (dk_at dksX4_dies_2 16 rfl rfl)
theorem dX4_dies_64 : decode cX4_dies 64 = .ok (.putfield 36, 3) := dk_181 0 36 (dk_at dksX4_dies_2 17 rfl rfl)
theorem dX4_dies_67 : decode cX4_dies 67 = .ok (.goto 19, 3) := dk_167 0 19 (dk_at dksX4_dies_2 20 rfl rfl)
theorem dX4_dies_70 : decode cX4_dies 70 = .ok (.aload_n 0, 1) := dk_42 (dk_at dksX4_dies_2 23 rfl rfl)
theorem dX4_dies_71 : decode cX4_dies 71 = .ok (.getfield 9, 3) := dk_180 0 9 (dk_at dksX4_dies_3 0 rfl rfl)
theorem dX4_dies_74 : decode cX4_dies 74 = .ok (.iload 4, 2) := dk_21 4 (dk_at dksX4_dies_3 3 rfl rfl)
theorem dX4_dies_76 : decode cX4_dies 76 = .ok (.dup2, 1) := dk_92 (dk_at dksX4_dies_3 5 rfl rfl)
theorem dX4_dies_77 : decode cX4_dies 77 = .ok (.iaload, 1) := dk_46 (dk_at dksX4_dies_3 6 rfl rfl)
theorem dX4_dies_78 : decode cX4_dies 78 = .ok (.aload_n 1, 1) := dk_43 (dk_at dksX4_dies_3 7 rfl rfl)
theorem dX4_dies_79 : decode cX4_dies 79 = .ok (.getfield 9, 3) := dk_180 0 9 (dk_at dksX4_dies_3 8 rfl rfl)
theorem dX4_dies_82 : decode cX4_dies 82 = .ok (.iload_n 3, 1) := dk_29 (dk_at dksX4_dies_3 11 rfl rfl)
theorem dX4_dies_83 : decode cX4_dies 83 = .ok (.iaload, 1) := dk_46 (dk_at dksX4_dies_3 12 rfl rfl)
theorem dX4_dies_84 : decode cX4_dies 84 = .ok (.iadd, 1) := dk_96 (dk_at dksX4_dies_3 13 rfl rfl)
theorem dX4_dies_85 : decode cX4_dies 85 = .ok (.iastore, 1) := dk_79 (dk_at dksX4_dies_3 14 rfl rfl)
theorem dX4_dies_86 : decode cX4_dies 86 = .ok (.iinc 3 1, 3) := dk_132 3 1 (dk_at dksX4_dies_3 15 rfl rfl)
theorem dX4_dies_89 : decode cX4_dies 89 = .ok (.goto (-81), 3) := dk_167 255 175 (dk_at dksX4_dies_3 18 rfl rfl)
theorem dX4_dies_92 : decode cX4_dies 92 = .ok (.aload_n 0, 1) := dk_42 (dk_at dksX4_dies_3 21 rfl rfl)
theorem dX4_dies_93 : decode cX4_dies 93 = .ok (.dup, 1) := dk_89 (dk_at dksX4_dies_3 22 rfl rfl)
theorem dX4_dies_94 : decode cX4_dies 94 = .ok (.getfield 28, 3) := dk_180 0 28 (dk_at dksX4_dies_4 0 rfl rfl)
theorem dX4_dies_97 : decode cX4_dies 97 = .ok (.iload_n 2, 1) := dk_28 (dk_at dksX4_dies_4 3 rfl rfl)
theorem dX4_dies_98 : decode cX4_dies 98 = .ok (.iconst (-1), 1) := dk_2 (dk_at dksX4_dies_4 4 rfl rfl)
theorem dX4_dies_99 : decode cX4_dies 99 = .ok (.ixor, 1) := dk_130 (dk_at dksX4_dies_4 5 rfl rfl)
theorem dX4_dies_100 : decode cX4_dies 100 = .ok (.iand, 1) := dk_126 (dk_at dksX4_dies_4 6 rfl rfl)
theorem dX4_dies_101 : decode cX4_dies 101 = .ok (.putfield 28, 3) := dk_181 0 28 (dk_at dksX4_dies_4 7 rfl rfl)
theorem dX4_dies_104 : decode cX4_dies 104 = .ok (.aload_n 0, 1) := dk_42 (dk_at dksX4_dies_4 10 rfl rfl)
theorem dX4_dies_105 : decode cX4_dies 105 = .ok (.areturn, 1) := dk_176 (dk_at dksX4_dies_4 11 rfl rfl)
abbrev cX4_become : ByteArray := prog_11_method_3_code
def yX4_become : MethodName := ⟨RX4, "become", "(LLastAsked$Town;)LLastAsked$Town;"⟩
def dkwX4_become_3 : List UInt8 := [3, 16, 36, 184, 0, 46, 42, 176]
abbrev dktX4_become_3 : List UInt8 := dkwX4_become_3 ++ []
def dkwX4_become_2 : List UInt8 := [43, 180, 0, 9, 3, 42, 180, 0, 9, 3, 16, 6, 184, 0, 46, 43, 180, 0, 15, 3, 42, 180, 0, 15]
abbrev dktX4_become_2 : List UInt8 := dkwX4_become_2 ++ dktX4_become_3
def dkwX4_become_1 : List UInt8 := [42, 43, 180, 0, 36, 181, 0, 36, 42, 43, 180, 0, 39, 181, 0, 39, 42, 43, 180, 0, 42, 181, 0, 42]
abbrev dktX4_become_1 : List UInt8 := dkwX4_become_1 ++ dktX4_become_2
def dkwX4_become_0 : List UInt8 := [42, 43, 180, 0, 18, 181, 0, 18, 42, 43, 180, 0, 28, 181, 0, 28, 42, 43, 180, 0, 35, 181, 0, 35]
abbrev dktX4_become_0 : List UInt8 := dkwX4_become_0 ++ dktX4_become_1
theorem dksX4_become_0 : cX4_become.data.toList.drop 0 = dktX4_become_0 := by decide +kernel
theorem dksX4_become_1 : cX4_become.data.toList.drop 24 = dktX4_become_1 := dk_seg dksX4_become_0 24 rfl rfl
theorem dksX4_become_2 : cX4_become.data.toList.drop 48 = dktX4_become_2 := dk_seg dksX4_become_1 24 rfl rfl
theorem dksX4_become_3 : cX4_become.data.toList.drop 72 = dktX4_become_3 := dk_seg dksX4_become_2 24 rfl rfl
theorem dX4_become_0 : decode cX4_become 0 = .ok (.aload_n 0, 1) := dk_42 (dk_at dksX4_become_0 0 rfl rfl)
theorem dX4_become_1 : decode cX4_become 1 = .ok (.aload_n 1, 1) := dk_43 (dk_at dksX4_become_0 1 rfl rfl)
theorem dX4_become_2 : decode cX4_become 2 = .ok (.getfield 18, 3) := dk_180 0 18 (dk_at dksX4_become_0 2 rfl rfl)
theorem dX4_become_5 : decode cX4_become 5 = .ok (.putfield 18, 3) := dk_181 0 18 (dk_at dksX4_become_0 5 rfl rfl)
theorem dX4_become_8 : decode cX4_become 8 = .ok (.aload_n 0, 1) := dk_42 (dk_at dksX4_become_0 8 rfl rfl)
theorem dX4_become_9 : decode cX4_become 9 = .ok (.aload_n 1, 1) := dk_43 (dk_at dksX4_become_0 9 rfl rfl)
theorem dX4_become_10 : decode cX4_become 10 = .ok (.getfield 28, 3) := dk_180 0 28 (dk_at dksX4_become_0 10 rfl rfl)
theorem dX4_become_13 : decode cX4_become 13 = .ok (.putfield 28, 3) := dk_181 0 28 (dk_at dksX4_become_0 13 rfl rfl)
theorem dX4_become_16 : decode cX4_become 16 = .ok (.aload_n 0, 1) := dk_42 (dk_at dksX4_become_0 16 rfl rfl)
theorem dX4_become_17 : decode cX4_become 17 = .ok (.aload_n 1, 1) := dk_43 (dk_at dksX4_become_0 17 rfl rfl)
theorem dX4_become_18 : decode cX4_become 18 = .ok (.getfield 35, 3) := dk_180 0 35 (dk_at dksX4_become_0 18 rfl rfl)
theorem dX4_become_21 : decode cX4_become 21 = .ok (.putfield 35, 3) := dk_181 0 35 (dk_at dksX4_become_0 21 rfl rfl)
theorem dX4_become_24 : decode cX4_become 24 = .ok (.aload_n 0, 1) := dk_42 (dk_at dksX4_become_1 0 rfl rfl)
theorem dX4_become_25 : decode cX4_become 25 = .ok (.aload_n 1, 1) := dk_43 (dk_at dksX4_become_1 1 rfl rfl)
theorem dX4_become_26 : decode cX4_become 26 = .ok (.getfield 36, 3) := dk_180 0 36 (dk_at dksX4_become_1 2 rfl rfl)
theorem dX4_become_29 : decode cX4_become 29 = .ok (.putfield 36, 3) := dk_181 0 36 (dk_at dksX4_become_1 5 rfl rfl)
theorem dX4_become_32 : decode cX4_become 32 = .ok (.aload_n 0, 1) := dk_42 (dk_at dksX4_become_1 8 rfl rfl)
theorem dX4_become_33 : decode cX4_become 33 = .ok (.aload_n 1, 1) := dk_43 (dk_at dksX4_become_1 9 rfl rfl)
theorem dX4_become_34 : decode cX4_become 34 = .ok (.getfield 39, 3) := dk_180 0 39 (dk_at dksX4_become_1 10 rfl rfl)
theorem dX4_become_37 : decode cX4_become 37 = .ok (.putfield 39, 3) := dk_181 0 39 (dk_at dksX4_become_1 13 rfl rfl)
theorem dX4_become_40 : decode cX4_become 40 = .ok (.aload_n 0, 1) := dk_42 (dk_at dksX4_become_1 16 rfl rfl)
theorem dX4_become_41 : decode cX4_become 41 = .ok (.aload_n 1, 1) := dk_43 (dk_at dksX4_become_1 17 rfl rfl)
theorem dX4_become_42 : decode cX4_become 42 = .ok (.getfield 42, 3) := dk_180 0 42 (dk_at dksX4_become_1 18 rfl rfl)
theorem dX4_become_45 : decode cX4_become 45 = .ok (.putfield 42, 3) := dk_181 0 42 (dk_at dksX4_become_1 21 rfl rfl)
theorem dX4_become_48 : decode cX4_become 48 = .ok (.aload_n 1, 1) := dk_43 (dk_at dksX4_become_2 0 rfl rfl)
theorem dX4_become_49 : decode cX4_become 49 = .ok (.getfield 9, 3) := dk_180 0 9 (dk_at dksX4_become_2 1 rfl rfl)
theorem dX4_become_52 : decode cX4_become 52 = .ok (.iconst 0, 1) := dk_3 (dk_at dksX4_become_2 4 rfl rfl)
theorem dX4_become_53 : decode cX4_become 53 = .ok (.aload_n 0, 1) := dk_42 (dk_at dksX4_become_2 5 rfl rfl)
theorem dX4_become_54 : decode cX4_become 54 = .ok (.getfield 9, 3) := dk_180 0 9 (dk_at dksX4_become_2 6 rfl rfl)
theorem dX4_become_57 : decode cX4_become 57 = .ok (.iconst 0, 1) := dk_3 (dk_at dksX4_become_2 9 rfl rfl)
theorem dX4_become_58 : decode cX4_become 58 = .ok (.bipush 6, 2) := dk_16 6 (dk_at dksX4_become_2 10 rfl rfl)
theorem dX4_become_60 : decode cX4_become 60 = .ok (.invokestatic 46, 3) := dk_184 0 46 (dk_at dksX4_become_2 12 rfl rfl)
theorem dX4_become_63 : decode cX4_become 63 = .ok (.aload_n 1, 1) := dk_43 (dk_at dksX4_become_2 15 rfl rfl)
theorem dX4_become_64 : decode cX4_become 64 = .ok (.getfield 15, 3) := dk_180 0 15 (dk_at dksX4_become_2 16 rfl rfl)
theorem dX4_become_67 : decode cX4_become 67 = .ok (.iconst 0, 1) := dk_3 (dk_at dksX4_become_2 19 rfl rfl)
theorem dX4_become_68 : decode cX4_become 68 = .ok (.aload_n 0, 1) := dk_42 (dk_at dksX4_become_2 20 rfl rfl)
theorem dX4_become_69 : decode cX4_become 69 = .ok (.getfield 15, 3) := dk_180 0 15 (dk_at dksX4_become_2 21 rfl rfl)
theorem dX4_become_72 : decode cX4_become 72 = .ok (.iconst 0, 1) := dk_3 (dk_at dksX4_become_3 0 rfl rfl)
theorem dX4_become_73 : decode cX4_become 73 = .ok (.bipush 36, 2) := dk_16 36 (dk_at dksX4_become_3 1 rfl rfl)
theorem dX4_become_75 : decode cX4_become 75 = .ok (.invokestatic 46, 3) := dk_184 0 46 (dk_at dksX4_become_3 3 rfl rfl)
theorem dX4_become_78 : decode cX4_become 78 = .ok (.aload_n 0, 1) := dk_42 (dk_at dksX4_become_3 6 rfl rfl)
theorem dX4_become_79 : decode cX4_become 79 = .ok (.areturn, 1) := dk_176 (dk_at dksX4_become_3 7 rfl rfl)
abbrev cX4_goesTo : ByteArray := prog_11_method_8_code
def yX4_goesTo : MethodName := ⟨RX4, "goesTo", "(II)I"⟩
def dkwX4_goesTo_2 : List UInt8 := [21, 4, 182, 0, 82, 54, 4, 167, 255, 213, 21, 4, 172]
abbrev dktX4_goesTo_2 : List UInt8 := dkwX4_goesTo_2 ++ []
def dkwX4_goesTo_1 : List UInt8 := [153, 0, 33, 29, 21, 4, 184, 0, 64, 153, 0, 6, 16, 254, 172, 29, 4, 21, 4, 120, 128, 62, 42]
abbrev dktX4_goesTo_1 : List UInt8 := dkwX4_goesTo_1 ++ dktX4_goesTo_2
def dkwX4_goesTo_0 : List UInt8 := [4, 27, 120, 62, 42, 27, 182, 0, 82, 54, 4, 21, 4, 16, 254, 159, 0, 42, 28, 21, 4, 184, 0, 64]
abbrev dktX4_goesTo_0 : List UInt8 := dkwX4_goesTo_0 ++ dktX4_goesTo_1
theorem dksX4_goesTo_0 : cX4_goesTo.data.toList.drop 0 = dktX4_goesTo_0 := by decide +kernel
theorem dksX4_goesTo_1 : cX4_goesTo.data.toList.drop 24 = dktX4_goesTo_1 := dk_seg dksX4_goesTo_0 24 rfl rfl
theorem dksX4_goesTo_2 : cX4_goesTo.data.toList.drop 47 = dktX4_goesTo_2 := dk_seg dksX4_goesTo_1 23 rfl rfl
theorem dX4_goesTo_0 : decode cX4_goesTo 0 = .ok (.iconst 1, 1) := dk_4 (dk_at dksX4_goesTo_0 0 rfl rfl)
theorem dX4_goesTo_1 : decode cX4_goesTo 1 = .ok (.iload_n 1, 1) := dk_27 (dk_at dksX4_goesTo_0 1 rfl rfl)
theorem dX4_goesTo_2 : decode cX4_goesTo 2 = .ok (.ishl, 1) := dk_120 (dk_at dksX4_goesTo_0 2 rfl rfl)
theorem dX4_goesTo_3 : decode cX4_goesTo 3 = .ok (.istore_n 3, 1) := dk_62 (dk_at dksX4_goesTo_0 3 rfl rfl)
theorem dX4_goesTo_4 : decode cX4_goesTo 4 = .ok (.aload_n 0, 1) := dk_42 (dk_at dksX4_goesTo_0 4 rfl rfl)
theorem dX4_goesTo_5 : decode cX4_goesTo 5 = .ok (.iload_n 1, 1) := dk_27 (dk_at dksX4_goesTo_0 5 rfl rfl)
theorem dX4_goesTo_6 : decode cX4_goesTo 6 = .ok (.invokevirtual 82, 3) := dk_182 0 82 (dk_at dksX4_goesTo_0 6 rfl rfl)
theorem dX4_goesTo_9 : decode cX4_goesTo 9 = .ok (.istore 4, 2) := dk_54 4 (dk_at dksX4_goesTo_0 9 rfl rfl)
theorem dX4_goesTo_11 : decode cX4_goesTo 11 = .ok (.iload 4, 2) := dk_21 4 (dk_at dksX4_goesTo_0 11 rfl rfl)
theorem dX4_goesTo_13 : decode cX4_goesTo 13 = .ok (.bipush (-2), 2) := dk_16 254 (dk_at dksX4_goesTo_0 13 rfl rfl)
theorem dX4_goesTo_15 : decode cX4_goesTo 15 = .ok (.if_icmp .eq 42, 3) := dk_159 0 42 (dk_at dksX4_goesTo_0 15 rfl rfl)
theorem dX4_goesTo_18 : decode cX4_goesTo 18 = .ok (.iload_n 2, 1) := dk_28 (dk_at dksX4_goesTo_0 18 rfl rfl)
theorem dX4_goesTo_19 : decode cX4_goesTo 19 = .ok (.iload 4, 2) := dk_21 4 (dk_at dksX4_goesTo_0 19 rfl rfl)
theorem dX4_goesTo_21 : decode cX4_goesTo 21 = .ok (.invokestatic 64, 3) := dk_184 0 64 (dk_at dksX4_goesTo_0 21 rfl rfl)
theorem dX4_goesTo_24 : decode cX4_goesTo 24 = .ok (.ifCond .eq 33, 3) := dk_153 0 33 (dk_at dksX4_goesTo_1 0 rfl rfl)
theorem dX4_goesTo_27 : decode cX4_goesTo 27 = .ok (.iload_n 3, 1) := dk_29 (dk_at dksX4_goesTo_1 3 rfl rfl)
theorem dX4_goesTo_28 : decode cX4_goesTo 28 = .ok (.iload 4, 2) := dk_21 4 (dk_at dksX4_goesTo_1 4 rfl rfl)
theorem dX4_goesTo_30 : decode cX4_goesTo 30 = .ok (.invokestatic 64, 3) := dk_184 0 64 (dk_at dksX4_goesTo_1 6 rfl rfl)
theorem dX4_goesTo_33 : decode cX4_goesTo 33 = .ok (.ifCond .eq 6, 3) := dk_153 0 6 (dk_at dksX4_goesTo_1 9 rfl rfl)
theorem dX4_goesTo_36 : decode cX4_goesTo 36 = .ok (.bipush (-2), 2) := dk_16 254 (dk_at dksX4_goesTo_1 12 rfl rfl)
theorem dX4_goesTo_38 : decode cX4_goesTo 38 = .ok (.ireturn, 1) := dk_172 (dk_at dksX4_goesTo_1 14 rfl rfl)
theorem dX4_goesTo_39 : decode cX4_goesTo 39 = .ok (.iload_n 3, 1) := dk_29 (dk_at dksX4_goesTo_1 15 rfl rfl)
theorem dX4_goesTo_40 : decode cX4_goesTo 40 = .ok (.iconst 1, 1) := dk_4 (dk_at dksX4_goesTo_1 16 rfl rfl)
theorem dX4_goesTo_41 : decode cX4_goesTo 41 = .ok (.iload 4, 2) := dk_21 4 (dk_at dksX4_goesTo_1 17 rfl rfl)
theorem dX4_goesTo_43 : decode cX4_goesTo 43 = .ok (.ishl, 1) := dk_120 (dk_at dksX4_goesTo_1 19 rfl rfl)
theorem dX4_goesTo_44 : decode cX4_goesTo 44 = .ok (.ior, 1) := dk_128 (dk_at dksX4_goesTo_1 20 rfl rfl)
theorem dX4_goesTo_45 : decode cX4_goesTo 45 = .ok (.istore_n 3, 1) := dk_62 (dk_at dksX4_goesTo_1 21 rfl rfl)
theorem dX4_goesTo_46 : decode cX4_goesTo 46 = .ok (.aload_n 0, 1) := dk_42 (dk_at dksX4_goesTo_1 22 rfl rfl)
theorem dX4_goesTo_47 : decode cX4_goesTo 47 = .ok (.iload 4, 2) := dk_21 4 (dk_at dksX4_goesTo_2 0 rfl rfl)
theorem dX4_goesTo_49 : decode cX4_goesTo 49 = .ok (.invokevirtual 82, 3) := dk_182 0 82 (dk_at dksX4_goesTo_2 2 rfl rfl)
theorem dX4_goesTo_52 : decode cX4_goesTo 52 = .ok (.istore 4, 2) := dk_54 4 (dk_at dksX4_goesTo_2 5 rfl rfl)
theorem dX4_goesTo_54 : decode cX4_goesTo 54 = .ok (.goto (-43), 3) := dk_167 255 213 (dk_at dksX4_goesTo_2 7 rfl rfl)
theorem dX4_goesTo_57 : decode cX4_goesTo 57 = .ok (.iload 4, 2) := dk_21 4 (dk_at dksX4_goesTo_2 10 rfl rfl)
theorem dX4_goesTo_59 : decode cX4_goesTo 59 = .ok (.ireturn, 1) := dk_172 (dk_at dksX4_goesTo_2 12 rfl rfl)
abbrev cX4_asks : ByteArray := prog_11_method_10_code
def yX4_asks : MethodName := ⟨RX4, "asks", "(II)I"⟩
def dkwX4_asks_2 : List UInt8 := [46, 29, 100, 79, 42, 180, 0, 9, 27, 92, 46, 29, 96, 79, 29, 172]
abbrev dktX4_asks_2 : List UInt8 := dkwX4_asks_2 ++ []
def dkwX4_asks_1 : List UInt8 := [181, 0, 35, 42, 180, 0, 15, 16, 6, 27, 104, 28, 96, 42, 180, 0, 35, 79, 42, 180, 0, 9, 28, 92]
abbrev dktX4_asks_1 : List UInt8 := dkwX4_asks_1 ++ dktX4_asks_2
def dkwX4_asks_0 : List UInt8 := [42, 180, 0, 18, 180, 0, 93, 42, 180, 0, 9, 28, 46, 184, 0, 96, 62, 42, 89, 180, 0, 35, 4, 96]
abbrev dktX4_asks_0 : List UInt8 := dkwX4_asks_0 ++ dktX4_asks_1
theorem dksX4_asks_0 : cX4_asks.data.toList.drop 0 = dktX4_asks_0 := by decide +kernel
theorem dksX4_asks_1 : cX4_asks.data.toList.drop 24 = dktX4_asks_1 := dk_seg dksX4_asks_0 24 rfl rfl
theorem dksX4_asks_2 : cX4_asks.data.toList.drop 48 = dktX4_asks_2 := dk_seg dksX4_asks_1 24 rfl rfl
theorem dX4_asks_0 : decode cX4_asks 0 = .ok (.aload_n 0, 1) := dk_42 (dk_at dksX4_asks_0 0 rfl rfl)
theorem dX4_asks_1 : decode cX4_asks 1 = .ok (.getfield 18, 3) := dk_180 0 18 (dk_at dksX4_asks_0 1 rfl rfl)
theorem dX4_asks_4 : decode cX4_asks 4 = .ok (.getfield 93, 3) := dk_180 0 93 (dk_at dksX4_asks_0 4 rfl rfl)
theorem dX4_asks_7 : decode cX4_asks 7 = .ok (.aload_n 0, 1) := dk_42 (dk_at dksX4_asks_0 7 rfl rfl)
theorem dX4_asks_8 : decode cX4_asks 8 = .ok (.getfield 9, 3) := dk_180 0 9 (dk_at dksX4_asks_0 8 rfl rfl)
theorem dX4_asks_11 : decode cX4_asks 11 = .ok (.iload_n 2, 1) := dk_28 (dk_at dksX4_asks_0 11 rfl rfl)
theorem dX4_asks_12 : decode cX4_asks 12 = .ok (.iaload, 1) := dk_46 (dk_at dksX4_asks_0 12 rfl rfl)
theorem dX4_asks_13 : decode cX4_asks 13 = .ok (.invokestatic 96, 3) := dk_184 0 96 (dk_at dksX4_asks_0 13 rfl rfl)
theorem dX4_asks_16 : decode cX4_asks 16 = .ok (.istore_n 3, 1) := dk_62 (dk_at dksX4_asks_0 16 rfl rfl)
theorem dX4_asks_17 : decode cX4_asks 17 = .ok (.aload_n 0, 1) := dk_42 (dk_at dksX4_asks_0 17 rfl rfl)
theorem dX4_asks_18 : decode cX4_asks 18 = .ok (.dup, 1) := dk_89 (dk_at dksX4_asks_0 18 rfl rfl)
theorem dX4_asks_19 : decode cX4_asks 19 = .ok (.getfield 35, 3) := dk_180 0 35 (dk_at dksX4_asks_0 19 rfl rfl)
theorem dX4_asks_22 : decode cX4_asks 22 = .ok (.iconst 1, 1) := dk_4 (dk_at dksX4_asks_0 22 rfl rfl)
theorem dX4_asks_23 : decode cX4_asks 23 = .ok (.iadd, 1) := dk_96 (dk_at dksX4_asks_0 23 rfl rfl)
theorem dX4_asks_24 : decode cX4_asks 24 = .ok (.putfield 35, 3) := dk_181 0 35 (dk_at dksX4_asks_1 0 rfl rfl)
theorem dX4_asks_27 : decode cX4_asks 27 = .ok (.aload_n 0, 1) := dk_42 (dk_at dksX4_asks_1 3 rfl rfl)
theorem dX4_asks_28 : decode cX4_asks 28 = .ok (.getfield 15, 3) := dk_180 0 15 (dk_at dksX4_asks_1 4 rfl rfl)
theorem dX4_asks_31 : decode cX4_asks 31 = .ok (.bipush 6, 2) := dk_16 6 (dk_at dksX4_asks_1 7 rfl rfl)
theorem dX4_asks_33 : decode cX4_asks 33 = .ok (.iload_n 1, 1) := dk_27 (dk_at dksX4_asks_1 9 rfl rfl)
theorem dX4_asks_34 : decode cX4_asks 34 = .ok (.imul, 1) := dk_104 (dk_at dksX4_asks_1 10 rfl rfl)
theorem dX4_asks_35 : decode cX4_asks 35 = .ok (.iload_n 2, 1) := dk_28 (dk_at dksX4_asks_1 11 rfl rfl)
theorem dX4_asks_36 : decode cX4_asks 36 = .ok (.iadd, 1) := dk_96 (dk_at dksX4_asks_1 12 rfl rfl)
theorem dX4_asks_37 : decode cX4_asks 37 = .ok (.aload_n 0, 1) := dk_42 (dk_at dksX4_asks_1 13 rfl rfl)
theorem dX4_asks_38 : decode cX4_asks 38 = .ok (.getfield 35, 3) := dk_180 0 35 (dk_at dksX4_asks_1 14 rfl rfl)
theorem dX4_asks_41 : decode cX4_asks 41 = .ok (.iastore, 1) := dk_79 (dk_at dksX4_asks_1 17 rfl rfl)
theorem dX4_asks_42 : decode cX4_asks 42 = .ok (.aload_n 0, 1) := dk_42 (dk_at dksX4_asks_1 18 rfl rfl)
theorem dX4_asks_43 : decode cX4_asks 43 = .ok (.getfield 9, 3) := dk_180 0 9 (dk_at dksX4_asks_1 19 rfl rfl)
theorem dX4_asks_46 : decode cX4_asks 46 = .ok (.iload_n 2, 1) := dk_28 (dk_at dksX4_asks_1 22 rfl rfl)
theorem dX4_asks_47 : decode cX4_asks 47 = .ok (.dup2, 1) := dk_92 (dk_at dksX4_asks_1 23 rfl rfl)
theorem dX4_asks_48 : decode cX4_asks 48 = .ok (.iaload, 1) := dk_46 (dk_at dksX4_asks_2 0 rfl rfl)
theorem dX4_asks_49 : decode cX4_asks 49 = .ok (.iload_n 3, 1) := dk_29 (dk_at dksX4_asks_2 1 rfl rfl)
theorem dX4_asks_50 : decode cX4_asks 50 = .ok (.isub, 1) := dk_100 (dk_at dksX4_asks_2 2 rfl rfl)
theorem dX4_asks_51 : decode cX4_asks 51 = .ok (.iastore, 1) := dk_79 (dk_at dksX4_asks_2 3 rfl rfl)
theorem dX4_asks_52 : decode cX4_asks 52 = .ok (.aload_n 0, 1) := dk_42 (dk_at dksX4_asks_2 4 rfl rfl)
theorem dX4_asks_53 : decode cX4_asks 53 = .ok (.getfield 9, 3) := dk_180 0 9 (dk_at dksX4_asks_2 5 rfl rfl)
theorem dX4_asks_56 : decode cX4_asks 56 = .ok (.iload_n 1, 1) := dk_27 (dk_at dksX4_asks_2 8 rfl rfl)
theorem dX4_asks_57 : decode cX4_asks 57 = .ok (.dup2, 1) := dk_92 (dk_at dksX4_asks_2 9 rfl rfl)
theorem dX4_asks_58 : decode cX4_asks 58 = .ok (.iaload, 1) := dk_46 (dk_at dksX4_asks_2 10 rfl rfl)
theorem dX4_asks_59 : decode cX4_asks 59 = .ok (.iload_n 3, 1) := dk_29 (dk_at dksX4_asks_2 11 rfl rfl)
theorem dX4_asks_60 : decode cX4_asks 60 = .ok (.iadd, 1) := dk_96 (dk_at dksX4_asks_2 12 rfl rfl)
theorem dX4_asks_61 : decode cX4_asks 61 = .ok (.iastore, 1) := dk_79 (dk_at dksX4_asks_2 13 rfl rfl)
theorem dX4_asks_62 : decode cX4_asks 62 = .ok (.iload_n 3, 1) := dk_29 (dk_at dksX4_asks_2 14 rfl rfl)
theorem dX4_asks_63 : decode cX4_asks 63 = .ok (.ireturn, 1) := dk_172 (dk_at dksX4_asks_2 15 rfl rfl)
abbrev cX4_draws : ByteArray := prog_11_method_11_code
def yX4_draws : MethodName := ⟨RX4, "draws", "()I"⟩
def dkwX4_draws_3 : List UInt8 := [167, 0, 4, 3, 128, 60, 132, 2, 1, 167, 255, 182, 27, 172]
abbrev dktX4_draws_3 : List UInt8 := dkwX4_draws_3 ++ []
def dkwX4_draws_2 : List UInt8 := [180, 0, 42, 16, 100, 112, 42, 180, 0, 18, 180, 0, 55, 28, 50, 180, 0, 102, 162, 0, 9, 4, 28, 120]
abbrev dktX4_draws_2 : List UInt8 := dkwX4_draws_2 ++ dktX4_draws_3
def dkwX4_draws_1 : List UInt8 := [167, 0, 52, 42, 16, 75, 42, 180, 0, 42, 104, 16, 74, 96, 18, 101, 112, 181, 0, 42, 27, 42]
abbrev dktX4_draws_1 : List UInt8 := dkwX4_draws_1 ++ dktX4_draws_2
def dkwX4_draws_0 : List UInt8 := [3, 60, 3, 61, 28, 42, 180, 0, 18, 180, 0, 52, 162, 0, 69, 42, 28, 182, 0, 67, 154, 0, 6]
abbrev dktX4_draws_0 : List UInt8 := dkwX4_draws_0 ++ dktX4_draws_1
theorem dksX4_draws_0 : cX4_draws.data.toList.drop 0 = dktX4_draws_0 := by decide +kernel
theorem dksX4_draws_1 : cX4_draws.data.toList.drop 23 = dktX4_draws_1 := dk_seg dksX4_draws_0 23 rfl rfl
theorem dksX4_draws_2 : cX4_draws.data.toList.drop 45 = dktX4_draws_2 := dk_seg dksX4_draws_1 22 rfl rfl
theorem dksX4_draws_3 : cX4_draws.data.toList.drop 69 = dktX4_draws_3 := dk_seg dksX4_draws_2 24 rfl rfl
theorem dX4_draws_0 : decode cX4_draws 0 = .ok (.iconst 0, 1) := dk_3 (dk_at dksX4_draws_0 0 rfl rfl)
theorem dX4_draws_1 : decode cX4_draws 1 = .ok (.istore_n 1, 1) := dk_60 (dk_at dksX4_draws_0 1 rfl rfl)
theorem dX4_draws_2 : decode cX4_draws 2 = .ok (.iconst 0, 1) := dk_3 (dk_at dksX4_draws_0 2 rfl rfl)
theorem dX4_draws_3 : decode cX4_draws 3 = .ok (.istore_n 2, 1) := dk_61 (dk_at dksX4_draws_0 3 rfl rfl)
theorem dX4_draws_4 : decode cX4_draws 4 = .ok (.iload_n 2, 1) := dk_28 (dk_at dksX4_draws_0 4 rfl rfl)
theorem dX4_draws_5 : decode cX4_draws 5 = .ok (.aload_n 0, 1) := dk_42 (dk_at dksX4_draws_0 5 rfl rfl)
theorem dX4_draws_6 : decode cX4_draws 6 = .ok (.getfield 18, 3) := dk_180 0 18 (dk_at dksX4_draws_0 6 rfl rfl)
theorem dX4_draws_9 : decode cX4_draws 9 = .ok (.getfield 52, 3) := dk_180 0 52 (dk_at dksX4_draws_0 9 rfl rfl)
theorem dX4_draws_12 : decode cX4_draws 12 = .ok (.if_icmp .ge 69, 3) := dk_162 0 69 (dk_at dksX4_draws_0 12 rfl rfl)
theorem dX4_draws_15 : decode cX4_draws 15 = .ok (.aload_n 0, 1) := dk_42 (dk_at dksX4_draws_0 15 rfl rfl)
theorem dX4_draws_16 : decode cX4_draws 16 = .ok (.iload_n 2, 1) := dk_28 (dk_at dksX4_draws_0 16 rfl rfl)
theorem dX4_draws_17 : decode cX4_draws 17 = .ok (.invokevirtual 67, 3) := dk_182 0 67 (dk_at dksX4_draws_0 17 rfl rfl)
theorem dX4_draws_20 : decode cX4_draws 20 = .ok (.ifCond .ne 6, 3) := dk_154 0 6 (dk_at dksX4_draws_0 20 rfl rfl)
theorem dX4_draws_23 : decode cX4_draws 23 = .ok (.goto 52, 3) := dk_167 0 52 (dk_at dksX4_draws_1 0 rfl rfl)
theorem dX4_draws_26 : decode cX4_draws 26 = .ok (.aload_n 0, 1) := dk_42 (dk_at dksX4_draws_1 3 rfl rfl)
theorem dX4_draws_27 : decode cX4_draws 27 = .ok (.bipush 75, 2) := dk_16 75 (dk_at dksX4_draws_1 4 rfl rfl)
theorem dX4_draws_29 : decode cX4_draws 29 = .ok (.aload_n 0, 1) := dk_42 (dk_at dksX4_draws_1 6 rfl rfl)
theorem dX4_draws_30 : decode cX4_draws 30 = .ok (.getfield 42, 3) := dk_180 0 42 (dk_at dksX4_draws_1 7 rfl rfl)
theorem dX4_draws_33 : decode cX4_draws 33 = .ok (.imul, 1) := dk_104 (dk_at dksX4_draws_1 10 rfl rfl)
theorem dX4_draws_34 : decode cX4_draws 34 = .ok (.bipush 74, 2) := dk_16 74 (dk_at dksX4_draws_1 11 rfl rfl)
theorem dX4_draws_36 : decode cX4_draws 36 = .ok (.iadd, 1) := dk_96 (dk_at dksX4_draws_1 13 rfl rfl)
theorem dX4_draws_37 : decode cX4_draws 37 = .ok (.ldc 101, 2) := dk_18 101 (dk_at dksX4_draws_1 14 rfl rfl)
theorem dX4_draws_39 : decode cX4_draws 39 = .ok (.irem, 1) := dk_112 (dk_at dksX4_draws_1 16 rfl rfl)
theorem dX4_draws_40 : decode cX4_draws 40 = .ok (.putfield 42, 3) := dk_181 0 42 (dk_at dksX4_draws_1 17 rfl rfl)
theorem dX4_draws_43 : decode cX4_draws 43 = .ok (.iload_n 1, 1) := dk_27 (dk_at dksX4_draws_1 20 rfl rfl)
theorem dX4_draws_44 : decode cX4_draws 44 = .ok (.aload_n 0, 1) := dk_42 (dk_at dksX4_draws_1 21 rfl rfl)
theorem dX4_draws_45 : decode cX4_draws 45 = .ok (.getfield 42, 3) := dk_180 0 42 (dk_at dksX4_draws_2 0 rfl rfl)
theorem dX4_draws_48 : decode cX4_draws 48 = .ok (.bipush 100, 2) := dk_16 100 (dk_at dksX4_draws_2 3 rfl rfl)
theorem dX4_draws_50 : decode cX4_draws 50 = .ok (.irem, 1) := dk_112 (dk_at dksX4_draws_2 5 rfl rfl)
theorem dX4_draws_51 : decode cX4_draws 51 = .ok (.aload_n 0, 1) := dk_42 (dk_at dksX4_draws_2 6 rfl rfl)
theorem dX4_draws_52 : decode cX4_draws 52 = .ok (.getfield 18, 3) := dk_180 0 18 (dk_at dksX4_draws_2 7 rfl rfl)
theorem dX4_draws_55 : decode cX4_draws 55 = .ok (.getfield 55, 3) := dk_180 0 55 (dk_at dksX4_draws_2 10 rfl rfl)
theorem dX4_draws_58 : decode cX4_draws 58 = .ok (.iload_n 2, 1) := dk_28 (dk_at dksX4_draws_2 13 rfl rfl)
theorem dX4_draws_59 : decode cX4_draws 59 = .ok (.aaload, 1) := dk_50 (dk_at dksX4_draws_2 14 rfl rfl)
theorem dX4_draws_60 : decode cX4_draws 60 = .ok (.getfield 102, 3) := dk_180 0 102 (dk_at dksX4_draws_2 15 rfl rfl)
theorem dX4_draws_63 : decode cX4_draws 63 = .ok (.if_icmp .ge 9, 3) := dk_162 0 9 (dk_at dksX4_draws_2 18 rfl rfl)
theorem dX4_draws_66 : decode cX4_draws 66 = .ok (.iconst 1, 1) := dk_4 (dk_at dksX4_draws_2 21 rfl rfl)
theorem dX4_draws_67 : decode cX4_draws 67 = .ok (.iload_n 2, 1) := dk_28 (dk_at dksX4_draws_2 22 rfl rfl)
theorem dX4_draws_68 : decode cX4_draws 68 = .ok (.ishl, 1) := dk_120 (dk_at dksX4_draws_2 23 rfl rfl)
theorem dX4_draws_69 : decode cX4_draws 69 = .ok (.goto 4, 3) := dk_167 0 4 (dk_at dksX4_draws_3 0 rfl rfl)
theorem dX4_draws_72 : decode cX4_draws 72 = .ok (.iconst 0, 1) := dk_3 (dk_at dksX4_draws_3 3 rfl rfl)
theorem dX4_draws_73 : decode cX4_draws 73 = .ok (.ior, 1) := dk_128 (dk_at dksX4_draws_3 4 rfl rfl)
theorem dX4_draws_74 : decode cX4_draws 74 = .ok (.istore_n 1, 1) := dk_60 (dk_at dksX4_draws_3 5 rfl rfl)
theorem dX4_draws_75 : decode cX4_draws 75 = .ok (.iinc 2 1, 3) := dk_132 2 1 (dk_at dksX4_draws_3 6 rfl rfl)
theorem dX4_draws_78 : decode cX4_draws 78 = .ok (.goto (-74), 3) := dk_167 255 182 (dk_at dksX4_draws_3 9 rfl rfl)
theorem dX4_draws_81 : decode cX4_draws 81 = .ok (.iload_n 1, 1) := dk_27 (dk_at dksX4_draws_3 12 rfl rfl)
theorem dX4_draws_82 : decode cX4_draws 82 = .ok (.ireturn, 1) := dk_172 (dk_at dksX4_draws_3 13 rfl rfl)
theorem q119 : (Jvm.Cond.initialized "LastAsked$Town") ∈ lw_all := lw_g (lw_at lw_m1 7 rfl) rfl
theorem q262 : (Jvm.Cond.instantiable "LastAsked$Town" (8 : Nat)) ∈ lw_all := lw_g (lw_at lw_m1 150 rfl) rfl
theorem q264 : (Jvm.Cond.instanceMethod ({ cls := "LastAsked$Town", name := "<init>", desc := "()V" } : Jvm.MethodName)) ∈ lw_all := lw_g (lw_at lw_m1 152 rfl) rfl
theorem q265 : (Jvm.Cond.code ({ cls := "LastAsked$Town", name := "<init>", desc := "()V" } : Jvm.MethodName) prog_11_method_1_code (1 : Nat) (Option.none : Option Jvm.ClassFile.FieldType)) ∈ lw_all := lw_g (lw_at lw_m1 153 rfl) rfl
theorem q266 : (Jvm.Cond.methodLink "LastAsked$Town" (3 : Nat) ({ cls := "java/lang/Object", name := "<init>", desc := "()V" } : Jvm.MethodName)) ∈ lw_all := lw_g (lw_at lw_m1 154 rfl) rfl
theorem q267 : (Jvm.Cond.fieldLink "LastAsked$Town" (9 : Nat) "LastAsked$Town" "has" "[I") ∈ lw_all := lw_g (lw_at lw_m1 155 rfl) rfl
theorem q270 : (Jvm.Cond.fieldLink "LastAsked$Town" (15 : Nat) "LastAsked$Town" "hours" "[I") ∈ lw_all := lw_g (lw_at lw_m1 158 rfl) rfl
theorem q272 : (Jvm.Cond.fieldLink "LastAsked$Town" (18 : Nat) "LastAsked$Town" "city" "LLastAsked$City;") ∈ lw_all := lw_g (lw_at lw_m1 160 rfl) rfl
theorem q275 : (Jvm.Cond.fieldLink "LastAsked$Town" (28 : Nat) "LastAsked$Town" "living" "I") ∈ lw_all := lw_g (lw_at lw_m1 163 rfl) rfl
theorem q278 : (Jvm.Cond.fieldLink "LastAsked$Town" (35 : Nat) "LastAsked$Town" "hour" "I") ∈ lw_all := lw_g (lw_at lw_m1 166 rfl) rfl
theorem q280 : (Jvm.Cond.fieldLink "LastAsked$Town" (36 : Nat) "LastAsked$Town" "cat" "I") ∈ lw_all := lw_g (lw_at lw_m1 168 rfl) rfl
theorem q283 : (Jvm.Cond.fieldLink "LastAsked$Town" (39 : Nat) "LastAsked$Town" "nights" "I") ∈ lw_all := lw_g (lw_at lw_m1 171 rfl) rfl
theorem q285 : (Jvm.Cond.fieldLink "LastAsked$Town" (42 : Nat) "LastAsked$Town" "seed" "I") ∈ lw_all := lw_g (lw_at lw_m1 173 rfl) rfl
theorem q287 : (Jvm.Cond.laysFinal "LastAsked$Town" "LastAsked$Town" "has" "[I") ∈ lw_all := lw_g (lw_at lw_m1 175 rfl) rfl
theorem q288 : (Jvm.Cond.soleField "LastAsked$Town" "has") ∈ lw_all := lw_g (lw_at lw_m1 176 rfl) rfl
theorem q289 : (Jvm.Cond.laysFinal "LastAsked$Town" "LastAsked$Town" "hours" "[I") ∈ lw_all := lw_g (lw_at lw_m1 177 rfl) rfl
theorem q290 : (Jvm.Cond.soleField "LastAsked$Town" "hours") ∈ lw_all := lw_g (lw_at lw_m1 178 rfl) rfl
theorem q291 : (Jvm.Cond.lays "LastAsked$Town" "LastAsked$Town" "city" "LLastAsked$City;") ∈ lw_all := lw_g (lw_at lw_m1 179 rfl) rfl
theorem q292 : (Jvm.Cond.soleField "LastAsked$Town" "city") ∈ lw_all := lw_g (lw_at lw_m1 180 rfl) rfl
theorem q293 : (Jvm.Cond.lays "LastAsked$Town" "LastAsked$Town" "living" "I") ∈ lw_all := lw_g (lw_at lw_m1 181 rfl) rfl
theorem q294 : (Jvm.Cond.soleField "LastAsked$Town" "living") ∈ lw_all := lw_g (lw_at lw_m1 182 rfl) rfl
theorem q295 : (Jvm.Cond.lays "LastAsked$Town" "LastAsked$Town" "hour" "I") ∈ lw_all := lw_g (lw_at lw_m1 183 rfl) rfl
theorem q296 : (Jvm.Cond.soleField "LastAsked$Town" "hour") ∈ lw_all := lw_g (lw_at lw_m1 184 rfl) rfl
theorem q297 : (Jvm.Cond.lays "LastAsked$Town" "LastAsked$Town" "cat" "I") ∈ lw_all := lw_g (lw_at lw_m1 185 rfl) rfl
theorem q298 : (Jvm.Cond.soleField "LastAsked$Town" "cat") ∈ lw_all := lw_g (lw_at lw_m1 186 rfl) rfl
theorem q299 : (Jvm.Cond.lays "LastAsked$Town" "LastAsked$Town" "nights" "I") ∈ lw_all := lw_g (lw_at lw_m1 187 rfl) rfl
theorem q300 : (Jvm.Cond.soleField "LastAsked$Town" "nights") ∈ lw_all := lw_g (lw_at lw_m1 188 rfl) rfl
theorem q301 : (Jvm.Cond.lays "LastAsked$Town" "LastAsked$Town" "seed" "I") ∈ lw_all := lw_g (lw_at lw_m1 189 rfl) rfl
theorem q302 : (Jvm.Cond.soleField "LastAsked$Town" "seed") ∈ lw_all := lw_g (lw_at lw_m1 190 rfl) rfl
theorem q303 : (Jvm.Cond.superclass "LastAsked$Town" "java/lang/Object") ∈ lw_all := lw_g (lw_at lw_m1 191 rfl) rfl
theorem q457 : (Jvm.Cond.fieldLink "LastAsked$Town" (55 : Nat) "LastAsked$City" "people" "[LLastAsked$Person;") ∈ lw_all := lw_g (lw_at lw_m2 105 rfl) rfl
theorem q462 : (Jvm.Cond.fieldLink "LastAsked$Town" (45 : Nat) "LastAsked$City" "hours" "[I") ∈ lw_all := lw_g (lw_at lw_m2 110 rfl) rfl
theorem q475 : (Jvm.Cond.fieldLink "LastAsked$Town" (32 : Nat) "LastAsked$City" "hour" "I") ∈ lw_all := lw_g (lw_at lw_m2 123 rfl) rfl
theorem q477 : (Jvm.Cond.fieldLink "LastAsked$Town" (93 : Nat) "LastAsked$City" "gives" "I") ∈ lw_all := lw_g (lw_at lw_m2 125 rfl) rfl
theorem q482 : (Jvm.Cond.fieldLink "LastAsked$Town" (52 : Nat) "LastAsked$City" "peopleMany" "I") ∈ lw_all := lw_g (lw_at lw_m2 130 rfl) rfl
theorem q752 : (Jvm.Cond.fieldLink "LastAsked$Town" (59 : Nat) "LastAsked$Person" "wealth" "I") ∈ lw_all := lw_g (lw_at lw_m3 160 rfl) rfl
theorem q755 : (Jvm.Cond.fieldLink "LastAsked$Town" (102 : Nat) "LastAsked$Person" "dies" "I") ∈ lw_all := lw_g (lw_at lw_m3 163 rfl) rfl
theorem q891 : (Jvm.Cond.instanceMethod ({ cls := "LastAsked$Town", name := "begin", desc := "(LLastAsked$City;)LLastAsked$Town;" } : Jvm.MethodName)) ∈ lw_all := lw_g (lw_at lw_m4 59 rfl) rfl
theorem q892 : (Jvm.Cond.selects "LastAsked$Town" ({ cls := "LastAsked$Town", name := "begin", desc := "(LLastAsked$City;)LLastAsked$Town;" } : Jvm.MethodName) ({ cls := "LastAsked$Town", name := "begin", desc := "(LLastAsked$City;)LLastAsked$Town;" } : Jvm.MethodName)) ∈ lw_all := lw_g (lw_at lw_m4 60 rfl) rfl
theorem q893 : (Jvm.Cond.code ({ cls := "LastAsked$Town", name := "begin", desc := "(LLastAsked$City;)LLastAsked$Town;" } : Jvm.MethodName) prog_11_method_2_code (3 : Nat) (Option.some (Jvm.ClassFile.FieldType.object "LastAsked$Town"))) ∈ lw_all := lw_g (lw_at lw_m4 61 rfl) rfl
theorem q894 : (Jvm.Cond.methodLink "LastAsked$Town" (22 : Nat) ({ cls := "LastAsked$City", name := "all", desc := "()I" } : Jvm.MethodName)) ∈ lw_all := lw_g (lw_at lw_m4 62 rfl) rfl
theorem q898 : (Jvm.Cond.methodLink "LastAsked$Town" (46 : Nat) ({ cls := "java/lang/System", name := "arraycopy", desc := "(Ljava/lang/Object;ILjava/lang/Object;II)V" } : Jvm.MethodName)) ∈ lw_all := lw_g (lw_at lw_m4 66 rfl) rfl
theorem q935 : (Jvm.Cond.instanceMethod ({ cls := "LastAsked$Town", name := "isLiving", desc := "(I)Z" } : Jvm.MethodName)) ∈ lw_all := lw_g (lw_at lw_m4 103 rfl) rfl
theorem q936 : (Jvm.Cond.selects "LastAsked$Town" ({ cls := "LastAsked$Town", name := "isLiving", desc := "(I)Z" } : Jvm.MethodName) ({ cls := "LastAsked$Town", name := "isLiving", desc := "(I)Z" } : Jvm.MethodName)) ∈ lw_all := lw_g (lw_at lw_m4 104 rfl) rfl
theorem q937 : (Jvm.Cond.code ({ cls := "LastAsked$Town", name := "isLiving", desc := "(I)Z" } : Jvm.MethodName) prog_11_method_4_code (2 : Nat) (Option.some Jvm.ClassFile.FieldType.boolean)) ∈ lw_all := lw_g (lw_at lw_m4 105 rfl) rfl
theorem q938 : (Jvm.Cond.methodLinkNest "LastAsked$Town" (64 : Nat) ({ cls := "LastAsked", name := "has", desc := "(II)Z" } : Jvm.MethodName) "LastAsked") ∈ lw_tbl := lw_at lw_m4 106 rfl
theorem q944 : (Jvm.Cond.instanceMethod ({ cls := "LastAsked$Town", name := "canAsk", desc := "(II)Z" } : Jvm.MethodName)) ∈ lw_all := lw_g (lw_at lw_m4 112 rfl) rfl
theorem q945 : (Jvm.Cond.selects "LastAsked$Town" ({ cls := "LastAsked$Town", name := "canAsk", desc := "(II)Z" } : Jvm.MethodName) ({ cls := "LastAsked$Town", name := "canAsk", desc := "(II)Z" } : Jvm.MethodName)) ∈ lw_all := lw_g (lw_at lw_m4 113 rfl) rfl
theorem q946 : (Jvm.Cond.code ({ cls := "LastAsked$Town", name := "canAsk", desc := "(II)Z" } : Jvm.MethodName) prog_11_method_6_code (3 : Nat) (Option.some Jvm.ClassFile.FieldType.boolean)) ∈ lw_all := lw_g (lw_at lw_m4 114 rfl) rfl
theorem q947 : (Jvm.Cond.methodLink "LastAsked$Town" (67 : Nat) ({ cls := "LastAsked$Town", name := "isLiving", desc := "(I)Z" } : Jvm.MethodName)) ∈ lw_all := lw_g (lw_at lw_m4 115 rfl) rfl
theorem q948 : (Jvm.Cond.methodLink "LastAsked$Town" (71 : Nat) ({ cls := "LastAsked$Person", name := "mayAsk", desc := "()Z" } : Jvm.MethodName)) ∈ lw_all := lw_g (lw_at lw_m4 116 rfl) rfl
theorem q949 : (Jvm.Cond.methodLink "LastAsked$Town" (75 : Nat) ({ cls := "LastAsked$Person", name := "mayBeAskedBy", desc := "(I)Z" } : Jvm.MethodName)) ∈ lw_all := lw_g (lw_at lw_m4 117 rfl) rfl
theorem q963 : (Jvm.Cond.instanceMethod ({ cls := "LastAsked$Town", name := "hourOf", desc := "(II)I" } : Jvm.MethodName)) ∈ lw_all := lw_g (lw_at lw_m4 131 rfl) rfl
theorem q964 : (Jvm.Cond.selects "LastAsked$Town" ({ cls := "LastAsked$Town", name := "hourOf", desc := "(II)I" } : Jvm.MethodName) ({ cls := "LastAsked$Town", name := "hourOf", desc := "(II)I" } : Jvm.MethodName)) ∈ lw_all := lw_g (lw_at lw_m4 132 rfl) rfl
theorem q965 : (Jvm.Cond.code ({ cls := "LastAsked$Town", name := "hourOf", desc := "(II)I" } : Jvm.MethodName) prog_11_method_5_code (3 : Nat) (Option.some Jvm.ClassFile.FieldType.int)) ∈ lw_all := lw_g (lw_at lw_m4 133 rfl) rfl
theorem q975 : (Jvm.Cond.instanceMethod ({ cls := "LastAsked$Town", name := "heir", desc := "(I)I" } : Jvm.MethodName)) ∈ lw_all := lw_g (lw_at lw_m4 143 rfl) rfl
theorem q976 : (Jvm.Cond.selects "LastAsked$Town" ({ cls := "LastAsked$Town", name := "heir", desc := "(I)I" } : Jvm.MethodName) ({ cls := "LastAsked$Town", name := "heir", desc := "(I)I" } : Jvm.MethodName)) ∈ lw_all := lw_g (lw_at lw_m4 144 rfl) rfl
theorem q977 : (Jvm.Cond.code ({ cls := "LastAsked$Town", name := "heir", desc := "(I)I" } : Jvm.MethodName) prog_11_method_7_code (4 : Nat) (Option.some Jvm.ClassFile.FieldType.int)) ∈ lw_all := lw_g (lw_at lw_m4 145 rfl) rfl
theorem q978 : (Jvm.Cond.methodLink "LastAsked$Town" (78 : Nat) ({ cls := "LastAsked$Town", name := "hourOf", desc := "(II)I" } : Jvm.MethodName)) ∈ lw_all := lw_g (lw_at lw_m4 146 rfl) rfl
theorem q992 : (Jvm.Cond.instanceMethod ({ cls := "LastAsked$Town", name := "dies", desc := "(LLastAsked$Town;I)LLastAsked$Town;" } : Jvm.MethodName)) ∈ lw_all := lw_g (lw_at lw_m4 160 rfl) rfl
theorem q993 : (Jvm.Cond.selects "LastAsked$Town" ({ cls := "LastAsked$Town", name := "dies", desc := "(LLastAsked$Town;I)LLastAsked$Town;" } : Jvm.MethodName) ({ cls := "LastAsked$Town", name := "dies", desc := "(LLastAsked$Town;I)LLastAsked$Town;" } : Jvm.MethodName)) ∈ lw_all := lw_g (lw_at lw_m4 161 rfl) rfl
theorem q994 : (Jvm.Cond.code ({ cls := "LastAsked$Town", name := "dies", desc := "(LLastAsked$Town;I)LLastAsked$Town;" } : Jvm.MethodName) prog_11_method_9_code (5 : Nat) (Option.some (Jvm.ClassFile.FieldType.object "LastAsked$Town"))) ∈ lw_all := lw_g (lw_at lw_m4 162 rfl) rfl
theorem q995 : (Jvm.Cond.methodLink "LastAsked$Town" (86 : Nat) ({ cls := "LastAsked$Town", name := "become", desc := "(LLastAsked$Town;)LLastAsked$Town;" } : Jvm.MethodName)) ∈ lw_all := lw_g (lw_at lw_m4 163 rfl) rfl
theorem q996 : (Jvm.Cond.instanceMethod ({ cls := "LastAsked$Town", name := "become", desc := "(LLastAsked$Town;)LLastAsked$Town;" } : Jvm.MethodName)) ∈ lw_all := lw_g (lw_at lw_m4 164 rfl) rfl
theorem q997 : (Jvm.Cond.selects "LastAsked$Town" ({ cls := "LastAsked$Town", name := "become", desc := "(LLastAsked$Town;)LLastAsked$Town;" } : Jvm.MethodName) ({ cls := "LastAsked$Town", name := "become", desc := "(LLastAsked$Town;)LLastAsked$Town;" } : Jvm.MethodName)) ∈ lw_all := lw_g (lw_at lw_m4 165 rfl) rfl
theorem q998 : (Jvm.Cond.code ({ cls := "LastAsked$Town", name := "become", desc := "(LLastAsked$Town;)LLastAsked$Town;" } : Jvm.MethodName) prog_11_method_3_code (2 : Nat) (Option.some (Jvm.ClassFile.FieldType.object "LastAsked$Town"))) ∈ lw_all := lw_g (lw_at lw_m4 166 rfl) rfl
theorem q999 : (Jvm.Cond.methodLink "LastAsked$Town" (90 : Nat) ({ cls := "LastAsked$Town", name := "goesTo", desc := "(II)I" } : Jvm.MethodName)) ∈ lw_all := lw_g (lw_at lw_m4 167 rfl) rfl
theorem q1000 : (Jvm.Cond.instanceMethod ({ cls := "LastAsked$Town", name := "goesTo", desc := "(II)I" } : Jvm.MethodName)) ∈ lw_all := lw_g (lw_at lw_m4 168 rfl) rfl
theorem q1001 : (Jvm.Cond.selects "LastAsked$Town" ({ cls := "LastAsked$Town", name := "goesTo", desc := "(II)I" } : Jvm.MethodName) ({ cls := "LastAsked$Town", name := "goesTo", desc := "(II)I" } : Jvm.MethodName)) ∈ lw_all := lw_g (lw_at lw_m4 169 rfl) rfl
theorem q1002 : (Jvm.Cond.code ({ cls := "LastAsked$Town", name := "goesTo", desc := "(II)I" } : Jvm.MethodName) prog_11_method_8_code (5 : Nat) (Option.some Jvm.ClassFile.FieldType.int)) ∈ lw_all := lw_g (lw_at lw_m4 170 rfl) rfl
theorem q1003 : (Jvm.Cond.methodLink "LastAsked$Town" (82 : Nat) ({ cls := "LastAsked$Town", name := "heir", desc := "(I)I" } : Jvm.MethodName)) ∈ lw_all := lw_g (lw_at lw_m4 171 rfl) rfl
theorem q1124 : (Jvm.Cond.instanceMethod ({ cls := "LastAsked$Town", name := "asks", desc := "(II)I" } : Jvm.MethodName)) ∈ lw_all := lw_g (lw_at lw_m5 52 rfl) rfl
theorem q1125 : (Jvm.Cond.selects "LastAsked$Town" ({ cls := "LastAsked$Town", name := "asks", desc := "(II)I" } : Jvm.MethodName) ({ cls := "LastAsked$Town", name := "asks", desc := "(II)I" } : Jvm.MethodName)) ∈ lw_all := lw_g (lw_at lw_m5 53 rfl) rfl
theorem q1126 : (Jvm.Cond.code ({ cls := "LastAsked$Town", name := "asks", desc := "(II)I" } : Jvm.MethodName) prog_11_method_10_code (4 : Nat) (Option.some Jvm.ClassFile.FieldType.int)) ∈ lw_all := lw_g (lw_at lw_m5 54 rfl) rfl
theorem q1127 : (Jvm.Cond.methodLink "LastAsked$Town" (96 : Nat) ({ cls := "java/lang/Math", name := "min", desc := "(II)I" } : Jvm.MethodName)) ∈ lw_all := lw_g (lw_at lw_m5 55 rfl) rfl
theorem q1276 : (Jvm.Cond.instanceMethod ({ cls := "LastAsked$Town", name := "draws", desc := "()I" } : Jvm.MethodName)) ∈ lw_all := lw_g (lw_at lw_m5 204 rfl) rfl
theorem q1277 : (Jvm.Cond.selects "LastAsked$Town" ({ cls := "LastAsked$Town", name := "draws", desc := "()I" } : Jvm.MethodName) ({ cls := "LastAsked$Town", name := "draws", desc := "()I" } : Jvm.MethodName)) ∈ lw_all := lw_g (lw_at lw_m5 205 rfl) rfl
theorem q1278 : (Jvm.Cond.code ({ cls := "LastAsked$Town", name := "draws", desc := "()I" } : Jvm.MethodName) prog_11_method_11_code (3 : Nat) (Option.some Jvm.ClassFile.FieldType.int)) ∈ lw_all := lw_g (lw_at lw_m5 206 rfl) rfl
theorem q1279 : (Jvm.Cond.constant "LastAsked$Town" (101 : Nat) (65537 : Int32)) ∈ lw_all := lw_g (lw_at lw_m5 207 rfl) rfl
theorem q2103 : (Jvm.Cond.castable "LastAsked$Town" "java/lang/Object") ∈ lw_tbl := lw_at lw_m9 71 rfl
theorem in_X4 : ∀ w ∈ wsX40, w ∈ lw_all := lw_in wsX40 [287, 289, 291, 293, 295, 297, 299, 301] (by decide +kernel) (by decide +kernel)

/-! LastAsked$Night -/
set_option maxRecDepth 100000
def RX5 : String := "LastAsked$Night"
def TX5 : u_T := fun k => match k with
  | 0 => ("LastAsked$Night", "then", "LLastAsked$Town;", true)
  | _ => ("LastAsked$Night", "all", "J", false)
def tyX5 : Nat → FieldType := fun k => match k with
  | 0 => .object "LastAsked$Town"
  | _ => .long
abbrev wsX50 : List Cond := u_ws RX5 TX5 2
theorem nmX5 : ∀ a, a < 2 → ∀ b, b < 2 → a ≠ b → (TX5 a).2.1 ≠ (TX5 b).2.1 := by decide +kernel
theorem tyX5_ok : ∀ k, k < 2 → parseFieldDescriptor (TX5 k).2.2.1 = some (tyX5 k) := by decide +kernel
abbrev cX5_init : ByteArray := prog_5_method_1_code
def yX5_init : MethodName := ⟨RX5, "<init>", "()V"⟩
def dkwX5_init_0 : List UInt8 := [42, 183, 0, 3, 42, 187, 0, 9, 89, 183, 0, 11, 181, 0, 12, 177]
abbrev dktX5_init_0 : List UInt8 := dkwX5_init_0 ++ []
theorem dksX5_init_0 : cX5_init.data.toList.drop 0 = dktX5_init_0 := by decide +kernel
theorem dX5_init_0 : decode cX5_init 0 = .ok (.aload_n 0, 1) := dk_42 (dk_at dksX5_init_0 0 rfl rfl)
theorem dX5_init_1 : decode cX5_init 1 = .ok (.invokespecial 3, 3) := dk_183 0 3 (dk_at dksX5_init_0 1 rfl rfl)
theorem dX5_init_4 : decode cX5_init 4 = .ok (.aload_n 0, 1) := dk_42 (dk_at dksX5_init_0 4 rfl rfl)
theorem dX5_init_5 : decode cX5_init 5 = .ok (.new 9, 3) := dk_187 0 9 (dk_at dksX5_init_0 5 rfl rfl)
theorem dX5_init_8 : decode cX5_init 8 = .ok (.dup, 1) := dk_89 (dk_at dksX5_init_0 8 rfl rfl)
theorem dX5_init_9 : decode cX5_init 9 = .ok (.invokespecial 11, 3) := dk_183 0 11 (dk_at dksX5_init_0 9 rfl rfl)
theorem dX5_init_12 : decode cX5_init 12 = .ok (.putfield 12, 3) := dk_181 0 12 (dk_at dksX5_init_0 12 rfl rfl)
theorem dX5_init_15 : decode cX5_init 15 = .ok (.return_, 1) := dk_177 (dk_at dksX5_init_0 15 rfl rfl)
abbrev cX5_sum : ByteArray := prog_5_method_4_code
def yX5_sum : MethodName := ⟨RX5, "sum", "(LLastAsked$Town;I)J"⟩
def dkwX5_sum_4 : List UInt8 := [105, 97, 66, 132, 5, 1, 167, 255, 168, 33, 173]
abbrev dktX5_sum_4 : List UInt8 := dkwX5_sum_4 ++ []
def dkwX5_sum_3 : List UInt8 := [180, 0, 12, 180, 0, 65, 43, 180, 0, 65, 100, 167, 0, 12, 42, 180, 0, 12, 180, 0, 68, 28, 46, 133]
abbrev dktX5_sum_3 : List UInt8 := dkwX5_sum_3 ++ dktX5_sum_4
def dkwX5_sum_2 : List UInt8 := [180, 0, 12, 43, 21, 5, 182, 0, 62, 87, 33, 43, 21, 5, 184, 0, 58, 28, 156, 0, 18, 42]
abbrev dktX5_sum_2 : List UInt8 := dkwX5_sum_2 ++ dktX5_sum_3
def dkwX5_sum_1 : List UInt8 := [180, 0, 55, 2, 130, 126, 154, 0, 67, 43, 21, 5, 184, 0, 58, 9, 148, 154, 0, 6, 167, 0, 53, 42]
abbrev dktX5_sum_1 : List UInt8 := dkwX5_sum_1 ++ dktX5_sum_2
def dkwX5_sum_0 : List UInt8 := [42, 43, 182, 0, 51, 9, 66, 3, 54, 5, 21, 5, 43, 180, 0, 55, 163, 0, 85, 21, 5, 43]
abbrev dktX5_sum_0 : List UInt8 := dkwX5_sum_0 ++ dktX5_sum_1
theorem dksX5_sum_0 : cX5_sum.data.toList.drop 0 = dktX5_sum_0 := by decide +kernel
theorem dksX5_sum_1 : cX5_sum.data.toList.drop 22 = dktX5_sum_1 := dk_seg dksX5_sum_0 22 rfl rfl
theorem dksX5_sum_2 : cX5_sum.data.toList.drop 46 = dktX5_sum_2 := dk_seg dksX5_sum_1 24 rfl rfl
theorem dksX5_sum_3 : cX5_sum.data.toList.drop 68 = dktX5_sum_3 := dk_seg dksX5_sum_2 22 rfl rfl
theorem dksX5_sum_4 : cX5_sum.data.toList.drop 92 = dktX5_sum_4 := dk_seg dksX5_sum_3 24 rfl rfl
theorem dX5_sum_0 : decode cX5_sum 0 = .ok (.aload_n 0, 1) := dk_42 (dk_at dksX5_sum_0 0 rfl rfl)
theorem dX5_sum_1 : decode cX5_sum 1 = .ok (.aload_n 1, 1) := dk_43 (dk_at dksX5_sum_0 1 rfl rfl)
theorem dX5_sum_2 : decode cX5_sum 2 = .ok (.invokevirtual 51, 3) := dk_182 0 51 (dk_at dksX5_sum_0 2 rfl rfl)
theorem dX5_sum_5 : decode cX5_sum 5 = .ok (.lconst 0, 1) := dk_9 (dk_at dksX5_sum_0 5 rfl rfl)
theorem dX5_sum_6 : decode cX5_sum 6 = .ok (.lstore_n 3, 1) := dk_66 (dk_at dksX5_sum_0 6 rfl rfl)
theorem dX5_sum_7 : decode cX5_sum 7 = .ok (.iconst 0, 1) := dk_3 (dk_at dksX5_sum_0 7 rfl rfl)
theorem dX5_sum_8 : decode cX5_sum 8 = .ok (.istore 5, 2) := dk_54 5 (dk_at dksX5_sum_0 8 rfl rfl)
theorem dX5_sum_10 : decode cX5_sum 10 = .ok (.iload 5, 2) := dk_21 5 (dk_at dksX5_sum_0 10 rfl rfl)
theorem dX5_sum_12 : decode cX5_sum 12 = .ok (.aload_n 1, 1) := dk_43 (dk_at dksX5_sum_0 12 rfl rfl)
theorem dX5_sum_13 : decode cX5_sum 13 = .ok (.getfield 55, 3) := dk_180 0 55 (dk_at dksX5_sum_0 13 rfl rfl)
theorem dX5_sum_16 : decode cX5_sum 16 = .ok (.if_icmp .gt 85, 3) := dk_163 0 85 (dk_at dksX5_sum_0 16 rfl rfl)
theorem dX5_sum_19 : decode cX5_sum 19 = .ok (.iload 5, 2) := dk_21 5 (dk_at dksX5_sum_0 19 rfl rfl)
theorem dX5_sum_21 : decode cX5_sum 21 = .ok (.aload_n 1, 1) := dk_43 (dk_at dksX5_sum_0 21 rfl rfl)
theorem dX5_sum_22 : decode cX5_sum 22 = .ok (.getfield 55, 3) := dk_180 0 55 (dk_at dksX5_sum_1 0 rfl rfl)
theorem dX5_sum_25 : decode cX5_sum 25 = .ok (.iconst (-1), 1) := dk_2 (dk_at dksX5_sum_1 3 rfl rfl)
theorem dX5_sum_26 : decode cX5_sum 26 = .ok (.ixor, 1) := dk_130 (dk_at dksX5_sum_1 4 rfl rfl)
theorem dX5_sum_27 : decode cX5_sum 27 = .ok (.iand, 1) := dk_126 (dk_at dksX5_sum_1 5 rfl rfl)
theorem dX5_sum_28 : decode cX5_sum 28 = .ok (.ifCond .ne 67, 3) := dk_154 0 67 (dk_at dksX5_sum_1 6 rfl rfl)
theorem dX5_sum_31 : decode cX5_sum 31 = .ok (.aload_n 1, 1) := dk_43 (dk_at dksX5_sum_1 9 rfl rfl)
theorem dX5_sum_32 : decode cX5_sum 32 = .ok (.iload 5, 2) := dk_21 5 (dk_at dksX5_sum_1 10 rfl rfl)
theorem dX5_sum_34 : decode cX5_sum 34 = .ok (.invokestatic 58, 3) := dk_184 0 58 (dk_at dksX5_sum_1 12 rfl rfl)
theorem dX5_sum_37 : decode cX5_sum 37 = .ok (.lconst 0, 1) := dk_9 (dk_at dksX5_sum_1 15 rfl rfl)
theorem dX5_sum_38 : decode cX5_sum 38 = .ok (.lcmp, 1) := dk_148 (dk_at dksX5_sum_1 16 rfl rfl)
theorem dX5_sum_39 : decode cX5_sum 39 = .ok (.ifCond .ne 6, 3) := dk_154 0 6 (dk_at dksX5_sum_1 17 rfl rfl)
theorem dX5_sum_42 : decode cX5_sum 42 = .ok (.goto 53, 3) := dk_167 0 53 (dk_at dksX5_sum_1 20 rfl rfl)
theorem dX5_sum_45 : decode cX5_sum 45 = .ok (.aload_n 0, 1) := dk_42 (dk_at dksX5_sum_1 23 rfl rfl)
theorem dX5_sum_46 : decode cX5_sum 46 = .ok (.getfield 12, 3) := dk_180 0 12 (dk_at dksX5_sum_2 0 rfl rfl)
theorem dX5_sum_49 : decode cX5_sum 49 = .ok (.aload_n 1, 1) := dk_43 (dk_at dksX5_sum_2 3 rfl rfl)
theorem dX5_sum_50 : decode cX5_sum 50 = .ok (.iload 5, 2) := dk_21 5 (dk_at dksX5_sum_2 4 rfl rfl)
theorem dX5_sum_52 : decode cX5_sum 52 = .ok (.invokevirtual 62, 3) := dk_182 0 62 (dk_at dksX5_sum_2 6 rfl rfl)
theorem dX5_sum_55 : decode cX5_sum 55 = .ok (.pop, 1) := dk_87 (dk_at dksX5_sum_2 9 rfl rfl)
theorem dX5_sum_56 : decode cX5_sum 56 = .ok (.lload_n 3, 1) := dk_33 (dk_at dksX5_sum_2 10 rfl rfl)
theorem dX5_sum_57 : decode cX5_sum 57 = .ok (.aload_n 1, 1) := dk_43 (dk_at dksX5_sum_2 11 rfl rfl)
theorem dX5_sum_58 : decode cX5_sum 58 = .ok (.iload 5, 2) := dk_21 5 (dk_at dksX5_sum_2 12 rfl rfl)
theorem dX5_sum_60 : decode cX5_sum 60 = .ok (.invokestatic 58, 3) := dk_184 0 58 (dk_at dksX5_sum_2 14 rfl rfl)
theorem dX5_sum_63 : decode cX5_sum 63 = .ok (.iload_n 2, 1) := dk_28 (dk_at dksX5_sum_2 17 rfl rfl)
theorem dX5_sum_64 : decode cX5_sum 64 = .ok (.ifCond .ge 18, 3) := dk_156 0 18 (dk_at dksX5_sum_2 18 rfl rfl)
theorem dX5_sum_67 : decode cX5_sum 67 = .ok (.aload_n 0, 1) := dk_42 (dk_at dksX5_sum_2 21 rfl rfl)
theorem dX5_sum_68 : decode cX5_sum 68 = .ok (.getfield 12, 3) := dk_180 0 12 (dk_at dksX5_sum_3 0 rfl rfl)
theorem dX5_sum_71 : decode cX5_sum 71 = .ok (.getfield 65, 3) := dk_180 0 65 (dk_at dksX5_sum_3 3 rfl rfl)
theorem dX5_sum_74 : decode cX5_sum 74 = .ok (.aload_n 1, 1) := dk_43 (dk_at dksX5_sum_3 6 rfl rfl)
theorem dX5_sum_75 : decode cX5_sum 75 = .ok (.getfield 65, 3) := dk_180 0 65 (dk_at dksX5_sum_3 7 rfl rfl)
theorem dX5_sum_78 : decode cX5_sum 78 = .ok (.isub, 1) := dk_100 (dk_at dksX5_sum_3 10 rfl rfl)
theorem dX5_sum_79 : decode cX5_sum 79 = .ok (.goto 12, 3) := dk_167 0 12 (dk_at dksX5_sum_3 11 rfl rfl)
theorem dX5_sum_82 : decode cX5_sum 82 = .ok (.aload_n 0, 1) := dk_42 (dk_at dksX5_sum_3 14 rfl rfl)
theorem dX5_sum_83 : decode cX5_sum 83 = .ok (.getfield 12, 3) := dk_180 0 12 (dk_at dksX5_sum_3 15 rfl rfl)
theorem dX5_sum_86 : decode cX5_sum 86 = .ok (.getfield 68, 3) := dk_180 0 68 (dk_at dksX5_sum_3 18 rfl rfl)
theorem dX5_sum_89 : decode cX5_sum 89 = .ok (.iload_n 2, 1) := dk_28 (dk_at dksX5_sum_3 21 rfl rfl)
theorem dX5_sum_90 : decode cX5_sum 90 = .ok (.iaload, 1) := dk_46 (dk_at dksX5_sum_3 22 rfl rfl)
theorem dX5_sum_91 : decode cX5_sum 91 = .ok (.i2l, 1) := dk_133 (dk_at dksX5_sum_3 23 rfl rfl)
theorem dX5_sum_92 : decode cX5_sum 92 = .ok (.lmul, 1) := dk_105 (dk_at dksX5_sum_4 0 rfl rfl)
theorem dX5_sum_93 : decode cX5_sum 93 = .ok (.ladd, 1) := dk_97 (dk_at dksX5_sum_4 1 rfl rfl)
theorem dX5_sum_94 : decode cX5_sum 94 = .ok (.lstore_n 3, 1) := dk_66 (dk_at dksX5_sum_4 2 rfl rfl)
theorem dX5_sum_95 : decode cX5_sum 95 = .ok (.iinc 5 1, 3) := dk_132 5 1 (dk_at dksX5_sum_4 3 rfl rfl)
theorem dX5_sum_98 : decode cX5_sum 98 = .ok (.goto (-88), 3) := dk_167 255 168 (dk_at dksX5_sum_4 6 rfl rfl)
theorem dX5_sum_101 : decode cX5_sum 101 = .ok (.lload_n 3, 1) := dk_33 (dk_at dksX5_sum_4 9 rfl rfl)
theorem dX5_sum_102 : decode cX5_sum 102 = .ok (.lreturn, 1) := dk_173 (dk_at dksX5_sum_4 10 rfl rfl)
abbrev cX5_lay : ByteArray := prog_5_method_3_code
def yX5_lay : MethodName := ⟨RX5, "lay", "(LLastAsked$Town;)V"⟩
def dkwX5_lay_2 : List UInt8 := [177]
abbrev dktX5_lay_2 : List UInt8 := dkwX5_lay_2 ++ []
def dkwX5_lay_1 : List UInt8 := [28, 182, 0, 28, 153, 0, 9, 20, 0, 49, 167, 0, 4, 10, 105, 181, 0, 45, 132, 2, 1, 167, 255, 218]
abbrev dktX5_lay_1 : List UInt8 := dkwX5_lay_1 ++ dktX5_lay_2
def dkwX5_lay_0 : List UInt8 := [42, 10, 181, 0, 45, 3, 61, 28, 43, 180, 0, 18, 180, 0, 22, 162, 0, 33, 42, 89, 180, 0, 45, 43]
abbrev dktX5_lay_0 : List UInt8 := dkwX5_lay_0 ++ dktX5_lay_1
theorem dksX5_lay_0 : cX5_lay.data.toList.drop 0 = dktX5_lay_0 := by decide +kernel
theorem dksX5_lay_1 : cX5_lay.data.toList.drop 24 = dktX5_lay_1 := dk_seg dksX5_lay_0 24 rfl rfl
theorem dksX5_lay_2 : cX5_lay.data.toList.drop 48 = dktX5_lay_2 := dk_seg dksX5_lay_1 24 rfl rfl
theorem dX5_lay_0 : decode cX5_lay 0 = .ok (.aload_n 0, 1) := dk_42 (dk_at dksX5_lay_0 0 rfl rfl)
theorem dX5_lay_1 : decode cX5_lay 1 = .ok (.lconst 1, 1) := dk_10 (dk_at dksX5_lay_0 1 rfl rfl)
theorem dX5_lay_2 : decode cX5_lay 2 = .ok (.putfield 45, 3) := dk_181 0 45 (dk_at dksX5_lay_0 2 rfl rfl)
theorem dX5_lay_5 : decode cX5_lay 5 = .ok (.iconst 0, 1) := dk_3 (dk_at dksX5_lay_0 5 rfl rfl)
theorem dX5_lay_6 : decode cX5_lay 6 = .ok (.istore_n 2, 1) := dk_61 (dk_at dksX5_lay_0 6 rfl rfl)
theorem dX5_lay_7 : decode cX5_lay 7 = .ok (.iload_n 2, 1) := dk_28 (dk_at dksX5_lay_0 7 rfl rfl)
theorem dX5_lay_8 : decode cX5_lay 8 = .ok (.aload_n 1, 1) := dk_43 (dk_at dksX5_lay_0 8 rfl rfl)
theorem dX5_lay_9 : decode cX5_lay 9 = .ok (.getfield 18, 3) := dk_180 0 18 (dk_at dksX5_lay_0 9 rfl rfl)
theorem dX5_lay_12 : decode cX5_lay 12 = .ok (.getfield 22, 3) := dk_180 0 22 (dk_at dksX5_lay_0 12 rfl rfl)
theorem dX5_lay_15 : decode cX5_lay 15 = .ok (.if_icmp .ge 33, 3) := dk_162 0 33 (dk_at dksX5_lay_0 15 rfl rfl)
theorem dX5_lay_18 : decode cX5_lay 18 = .ok (.aload_n 0, 1) := dk_42 (dk_at dksX5_lay_0 18 rfl rfl)
theorem dX5_lay_19 : decode cX5_lay 19 = .ok (.dup, 1) := dk_89 (dk_at dksX5_lay_0 19 rfl rfl)
theorem dX5_lay_20 : decode cX5_lay 20 = .ok (.getfield 45, 3) := dk_180 0 45 (dk_at dksX5_lay_0 20 rfl rfl)
theorem dX5_lay_23 : decode cX5_lay 23 = .ok (.aload_n 1, 1) := dk_43 (dk_at dksX5_lay_0 23 rfl rfl)
theorem dX5_lay_24 : decode cX5_lay 24 = .ok (.iload_n 2, 1) := dk_28 (dk_at dksX5_lay_1 0 rfl rfl)
theorem dX5_lay_25 : decode cX5_lay 25 = .ok (.invokevirtual 28, 3) := dk_182 0 28 (dk_at dksX5_lay_1 1 rfl rfl)
theorem dX5_lay_28 : decode cX5_lay 28 = .ok (.ifCond .eq 9, 3) := dk_153 0 9 (dk_at dksX5_lay_1 4 rfl rfl)
theorem dX5_lay_31 : decode cX5_lay 31 = .ok (.ldc2_w 49, 3) := dk_20 0 49 (dk_at dksX5_lay_1 7 rfl rfl)
theorem dX5_lay_34 : decode cX5_lay 34 = .ok (.goto 4, 3) := dk_167 0 4 (dk_at dksX5_lay_1 10 rfl rfl)
theorem dX5_lay_37 : decode cX5_lay 37 = .ok (.lconst 1, 1) := dk_10 (dk_at dksX5_lay_1 13 rfl rfl)
theorem dX5_lay_38 : decode cX5_lay 38 = .ok (.lmul, 1) := dk_105 (dk_at dksX5_lay_1 14 rfl rfl)
theorem dX5_lay_39 : decode cX5_lay 39 = .ok (.putfield 45, 3) := dk_181 0 45 (dk_at dksX5_lay_1 15 rfl rfl)
theorem dX5_lay_42 : decode cX5_lay 42 = .ok (.iinc 2 1, 3) := dk_132 2 1 (dk_at dksX5_lay_1 18 rfl rfl)
theorem dX5_lay_45 : decode cX5_lay 45 = .ok (.goto (-38), 3) := dk_167 255 218 (dk_at dksX5_lay_1 21 rfl rfl)
theorem dX5_lay_48 : decode cX5_lay 48 = .ok (.return_, 1) := dk_177 (dk_at dksX5_lay_2 0 rfl rfl)
abbrev cX5_weight : ByteArray := prog_5_method_2_code
def yX5_weight : MethodName := ⟨RX5, "weight", "(LLastAsked$Town;I)J"⟩
def dkwX5_weight_3 : List UInt8 := [105, 65, 132, 4, 1, 167, 255, 186, 32, 173]
abbrev dktX5_weight_3 : List UInt8 := dkwX5_weight_3 ++ []
def dkwX5_weight_2 : List UInt8 := [180, 0, 40, 133, 167, 0, 20, 16, 100, 42, 180, 0, 18, 180, 0, 36, 21, 4, 50, 180, 0, 40, 100, 133]
abbrev dktX5_weight_2 : List UInt8 := dkwX5_weight_2 ++ dktX5_weight_3
def dkwX5_weight_1 : List UInt8 := [153, 0, 49, 32, 27, 21, 4, 184, 0, 32, 153, 0, 20, 42, 180, 0, 18, 180, 0, 36, 21, 4, 50]
abbrev dktX5_weight_1 : List UInt8 := dkwX5_weight_1 ++ dktX5_weight_2
def dkwX5_weight_0 : List UInt8 := [10, 65, 3, 54, 4, 21, 4, 42, 180, 0, 18, 180, 0, 22, 162, 0, 64, 42, 21, 4, 182, 0, 28]
abbrev dktX5_weight_0 : List UInt8 := dkwX5_weight_0 ++ dktX5_weight_1
theorem dksX5_weight_0 : cX5_weight.data.toList.drop 0 = dktX5_weight_0 := by decide +kernel
theorem dksX5_weight_1 : cX5_weight.data.toList.drop 23 = dktX5_weight_1 := dk_seg dksX5_weight_0 23 rfl rfl
theorem dksX5_weight_2 : cX5_weight.data.toList.drop 46 = dktX5_weight_2 := dk_seg dksX5_weight_1 23 rfl rfl
theorem dksX5_weight_3 : cX5_weight.data.toList.drop 70 = dktX5_weight_3 := dk_seg dksX5_weight_2 24 rfl rfl
theorem dX5_weight_0 : decode cX5_weight 0 = .ok (.lconst 1, 1) := dk_10 (dk_at dksX5_weight_0 0 rfl rfl)
theorem dX5_weight_1 : decode cX5_weight 1 = .ok (.lstore_n 2, 1) := dk_65 (dk_at dksX5_weight_0 1 rfl rfl)
theorem dX5_weight_2 : decode cX5_weight 2 = .ok (.iconst 0, 1) := dk_3 (dk_at dksX5_weight_0 2 rfl rfl)
theorem dX5_weight_3 : decode cX5_weight 3 = .ok (.istore 4, 2) := dk_54 4 (dk_at dksX5_weight_0 3 rfl rfl)
theorem dX5_weight_5 : decode cX5_weight 5 = .ok (.iload 4, 2) := dk_21 4 (dk_at dksX5_weight_0 5 rfl rfl)
theorem dX5_weight_7 : decode cX5_weight 7 = .ok (.aload_n 0, 1) := dk_42 (dk_at dksX5_weight_0 7 rfl rfl)
theorem dX5_weight_8 : decode cX5_weight 8 = .ok (.getfield 18, 3) := dk_180 0 18 (dk_at dksX5_weight_0 8 rfl rfl)
theorem dX5_weight_11 : decode cX5_weight 11 = .ok (.getfield 22, 3) := dk_180 0 22 (dk_at dksX5_weight_0 11 rfl rfl)
theorem dX5_weight_14 : decode cX5_weight 14 = .ok (.if_icmp .ge 64, 3) := dk_162 0 64 (dk_at dksX5_weight_0 14 rfl rfl)
theorem dX5_weight_17 : decode cX5_weight 17 = .ok (.aload_n 0, 1) := dk_42 (dk_at dksX5_weight_0 17 rfl rfl)
theorem dX5_weight_18 : decode cX5_weight 18 = .ok (.iload 4, 2) := dk_21 4 (dk_at dksX5_weight_0 18 rfl rfl)
theorem dX5_weight_20 : decode cX5_weight 20 = .ok (.invokevirtual 28, 3) := dk_182 0 28 (dk_at dksX5_weight_0 20 rfl rfl)
theorem dX5_weight_23 : decode cX5_weight 23 = .ok (.ifCond .eq 49, 3) := dk_153 0 49 (dk_at dksX5_weight_1 0 rfl rfl)
theorem dX5_weight_26 : decode cX5_weight 26 = .ok (.lload_n 2, 1) := dk_32 (dk_at dksX5_weight_1 3 rfl rfl)
theorem dX5_weight_27 : decode cX5_weight 27 = .ok (.iload_n 1, 1) := dk_27 (dk_at dksX5_weight_1 4 rfl rfl)
theorem dX5_weight_28 : decode cX5_weight 28 = .ok (.iload 4, 2) := dk_21 4 (dk_at dksX5_weight_1 5 rfl rfl)
theorem dX5_weight_30 : decode cX5_weight 30 = .ok (.invokestatic 32, 3) := dk_184 0 32 (dk_at dksX5_weight_1 7 rfl rfl)
theorem dX5_weight_33 : decode cX5_weight 33 = .ok (.ifCond .eq 20, 3) := dk_153 0 20 (dk_at dksX5_weight_1 10 rfl rfl)
theorem dX5_weight_36 : decode cX5_weight 36 = .ok (.aload_n 0, 1) := dk_42 (dk_at dksX5_weight_1 13 rfl rfl)
theorem dX5_weight_37 : decode cX5_weight 37 = .ok (.getfield 18, 3) := dk_180 0 18 (dk_at dksX5_weight_1 14 rfl rfl)
theorem dX5_weight_40 : decode cX5_weight 40 = .ok (.getfield 36, 3) := dk_180 0 36 (dk_at dksX5_weight_1 17 rfl rfl)
theorem dX5_weight_43 : decode cX5_weight 43 = .ok (.iload 4, 2) := dk_21 4 (dk_at dksX5_weight_1 20 rfl rfl)
theorem dX5_weight_45 : decode cX5_weight 45 = .ok (.aaload, 1) := dk_50 (dk_at dksX5_weight_1 22 rfl rfl)
theorem dX5_weight_46 : decode cX5_weight 46 = .ok (.getfield 40, 3) := dk_180 0 40 (dk_at dksX5_weight_2 0 rfl rfl)
theorem dX5_weight_49 : decode cX5_weight 49 = .ok (.i2l, 1) := dk_133 (dk_at dksX5_weight_2 3 rfl rfl)
theorem dX5_weight_50 : decode cX5_weight 50 = .ok (.goto 20, 3) := dk_167 0 20 (dk_at dksX5_weight_2 4 rfl rfl)
theorem dX5_weight_53 : decode cX5_weight 53 = .ok (.bipush 100, 2) := dk_16 100 (dk_at dksX5_weight_2 7 rfl rfl)
theorem dX5_weight_55 : decode cX5_weight 55 = .ok (.aload_n 0, 1) := dk_42 (dk_at dksX5_weight_2 9 rfl rfl)
theorem dX5_weight_56 : decode cX5_weight 56 = .ok (.getfield 18, 3) := dk_180 0 18 (dk_at dksX5_weight_2 10 rfl rfl)
theorem dX5_weight_59 : decode cX5_weight 59 = .ok (.getfield 36, 3) := dk_180 0 36 (dk_at dksX5_weight_2 13 rfl rfl)
theorem dX5_weight_62 : decode cX5_weight 62 = .ok (.iload 4, 2) := dk_21 4 (dk_at dksX5_weight_2 16 rfl rfl)
theorem dX5_weight_64 : decode cX5_weight 64 = .ok (.aaload, 1) := dk_50 (dk_at dksX5_weight_2 18 rfl rfl)
theorem dX5_weight_65 : decode cX5_weight 65 = .ok (.getfield 40, 3) := dk_180 0 40 (dk_at dksX5_weight_2 19 rfl rfl)
theorem dX5_weight_68 : decode cX5_weight 68 = .ok (.isub, 1) := dk_100 (dk_at dksX5_weight_2 22 rfl rfl)
theorem dX5_weight_69 : decode cX5_weight 69 = .ok (.i2l, 1) := dk_133 (dk_at dksX5_weight_2 23 rfl rfl)
theorem dX5_weight_70 : decode cX5_weight 70 = .ok (.lmul, 1) := dk_105 (dk_at dksX5_weight_3 0 rfl rfl)
theorem dX5_weight_71 : decode cX5_weight 71 = .ok (.lstore_n 2, 1) := dk_65 (dk_at dksX5_weight_3 1 rfl rfl)
theorem dX5_weight_72 : decode cX5_weight 72 = .ok (.iinc 4 1, 3) := dk_132 4 1 (dk_at dksX5_weight_3 2 rfl rfl)
theorem dX5_weight_75 : decode cX5_weight 75 = .ok (.goto (-70), 3) := dk_167 255 186 (dk_at dksX5_weight_3 5 rfl rfl)
theorem dX5_weight_78 : decode cX5_weight 78 = .ok (.lload_n 2, 1) := dk_32 (dk_at dksX5_weight_3 8 rfl rfl)
theorem dX5_weight_79 : decode cX5_weight 79 = .ok (.lreturn, 1) := dk_173 (dk_at dksX5_weight_3 9 rfl rfl)
abbrev cX5_atLeast : ByteArray := prog_5_method_5_code
def yX5_atLeast : MethodName := ⟨RX5, "atLeast", "(LLastAsked$Town;II)J"⟩
def dkwX5_atLeast_2 : List UInt8 := [29, 161, 0, 14, 22, 4, 43, 21, 6, 184, 0, 58, 97, 55, 4, 132, 6, 1, 167, 255, 202, 22, 4, 173]
abbrev dktX5_atLeast_2 : List UInt8 := dkwX5_atLeast_2 ++ []
def dkwX5_atLeast_1 : List UInt8 := [180, 0, 55, 2, 130, 126, 154, 0, 33, 42, 180, 0, 12, 43, 21, 6, 182, 0, 62, 180, 0, 68, 28, 46]
abbrev dktX5_atLeast_1 : List UInt8 := dkwX5_atLeast_1 ++ dktX5_atLeast_2
def dkwX5_atLeast_0 : List UInt8 := [42, 43, 182, 0, 51, 9, 55, 4, 3, 54, 6, 21, 6, 43, 180, 0, 55, 163, 0, 51, 21, 6, 43]
abbrev dktX5_atLeast_0 : List UInt8 := dkwX5_atLeast_0 ++ dktX5_atLeast_1
theorem dksX5_atLeast_0 : cX5_atLeast.data.toList.drop 0 = dktX5_atLeast_0 := by decide +kernel
theorem dksX5_atLeast_1 : cX5_atLeast.data.toList.drop 23 = dktX5_atLeast_1 := dk_seg dksX5_atLeast_0 23 rfl rfl
theorem dksX5_atLeast_2 : cX5_atLeast.data.toList.drop 47 = dktX5_atLeast_2 := dk_seg dksX5_atLeast_1 24 rfl rfl
theorem dX5_atLeast_0 : decode cX5_atLeast 0 = .ok (.aload_n 0, 1) := dk_42 (dk_at dksX5_atLeast_0 0 rfl rfl)
theorem dX5_atLeast_1 : decode cX5_atLeast 1 = .ok (.aload_n 1, 1) := dk_43 (dk_at dksX5_atLeast_0 1 rfl rfl)
theorem dX5_atLeast_2 : decode cX5_atLeast 2 = .ok (.invokevirtual 51, 3) := dk_182 0 51 (dk_at dksX5_atLeast_0 2 rfl rfl)
theorem dX5_atLeast_5 : decode cX5_atLeast 5 = .ok (.lconst 0, 1) := dk_9 (dk_at dksX5_atLeast_0 5 rfl rfl)
theorem dX5_atLeast_6 : decode cX5_atLeast 6 = .ok (.lstore 4, 2) := dk_55 4 (dk_at dksX5_atLeast_0 6 rfl rfl)
theorem dX5_atLeast_8 : decode cX5_atLeast 8 = .ok (.iconst 0, 1) := dk_3 (dk_at dksX5_atLeast_0 8 rfl rfl)
theorem dX5_atLeast_9 : decode cX5_atLeast 9 = .ok (.istore 6, 2) := dk_54 6 (dk_at dksX5_atLeast_0 9 rfl rfl)
theorem dX5_atLeast_11 : decode cX5_atLeast 11 = .ok (.iload 6, 2) := dk_21 6 (dk_at dksX5_atLeast_0 11 rfl rfl)
theorem dX5_atLeast_13 : decode cX5_atLeast 13 = .ok (.aload_n 1, 1) := dk_43 (dk_at dksX5_atLeast_0 13 rfl rfl)
theorem dX5_atLeast_14 : decode cX5_atLeast 14 = .ok (.getfield 55, 3) := dk_180 0 55 (dk_at dksX5_atLeast_0 14 rfl rfl)
theorem dX5_atLeast_17 : decode cX5_atLeast 17 = .ok (.if_icmp .gt 51, 3) := dk_163 0 51 (dk_at dksX5_atLeast_0 17 rfl rfl)
theorem dX5_atLeast_20 : decode cX5_atLeast 20 = .ok (.iload 6, 2) := dk_21 6 (dk_at dksX5_atLeast_0 20 rfl rfl)
theorem dX5_atLeast_22 : decode cX5_atLeast 22 = .ok (.aload_n 1, 1) := dk_43 (dk_at dksX5_atLeast_0 22 rfl rfl)
theorem dX5_atLeast_23 : decode cX5_atLeast 23 = .ok (.getfield 55, 3) := dk_180 0 55 (dk_at dksX5_atLeast_1 0 rfl rfl)
theorem dX5_atLeast_26 : decode cX5_atLeast 26 = .ok (.iconst (-1), 1) := dk_2 (dk_at dksX5_atLeast_1 3 rfl rfl)
theorem dX5_atLeast_27 : decode cX5_atLeast 27 = .ok (.ixor, 1) := dk_130 (dk_at dksX5_atLeast_1 4 rfl rfl)
theorem dX5_atLeast_28 : decode cX5_atLeast 28 = .ok (.iand, 1) := dk_126 (dk_at dksX5_atLeast_1 5 rfl rfl)
theorem dX5_atLeast_29 : decode cX5_atLeast 29 = .ok (.ifCond .ne 33, 3) := dk_154 0 33 (dk_at dksX5_atLeast_1 6 rfl rfl)
theorem dX5_atLeast_32 : decode cX5_atLeast 32 = .ok (.aload_n 0, 1) := dk_42 (dk_at dksX5_atLeast_1 9 rfl rfl)
theorem dX5_atLeast_33 : decode cX5_atLeast 33 = .ok (.getfield 12, 3) := dk_180 0 12 (dk_at dksX5_atLeast_1 10 rfl rfl)
theorem dX5_atLeast_36 : decode cX5_atLeast 36 = .ok (.aload_n 1, 1) := dk_43 (dk_at dksX5_atLeast_1 13 rfl rfl)
theorem dX5_atLeast_37 : decode cX5_atLeast 37 = .ok (.iload 6, 2) := dk_21 6 (dk_at dksX5_atLeast_1 14 rfl rfl)
theorem dX5_atLeast_39 : decode cX5_atLeast 39 = .ok (.invokevirtual 62, 3) := dk_182 0 62 (dk_at dksX5_atLeast_1 16 rfl rfl)
theorem dX5_atLeast_42 : decode cX5_atLeast 42 = .ok (.getfield 68, 3) := dk_180 0 68 (dk_at dksX5_atLeast_1 19 rfl rfl)
theorem dX5_atLeast_45 : decode cX5_atLeast 45 = .ok (.iload_n 2, 1) := dk_28 (dk_at dksX5_atLeast_1 22 rfl rfl)
theorem dX5_atLeast_46 : decode cX5_atLeast 46 = .ok (.iaload, 1) := dk_46 (dk_at dksX5_atLeast_1 23 rfl rfl)
theorem dX5_atLeast_47 : decode cX5_atLeast 47 = .ok (.iload_n 3, 1) := dk_29 (dk_at dksX5_atLeast_2 0 rfl rfl)
theorem dX5_atLeast_48 : decode cX5_atLeast 48 = .ok (.if_icmp .lt 14, 3) := dk_161 0 14 (dk_at dksX5_atLeast_2 1 rfl rfl)
theorem dX5_atLeast_51 : decode cX5_atLeast 51 = .ok (.lload 4, 2) := dk_22 4 (dk_at dksX5_atLeast_2 4 rfl rfl)
theorem dX5_atLeast_53 : decode cX5_atLeast 53 = .ok (.aload_n 1, 1) := dk_43 (dk_at dksX5_atLeast_2 6 rfl rfl)
theorem dX5_atLeast_54 : decode cX5_atLeast 54 = .ok (.iload 6, 2) := dk_21 6 (dk_at dksX5_atLeast_2 7 rfl rfl)
theorem dX5_atLeast_56 : decode cX5_atLeast 56 = .ok (.invokestatic 58, 3) := dk_184 0 58 (dk_at dksX5_atLeast_2 9 rfl rfl)
theorem dX5_atLeast_59 : decode cX5_atLeast 59 = .ok (.ladd, 1) := dk_97 (dk_at dksX5_atLeast_2 12 rfl rfl)
theorem dX5_atLeast_60 : decode cX5_atLeast 60 = .ok (.lstore 4, 2) := dk_55 4 (dk_at dksX5_atLeast_2 13 rfl rfl)
theorem dX5_atLeast_62 : decode cX5_atLeast 62 = .ok (.iinc 6 1, 3) := dk_132 6 1 (dk_at dksX5_atLeast_2 15 rfl rfl)
theorem dX5_atLeast_65 : decode cX5_atLeast 65 = .ok (.goto (-54), 3) := dk_167 255 202 (dk_at dksX5_atLeast_2 18 rfl rfl)
theorem dX5_atLeast_68 : decode cX5_atLeast 68 = .ok (.lload 4, 2) := dk_22 4 (dk_at dksX5_atLeast_2 21 rfl rfl)
theorem dX5_atLeast_70 : decode cX5_atLeast 70 = .ok (.lreturn, 1) := dk_173 (dk_at dksX5_atLeast_2 23 rfl rfl)
abbrev cX5_passing : ByteArray := prog_5_method_6_code
def yX5_passing : MethodName := ⟨RX5, "passing", "(LLastAsked$Town;II)J"⟩
def dkwX5_passing_3 : List UInt8 := [22, 4, 173]
abbrev dktX5_passing_3 : List UInt8 := dkwX5_passing_3 ++ []
def dkwX5_passing_2 : List UInt8 := [182, 0, 71, 29, 160, 0, 14, 22, 4, 43, 21, 6, 184, 0, 58, 97, 55, 4, 132, 6, 1, 167, 255, 201]
abbrev dktX5_passing_2 : List UInt8 := dkwX5_passing_2 ++ dktX5_passing_3
def dkwX5_passing_1 : List UInt8 := [180, 0, 55, 2, 130, 126, 154, 0, 34, 21, 6, 28, 184, 0, 32, 153, 0, 25, 43, 28, 21, 6]
abbrev dktX5_passing_1 : List UInt8 := dkwX5_passing_1 ++ dktX5_passing_2
def dkwX5_passing_0 : List UInt8 := [42, 43, 182, 0, 51, 9, 55, 4, 3, 54, 6, 21, 6, 43, 180, 0, 55, 163, 0, 52, 21, 6, 43]
abbrev dktX5_passing_0 : List UInt8 := dkwX5_passing_0 ++ dktX5_passing_1
theorem dksX5_passing_0 : cX5_passing.data.toList.drop 0 = dktX5_passing_0 := by decide +kernel
theorem dksX5_passing_1 : cX5_passing.data.toList.drop 23 = dktX5_passing_1 := dk_seg dksX5_passing_0 23 rfl rfl
theorem dksX5_passing_2 : cX5_passing.data.toList.drop 45 = dktX5_passing_2 := dk_seg dksX5_passing_1 22 rfl rfl
theorem dksX5_passing_3 : cX5_passing.data.toList.drop 69 = dktX5_passing_3 := dk_seg dksX5_passing_2 24 rfl rfl
theorem dX5_passing_0 : decode cX5_passing 0 = .ok (.aload_n 0, 1) := dk_42 (dk_at dksX5_passing_0 0 rfl rfl)
theorem dX5_passing_1 : decode cX5_passing 1 = .ok (.aload_n 1, 1) := dk_43 (dk_at dksX5_passing_0 1 rfl rfl)
theorem dX5_passing_2 : decode cX5_passing 2 = .ok (.invokevirtual 51, 3) := dk_182 0 51 (dk_at dksX5_passing_0 2 rfl rfl)
theorem dX5_passing_5 : decode cX5_passing 5 = .ok (.lconst 0, 1) := dk_9 (dk_at dksX5_passing_0 5 rfl rfl)
theorem dX5_passing_6 : decode cX5_passing 6 = .ok (.lstore 4, 2) := dk_55 4 (dk_at dksX5_passing_0 6 rfl rfl)
theorem dX5_passing_8 : decode cX5_passing 8 = .ok (.iconst 0, 1) := dk_3 (dk_at dksX5_passing_0 8 rfl rfl)
theorem dX5_passing_9 : decode cX5_passing 9 = .ok (.istore 6, 2) := dk_54 6 (dk_at dksX5_passing_0 9 rfl rfl)
theorem dX5_passing_11 : decode cX5_passing 11 = .ok (.iload 6, 2) := dk_21 6 (dk_at dksX5_passing_0 11 rfl rfl)
theorem dX5_passing_13 : decode cX5_passing 13 = .ok (.aload_n 1, 1) := dk_43 (dk_at dksX5_passing_0 13 rfl rfl)
theorem dX5_passing_14 : decode cX5_passing 14 = .ok (.getfield 55, 3) := dk_180 0 55 (dk_at dksX5_passing_0 14 rfl rfl)
theorem dX5_passing_17 : decode cX5_passing 17 = .ok (.if_icmp .gt 52, 3) := dk_163 0 52 (dk_at dksX5_passing_0 17 rfl rfl)
theorem dX5_passing_20 : decode cX5_passing 20 = .ok (.iload 6, 2) := dk_21 6 (dk_at dksX5_passing_0 20 rfl rfl)
theorem dX5_passing_22 : decode cX5_passing 22 = .ok (.aload_n 1, 1) := dk_43 (dk_at dksX5_passing_0 22 rfl rfl)
theorem dX5_passing_23 : decode cX5_passing 23 = .ok (.getfield 55, 3) := dk_180 0 55 (dk_at dksX5_passing_1 0 rfl rfl)
theorem dX5_passing_26 : decode cX5_passing 26 = .ok (.iconst (-1), 1) := dk_2 (dk_at dksX5_passing_1 3 rfl rfl)
theorem dX5_passing_27 : decode cX5_passing 27 = .ok (.ixor, 1) := dk_130 (dk_at dksX5_passing_1 4 rfl rfl)
theorem dX5_passing_28 : decode cX5_passing 28 = .ok (.iand, 1) := dk_126 (dk_at dksX5_passing_1 5 rfl rfl)
theorem dX5_passing_29 : decode cX5_passing 29 = .ok (.ifCond .ne 34, 3) := dk_154 0 34 (dk_at dksX5_passing_1 6 rfl rfl)
theorem dX5_passing_32 : decode cX5_passing 32 = .ok (.iload 6, 2) := dk_21 6 (dk_at dksX5_passing_1 9 rfl rfl)
theorem dX5_passing_34 : decode cX5_passing 34 = .ok (.iload_n 2, 1) := dk_28 (dk_at dksX5_passing_1 11 rfl rfl)
theorem dX5_passing_35 : decode cX5_passing 35 = .ok (.invokestatic 32, 3) := dk_184 0 32 (dk_at dksX5_passing_1 12 rfl rfl)
theorem dX5_passing_38 : decode cX5_passing 38 = .ok (.ifCond .eq 25, 3) := dk_153 0 25 (dk_at dksX5_passing_1 15 rfl rfl)
theorem dX5_passing_41 : decode cX5_passing 41 = .ok (.aload_n 1, 1) := dk_43 (dk_at dksX5_passing_1 18 rfl rfl)
theorem dX5_passing_42 : decode cX5_passing 42 = .ok (.iload_n 2, 1) := dk_28 (dk_at dksX5_passing_1 19 rfl rfl)
theorem dX5_passing_43 : decode cX5_passing 43 = .ok (.iload 6, 2) := dk_21 6 (dk_at dksX5_passing_1 20 rfl rfl)
theorem dX5_passing_45 : decode cX5_passing 45 = .ok (.invokevirtual 71, 3) := dk_182 0 71 (dk_at dksX5_passing_2 0 rfl rfl)
theorem dX5_passing_48 : decode cX5_passing 48 = .ok (.iload_n 3, 1) := dk_29 (dk_at dksX5_passing_2 3 rfl rfl)
theorem dX5_passing_49 : decode cX5_passing 49 = .ok (.if_icmp .ne 14, 3) := dk_160 0 14 (dk_at dksX5_passing_2 4 rfl rfl)
theorem dX5_passing_52 : decode cX5_passing 52 = .ok (.lload 4, 2) := dk_22 4 (dk_at dksX5_passing_2 7 rfl rfl)
theorem dX5_passing_54 : decode cX5_passing 54 = .ok (.aload_n 1, 1) := dk_43 (dk_at dksX5_passing_2 9 rfl rfl)
theorem dX5_passing_55 : decode cX5_passing 55 = .ok (.iload 6, 2) := dk_21 6 (dk_at dksX5_passing_2 10 rfl rfl)
theorem dX5_passing_57 : decode cX5_passing 57 = .ok (.invokestatic 58, 3) := dk_184 0 58 (dk_at dksX5_passing_2 12 rfl rfl)
theorem dX5_passing_60 : decode cX5_passing 60 = .ok (.ladd, 1) := dk_97 (dk_at dksX5_passing_2 15 rfl rfl)
theorem dX5_passing_61 : decode cX5_passing 61 = .ok (.lstore 4, 2) := dk_55 4 (dk_at dksX5_passing_2 16 rfl rfl)
theorem dX5_passing_63 : decode cX5_passing 63 = .ok (.iinc 6 1, 3) := dk_132 6 1 (dk_at dksX5_passing_2 18 rfl rfl)
theorem dX5_passing_66 : decode cX5_passing 66 = .ok (.goto (-55), 3) := dk_167 255 201 (dk_at dksX5_passing_2 21 rfl rfl)
theorem dX5_passing_69 : decode cX5_passing 69 = .ok (.lload 4, 2) := dk_22 4 (dk_at dksX5_passing_3 0 rfl rfl)
theorem dX5_passing_71 : decode cX5_passing 71 = .ok (.lreturn, 1) := dk_173 (dk_at dksX5_passing_3 2 rfl rfl)
theorem q120 : (Jvm.Cond.initialized "LastAsked$Night") ∈ lw_all := lw_g (lw_at lw_m1 8 rfl) rfl
theorem q268 : (Jvm.Cond.fieldLink "LastAsked$Night" (68 : Nat) "LastAsked$Town" "has" "[I") ∈ lw_all := lw_g (lw_at lw_m1 156 rfl) rfl
theorem q273 : (Jvm.Cond.fieldLink "LastAsked$Night" (18 : Nat) "LastAsked$Town" "city" "LLastAsked$City;") ∈ lw_all := lw_g (lw_at lw_m1 161 rfl) rfl
theorem q276 : (Jvm.Cond.fieldLink "LastAsked$Night" (55 : Nat) "LastAsked$Town" "living" "I") ∈ lw_all := lw_g (lw_at lw_m1 164 rfl) rfl
theorem q281 : (Jvm.Cond.fieldLink "LastAsked$Night" (65 : Nat) "LastAsked$Town" "cat" "I") ∈ lw_all := lw_g (lw_at lw_m1 169 rfl) rfl
theorem q306 : (Jvm.Cond.instantiable "LastAsked$Night" (2 : Nat)) ∈ lw_all := lw_g (lw_at lw_m1 194 rfl) rfl
theorem q308 : (Jvm.Cond.instanceMethod ({ cls := "LastAsked$Night", name := "<init>", desc := "()V" } : Jvm.MethodName)) ∈ lw_all := lw_g (lw_at lw_m1 196 rfl) rfl
theorem q309 : (Jvm.Cond.code ({ cls := "LastAsked$Night", name := "<init>", desc := "()V" } : Jvm.MethodName) prog_5_method_1_code (1 : Nat) (Option.none : Option Jvm.ClassFile.FieldType)) ∈ lw_all := lw_g (lw_at lw_m1 197 rfl) rfl
theorem q310 : (Jvm.Cond.methodLink "LastAsked$Night" (3 : Nat) ({ cls := "java/lang/Object", name := "<init>", desc := "()V" } : Jvm.MethodName)) ∈ lw_all := lw_g (lw_at lw_m1 198 rfl) rfl
theorem q311 : (Jvm.Cond.classLink "LastAsked$Night" (9 : Nat) "LastAsked$Town") ∈ lw_all := lw_g (lw_at lw_m1 199 rfl) rfl
theorem q312 : (Jvm.Cond.methodLinkNest "LastAsked$Night" (11 : Nat) ({ cls := "LastAsked$Town", name := "<init>", desc := "()V" } : Jvm.MethodName) "LastAsked") ∈ lw_tbl := lw_at lw_m1 200 rfl
theorem q313 : (Jvm.Cond.fieldLink "LastAsked$Night" (12 : Nat) "LastAsked$Night" "then" "LLastAsked$Town;") ∈ lw_all := lw_g (lw_at lw_m1 201 rfl) rfl
theorem q314 : (Jvm.Cond.fieldLink "LastAsked$Night" (45 : Nat) "LastAsked$Night" "all" "J") ∈ lw_all := lw_g (lw_at lw_m1 202 rfl) rfl
theorem q316 : (Jvm.Cond.laysFinal "LastAsked$Night" "LastAsked$Night" "then" "LLastAsked$Town;") ∈ lw_all := lw_g (lw_at lw_m1 204 rfl) rfl
theorem q317 : (Jvm.Cond.soleField "LastAsked$Night" "then") ∈ lw_all := lw_g (lw_at lw_m1 205 rfl) rfl
theorem q318 : (Jvm.Cond.lays "LastAsked$Night" "LastAsked$Night" "all" "J") ∈ lw_all := lw_g (lw_at lw_m1 206 rfl) rfl
theorem q319 : (Jvm.Cond.soleField "LastAsked$Night" "all") ∈ lw_all := lw_g (lw_at lw_m1 207 rfl) rfl
theorem q320 : (Jvm.Cond.superclass "LastAsked$Night" "java/lang/Object") ∈ lw_all := lw_g (lw_at lw_m1 208 rfl) rfl
theorem q456 : (Jvm.Cond.fieldLink "LastAsked$Night" (36 : Nat) "LastAsked$City" "people" "[LLastAsked$Person;") ∈ lw_all := lw_g (lw_at lw_m2 104 rfl) rfl
theorem q481 : (Jvm.Cond.fieldLink "LastAsked$Night" (22 : Nat) "LastAsked$City" "peopleMany" "I") ∈ lw_all := lw_g (lw_at lw_m2 129 rfl) rfl
theorem q754 : (Jvm.Cond.fieldLink "LastAsked$Night" (40 : Nat) "LastAsked$Person" "dies" "I") ∈ lw_all := lw_g (lw_at lw_m3 162 rfl) rfl
theorem q1059 : (Jvm.Cond.instanceMethod ({ cls := "LastAsked$Night", name := "sum", desc := "(LLastAsked$Town;I)J" } : Jvm.MethodName)) ∈ lw_all := lw_g (lw_at lw_m4 227 rfl) rfl
theorem q1060 : (Jvm.Cond.selects "LastAsked$Night" ({ cls := "LastAsked$Night", name := "sum", desc := "(LLastAsked$Town;I)J" } : Jvm.MethodName) ({ cls := "LastAsked$Night", name := "sum", desc := "(LLastAsked$Town;I)J" } : Jvm.MethodName)) ∈ lw_all := lw_g (lw_at lw_m4 228 rfl) rfl
theorem q1061 : (Jvm.Cond.code ({ cls := "LastAsked$Night", name := "sum", desc := "(LLastAsked$Town;I)J" } : Jvm.MethodName) prog_5_method_4_code (6 : Nat) (Option.some Jvm.ClassFile.FieldType.long)) ∈ lw_all := lw_g (lw_at lw_m4 229 rfl) rfl
theorem q1062 : (Jvm.Cond.methodLink "LastAsked$Night" (51 : Nat) ({ cls := "LastAsked$Night", name := "lay", desc := "(LLastAsked$Town;)V" } : Jvm.MethodName)) ∈ lw_all := lw_g (lw_at lw_m4 230 rfl) rfl
theorem q1063 : (Jvm.Cond.privateMethod ({ cls := "LastAsked$Night", name := "lay", desc := "(LLastAsked$Town;)V" } : Jvm.MethodName)) ∈ lw_tbl := lw_at lw_m4 231 rfl
theorem q1064 : (Jvm.Cond.instanceMethod ({ cls := "LastAsked$Night", name := "lay", desc := "(LLastAsked$Town;)V" } : Jvm.MethodName)) ∈ lw_all := lw_g (lw_at lw_m4 232 rfl) rfl
theorem q1065 : (Jvm.Cond.code ({ cls := "LastAsked$Night", name := "lay", desc := "(LLastAsked$Town;)V" } : Jvm.MethodName) prog_5_method_3_code (3 : Nat) (Option.none : Option Jvm.ClassFile.FieldType)) ∈ lw_all := lw_g (lw_at lw_m4 233 rfl) rfl
theorem q1066 : (Jvm.Cond.methodLink "LastAsked$Night" (28 : Nat) ({ cls := "LastAsked$Town", name := "isLiving", desc := "(I)Z" } : Jvm.MethodName)) ∈ lw_all := lw_g (lw_at lw_m4 234 rfl) rfl
theorem q1067 : (Jvm.Cond.constantLong "LastAsked$Night" (49 : Nat) (100 : Int64)) ∈ lw_all := lw_g (lw_at lw_m4 235 rfl) rfl
theorem q1068 : (Jvm.Cond.methodLink "LastAsked$Night" (58 : Nat) ({ cls := "LastAsked$Night", name := "weight", desc := "(LLastAsked$Town;I)J" } : Jvm.MethodName)) ∈ lw_all := lw_g (lw_at lw_m4 236 rfl) rfl
theorem q1069 : (Jvm.Cond.static ({ cls := "LastAsked$Night", name := "weight", desc := "(LLastAsked$Town;I)J" } : Jvm.MethodName)) ∈ lw_all := lw_g (lw_at lw_m4 237 rfl) rfl
theorem q1070 : (Jvm.Cond.code ({ cls := "LastAsked$Night", name := "weight", desc := "(LLastAsked$Town;I)J" } : Jvm.MethodName) prog_5_method_2_code (5 : Nat) (Option.some Jvm.ClassFile.FieldType.long)) ∈ lw_all := lw_g (lw_at lw_m4 238 rfl) rfl
theorem q1071 : (Jvm.Cond.methodLinkNest "LastAsked$Night" (32 : Nat) ({ cls := "LastAsked", name := "has", desc := "(II)Z" } : Jvm.MethodName) "LastAsked") ∈ lw_tbl := lw_at lw_m4 239 rfl
theorem q1072 : (Jvm.Cond.methodLink "LastAsked$Night" (62 : Nat) ({ cls := "LastAsked$Town", name := "dies", desc := "(LLastAsked$Town;I)LLastAsked$Town;" } : Jvm.MethodName)) ∈ lw_all := lw_g (lw_at lw_m5 0 rfl) rfl
theorem q1084 : (Jvm.Cond.instanceMethod ({ cls := "LastAsked$Night", name := "atLeast", desc := "(LLastAsked$Town;II)J" } : Jvm.MethodName)) ∈ lw_all := lw_g (lw_at lw_m5 12 rfl) rfl
theorem q1085 : (Jvm.Cond.selects "LastAsked$Night" ({ cls := "LastAsked$Night", name := "atLeast", desc := "(LLastAsked$Town;II)J" } : Jvm.MethodName) ({ cls := "LastAsked$Night", name := "atLeast", desc := "(LLastAsked$Town;II)J" } : Jvm.MethodName)) ∈ lw_all := lw_g (lw_at lw_m5 13 rfl) rfl
theorem q1086 : (Jvm.Cond.code ({ cls := "LastAsked$Night", name := "atLeast", desc := "(LLastAsked$Town;II)J" } : Jvm.MethodName) prog_5_method_5_code (7 : Nat) (Option.some Jvm.ClassFile.FieldType.long)) ∈ lw_all := lw_g (lw_at lw_m5 14 rfl) rfl
theorem q1092 : (Jvm.Cond.instanceMethod ({ cls := "LastAsked$Night", name := "passing", desc := "(LLastAsked$Town;II)J" } : Jvm.MethodName)) ∈ lw_all := lw_g (lw_at lw_m5 20 rfl) rfl
theorem q1093 : (Jvm.Cond.selects "LastAsked$Night" ({ cls := "LastAsked$Night", name := "passing", desc := "(LLastAsked$Town;II)J" } : Jvm.MethodName) ({ cls := "LastAsked$Night", name := "passing", desc := "(LLastAsked$Town;II)J" } : Jvm.MethodName)) ∈ lw_all := lw_g (lw_at lw_m5 21 rfl) rfl
theorem q1094 : (Jvm.Cond.code ({ cls := "LastAsked$Night", name := "passing", desc := "(LLastAsked$Town;II)J" } : Jvm.MethodName) prog_5_method_6_code (7 : Nat) (Option.some Jvm.ClassFile.FieldType.long)) ∈ lw_all := lw_g (lw_at lw_m5 22 rfl) rfl
theorem q1095 : (Jvm.Cond.methodLink "LastAsked$Night" (71 : Nat) ({ cls := "LastAsked$Town", name := "goesTo", desc := "(II)I" } : Jvm.MethodName)) ∈ lw_all := lw_g (lw_at lw_m5 23 rfl) rfl
theorem q2104 : (Jvm.Cond.castable "LastAsked$Night" "java/lang/Object") ∈ lw_tbl := lw_at lw_m9 72 rfl
theorem in_X5 : ∀ w ∈ wsX50, w ∈ lw_all := lw_in wsX50 [316, 318] (by decide +kernel) (by decide +kernel)

/-! LastAsked$Asks -/
set_option maxRecDepth 100000
def RX6 : String := "LastAsked$Asks"
def TX6 : u_T := fun k => match k with
  | 0 => ("LastAsked$Asks", "towns", "[LLastAsked$Town;", true)
  | 1 => ("LastAsked$Asks", "night", "LLastAsked$Night;", true)
  | 2 => ("LastAsked$Asks", "reach", "[I", true)
  | 3 => ("LastAsked$Asks", "person", "I", false)
  | 4 => ("LastAsked$Asks", "many", "I", false)
  | 5 => ("LastAsked$Asks", "row", "I", false)
  | 6 => ("LastAsked$Asks", "set", "I", false)
  | _ => ("LastAsked$Asks", "most", "J", false)
def tyX6 : Nat → FieldType := fun k => match k with
  | 0 => .array (.object "LastAsked$Town")
  | 1 => .object "LastAsked$Night"
  | 2 => .array .int
  | 3 => .int
  | 4 => .int
  | 5 => .int
  | 6 => .int
  | _ => .long
abbrev wsX60 : List Cond := u_ws RX6 TX6 8
theorem nmX6 : ∀ a, a < 8 → ∀ b, b < 8 → a ≠ b → (TX6 a).2.1 ≠ (TX6 b).2.1 := by decide +kernel
theorem tyX6_ok : ∀ k, k < 8 → parseFieldDescriptor (TX6 k).2.2.1 = some (tyX6 k) := by decide +kernel
abbrev cX6_init : ByteArray := prog_2_method_1_code
def yX6_init : MethodName := ⟨RX6, "<init>", "(LLastAsked$Night;)V"⟩
def dkwX6_init_2 : List UInt8 := [132, 2, 1, 167, 255, 235, 177]
abbrev dktX6_init_2 : List UInt8 := dkwX6_init_2 ++ []
def dkwX6_init_1 : List UInt8 := [181, 0, 21, 3, 61, 28, 6, 163, 0, 22, 42, 180, 0, 11, 28, 187, 0, 9, 89, 183, 0, 25, 83]
abbrev dktX6_init_1 : List UInt8 := dkwX6_init_1 ++ dktX6_init_2
def dkwX6_init_0 : List UInt8 := [42, 183, 0, 3, 42, 7, 189, 0, 9, 181, 0, 11, 42, 17, 1, 128, 188, 10, 181, 0, 17, 42, 43]
abbrev dktX6_init_0 : List UInt8 := dkwX6_init_0 ++ dktX6_init_1
theorem dksX6_init_0 : cX6_init.data.toList.drop 0 = dktX6_init_0 := by decide +kernel
theorem dksX6_init_1 : cX6_init.data.toList.drop 23 = dktX6_init_1 := dk_seg dksX6_init_0 23 rfl rfl
theorem dksX6_init_2 : cX6_init.data.toList.drop 46 = dktX6_init_2 := dk_seg dksX6_init_1 23 rfl rfl
theorem dX6_init_0 : decode cX6_init 0 = .ok (.aload_n 0, 1) := dk_42 (dk_at dksX6_init_0 0 rfl rfl)
theorem dX6_init_1 : decode cX6_init 1 = .ok (.invokespecial 3, 3) := dk_183 0 3 (dk_at dksX6_init_0 1 rfl rfl)
theorem dX6_init_4 : decode cX6_init 4 = .ok (.aload_n 0, 1) := dk_42 (dk_at dksX6_init_0 4 rfl rfl)
theorem dX6_init_5 : decode cX6_init 5 = .ok (.iconst 4, 1) := dk_7 (dk_at dksX6_init_0 5 rfl rfl)
theorem dX6_init_6 : decode cX6_init 6 = .ok (.anewarray 9, 3) := dk_189 0 9 (dk_at dksX6_init_0 6 rfl rfl)
theorem dX6_init_9 : decode cX6_init 9 = .ok (.putfield 11, 3) := dk_181 0 11 (dk_at dksX6_init_0 9 rfl rfl)
theorem dX6_init_12 : decode cX6_init 12 = .ok (.aload_n 0, 1) := dk_42 (dk_at dksX6_init_0 12 rfl rfl)
theorem dX6_init_13 : decode cX6_init 13 = .ok (.sipush 384, 3) := dk_17 1 128 (dk_at dksX6_init_0 13 rfl rfl)
theorem dX6_init_16 : decode cX6_init 16 = .ok (.newarray .int, 2) := dk_188_10 (dk_at dksX6_init_0 16 rfl rfl)
theorem dX6_init_18 : decode cX6_init 18 = .ok (.putfield 17, 3) := dk_181 0 17 (dk_at dksX6_init_0 18 rfl rfl)
theorem dX6_init_21 : decode cX6_init 21 = .ok (.aload_n 0, 1) := dk_42 (dk_at dksX6_init_0 21 rfl rfl)
theorem dX6_init_22 : decode cX6_init 22 = .ok (.aload_n 1, 1) := dk_43 (dk_at dksX6_init_0 22 rfl rfl)
theorem dX6_init_23 : decode cX6_init 23 = .ok (.putfield 21, 3) := dk_181 0 21 (dk_at dksX6_init_1 0 rfl rfl)
theorem dX6_init_26 : decode cX6_init 26 = .ok (.iconst 0, 1) := dk_3 (dk_at dksX6_init_1 3 rfl rfl)
theorem dX6_init_27 : decode cX6_init 27 = .ok (.istore_n 2, 1) := dk_61 (dk_at dksX6_init_1 4 rfl rfl)
theorem dX6_init_28 : decode cX6_init 28 = .ok (.iload_n 2, 1) := dk_28 (dk_at dksX6_init_1 5 rfl rfl)
theorem dX6_init_29 : decode cX6_init 29 = .ok (.iconst 3, 1) := dk_6 (dk_at dksX6_init_1 6 rfl rfl)
theorem dX6_init_30 : decode cX6_init 30 = .ok (.if_icmp .gt 22, 3) := dk_163 0 22 (dk_at dksX6_init_1 7 rfl rfl)
theorem dX6_init_33 : decode cX6_init 33 = .ok (.aload_n 0, 1) := dk_42 (dk_at dksX6_init_1 10 rfl rfl)
theorem dX6_init_34 : decode cX6_init 34 = .ok (.getfield 11, 3) := dk_180 0 11 (dk_at dksX6_init_1 11 rfl rfl)
theorem dX6_init_37 : decode cX6_init 37 = .ok (.iload_n 2, 1) := dk_28 (dk_at dksX6_init_1 14 rfl rfl)
theorem dX6_init_38 : decode cX6_init 38 = .ok (.new 9, 3) := dk_187 0 9 (dk_at dksX6_init_1 15 rfl rfl)
theorem dX6_init_41 : decode cX6_init 41 = .ok (.dup, 1) := dk_89 (dk_at dksX6_init_1 18 rfl rfl)
theorem dX6_init_42 : decode cX6_init 42 = .ok (.invokespecial 25, 3) := dk_183 0 25 (dk_at dksX6_init_1 19 rfl rfl)
theorem dX6_init_45 : decode cX6_init 45 = .ok (.aastore, 1) := dk_83 (dk_at dksX6_init_1 22 rfl rfl)
theorem dX6_init_46 : decode cX6_init 46 = .ok (.iinc 2 1, 3) := dk_132 2 1 (dk_at dksX6_init_2 0 rfl rfl)
theorem dX6_init_49 : decode cX6_init 49 = .ok (.goto (-21), 3) := dk_167 255 235 (dk_at dksX6_init_2 3 rfl rfl)
theorem dX6_init_52 : decode cX6_init 52 = .ok (.return_, 1) := dk_177 (dk_at dksX6_init_2 6 rfl rfl)
abbrev cX6_best : ByteArray := prog_2_method_2_code
def yX6_best : MethodName := ⟨RX6, "best", "(LLastAsked$Town;II)LLastAsked$Asks;"⟩
def dkwX6_best_1 : List UInt8 := [182, 0, 39, 87, 42, 3, 3, 182, 0, 43, 42, 176]
abbrev dktX6_best_1 : List UInt8 := dkwX6_best_1 ++ []
def dkwX6_best_0 : List UInt8 := [42, 28, 181, 0, 26, 42, 29, 181, 0, 30, 42, 20, 0, 33, 181, 0, 35, 42, 180, 0, 11, 3, 50, 43]
abbrev dktX6_best_0 : List UInt8 := dkwX6_best_0 ++ dktX6_best_1
theorem dksX6_best_0 : cX6_best.data.toList.drop 0 = dktX6_best_0 := by decide +kernel
theorem dksX6_best_1 : cX6_best.data.toList.drop 24 = dktX6_best_1 := dk_seg dksX6_best_0 24 rfl rfl
theorem dX6_best_0 : decode cX6_best 0 = .ok (.aload_n 0, 1) := dk_42 (dk_at dksX6_best_0 0 rfl rfl)
theorem dX6_best_1 : decode cX6_best 1 = .ok (.iload_n 2, 1) := dk_28 (dk_at dksX6_best_0 1 rfl rfl)
theorem dX6_best_2 : decode cX6_best 2 = .ok (.putfield 26, 3) := dk_181 0 26 (dk_at dksX6_best_0 2 rfl rfl)
theorem dX6_best_5 : decode cX6_best 5 = .ok (.aload_n 0, 1) := dk_42 (dk_at dksX6_best_0 5 rfl rfl)
theorem dX6_best_6 : decode cX6_best 6 = .ok (.iload_n 3, 1) := dk_29 (dk_at dksX6_best_0 6 rfl rfl)
theorem dX6_best_7 : decode cX6_best 7 = .ok (.putfield 30, 3) := dk_181 0 30 (dk_at dksX6_best_0 7 rfl rfl)
theorem dX6_best_10 : decode cX6_best 10 = .ok (.aload_n 0, 1) := dk_42 (dk_at dksX6_best_0 10 rfl rfl)
theorem dX6_best_11 : decode cX6_best 11 = .ok (.ldc2_w 33, 3) := dk_20 0 33 (dk_at dksX6_best_0 11 rfl rfl)
theorem dX6_best_14 : decode cX6_best 14 = .ok (.putfield 35, 3) := dk_181 0 35 (dk_at dksX6_best_0 14 rfl rfl)
theorem dX6_best_17 : decode cX6_best 17 = .ok (.aload_n 0, 1) := dk_42 (dk_at dksX6_best_0 17 rfl rfl)
theorem dX6_best_18 : decode cX6_best 18 = .ok (.getfield 11, 3) := dk_180 0 11 (dk_at dksX6_best_0 18 rfl rfl)
theorem dX6_best_21 : decode cX6_best 21 = .ok (.iconst 0, 1) := dk_3 (dk_at dksX6_best_0 21 rfl rfl)
theorem dX6_best_22 : decode cX6_best 22 = .ok (.aaload, 1) := dk_50 (dk_at dksX6_best_0 22 rfl rfl)
theorem dX6_best_23 : decode cX6_best 23 = .ok (.aload_n 1, 1) := dk_43 (dk_at dksX6_best_0 23 rfl rfl)
theorem dX6_best_24 : decode cX6_best 24 = .ok (.invokevirtual 39, 3) := dk_182 0 39 (dk_at dksX6_best_1 0 rfl rfl)
theorem dX6_best_27 : decode cX6_best 27 = .ok (.pop, 1) := dk_87 (dk_at dksX6_best_1 3 rfl rfl)
theorem dX6_best_28 : decode cX6_best 28 = .ok (.aload_n 0, 1) := dk_42 (dk_at dksX6_best_1 4 rfl rfl)
theorem dX6_best_29 : decode cX6_best 29 = .ok (.iconst 0, 1) := dk_3 (dk_at dksX6_best_1 5 rfl rfl)
theorem dX6_best_30 : decode cX6_best 30 = .ok (.iconst 0, 1) := dk_3 (dk_at dksX6_best_1 6 rfl rfl)
theorem dX6_best_31 : decode cX6_best 31 = .ok (.invokevirtual 43, 3) := dk_182 0 43 (dk_at dksX6_best_1 7 rfl rfl)
theorem dX6_best_34 : decode cX6_best 34 = .ok (.aload_n 0, 1) := dk_42 (dk_at dksX6_best_1 10 rfl rfl)
theorem dX6_best_35 : decode cX6_best 35 = .ok (.areturn, 1) := dk_176 (dk_at dksX6_best_1 11 rfl rfl)
abbrev cX6_tries : ByteArray := prog_2_method_3_code
def yX6_tries : MethodName := ⟨RX6, "tries", "(II)V"⟩
def dkwX6_tries_8 : List UInt8 := [167, 255, 167, 177]
abbrev dktX6_tries_8 : List UInt8 := dkwX6_tries_8 ++ []
def dkwX6_tries_7 : List UInt8 := [182, 0, 75, 87, 42, 27, 4, 96, 16, 10, 28, 104, 29, 96, 4, 96, 182, 0, 43, 132, 3, 1]
abbrev dktX6_tries_7 : List UInt8 := dkwX6_tries_7 ++ dktX6_tries_8
def dkwX6_tries_6 : List UInt8 := [180, 0, 11, 27, 50, 182, 0, 39, 87, 42, 180, 0, 11, 27, 4, 96, 50, 42, 180, 0, 26, 29]
abbrev dktX6_tries_6 : List UInt8 := dkwX6_tries_6 ++ dktX6_tries_7
def dkwX6_tries_5 : List UInt8 := [180, 0, 26, 29, 182, 0, 71, 154, 0, 6, 167, 0, 53, 42, 180, 0, 11, 27, 4, 96, 50, 42]
abbrev dktX6_tries_5 : List UInt8 := dkwX6_tries_5 ++ dktX6_tries_6
def dkwX6_tries_4 : List UInt8 := [42, 180, 0, 11, 27, 50, 180, 0, 62, 180, 0, 66, 162, 0, 79, 42, 180, 0, 11, 27, 50, 42]
abbrev dktX6_tries_4 : List UInt8 := dkwX6_tries_4 ++ dktX6_tries_5
def dkwX6_tries_3 : List UInt8 := [42, 180, 0, 11, 27, 50, 182, 0, 39, 87, 42, 27, 4, 96, 16, 10, 28, 104, 182, 0, 43, 3, 62, 29]
abbrev dktX6_tries_3 : List UInt8 := dkwX6_tries_3 ++ dktX6_tries_4
def dkwX6_tries_2 : List UInt8 := [181, 0, 53, 42, 42, 180, 0, 35, 33, 184, 0, 56, 181, 0, 35, 177, 42, 180, 0, 11, 27, 4, 96, 50]
abbrev dktX6_tries_2 : List UInt8 := dkwX6_tries_2 ++ dktX6_tries_3
def dkwX6_tries_1 : List UInt8 := [182, 0, 47, 66, 42, 33, 42, 180, 0, 35, 148, 158, 0, 7, 28, 167, 0, 7, 42, 180, 0, 53]
abbrev dktX6_tries_1 : List UInt8 := dkwX6_tries_1 ++ dktX6_tries_2
def dkwX6_tries_0 : List UInt8 := [27, 42, 180, 0, 30, 160, 0, 55, 42, 180, 0, 21, 42, 180, 0, 11, 27, 50, 42, 180, 0, 26]
abbrev dktX6_tries_0 : List UInt8 := dkwX6_tries_0 ++ dktX6_tries_1
theorem dksX6_tries_0 : cX6_tries.data.toList.drop 0 = dktX6_tries_0 := by decide +kernel
theorem dksX6_tries_1 : cX6_tries.data.toList.drop 22 = dktX6_tries_1 := dk_seg dksX6_tries_0 22 rfl rfl
theorem dksX6_tries_2 : cX6_tries.data.toList.drop 44 = dktX6_tries_2 := dk_seg dksX6_tries_1 22 rfl rfl
theorem dksX6_tries_3 : cX6_tries.data.toList.drop 68 = dktX6_tries_3 := dk_seg dksX6_tries_2 24 rfl rfl
theorem dksX6_tries_4 : cX6_tries.data.toList.drop 92 = dktX6_tries_4 := dk_seg dksX6_tries_3 24 rfl rfl
theorem dksX6_tries_5 : cX6_tries.data.toList.drop 114 = dktX6_tries_5 := dk_seg dksX6_tries_4 22 rfl rfl
theorem dksX6_tries_6 : cX6_tries.data.toList.drop 136 = dktX6_tries_6 := dk_seg dksX6_tries_5 22 rfl rfl
theorem dksX6_tries_7 : cX6_tries.data.toList.drop 158 = dktX6_tries_7 := dk_seg dksX6_tries_6 22 rfl rfl
theorem dksX6_tries_8 : cX6_tries.data.toList.drop 180 = dktX6_tries_8 := dk_seg dksX6_tries_7 22 rfl rfl
theorem dX6_tries_0 : decode cX6_tries 0 = .ok (.iload_n 1, 1) := dk_27 (dk_at dksX6_tries_0 0 rfl rfl)
theorem dX6_tries_1 : decode cX6_tries 1 = .ok (.aload_n 0, 1) := dk_42 (dk_at dksX6_tries_0 1 rfl rfl)
theorem dX6_tries_2 : decode cX6_tries 2 = .ok (.getfield 30, 3) := dk_180 0 30 (dk_at dksX6_tries_0 2 rfl rfl)
theorem dX6_tries_5 : decode cX6_tries 5 = .ok (.if_icmp .ne 55, 3) := dk_160 0 55 (dk_at dksX6_tries_0 5 rfl rfl)
theorem dX6_tries_8 : decode cX6_tries 8 = .ok (.aload_n 0, 1) := dk_42 (dk_at dksX6_tries_0 8 rfl rfl)
theorem dX6_tries_9 : decode cX6_tries 9 = .ok (.getfield 21, 3) := dk_180 0 21 (dk_at dksX6_tries_0 9 rfl rfl)
theorem dX6_tries_12 : decode cX6_tries 12 = .ok (.aload_n 0, 1) := dk_42 (dk_at dksX6_tries_0 12 rfl rfl)
theorem dX6_tries_13 : decode cX6_tries 13 = .ok (.getfield 11, 3) := dk_180 0 11 (dk_at dksX6_tries_0 13 rfl rfl)
theorem dX6_tries_16 : decode cX6_tries 16 = .ok (.iload_n 1, 1) := dk_27 (dk_at dksX6_tries_0 16 rfl rfl)
theorem dX6_tries_17 : decode cX6_tries 17 = .ok (.aaload, 1) := dk_50 (dk_at dksX6_tries_0 17 rfl rfl)
theorem dX6_tries_18 : decode cX6_tries 18 = .ok (.aload_n 0, 1) := dk_42 (dk_at dksX6_tries_0 18 rfl rfl)
theorem dX6_tries_19 : decode cX6_tries 19 = .ok (.getfield 26, 3) := dk_180 0 26 (dk_at dksX6_tries_0 19 rfl rfl)
theorem dX6_tries_22 : decode cX6_tries 22 = .ok (.invokevirtual 47, 3) := dk_182 0 47 (dk_at dksX6_tries_1 0 rfl rfl)
theorem dX6_tries_25 : decode cX6_tries 25 = .ok (.lstore_n 3, 1) := dk_66 (dk_at dksX6_tries_1 3 rfl rfl)
theorem dX6_tries_26 : decode cX6_tries 26 = .ok (.aload_n 0, 1) := dk_42 (dk_at dksX6_tries_1 4 rfl rfl)
theorem dX6_tries_27 : decode cX6_tries 27 = .ok (.lload_n 3, 1) := dk_33 (dk_at dksX6_tries_1 5 rfl rfl)
theorem dX6_tries_28 : decode cX6_tries 28 = .ok (.aload_n 0, 1) := dk_42 (dk_at dksX6_tries_1 6 rfl rfl)
theorem dX6_tries_29 : decode cX6_tries 29 = .ok (.getfield 35, 3) := dk_180 0 35 (dk_at dksX6_tries_1 7 rfl rfl)
theorem dX6_tries_32 : decode cX6_tries 32 = .ok (.lcmp, 1) := dk_148 (dk_at dksX6_tries_1 10 rfl rfl)
theorem dX6_tries_33 : decode cX6_tries 33 = .ok (.ifCond .le 7, 3) := dk_158 0 7 (dk_at dksX6_tries_1 11 rfl rfl)
theorem dX6_tries_36 : decode cX6_tries 36 = .ok (.iload_n 2, 1) := dk_28 (dk_at dksX6_tries_1 14 rfl rfl)
theorem dX6_tries_37 : decode cX6_tries 37 = .ok (.goto 7, 3) := dk_167 0 7 (dk_at dksX6_tries_1 15 rfl rfl)
theorem dX6_tries_40 : decode cX6_tries 40 = .ok (.aload_n 0, 1) := dk_42 (dk_at dksX6_tries_1 18 rfl rfl)
theorem dX6_tries_41 : decode cX6_tries 41 = .ok (.getfield 53, 3) := dk_180 0 53 (dk_at dksX6_tries_1 19 rfl rfl)
theorem dX6_tries_44 : decode cX6_tries 44 = .ok (.putfield 53, 3) := dk_181 0 53 (dk_at dksX6_tries_2 0 rfl rfl)
theorem dX6_tries_47 : decode cX6_tries 47 = .ok (.aload_n 0, 1) := dk_42 (dk_at dksX6_tries_2 3 rfl rfl)
theorem dX6_tries_48 : decode cX6_tries 48 = .ok (.aload_n 0, 1) := dk_42 (dk_at dksX6_tries_2 4 rfl rfl)
theorem dX6_tries_49 : decode cX6_tries 49 = .ok (.getfield 35, 3) := dk_180 0 35 (dk_at dksX6_tries_2 5 rfl rfl)
theorem dX6_tries_52 : decode cX6_tries 52 = .ok (.lload_n 3, 1) := dk_33 (dk_at dksX6_tries_2 8 rfl rfl)
theorem dX6_tries_53 : decode cX6_tries 53 = .ok (.invokestatic 56, 3) := dk_184 0 56 (dk_at dksX6_tries_2 9 rfl rfl)
theorem dX6_tries_56 : decode cX6_tries 56 = .ok (.putfield 35, 3) := dk_181 0 35 (dk_at dksX6_tries_2 12 rfl rfl)
theorem dX6_tries_59 : decode cX6_tries 59 = .ok (.return_, 1) := dk_177 (dk_at dksX6_tries_2 15 rfl rfl)
theorem dX6_tries_60 : decode cX6_tries 60 = .ok (.aload_n 0, 1) := dk_42 (dk_at dksX6_tries_2 16 rfl rfl)
theorem dX6_tries_61 : decode cX6_tries 61 = .ok (.getfield 11, 3) := dk_180 0 11 (dk_at dksX6_tries_2 17 rfl rfl)
theorem dX6_tries_64 : decode cX6_tries 64 = .ok (.iload_n 1, 1) := dk_27 (dk_at dksX6_tries_2 20 rfl rfl)
theorem dX6_tries_65 : decode cX6_tries 65 = .ok (.iconst 1, 1) := dk_4 (dk_at dksX6_tries_2 21 rfl rfl)
theorem dX6_tries_66 : decode cX6_tries 66 = .ok (.iadd, 1) := dk_96 (dk_at dksX6_tries_2 22 rfl rfl)
theorem dX6_tries_67 : decode cX6_tries 67 = .ok (.aaload, 1) := dk_50 (dk_at dksX6_tries_2 23 rfl rfl)
theorem dX6_tries_68 : decode cX6_tries 68 = .ok (.aload_n 0, 1) := dk_42 (dk_at dksX6_tries_3 0 rfl rfl)
theorem dX6_tries_69 : decode cX6_tries 69 = .ok (.getfield 11, 3) := dk_180 0 11 (dk_at dksX6_tries_3 1 rfl rfl)
theorem dX6_tries_72 : decode cX6_tries 72 = .ok (.iload_n 1, 1) := dk_27 (dk_at dksX6_tries_3 4 rfl rfl)
theorem dX6_tries_73 : decode cX6_tries 73 = .ok (.aaload, 1) := dk_50 (dk_at dksX6_tries_3 5 rfl rfl)
theorem dX6_tries_74 : decode cX6_tries 74 = .ok (.invokevirtual 39, 3) := dk_182 0 39 (dk_at dksX6_tries_3 6 rfl rfl)
theorem dX6_tries_77 : decode cX6_tries 77 = .ok (.pop, 1) := dk_87 (dk_at dksX6_tries_3 9 rfl rfl)
theorem dX6_tries_78 : decode cX6_tries 78 = .ok (.aload_n 0, 1) := dk_42 (dk_at dksX6_tries_3 10 rfl rfl)
theorem dX6_tries_79 : decode cX6_tries 79 = .ok (.iload_n 1, 1) := dk_27 (dk_at dksX6_tries_3 11 rfl rfl)
theorem dX6_tries_80 : decode cX6_tries 80 = .ok (.iconst 1, 1) := dk_4 (dk_at dksX6_tries_3 12 rfl rfl)
theorem dX6_tries_81 : decode cX6_tries 81 = .ok (.iadd, 1) := dk_96 (dk_at dksX6_tries_3 13 rfl rfl)
theorem dX6_tries_82 : decode cX6_tries 82 = .ok (.bipush 10, 2) := dk_16 10 (dk_at dksX6_tries_3 14 rfl rfl)
theorem dX6_tries_84 : decode cX6_tries 84 = .ok (.iload_n 2, 1) := dk_28 (dk_at dksX6_tries_3 16 rfl rfl)
theorem dX6_tries_85 : decode cX6_tries 85 = .ok (.imul, 1) := dk_104 (dk_at dksX6_tries_3 17 rfl rfl)
theorem dX6_tries_86 : decode cX6_tries 86 = .ok (.invokevirtual 43, 3) := dk_182 0 43 (dk_at dksX6_tries_3 18 rfl rfl)
theorem dX6_tries_89 : decode cX6_tries 89 = .ok (.iconst 0, 1) := dk_3 (dk_at dksX6_tries_3 21 rfl rfl)
theorem dX6_tries_90 : decode cX6_tries 90 = .ok (.istore_n 3, 1) := dk_62 (dk_at dksX6_tries_3 22 rfl rfl)
theorem dX6_tries_91 : decode cX6_tries 91 = .ok (.iload_n 3, 1) := dk_29 (dk_at dksX6_tries_3 23 rfl rfl)
theorem dX6_tries_92 : decode cX6_tries 92 = .ok (.aload_n 0, 1) := dk_42 (dk_at dksX6_tries_4 0 rfl rfl)
theorem dX6_tries_93 : decode cX6_tries 93 = .ok (.getfield 11, 3) := dk_180 0 11 (dk_at dksX6_tries_4 1 rfl rfl)
theorem dX6_tries_96 : decode cX6_tries 96 = .ok (.iload_n 1, 1) := dk_27 (dk_at dksX6_tries_4 4 rfl rfl)
theorem dX6_tries_97 : decode cX6_tries 97 = .ok (.aaload, 1) := dk_50 (dk_at dksX6_tries_4 5 rfl rfl)
theorem dX6_tries_98 : decode cX6_tries 98 = .ok (.getfield 62, 3) := dk_180 0 62 (dk_at dksX6_tries_4 6 rfl rfl)
theorem dX6_tries_101 : decode cX6_tries 101 = .ok (.getfield 66, 3) := dk_180 0 66 (dk_at dksX6_tries_4 9 rfl rfl)
theorem dX6_tries_104 : decode cX6_tries 104 = .ok (.if_icmp .ge 79, 3) := dk_162 0 79 (dk_at dksX6_tries_4 12 rfl rfl)
theorem dX6_tries_107 : decode cX6_tries 107 = .ok (.aload_n 0, 1) := dk_42 (dk_at dksX6_tries_4 15 rfl rfl)
theorem dX6_tries_108 : decode cX6_tries 108 = .ok (.getfield 11, 3) := dk_180 0 11 (dk_at dksX6_tries_4 16 rfl rfl)
theorem dX6_tries_111 : decode cX6_tries 111 = .ok (.iload_n 1, 1) := dk_27 (dk_at dksX6_tries_4 19 rfl rfl)
theorem dX6_tries_112 : decode cX6_tries 112 = .ok (.aaload, 1) := dk_50 (dk_at dksX6_tries_4 20 rfl rfl)
theorem dX6_tries_113 : decode cX6_tries 113 = .ok (.aload_n 0, 1) := dk_42 (dk_at dksX6_tries_4 21 rfl rfl)
theorem dX6_tries_114 : decode cX6_tries 114 = .ok (.getfield 26, 3) := dk_180 0 26 (dk_at dksX6_tries_5 0 rfl rfl)
theorem dX6_tries_117 : decode cX6_tries 117 = .ok (.iload_n 3, 1) := dk_29 (dk_at dksX6_tries_5 3 rfl rfl)
theorem dX6_tries_118 : decode cX6_tries 118 = .ok (.invokevirtual 71, 3) := dk_182 0 71 (dk_at dksX6_tries_5 4 rfl rfl)
theorem dX6_tries_121 : decode cX6_tries 121 = .ok (.ifCond .ne 6, 3) := dk_154 0 6 (dk_at dksX6_tries_5 7 rfl rfl)
theorem dX6_tries_124 : decode cX6_tries 124 = .ok (.goto 53, 3) := dk_167 0 53 (dk_at dksX6_tries_5 10 rfl rfl)
theorem dX6_tries_127 : decode cX6_tries 127 = .ok (.aload_n 0, 1) := dk_42 (dk_at dksX6_tries_5 13 rfl rfl)
theorem dX6_tries_128 : decode cX6_tries 128 = .ok (.getfield 11, 3) := dk_180 0 11 (dk_at dksX6_tries_5 14 rfl rfl)
theorem dX6_tries_131 : decode cX6_tries 131 = .ok (.iload_n 1, 1) := dk_27 (dk_at dksX6_tries_5 17 rfl rfl)
theorem dX6_tries_132 : decode cX6_tries 132 = .ok (.iconst 1, 1) := dk_4 (dk_at dksX6_tries_5 18 rfl rfl)
theorem dX6_tries_133 : decode cX6_tries 133 = .ok (.iadd, 1) := dk_96 (dk_at dksX6_tries_5 19 rfl rfl)
theorem dX6_tries_134 : decode cX6_tries 134 = .ok (.aaload, 1) := dk_50 (dk_at dksX6_tries_5 20 rfl rfl)
theorem dX6_tries_135 : decode cX6_tries 135 = .ok (.aload_n 0, 1) := dk_42 (dk_at dksX6_tries_5 21 rfl rfl)
theorem dX6_tries_136 : decode cX6_tries 136 = .ok (.getfield 11, 3) := dk_180 0 11 (dk_at dksX6_tries_6 0 rfl rfl)
theorem dX6_tries_139 : decode cX6_tries 139 = .ok (.iload_n 1, 1) := dk_27 (dk_at dksX6_tries_6 3 rfl rfl)
theorem dX6_tries_140 : decode cX6_tries 140 = .ok (.aaload, 1) := dk_50 (dk_at dksX6_tries_6 4 rfl rfl)
theorem dX6_tries_141 : decode cX6_tries 141 = .ok (.invokevirtual 39, 3) := dk_182 0 39 (dk_at dksX6_tries_6 5 rfl rfl)
theorem dX6_tries_144 : decode cX6_tries 144 = .ok (.pop, 1) := dk_87 (dk_at dksX6_tries_6 8 rfl rfl)
theorem dX6_tries_145 : decode cX6_tries 145 = .ok (.aload_n 0, 1) := dk_42 (dk_at dksX6_tries_6 9 rfl rfl)
theorem dX6_tries_146 : decode cX6_tries 146 = .ok (.getfield 11, 3) := dk_180 0 11 (dk_at dksX6_tries_6 10 rfl rfl)
theorem dX6_tries_149 : decode cX6_tries 149 = .ok (.iload_n 1, 1) := dk_27 (dk_at dksX6_tries_6 13 rfl rfl)
theorem dX6_tries_150 : decode cX6_tries 150 = .ok (.iconst 1, 1) := dk_4 (dk_at dksX6_tries_6 14 rfl rfl)
theorem dX6_tries_151 : decode cX6_tries 151 = .ok (.iadd, 1) := dk_96 (dk_at dksX6_tries_6 15 rfl rfl)
theorem dX6_tries_152 : decode cX6_tries 152 = .ok (.aaload, 1) := dk_50 (dk_at dksX6_tries_6 16 rfl rfl)
theorem dX6_tries_153 : decode cX6_tries 153 = .ok (.aload_n 0, 1) := dk_42 (dk_at dksX6_tries_6 17 rfl rfl)
theorem dX6_tries_154 : decode cX6_tries 154 = .ok (.getfield 26, 3) := dk_180 0 26 (dk_at dksX6_tries_6 18 rfl rfl)
theorem dX6_tries_157 : decode cX6_tries 157 = .ok (.iload_n 3, 1) := dk_29 (dk_at dksX6_tries_6 21 rfl rfl)
theorem dX6_tries_158 : decode cX6_tries 158 = .ok (.invokevirtual 75, 3) := dk_182 0 75 (dk_at dksX6_tries_7 0 rfl rfl)
theorem dX6_tries_161 : decode cX6_tries 161 = .ok (.pop, 1) := dk_87 (dk_at dksX6_tries_7 3 rfl rfl)
theorem dX6_tries_162 : decode cX6_tries 162 = .ok (.aload_n 0, 1) := dk_42 (dk_at dksX6_tries_7 4 rfl rfl)
theorem dX6_tries_163 : decode cX6_tries 163 = .ok (.iload_n 1, 1) := dk_27 (dk_at dksX6_tries_7 5 rfl rfl)
theorem dX6_tries_164 : decode cX6_tries 164 = .ok (.iconst 1, 1) := dk_4 (dk_at dksX6_tries_7 6 rfl rfl)
theorem dX6_tries_165 : decode cX6_tries 165 = .ok (.iadd, 1) := dk_96 (dk_at dksX6_tries_7 7 rfl rfl)
theorem dX6_tries_166 : decode cX6_tries 166 = .ok (.bipush 10, 2) := dk_16 10 (dk_at dksX6_tries_7 8 rfl rfl)
theorem dX6_tries_168 : decode cX6_tries 168 = .ok (.iload_n 2, 1) := dk_28 (dk_at dksX6_tries_7 10 rfl rfl)
theorem dX6_tries_169 : decode cX6_tries 169 = .ok (.imul, 1) := dk_104 (dk_at dksX6_tries_7 11 rfl rfl)
theorem dX6_tries_170 : decode cX6_tries 170 = .ok (.iload_n 3, 1) := dk_29 (dk_at dksX6_tries_7 12 rfl rfl)
theorem dX6_tries_171 : decode cX6_tries 171 = .ok (.iadd, 1) := dk_96 (dk_at dksX6_tries_7 13 rfl rfl)
theorem dX6_tries_172 : decode cX6_tries 172 = .ok (.iconst 1, 1) := dk_4 (dk_at dksX6_tries_7 14 rfl rfl)
theorem dX6_tries_173 : decode cX6_tries 173 = .ok (.iadd, 1) := dk_96 (dk_at dksX6_tries_7 15 rfl rfl)
theorem dX6_tries_174 : decode cX6_tries 174 = .ok (.invokevirtual 43, 3) := dk_182 0 43 (dk_at dksX6_tries_7 16 rfl rfl)
theorem dX6_tries_177 : decode cX6_tries 177 = .ok (.iinc 3 1, 3) := dk_132 3 1 (dk_at dksX6_tries_7 19 rfl rfl)
theorem dX6_tries_180 : decode cX6_tries 180 = .ok (.goto (-89), 3) := dk_167 255 167 (dk_at dksX6_tries_8 0 rfl rfl)
theorem dX6_tries_183 : decode cX6_tries 183 = .ok (.return_, 1) := dk_177 (dk_at dksX6_tries_8 3 rfl rfl)
abbrev cX6_tour : ByteArray := prog_2_method_7_code
def yX6_tour : MethodName := ⟨RX6, "tour", "(LLastAsked$Town;II)LLastAsked$Asks;"⟩
def dkwX6_tour_8 : List UInt8 := [42, 25, 4, 42, 180, 0, 111, 182, 0, 107, 133, 181, 0, 35, 42, 176]
abbrev dktX6_tour_8 : List UInt8 := dkwX6_tour_8 ++ []
def dkwX6_tour_7 : List UInt8 := [180, 0, 11, 3, 50, 28, 182, 0, 47, 55, 5, 42, 21, 7, 181, 0, 111, 132, 7, 1, 167, 255, 92, 42]
abbrev dktX6_tour_7 : List UInt8 := dkwX6_tour_7 ++ dktX6_tour_8
def dkwX6_tour_6 : List UInt8 := [42, 180, 0, 11, 3, 50, 28, 182, 0, 47, 22, 5, 148, 157, 0, 6, 167, 0, 25, 42, 180, 0, 21, 42]
abbrev dktX6_tour_6 : List UInt8 := dkwX6_tour_6 ++ dktX6_tour_7
def dkwX6_tour_5 : List UInt8 := [3, 50, 28, 21, 9, 182, 0, 75, 87, 132, 9, 1, 167, 255, 190, 21, 8, 153, 0, 48, 42, 180, 0, 21]
abbrev dktX6_tour_5 : List UInt8 := dkwX6_tour_5 ++ dktX6_tour_6
def dkwX6_tour_4 : List UInt8 := [21, 9, 182, 0, 71, 153, 0, 7, 4, 167, 0, 4, 3, 54, 8, 21, 8, 153, 0, 16, 42, 180, 0, 11]
abbrev dktX6_tour_4 : List UInt8 := dkwX6_tour_4 ++ dktX6_tour_5
def dkwX6_tour_3 : List UInt8 := [162, 0, 62, 21, 7, 21, 9, 184, 0, 79, 154, 0, 6, 167, 0, 43, 21, 8, 153, 0, 17, 43, 28]
abbrev dktX6_tour_3 : List UInt8 := dkwX6_tour_3 ++ dktX6_tour_4
def dkwX6_tour_2 : List UInt8 := [54, 8, 42, 180, 0, 11, 3, 50, 43, 182, 0, 39, 87, 3, 54, 9, 21, 9, 25, 4, 180, 0, 66]
abbrev dktX6_tour_2 : List UInt8 := dkwX6_tour_2 ++ dktX6_tour_3
def dkwX6_tour_1 : List UInt8 := [25, 4, 182, 0, 103, 163, 0, 160, 42, 25, 4, 21, 7, 182, 0, 107, 29, 164, 0, 6, 167, 0, 139, 4]
abbrev dktX6_tour_1 : List UInt8 := dkwX6_tour_1 ++ dktX6_tour_2
def dkwX6_tour_0 : List UInt8 := [43, 180, 0, 62, 58, 4, 42, 25, 4, 28, 182, 0, 99, 20, 0, 33, 55, 5, 3, 54, 7, 21, 7]
abbrev dktX6_tour_0 : List UInt8 := dkwX6_tour_0 ++ dktX6_tour_1
theorem dksX6_tour_0 : cX6_tour.data.toList.drop 0 = dktX6_tour_0 := by decide +kernel
theorem dksX6_tour_1 : cX6_tour.data.toList.drop 23 = dktX6_tour_1 := dk_seg dksX6_tour_0 23 rfl rfl
theorem dksX6_tour_2 : cX6_tour.data.toList.drop 47 = dktX6_tour_2 := dk_seg dksX6_tour_1 24 rfl rfl
theorem dksX6_tour_3 : cX6_tour.data.toList.drop 70 = dktX6_tour_3 := dk_seg dksX6_tour_2 23 rfl rfl
theorem dksX6_tour_4 : cX6_tour.data.toList.drop 93 = dktX6_tour_4 := dk_seg dksX6_tour_3 23 rfl rfl
theorem dksX6_tour_5 : cX6_tour.data.toList.drop 117 = dktX6_tour_5 := dk_seg dksX6_tour_4 24 rfl rfl
theorem dksX6_tour_6 : cX6_tour.data.toList.drop 141 = dktX6_tour_6 := dk_seg dksX6_tour_5 24 rfl rfl
theorem dksX6_tour_7 : cX6_tour.data.toList.drop 165 = dktX6_tour_7 := dk_seg dksX6_tour_6 24 rfl rfl
theorem dksX6_tour_8 : cX6_tour.data.toList.drop 189 = dktX6_tour_8 := dk_seg dksX6_tour_7 24 rfl rfl
theorem dX6_tour_0 : decode cX6_tour 0 = .ok (.aload_n 1, 1) := dk_43 (dk_at dksX6_tour_0 0 rfl rfl)
theorem dX6_tour_1 : decode cX6_tour 1 = .ok (.getfield 62, 3) := dk_180 0 62 (dk_at dksX6_tour_0 1 rfl rfl)
theorem dX6_tour_4 : decode cX6_tour 4 = .ok (.astore 4, 2) := dk_58 4 (dk_at dksX6_tour_0 4 rfl rfl)
theorem dX6_tour_6 : decode cX6_tour 6 = .ok (.aload_n 0, 1) := dk_42 (dk_at dksX6_tour_0 6 rfl rfl)
theorem dX6_tour_7 : decode cX6_tour 7 = .ok (.aload 4, 2) := dk_25 4 (dk_at dksX6_tour_0 7 rfl rfl)
theorem dX6_tour_9 : decode cX6_tour 9 = .ok (.iload_n 2, 1) := dk_28 (dk_at dksX6_tour_0 9 rfl rfl)
theorem dX6_tour_10 : decode cX6_tour 10 = .ok (.invokevirtual 99, 3) := dk_182 0 99 (dk_at dksX6_tour_0 10 rfl rfl)
theorem dX6_tour_13 : decode cX6_tour 13 = .ok (.ldc2_w 33, 3) := dk_20 0 33 (dk_at dksX6_tour_0 13 rfl rfl)
theorem dX6_tour_16 : decode cX6_tour 16 = .ok (.lstore 5, 2) := dk_55 5 (dk_at dksX6_tour_0 16 rfl rfl)
theorem dX6_tour_18 : decode cX6_tour 18 = .ok (.iconst 0, 1) := dk_3 (dk_at dksX6_tour_0 18 rfl rfl)
theorem dX6_tour_19 : decode cX6_tour 19 = .ok (.istore 7, 2) := dk_54 7 (dk_at dksX6_tour_0 19 rfl rfl)
theorem dX6_tour_21 : decode cX6_tour 21 = .ok (.iload 7, 2) := dk_21 7 (dk_at dksX6_tour_0 21 rfl rfl)
theorem dX6_tour_23 : decode cX6_tour 23 = .ok (.aload 4, 2) := dk_25 4 (dk_at dksX6_tour_1 0 rfl rfl)
theorem dX6_tour_25 : decode cX6_tour 25 = .ok (.invokevirtual 103, 3) := dk_182 0 103 (dk_at dksX6_tour_1 2 rfl rfl)
theorem dX6_tour_28 : decode cX6_tour 28 = .ok (.if_icmp .gt 160, 3) := dk_163 0 160 (dk_at dksX6_tour_1 5 rfl rfl)
theorem dX6_tour_31 : decode cX6_tour 31 = .ok (.aload_n 0, 1) := dk_42 (dk_at dksX6_tour_1 8 rfl rfl)
theorem dX6_tour_32 : decode cX6_tour 32 = .ok (.aload 4, 2) := dk_25 4 (dk_at dksX6_tour_1 9 rfl rfl)
theorem dX6_tour_34 : decode cX6_tour 34 = .ok (.iload 7, 2) := dk_21 7 (dk_at dksX6_tour_1 11 rfl rfl)
theorem dX6_tour_36 : decode cX6_tour 36 = .ok (.invokevirtual 107, 3) := dk_182 0 107 (dk_at dksX6_tour_1 13 rfl rfl)
theorem dX6_tour_39 : decode cX6_tour 39 = .ok (.iload_n 3, 1) := dk_29 (dk_at dksX6_tour_1 16 rfl rfl)
theorem dX6_tour_40 : decode cX6_tour 40 = .ok (.if_icmp .le 6, 3) := dk_164 0 6 (dk_at dksX6_tour_1 17 rfl rfl)
theorem dX6_tour_43 : decode cX6_tour 43 = .ok (.goto 139, 3) := dk_167 0 139 (dk_at dksX6_tour_1 20 rfl rfl)
theorem dX6_tour_46 : decode cX6_tour 46 = .ok (.iconst 1, 1) := dk_4 (dk_at dksX6_tour_1 23 rfl rfl)
theorem dX6_tour_47 : decode cX6_tour 47 = .ok (.istore 8, 2) := dk_54 8 (dk_at dksX6_tour_2 0 rfl rfl)
theorem dX6_tour_49 : decode cX6_tour 49 = .ok (.aload_n 0, 1) := dk_42 (dk_at dksX6_tour_2 2 rfl rfl)
theorem dX6_tour_50 : decode cX6_tour 50 = .ok (.getfield 11, 3) := dk_180 0 11 (dk_at dksX6_tour_2 3 rfl rfl)
theorem dX6_tour_53 : decode cX6_tour 53 = .ok (.iconst 0, 1) := dk_3 (dk_at dksX6_tour_2 6 rfl rfl)
theorem dX6_tour_54 : decode cX6_tour 54 = .ok (.aaload, 1) := dk_50 (dk_at dksX6_tour_2 7 rfl rfl)
theorem dX6_tour_55 : decode cX6_tour 55 = .ok (.aload_n 1, 1) := dk_43 (dk_at dksX6_tour_2 8 rfl rfl)
theorem dX6_tour_56 : decode cX6_tour 56 = .ok (.invokevirtual 39, 3) := dk_182 0 39 (dk_at dksX6_tour_2 9 rfl rfl)
theorem dX6_tour_59 : decode cX6_tour 59 = .ok (.pop, 1) := dk_87 (dk_at dksX6_tour_2 12 rfl rfl)
theorem dX6_tour_60 : decode cX6_tour 60 = .ok (.iconst 0, 1) := dk_3 (dk_at dksX6_tour_2 13 rfl rfl)
theorem dX6_tour_61 : decode cX6_tour 61 = .ok (.istore 9, 2) := dk_54 9 (dk_at dksX6_tour_2 14 rfl rfl)
theorem dX6_tour_63 : decode cX6_tour 63 = .ok (.iload 9, 2) := dk_21 9 (dk_at dksX6_tour_2 16 rfl rfl)
theorem dX6_tour_65 : decode cX6_tour 65 = .ok (.aload 4, 2) := dk_25 4 (dk_at dksX6_tour_2 18 rfl rfl)
theorem dX6_tour_67 : decode cX6_tour 67 = .ok (.getfield 66, 3) := dk_180 0 66 (dk_at dksX6_tour_2 20 rfl rfl)
theorem dX6_tour_70 : decode cX6_tour 70 = .ok (.if_icmp .ge 62, 3) := dk_162 0 62 (dk_at dksX6_tour_3 0 rfl rfl)
theorem dX6_tour_73 : decode cX6_tour 73 = .ok (.iload 7, 2) := dk_21 7 (dk_at dksX6_tour_3 3 rfl rfl)
theorem dX6_tour_75 : decode cX6_tour 75 = .ok (.iload 9, 2) := dk_21 9 (dk_at dksX6_tour_3 5 rfl rfl)
theorem dX6_tour_77 : decode cX6_tour 77 = .ok (.invokestatic 79, 3) := dk_184 0 79 (dk_at dksX6_tour_3 7 rfl rfl)
theorem dX6_tour_80 : decode cX6_tour 80 = .ok (.ifCond .ne 6, 3) := dk_154 0 6 (dk_at dksX6_tour_3 10 rfl rfl)
theorem dX6_tour_83 : decode cX6_tour 83 = .ok (.goto 43, 3) := dk_167 0 43 (dk_at dksX6_tour_3 13 rfl rfl)
theorem dX6_tour_86 : decode cX6_tour 86 = .ok (.iload 8, 2) := dk_21 8 (dk_at dksX6_tour_3 16 rfl rfl)
theorem dX6_tour_88 : decode cX6_tour 88 = .ok (.ifCond .eq 17, 3) := dk_153 0 17 (dk_at dksX6_tour_3 18 rfl rfl)
theorem dX6_tour_91 : decode cX6_tour 91 = .ok (.aload_n 1, 1) := dk_43 (dk_at dksX6_tour_3 21 rfl rfl)
theorem dX6_tour_92 : decode cX6_tour 92 = .ok (.iload_n 2, 1) := dk_28 (dk_at dksX6_tour_3 22 rfl rfl)
theorem dX6_tour_93 : decode cX6_tour 93 = .ok (.iload 9, 2) := dk_21 9 (dk_at dksX6_tour_4 0 rfl rfl)
theorem dX6_tour_95 : decode cX6_tour 95 = .ok (.invokevirtual 71, 3) := dk_182 0 71 (dk_at dksX6_tour_4 2 rfl rfl)
theorem dX6_tour_98 : decode cX6_tour 98 = .ok (.ifCond .eq 7, 3) := dk_153 0 7 (dk_at dksX6_tour_4 5 rfl rfl)
theorem dX6_tour_101 : decode cX6_tour 101 = .ok (.iconst 1, 1) := dk_4 (dk_at dksX6_tour_4 8 rfl rfl)
theorem dX6_tour_102 : decode cX6_tour 102 = .ok (.goto 4, 3) := dk_167 0 4 (dk_at dksX6_tour_4 9 rfl rfl)
theorem dX6_tour_105 : decode cX6_tour 105 = .ok (.iconst 0, 1) := dk_3 (dk_at dksX6_tour_4 12 rfl rfl)
theorem dX6_tour_106 : decode cX6_tour 106 = .ok (.istore 8, 2) := dk_54 8 (dk_at dksX6_tour_4 13 rfl rfl)
theorem dX6_tour_108 : decode cX6_tour 108 = .ok (.iload 8, 2) := dk_21 8 (dk_at dksX6_tour_4 15 rfl rfl)
theorem dX6_tour_110 : decode cX6_tour 110 = .ok (.ifCond .eq 16, 3) := dk_153 0 16 (dk_at dksX6_tour_4 17 rfl rfl)
theorem dX6_tour_113 : decode cX6_tour 113 = .ok (.aload_n 0, 1) := dk_42 (dk_at dksX6_tour_4 20 rfl rfl)
theorem dX6_tour_114 : decode cX6_tour 114 = .ok (.getfield 11, 3) := dk_180 0 11 (dk_at dksX6_tour_4 21 rfl rfl)
theorem dX6_tour_117 : decode cX6_tour 117 = .ok (.iconst 0, 1) := dk_3 (dk_at dksX6_tour_5 0 rfl rfl)
theorem dX6_tour_118 : decode cX6_tour 118 = .ok (.aaload, 1) := dk_50 (dk_at dksX6_tour_5 1 rfl rfl)
theorem dX6_tour_119 : decode cX6_tour 119 = .ok (.iload_n 2, 1) := dk_28 (dk_at dksX6_tour_5 2 rfl rfl)
theorem dX6_tour_120 : decode cX6_tour 120 = .ok (.iload 9, 2) := dk_21 9 (dk_at dksX6_tour_5 3 rfl rfl)
theorem dX6_tour_122 : decode cX6_tour 122 = .ok (.invokevirtual 75, 3) := dk_182 0 75 (dk_at dksX6_tour_5 5 rfl rfl)
theorem dX6_tour_125 : decode cX6_tour 125 = .ok (.pop, 1) := dk_87 (dk_at dksX6_tour_5 8 rfl rfl)
theorem dX6_tour_126 : decode cX6_tour 126 = .ok (.iinc 9 1, 3) := dk_132 9 1 (dk_at dksX6_tour_5 9 rfl rfl)
theorem dX6_tour_129 : decode cX6_tour 129 = .ok (.goto (-66), 3) := dk_167 255 190 (dk_at dksX6_tour_5 12 rfl rfl)
theorem dX6_tour_132 : decode cX6_tour 132 = .ok (.iload 8, 2) := dk_21 8 (dk_at dksX6_tour_5 15 rfl rfl)
theorem dX6_tour_134 : decode cX6_tour 134 = .ok (.ifCond .eq 48, 3) := dk_153 0 48 (dk_at dksX6_tour_5 17 rfl rfl)
theorem dX6_tour_137 : decode cX6_tour 137 = .ok (.aload_n 0, 1) := dk_42 (dk_at dksX6_tour_5 20 rfl rfl)
theorem dX6_tour_138 : decode cX6_tour 138 = .ok (.getfield 21, 3) := dk_180 0 21 (dk_at dksX6_tour_5 21 rfl rfl)
theorem dX6_tour_141 : decode cX6_tour 141 = .ok (.aload_n 0, 1) := dk_42 (dk_at dksX6_tour_6 0 rfl rfl)
theorem dX6_tour_142 : decode cX6_tour 142 = .ok (.getfield 11, 3) := dk_180 0 11 (dk_at dksX6_tour_6 1 rfl rfl)
theorem dX6_tour_145 : decode cX6_tour 145 = .ok (.iconst 0, 1) := dk_3 (dk_at dksX6_tour_6 4 rfl rfl)
theorem dX6_tour_146 : decode cX6_tour 146 = .ok (.aaload, 1) := dk_50 (dk_at dksX6_tour_6 5 rfl rfl)
theorem dX6_tour_147 : decode cX6_tour 147 = .ok (.iload_n 2, 1) := dk_28 (dk_at dksX6_tour_6 6 rfl rfl)
theorem dX6_tour_148 : decode cX6_tour 148 = .ok (.invokevirtual 47, 3) := dk_182 0 47 (dk_at dksX6_tour_6 7 rfl rfl)
theorem dX6_tour_151 : decode cX6_tour 151 = .ok (.lload 5, 2) := dk_22 5 (dk_at dksX6_tour_6 10 rfl rfl)
theorem dX6_tour_153 : decode cX6_tour 153 = .ok (.lcmp, 1) := dk_148 (dk_at dksX6_tour_6 12 rfl rfl)
theorem dX6_tour_154 : decode cX6_tour 154 = .ok (.ifCond .gt 6, 3) := dk_157 0 6 (dk_at dksX6_tour_6 13 rfl rfl)
theorem dX6_tour_157 : decode cX6_tour 157 = .ok (.goto 25, 3) := dk_167 0 25 (dk_at dksX6_tour_6 16 rfl rfl)
theorem dX6_tour_160 : decode cX6_tour 160 = .ok (.aload_n 0, 1) := dk_42 (dk_at dksX6_tour_6 19 rfl rfl)
theorem dX6_tour_161 : decode cX6_tour 161 = .ok (.getfield 21, 3) := dk_180 0 21 (dk_at dksX6_tour_6 20 rfl rfl)
theorem dX6_tour_164 : decode cX6_tour 164 = .ok (.aload_n 0, 1) := dk_42 (dk_at dksX6_tour_6 23 rfl rfl)
theorem dX6_tour_165 : decode cX6_tour 165 = .ok (.getfield 11, 3) := dk_180 0 11 (dk_at dksX6_tour_7 0 rfl rfl)
theorem dX6_tour_168 : decode cX6_tour 168 = .ok (.iconst 0, 1) := dk_3 (dk_at dksX6_tour_7 3 rfl rfl)
theorem dX6_tour_169 : decode cX6_tour 169 = .ok (.aaload, 1) := dk_50 (dk_at dksX6_tour_7 4 rfl rfl)
theorem dX6_tour_170 : decode cX6_tour 170 = .ok (.iload_n 2, 1) := dk_28 (dk_at dksX6_tour_7 5 rfl rfl)
theorem dX6_tour_171 : decode cX6_tour 171 = .ok (.invokevirtual 47, 3) := dk_182 0 47 (dk_at dksX6_tour_7 6 rfl rfl)
theorem dX6_tour_174 : decode cX6_tour 174 = .ok (.lstore 5, 2) := dk_55 5 (dk_at dksX6_tour_7 9 rfl rfl)
theorem dX6_tour_176 : decode cX6_tour 176 = .ok (.aload_n 0, 1) := dk_42 (dk_at dksX6_tour_7 11 rfl rfl)
theorem dX6_tour_177 : decode cX6_tour 177 = .ok (.iload 7, 2) := dk_21 7 (dk_at dksX6_tour_7 12 rfl rfl)
theorem dX6_tour_179 : decode cX6_tour 179 = .ok (.putfield 111, 3) := dk_181 0 111 (dk_at dksX6_tour_7 14 rfl rfl)
theorem dX6_tour_182 : decode cX6_tour 182 = .ok (.iinc 7 1, 3) := dk_132 7 1 (dk_at dksX6_tour_7 17 rfl rfl)
theorem dX6_tour_185 : decode cX6_tour 185 = .ok (.goto (-164), 3) := dk_167 255 92 (dk_at dksX6_tour_7 20 rfl rfl)
theorem dX6_tour_188 : decode cX6_tour 188 = .ok (.aload_n 0, 1) := dk_42 (dk_at dksX6_tour_7 23 rfl rfl)
theorem dX6_tour_189 : decode cX6_tour 189 = .ok (.aload_n 0, 1) := dk_42 (dk_at dksX6_tour_8 0 rfl rfl)
theorem dX6_tour_190 : decode cX6_tour 190 = .ok (.aload 4, 2) := dk_25 4 (dk_at dksX6_tour_8 1 rfl rfl)
theorem dX6_tour_192 : decode cX6_tour 192 = .ok (.aload_n 0, 1) := dk_42 (dk_at dksX6_tour_8 3 rfl rfl)
theorem dX6_tour_193 : decode cX6_tour 193 = .ok (.getfield 111, 3) := dk_180 0 111 (dk_at dksX6_tour_8 4 rfl rfl)
theorem dX6_tour_196 : decode cX6_tour 196 = .ok (.invokevirtual 107, 3) := dk_182 0 107 (dk_at dksX6_tour_8 7 rfl rfl)
theorem dX6_tour_199 : decode cX6_tour 199 = .ok (.i2l, 1) := dk_133 (dk_at dksX6_tour_8 10 rfl rfl)
theorem dX6_tour_200 : decode cX6_tour 200 = .ok (.putfield 35, 3) := dk_181 0 35 (dk_at dksX6_tour_8 11 rfl rfl)
theorem dX6_tour_203 : decode cX6_tour 203 = .ok (.aload_n 0, 1) := dk_42 (dk_at dksX6_tour_8 14 rfl rfl)
theorem dX6_tour_204 : decode cX6_tour 204 = .ok (.areturn, 1) := dk_176 (dk_at dksX6_tour_8 15 rfl rfl)
abbrev cX6_lay : ByteArray := prog_2_method_5_code
def yX6_lay : MethodName := ⟨RX6, "lay", "(LLastAsked$City;I)V"⟩
def dkwX6_lay_6 : List UInt8 := [132, 4, 1, 167, 255, 122, 132, 3, 1, 167, 255, 107, 177]
abbrev dktX6_lay_6 : List UInt8 := dkwX6_lay_6 ++ []
def dkwX6_lay_5 : List UInt8 := [167, 255, 196, 42, 180, 0, 17, 16, 6, 29, 104, 21, 4, 96, 21, 5, 18, 91, 184, 0, 96, 79]
abbrev dktX6_lay_5 : List UInt8 := dkwX6_lay_5 ++ dktX6_lay_6
def dkwX6_lay_4 : List UInt8 := [21, 6, 104, 21, 7, 96, 46, 43, 21, 7, 21, 4, 184, 0, 92, 96, 184, 0, 96, 54, 5, 132, 7, 1]
abbrev dktX6_lay_4 : List UInt8 := dkwX6_lay_4 ++ dktX6_lay_5
def dkwX6_lay_3 : List UInt8 := [184, 0, 79, 153, 0, 42, 21, 6, 21, 7, 184, 0, 79, 153, 0, 32, 21, 5, 42, 180, 0, 17, 16, 6]
abbrev dktX6_lay_3 : List UInt8 := dkwX6_lay_3 ++ dktX6_lay_4
def dkwX6_lay_2 : List UInt8 := [43, 28, 21, 4, 184, 0, 92, 54, 5, 3, 54, 7, 21, 7, 43, 180, 0, 66, 162, 0, 57, 29, 21, 4]
abbrev dktX6_lay_2 : List UInt8 := dkwX6_lay_2 ++ dktX6_lay_3
def dkwX6_lay_1 : List UInt8 := [29, 4, 21, 4, 120, 2, 130, 126, 54, 6, 29, 21, 4, 184, 0, 79, 153, 0, 17, 21, 6, 154, 0, 12]
abbrev dktX6_lay_1 : List UInt8 := dkwX6_lay_1 ++ dktX6_lay_2
def dkwX6_lay_0 : List UInt8 := [3, 62, 29, 16, 64, 162, 0, 149, 3, 54, 4, 21, 4, 43, 180, 0, 66, 162, 0, 131, 18, 91, 54, 5]
abbrev dktX6_lay_0 : List UInt8 := dkwX6_lay_0 ++ dktX6_lay_1
theorem dksX6_lay_0 : cX6_lay.data.toList.drop 0 = dktX6_lay_0 := by decide +kernel
theorem dksX6_lay_1 : cX6_lay.data.toList.drop 24 = dktX6_lay_1 := dk_seg dksX6_lay_0 24 rfl rfl
theorem dksX6_lay_2 : cX6_lay.data.toList.drop 48 = dktX6_lay_2 := dk_seg dksX6_lay_1 24 rfl rfl
theorem dksX6_lay_3 : cX6_lay.data.toList.drop 72 = dktX6_lay_3 := dk_seg dksX6_lay_2 24 rfl rfl
theorem dksX6_lay_4 : cX6_lay.data.toList.drop 96 = dktX6_lay_4 := dk_seg dksX6_lay_3 24 rfl rfl
theorem dksX6_lay_5 : cX6_lay.data.toList.drop 120 = dktX6_lay_5 := dk_seg dksX6_lay_4 24 rfl rfl
theorem dksX6_lay_6 : cX6_lay.data.toList.drop 142 = dktX6_lay_6 := dk_seg dksX6_lay_5 22 rfl rfl
theorem dX6_lay_0 : decode cX6_lay 0 = .ok (.iconst 0, 1) := dk_3 (dk_at dksX6_lay_0 0 rfl rfl)
theorem dX6_lay_1 : decode cX6_lay 1 = .ok (.istore_n 3, 1) := dk_62 (dk_at dksX6_lay_0 1 rfl rfl)
theorem dX6_lay_2 : decode cX6_lay 2 = .ok (.iload_n 3, 1) := dk_29 (dk_at dksX6_lay_0 2 rfl rfl)
theorem dX6_lay_3 : decode cX6_lay 3 = .ok (.bipush 64, 2) := dk_16 64 (dk_at dksX6_lay_0 3 rfl rfl)
theorem dX6_lay_5 : decode cX6_lay 5 = .ok (.if_icmp .ge 149, 3) := dk_162 0 149 (dk_at dksX6_lay_0 5 rfl rfl)
theorem dX6_lay_8 : decode cX6_lay 8 = .ok (.iconst 0, 1) := dk_3 (dk_at dksX6_lay_0 8 rfl rfl)
theorem dX6_lay_9 : decode cX6_lay 9 = .ok (.istore 4, 2) := dk_54 4 (dk_at dksX6_lay_0 9 rfl rfl)
theorem dX6_lay_11 : decode cX6_lay 11 = .ok (.iload 4, 2) := dk_21 4 (dk_at dksX6_lay_0 11 rfl rfl)
theorem dX6_lay_13 : decode cX6_lay 13 = .ok (.aload_n 1, 1) := dk_43 (dk_at dksX6_lay_0 13 rfl rfl)
theorem dX6_lay_14 : decode cX6_lay 14 = .ok (.getfield 66, 3) := dk_180 0 66 (dk_at dksX6_lay_0 14 rfl rfl)
theorem dX6_lay_17 : decode cX6_lay 17 = .ok (.if_icmp .ge 131, 3) := dk_162 0 131 (dk_at dksX6_lay_0 17 rfl rfl)
theorem dX6_lay_20 : decode cX6_lay 20 = .ok (.ldc 91, 2) := dk_18 91 (dk_at dksX6_lay_0 20 rfl rfl)
theorem dX6_lay_22 : decode cX6_lay 22 = .ok (.istore 5, 2) := dk_54 5 (dk_at dksX6_lay_0 22 rfl rfl)
theorem dX6_lay_24 : decode cX6_lay 24 = .ok (.iload_n 3, 1) := dk_29 (dk_at dksX6_lay_1 0 rfl rfl)
theorem dX6_lay_25 : decode cX6_lay 25 = .ok (.iconst 1, 1) := dk_4 (dk_at dksX6_lay_1 1 rfl rfl)
theorem dX6_lay_26 : decode cX6_lay 26 = .ok (.iload 4, 2) := dk_21 4 (dk_at dksX6_lay_1 2 rfl rfl)
theorem dX6_lay_28 : decode cX6_lay 28 = .ok (.ishl, 1) := dk_120 (dk_at dksX6_lay_1 4 rfl rfl)
theorem dX6_lay_29 : decode cX6_lay 29 = .ok (.iconst (-1), 1) := dk_2 (dk_at dksX6_lay_1 5 rfl rfl)
theorem dX6_lay_30 : decode cX6_lay 30 = .ok (.ixor, 1) := dk_130 (dk_at dksX6_lay_1 6 rfl rfl)
theorem dX6_lay_31 : decode cX6_lay 31 = .ok (.iand, 1) := dk_126 (dk_at dksX6_lay_1 7 rfl rfl)
theorem dX6_lay_32 : decode cX6_lay 32 = .ok (.istore 6, 2) := dk_54 6 (dk_at dksX6_lay_1 8 rfl rfl)
theorem dX6_lay_34 : decode cX6_lay 34 = .ok (.iload_n 3, 1) := dk_29 (dk_at dksX6_lay_1 10 rfl rfl)
theorem dX6_lay_35 : decode cX6_lay 35 = .ok (.iload 4, 2) := dk_21 4 (dk_at dksX6_lay_1 11 rfl rfl)
theorem dX6_lay_37 : decode cX6_lay 37 = .ok (.invokestatic 79, 3) := dk_184 0 79 (dk_at dksX6_lay_1 13 rfl rfl)
theorem dX6_lay_40 : decode cX6_lay 40 = .ok (.ifCond .eq 17, 3) := dk_153 0 17 (dk_at dksX6_lay_1 16 rfl rfl)
theorem dX6_lay_43 : decode cX6_lay 43 = .ok (.iload 6, 2) := dk_21 6 (dk_at dksX6_lay_1 19 rfl rfl)
theorem dX6_lay_45 : decode cX6_lay 45 = .ok (.ifCond .ne 12, 3) := dk_154 0 12 (dk_at dksX6_lay_1 21 rfl rfl)
theorem dX6_lay_48 : decode cX6_lay 48 = .ok (.aload_n 1, 1) := dk_43 (dk_at dksX6_lay_2 0 rfl rfl)
theorem dX6_lay_49 : decode cX6_lay 49 = .ok (.iload_n 2, 1) := dk_28 (dk_at dksX6_lay_2 1 rfl rfl)
theorem dX6_lay_50 : decode cX6_lay 50 = .ok (.iload 4, 2) := dk_21 4 (dk_at dksX6_lay_2 2 rfl rfl)
theorem dX6_lay_52 : decode cX6_lay 52 = .ok (.invokestatic 92, 3) := dk_184 0 92 (dk_at dksX6_lay_2 4 rfl rfl)
theorem dX6_lay_55 : decode cX6_lay 55 = .ok (.istore 5, 2) := dk_54 5 (dk_at dksX6_lay_2 7 rfl rfl)
theorem dX6_lay_57 : decode cX6_lay 57 = .ok (.iconst 0, 1) := dk_3 (dk_at dksX6_lay_2 9 rfl rfl)
theorem dX6_lay_58 : decode cX6_lay 58 = .ok (.istore 7, 2) := dk_54 7 (dk_at dksX6_lay_2 10 rfl rfl)
theorem dX6_lay_60 : decode cX6_lay 60 = .ok (.iload 7, 2) := dk_21 7 (dk_at dksX6_lay_2 12 rfl rfl)
theorem dX6_lay_62 : decode cX6_lay 62 = .ok (.aload_n 1, 1) := dk_43 (dk_at dksX6_lay_2 14 rfl rfl)
theorem dX6_lay_63 : decode cX6_lay 63 = .ok (.getfield 66, 3) := dk_180 0 66 (dk_at dksX6_lay_2 15 rfl rfl)
theorem dX6_lay_66 : decode cX6_lay 66 = .ok (.if_icmp .ge 57, 3) := dk_162 0 57 (dk_at dksX6_lay_2 18 rfl rfl)
theorem dX6_lay_69 : decode cX6_lay 69 = .ok (.iload_n 3, 1) := dk_29 (dk_at dksX6_lay_2 21 rfl rfl)
theorem dX6_lay_70 : decode cX6_lay 70 = .ok (.iload 4, 2) := dk_21 4 (dk_at dksX6_lay_2 22 rfl rfl)
theorem dX6_lay_72 : decode cX6_lay 72 = .ok (.invokestatic 79, 3) := dk_184 0 79 (dk_at dksX6_lay_3 0 rfl rfl)
theorem dX6_lay_75 : decode cX6_lay 75 = .ok (.ifCond .eq 42, 3) := dk_153 0 42 (dk_at dksX6_lay_3 3 rfl rfl)
theorem dX6_lay_78 : decode cX6_lay 78 = .ok (.iload 6, 2) := dk_21 6 (dk_at dksX6_lay_3 6 rfl rfl)
theorem dX6_lay_80 : decode cX6_lay 80 = .ok (.iload 7, 2) := dk_21 7 (dk_at dksX6_lay_3 8 rfl rfl)
theorem dX6_lay_82 : decode cX6_lay 82 = .ok (.invokestatic 79, 3) := dk_184 0 79 (dk_at dksX6_lay_3 10 rfl rfl)
theorem dX6_lay_85 : decode cX6_lay 85 = .ok (.ifCond .eq 32, 3) := dk_153 0 32 (dk_at dksX6_lay_3 13 rfl rfl)
theorem dX6_lay_88 : decode cX6_lay 88 = .ok (.iload 5, 2) := dk_21 5 (dk_at dksX6_lay_3 16 rfl rfl)
theorem dX6_lay_90 : decode cX6_lay 90 = .ok (.aload_n 0, 1) := dk_42 (dk_at dksX6_lay_3 18 rfl rfl)
theorem dX6_lay_91 : decode cX6_lay 91 = .ok (.getfield 17, 3) := dk_180 0 17 (dk_at dksX6_lay_3 19 rfl rfl)
theorem dX6_lay_94 : decode cX6_lay 94 = .ok (.bipush 6, 2) := dk_16 6 (dk_at dksX6_lay_3 22 rfl rfl)
theorem dX6_lay_96 : decode cX6_lay 96 = .ok (.iload 6, 2) := dk_21 6 (dk_at dksX6_lay_4 0 rfl rfl)
theorem dX6_lay_98 : decode cX6_lay 98 = .ok (.imul, 1) := dk_104 (dk_at dksX6_lay_4 2 rfl rfl)
theorem dX6_lay_99 : decode cX6_lay 99 = .ok (.iload 7, 2) := dk_21 7 (dk_at dksX6_lay_4 3 rfl rfl)
theorem dX6_lay_101 : decode cX6_lay 101 = .ok (.iadd, 1) := dk_96 (dk_at dksX6_lay_4 5 rfl rfl)
theorem dX6_lay_102 : decode cX6_lay 102 = .ok (.iaload, 1) := dk_46 (dk_at dksX6_lay_4 6 rfl rfl)
theorem dX6_lay_103 : decode cX6_lay 103 = .ok (.aload_n 1, 1) := dk_43 (dk_at dksX6_lay_4 7 rfl rfl)
theorem dX6_lay_104 : decode cX6_lay 104 = .ok (.iload 7, 2) := dk_21 7 (dk_at dksX6_lay_4 8 rfl rfl)
theorem dX6_lay_106 : decode cX6_lay 106 = .ok (.iload 4, 2) := dk_21 4 (dk_at dksX6_lay_4 10 rfl rfl)
theorem dX6_lay_108 : decode cX6_lay 108 = .ok (.invokestatic 92, 3) := dk_184 0 92 (dk_at dksX6_lay_4 12 rfl rfl)
theorem dX6_lay_111 : decode cX6_lay 111 = .ok (.iadd, 1) := dk_96 (dk_at dksX6_lay_4 15 rfl rfl)
theorem dX6_lay_112 : decode cX6_lay 112 = .ok (.invokestatic 96, 3) := dk_184 0 96 (dk_at dksX6_lay_4 16 rfl rfl)
theorem dX6_lay_115 : decode cX6_lay 115 = .ok (.istore 5, 2) := dk_54 5 (dk_at dksX6_lay_4 19 rfl rfl)
theorem dX6_lay_117 : decode cX6_lay 117 = .ok (.iinc 7 1, 3) := dk_132 7 1 (dk_at dksX6_lay_4 21 rfl rfl)
theorem dX6_lay_120 : decode cX6_lay 120 = .ok (.goto (-60), 3) := dk_167 255 196 (dk_at dksX6_lay_5 0 rfl rfl)
theorem dX6_lay_123 : decode cX6_lay 123 = .ok (.aload_n 0, 1) := dk_42 (dk_at dksX6_lay_5 3 rfl rfl)
theorem dX6_lay_124 : decode cX6_lay 124 = .ok (.getfield 17, 3) := dk_180 0 17 (dk_at dksX6_lay_5 4 rfl rfl)
theorem dX6_lay_127 : decode cX6_lay 127 = .ok (.bipush 6, 2) := dk_16 6 (dk_at dksX6_lay_5 7 rfl rfl)
theorem dX6_lay_129 : decode cX6_lay 129 = .ok (.iload_n 3, 1) := dk_29 (dk_at dksX6_lay_5 9 rfl rfl)
theorem dX6_lay_130 : decode cX6_lay 130 = .ok (.imul, 1) := dk_104 (dk_at dksX6_lay_5 10 rfl rfl)
theorem dX6_lay_131 : decode cX6_lay 131 = .ok (.iload 4, 2) := dk_21 4 (dk_at dksX6_lay_5 11 rfl rfl)
theorem dX6_lay_133 : decode cX6_lay 133 = .ok (.iadd, 1) := dk_96 (dk_at dksX6_lay_5 13 rfl rfl)
theorem dX6_lay_134 : decode cX6_lay 134 = .ok (.iload 5, 2) := dk_21 5 (dk_at dksX6_lay_5 14 rfl rfl)
theorem dX6_lay_136 : decode cX6_lay 136 = .ok (.ldc 91, 2) := dk_18 91 (dk_at dksX6_lay_5 16 rfl rfl)
theorem dX6_lay_138 : decode cX6_lay 138 = .ok (.invokestatic 96, 3) := dk_184 0 96 (dk_at dksX6_lay_5 18 rfl rfl)
theorem dX6_lay_141 : decode cX6_lay 141 = .ok (.iastore, 1) := dk_79 (dk_at dksX6_lay_5 21 rfl rfl)
theorem dX6_lay_142 : decode cX6_lay 142 = .ok (.iinc 4 1, 3) := dk_132 4 1 (dk_at dksX6_lay_6 0 rfl rfl)
theorem dX6_lay_145 : decode cX6_lay 145 = .ok (.goto (-134), 3) := dk_167 255 122 (dk_at dksX6_lay_6 3 rfl rfl)
theorem dX6_lay_148 : decode cX6_lay 148 = .ok (.iinc 3 1, 3) := dk_132 3 1 (dk_at dksX6_lay_6 6 rfl rfl)
theorem dX6_lay_151 : decode cX6_lay 151 = .ok (.goto (-149), 3) := dk_167 255 107 (dk_at dksX6_lay_6 9 rfl rfl)
theorem dX6_lay_154 : decode cX6_lay 154 = .ok (.return_, 1) := dk_177 (dk_at dksX6_lay_6 12 rfl rfl)
abbrev cX6_apart : ByteArray := prog_2_method_4_code
def yX6_apart : MethodName := ⟨RX6, "apart", "(LLastAsked$City;II)I"⟩
def dkwX6_apart_3 : List UInt8 := [167, 255, 216, 21, 5, 62, 132, 4, 1, 167, 255, 183, 18, 91, 172]
abbrev dktX6_apart_3 : List UInt8 := dkwX6_apart_3 ++ []
def dkwX6_apart_2 : List UInt8 := [153, 0, 16, 42, 180, 0, 82, 21, 6, 50, 180, 0, 86, 167, 0, 4, 3, 128, 54, 5, 132, 6, 1]
abbrev dktX6_apart_2 : List UInt8 := dkwX6_apart_2 ++ dktX6_apart_3
def dkwX6_apart_1 : List UInt8 := [172, 29, 54, 5, 3, 54, 6, 21, 6, 42, 180, 0, 66, 162, 0, 37, 21, 5, 29, 21, 6, 184, 0, 79]
abbrev dktX6_apart_1 : List UInt8 := dkwX6_apart_1 ++ dktX6_apart_2
def dkwX6_apart_0 : List UInt8 := [4, 27, 120, 62, 3, 54, 4, 21, 4, 16, 6, 162, 0, 72, 29, 28, 184, 0, 79, 153, 0, 6, 21, 4]
abbrev dktX6_apart_0 : List UInt8 := dkwX6_apart_0 ++ dktX6_apart_1
theorem dksX6_apart_0 : cX6_apart.data.toList.drop 0 = dktX6_apart_0 := by decide +kernel
theorem dksX6_apart_1 : cX6_apart.data.toList.drop 24 = dktX6_apart_1 := dk_seg dksX6_apart_0 24 rfl rfl
theorem dksX6_apart_2 : cX6_apart.data.toList.drop 48 = dktX6_apart_2 := dk_seg dksX6_apart_1 24 rfl rfl
theorem dksX6_apart_3 : cX6_apart.data.toList.drop 71 = dktX6_apart_3 := dk_seg dksX6_apart_2 23 rfl rfl
theorem dX6_apart_0 : decode cX6_apart 0 = .ok (.iconst 1, 1) := dk_4 (dk_at dksX6_apart_0 0 rfl rfl)
theorem dX6_apart_1 : decode cX6_apart 1 = .ok (.iload_n 1, 1) := dk_27 (dk_at dksX6_apart_0 1 rfl rfl)
theorem dX6_apart_2 : decode cX6_apart 2 = .ok (.ishl, 1) := dk_120 (dk_at dksX6_apart_0 2 rfl rfl)
theorem dX6_apart_3 : decode cX6_apart 3 = .ok (.istore_n 3, 1) := dk_62 (dk_at dksX6_apart_0 3 rfl rfl)
theorem dX6_apart_4 : decode cX6_apart 4 = .ok (.iconst 0, 1) := dk_3 (dk_at dksX6_apart_0 4 rfl rfl)
theorem dX6_apart_5 : decode cX6_apart 5 = .ok (.istore 4, 2) := dk_54 4 (dk_at dksX6_apart_0 5 rfl rfl)
theorem dX6_apart_7 : decode cX6_apart 7 = .ok (.iload 4, 2) := dk_21 4 (dk_at dksX6_apart_0 7 rfl rfl)
theorem dX6_apart_9 : decode cX6_apart 9 = .ok (.bipush 6, 2) := dk_16 6 (dk_at dksX6_apart_0 9 rfl rfl)
theorem dX6_apart_11 : decode cX6_apart 11 = .ok (.if_icmp .ge 72, 3) := dk_162 0 72 (dk_at dksX6_apart_0 11 rfl rfl)
theorem dX6_apart_14 : decode cX6_apart 14 = .ok (.iload_n 3, 1) := dk_29 (dk_at dksX6_apart_0 14 rfl rfl)
theorem dX6_apart_15 : decode cX6_apart 15 = .ok (.iload_n 2, 1) := dk_28 (dk_at dksX6_apart_0 15 rfl rfl)
theorem dX6_apart_16 : decode cX6_apart 16 = .ok (.invokestatic 79, 3) := dk_184 0 79 (dk_at dksX6_apart_0 16 rfl rfl)
theorem dX6_apart_19 : decode cX6_apart 19 = .ok (.ifCond .eq 6, 3) := dk_153 0 6 (dk_at dksX6_apart_0 19 rfl rfl)
theorem dX6_apart_22 : decode cX6_apart 22 = .ok (.iload 4, 2) := dk_21 4 (dk_at dksX6_apart_0 22 rfl rfl)
theorem dX6_apart_24 : decode cX6_apart 24 = .ok (.ireturn, 1) := dk_172 (dk_at dksX6_apart_1 0 rfl rfl)
theorem dX6_apart_25 : decode cX6_apart 25 = .ok (.iload_n 3, 1) := dk_29 (dk_at dksX6_apart_1 1 rfl rfl)
theorem dX6_apart_26 : decode cX6_apart 26 = .ok (.istore 5, 2) := dk_54 5 (dk_at dksX6_apart_1 2 rfl rfl)
theorem dX6_apart_28 : decode cX6_apart 28 = .ok (.iconst 0, 1) := dk_3 (dk_at dksX6_apart_1 4 rfl rfl)
theorem dX6_apart_29 : decode cX6_apart 29 = .ok (.istore 6, 2) := dk_54 6 (dk_at dksX6_apart_1 5 rfl rfl)
theorem dX6_apart_31 : decode cX6_apart 31 = .ok (.iload 6, 2) := dk_21 6 (dk_at dksX6_apart_1 7 rfl rfl)
theorem dX6_apart_33 : decode cX6_apart 33 = .ok (.aload_n 0, 1) := dk_42 (dk_at dksX6_apart_1 9 rfl rfl)
theorem dX6_apart_34 : decode cX6_apart 34 = .ok (.getfield 66, 3) := dk_180 0 66 (dk_at dksX6_apart_1 10 rfl rfl)
theorem dX6_apart_37 : decode cX6_apart 37 = .ok (.if_icmp .ge 37, 3) := dk_162 0 37 (dk_at dksX6_apart_1 13 rfl rfl)
theorem dX6_apart_40 : decode cX6_apart 40 = .ok (.iload 5, 2) := dk_21 5 (dk_at dksX6_apart_1 16 rfl rfl)
theorem dX6_apart_42 : decode cX6_apart 42 = .ok (.iload_n 3, 1) := dk_29 (dk_at dksX6_apart_1 18 rfl rfl)
theorem dX6_apart_43 : decode cX6_apart 43 = .ok (.iload 6, 2) := dk_21 6 (dk_at dksX6_apart_1 19 rfl rfl)
theorem dX6_apart_45 : decode cX6_apart 45 = .ok (.invokestatic 79, 3) := dk_184 0 79 (dk_at dksX6_apart_1 21 rfl rfl)
theorem dX6_apart_48 : decode cX6_apart 48 = .ok (.ifCond .eq 16, 3) := dk_153 0 16 (dk_at dksX6_apart_2 0 rfl rfl)
theorem dX6_apart_51 : decode cX6_apart 51 = .ok (.aload_n 0, 1) := dk_42 (dk_at dksX6_apart_2 3 rfl rfl)
theorem dX6_apart_52 : decode cX6_apart 52 = .ok (.getfield 82, 3) := dk_180 0 82 (dk_at dksX6_apart_2 4 rfl rfl)
theorem dX6_apart_55 : decode cX6_apart 55 = .ok (.iload 6, 2) := dk_21 6 (dk_at dksX6_apart_2 7 rfl rfl)
theorem dX6_apart_57 : decode cX6_apart 57 = .ok (.aaload, 1) := dk_50 (dk_at dksX6_apart_2 9 rfl rfl)
theorem dX6_apart_58 : decode cX6_apart 58 = .ok (.getfield 86, 3) := dk_180 0 86 (dk_at dksX6_apart_2 10 rfl rfl)
theorem dX6_apart_61 : decode cX6_apart 61 = .ok (.goto 4, 3) := dk_167 0 4 (dk_at dksX6_apart_2 13 rfl rfl)
theorem dX6_apart_64 : decode cX6_apart 64 = .ok (.iconst 0, 1) := dk_3 (dk_at dksX6_apart_2 16 rfl rfl)
theorem dX6_apart_65 : decode cX6_apart 65 = .ok (.ior, 1) := dk_128 (dk_at dksX6_apart_2 17 rfl rfl)
theorem dX6_apart_66 : decode cX6_apart 66 = .ok (.istore 5, 2) := dk_54 5 (dk_at dksX6_apart_2 18 rfl rfl)
theorem dX6_apart_68 : decode cX6_apart 68 = .ok (.iinc 6 1, 3) := dk_132 6 1 (dk_at dksX6_apart_2 20 rfl rfl)
theorem dX6_apart_71 : decode cX6_apart 71 = .ok (.goto (-40), 3) := dk_167 255 216 (dk_at dksX6_apart_3 0 rfl rfl)
theorem dX6_apart_74 : decode cX6_apart 74 = .ok (.iload 5, 2) := dk_21 5 (dk_at dksX6_apart_3 3 rfl rfl)
theorem dX6_apart_76 : decode cX6_apart 76 = .ok (.istore_n 3, 1) := dk_62 (dk_at dksX6_apart_3 5 rfl rfl)
theorem dX6_apart_77 : decode cX6_apart 77 = .ok (.iinc 4 1, 3) := dk_132 4 1 (dk_at dksX6_apart_3 6 rfl rfl)
theorem dX6_apart_80 : decode cX6_apart 80 = .ok (.goto (-73), 3) := dk_167 255 183 (dk_at dksX6_apart_3 9 rfl rfl)
theorem dX6_apart_83 : decode cX6_apart 83 = .ok (.ldc 91, 2) := dk_18 91 (dk_at dksX6_apart_3 12 rfl rfl)
theorem dX6_apart_85 : decode cX6_apart 85 = .ok (.ireturn, 1) := dk_172 (dk_at dksX6_apart_3 14 rfl rfl)
abbrev cX6_hours : ByteArray := prog_2_method_6_code
def yX6_hours : MethodName := ⟨RX6, "hours", "(LLastAsked$City;I)I"⟩
def dkwX6_hours_2 : List UInt8 := [18, 91, 184, 0, 96, 62, 132, 4, 1, 167, 255, 213, 29, 172]
abbrev dktX6_hours_2 : List UInt8 := dkwX6_hours_2 ++ []
def dkwX6_hours_1 : List UInt8 := [28, 21, 4, 184, 0, 79, 153, 0, 18, 42, 180, 0, 17, 16, 6, 28, 104, 21, 4, 96, 46, 167, 0, 5]
abbrev dktX6_hours_1 : List UInt8 := dkwX6_hours_1 ++ dktX6_hours_2
def dkwX6_hours_0 : List UInt8 := [28, 154, 0, 7, 3, 167, 0, 5, 18, 91, 62, 3, 54, 4, 21, 4, 43, 180, 0, 66, 162, 0, 40, 29]
abbrev dktX6_hours_0 : List UInt8 := dkwX6_hours_0 ++ dktX6_hours_1
theorem dksX6_hours_0 : cX6_hours.data.toList.drop 0 = dktX6_hours_0 := by decide +kernel
theorem dksX6_hours_1 : cX6_hours.data.toList.drop 24 = dktX6_hours_1 := dk_seg dksX6_hours_0 24 rfl rfl
theorem dksX6_hours_2 : cX6_hours.data.toList.drop 48 = dktX6_hours_2 := dk_seg dksX6_hours_1 24 rfl rfl
theorem dX6_hours_0 : decode cX6_hours 0 = .ok (.iload_n 2, 1) := dk_28 (dk_at dksX6_hours_0 0 rfl rfl)
theorem dX6_hours_1 : decode cX6_hours 1 = .ok (.ifCond .ne 7, 3) := dk_154 0 7 (dk_at dksX6_hours_0 1 rfl rfl)
theorem dX6_hours_4 : decode cX6_hours 4 = .ok (.iconst 0, 1) := dk_3 (dk_at dksX6_hours_0 4 rfl rfl)
theorem dX6_hours_5 : decode cX6_hours 5 = .ok (.goto 5, 3) := dk_167 0 5 (dk_at dksX6_hours_0 5 rfl rfl)
theorem dX6_hours_8 : decode cX6_hours 8 = .ok (.ldc 91, 2) := dk_18 91 (dk_at dksX6_hours_0 8 rfl rfl)
theorem dX6_hours_10 : decode cX6_hours 10 = .ok (.istore_n 3, 1) := dk_62 (dk_at dksX6_hours_0 10 rfl rfl)
theorem dX6_hours_11 : decode cX6_hours 11 = .ok (.iconst 0, 1) := dk_3 (dk_at dksX6_hours_0 11 rfl rfl)
theorem dX6_hours_12 : decode cX6_hours 12 = .ok (.istore 4, 2) := dk_54 4 (dk_at dksX6_hours_0 12 rfl rfl)
theorem dX6_hours_14 : decode cX6_hours 14 = .ok (.iload 4, 2) := dk_21 4 (dk_at dksX6_hours_0 14 rfl rfl)
theorem dX6_hours_16 : decode cX6_hours 16 = .ok (.aload_n 1, 1) := dk_43 (dk_at dksX6_hours_0 16 rfl rfl)
theorem dX6_hours_17 : decode cX6_hours 17 = .ok (.getfield 66, 3) := dk_180 0 66 (dk_at dksX6_hours_0 17 rfl rfl)
theorem dX6_hours_20 : decode cX6_hours 20 = .ok (.if_icmp .ge 40, 3) := dk_162 0 40 (dk_at dksX6_hours_0 20 rfl rfl)
theorem dX6_hours_23 : decode cX6_hours 23 = .ok (.iload_n 3, 1) := dk_29 (dk_at dksX6_hours_0 23 rfl rfl)
theorem dX6_hours_24 : decode cX6_hours 24 = .ok (.iload_n 2, 1) := dk_28 (dk_at dksX6_hours_1 0 rfl rfl)
theorem dX6_hours_25 : decode cX6_hours 25 = .ok (.iload 4, 2) := dk_21 4 (dk_at dksX6_hours_1 1 rfl rfl)
theorem dX6_hours_27 : decode cX6_hours 27 = .ok (.invokestatic 79, 3) := dk_184 0 79 (dk_at dksX6_hours_1 3 rfl rfl)
theorem dX6_hours_30 : decode cX6_hours 30 = .ok (.ifCond .eq 18, 3) := dk_153 0 18 (dk_at dksX6_hours_1 6 rfl rfl)
theorem dX6_hours_33 : decode cX6_hours 33 = .ok (.aload_n 0, 1) := dk_42 (dk_at dksX6_hours_1 9 rfl rfl)
theorem dX6_hours_34 : decode cX6_hours 34 = .ok (.getfield 17, 3) := dk_180 0 17 (dk_at dksX6_hours_1 10 rfl rfl)
theorem dX6_hours_37 : decode cX6_hours 37 = .ok (.bipush 6, 2) := dk_16 6 (dk_at dksX6_hours_1 13 rfl rfl)
theorem dX6_hours_39 : decode cX6_hours 39 = .ok (.iload_n 2, 1) := dk_28 (dk_at dksX6_hours_1 15 rfl rfl)
theorem dX6_hours_40 : decode cX6_hours 40 = .ok (.imul, 1) := dk_104 (dk_at dksX6_hours_1 16 rfl rfl)
theorem dX6_hours_41 : decode cX6_hours 41 = .ok (.iload 4, 2) := dk_21 4 (dk_at dksX6_hours_1 17 rfl rfl)
theorem dX6_hours_43 : decode cX6_hours 43 = .ok (.iadd, 1) := dk_96 (dk_at dksX6_hours_1 19 rfl rfl)
theorem dX6_hours_44 : decode cX6_hours 44 = .ok (.iaload, 1) := dk_46 (dk_at dksX6_hours_1 20 rfl rfl)
theorem dX6_hours_45 : decode cX6_hours 45 = .ok (.goto 5, 3) := dk_167 0 5 (dk_at dksX6_hours_1 21 rfl rfl)
theorem dX6_hours_48 : decode cX6_hours 48 = .ok (.ldc 91, 2) := dk_18 91 (dk_at dksX6_hours_2 0 rfl rfl)
theorem dX6_hours_50 : decode cX6_hours 50 = .ok (.invokestatic 96, 3) := dk_184 0 96 (dk_at dksX6_hours_2 2 rfl rfl)
theorem dX6_hours_53 : decode cX6_hours 53 = .ok (.istore_n 3, 1) := dk_62 (dk_at dksX6_hours_2 5 rfl rfl)
theorem dX6_hours_54 : decode cX6_hours 54 = .ok (.iinc 4 1, 3) := dk_132 4 1 (dk_at dksX6_hours_2 6 rfl rfl)
theorem dX6_hours_57 : decode cX6_hours 57 = .ok (.goto (-43), 3) := dk_167 255 213 (dk_at dksX6_hours_2 9 rfl rfl)
theorem dX6_hours_60 : decode cX6_hours 60 = .ok (.iload_n 3, 1) := dk_29 (dk_at dksX6_hours_2 12 rfl rfl)
theorem dX6_hours_61 : decode cX6_hours 61 = .ok (.ireturn, 1) := dk_172 (dk_at dksX6_hours_2 13 rfl rfl)
theorem q121 : (Jvm.Cond.initialized "LastAsked$Asks") ∈ lw_all := lw_g (lw_at lw_m1 9 rfl) rfl
theorem q274 : (Jvm.Cond.fieldLink "LastAsked$Asks" (62 : Nat) "LastAsked$Town" "city" "LLastAsked$City;") ∈ lw_all := lw_g (lw_at lw_m1 162 rfl) rfl
theorem q322 : (Jvm.Cond.instantiable "LastAsked$Asks" (8 : Nat)) ∈ lw_all := lw_g (lw_at lw_m1 210 rfl) rfl
theorem q324 : (Jvm.Cond.instanceMethod ({ cls := "LastAsked$Asks", name := "<init>", desc := "(LLastAsked$Night;)V" } : Jvm.MethodName)) ∈ lw_all := lw_g (lw_at lw_m1 212 rfl) rfl
theorem q325 : (Jvm.Cond.code ({ cls := "LastAsked$Asks", name := "<init>", desc := "(LLastAsked$Night;)V" } : Jvm.MethodName) prog_2_method_1_code (3 : Nat) (Option.none : Option Jvm.ClassFile.FieldType)) ∈ lw_all := lw_g (lw_at lw_m1 213 rfl) rfl
theorem q326 : (Jvm.Cond.methodLink "LastAsked$Asks" (3 : Nat) ({ cls := "java/lang/Object", name := "<init>", desc := "()V" } : Jvm.MethodName)) ∈ lw_all := lw_g (lw_at lw_m1 214 rfl) rfl
theorem q327 : (Jvm.Cond.classLink "LastAsked$Asks" (9 : Nat) "LastAsked$Town") ∈ lw_all := lw_g (lw_at lw_m1 215 rfl) rfl
theorem q329 : (Jvm.Cond.methodLinkNest "LastAsked$Asks" (25 : Nat) ({ cls := "LastAsked$Town", name := "<init>", desc := "()V" } : Jvm.MethodName) "LastAsked") ∈ lw_tbl := lw_at lw_m1 217 rfl
theorem q330 : (Jvm.Cond.fieldLink "LastAsked$Asks" (11 : Nat) "LastAsked$Asks" "towns" "[LLastAsked$Town;") ∈ lw_all := lw_g (lw_at lw_m1 218 rfl) rfl
theorem q331 : (Jvm.Cond.fieldLink "LastAsked$Asks" (21 : Nat) "LastAsked$Asks" "night" "LLastAsked$Night;") ∈ lw_all := lw_g (lw_at lw_m1 219 rfl) rfl
theorem q332 : (Jvm.Cond.fieldLink "LastAsked$Asks" (17 : Nat) "LastAsked$Asks" "reach" "[I") ∈ lw_all := lw_g (lw_at lw_m1 220 rfl) rfl
theorem q333 : (Jvm.Cond.fieldLink "LastAsked$Asks" (26 : Nat) "LastAsked$Asks" "person" "I") ∈ lw_all := lw_g (lw_at lw_m1 221 rfl) rfl
theorem q334 : (Jvm.Cond.fieldLink "LastAsked$Asks" (30 : Nat) "LastAsked$Asks" "many" "I") ∈ lw_all := lw_g (lw_at lw_m1 222 rfl) rfl
theorem q335 : (Jvm.Cond.fieldLink "LastAsked$Asks" (53 : Nat) "LastAsked$Asks" "row" "I") ∈ lw_all := lw_g (lw_at lw_m1 223 rfl) rfl
theorem q337 : (Jvm.Cond.fieldLink "LastAsked$Asks" (111 : Nat) "LastAsked$Asks" "set" "I") ∈ lw_all := lw_g (lw_at lw_m1 225 rfl) rfl
theorem q339 : (Jvm.Cond.fieldLink "LastAsked$Asks" (35 : Nat) "LastAsked$Asks" "most" "J") ∈ lw_all := lw_g (lw_at lw_m1 227 rfl) rfl
theorem q341 : (Jvm.Cond.laysFinal "LastAsked$Asks" "LastAsked$Asks" "towns" "[LLastAsked$Town;") ∈ lw_all := lw_g (lw_at lw_m1 229 rfl) rfl
theorem q342 : (Jvm.Cond.soleField "LastAsked$Asks" "towns") ∈ lw_all := lw_g (lw_at lw_m1 230 rfl) rfl
theorem q343 : (Jvm.Cond.laysFinal "LastAsked$Asks" "LastAsked$Asks" "night" "LLastAsked$Night;") ∈ lw_all := lw_g (lw_at lw_m1 231 rfl) rfl
theorem q344 : (Jvm.Cond.soleField "LastAsked$Asks" "night") ∈ lw_all := lw_g (lw_at lw_m1 232 rfl) rfl
theorem q345 : (Jvm.Cond.laysFinal "LastAsked$Asks" "LastAsked$Asks" "reach" "[I") ∈ lw_all := lw_g (lw_at lw_m1 233 rfl) rfl
theorem q346 : (Jvm.Cond.soleField "LastAsked$Asks" "reach") ∈ lw_all := lw_g (lw_at lw_m1 234 rfl) rfl
theorem q347 : (Jvm.Cond.lays "LastAsked$Asks" "LastAsked$Asks" "person" "I") ∈ lw_all := lw_g (lw_at lw_m1 235 rfl) rfl
theorem q348 : (Jvm.Cond.soleField "LastAsked$Asks" "person") ∈ lw_all := lw_g (lw_at lw_m1 236 rfl) rfl
theorem q349 : (Jvm.Cond.lays "LastAsked$Asks" "LastAsked$Asks" "many" "I") ∈ lw_all := lw_g (lw_at lw_m1 237 rfl) rfl
theorem q350 : (Jvm.Cond.soleField "LastAsked$Asks" "many") ∈ lw_all := lw_g (lw_at lw_m1 238 rfl) rfl
theorem q351 : (Jvm.Cond.lays "LastAsked$Asks" "LastAsked$Asks" "row" "I") ∈ lw_all := lw_g (lw_at lw_m1 239 rfl) rfl
theorem q352 : (Jvm.Cond.soleField "LastAsked$Asks" "row") ∈ lw_all := lw_g (lw_at lw_m2 0 rfl) rfl
theorem q353 : (Jvm.Cond.lays "LastAsked$Asks" "LastAsked$Asks" "set" "I") ∈ lw_all := lw_g (lw_at lw_m2 1 rfl) rfl
theorem q354 : (Jvm.Cond.soleField "LastAsked$Asks" "set") ∈ lw_all := lw_g (lw_at lw_m2 2 rfl) rfl
theorem q355 : (Jvm.Cond.lays "LastAsked$Asks" "LastAsked$Asks" "most" "J") ∈ lw_all := lw_g (lw_at lw_m2 3 rfl) rfl
theorem q356 : (Jvm.Cond.soleField "LastAsked$Asks" "most") ∈ lw_all := lw_g (lw_at lw_m2 4 rfl) rfl
theorem q357 : (Jvm.Cond.superclass "LastAsked$Asks" "java/lang/Object") ∈ lw_all := lw_g (lw_at lw_m2 5 rfl) rfl
theorem q458 : (Jvm.Cond.fieldLink "LastAsked$Asks" (82 : Nat) "LastAsked$City" "people" "[LLastAsked$Person;") ∈ lw_all := lw_g (lw_at lw_m2 106 rfl) rfl
theorem q483 : (Jvm.Cond.fieldLink "LastAsked$Asks" (66 : Nat) "LastAsked$City" "peopleMany" "I") ∈ lw_all := lw_g (lw_at lw_m2 131 rfl) rfl
theorem q760 : (Jvm.Cond.fieldLink "LastAsked$Asks" (86 : Nat) "LastAsked$Person" "near" "I") ∈ lw_all := lw_g (lw_at lw_m3 168 rfl) rfl
theorem q1109 : (Jvm.Cond.instanceMethod ({ cls := "LastAsked$Asks", name := "best", desc := "(LLastAsked$Town;II)LLastAsked$Asks;" } : Jvm.MethodName)) ∈ lw_all := lw_g (lw_at lw_m5 37 rfl) rfl
theorem q1110 : (Jvm.Cond.selects "LastAsked$Asks" ({ cls := "LastAsked$Asks", name := "best", desc := "(LLastAsked$Town;II)LLastAsked$Asks;" } : Jvm.MethodName) ({ cls := "LastAsked$Asks", name := "best", desc := "(LLastAsked$Town;II)LLastAsked$Asks;" } : Jvm.MethodName)) ∈ lw_all := lw_g (lw_at lw_m5 38 rfl) rfl
theorem q1111 : (Jvm.Cond.code ({ cls := "LastAsked$Asks", name := "best", desc := "(LLastAsked$Town;II)LLastAsked$Asks;" } : Jvm.MethodName) prog_2_method_2_code (4 : Nat) (Option.some (Jvm.ClassFile.FieldType.object "LastAsked$Asks"))) ∈ lw_all := lw_g (lw_at lw_m5 39 rfl) rfl
theorem q1112 : (Jvm.Cond.constantLong "LastAsked$Asks" (33 : Nat) (-1 : Int64)) ∈ lw_all := lw_g (lw_at lw_m5 40 rfl) rfl
theorem q1113 : (Jvm.Cond.methodLink "LastAsked$Asks" (39 : Nat) ({ cls := "LastAsked$Town", name := "become", desc := "(LLastAsked$Town;)LLastAsked$Town;" } : Jvm.MethodName)) ∈ lw_all := lw_g (lw_at lw_m5 41 rfl) rfl
theorem q1114 : (Jvm.Cond.methodLink "LastAsked$Asks" (43 : Nat) ({ cls := "LastAsked$Asks", name := "tries", desc := "(II)V" } : Jvm.MethodName)) ∈ lw_all := lw_g (lw_at lw_m5 42 rfl) rfl
theorem q1115 : (Jvm.Cond.privateMethod ({ cls := "LastAsked$Asks", name := "tries", desc := "(II)V" } : Jvm.MethodName)) ∈ lw_tbl := lw_at lw_m5 43 rfl
theorem q1116 : (Jvm.Cond.instanceMethod ({ cls := "LastAsked$Asks", name := "tries", desc := "(II)V" } : Jvm.MethodName)) ∈ lw_all := lw_g (lw_at lw_m5 44 rfl) rfl
theorem q1117 : (Jvm.Cond.code ({ cls := "LastAsked$Asks", name := "tries", desc := "(II)V" } : Jvm.MethodName) prog_2_method_3_code (5 : Nat) (Option.none : Option Jvm.ClassFile.FieldType)) ∈ lw_all := lw_g (lw_at lw_m5 45 rfl) rfl
theorem q1118 : (Jvm.Cond.methodLink "LastAsked$Asks" (47 : Nat) ({ cls := "LastAsked$Night", name := "sum", desc := "(LLastAsked$Town;I)J" } : Jvm.MethodName)) ∈ lw_all := lw_g (lw_at lw_m5 46 rfl) rfl
theorem q1119 : (Jvm.Cond.methodLink "LastAsked$Asks" (56 : Nat) ({ cls := "java/lang/Math", name := "max", desc := "(JJ)J" } : Jvm.MethodName)) ∈ lw_all := lw_g (lw_at lw_m5 47 rfl) rfl
theorem q1122 : (Jvm.Cond.methodLink "LastAsked$Asks" (71 : Nat) ({ cls := "LastAsked$Town", name := "canAsk", desc := "(II)Z" } : Jvm.MethodName)) ∈ lw_all := lw_g (lw_at lw_m5 50 rfl) rfl
theorem q1123 : (Jvm.Cond.methodLink "LastAsked$Asks" (75 : Nat) ({ cls := "LastAsked$Town", name := "asks", desc := "(II)I" } : Jvm.MethodName)) ∈ lw_all := lw_g (lw_at lw_m5 51 rfl) rfl
theorem q1139 : (Jvm.Cond.instanceMethod ({ cls := "LastAsked$Asks", name := "tour", desc := "(LLastAsked$Town;II)LLastAsked$Asks;" } : Jvm.MethodName)) ∈ lw_all := lw_g (lw_at lw_m5 67 rfl) rfl
theorem q1140 : (Jvm.Cond.selects "LastAsked$Asks" ({ cls := "LastAsked$Asks", name := "tour", desc := "(LLastAsked$Town;II)LLastAsked$Asks;" } : Jvm.MethodName) ({ cls := "LastAsked$Asks", name := "tour", desc := "(LLastAsked$Town;II)LLastAsked$Asks;" } : Jvm.MethodName)) ∈ lw_all := lw_g (lw_at lw_m5 68 rfl) rfl
theorem q1141 : (Jvm.Cond.code ({ cls := "LastAsked$Asks", name := "tour", desc := "(LLastAsked$Town;II)LLastAsked$Asks;" } : Jvm.MethodName) prog_2_method_7_code (10 : Nat) (Option.some (Jvm.ClassFile.FieldType.object "LastAsked$Asks"))) ∈ lw_all := lw_g (lw_at lw_m5 69 rfl) rfl
theorem q1142 : (Jvm.Cond.methodLink "LastAsked$Asks" (99 : Nat) ({ cls := "LastAsked$Asks", name := "lay", desc := "(LLastAsked$City;I)V" } : Jvm.MethodName)) ∈ lw_all := lw_g (lw_at lw_m5 70 rfl) rfl
theorem q1143 : (Jvm.Cond.privateMethod ({ cls := "LastAsked$Asks", name := "lay", desc := "(LLastAsked$City;I)V" } : Jvm.MethodName)) ∈ lw_tbl := lw_at lw_m5 71 rfl
theorem q1144 : (Jvm.Cond.instanceMethod ({ cls := "LastAsked$Asks", name := "lay", desc := "(LLastAsked$City;I)V" } : Jvm.MethodName)) ∈ lw_all := lw_g (lw_at lw_m5 72 rfl) rfl
theorem q1145 : (Jvm.Cond.code ({ cls := "LastAsked$Asks", name := "lay", desc := "(LLastAsked$City;I)V" } : Jvm.MethodName) prog_2_method_5_code (8 : Nat) (Option.none : Option Jvm.ClassFile.FieldType)) ∈ lw_all := lw_g (lw_at lw_m5 73 rfl) rfl
theorem q1146 : (Jvm.Cond.constant "LastAsked$Asks" (91 : Nat) (1000000 : Int32)) ∈ lw_all := lw_g (lw_at lw_m5 74 rfl) rfl
theorem q1147 : (Jvm.Cond.methodLinkNest "LastAsked$Asks" (79 : Nat) ({ cls := "LastAsked", name := "has", desc := "(II)Z" } : Jvm.MethodName) "LastAsked") ∈ lw_tbl := lw_at lw_m5 75 rfl
theorem q1148 : (Jvm.Cond.methodLink "LastAsked$Asks" (92 : Nat) ({ cls := "LastAsked$Asks", name := "apart", desc := "(LLastAsked$City;II)I" } : Jvm.MethodName)) ∈ lw_all := lw_g (lw_at lw_m5 76 rfl) rfl
theorem q1149 : (Jvm.Cond.static ({ cls := "LastAsked$Asks", name := "apart", desc := "(LLastAsked$City;II)I" } : Jvm.MethodName)) ∈ lw_all := lw_g (lw_at lw_m5 77 rfl) rfl
theorem q1150 : (Jvm.Cond.code ({ cls := "LastAsked$Asks", name := "apart", desc := "(LLastAsked$City;II)I" } : Jvm.MethodName) prog_2_method_4_code (7 : Nat) (Option.some Jvm.ClassFile.FieldType.int)) ∈ lw_all := lw_g (lw_at lw_m5 78 rfl) rfl
theorem q1151 : (Jvm.Cond.methodLink "LastAsked$Asks" (96 : Nat) ({ cls := "java/lang/Math", name := "min", desc := "(II)I" } : Jvm.MethodName)) ∈ lw_all := lw_g (lw_at lw_m5 79 rfl) rfl
theorem q1152 : (Jvm.Cond.methodLink "LastAsked$Asks" (103 : Nat) ({ cls := "LastAsked$City", name := "all", desc := "()I" } : Jvm.MethodName)) ∈ lw_all := lw_g (lw_at lw_m5 80 rfl) rfl
theorem q1153 : (Jvm.Cond.methodLink "LastAsked$Asks" (107 : Nat) ({ cls := "LastAsked$Asks", name := "hours", desc := "(LLastAsked$City;I)I" } : Jvm.MethodName)) ∈ lw_all := lw_g (lw_at lw_m5 81 rfl) rfl
theorem q1154 : (Jvm.Cond.privateMethod ({ cls := "LastAsked$Asks", name := "hours", desc := "(LLastAsked$City;I)I" } : Jvm.MethodName)) ∈ lw_tbl := lw_at lw_m5 82 rfl
theorem q1155 : (Jvm.Cond.instanceMethod ({ cls := "LastAsked$Asks", name := "hours", desc := "(LLastAsked$City;I)I" } : Jvm.MethodName)) ∈ lw_all := lw_g (lw_at lw_m5 83 rfl) rfl
theorem q1156 : (Jvm.Cond.code ({ cls := "LastAsked$Asks", name := "hours", desc := "(LLastAsked$City;I)I" } : Jvm.MethodName) prog_2_method_6_code (5 : Nat) (Option.some Jvm.ClassFile.FieldType.int)) ∈ lw_all := lw_g (lw_at lw_m5 84 rfl) rfl
theorem q2105 : (Jvm.Cond.castable "LastAsked$Asks" "java/lang/Object") ∈ lw_tbl := lw_at lw_m9 73 rfl
theorem in_X6 : ∀ w ∈ wsX60, w ∈ lw_all := lw_in wsX60 [341, 343, 345, 347, 349, 351, 353, 355] (by decide +kernel) (by decide +kernel)

/-! LastAsked$City -/
set_option maxRecDepth 100000
def RX8 : String := "LastAsked$City"
def TX8 : u_T := fun k => match k with
  | 0 => ("LastAsked$City", "people", "[LLastAsked$Person;", true)
  | 1 => ("LastAsked$City", "hours", "[I", true)
  | 2 => ("LastAsked$City", "heardBy", "[I", true)
  | 3 => ("LastAsked$City", "heardOf", "[I", true)
  | 4 => ("LastAsked$City", "heardAt", "[I", true)
  | 5 => ("LastAsked$City", "heardGive", "[I", true)
  | 6 => ("LastAsked$City", "hour", "I", false)
  | 7 => ("LastAsked$City", "gives", "I", false)
  | 8 => ("LastAsked$City", "peopleMany", "I", false)
  | 9 => ("LastAsked$City", "nearMany", "I", false)
  | 10 => ("LastAsked$City", "askedMany", "I", false)
  | 11 => ("LastAsked$City", "heardMany", "I", false)
  | _ => ("LastAsked$City", "wentMany", "I", false)
def tyX8 : Nat → FieldType := fun k => match k with
  | 0 => .array (.object "LastAsked$Person")
  | 1 => .array .int
  | 2 => .array .int
  | 3 => .array .int
  | 4 => .array .int
  | 5 => .array .int
  | 6 => .int
  | 7 => .int
  | 8 => .int
  | 9 => .int
  | 10 => .int
  | 11 => .int
  | _ => .int
abbrev wsX80 : List Cond := u_ws RX8 TX8 13
set_option maxRecDepth 100000 in
theorem nmX8 : ∀ a, a < 13 → ∀ b, b < 13 → a ≠ b → (TX8 a).2.1 ≠ (TX8 b).2.1 := by decide +kernel
set_option maxRecDepth 100000 in
theorem tyX8_ok : ∀ k, k < 13 → parseFieldDescriptor (TX8 k).2.2.1 = some (tyX8 k) := by decide +kernel
abbrev cX8_init : ByteArray := prog_3_method_1_code
def yX8_init : MethodName := ⟨RX8, "<init>", "()V"⟩
def dkwX8_init_2 : List UInt8 := [181, 0, 30, 42, 2, 181, 0, 33, 177]
abbrev dktX8_init_2 : List UInt8 := dkwX8_init_2 ++ []
def dkwX8_init_1 : List UInt8 := [188, 10, 181, 0, 21, 42, 6, 188, 10, 181, 0, 24, 42, 6, 188, 10, 181, 0, 27, 42, 6, 188, 10]
abbrev dktX8_init_1 : List UInt8 := dkwX8_init_1 ++ dktX8_init_2
def dkwX8_init_0 : List UInt8 := [42, 183, 0, 3, 42, 16, 6, 189, 0, 9, 181, 0, 11, 42, 16, 36, 188, 10, 181, 0, 17, 42, 6]
abbrev dktX8_init_0 : List UInt8 := dkwX8_init_0 ++ dktX8_init_1
theorem dksX8_init_0 : cX8_init.data.toList.drop 0 = dktX8_init_0 := by decide +kernel
theorem dksX8_init_1 : cX8_init.data.toList.drop 23 = dktX8_init_1 := dk_seg dksX8_init_0 23 rfl rfl
theorem dksX8_init_2 : cX8_init.data.toList.drop 46 = dktX8_init_2 := dk_seg dksX8_init_1 23 rfl rfl
theorem dX8_init_0 : decode cX8_init 0 = .ok (.aload_n 0, 1) := dk_42 (dk_at dksX8_init_0 0 rfl rfl)
theorem dX8_init_1 : decode cX8_init 1 = .ok (.invokespecial 3, 3) := dk_183 0 3 (dk_at dksX8_init_0 1 rfl rfl)
theorem dX8_init_4 : decode cX8_init 4 = .ok (.aload_n 0, 1) := dk_42 (dk_at dksX8_init_0 4 rfl rfl)
theorem dX8_init_5 : decode cX8_init 5 = .ok (.bipush 6, 2) := dk_16 6 (dk_at dksX8_init_0 5 rfl rfl)
theorem dX8_init_7 : decode cX8_init 7 = .ok (.anewarray 9, 3) := dk_189 0 9 (dk_at dksX8_init_0 7 rfl rfl)
theorem dX8_init_10 : decode cX8_init 10 = .ok (.putfield 11, 3) := dk_181 0 11 (dk_at dksX8_init_0 10 rfl rfl)
theorem dX8_init_13 : decode cX8_init 13 = .ok (.aload_n 0, 1) := dk_42 (dk_at dksX8_init_0 13 rfl rfl)
theorem dX8_init_14 : decode cX8_init 14 = .ok (.bipush 36, 2) := dk_16 36 (dk_at dksX8_init_0 14 rfl rfl)
theorem dX8_init_16 : decode cX8_init 16 = .ok (.newarray .int, 2) := dk_188_10 (dk_at dksX8_init_0 16 rfl rfl)
theorem dX8_init_18 : decode cX8_init 18 = .ok (.putfield 17, 3) := dk_181 0 17 (dk_at dksX8_init_0 18 rfl rfl)
theorem dX8_init_21 : decode cX8_init 21 = .ok (.aload_n 0, 1) := dk_42 (dk_at dksX8_init_0 21 rfl rfl)
theorem dX8_init_22 : decode cX8_init 22 = .ok (.iconst 3, 1) := dk_6 (dk_at dksX8_init_0 22 rfl rfl)
theorem dX8_init_23 : decode cX8_init 23 = .ok (.newarray .int, 2) := dk_188_10 (dk_at dksX8_init_1 0 rfl rfl)
theorem dX8_init_25 : decode cX8_init 25 = .ok (.putfield 21, 3) := dk_181 0 21 (dk_at dksX8_init_1 2 rfl rfl)
theorem dX8_init_28 : decode cX8_init 28 = .ok (.aload_n 0, 1) := dk_42 (dk_at dksX8_init_1 5 rfl rfl)
theorem dX8_init_29 : decode cX8_init 29 = .ok (.iconst 3, 1) := dk_6 (dk_at dksX8_init_1 6 rfl rfl)
theorem dX8_init_30 : decode cX8_init 30 = .ok (.newarray .int, 2) := dk_188_10 (dk_at dksX8_init_1 7 rfl rfl)
theorem dX8_init_32 : decode cX8_init 32 = .ok (.putfield 24, 3) := dk_181 0 24 (dk_at dksX8_init_1 9 rfl rfl)
theorem dX8_init_35 : decode cX8_init 35 = .ok (.aload_n 0, 1) := dk_42 (dk_at dksX8_init_1 12 rfl rfl)
theorem dX8_init_36 : decode cX8_init 36 = .ok (.iconst 3, 1) := dk_6 (dk_at dksX8_init_1 13 rfl rfl)
theorem dX8_init_37 : decode cX8_init 37 = .ok (.newarray .int, 2) := dk_188_10 (dk_at dksX8_init_1 14 rfl rfl)
theorem dX8_init_39 : decode cX8_init 39 = .ok (.putfield 27, 3) := dk_181 0 27 (dk_at dksX8_init_1 16 rfl rfl)
theorem dX8_init_42 : decode cX8_init 42 = .ok (.aload_n 0, 1) := dk_42 (dk_at dksX8_init_1 19 rfl rfl)
theorem dX8_init_43 : decode cX8_init 43 = .ok (.iconst 3, 1) := dk_6 (dk_at dksX8_init_1 20 rfl rfl)
theorem dX8_init_44 : decode cX8_init 44 = .ok (.newarray .int, 2) := dk_188_10 (dk_at dksX8_init_1 21 rfl rfl)
theorem dX8_init_46 : decode cX8_init 46 = .ok (.putfield 30, 3) := dk_181 0 30 (dk_at dksX8_init_2 0 rfl rfl)
theorem dX8_init_49 : decode cX8_init 49 = .ok (.aload_n 0, 1) := dk_42 (dk_at dksX8_init_2 3 rfl rfl)
theorem dX8_init_50 : decode cX8_init 50 = .ok (.iconst (-1), 1) := dk_2 (dk_at dksX8_init_2 4 rfl rfl)
theorem dX8_init_51 : decode cX8_init 51 = .ok (.putfield 33, 3) := dk_181 0 33 (dk_at dksX8_init_2 5 rfl rfl)
theorem dX8_init_54 : decode cX8_init 54 = .ok (.return_, 1) := dk_177 (dk_at dksX8_init_2 8 rfl rfl)
abbrev cX8_find : ByteArray := prog_3_method_2_code
def yX8_find : MethodName := ⟨RX8, "find", "(Ljava/lang/String;)LLastAsked$Person;"⟩
def dkwX8_find_1 : List UInt8 := [153, 0, 10, 42, 180, 0, 11, 28, 50, 176, 132, 2, 1, 167, 255, 222, 1, 176]
abbrev dktX8_find_1 : List UInt8 := dkwX8_find_1 ++ []
def dkwX8_find_0 : List UInt8 := [3, 61, 28, 42, 180, 0, 37, 162, 0, 32, 42, 180, 0, 11, 28, 50, 180, 0, 40, 43, 182, 0, 44]
abbrev dktX8_find_0 : List UInt8 := dkwX8_find_0 ++ dktX8_find_1
theorem dksX8_find_0 : cX8_find.data.toList.drop 0 = dktX8_find_0 := by decide +kernel
theorem dksX8_find_1 : cX8_find.data.toList.drop 23 = dktX8_find_1 := dk_seg dksX8_find_0 23 rfl rfl
theorem dX8_find_0 : decode cX8_find 0 = .ok (.iconst 0, 1) := dk_3 (dk_at dksX8_find_0 0 rfl rfl)
theorem dX8_find_1 : decode cX8_find 1 = .ok (.istore_n 2, 1) := dk_61 (dk_at dksX8_find_0 1 rfl rfl)
theorem dX8_find_2 : decode cX8_find 2 = .ok (.iload_n 2, 1) := dk_28 (dk_at dksX8_find_0 2 rfl rfl)
theorem dX8_find_3 : decode cX8_find 3 = .ok (.aload_n 0, 1) := dk_42 (dk_at dksX8_find_0 3 rfl rfl)
theorem dX8_find_4 : decode cX8_find 4 = .ok (.getfield 37, 3) := dk_180 0 37 (dk_at dksX8_find_0 4 rfl rfl)
theorem dX8_find_7 : decode cX8_find 7 = .ok (.if_icmp .ge 32, 3) := dk_162 0 32 (dk_at dksX8_find_0 7 rfl rfl)
theorem dX8_find_10 : decode cX8_find 10 = .ok (.aload_n 0, 1) := dk_42 (dk_at dksX8_find_0 10 rfl rfl)
theorem dX8_find_11 : decode cX8_find 11 = .ok (.getfield 11, 3) := dk_180 0 11 (dk_at dksX8_find_0 11 rfl rfl)
theorem dX8_find_14 : decode cX8_find 14 = .ok (.iload_n 2, 1) := dk_28 (dk_at dksX8_find_0 14 rfl rfl)
theorem dX8_find_15 : decode cX8_find 15 = .ok (.aaload, 1) := dk_50 (dk_at dksX8_find_0 15 rfl rfl)
theorem dX8_find_16 : decode cX8_find 16 = .ok (.getfield 40, 3) := dk_180 0 40 (dk_at dksX8_find_0 16 rfl rfl)
theorem dX8_find_19 : decode cX8_find 19 = .ok (.aload_n 1, 1) := dk_43 (dk_at dksX8_find_0 19 rfl rfl)
theorem dX8_find_20 : decode cX8_find 20 = .ok (.invokevirtual 44, 3) := dk_182 0 44 (dk_at dksX8_find_0 20 rfl rfl)
theorem dX8_find_23 : decode cX8_find 23 = .ok (.ifCond .eq 10, 3) := dk_153 0 10 (dk_at dksX8_find_1 0 rfl rfl)
theorem dX8_find_26 : decode cX8_find 26 = .ok (.aload_n 0, 1) := dk_42 (dk_at dksX8_find_1 3 rfl rfl)
theorem dX8_find_27 : decode cX8_find 27 = .ok (.getfield 11, 3) := dk_180 0 11 (dk_at dksX8_find_1 4 rfl rfl)
theorem dX8_find_30 : decode cX8_find 30 = .ok (.iload_n 2, 1) := dk_28 (dk_at dksX8_find_1 7 rfl rfl)
theorem dX8_find_31 : decode cX8_find 31 = .ok (.aaload, 1) := dk_50 (dk_at dksX8_find_1 8 rfl rfl)
theorem dX8_find_32 : decode cX8_find 32 = .ok (.areturn, 1) := dk_176 (dk_at dksX8_find_1 9 rfl rfl)
theorem dX8_find_33 : decode cX8_find 33 = .ok (.iinc 2 1, 3) := dk_132 2 1 (dk_at dksX8_find_1 10 rfl rfl)
theorem dX8_find_36 : decode cX8_find 36 = .ok (.goto (-34), 3) := dk_167 255 222 (dk_at dksX8_find_1 13 rfl rfl)
theorem dX8_find_39 : decode cX8_find 39 = .ok (.aconst_null, 1) := dk_1 (dk_at dksX8_find_1 16 rfl rfl)
theorem dX8_find_40 : decode cX8_find 40 = .ok (.areturn, 1) := dk_176 (dk_at dksX8_find_1 17 rfl rfl)
abbrev cX8_all : ByteArray := prog_3_method_3_code
def yX8_all : MethodName := ⟨RX8, "all", "()I"⟩
def dkwX8_all_0 : List UInt8 := [4, 42, 180, 0, 37, 120, 4, 100, 172]
abbrev dktX8_all_0 : List UInt8 := dkwX8_all_0 ++ []
theorem dksX8_all_0 : cX8_all.data.toList.drop 0 = dktX8_all_0 := by decide +kernel
theorem dX8_all_0 : decode cX8_all 0 = .ok (.iconst 1, 1) := dk_4 (dk_at dksX8_all_0 0 rfl rfl)
theorem dX8_all_1 : decode cX8_all 1 = .ok (.aload_n 0, 1) := dk_42 (dk_at dksX8_all_0 1 rfl rfl)
theorem dX8_all_2 : decode cX8_all 2 = .ok (.getfield 37, 3) := dk_180 0 37 (dk_at dksX8_all_0 2 rfl rfl)
theorem dX8_all_5 : decode cX8_all 5 = .ok (.ishl, 1) := dk_120 (dk_at dksX8_all_0 5 rfl rfl)
theorem dX8_all_6 : decode cX8_all 6 = .ok (.iconst 1, 1) := dk_4 (dk_at dksX8_all_0 6 rfl rfl)
theorem dX8_all_7 : decode cX8_all 7 = .ok (.isub, 1) := dk_100 (dk_at dksX8_all_0 7 rfl rfl)
theorem dX8_all_8 : decode cX8_all 8 = .ok (.ireturn, 1) := dk_172 (dk_at dksX8_all_0 8 rfl rfl)
abbrev cX8_mayBe : ByteArray := prog_3_method_5_code
def yX8_mayBe : MethodName := ⟨RX8, "mayBe", "(I)I"⟩
def dkwX8_mayBe_0 : List UInt8 := [42, 180, 0, 27, 27, 46, 42, 180, 0, 30, 27, 46, 96, 42, 27, 182, 0, 56, 100, 4, 96, 172]
abbrev dktX8_mayBe_0 : List UInt8 := dkwX8_mayBe_0 ++ []
theorem dksX8_mayBe_0 : cX8_mayBe.data.toList.drop 0 = dktX8_mayBe_0 := by decide +kernel
theorem dX8_mayBe_0 : decode cX8_mayBe 0 = .ok (.aload_n 0, 1) := dk_42 (dk_at dksX8_mayBe_0 0 rfl rfl)
theorem dX8_mayBe_1 : decode cX8_mayBe 1 = .ok (.getfield 27, 3) := dk_180 0 27 (dk_at dksX8_mayBe_0 1 rfl rfl)
theorem dX8_mayBe_4 : decode cX8_mayBe 4 = .ok (.iload_n 1, 1) := dk_27 (dk_at dksX8_mayBe_0 4 rfl rfl)
theorem dX8_mayBe_5 : decode cX8_mayBe 5 = .ok (.iaload, 1) := dk_46 (dk_at dksX8_mayBe_0 5 rfl rfl)
theorem dX8_mayBe_6 : decode cX8_mayBe 6 = .ok (.aload_n 0, 1) := dk_42 (dk_at dksX8_mayBe_0 6 rfl rfl)
theorem dX8_mayBe_7 : decode cX8_mayBe 7 = .ok (.getfield 30, 3) := dk_180 0 30 (dk_at dksX8_mayBe_0 7 rfl rfl)
theorem dX8_mayBe_10 : decode cX8_mayBe 10 = .ok (.iload_n 1, 1) := dk_27 (dk_at dksX8_mayBe_0 10 rfl rfl)
theorem dX8_mayBe_11 : decode cX8_mayBe 11 = .ok (.iaload, 1) := dk_46 (dk_at dksX8_mayBe_0 11 rfl rfl)
theorem dX8_mayBe_12 : decode cX8_mayBe 12 = .ok (.iadd, 1) := dk_96 (dk_at dksX8_mayBe_0 12 rfl rfl)
theorem dX8_mayBe_13 : decode cX8_mayBe 13 = .ok (.aload_n 0, 1) := dk_42 (dk_at dksX8_mayBe_0 13 rfl rfl)
theorem dX8_mayBe_14 : decode cX8_mayBe 14 = .ok (.iload_n 1, 1) := dk_27 (dk_at dksX8_mayBe_0 14 rfl rfl)
theorem dX8_mayBe_15 : decode cX8_mayBe 15 = .ok (.invokevirtual 56, 3) := dk_182 0 56 (dk_at dksX8_mayBe_0 15 rfl rfl)
theorem dX8_mayBe_18 : decode cX8_mayBe 18 = .ok (.isub, 1) := dk_100 (dk_at dksX8_mayBe_0 18 rfl rfl)
theorem dX8_mayBe_19 : decode cX8_mayBe 19 = .ok (.iconst 1, 1) := dk_4 (dk_at dksX8_mayBe_0 19 rfl rfl)
theorem dX8_mayBe_20 : decode cX8_mayBe 20 = .ok (.iadd, 1) := dk_96 (dk_at dksX8_mayBe_0 20 rfl rfl)
theorem dX8_mayBe_21 : decode cX8_mayBe 21 = .ok (.ireturn, 1) := dk_172 (dk_at dksX8_mayBe_0 21 rfl rfl)
abbrev cX8_earliest : ByteArray := prog_3_method_4_code
def yX8_earliest : MethodName := ⟨RX8, "earliest", "(I)I"⟩
def dkwX8_earliest_0 : List UInt8 := [3, 42, 180, 0, 27, 27, 46, 42, 180, 0, 30, 27, 46, 100, 184, 0, 50, 172]
abbrev dktX8_earliest_0 : List UInt8 := dkwX8_earliest_0 ++ []
theorem dksX8_earliest_0 : cX8_earliest.data.toList.drop 0 = dktX8_earliest_0 := by decide +kernel
theorem dX8_earliest_0 : decode cX8_earliest 0 = .ok (.iconst 0, 1) := dk_3 (dk_at dksX8_earliest_0 0 rfl rfl)
theorem dX8_earliest_1 : decode cX8_earliest 1 = .ok (.aload_n 0, 1) := dk_42 (dk_at dksX8_earliest_0 1 rfl rfl)
theorem dX8_earliest_2 : decode cX8_earliest 2 = .ok (.getfield 27, 3) := dk_180 0 27 (dk_at dksX8_earliest_0 2 rfl rfl)
theorem dX8_earliest_5 : decode cX8_earliest 5 = .ok (.iload_n 1, 1) := dk_27 (dk_at dksX8_earliest_0 5 rfl rfl)
theorem dX8_earliest_6 : decode cX8_earliest 6 = .ok (.iaload, 1) := dk_46 (dk_at dksX8_earliest_0 6 rfl rfl)
theorem dX8_earliest_7 : decode cX8_earliest 7 = .ok (.aload_n 0, 1) := dk_42 (dk_at dksX8_earliest_0 7 rfl rfl)
theorem dX8_earliest_8 : decode cX8_earliest 8 = .ok (.getfield 30, 3) := dk_180 0 30 (dk_at dksX8_earliest_0 8 rfl rfl)
theorem dX8_earliest_11 : decode cX8_earliest 11 = .ok (.iload_n 1, 1) := dk_27 (dk_at dksX8_earliest_0 11 rfl rfl)
theorem dX8_earliest_12 : decode cX8_earliest 12 = .ok (.iaload, 1) := dk_46 (dk_at dksX8_earliest_0 12 rfl rfl)
theorem dX8_earliest_13 : decode cX8_earliest 13 = .ok (.isub, 1) := dk_100 (dk_at dksX8_earliest_0 13 rfl rfl)
theorem dX8_earliest_14 : decode cX8_earliest 14 = .ok (.invokestatic 50, 3) := dk_184 0 50 (dk_at dksX8_earliest_0 14 rfl rfl)
theorem dX8_earliest_17 : decode cX8_earliest 17 = .ok (.ireturn, 1) := dk_172 (dk_at dksX8_earliest_0 17 rfl rfl)
theorem q123 : (Jvm.Cond.initialized "LastAsked$City") ∈ lw_all := lw_g (lw_at lw_m1 11 rfl) rfl
theorem q448 : (Jvm.Cond.instantiable "LastAsked$City" (13 : Nat)) ∈ lw_all := lw_g (lw_at lw_m2 96 rfl) rfl
theorem q450 : (Jvm.Cond.instanceMethod ({ cls := "LastAsked$City", name := "<init>", desc := "()V" } : Jvm.MethodName)) ∈ lw_all := lw_g (lw_at lw_m2 98 rfl) rfl
theorem q451 : (Jvm.Cond.code ({ cls := "LastAsked$City", name := "<init>", desc := "()V" } : Jvm.MethodName) prog_3_method_1_code (1 : Nat) (Option.none : Option Jvm.ClassFile.FieldType)) ∈ lw_all := lw_g (lw_at lw_m2 99 rfl) rfl
theorem q452 : (Jvm.Cond.methodLink "LastAsked$City" (3 : Nat) ({ cls := "java/lang/Object", name := "<init>", desc := "()V" } : Jvm.MethodName)) ∈ lw_all := lw_g (lw_at lw_m2 100 rfl) rfl
theorem q453 : (Jvm.Cond.classLink "LastAsked$City" (9 : Nat) "LastAsked$Person") ∈ lw_all := lw_g (lw_at lw_m2 101 rfl) rfl
theorem q455 : (Jvm.Cond.fieldLink "LastAsked$City" (11 : Nat) "LastAsked$City" "people" "[LLastAsked$Person;") ∈ lw_all := lw_g (lw_at lw_m2 103 rfl) rfl
theorem q461 : (Jvm.Cond.fieldLink "LastAsked$City" (17 : Nat) "LastAsked$City" "hours" "[I") ∈ lw_all := lw_g (lw_at lw_m2 109 rfl) rfl
theorem q464 : (Jvm.Cond.fieldLink "LastAsked$City" (21 : Nat) "LastAsked$City" "heardBy" "[I") ∈ lw_all := lw_g (lw_at lw_m2 112 rfl) rfl
theorem q467 : (Jvm.Cond.fieldLink "LastAsked$City" (24 : Nat) "LastAsked$City" "heardOf" "[I") ∈ lw_all := lw_g (lw_at lw_m2 115 rfl) rfl
theorem q470 : (Jvm.Cond.fieldLink "LastAsked$City" (27 : Nat) "LastAsked$City" "heardAt" "[I") ∈ lw_all := lw_g (lw_at lw_m2 118 rfl) rfl
theorem q472 : (Jvm.Cond.fieldLink "LastAsked$City" (30 : Nat) "LastAsked$City" "heardGive" "[I") ∈ lw_all := lw_g (lw_at lw_m2 120 rfl) rfl
theorem q474 : (Jvm.Cond.fieldLink "LastAsked$City" (33 : Nat) "LastAsked$City" "hour" "I") ∈ lw_all := lw_g (lw_at lw_m2 122 rfl) rfl
theorem q480 : (Jvm.Cond.fieldLink "LastAsked$City" (37 : Nat) "LastAsked$City" "peopleMany" "I") ∈ lw_all := lw_g (lw_at lw_m2 128 rfl) rfl
theorem q494 : (Jvm.Cond.laysFinal "LastAsked$City" "LastAsked$City" "people" "[LLastAsked$Person;") ∈ lw_all := lw_g (lw_at lw_m2 142 rfl) rfl
theorem q495 : (Jvm.Cond.soleField "LastAsked$City" "people") ∈ lw_all := lw_g (lw_at lw_m2 143 rfl) rfl
theorem q496 : (Jvm.Cond.laysFinal "LastAsked$City" "LastAsked$City" "hours" "[I") ∈ lw_all := lw_g (lw_at lw_m2 144 rfl) rfl
theorem q497 : (Jvm.Cond.soleField "LastAsked$City" "hours") ∈ lw_all := lw_g (lw_at lw_m2 145 rfl) rfl
theorem q498 : (Jvm.Cond.laysFinal "LastAsked$City" "LastAsked$City" "heardBy" "[I") ∈ lw_all := lw_g (lw_at lw_m2 146 rfl) rfl
theorem q499 : (Jvm.Cond.soleField "LastAsked$City" "heardBy") ∈ lw_all := lw_g (lw_at lw_m2 147 rfl) rfl
theorem q500 : (Jvm.Cond.laysFinal "LastAsked$City" "LastAsked$City" "heardOf" "[I") ∈ lw_all := lw_g (lw_at lw_m2 148 rfl) rfl
theorem q501 : (Jvm.Cond.soleField "LastAsked$City" "heardOf") ∈ lw_all := lw_g (lw_at lw_m2 149 rfl) rfl
theorem q502 : (Jvm.Cond.laysFinal "LastAsked$City" "LastAsked$City" "heardAt" "[I") ∈ lw_all := lw_g (lw_at lw_m2 150 rfl) rfl
theorem q503 : (Jvm.Cond.soleField "LastAsked$City" "heardAt") ∈ lw_all := lw_g (lw_at lw_m2 151 rfl) rfl
theorem q504 : (Jvm.Cond.laysFinal "LastAsked$City" "LastAsked$City" "heardGive" "[I") ∈ lw_all := lw_g (lw_at lw_m2 152 rfl) rfl
theorem q505 : (Jvm.Cond.soleField "LastAsked$City" "heardGive") ∈ lw_all := lw_g (lw_at lw_m2 153 rfl) rfl
theorem q506 : (Jvm.Cond.lays "LastAsked$City" "LastAsked$City" "hour" "I") ∈ lw_all := lw_g (lw_at lw_m2 154 rfl) rfl
theorem q507 : (Jvm.Cond.soleField "LastAsked$City" "hour") ∈ lw_all := lw_g (lw_at lw_m2 155 rfl) rfl
theorem q508 : (Jvm.Cond.lays "LastAsked$City" "LastAsked$City" "gives" "I") ∈ lw_all := lw_g (lw_at lw_m2 156 rfl) rfl
theorem q509 : (Jvm.Cond.soleField "LastAsked$City" "gives") ∈ lw_all := lw_g (lw_at lw_m2 157 rfl) rfl
theorem q510 : (Jvm.Cond.lays "LastAsked$City" "LastAsked$City" "peopleMany" "I") ∈ lw_all := lw_g (lw_at lw_m2 158 rfl) rfl
theorem q511 : (Jvm.Cond.soleField "LastAsked$City" "peopleMany") ∈ lw_all := lw_g (lw_at lw_m2 159 rfl) rfl
theorem q512 : (Jvm.Cond.lays "LastAsked$City" "LastAsked$City" "nearMany" "I") ∈ lw_all := lw_g (lw_at lw_m2 160 rfl) rfl
theorem q513 : (Jvm.Cond.soleField "LastAsked$City" "nearMany") ∈ lw_all := lw_g (lw_at lw_m2 161 rfl) rfl
theorem q514 : (Jvm.Cond.lays "LastAsked$City" "LastAsked$City" "askedMany" "I") ∈ lw_all := lw_g (lw_at lw_m2 162 rfl) rfl
theorem q515 : (Jvm.Cond.soleField "LastAsked$City" "askedMany") ∈ lw_all := lw_g (lw_at lw_m2 163 rfl) rfl
theorem q516 : (Jvm.Cond.lays "LastAsked$City" "LastAsked$City" "heardMany" "I") ∈ lw_all := lw_g (lw_at lw_m2 164 rfl) rfl
theorem q517 : (Jvm.Cond.soleField "LastAsked$City" "heardMany") ∈ lw_all := lw_g (lw_at lw_m2 165 rfl) rfl
theorem q518 : (Jvm.Cond.lays "LastAsked$City" "LastAsked$City" "wentMany" "I") ∈ lw_all := lw_g (lw_at lw_m2 166 rfl) rfl
theorem q519 : (Jvm.Cond.soleField "LastAsked$City" "wentMany") ∈ lw_all := lw_g (lw_at lw_m2 167 rfl) rfl
theorem q520 : (Jvm.Cond.superclass "LastAsked$City" "java/lang/Object") ∈ lw_all := lw_g (lw_at lw_m2 168 rfl) rfl
theorem q730 : (Jvm.Cond.instanceMethod ({ cls := "LastAsked$City", name := "find", desc := "(Ljava/lang/String;)LLastAsked$Person;" } : Jvm.MethodName)) ∈ lw_all := lw_g (lw_at lw_m3 138 rfl) rfl
theorem q731 : (Jvm.Cond.selects "LastAsked$City" ({ cls := "LastAsked$City", name := "find", desc := "(Ljava/lang/String;)LLastAsked$Person;" } : Jvm.MethodName) ({ cls := "LastAsked$City", name := "find", desc := "(Ljava/lang/String;)LLastAsked$Person;" } : Jvm.MethodName)) ∈ lw_all := lw_g (lw_at lw_m3 139 rfl) rfl
theorem q732 : (Jvm.Cond.code ({ cls := "LastAsked$City", name := "find", desc := "(Ljava/lang/String;)LLastAsked$Person;" } : Jvm.MethodName) prog_3_method_2_code (3 : Nat) (Option.some (Jvm.ClassFile.FieldType.object "LastAsked$Person"))) ∈ lw_all := lw_g (lw_at lw_m3 140 rfl) rfl
theorem q733 : (Jvm.Cond.methodLink "LastAsked$City" (44 : Nat) ({ cls := "java/lang/String", name := "equals", desc := "(Ljava/lang/Object;)Z" } : Jvm.MethodName)) ∈ lw_all := lw_g (lw_at lw_m3 141 rfl) rfl
theorem q749 : (Jvm.Cond.fieldLink "LastAsked$City" (40 : Nat) "LastAsked$Person" "name" "Ljava/lang/String;") ∈ lw_all := lw_g (lw_at lw_m3 157 rfl) rfl
theorem q895 : (Jvm.Cond.instanceMethod ({ cls := "LastAsked$City", name := "all", desc := "()I" } : Jvm.MethodName)) ∈ lw_all := lw_g (lw_at lw_m4 63 rfl) rfl
theorem q896 : (Jvm.Cond.selects "LastAsked$City" ({ cls := "LastAsked$City", name := "all", desc := "()I" } : Jvm.MethodName) ({ cls := "LastAsked$City", name := "all", desc := "()I" } : Jvm.MethodName)) ∈ lw_all := lw_g (lw_at lw_m4 64 rfl) rfl
theorem q897 : (Jvm.Cond.code ({ cls := "LastAsked$City", name := "all", desc := "()I" } : Jvm.MethodName) prog_3_method_3_code (1 : Nat) (Option.some Jvm.ClassFile.FieldType.int)) ∈ lw_all := lw_g (lw_at lw_m4 65 rfl) rfl
theorem q1188 : (Jvm.Cond.instanceMethod ({ cls := "LastAsked$City", name := "mayBe", desc := "(I)I" } : Jvm.MethodName)) ∈ lw_all := lw_g (lw_at lw_m5 116 rfl) rfl
theorem q1189 : (Jvm.Cond.selects "LastAsked$City" ({ cls := "LastAsked$City", name := "mayBe", desc := "(I)I" } : Jvm.MethodName) ({ cls := "LastAsked$City", name := "mayBe", desc := "(I)I" } : Jvm.MethodName)) ∈ lw_all := lw_g (lw_at lw_m5 117 rfl) rfl
theorem q1190 : (Jvm.Cond.code ({ cls := "LastAsked$City", name := "mayBe", desc := "(I)I" } : Jvm.MethodName) prog_3_method_5_code (2 : Nat) (Option.some Jvm.ClassFile.FieldType.int)) ∈ lw_all := lw_g (lw_at lw_m5 118 rfl) rfl
theorem q1191 : (Jvm.Cond.methodLink "LastAsked$City" (56 : Nat) ({ cls := "LastAsked$City", name := "earliest", desc := "(I)I" } : Jvm.MethodName)) ∈ lw_all := lw_g (lw_at lw_m5 119 rfl) rfl
theorem q1192 : (Jvm.Cond.instanceMethod ({ cls := "LastAsked$City", name := "earliest", desc := "(I)I" } : Jvm.MethodName)) ∈ lw_all := lw_g (lw_at lw_m5 120 rfl) rfl
theorem q1193 : (Jvm.Cond.selects "LastAsked$City" ({ cls := "LastAsked$City", name := "earliest", desc := "(I)I" } : Jvm.MethodName) ({ cls := "LastAsked$City", name := "earliest", desc := "(I)I" } : Jvm.MethodName)) ∈ lw_all := lw_g (lw_at lw_m5 121 rfl) rfl
theorem q1194 : (Jvm.Cond.code ({ cls := "LastAsked$City", name := "earliest", desc := "(I)I" } : Jvm.MethodName) prog_3_method_4_code (2 : Nat) (Option.some Jvm.ClassFile.FieldType.int)) ∈ lw_all := lw_g (lw_at lw_m5 122 rfl) rfl
theorem q1195 : (Jvm.Cond.methodLink "LastAsked$City" (50 : Nat) ({ cls := "java/lang/Math", name := "max", desc := "(II)I" } : Jvm.MethodName)) ∈ lw_all := lw_g (lw_at lw_m5 123 rfl) rfl
theorem q2107 : (Jvm.Cond.castable "LastAsked$City" "java/lang/Object") ∈ lw_tbl := lw_at lw_m9 75 rfl
theorem in_X8 : ∀ w ∈ wsX80, w ∈ lw_all := lw_in wsX80 [494, 496, 498, 500, 502, 504, 506, 508, 510, 512, 514, 516, 518] (by decide +kernel) (by decide +kernel)

/-! LastAsked$Person -/
set_option maxRecDepth 100000
def RX9 : String := "LastAsked$Person"
abbrev cX9_init : ByteArray := prog_6_method_1_code
def yX9_init : MethodName := ⟨RX9, "<init>", "(Ljava/lang/String;I)V"⟩
def dkwX9_init_0 : List UInt8 := [42, 183, 0, 3, 42, 2, 181, 0, 9, 42, 43, 181, 0, 15, 42, 28, 181, 0, 19, 177]
abbrev dktX9_init_0 : List UInt8 := dkwX9_init_0 ++ []
theorem dksX9_init_0 : cX9_init.data.toList.drop 0 = dktX9_init_0 := by decide +kernel
theorem dX9_init_0 : decode cX9_init 0 = .ok (.aload_n 0, 1) := dk_42 (dk_at dksX9_init_0 0 rfl rfl)
theorem dX9_init_1 : decode cX9_init 1 = .ok (.invokespecial 3, 3) := dk_183 0 3 (dk_at dksX9_init_0 1 rfl rfl)
theorem dX9_init_4 : decode cX9_init 4 = .ok (.aload_n 0, 1) := dk_42 (dk_at dksX9_init_0 4 rfl rfl)
theorem dX9_init_5 : decode cX9_init 5 = .ok (.iconst (-1), 1) := dk_2 (dk_at dksX9_init_0 5 rfl rfl)
theorem dX9_init_6 : decode cX9_init 6 = .ok (.putfield 9, 3) := dk_181 0 9 (dk_at dksX9_init_0 6 rfl rfl)
theorem dX9_init_9 : decode cX9_init 9 = .ok (.aload_n 0, 1) := dk_42 (dk_at dksX9_init_0 9 rfl rfl)
theorem dX9_init_10 : decode cX9_init 10 = .ok (.aload_n 1, 1) := dk_43 (dk_at dksX9_init_0 10 rfl rfl)
theorem dX9_init_11 : decode cX9_init 11 = .ok (.putfield 15, 3) := dk_181 0 15 (dk_at dksX9_init_0 11 rfl rfl)
theorem dX9_init_14 : decode cX9_init 14 = .ok (.aload_n 0, 1) := dk_42 (dk_at dksX9_init_0 14 rfl rfl)
theorem dX9_init_15 : decode cX9_init 15 = .ok (.iload_n 2, 1) := dk_28 (dk_at dksX9_init_0 15 rfl rfl)
theorem dX9_init_16 : decode cX9_init 16 = .ok (.putfield 19, 3) := dk_181 0 19 (dk_at dksX9_init_0 16 rfl rfl)
theorem dX9_init_19 : decode cX9_init 19 = .ok (.return_, 1) := dk_177 (dk_at dksX9_init_0 19 rfl rfl)
abbrev cX9_mayAsk : ByteArray := prog_6_method_3_code
def yX9_mayAsk : MethodName := ⟨RX9, "mayAsk", "()Z"⟩
theorem dX9_mayAsk_0 : decode cX9_mayAsk 0 = .ok (.iconst 1, 1) := by decide +kernel
theorem dX9_mayAsk_1 : decode cX9_mayAsk 1 = .ok (.ireturn, 1) := by decide +kernel
abbrev cX9_mayBeAskedBy : ByteArray := prog_6_method_4_code
def yX9_mayBeAskedBy : MethodName := ⟨RX9, "mayBeAskedBy", "(I)Z"⟩
theorem dX9_mayBeAskedBy_0 : decode cX9_mayBeAskedBy 0 = .ok (.iconst 1, 1) := by decide +kernel
theorem dX9_mayBeAskedBy_1 : decode cX9_mayBeAskedBy 1 = .ok (.ireturn, 1) := by decide +kernel
theorem q129 : (Jvm.Cond.initialized "LastAsked$Person") ∈ lw_all := lw_g (lw_at lw_m1 17 rfl) rfl
theorem q745 : (Jvm.Cond.instanceMethod ({ cls := "LastAsked$Person", name := "<init>", desc := "(Ljava/lang/String;I)V" } : Jvm.MethodName)) ∈ lw_all := lw_g (lw_at lw_m3 153 rfl) rfl
theorem q746 : (Jvm.Cond.code ({ cls := "LastAsked$Person", name := "<init>", desc := "(Ljava/lang/String;I)V" } : Jvm.MethodName) prog_6_method_1_code (3 : Nat) (Option.none : Option Jvm.ClassFile.FieldType)) ∈ lw_all := lw_g (lw_at lw_m3 154 rfl) rfl
theorem q747 : (Jvm.Cond.methodLink "LastAsked$Person" (3 : Nat) ({ cls := "java/lang/Object", name := "<init>", desc := "()V" } : Jvm.MethodName)) ∈ lw_all := lw_g (lw_at lw_m3 155 rfl) rfl
theorem q748 : (Jvm.Cond.fieldLink "LastAsked$Person" (15 : Nat) "LastAsked$Person" "name" "Ljava/lang/String;") ∈ lw_all := lw_g (lw_at lw_m3 156 rfl) rfl
theorem q750 : (Jvm.Cond.fieldLink "LastAsked$Person" (19 : Nat) "LastAsked$Person" "number" "I") ∈ lw_all := lw_g (lw_at lw_m3 158 rfl) rfl
theorem q764 : (Jvm.Cond.fieldLink "LastAsked$Person" (9 : Nat) "LastAsked$Person" "went" "I") ∈ lw_all := lw_g (lw_at lw_m3 172 rfl) rfl
theorem q768 : (Jvm.Cond.soleField "LastAsked$Person" "name") ∈ lw_all := lw_g (lw_at lw_m3 176 rfl) rfl
theorem q770 : (Jvm.Cond.soleField "LastAsked$Person" "number") ∈ lw_all := lw_g (lw_at lw_m3 178 rfl) rfl
theorem q772 : (Jvm.Cond.soleField "LastAsked$Person" "wealth") ∈ lw_all := lw_g (lw_at lw_m3 180 rfl) rfl
theorem q774 : (Jvm.Cond.soleField "LastAsked$Person" "dies") ∈ lw_all := lw_g (lw_at lw_m3 182 rfl) rfl
theorem q776 : (Jvm.Cond.soleField "LastAsked$Person" "near") ∈ lw_all := lw_g (lw_at lw_m3 184 rfl) rfl
theorem q778 : (Jvm.Cond.soleField "LastAsked$Person" "asks") ∈ lw_all := lw_g (lw_at lw_m3 186 rfl) rfl
theorem q780 : (Jvm.Cond.soleField "LastAsked$Person" "went") ∈ lw_all := lw_g (lw_at lw_m3 188 rfl) rfl
theorem q849 : (Jvm.Cond.instanceMethod ({ cls := "LastAsked$Person", name := "mayAsk", desc := "()Z" } : Jvm.MethodName)) ∈ lw_all := lw_g (lw_at lw_m4 17 rfl) rfl
theorem q850 : (Jvm.Cond.sameMethod "LastAsked$Person" "LastAsked$Person" "mayAsk" "()Z") ∈ lw_all := lw_g (lw_at lw_m4 18 rfl) rfl
theorem q855 : (Jvm.Cond.code ({ cls := "LastAsked$Person", name := "mayAsk", desc := "()Z" } : Jvm.MethodName) prog_6_method_3_code (1 : Nat) (Option.some Jvm.ClassFile.FieldType.boolean)) ∈ lw_all := lw_g (lw_at lw_m4 23 rfl) rfl
theorem q860 : (Jvm.Cond.instanceMethod ({ cls := "LastAsked$Person", name := "mayBeAskedBy", desc := "(I)Z" } : Jvm.MethodName)) ∈ lw_all := lw_g (lw_at lw_m4 28 rfl) rfl
theorem q861 : (Jvm.Cond.sameMethod "LastAsked$Person" "LastAsked$Person" "mayBeAskedBy" "(I)Z") ∈ lw_all := lw_g (lw_at lw_m4 29 rfl) rfl
theorem q869 : (Jvm.Cond.declares ({ cls := "LastAsked$Person", name := "mayBeAskedBy", desc := "(I)Z" } : Jvm.MethodName)) ∈ lw_tbl := lw_at lw_m4 37 rfl
theorem q870 : (Jvm.Cond.code ({ cls := "LastAsked$Person", name := "mayBeAskedBy", desc := "(I)Z" } : Jvm.MethodName) prog_6_method_4_code (2 : Nat) (Option.some Jvm.ClassFile.FieldType.boolean)) ∈ lw_all := lw_g (lw_at lw_m4 38 rfl) rfl
theorem q918 : (Jvm.Cond.declares ({ cls := "LastAsked$Person", name := "kind", desc := "()I" } : Jvm.MethodName)) ∈ lw_tbl := lw_at lw_m4 86 rfl
theorem q919 : (Jvm.Cond.sameMethod "LastAsked$Person" "LastAsked$Person" "kind" "()I") ∈ lw_all := lw_g (lw_at lw_m4 87 rfl) rfl

theorem q134 : (Jvm.Cond.initialized "java/lang/System") ∈ lw_all := lw_g (lw_at lw_m1 22 rfl) rfl
set_option maxRecDepth 100000
theorem q899 : (Jvm.Cond.static ({ cls := "java/lang/System", name := "arraycopy", desc := "(Ljava/lang/Object;ILjava/lang/Object;II)V" } : Jvm.MethodName)) ∈ lw_all := lw_g (lw_at lw_m4 67 rfl) rfl
theorem q900 : (Jvm.Cond.native ({ cls := "java/lang/System", name := "arraycopy", desc := "(Ljava/lang/Object;ILjava/lang/Object;II)V" } : Jvm.MethodName)) ∈ lw_all := lw_g (lw_at lw_m4 68 rfl) rfl

theorem q652 : (Jvm.Cond.interfaceMethod "jdk/internal/access/JavaLangAccess" "jdk/internal/access/JavaLangAccess" "getUTF16Char" "([BI)C") ∈ lw_tbl := lw_at lw_m3 60 rfl
set_option maxRecDepth 100000
theorem q653 : (Jvm.Cond.declares ({ cls := "jdk/internal/access/JavaLangAccess", name := "getUTF16Char", desc := "([BI)C" } : Jvm.MethodName)) ∈ lw_tbl := lw_at lw_m3 61 rfl

theorem q225 : (Jvm.Cond.arrayClass Jvm.ClassFile.FieldType.byte) ∈ lw_all := lw_g (lw_at lw_m1 113 rfl) rfl
set_option maxRecDepth 100000
theorem q260 : (Jvm.Cond.arrayClass Jvm.ClassFile.FieldType.char) ∈ lw_all := lw_g (lw_at lw_m1 148 rfl) rfl
theorem q304 : (Jvm.Cond.arrayClass Jvm.ClassFile.FieldType.int) ∈ lw_all := lw_g (lw_at lw_m1 192 rfl) rfl
theorem q328 : (Jvm.Cond.arrayOver (Jvm.ClassFile.FieldType.object "LastAsked$Town")) ∈ lw_tbl := lw_at lw_m1 216 rfl
theorem q454 : (Jvm.Cond.arrayOver (Jvm.ClassFile.FieldType.object "LastAsked$Person")) ∈ lw_tbl := lw_at lw_m2 102 rfl
theorem q1570 : (Jvm.Cond.arrayClass Jvm.ClassFile.FieldType.long) ∈ lw_all := lw_g (lw_at lw_m7 18 rfl) rfl
theorem q2121 : (Jvm.Cond.arrayClass Jvm.ClassFile.FieldType.short) ∈ lw_all := lw_g (lw_at lw_m9 89 rfl) rfl
