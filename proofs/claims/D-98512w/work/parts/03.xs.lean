/-! LongerHalfLaw -/
set_option maxRecDepth 100000
def RX0 : String := "LongerHalfLaw"
abbrev cX0_led : ByteArray := method_3_code
def yX0_led : MethodName := ⟨RX0, "led", "(LLongerHalf;I[J)I"⟩
def dkwX0_led_0 : List UInt8 := [44, 3, 42, 27, 182, 0, 7, 133, 80, 167, 0, 6, 78, 4, 172, 3, 172]
abbrev dktX0_led_0 : List UInt8 := dkwX0_led_0 ++ []
theorem dksX0_led_0 : cX0_led.data.toList.drop 0 = dktX0_led_0 := by decide +kernel
theorem dX0_led_0 : decode cX0_led 0 = .ok (.aload_n 2, 1) := dk_44 (dk_at dksX0_led_0 0 rfl rfl)
theorem dX0_led_1 : decode cX0_led 1 = .ok (.iconst 0, 1) := dk_3 (dk_at dksX0_led_0 1 rfl rfl)
theorem dX0_led_2 : decode cX0_led 2 = .ok (.aload_n 0, 1) := dk_42 (dk_at dksX0_led_0 2 rfl rfl)
theorem dX0_led_3 : decode cX0_led 3 = .ok (.iload_n 1, 1) := dk_27 (dk_at dksX0_led_0 3 rfl rfl)
theorem dX0_led_4 : decode cX0_led 4 = .ok (.invokevirtual 7, 3) := dk_182 0 7 (dk_at dksX0_led_0 4 rfl rfl)
theorem dX0_led_7 : decode cX0_led 7 = .ok (.i2l, 1) := dk_133 (dk_at dksX0_led_0 7 rfl rfl)
theorem dX0_led_8 : decode cX0_led 8 = .ok (.lastore, 1) := dk_80 (dk_at dksX0_led_0 8 rfl rfl)
theorem dX0_led_9 : decode cX0_led 9 = .ok (.goto 6, 3) := dk_167 0 6 (dk_at dksX0_led_0 9 rfl rfl)
theorem dX0_led_12 : decode cX0_led 12 = .ok (.astore_n 3, 1) := dk_78 (dk_at dksX0_led_0 12 rfl rfl)
theorem dX0_led_13 : decode cX0_led 13 = .ok (.iconst 1, 1) := dk_4 (dk_at dksX0_led_0 13 rfl rfl)
theorem dX0_led_14 : decode cX0_led 14 = .ok (.ireturn, 1) := dk_172 (dk_at dksX0_led_0 14 rfl rfl)
theorem dX0_led_15 : decode cX0_led 15 = .ok (.iconst 0, 1) := dk_3 (dk_at dksX0_led_0 15 rfl rfl)
theorem dX0_led_16 : decode cX0_led 16 = .ok (.ireturn, 1) := dk_172 (dk_at dksX0_led_0 16 rfl rfl)
theorem q135 : (Jvm.Cond.initialized "LongerHalfLaw") ∈ lw_all := lw_g (lw_at lw_m1 0 rfl) rfl
theorem q168 : (Jvm.Cond.classLink "LongerHalfLaw" (8 : Nat) "LongerHalf") ∈ lw_all := lw_g (lw_at lw_m1 33 rfl) rfl
theorem q170 : (Jvm.Cond.methodLink "LongerHalfLaw" (15 : Nat) ({ cls := "LongerHalf", name := "<init>", desc := "()V" } : Jvm.MethodName)) ∈ lw_all := lw_g (lw_at lw_m1 35 rfl) rfl
theorem q482 : (Jvm.Cond.methodLink "LongerHalfLaw" (19 : Nat) ({ cls := "LongerHalf", name := "feed", desc := "(IIIII)I" } : Jvm.MethodName)) ∈ lw_all := lw_g (lw_at lw_m2 107 rfl) rfl
theorem q490 : (Jvm.Cond.methodLink "LongerHalfLaw" (24 : Nat) ({ cls := "LongerHalf", name := "kitchen", desc := "(I)I" } : Jvm.MethodName)) ∈ lw_all := lw_g (lw_at lw_m2 115 rfl) rfl
theorem q1077 : (Jvm.Cond.methodLink "LongerHalfLaw" (28 : Nat) ({ cls := "LongerHalf", name := "fault", desc := "()I" } : Jvm.MethodName)) ∈ lw_all := lw_g (lw_at lw_m4 222 rfl) rfl
theorem q1081 : (Jvm.Cond.methodLink "LongerHalfLaw" (33 : Nat) ({ cls := "LongerHalf", name := "where", desc := "()I" } : Jvm.MethodName)) ∈ lw_all := lw_g (lw_at lw_m4 226 rfl) rfl
theorem q1085 : (Jvm.Cond.methodLink "LongerHalfLaw" (37 : Nat) ({ cls := "LongerHalf", name := "bone", desc := "(II)I" } : Jvm.MethodName)) ∈ lw_all := lw_g (lw_at lw_m4 230 rfl) rfl
theorem q1107 : (Jvm.Cond.methodLink "LongerHalfLaw" (42 : Nat) ({ cls := "LongerHalf", name := "thick", desc := "(III)I" } : Jvm.MethodName)) ∈ lw_all := lw_g (lw_at lw_m5 12 rfl) rfl
theorem q1122 : (Jvm.Cond.methodLink "LongerHalfLaw" (47 : Nat) ({ cls := "LongerHalf", name := "person", desc := "(II)I" } : Jvm.MethodName)) ∈ lw_all := lw_g (lw_at lw_m5 27 rfl) rfl
theorem q1145 : (Jvm.Cond.methodLink "LongerHalfLaw" (51 : Nat) ({ cls := "LongerHalf", name := "strength", desc := "(IIII)I" } : Jvm.MethodName)) ∈ lw_all := lw_g (lw_at lw_m5 50 rfl) rfl
theorem q1176 : (Jvm.Cond.methodLink "LongerHalfLaw" (56 : Nat) ({ cls := "LongerHalf", name := "strain", desc := "(IIIIIIII)I" } : Jvm.MethodName)) ∈ lw_all := lw_g (lw_at lw_m5 81 rfl) rfl
theorem q1218 : (Jvm.Cond.methodLink "LongerHalfLaw" (61 : Nat) ({ cls := "LongerHalf", name := "pulled", desc := "(IIIIII)I" } : Jvm.MethodName)) ∈ lw_all := lw_g (lw_at lw_m5 123 rfl) rfl
theorem q1240 : (Jvm.Cond.methodLink "LongerHalfLaw" (66 : Nat) ({ cls := "LongerHalf", name := "breaksAt", desc := "(IIIIII)I" } : Jvm.MethodName)) ∈ lw_all := lw_g (lw_at lw_m5 145 rfl) rfl
theorem q1244 : (Jvm.Cond.methodLink "LongerHalfLaw" (70 : Nat) ({ cls := "LongerHalf", name := "flawed", desc := "(IIIIIIII)I" } : Jvm.MethodName)) ∈ lw_all := lw_g (lw_at lw_m5 149 rfl) rfl
theorem q1252 : (Jvm.Cond.methodLink "LongerHalfLaw" (74 : Nat) ({ cls := "LongerHalf", name := "odds", desc := "(IIIIIIIZ)J" } : Jvm.MethodName)) ∈ lw_all := lw_g (lw_at lw_m5 157 rfl) rfl
theorem q1280 : (Jvm.Cond.methodLink "LongerHalfLaw" (79 : Nat) ({ cls := "LongerHalf", name := "best", desc := "(IIII)I" } : Jvm.MethodName)) ∈ lw_all := lw_g (lw_at lw_m5 185 rfl) rfl
theorem q1292 : (Jvm.Cond.methodLink "LongerHalfLaw" (83 : Nat) ({ cls := "LongerHalf", name := "rests", desc := "(III)I" } : Jvm.MethodName)) ∈ lw_all := lw_g (lw_at lw_m5 197 rfl) rfl
theorem q1317 : (Jvm.Cond.methodLink "LongerHalfLaw" (87 : Nat) ({ cls := "LongerHalf", name := "rest", desc := "(III)I" } : Jvm.MethodName)) ∈ lw_all := lw_g (lw_at lw_m5 222 rfl) rfl
theorem q1321 : (Jvm.Cond.methodLink "LongerHalfLaw" (91 : Nat) ({ cls := "LongerHalf", name := "sure", desc := "(IIIZ)J" } : Jvm.MethodName)) ∈ lw_all := lw_g (lw_at lw_m5 226 rfl) rfl
theorem q1337 : (Jvm.Cond.methodLink "LongerHalfLaw" (96 : Nat) ({ cls := "LongerHalf", name := "curve", desc := "(IIIIZ)J" } : Jvm.MethodName)) ∈ lw_all := lw_g (lw_at lw_m6 2 rfl) rfl
theorem q1362 : (Jvm.Cond.methodLink "LongerHalfLaw" (101 : Nat) ({ cls := "LongerHalf", name := "bestDay", desc := "(III)I" } : Jvm.MethodName)) ∈ lw_all := lw_g (lw_at lw_m6 27 rfl) rfl
theorem q1366 : (Jvm.Cond.methodLink "LongerHalfLaw" (105 : Nat) ({ cls := "LongerHalf", name := "lawOdds", desc := "(IIIIZ)J" } : Jvm.MethodName)) ∈ lw_all := lw_g (lw_at lw_m6 31 rfl) rfl
theorem q1397 : (Jvm.Cond.methodLink "LongerHalfLaw" (109 : Nat) ({ cls := "LongerHalf", name := "fairest", desc := "(III)I" } : Jvm.MethodName)) ∈ lw_all := lw_g (lw_at lw_m6 62 rfl) rfl
theorem q1404 : (Jvm.Cond.methodLink "LongerHalfLaw" (113 : Nat) ({ cls := "LongerHalf", name := "turnsOf", desc := "(I)I" } : Jvm.MethodName)) ∈ lw_all := lw_g (lw_at lw_m6 69 rfl) rfl
theorem q1428 : (Jvm.Cond.methodLink "LongerHalfLaw" (117 : Nat) ({ cls := "LongerHalf", name := "turnAt", desc := "(II)I" } : Jvm.MethodName)) ∈ lw_all := lw_g (lw_at lw_m6 93 rfl) rfl
theorem q1436 : (Jvm.Cond.methodLink "LongerHalfLaw" (121 : Nat) ({ cls := "LongerHalf", name := "hand", desc := "(IZ)J" } : Jvm.MethodName)) ∈ lw_all := lw_g (lw_at lw_m6 101 rfl) rfl
theorem q1443 : (Jvm.Cond.methodLink "LongerHalfLaw" (126 : Nat) ({ cls := "LongerHalf", name := "side", desc := "(Z)J" } : Jvm.MethodName)) ∈ lw_all := lw_g (lw_at lw_m6 108 rfl) rfl
theorem q1447 : (Jvm.Cond.methodLink "LongerHalfLaw" (131 : Nat) ({ cls := "LongerHalf", name := "known", desc := "()I" } : Jvm.MethodName)) ∈ lw_all := lw_g (lw_at lw_m6 112 rfl) rfl
theorem q1452 : (Jvm.Cond.methodLink "LongerHalfLaw" (135 : Nat) ({ cls := "LongerHalf", name := "hens", desc := "(I)I" } : Jvm.MethodName)) ∈ lw_all := lw_g (lw_at lw_m6 117 rfl) rfl
theorem q1457 : (Jvm.Cond.methodLink "LongerHalfLaw" (139 : Nat) ({ cls := "LongerHalf", name := "thumbs", desc := "(IZ)J" } : Jvm.MethodName)) ∈ lw_all := lw_g (lw_at lw_m6 122 rfl) rfl
theorem q1464 : (Jvm.Cond.methodLink "LongerHalfLaw" (143 : Nat) ({ cls := "LongerHalf", name := "let", desc := "(II)I" } : Jvm.MethodName)) ∈ lw_all := lw_g (lw_at lw_m6 129 rfl) rfl
theorem q1476 : (Jvm.Cond.methodLink "LongerHalfLaw" (147 : Nat) ({ cls := "LongerHalf", name := "worth", desc := "(I)I" } : Jvm.MethodName)) ∈ lw_all := lw_g (lw_at lw_m6 141 rfl) rfl
theorem q1480 : (Jvm.Cond.methodLink "LongerHalfLaw" (151 : Nat) ({ cls := "LongerHalf", name := "knob", desc := "(I)I" } : Jvm.MethodName)) ∈ lw_all := lw_g (lw_at lw_m6 145 rfl) rfl
theorem q1492 : (Jvm.Cond.methodLink "LongerHalfLaw" (155 : Nat) ({ cls := "LongerHalf", name := "owners", desc := "(I)I" } : Jvm.MethodName)) ∈ lw_all := lw_g (lw_at lw_m6 157 rfl) rfl
theorem q1496 : (Jvm.Cond.methodLink "LongerHalfLaw" (159 : Nat) ({ cls := "LongerHalf", name := "wins", desc := "(III)I" } : Jvm.MethodName)) ∈ lw_all := lw_g (lw_at lw_m6 161 rfl) rfl
theorem q1515 : (Jvm.Cond.methodLink "LongerHalfLaw" (163 : Nat) ({ cls := "LongerHalf", name := "spoilt", desc := "(IIZ)I" } : Jvm.MethodName)) ∈ lw_all := lw_g (lw_at lw_m6 180 rfl) rfl
theorem q1519 : (Jvm.Cond.methodLink "LongerHalfLaw" (168 : Nat) ({ cls := "LongerHalf", name := "dry", desc := "(I)Z" } : Jvm.MethodName)) ∈ lw_all := lw_g (lw_at lw_m6 184 rfl) rfl
theorem q1542 : (Jvm.Cond.methodLink "LongerHalfLaw" (173 : Nat) ({ cls := "LongerHalf", name := "boil", desc := "(I)Z" } : Jvm.MethodName)) ∈ lw_all := lw_g (lw_at lw_m6 207 rfl) rfl
theorem q1546 : (Jvm.Cond.methodLink "LongerHalfLaw" (177 : Nat) ({ cls := "LongerHalf", name := "pull", desc := "(IIIIII)I" } : Jvm.MethodName)) ∈ lw_all := lw_g (lw_at lw_m6 211 rfl) rfl
theorem q1559 : (Jvm.Cond.methodLink "LongerHalfLaw" (181 : Nat) ({ cls := "LongerHalf", name := "seed", desc := "(I)Z" } : Jvm.MethodName)) ∈ lw_all := lw_g (lw_at lw_m6 224 rfl) rfl
theorem q1563 : (Jvm.Cond.methodLink "LongerHalfLaw" (185 : Nat) ({ cls := "LongerHalf", name := "undo", desc := "()Z" } : Jvm.MethodName)) ∈ lw_all := lw_g (lw_at lw_m6 228 rfl) rfl
theorem q1567 : (Jvm.Cond.methodLink "LongerHalfLaw" (190 : Nat) ({ cls := "LongerHalf", name := "mark", desc := "()I" } : Jvm.MethodName)) ∈ lw_all := lw_g (lw_at lw_m6 232 rfl) rfl
theorem q1571 : (Jvm.Cond.methodLink "LongerHalfLaw" (194 : Nat) ({ cls := "LongerHalf", name := "back", desc := "(I)Z" } : Jvm.MethodName)) ∈ lw_all := lw_g (lw_at lw_m6 236 rfl) rfl
theorem q1575 : (Jvm.Cond.methodLink "LongerHalfLaw" (207 : Nat) ({ cls := "LongerHalf", name := "size", desc := "(I)I" } : Jvm.MethodName)) ∈ lw_all := lw_g (lw_at lw_m7 0 rfl) rfl
theorem q1579 : (Jvm.Cond.methodLink "LongerHalfLaw" (211 : Nat) ({ cls := "LongerHalf", name := "trouble", desc := "()I" } : Jvm.MethodName)) ∈ lw_all := lw_g (lw_at lw_m7 4 rfl) rfl
theorem q1583 : (Jvm.Cond.methodLink "LongerHalfLaw" (198 : Nat) ({ cls := "LongerHalfLaw", name := "led", desc := "(LLongerHalf;I[J)I" } : Jvm.MethodName)) ∈ lw_all := lw_g (lw_at lw_m7 8 rfl) rfl
theorem q1584 : (Jvm.Cond.static ({ cls := "LongerHalfLaw", name := "led", desc := "(LLongerHalf;I[J)I" } : Jvm.MethodName)) ∈ lw_all := lw_g (lw_at lw_m7 9 rfl) rfl
theorem q1585 : (Jvm.Cond.codeWith ({ cls := "LongerHalfLaw", name := "led", desc := "(LLongerHalf;I[J)I" } : Jvm.MethodName) method_3_code (4 : Nat) (Option.some Jvm.ClassFile.FieldType.int) [((0 : Nat), (9 : Nat), (12 : Nat), (13 : Nat))]) ∈ lw_all := lw_g (lw_at lw_m7 10 rfl) rfl
theorem q1586 : (Jvm.Cond.classLink "LongerHalfLaw" (13 : Nat) "java/util/NoSuchElementException") ∈ lw_all := lw_g (lw_at lw_m7 11 rfl) rfl
theorem q1587 : (Jvm.Cond.methodLink "LongerHalfLaw" (7 : Nat) ({ cls := "LongerHalf", name := "led", desc := "(I)I" } : Jvm.MethodName)) ∈ lw_all := lw_g (lw_at lw_m7 12 rfl) rfl
theorem q1612 : (Jvm.Cond.classLink "LongerHalfLaw" (16 : Nat) "LongerHalfModel") ∈ lw_all := lw_g (lw_at lw_m7 37 rfl) rfl
theorem q1614 : (Jvm.Cond.methodLink "LongerHalfLaw" (18 : Nat) ({ cls := "LongerHalfModel", name := "<init>", desc := "()V" } : Jvm.MethodName)) ∈ lw_all := lw_g (lw_at lw_m7 39 rfl) rfl
theorem q1737 : (Jvm.Cond.methodLink "LongerHalfLaw" (204 : Nat) ({ cls := "LongerHalfModel", name := "thrown", desc := "()I" } : Jvm.MethodName)) ∈ lw_all := lw_g (lw_at lw_m7 162 rfl) rfl
theorem q1741 : (Jvm.Cond.methodLink "LongerHalfLaw" (23 : Nat) ({ cls := "LongerHalfModel", name := "feed", desc := "(IIIII)I" } : Jvm.MethodName)) ∈ lw_all := lw_g (lw_at lw_m7 166 rfl) rfl
theorem q1745 : (Jvm.Cond.methodLink "LongerHalfLaw" (27 : Nat) ({ cls := "LongerHalfModel", name := "kitchen", desc := "(I)I" } : Jvm.MethodName)) ∈ lw_all := lw_g (lw_at lw_m7 170 rfl) rfl
theorem q2067 : (Jvm.Cond.methodLink "LongerHalfLaw" (32 : Nat) ({ cls := "LongerHalfModel", name := "fault", desc := "()I" } : Jvm.MethodName)) ∈ lw_all := lw_g (lw_at lw_m9 12 rfl) rfl
theorem q2071 : (Jvm.Cond.methodLink "LongerHalfLaw" (36 : Nat) ({ cls := "LongerHalfModel", name := "where", desc := "()I" } : Jvm.MethodName)) ∈ lw_all := lw_g (lw_at lw_m9 16 rfl) rfl
theorem q2075 : (Jvm.Cond.methodLink "LongerHalfLaw" (41 : Nat) ({ cls := "LongerHalfModel", name := "bone", desc := "(II)I" } : Jvm.MethodName)) ∈ lw_all := lw_g (lw_at lw_m9 20 rfl) rfl
theorem q2087 : (Jvm.Cond.methodLink "LongerHalfLaw" (46 : Nat) ({ cls := "LongerHalfModel", name := "thick", desc := "(III)I" } : Jvm.MethodName)) ∈ lw_all := lw_g (lw_at lw_m9 32 rfl) rfl
theorem q2099 : (Jvm.Cond.methodLink "LongerHalfLaw" (50 : Nat) ({ cls := "LongerHalfModel", name := "person", desc := "(II)I" } : Jvm.MethodName)) ∈ lw_all := lw_g (lw_at lw_m9 44 rfl) rfl
theorem q2115 : (Jvm.Cond.methodLink "LongerHalfLaw" (55 : Nat) ({ cls := "LongerHalfModel", name := "strength", desc := "(IIII)I" } : Jvm.MethodName)) ∈ lw_all := lw_g (lw_at lw_m9 60 rfl) rfl
theorem q2131 : (Jvm.Cond.methodLink "LongerHalfLaw" (60 : Nat) ({ cls := "LongerHalfModel", name := "strain", desc := "(IIIIIIII)I" } : Jvm.MethodName)) ∈ lw_all := lw_g (lw_at lw_m9 76 rfl) rfl
theorem q2147 : (Jvm.Cond.methodLink "LongerHalfLaw" (65 : Nat) ({ cls := "LongerHalfModel", name := "pulled", desc := "(IIIIII)I" } : Jvm.MethodName)) ∈ lw_all := lw_g (lw_at lw_m9 92 rfl) rfl
theorem q2164 : (Jvm.Cond.methodLink "LongerHalfLaw" (69 : Nat) ({ cls := "LongerHalfModel", name := "breaksAt", desc := "(IIIIII)I" } : Jvm.MethodName)) ∈ lw_all := lw_g (lw_at lw_m9 109 rfl) rfl
theorem q2168 : (Jvm.Cond.methodLink "LongerHalfLaw" (73 : Nat) ({ cls := "LongerHalfModel", name := "flawed", desc := "(IIIIIIII)I" } : Jvm.MethodName)) ∈ lw_all := lw_g (lw_at lw_m9 113 rfl) rfl
theorem q2172 : (Jvm.Cond.methodLink "LongerHalfLaw" (78 : Nat) ({ cls := "LongerHalfModel", name := "odds", desc := "(IIIIIIIZ)J" } : Jvm.MethodName)) ∈ lw_all := lw_g (lw_at lw_m9 117 rfl) rfl
theorem q2196 : (Jvm.Cond.methodLink "LongerHalfLaw" (82 : Nat) ({ cls := "LongerHalfModel", name := "best", desc := "(IIII)I" } : Jvm.MethodName)) ∈ lw_all := lw_g (lw_at lw_m9 141 rfl) rfl
theorem q2207 : (Jvm.Cond.methodLink "LongerHalfLaw" (86 : Nat) ({ cls := "LongerHalfModel", name := "rests", desc := "(III)I" } : Jvm.MethodName)) ∈ lw_all := lw_g (lw_at lw_m9 152 rfl) rfl
theorem q2223 : (Jvm.Cond.methodLink "LongerHalfLaw" (90 : Nat) ({ cls := "LongerHalfModel", name := "rest", desc := "(III)I" } : Jvm.MethodName)) ∈ lw_all := lw_g (lw_at lw_m9 168 rfl) rfl
theorem q2227 : (Jvm.Cond.methodLink "LongerHalfLaw" (95 : Nat) ({ cls := "LongerHalfModel", name := "sure", desc := "(IIIZ)J" } : Jvm.MethodName)) ∈ lw_all := lw_g (lw_at lw_m9 172 rfl) rfl
theorem q2231 : (Jvm.Cond.methodLink "LongerHalfLaw" (100 : Nat) ({ cls := "LongerHalfModel", name := "curve", desc := "(IIIIZ)J" } : Jvm.MethodName)) ∈ lw_all := lw_g (lw_at lw_m9 176 rfl) rfl
theorem q2248 : (Jvm.Cond.methodLink "LongerHalfLaw" (104 : Nat) ({ cls := "LongerHalfModel", name := "bestDay", desc := "(III)I" } : Jvm.MethodName)) ∈ lw_all := lw_g (lw_at lw_m9 193 rfl) rfl
theorem q2252 : (Jvm.Cond.methodLink "LongerHalfLaw" (108 : Nat) ({ cls := "LongerHalfModel", name := "lawOdds", desc := "(IIIIZ)J" } : Jvm.MethodName)) ∈ lw_all := lw_g (lw_at lw_m9 197 rfl) rfl
theorem q2274 : (Jvm.Cond.methodLink "LongerHalfLaw" (112 : Nat) ({ cls := "LongerHalfModel", name := "fairest", desc := "(III)I" } : Jvm.MethodName)) ∈ lw_all := lw_g (lw_at lw_m9 219 rfl) rfl
theorem q2282 : (Jvm.Cond.methodLink "LongerHalfLaw" (116 : Nat) ({ cls := "LongerHalfModel", name := "turnsOf", desc := "(I)I" } : Jvm.MethodName)) ∈ lw_all := lw_g (lw_at lw_m9 227 rfl) rfl
theorem q2318 : (Jvm.Cond.methodLink "LongerHalfLaw" (120 : Nat) ({ cls := "LongerHalfModel", name := "turnAt", desc := "(II)I" } : Jvm.MethodName)) ∈ lw_all := lw_g (lw_at lw_m10 23 rfl) rfl
theorem q2322 : (Jvm.Cond.methodLink "LongerHalfLaw" (125 : Nat) ({ cls := "LongerHalfModel", name := "hand", desc := "(IZ)J" } : Jvm.MethodName)) ∈ lw_all := lw_g (lw_at lw_m10 27 rfl) rfl
theorem q2329 : (Jvm.Cond.methodLink "LongerHalfLaw" (130 : Nat) ({ cls := "LongerHalfModel", name := "side", desc := "(Z)J" } : Jvm.MethodName)) ∈ lw_all := lw_g (lw_at lw_m10 34 rfl) rfl
theorem q2333 : (Jvm.Cond.methodLink "LongerHalfLaw" (134 : Nat) ({ cls := "LongerHalfModel", name := "known", desc := "()I" } : Jvm.MethodName)) ∈ lw_all := lw_g (lw_at lw_m10 38 rfl) rfl
theorem q2338 : (Jvm.Cond.methodLink "LongerHalfLaw" (138 : Nat) ({ cls := "LongerHalfModel", name := "hens", desc := "(I)I" } : Jvm.MethodName)) ∈ lw_all := lw_g (lw_at lw_m10 43 rfl) rfl
theorem q2343 : (Jvm.Cond.methodLink "LongerHalfLaw" (142 : Nat) ({ cls := "LongerHalfModel", name := "thumbs", desc := "(IZ)J" } : Jvm.MethodName)) ∈ lw_all := lw_g (lw_at lw_m10 48 rfl) rfl
theorem q2351 : (Jvm.Cond.methodLink "LongerHalfLaw" (146 : Nat) ({ cls := "LongerHalfModel", name := "let", desc := "(II)I" } : Jvm.MethodName)) ∈ lw_all := lw_g (lw_at lw_m10 56 rfl) rfl
theorem q2359 : (Jvm.Cond.methodLink "LongerHalfLaw" (150 : Nat) ({ cls := "LongerHalfModel", name := "worth", desc := "(I)I" } : Jvm.MethodName)) ∈ lw_all := lw_g (lw_at lw_m10 64 rfl) rfl
theorem q2363 : (Jvm.Cond.methodLink "LongerHalfLaw" (154 : Nat) ({ cls := "LongerHalfModel", name := "knob", desc := "(I)I" } : Jvm.MethodName)) ∈ lw_all := lw_g (lw_at lw_m10 68 rfl) rfl
theorem q2375 : (Jvm.Cond.methodLink "LongerHalfLaw" (158 : Nat) ({ cls := "LongerHalfModel", name := "owners", desc := "(I)I" } : Jvm.MethodName)) ∈ lw_all := lw_g (lw_at lw_m10 80 rfl) rfl
theorem q2379 : (Jvm.Cond.methodLink "LongerHalfLaw" (162 : Nat) ({ cls := "LongerHalfModel", name := "wins", desc := "(III)I" } : Jvm.MethodName)) ∈ lw_all := lw_g (lw_at lw_m10 84 rfl) rfl
theorem q2403 : (Jvm.Cond.methodLink "LongerHalfLaw" (167 : Nat) ({ cls := "LongerHalfModel", name := "spoilt", desc := "(IIZ)I" } : Jvm.MethodName)) ∈ lw_all := lw_g (lw_at lw_m10 108 rfl) rfl
theorem q2407 : (Jvm.Cond.methodLink "LongerHalfLaw" (172 : Nat) ({ cls := "LongerHalfModel", name := "dry", desc := "(I)Z" } : Jvm.MethodName)) ∈ lw_all := lw_g (lw_at lw_m10 112 rfl) rfl
theorem q2423 : (Jvm.Cond.methodLink "LongerHalfLaw" (176 : Nat) ({ cls := "LongerHalfModel", name := "boil", desc := "(I)Z" } : Jvm.MethodName)) ∈ lw_all := lw_g (lw_at lw_m10 128 rfl) rfl
theorem q2427 : (Jvm.Cond.methodLink "LongerHalfLaw" (180 : Nat) ({ cls := "LongerHalfModel", name := "pull", desc := "(IIIIII)I" } : Jvm.MethodName)) ∈ lw_all := lw_g (lw_at lw_m10 132 rfl) rfl
theorem q2431 : (Jvm.Cond.methodLink "LongerHalfLaw" (184 : Nat) ({ cls := "LongerHalfModel", name := "seed", desc := "(I)Z" } : Jvm.MethodName)) ∈ lw_all := lw_g (lw_at lw_m10 136 rfl) rfl
theorem q2435 : (Jvm.Cond.methodLink "LongerHalfLaw" (189 : Nat) ({ cls := "LongerHalfModel", name := "undo", desc := "()Z" } : Jvm.MethodName)) ∈ lw_all := lw_g (lw_at lw_m10 140 rfl) rfl
theorem q2439 : (Jvm.Cond.methodLink "LongerHalfLaw" (193 : Nat) ({ cls := "LongerHalfModel", name := "mark", desc := "()I" } : Jvm.MethodName)) ∈ lw_all := lw_g (lw_at lw_m10 144 rfl) rfl
theorem q2443 : (Jvm.Cond.methodLink "LongerHalfLaw" (197 : Nat) ({ cls := "LongerHalfModel", name := "back", desc := "(I)Z" } : Jvm.MethodName)) ∈ lw_all := lw_g (lw_at lw_m10 148 rfl) rfl
theorem q2447 : (Jvm.Cond.methodLink "LongerHalfLaw" (203 : Nat) ({ cls := "LongerHalfModel", name := "led", desc := "(I)I" } : Jvm.MethodName)) ∈ lw_all := lw_g (lw_at lw_m10 152 rfl) rfl
theorem q2451 : (Jvm.Cond.methodLink "LongerHalfLaw" (210 : Nat) ({ cls := "LongerHalfModel", name := "size", desc := "(I)I" } : Jvm.MethodName)) ∈ lw_all := lw_g (lw_at lw_m10 156 rfl) rfl
theorem q2455 : (Jvm.Cond.methodLink "LongerHalfLaw" (214 : Nat) ({ cls := "LongerHalfModel", name := "trouble", desc := "()I" } : Jvm.MethodName)) ∈ lw_all := lw_g (lw_at lw_m10 160 rfl) rfl

/-! LongerHalf$Refused -/
set_option maxRecDepth 100000
def RX3 : String := "LongerHalf$Refused"
def TX3 : u_T := fun k => match k with
  | 0 => ("java/lang/Throwable", "cause", "Ljava/lang/Throwable;", false)
  | 1 => ("java/lang/Throwable", "stackTrace", "[Ljava/lang/StackTraceElement;", false)
  | 2 => ("java/lang/Throwable", "suppressedExceptions", "Ljava/util/List;", false)
  | 3 => ("java/lang/Throwable", "detailMessage", "Ljava/lang/String;", false)
  | 4 => ("java/lang/Throwable", "backtrace", "Ljava/lang/Object;", false)
  | 5 => ("java/lang/Throwable", "depth", "I", false)
  | 6 => ("LongerHalf$Refused", "fault", "I", false)
  | _ => ("LongerHalf$Refused", "place", "I", false)
def tyX3 : Nat → FieldType := fun k => match k with
  | 0 => .object "java/lang/Throwable"
  | 1 => .array (.object "java/lang/StackTraceElement")
  | 2 => .object "java/util/List"
  | 3 => .object "java/lang/String"
  | 4 => .object "java/lang/Object"
  | 5 => .int
  | 6 => .int
  | _ => .int
abbrev wsX30 : List Cond := u_ws RX3 TX3 8
theorem nmX3 : ∀ a, a < 8 → ∀ b, b < 8 → a ≠ b → (TX3 a).2.1 ≠ (TX3 b).2.1 := by decide +kernel
theorem tyX3_ok : ∀ k, k < 8 → parseFieldDescriptor (TX3 k).2.2.1 = some (tyX3 k) := by decide +kernel
abbrev cX3_init : ByteArray := prog_17_method_1_code
def yX3_init : MethodName := ⟨RX3, "<init>", "()V"⟩
def dkwX3_init_0 : List UInt8 := [42, 1, 1, 3, 3, 183, 0, 3, 42, 2, 181, 0, 9, 177]
abbrev dktX3_init_0 : List UInt8 := dkwX3_init_0 ++ []
theorem dksX3_init_0 : cX3_init.data.toList.drop 0 = dktX3_init_0 := by decide +kernel
theorem dX3_init_0 : decode cX3_init 0 = .ok (.aload_n 0, 1) := dk_42 (dk_at dksX3_init_0 0 rfl rfl)
theorem dX3_init_1 : decode cX3_init 1 = .ok (.aconst_null, 1) := dk_1 (dk_at dksX3_init_0 1 rfl rfl)
theorem dX3_init_2 : decode cX3_init 2 = .ok (.aconst_null, 1) := dk_1 (dk_at dksX3_init_0 2 rfl rfl)
theorem dX3_init_3 : decode cX3_init 3 = .ok (.iconst 0, 1) := dk_3 (dk_at dksX3_init_0 3 rfl rfl)
theorem dX3_init_4 : decode cX3_init 4 = .ok (.iconst 0, 1) := dk_3 (dk_at dksX3_init_0 4 rfl rfl)
theorem dX3_init_5 : decode cX3_init 5 = .ok (.invokespecial 3, 3) := dk_183 0 3 (dk_at dksX3_init_0 5 rfl rfl)
theorem dX3_init_8 : decode cX3_init 8 = .ok (.aload_n 0, 1) := dk_42 (dk_at dksX3_init_0 8 rfl rfl)
theorem dX3_init_9 : decode cX3_init 9 = .ok (.iconst (-1), 1) := dk_2 (dk_at dksX3_init_0 9 rfl rfl)
theorem dX3_init_10 : decode cX3_init 10 = .ok (.putfield 9, 3) := dk_181 0 9 (dk_at dksX3_init_0 10 rfl rfl)
theorem dX3_init_13 : decode cX3_init 13 = .ok (.return_, 1) := dk_177 (dk_at dksX3_init_0 13 rfl rfl)
abbrev cX3_at : ByteArray := prog_17_method_2_code
def yX3_at : MethodName := ⟨RX3, "at", "(II)LLongerHalf$Refused;"⟩
def dkwX3_at_0 : List UInt8 := [42, 27, 181, 0, 15, 42, 28, 181, 0, 9, 42, 176]
abbrev dktX3_at_0 : List UInt8 := dkwX3_at_0 ++ []
theorem dksX3_at_0 : cX3_at.data.toList.drop 0 = dktX3_at_0 := by decide +kernel
theorem dX3_at_0 : decode cX3_at 0 = .ok (.aload_n 0, 1) := dk_42 (dk_at dksX3_at_0 0 rfl rfl)
theorem dX3_at_1 : decode cX3_at 1 = .ok (.iload_n 1, 1) := dk_27 (dk_at dksX3_at_0 1 rfl rfl)
theorem dX3_at_2 : decode cX3_at 2 = .ok (.putfield 15, 3) := dk_181 0 15 (dk_at dksX3_at_0 2 rfl rfl)
theorem dX3_at_5 : decode cX3_at 5 = .ok (.aload_n 0, 1) := dk_42 (dk_at dksX3_at_0 5 rfl rfl)
theorem dX3_at_6 : decode cX3_at 6 = .ok (.iload_n 2, 1) := dk_28 (dk_at dksX3_at_0 6 rfl rfl)
theorem dX3_at_7 : decode cX3_at 7 = .ok (.putfield 9, 3) := dk_181 0 9 (dk_at dksX3_at_0 7 rfl rfl)
theorem dX3_at_10 : decode cX3_at 10 = .ok (.aload_n 0, 1) := dk_42 (dk_at dksX3_at_0 10 rfl rfl)
theorem dX3_at_11 : decode cX3_at 11 = .ok (.areturn, 1) := dk_176 (dk_at dksX3_at_0 11 rfl rfl)
theorem q141 : (Jvm.Cond.initialized "LongerHalf$Refused") ∈ lw_all := lw_g (lw_at lw_m1 6 rfl) rfl
theorem q183 : (Jvm.Cond.instantiable "LongerHalf$Refused" (8 : Nat)) ∈ lw_all := lw_g (lw_at lw_m1 48 rfl) rfl
theorem q184 : (Jvm.Cond.castable "LongerHalf$Refused" "LongerHalf$Refused") ∈ lw_tbl := lw_at lw_m1 49 rfl
theorem q191 : (Jvm.Cond.selects "LongerHalf$Refused" ({ cls := "java/lang/Throwable", name := "fillInStackTrace", desc := "(I)Ljava/lang/Throwable;" } : Jvm.MethodName) ({ cls := "java/lang/Throwable", name := "fillInStackTrace", desc := "(I)Ljava/lang/Throwable;" } : Jvm.MethodName)) ∈ lw_all := lw_g (lw_at lw_m1 56 rfl) rfl
theorem q192 : (Jvm.Cond.selects "LongerHalf$Refused" ({ cls := "java/lang/Throwable", name := "fillInStackTrace", desc := "()Ljava/lang/Throwable;" } : Jvm.MethodName) ({ cls := "java/lang/Throwable", name := "fillInStackTrace", desc := "()Ljava/lang/Throwable;" } : Jvm.MethodName)) ∈ lw_all := lw_g (lw_at lw_m1 57 rfl) rfl
theorem q193 : (Jvm.Cond.lays "LongerHalf$Refused" "java/lang/Throwable" "cause" "Ljava/lang/Throwable;") ∈ lw_all := lw_g (lw_at lw_m1 58 rfl) rfl
theorem q195 : (Jvm.Cond.lays "LongerHalf$Refused" "java/lang/Throwable" "stackTrace" "[Ljava/lang/StackTraceElement;") ∈ lw_all := lw_g (lw_at lw_m1 60 rfl) rfl
theorem q197 : (Jvm.Cond.lays "LongerHalf$Refused" "java/lang/Throwable" "suppressedExceptions" "Ljava/util/List;") ∈ lw_all := lw_g (lw_at lw_m1 62 rfl) rfl
theorem q199 : (Jvm.Cond.lays "LongerHalf$Refused" "java/lang/Throwable" "detailMessage" "Ljava/lang/String;") ∈ lw_all := lw_g (lw_at lw_m1 64 rfl) rfl
theorem q201 : (Jvm.Cond.lays "LongerHalf$Refused" "java/lang/Throwable" "backtrace" "Ljava/lang/Object;") ∈ lw_all := lw_g (lw_at lw_m1 66 rfl) rfl
theorem q223 : (Jvm.Cond.instanceMethod ({ cls := "LongerHalf$Refused", name := "<init>", desc := "()V" } : Jvm.MethodName)) ∈ lw_all := lw_g (lw_at lw_m1 88 rfl) rfl
theorem q224 : (Jvm.Cond.code ({ cls := "LongerHalf$Refused", name := "<init>", desc := "()V" } : Jvm.MethodName) prog_17_method_1_code (1 : Nat) (Option.none : Option Jvm.ClassFile.FieldType)) ∈ lw_all := lw_g (lw_at lw_m1 89 rfl) rfl
theorem q225 : (Jvm.Cond.methodLink "LongerHalf$Refused" (3 : Nat) ({ cls := "java/lang/RuntimeException", name := "<init>", desc := "(Ljava/lang/String;Ljava/lang/Throwable;ZZ)V" } : Jvm.MethodName)) ∈ lw_all := lw_g (lw_at lw_m1 90 rfl) rfl
theorem q234 : (Jvm.Cond.fieldLink "LongerHalf$Refused" (15 : Nat) "LongerHalf$Refused" "fault" "I") ∈ lw_all := lw_g (lw_at lw_m1 99 rfl) rfl
theorem q236 : (Jvm.Cond.fieldLink "LongerHalf$Refused" (9 : Nat) "LongerHalf$Refused" "place" "I") ∈ lw_all := lw_g (lw_at lw_m1 101 rfl) rfl
theorem q243 : (Jvm.Cond.lays "LongerHalf$Refused" "LongerHalf$Refused" "fault" "I") ∈ lw_all := lw_g (lw_at lw_m1 108 rfl) rfl
theorem q244 : (Jvm.Cond.soleField "LongerHalf$Refused" "fault") ∈ lw_all := lw_g (lw_at lw_m1 109 rfl) rfl
theorem q245 : (Jvm.Cond.lays "LongerHalf$Refused" "LongerHalf$Refused" "place" "I") ∈ lw_all := lw_g (lw_at lw_m1 110 rfl) rfl
theorem q246 : (Jvm.Cond.soleField "LongerHalf$Refused" "place") ∈ lw_all := lw_g (lw_at lw_m1 111 rfl) rfl
theorem q251 : (Jvm.Cond.lays "LongerHalf$Refused" "java/lang/Throwable" "depth" "I") ∈ lw_all := lw_g (lw_at lw_m1 116 rfl) rfl
theorem q254 : (Jvm.Cond.superclass "LongerHalf$Refused" "java/lang/RuntimeException") ∈ lw_all := lw_g (lw_at lw_m1 119 rfl) rfl
theorem q696 : (Jvm.Cond.instanceMethod ({ cls := "LongerHalf$Refused", name := "at", desc := "(II)LLongerHalf$Refused;" } : Jvm.MethodName)) ∈ lw_all := lw_g (lw_at lw_m3 81 rfl) rfl
theorem q697 : (Jvm.Cond.selects "LongerHalf$Refused" ({ cls := "LongerHalf$Refused", name := "at", desc := "(II)LLongerHalf$Refused;" } : Jvm.MethodName) ({ cls := "LongerHalf$Refused", name := "at", desc := "(II)LLongerHalf$Refused;" } : Jvm.MethodName)) ∈ lw_all := lw_g (lw_at lw_m3 82 rfl) rfl
theorem q698 : (Jvm.Cond.code ({ cls := "LongerHalf$Refused", name := "at", desc := "(II)LLongerHalf$Refused;" } : Jvm.MethodName) prog_17_method_2_code (3 : Nat) (Option.some (Jvm.ClassFile.FieldType.object "LongerHalf$Refused"))) ∈ lw_all := lw_g (lw_at lw_m3 83 rfl) rfl
theorem q2466 : (Jvm.Cond.castable "LongerHalf$Refused" "java/lang/Object") ∈ lw_tbl := lw_at lw_m10 171 rfl
theorem in_X3 : ∀ w ∈ wsX30, w ∈ lw_all := lw_in wsX30 [193, 195, 197, 199, 201, 251, 243, 245] (by decide +kernel) (by decide +kernel)

/-! LongerHalf$Drawer -/
set_option maxRecDepth 100000
def RX4 : String := "LongerHalf$Drawer"
def TX4 : u_T := fun k => match k with
  | 0 => ("LongerHalf$Drawer", "dry", "[I", true)
  | 1 => ("LongerHalf$Drawer", "wins", "[I", true)
  | 2 => ("LongerHalf$Drawer", "boiled", "I", false)
  | 3 => ("LongerHalf$Drawer", "gone", "I", false)
  | _ => ("LongerHalf$Drawer", "seed", "I", false)
def tyX4 : Nat → FieldType := fun k => match k with
  | 0 => .array .int
  | 1 => .array .int
  | 2 => .int
  | 3 => .int
  | _ => .int
abbrev wsX40 : List Cond := u_ws RX4 TX4 5
theorem nmX4 : ∀ a, a < 5 → ∀ b, b < 5 → a ≠ b → (TX4 a).2.1 ≠ (TX4 b).2.1 := by decide +kernel
theorem tyX4_ok : ∀ k, k < 5 → parseFieldDescriptor (TX4 k).2.2.1 = some (tyX4 k) := by decide +kernel
abbrev cX4_init : ByteArray := prog_7_method_1_code
def yX4_init : MethodName := ⟨RX4, "<init>", "()V"⟩
def dkwX4_init_0 : List UInt8 := [42, 183, 0, 3, 42, 8, 188, 10, 181, 0, 9, 42, 16, 6, 188, 10, 181, 0, 15, 177]
abbrev dktX4_init_0 : List UInt8 := dkwX4_init_0 ++ []
theorem dksX4_init_0 : cX4_init.data.toList.drop 0 = dktX4_init_0 := by decide +kernel
theorem dX4_init_0 : decode cX4_init 0 = .ok (.aload_n 0, 1) := dk_42 (dk_at dksX4_init_0 0 rfl rfl)
theorem dX4_init_1 : decode cX4_init 1 = .ok (.invokespecial 3, 3) := dk_183 0 3 (dk_at dksX4_init_0 1 rfl rfl)
theorem dX4_init_4 : decode cX4_init 4 = .ok (.aload_n 0, 1) := dk_42 (dk_at dksX4_init_0 4 rfl rfl)
theorem dX4_init_5 : decode cX4_init 5 = .ok (.iconst 5, 1) := dk_8 (dk_at dksX4_init_0 5 rfl rfl)
theorem dX4_init_6 : decode cX4_init 6 = .ok (.newarray .int, 2) := dk_188_10 (dk_at dksX4_init_0 6 rfl rfl)
theorem dX4_init_8 : decode cX4_init 8 = .ok (.putfield 9, 3) := dk_181 0 9 (dk_at dksX4_init_0 8 rfl rfl)
theorem dX4_init_11 : decode cX4_init 11 = .ok (.aload_n 0, 1) := dk_42 (dk_at dksX4_init_0 11 rfl rfl)
theorem dX4_init_12 : decode cX4_init 12 = .ok (.bipush 6, 2) := dk_16 6 (dk_at dksX4_init_0 12 rfl rfl)
theorem dX4_init_14 : decode cX4_init 14 = .ok (.newarray .int, 2) := dk_188_10 (dk_at dksX4_init_0 14 rfl rfl)
theorem dX4_init_16 : decode cX4_init 16 = .ok (.putfield 15, 3) := dk_181 0 15 (dk_at dksX4_init_0 16 rfl rfl)
theorem dX4_init_19 : decode cX4_init 19 = .ok (.return_, 1) := dk_177 (dk_at dksX4_init_0 19 rfl rfl)
abbrev cX4_begin : ByteArray := prog_7_method_2_code
def yX4_begin : MethodName := ⟨RX4, "begin", "(LLongerHalf$Kitchen;)V"⟩
def dkwX4_begin_4 : List UInt8 := [167, 255, 240, 177]
abbrev dktX4_begin_4 : List UInt8 := dkwX4_begin_4 ++ []
def dkwX4_begin_3 : List UInt8 := [132, 2, 1, 167, 255, 202, 3, 61, 28, 16, 6, 162, 0, 16, 42, 180, 0, 15, 28, 3, 79, 132, 2, 1]
abbrev dktX4_begin_3 : List UInt8 := dkwX4_begin_3 ++ dktX4_begin_4
def dkwX4_begin_2 : List UInt8 := [180, 0, 33, 28, 50, 182, 0, 41, 153, 0, 9, 4, 28, 120, 167, 0, 4, 3, 128, 181, 0, 18]
abbrev dktX4_begin_2 : List UInt8 := dkwX4_begin_2 ++ dktX4_begin_3
def dkwX4_begin_1 : List UInt8 := [162, 0, 52, 42, 180, 0, 9, 28, 43, 180, 0, 33, 28, 50, 180, 0, 37, 79, 42, 89, 180, 0, 18, 43]
abbrev dktX4_begin_1 : List UInt8 := dkwX4_begin_1 ++ dktX4_begin_2
def dkwX4_begin_0 : List UInt8 := [42, 3, 181, 0, 18, 42, 3, 181, 0, 22, 42, 3, 181, 0, 25, 3, 61, 28, 43, 180, 0, 28]
abbrev dktX4_begin_0 : List UInt8 := dkwX4_begin_0 ++ dktX4_begin_1
theorem dksX4_begin_0 : cX4_begin.data.toList.drop 0 = dktX4_begin_0 := by decide +kernel
theorem dksX4_begin_1 : cX4_begin.data.toList.drop 22 = dktX4_begin_1 := dk_seg dksX4_begin_0 22 rfl rfl
theorem dksX4_begin_2 : cX4_begin.data.toList.drop 46 = dktX4_begin_2 := dk_seg dksX4_begin_1 24 rfl rfl
theorem dksX4_begin_3 : cX4_begin.data.toList.drop 68 = dktX4_begin_3 := dk_seg dksX4_begin_2 22 rfl rfl
theorem dksX4_begin_4 : cX4_begin.data.toList.drop 92 = dktX4_begin_4 := dk_seg dksX4_begin_3 24 rfl rfl
theorem dX4_begin_0 : decode cX4_begin 0 = .ok (.aload_n 0, 1) := dk_42 (dk_at dksX4_begin_0 0 rfl rfl)
theorem dX4_begin_1 : decode cX4_begin 1 = .ok (.iconst 0, 1) := dk_3 (dk_at dksX4_begin_0 1 rfl rfl)
theorem dX4_begin_2 : decode cX4_begin 2 = .ok (.putfield 18, 3) := dk_181 0 18 (dk_at dksX4_begin_0 2 rfl rfl)
theorem dX4_begin_5 : decode cX4_begin 5 = .ok (.aload_n 0, 1) := dk_42 (dk_at dksX4_begin_0 5 rfl rfl)
theorem dX4_begin_6 : decode cX4_begin 6 = .ok (.iconst 0, 1) := dk_3 (dk_at dksX4_begin_0 6 rfl rfl)
theorem dX4_begin_7 : decode cX4_begin 7 = .ok (.putfield 22, 3) := dk_181 0 22 (dk_at dksX4_begin_0 7 rfl rfl)
theorem dX4_begin_10 : decode cX4_begin 10 = .ok (.aload_n 0, 1) := dk_42 (dk_at dksX4_begin_0 10 rfl rfl)
theorem dX4_begin_11 : decode cX4_begin 11 = .ok (.iconst 0, 1) := dk_3 (dk_at dksX4_begin_0 11 rfl rfl)
theorem dX4_begin_12 : decode cX4_begin 12 = .ok (.putfield 25, 3) := dk_181 0 25 (dk_at dksX4_begin_0 12 rfl rfl)
theorem dX4_begin_15 : decode cX4_begin 15 = .ok (.iconst 0, 1) := dk_3 (dk_at dksX4_begin_0 15 rfl rfl)
theorem dX4_begin_16 : decode cX4_begin 16 = .ok (.istore_n 2, 1) := dk_61 (dk_at dksX4_begin_0 16 rfl rfl)
theorem dX4_begin_17 : decode cX4_begin 17 = .ok (.iload_n 2, 1) := dk_28 (dk_at dksX4_begin_0 17 rfl rfl)
theorem dX4_begin_18 : decode cX4_begin 18 = .ok (.aload_n 1, 1) := dk_43 (dk_at dksX4_begin_0 18 rfl rfl)
theorem dX4_begin_19 : decode cX4_begin 19 = .ok (.getfield 28, 3) := dk_180 0 28 (dk_at dksX4_begin_0 19 rfl rfl)
theorem dX4_begin_22 : decode cX4_begin 22 = .ok (.if_icmp .ge 52, 3) := dk_162 0 52 (dk_at dksX4_begin_1 0 rfl rfl)
theorem dX4_begin_25 : decode cX4_begin 25 = .ok (.aload_n 0, 1) := dk_42 (dk_at dksX4_begin_1 3 rfl rfl)
theorem dX4_begin_26 : decode cX4_begin 26 = .ok (.getfield 9, 3) := dk_180 0 9 (dk_at dksX4_begin_1 4 rfl rfl)
theorem dX4_begin_29 : decode cX4_begin 29 = .ok (.iload_n 2, 1) := dk_28 (dk_at dksX4_begin_1 7 rfl rfl)
theorem dX4_begin_30 : decode cX4_begin 30 = .ok (.aload_n 1, 1) := dk_43 (dk_at dksX4_begin_1 8 rfl rfl)
theorem dX4_begin_31 : decode cX4_begin 31 = .ok (.getfield 33, 3) := dk_180 0 33 (dk_at dksX4_begin_1 9 rfl rfl)
theorem dX4_begin_34 : decode cX4_begin 34 = .ok (.iload_n 2, 1) := dk_28 (dk_at dksX4_begin_1 12 rfl rfl)
theorem dX4_begin_35 : decode cX4_begin 35 = .ok (.aaload, 1) := dk_50 (dk_at dksX4_begin_1 13 rfl rfl)
theorem dX4_begin_36 : decode cX4_begin 36 = .ok (.getfield 37, 3) := dk_180 0 37 (dk_at dksX4_begin_1 14 rfl rfl)
theorem dX4_begin_39 : decode cX4_begin 39 = .ok (.iastore, 1) := dk_79 (dk_at dksX4_begin_1 17 rfl rfl)
theorem dX4_begin_40 : decode cX4_begin 40 = .ok (.aload_n 0, 1) := dk_42 (dk_at dksX4_begin_1 18 rfl rfl)
theorem dX4_begin_41 : decode cX4_begin 41 = .ok (.dup, 1) := dk_89 (dk_at dksX4_begin_1 19 rfl rfl)
theorem dX4_begin_42 : decode cX4_begin 42 = .ok (.getfield 18, 3) := dk_180 0 18 (dk_at dksX4_begin_1 20 rfl rfl)
theorem dX4_begin_45 : decode cX4_begin 45 = .ok (.aload_n 1, 1) := dk_43 (dk_at dksX4_begin_1 23 rfl rfl)
theorem dX4_begin_46 : decode cX4_begin 46 = .ok (.getfield 33, 3) := dk_180 0 33 (dk_at dksX4_begin_2 0 rfl rfl)
theorem dX4_begin_49 : decode cX4_begin 49 = .ok (.iload_n 2, 1) := dk_28 (dk_at dksX4_begin_2 3 rfl rfl)
theorem dX4_begin_50 : decode cX4_begin 50 = .ok (.aaload, 1) := dk_50 (dk_at dksX4_begin_2 4 rfl rfl)
theorem dX4_begin_51 : decode cX4_begin 51 = .ok (.invokevirtual 41, 3) := dk_182 0 41 (dk_at dksX4_begin_2 5 rfl rfl)
theorem dX4_begin_54 : decode cX4_begin 54 = .ok (.ifCond .eq 9, 3) := dk_153 0 9 (dk_at dksX4_begin_2 8 rfl rfl)
theorem dX4_begin_57 : decode cX4_begin 57 = .ok (.iconst 1, 1) := dk_4 (dk_at dksX4_begin_2 11 rfl rfl)
theorem dX4_begin_58 : decode cX4_begin 58 = .ok (.iload_n 2, 1) := dk_28 (dk_at dksX4_begin_2 12 rfl rfl)
theorem dX4_begin_59 : decode cX4_begin 59 = .ok (.ishl, 1) := dk_120 (dk_at dksX4_begin_2 13 rfl rfl)
theorem dX4_begin_60 : decode cX4_begin 60 = .ok (.goto 4, 3) := dk_167 0 4 (dk_at dksX4_begin_2 14 rfl rfl)
theorem dX4_begin_63 : decode cX4_begin 63 = .ok (.iconst 0, 1) := dk_3 (dk_at dksX4_begin_2 17 rfl rfl)
theorem dX4_begin_64 : decode cX4_begin 64 = .ok (.ior, 1) := dk_128 (dk_at dksX4_begin_2 18 rfl rfl)
theorem dX4_begin_65 : decode cX4_begin 65 = .ok (.putfield 18, 3) := dk_181 0 18 (dk_at dksX4_begin_2 19 rfl rfl)
theorem dX4_begin_68 : decode cX4_begin 68 = .ok (.iinc 2 1, 3) := dk_132 2 1 (dk_at dksX4_begin_3 0 rfl rfl)
theorem dX4_begin_71 : decode cX4_begin 71 = .ok (.goto (-54), 3) := dk_167 255 202 (dk_at dksX4_begin_3 3 rfl rfl)
theorem dX4_begin_74 : decode cX4_begin 74 = .ok (.iconst 0, 1) := dk_3 (dk_at dksX4_begin_3 6 rfl rfl)
theorem dX4_begin_75 : decode cX4_begin 75 = .ok (.istore_n 2, 1) := dk_61 (dk_at dksX4_begin_3 7 rfl rfl)
theorem dX4_begin_76 : decode cX4_begin 76 = .ok (.iload_n 2, 1) := dk_28 (dk_at dksX4_begin_3 8 rfl rfl)
theorem dX4_begin_77 : decode cX4_begin 77 = .ok (.bipush 6, 2) := dk_16 6 (dk_at dksX4_begin_3 9 rfl rfl)
theorem dX4_begin_79 : decode cX4_begin 79 = .ok (.if_icmp .ge 16, 3) := dk_162 0 16 (dk_at dksX4_begin_3 11 rfl rfl)
theorem dX4_begin_82 : decode cX4_begin 82 = .ok (.aload_n 0, 1) := dk_42 (dk_at dksX4_begin_3 14 rfl rfl)
theorem dX4_begin_83 : decode cX4_begin 83 = .ok (.getfield 15, 3) := dk_180 0 15 (dk_at dksX4_begin_3 15 rfl rfl)
theorem dX4_begin_86 : decode cX4_begin 86 = .ok (.iload_n 2, 1) := dk_28 (dk_at dksX4_begin_3 18 rfl rfl)
theorem dX4_begin_87 : decode cX4_begin 87 = .ok (.iconst 0, 1) := dk_3 (dk_at dksX4_begin_3 19 rfl rfl)
theorem dX4_begin_88 : decode cX4_begin 88 = .ok (.iastore, 1) := dk_79 (dk_at dksX4_begin_3 20 rfl rfl)
theorem dX4_begin_89 : decode cX4_begin 89 = .ok (.iinc 2 1, 3) := dk_132 2 1 (dk_at dksX4_begin_3 21 rfl rfl)
theorem dX4_begin_92 : decode cX4_begin 92 = .ok (.goto (-16), 3) := dk_167 255 240 (dk_at dksX4_begin_4 0 rfl rfl)
theorem dX4_begin_95 : decode cX4_begin 95 = .ok (.return_, 1) := dk_177 (dk_at dksX4_begin_4 3 rfl rfl)
abbrev cX4_draw : ByteArray := prog_7_method_4_code
def yX4_draw : MethodName := ⟨RX4, "draw", "()I"⟩
def dkwX4_draw_0 : List UInt8 := [42, 16, 75, 42, 180, 0, 25, 104, 16, 74, 96, 18, 51, 112, 181, 0, 25, 42, 180, 0, 25, 172]
abbrev dktX4_draw_0 : List UInt8 := dkwX4_draw_0 ++ []
theorem dksX4_draw_0 : cX4_draw.data.toList.drop 0 = dktX4_draw_0 := by decide +kernel
theorem dX4_draw_0 : decode cX4_draw 0 = .ok (.aload_n 0, 1) := dk_42 (dk_at dksX4_draw_0 0 rfl rfl)
theorem dX4_draw_1 : decode cX4_draw 1 = .ok (.bipush 75, 2) := dk_16 75 (dk_at dksX4_draw_0 1 rfl rfl)
theorem dX4_draw_3 : decode cX4_draw 3 = .ok (.aload_n 0, 1) := dk_42 (dk_at dksX4_draw_0 3 rfl rfl)
theorem dX4_draw_4 : decode cX4_draw 4 = .ok (.getfield 25, 3) := dk_180 0 25 (dk_at dksX4_draw_0 4 rfl rfl)
theorem dX4_draw_7 : decode cX4_draw 7 = .ok (.imul, 1) := dk_104 (dk_at dksX4_draw_0 7 rfl rfl)
theorem dX4_draw_8 : decode cX4_draw 8 = .ok (.bipush 74, 2) := dk_16 74 (dk_at dksX4_draw_0 8 rfl rfl)
theorem dX4_draw_10 : decode cX4_draw 10 = .ok (.iadd, 1) := dk_96 (dk_at dksX4_draw_0 10 rfl rfl)
theorem dX4_draw_11 : decode cX4_draw 11 = .ok (.ldc 51, 2) := dk_18 51 (dk_at dksX4_draw_0 11 rfl rfl)
theorem dX4_draw_13 : decode cX4_draw 13 = .ok (.irem, 1) := dk_112 (dk_at dksX4_draw_0 13 rfl rfl)
theorem dX4_draw_14 : decode cX4_draw 14 = .ok (.putfield 25, 3) := dk_181 0 25 (dk_at dksX4_draw_0 14 rfl rfl)
theorem dX4_draw_17 : decode cX4_draw 17 = .ok (.aload_n 0, 1) := dk_42 (dk_at dksX4_draw_0 17 rfl rfl)
theorem dX4_draw_18 : decode cX4_draw 18 = .ok (.getfield 25, 3) := dk_180 0 25 (dk_at dksX4_draw_0 18 rfl rfl)
theorem dX4_draw_21 : decode cX4_draw 21 = .ok (.ireturn, 1) := dk_172 (dk_at dksX4_draw_0 21 rfl rfl)
abbrev cX4_become : ByteArray := prog_7_method_3_code
def yX4_become : MethodName := ⟨RX4, "become", "(LLongerHalf$Drawer;)V"⟩
def dkwX4_become_2 : List UInt8 := [16, 6, 184, 0, 45, 177]
abbrev dktX4_become_2 : List UInt8 := dkwX4_become_2 ++ []
def dkwX4_become_1 : List UInt8 := [43, 180, 0, 9, 3, 42, 180, 0, 9, 3, 8, 184, 0, 45, 43, 180, 0, 15, 3, 42, 180, 0, 15, 3]
abbrev dktX4_become_1 : List UInt8 := dkwX4_become_1 ++ dktX4_become_2
def dkwX4_become_0 : List UInt8 := [42, 43, 180, 0, 18, 181, 0, 18, 42, 43, 180, 0, 22, 181, 0, 22, 42, 43, 180, 0, 25, 181, 0, 25]
abbrev dktX4_become_0 : List UInt8 := dkwX4_become_0 ++ dktX4_become_1
theorem dksX4_become_0 : cX4_become.data.toList.drop 0 = dktX4_become_0 := by decide +kernel
theorem dksX4_become_1 : cX4_become.data.toList.drop 24 = dktX4_become_1 := dk_seg dksX4_become_0 24 rfl rfl
theorem dksX4_become_2 : cX4_become.data.toList.drop 48 = dktX4_become_2 := dk_seg dksX4_become_1 24 rfl rfl
theorem dX4_become_0 : decode cX4_become 0 = .ok (.aload_n 0, 1) := dk_42 (dk_at dksX4_become_0 0 rfl rfl)
theorem dX4_become_1 : decode cX4_become 1 = .ok (.aload_n 1, 1) := dk_43 (dk_at dksX4_become_0 1 rfl rfl)
theorem dX4_become_2 : decode cX4_become 2 = .ok (.getfield 18, 3) := dk_180 0 18 (dk_at dksX4_become_0 2 rfl rfl)
theorem dX4_become_5 : decode cX4_become 5 = .ok (.putfield 18, 3) := dk_181 0 18 (dk_at dksX4_become_0 5 rfl rfl)
theorem dX4_become_8 : decode cX4_become 8 = .ok (.aload_n 0, 1) := dk_42 (dk_at dksX4_become_0 8 rfl rfl)
theorem dX4_become_9 : decode cX4_become 9 = .ok (.aload_n 1, 1) := dk_43 (dk_at dksX4_become_0 9 rfl rfl)
theorem dX4_become_10 : decode cX4_become 10 = .ok (.getfield 22, 3) := dk_180 0 22 (dk_at dksX4_become_0 10 rfl rfl)
theorem dX4_become_13 : decode cX4_become 13 = .ok (.putfield 22, 3) := dk_181 0 22 (dk_at dksX4_become_0 13 rfl rfl)
theorem dX4_become_16 : decode cX4_become 16 = .ok (.aload_n 0, 1) := dk_42 (dk_at dksX4_become_0 16 rfl rfl)
theorem dX4_become_17 : decode cX4_become 17 = .ok (.aload_n 1, 1) := dk_43 (dk_at dksX4_become_0 17 rfl rfl)
theorem dX4_become_18 : decode cX4_become 18 = .ok (.getfield 25, 3) := dk_180 0 25 (dk_at dksX4_become_0 18 rfl rfl)
theorem dX4_become_21 : decode cX4_become 21 = .ok (.putfield 25, 3) := dk_181 0 25 (dk_at dksX4_become_0 21 rfl rfl)
theorem dX4_become_24 : decode cX4_become 24 = .ok (.aload_n 1, 1) := dk_43 (dk_at dksX4_become_1 0 rfl rfl)
theorem dX4_become_25 : decode cX4_become 25 = .ok (.getfield 9, 3) := dk_180 0 9 (dk_at dksX4_become_1 1 rfl rfl)
theorem dX4_become_28 : decode cX4_become 28 = .ok (.iconst 0, 1) := dk_3 (dk_at dksX4_become_1 4 rfl rfl)
theorem dX4_become_29 : decode cX4_become 29 = .ok (.aload_n 0, 1) := dk_42 (dk_at dksX4_become_1 5 rfl rfl)
theorem dX4_become_30 : decode cX4_become 30 = .ok (.getfield 9, 3) := dk_180 0 9 (dk_at dksX4_become_1 6 rfl rfl)
theorem dX4_become_33 : decode cX4_become 33 = .ok (.iconst 0, 1) := dk_3 (dk_at dksX4_become_1 9 rfl rfl)
theorem dX4_become_34 : decode cX4_become 34 = .ok (.iconst 5, 1) := dk_8 (dk_at dksX4_become_1 10 rfl rfl)
theorem dX4_become_35 : decode cX4_become 35 = .ok (.invokestatic 45, 3) := dk_184 0 45 (dk_at dksX4_become_1 11 rfl rfl)
theorem dX4_become_38 : decode cX4_become 38 = .ok (.aload_n 1, 1) := dk_43 (dk_at dksX4_become_1 14 rfl rfl)
theorem dX4_become_39 : decode cX4_become 39 = .ok (.getfield 15, 3) := dk_180 0 15 (dk_at dksX4_become_1 15 rfl rfl)
theorem dX4_become_42 : decode cX4_become 42 = .ok (.iconst 0, 1) := dk_3 (dk_at dksX4_become_1 18 rfl rfl)
theorem dX4_become_43 : decode cX4_become 43 = .ok (.aload_n 0, 1) := dk_42 (dk_at dksX4_become_1 19 rfl rfl)
theorem dX4_become_44 : decode cX4_become 44 = .ok (.getfield 15, 3) := dk_180 0 15 (dk_at dksX4_become_1 20 rfl rfl)
theorem dX4_become_47 : decode cX4_become 47 = .ok (.iconst 0, 1) := dk_3 (dk_at dksX4_become_1 23 rfl rfl)
theorem dX4_become_48 : decode cX4_become 48 = .ok (.bipush 6, 2) := dk_16 6 (dk_at dksX4_become_2 0 rfl rfl)
theorem dX4_become_50 : decode cX4_become 50 = .ok (.invokestatic 45, 3) := dk_184 0 45 (dk_at dksX4_become_2 2 rfl rfl)
theorem dX4_become_53 : decode cX4_become 53 = .ok (.return_, 1) := dk_177 (dk_at dksX4_become_2 5 rfl rfl)
theorem q142 : (Jvm.Cond.initialized "LongerHalf$Drawer") ∈ lw_all := lw_g (lw_at lw_m1 7 rfl) rfl
theorem q289 : (Jvm.Cond.instantiable "LongerHalf$Drawer" (5 : Nat)) ∈ lw_all := lw_g (lw_at lw_m1 154 rfl) rfl
theorem q291 : (Jvm.Cond.instanceMethod ({ cls := "LongerHalf$Drawer", name := "<init>", desc := "()V" } : Jvm.MethodName)) ∈ lw_all := lw_g (lw_at lw_m1 156 rfl) rfl
theorem q292 : (Jvm.Cond.code ({ cls := "LongerHalf$Drawer", name := "<init>", desc := "()V" } : Jvm.MethodName) prog_7_method_1_code (1 : Nat) (Option.none : Option Jvm.ClassFile.FieldType)) ∈ lw_all := lw_g (lw_at lw_m1 157 rfl) rfl
theorem q293 : (Jvm.Cond.methodLink "LongerHalf$Drawer" (3 : Nat) ({ cls := "java/lang/Object", name := "<init>", desc := "()V" } : Jvm.MethodName)) ∈ lw_all := lw_g (lw_at lw_m1 158 rfl) rfl
theorem q294 : (Jvm.Cond.fieldLink "LongerHalf$Drawer" (9 : Nat) "LongerHalf$Drawer" "dry" "[I") ∈ lw_all := lw_g (lw_at lw_m1 159 rfl) rfl
theorem q296 : (Jvm.Cond.fieldLink "LongerHalf$Drawer" (15 : Nat) "LongerHalf$Drawer" "wins" "[I") ∈ lw_all := lw_g (lw_at lw_m1 161 rfl) rfl
theorem q298 : (Jvm.Cond.fieldLink "LongerHalf$Drawer" (18 : Nat) "LongerHalf$Drawer" "boiled" "I") ∈ lw_all := lw_g (lw_at lw_m1 163 rfl) rfl
theorem q300 : (Jvm.Cond.fieldLink "LongerHalf$Drawer" (22 : Nat) "LongerHalf$Drawer" "gone" "I") ∈ lw_all := lw_g (lw_at lw_m1 165 rfl) rfl
theorem q302 : (Jvm.Cond.fieldLink "LongerHalf$Drawer" (25 : Nat) "LongerHalf$Drawer" "seed" "I") ∈ lw_all := lw_g (lw_at lw_m1 167 rfl) rfl
theorem q304 : (Jvm.Cond.laysFinal "LongerHalf$Drawer" "LongerHalf$Drawer" "dry" "[I") ∈ lw_all := lw_g (lw_at lw_m1 169 rfl) rfl
theorem q305 : (Jvm.Cond.soleField "LongerHalf$Drawer" "dry") ∈ lw_all := lw_g (lw_at lw_m1 170 rfl) rfl
theorem q306 : (Jvm.Cond.laysFinal "LongerHalf$Drawer" "LongerHalf$Drawer" "wins" "[I") ∈ lw_all := lw_g (lw_at lw_m1 171 rfl) rfl
theorem q307 : (Jvm.Cond.soleField "LongerHalf$Drawer" "wins") ∈ lw_all := lw_g (lw_at lw_m1 172 rfl) rfl
theorem q308 : (Jvm.Cond.lays "LongerHalf$Drawer" "LongerHalf$Drawer" "boiled" "I") ∈ lw_all := lw_g (lw_at lw_m1 173 rfl) rfl
theorem q309 : (Jvm.Cond.soleField "LongerHalf$Drawer" "boiled") ∈ lw_all := lw_g (lw_at lw_m1 174 rfl) rfl
theorem q310 : (Jvm.Cond.lays "LongerHalf$Drawer" "LongerHalf$Drawer" "gone" "I") ∈ lw_all := lw_g (lw_at lw_m1 175 rfl) rfl
theorem q311 : (Jvm.Cond.soleField "LongerHalf$Drawer" "gone") ∈ lw_all := lw_g (lw_at lw_m1 176 rfl) rfl
theorem q312 : (Jvm.Cond.lays "LongerHalf$Drawer" "LongerHalf$Drawer" "seed" "I") ∈ lw_all := lw_g (lw_at lw_m1 177 rfl) rfl
theorem q313 : (Jvm.Cond.soleField "LongerHalf$Drawer" "seed") ∈ lw_all := lw_g (lw_at lw_m1 178 rfl) rfl
theorem q314 : (Jvm.Cond.superclass "LongerHalf$Drawer" "java/lang/Object") ∈ lw_all := lw_g (lw_at lw_m1 179 rfl) rfl
theorem q520 : (Jvm.Cond.fieldLink "LongerHalf$Drawer" (33 : Nat) "LongerHalf$Kitchen" "bones" "[LLongerHalf$Bone;") ∈ lw_all := lw_g (lw_at lw_m2 145 rfl) rfl
theorem q547 : (Jvm.Cond.fieldLink "LongerHalf$Drawer" (28 : Nat) "LongerHalf$Kitchen" "boneMany" "I") ∈ lw_all := lw_g (lw_at lw_m2 172 rfl) rfl
theorem q837 : (Jvm.Cond.fieldLink "LongerHalf$Drawer" (37 : Nat) "LongerHalf$Bone" "dry" "I") ∈ lw_all := lw_g (lw_at lw_m3 222 rfl) rfl
theorem q1065 : (Jvm.Cond.instanceMethod ({ cls := "LongerHalf$Drawer", name := "begin", desc := "(LLongerHalf$Kitchen;)V" } : Jvm.MethodName)) ∈ lw_all := lw_g (lw_at lw_m4 210 rfl) rfl
theorem q1066 : (Jvm.Cond.selects "LongerHalf$Drawer" ({ cls := "LongerHalf$Drawer", name := "begin", desc := "(LLongerHalf$Kitchen;)V" } : Jvm.MethodName) ({ cls := "LongerHalf$Drawer", name := "begin", desc := "(LLongerHalf$Kitchen;)V" } : Jvm.MethodName)) ∈ lw_all := lw_g (lw_at lw_m4 211 rfl) rfl
theorem q1067 : (Jvm.Cond.code ({ cls := "LongerHalf$Drawer", name := "begin", desc := "(LLongerHalf$Kitchen;)V" } : Jvm.MethodName) prog_7_method_2_code (3 : Nat) (Option.none : Option Jvm.ClassFile.FieldType)) ∈ lw_all := lw_g (lw_at lw_m4 212 rfl) rfl
theorem q1068 : (Jvm.Cond.methodLink "LongerHalf$Drawer" (41 : Nat) ({ cls := "LongerHalf$Bone", name := "isRubber", desc := "()Z" } : Jvm.MethodName)) ∈ lw_all := lw_g (lw_at lw_m4 213 rfl) rfl
theorem q1506 : (Jvm.Cond.instanceMethod ({ cls := "LongerHalf$Drawer", name := "draw", desc := "()I" } : Jvm.MethodName)) ∈ lw_all := lw_g (lw_at lw_m6 171 rfl) rfl
theorem q1507 : (Jvm.Cond.selects "LongerHalf$Drawer" ({ cls := "LongerHalf$Drawer", name := "draw", desc := "()I" } : Jvm.MethodName) ({ cls := "LongerHalf$Drawer", name := "draw", desc := "()I" } : Jvm.MethodName)) ∈ lw_all := lw_g (lw_at lw_m6 172 rfl) rfl
theorem q1508 : (Jvm.Cond.code ({ cls := "LongerHalf$Drawer", name := "draw", desc := "()I" } : Jvm.MethodName) prog_7_method_4_code (1 : Nat) (Option.some Jvm.ClassFile.FieldType.int)) ∈ lw_all := lw_g (lw_at lw_m6 173 rfl) rfl
theorem q1509 : (Jvm.Cond.constant "LongerHalf$Drawer" (51 : Nat) (65537 : Int32)) ∈ lw_all := lw_g (lw_at lw_m6 174 rfl) rfl
theorem q1532 : (Jvm.Cond.instanceMethod ({ cls := "LongerHalf$Drawer", name := "become", desc := "(LLongerHalf$Drawer;)V" } : Jvm.MethodName)) ∈ lw_all := lw_g (lw_at lw_m6 197 rfl) rfl
theorem q1533 : (Jvm.Cond.selects "LongerHalf$Drawer" ({ cls := "LongerHalf$Drawer", name := "become", desc := "(LLongerHalf$Drawer;)V" } : Jvm.MethodName) ({ cls := "LongerHalf$Drawer", name := "become", desc := "(LLongerHalf$Drawer;)V" } : Jvm.MethodName)) ∈ lw_all := lw_g (lw_at lw_m6 198 rfl) rfl
theorem q1534 : (Jvm.Cond.code ({ cls := "LongerHalf$Drawer", name := "become", desc := "(LLongerHalf$Drawer;)V" } : Jvm.MethodName) prog_7_method_3_code (2 : Nat) (Option.none : Option Jvm.ClassFile.FieldType)) ∈ lw_all := lw_g (lw_at lw_m6 199 rfl) rfl
theorem q1535 : (Jvm.Cond.methodLink "LongerHalf$Drawer" (45 : Nat) ({ cls := "java/lang/System", name := "arraycopy", desc := "(Ljava/lang/Object;ILjava/lang/Object;II)V" } : Jvm.MethodName)) ∈ lw_all := lw_g (lw_at lw_m6 200 rfl) rfl
theorem q2467 : (Jvm.Cond.castable "LongerHalf$Drawer" "java/lang/Object") ∈ lw_tbl := lw_at lw_m10 172 rfl
theorem in_X4 : ∀ w ∈ wsX40, w ∈ lw_all := lw_in wsX40 [304, 306, 308, 310, 312] (by decide +kernel) (by decide +kernel)

/-! LongerHalf$Pull -/
set_option maxRecDepth 100000
def RX5 : String := "LongerHalf$Pull"
def TX5 : u_T := fun k => match k with
  | 0 => ("LongerHalf$Pull", "who", "[LLongerHalf$Person;", true)
  | 1 => ("LongerHalf$Pull", "hold", "[I", true)
  | 2 => ("LongerHalf$Pull", "kitchen", "LLongerHalf$Kitchen;", false)
  | 3 => ("LongerHalf$Pull", "bone", "LLongerHalf$Bone;", false)
  | 4 => ("LongerHalf$Pull", "rubber", "Z", false)
  | 5 => ("LongerHalf$Pull", "dry", "I", false)
  | 6 => ("LongerHalf$Pull", "moves", "I", false)
  | 7 => ("LongerHalf$Pull", "flawArm", "I", false)
  | 8 => ("LongerHalf$Pull", "flawPlace", "I", false)
  | 9 => ("LongerHalf$Pull", "arm", "I", false)
  | _ => ("LongerHalf$Pull", "place", "I", false)
def tyX5 : Nat → FieldType := fun k => match k with
  | 0 => .array (.object "LongerHalf$Person")
  | 1 => .array .int
  | 2 => .object "LongerHalf$Kitchen"
  | 3 => .object "LongerHalf$Bone"
  | 4 => .boolean
  | 5 => .int
  | 6 => .int
  | 7 => .int
  | 8 => .int
  | 9 => .int
  | _ => .int
abbrev wsX50 : List Cond := u_ws RX5 TX5 11
theorem nmX5 : ∀ a, a < 11 → ∀ b, b < 11 → a ≠ b → (TX5 a).2.1 ≠ (TX5 b).2.1 := by decide +kernel
theorem tyX5_ok : ∀ k, k < 11 → parseFieldDescriptor (TX5 k).2.2.1 = some (tyX5 k) := by decide +kernel
abbrev cX5_init : ByteArray := prog_15_method_1_code
def yX5_init : MethodName := ⟨RX5, "<init>", "()V"⟩
def dkwX5_init_0 : List UInt8 := [42, 183, 0, 3, 42, 5, 189, 0, 9, 181, 0, 11, 42, 5, 188, 10, 181, 0, 17, 177]
abbrev dktX5_init_0 : List UInt8 := dkwX5_init_0 ++ []
theorem dksX5_init_0 : cX5_init.data.toList.drop 0 = dktX5_init_0 := by decide +kernel
theorem dX5_init_0 : decode cX5_init 0 = .ok (.aload_n 0, 1) := dk_42 (dk_at dksX5_init_0 0 rfl rfl)
theorem dX5_init_1 : decode cX5_init 1 = .ok (.invokespecial 3, 3) := dk_183 0 3 (dk_at dksX5_init_0 1 rfl rfl)
theorem dX5_init_4 : decode cX5_init 4 = .ok (.aload_n 0, 1) := dk_42 (dk_at dksX5_init_0 4 rfl rfl)
theorem dX5_init_5 : decode cX5_init 5 = .ok (.iconst 2, 1) := dk_5 (dk_at dksX5_init_0 5 rfl rfl)
theorem dX5_init_6 : decode cX5_init 6 = .ok (.anewarray 9, 3) := dk_189 0 9 (dk_at dksX5_init_0 6 rfl rfl)
theorem dX5_init_9 : decode cX5_init 9 = .ok (.putfield 11, 3) := dk_181 0 11 (dk_at dksX5_init_0 9 rfl rfl)
theorem dX5_init_12 : decode cX5_init 12 = .ok (.aload_n 0, 1) := dk_42 (dk_at dksX5_init_0 12 rfl rfl)
theorem dX5_init_13 : decode cX5_init 13 = .ok (.iconst 2, 1) := dk_5 (dk_at dksX5_init_0 13 rfl rfl)
theorem dX5_init_14 : decode cX5_init 14 = .ok (.newarray .int, 2) := dk_188_10 (dk_at dksX5_init_0 14 rfl rfl)
theorem dX5_init_16 : decode cX5_init 16 = .ok (.putfield 17, 3) := dk_181 0 17 (dk_at dksX5_init_0 16 rfl rfl)
theorem dX5_init_19 : decode cX5_init 19 = .ok (.return_, 1) := dk_177 (dk_at dksX5_init_0 19 rfl rfl)
abbrev cX5_lay : ByteArray := prog_15_method_2_code
def yX5_lay : MethodName := ⟨RX5, "lay", "(LLongerHalf$Kitchen;LLongerHalf$Bone;IZ)V"⟩
def dkwX5_lay_1 : List UInt8 := [181, 0, 37, 177]
abbrev dktX5_lay_1 : List UInt8 := dkwX5_lay_1 ++ []
def dkwX5_lay_0 : List UInt8 := [42, 43, 181, 0, 21, 42, 44, 181, 0, 25, 42, 29, 181, 0, 29, 42, 21, 4, 181, 0, 33, 42, 2]
abbrev dktX5_lay_0 : List UInt8 := dkwX5_lay_0 ++ dktX5_lay_1
theorem dksX5_lay_0 : cX5_lay.data.toList.drop 0 = dktX5_lay_0 := by decide +kernel
theorem dksX5_lay_1 : cX5_lay.data.toList.drop 23 = dktX5_lay_1 := dk_seg dksX5_lay_0 23 rfl rfl
theorem dX5_lay_0 : decode cX5_lay 0 = .ok (.aload_n 0, 1) := dk_42 (dk_at dksX5_lay_0 0 rfl rfl)
theorem dX5_lay_1 : decode cX5_lay 1 = .ok (.aload_n 1, 1) := dk_43 (dk_at dksX5_lay_0 1 rfl rfl)
theorem dX5_lay_2 : decode cX5_lay 2 = .ok (.putfield 21, 3) := dk_181 0 21 (dk_at dksX5_lay_0 2 rfl rfl)
theorem dX5_lay_5 : decode cX5_lay 5 = .ok (.aload_n 0, 1) := dk_42 (dk_at dksX5_lay_0 5 rfl rfl)
theorem dX5_lay_6 : decode cX5_lay 6 = .ok (.aload_n 2, 1) := dk_44 (dk_at dksX5_lay_0 6 rfl rfl)
theorem dX5_lay_7 : decode cX5_lay 7 = .ok (.putfield 25, 3) := dk_181 0 25 (dk_at dksX5_lay_0 7 rfl rfl)
theorem dX5_lay_10 : decode cX5_lay 10 = .ok (.aload_n 0, 1) := dk_42 (dk_at dksX5_lay_0 10 rfl rfl)
theorem dX5_lay_11 : decode cX5_lay 11 = .ok (.iload_n 3, 1) := dk_29 (dk_at dksX5_lay_0 11 rfl rfl)
theorem dX5_lay_12 : decode cX5_lay 12 = .ok (.putfield 29, 3) := dk_181 0 29 (dk_at dksX5_lay_0 12 rfl rfl)
theorem dX5_lay_15 : decode cX5_lay 15 = .ok (.aload_n 0, 1) := dk_42 (dk_at dksX5_lay_0 15 rfl rfl)
theorem dX5_lay_16 : decode cX5_lay 16 = .ok (.iload 4, 2) := dk_21 4 (dk_at dksX5_lay_0 16 rfl rfl)
theorem dX5_lay_18 : decode cX5_lay 18 = .ok (.putfield 33, 3) := dk_181 0 33 (dk_at dksX5_lay_0 18 rfl rfl)
theorem dX5_lay_21 : decode cX5_lay 21 = .ok (.aload_n 0, 1) := dk_42 (dk_at dksX5_lay_0 21 rfl rfl)
theorem dX5_lay_22 : decode cX5_lay 22 = .ok (.iconst (-1), 1) := dk_2 (dk_at dksX5_lay_0 22 rfl rfl)
theorem dX5_lay_23 : decode cX5_lay 23 = .ok (.putfield 37, 3) := dk_181 0 37 (dk_at dksX5_lay_1 0 rfl rfl)
theorem dX5_lay_26 : decode cX5_lay 26 = .ok (.return_, 1) := dk_177 (dk_at dksX5_lay_1 3 rfl rfl)
abbrev cX5_strength : ByteArray := prog_15_method_7_code
def yX5_strength : MethodName := ⟨RX5, "strength", "(IILLongerHalf$Person;)I"⟩
def dkwX5_strength_3 : List UInt8 := [21, 4, 172]
abbrev dktX5_strength_3 : List UInt8 := dkwX5_strength_3 ++ []
def dkwX5_strength_2 : List UInt8 := [27, 42, 180, 0, 37, 160, 0, 18, 28, 42, 180, 0, 49, 160, 0, 10, 21, 4, 5, 108, 167, 0, 5]
abbrev dktX5_strength_2 : List UInt8 := dkwX5_strength_2 ++ dktX5_strength_3
def dkwX5_strength_1 : List UInt8 := [162, 0, 20, 45, 182, 0, 67, 153, 0, 13, 42, 180, 0, 21, 180, 0, 70, 167, 0, 4, 3, 96, 54, 4]
abbrev dktX5_strength_1 : List UInt8 := dkwX5_strength_1 ++ dktX5_strength_2
def dkwX5_strength_0 : List UInt8 := [42, 180, 0, 25, 27, 28, 182, 0, 56, 42, 180, 0, 21, 180, 0, 62, 42, 180, 0, 29, 100, 104, 28, 5]
abbrev dktX5_strength_0 : List UInt8 := dkwX5_strength_0 ++ dktX5_strength_1
theorem dksX5_strength_0 : cX5_strength.data.toList.drop 0 = dktX5_strength_0 := by decide +kernel
theorem dksX5_strength_1 : cX5_strength.data.toList.drop 24 = dktX5_strength_1 := dk_seg dksX5_strength_0 24 rfl rfl
theorem dksX5_strength_2 : cX5_strength.data.toList.drop 48 = dktX5_strength_2 := dk_seg dksX5_strength_1 24 rfl rfl
theorem dksX5_strength_3 : cX5_strength.data.toList.drop 71 = dktX5_strength_3 := dk_seg dksX5_strength_2 23 rfl rfl
theorem dX5_strength_0 : decode cX5_strength 0 = .ok (.aload_n 0, 1) := dk_42 (dk_at dksX5_strength_0 0 rfl rfl)
theorem dX5_strength_1 : decode cX5_strength 1 = .ok (.getfield 25, 3) := dk_180 0 25 (dk_at dksX5_strength_0 1 rfl rfl)
theorem dX5_strength_4 : decode cX5_strength 4 = .ok (.iload_n 1, 1) := dk_27 (dk_at dksX5_strength_0 4 rfl rfl)
theorem dX5_strength_5 : decode cX5_strength 5 = .ok (.iload_n 2, 1) := dk_28 (dk_at dksX5_strength_0 5 rfl rfl)
theorem dX5_strength_6 : decode cX5_strength 6 = .ok (.invokevirtual 56, 3) := dk_182 0 56 (dk_at dksX5_strength_0 6 rfl rfl)
theorem dX5_strength_9 : decode cX5_strength 9 = .ok (.aload_n 0, 1) := dk_42 (dk_at dksX5_strength_0 9 rfl rfl)
theorem dX5_strength_10 : decode cX5_strength 10 = .ok (.getfield 21, 3) := dk_180 0 21 (dk_at dksX5_strength_0 10 rfl rfl)
theorem dX5_strength_13 : decode cX5_strength 13 = .ok (.getfield 62, 3) := dk_180 0 62 (dk_at dksX5_strength_0 13 rfl rfl)
theorem dX5_strength_16 : decode cX5_strength 16 = .ok (.aload_n 0, 1) := dk_42 (dk_at dksX5_strength_0 16 rfl rfl)
theorem dX5_strength_17 : decode cX5_strength 17 = .ok (.getfield 29, 3) := dk_180 0 29 (dk_at dksX5_strength_0 17 rfl rfl)
theorem dX5_strength_20 : decode cX5_strength 20 = .ok (.isub, 1) := dk_100 (dk_at dksX5_strength_0 20 rfl rfl)
theorem dX5_strength_21 : decode cX5_strength 21 = .ok (.imul, 1) := dk_104 (dk_at dksX5_strength_0 21 rfl rfl)
theorem dX5_strength_22 : decode cX5_strength 22 = .ok (.iload_n 2, 1) := dk_28 (dk_at dksX5_strength_0 22 rfl rfl)
theorem dX5_strength_23 : decode cX5_strength 23 = .ok (.iconst 2, 1) := dk_5 (dk_at dksX5_strength_0 23 rfl rfl)
theorem dX5_strength_24 : decode cX5_strength 24 = .ok (.if_icmp .ge 20, 3) := dk_162 0 20 (dk_at dksX5_strength_1 0 rfl rfl)
theorem dX5_strength_27 : decode cX5_strength 27 = .ok (.aload_n 3, 1) := dk_45 (dk_at dksX5_strength_1 3 rfl rfl)
theorem dX5_strength_28 : decode cX5_strength 28 = .ok (.invokevirtual 67, 3) := dk_182 0 67 (dk_at dksX5_strength_1 4 rfl rfl)
theorem dX5_strength_31 : decode cX5_strength 31 = .ok (.ifCond .eq 13, 3) := dk_153 0 13 (dk_at dksX5_strength_1 7 rfl rfl)
theorem dX5_strength_34 : decode cX5_strength 34 = .ok (.aload_n 0, 1) := dk_42 (dk_at dksX5_strength_1 10 rfl rfl)
theorem dX5_strength_35 : decode cX5_strength 35 = .ok (.getfield 21, 3) := dk_180 0 21 (dk_at dksX5_strength_1 11 rfl rfl)
theorem dX5_strength_38 : decode cX5_strength 38 = .ok (.getfield 70, 3) := dk_180 0 70 (dk_at dksX5_strength_1 14 rfl rfl)
theorem dX5_strength_41 : decode cX5_strength 41 = .ok (.goto 4, 3) := dk_167 0 4 (dk_at dksX5_strength_1 17 rfl rfl)
theorem dX5_strength_44 : decode cX5_strength 44 = .ok (.iconst 0, 1) := dk_3 (dk_at dksX5_strength_1 20 rfl rfl)
theorem dX5_strength_45 : decode cX5_strength 45 = .ok (.iadd, 1) := dk_96 (dk_at dksX5_strength_1 21 rfl rfl)
theorem dX5_strength_46 : decode cX5_strength 46 = .ok (.istore 4, 2) := dk_54 4 (dk_at dksX5_strength_1 22 rfl rfl)
theorem dX5_strength_48 : decode cX5_strength 48 = .ok (.iload_n 1, 1) := dk_27 (dk_at dksX5_strength_2 0 rfl rfl)
theorem dX5_strength_49 : decode cX5_strength 49 = .ok (.aload_n 0, 1) := dk_42 (dk_at dksX5_strength_2 1 rfl rfl)
theorem dX5_strength_50 : decode cX5_strength 50 = .ok (.getfield 37, 3) := dk_180 0 37 (dk_at dksX5_strength_2 2 rfl rfl)
theorem dX5_strength_53 : decode cX5_strength 53 = .ok (.if_icmp .ne 18, 3) := dk_160 0 18 (dk_at dksX5_strength_2 5 rfl rfl)
theorem dX5_strength_56 : decode cX5_strength 56 = .ok (.iload_n 2, 1) := dk_28 (dk_at dksX5_strength_2 8 rfl rfl)
theorem dX5_strength_57 : decode cX5_strength 57 = .ok (.aload_n 0, 1) := dk_42 (dk_at dksX5_strength_2 9 rfl rfl)
theorem dX5_strength_58 : decode cX5_strength 58 = .ok (.getfield 49, 3) := dk_180 0 49 (dk_at dksX5_strength_2 10 rfl rfl)
theorem dX5_strength_61 : decode cX5_strength 61 = .ok (.if_icmp .ne 10, 3) := dk_160 0 10 (dk_at dksX5_strength_2 13 rfl rfl)
theorem dX5_strength_64 : decode cX5_strength 64 = .ok (.iload 4, 2) := dk_21 4 (dk_at dksX5_strength_2 16 rfl rfl)
theorem dX5_strength_66 : decode cX5_strength 66 = .ok (.iconst 2, 1) := dk_5 (dk_at dksX5_strength_2 18 rfl rfl)
theorem dX5_strength_67 : decode cX5_strength 67 = .ok (.idiv, 1) := dk_108 (dk_at dksX5_strength_2 19 rfl rfl)
theorem dX5_strength_68 : decode cX5_strength 68 = .ok (.goto 5, 3) := dk_167 0 5 (dk_at dksX5_strength_2 20 rfl rfl)
theorem dX5_strength_71 : decode cX5_strength 71 = .ok (.iload 4, 2) := dk_21 4 (dk_at dksX5_strength_3 0 rfl rfl)
theorem dX5_strength_73 : decode cX5_strength 73 = .ok (.ireturn, 1) := dk_172 (dk_at dksX5_strength_3 2 rfl rfl)
abbrev cX5_hold : ByteArray := prog_15_method_3_code
def yX5_hold : MethodName := ⟨RX5, "hold", "(LLongerHalf$Person;ILLongerHalf$Person;II)V"⟩
def dkwX5_hold_1 : List UInt8 := [180, 0, 17, 4, 21, 4, 79, 42, 21, 5, 181, 0, 40, 177]
abbrev dktX5_hold_1 : List UInt8 := dkwX5_hold_1 ++ []
def dkwX5_hold_0 : List UInt8 := [42, 180, 0, 11, 3, 43, 83, 42, 180, 0, 11, 4, 45, 83, 42, 180, 0, 17, 3, 28, 79, 42]
abbrev dktX5_hold_0 : List UInt8 := dkwX5_hold_0 ++ dktX5_hold_1
theorem dksX5_hold_0 : cX5_hold.data.toList.drop 0 = dktX5_hold_0 := by decide +kernel
theorem dksX5_hold_1 : cX5_hold.data.toList.drop 22 = dktX5_hold_1 := dk_seg dksX5_hold_0 22 rfl rfl
theorem dX5_hold_0 : decode cX5_hold 0 = .ok (.aload_n 0, 1) := dk_42 (dk_at dksX5_hold_0 0 rfl rfl)
theorem dX5_hold_1 : decode cX5_hold 1 = .ok (.getfield 11, 3) := dk_180 0 11 (dk_at dksX5_hold_0 1 rfl rfl)
theorem dX5_hold_4 : decode cX5_hold 4 = .ok (.iconst 0, 1) := dk_3 (dk_at dksX5_hold_0 4 rfl rfl)
theorem dX5_hold_5 : decode cX5_hold 5 = .ok (.aload_n 1, 1) := dk_43 (dk_at dksX5_hold_0 5 rfl rfl)
theorem dX5_hold_6 : decode cX5_hold 6 = .ok (.aastore, 1) := dk_83 (dk_at dksX5_hold_0 6 rfl rfl)
theorem dX5_hold_7 : decode cX5_hold 7 = .ok (.aload_n 0, 1) := dk_42 (dk_at dksX5_hold_0 7 rfl rfl)
theorem dX5_hold_8 : decode cX5_hold 8 = .ok (.getfield 11, 3) := dk_180 0 11 (dk_at dksX5_hold_0 8 rfl rfl)
theorem dX5_hold_11 : decode cX5_hold 11 = .ok (.iconst 1, 1) := dk_4 (dk_at dksX5_hold_0 11 rfl rfl)
theorem dX5_hold_12 : decode cX5_hold 12 = .ok (.aload_n 3, 1) := dk_45 (dk_at dksX5_hold_0 12 rfl rfl)
theorem dX5_hold_13 : decode cX5_hold 13 = .ok (.aastore, 1) := dk_83 (dk_at dksX5_hold_0 13 rfl rfl)
theorem dX5_hold_14 : decode cX5_hold 14 = .ok (.aload_n 0, 1) := dk_42 (dk_at dksX5_hold_0 14 rfl rfl)
theorem dX5_hold_15 : decode cX5_hold 15 = .ok (.getfield 17, 3) := dk_180 0 17 (dk_at dksX5_hold_0 15 rfl rfl)
theorem dX5_hold_18 : decode cX5_hold 18 = .ok (.iconst 0, 1) := dk_3 (dk_at dksX5_hold_0 18 rfl rfl)
theorem dX5_hold_19 : decode cX5_hold 19 = .ok (.iload_n 2, 1) := dk_28 (dk_at dksX5_hold_0 19 rfl rfl)
theorem dX5_hold_20 : decode cX5_hold 20 = .ok (.iastore, 1) := dk_79 (dk_at dksX5_hold_0 20 rfl rfl)
theorem dX5_hold_21 : decode cX5_hold 21 = .ok (.aload_n 0, 1) := dk_42 (dk_at dksX5_hold_0 21 rfl rfl)
theorem dX5_hold_22 : decode cX5_hold 22 = .ok (.getfield 17, 3) := dk_180 0 17 (dk_at dksX5_hold_1 0 rfl rfl)
theorem dX5_hold_25 : decode cX5_hold 25 = .ok (.iconst 1, 1) := dk_4 (dk_at dksX5_hold_1 3 rfl rfl)
theorem dX5_hold_26 : decode cX5_hold 26 = .ok (.iload 4, 2) := dk_21 4 (dk_at dksX5_hold_1 4 rfl rfl)
theorem dX5_hold_28 : decode cX5_hold 28 = .ok (.iastore, 1) := dk_79 (dk_at dksX5_hold_1 6 rfl rfl)
theorem dX5_hold_29 : decode cX5_hold 29 = .ok (.aload_n 0, 1) := dk_42 (dk_at dksX5_hold_1 7 rfl rfl)
theorem dX5_hold_30 : decode cX5_hold 30 = .ok (.iload 5, 2) := dk_21 5 (dk_at dksX5_hold_1 8 rfl rfl)
theorem dX5_hold_32 : decode cX5_hold 32 = .ok (.putfield 40, 3) := dk_181 0 40 (dk_at dksX5_hold_1 10 rfl rfl)
theorem dX5_hold_35 : decode cX5_hold 35 = .ok (.return_, 1) := dk_177 (dk_at dksX5_hold_1 13 rfl rfl)
abbrev cX5_strain : ByteArray := prog_15_method_8_code
def yX5_strain : MethodName := ⟨RX5, "strain", "(II)I"⟩
def dkwX5_strain_2 : List UInt8 := [180, 0, 21, 180, 0, 80, 167, 0, 4, 3, 96, 172]
abbrev dktX5_strain_2 : List UInt8 := dkwX5_strain_2 ++ []
def dkwX5_strain_1 : List UInt8 := [180, 0, 73, 42, 180, 0, 11, 4, 50, 180, 0, 73, 96, 29, 104, 42, 27, 182, 0, 76, 153, 0, 13, 42]
abbrev dktX5_strain_1 : List UInt8 := dkwX5_strain_1 ++ dktX5_strain_2
def dkwX5_strain_0 : List UInt8 := [42, 180, 0, 17, 27, 46, 28, 100, 62, 29, 157, 0, 7, 3, 167, 0, 44, 42, 180, 0, 11, 3, 50]
abbrev dktX5_strain_0 : List UInt8 := dkwX5_strain_0 ++ dktX5_strain_1
theorem dksX5_strain_0 : cX5_strain.data.toList.drop 0 = dktX5_strain_0 := by decide +kernel
theorem dksX5_strain_1 : cX5_strain.data.toList.drop 23 = dktX5_strain_1 := dk_seg dksX5_strain_0 23 rfl rfl
theorem dksX5_strain_2 : cX5_strain.data.toList.drop 47 = dktX5_strain_2 := dk_seg dksX5_strain_1 24 rfl rfl
theorem dX5_strain_0 : decode cX5_strain 0 = .ok (.aload_n 0, 1) := dk_42 (dk_at dksX5_strain_0 0 rfl rfl)
theorem dX5_strain_1 : decode cX5_strain 1 = .ok (.getfield 17, 3) := dk_180 0 17 (dk_at dksX5_strain_0 1 rfl rfl)
theorem dX5_strain_4 : decode cX5_strain 4 = .ok (.iload_n 1, 1) := dk_27 (dk_at dksX5_strain_0 4 rfl rfl)
theorem dX5_strain_5 : decode cX5_strain 5 = .ok (.iaload, 1) := dk_46 (dk_at dksX5_strain_0 5 rfl rfl)
theorem dX5_strain_6 : decode cX5_strain 6 = .ok (.iload_n 2, 1) := dk_28 (dk_at dksX5_strain_0 6 rfl rfl)
theorem dX5_strain_7 : decode cX5_strain 7 = .ok (.isub, 1) := dk_100 (dk_at dksX5_strain_0 7 rfl rfl)
theorem dX5_strain_8 : decode cX5_strain 8 = .ok (.istore_n 3, 1) := dk_62 (dk_at dksX5_strain_0 8 rfl rfl)
theorem dX5_strain_9 : decode cX5_strain 9 = .ok (.iload_n 3, 1) := dk_29 (dk_at dksX5_strain_0 9 rfl rfl)
theorem dX5_strain_10 : decode cX5_strain 10 = .ok (.ifCond .gt 7, 3) := dk_157 0 7 (dk_at dksX5_strain_0 10 rfl rfl)
theorem dX5_strain_13 : decode cX5_strain 13 = .ok (.iconst 0, 1) := dk_3 (dk_at dksX5_strain_0 13 rfl rfl)
theorem dX5_strain_14 : decode cX5_strain 14 = .ok (.goto 44, 3) := dk_167 0 44 (dk_at dksX5_strain_0 14 rfl rfl)
theorem dX5_strain_17 : decode cX5_strain 17 = .ok (.aload_n 0, 1) := dk_42 (dk_at dksX5_strain_0 17 rfl rfl)
theorem dX5_strain_18 : decode cX5_strain 18 = .ok (.getfield 11, 3) := dk_180 0 11 (dk_at dksX5_strain_0 18 rfl rfl)
theorem dX5_strain_21 : decode cX5_strain 21 = .ok (.iconst 0, 1) := dk_3 (dk_at dksX5_strain_0 21 rfl rfl)
theorem dX5_strain_22 : decode cX5_strain 22 = .ok (.aaload, 1) := dk_50 (dk_at dksX5_strain_0 22 rfl rfl)
theorem dX5_strain_23 : decode cX5_strain 23 = .ok (.getfield 73, 3) := dk_180 0 73 (dk_at dksX5_strain_1 0 rfl rfl)
theorem dX5_strain_26 : decode cX5_strain 26 = .ok (.aload_n 0, 1) := dk_42 (dk_at dksX5_strain_1 3 rfl rfl)
theorem dX5_strain_27 : decode cX5_strain 27 = .ok (.getfield 11, 3) := dk_180 0 11 (dk_at dksX5_strain_1 4 rfl rfl)
theorem dX5_strain_30 : decode cX5_strain 30 = .ok (.iconst 1, 1) := dk_4 (dk_at dksX5_strain_1 7 rfl rfl)
theorem dX5_strain_31 : decode cX5_strain 31 = .ok (.aaload, 1) := dk_50 (dk_at dksX5_strain_1 8 rfl rfl)
theorem dX5_strain_32 : decode cX5_strain 32 = .ok (.getfield 73, 3) := dk_180 0 73 (dk_at dksX5_strain_1 9 rfl rfl)
theorem dX5_strain_35 : decode cX5_strain 35 = .ok (.iadd, 1) := dk_96 (dk_at dksX5_strain_1 12 rfl rfl)
theorem dX5_strain_36 : decode cX5_strain 36 = .ok (.iload_n 3, 1) := dk_29 (dk_at dksX5_strain_1 13 rfl rfl)
theorem dX5_strain_37 : decode cX5_strain 37 = .ok (.imul, 1) := dk_104 (dk_at dksX5_strain_1 14 rfl rfl)
theorem dX5_strain_38 : decode cX5_strain 38 = .ok (.aload_n 0, 1) := dk_42 (dk_at dksX5_strain_1 15 rfl rfl)
theorem dX5_strain_39 : decode cX5_strain 39 = .ok (.iload_n 1, 1) := dk_27 (dk_at dksX5_strain_1 16 rfl rfl)
theorem dX5_strain_40 : decode cX5_strain 40 = .ok (.invokevirtual 76, 3) := dk_182 0 76 (dk_at dksX5_strain_1 17 rfl rfl)
theorem dX5_strain_43 : decode cX5_strain 43 = .ok (.ifCond .eq 13, 3) := dk_153 0 13 (dk_at dksX5_strain_1 20 rfl rfl)
theorem dX5_strain_46 : decode cX5_strain 46 = .ok (.aload_n 0, 1) := dk_42 (dk_at dksX5_strain_1 23 rfl rfl)
theorem dX5_strain_47 : decode cX5_strain 47 = .ok (.getfield 21, 3) := dk_180 0 21 (dk_at dksX5_strain_2 0 rfl rfl)
theorem dX5_strain_50 : decode cX5_strain 50 = .ok (.getfield 80, 3) := dk_180 0 80 (dk_at dksX5_strain_2 3 rfl rfl)
theorem dX5_strain_53 : decode cX5_strain 53 = .ok (.goto 4, 3) := dk_167 0 4 (dk_at dksX5_strain_2 6 rfl rfl)
theorem dX5_strain_56 : decode cX5_strain 56 = .ok (.iconst 0, 1) := dk_3 (dk_at dksX5_strain_2 9 rfl rfl)
theorem dX5_strain_57 : decode cX5_strain 57 = .ok (.iadd, 1) := dk_96 (dk_at dksX5_strain_2 10 rfl rfl)
theorem dX5_strain_58 : decode cX5_strain 58 = .ok (.ireturn, 1) := dk_172 (dk_at dksX5_strain_2 11 rfl rfl)
abbrev cX5_doesMove : ByteArray := prog_15_method_6_code
def yX5_doesMove : MethodName := ⟨RX5, "doesMove", "(I)Z"⟩
def dkwX5_doesMove_1 : List UInt8 := [182, 0, 52, 153, 0, 7, 4, 167, 0, 4, 3, 172]
abbrev dktX5_doesMove_1 : List UInt8 := dkwX5_doesMove_1 ++ []
def dkwX5_doesMove_0 : List UInt8 := [42, 180, 0, 40, 27, 159, 0, 23, 42, 180, 0, 40, 6, 159, 0, 15, 42, 180, 0, 11, 27, 50]
abbrev dktX5_doesMove_0 : List UInt8 := dkwX5_doesMove_0 ++ dktX5_doesMove_1
theorem dksX5_doesMove_0 : cX5_doesMove.data.toList.drop 0 = dktX5_doesMove_0 := by decide +kernel
theorem dksX5_doesMove_1 : cX5_doesMove.data.toList.drop 22 = dktX5_doesMove_1 := dk_seg dksX5_doesMove_0 22 rfl rfl
theorem dX5_doesMove_0 : decode cX5_doesMove 0 = .ok (.aload_n 0, 1) := dk_42 (dk_at dksX5_doesMove_0 0 rfl rfl)
theorem dX5_doesMove_1 : decode cX5_doesMove 1 = .ok (.getfield 40, 3) := dk_180 0 40 (dk_at dksX5_doesMove_0 1 rfl rfl)
theorem dX5_doesMove_4 : decode cX5_doesMove 4 = .ok (.iload_n 1, 1) := dk_27 (dk_at dksX5_doesMove_0 4 rfl rfl)
theorem dX5_doesMove_5 : decode cX5_doesMove 5 = .ok (.if_icmp .eq 23, 3) := dk_159 0 23 (dk_at dksX5_doesMove_0 5 rfl rfl)
theorem dX5_doesMove_8 : decode cX5_doesMove 8 = .ok (.aload_n 0, 1) := dk_42 (dk_at dksX5_doesMove_0 8 rfl rfl)
theorem dX5_doesMove_9 : decode cX5_doesMove 9 = .ok (.getfield 40, 3) := dk_180 0 40 (dk_at dksX5_doesMove_0 9 rfl rfl)
theorem dX5_doesMove_12 : decode cX5_doesMove 12 = .ok (.iconst 3, 1) := dk_6 (dk_at dksX5_doesMove_0 12 rfl rfl)
theorem dX5_doesMove_13 : decode cX5_doesMove 13 = .ok (.if_icmp .eq 15, 3) := dk_159 0 15 (dk_at dksX5_doesMove_0 13 rfl rfl)
theorem dX5_doesMove_16 : decode cX5_doesMove 16 = .ok (.aload_n 0, 1) := dk_42 (dk_at dksX5_doesMove_0 16 rfl rfl)
theorem dX5_doesMove_17 : decode cX5_doesMove 17 = .ok (.getfield 11, 3) := dk_180 0 11 (dk_at dksX5_doesMove_0 17 rfl rfl)
theorem dX5_doesMove_20 : decode cX5_doesMove 20 = .ok (.iload_n 1, 1) := dk_27 (dk_at dksX5_doesMove_0 20 rfl rfl)
theorem dX5_doesMove_21 : decode cX5_doesMove 21 = .ok (.aaload, 1) := dk_50 (dk_at dksX5_doesMove_0 21 rfl rfl)
theorem dX5_doesMove_22 : decode cX5_doesMove 22 = .ok (.invokevirtual 52, 3) := dk_182 0 52 (dk_at dksX5_doesMove_1 0 rfl rfl)
theorem dX5_doesMove_25 : decode cX5_doesMove 25 = .ok (.ifCond .eq 7, 3) := dk_153 0 7 (dk_at dksX5_doesMove_1 3 rfl rfl)
theorem dX5_doesMove_28 : decode cX5_doesMove 28 = .ok (.iconst 1, 1) := dk_4 (dk_at dksX5_doesMove_1 6 rfl rfl)
theorem dX5_doesMove_29 : decode cX5_doesMove 29 = .ok (.goto 4, 3) := dk_167 0 4 (dk_at dksX5_doesMove_1 7 rfl rfl)
theorem dX5_doesMove_32 : decode cX5_doesMove 32 = .ok (.iconst 0, 1) := dk_3 (dk_at dksX5_doesMove_1 10 rfl rfl)
theorem dX5_doesMove_33 : decode cX5_doesMove 33 = .ok (.ireturn, 1) := dk_172 (dk_at dksX5_doesMove_1 11 rfl rfl)
abbrev cX5_comes : ByteArray := prog_15_method_11_code
def yX5_comes : MethodName := ⟨RX5, "comes", "()I"⟩
def dkwX5_comes_4 : List UInt8 := [158, 0, 7, 27, 167, 0, 4, 28, 181, 0, 111, 29, 158, 0, 7, 4, 167, 0, 4, 3, 172]
abbrev dktX5_comes_4 : List UInt8 := dkwX5_comes_4 ++ []
def dkwX5_comes_3 : List UInt8 := [62, 29, 154, 0, 5, 5, 172, 42, 29, 158, 0, 7, 3, 167, 0, 4, 4, 181, 0, 108, 42, 29]
abbrev dktX5_comes_3 : List UInt8 := dkwX5_comes_3 ++ dktX5_comes_4
def dkwX5_comes_2 : List UInt8 := [160, 0, 7, 2, 167, 0, 20, 28, 2, 160, 0, 7, 4, 167, 0, 11, 42, 3, 27, 4, 28, 182, 0, 94]
abbrev dktX5_comes_2 : List UInt8 := dkwX5_comes_2 ++ dktX5_comes_3
def dkwX5_comes_1 : List UInt8 := [180, 0, 21, 180, 0, 105, 161, 0, 13, 27, 2, 160, 0, 10, 28, 2, 160, 0, 5, 6, 172, 27, 2]
abbrev dktX5_comes_1 : List UInt8 := dkwX5_comes_1 ++ dktX5_comes_2
def dkwX5_comes_0 : List UInt8 := [42, 3, 182, 0, 102, 60, 42, 4, 182, 0, 102, 61, 42, 180, 0, 33, 154, 0, 27, 42, 180, 0, 29, 42]
abbrev dktX5_comes_0 : List UInt8 := dkwX5_comes_0 ++ dktX5_comes_1
theorem dksX5_comes_0 : cX5_comes.data.toList.drop 0 = dktX5_comes_0 := by decide +kernel
theorem dksX5_comes_1 : cX5_comes.data.toList.drop 24 = dktX5_comes_1 := dk_seg dksX5_comes_0 24 rfl rfl
theorem dksX5_comes_2 : cX5_comes.data.toList.drop 47 = dktX5_comes_2 := dk_seg dksX5_comes_1 23 rfl rfl
theorem dksX5_comes_3 : cX5_comes.data.toList.drop 71 = dktX5_comes_3 := dk_seg dksX5_comes_2 24 rfl rfl
theorem dksX5_comes_4 : cX5_comes.data.toList.drop 93 = dktX5_comes_4 := dk_seg dksX5_comes_3 22 rfl rfl
theorem dX5_comes_0 : decode cX5_comes 0 = .ok (.aload_n 0, 1) := dk_42 (dk_at dksX5_comes_0 0 rfl rfl)
theorem dX5_comes_1 : decode cX5_comes 1 = .ok (.iconst 0, 1) := dk_3 (dk_at dksX5_comes_0 1 rfl rfl)
theorem dX5_comes_2 : decode cX5_comes 2 = .ok (.invokevirtual 102, 3) := dk_182 0 102 (dk_at dksX5_comes_0 2 rfl rfl)
theorem dX5_comes_5 : decode cX5_comes 5 = .ok (.istore_n 1, 1) := dk_60 (dk_at dksX5_comes_0 5 rfl rfl)
theorem dX5_comes_6 : decode cX5_comes 6 = .ok (.aload_n 0, 1) := dk_42 (dk_at dksX5_comes_0 6 rfl rfl)
theorem dX5_comes_7 : decode cX5_comes 7 = .ok (.iconst 1, 1) := dk_4 (dk_at dksX5_comes_0 7 rfl rfl)
theorem dX5_comes_8 : decode cX5_comes 8 = .ok (.invokevirtual 102, 3) := dk_182 0 102 (dk_at dksX5_comes_0 8 rfl rfl)
theorem dX5_comes_11 : decode cX5_comes 11 = .ok (.istore_n 2, 1) := dk_61 (dk_at dksX5_comes_0 11 rfl rfl)
theorem dX5_comes_12 : decode cX5_comes 12 = .ok (.aload_n 0, 1) := dk_42 (dk_at dksX5_comes_0 12 rfl rfl)
theorem dX5_comes_13 : decode cX5_comes 13 = .ok (.getfield 33, 3) := dk_180 0 33 (dk_at dksX5_comes_0 13 rfl rfl)
theorem dX5_comes_16 : decode cX5_comes 16 = .ok (.ifCond .ne 27, 3) := dk_154 0 27 (dk_at dksX5_comes_0 16 rfl rfl)
theorem dX5_comes_19 : decode cX5_comes 19 = .ok (.aload_n 0, 1) := dk_42 (dk_at dksX5_comes_0 19 rfl rfl)
theorem dX5_comes_20 : decode cX5_comes 20 = .ok (.getfield 29, 3) := dk_180 0 29 (dk_at dksX5_comes_0 20 rfl rfl)
theorem dX5_comes_23 : decode cX5_comes 23 = .ok (.aload_n 0, 1) := dk_42 (dk_at dksX5_comes_0 23 rfl rfl)
theorem dX5_comes_24 : decode cX5_comes 24 = .ok (.getfield 21, 3) := dk_180 0 21 (dk_at dksX5_comes_1 0 rfl rfl)
theorem dX5_comes_27 : decode cX5_comes 27 = .ok (.getfield 105, 3) := dk_180 0 105 (dk_at dksX5_comes_1 3 rfl rfl)
theorem dX5_comes_30 : decode cX5_comes 30 = .ok (.if_icmp .lt 13, 3) := dk_161 0 13 (dk_at dksX5_comes_1 6 rfl rfl)
theorem dX5_comes_33 : decode cX5_comes 33 = .ok (.iload_n 1, 1) := dk_27 (dk_at dksX5_comes_1 9 rfl rfl)
theorem dX5_comes_34 : decode cX5_comes 34 = .ok (.iconst (-1), 1) := dk_2 (dk_at dksX5_comes_1 10 rfl rfl)
theorem dX5_comes_35 : decode cX5_comes 35 = .ok (.if_icmp .ne 10, 3) := dk_160 0 10 (dk_at dksX5_comes_1 11 rfl rfl)
theorem dX5_comes_38 : decode cX5_comes 38 = .ok (.iload_n 2, 1) := dk_28 (dk_at dksX5_comes_1 14 rfl rfl)
theorem dX5_comes_39 : decode cX5_comes 39 = .ok (.iconst (-1), 1) := dk_2 (dk_at dksX5_comes_1 15 rfl rfl)
theorem dX5_comes_40 : decode cX5_comes 40 = .ok (.if_icmp .ne 5, 3) := dk_160 0 5 (dk_at dksX5_comes_1 16 rfl rfl)
theorem dX5_comes_43 : decode cX5_comes 43 = .ok (.iconst 3, 1) := dk_6 (dk_at dksX5_comes_1 19 rfl rfl)
theorem dX5_comes_44 : decode cX5_comes 44 = .ok (.ireturn, 1) := dk_172 (dk_at dksX5_comes_1 20 rfl rfl)
theorem dX5_comes_45 : decode cX5_comes 45 = .ok (.iload_n 1, 1) := dk_27 (dk_at dksX5_comes_1 21 rfl rfl)
theorem dX5_comes_46 : decode cX5_comes 46 = .ok (.iconst (-1), 1) := dk_2 (dk_at dksX5_comes_1 22 rfl rfl)
theorem dX5_comes_47 : decode cX5_comes 47 = .ok (.if_icmp .ne 7, 3) := dk_160 0 7 (dk_at dksX5_comes_2 0 rfl rfl)
theorem dX5_comes_50 : decode cX5_comes 50 = .ok (.iconst (-1), 1) := dk_2 (dk_at dksX5_comes_2 3 rfl rfl)
theorem dX5_comes_51 : decode cX5_comes 51 = .ok (.goto 20, 3) := dk_167 0 20 (dk_at dksX5_comes_2 4 rfl rfl)
theorem dX5_comes_54 : decode cX5_comes 54 = .ok (.iload_n 2, 1) := dk_28 (dk_at dksX5_comes_2 7 rfl rfl)
theorem dX5_comes_55 : decode cX5_comes 55 = .ok (.iconst (-1), 1) := dk_2 (dk_at dksX5_comes_2 8 rfl rfl)
theorem dX5_comes_56 : decode cX5_comes 56 = .ok (.if_icmp .ne 7, 3) := dk_160 0 7 (dk_at dksX5_comes_2 9 rfl rfl)
theorem dX5_comes_59 : decode cX5_comes 59 = .ok (.iconst 1, 1) := dk_4 (dk_at dksX5_comes_2 12 rfl rfl)
theorem dX5_comes_60 : decode cX5_comes 60 = .ok (.goto 11, 3) := dk_167 0 11 (dk_at dksX5_comes_2 13 rfl rfl)
theorem dX5_comes_63 : decode cX5_comes 63 = .ok (.aload_n 0, 1) := dk_42 (dk_at dksX5_comes_2 16 rfl rfl)
theorem dX5_comes_64 : decode cX5_comes 64 = .ok (.iconst 0, 1) := dk_3 (dk_at dksX5_comes_2 17 rfl rfl)
theorem dX5_comes_65 : decode cX5_comes 65 = .ok (.iload_n 1, 1) := dk_27 (dk_at dksX5_comes_2 18 rfl rfl)
theorem dX5_comes_66 : decode cX5_comes 66 = .ok (.iconst 1, 1) := dk_4 (dk_at dksX5_comes_2 19 rfl rfl)
theorem dX5_comes_67 : decode cX5_comes 67 = .ok (.iload_n 2, 1) := dk_28 (dk_at dksX5_comes_2 20 rfl rfl)
theorem dX5_comes_68 : decode cX5_comes 68 = .ok (.invokevirtual 94, 3) := dk_182 0 94 (dk_at dksX5_comes_2 21 rfl rfl)
theorem dX5_comes_71 : decode cX5_comes 71 = .ok (.istore_n 3, 1) := dk_62 (dk_at dksX5_comes_3 0 rfl rfl)
theorem dX5_comes_72 : decode cX5_comes 72 = .ok (.iload_n 3, 1) := dk_29 (dk_at dksX5_comes_3 1 rfl rfl)
theorem dX5_comes_73 : decode cX5_comes 73 = .ok (.ifCond .ne 5, 3) := dk_154 0 5 (dk_at dksX5_comes_3 2 rfl rfl)
theorem dX5_comes_76 : decode cX5_comes 76 = .ok (.iconst 2, 1) := dk_5 (dk_at dksX5_comes_3 5 rfl rfl)
theorem dX5_comes_77 : decode cX5_comes 77 = .ok (.ireturn, 1) := dk_172 (dk_at dksX5_comes_3 6 rfl rfl)
theorem dX5_comes_78 : decode cX5_comes 78 = .ok (.aload_n 0, 1) := dk_42 (dk_at dksX5_comes_3 7 rfl rfl)
theorem dX5_comes_79 : decode cX5_comes 79 = .ok (.iload_n 3, 1) := dk_29 (dk_at dksX5_comes_3 8 rfl rfl)
theorem dX5_comes_80 : decode cX5_comes 80 = .ok (.ifCond .le 7, 3) := dk_158 0 7 (dk_at dksX5_comes_3 9 rfl rfl)
theorem dX5_comes_83 : decode cX5_comes 83 = .ok (.iconst 0, 1) := dk_3 (dk_at dksX5_comes_3 12 rfl rfl)
theorem dX5_comes_84 : decode cX5_comes 84 = .ok (.goto 4, 3) := dk_167 0 4 (dk_at dksX5_comes_3 13 rfl rfl)
theorem dX5_comes_87 : decode cX5_comes 87 = .ok (.iconst 1, 1) := dk_4 (dk_at dksX5_comes_3 16 rfl rfl)
theorem dX5_comes_88 : decode cX5_comes 88 = .ok (.putfield 108, 3) := dk_181 0 108 (dk_at dksX5_comes_3 17 rfl rfl)
theorem dX5_comes_91 : decode cX5_comes 91 = .ok (.aload_n 0, 1) := dk_42 (dk_at dksX5_comes_3 20 rfl rfl)
theorem dX5_comes_92 : decode cX5_comes 92 = .ok (.iload_n 3, 1) := dk_29 (dk_at dksX5_comes_3 21 rfl rfl)
theorem dX5_comes_93 : decode cX5_comes 93 = .ok (.ifCond .le 7, 3) := dk_158 0 7 (dk_at dksX5_comes_4 0 rfl rfl)
theorem dX5_comes_96 : decode cX5_comes 96 = .ok (.iload_n 1, 1) := dk_27 (dk_at dksX5_comes_4 3 rfl rfl)
theorem dX5_comes_97 : decode cX5_comes 97 = .ok (.goto 4, 3) := dk_167 0 4 (dk_at dksX5_comes_4 4 rfl rfl)
theorem dX5_comes_100 : decode cX5_comes 100 = .ok (.iload_n 2, 1) := dk_28 (dk_at dksX5_comes_4 7 rfl rfl)
theorem dX5_comes_101 : decode cX5_comes 101 = .ok (.putfield 111, 3) := dk_181 0 111 (dk_at dksX5_comes_4 8 rfl rfl)
theorem dX5_comes_104 : decode cX5_comes 104 = .ok (.iload_n 3, 1) := dk_29 (dk_at dksX5_comes_4 11 rfl rfl)
theorem dX5_comes_105 : decode cX5_comes 105 = .ok (.ifCond .le 7, 3) := dk_158 0 7 (dk_at dksX5_comes_4 12 rfl rfl)
theorem dX5_comes_108 : decode cX5_comes 108 = .ok (.iconst 1, 1) := dk_4 (dk_at dksX5_comes_4 15 rfl rfl)
theorem dX5_comes_109 : decode cX5_comes 109 = .ok (.goto 4, 3) := dk_167 0 4 (dk_at dksX5_comes_4 16 rfl rfl)
theorem dX5_comes_112 : decode cX5_comes 112 = .ok (.iconst 0, 1) := dk_3 (dk_at dksX5_comes_4 19 rfl rfl)
theorem dX5_comes_113 : decode cX5_comes 113 = .ok (.ireturn, 1) := dk_172 (dk_at dksX5_comes_4 20 rfl rfl)
abbrev cX5_weakest : ByteArray := prog_15_method_9_code
def yX5_weakest : MethodName := ⟨RX5, "weakest", "(I)I"⟩
def dkwX5_weakest_2 : List UInt8 := [27, 28, 182, 0, 94, 158, 0, 5, 29, 61, 132, 3, 1, 167, 255, 199, 28, 172]
abbrev dktX5_weakest_2 : List UInt8 := dkwX5_weakest_2 ++ []
def dkwX5_weakest_1 : List UInt8 := [29, 42, 180, 0, 11, 27, 50, 182, 0, 90, 163, 0, 6, 167, 0, 21, 28, 2, 159, 0, 14, 42, 27, 29]
abbrev dktX5_weakest_1 : List UInt8 := dkwX5_weakest_1 ++ dktX5_weakest_2
def dkwX5_weakest_0 : List UInt8 := [2, 61, 3, 62, 29, 42, 180, 0, 25, 27, 182, 0, 83, 162, 0, 51, 42, 27, 29, 182, 0, 87, 42, 27]
abbrev dktX5_weakest_0 : List UInt8 := dkwX5_weakest_0 ++ dktX5_weakest_1
theorem dksX5_weakest_0 : cX5_weakest.data.toList.drop 0 = dktX5_weakest_0 := by decide +kernel
theorem dksX5_weakest_1 : cX5_weakest.data.toList.drop 24 = dktX5_weakest_1 := dk_seg dksX5_weakest_0 24 rfl rfl
theorem dksX5_weakest_2 : cX5_weakest.data.toList.drop 48 = dktX5_weakest_2 := dk_seg dksX5_weakest_1 24 rfl rfl
theorem dX5_weakest_0 : decode cX5_weakest 0 = .ok (.iconst (-1), 1) := dk_2 (dk_at dksX5_weakest_0 0 rfl rfl)
theorem dX5_weakest_1 : decode cX5_weakest 1 = .ok (.istore_n 2, 1) := dk_61 (dk_at dksX5_weakest_0 1 rfl rfl)
theorem dX5_weakest_2 : decode cX5_weakest 2 = .ok (.iconst 0, 1) := dk_3 (dk_at dksX5_weakest_0 2 rfl rfl)
theorem dX5_weakest_3 : decode cX5_weakest 3 = .ok (.istore_n 3, 1) := dk_62 (dk_at dksX5_weakest_0 3 rfl rfl)
theorem dX5_weakest_4 : decode cX5_weakest 4 = .ok (.iload_n 3, 1) := dk_29 (dk_at dksX5_weakest_0 4 rfl rfl)
theorem dX5_weakest_5 : decode cX5_weakest 5 = .ok (.aload_n 0, 1) := dk_42 (dk_at dksX5_weakest_0 5 rfl rfl)
theorem dX5_weakest_6 : decode cX5_weakest 6 = .ok (.getfield 25, 3) := dk_180 0 25 (dk_at dksX5_weakest_0 6 rfl rfl)
theorem dX5_weakest_9 : decode cX5_weakest 9 = .ok (.iload_n 1, 1) := dk_27 (dk_at dksX5_weakest_0 9 rfl rfl)
theorem dX5_weakest_10 : decode cX5_weakest 10 = .ok (.invokevirtual 83, 3) := dk_182 0 83 (dk_at dksX5_weakest_0 10 rfl rfl)
theorem dX5_weakest_13 : decode cX5_weakest 13 = .ok (.if_icmp .ge 51, 3) := dk_162 0 51 (dk_at dksX5_weakest_0 13 rfl rfl)
theorem dX5_weakest_16 : decode cX5_weakest 16 = .ok (.aload_n 0, 1) := dk_42 (dk_at dksX5_weakest_0 16 rfl rfl)
theorem dX5_weakest_17 : decode cX5_weakest 17 = .ok (.iload_n 1, 1) := dk_27 (dk_at dksX5_weakest_0 17 rfl rfl)
theorem dX5_weakest_18 : decode cX5_weakest 18 = .ok (.iload_n 3, 1) := dk_29 (dk_at dksX5_weakest_0 18 rfl rfl)
theorem dX5_weakest_19 : decode cX5_weakest 19 = .ok (.invokevirtual 87, 3) := dk_182 0 87 (dk_at dksX5_weakest_0 19 rfl rfl)
theorem dX5_weakest_22 : decode cX5_weakest 22 = .ok (.aload_n 0, 1) := dk_42 (dk_at dksX5_weakest_0 22 rfl rfl)
theorem dX5_weakest_23 : decode cX5_weakest 23 = .ok (.iload_n 1, 1) := dk_27 (dk_at dksX5_weakest_0 23 rfl rfl)
theorem dX5_weakest_24 : decode cX5_weakest 24 = .ok (.iload_n 3, 1) := dk_29 (dk_at dksX5_weakest_1 0 rfl rfl)
theorem dX5_weakest_25 : decode cX5_weakest 25 = .ok (.aload_n 0, 1) := dk_42 (dk_at dksX5_weakest_1 1 rfl rfl)
theorem dX5_weakest_26 : decode cX5_weakest 26 = .ok (.getfield 11, 3) := dk_180 0 11 (dk_at dksX5_weakest_1 2 rfl rfl)
theorem dX5_weakest_29 : decode cX5_weakest 29 = .ok (.iload_n 1, 1) := dk_27 (dk_at dksX5_weakest_1 5 rfl rfl)
theorem dX5_weakest_30 : decode cX5_weakest 30 = .ok (.aaload, 1) := dk_50 (dk_at dksX5_weakest_1 6 rfl rfl)
theorem dX5_weakest_31 : decode cX5_weakest 31 = .ok (.invokevirtual 90, 3) := dk_182 0 90 (dk_at dksX5_weakest_1 7 rfl rfl)
theorem dX5_weakest_34 : decode cX5_weakest 34 = .ok (.if_icmp .gt 6, 3) := dk_163 0 6 (dk_at dksX5_weakest_1 10 rfl rfl)
theorem dX5_weakest_37 : decode cX5_weakest 37 = .ok (.goto 21, 3) := dk_167 0 21 (dk_at dksX5_weakest_1 13 rfl rfl)
theorem dX5_weakest_40 : decode cX5_weakest 40 = .ok (.iload_n 2, 1) := dk_28 (dk_at dksX5_weakest_1 16 rfl rfl)
theorem dX5_weakest_41 : decode cX5_weakest 41 = .ok (.iconst (-1), 1) := dk_2 (dk_at dksX5_weakest_1 17 rfl rfl)
theorem dX5_weakest_42 : decode cX5_weakest 42 = .ok (.if_icmp .eq 14, 3) := dk_159 0 14 (dk_at dksX5_weakest_1 18 rfl rfl)
theorem dX5_weakest_45 : decode cX5_weakest 45 = .ok (.aload_n 0, 1) := dk_42 (dk_at dksX5_weakest_1 21 rfl rfl)
theorem dX5_weakest_46 : decode cX5_weakest 46 = .ok (.iload_n 1, 1) := dk_27 (dk_at dksX5_weakest_1 22 rfl rfl)
theorem dX5_weakest_47 : decode cX5_weakest 47 = .ok (.iload_n 3, 1) := dk_29 (dk_at dksX5_weakest_1 23 rfl rfl)
theorem dX5_weakest_48 : decode cX5_weakest 48 = .ok (.iload_n 1, 1) := dk_27 (dk_at dksX5_weakest_2 0 rfl rfl)
theorem dX5_weakest_49 : decode cX5_weakest 49 = .ok (.iload_n 2, 1) := dk_28 (dk_at dksX5_weakest_2 1 rfl rfl)
theorem dX5_weakest_50 : decode cX5_weakest 50 = .ok (.invokevirtual 94, 3) := dk_182 0 94 (dk_at dksX5_weakest_2 2 rfl rfl)
theorem dX5_weakest_53 : decode cX5_weakest 53 = .ok (.ifCond .le 5, 3) := dk_158 0 5 (dk_at dksX5_weakest_2 5 rfl rfl)
theorem dX5_weakest_56 : decode cX5_weakest 56 = .ok (.iload_n 3, 1) := dk_29 (dk_at dksX5_weakest_2 8 rfl rfl)
theorem dX5_weakest_57 : decode cX5_weakest 57 = .ok (.istore_n 2, 1) := dk_61 (dk_at dksX5_weakest_2 9 rfl rfl)
theorem dX5_weakest_58 : decode cX5_weakest 58 = .ok (.iinc 3 1, 3) := dk_132 3 1 (dk_at dksX5_weakest_2 10 rfl rfl)
theorem dX5_weakest_61 : decode cX5_weakest 61 = .ok (.goto (-57), 3) := dk_167 255 199 (dk_at dksX5_weakest_2 13 rfl rfl)
theorem dX5_weakest_64 : decode cX5_weakest 64 = .ok (.iload_n 2, 1) := dk_28 (dk_at dksX5_weakest_2 16 rfl rfl)
theorem dX5_weakest_65 : decode cX5_weakest 65 = .ok (.ireturn, 1) := dk_172 (dk_at dksX5_weakest_2 17 rfl rfl)
abbrev cX5_compare : ByteArray := prog_15_method_10_code
def yX5_compare : MethodName := ⟨RX5, "compare", "(IIII)I"⟩
def dkwX5_compare_1 : List UInt8 := [182, 0, 87, 42, 27, 28, 42, 180, 0, 11, 27, 50, 182, 0, 90, 104, 184, 0, 98, 172]
abbrev dktX5_compare_1 : List UInt8 := dkwX5_compare_1 ++ []
def dkwX5_compare_0 : List UInt8 := [42, 27, 28, 182, 0, 87, 42, 29, 21, 4, 42, 180, 0, 11, 29, 50, 182, 0, 90, 104, 42, 29, 21, 4]
abbrev dktX5_compare_0 : List UInt8 := dkwX5_compare_0 ++ dktX5_compare_1
theorem dksX5_compare_0 : cX5_compare.data.toList.drop 0 = dktX5_compare_0 := by decide +kernel
theorem dksX5_compare_1 : cX5_compare.data.toList.drop 24 = dktX5_compare_1 := dk_seg dksX5_compare_0 24 rfl rfl
theorem dX5_compare_0 : decode cX5_compare 0 = .ok (.aload_n 0, 1) := dk_42 (dk_at dksX5_compare_0 0 rfl rfl)
theorem dX5_compare_1 : decode cX5_compare 1 = .ok (.iload_n 1, 1) := dk_27 (dk_at dksX5_compare_0 1 rfl rfl)
theorem dX5_compare_2 : decode cX5_compare 2 = .ok (.iload_n 2, 1) := dk_28 (dk_at dksX5_compare_0 2 rfl rfl)
theorem dX5_compare_3 : decode cX5_compare 3 = .ok (.invokevirtual 87, 3) := dk_182 0 87 (dk_at dksX5_compare_0 3 rfl rfl)
theorem dX5_compare_6 : decode cX5_compare 6 = .ok (.aload_n 0, 1) := dk_42 (dk_at dksX5_compare_0 6 rfl rfl)
theorem dX5_compare_7 : decode cX5_compare 7 = .ok (.iload_n 3, 1) := dk_29 (dk_at dksX5_compare_0 7 rfl rfl)
theorem dX5_compare_8 : decode cX5_compare 8 = .ok (.iload 4, 2) := dk_21 4 (dk_at dksX5_compare_0 8 rfl rfl)
theorem dX5_compare_10 : decode cX5_compare 10 = .ok (.aload_n 0, 1) := dk_42 (dk_at dksX5_compare_0 10 rfl rfl)
theorem dX5_compare_11 : decode cX5_compare 11 = .ok (.getfield 11, 3) := dk_180 0 11 (dk_at dksX5_compare_0 11 rfl rfl)
theorem dX5_compare_14 : decode cX5_compare 14 = .ok (.iload_n 3, 1) := dk_29 (dk_at dksX5_compare_0 14 rfl rfl)
theorem dX5_compare_15 : decode cX5_compare 15 = .ok (.aaload, 1) := dk_50 (dk_at dksX5_compare_0 15 rfl rfl)
theorem dX5_compare_16 : decode cX5_compare 16 = .ok (.invokevirtual 90, 3) := dk_182 0 90 (dk_at dksX5_compare_0 16 rfl rfl)
theorem dX5_compare_19 : decode cX5_compare 19 = .ok (.imul, 1) := dk_104 (dk_at dksX5_compare_0 19 rfl rfl)
theorem dX5_compare_20 : decode cX5_compare 20 = .ok (.aload_n 0, 1) := dk_42 (dk_at dksX5_compare_0 20 rfl rfl)
theorem dX5_compare_21 : decode cX5_compare 21 = .ok (.iload_n 3, 1) := dk_29 (dk_at dksX5_compare_0 21 rfl rfl)
theorem dX5_compare_22 : decode cX5_compare 22 = .ok (.iload 4, 2) := dk_21 4 (dk_at dksX5_compare_0 22 rfl rfl)
theorem dX5_compare_24 : decode cX5_compare 24 = .ok (.invokevirtual 87, 3) := dk_182 0 87 (dk_at dksX5_compare_1 0 rfl rfl)
theorem dX5_compare_27 : decode cX5_compare 27 = .ok (.aload_n 0, 1) := dk_42 (dk_at dksX5_compare_1 3 rfl rfl)
theorem dX5_compare_28 : decode cX5_compare 28 = .ok (.iload_n 1, 1) := dk_27 (dk_at dksX5_compare_1 4 rfl rfl)
theorem dX5_compare_29 : decode cX5_compare 29 = .ok (.iload_n 2, 1) := dk_28 (dk_at dksX5_compare_1 5 rfl rfl)
theorem dX5_compare_30 : decode cX5_compare 30 = .ok (.aload_n 0, 1) := dk_42 (dk_at dksX5_compare_1 6 rfl rfl)
theorem dX5_compare_31 : decode cX5_compare 31 = .ok (.getfield 11, 3) := dk_180 0 11 (dk_at dksX5_compare_1 7 rfl rfl)
theorem dX5_compare_34 : decode cX5_compare 34 = .ok (.iload_n 1, 1) := dk_27 (dk_at dksX5_compare_1 10 rfl rfl)
theorem dX5_compare_35 : decode cX5_compare 35 = .ok (.aaload, 1) := dk_50 (dk_at dksX5_compare_1 11 rfl rfl)
theorem dX5_compare_36 : decode cX5_compare 36 = .ok (.invokevirtual 90, 3) := dk_182 0 90 (dk_at dksX5_compare_1 12 rfl rfl)
theorem dX5_compare_39 : decode cX5_compare 39 = .ok (.imul, 1) := dk_104 (dk_at dksX5_compare_1 15 rfl rfl)
theorem dX5_compare_40 : decode cX5_compare 40 = .ok (.invokestatic 98, 3) := dk_184 0 98 (dk_at dksX5_compare_1 16 rfl rfl)
theorem dX5_compare_43 : decode cX5_compare 43 = .ok (.ireturn, 1) := dk_172 (dk_at dksX5_compare_1 19 rfl rfl)
abbrev cX5_flaw : ByteArray := prog_15_method_5_code
def yX5_flaw : MethodName := ⟨RX5, "flaw", "(II)V"⟩
def dkwX5_flaw_0 : List UInt8 := [42, 27, 181, 0, 37, 42, 28, 181, 0, 49, 177]
abbrev dktX5_flaw_0 : List UInt8 := dkwX5_flaw_0 ++ []
theorem dksX5_flaw_0 : cX5_flaw.data.toList.drop 0 = dktX5_flaw_0 := by decide +kernel
theorem dX5_flaw_0 : decode cX5_flaw 0 = .ok (.aload_n 0, 1) := dk_42 (dk_at dksX5_flaw_0 0 rfl rfl)
theorem dX5_flaw_1 : decode cX5_flaw 1 = .ok (.iload_n 1, 1) := dk_27 (dk_at dksX5_flaw_0 1 rfl rfl)
theorem dX5_flaw_2 : decode cX5_flaw 2 = .ok (.putfield 37, 3) := dk_181 0 37 (dk_at dksX5_flaw_0 2 rfl rfl)
theorem dX5_flaw_5 : decode cX5_flaw 5 = .ok (.aload_n 0, 1) := dk_42 (dk_at dksX5_flaw_0 5 rfl rfl)
theorem dX5_flaw_6 : decode cX5_flaw 6 = .ok (.iload_n 2, 1) := dk_28 (dk_at dksX5_flaw_0 6 rfl rfl)
theorem dX5_flaw_7 : decode cX5_flaw 7 = .ok (.putfield 49, 3) := dk_181 0 49 (dk_at dksX5_flaw_0 7 rfl rfl)
theorem dX5_flaw_10 : decode cX5_flaw 10 = .ok (.return_, 1) := dk_177 (dk_at dksX5_flaw_0 10 rfl rfl)
abbrev cX5_odds : ByteArray := prog_15_method_12_code
def yX5_odds : MethodName := ⟨RX5, "odds", "(I)J"⟩
def dkwX5_odds_4 : List UInt8 := [132, 5, 1, 167, 255, 208, 132, 4, 1, 167, 255, 193, 42, 2, 181, 0, 37, 32, 173]
abbrev dktX5_odds_4 : List UInt8 := dkwX5_odds_4 ++ []
def dkwX5_odds_3 : List UInt8 := [32, 42, 182, 0, 114, 27, 160, 0, 14, 42, 180, 0, 21, 180, 0, 118, 133, 167, 0, 4, 9, 97, 65]
abbrev dktX5_odds_3 : List UInt8 := dkwX5_odds_3 ++ dktX5_odds_4
def dkwX5_odds_2 : List UInt8 := [54, 5, 21, 5, 42, 180, 0, 25, 21, 4, 182, 0, 83, 162, 0, 40, 42, 21, 4, 21, 5, 182, 0, 124]
abbrev dktX5_odds_2 : List UInt8 := dkwX5_odds_2 ++ dktX5_odds_3
def dkwX5_odds_1 : List UInt8 := [42, 180, 0, 25, 182, 0, 121, 133, 105, 167, 0, 4, 9, 65, 3, 54, 4, 21, 4, 5, 162, 0, 63, 3]
abbrev dktX5_odds_1 : List UInt8 := dkwX5_odds_1 ++ dktX5_odds_2
def dkwX5_odds_0 : List UInt8 := [42, 2, 181, 0, 37, 42, 182, 0, 114, 27, 160, 0, 26, 16, 100, 42, 180, 0, 21, 180, 0, 118, 100, 133]
abbrev dktX5_odds_0 : List UInt8 := dkwX5_odds_0 ++ dktX5_odds_1
theorem dksX5_odds_0 : cX5_odds.data.toList.drop 0 = dktX5_odds_0 := by decide +kernel
theorem dksX5_odds_1 : cX5_odds.data.toList.drop 24 = dktX5_odds_1 := dk_seg dksX5_odds_0 24 rfl rfl
theorem dksX5_odds_2 : cX5_odds.data.toList.drop 48 = dktX5_odds_2 := dk_seg dksX5_odds_1 24 rfl rfl
theorem dksX5_odds_3 : cX5_odds.data.toList.drop 72 = dktX5_odds_3 := dk_seg dksX5_odds_2 24 rfl rfl
theorem dksX5_odds_4 : cX5_odds.data.toList.drop 95 = dktX5_odds_4 := dk_seg dksX5_odds_3 23 rfl rfl
theorem dX5_odds_0 : decode cX5_odds 0 = .ok (.aload_n 0, 1) := dk_42 (dk_at dksX5_odds_0 0 rfl rfl)
theorem dX5_odds_1 : decode cX5_odds 1 = .ok (.iconst (-1), 1) := dk_2 (dk_at dksX5_odds_0 1 rfl rfl)
theorem dX5_odds_2 : decode cX5_odds 2 = .ok (.putfield 37, 3) := dk_181 0 37 (dk_at dksX5_odds_0 2 rfl rfl)
theorem dX5_odds_5 : decode cX5_odds 5 = .ok (.aload_n 0, 1) := dk_42 (dk_at dksX5_odds_0 5 rfl rfl)
theorem dX5_odds_6 : decode cX5_odds 6 = .ok (.invokevirtual 114, 3) := dk_182 0 114 (dk_at dksX5_odds_0 6 rfl rfl)
theorem dX5_odds_9 : decode cX5_odds 9 = .ok (.iload_n 1, 1) := dk_27 (dk_at dksX5_odds_0 9 rfl rfl)
theorem dX5_odds_10 : decode cX5_odds 10 = .ok (.if_icmp .ne 26, 3) := dk_160 0 26 (dk_at dksX5_odds_0 10 rfl rfl)
theorem dX5_odds_13 : decode cX5_odds 13 = .ok (.bipush 100, 2) := dk_16 100 (dk_at dksX5_odds_0 13 rfl rfl)
theorem dX5_odds_15 : decode cX5_odds 15 = .ok (.aload_n 0, 1) := dk_42 (dk_at dksX5_odds_0 15 rfl rfl)
theorem dX5_odds_16 : decode cX5_odds 16 = .ok (.getfield 21, 3) := dk_180 0 21 (dk_at dksX5_odds_0 16 rfl rfl)
theorem dX5_odds_19 : decode cX5_odds 19 = .ok (.getfield 118, 3) := dk_180 0 118 (dk_at dksX5_odds_0 19 rfl rfl)
theorem dX5_odds_22 : decode cX5_odds 22 = .ok (.isub, 1) := dk_100 (dk_at dksX5_odds_0 22 rfl rfl)
theorem dX5_odds_23 : decode cX5_odds 23 = .ok (.i2l, 1) := dk_133 (dk_at dksX5_odds_0 23 rfl rfl)
theorem dX5_odds_24 : decode cX5_odds 24 = .ok (.aload_n 0, 1) := dk_42 (dk_at dksX5_odds_1 0 rfl rfl)
theorem dX5_odds_25 : decode cX5_odds 25 = .ok (.getfield 25, 3) := dk_180 0 25 (dk_at dksX5_odds_1 1 rfl rfl)
theorem dX5_odds_28 : decode cX5_odds 28 = .ok (.invokevirtual 121, 3) := dk_182 0 121 (dk_at dksX5_odds_1 4 rfl rfl)
theorem dX5_odds_31 : decode cX5_odds 31 = .ok (.i2l, 1) := dk_133 (dk_at dksX5_odds_1 7 rfl rfl)
theorem dX5_odds_32 : decode cX5_odds 32 = .ok (.lmul, 1) := dk_105 (dk_at dksX5_odds_1 8 rfl rfl)
theorem dX5_odds_33 : decode cX5_odds 33 = .ok (.goto 4, 3) := dk_167 0 4 (dk_at dksX5_odds_1 9 rfl rfl)
theorem dX5_odds_36 : decode cX5_odds 36 = .ok (.lconst 0, 1) := dk_9 (dk_at dksX5_odds_1 12 rfl rfl)
theorem dX5_odds_37 : decode cX5_odds 37 = .ok (.lstore_n 2, 1) := dk_65 (dk_at dksX5_odds_1 13 rfl rfl)
theorem dX5_odds_38 : decode cX5_odds 38 = .ok (.iconst 0, 1) := dk_3 (dk_at dksX5_odds_1 14 rfl rfl)
theorem dX5_odds_39 : decode cX5_odds 39 = .ok (.istore 4, 2) := dk_54 4 (dk_at dksX5_odds_1 15 rfl rfl)
theorem dX5_odds_41 : decode cX5_odds 41 = .ok (.iload 4, 2) := dk_21 4 (dk_at dksX5_odds_1 17 rfl rfl)
theorem dX5_odds_43 : decode cX5_odds 43 = .ok (.iconst 2, 1) := dk_5 (dk_at dksX5_odds_1 19 rfl rfl)
theorem dX5_odds_44 : decode cX5_odds 44 = .ok (.if_icmp .ge 63, 3) := dk_162 0 63 (dk_at dksX5_odds_1 20 rfl rfl)
theorem dX5_odds_47 : decode cX5_odds 47 = .ok (.iconst 0, 1) := dk_3 (dk_at dksX5_odds_1 23 rfl rfl)
theorem dX5_odds_48 : decode cX5_odds 48 = .ok (.istore 5, 2) := dk_54 5 (dk_at dksX5_odds_2 0 rfl rfl)
theorem dX5_odds_50 : decode cX5_odds 50 = .ok (.iload 5, 2) := dk_21 5 (dk_at dksX5_odds_2 2 rfl rfl)
theorem dX5_odds_52 : decode cX5_odds 52 = .ok (.aload_n 0, 1) := dk_42 (dk_at dksX5_odds_2 4 rfl rfl)
theorem dX5_odds_53 : decode cX5_odds 53 = .ok (.getfield 25, 3) := dk_180 0 25 (dk_at dksX5_odds_2 5 rfl rfl)
theorem dX5_odds_56 : decode cX5_odds 56 = .ok (.iload 4, 2) := dk_21 4 (dk_at dksX5_odds_2 8 rfl rfl)
theorem dX5_odds_58 : decode cX5_odds 58 = .ok (.invokevirtual 83, 3) := dk_182 0 83 (dk_at dksX5_odds_2 10 rfl rfl)
theorem dX5_odds_61 : decode cX5_odds 61 = .ok (.if_icmp .ge 40, 3) := dk_162 0 40 (dk_at dksX5_odds_2 13 rfl rfl)
theorem dX5_odds_64 : decode cX5_odds 64 = .ok (.aload_n 0, 1) := dk_42 (dk_at dksX5_odds_2 16 rfl rfl)
theorem dX5_odds_65 : decode cX5_odds 65 = .ok (.iload 4, 2) := dk_21 4 (dk_at dksX5_odds_2 17 rfl rfl)
theorem dX5_odds_67 : decode cX5_odds 67 = .ok (.iload 5, 2) := dk_21 5 (dk_at dksX5_odds_2 19 rfl rfl)
theorem dX5_odds_69 : decode cX5_odds 69 = .ok (.invokevirtual 124, 3) := dk_182 0 124 (dk_at dksX5_odds_2 21 rfl rfl)
theorem dX5_odds_72 : decode cX5_odds 72 = .ok (.lload_n 2, 1) := dk_32 (dk_at dksX5_odds_3 0 rfl rfl)
theorem dX5_odds_73 : decode cX5_odds 73 = .ok (.aload_n 0, 1) := dk_42 (dk_at dksX5_odds_3 1 rfl rfl)
theorem dX5_odds_74 : decode cX5_odds 74 = .ok (.invokevirtual 114, 3) := dk_182 0 114 (dk_at dksX5_odds_3 2 rfl rfl)
theorem dX5_odds_77 : decode cX5_odds 77 = .ok (.iload_n 1, 1) := dk_27 (dk_at dksX5_odds_3 5 rfl rfl)
theorem dX5_odds_78 : decode cX5_odds 78 = .ok (.if_icmp .ne 14, 3) := dk_160 0 14 (dk_at dksX5_odds_3 6 rfl rfl)
theorem dX5_odds_81 : decode cX5_odds 81 = .ok (.aload_n 0, 1) := dk_42 (dk_at dksX5_odds_3 9 rfl rfl)
theorem dX5_odds_82 : decode cX5_odds 82 = .ok (.getfield 21, 3) := dk_180 0 21 (dk_at dksX5_odds_3 10 rfl rfl)
theorem dX5_odds_85 : decode cX5_odds 85 = .ok (.getfield 118, 3) := dk_180 0 118 (dk_at dksX5_odds_3 13 rfl rfl)
theorem dX5_odds_88 : decode cX5_odds 88 = .ok (.i2l, 1) := dk_133 (dk_at dksX5_odds_3 16 rfl rfl)
theorem dX5_odds_89 : decode cX5_odds 89 = .ok (.goto 4, 3) := dk_167 0 4 (dk_at dksX5_odds_3 17 rfl rfl)
theorem dX5_odds_92 : decode cX5_odds 92 = .ok (.lconst 0, 1) := dk_9 (dk_at dksX5_odds_3 20 rfl rfl)
theorem dX5_odds_93 : decode cX5_odds 93 = .ok (.ladd, 1) := dk_97 (dk_at dksX5_odds_3 21 rfl rfl)
theorem dX5_odds_94 : decode cX5_odds 94 = .ok (.lstore_n 2, 1) := dk_65 (dk_at dksX5_odds_3 22 rfl rfl)
theorem dX5_odds_95 : decode cX5_odds 95 = .ok (.iinc 5 1, 3) := dk_132 5 1 (dk_at dksX5_odds_4 0 rfl rfl)
theorem dX5_odds_98 : decode cX5_odds 98 = .ok (.goto (-48), 3) := dk_167 255 208 (dk_at dksX5_odds_4 3 rfl rfl)
theorem dX5_odds_101 : decode cX5_odds 101 = .ok (.iinc 4 1, 3) := dk_132 4 1 (dk_at dksX5_odds_4 6 rfl rfl)
theorem dX5_odds_104 : decode cX5_odds 104 = .ok (.goto (-63), 3) := dk_167 255 193 (dk_at dksX5_odds_4 9 rfl rfl)
theorem dX5_odds_107 : decode cX5_odds 107 = .ok (.aload_n 0, 1) := dk_42 (dk_at dksX5_odds_4 12 rfl rfl)
theorem dX5_odds_108 : decode cX5_odds 108 = .ok (.iconst (-1), 1) := dk_2 (dk_at dksX5_odds_4 13 rfl rfl)
theorem dX5_odds_109 : decode cX5_odds 109 = .ok (.putfield 37, 3) := dk_181 0 37 (dk_at dksX5_odds_4 14 rfl rfl)
theorem dX5_odds_112 : decode cX5_odds 112 = .ok (.lload_n 2, 1) := dk_32 (dk_at dksX5_odds_4 17 rfl rfl)
theorem dX5_odds_113 : decode cX5_odds 113 = .ok (.lreturn, 1) := dk_173 (dk_at dksX5_odds_4 18 rfl rfl)
abbrev cX5_all : ByteArray := prog_15_method_13_code
def yX5_all : MethodName := ⟨RX5, "all", "()J"⟩
def dkwX5_all_0 : List UInt8 := [20, 0, 127, 42, 180, 0, 25, 182, 0, 121, 133, 105, 173]
abbrev dktX5_all_0 : List UInt8 := dkwX5_all_0 ++ []
theorem dksX5_all_0 : cX5_all.data.toList.drop 0 = dktX5_all_0 := by decide +kernel
theorem dX5_all_0 : decode cX5_all 0 = .ok (.ldc2_w 127, 3) := dk_20 0 127 (dk_at dksX5_all_0 0 rfl rfl)
theorem dX5_all_3 : decode cX5_all 3 = .ok (.aload_n 0, 1) := dk_42 (dk_at dksX5_all_0 3 rfl rfl)
theorem dX5_all_4 : decode cX5_all 4 = .ok (.getfield 25, 3) := dk_180 0 25 (dk_at dksX5_all_0 4 rfl rfl)
theorem dX5_all_7 : decode cX5_all 7 = .ok (.invokevirtual 121, 3) := dk_182 0 121 (dk_at dksX5_all_0 7 rfl rfl)
theorem dX5_all_10 : decode cX5_all 10 = .ok (.i2l, 1) := dk_133 (dk_at dksX5_all_0 10 rfl rfl)
theorem dX5_all_11 : decode cX5_all 11 = .ok (.lmul, 1) := dk_105 (dk_at dksX5_all_0 11 rfl rfl)
theorem dX5_all_12 : decode cX5_all 12 = .ok (.lreturn, 1) := dk_173 (dk_at dksX5_all_0 12 rfl rfl)
abbrev cX5_asTold : ByteArray := prog_15_method_4_code
def yX5_asTold : MethodName := ⟨RX5, "asTold", "(LLongerHalf$Person;LLongerHalf$Person;)V"⟩
def dkwX5_asTold_1 : List UInt8 := [182, 0, 46, 177]
abbrev dktX5_asTold_1 : List UInt8 := dkwX5_asTold_1 ++ []
def dkwX5_asTold_0 : List UInt8 := [42, 43, 43, 42, 180, 0, 25, 3, 182, 0, 43, 44, 44, 42, 180, 0, 25, 4, 182, 0, 43, 5]
abbrev dktX5_asTold_0 : List UInt8 := dkwX5_asTold_0 ++ dktX5_asTold_1
theorem dksX5_asTold_0 : cX5_asTold.data.toList.drop 0 = dktX5_asTold_0 := by decide +kernel
theorem dksX5_asTold_1 : cX5_asTold.data.toList.drop 22 = dktX5_asTold_1 := dk_seg dksX5_asTold_0 22 rfl rfl
theorem dX5_asTold_0 : decode cX5_asTold 0 = .ok (.aload_n 0, 1) := dk_42 (dk_at dksX5_asTold_0 0 rfl rfl)
theorem dX5_asTold_1 : decode cX5_asTold 1 = .ok (.aload_n 1, 1) := dk_43 (dk_at dksX5_asTold_0 1 rfl rfl)
theorem dX5_asTold_2 : decode cX5_asTold 2 = .ok (.aload_n 1, 1) := dk_43 (dk_at dksX5_asTold_0 2 rfl rfl)
theorem dX5_asTold_3 : decode cX5_asTold 3 = .ok (.aload_n 0, 1) := dk_42 (dk_at dksX5_asTold_0 3 rfl rfl)
theorem dX5_asTold_4 : decode cX5_asTold 4 = .ok (.getfield 25, 3) := dk_180 0 25 (dk_at dksX5_asTold_0 4 rfl rfl)
theorem dX5_asTold_7 : decode cX5_asTold 7 = .ok (.iconst 0, 1) := dk_3 (dk_at dksX5_asTold_0 7 rfl rfl)
theorem dX5_asTold_8 : decode cX5_asTold 8 = .ok (.invokevirtual 43, 3) := dk_182 0 43 (dk_at dksX5_asTold_0 8 rfl rfl)
theorem dX5_asTold_11 : decode cX5_asTold 11 = .ok (.aload_n 2, 1) := dk_44 (dk_at dksX5_asTold_0 11 rfl rfl)
theorem dX5_asTold_12 : decode cX5_asTold 12 = .ok (.aload_n 2, 1) := dk_44 (dk_at dksX5_asTold_0 12 rfl rfl)
theorem dX5_asTold_13 : decode cX5_asTold 13 = .ok (.aload_n 0, 1) := dk_42 (dk_at dksX5_asTold_0 13 rfl rfl)
theorem dX5_asTold_14 : decode cX5_asTold 14 = .ok (.getfield 25, 3) := dk_180 0 25 (dk_at dksX5_asTold_0 14 rfl rfl)
theorem dX5_asTold_17 : decode cX5_asTold 17 = .ok (.iconst 1, 1) := dk_4 (dk_at dksX5_asTold_0 17 rfl rfl)
theorem dX5_asTold_18 : decode cX5_asTold 18 = .ok (.invokevirtual 43, 3) := dk_182 0 43 (dk_at dksX5_asTold_0 18 rfl rfl)
theorem dX5_asTold_21 : decode cX5_asTold 21 = .ok (.iconst 2, 1) := dk_5 (dk_at dksX5_asTold_0 21 rfl rfl)
theorem dX5_asTold_22 : decode cX5_asTold 22 = .ok (.invokevirtual 46, 3) := dk_182 0 46 (dk_at dksX5_asTold_1 0 rfl rfl)
theorem dX5_asTold_25 : decode cX5_asTold 25 = .ok (.return_, 1) := dk_177 (dk_at dksX5_asTold_1 3 rfl rfl)
theorem q143 : (Jvm.Cond.initialized "LongerHalf$Pull") ∈ lw_all := lw_g (lw_at lw_m1 8 rfl) rfl
theorem q317 : (Jvm.Cond.instantiable "LongerHalf$Pull" (11 : Nat)) ∈ lw_all := lw_g (lw_at lw_m1 182 rfl) rfl
theorem q319 : (Jvm.Cond.instanceMethod ({ cls := "LongerHalf$Pull", name := "<init>", desc := "()V" } : Jvm.MethodName)) ∈ lw_all := lw_g (lw_at lw_m1 184 rfl) rfl
theorem q320 : (Jvm.Cond.code ({ cls := "LongerHalf$Pull", name := "<init>", desc := "()V" } : Jvm.MethodName) prog_15_method_1_code (1 : Nat) (Option.none : Option Jvm.ClassFile.FieldType)) ∈ lw_all := lw_g (lw_at lw_m1 185 rfl) rfl
theorem q321 : (Jvm.Cond.methodLink "LongerHalf$Pull" (3 : Nat) ({ cls := "java/lang/Object", name := "<init>", desc := "()V" } : Jvm.MethodName)) ∈ lw_all := lw_g (lw_at lw_m1 186 rfl) rfl
theorem q322 : (Jvm.Cond.classLink "LongerHalf$Pull" (9 : Nat) "LongerHalf$Person") ∈ lw_all := lw_g (lw_at lw_m1 187 rfl) rfl
theorem q324 : (Jvm.Cond.fieldLink "LongerHalf$Pull" (11 : Nat) "LongerHalf$Pull" "who" "[LLongerHalf$Person;") ∈ lw_all := lw_g (lw_at lw_m1 189 rfl) rfl
theorem q325 : (Jvm.Cond.fieldLink "LongerHalf$Pull" (17 : Nat) "LongerHalf$Pull" "hold" "[I") ∈ lw_all := lw_g (lw_at lw_m1 190 rfl) rfl
theorem q326 : (Jvm.Cond.fieldLink "LongerHalf$Pull" (21 : Nat) "LongerHalf$Pull" "kitchen" "LLongerHalf$Kitchen;") ∈ lw_all := lw_g (lw_at lw_m1 191 rfl) rfl
theorem q327 : (Jvm.Cond.fieldLink "LongerHalf$Pull" (25 : Nat) "LongerHalf$Pull" "bone" "LLongerHalf$Bone;") ∈ lw_all := lw_g (lw_at lw_m1 192 rfl) rfl
theorem q329 : (Jvm.Cond.fieldLink "LongerHalf$Pull" (33 : Nat) "LongerHalf$Pull" "rubber" "Z") ∈ lw_all := lw_g (lw_at lw_m1 194 rfl) rfl
theorem q330 : (Jvm.Cond.fieldLink "LongerHalf$Pull" (29 : Nat) "LongerHalf$Pull" "dry" "I") ∈ lw_all := lw_g (lw_at lw_m1 195 rfl) rfl
theorem q331 : (Jvm.Cond.fieldLink "LongerHalf$Pull" (40 : Nat) "LongerHalf$Pull" "moves" "I") ∈ lw_all := lw_g (lw_at lw_m1 196 rfl) rfl
theorem q332 : (Jvm.Cond.fieldLink "LongerHalf$Pull" (37 : Nat) "LongerHalf$Pull" "flawArm" "I") ∈ lw_all := lw_g (lw_at lw_m1 197 rfl) rfl
theorem q333 : (Jvm.Cond.fieldLink "LongerHalf$Pull" (49 : Nat) "LongerHalf$Pull" "flawPlace" "I") ∈ lw_all := lw_g (lw_at lw_m1 198 rfl) rfl
theorem q334 : (Jvm.Cond.fieldLink "LongerHalf$Pull" (108 : Nat) "LongerHalf$Pull" "arm" "I") ∈ lw_all := lw_g (lw_at lw_m1 199 rfl) rfl
theorem q336 : (Jvm.Cond.fieldLink "LongerHalf$Pull" (111 : Nat) "LongerHalf$Pull" "place" "I") ∈ lw_all := lw_g (lw_at lw_m1 201 rfl) rfl
theorem q338 : (Jvm.Cond.laysFinal "LongerHalf$Pull" "LongerHalf$Pull" "who" "[LLongerHalf$Person;") ∈ lw_all := lw_g (lw_at lw_m1 203 rfl) rfl
theorem q339 : (Jvm.Cond.soleField "LongerHalf$Pull" "who") ∈ lw_all := lw_g (lw_at lw_m1 204 rfl) rfl
theorem q340 : (Jvm.Cond.laysFinal "LongerHalf$Pull" "LongerHalf$Pull" "hold" "[I") ∈ lw_all := lw_g (lw_at lw_m1 205 rfl) rfl
theorem q341 : (Jvm.Cond.soleField "LongerHalf$Pull" "hold") ∈ lw_all := lw_g (lw_at lw_m1 206 rfl) rfl
theorem q342 : (Jvm.Cond.lays "LongerHalf$Pull" "LongerHalf$Pull" "kitchen" "LLongerHalf$Kitchen;") ∈ lw_all := lw_g (lw_at lw_m1 207 rfl) rfl
theorem q343 : (Jvm.Cond.soleField "LongerHalf$Pull" "kitchen") ∈ lw_all := lw_g (lw_at lw_m1 208 rfl) rfl
theorem q344 : (Jvm.Cond.lays "LongerHalf$Pull" "LongerHalf$Pull" "bone" "LLongerHalf$Bone;") ∈ lw_all := lw_g (lw_at lw_m1 209 rfl) rfl
theorem q345 : (Jvm.Cond.soleField "LongerHalf$Pull" "bone") ∈ lw_all := lw_g (lw_at lw_m1 210 rfl) rfl
theorem q346 : (Jvm.Cond.lays "LongerHalf$Pull" "LongerHalf$Pull" "rubber" "Z") ∈ lw_all := lw_g (lw_at lw_m1 211 rfl) rfl
theorem q347 : (Jvm.Cond.soleField "LongerHalf$Pull" "rubber") ∈ lw_all := lw_g (lw_at lw_m1 212 rfl) rfl
theorem q348 : (Jvm.Cond.lays "LongerHalf$Pull" "LongerHalf$Pull" "dry" "I") ∈ lw_all := lw_g (lw_at lw_m1 213 rfl) rfl
theorem q349 : (Jvm.Cond.soleField "LongerHalf$Pull" "dry") ∈ lw_all := lw_g (lw_at lw_m1 214 rfl) rfl
theorem q350 : (Jvm.Cond.lays "LongerHalf$Pull" "LongerHalf$Pull" "moves" "I") ∈ lw_all := lw_g (lw_at lw_m1 215 rfl) rfl
theorem q351 : (Jvm.Cond.soleField "LongerHalf$Pull" "moves") ∈ lw_all := lw_g (lw_at lw_m1 216 rfl) rfl
theorem q352 : (Jvm.Cond.lays "LongerHalf$Pull" "LongerHalf$Pull" "flawArm" "I") ∈ lw_all := lw_g (lw_at lw_m1 217 rfl) rfl
theorem q353 : (Jvm.Cond.soleField "LongerHalf$Pull" "flawArm") ∈ lw_all := lw_g (lw_at lw_m1 218 rfl) rfl
theorem q354 : (Jvm.Cond.lays "LongerHalf$Pull" "LongerHalf$Pull" "flawPlace" "I") ∈ lw_all := lw_g (lw_at lw_m1 219 rfl) rfl
theorem q355 : (Jvm.Cond.soleField "LongerHalf$Pull" "flawPlace") ∈ lw_all := lw_g (lw_at lw_m1 220 rfl) rfl
theorem q356 : (Jvm.Cond.lays "LongerHalf$Pull" "LongerHalf$Pull" "arm" "I") ∈ lw_all := lw_g (lw_at lw_m1 221 rfl) rfl
theorem q357 : (Jvm.Cond.soleField "LongerHalf$Pull" "arm") ∈ lw_all := lw_g (lw_at lw_m1 222 rfl) rfl
theorem q358 : (Jvm.Cond.lays "LongerHalf$Pull" "LongerHalf$Pull" "place" "I") ∈ lw_all := lw_g (lw_at lw_m1 223 rfl) rfl
theorem q359 : (Jvm.Cond.soleField "LongerHalf$Pull" "place") ∈ lw_all := lw_g (lw_at lw_m1 224 rfl) rfl
theorem q360 : (Jvm.Cond.superclass "LongerHalf$Pull" "java/lang/Object") ∈ lw_all := lw_g (lw_at lw_m1 225 rfl) rfl
theorem q532 : (Jvm.Cond.fieldLink "LongerHalf$Pull" (105 : Nat) "LongerHalf$Kitchen" "bends" "I") ∈ lw_all := lw_g (lw_at lw_m2 157 rfl) rfl
theorem q535 : (Jvm.Cond.fieldLink "LongerHalf$Pull" (62 : Nat) "LongerHalf$Kitchen" "tough" "I") ∈ lw_all := lw_g (lw_at lw_m2 160 rfl) rfl
theorem q538 : (Jvm.Cond.fieldLink "LongerHalf$Pull" (80 : Nat) "LongerHalf$Kitchen" "jerk" "I") ∈ lw_all := lw_g (lw_at lw_m2 163 rfl) rfl
theorem q541 : (Jvm.Cond.fieldLink "LongerHalf$Pull" (70 : Nat) "LongerHalf$Kitchen" "thumb" "I") ∈ lw_all := lw_g (lw_at lw_m2 166 rfl) rfl
theorem q544 : (Jvm.Cond.fieldLink "LongerHalf$Pull" (118 : Nat) "LongerHalf$Kitchen" "flaw" "I") ∈ lw_all := lw_g (lw_at lw_m2 169 rfl) rfl
theorem q925 : (Jvm.Cond.fieldLink "LongerHalf$Pull" (73 : Nat) "LongerHalf$Person" "force" "I") ∈ lw_all := lw_g (lw_at lw_m4 70 rfl) rfl
theorem q1158 : (Jvm.Cond.instanceMethod ({ cls := "LongerHalf$Pull", name := "lay", desc := "(LLongerHalf$Kitchen;LLongerHalf$Bone;IZ)V" } : Jvm.MethodName)) ∈ lw_all := lw_g (lw_at lw_m5 63 rfl) rfl
theorem q1159 : (Jvm.Cond.selects "LongerHalf$Pull" ({ cls := "LongerHalf$Pull", name := "lay", desc := "(LLongerHalf$Kitchen;LLongerHalf$Bone;IZ)V" } : Jvm.MethodName) ({ cls := "LongerHalf$Pull", name := "lay", desc := "(LLongerHalf$Kitchen;LLongerHalf$Bone;IZ)V" } : Jvm.MethodName)) ∈ lw_all := lw_g (lw_at lw_m5 64 rfl) rfl
theorem q1160 : (Jvm.Cond.code ({ cls := "LongerHalf$Pull", name := "lay", desc := "(LLongerHalf$Kitchen;LLongerHalf$Bone;IZ)V" } : Jvm.MethodName) prog_15_method_2_code (5 : Nat) (Option.none : Option Jvm.ClassFile.FieldType)) ∈ lw_all := lw_g (lw_at lw_m5 65 rfl) rfl
theorem q1162 : (Jvm.Cond.instanceMethod ({ cls := "LongerHalf$Pull", name := "strength", desc := "(IILLongerHalf$Person;)I" } : Jvm.MethodName)) ∈ lw_all := lw_g (lw_at lw_m5 67 rfl) rfl
theorem q1163 : (Jvm.Cond.selects "LongerHalf$Pull" ({ cls := "LongerHalf$Pull", name := "strength", desc := "(IILLongerHalf$Person;)I" } : Jvm.MethodName) ({ cls := "LongerHalf$Pull", name := "strength", desc := "(IILLongerHalf$Person;)I" } : Jvm.MethodName)) ∈ lw_all := lw_g (lw_at lw_m5 68 rfl) rfl
theorem q1164 : (Jvm.Cond.code ({ cls := "LongerHalf$Pull", name := "strength", desc := "(IILLongerHalf$Person;)I" } : Jvm.MethodName) prog_15_method_7_code (5 : Nat) (Option.some Jvm.ClassFile.FieldType.int)) ∈ lw_all := lw_g (lw_at lw_m5 69 rfl) rfl
theorem q1165 : (Jvm.Cond.methodLink "LongerHalf$Pull" (56 : Nat) ({ cls := "LongerHalf$Bone", name := "thick", desc := "(II)I" } : Jvm.MethodName)) ∈ lw_all := lw_g (lw_at lw_m5 70 rfl) rfl
theorem q1166 : (Jvm.Cond.methodLink "LongerHalf$Pull" (67 : Nat) ({ cls := "LongerHalf$Person", name := "presses", desc := "()Z" } : Jvm.MethodName)) ∈ lw_all := lw_g (lw_at lw_m5 71 rfl) rfl
theorem q1197 : (Jvm.Cond.instanceMethod ({ cls := "LongerHalf$Pull", name := "hold", desc := "(LLongerHalf$Person;ILLongerHalf$Person;II)V" } : Jvm.MethodName)) ∈ lw_all := lw_g (lw_at lw_m5 102 rfl) rfl
theorem q1198 : (Jvm.Cond.selects "LongerHalf$Pull" ({ cls := "LongerHalf$Pull", name := "hold", desc := "(LLongerHalf$Person;ILLongerHalf$Person;II)V" } : Jvm.MethodName) ({ cls := "LongerHalf$Pull", name := "hold", desc := "(LLongerHalf$Person;ILLongerHalf$Person;II)V" } : Jvm.MethodName)) ∈ lw_all := lw_g (lw_at lw_m5 103 rfl) rfl
theorem q1199 : (Jvm.Cond.code ({ cls := "LongerHalf$Pull", name := "hold", desc := "(LLongerHalf$Person;ILLongerHalf$Person;II)V" } : Jvm.MethodName) prog_15_method_3_code (6 : Nat) (Option.none : Option Jvm.ClassFile.FieldType)) ∈ lw_all := lw_g (lw_at lw_m5 104 rfl) rfl
theorem q1201 : (Jvm.Cond.instanceMethod ({ cls := "LongerHalf$Pull", name := "strain", desc := "(II)I" } : Jvm.MethodName)) ∈ lw_all := lw_g (lw_at lw_m5 106 rfl) rfl
theorem q1202 : (Jvm.Cond.selects "LongerHalf$Pull" ({ cls := "LongerHalf$Pull", name := "strain", desc := "(II)I" } : Jvm.MethodName) ({ cls := "LongerHalf$Pull", name := "strain", desc := "(II)I" } : Jvm.MethodName)) ∈ lw_all := lw_g (lw_at lw_m5 107 rfl) rfl
theorem q1203 : (Jvm.Cond.code ({ cls := "LongerHalf$Pull", name := "strain", desc := "(II)I" } : Jvm.MethodName) prog_15_method_8_code (4 : Nat) (Option.some Jvm.ClassFile.FieldType.int)) ∈ lw_all := lw_g (lw_at lw_m5 108 rfl) rfl
theorem q1204 : (Jvm.Cond.methodLink "LongerHalf$Pull" (76 : Nat) ({ cls := "LongerHalf$Pull", name := "doesMove", desc := "(I)Z" } : Jvm.MethodName)) ∈ lw_all := lw_g (lw_at lw_m5 109 rfl) rfl
theorem q1205 : (Jvm.Cond.privateMethod ({ cls := "LongerHalf$Pull", name := "doesMove", desc := "(I)Z" } : Jvm.MethodName)) ∈ lw_tbl := lw_at lw_m5 110 rfl
theorem q1206 : (Jvm.Cond.instanceMethod ({ cls := "LongerHalf$Pull", name := "doesMove", desc := "(I)Z" } : Jvm.MethodName)) ∈ lw_all := lw_g (lw_at lw_m5 111 rfl) rfl
theorem q1207 : (Jvm.Cond.code ({ cls := "LongerHalf$Pull", name := "doesMove", desc := "(I)Z" } : Jvm.MethodName) prog_15_method_6_code (2 : Nat) (Option.some Jvm.ClassFile.FieldType.boolean)) ∈ lw_all := lw_g (lw_at lw_m5 112 rfl) rfl
theorem q1208 : (Jvm.Cond.methodLink "LongerHalf$Pull" (52 : Nat) ({ cls := "LongerHalf$Person", name := "mustMove", desc := "()Z" } : Jvm.MethodName)) ∈ lw_all := lw_g (lw_at lw_m5 113 rfl) rfl
theorem q1223 : (Jvm.Cond.instanceMethod ({ cls := "LongerHalf$Pull", name := "comes", desc := "()I" } : Jvm.MethodName)) ∈ lw_all := lw_g (lw_at lw_m5 128 rfl) rfl
theorem q1224 : (Jvm.Cond.selects "LongerHalf$Pull" ({ cls := "LongerHalf$Pull", name := "comes", desc := "()I" } : Jvm.MethodName) ({ cls := "LongerHalf$Pull", name := "comes", desc := "()I" } : Jvm.MethodName)) ∈ lw_all := lw_g (lw_at lw_m5 129 rfl) rfl
theorem q1225 : (Jvm.Cond.code ({ cls := "LongerHalf$Pull", name := "comes", desc := "()I" } : Jvm.MethodName) prog_15_method_11_code (4 : Nat) (Option.some Jvm.ClassFile.FieldType.int)) ∈ lw_all := lw_g (lw_at lw_m5 130 rfl) rfl
theorem q1226 : (Jvm.Cond.methodLink "LongerHalf$Pull" (102 : Nat) ({ cls := "LongerHalf$Pull", name := "weakest", desc := "(I)I" } : Jvm.MethodName)) ∈ lw_all := lw_g (lw_at lw_m5 131 rfl) rfl
theorem q1227 : (Jvm.Cond.privateMethod ({ cls := "LongerHalf$Pull", name := "weakest", desc := "(I)I" } : Jvm.MethodName)) ∈ lw_tbl := lw_at lw_m5 132 rfl
theorem q1228 : (Jvm.Cond.instanceMethod ({ cls := "LongerHalf$Pull", name := "weakest", desc := "(I)I" } : Jvm.MethodName)) ∈ lw_all := lw_g (lw_at lw_m5 133 rfl) rfl
theorem q1229 : (Jvm.Cond.code ({ cls := "LongerHalf$Pull", name := "weakest", desc := "(I)I" } : Jvm.MethodName) prog_15_method_9_code (4 : Nat) (Option.some Jvm.ClassFile.FieldType.int)) ∈ lw_all := lw_g (lw_at lw_m5 134 rfl) rfl
theorem q1230 : (Jvm.Cond.methodLink "LongerHalf$Pull" (83 : Nat) ({ cls := "LongerHalf$Bone", name := "size", desc := "(I)I" } : Jvm.MethodName)) ∈ lw_all := lw_g (lw_at lw_m5 135 rfl) rfl
theorem q1231 : (Jvm.Cond.methodLink "LongerHalf$Pull" (87 : Nat) ({ cls := "LongerHalf$Pull", name := "strain", desc := "(II)I" } : Jvm.MethodName)) ∈ lw_all := lw_g (lw_at lw_m5 136 rfl) rfl
theorem q1232 : (Jvm.Cond.methodLink "LongerHalf$Pull" (90 : Nat) ({ cls := "LongerHalf$Pull", name := "strength", desc := "(IILLongerHalf$Person;)I" } : Jvm.MethodName)) ∈ lw_all := lw_g (lw_at lw_m5 137 rfl) rfl
theorem q1233 : (Jvm.Cond.methodLink "LongerHalf$Pull" (94 : Nat) ({ cls := "LongerHalf$Pull", name := "compare", desc := "(IIII)I" } : Jvm.MethodName)) ∈ lw_all := lw_g (lw_at lw_m5 138 rfl) rfl
theorem q1234 : (Jvm.Cond.privateMethod ({ cls := "LongerHalf$Pull", name := "compare", desc := "(IIII)I" } : Jvm.MethodName)) ∈ lw_tbl := lw_at lw_m5 139 rfl
theorem q1235 : (Jvm.Cond.instanceMethod ({ cls := "LongerHalf$Pull", name := "compare", desc := "(IIII)I" } : Jvm.MethodName)) ∈ lw_all := lw_g (lw_at lw_m5 140 rfl) rfl
theorem q1236 : (Jvm.Cond.code ({ cls := "LongerHalf$Pull", name := "compare", desc := "(IIII)I" } : Jvm.MethodName) prog_15_method_10_code (5 : Nat) (Option.some Jvm.ClassFile.FieldType.int)) ∈ lw_all := lw_g (lw_at lw_m5 141 rfl) rfl
theorem q1237 : (Jvm.Cond.methodLink "LongerHalf$Pull" (98 : Nat) ({ cls := "java/lang/Integer", name := "compare", desc := "(II)I" } : Jvm.MethodName)) ∈ lw_all := lw_g (lw_at lw_m5 142 rfl) rfl
theorem q1249 : (Jvm.Cond.instanceMethod ({ cls := "LongerHalf$Pull", name := "flaw", desc := "(II)V" } : Jvm.MethodName)) ∈ lw_all := lw_g (lw_at lw_m5 154 rfl) rfl
theorem q1250 : (Jvm.Cond.selects "LongerHalf$Pull" ({ cls := "LongerHalf$Pull", name := "flaw", desc := "(II)V" } : Jvm.MethodName) ({ cls := "LongerHalf$Pull", name := "flaw", desc := "(II)V" } : Jvm.MethodName)) ∈ lw_all := lw_g (lw_at lw_m5 155 rfl) rfl
theorem q1251 : (Jvm.Cond.code ({ cls := "LongerHalf$Pull", name := "flaw", desc := "(II)V" } : Jvm.MethodName) prog_15_method_5_code (3 : Nat) (Option.none : Option Jvm.ClassFile.FieldType)) ∈ lw_all := lw_g (lw_at lw_m5 156 rfl) rfl
theorem q1257 : (Jvm.Cond.instanceMethod ({ cls := "LongerHalf$Pull", name := "odds", desc := "(I)J" } : Jvm.MethodName)) ∈ lw_all := lw_g (lw_at lw_m5 162 rfl) rfl
theorem q1258 : (Jvm.Cond.selects "LongerHalf$Pull" ({ cls := "LongerHalf$Pull", name := "odds", desc := "(I)J" } : Jvm.MethodName) ({ cls := "LongerHalf$Pull", name := "odds", desc := "(I)J" } : Jvm.MethodName)) ∈ lw_all := lw_g (lw_at lw_m5 163 rfl) rfl
theorem q1259 : (Jvm.Cond.code ({ cls := "LongerHalf$Pull", name := "odds", desc := "(I)J" } : Jvm.MethodName) prog_15_method_12_code (6 : Nat) (Option.some Jvm.ClassFile.FieldType.long)) ∈ lw_all := lw_g (lw_at lw_m5 164 rfl) rfl
theorem q1260 : (Jvm.Cond.methodLink "LongerHalf$Pull" (114 : Nat) ({ cls := "LongerHalf$Pull", name := "comes", desc := "()I" } : Jvm.MethodName)) ∈ lw_all := lw_g (lw_at lw_m5 165 rfl) rfl
theorem q1261 : (Jvm.Cond.methodLink "LongerHalf$Pull" (121 : Nat) ({ cls := "LongerHalf$Bone", name := "places", desc := "()I" } : Jvm.MethodName)) ∈ lw_all := lw_g (lw_at lw_m5 166 rfl) rfl
theorem q1268 : (Jvm.Cond.methodLink "LongerHalf$Pull" (124 : Nat) ({ cls := "LongerHalf$Pull", name := "flaw", desc := "(II)V" } : Jvm.MethodName)) ∈ lw_all := lw_g (lw_at lw_m5 173 rfl) rfl
theorem q1270 : (Jvm.Cond.instanceMethod ({ cls := "LongerHalf$Pull", name := "all", desc := "()J" } : Jvm.MethodName)) ∈ lw_all := lw_g (lw_at lw_m5 175 rfl) rfl
theorem q1271 : (Jvm.Cond.selects "LongerHalf$Pull" ({ cls := "LongerHalf$Pull", name := "all", desc := "()J" } : Jvm.MethodName) ({ cls := "LongerHalf$Pull", name := "all", desc := "()J" } : Jvm.MethodName)) ∈ lw_all := lw_g (lw_at lw_m5 176 rfl) rfl
theorem q1272 : (Jvm.Cond.code ({ cls := "LongerHalf$Pull", name := "all", desc := "()J" } : Jvm.MethodName) prog_15_method_13_code (1 : Nat) (Option.some Jvm.ClassFile.FieldType.long)) ∈ lw_all := lw_g (lw_at lw_m5 177 rfl) rfl
theorem q1273 : (Jvm.Cond.constantLong "LongerHalf$Pull" (127 : Nat) (100 : Int64)) ∈ lw_all := lw_g (lw_at lw_m5 178 rfl) rfl
theorem q1346 : (Jvm.Cond.instanceMethod ({ cls := "LongerHalf$Pull", name := "asTold", desc := "(LLongerHalf$Person;LLongerHalf$Person;)V" } : Jvm.MethodName)) ∈ lw_all := lw_g (lw_at lw_m6 11 rfl) rfl
theorem q1347 : (Jvm.Cond.selects "LongerHalf$Pull" ({ cls := "LongerHalf$Pull", name := "asTold", desc := "(LLongerHalf$Person;LLongerHalf$Person;)V" } : Jvm.MethodName) ({ cls := "LongerHalf$Pull", name := "asTold", desc := "(LLongerHalf$Person;LLongerHalf$Person;)V" } : Jvm.MethodName)) ∈ lw_all := lw_g (lw_at lw_m6 12 rfl) rfl
theorem q1348 : (Jvm.Cond.code ({ cls := "LongerHalf$Pull", name := "asTold", desc := "(LLongerHalf$Person;LLongerHalf$Person;)V" } : Jvm.MethodName) prog_15_method_4_code (3 : Nat) (Option.none : Option Jvm.ClassFile.FieldType)) ∈ lw_all := lw_g (lw_at lw_m6 13 rfl) rfl
theorem q1349 : (Jvm.Cond.methodLink "LongerHalf$Pull" (43 : Nat) ({ cls := "LongerHalf$Person", name := "hold", desc := "(LLongerHalf$Bone;I)I" } : Jvm.MethodName)) ∈ lw_all := lw_g (lw_at lw_m6 14 rfl) rfl
theorem q1361 : (Jvm.Cond.methodLink "LongerHalf$Pull" (46 : Nat) ({ cls := "LongerHalf$Pull", name := "hold", desc := "(LLongerHalf$Person;ILLongerHalf$Person;II)V" } : Jvm.MethodName)) ∈ lw_all := lw_g (lw_at lw_m6 26 rfl) rfl
theorem q2468 : (Jvm.Cond.castable "LongerHalf$Pull" "java/lang/Object") ∈ lw_tbl := lw_at lw_m10 173 rfl
theorem in_X5 : ∀ w ∈ wsX50, w ∈ lw_all := lw_in wsX50 [338, 340, 342, 344, 346, 348, 350, 352, 354, 356, 358] (by decide +kernel) (by decide +kernel)

/-! LongerHalf$Game -/
set_option maxRecDepth 100000
def RX6 : String := "LongerHalf$Game"
def TX6 : u_T := fun k => match k with
  | 0 => ("LongerHalf$Game", "mine", "[J", true)
  | 1 => ("LongerHalf$Game", "his", "[J", true)
  | 2 => ("LongerHalf$Game", "pull", "LLongerHalf$Pull;", true)
  | 3 => ("LongerHalf$Game", "bone", "LLongerHalf$Bone;", false)
  | 4 => ("LongerHalf$Game", "p", "LLongerHalf$Person;", false)
  | 5 => ("LongerHalf$Game", "q", "LLongerHalf$Person;", false)
  | 6 => ("LongerHalf$Game", "rests", "I", false)
  | _ => ("LongerHalf$Game", "first", "I", false)
def tyX6 : Nat → FieldType := fun k => match k with
  | 0 => .array .long
  | 1 => .array .long
  | 2 => .object "LongerHalf$Pull"
  | 3 => .object "LongerHalf$Bone"
  | 4 => .object "LongerHalf$Person"
  | 5 => .object "LongerHalf$Person"
  | 6 => .int
  | _ => .int
abbrev wsX60 : List Cond := u_ws RX6 TX6 8
theorem nmX6 : ∀ a, a < 8 → ∀ b, b < 8 → a ≠ b → (TX6 a).2.1 ≠ (TX6 b).2.1 := by decide +kernel
theorem tyX6_ok : ∀ k, k < 8 → parseFieldDescriptor (TX6 k).2.2.1 = some (tyX6 k) := by decide +kernel
abbrev cX6_init : ByteArray := prog_8_method_1_code
def yX6_init : MethodName := ⟨RX6, "<init>", "(LLongerHalf$Pull;)V"⟩
def dkwX6_init_1 : List UInt8 := [181, 0, 18, 177]
abbrev dktX6_init_1 : List UInt8 := dkwX6_init_1 ++ []
def dkwX6_init_0 : List UInt8 := [42, 183, 0, 3, 42, 17, 0, 144, 188, 11, 181, 0, 9, 42, 17, 0, 144, 188, 11, 181, 0, 15, 42, 43]
abbrev dktX6_init_0 : List UInt8 := dkwX6_init_0 ++ dktX6_init_1
theorem dksX6_init_0 : cX6_init.data.toList.drop 0 = dktX6_init_0 := by decide +kernel
theorem dksX6_init_1 : cX6_init.data.toList.drop 24 = dktX6_init_1 := dk_seg dksX6_init_0 24 rfl rfl
theorem dX6_init_0 : decode cX6_init 0 = .ok (.aload_n 0, 1) := dk_42 (dk_at dksX6_init_0 0 rfl rfl)
theorem dX6_init_1 : decode cX6_init 1 = .ok (.invokespecial 3, 3) := dk_183 0 3 (dk_at dksX6_init_0 1 rfl rfl)
theorem dX6_init_4 : decode cX6_init 4 = .ok (.aload_n 0, 1) := dk_42 (dk_at dksX6_init_0 4 rfl rfl)
theorem dX6_init_5 : decode cX6_init 5 = .ok (.sipush 144, 3) := dk_17 0 144 (dk_at dksX6_init_0 5 rfl rfl)
theorem dX6_init_8 : decode cX6_init 8 = .ok (.newarray .long, 2) := dk_188_11 (dk_at dksX6_init_0 8 rfl rfl)
theorem dX6_init_10 : decode cX6_init 10 = .ok (.putfield 9, 3) := dk_181 0 9 (dk_at dksX6_init_0 10 rfl rfl)
theorem dX6_init_13 : decode cX6_init 13 = .ok (.aload_n 0, 1) := dk_42 (dk_at dksX6_init_0 13 rfl rfl)
theorem dX6_init_14 : decode cX6_init 14 = .ok (.sipush 144, 3) := dk_17 0 144 (dk_at dksX6_init_0 14 rfl rfl)
theorem dX6_init_17 : decode cX6_init 17 = .ok (.newarray .long, 2) := dk_188_11 (dk_at dksX6_init_0 17 rfl rfl)
theorem dX6_init_19 : decode cX6_init 19 = .ok (.putfield 15, 3) := dk_181 0 15 (dk_at dksX6_init_0 19 rfl rfl)
theorem dX6_init_22 : decode cX6_init 22 = .ok (.aload_n 0, 1) := dk_42 (dk_at dksX6_init_0 22 rfl rfl)
theorem dX6_init_23 : decode cX6_init 23 = .ok (.aload_n 1, 1) := dk_43 (dk_at dksX6_init_0 23 rfl rfl)
theorem dX6_init_24 : decode cX6_init 24 = .ok (.putfield 18, 3) := dk_181 0 18 (dk_at dksX6_init_1 0 rfl rfl)
theorem dX6_init_27 : decode cX6_init 27 = .ok (.return_, 1) := dk_177 (dk_at dksX6_init_1 3 rfl rfl)
abbrev cX6_can : ByteArray := prog_8_method_2_code
def yX6_can : MethodName := ⟨RX6, "can", "(LLongerHalf$Person;I)Z"⟩
def dkwX6_can_0 : List UInt8 := [27, 5, 112, 4, 159, 0, 10, 42, 182, 0, 22, 154, 0, 7, 4, 167, 0, 4, 3, 172]
abbrev dktX6_can_0 : List UInt8 := dkwX6_can_0 ++ []
theorem dksX6_can_0 : cX6_can.data.toList.drop 0 = dktX6_can_0 := by decide +kernel
theorem dX6_can_0 : decode cX6_can 0 = .ok (.iload_n 1, 1) := dk_27 (dk_at dksX6_can_0 0 rfl rfl)
theorem dX6_can_1 : decode cX6_can 1 = .ok (.iconst 2, 1) := dk_5 (dk_at dksX6_can_0 1 rfl rfl)
theorem dX6_can_2 : decode cX6_can 2 = .ok (.irem, 1) := dk_112 (dk_at dksX6_can_0 2 rfl rfl)
theorem dX6_can_3 : decode cX6_can 3 = .ok (.iconst 1, 1) := dk_4 (dk_at dksX6_can_0 3 rfl rfl)
theorem dX6_can_4 : decode cX6_can 4 = .ok (.if_icmp .eq 10, 3) := dk_159 0 10 (dk_at dksX6_can_0 4 rfl rfl)
theorem dX6_can_7 : decode cX6_can 7 = .ok (.aload_n 0, 1) := dk_42 (dk_at dksX6_can_0 7 rfl rfl)
theorem dX6_can_8 : decode cX6_can 8 = .ok (.invokevirtual 22, 3) := dk_182 0 22 (dk_at dksX6_can_0 8 rfl rfl)
theorem dX6_can_11 : decode cX6_can 11 = .ok (.ifCond .ne 7, 3) := dk_154 0 7 (dk_at dksX6_can_0 11 rfl rfl)
theorem dX6_can_14 : decode cX6_can 14 = .ok (.iconst 1, 1) := dk_4 (dk_at dksX6_can_0 14 rfl rfl)
theorem dX6_can_15 : decode cX6_can 15 = .ok (.goto 4, 3) := dk_167 0 4 (dk_at dksX6_can_0 15 rfl rfl)
theorem dX6_can_18 : decode cX6_can 18 = .ok (.iconst 0, 1) := dk_3 (dk_at dksX6_can_0 18 rfl rfl)
theorem dX6_can_19 : decode cX6_can 19 = .ok (.ireturn, 1) := dk_172 (dk_at dksX6_can_0 19 rfl rfl)
abbrev cX6_told : ByteArray := prog_8_method_3_code
def yX6_told : MethodName := ⟨RX6, "told", "(I)I"⟩
def dkwX6_told_0 : List UInt8 := [16, 10, 26, 5, 108, 4, 96, 104, 26, 5, 112, 96, 172]
abbrev dktX6_told_0 : List UInt8 := dkwX6_told_0 ++ []
theorem dksX6_told_0 : cX6_told.data.toList.drop 0 = dktX6_told_0 := by decide +kernel
theorem dX6_told_0 : decode cX6_told 0 = .ok (.bipush 10, 2) := dk_16 10 (dk_at dksX6_told_0 0 rfl rfl)
theorem dX6_told_2 : decode cX6_told 2 = .ok (.iload_n 0, 1) := dk_26 (dk_at dksX6_told_0 2 rfl rfl)
theorem dX6_told_3 : decode cX6_told 3 = .ok (.iconst 2, 1) := dk_5 (dk_at dksX6_told_0 3 rfl rfl)
theorem dX6_told_4 : decode cX6_told 4 = .ok (.idiv, 1) := dk_108 (dk_at dksX6_told_0 4 rfl rfl)
theorem dX6_told_5 : decode cX6_told 5 = .ok (.iconst 1, 1) := dk_4 (dk_at dksX6_told_0 5 rfl rfl)
theorem dX6_told_6 : decode cX6_told 6 = .ok (.iadd, 1) := dk_96 (dk_at dksX6_told_0 6 rfl rfl)
theorem dX6_told_7 : decode cX6_told 7 = .ok (.imul, 1) := dk_104 (dk_at dksX6_told_0 7 rfl rfl)
theorem dX6_told_8 : decode cX6_told 8 = .ok (.iload_n 0, 1) := dk_26 (dk_at dksX6_told_0 8 rfl rfl)
theorem dX6_told_9 : decode cX6_told 9 = .ok (.iconst 2, 1) := dk_5 (dk_at dksX6_told_0 9 rfl rfl)
theorem dX6_told_10 : decode cX6_told 10 = .ok (.irem, 1) := dk_112 (dk_at dksX6_told_0 10 rfl rfl)
theorem dX6_told_11 : decode cX6_told 11 = .ok (.iadd, 1) := dk_96 (dk_at dksX6_told_0 11 rfl rfl)
theorem dX6_told_12 : decode cX6_told 12 = .ok (.ireturn, 1) := dk_172 (dk_at dksX6_told_0 12 rfl rfl)
abbrev cX6_lay : ByteArray := prog_8_method_4_code
def yX6_lay : MethodName := ⟨RX6, "lay", "(LLongerHalf$Bone;LLongerHalf$Person;LLongerHalf$Person;)V"⟩
def dkwX6_lay_6 : List UInt8 := [96, 42, 180, 0, 18, 4, 182, 0, 51, 80, 132, 5, 1, 167, 255, 135, 132, 4, 1, 167, 255, 114, 177]
abbrev dktX6_lay_6 : List UInt8 := dkwX6_lay_6 ++ []
def dkwX6_lay_5 : List UInt8 := [104, 21, 5, 96, 42, 180, 0, 18, 3, 182, 0, 51, 80, 42, 180, 0, 15, 16, 12, 21, 4, 104, 21, 5]
abbrev dktX6_lay_5 : List UInt8 := dkwX6_lay_5 ++ dktX6_lay_6
def dkwX6_lay_4 : List UInt8 := [21, 5, 5, 112, 4, 160, 0, 7, 4, 167, 0, 4, 5, 182, 0, 45, 42, 180, 0, 9, 16, 12, 21, 4]
abbrev dktX6_lay_4 : List UInt8 := dkwX6_lay_4 ++ dktX6_lay_5
def dkwX6_lay_3 : List UInt8 := [21, 4, 5, 112, 4, 160, 0, 19, 21, 5, 5, 112, 4, 160, 0, 7, 6, 167, 0, 20, 3, 167, 0, 16]
abbrev dktX6_lay_3 : List UInt8 := dkwX6_lay_3 ++ dktX6_lay_4
def dkwX6_lay_2 : List UInt8 := [180, 0, 18, 42, 180, 0, 32, 21, 4, 5, 108, 4, 96, 42, 180, 0, 36, 21, 5, 5, 108, 4, 96]
abbrev dktX6_lay_2 : List UInt8 := dkwX6_lay_2 ++ dktX6_lay_3
def dkwX6_lay_1 : List UInt8 := [182, 0, 39, 104, 162, 0, 136, 3, 54, 5, 21, 5, 5, 43, 4, 182, 0, 39, 104, 162, 0, 115, 42]
abbrev dktX6_lay_1 : List UInt8 := dkwX6_lay_1 ++ dktX6_lay_2
def dkwX6_lay_0 : List UInt8 := [42, 43, 181, 0, 28, 42, 44, 181, 0, 32, 42, 45, 181, 0, 36, 3, 54, 4, 21, 4, 5, 43, 3]
abbrev dktX6_lay_0 : List UInt8 := dkwX6_lay_0 ++ dktX6_lay_1
theorem dksX6_lay_0 : cX6_lay.data.toList.drop 0 = dktX6_lay_0 := by decide +kernel
theorem dksX6_lay_1 : cX6_lay.data.toList.drop 23 = dktX6_lay_1 := dk_seg dksX6_lay_0 23 rfl rfl
theorem dksX6_lay_2 : cX6_lay.data.toList.drop 46 = dktX6_lay_2 := dk_seg dksX6_lay_1 23 rfl rfl
theorem dksX6_lay_3 : cX6_lay.data.toList.drop 69 = dktX6_lay_3 := dk_seg dksX6_lay_2 23 rfl rfl
theorem dksX6_lay_4 : cX6_lay.data.toList.drop 93 = dktX6_lay_4 := dk_seg dksX6_lay_3 24 rfl rfl
theorem dksX6_lay_5 : cX6_lay.data.toList.drop 117 = dktX6_lay_5 := dk_seg dksX6_lay_4 24 rfl rfl
theorem dksX6_lay_6 : cX6_lay.data.toList.drop 141 = dktX6_lay_6 := dk_seg dksX6_lay_5 24 rfl rfl
theorem dX6_lay_0 : decode cX6_lay 0 = .ok (.aload_n 0, 1) := dk_42 (dk_at dksX6_lay_0 0 rfl rfl)
theorem dX6_lay_1 : decode cX6_lay 1 = .ok (.aload_n 1, 1) := dk_43 (dk_at dksX6_lay_0 1 rfl rfl)
theorem dX6_lay_2 : decode cX6_lay 2 = .ok (.putfield 28, 3) := dk_181 0 28 (dk_at dksX6_lay_0 2 rfl rfl)
theorem dX6_lay_5 : decode cX6_lay 5 = .ok (.aload_n 0, 1) := dk_42 (dk_at dksX6_lay_0 5 rfl rfl)
theorem dX6_lay_6 : decode cX6_lay 6 = .ok (.aload_n 2, 1) := dk_44 (dk_at dksX6_lay_0 6 rfl rfl)
theorem dX6_lay_7 : decode cX6_lay 7 = .ok (.putfield 32, 3) := dk_181 0 32 (dk_at dksX6_lay_0 7 rfl rfl)
theorem dX6_lay_10 : decode cX6_lay 10 = .ok (.aload_n 0, 1) := dk_42 (dk_at dksX6_lay_0 10 rfl rfl)
theorem dX6_lay_11 : decode cX6_lay 11 = .ok (.aload_n 3, 1) := dk_45 (dk_at dksX6_lay_0 11 rfl rfl)
theorem dX6_lay_12 : decode cX6_lay 12 = .ok (.putfield 36, 3) := dk_181 0 36 (dk_at dksX6_lay_0 12 rfl rfl)
theorem dX6_lay_15 : decode cX6_lay 15 = .ok (.iconst 0, 1) := dk_3 (dk_at dksX6_lay_0 15 rfl rfl)
theorem dX6_lay_16 : decode cX6_lay 16 = .ok (.istore 4, 2) := dk_54 4 (dk_at dksX6_lay_0 16 rfl rfl)
theorem dX6_lay_18 : decode cX6_lay 18 = .ok (.iload 4, 2) := dk_21 4 (dk_at dksX6_lay_0 18 rfl rfl)
theorem dX6_lay_20 : decode cX6_lay 20 = .ok (.iconst 2, 1) := dk_5 (dk_at dksX6_lay_0 20 rfl rfl)
theorem dX6_lay_21 : decode cX6_lay 21 = .ok (.aload_n 1, 1) := dk_43 (dk_at dksX6_lay_0 21 rfl rfl)
theorem dX6_lay_22 : decode cX6_lay 22 = .ok (.iconst 0, 1) := dk_3 (dk_at dksX6_lay_0 22 rfl rfl)
theorem dX6_lay_23 : decode cX6_lay 23 = .ok (.invokevirtual 39, 3) := dk_182 0 39 (dk_at dksX6_lay_1 0 rfl rfl)
theorem dX6_lay_26 : decode cX6_lay 26 = .ok (.imul, 1) := dk_104 (dk_at dksX6_lay_1 3 rfl rfl)
theorem dX6_lay_27 : decode cX6_lay 27 = .ok (.if_icmp .ge 136, 3) := dk_162 0 136 (dk_at dksX6_lay_1 4 rfl rfl)
theorem dX6_lay_30 : decode cX6_lay 30 = .ok (.iconst 0, 1) := dk_3 (dk_at dksX6_lay_1 7 rfl rfl)
theorem dX6_lay_31 : decode cX6_lay 31 = .ok (.istore 5, 2) := dk_54 5 (dk_at dksX6_lay_1 8 rfl rfl)
theorem dX6_lay_33 : decode cX6_lay 33 = .ok (.iload 5, 2) := dk_21 5 (dk_at dksX6_lay_1 10 rfl rfl)
theorem dX6_lay_35 : decode cX6_lay 35 = .ok (.iconst 2, 1) := dk_5 (dk_at dksX6_lay_1 12 rfl rfl)
theorem dX6_lay_36 : decode cX6_lay 36 = .ok (.aload_n 1, 1) := dk_43 (dk_at dksX6_lay_1 13 rfl rfl)
theorem dX6_lay_37 : decode cX6_lay 37 = .ok (.iconst 1, 1) := dk_4 (dk_at dksX6_lay_1 14 rfl rfl)
theorem dX6_lay_38 : decode cX6_lay 38 = .ok (.invokevirtual 39, 3) := dk_182 0 39 (dk_at dksX6_lay_1 15 rfl rfl)
theorem dX6_lay_41 : decode cX6_lay 41 = .ok (.imul, 1) := dk_104 (dk_at dksX6_lay_1 18 rfl rfl)
theorem dX6_lay_42 : decode cX6_lay 42 = .ok (.if_icmp .ge 115, 3) := dk_162 0 115 (dk_at dksX6_lay_1 19 rfl rfl)
theorem dX6_lay_45 : decode cX6_lay 45 = .ok (.aload_n 0, 1) := dk_42 (dk_at dksX6_lay_1 22 rfl rfl)
theorem dX6_lay_46 : decode cX6_lay 46 = .ok (.getfield 18, 3) := dk_180 0 18 (dk_at dksX6_lay_2 0 rfl rfl)
theorem dX6_lay_49 : decode cX6_lay 49 = .ok (.aload_n 0, 1) := dk_42 (dk_at dksX6_lay_2 3 rfl rfl)
theorem dX6_lay_50 : decode cX6_lay 50 = .ok (.getfield 32, 3) := dk_180 0 32 (dk_at dksX6_lay_2 4 rfl rfl)
theorem dX6_lay_53 : decode cX6_lay 53 = .ok (.iload 4, 2) := dk_21 4 (dk_at dksX6_lay_2 7 rfl rfl)
theorem dX6_lay_55 : decode cX6_lay 55 = .ok (.iconst 2, 1) := dk_5 (dk_at dksX6_lay_2 9 rfl rfl)
theorem dX6_lay_56 : decode cX6_lay 56 = .ok (.idiv, 1) := dk_108 (dk_at dksX6_lay_2 10 rfl rfl)
theorem dX6_lay_57 : decode cX6_lay 57 = .ok (.iconst 1, 1) := dk_4 (dk_at dksX6_lay_2 11 rfl rfl)
theorem dX6_lay_58 : decode cX6_lay 58 = .ok (.iadd, 1) := dk_96 (dk_at dksX6_lay_2 12 rfl rfl)
theorem dX6_lay_59 : decode cX6_lay 59 = .ok (.aload_n 0, 1) := dk_42 (dk_at dksX6_lay_2 13 rfl rfl)
theorem dX6_lay_60 : decode cX6_lay 60 = .ok (.getfield 36, 3) := dk_180 0 36 (dk_at dksX6_lay_2 14 rfl rfl)
theorem dX6_lay_63 : decode cX6_lay 63 = .ok (.iload 5, 2) := dk_21 5 (dk_at dksX6_lay_2 17 rfl rfl)
theorem dX6_lay_65 : decode cX6_lay 65 = .ok (.iconst 2, 1) := dk_5 (dk_at dksX6_lay_2 19 rfl rfl)
theorem dX6_lay_66 : decode cX6_lay 66 = .ok (.idiv, 1) := dk_108 (dk_at dksX6_lay_2 20 rfl rfl)
theorem dX6_lay_67 : decode cX6_lay 67 = .ok (.iconst 1, 1) := dk_4 (dk_at dksX6_lay_2 21 rfl rfl)
theorem dX6_lay_68 : decode cX6_lay 68 = .ok (.iadd, 1) := dk_96 (dk_at dksX6_lay_2 22 rfl rfl)
theorem dX6_lay_69 : decode cX6_lay 69 = .ok (.iload 4, 2) := dk_21 4 (dk_at dksX6_lay_3 0 rfl rfl)
theorem dX6_lay_71 : decode cX6_lay 71 = .ok (.iconst 2, 1) := dk_5 (dk_at dksX6_lay_3 2 rfl rfl)
theorem dX6_lay_72 : decode cX6_lay 72 = .ok (.irem, 1) := dk_112 (dk_at dksX6_lay_3 3 rfl rfl)
theorem dX6_lay_73 : decode cX6_lay 73 = .ok (.iconst 1, 1) := dk_4 (dk_at dksX6_lay_3 4 rfl rfl)
theorem dX6_lay_74 : decode cX6_lay 74 = .ok (.if_icmp .ne 19, 3) := dk_160 0 19 (dk_at dksX6_lay_3 5 rfl rfl)
theorem dX6_lay_77 : decode cX6_lay 77 = .ok (.iload 5, 2) := dk_21 5 (dk_at dksX6_lay_3 8 rfl rfl)
theorem dX6_lay_79 : decode cX6_lay 79 = .ok (.iconst 2, 1) := dk_5 (dk_at dksX6_lay_3 10 rfl rfl)
theorem dX6_lay_80 : decode cX6_lay 80 = .ok (.irem, 1) := dk_112 (dk_at dksX6_lay_3 11 rfl rfl)
theorem dX6_lay_81 : decode cX6_lay 81 = .ok (.iconst 1, 1) := dk_4 (dk_at dksX6_lay_3 12 rfl rfl)
theorem dX6_lay_82 : decode cX6_lay 82 = .ok (.if_icmp .ne 7, 3) := dk_160 0 7 (dk_at dksX6_lay_3 13 rfl rfl)
theorem dX6_lay_85 : decode cX6_lay 85 = .ok (.iconst 3, 1) := dk_6 (dk_at dksX6_lay_3 16 rfl rfl)
theorem dX6_lay_86 : decode cX6_lay 86 = .ok (.goto 20, 3) := dk_167 0 20 (dk_at dksX6_lay_3 17 rfl rfl)
theorem dX6_lay_89 : decode cX6_lay 89 = .ok (.iconst 0, 1) := dk_3 (dk_at dksX6_lay_3 20 rfl rfl)
theorem dX6_lay_90 : decode cX6_lay 90 = .ok (.goto 16, 3) := dk_167 0 16 (dk_at dksX6_lay_3 21 rfl rfl)
theorem dX6_lay_93 : decode cX6_lay 93 = .ok (.iload 5, 2) := dk_21 5 (dk_at dksX6_lay_4 0 rfl rfl)
theorem dX6_lay_95 : decode cX6_lay 95 = .ok (.iconst 2, 1) := dk_5 (dk_at dksX6_lay_4 2 rfl rfl)
theorem dX6_lay_96 : decode cX6_lay 96 = .ok (.irem, 1) := dk_112 (dk_at dksX6_lay_4 3 rfl rfl)
theorem dX6_lay_97 : decode cX6_lay 97 = .ok (.iconst 1, 1) := dk_4 (dk_at dksX6_lay_4 4 rfl rfl)
theorem dX6_lay_98 : decode cX6_lay 98 = .ok (.if_icmp .ne 7, 3) := dk_160 0 7 (dk_at dksX6_lay_4 5 rfl rfl)
theorem dX6_lay_101 : decode cX6_lay 101 = .ok (.iconst 1, 1) := dk_4 (dk_at dksX6_lay_4 8 rfl rfl)
theorem dX6_lay_102 : decode cX6_lay 102 = .ok (.goto 4, 3) := dk_167 0 4 (dk_at dksX6_lay_4 9 rfl rfl)
theorem dX6_lay_105 : decode cX6_lay 105 = .ok (.iconst 2, 1) := dk_5 (dk_at dksX6_lay_4 12 rfl rfl)
theorem dX6_lay_106 : decode cX6_lay 106 = .ok (.invokevirtual 45, 3) := dk_182 0 45 (dk_at dksX6_lay_4 13 rfl rfl)
theorem dX6_lay_109 : decode cX6_lay 109 = .ok (.aload_n 0, 1) := dk_42 (dk_at dksX6_lay_4 16 rfl rfl)
theorem dX6_lay_110 : decode cX6_lay 110 = .ok (.getfield 9, 3) := dk_180 0 9 (dk_at dksX6_lay_4 17 rfl rfl)
theorem dX6_lay_113 : decode cX6_lay 113 = .ok (.bipush 12, 2) := dk_16 12 (dk_at dksX6_lay_4 20 rfl rfl)
theorem dX6_lay_115 : decode cX6_lay 115 = .ok (.iload 4, 2) := dk_21 4 (dk_at dksX6_lay_4 22 rfl rfl)
theorem dX6_lay_117 : decode cX6_lay 117 = .ok (.imul, 1) := dk_104 (dk_at dksX6_lay_5 0 rfl rfl)
theorem dX6_lay_118 : decode cX6_lay 118 = .ok (.iload 5, 2) := dk_21 5 (dk_at dksX6_lay_5 1 rfl rfl)
theorem dX6_lay_120 : decode cX6_lay 120 = .ok (.iadd, 1) := dk_96 (dk_at dksX6_lay_5 3 rfl rfl)
theorem dX6_lay_121 : decode cX6_lay 121 = .ok (.aload_n 0, 1) := dk_42 (dk_at dksX6_lay_5 4 rfl rfl)
theorem dX6_lay_122 : decode cX6_lay 122 = .ok (.getfield 18, 3) := dk_180 0 18 (dk_at dksX6_lay_5 5 rfl rfl)
theorem dX6_lay_125 : decode cX6_lay 125 = .ok (.iconst 0, 1) := dk_3 (dk_at dksX6_lay_5 8 rfl rfl)
theorem dX6_lay_126 : decode cX6_lay 126 = .ok (.invokevirtual 51, 3) := dk_182 0 51 (dk_at dksX6_lay_5 9 rfl rfl)
theorem dX6_lay_129 : decode cX6_lay 129 = .ok (.lastore, 1) := dk_80 (dk_at dksX6_lay_5 12 rfl rfl)
theorem dX6_lay_130 : decode cX6_lay 130 = .ok (.aload_n 0, 1) := dk_42 (dk_at dksX6_lay_5 13 rfl rfl)
theorem dX6_lay_131 : decode cX6_lay 131 = .ok (.getfield 15, 3) := dk_180 0 15 (dk_at dksX6_lay_5 14 rfl rfl)
theorem dX6_lay_134 : decode cX6_lay 134 = .ok (.bipush 12, 2) := dk_16 12 (dk_at dksX6_lay_5 17 rfl rfl)
theorem dX6_lay_136 : decode cX6_lay 136 = .ok (.iload 4, 2) := dk_21 4 (dk_at dksX6_lay_5 19 rfl rfl)
theorem dX6_lay_138 : decode cX6_lay 138 = .ok (.imul, 1) := dk_104 (dk_at dksX6_lay_5 21 rfl rfl)
theorem dX6_lay_139 : decode cX6_lay 139 = .ok (.iload 5, 2) := dk_21 5 (dk_at dksX6_lay_5 22 rfl rfl)
theorem dX6_lay_141 : decode cX6_lay 141 = .ok (.iadd, 1) := dk_96 (dk_at dksX6_lay_6 0 rfl rfl)
theorem dX6_lay_142 : decode cX6_lay 142 = .ok (.aload_n 0, 1) := dk_42 (dk_at dksX6_lay_6 1 rfl rfl)
theorem dX6_lay_143 : decode cX6_lay 143 = .ok (.getfield 18, 3) := dk_180 0 18 (dk_at dksX6_lay_6 2 rfl rfl)
theorem dX6_lay_146 : decode cX6_lay 146 = .ok (.iconst 1, 1) := dk_4 (dk_at dksX6_lay_6 5 rfl rfl)
theorem dX6_lay_147 : decode cX6_lay 147 = .ok (.invokevirtual 51, 3) := dk_182 0 51 (dk_at dksX6_lay_6 6 rfl rfl)
theorem dX6_lay_150 : decode cX6_lay 150 = .ok (.lastore, 1) := dk_80 (dk_at dksX6_lay_6 9 rfl rfl)
theorem dX6_lay_151 : decode cX6_lay 151 = .ok (.iinc 5 1, 3) := dk_132 5 1 (dk_at dksX6_lay_6 10 rfl rfl)
theorem dX6_lay_154 : decode cX6_lay 154 = .ok (.goto (-121), 3) := dk_167 255 135 (dk_at dksX6_lay_6 13 rfl rfl)
theorem dX6_lay_157 : decode cX6_lay 157 = .ok (.iinc 4 1, 3) := dk_132 4 1 (dk_at dksX6_lay_6 16 rfl rfl)
theorem dX6_lay_160 : decode cX6_lay 160 = .ok (.goto (-142), 3) := dk_167 255 114 (dk_at dksX6_lay_6 19 rfl rfl)
theorem dX6_lay_163 : decode cX6_lay 163 = .ok (.return_, 1) := dk_177 (dk_at dksX6_lay_6 22 rfl rfl)
abbrev cX6_seekRests : ByteArray := prog_8_method_6_code
def yX6_seekRests : MethodName := ⟨RX6, "seekRests", "()V"⟩
def dkwX6_seekRests_5 : List UInt8 := [132, 1, 1, 167, 255, 150, 177]
abbrev dktX6_seekRests_5 : List UInt8 := dkwX6_seekRests_5 ++ []
def dkwX6_seekRests_4 : List UInt8 := [184, 0, 70, 96, 181, 0, 63, 42, 89, 180, 0, 59, 4, 96, 181, 0, 59, 132, 2, 1, 167, 255, 172]
abbrev dktX6_seekRests_4 : List UInt8 := dkwX6_seekRests_4 ++ dktX6_seekRests_5
def dkwX6_seekRests_3 : List UInt8 := [154, 0, 6, 167, 0, 36, 42, 180, 0, 59, 154, 0, 19, 42, 16, 100, 27, 184, 0, 70, 104, 28]
abbrev dktX6_seekRests_3 : List UInt8 := dkwX6_seekRests_3 ++ dktX6_seekRests_4
def dkwX6_seekRests_2 : List UInt8 := [184, 0, 55, 153, 0, 59, 42, 180, 0, 36, 28, 184, 0, 55, 153, 0, 48, 42, 27, 28, 182, 0, 66]
abbrev dktX6_seekRests_2 : List UInt8 := dkwX6_seekRests_2 ++ dktX6_seekRests_3
def dkwX6_seekRests_1 : List UInt8 := [162, 0, 98, 3, 61, 28, 5, 42, 180, 0, 28, 4, 182, 0, 39, 104, 162, 0, 76, 42, 180, 0, 32, 27]
abbrev dktX6_seekRests_1 : List UInt8 := dkwX6_seekRests_1 ++ dktX6_seekRests_2
def dkwX6_seekRests_0 : List UInt8 := [42, 3, 181, 0, 59, 42, 16, 254, 181, 0, 63, 3, 60, 27, 5, 42, 180, 0, 28, 3, 182, 0, 39, 104]
abbrev dktX6_seekRests_0 : List UInt8 := dkwX6_seekRests_0 ++ dktX6_seekRests_1
theorem dksX6_seekRests_0 : cX6_seekRests.data.toList.drop 0 = dktX6_seekRests_0 := by decide +kernel
theorem dksX6_seekRests_1 : cX6_seekRests.data.toList.drop 24 = dktX6_seekRests_1 := dk_seg dksX6_seekRests_0 24 rfl rfl
theorem dksX6_seekRests_2 : cX6_seekRests.data.toList.drop 48 = dktX6_seekRests_2 := dk_seg dksX6_seekRests_1 24 rfl rfl
theorem dksX6_seekRests_3 : cX6_seekRests.data.toList.drop 71 = dktX6_seekRests_3 := dk_seg dksX6_seekRests_2 23 rfl rfl
theorem dksX6_seekRests_4 : cX6_seekRests.data.toList.drop 93 = dktX6_seekRests_4 := dk_seg dksX6_seekRests_3 22 rfl rfl
theorem dksX6_seekRests_5 : cX6_seekRests.data.toList.drop 116 = dktX6_seekRests_5 := dk_seg dksX6_seekRests_4 23 rfl rfl
theorem dX6_seekRests_0 : decode cX6_seekRests 0 = .ok (.aload_n 0, 1) := dk_42 (dk_at dksX6_seekRests_0 0 rfl rfl)
theorem dX6_seekRests_1 : decode cX6_seekRests 1 = .ok (.iconst 0, 1) := dk_3 (dk_at dksX6_seekRests_0 1 rfl rfl)
theorem dX6_seekRests_2 : decode cX6_seekRests 2 = .ok (.putfield 59, 3) := dk_181 0 59 (dk_at dksX6_seekRests_0 2 rfl rfl)
theorem dX6_seekRests_5 : decode cX6_seekRests 5 = .ok (.aload_n 0, 1) := dk_42 (dk_at dksX6_seekRests_0 5 rfl rfl)
theorem dX6_seekRests_6 : decode cX6_seekRests 6 = .ok (.bipush (-2), 2) := dk_16 254 (dk_at dksX6_seekRests_0 6 rfl rfl)
theorem dX6_seekRests_8 : decode cX6_seekRests 8 = .ok (.putfield 63, 3) := dk_181 0 63 (dk_at dksX6_seekRests_0 8 rfl rfl)
theorem dX6_seekRests_11 : decode cX6_seekRests 11 = .ok (.iconst 0, 1) := dk_3 (dk_at dksX6_seekRests_0 11 rfl rfl)
theorem dX6_seekRests_12 : decode cX6_seekRests 12 = .ok (.istore_n 1, 1) := dk_60 (dk_at dksX6_seekRests_0 12 rfl rfl)
theorem dX6_seekRests_13 : decode cX6_seekRests 13 = .ok (.iload_n 1, 1) := dk_27 (dk_at dksX6_seekRests_0 13 rfl rfl)
theorem dX6_seekRests_14 : decode cX6_seekRests 14 = .ok (.iconst 2, 1) := dk_5 (dk_at dksX6_seekRests_0 14 rfl rfl)
theorem dX6_seekRests_15 : decode cX6_seekRests 15 = .ok (.aload_n 0, 1) := dk_42 (dk_at dksX6_seekRests_0 15 rfl rfl)
theorem dX6_seekRests_16 : decode cX6_seekRests 16 = .ok (.getfield 28, 3) := dk_180 0 28 (dk_at dksX6_seekRests_0 16 rfl rfl)
theorem dX6_seekRests_19 : decode cX6_seekRests 19 = .ok (.iconst 0, 1) := dk_3 (dk_at dksX6_seekRests_0 19 rfl rfl)
theorem dX6_seekRests_20 : decode cX6_seekRests 20 = .ok (.invokevirtual 39, 3) := dk_182 0 39 (dk_at dksX6_seekRests_0 20 rfl rfl)
theorem dX6_seekRests_23 : decode cX6_seekRests 23 = .ok (.imul, 1) := dk_104 (dk_at dksX6_seekRests_0 23 rfl rfl)
theorem dX6_seekRests_24 : decode cX6_seekRests 24 = .ok (.if_icmp .ge 98, 3) := dk_162 0 98 (dk_at dksX6_seekRests_1 0 rfl rfl)
theorem dX6_seekRests_27 : decode cX6_seekRests 27 = .ok (.iconst 0, 1) := dk_3 (dk_at dksX6_seekRests_1 3 rfl rfl)
theorem dX6_seekRests_28 : decode cX6_seekRests 28 = .ok (.istore_n 2, 1) := dk_61 (dk_at dksX6_seekRests_1 4 rfl rfl)
theorem dX6_seekRests_29 : decode cX6_seekRests 29 = .ok (.iload_n 2, 1) := dk_28 (dk_at dksX6_seekRests_1 5 rfl rfl)
theorem dX6_seekRests_30 : decode cX6_seekRests 30 = .ok (.iconst 2, 1) := dk_5 (dk_at dksX6_seekRests_1 6 rfl rfl)
theorem dX6_seekRests_31 : decode cX6_seekRests 31 = .ok (.aload_n 0, 1) := dk_42 (dk_at dksX6_seekRests_1 7 rfl rfl)
theorem dX6_seekRests_32 : decode cX6_seekRests 32 = .ok (.getfield 28, 3) := dk_180 0 28 (dk_at dksX6_seekRests_1 8 rfl rfl)
theorem dX6_seekRests_35 : decode cX6_seekRests 35 = .ok (.iconst 1, 1) := dk_4 (dk_at dksX6_seekRests_1 11 rfl rfl)
theorem dX6_seekRests_36 : decode cX6_seekRests 36 = .ok (.invokevirtual 39, 3) := dk_182 0 39 (dk_at dksX6_seekRests_1 12 rfl rfl)
theorem dX6_seekRests_39 : decode cX6_seekRests 39 = .ok (.imul, 1) := dk_104 (dk_at dksX6_seekRests_1 15 rfl rfl)
theorem dX6_seekRests_40 : decode cX6_seekRests 40 = .ok (.if_icmp .ge 76, 3) := dk_162 0 76 (dk_at dksX6_seekRests_1 16 rfl rfl)
theorem dX6_seekRests_43 : decode cX6_seekRests 43 = .ok (.aload_n 0, 1) := dk_42 (dk_at dksX6_seekRests_1 19 rfl rfl)
theorem dX6_seekRests_44 : decode cX6_seekRests 44 = .ok (.getfield 32, 3) := dk_180 0 32 (dk_at dksX6_seekRests_1 20 rfl rfl)
theorem dX6_seekRests_47 : decode cX6_seekRests 47 = .ok (.iload_n 1, 1) := dk_27 (dk_at dksX6_seekRests_1 23 rfl rfl)
theorem dX6_seekRests_48 : decode cX6_seekRests 48 = .ok (.invokestatic 55, 3) := dk_184 0 55 (dk_at dksX6_seekRests_2 0 rfl rfl)
theorem dX6_seekRests_51 : decode cX6_seekRests 51 = .ok (.ifCond .eq 59, 3) := dk_153 0 59 (dk_at dksX6_seekRests_2 3 rfl rfl)
theorem dX6_seekRests_54 : decode cX6_seekRests 54 = .ok (.aload_n 0, 1) := dk_42 (dk_at dksX6_seekRests_2 6 rfl rfl)
theorem dX6_seekRests_55 : decode cX6_seekRests 55 = .ok (.getfield 36, 3) := dk_180 0 36 (dk_at dksX6_seekRests_2 7 rfl rfl)
theorem dX6_seekRests_58 : decode cX6_seekRests 58 = .ok (.iload_n 2, 1) := dk_28 (dk_at dksX6_seekRests_2 10 rfl rfl)
theorem dX6_seekRests_59 : decode cX6_seekRests 59 = .ok (.invokestatic 55, 3) := dk_184 0 55 (dk_at dksX6_seekRests_2 11 rfl rfl)
theorem dX6_seekRests_62 : decode cX6_seekRests 62 = .ok (.ifCond .eq 48, 3) := dk_153 0 48 (dk_at dksX6_seekRests_2 14 rfl rfl)
theorem dX6_seekRests_65 : decode cX6_seekRests 65 = .ok (.aload_n 0, 1) := dk_42 (dk_at dksX6_seekRests_2 17 rfl rfl)
theorem dX6_seekRests_66 : decode cX6_seekRests 66 = .ok (.iload_n 1, 1) := dk_27 (dk_at dksX6_seekRests_2 18 rfl rfl)
theorem dX6_seekRests_67 : decode cX6_seekRests 67 = .ok (.iload_n 2, 1) := dk_28 (dk_at dksX6_seekRests_2 19 rfl rfl)
theorem dX6_seekRests_68 : decode cX6_seekRests 68 = .ok (.invokevirtual 66, 3) := dk_182 0 66 (dk_at dksX6_seekRests_2 20 rfl rfl)
theorem dX6_seekRests_71 : decode cX6_seekRests 71 = .ok (.ifCond .ne 6, 3) := dk_154 0 6 (dk_at dksX6_seekRests_3 0 rfl rfl)
theorem dX6_seekRests_74 : decode cX6_seekRests 74 = .ok (.goto 36, 3) := dk_167 0 36 (dk_at dksX6_seekRests_3 3 rfl rfl)
theorem dX6_seekRests_77 : decode cX6_seekRests 77 = .ok (.aload_n 0, 1) := dk_42 (dk_at dksX6_seekRests_3 6 rfl rfl)
theorem dX6_seekRests_78 : decode cX6_seekRests 78 = .ok (.getfield 59, 3) := dk_180 0 59 (dk_at dksX6_seekRests_3 7 rfl rfl)
theorem dX6_seekRests_81 : decode cX6_seekRests 81 = .ok (.ifCond .ne 19, 3) := dk_154 0 19 (dk_at dksX6_seekRests_3 10 rfl rfl)
theorem dX6_seekRests_84 : decode cX6_seekRests 84 = .ok (.aload_n 0, 1) := dk_42 (dk_at dksX6_seekRests_3 13 rfl rfl)
theorem dX6_seekRests_85 : decode cX6_seekRests 85 = .ok (.bipush 100, 2) := dk_16 100 (dk_at dksX6_seekRests_3 14 rfl rfl)
theorem dX6_seekRests_87 : decode cX6_seekRests 87 = .ok (.iload_n 1, 1) := dk_27 (dk_at dksX6_seekRests_3 16 rfl rfl)
theorem dX6_seekRests_88 : decode cX6_seekRests 88 = .ok (.invokestatic 70, 3) := dk_184 0 70 (dk_at dksX6_seekRests_3 17 rfl rfl)
theorem dX6_seekRests_91 : decode cX6_seekRests 91 = .ok (.imul, 1) := dk_104 (dk_at dksX6_seekRests_3 20 rfl rfl)
theorem dX6_seekRests_92 : decode cX6_seekRests 92 = .ok (.iload_n 2, 1) := dk_28 (dk_at dksX6_seekRests_3 21 rfl rfl)
theorem dX6_seekRests_93 : decode cX6_seekRests 93 = .ok (.invokestatic 70, 3) := dk_184 0 70 (dk_at dksX6_seekRests_4 0 rfl rfl)
theorem dX6_seekRests_96 : decode cX6_seekRests 96 = .ok (.iadd, 1) := dk_96 (dk_at dksX6_seekRests_4 3 rfl rfl)
theorem dX6_seekRests_97 : decode cX6_seekRests 97 = .ok (.putfield 63, 3) := dk_181 0 63 (dk_at dksX6_seekRests_4 4 rfl rfl)
theorem dX6_seekRests_100 : decode cX6_seekRests 100 = .ok (.aload_n 0, 1) := dk_42 (dk_at dksX6_seekRests_4 7 rfl rfl)
theorem dX6_seekRests_101 : decode cX6_seekRests 101 = .ok (.dup, 1) := dk_89 (dk_at dksX6_seekRests_4 8 rfl rfl)
theorem dX6_seekRests_102 : decode cX6_seekRests 102 = .ok (.getfield 59, 3) := dk_180 0 59 (dk_at dksX6_seekRests_4 9 rfl rfl)
theorem dX6_seekRests_105 : decode cX6_seekRests 105 = .ok (.iconst 1, 1) := dk_4 (dk_at dksX6_seekRests_4 12 rfl rfl)
theorem dX6_seekRests_106 : decode cX6_seekRests 106 = .ok (.iadd, 1) := dk_96 (dk_at dksX6_seekRests_4 13 rfl rfl)
theorem dX6_seekRests_107 : decode cX6_seekRests 107 = .ok (.putfield 59, 3) := dk_181 0 59 (dk_at dksX6_seekRests_4 14 rfl rfl)
theorem dX6_seekRests_110 : decode cX6_seekRests 110 = .ok (.iinc 2 1, 3) := dk_132 2 1 (dk_at dksX6_seekRests_4 17 rfl rfl)
theorem dX6_seekRests_113 : decode cX6_seekRests 113 = .ok (.goto (-84), 3) := dk_167 255 172 (dk_at dksX6_seekRests_4 20 rfl rfl)
theorem dX6_seekRests_116 : decode cX6_seekRests 116 = .ok (.iinc 1 1, 3) := dk_132 1 1 (dk_at dksX6_seekRests_5 0 rfl rfl)
theorem dX6_seekRests_119 : decode cX6_seekRests 119 = .ok (.goto (-106), 3) := dk_167 255 150 (dk_at dksX6_seekRests_5 3 rfl rfl)
theorem dX6_seekRests_122 : decode cX6_seekRests 122 = .ok (.return_, 1) := dk_177 (dk_at dksX6_seekRests_5 6 rfl rfl)
abbrev cX6_isRest : ByteArray := prog_8_method_5_code
def yX6_isRest : MethodName := ⟨RX6, "isRest", "(II)Z"⟩
def dkwX6_isRest_6 : List UInt8 := [62, 132, 4, 1, 167, 255, 189, 29, 172]
abbrev dktX6_isRest_6 : List UInt8 := dkwX6_isRest_6 ++ []
def dkwX6_isRest_5 : List UInt8 := [21, 4, 96, 47, 42, 180, 0, 15, 16, 12, 27, 104, 28, 96, 47, 148, 157, 0, 7, 4, 167, 0, 4, 3]
abbrev dktX6_isRest_5 : List UInt8 := dkwX6_isRest_5 ++ dktX6_isRest_6
def dkwX6_isRest_4 : List UInt8 := [153, 0, 46, 42, 180, 0, 36, 21, 4, 184, 0, 55, 153, 0, 30, 42, 180, 0, 15, 16, 12, 27, 104]
abbrev dktX6_isRest_4 : List UInt8 := dkwX6_isRest_4 ++ dktX6_isRest_5
def dkwX6_isRest_3 : List UInt8 := [167, 255, 189, 3, 54, 4, 21, 4, 5, 42, 180, 0, 28, 4, 182, 0, 39, 104, 162, 0, 58, 29]
abbrev dktX6_isRest_3 : List UInt8 := dkwX6_isRest_3 ++ dktX6_isRest_4
def dkwX6_isRest_2 : List UInt8 := [42, 180, 0, 9, 16, 12, 27, 104, 28, 96, 47, 148, 157, 0, 7, 4, 167, 0, 4, 3, 62, 132, 4, 1]
abbrev dktX6_isRest_2 : List UInt8 := dkwX6_isRest_2 ++ dktX6_isRest_3
def dkwX6_isRest_1 : List UInt8 := [42, 180, 0, 32, 21, 4, 184, 0, 55, 153, 0, 30, 42, 180, 0, 9, 16, 12, 21, 4, 104, 28, 96, 47]
abbrev dktX6_isRest_1 : List UInt8 := dkwX6_isRest_1 ++ dktX6_isRest_2
def dkwX6_isRest_0 : List UInt8 := [4, 62, 3, 54, 4, 21, 4, 5, 42, 180, 0, 28, 3, 182, 0, 39, 104, 162, 0, 58, 29, 153, 0, 46]
abbrev dktX6_isRest_0 : List UInt8 := dkwX6_isRest_0 ++ dktX6_isRest_1
theorem dksX6_isRest_0 : cX6_isRest.data.toList.drop 0 = dktX6_isRest_0 := by decide +kernel
theorem dksX6_isRest_1 : cX6_isRest.data.toList.drop 24 = dktX6_isRest_1 := dk_seg dksX6_isRest_0 24 rfl rfl
theorem dksX6_isRest_2 : cX6_isRest.data.toList.drop 48 = dktX6_isRest_2 := dk_seg dksX6_isRest_1 24 rfl rfl
theorem dksX6_isRest_3 : cX6_isRest.data.toList.drop 72 = dktX6_isRest_3 := dk_seg dksX6_isRest_2 24 rfl rfl
theorem dksX6_isRest_4 : cX6_isRest.data.toList.drop 94 = dktX6_isRest_4 := dk_seg dksX6_isRest_3 22 rfl rfl
theorem dksX6_isRest_5 : cX6_isRest.data.toList.drop 117 = dktX6_isRest_5 := dk_seg dksX6_isRest_4 23 rfl rfl
theorem dksX6_isRest_6 : cX6_isRest.data.toList.drop 141 = dktX6_isRest_6 := dk_seg dksX6_isRest_5 24 rfl rfl
theorem dX6_isRest_0 : decode cX6_isRest 0 = .ok (.iconst 1, 1) := dk_4 (dk_at dksX6_isRest_0 0 rfl rfl)
theorem dX6_isRest_1 : decode cX6_isRest 1 = .ok (.istore_n 3, 1) := dk_62 (dk_at dksX6_isRest_0 1 rfl rfl)
theorem dX6_isRest_2 : decode cX6_isRest 2 = .ok (.iconst 0, 1) := dk_3 (dk_at dksX6_isRest_0 2 rfl rfl)
theorem dX6_isRest_3 : decode cX6_isRest 3 = .ok (.istore 4, 2) := dk_54 4 (dk_at dksX6_isRest_0 3 rfl rfl)
theorem dX6_isRest_5 : decode cX6_isRest 5 = .ok (.iload 4, 2) := dk_21 4 (dk_at dksX6_isRest_0 5 rfl rfl)
theorem dX6_isRest_7 : decode cX6_isRest 7 = .ok (.iconst 2, 1) := dk_5 (dk_at dksX6_isRest_0 7 rfl rfl)
theorem dX6_isRest_8 : decode cX6_isRest 8 = .ok (.aload_n 0, 1) := dk_42 (dk_at dksX6_isRest_0 8 rfl rfl)
theorem dX6_isRest_9 : decode cX6_isRest 9 = .ok (.getfield 28, 3) := dk_180 0 28 (dk_at dksX6_isRest_0 9 rfl rfl)
theorem dX6_isRest_12 : decode cX6_isRest 12 = .ok (.iconst 0, 1) := dk_3 (dk_at dksX6_isRest_0 12 rfl rfl)
theorem dX6_isRest_13 : decode cX6_isRest 13 = .ok (.invokevirtual 39, 3) := dk_182 0 39 (dk_at dksX6_isRest_0 13 rfl rfl)
theorem dX6_isRest_16 : decode cX6_isRest 16 = .ok (.imul, 1) := dk_104 (dk_at dksX6_isRest_0 16 rfl rfl)
theorem dX6_isRest_17 : decode cX6_isRest 17 = .ok (.if_icmp .ge 58, 3) := dk_162 0 58 (dk_at dksX6_isRest_0 17 rfl rfl)
theorem dX6_isRest_20 : decode cX6_isRest 20 = .ok (.iload_n 3, 1) := dk_29 (dk_at dksX6_isRest_0 20 rfl rfl)
theorem dX6_isRest_21 : decode cX6_isRest 21 = .ok (.ifCond .eq 46, 3) := dk_153 0 46 (dk_at dksX6_isRest_0 21 rfl rfl)
theorem dX6_isRest_24 : decode cX6_isRest 24 = .ok (.aload_n 0, 1) := dk_42 (dk_at dksX6_isRest_1 0 rfl rfl)
theorem dX6_isRest_25 : decode cX6_isRest 25 = .ok (.getfield 32, 3) := dk_180 0 32 (dk_at dksX6_isRest_1 1 rfl rfl)
theorem dX6_isRest_28 : decode cX6_isRest 28 = .ok (.iload 4, 2) := dk_21 4 (dk_at dksX6_isRest_1 4 rfl rfl)
theorem dX6_isRest_30 : decode cX6_isRest 30 = .ok (.invokestatic 55, 3) := dk_184 0 55 (dk_at dksX6_isRest_1 6 rfl rfl)
theorem dX6_isRest_33 : decode cX6_isRest 33 = .ok (.ifCond .eq 30, 3) := dk_153 0 30 (dk_at dksX6_isRest_1 9 rfl rfl)
theorem dX6_isRest_36 : decode cX6_isRest 36 = .ok (.aload_n 0, 1) := dk_42 (dk_at dksX6_isRest_1 12 rfl rfl)
theorem dX6_isRest_37 : decode cX6_isRest 37 = .ok (.getfield 9, 3) := dk_180 0 9 (dk_at dksX6_isRest_1 13 rfl rfl)
theorem dX6_isRest_40 : decode cX6_isRest 40 = .ok (.bipush 12, 2) := dk_16 12 (dk_at dksX6_isRest_1 16 rfl rfl)
theorem dX6_isRest_42 : decode cX6_isRest 42 = .ok (.iload 4, 2) := dk_21 4 (dk_at dksX6_isRest_1 18 rfl rfl)
theorem dX6_isRest_44 : decode cX6_isRest 44 = .ok (.imul, 1) := dk_104 (dk_at dksX6_isRest_1 20 rfl rfl)
theorem dX6_isRest_45 : decode cX6_isRest 45 = .ok (.iload_n 2, 1) := dk_28 (dk_at dksX6_isRest_1 21 rfl rfl)
theorem dX6_isRest_46 : decode cX6_isRest 46 = .ok (.iadd, 1) := dk_96 (dk_at dksX6_isRest_1 22 rfl rfl)
theorem dX6_isRest_47 : decode cX6_isRest 47 = .ok (.laload, 1) := dk_47 (dk_at dksX6_isRest_1 23 rfl rfl)
theorem dX6_isRest_48 : decode cX6_isRest 48 = .ok (.aload_n 0, 1) := dk_42 (dk_at dksX6_isRest_2 0 rfl rfl)
theorem dX6_isRest_49 : decode cX6_isRest 49 = .ok (.getfield 9, 3) := dk_180 0 9 (dk_at dksX6_isRest_2 1 rfl rfl)
theorem dX6_isRest_52 : decode cX6_isRest 52 = .ok (.bipush 12, 2) := dk_16 12 (dk_at dksX6_isRest_2 4 rfl rfl)
theorem dX6_isRest_54 : decode cX6_isRest 54 = .ok (.iload_n 1, 1) := dk_27 (dk_at dksX6_isRest_2 6 rfl rfl)
theorem dX6_isRest_55 : decode cX6_isRest 55 = .ok (.imul, 1) := dk_104 (dk_at dksX6_isRest_2 7 rfl rfl)
theorem dX6_isRest_56 : decode cX6_isRest 56 = .ok (.iload_n 2, 1) := dk_28 (dk_at dksX6_isRest_2 8 rfl rfl)
theorem dX6_isRest_57 : decode cX6_isRest 57 = .ok (.iadd, 1) := dk_96 (dk_at dksX6_isRest_2 9 rfl rfl)
theorem dX6_isRest_58 : decode cX6_isRest 58 = .ok (.laload, 1) := dk_47 (dk_at dksX6_isRest_2 10 rfl rfl)
theorem dX6_isRest_59 : decode cX6_isRest 59 = .ok (.lcmp, 1) := dk_148 (dk_at dksX6_isRest_2 11 rfl rfl)
theorem dX6_isRest_60 : decode cX6_isRest 60 = .ok (.ifCond .gt 7, 3) := dk_157 0 7 (dk_at dksX6_isRest_2 12 rfl rfl)
theorem dX6_isRest_63 : decode cX6_isRest 63 = .ok (.iconst 1, 1) := dk_4 (dk_at dksX6_isRest_2 15 rfl rfl)
theorem dX6_isRest_64 : decode cX6_isRest 64 = .ok (.goto 4, 3) := dk_167 0 4 (dk_at dksX6_isRest_2 16 rfl rfl)
theorem dX6_isRest_67 : decode cX6_isRest 67 = .ok (.iconst 0, 1) := dk_3 (dk_at dksX6_isRest_2 19 rfl rfl)
theorem dX6_isRest_68 : decode cX6_isRest 68 = .ok (.istore_n 3, 1) := dk_62 (dk_at dksX6_isRest_2 20 rfl rfl)
theorem dX6_isRest_69 : decode cX6_isRest 69 = .ok (.iinc 4 1, 3) := dk_132 4 1 (dk_at dksX6_isRest_2 21 rfl rfl)
theorem dX6_isRest_72 : decode cX6_isRest 72 = .ok (.goto (-67), 3) := dk_167 255 189 (dk_at dksX6_isRest_3 0 rfl rfl)
theorem dX6_isRest_75 : decode cX6_isRest 75 = .ok (.iconst 0, 1) := dk_3 (dk_at dksX6_isRest_3 3 rfl rfl)
theorem dX6_isRest_76 : decode cX6_isRest 76 = .ok (.istore 4, 2) := dk_54 4 (dk_at dksX6_isRest_3 4 rfl rfl)
theorem dX6_isRest_78 : decode cX6_isRest 78 = .ok (.iload 4, 2) := dk_21 4 (dk_at dksX6_isRest_3 6 rfl rfl)
theorem dX6_isRest_80 : decode cX6_isRest 80 = .ok (.iconst 2, 1) := dk_5 (dk_at dksX6_isRest_3 8 rfl rfl)
theorem dX6_isRest_81 : decode cX6_isRest 81 = .ok (.aload_n 0, 1) := dk_42 (dk_at dksX6_isRest_3 9 rfl rfl)
theorem dX6_isRest_82 : decode cX6_isRest 82 = .ok (.getfield 28, 3) := dk_180 0 28 (dk_at dksX6_isRest_3 10 rfl rfl)
theorem dX6_isRest_85 : decode cX6_isRest 85 = .ok (.iconst 1, 1) := dk_4 (dk_at dksX6_isRest_3 13 rfl rfl)
theorem dX6_isRest_86 : decode cX6_isRest 86 = .ok (.invokevirtual 39, 3) := dk_182 0 39 (dk_at dksX6_isRest_3 14 rfl rfl)
theorem dX6_isRest_89 : decode cX6_isRest 89 = .ok (.imul, 1) := dk_104 (dk_at dksX6_isRest_3 17 rfl rfl)
theorem dX6_isRest_90 : decode cX6_isRest 90 = .ok (.if_icmp .ge 58, 3) := dk_162 0 58 (dk_at dksX6_isRest_3 18 rfl rfl)
theorem dX6_isRest_93 : decode cX6_isRest 93 = .ok (.iload_n 3, 1) := dk_29 (dk_at dksX6_isRest_3 21 rfl rfl)
theorem dX6_isRest_94 : decode cX6_isRest 94 = .ok (.ifCond .eq 46, 3) := dk_153 0 46 (dk_at dksX6_isRest_4 0 rfl rfl)
theorem dX6_isRest_97 : decode cX6_isRest 97 = .ok (.aload_n 0, 1) := dk_42 (dk_at dksX6_isRest_4 3 rfl rfl)
theorem dX6_isRest_98 : decode cX6_isRest 98 = .ok (.getfield 36, 3) := dk_180 0 36 (dk_at dksX6_isRest_4 4 rfl rfl)
theorem dX6_isRest_101 : decode cX6_isRest 101 = .ok (.iload 4, 2) := dk_21 4 (dk_at dksX6_isRest_4 7 rfl rfl)
theorem dX6_isRest_103 : decode cX6_isRest 103 = .ok (.invokestatic 55, 3) := dk_184 0 55 (dk_at dksX6_isRest_4 9 rfl rfl)
theorem dX6_isRest_106 : decode cX6_isRest 106 = .ok (.ifCond .eq 30, 3) := dk_153 0 30 (dk_at dksX6_isRest_4 12 rfl rfl)
theorem dX6_isRest_109 : decode cX6_isRest 109 = .ok (.aload_n 0, 1) := dk_42 (dk_at dksX6_isRest_4 15 rfl rfl)
theorem dX6_isRest_110 : decode cX6_isRest 110 = .ok (.getfield 15, 3) := dk_180 0 15 (dk_at dksX6_isRest_4 16 rfl rfl)
theorem dX6_isRest_113 : decode cX6_isRest 113 = .ok (.bipush 12, 2) := dk_16 12 (dk_at dksX6_isRest_4 19 rfl rfl)
theorem dX6_isRest_115 : decode cX6_isRest 115 = .ok (.iload_n 1, 1) := dk_27 (dk_at dksX6_isRest_4 21 rfl rfl)
theorem dX6_isRest_116 : decode cX6_isRest 116 = .ok (.imul, 1) := dk_104 (dk_at dksX6_isRest_4 22 rfl rfl)
theorem dX6_isRest_117 : decode cX6_isRest 117 = .ok (.iload 4, 2) := dk_21 4 (dk_at dksX6_isRest_5 0 rfl rfl)
theorem dX6_isRest_119 : decode cX6_isRest 119 = .ok (.iadd, 1) := dk_96 (dk_at dksX6_isRest_5 2 rfl rfl)
theorem dX6_isRest_120 : decode cX6_isRest 120 = .ok (.laload, 1) := dk_47 (dk_at dksX6_isRest_5 3 rfl rfl)
theorem dX6_isRest_121 : decode cX6_isRest 121 = .ok (.aload_n 0, 1) := dk_42 (dk_at dksX6_isRest_5 4 rfl rfl)
theorem dX6_isRest_122 : decode cX6_isRest 122 = .ok (.getfield 15, 3) := dk_180 0 15 (dk_at dksX6_isRest_5 5 rfl rfl)
theorem dX6_isRest_125 : decode cX6_isRest 125 = .ok (.bipush 12, 2) := dk_16 12 (dk_at dksX6_isRest_5 8 rfl rfl)
theorem dX6_isRest_127 : decode cX6_isRest 127 = .ok (.iload_n 1, 1) := dk_27 (dk_at dksX6_isRest_5 10 rfl rfl)
theorem dX6_isRest_128 : decode cX6_isRest 128 = .ok (.imul, 1) := dk_104 (dk_at dksX6_isRest_5 11 rfl rfl)
theorem dX6_isRest_129 : decode cX6_isRest 129 = .ok (.iload_n 2, 1) := dk_28 (dk_at dksX6_isRest_5 12 rfl rfl)
theorem dX6_isRest_130 : decode cX6_isRest 130 = .ok (.iadd, 1) := dk_96 (dk_at dksX6_isRest_5 13 rfl rfl)
theorem dX6_isRest_131 : decode cX6_isRest 131 = .ok (.laload, 1) := dk_47 (dk_at dksX6_isRest_5 14 rfl rfl)
theorem dX6_isRest_132 : decode cX6_isRest 132 = .ok (.lcmp, 1) := dk_148 (dk_at dksX6_isRest_5 15 rfl rfl)
theorem dX6_isRest_133 : decode cX6_isRest 133 = .ok (.ifCond .gt 7, 3) := dk_157 0 7 (dk_at dksX6_isRest_5 16 rfl rfl)
theorem dX6_isRest_136 : decode cX6_isRest 136 = .ok (.iconst 1, 1) := dk_4 (dk_at dksX6_isRest_5 19 rfl rfl)
theorem dX6_isRest_137 : decode cX6_isRest 137 = .ok (.goto 4, 3) := dk_167 0 4 (dk_at dksX6_isRest_5 20 rfl rfl)
theorem dX6_isRest_140 : decode cX6_isRest 140 = .ok (.iconst 0, 1) := dk_3 (dk_at dksX6_isRest_5 23 rfl rfl)
theorem dX6_isRest_141 : decode cX6_isRest 141 = .ok (.istore_n 3, 1) := dk_62 (dk_at dksX6_isRest_6 0 rfl rfl)
theorem dX6_isRest_142 : decode cX6_isRest 142 = .ok (.iinc 4 1, 3) := dk_132 4 1 (dk_at dksX6_isRest_6 1 rfl rfl)
theorem dX6_isRest_145 : decode cX6_isRest 145 = .ok (.goto (-67), 3) := dk_167 255 189 (dk_at dksX6_isRest_6 4 rfl rfl)
theorem dX6_isRest_148 : decode cX6_isRest 148 = .ok (.iload_n 3, 1) := dk_29 (dk_at dksX6_isRest_6 7 rfl rfl)
theorem dX6_isRest_149 : decode cX6_isRest 149 = .ok (.ireturn, 1) := dk_172 (dk_at dksX6_isRest_6 8 rfl rfl)
abbrev cX6_sure : ByteArray := prog_8_method_7_code
def yX6_sure : MethodName := ⟨RX6, "sure", "()J"⟩
def dkwX6_sure_4 : List UInt8 := [22, 4, 184, 0, 85, 64, 132, 3, 1, 167, 255, 161, 31, 173]
abbrev dktX6_sure_4 : List UInt8 := dkwX6_sure_4 ++ []
def dkwX6_sure_3 : List UInt8 := [184, 0, 79, 55, 4, 132, 6, 1, 167, 255, 207, 42, 180, 0, 32, 29, 184, 0, 55, 153, 0, 10, 31]
abbrev dktX6_sure_3 : List UInt8 := dkwX6_sure_3 ++ dktX6_sure_4
def dkwX6_sure_2 : List UInt8 := [21, 6, 184, 0, 55, 153, 0, 22, 22, 4, 42, 180, 0, 9, 16, 12, 29, 104, 21, 6, 96, 47]
abbrev dktX6_sure_2 : List UInt8 := dkwX6_sure_2 ++ dktX6_sure_3
def dkwX6_sure_1 : List UInt8 := [55, 4, 3, 54, 6, 21, 6, 5, 42, 180, 0, 28, 4, 182, 0, 39, 104, 162, 0, 40, 42, 180, 0, 36]
abbrev dktX6_sure_1 : List UInt8 := dkwX6_sure_1 ++ dktX6_sure_2
def dkwX6_sure_0 : List UInt8 := [20, 0, 73, 64, 3, 62, 29, 5, 42, 180, 0, 28, 3, 182, 0, 39, 104, 162, 0, 87, 20, 0, 77]
abbrev dktX6_sure_0 : List UInt8 := dkwX6_sure_0 ++ dktX6_sure_1
theorem dksX6_sure_0 : cX6_sure.data.toList.drop 0 = dktX6_sure_0 := by decide +kernel
theorem dksX6_sure_1 : cX6_sure.data.toList.drop 23 = dktX6_sure_1 := dk_seg dksX6_sure_0 23 rfl rfl
theorem dksX6_sure_2 : cX6_sure.data.toList.drop 47 = dktX6_sure_2 := dk_seg dksX6_sure_1 24 rfl rfl
theorem dksX6_sure_3 : cX6_sure.data.toList.drop 69 = dktX6_sure_3 := dk_seg dksX6_sure_2 22 rfl rfl
theorem dksX6_sure_4 : cX6_sure.data.toList.drop 92 = dktX6_sure_4 := dk_seg dksX6_sure_3 23 rfl rfl
theorem dX6_sure_0 : decode cX6_sure 0 = .ok (.ldc2_w 73, 3) := dk_20 0 73 (dk_at dksX6_sure_0 0 rfl rfl)
theorem dX6_sure_3 : decode cX6_sure 3 = .ok (.lstore_n 1, 1) := dk_64 (dk_at dksX6_sure_0 3 rfl rfl)
theorem dX6_sure_4 : decode cX6_sure 4 = .ok (.iconst 0, 1) := dk_3 (dk_at dksX6_sure_0 4 rfl rfl)
theorem dX6_sure_5 : decode cX6_sure 5 = .ok (.istore_n 3, 1) := dk_62 (dk_at dksX6_sure_0 5 rfl rfl)
theorem dX6_sure_6 : decode cX6_sure 6 = .ok (.iload_n 3, 1) := dk_29 (dk_at dksX6_sure_0 6 rfl rfl)
theorem dX6_sure_7 : decode cX6_sure 7 = .ok (.iconst 2, 1) := dk_5 (dk_at dksX6_sure_0 7 rfl rfl)
theorem dX6_sure_8 : decode cX6_sure 8 = .ok (.aload_n 0, 1) := dk_42 (dk_at dksX6_sure_0 8 rfl rfl)
theorem dX6_sure_9 : decode cX6_sure 9 = .ok (.getfield 28, 3) := dk_180 0 28 (dk_at dksX6_sure_0 9 rfl rfl)
theorem dX6_sure_12 : decode cX6_sure 12 = .ok (.iconst 0, 1) := dk_3 (dk_at dksX6_sure_0 12 rfl rfl)
theorem dX6_sure_13 : decode cX6_sure 13 = .ok (.invokevirtual 39, 3) := dk_182 0 39 (dk_at dksX6_sure_0 13 rfl rfl)
theorem dX6_sure_16 : decode cX6_sure 16 = .ok (.imul, 1) := dk_104 (dk_at dksX6_sure_0 16 rfl rfl)
theorem dX6_sure_17 : decode cX6_sure 17 = .ok (.if_icmp .ge 87, 3) := dk_162 0 87 (dk_at dksX6_sure_0 17 rfl rfl)
theorem dX6_sure_20 : decode cX6_sure 20 = .ok (.ldc2_w 77, 3) := dk_20 0 77 (dk_at dksX6_sure_0 20 rfl rfl)
theorem dX6_sure_23 : decode cX6_sure 23 = .ok (.lstore 4, 2) := dk_55 4 (dk_at dksX6_sure_1 0 rfl rfl)
theorem dX6_sure_25 : decode cX6_sure 25 = .ok (.iconst 0, 1) := dk_3 (dk_at dksX6_sure_1 2 rfl rfl)
theorem dX6_sure_26 : decode cX6_sure 26 = .ok (.istore 6, 2) := dk_54 6 (dk_at dksX6_sure_1 3 rfl rfl)
theorem dX6_sure_28 : decode cX6_sure 28 = .ok (.iload 6, 2) := dk_21 6 (dk_at dksX6_sure_1 5 rfl rfl)
theorem dX6_sure_30 : decode cX6_sure 30 = .ok (.iconst 2, 1) := dk_5 (dk_at dksX6_sure_1 7 rfl rfl)
theorem dX6_sure_31 : decode cX6_sure 31 = .ok (.aload_n 0, 1) := dk_42 (dk_at dksX6_sure_1 8 rfl rfl)
theorem dX6_sure_32 : decode cX6_sure 32 = .ok (.getfield 28, 3) := dk_180 0 28 (dk_at dksX6_sure_1 9 rfl rfl)
theorem dX6_sure_35 : decode cX6_sure 35 = .ok (.iconst 1, 1) := dk_4 (dk_at dksX6_sure_1 12 rfl rfl)
theorem dX6_sure_36 : decode cX6_sure 36 = .ok (.invokevirtual 39, 3) := dk_182 0 39 (dk_at dksX6_sure_1 13 rfl rfl)
theorem dX6_sure_39 : decode cX6_sure 39 = .ok (.imul, 1) := dk_104 (dk_at dksX6_sure_1 16 rfl rfl)
theorem dX6_sure_40 : decode cX6_sure 40 = .ok (.if_icmp .ge 40, 3) := dk_162 0 40 (dk_at dksX6_sure_1 17 rfl rfl)
theorem dX6_sure_43 : decode cX6_sure 43 = .ok (.aload_n 0, 1) := dk_42 (dk_at dksX6_sure_1 20 rfl rfl)
theorem dX6_sure_44 : decode cX6_sure 44 = .ok (.getfield 36, 3) := dk_180 0 36 (dk_at dksX6_sure_1 21 rfl rfl)
theorem dX6_sure_47 : decode cX6_sure 47 = .ok (.iload 6, 2) := dk_21 6 (dk_at dksX6_sure_2 0 rfl rfl)
theorem dX6_sure_49 : decode cX6_sure 49 = .ok (.invokestatic 55, 3) := dk_184 0 55 (dk_at dksX6_sure_2 2 rfl rfl)
theorem dX6_sure_52 : decode cX6_sure 52 = .ok (.ifCond .eq 22, 3) := dk_153 0 22 (dk_at dksX6_sure_2 5 rfl rfl)
theorem dX6_sure_55 : decode cX6_sure 55 = .ok (.lload 4, 2) := dk_22 4 (dk_at dksX6_sure_2 8 rfl rfl)
theorem dX6_sure_57 : decode cX6_sure 57 = .ok (.aload_n 0, 1) := dk_42 (dk_at dksX6_sure_2 10 rfl rfl)
theorem dX6_sure_58 : decode cX6_sure 58 = .ok (.getfield 9, 3) := dk_180 0 9 (dk_at dksX6_sure_2 11 rfl rfl)
theorem dX6_sure_61 : decode cX6_sure 61 = .ok (.bipush 12, 2) := dk_16 12 (dk_at dksX6_sure_2 14 rfl rfl)
theorem dX6_sure_63 : decode cX6_sure 63 = .ok (.iload_n 3, 1) := dk_29 (dk_at dksX6_sure_2 16 rfl rfl)
theorem dX6_sure_64 : decode cX6_sure 64 = .ok (.imul, 1) := dk_104 (dk_at dksX6_sure_2 17 rfl rfl)
theorem dX6_sure_65 : decode cX6_sure 65 = .ok (.iload 6, 2) := dk_21 6 (dk_at dksX6_sure_2 18 rfl rfl)
theorem dX6_sure_67 : decode cX6_sure 67 = .ok (.iadd, 1) := dk_96 (dk_at dksX6_sure_2 20 rfl rfl)
theorem dX6_sure_68 : decode cX6_sure 68 = .ok (.laload, 1) := dk_47 (dk_at dksX6_sure_2 21 rfl rfl)
theorem dX6_sure_69 : decode cX6_sure 69 = .ok (.invokestatic 79, 3) := dk_184 0 79 (dk_at dksX6_sure_3 0 rfl rfl)
theorem dX6_sure_72 : decode cX6_sure 72 = .ok (.lstore 4, 2) := dk_55 4 (dk_at dksX6_sure_3 3 rfl rfl)
theorem dX6_sure_74 : decode cX6_sure 74 = .ok (.iinc 6 1, 3) := dk_132 6 1 (dk_at dksX6_sure_3 5 rfl rfl)
theorem dX6_sure_77 : decode cX6_sure 77 = .ok (.goto (-49), 3) := dk_167 255 207 (dk_at dksX6_sure_3 8 rfl rfl)
theorem dX6_sure_80 : decode cX6_sure 80 = .ok (.aload_n 0, 1) := dk_42 (dk_at dksX6_sure_3 11 rfl rfl)
theorem dX6_sure_81 : decode cX6_sure 81 = .ok (.getfield 32, 3) := dk_180 0 32 (dk_at dksX6_sure_3 12 rfl rfl)
theorem dX6_sure_84 : decode cX6_sure 84 = .ok (.iload_n 3, 1) := dk_29 (dk_at dksX6_sure_3 15 rfl rfl)
theorem dX6_sure_85 : decode cX6_sure 85 = .ok (.invokestatic 55, 3) := dk_184 0 55 (dk_at dksX6_sure_3 16 rfl rfl)
theorem dX6_sure_88 : decode cX6_sure 88 = .ok (.ifCond .eq 10, 3) := dk_153 0 10 (dk_at dksX6_sure_3 19 rfl rfl)
theorem dX6_sure_91 : decode cX6_sure 91 = .ok (.lload_n 1, 1) := dk_31 (dk_at dksX6_sure_3 22 rfl rfl)
theorem dX6_sure_92 : decode cX6_sure 92 = .ok (.lload 4, 2) := dk_22 4 (dk_at dksX6_sure_4 0 rfl rfl)
theorem dX6_sure_94 : decode cX6_sure 94 = .ok (.invokestatic 85, 3) := dk_184 0 85 (dk_at dksX6_sure_4 2 rfl rfl)
theorem dX6_sure_97 : decode cX6_sure 97 = .ok (.lstore_n 1, 1) := dk_64 (dk_at dksX6_sure_4 5 rfl rfl)
theorem dX6_sure_98 : decode cX6_sure 98 = .ok (.iinc 3 1, 3) := dk_132 3 1 (dk_at dksX6_sure_4 6 rfl rfl)
theorem dX6_sure_101 : decode cX6_sure 101 = .ok (.goto (-95), 3) := dk_167 255 161 (dk_at dksX6_sure_4 9 rfl rfl)
theorem dX6_sure_104 : decode cX6_sure 104 = .ok (.lload_n 1, 1) := dk_31 (dk_at dksX6_sure_4 12 rfl rfl)
theorem dX6_sure_105 : decode cX6_sure 105 = .ok (.lreturn, 1) := dk_173 (dk_at dksX6_sure_4 13 rfl rfl)
theorem q144 : (Jvm.Cond.initialized "LongerHalf$Game") ∈ lw_all := lw_g (lw_at lw_m1 9 rfl) rfl
theorem q362 : (Jvm.Cond.instantiable "LongerHalf$Game" (8 : Nat)) ∈ lw_all := lw_g (lw_at lw_m1 227 rfl) rfl
theorem q364 : (Jvm.Cond.instanceMethod ({ cls := "LongerHalf$Game", name := "<init>", desc := "(LLongerHalf$Pull;)V" } : Jvm.MethodName)) ∈ lw_all := lw_g (lw_at lw_m1 229 rfl) rfl
theorem q365 : (Jvm.Cond.code ({ cls := "LongerHalf$Game", name := "<init>", desc := "(LLongerHalf$Pull;)V" } : Jvm.MethodName) prog_8_method_1_code (2 : Nat) (Option.none : Option Jvm.ClassFile.FieldType)) ∈ lw_all := lw_g (lw_at lw_m1 230 rfl) rfl
theorem q366 : (Jvm.Cond.methodLink "LongerHalf$Game" (3 : Nat) ({ cls := "java/lang/Object", name := "<init>", desc := "()V" } : Jvm.MethodName)) ∈ lw_all := lw_g (lw_at lw_m1 231 rfl) rfl
theorem q367 : (Jvm.Cond.fieldLink "LongerHalf$Game" (9 : Nat) "LongerHalf$Game" "mine" "[J") ∈ lw_all := lw_g (lw_at lw_m1 232 rfl) rfl
theorem q368 : (Jvm.Cond.fieldLink "LongerHalf$Game" (15 : Nat) "LongerHalf$Game" "his" "[J") ∈ lw_all := lw_g (lw_at lw_m1 233 rfl) rfl
theorem q369 : (Jvm.Cond.fieldLink "LongerHalf$Game" (18 : Nat) "LongerHalf$Game" "pull" "LLongerHalf$Pull;") ∈ lw_all := lw_g (lw_at lw_m1 234 rfl) rfl
theorem q370 : (Jvm.Cond.fieldLink "LongerHalf$Game" (28 : Nat) "LongerHalf$Game" "bone" "LLongerHalf$Bone;") ∈ lw_all := lw_g (lw_at lw_m1 235 rfl) rfl
theorem q371 : (Jvm.Cond.fieldLink "LongerHalf$Game" (32 : Nat) "LongerHalf$Game" "p" "LLongerHalf$Person;") ∈ lw_all := lw_g (lw_at lw_m1 236 rfl) rfl
theorem q372 : (Jvm.Cond.fieldLink "LongerHalf$Game" (36 : Nat) "LongerHalf$Game" "q" "LLongerHalf$Person;") ∈ lw_all := lw_g (lw_at lw_m1 237 rfl) rfl
theorem q373 : (Jvm.Cond.fieldLink "LongerHalf$Game" (59 : Nat) "LongerHalf$Game" "rests" "I") ∈ lw_all := lw_g (lw_at lw_m1 238 rfl) rfl
theorem q375 : (Jvm.Cond.fieldLink "LongerHalf$Game" (63 : Nat) "LongerHalf$Game" "first" "I") ∈ lw_all := lw_g (lw_at lw_m2 0 rfl) rfl
theorem q377 : (Jvm.Cond.laysFinal "LongerHalf$Game" "LongerHalf$Game" "mine" "[J") ∈ lw_all := lw_g (lw_at lw_m2 2 rfl) rfl
theorem q378 : (Jvm.Cond.soleField "LongerHalf$Game" "mine") ∈ lw_all := lw_g (lw_at lw_m2 3 rfl) rfl
theorem q379 : (Jvm.Cond.laysFinal "LongerHalf$Game" "LongerHalf$Game" "his" "[J") ∈ lw_all := lw_g (lw_at lw_m2 4 rfl) rfl
theorem q380 : (Jvm.Cond.soleField "LongerHalf$Game" "his") ∈ lw_all := lw_g (lw_at lw_m2 5 rfl) rfl
theorem q381 : (Jvm.Cond.laysFinal "LongerHalf$Game" "LongerHalf$Game" "pull" "LLongerHalf$Pull;") ∈ lw_all := lw_g (lw_at lw_m2 6 rfl) rfl
theorem q382 : (Jvm.Cond.soleField "LongerHalf$Game" "pull") ∈ lw_all := lw_g (lw_at lw_m2 7 rfl) rfl
theorem q383 : (Jvm.Cond.lays "LongerHalf$Game" "LongerHalf$Game" "bone" "LLongerHalf$Bone;") ∈ lw_all := lw_g (lw_at lw_m2 8 rfl) rfl
theorem q384 : (Jvm.Cond.soleField "LongerHalf$Game" "bone") ∈ lw_all := lw_g (lw_at lw_m2 9 rfl) rfl
theorem q385 : (Jvm.Cond.lays "LongerHalf$Game" "LongerHalf$Game" "p" "LLongerHalf$Person;") ∈ lw_all := lw_g (lw_at lw_m2 10 rfl) rfl
theorem q386 : (Jvm.Cond.soleField "LongerHalf$Game" "p") ∈ lw_all := lw_g (lw_at lw_m2 11 rfl) rfl
theorem q387 : (Jvm.Cond.lays "LongerHalf$Game" "LongerHalf$Game" "q" "LLongerHalf$Person;") ∈ lw_all := lw_g (lw_at lw_m2 12 rfl) rfl
theorem q388 : (Jvm.Cond.soleField "LongerHalf$Game" "q") ∈ lw_all := lw_g (lw_at lw_m2 13 rfl) rfl
theorem q389 : (Jvm.Cond.lays "LongerHalf$Game" "LongerHalf$Game" "rests" "I") ∈ lw_all := lw_g (lw_at lw_m2 14 rfl) rfl
theorem q390 : (Jvm.Cond.soleField "LongerHalf$Game" "rests") ∈ lw_all := lw_g (lw_at lw_m2 15 rfl) rfl
theorem q391 : (Jvm.Cond.lays "LongerHalf$Game" "LongerHalf$Game" "first" "I") ∈ lw_all := lw_g (lw_at lw_m2 16 rfl) rfl
theorem q392 : (Jvm.Cond.soleField "LongerHalf$Game" "first") ∈ lw_all := lw_g (lw_at lw_m2 17 rfl) rfl
theorem q393 : (Jvm.Cond.superclass "LongerHalf$Game" "java/lang/Object") ∈ lw_all := lw_g (lw_at lw_m2 18 rfl) rfl
theorem q1286 : (Jvm.Cond.static ({ cls := "LongerHalf$Game", name := "can", desc := "(LLongerHalf$Person;I)Z" } : Jvm.MethodName)) ∈ lw_all := lw_g (lw_at lw_m5 191 rfl) rfl
theorem q1287 : (Jvm.Cond.code ({ cls := "LongerHalf$Game", name := "can", desc := "(LLongerHalf$Person;I)Z" } : Jvm.MethodName) prog_8_method_2_code (2 : Nat) (Option.some Jvm.ClassFile.FieldType.boolean)) ∈ lw_all := lw_g (lw_at lw_m5 192 rfl) rfl
theorem q1288 : (Jvm.Cond.methodLink "LongerHalf$Game" (22 : Nat) ({ cls := "LongerHalf$Person", name := "mustMove", desc := "()Z" } : Jvm.MethodName)) ∈ lw_all := lw_g (lw_at lw_m5 193 rfl) rfl
theorem q1290 : (Jvm.Cond.static ({ cls := "LongerHalf$Game", name := "told", desc := "(I)I" } : Jvm.MethodName)) ∈ lw_all := lw_g (lw_at lw_m5 195 rfl) rfl
theorem q1291 : (Jvm.Cond.code ({ cls := "LongerHalf$Game", name := "told", desc := "(I)I" } : Jvm.MethodName) prog_8_method_3_code (1 : Nat) (Option.some Jvm.ClassFile.FieldType.int)) ∈ lw_all := lw_g (lw_at lw_m5 196 rfl) rfl
theorem q1301 : (Jvm.Cond.instanceMethod ({ cls := "LongerHalf$Game", name := "lay", desc := "(LLongerHalf$Bone;LLongerHalf$Person;LLongerHalf$Person;)V" } : Jvm.MethodName)) ∈ lw_all := lw_g (lw_at lw_m5 206 rfl) rfl
theorem q1302 : (Jvm.Cond.selects "LongerHalf$Game" ({ cls := "LongerHalf$Game", name := "lay", desc := "(LLongerHalf$Bone;LLongerHalf$Person;LLongerHalf$Person;)V" } : Jvm.MethodName) ({ cls := "LongerHalf$Game", name := "lay", desc := "(LLongerHalf$Bone;LLongerHalf$Person;LLongerHalf$Person;)V" } : Jvm.MethodName)) ∈ lw_all := lw_g (lw_at lw_m5 207 rfl) rfl
theorem q1303 : (Jvm.Cond.code ({ cls := "LongerHalf$Game", name := "lay", desc := "(LLongerHalf$Bone;LLongerHalf$Person;LLongerHalf$Person;)V" } : Jvm.MethodName) prog_8_method_4_code (6 : Nat) (Option.none : Option Jvm.ClassFile.FieldType)) ∈ lw_all := lw_g (lw_at lw_m5 208 rfl) rfl
theorem q1304 : (Jvm.Cond.methodLink "LongerHalf$Game" (39 : Nat) ({ cls := "LongerHalf$Bone", name := "size", desc := "(I)I" } : Jvm.MethodName)) ∈ lw_all := lw_g (lw_at lw_m5 209 rfl) rfl
theorem q1305 : (Jvm.Cond.methodLink "LongerHalf$Game" (45 : Nat) ({ cls := "LongerHalf$Pull", name := "hold", desc := "(LLongerHalf$Person;ILLongerHalf$Person;II)V" } : Jvm.MethodName)) ∈ lw_all := lw_g (lw_at lw_m5 210 rfl) rfl
theorem q1306 : (Jvm.Cond.methodLink "LongerHalf$Game" (51 : Nat) ({ cls := "LongerHalf$Pull", name := "odds", desc := "(I)J" } : Jvm.MethodName)) ∈ lw_all := lw_g (lw_at lw_m5 211 rfl) rfl
theorem q1308 : (Jvm.Cond.instanceMethod ({ cls := "LongerHalf$Game", name := "seekRests", desc := "()V" } : Jvm.MethodName)) ∈ lw_all := lw_g (lw_at lw_m5 213 rfl) rfl
theorem q1309 : (Jvm.Cond.selects "LongerHalf$Game" ({ cls := "LongerHalf$Game", name := "seekRests", desc := "()V" } : Jvm.MethodName) ({ cls := "LongerHalf$Game", name := "seekRests", desc := "()V" } : Jvm.MethodName)) ∈ lw_all := lw_g (lw_at lw_m5 214 rfl) rfl
theorem q1310 : (Jvm.Cond.code ({ cls := "LongerHalf$Game", name := "seekRests", desc := "()V" } : Jvm.MethodName) prog_8_method_6_code (3 : Nat) (Option.none : Option Jvm.ClassFile.FieldType)) ∈ lw_all := lw_g (lw_at lw_m5 215 rfl) rfl
theorem q1311 : (Jvm.Cond.methodLink "LongerHalf$Game" (55 : Nat) ({ cls := "LongerHalf$Game", name := "can", desc := "(LLongerHalf$Person;I)Z" } : Jvm.MethodName)) ∈ lw_all := lw_g (lw_at lw_m5 216 rfl) rfl
theorem q1312 : (Jvm.Cond.methodLink "LongerHalf$Game" (66 : Nat) ({ cls := "LongerHalf$Game", name := "isRest", desc := "(II)Z" } : Jvm.MethodName)) ∈ lw_all := lw_g (lw_at lw_m5 217 rfl) rfl
theorem q1313 : (Jvm.Cond.privateMethod ({ cls := "LongerHalf$Game", name := "isRest", desc := "(II)Z" } : Jvm.MethodName)) ∈ lw_tbl := lw_at lw_m5 218 rfl
theorem q1314 : (Jvm.Cond.instanceMethod ({ cls := "LongerHalf$Game", name := "isRest", desc := "(II)Z" } : Jvm.MethodName)) ∈ lw_all := lw_g (lw_at lw_m5 219 rfl) rfl
theorem q1315 : (Jvm.Cond.code ({ cls := "LongerHalf$Game", name := "isRest", desc := "(II)Z" } : Jvm.MethodName) prog_8_method_5_code (5 : Nat) (Option.some Jvm.ClassFile.FieldType.boolean)) ∈ lw_all := lw_g (lw_at lw_m5 220 rfl) rfl
theorem q1316 : (Jvm.Cond.methodLink "LongerHalf$Game" (70 : Nat) ({ cls := "LongerHalf$Game", name := "told", desc := "(I)I" } : Jvm.MethodName)) ∈ lw_all := lw_g (lw_at lw_m5 221 rfl) rfl
theorem q1326 : (Jvm.Cond.instanceMethod ({ cls := "LongerHalf$Game", name := "sure", desc := "()J" } : Jvm.MethodName)) ∈ lw_all := lw_g (lw_at lw_m5 231 rfl) rfl
theorem q1327 : (Jvm.Cond.selects "LongerHalf$Game" ({ cls := "LongerHalf$Game", name := "sure", desc := "()J" } : Jvm.MethodName) ({ cls := "LongerHalf$Game", name := "sure", desc := "()J" } : Jvm.MethodName)) ∈ lw_all := lw_g (lw_at lw_m5 232 rfl) rfl
theorem q1328 : (Jvm.Cond.code ({ cls := "LongerHalf$Game", name := "sure", desc := "()J" } : Jvm.MethodName) prog_8_method_7_code (7 : Nat) (Option.some Jvm.ClassFile.FieldType.long)) ∈ lw_all := lw_g (lw_at lw_m5 233 rfl) rfl
theorem q1329 : (Jvm.Cond.constantLong "LongerHalf$Game" (73 : Nat) (-1 : Int64)) ∈ lw_all := lw_g (lw_at lw_m5 234 rfl) rfl
theorem q1330 : (Jvm.Cond.constantLong "LongerHalf$Game" (77 : Nat) (9223372036854775807 : Int64)) ∈ lw_all := lw_g (lw_at lw_m5 235 rfl) rfl
theorem q1331 : (Jvm.Cond.methodLink "LongerHalf$Game" (79 : Nat) ({ cls := "java/lang/Math", name := "min", desc := "(JJ)J" } : Jvm.MethodName)) ∈ lw_all := lw_g (lw_at lw_m5 236 rfl) rfl
theorem q1334 : (Jvm.Cond.methodLink "LongerHalf$Game" (85 : Nat) ({ cls := "java/lang/Math", name := "max", desc := "(JJ)J" } : Jvm.MethodName)) ∈ lw_all := lw_g (lw_at lw_m5 239 rfl) rfl
theorem q2469 : (Jvm.Cond.castable "LongerHalf$Game" "java/lang/Object") ∈ lw_tbl := lw_at lw_m10 174 rfl
theorem in_X6 : ∀ w ∈ wsX60, w ∈ lw_all := lw_in wsX60 [377, 379, 381, 383, 385, 387, 389, 391] (by decide +kernel) (by decide +kernel)

/-! LongerHalf$Turns -/
set_option maxRecDepth 100000
def RX7 : String := "LongerHalf$Turns"
def TX7 : u_T := fun k => match k with
  | 0 => ("LongerHalf$Turns", "one", "[I", true)
  | 1 => ("LongerHalf$Turns", "other", "[I", true)
  | 2 => ("LongerHalf$Turns", "many", "[I", true)
  | 3 => ("LongerHalf$Turns", "people", "I", false)
  | _ => ("LongerHalf$Turns", "weeks", "I", false)
def tyX7 : Nat → FieldType := fun k => match k with
  | 0 => .array .int
  | 1 => .array .int
  | 2 => .array .int
  | 3 => .int
  | _ => .int
abbrev wsX70 : List Cond := u_ws RX7 TX7 5
theorem nmX7 : ∀ a, a < 5 → ∀ b, b < 5 → a ≠ b → (TX7 a).2.1 ≠ (TX7 b).2.1 := by decide +kernel
theorem tyX7_ok : ∀ k, k < 5 → parseFieldDescriptor (TX7 k).2.2.1 = some (tyX7 k) := by decide +kernel
abbrev cX7_init : ByteArray := prog_18_method_1_code
def yX7_init : MethodName := ⟨RX7, "<init>", "()V"⟩
def dkwX7_init_1 : List UInt8 := [188, 10, 181, 0, 18, 177]
abbrev dktX7_init_1 : List UInt8 := dkwX7_init_1 ++ []
def dkwX7_init_0 : List UInt8 := [42, 183, 0, 3, 42, 16, 9, 188, 10, 181, 0, 9, 42, 16, 9, 188, 10, 181, 0, 15, 42, 16, 6]
abbrev dktX7_init_0 : List UInt8 := dkwX7_init_0 ++ dktX7_init_1
theorem dksX7_init_0 : cX7_init.data.toList.drop 0 = dktX7_init_0 := by decide +kernel
theorem dksX7_init_1 : cX7_init.data.toList.drop 23 = dktX7_init_1 := dk_seg dksX7_init_0 23 rfl rfl
theorem dX7_init_0 : decode cX7_init 0 = .ok (.aload_n 0, 1) := dk_42 (dk_at dksX7_init_0 0 rfl rfl)
theorem dX7_init_1 : decode cX7_init 1 = .ok (.invokespecial 3, 3) := dk_183 0 3 (dk_at dksX7_init_0 1 rfl rfl)
theorem dX7_init_4 : decode cX7_init 4 = .ok (.aload_n 0, 1) := dk_42 (dk_at dksX7_init_0 4 rfl rfl)
theorem dX7_init_5 : decode cX7_init 5 = .ok (.bipush 9, 2) := dk_16 9 (dk_at dksX7_init_0 5 rfl rfl)
theorem dX7_init_7 : decode cX7_init 7 = .ok (.newarray .int, 2) := dk_188_10 (dk_at dksX7_init_0 7 rfl rfl)
theorem dX7_init_9 : decode cX7_init 9 = .ok (.putfield 9, 3) := dk_181 0 9 (dk_at dksX7_init_0 9 rfl rfl)
theorem dX7_init_12 : decode cX7_init 12 = .ok (.aload_n 0, 1) := dk_42 (dk_at dksX7_init_0 12 rfl rfl)
theorem dX7_init_13 : decode cX7_init 13 = .ok (.bipush 9, 2) := dk_16 9 (dk_at dksX7_init_0 13 rfl rfl)
theorem dX7_init_15 : decode cX7_init 15 = .ok (.newarray .int, 2) := dk_188_10 (dk_at dksX7_init_0 15 rfl rfl)
theorem dX7_init_17 : decode cX7_init 17 = .ok (.putfield 15, 3) := dk_181 0 15 (dk_at dksX7_init_0 17 rfl rfl)
theorem dX7_init_20 : decode cX7_init 20 = .ok (.aload_n 0, 1) := dk_42 (dk_at dksX7_init_0 20 rfl rfl)
theorem dX7_init_21 : decode cX7_init 21 = .ok (.bipush 6, 2) := dk_16 6 (dk_at dksX7_init_0 21 rfl rfl)
theorem dX7_init_23 : decode cX7_init 23 = .ok (.newarray .int, 2) := dk_188_10 (dk_at dksX7_init_1 0 rfl rfl)
theorem dX7_init_25 : decode cX7_init 25 = .ok (.putfield 18, 3) := dk_181 0 18 (dk_at dksX7_init_1 2 rfl rfl)
theorem dX7_init_28 : decode cX7_init 28 = .ok (.return_, 1) := dk_177 (dk_at dksX7_init_1 5 rfl rfl)
abbrev cX7_find : ByteArray := prog_18_method_2_code
def yX7_find : MethodName := ⟨RX7, "find", "(II)Z"⟩
def dkwX7_find_1 : List UInt8 := [132, 3, 1, 167, 255, 241, 42, 3, 182, 0, 28, 172]
abbrev dktX7_find_1 : List UInt8 := dkwX7_find_1 ++ []
def dkwX7_find_0 : List UInt8 := [42, 27, 181, 0, 21, 42, 28, 181, 0, 25, 3, 62, 29, 27, 162, 0, 16, 42, 180, 0, 18, 29, 3, 79]
abbrev dktX7_find_0 : List UInt8 := dkwX7_find_0 ++ dktX7_find_1
theorem dksX7_find_0 : cX7_find.data.toList.drop 0 = dktX7_find_0 := by decide +kernel
theorem dksX7_find_1 : cX7_find.data.toList.drop 24 = dktX7_find_1 := dk_seg dksX7_find_0 24 rfl rfl
theorem dX7_find_0 : decode cX7_find 0 = .ok (.aload_n 0, 1) := dk_42 (dk_at dksX7_find_0 0 rfl rfl)
theorem dX7_find_1 : decode cX7_find 1 = .ok (.iload_n 1, 1) := dk_27 (dk_at dksX7_find_0 1 rfl rfl)
theorem dX7_find_2 : decode cX7_find 2 = .ok (.putfield 21, 3) := dk_181 0 21 (dk_at dksX7_find_0 2 rfl rfl)
theorem dX7_find_5 : decode cX7_find 5 = .ok (.aload_n 0, 1) := dk_42 (dk_at dksX7_find_0 5 rfl rfl)
theorem dX7_find_6 : decode cX7_find 6 = .ok (.iload_n 2, 1) := dk_28 (dk_at dksX7_find_0 6 rfl rfl)
theorem dX7_find_7 : decode cX7_find 7 = .ok (.putfield 25, 3) := dk_181 0 25 (dk_at dksX7_find_0 7 rfl rfl)
theorem dX7_find_10 : decode cX7_find 10 = .ok (.iconst 0, 1) := dk_3 (dk_at dksX7_find_0 10 rfl rfl)
theorem dX7_find_11 : decode cX7_find 11 = .ok (.istore_n 3, 1) := dk_62 (dk_at dksX7_find_0 11 rfl rfl)
theorem dX7_find_12 : decode cX7_find 12 = .ok (.iload_n 3, 1) := dk_29 (dk_at dksX7_find_0 12 rfl rfl)
theorem dX7_find_13 : decode cX7_find 13 = .ok (.iload_n 1, 1) := dk_27 (dk_at dksX7_find_0 13 rfl rfl)
theorem dX7_find_14 : decode cX7_find 14 = .ok (.if_icmp .ge 16, 3) := dk_162 0 16 (dk_at dksX7_find_0 14 rfl rfl)
theorem dX7_find_17 : decode cX7_find 17 = .ok (.aload_n 0, 1) := dk_42 (dk_at dksX7_find_0 17 rfl rfl)
theorem dX7_find_18 : decode cX7_find 18 = .ok (.getfield 18, 3) := dk_180 0 18 (dk_at dksX7_find_0 18 rfl rfl)
theorem dX7_find_21 : decode cX7_find 21 = .ok (.iload_n 3, 1) := dk_29 (dk_at dksX7_find_0 21 rfl rfl)
theorem dX7_find_22 : decode cX7_find 22 = .ok (.iconst 0, 1) := dk_3 (dk_at dksX7_find_0 22 rfl rfl)
theorem dX7_find_23 : decode cX7_find 23 = .ok (.iastore, 1) := dk_79 (dk_at dksX7_find_0 23 rfl rfl)
theorem dX7_find_24 : decode cX7_find 24 = .ok (.iinc 3 1, 3) := dk_132 3 1 (dk_at dksX7_find_1 0 rfl rfl)
theorem dX7_find_27 : decode cX7_find 27 = .ok (.goto (-15), 3) := dk_167 255 241 (dk_at dksX7_find_1 3 rfl rfl)
theorem dX7_find_30 : decode cX7_find 30 = .ok (.aload_n 0, 1) := dk_42 (dk_at dksX7_find_1 6 rfl rfl)
theorem dX7_find_31 : decode cX7_find 31 = .ok (.iconst 0, 1) := dk_3 (dk_at dksX7_find_1 7 rfl rfl)
theorem dX7_find_32 : decode cX7_find 32 = .ok (.invokevirtual 28, 3) := dk_182 0 28 (dk_at dksX7_find_1 8 rfl rfl)
theorem dX7_find_35 : decode cX7_find 35 = .ok (.ireturn, 1) := dk_172 (dk_at dksX7_find_1 11 rfl rfl)
abbrev cX7_tries : ByteArray := prog_18_method_3_code
def yX7_tries : MethodName := ⟨RX7, "tries", "(I)Z"⟩
def dkwX7_tries_5 : List UInt8 := [46, 4, 100, 79, 132, 3, 1, 167, 255, 158, 132, 2, 1, 167, 255, 140, 3, 172]
abbrev dktX7_tries_5 : List UInt8 := dkwX7_tries_5 ++ []
def dkwX7_tries_4 : List UInt8 := [182, 0, 28, 153, 0, 5, 4, 172, 42, 180, 0, 18, 28, 92, 46, 4, 100, 79, 42, 180, 0, 18, 29, 92]
abbrev dktX7_tries_4 : List UInt8 := dkwX7_tries_4 ++ dktX7_tries_5
def dkwX7_tries_3 : List UInt8 := [180, 0, 18, 28, 92, 46, 4, 96, 79, 42, 180, 0, 18, 29, 92, 46, 4, 96, 79, 42, 27, 4, 96]
abbrev dktX7_tries_3 : List UInt8 := dkwX7_tries_3 ++ dktX7_tries_4
def dkwX7_tries_2 : List UInt8 := [182, 0, 36, 154, 0, 6, 167, 0, 69, 42, 180, 0, 9, 27, 28, 79, 42, 180, 0, 15, 27, 29, 79, 42]
abbrev dktX7_tries_2 : List UInt8 := dkwX7_tries_2 ++ dktX7_tries_3
def dkwX7_tries_1 : List UInt8 := [4, 96, 62, 29, 42, 180, 0, 21, 162, 0, 96, 42, 27, 28, 182, 0, 36, 153, 0, 81, 42, 27, 29]
abbrev dktX7_tries_1 : List UInt8 := dkwX7_tries_1 ++ dktX7_tries_2
def dkwX7_tries_0 : List UInt8 := [27, 42, 180, 0, 25, 160, 0, 8, 42, 182, 0, 32, 172, 3, 61, 28, 42, 180, 0, 21, 162, 0, 114, 28]
abbrev dktX7_tries_0 : List UInt8 := dkwX7_tries_0 ++ dktX7_tries_1
theorem dksX7_tries_0 : cX7_tries.data.toList.drop 0 = dktX7_tries_0 := by decide +kernel
theorem dksX7_tries_1 : cX7_tries.data.toList.drop 24 = dktX7_tries_1 := dk_seg dksX7_tries_0 24 rfl rfl
theorem dksX7_tries_2 : cX7_tries.data.toList.drop 47 = dktX7_tries_2 := dk_seg dksX7_tries_1 23 rfl rfl
theorem dksX7_tries_3 : cX7_tries.data.toList.drop 71 = dktX7_tries_3 := dk_seg dksX7_tries_2 24 rfl rfl
theorem dksX7_tries_4 : cX7_tries.data.toList.drop 94 = dktX7_tries_4 := dk_seg dksX7_tries_3 23 rfl rfl
theorem dksX7_tries_5 : cX7_tries.data.toList.drop 118 = dktX7_tries_5 := dk_seg dksX7_tries_4 24 rfl rfl
theorem dX7_tries_0 : decode cX7_tries 0 = .ok (.iload_n 1, 1) := dk_27 (dk_at dksX7_tries_0 0 rfl rfl)
theorem dX7_tries_1 : decode cX7_tries 1 = .ok (.aload_n 0, 1) := dk_42 (dk_at dksX7_tries_0 1 rfl rfl)
theorem dX7_tries_2 : decode cX7_tries 2 = .ok (.getfield 25, 3) := dk_180 0 25 (dk_at dksX7_tries_0 2 rfl rfl)
theorem dX7_tries_5 : decode cX7_tries 5 = .ok (.if_icmp .ne 8, 3) := dk_160 0 8 (dk_at dksX7_tries_0 5 rfl rfl)
theorem dX7_tries_8 : decode cX7_tries 8 = .ok (.aload_n 0, 1) := dk_42 (dk_at dksX7_tries_0 8 rfl rfl)
theorem dX7_tries_9 : decode cX7_tries 9 = .ok (.invokevirtual 32, 3) := dk_182 0 32 (dk_at dksX7_tries_0 9 rfl rfl)
theorem dX7_tries_12 : decode cX7_tries 12 = .ok (.ireturn, 1) := dk_172 (dk_at dksX7_tries_0 12 rfl rfl)
theorem dX7_tries_13 : decode cX7_tries 13 = .ok (.iconst 0, 1) := dk_3 (dk_at dksX7_tries_0 13 rfl rfl)
theorem dX7_tries_14 : decode cX7_tries 14 = .ok (.istore_n 2, 1) := dk_61 (dk_at dksX7_tries_0 14 rfl rfl)
theorem dX7_tries_15 : decode cX7_tries 15 = .ok (.iload_n 2, 1) := dk_28 (dk_at dksX7_tries_0 15 rfl rfl)
theorem dX7_tries_16 : decode cX7_tries 16 = .ok (.aload_n 0, 1) := dk_42 (dk_at dksX7_tries_0 16 rfl rfl)
theorem dX7_tries_17 : decode cX7_tries 17 = .ok (.getfield 21, 3) := dk_180 0 21 (dk_at dksX7_tries_0 17 rfl rfl)
theorem dX7_tries_20 : decode cX7_tries 20 = .ok (.if_icmp .ge 114, 3) := dk_162 0 114 (dk_at dksX7_tries_0 20 rfl rfl)
theorem dX7_tries_23 : decode cX7_tries 23 = .ok (.iload_n 2, 1) := dk_28 (dk_at dksX7_tries_0 23 rfl rfl)
theorem dX7_tries_24 : decode cX7_tries 24 = .ok (.iconst 1, 1) := dk_4 (dk_at dksX7_tries_1 0 rfl rfl)
theorem dX7_tries_25 : decode cX7_tries 25 = .ok (.iadd, 1) := dk_96 (dk_at dksX7_tries_1 1 rfl rfl)
theorem dX7_tries_26 : decode cX7_tries 26 = .ok (.istore_n 3, 1) := dk_62 (dk_at dksX7_tries_1 2 rfl rfl)
theorem dX7_tries_27 : decode cX7_tries 27 = .ok (.iload_n 3, 1) := dk_29 (dk_at dksX7_tries_1 3 rfl rfl)
theorem dX7_tries_28 : decode cX7_tries 28 = .ok (.aload_n 0, 1) := dk_42 (dk_at dksX7_tries_1 4 rfl rfl)
theorem dX7_tries_29 : decode cX7_tries 29 = .ok (.getfield 21, 3) := dk_180 0 21 (dk_at dksX7_tries_1 5 rfl rfl)
theorem dX7_tries_32 : decode cX7_tries 32 = .ok (.if_icmp .ge 96, 3) := dk_162 0 96 (dk_at dksX7_tries_1 8 rfl rfl)
theorem dX7_tries_35 : decode cX7_tries 35 = .ok (.aload_n 0, 1) := dk_42 (dk_at dksX7_tries_1 11 rfl rfl)
theorem dX7_tries_36 : decode cX7_tries 36 = .ok (.iload_n 1, 1) := dk_27 (dk_at dksX7_tries_1 12 rfl rfl)
theorem dX7_tries_37 : decode cX7_tries 37 = .ok (.iload_n 2, 1) := dk_28 (dk_at dksX7_tries_1 13 rfl rfl)
theorem dX7_tries_38 : decode cX7_tries 38 = .ok (.invokevirtual 36, 3) := dk_182 0 36 (dk_at dksX7_tries_1 14 rfl rfl)
theorem dX7_tries_41 : decode cX7_tries 41 = .ok (.ifCond .eq 81, 3) := dk_153 0 81 (dk_at dksX7_tries_1 17 rfl rfl)
theorem dX7_tries_44 : decode cX7_tries 44 = .ok (.aload_n 0, 1) := dk_42 (dk_at dksX7_tries_1 20 rfl rfl)
theorem dX7_tries_45 : decode cX7_tries 45 = .ok (.iload_n 1, 1) := dk_27 (dk_at dksX7_tries_1 21 rfl rfl)
theorem dX7_tries_46 : decode cX7_tries 46 = .ok (.iload_n 3, 1) := dk_29 (dk_at dksX7_tries_1 22 rfl rfl)
theorem dX7_tries_47 : decode cX7_tries 47 = .ok (.invokevirtual 36, 3) := dk_182 0 36 (dk_at dksX7_tries_2 0 rfl rfl)
theorem dX7_tries_50 : decode cX7_tries 50 = .ok (.ifCond .ne 6, 3) := dk_154 0 6 (dk_at dksX7_tries_2 3 rfl rfl)
theorem dX7_tries_53 : decode cX7_tries 53 = .ok (.goto 69, 3) := dk_167 0 69 (dk_at dksX7_tries_2 6 rfl rfl)
theorem dX7_tries_56 : decode cX7_tries 56 = .ok (.aload_n 0, 1) := dk_42 (dk_at dksX7_tries_2 9 rfl rfl)
theorem dX7_tries_57 : decode cX7_tries 57 = .ok (.getfield 9, 3) := dk_180 0 9 (dk_at dksX7_tries_2 10 rfl rfl)
theorem dX7_tries_60 : decode cX7_tries 60 = .ok (.iload_n 1, 1) := dk_27 (dk_at dksX7_tries_2 13 rfl rfl)
theorem dX7_tries_61 : decode cX7_tries 61 = .ok (.iload_n 2, 1) := dk_28 (dk_at dksX7_tries_2 14 rfl rfl)
theorem dX7_tries_62 : decode cX7_tries 62 = .ok (.iastore, 1) := dk_79 (dk_at dksX7_tries_2 15 rfl rfl)
theorem dX7_tries_63 : decode cX7_tries 63 = .ok (.aload_n 0, 1) := dk_42 (dk_at dksX7_tries_2 16 rfl rfl)
theorem dX7_tries_64 : decode cX7_tries 64 = .ok (.getfield 15, 3) := dk_180 0 15 (dk_at dksX7_tries_2 17 rfl rfl)
theorem dX7_tries_67 : decode cX7_tries 67 = .ok (.iload_n 1, 1) := dk_27 (dk_at dksX7_tries_2 20 rfl rfl)
theorem dX7_tries_68 : decode cX7_tries 68 = .ok (.iload_n 3, 1) := dk_29 (dk_at dksX7_tries_2 21 rfl rfl)
theorem dX7_tries_69 : decode cX7_tries 69 = .ok (.iastore, 1) := dk_79 (dk_at dksX7_tries_2 22 rfl rfl)
theorem dX7_tries_70 : decode cX7_tries 70 = .ok (.aload_n 0, 1) := dk_42 (dk_at dksX7_tries_2 23 rfl rfl)
theorem dX7_tries_71 : decode cX7_tries 71 = .ok (.getfield 18, 3) := dk_180 0 18 (dk_at dksX7_tries_3 0 rfl rfl)
theorem dX7_tries_74 : decode cX7_tries 74 = .ok (.iload_n 2, 1) := dk_28 (dk_at dksX7_tries_3 3 rfl rfl)
theorem dX7_tries_75 : decode cX7_tries 75 = .ok (.dup2, 1) := dk_92 (dk_at dksX7_tries_3 4 rfl rfl)
theorem dX7_tries_76 : decode cX7_tries 76 = .ok (.iaload, 1) := dk_46 (dk_at dksX7_tries_3 5 rfl rfl)
theorem dX7_tries_77 : decode cX7_tries 77 = .ok (.iconst 1, 1) := dk_4 (dk_at dksX7_tries_3 6 rfl rfl)
theorem dX7_tries_78 : decode cX7_tries 78 = .ok (.iadd, 1) := dk_96 (dk_at dksX7_tries_3 7 rfl rfl)
theorem dX7_tries_79 : decode cX7_tries 79 = .ok (.iastore, 1) := dk_79 (dk_at dksX7_tries_3 8 rfl rfl)
theorem dX7_tries_80 : decode cX7_tries 80 = .ok (.aload_n 0, 1) := dk_42 (dk_at dksX7_tries_3 9 rfl rfl)
theorem dX7_tries_81 : decode cX7_tries 81 = .ok (.getfield 18, 3) := dk_180 0 18 (dk_at dksX7_tries_3 10 rfl rfl)
theorem dX7_tries_84 : decode cX7_tries 84 = .ok (.iload_n 3, 1) := dk_29 (dk_at dksX7_tries_3 13 rfl rfl)
theorem dX7_tries_85 : decode cX7_tries 85 = .ok (.dup2, 1) := dk_92 (dk_at dksX7_tries_3 14 rfl rfl)
theorem dX7_tries_86 : decode cX7_tries 86 = .ok (.iaload, 1) := dk_46 (dk_at dksX7_tries_3 15 rfl rfl)
theorem dX7_tries_87 : decode cX7_tries 87 = .ok (.iconst 1, 1) := dk_4 (dk_at dksX7_tries_3 16 rfl rfl)
theorem dX7_tries_88 : decode cX7_tries 88 = .ok (.iadd, 1) := dk_96 (dk_at dksX7_tries_3 17 rfl rfl)
theorem dX7_tries_89 : decode cX7_tries 89 = .ok (.iastore, 1) := dk_79 (dk_at dksX7_tries_3 18 rfl rfl)
theorem dX7_tries_90 : decode cX7_tries 90 = .ok (.aload_n 0, 1) := dk_42 (dk_at dksX7_tries_3 19 rfl rfl)
theorem dX7_tries_91 : decode cX7_tries 91 = .ok (.iload_n 1, 1) := dk_27 (dk_at dksX7_tries_3 20 rfl rfl)
theorem dX7_tries_92 : decode cX7_tries 92 = .ok (.iconst 1, 1) := dk_4 (dk_at dksX7_tries_3 21 rfl rfl)
theorem dX7_tries_93 : decode cX7_tries 93 = .ok (.iadd, 1) := dk_96 (dk_at dksX7_tries_3 22 rfl rfl)
theorem dX7_tries_94 : decode cX7_tries 94 = .ok (.invokevirtual 28, 3) := dk_182 0 28 (dk_at dksX7_tries_4 0 rfl rfl)
theorem dX7_tries_97 : decode cX7_tries 97 = .ok (.ifCond .eq 5, 3) := dk_153 0 5 (dk_at dksX7_tries_4 3 rfl rfl)
theorem dX7_tries_100 : decode cX7_tries 100 = .ok (.iconst 1, 1) := dk_4 (dk_at dksX7_tries_4 6 rfl rfl)
theorem dX7_tries_101 : decode cX7_tries 101 = .ok (.ireturn, 1) := dk_172 (dk_at dksX7_tries_4 7 rfl rfl)
theorem dX7_tries_102 : decode cX7_tries 102 = .ok (.aload_n 0, 1) := dk_42 (dk_at dksX7_tries_4 8 rfl rfl)
theorem dX7_tries_103 : decode cX7_tries 103 = .ok (.getfield 18, 3) := dk_180 0 18 (dk_at dksX7_tries_4 9 rfl rfl)
theorem dX7_tries_106 : decode cX7_tries 106 = .ok (.iload_n 2, 1) := dk_28 (dk_at dksX7_tries_4 12 rfl rfl)
theorem dX7_tries_107 : decode cX7_tries 107 = .ok (.dup2, 1) := dk_92 (dk_at dksX7_tries_4 13 rfl rfl)
theorem dX7_tries_108 : decode cX7_tries 108 = .ok (.iaload, 1) := dk_46 (dk_at dksX7_tries_4 14 rfl rfl)
theorem dX7_tries_109 : decode cX7_tries 109 = .ok (.iconst 1, 1) := dk_4 (dk_at dksX7_tries_4 15 rfl rfl)
theorem dX7_tries_110 : decode cX7_tries 110 = .ok (.isub, 1) := dk_100 (dk_at dksX7_tries_4 16 rfl rfl)
theorem dX7_tries_111 : decode cX7_tries 111 = .ok (.iastore, 1) := dk_79 (dk_at dksX7_tries_4 17 rfl rfl)
theorem dX7_tries_112 : decode cX7_tries 112 = .ok (.aload_n 0, 1) := dk_42 (dk_at dksX7_tries_4 18 rfl rfl)
theorem dX7_tries_113 : decode cX7_tries 113 = .ok (.getfield 18, 3) := dk_180 0 18 (dk_at dksX7_tries_4 19 rfl rfl)
theorem dX7_tries_116 : decode cX7_tries 116 = .ok (.iload_n 3, 1) := dk_29 (dk_at dksX7_tries_4 22 rfl rfl)
theorem dX7_tries_117 : decode cX7_tries 117 = .ok (.dup2, 1) := dk_92 (dk_at dksX7_tries_4 23 rfl rfl)
theorem dX7_tries_118 : decode cX7_tries 118 = .ok (.iaload, 1) := dk_46 (dk_at dksX7_tries_5 0 rfl rfl)
theorem dX7_tries_119 : decode cX7_tries 119 = .ok (.iconst 1, 1) := dk_4 (dk_at dksX7_tries_5 1 rfl rfl)
theorem dX7_tries_120 : decode cX7_tries 120 = .ok (.isub, 1) := dk_100 (dk_at dksX7_tries_5 2 rfl rfl)
theorem dX7_tries_121 : decode cX7_tries 121 = .ok (.iastore, 1) := dk_79 (dk_at dksX7_tries_5 3 rfl rfl)
theorem dX7_tries_122 : decode cX7_tries 122 = .ok (.iinc 3 1, 3) := dk_132 3 1 (dk_at dksX7_tries_5 4 rfl rfl)
theorem dX7_tries_125 : decode cX7_tries 125 = .ok (.goto (-98), 3) := dk_167 255 158 (dk_at dksX7_tries_5 7 rfl rfl)
theorem dX7_tries_128 : decode cX7_tries 128 = .ok (.iinc 2 1, 3) := dk_132 2 1 (dk_at dksX7_tries_5 10 rfl rfl)
theorem dX7_tries_131 : decode cX7_tries 131 = .ok (.goto (-116), 3) := dk_167 255 140 (dk_at dksX7_tries_5 13 rfl rfl)
theorem dX7_tries_134 : decode cX7_tries 134 = .ok (.iconst 0, 1) := dk_3 (dk_at dksX7_tries_5 16 rfl rfl)
theorem dX7_tries_135 : decode cX7_tries 135 = .ok (.ireturn, 1) := dk_172 (dk_at dksX7_tries_5 17 rfl rfl)
abbrev cX7_isEven : ByteArray := prog_18_method_5_code
def yX7_isEven : MethodName := ⟨RX7, "isEven", "()Z"⟩
def dkwX7_isEven_2 : List UInt8 := [27, 172]
abbrev dktX7_isEven_2 : List UInt8 := dkwX7_isEven_2 ++ []
def dkwX7_isEven_1 : List UInt8 := [180, 0, 25, 104, 42, 180, 0, 21, 108, 161, 0, 7, 4, 167, 0, 4, 3, 60, 132, 2, 1, 167, 255, 215]
abbrev dktX7_isEven_1 : List UInt8 := dkwX7_isEven_1 ++ dktX7_isEven_2
def dkwX7_isEven_0 : List UInt8 := [4, 60, 3, 61, 28, 42, 180, 0, 21, 162, 0, 39, 27, 153, 0, 27, 42, 180, 0, 18, 28, 46, 5, 42]
abbrev dktX7_isEven_0 : List UInt8 := dkwX7_isEven_0 ++ dktX7_isEven_1
theorem dksX7_isEven_0 : cX7_isEven.data.toList.drop 0 = dktX7_isEven_0 := by decide +kernel
theorem dksX7_isEven_1 : cX7_isEven.data.toList.drop 24 = dktX7_isEven_1 := dk_seg dksX7_isEven_0 24 rfl rfl
theorem dksX7_isEven_2 : cX7_isEven.data.toList.drop 48 = dktX7_isEven_2 := dk_seg dksX7_isEven_1 24 rfl rfl
theorem dX7_isEven_0 : decode cX7_isEven 0 = .ok (.iconst 1, 1) := dk_4 (dk_at dksX7_isEven_0 0 rfl rfl)
theorem dX7_isEven_1 : decode cX7_isEven 1 = .ok (.istore_n 1, 1) := dk_60 (dk_at dksX7_isEven_0 1 rfl rfl)
theorem dX7_isEven_2 : decode cX7_isEven 2 = .ok (.iconst 0, 1) := dk_3 (dk_at dksX7_isEven_0 2 rfl rfl)
theorem dX7_isEven_3 : decode cX7_isEven 3 = .ok (.istore_n 2, 1) := dk_61 (dk_at dksX7_isEven_0 3 rfl rfl)
theorem dX7_isEven_4 : decode cX7_isEven 4 = .ok (.iload_n 2, 1) := dk_28 (dk_at dksX7_isEven_0 4 rfl rfl)
theorem dX7_isEven_5 : decode cX7_isEven 5 = .ok (.aload_n 0, 1) := dk_42 (dk_at dksX7_isEven_0 5 rfl rfl)
theorem dX7_isEven_6 : decode cX7_isEven 6 = .ok (.getfield 21, 3) := dk_180 0 21 (dk_at dksX7_isEven_0 6 rfl rfl)
theorem dX7_isEven_9 : decode cX7_isEven 9 = .ok (.if_icmp .ge 39, 3) := dk_162 0 39 (dk_at dksX7_isEven_0 9 rfl rfl)
theorem dX7_isEven_12 : decode cX7_isEven 12 = .ok (.iload_n 1, 1) := dk_27 (dk_at dksX7_isEven_0 12 rfl rfl)
theorem dX7_isEven_13 : decode cX7_isEven 13 = .ok (.ifCond .eq 27, 3) := dk_153 0 27 (dk_at dksX7_isEven_0 13 rfl rfl)
theorem dX7_isEven_16 : decode cX7_isEven 16 = .ok (.aload_n 0, 1) := dk_42 (dk_at dksX7_isEven_0 16 rfl rfl)
theorem dX7_isEven_17 : decode cX7_isEven 17 = .ok (.getfield 18, 3) := dk_180 0 18 (dk_at dksX7_isEven_0 17 rfl rfl)
theorem dX7_isEven_20 : decode cX7_isEven 20 = .ok (.iload_n 2, 1) := dk_28 (dk_at dksX7_isEven_0 20 rfl rfl)
theorem dX7_isEven_21 : decode cX7_isEven 21 = .ok (.iaload, 1) := dk_46 (dk_at dksX7_isEven_0 21 rfl rfl)
theorem dX7_isEven_22 : decode cX7_isEven 22 = .ok (.iconst 2, 1) := dk_5 (dk_at dksX7_isEven_0 22 rfl rfl)
theorem dX7_isEven_23 : decode cX7_isEven 23 = .ok (.aload_n 0, 1) := dk_42 (dk_at dksX7_isEven_0 23 rfl rfl)
theorem dX7_isEven_24 : decode cX7_isEven 24 = .ok (.getfield 25, 3) := dk_180 0 25 (dk_at dksX7_isEven_1 0 rfl rfl)
theorem dX7_isEven_27 : decode cX7_isEven 27 = .ok (.imul, 1) := dk_104 (dk_at dksX7_isEven_1 3 rfl rfl)
theorem dX7_isEven_28 : decode cX7_isEven 28 = .ok (.aload_n 0, 1) := dk_42 (dk_at dksX7_isEven_1 4 rfl rfl)
theorem dX7_isEven_29 : decode cX7_isEven 29 = .ok (.getfield 21, 3) := dk_180 0 21 (dk_at dksX7_isEven_1 5 rfl rfl)
theorem dX7_isEven_32 : decode cX7_isEven 32 = .ok (.idiv, 1) := dk_108 (dk_at dksX7_isEven_1 8 rfl rfl)
theorem dX7_isEven_33 : decode cX7_isEven 33 = .ok (.if_icmp .lt 7, 3) := dk_161 0 7 (dk_at dksX7_isEven_1 9 rfl rfl)
theorem dX7_isEven_36 : decode cX7_isEven 36 = .ok (.iconst 1, 1) := dk_4 (dk_at dksX7_isEven_1 12 rfl rfl)
theorem dX7_isEven_37 : decode cX7_isEven 37 = .ok (.goto 4, 3) := dk_167 0 4 (dk_at dksX7_isEven_1 13 rfl rfl)
theorem dX7_isEven_40 : decode cX7_isEven 40 = .ok (.iconst 0, 1) := dk_3 (dk_at dksX7_isEven_1 16 rfl rfl)
theorem dX7_isEven_41 : decode cX7_isEven 41 = .ok (.istore_n 1, 1) := dk_60 (dk_at dksX7_isEven_1 17 rfl rfl)
theorem dX7_isEven_42 : decode cX7_isEven 42 = .ok (.iinc 2 1, 3) := dk_132 2 1 (dk_at dksX7_isEven_1 18 rfl rfl)
theorem dX7_isEven_45 : decode cX7_isEven 45 = .ok (.goto (-41), 3) := dk_167 255 215 (dk_at dksX7_isEven_1 21 rfl rfl)
theorem dX7_isEven_48 : decode cX7_isEven 48 = .ok (.iload_n 1, 1) := dk_27 (dk_at dksX7_isEven_2 0 rfl rfl)
theorem dX7_isEven_49 : decode cX7_isEven 49 = .ok (.ireturn, 1) := dk_172 (dk_at dksX7_isEven_2 1 rfl rfl)
abbrev cX7_canBe : ByteArray := prog_18_method_4_code
def yX7_canBe : MethodName := ⟨RX7, "canBe", "(II)Z"⟩
def dkwX7_canBe_2 : List UInt8 := [4, 100, 46, 28, 159, 0, 7, 4, 167, 0, 4, 3, 172]
abbrev dktX7_canBe_2 : List UInt8 := dkwX7_canBe_2 ++ []
def dkwX7_canBe_1 : List UInt8 := [162, 0, 35, 27, 153, 0, 27, 42, 180, 0, 9, 27, 4, 100, 46, 28, 159, 0, 19, 42, 180, 0, 15, 27]
abbrev dktX7_canBe_1 : List UInt8 := dkwX7_canBe_1 ++ dktX7_canBe_2
def dkwX7_canBe_0 : List UInt8 := [42, 180, 0, 18, 28, 46, 5, 42, 180, 0, 25, 104, 42, 180, 0, 21, 96, 4, 100, 42, 180, 0, 21, 108]
abbrev dktX7_canBe_0 : List UInt8 := dkwX7_canBe_0 ++ dktX7_canBe_1
theorem dksX7_canBe_0 : cX7_canBe.data.toList.drop 0 = dktX7_canBe_0 := by decide +kernel
theorem dksX7_canBe_1 : cX7_canBe.data.toList.drop 24 = dktX7_canBe_1 := dk_seg dksX7_canBe_0 24 rfl rfl
theorem dksX7_canBe_2 : cX7_canBe.data.toList.drop 48 = dktX7_canBe_2 := dk_seg dksX7_canBe_1 24 rfl rfl
theorem dX7_canBe_0 : decode cX7_canBe 0 = .ok (.aload_n 0, 1) := dk_42 (dk_at dksX7_canBe_0 0 rfl rfl)
theorem dX7_canBe_1 : decode cX7_canBe 1 = .ok (.getfield 18, 3) := dk_180 0 18 (dk_at dksX7_canBe_0 1 rfl rfl)
theorem dX7_canBe_4 : decode cX7_canBe 4 = .ok (.iload_n 2, 1) := dk_28 (dk_at dksX7_canBe_0 4 rfl rfl)
theorem dX7_canBe_5 : decode cX7_canBe 5 = .ok (.iaload, 1) := dk_46 (dk_at dksX7_canBe_0 5 rfl rfl)
theorem dX7_canBe_6 : decode cX7_canBe 6 = .ok (.iconst 2, 1) := dk_5 (dk_at dksX7_canBe_0 6 rfl rfl)
theorem dX7_canBe_7 : decode cX7_canBe 7 = .ok (.aload_n 0, 1) := dk_42 (dk_at dksX7_canBe_0 7 rfl rfl)
theorem dX7_canBe_8 : decode cX7_canBe 8 = .ok (.getfield 25, 3) := dk_180 0 25 (dk_at dksX7_canBe_0 8 rfl rfl)
theorem dX7_canBe_11 : decode cX7_canBe 11 = .ok (.imul, 1) := dk_104 (dk_at dksX7_canBe_0 11 rfl rfl)
theorem dX7_canBe_12 : decode cX7_canBe 12 = .ok (.aload_n 0, 1) := dk_42 (dk_at dksX7_canBe_0 12 rfl rfl)
theorem dX7_canBe_13 : decode cX7_canBe 13 = .ok (.getfield 21, 3) := dk_180 0 21 (dk_at dksX7_canBe_0 13 rfl rfl)
theorem dX7_canBe_16 : decode cX7_canBe 16 = .ok (.iadd, 1) := dk_96 (dk_at dksX7_canBe_0 16 rfl rfl)
theorem dX7_canBe_17 : decode cX7_canBe 17 = .ok (.iconst 1, 1) := dk_4 (dk_at dksX7_canBe_0 17 rfl rfl)
theorem dX7_canBe_18 : decode cX7_canBe 18 = .ok (.isub, 1) := dk_100 (dk_at dksX7_canBe_0 18 rfl rfl)
theorem dX7_canBe_19 : decode cX7_canBe 19 = .ok (.aload_n 0, 1) := dk_42 (dk_at dksX7_canBe_0 19 rfl rfl)
theorem dX7_canBe_20 : decode cX7_canBe 20 = .ok (.getfield 21, 3) := dk_180 0 21 (dk_at dksX7_canBe_0 20 rfl rfl)
theorem dX7_canBe_23 : decode cX7_canBe 23 = .ok (.idiv, 1) := dk_108 (dk_at dksX7_canBe_0 23 rfl rfl)
theorem dX7_canBe_24 : decode cX7_canBe 24 = .ok (.if_icmp .ge 35, 3) := dk_162 0 35 (dk_at dksX7_canBe_1 0 rfl rfl)
theorem dX7_canBe_27 : decode cX7_canBe 27 = .ok (.iload_n 1, 1) := dk_27 (dk_at dksX7_canBe_1 3 rfl rfl)
theorem dX7_canBe_28 : decode cX7_canBe 28 = .ok (.ifCond .eq 27, 3) := dk_153 0 27 (dk_at dksX7_canBe_1 4 rfl rfl)
theorem dX7_canBe_31 : decode cX7_canBe 31 = .ok (.aload_n 0, 1) := dk_42 (dk_at dksX7_canBe_1 7 rfl rfl)
theorem dX7_canBe_32 : decode cX7_canBe 32 = .ok (.getfield 9, 3) := dk_180 0 9 (dk_at dksX7_canBe_1 8 rfl rfl)
theorem dX7_canBe_35 : decode cX7_canBe 35 = .ok (.iload_n 1, 1) := dk_27 (dk_at dksX7_canBe_1 11 rfl rfl)
theorem dX7_canBe_36 : decode cX7_canBe 36 = .ok (.iconst 1, 1) := dk_4 (dk_at dksX7_canBe_1 12 rfl rfl)
theorem dX7_canBe_37 : decode cX7_canBe 37 = .ok (.isub, 1) := dk_100 (dk_at dksX7_canBe_1 13 rfl rfl)
theorem dX7_canBe_38 : decode cX7_canBe 38 = .ok (.iaload, 1) := dk_46 (dk_at dksX7_canBe_1 14 rfl rfl)
theorem dX7_canBe_39 : decode cX7_canBe 39 = .ok (.iload_n 2, 1) := dk_28 (dk_at dksX7_canBe_1 15 rfl rfl)
theorem dX7_canBe_40 : decode cX7_canBe 40 = .ok (.if_icmp .eq 19, 3) := dk_159 0 19 (dk_at dksX7_canBe_1 16 rfl rfl)
theorem dX7_canBe_43 : decode cX7_canBe 43 = .ok (.aload_n 0, 1) := dk_42 (dk_at dksX7_canBe_1 19 rfl rfl)
theorem dX7_canBe_44 : decode cX7_canBe 44 = .ok (.getfield 15, 3) := dk_180 0 15 (dk_at dksX7_canBe_1 20 rfl rfl)
theorem dX7_canBe_47 : decode cX7_canBe 47 = .ok (.iload_n 1, 1) := dk_27 (dk_at dksX7_canBe_1 23 rfl rfl)
theorem dX7_canBe_48 : decode cX7_canBe 48 = .ok (.iconst 1, 1) := dk_4 (dk_at dksX7_canBe_2 0 rfl rfl)
theorem dX7_canBe_49 : decode cX7_canBe 49 = .ok (.isub, 1) := dk_100 (dk_at dksX7_canBe_2 1 rfl rfl)
theorem dX7_canBe_50 : decode cX7_canBe 50 = .ok (.iaload, 1) := dk_46 (dk_at dksX7_canBe_2 2 rfl rfl)
theorem dX7_canBe_51 : decode cX7_canBe 51 = .ok (.iload_n 2, 1) := dk_28 (dk_at dksX7_canBe_2 3 rfl rfl)
theorem dX7_canBe_52 : decode cX7_canBe 52 = .ok (.if_icmp .eq 7, 3) := dk_159 0 7 (dk_at dksX7_canBe_2 4 rfl rfl)
theorem dX7_canBe_55 : decode cX7_canBe 55 = .ok (.iconst 1, 1) := dk_4 (dk_at dksX7_canBe_2 7 rfl rfl)
theorem dX7_canBe_56 : decode cX7_canBe 56 = .ok (.goto 4, 3) := dk_167 0 4 (dk_at dksX7_canBe_2 8 rfl rfl)
theorem dX7_canBe_59 : decode cX7_canBe 59 = .ok (.iconst 0, 1) := dk_3 (dk_at dksX7_canBe_2 11 rfl rfl)
theorem dX7_canBe_60 : decode cX7_canBe 60 = .ok (.ireturn, 1) := dk_172 (dk_at dksX7_canBe_2 12 rfl rfl)
abbrev cX7_at : ByteArray := prog_18_method_6_code
def yX7_at : MethodName := ⟨RX7, "at", "(I)I"⟩
def dkwX7_at_0 : List UInt8 := [16, 10, 42, 180, 0, 9, 27, 46, 104, 42, 180, 0, 15, 27, 46, 96, 172]
abbrev dktX7_at_0 : List UInt8 := dkwX7_at_0 ++ []
theorem dksX7_at_0 : cX7_at.data.toList.drop 0 = dktX7_at_0 := by decide +kernel
theorem dX7_at_0 : decode cX7_at 0 = .ok (.bipush 10, 2) := dk_16 10 (dk_at dksX7_at_0 0 rfl rfl)
theorem dX7_at_2 : decode cX7_at 2 = .ok (.aload_n 0, 1) := dk_42 (dk_at dksX7_at_0 2 rfl rfl)
theorem dX7_at_3 : decode cX7_at 3 = .ok (.getfield 9, 3) := dk_180 0 9 (dk_at dksX7_at_0 3 rfl rfl)
theorem dX7_at_6 : decode cX7_at 6 = .ok (.iload_n 1, 1) := dk_27 (dk_at dksX7_at_0 6 rfl rfl)
theorem dX7_at_7 : decode cX7_at 7 = .ok (.iaload, 1) := dk_46 (dk_at dksX7_at_0 7 rfl rfl)
theorem dX7_at_8 : decode cX7_at 8 = .ok (.imul, 1) := dk_104 (dk_at dksX7_at_0 8 rfl rfl)
theorem dX7_at_9 : decode cX7_at 9 = .ok (.aload_n 0, 1) := dk_42 (dk_at dksX7_at_0 9 rfl rfl)
theorem dX7_at_10 : decode cX7_at 10 = .ok (.getfield 15, 3) := dk_180 0 15 (dk_at dksX7_at_0 10 rfl rfl)
theorem dX7_at_13 : decode cX7_at 13 = .ok (.iload_n 1, 1) := dk_27 (dk_at dksX7_at_0 13 rfl rfl)
theorem dX7_at_14 : decode cX7_at 14 = .ok (.iaload, 1) := dk_46 (dk_at dksX7_at_0 14 rfl rfl)
theorem dX7_at_15 : decode cX7_at 15 = .ok (.iadd, 1) := dk_96 (dk_at dksX7_at_0 15 rfl rfl)
theorem dX7_at_16 : decode cX7_at 16 = .ok (.ireturn, 1) := dk_172 (dk_at dksX7_at_0 16 rfl rfl)
theorem q145 : (Jvm.Cond.initialized "LongerHalf$Turns") ∈ lw_all := lw_g (lw_at lw_m1 10 rfl) rfl
theorem q396 : (Jvm.Cond.instantiable "LongerHalf$Turns" (5 : Nat)) ∈ lw_all := lw_g (lw_at lw_m2 21 rfl) rfl
theorem q398 : (Jvm.Cond.instanceMethod ({ cls := "LongerHalf$Turns", name := "<init>", desc := "()V" } : Jvm.MethodName)) ∈ lw_all := lw_g (lw_at lw_m2 23 rfl) rfl
theorem q399 : (Jvm.Cond.code ({ cls := "LongerHalf$Turns", name := "<init>", desc := "()V" } : Jvm.MethodName) prog_18_method_1_code (1 : Nat) (Option.none : Option Jvm.ClassFile.FieldType)) ∈ lw_all := lw_g (lw_at lw_m2 24 rfl) rfl
theorem q400 : (Jvm.Cond.methodLink "LongerHalf$Turns" (3 : Nat) ({ cls := "java/lang/Object", name := "<init>", desc := "()V" } : Jvm.MethodName)) ∈ lw_all := lw_g (lw_at lw_m2 25 rfl) rfl
theorem q401 : (Jvm.Cond.fieldLink "LongerHalf$Turns" (9 : Nat) "LongerHalf$Turns" "one" "[I") ∈ lw_all := lw_g (lw_at lw_m2 26 rfl) rfl
theorem q402 : (Jvm.Cond.fieldLink "LongerHalf$Turns" (15 : Nat) "LongerHalf$Turns" "other" "[I") ∈ lw_all := lw_g (lw_at lw_m2 27 rfl) rfl
theorem q403 : (Jvm.Cond.fieldLink "LongerHalf$Turns" (18 : Nat) "LongerHalf$Turns" "many" "[I") ∈ lw_all := lw_g (lw_at lw_m2 28 rfl) rfl
theorem q404 : (Jvm.Cond.fieldLink "LongerHalf$Turns" (21 : Nat) "LongerHalf$Turns" "people" "I") ∈ lw_all := lw_g (lw_at lw_m2 29 rfl) rfl
theorem q405 : (Jvm.Cond.fieldLink "LongerHalf$Turns" (25 : Nat) "LongerHalf$Turns" "weeks" "I") ∈ lw_all := lw_g (lw_at lw_m2 30 rfl) rfl
theorem q406 : (Jvm.Cond.laysFinal "LongerHalf$Turns" "LongerHalf$Turns" "one" "[I") ∈ lw_all := lw_g (lw_at lw_m2 31 rfl) rfl
theorem q407 : (Jvm.Cond.soleField "LongerHalf$Turns" "one") ∈ lw_all := lw_g (lw_at lw_m2 32 rfl) rfl
theorem q408 : (Jvm.Cond.laysFinal "LongerHalf$Turns" "LongerHalf$Turns" "other" "[I") ∈ lw_all := lw_g (lw_at lw_m2 33 rfl) rfl
theorem q409 : (Jvm.Cond.soleField "LongerHalf$Turns" "other") ∈ lw_all := lw_g (lw_at lw_m2 34 rfl) rfl
theorem q410 : (Jvm.Cond.laysFinal "LongerHalf$Turns" "LongerHalf$Turns" "many" "[I") ∈ lw_all := lw_g (lw_at lw_m2 35 rfl) rfl
theorem q411 : (Jvm.Cond.soleField "LongerHalf$Turns" "many") ∈ lw_all := lw_g (lw_at lw_m2 36 rfl) rfl
theorem q412 : (Jvm.Cond.lays "LongerHalf$Turns" "LongerHalf$Turns" "people" "I") ∈ lw_all := lw_g (lw_at lw_m2 37 rfl) rfl
theorem q413 : (Jvm.Cond.soleField "LongerHalf$Turns" "people") ∈ lw_all := lw_g (lw_at lw_m2 38 rfl) rfl
theorem q414 : (Jvm.Cond.lays "LongerHalf$Turns" "LongerHalf$Turns" "weeks" "I") ∈ lw_all := lw_g (lw_at lw_m2 39 rfl) rfl
theorem q415 : (Jvm.Cond.soleField "LongerHalf$Turns" "weeks") ∈ lw_all := lw_g (lw_at lw_m2 40 rfl) rfl
theorem q416 : (Jvm.Cond.superclass "LongerHalf$Turns" "java/lang/Object") ∈ lw_all := lw_g (lw_at lw_m2 41 rfl) rfl
theorem q1413 : (Jvm.Cond.instanceMethod ({ cls := "LongerHalf$Turns", name := "find", desc := "(II)Z" } : Jvm.MethodName)) ∈ lw_all := lw_g (lw_at lw_m6 78 rfl) rfl
theorem q1414 : (Jvm.Cond.selects "LongerHalf$Turns" ({ cls := "LongerHalf$Turns", name := "find", desc := "(II)Z" } : Jvm.MethodName) ({ cls := "LongerHalf$Turns", name := "find", desc := "(II)Z" } : Jvm.MethodName)) ∈ lw_all := lw_g (lw_at lw_m6 79 rfl) rfl
theorem q1415 : (Jvm.Cond.code ({ cls := "LongerHalf$Turns", name := "find", desc := "(II)Z" } : Jvm.MethodName) prog_18_method_2_code (4 : Nat) (Option.some Jvm.ClassFile.FieldType.boolean)) ∈ lw_all := lw_g (lw_at lw_m6 80 rfl) rfl
theorem q1416 : (Jvm.Cond.methodLink "LongerHalf$Turns" (28 : Nat) ({ cls := "LongerHalf$Turns", name := "tries", desc := "(I)Z" } : Jvm.MethodName)) ∈ lw_all := lw_g (lw_at lw_m6 81 rfl) rfl
theorem q1417 : (Jvm.Cond.privateMethod ({ cls := "LongerHalf$Turns", name := "tries", desc := "(I)Z" } : Jvm.MethodName)) ∈ lw_tbl := lw_at lw_m6 82 rfl
theorem q1418 : (Jvm.Cond.instanceMethod ({ cls := "LongerHalf$Turns", name := "tries", desc := "(I)Z" } : Jvm.MethodName)) ∈ lw_all := lw_g (lw_at lw_m6 83 rfl) rfl
theorem q1419 : (Jvm.Cond.code ({ cls := "LongerHalf$Turns", name := "tries", desc := "(I)Z" } : Jvm.MethodName) prog_18_method_3_code (4 : Nat) (Option.some Jvm.ClassFile.FieldType.boolean)) ∈ lw_all := lw_g (lw_at lw_m6 84 rfl) rfl
theorem q1420 : (Jvm.Cond.methodLink "LongerHalf$Turns" (32 : Nat) ({ cls := "LongerHalf$Turns", name := "isEven", desc := "()Z" } : Jvm.MethodName)) ∈ lw_all := lw_g (lw_at lw_m6 85 rfl) rfl
theorem q1421 : (Jvm.Cond.privateMethod ({ cls := "LongerHalf$Turns", name := "isEven", desc := "()Z" } : Jvm.MethodName)) ∈ lw_tbl := lw_at lw_m6 86 rfl
theorem q1422 : (Jvm.Cond.instanceMethod ({ cls := "LongerHalf$Turns", name := "isEven", desc := "()Z" } : Jvm.MethodName)) ∈ lw_all := lw_g (lw_at lw_m6 87 rfl) rfl
theorem q1423 : (Jvm.Cond.code ({ cls := "LongerHalf$Turns", name := "isEven", desc := "()Z" } : Jvm.MethodName) prog_18_method_5_code (3 : Nat) (Option.some Jvm.ClassFile.FieldType.boolean)) ∈ lw_all := lw_g (lw_at lw_m6 88 rfl) rfl
theorem q1424 : (Jvm.Cond.methodLink "LongerHalf$Turns" (36 : Nat) ({ cls := "LongerHalf$Turns", name := "canBe", desc := "(II)Z" } : Jvm.MethodName)) ∈ lw_all := lw_g (lw_at lw_m6 89 rfl) rfl
theorem q1425 : (Jvm.Cond.privateMethod ({ cls := "LongerHalf$Turns", name := "canBe", desc := "(II)Z" } : Jvm.MethodName)) ∈ lw_tbl := lw_at lw_m6 90 rfl
theorem q1426 : (Jvm.Cond.instanceMethod ({ cls := "LongerHalf$Turns", name := "canBe", desc := "(II)Z" } : Jvm.MethodName)) ∈ lw_all := lw_g (lw_at lw_m6 91 rfl) rfl
theorem q1427 : (Jvm.Cond.code ({ cls := "LongerHalf$Turns", name := "canBe", desc := "(II)Z" } : Jvm.MethodName) prog_18_method_4_code (3 : Nat) (Option.some Jvm.ClassFile.FieldType.boolean)) ∈ lw_all := lw_g (lw_at lw_m6 92 rfl) rfl
theorem q1433 : (Jvm.Cond.instanceMethod ({ cls := "LongerHalf$Turns", name := "at", desc := "(I)I" } : Jvm.MethodName)) ∈ lw_all := lw_g (lw_at lw_m6 98 rfl) rfl
theorem q1434 : (Jvm.Cond.selects "LongerHalf$Turns" ({ cls := "LongerHalf$Turns", name := "at", desc := "(I)I" } : Jvm.MethodName) ({ cls := "LongerHalf$Turns", name := "at", desc := "(I)I" } : Jvm.MethodName)) ∈ lw_all := lw_g (lw_at lw_m6 99 rfl) rfl
theorem q1435 : (Jvm.Cond.code ({ cls := "LongerHalf$Turns", name := "at", desc := "(I)I" } : Jvm.MethodName) prog_18_method_6_code (2 : Nat) (Option.some Jvm.ClassFile.FieldType.int)) ∈ lw_all := lw_g (lw_at lw_m6 100 rfl) rfl
theorem q2470 : (Jvm.Cond.castable "LongerHalf$Turns" "java/lang/Object") ∈ lw_tbl := lw_at lw_m10 175 rfl
theorem in_X7 : ∀ w ∈ wsX70, w ∈ lw_all := lw_in wsX70 [406, 408, 410, 412, 414] (by decide +kernel) (by decide +kernel)

/-! LongerHalf$Kitchen -/
set_option maxRecDepth 100000
def RX9 : String := "LongerHalf$Kitchen"
def TX9 : u_T := fun k => match k with
  | 0 => ("LongerHalf$Kitchen", "bones", "[LLongerHalf$Bone;", true)
  | 1 => ("LongerHalf$Kitchen", "people", "[LLongerHalf$Person;", true)
  | 2 => ("LongerHalf$Kitchen", "pieceArm", "[I", true)
  | 3 => ("LongerHalf$Kitchen", "piecePlace", "[I", true)
  | 4 => ("LongerHalf$Kitchen", "bends", "I", false)
  | 5 => ("LongerHalf$Kitchen", "tough", "I", false)
  | 6 => ("LongerHalf$Kitchen", "jerk", "I", false)
  | 7 => ("LongerHalf$Kitchen", "thumb", "I", false)
  | 8 => ("LongerHalf$Kitchen", "flaw", "I", false)
  | 9 => ("LongerHalf$Kitchen", "boneMany", "I", false)
  | 10 => ("LongerHalf$Kitchen", "personMany", "I", false)
  | 11 => ("LongerHalf$Kitchen", "forMany", "I", false)
  | 12 => ("LongerHalf$Kitchen", "wonMany", "I", false)
  | 13 => ("LongerHalf$Kitchen", "leftMany", "I", false)
  | _ => ("LongerHalf$Kitchen", "pieceMany", "I", false)
def tyX9 : Nat → FieldType := fun k => match k with
  | 0 => .array (.object "LongerHalf$Bone")
  | 1 => .array (.object "LongerHalf$Person")
  | 2 => .array .int
  | 3 => .array .int
  | 4 => .int
  | 5 => .int
  | 6 => .int
  | 7 => .int
  | 8 => .int
  | 9 => .int
  | 10 => .int
  | 11 => .int
  | 12 => .int
  | 13 => .int
  | _ => .int
abbrev wsX90 : List Cond := u_ws RX9 TX9 15
set_option maxRecDepth 100000 in
theorem nmX9 : ∀ a, a < 15 → ∀ b, b < 15 → a ≠ b → (TX9 a).2.1 ≠ (TX9 b).2.1 := by decide +kernel
set_option maxRecDepth 100000 in
theorem tyX9_ok : ∀ k, k < 15 → parseFieldDescriptor (TX9 k).2.2.1 = some (tyX9 k) := by decide +kernel
abbrev cX9_init : ByteArray := prog_11_method_1_code
def yX9_init : MethodName := ⟨RX9, "<init>", "()V"⟩
def dkwX9_init_1 : List UInt8 := [188, 10, 181, 0, 23, 42, 7, 188, 10, 181, 0, 27, 177]
abbrev dktX9_init_1 : List UInt8 := dkwX9_init_1 ++ []
def dkwX9_init_0 : List UInt8 := [42, 183, 0, 3, 42, 8, 189, 0, 9, 181, 0, 11, 42, 16, 6, 189, 0, 17, 181, 0, 19, 42, 7]
abbrev dktX9_init_0 : List UInt8 := dkwX9_init_0 ++ dktX9_init_1
theorem dksX9_init_0 : cX9_init.data.toList.drop 0 = dktX9_init_0 := by decide +kernel
theorem dksX9_init_1 : cX9_init.data.toList.drop 23 = dktX9_init_1 := dk_seg dksX9_init_0 23 rfl rfl
theorem dX9_init_0 : decode cX9_init 0 = .ok (.aload_n 0, 1) := dk_42 (dk_at dksX9_init_0 0 rfl rfl)
theorem dX9_init_1 : decode cX9_init 1 = .ok (.invokespecial 3, 3) := dk_183 0 3 (dk_at dksX9_init_0 1 rfl rfl)
theorem dX9_init_4 : decode cX9_init 4 = .ok (.aload_n 0, 1) := dk_42 (dk_at dksX9_init_0 4 rfl rfl)
theorem dX9_init_5 : decode cX9_init 5 = .ok (.iconst 5, 1) := dk_8 (dk_at dksX9_init_0 5 rfl rfl)
theorem dX9_init_6 : decode cX9_init 6 = .ok (.anewarray 9, 3) := dk_189 0 9 (dk_at dksX9_init_0 6 rfl rfl)
theorem dX9_init_9 : decode cX9_init 9 = .ok (.putfield 11, 3) := dk_181 0 11 (dk_at dksX9_init_0 9 rfl rfl)
theorem dX9_init_12 : decode cX9_init 12 = .ok (.aload_n 0, 1) := dk_42 (dk_at dksX9_init_0 12 rfl rfl)
theorem dX9_init_13 : decode cX9_init 13 = .ok (.bipush 6, 2) := dk_16 6 (dk_at dksX9_init_0 13 rfl rfl)
theorem dX9_init_15 : decode cX9_init 15 = .ok (.anewarray 17, 3) := dk_189 0 17 (dk_at dksX9_init_0 15 rfl rfl)
theorem dX9_init_18 : decode cX9_init 18 = .ok (.putfield 19, 3) := dk_181 0 19 (dk_at dksX9_init_0 18 rfl rfl)
theorem dX9_init_21 : decode cX9_init 21 = .ok (.aload_n 0, 1) := dk_42 (dk_at dksX9_init_0 21 rfl rfl)
theorem dX9_init_22 : decode cX9_init 22 = .ok (.iconst 4, 1) := dk_7 (dk_at dksX9_init_0 22 rfl rfl)
theorem dX9_init_23 : decode cX9_init 23 = .ok (.newarray .int, 2) := dk_188_10 (dk_at dksX9_init_1 0 rfl rfl)
theorem dX9_init_25 : decode cX9_init 25 = .ok (.putfield 23, 3) := dk_181 0 23 (dk_at dksX9_init_1 2 rfl rfl)
theorem dX9_init_28 : decode cX9_init 28 = .ok (.aload_n 0, 1) := dk_42 (dk_at dksX9_init_1 5 rfl rfl)
theorem dX9_init_29 : decode cX9_init 29 = .ok (.iconst 4, 1) := dk_7 (dk_at dksX9_init_1 6 rfl rfl)
theorem dX9_init_30 : decode cX9_init 30 = .ok (.newarray .int, 2) := dk_188_10 (dk_at dksX9_init_1 7 rfl rfl)
theorem dX9_init_32 : decode cX9_init 32 = .ok (.putfield 27, 3) := dk_181 0 27 (dk_at dksX9_init_1 9 rfl rfl)
theorem dX9_init_35 : decode cX9_init 35 = .ok (.return_, 1) := dk_177 (dk_at dksX9_init_1 12 rfl rfl)
abbrev cX9_find : ByteArray := prog_11_method_3_code
def yX9_find : MethodName := ⟨RX9, "find", "(Ljava/lang/String;)LLongerHalf$Named;"⟩
def dkwX9_find_1 : List UInt8 := [180, 0, 50, 43, 184, 0, 46, 167, 0, 4, 44, 176]
abbrev dktX9_find_1 : List UInt8 := dkwX9_find_1 ++ []
def dkwX9_find_0 : List UInt8 := [42, 180, 0, 11, 42, 180, 0, 42, 43, 184, 0, 46, 77, 44, 199, 0, 18, 42, 180, 0, 19, 42]
abbrev dktX9_find_0 : List UInt8 := dkwX9_find_0 ++ dktX9_find_1
theorem dksX9_find_0 : cX9_find.data.toList.drop 0 = dktX9_find_0 := by decide +kernel
theorem dksX9_find_1 : cX9_find.data.toList.drop 22 = dktX9_find_1 := dk_seg dksX9_find_0 22 rfl rfl
theorem dX9_find_0 : decode cX9_find 0 = .ok (.aload_n 0, 1) := dk_42 (dk_at dksX9_find_0 0 rfl rfl)
theorem dX9_find_1 : decode cX9_find 1 = .ok (.getfield 11, 3) := dk_180 0 11 (dk_at dksX9_find_0 1 rfl rfl)
theorem dX9_find_4 : decode cX9_find 4 = .ok (.aload_n 0, 1) := dk_42 (dk_at dksX9_find_0 4 rfl rfl)
theorem dX9_find_5 : decode cX9_find 5 = .ok (.getfield 42, 3) := dk_180 0 42 (dk_at dksX9_find_0 5 rfl rfl)
theorem dX9_find_8 : decode cX9_find 8 = .ok (.aload_n 1, 1) := dk_43 (dk_at dksX9_find_0 8 rfl rfl)
theorem dX9_find_9 : decode cX9_find 9 = .ok (.invokestatic 46, 3) := dk_184 0 46 (dk_at dksX9_find_0 9 rfl rfl)
theorem dX9_find_12 : decode cX9_find 12 = .ok (.astore_n 2, 1) := dk_77 (dk_at dksX9_find_0 12 rfl rfl)
theorem dX9_find_13 : decode cX9_find 13 = .ok (.aload_n 2, 1) := dk_44 (dk_at dksX9_find_0 13 rfl rfl)
theorem dX9_find_14 : decode cX9_find 14 = .ok (.ifnonnull 18, 3) := dk_199 0 18 (dk_at dksX9_find_0 14 rfl rfl)
theorem dX9_find_17 : decode cX9_find 17 = .ok (.aload_n 0, 1) := dk_42 (dk_at dksX9_find_0 17 rfl rfl)
theorem dX9_find_18 : decode cX9_find 18 = .ok (.getfield 19, 3) := dk_180 0 19 (dk_at dksX9_find_0 18 rfl rfl)
theorem dX9_find_21 : decode cX9_find 21 = .ok (.aload_n 0, 1) := dk_42 (dk_at dksX9_find_0 21 rfl rfl)
theorem dX9_find_22 : decode cX9_find 22 = .ok (.getfield 50, 3) := dk_180 0 50 (dk_at dksX9_find_1 0 rfl rfl)
theorem dX9_find_25 : decode cX9_find 25 = .ok (.aload_n 1, 1) := dk_43 (dk_at dksX9_find_1 3 rfl rfl)
theorem dX9_find_26 : decode cX9_find 26 = .ok (.invokestatic 46, 3) := dk_184 0 46 (dk_at dksX9_find_1 4 rfl rfl)
theorem dX9_find_29 : decode cX9_find 29 = .ok (.goto 4, 3) := dk_167 0 4 (dk_at dksX9_find_1 7 rfl rfl)
theorem dX9_find_32 : decode cX9_find 32 = .ok (.aload_n 2, 1) := dk_44 (dk_at dksX9_find_1 10 rfl rfl)
theorem dX9_find_33 : decode cX9_find 33 = .ok (.areturn, 1) := dk_176 (dk_at dksX9_find_1 11 rfl rfl)
abbrev cX9_among : ByteArray := prog_11_method_2_code
def yX9_among : MethodName := ⟨RX9, "among", "([LLongerHalf$Named;ILjava/lang/String;)LLongerHalf$Named;"⟩
def dkwX9_among_1 : List UInt8 := [132, 3, 1, 167, 255, 231, 1, 176]
abbrev dktX9_among_1 : List UInt8 := dkwX9_among_1 ++ []
def dkwX9_among_0 : List UInt8 := [3, 62, 29, 27, 162, 0, 26, 42, 29, 50, 180, 0, 30, 44, 182, 0, 36, 153, 0, 7, 42, 29, 50, 176]
abbrev dktX9_among_0 : List UInt8 := dkwX9_among_0 ++ dktX9_among_1
theorem dksX9_among_0 : cX9_among.data.toList.drop 0 = dktX9_among_0 := by decide +kernel
theorem dksX9_among_1 : cX9_among.data.toList.drop 24 = dktX9_among_1 := dk_seg dksX9_among_0 24 rfl rfl
theorem dX9_among_0 : decode cX9_among 0 = .ok (.iconst 0, 1) := dk_3 (dk_at dksX9_among_0 0 rfl rfl)
theorem dX9_among_1 : decode cX9_among 1 = .ok (.istore_n 3, 1) := dk_62 (dk_at dksX9_among_0 1 rfl rfl)
theorem dX9_among_2 : decode cX9_among 2 = .ok (.iload_n 3, 1) := dk_29 (dk_at dksX9_among_0 2 rfl rfl)
theorem dX9_among_3 : decode cX9_among 3 = .ok (.iload_n 1, 1) := dk_27 (dk_at dksX9_among_0 3 rfl rfl)
theorem dX9_among_4 : decode cX9_among 4 = .ok (.if_icmp .ge 26, 3) := dk_162 0 26 (dk_at dksX9_among_0 4 rfl rfl)
theorem dX9_among_7 : decode cX9_among 7 = .ok (.aload_n 0, 1) := dk_42 (dk_at dksX9_among_0 7 rfl rfl)
theorem dX9_among_8 : decode cX9_among 8 = .ok (.iload_n 3, 1) := dk_29 (dk_at dksX9_among_0 8 rfl rfl)
theorem dX9_among_9 : decode cX9_among 9 = .ok (.aaload, 1) := dk_50 (dk_at dksX9_among_0 9 rfl rfl)
theorem dX9_among_10 : decode cX9_among 10 = .ok (.getfield 30, 3) := dk_180 0 30 (dk_at dksX9_among_0 10 rfl rfl)
theorem dX9_among_13 : decode cX9_among 13 = .ok (.aload_n 2, 1) := dk_44 (dk_at dksX9_among_0 13 rfl rfl)
theorem dX9_among_14 : decode cX9_among 14 = .ok (.invokevirtual 36, 3) := dk_182 0 36 (dk_at dksX9_among_0 14 rfl rfl)
theorem dX9_among_17 : decode cX9_among 17 = .ok (.ifCond .eq 7, 3) := dk_153 0 7 (dk_at dksX9_among_0 17 rfl rfl)
theorem dX9_among_20 : decode cX9_among 20 = .ok (.aload_n 0, 1) := dk_42 (dk_at dksX9_among_0 20 rfl rfl)
theorem dX9_among_21 : decode cX9_among 21 = .ok (.iload_n 3, 1) := dk_29 (dk_at dksX9_among_0 21 rfl rfl)
theorem dX9_among_22 : decode cX9_among 22 = .ok (.aaload, 1) := dk_50 (dk_at dksX9_among_0 22 rfl rfl)
theorem dX9_among_23 : decode cX9_among 23 = .ok (.areturn, 1) := dk_176 (dk_at dksX9_among_0 23 rfl rfl)
theorem dX9_among_24 : decode cX9_among 24 = .ok (.iinc 3 1, 3) := dk_132 3 1 (dk_at dksX9_among_1 0 rfl rfl)
theorem dX9_among_27 : decode cX9_among 27 = .ok (.goto (-25), 3) := dk_167 255 231 (dk_at dksX9_among_1 3 rfl rfl)
theorem dX9_among_30 : decode cX9_among 30 = .ok (.aconst_null, 1) := dk_1 (dk_at dksX9_among_1 6 rfl rfl)
theorem dX9_among_31 : decode cX9_among 31 = .ok (.areturn, 1) := dk_176 (dk_at dksX9_among_1 7 rfl rfl)
theorem q147 : (Jvm.Cond.initialized "LongerHalf$Kitchen") ∈ lw_all := lw_g (lw_at lw_m1 12 rfl) rfl
theorem q511 : (Jvm.Cond.instantiable "LongerHalf$Kitchen" (15 : Nat)) ∈ lw_all := lw_g (lw_at lw_m2 136 rfl) rfl
theorem q513 : (Jvm.Cond.instanceMethod ({ cls := "LongerHalf$Kitchen", name := "<init>", desc := "()V" } : Jvm.MethodName)) ∈ lw_all := lw_g (lw_at lw_m2 138 rfl) rfl
theorem q514 : (Jvm.Cond.code ({ cls := "LongerHalf$Kitchen", name := "<init>", desc := "()V" } : Jvm.MethodName) prog_11_method_1_code (1 : Nat) (Option.none : Option Jvm.ClassFile.FieldType)) ∈ lw_all := lw_g (lw_at lw_m2 139 rfl) rfl
theorem q515 : (Jvm.Cond.methodLink "LongerHalf$Kitchen" (3 : Nat) ({ cls := "java/lang/Object", name := "<init>", desc := "()V" } : Jvm.MethodName)) ∈ lw_all := lw_g (lw_at lw_m2 140 rfl) rfl
theorem q516 : (Jvm.Cond.classLink "LongerHalf$Kitchen" (9 : Nat) "LongerHalf$Bone") ∈ lw_all := lw_g (lw_at lw_m2 141 rfl) rfl
theorem q518 : (Jvm.Cond.classLink "LongerHalf$Kitchen" (17 : Nat) "LongerHalf$Person") ∈ lw_all := lw_g (lw_at lw_m2 143 rfl) rfl
theorem q519 : (Jvm.Cond.fieldLink "LongerHalf$Kitchen" (11 : Nat) "LongerHalf$Kitchen" "bones" "[LLongerHalf$Bone;") ∈ lw_all := lw_g (lw_at lw_m2 144 rfl) rfl
theorem q523 : (Jvm.Cond.fieldLink "LongerHalf$Kitchen" (19 : Nat) "LongerHalf$Kitchen" "people" "[LLongerHalf$Person;") ∈ lw_all := lw_g (lw_at lw_m2 148 rfl) rfl
theorem q526 : (Jvm.Cond.fieldLink "LongerHalf$Kitchen" (23 : Nat) "LongerHalf$Kitchen" "pieceArm" "[I") ∈ lw_all := lw_g (lw_at lw_m2 151 rfl) rfl
theorem q529 : (Jvm.Cond.fieldLink "LongerHalf$Kitchen" (27 : Nat) "LongerHalf$Kitchen" "piecePlace" "[I") ∈ lw_all := lw_g (lw_at lw_m2 154 rfl) rfl
theorem q548 : (Jvm.Cond.fieldLink "LongerHalf$Kitchen" (42 : Nat) "LongerHalf$Kitchen" "boneMany" "I") ∈ lw_all := lw_g (lw_at lw_m2 173 rfl) rfl
theorem q551 : (Jvm.Cond.fieldLink "LongerHalf$Kitchen" (50 : Nat) "LongerHalf$Kitchen" "personMany" "I") ∈ lw_all := lw_g (lw_at lw_m2 176 rfl) rfl
theorem q562 : (Jvm.Cond.laysFinal "LongerHalf$Kitchen" "LongerHalf$Kitchen" "bones" "[LLongerHalf$Bone;") ∈ lw_all := lw_g (lw_at lw_m2 187 rfl) rfl
theorem q563 : (Jvm.Cond.soleField "LongerHalf$Kitchen" "bones") ∈ lw_all := lw_g (lw_at lw_m2 188 rfl) rfl
theorem q564 : (Jvm.Cond.laysFinal "LongerHalf$Kitchen" "LongerHalf$Kitchen" "people" "[LLongerHalf$Person;") ∈ lw_all := lw_g (lw_at lw_m2 189 rfl) rfl
theorem q565 : (Jvm.Cond.soleField "LongerHalf$Kitchen" "people") ∈ lw_all := lw_g (lw_at lw_m2 190 rfl) rfl
theorem q566 : (Jvm.Cond.laysFinal "LongerHalf$Kitchen" "LongerHalf$Kitchen" "pieceArm" "[I") ∈ lw_all := lw_g (lw_at lw_m2 191 rfl) rfl
theorem q567 : (Jvm.Cond.soleField "LongerHalf$Kitchen" "pieceArm") ∈ lw_all := lw_g (lw_at lw_m2 192 rfl) rfl
theorem q568 : (Jvm.Cond.laysFinal "LongerHalf$Kitchen" "LongerHalf$Kitchen" "piecePlace" "[I") ∈ lw_all := lw_g (lw_at lw_m2 193 rfl) rfl
theorem q569 : (Jvm.Cond.soleField "LongerHalf$Kitchen" "piecePlace") ∈ lw_all := lw_g (lw_at lw_m2 194 rfl) rfl
theorem q570 : (Jvm.Cond.lays "LongerHalf$Kitchen" "LongerHalf$Kitchen" "bends" "I") ∈ lw_all := lw_g (lw_at lw_m2 195 rfl) rfl
theorem q571 : (Jvm.Cond.soleField "LongerHalf$Kitchen" "bends") ∈ lw_all := lw_g (lw_at lw_m2 196 rfl) rfl
theorem q572 : (Jvm.Cond.lays "LongerHalf$Kitchen" "LongerHalf$Kitchen" "tough" "I") ∈ lw_all := lw_g (lw_at lw_m2 197 rfl) rfl
theorem q573 : (Jvm.Cond.soleField "LongerHalf$Kitchen" "tough") ∈ lw_all := lw_g (lw_at lw_m2 198 rfl) rfl
theorem q574 : (Jvm.Cond.lays "LongerHalf$Kitchen" "LongerHalf$Kitchen" "jerk" "I") ∈ lw_all := lw_g (lw_at lw_m2 199 rfl) rfl
theorem q575 : (Jvm.Cond.soleField "LongerHalf$Kitchen" "jerk") ∈ lw_all := lw_g (lw_at lw_m2 200 rfl) rfl
theorem q576 : (Jvm.Cond.lays "LongerHalf$Kitchen" "LongerHalf$Kitchen" "thumb" "I") ∈ lw_all := lw_g (lw_at lw_m2 201 rfl) rfl
theorem q577 : (Jvm.Cond.soleField "LongerHalf$Kitchen" "thumb") ∈ lw_all := lw_g (lw_at lw_m2 202 rfl) rfl
theorem q578 : (Jvm.Cond.lays "LongerHalf$Kitchen" "LongerHalf$Kitchen" "flaw" "I") ∈ lw_all := lw_g (lw_at lw_m2 203 rfl) rfl
theorem q579 : (Jvm.Cond.soleField "LongerHalf$Kitchen" "flaw") ∈ lw_all := lw_g (lw_at lw_m2 204 rfl) rfl
theorem q580 : (Jvm.Cond.lays "LongerHalf$Kitchen" "LongerHalf$Kitchen" "boneMany" "I") ∈ lw_all := lw_g (lw_at lw_m2 205 rfl) rfl
theorem q581 : (Jvm.Cond.soleField "LongerHalf$Kitchen" "boneMany") ∈ lw_all := lw_g (lw_at lw_m2 206 rfl) rfl
theorem q582 : (Jvm.Cond.lays "LongerHalf$Kitchen" "LongerHalf$Kitchen" "personMany" "I") ∈ lw_all := lw_g (lw_at lw_m2 207 rfl) rfl
theorem q583 : (Jvm.Cond.soleField "LongerHalf$Kitchen" "personMany") ∈ lw_all := lw_g (lw_at lw_m2 208 rfl) rfl
theorem q584 : (Jvm.Cond.lays "LongerHalf$Kitchen" "LongerHalf$Kitchen" "forMany" "I") ∈ lw_all := lw_g (lw_at lw_m2 209 rfl) rfl
theorem q585 : (Jvm.Cond.soleField "LongerHalf$Kitchen" "forMany") ∈ lw_all := lw_g (lw_at lw_m2 210 rfl) rfl
theorem q586 : (Jvm.Cond.lays "LongerHalf$Kitchen" "LongerHalf$Kitchen" "wonMany" "I") ∈ lw_all := lw_g (lw_at lw_m2 211 rfl) rfl
theorem q587 : (Jvm.Cond.soleField "LongerHalf$Kitchen" "wonMany") ∈ lw_all := lw_g (lw_at lw_m2 212 rfl) rfl
theorem q588 : (Jvm.Cond.lays "LongerHalf$Kitchen" "LongerHalf$Kitchen" "leftMany" "I") ∈ lw_all := lw_g (lw_at lw_m2 213 rfl) rfl
theorem q589 : (Jvm.Cond.soleField "LongerHalf$Kitchen" "leftMany") ∈ lw_all := lw_g (lw_at lw_m2 214 rfl) rfl
theorem q590 : (Jvm.Cond.lays "LongerHalf$Kitchen" "LongerHalf$Kitchen" "pieceMany" "I") ∈ lw_all := lw_g (lw_at lw_m2 215 rfl) rfl
theorem q591 : (Jvm.Cond.soleField "LongerHalf$Kitchen" "pieceMany") ∈ lw_all := lw_g (lw_at lw_m2 216 rfl) rfl
theorem q592 : (Jvm.Cond.superclass "LongerHalf$Kitchen" "java/lang/Object") ∈ lw_all := lw_g (lw_at lw_m2 217 rfl) rfl
theorem q811 : (Jvm.Cond.instanceMethod ({ cls := "LongerHalf$Kitchen", name := "find", desc := "(Ljava/lang/String;)LLongerHalf$Named;" } : Jvm.MethodName)) ∈ lw_all := lw_g (lw_at lw_m3 196 rfl) rfl
theorem q812 : (Jvm.Cond.selects "LongerHalf$Kitchen" ({ cls := "LongerHalf$Kitchen", name := "find", desc := "(Ljava/lang/String;)LLongerHalf$Named;" } : Jvm.MethodName) ({ cls := "LongerHalf$Kitchen", name := "find", desc := "(Ljava/lang/String;)LLongerHalf$Named;" } : Jvm.MethodName)) ∈ lw_all := lw_g (lw_at lw_m3 197 rfl) rfl
theorem q813 : (Jvm.Cond.code ({ cls := "LongerHalf$Kitchen", name := "find", desc := "(Ljava/lang/String;)LLongerHalf$Named;" } : Jvm.MethodName) prog_11_method_3_code (3 : Nat) (Option.some (Jvm.ClassFile.FieldType.object "LongerHalf$Named"))) ∈ lw_all := lw_g (lw_at lw_m3 198 rfl) rfl
theorem q814 : (Jvm.Cond.methodLink "LongerHalf$Kitchen" (46 : Nat) ({ cls := "LongerHalf$Kitchen", name := "among", desc := "([LLongerHalf$Named;ILjava/lang/String;)LLongerHalf$Named;" } : Jvm.MethodName)) ∈ lw_all := lw_g (lw_at lw_m3 199 rfl) rfl
theorem q815 : (Jvm.Cond.static ({ cls := "LongerHalf$Kitchen", name := "among", desc := "([LLongerHalf$Named;ILjava/lang/String;)LLongerHalf$Named;" } : Jvm.MethodName)) ∈ lw_all := lw_g (lw_at lw_m3 200 rfl) rfl
theorem q816 : (Jvm.Cond.code ({ cls := "LongerHalf$Kitchen", name := "among", desc := "([LLongerHalf$Named;ILjava/lang/String;)LLongerHalf$Named;" } : Jvm.MethodName) prog_11_method_2_code (4 : Nat) (Option.some (Jvm.ClassFile.FieldType.object "LongerHalf$Named"))) ∈ lw_all := lw_g (lw_at lw_m3 201 rfl) rfl
theorem q817 : (Jvm.Cond.methodLink "LongerHalf$Kitchen" (36 : Nat) ({ cls := "java/lang/String", name := "equals", desc := "(Ljava/lang/Object;)Z" } : Jvm.MethodName)) ∈ lw_all := lw_g (lw_at lw_m3 202 rfl) rfl
theorem q840 : (Jvm.Cond.fieldLink "LongerHalf$Kitchen" (30 : Nat) "LongerHalf$Named" "name" "Ljava/lang/String;") ∈ lw_all := lw_g (lw_at lw_m3 225 rfl) rfl
theorem q2472 : (Jvm.Cond.castable "LongerHalf$Kitchen" "java/lang/Object") ∈ lw_tbl := lw_at lw_m10 177 rfl
theorem in_X9 : ∀ w ∈ wsX90, w ∈ lw_all := lw_in wsX90 [562, 564, 566, 568, 570, 572, 574, 576, 578, 580, 582, 584, 586, 588, 590] (by decide +kernel) (by decide +kernel)

/-! LongerHalf$Named -/
set_option maxRecDepth 100000
def RX10 : String := "LongerHalf$Named"
abbrev cX10_init : ByteArray := prog_12_method_1_code
def yX10_init : MethodName := ⟨RX10, "<init>", "(Ljava/lang/String;I)V"⟩
def dkwX10_init_0 : List UInt8 := [42, 183, 0, 1, 42, 43, 181, 0, 7, 42, 28, 181, 0, 13, 177]
abbrev dktX10_init_0 : List UInt8 := dkwX10_init_0 ++ []
theorem dksX10_init_0 : cX10_init.data.toList.drop 0 = dktX10_init_0 := by decide +kernel
theorem dX10_init_0 : decode cX10_init 0 = .ok (.aload_n 0, 1) := dk_42 (dk_at dksX10_init_0 0 rfl rfl)
theorem dX10_init_1 : decode cX10_init 1 = .ok (.invokespecial 1, 3) := dk_183 0 1 (dk_at dksX10_init_0 1 rfl rfl)
theorem dX10_init_4 : decode cX10_init 4 = .ok (.aload_n 0, 1) := dk_42 (dk_at dksX10_init_0 4 rfl rfl)
theorem dX10_init_5 : decode cX10_init 5 = .ok (.aload_n 1, 1) := dk_43 (dk_at dksX10_init_0 5 rfl rfl)
theorem dX10_init_6 : decode cX10_init 6 = .ok (.putfield 7, 3) := dk_181 0 7 (dk_at dksX10_init_0 6 rfl rfl)
theorem dX10_init_9 : decode cX10_init 9 = .ok (.aload_n 0, 1) := dk_42 (dk_at dksX10_init_0 9 rfl rfl)
theorem dX10_init_10 : decode cX10_init 10 = .ok (.iload_n 2, 1) := dk_28 (dk_at dksX10_init_0 10 rfl rfl)
theorem dX10_init_11 : decode cX10_init 11 = .ok (.putfield 13, 3) := dk_181 0 13 (dk_at dksX10_init_0 11 rfl rfl)
theorem dX10_init_14 : decode cX10_init 14 = .ok (.return_, 1) := dk_177 (dk_at dksX10_init_0 14 rfl rfl)
theorem q153 : (Jvm.Cond.initialized "LongerHalf$Named") ∈ lw_all := lw_g (lw_at lw_m1 18 rfl) rfl
theorem q832 : (Jvm.Cond.instanceMethod ({ cls := "LongerHalf$Named", name := "<init>", desc := "(Ljava/lang/String;I)V" } : Jvm.MethodName)) ∈ lw_all := lw_g (lw_at lw_m3 217 rfl) rfl
theorem q833 : (Jvm.Cond.code ({ cls := "LongerHalf$Named", name := "<init>", desc := "(Ljava/lang/String;I)V" } : Jvm.MethodName) prog_12_method_1_code (3 : Nat) (Option.none : Option Jvm.ClassFile.FieldType)) ∈ lw_all := lw_g (lw_at lw_m3 218 rfl) rfl
theorem q834 : (Jvm.Cond.methodLink "LongerHalf$Named" (1 : Nat) ({ cls := "java/lang/Object", name := "<init>", desc := "()V" } : Jvm.MethodName)) ∈ lw_all := lw_g (lw_at lw_m3 219 rfl) rfl
theorem q839 : (Jvm.Cond.fieldLink "LongerHalf$Named" (7 : Nat) "LongerHalf$Named" "name" "Ljava/lang/String;") ∈ lw_all := lw_g (lw_at lw_m3 224 rfl) rfl
theorem q841 : (Jvm.Cond.fieldLink "LongerHalf$Named" (13 : Nat) "LongerHalf$Named" "number" "I") ∈ lw_all := lw_g (lw_at lw_m3 226 rfl) rfl
theorem q851 : (Jvm.Cond.soleField "LongerHalf$Named" "name") ∈ lw_all := lw_g (lw_at lw_m3 236 rfl) rfl
theorem q853 : (Jvm.Cond.soleField "LongerHalf$Named" "number") ∈ lw_all := lw_g (lw_at lw_m3 238 rfl) rfl

/-! LongerHalf$Bone -/
set_option maxRecDepth 100000
def RX11 : String := "LongerHalf$Bone"
abbrev cX11_init : ByteArray := prog_3_method_1_code
def yX11_init : MethodName := ⟨RX11, "<init>", "(Ljava/lang/String;I)V"⟩
def dkwX11_init_0 : List UInt8 := [42, 43, 28, 183, 0, 3, 42, 16, 12, 188, 10, 181, 0, 9, 42, 5, 188, 10, 181, 0, 15, 177]
abbrev dktX11_init_0 : List UInt8 := dkwX11_init_0 ++ []
theorem dksX11_init_0 : cX11_init.data.toList.drop 0 = dktX11_init_0 := by decide +kernel
theorem dX11_init_0 : decode cX11_init 0 = .ok (.aload_n 0, 1) := dk_42 (dk_at dksX11_init_0 0 rfl rfl)
theorem dX11_init_1 : decode cX11_init 1 = .ok (.aload_n 1, 1) := dk_43 (dk_at dksX11_init_0 1 rfl rfl)
theorem dX11_init_2 : decode cX11_init 2 = .ok (.iload_n 2, 1) := dk_28 (dk_at dksX11_init_0 2 rfl rfl)
theorem dX11_init_3 : decode cX11_init 3 = .ok (.invokespecial 3, 3) := dk_183 0 3 (dk_at dksX11_init_0 3 rfl rfl)
theorem dX11_init_6 : decode cX11_init 6 = .ok (.aload_n 0, 1) := dk_42 (dk_at dksX11_init_0 6 rfl rfl)
theorem dX11_init_7 : decode cX11_init 7 = .ok (.bipush 12, 2) := dk_16 12 (dk_at dksX11_init_0 7 rfl rfl)
theorem dX11_init_9 : decode cX11_init 9 = .ok (.newarray .int, 2) := dk_188_10 (dk_at dksX11_init_0 9 rfl rfl)
theorem dX11_init_11 : decode cX11_init 11 = .ok (.putfield 9, 3) := dk_181 0 9 (dk_at dksX11_init_0 11 rfl rfl)
theorem dX11_init_14 : decode cX11_init 14 = .ok (.aload_n 0, 1) := dk_42 (dk_at dksX11_init_0 14 rfl rfl)
theorem dX11_init_15 : decode cX11_init 15 = .ok (.iconst 2, 1) := dk_5 (dk_at dksX11_init_0 15 rfl rfl)
theorem dX11_init_16 : decode cX11_init 16 = .ok (.newarray .int, 2) := dk_188_10 (dk_at dksX11_init_0 16 rfl rfl)
theorem dX11_init_18 : decode cX11_init 18 = .ok (.putfield 15, 3) := dk_181 0 15 (dk_at dksX11_init_0 18 rfl rfl)
theorem dX11_init_21 : decode cX11_init 21 = .ok (.return_, 1) := dk_177 (dk_at dksX11_init_0 21 rfl rfl)
abbrev cX11_size : ByteArray := prog_3_method_6_code
def yX11_size : MethodName := ⟨RX11, "size", "(I)I"⟩
def dkwX11_size_0 : List UInt8 := [42, 180, 0, 15, 27, 46, 172]
abbrev dktX11_size_0 : List UInt8 := dkwX11_size_0 ++ []
theorem dksX11_size_0 : cX11_size.data.toList.drop 0 = dktX11_size_0 := by decide +kernel
theorem dX11_size_0 : decode cX11_size 0 = .ok (.aload_n 0, 1) := dk_42 (dk_at dksX11_size_0 0 rfl rfl)
theorem dX11_size_1 : decode cX11_size 1 = .ok (.getfield 15, 3) := dk_180 0 15 (dk_at dksX11_size_0 1 rfl rfl)
theorem dX11_size_4 : decode cX11_size 4 = .ok (.iload_n 1, 1) := dk_27 (dk_at dksX11_size_0 4 rfl rfl)
theorem dX11_size_5 : decode cX11_size 5 = .ok (.iaload, 1) := dk_46 (dk_at dksX11_size_0 5 rfl rfl)
theorem dX11_size_6 : decode cX11_size 6 = .ok (.ireturn, 1) := dk_172 (dk_at dksX11_size_0 6 rfl rfl)
abbrev cX11_add : ByteArray := prog_3_method_5_code
def yX11_add : MethodName := ⟨RX11, "add", "(II)V"⟩
def dkwX11_add_1 : List UInt8 := [4, 96, 79, 177]
abbrev dktX11_add_1 : List UInt8 := dkwX11_add_1 ++ []
def dkwX11_add_0 : List UInt8 := [42, 180, 0, 9, 16, 6, 27, 104, 42, 180, 0, 15, 27, 46, 96, 28, 79, 42, 180, 0, 15, 27, 92, 46]
abbrev dktX11_add_0 : List UInt8 := dkwX11_add_0 ++ dktX11_add_1
theorem dksX11_add_0 : cX11_add.data.toList.drop 0 = dktX11_add_0 := by decide +kernel
theorem dksX11_add_1 : cX11_add.data.toList.drop 24 = dktX11_add_1 := dk_seg dksX11_add_0 24 rfl rfl
theorem dX11_add_0 : decode cX11_add 0 = .ok (.aload_n 0, 1) := dk_42 (dk_at dksX11_add_0 0 rfl rfl)
theorem dX11_add_1 : decode cX11_add 1 = .ok (.getfield 9, 3) := dk_180 0 9 (dk_at dksX11_add_0 1 rfl rfl)
theorem dX11_add_4 : decode cX11_add 4 = .ok (.bipush 6, 2) := dk_16 6 (dk_at dksX11_add_0 4 rfl rfl)
theorem dX11_add_6 : decode cX11_add 6 = .ok (.iload_n 1, 1) := dk_27 (dk_at dksX11_add_0 6 rfl rfl)
theorem dX11_add_7 : decode cX11_add 7 = .ok (.imul, 1) := dk_104 (dk_at dksX11_add_0 7 rfl rfl)
theorem dX11_add_8 : decode cX11_add 8 = .ok (.aload_n 0, 1) := dk_42 (dk_at dksX11_add_0 8 rfl rfl)
theorem dX11_add_9 : decode cX11_add 9 = .ok (.getfield 15, 3) := dk_180 0 15 (dk_at dksX11_add_0 9 rfl rfl)
theorem dX11_add_12 : decode cX11_add 12 = .ok (.iload_n 1, 1) := dk_27 (dk_at dksX11_add_0 12 rfl rfl)
theorem dX11_add_13 : decode cX11_add 13 = .ok (.iaload, 1) := dk_46 (dk_at dksX11_add_0 13 rfl rfl)
theorem dX11_add_14 : decode cX11_add 14 = .ok (.iadd, 1) := dk_96 (dk_at dksX11_add_0 14 rfl rfl)
theorem dX11_add_15 : decode cX11_add 15 = .ok (.iload_n 2, 1) := dk_28 (dk_at dksX11_add_0 15 rfl rfl)
theorem dX11_add_16 : decode cX11_add 16 = .ok (.iastore, 1) := dk_79 (dk_at dksX11_add_0 16 rfl rfl)
theorem dX11_add_17 : decode cX11_add 17 = .ok (.aload_n 0, 1) := dk_42 (dk_at dksX11_add_0 17 rfl rfl)
theorem dX11_add_18 : decode cX11_add 18 = .ok (.getfield 15, 3) := dk_180 0 15 (dk_at dksX11_add_0 18 rfl rfl)
theorem dX11_add_21 : decode cX11_add 21 = .ok (.iload_n 1, 1) := dk_27 (dk_at dksX11_add_0 21 rfl rfl)
theorem dX11_add_22 : decode cX11_add 22 = .ok (.dup2, 1) := dk_92 (dk_at dksX11_add_0 22 rfl rfl)
theorem dX11_add_23 : decode cX11_add 23 = .ok (.iaload, 1) := dk_46 (dk_at dksX11_add_0 23 rfl rfl)
theorem dX11_add_24 : decode cX11_add 24 = .ok (.iconst 1, 1) := dk_4 (dk_at dksX11_add_1 0 rfl rfl)
theorem dX11_add_25 : decode cX11_add 25 = .ok (.iadd, 1) := dk_96 (dk_at dksX11_add_1 1 rfl rfl)
theorem dX11_add_26 : decode cX11_add 26 = .ok (.iastore, 1) := dk_79 (dk_at dksX11_add_1 2 rfl rfl)
theorem dX11_add_27 : decode cX11_add 27 = .ok (.return_, 1) := dk_177 (dk_at dksX11_add_1 3 rfl rfl)
abbrev cX11_isRubber : ByteArray := prog_3_method_4_code
def yX11_isRubber : MethodName := ⟨RX11, "isRubber", "()Z"⟩
theorem dX11_isRubber_0 : decode cX11_isRubber 0 = .ok (.iconst 0, 1) := by decide +kernel
theorem dX11_isRubber_1 : decode cX11_isRubber 1 = .ok (.ireturn, 1) := by decide +kernel
abbrev cX11_thick : ByteArray := prog_3_method_8_code
def yX11_thick : MethodName := ⟨RX11, "thick", "(II)I"⟩
def dkwX11_thick_0 : List UInt8 := [42, 180, 0, 9, 16, 6, 27, 104, 28, 96, 46, 172]
abbrev dktX11_thick_0 : List UInt8 := dkwX11_thick_0 ++ []
theorem dksX11_thick_0 : cX11_thick.data.toList.drop 0 = dktX11_thick_0 := by decide +kernel
theorem dX11_thick_0 : decode cX11_thick 0 = .ok (.aload_n 0, 1) := dk_42 (dk_at dksX11_thick_0 0 rfl rfl)
theorem dX11_thick_1 : decode cX11_thick 1 = .ok (.getfield 9, 3) := dk_180 0 9 (dk_at dksX11_thick_0 1 rfl rfl)
theorem dX11_thick_4 : decode cX11_thick 4 = .ok (.bipush 6, 2) := dk_16 6 (dk_at dksX11_thick_0 4 rfl rfl)
theorem dX11_thick_6 : decode cX11_thick 6 = .ok (.iload_n 1, 1) := dk_27 (dk_at dksX11_thick_0 6 rfl rfl)
theorem dX11_thick_7 : decode cX11_thick 7 = .ok (.imul, 1) := dk_104 (dk_at dksX11_thick_0 7 rfl rfl)
theorem dX11_thick_8 : decode cX11_thick 8 = .ok (.iload_n 2, 1) := dk_28 (dk_at dksX11_thick_0 8 rfl rfl)
theorem dX11_thick_9 : decode cX11_thick 9 = .ok (.iadd, 1) := dk_96 (dk_at dksX11_thick_0 9 rfl rfl)
theorem dX11_thick_10 : decode cX11_thick 10 = .ok (.iaload, 1) := dk_46 (dk_at dksX11_thick_0 10 rfl rfl)
theorem dX11_thick_11 : decode cX11_thick 11 = .ok (.ireturn, 1) := dk_172 (dk_at dksX11_thick_0 11 rfl rfl)
abbrev cX11_places : ByteArray := prog_3_method_7_code
def yX11_places : MethodName := ⟨RX11, "places", "()I"⟩
def dkwX11_places_0 : List UInt8 := [42, 180, 0, 15, 3, 46, 42, 180, 0, 15, 4, 46, 96, 172]
abbrev dktX11_places_0 : List UInt8 := dkwX11_places_0 ++ []
theorem dksX11_places_0 : cX11_places.data.toList.drop 0 = dktX11_places_0 := by decide +kernel
theorem dX11_places_0 : decode cX11_places 0 = .ok (.aload_n 0, 1) := dk_42 (dk_at dksX11_places_0 0 rfl rfl)
theorem dX11_places_1 : decode cX11_places 1 = .ok (.getfield 15, 3) := dk_180 0 15 (dk_at dksX11_places_0 1 rfl rfl)
theorem dX11_places_4 : decode cX11_places 4 = .ok (.iconst 0, 1) := dk_3 (dk_at dksX11_places_0 4 rfl rfl)
theorem dX11_places_5 : decode cX11_places 5 = .ok (.iaload, 1) := dk_46 (dk_at dksX11_places_0 5 rfl rfl)
theorem dX11_places_6 : decode cX11_places 6 = .ok (.aload_n 0, 1) := dk_42 (dk_at dksX11_places_0 6 rfl rfl)
theorem dX11_places_7 : decode cX11_places 7 = .ok (.getfield 15, 3) := dk_180 0 15 (dk_at dksX11_places_0 7 rfl rfl)
theorem dX11_places_10 : decode cX11_places 10 = .ok (.iconst 1, 1) := dk_4 (dk_at dksX11_places_0 10 rfl rfl)
theorem dX11_places_11 : decode cX11_places 11 = .ok (.iaload, 1) := dk_46 (dk_at dksX11_places_0 11 rfl rfl)
theorem dX11_places_12 : decode cX11_places 12 = .ok (.iadd, 1) := dk_96 (dk_at dksX11_places_0 12 rfl rfl)
theorem dX11_places_13 : decode cX11_places 13 = .ok (.ireturn, 1) := dk_172 (dk_at dksX11_places_0 13 rfl rfl)
abbrev cX11_all : ByteArray := prog_3_method_9_code
def yX11_all : MethodName := ⟨RX11, "all", "(I)I"⟩
def dkwX11_all_1 : List UInt8 := [132, 3, 1, 167, 255, 234, 28, 172]
abbrev dktX11_all_1 : List UInt8 := dkwX11_all_1 ++ []
def dkwX11_all_0 : List UInt8 := [3, 61, 3, 62, 29, 42, 180, 0, 15, 27, 46, 162, 0, 18, 28, 42, 27, 29, 182, 0, 18, 96, 61]
abbrev dktX11_all_0 : List UInt8 := dkwX11_all_0 ++ dktX11_all_1
theorem dksX11_all_0 : cX11_all.data.toList.drop 0 = dktX11_all_0 := by decide +kernel
theorem dksX11_all_1 : cX11_all.data.toList.drop 23 = dktX11_all_1 := dk_seg dksX11_all_0 23 rfl rfl
theorem dX11_all_0 : decode cX11_all 0 = .ok (.iconst 0, 1) := dk_3 (dk_at dksX11_all_0 0 rfl rfl)
theorem dX11_all_1 : decode cX11_all 1 = .ok (.istore_n 2, 1) := dk_61 (dk_at dksX11_all_0 1 rfl rfl)
theorem dX11_all_2 : decode cX11_all 2 = .ok (.iconst 0, 1) := dk_3 (dk_at dksX11_all_0 2 rfl rfl)
theorem dX11_all_3 : decode cX11_all 3 = .ok (.istore_n 3, 1) := dk_62 (dk_at dksX11_all_0 3 rfl rfl)
theorem dX11_all_4 : decode cX11_all 4 = .ok (.iload_n 3, 1) := dk_29 (dk_at dksX11_all_0 4 rfl rfl)
theorem dX11_all_5 : decode cX11_all 5 = .ok (.aload_n 0, 1) := dk_42 (dk_at dksX11_all_0 5 rfl rfl)
theorem dX11_all_6 : decode cX11_all 6 = .ok (.getfield 15, 3) := dk_180 0 15 (dk_at dksX11_all_0 6 rfl rfl)
theorem dX11_all_9 : decode cX11_all 9 = .ok (.iload_n 1, 1) := dk_27 (dk_at dksX11_all_0 9 rfl rfl)
theorem dX11_all_10 : decode cX11_all 10 = .ok (.iaload, 1) := dk_46 (dk_at dksX11_all_0 10 rfl rfl)
theorem dX11_all_11 : decode cX11_all 11 = .ok (.if_icmp .ge 18, 3) := dk_162 0 18 (dk_at dksX11_all_0 11 rfl rfl)
theorem dX11_all_14 : decode cX11_all 14 = .ok (.iload_n 2, 1) := dk_28 (dk_at dksX11_all_0 14 rfl rfl)
theorem dX11_all_15 : decode cX11_all 15 = .ok (.aload_n 0, 1) := dk_42 (dk_at dksX11_all_0 15 rfl rfl)
theorem dX11_all_16 : decode cX11_all 16 = .ok (.iload_n 1, 1) := dk_27 (dk_at dksX11_all_0 16 rfl rfl)
theorem dX11_all_17 : decode cX11_all 17 = .ok (.iload_n 3, 1) := dk_29 (dk_at dksX11_all_0 17 rfl rfl)
theorem dX11_all_18 : decode cX11_all 18 = .ok (.invokevirtual 18, 3) := dk_182 0 18 (dk_at dksX11_all_0 18 rfl rfl)
theorem dX11_all_21 : decode cX11_all 21 = .ok (.iadd, 1) := dk_96 (dk_at dksX11_all_0 21 rfl rfl)
theorem dX11_all_22 : decode cX11_all 22 = .ok (.istore_n 2, 1) := dk_61 (dk_at dksX11_all_0 22 rfl rfl)
theorem dX11_all_23 : decode cX11_all 23 = .ok (.iinc 3 1, 3) := dk_132 3 1 (dk_at dksX11_all_1 0 rfl rfl)
theorem dX11_all_26 : decode cX11_all 26 = .ok (.goto (-22), 3) := dk_167 255 234 (dk_at dksX11_all_1 3 rfl rfl)
theorem dX11_all_29 : decode cX11_all 29 = .ok (.iload_n 2, 1) := dk_28 (dk_at dksX11_all_1 6 rfl rfl)
theorem dX11_all_30 : decode cX11_all 30 = .ok (.ireturn, 1) := dk_172 (dk_at dksX11_all_1 7 rfl rfl)
abbrev cX11_isPulled : ByteArray := prog_3_method_3_code
def yX11_isPulled : MethodName := ⟨RX11, "isPulled", "()Z"⟩
theorem dX11_isPulled_0 : decode cX11_isPulled 0 = .ok (.iconst 1, 1) := by decide +kernel
theorem dX11_isPulled_1 : decode cX11_isPulled 1 = .ok (.ireturn, 1) := by decide +kernel
theorem q154 : (Jvm.Cond.initialized "LongerHalf$Bone") ∈ lw_all := lw_g (lw_at lw_m1 19 rfl) rfl
theorem q829 : (Jvm.Cond.instanceMethod ({ cls := "LongerHalf$Bone", name := "<init>", desc := "(Ljava/lang/String;I)V" } : Jvm.MethodName)) ∈ lw_all := lw_g (lw_at lw_m3 214 rfl) rfl
theorem q830 : (Jvm.Cond.code ({ cls := "LongerHalf$Bone", name := "<init>", desc := "(Ljava/lang/String;I)V" } : Jvm.MethodName) prog_3_method_1_code (3 : Nat) (Option.none : Option Jvm.ClassFile.FieldType)) ∈ lw_all := lw_g (lw_at lw_m3 215 rfl) rfl
theorem q831 : (Jvm.Cond.methodLink "LongerHalf$Bone" (3 : Nat) ({ cls := "LongerHalf$Named", name := "<init>", desc := "(Ljava/lang/String;I)V" } : Jvm.MethodName)) ∈ lw_all := lw_g (lw_at lw_m3 216 rfl) rfl
theorem q835 : (Jvm.Cond.fieldLink "LongerHalf$Bone" (9 : Nat) "LongerHalf$Bone" "thick" "[I") ∈ lw_all := lw_g (lw_at lw_m3 220 rfl) rfl
theorem q836 : (Jvm.Cond.fieldLink "LongerHalf$Bone" (15 : Nat) "LongerHalf$Bone" "size" "[I") ∈ lw_all := lw_g (lw_at lw_m3 221 rfl) rfl
theorem q845 : (Jvm.Cond.soleField "LongerHalf$Bone" "thick") ∈ lw_all := lw_g (lw_at lw_m3 230 rfl) rfl
theorem q847 : (Jvm.Cond.soleField "LongerHalf$Bone" "size") ∈ lw_all := lw_g (lw_at lw_m3 232 rfl) rfl
theorem q849 : (Jvm.Cond.soleField "LongerHalf$Bone" "dry") ∈ lw_all := lw_g (lw_at lw_m3 234 rfl) rfl
theorem q887 : (Jvm.Cond.instanceMethod ({ cls := "LongerHalf$Bone", name := "size", desc := "(I)I" } : Jvm.MethodName)) ∈ lw_all := lw_g (lw_at lw_m4 32 rfl) rfl
theorem q888 : (Jvm.Cond.sameMethod "LongerHalf$Bone" "LongerHalf$Bone" "size" "(I)I") ∈ lw_all := lw_g (lw_at lw_m4 33 rfl) rfl
theorem q892 : (Jvm.Cond.code ({ cls := "LongerHalf$Bone", name := "size", desc := "(I)I" } : Jvm.MethodName) prog_3_method_6_code (2 : Nat) (Option.some Jvm.ClassFile.FieldType.int)) ∈ lw_all := lw_g (lw_at lw_m4 37 rfl) rfl
theorem q894 : (Jvm.Cond.instanceMethod ({ cls := "LongerHalf$Bone", name := "add", desc := "(II)V" } : Jvm.MethodName)) ∈ lw_all := lw_g (lw_at lw_m4 39 rfl) rfl
theorem q895 : (Jvm.Cond.sameMethod "LongerHalf$Bone" "LongerHalf$Bone" "add" "(II)V") ∈ lw_all := lw_g (lw_at lw_m4 40 rfl) rfl
theorem q899 : (Jvm.Cond.code ({ cls := "LongerHalf$Bone", name := "add", desc := "(II)V" } : Jvm.MethodName) prog_3_method_5_code (3 : Nat) (Option.none : Option Jvm.ClassFile.FieldType)) ∈ lw_all := lw_g (lw_at lw_m4 44 rfl) rfl
theorem q1069 : (Jvm.Cond.instanceMethod ({ cls := "LongerHalf$Bone", name := "isRubber", desc := "()Z" } : Jvm.MethodName)) ∈ lw_all := lw_g (lw_at lw_m4 214 rfl) rfl
theorem q1070 : (Jvm.Cond.sameMethod "LongerHalf$Bone" "LongerHalf$Bone" "isRubber" "()Z") ∈ lw_all := lw_g (lw_at lw_m4 215 rfl) rfl
theorem q1076 : (Jvm.Cond.code ({ cls := "LongerHalf$Bone", name := "isRubber", desc := "()Z" } : Jvm.MethodName) prog_3_method_4_code (1 : Nat) (Option.some Jvm.ClassFile.FieldType.boolean)) ∈ lw_all := lw_g (lw_at lw_m4 221 rfl) rfl
theorem q1095 : (Jvm.Cond.declares ({ cls := "LongerHalf$Bone", name := "kind", desc := "()I" } : Jvm.MethodName)) ∈ lw_tbl := lw_at lw_m5 0 rfl
theorem q1096 : (Jvm.Cond.sameMethod "LongerHalf$Bone" "LongerHalf$Bone" "kind" "()I") ∈ lw_all := lw_g (lw_at lw_m5 1 rfl) rfl
theorem q1116 : (Jvm.Cond.instanceMethod ({ cls := "LongerHalf$Bone", name := "thick", desc := "(II)I" } : Jvm.MethodName)) ∈ lw_all := lw_g (lw_at lw_m5 21 rfl) rfl
theorem q1117 : (Jvm.Cond.sameMethod "LongerHalf$Bone" "LongerHalf$Bone" "thick" "(II)I") ∈ lw_all := lw_g (lw_at lw_m5 22 rfl) rfl
theorem q1121 : (Jvm.Cond.code ({ cls := "LongerHalf$Bone", name := "thick", desc := "(II)I" } : Jvm.MethodName) prog_3_method_8_code (3 : Nat) (Option.some Jvm.ClassFile.FieldType.int)) ∈ lw_all := lw_g (lw_at lw_m5 26 rfl) rfl
theorem q1262 : (Jvm.Cond.instanceMethod ({ cls := "LongerHalf$Bone", name := "places", desc := "()I" } : Jvm.MethodName)) ∈ lw_all := lw_g (lw_at lw_m5 167 rfl) rfl
theorem q1263 : (Jvm.Cond.sameMethod "LongerHalf$Bone" "LongerHalf$Bone" "places" "()I") ∈ lw_all := lw_g (lw_at lw_m5 168 rfl) rfl
theorem q1267 : (Jvm.Cond.code ({ cls := "LongerHalf$Bone", name := "places", desc := "()I" } : Jvm.MethodName) prog_3_method_7_code (1 : Nat) (Option.some Jvm.ClassFile.FieldType.int)) ∈ lw_all := lw_g (lw_at lw_m5 172 rfl) rfl
theorem q1388 : (Jvm.Cond.instanceMethod ({ cls := "LongerHalf$Bone", name := "all", desc := "(I)I" } : Jvm.MethodName)) ∈ lw_all := lw_g (lw_at lw_m6 53 rfl) rfl
theorem q1389 : (Jvm.Cond.sameMethod "LongerHalf$Bone" "LongerHalf$Bone" "all" "(I)I") ∈ lw_all := lw_g (lw_at lw_m6 54 rfl) rfl
theorem q1393 : (Jvm.Cond.code ({ cls := "LongerHalf$Bone", name := "all", desc := "(I)I" } : Jvm.MethodName) prog_3_method_9_code (4 : Nat) (Option.some Jvm.ClassFile.FieldType.int)) ∈ lw_all := lw_g (lw_at lw_m6 58 rfl) rfl
theorem q1394 : (Jvm.Cond.methodLink "LongerHalf$Bone" (18 : Nat) ({ cls := "LongerHalf$Bone", name := "thick", desc := "(II)I" } : Jvm.MethodName)) ∈ lw_all := lw_g (lw_at lw_m6 59 rfl) rfl
theorem q1551 : (Jvm.Cond.instanceMethod ({ cls := "LongerHalf$Bone", name := "isPulled", desc := "()Z" } : Jvm.MethodName)) ∈ lw_all := lw_g (lw_at lw_m6 216 rfl) rfl
theorem q1552 : (Jvm.Cond.sameMethod "LongerHalf$Bone" "LongerHalf$Bone" "isPulled" "()Z") ∈ lw_all := lw_g (lw_at lw_m6 217 rfl) rfl
theorem q1558 : (Jvm.Cond.code ({ cls := "LongerHalf$Bone", name := "isPulled", desc := "()Z" } : Jvm.MethodName) prog_3_method_3_code (1 : Nat) (Option.some Jvm.ClassFile.FieldType.boolean)) ∈ lw_all := lw_g (lw_at lw_m6 223 rfl) rfl

/-! LongerHalf$Hen -/
set_option maxRecDepth 100000
def RX12 : String := "LongerHalf$Hen"
def TX12 : u_T := fun k => match k with
  | 0 => ("LongerHalf$Bone", "thick", "[I", true)
  | 1 => ("LongerHalf$Bone", "size", "[I", true)
  | 2 => ("LongerHalf$Bone", "dry", "I", false)
  | 3 => ("LongerHalf$Named", "name", "Ljava/lang/String;", true)
  | _ => ("LongerHalf$Named", "number", "I", true)
def tyX12 : Nat → FieldType := fun k => match k with
  | 0 => .array .int
  | 1 => .array .int
  | 2 => .int
  | 3 => .object "java/lang/String"
  | _ => .int
abbrev wsX120 : List Cond := u_ws RX12 TX12 5
theorem nmX12 : ∀ a, a < 5 → ∀ b, b < 5 → a ≠ b → (TX12 a).2.1 ≠ (TX12 b).2.1 := by decide +kernel
theorem tyX12_ok : ∀ k, k < 5 → parseFieldDescriptor (TX12 k).2.2.1 = some (tyX12 k) := by decide +kernel
abbrev cX12_init : ByteArray := prog_10_method_1_code
def yX12_init : MethodName := ⟨RX12, "<init>", "(Ljava/lang/String;I)V"⟩
def dkwX12_init_0 : List UInt8 := [42, 43, 28, 183, 0, 1, 177]
abbrev dktX12_init_0 : List UInt8 := dkwX12_init_0 ++ []
theorem dksX12_init_0 : cX12_init.data.toList.drop 0 = dktX12_init_0 := by decide +kernel
theorem dX12_init_0 : decode cX12_init 0 = .ok (.aload_n 0, 1) := dk_42 (dk_at dksX12_init_0 0 rfl rfl)
theorem dX12_init_1 : decode cX12_init 1 = .ok (.aload_n 1, 1) := dk_43 (dk_at dksX12_init_0 1 rfl rfl)
theorem dX12_init_2 : decode cX12_init 2 = .ok (.iload_n 2, 1) := dk_28 (dk_at dksX12_init_0 2 rfl rfl)
theorem dX12_init_3 : decode cX12_init 3 = .ok (.invokespecial 1, 3) := dk_183 0 1 (dk_at dksX12_init_0 3 rfl rfl)
theorem dX12_init_6 : decode cX12_init 6 = .ok (.return_, 1) := dk_177 (dk_at dksX12_init_0 6 rfl rfl)
abbrev cX12_kind : ByteArray := prog_10_method_2_code
def yX12_kind : MethodName := ⟨RX12, "kind", "()I"⟩
theorem dX12_kind_0 : decode cX12_kind 0 = .ok (.iconst 0, 1) := by decide +kernel
theorem dX12_kind_1 : decode cX12_kind 1 = .ok (.ireturn, 1) := by decide +kernel
theorem q155 : (Jvm.Cond.initialized "LongerHalf$Hen") ∈ lw_all := lw_g (lw_at lw_m1 20 rfl) rfl
theorem q824 : (Jvm.Cond.instantiable "LongerHalf$Hen" (5 : Nat)) ∈ lw_all := lw_g (lw_at lw_m3 209 rfl) rfl
theorem q826 : (Jvm.Cond.instanceMethod ({ cls := "LongerHalf$Hen", name := "<init>", desc := "(Ljava/lang/String;I)V" } : Jvm.MethodName)) ∈ lw_all := lw_g (lw_at lw_m3 211 rfl) rfl
theorem q827 : (Jvm.Cond.code ({ cls := "LongerHalf$Hen", name := "<init>", desc := "(Ljava/lang/String;I)V" } : Jvm.MethodName) prog_10_method_1_code (3 : Nat) (Option.none : Option Jvm.ClassFile.FieldType)) ∈ lw_all := lw_g (lw_at lw_m3 212 rfl) rfl
theorem q828 : (Jvm.Cond.methodLink "LongerHalf$Hen" (1 : Nat) ({ cls := "LongerHalf$Bone", name := "<init>", desc := "(Ljava/lang/String;I)V" } : Jvm.MethodName)) ∈ lw_all := lw_g (lw_at lw_m3 213 rfl) rfl
theorem q844 : (Jvm.Cond.laysFinal "LongerHalf$Hen" "LongerHalf$Bone" "thick" "[I") ∈ lw_all := lw_g (lw_at lw_m3 229 rfl) rfl
theorem q846 : (Jvm.Cond.laysFinal "LongerHalf$Hen" "LongerHalf$Bone" "size" "[I") ∈ lw_all := lw_g (lw_at lw_m3 231 rfl) rfl
theorem q848 : (Jvm.Cond.lays "LongerHalf$Hen" "LongerHalf$Bone" "dry" "I") ∈ lw_all := lw_g (lw_at lw_m3 233 rfl) rfl
theorem q850 : (Jvm.Cond.laysFinal "LongerHalf$Hen" "LongerHalf$Named" "name" "Ljava/lang/String;") ∈ lw_all := lw_g (lw_at lw_m3 235 rfl) rfl
theorem q852 : (Jvm.Cond.laysFinal "LongerHalf$Hen" "LongerHalf$Named" "number" "I") ∈ lw_all := lw_g (lw_at lw_m3 237 rfl) rfl
theorem q854 : (Jvm.Cond.superclass "LongerHalf$Hen" "LongerHalf$Bone") ∈ lw_all := lw_g (lw_at lw_m3 239 rfl) rfl
theorem q891 : (Jvm.Cond.selects "LongerHalf$Hen" ({ cls := "LongerHalf$Bone", name := "size", desc := "(I)I" } : Jvm.MethodName) ({ cls := "LongerHalf$Bone", name := "size", desc := "(I)I" } : Jvm.MethodName)) ∈ lw_all := lw_g (lw_at lw_m4 36 rfl) rfl
theorem q898 : (Jvm.Cond.selects "LongerHalf$Hen" ({ cls := "LongerHalf$Bone", name := "add", desc := "(II)V" } : Jvm.MethodName) ({ cls := "LongerHalf$Bone", name := "add", desc := "(II)V" } : Jvm.MethodName)) ∈ lw_all := lw_g (lw_at lw_m4 43 rfl) rfl
theorem q1075 : (Jvm.Cond.selects "LongerHalf$Hen" ({ cls := "LongerHalf$Bone", name := "isRubber", desc := "()Z" } : Jvm.MethodName) ({ cls := "LongerHalf$Bone", name := "isRubber", desc := "()Z" } : Jvm.MethodName)) ∈ lw_all := lw_g (lw_at lw_m4 220 rfl) rfl
theorem q1103 : (Jvm.Cond.selects "LongerHalf$Hen" ({ cls := "LongerHalf$Bone", name := "kind", desc := "()I" } : Jvm.MethodName) ({ cls := "LongerHalf$Hen", name := "kind", desc := "()I" } : Jvm.MethodName)) ∈ lw_all := lw_g (lw_at lw_m5 8 rfl) rfl
theorem q1104 : (Jvm.Cond.instanceMethod ({ cls := "LongerHalf$Hen", name := "kind", desc := "()I" } : Jvm.MethodName)) ∈ lw_all := lw_g (lw_at lw_m5 9 rfl) rfl
theorem q1105 : (Jvm.Cond.code ({ cls := "LongerHalf$Hen", name := "kind", desc := "()I" } : Jvm.MethodName) prog_10_method_2_code (1 : Nat) (Option.some Jvm.ClassFile.FieldType.int)) ∈ lw_all := lw_g (lw_at lw_m5 10 rfl) rfl
theorem q1120 : (Jvm.Cond.selects "LongerHalf$Hen" ({ cls := "LongerHalf$Bone", name := "thick", desc := "(II)I" } : Jvm.MethodName) ({ cls := "LongerHalf$Bone", name := "thick", desc := "(II)I" } : Jvm.MethodName)) ∈ lw_all := lw_g (lw_at lw_m5 25 rfl) rfl
theorem q1266 : (Jvm.Cond.selects "LongerHalf$Hen" ({ cls := "LongerHalf$Bone", name := "places", desc := "()I" } : Jvm.MethodName) ({ cls := "LongerHalf$Bone", name := "places", desc := "()I" } : Jvm.MethodName)) ∈ lw_all := lw_g (lw_at lw_m5 171 rfl) rfl
theorem q1392 : (Jvm.Cond.selects "LongerHalf$Hen" ({ cls := "LongerHalf$Bone", name := "all", desc := "(I)I" } : Jvm.MethodName) ({ cls := "LongerHalf$Bone", name := "all", desc := "(I)I" } : Jvm.MethodName)) ∈ lw_all := lw_g (lw_at lw_m6 57 rfl) rfl
theorem q1557 : (Jvm.Cond.selects "LongerHalf$Hen" ({ cls := "LongerHalf$Bone", name := "isPulled", desc := "()Z" } : Jvm.MethodName) ({ cls := "LongerHalf$Bone", name := "isPulled", desc := "()Z" } : Jvm.MethodName)) ∈ lw_all := lw_g (lw_at lw_m6 222 rfl) rfl
theorem q2475 : (Jvm.Cond.castable "LongerHalf$Hen" "java/lang/Object") ∈ lw_tbl := lw_at lw_m10 180 rfl
theorem q2485 : (Jvm.Cond.castable "LongerHalf$Hen" "LongerHalf$Bone") ∈ lw_tbl := lw_at lw_m10 190 rfl
theorem in_X12 : ∀ w ∈ wsX120, w ∈ lw_all := lw_in wsX120 [844, 846, 848, 850, 852] (by decide +kernel) (by decide +kernel)

/-! LongerHalf$Goose -/
set_option maxRecDepth 100000
def RX13 : String := "LongerHalf$Goose"
def TX13 : u_T := fun k => match k with
  | 0 => ("LongerHalf$Bone", "thick", "[I", true)
  | 1 => ("LongerHalf$Bone", "size", "[I", true)
  | 2 => ("LongerHalf$Bone", "dry", "I", false)
  | 3 => ("LongerHalf$Named", "name", "Ljava/lang/String;", true)
  | _ => ("LongerHalf$Named", "number", "I", true)
def tyX13 : Nat → FieldType := fun k => match k with
  | 0 => .array .int
  | 1 => .array .int
  | 2 => .int
  | 3 => .object "java/lang/String"
  | _ => .int
abbrev wsX130 : List Cond := u_ws RX13 TX13 5
theorem nmX13 : ∀ a, a < 5 → ∀ b, b < 5 → a ≠ b → (TX13 a).2.1 ≠ (TX13 b).2.1 := by decide +kernel
theorem tyX13_ok : ∀ k, k < 5 → parseFieldDescriptor (TX13 k).2.2.1 = some (tyX13 k) := by decide +kernel
abbrev cX13_init : ByteArray := prog_9_method_1_code
def yX13_init : MethodName := ⟨RX13, "<init>", "(Ljava/lang/String;I)V"⟩
def dkwX13_init_0 : List UInt8 := [42, 43, 28, 183, 0, 1, 177]
abbrev dktX13_init_0 : List UInt8 := dkwX13_init_0 ++ []
theorem dksX13_init_0 : cX13_init.data.toList.drop 0 = dktX13_init_0 := by decide +kernel
theorem dX13_init_0 : decode cX13_init 0 = .ok (.aload_n 0, 1) := dk_42 (dk_at dksX13_init_0 0 rfl rfl)
theorem dX13_init_1 : decode cX13_init 1 = .ok (.aload_n 1, 1) := dk_43 (dk_at dksX13_init_0 1 rfl rfl)
theorem dX13_init_2 : decode cX13_init 2 = .ok (.iload_n 2, 1) := dk_28 (dk_at dksX13_init_0 2 rfl rfl)
theorem dX13_init_3 : decode cX13_init 3 = .ok (.invokespecial 1, 3) := dk_183 0 1 (dk_at dksX13_init_0 3 rfl rfl)
theorem dX13_init_6 : decode cX13_init 6 = .ok (.return_, 1) := dk_177 (dk_at dksX13_init_0 6 rfl rfl)
abbrev cX13_kind : ByteArray := prog_9_method_2_code
def yX13_kind : MethodName := ⟨RX13, "kind", "()I"⟩
theorem dX13_kind_0 : decode cX13_kind 0 = .ok (.iconst 1, 1) := by decide +kernel
theorem dX13_kind_1 : decode cX13_kind 1 = .ok (.ireturn, 1) := by decide +kernel
abbrev cX13_isPulled : ByteArray := prog_9_method_3_code
def yX13_isPulled : MethodName := ⟨RX13, "isPulled", "()Z"⟩
theorem dX13_isPulled_0 : decode cX13_isPulled 0 = .ok (.iconst 0, 1) := by decide +kernel
theorem dX13_isPulled_1 : decode cX13_isPulled 1 = .ok (.ireturn, 1) := by decide +kernel
theorem q156 : (Jvm.Cond.initialized "LongerHalf$Goose") ∈ lw_all := lw_g (lw_at lw_m1 21 rfl) rfl
theorem q857 : (Jvm.Cond.instantiable "LongerHalf$Goose" (5 : Nat)) ∈ lw_all := lw_g (lw_at lw_m4 2 rfl) rfl
theorem q859 : (Jvm.Cond.instanceMethod ({ cls := "LongerHalf$Goose", name := "<init>", desc := "(Ljava/lang/String;I)V" } : Jvm.MethodName)) ∈ lw_all := lw_g (lw_at lw_m4 4 rfl) rfl
theorem q860 : (Jvm.Cond.code ({ cls := "LongerHalf$Goose", name := "<init>", desc := "(Ljava/lang/String;I)V" } : Jvm.MethodName) prog_9_method_1_code (3 : Nat) (Option.none : Option Jvm.ClassFile.FieldType)) ∈ lw_all := lw_g (lw_at lw_m4 5 rfl) rfl
theorem q861 : (Jvm.Cond.methodLink "LongerHalf$Goose" (1 : Nat) ({ cls := "LongerHalf$Bone", name := "<init>", desc := "(Ljava/lang/String;I)V" } : Jvm.MethodName)) ∈ lw_all := lw_g (lw_at lw_m4 6 rfl) rfl
theorem q862 : (Jvm.Cond.laysFinal "LongerHalf$Goose" "LongerHalf$Bone" "thick" "[I") ∈ lw_all := lw_g (lw_at lw_m4 7 rfl) rfl
theorem q863 : (Jvm.Cond.laysFinal "LongerHalf$Goose" "LongerHalf$Bone" "size" "[I") ∈ lw_all := lw_g (lw_at lw_m4 8 rfl) rfl
theorem q864 : (Jvm.Cond.lays "LongerHalf$Goose" "LongerHalf$Bone" "dry" "I") ∈ lw_all := lw_g (lw_at lw_m4 9 rfl) rfl
theorem q865 : (Jvm.Cond.laysFinal "LongerHalf$Goose" "LongerHalf$Named" "name" "Ljava/lang/String;") ∈ lw_all := lw_g (lw_at lw_m4 10 rfl) rfl
theorem q866 : (Jvm.Cond.laysFinal "LongerHalf$Goose" "LongerHalf$Named" "number" "I") ∈ lw_all := lw_g (lw_at lw_m4 11 rfl) rfl
theorem q867 : (Jvm.Cond.superclass "LongerHalf$Goose" "LongerHalf$Bone") ∈ lw_all := lw_g (lw_at lw_m4 12 rfl) rfl
theorem q890 : (Jvm.Cond.selects "LongerHalf$Goose" ({ cls := "LongerHalf$Bone", name := "size", desc := "(I)I" } : Jvm.MethodName) ({ cls := "LongerHalf$Bone", name := "size", desc := "(I)I" } : Jvm.MethodName)) ∈ lw_all := lw_g (lw_at lw_m4 35 rfl) rfl
theorem q897 : (Jvm.Cond.selects "LongerHalf$Goose" ({ cls := "LongerHalf$Bone", name := "add", desc := "(II)V" } : Jvm.MethodName) ({ cls := "LongerHalf$Bone", name := "add", desc := "(II)V" } : Jvm.MethodName)) ∈ lw_all := lw_g (lw_at lw_m4 42 rfl) rfl
theorem q1074 : (Jvm.Cond.selects "LongerHalf$Goose" ({ cls := "LongerHalf$Bone", name := "isRubber", desc := "()Z" } : Jvm.MethodName) ({ cls := "LongerHalf$Bone", name := "isRubber", desc := "()Z" } : Jvm.MethodName)) ∈ lw_all := lw_g (lw_at lw_m4 219 rfl) rfl
theorem q1100 : (Jvm.Cond.selects "LongerHalf$Goose" ({ cls := "LongerHalf$Bone", name := "kind", desc := "()I" } : Jvm.MethodName) ({ cls := "LongerHalf$Goose", name := "kind", desc := "()I" } : Jvm.MethodName)) ∈ lw_all := lw_g (lw_at lw_m5 5 rfl) rfl
theorem q1101 : (Jvm.Cond.instanceMethod ({ cls := "LongerHalf$Goose", name := "kind", desc := "()I" } : Jvm.MethodName)) ∈ lw_all := lw_g (lw_at lw_m5 6 rfl) rfl
theorem q1102 : (Jvm.Cond.code ({ cls := "LongerHalf$Goose", name := "kind", desc := "()I" } : Jvm.MethodName) prog_9_method_2_code (1 : Nat) (Option.some Jvm.ClassFile.FieldType.int)) ∈ lw_all := lw_g (lw_at lw_m5 7 rfl) rfl
theorem q1119 : (Jvm.Cond.selects "LongerHalf$Goose" ({ cls := "LongerHalf$Bone", name := "thick", desc := "(II)I" } : Jvm.MethodName) ({ cls := "LongerHalf$Bone", name := "thick", desc := "(II)I" } : Jvm.MethodName)) ∈ lw_all := lw_g (lw_at lw_m5 24 rfl) rfl
theorem q1265 : (Jvm.Cond.selects "LongerHalf$Goose" ({ cls := "LongerHalf$Bone", name := "places", desc := "()I" } : Jvm.MethodName) ({ cls := "LongerHalf$Bone", name := "places", desc := "()I" } : Jvm.MethodName)) ∈ lw_all := lw_g (lw_at lw_m5 170 rfl) rfl
theorem q1391 : (Jvm.Cond.selects "LongerHalf$Goose" ({ cls := "LongerHalf$Bone", name := "all", desc := "(I)I" } : Jvm.MethodName) ({ cls := "LongerHalf$Bone", name := "all", desc := "(I)I" } : Jvm.MethodName)) ∈ lw_all := lw_g (lw_at lw_m6 56 rfl) rfl
theorem q1554 : (Jvm.Cond.selects "LongerHalf$Goose" ({ cls := "LongerHalf$Bone", name := "isPulled", desc := "()Z" } : Jvm.MethodName) ({ cls := "LongerHalf$Goose", name := "isPulled", desc := "()Z" } : Jvm.MethodName)) ∈ lw_all := lw_g (lw_at lw_m6 219 rfl) rfl
theorem q1555 : (Jvm.Cond.instanceMethod ({ cls := "LongerHalf$Goose", name := "isPulled", desc := "()Z" } : Jvm.MethodName)) ∈ lw_all := lw_g (lw_at lw_m6 220 rfl) rfl
theorem q1556 : (Jvm.Cond.code ({ cls := "LongerHalf$Goose", name := "isPulled", desc := "()Z" } : Jvm.MethodName) prog_9_method_3_code (1 : Nat) (Option.some Jvm.ClassFile.FieldType.boolean)) ∈ lw_all := lw_g (lw_at lw_m6 221 rfl) rfl
theorem q2476 : (Jvm.Cond.castable "LongerHalf$Goose" "java/lang/Object") ∈ lw_tbl := lw_at lw_m10 181 rfl
theorem q2486 : (Jvm.Cond.castable "LongerHalf$Goose" "LongerHalf$Bone") ∈ lw_tbl := lw_at lw_m10 191 rfl
theorem in_X13 : ∀ w ∈ wsX130, w ∈ lw_all := lw_in wsX130 [862, 863, 864, 865, 866] (by decide +kernel) (by decide +kernel)

/-! LongerHalf$Boiled -/
set_option maxRecDepth 100000
def RX14 : String := "LongerHalf$Boiled"
def TX14 : u_T := fun k => match k with
  | 0 => ("LongerHalf$Bone", "thick", "[I", true)
  | 1 => ("LongerHalf$Bone", "size", "[I", true)
  | 2 => ("LongerHalf$Bone", "dry", "I", false)
  | 3 => ("LongerHalf$Named", "name", "Ljava/lang/String;", true)
  | _ => ("LongerHalf$Named", "number", "I", true)
def tyX14 : Nat → FieldType := fun k => match k with
  | 0 => .array .int
  | 1 => .array .int
  | 2 => .int
  | 3 => .object "java/lang/String"
  | _ => .int
abbrev wsX140 : List Cond := u_ws RX14 TX14 5
theorem nmX14 : ∀ a, a < 5 → ∀ b, b < 5 → a ≠ b → (TX14 a).2.1 ≠ (TX14 b).2.1 := by decide +kernel
theorem tyX14_ok : ∀ k, k < 5 → parseFieldDescriptor (TX14 k).2.2.1 = some (tyX14 k) := by decide +kernel
abbrev cX14_init : ByteArray := prog_2_method_1_code
def yX14_init : MethodName := ⟨RX14, "<init>", "(Ljava/lang/String;I)V"⟩
def dkwX14_init_0 : List UInt8 := [42, 43, 28, 183, 0, 1, 177]
abbrev dktX14_init_0 : List UInt8 := dkwX14_init_0 ++ []
theorem dksX14_init_0 : cX14_init.data.toList.drop 0 = dktX14_init_0 := by decide +kernel
theorem dX14_init_0 : decode cX14_init 0 = .ok (.aload_n 0, 1) := dk_42 (dk_at dksX14_init_0 0 rfl rfl)
theorem dX14_init_1 : decode cX14_init 1 = .ok (.aload_n 1, 1) := dk_43 (dk_at dksX14_init_0 1 rfl rfl)
theorem dX14_init_2 : decode cX14_init 2 = .ok (.iload_n 2, 1) := dk_28 (dk_at dksX14_init_0 2 rfl rfl)
theorem dX14_init_3 : decode cX14_init 3 = .ok (.invokespecial 1, 3) := dk_183 0 1 (dk_at dksX14_init_0 3 rfl rfl)
theorem dX14_init_6 : decode cX14_init 6 = .ok (.return_, 1) := dk_177 (dk_at dksX14_init_0 6 rfl rfl)
abbrev cX14_isRubber : ByteArray := prog_2_method_3_code
def yX14_isRubber : MethodName := ⟨RX14, "isRubber", "()Z"⟩
theorem dX14_isRubber_0 : decode cX14_isRubber 0 = .ok (.iconst 1, 1) := by decide +kernel
theorem dX14_isRubber_1 : decode cX14_isRubber 1 = .ok (.ireturn, 1) := by decide +kernel
abbrev cX14_kind : ByteArray := prog_2_method_2_code
def yX14_kind : MethodName := ⟨RX14, "kind", "()I"⟩
theorem dX14_kind_0 : decode cX14_kind 0 = .ok (.iconst 2, 1) := by decide +kernel
theorem dX14_kind_1 : decode cX14_kind 1 = .ok (.ireturn, 1) := by decide +kernel
theorem q157 : (Jvm.Cond.initialized "LongerHalf$Boiled") ∈ lw_all := lw_g (lw_at lw_m1 22 rfl) rfl
theorem q870 : (Jvm.Cond.instantiable "LongerHalf$Boiled" (5 : Nat)) ∈ lw_all := lw_g (lw_at lw_m4 15 rfl) rfl
theorem q872 : (Jvm.Cond.instanceMethod ({ cls := "LongerHalf$Boiled", name := "<init>", desc := "(Ljava/lang/String;I)V" } : Jvm.MethodName)) ∈ lw_all := lw_g (lw_at lw_m4 17 rfl) rfl
theorem q873 : (Jvm.Cond.code ({ cls := "LongerHalf$Boiled", name := "<init>", desc := "(Ljava/lang/String;I)V" } : Jvm.MethodName) prog_2_method_1_code (3 : Nat) (Option.none : Option Jvm.ClassFile.FieldType)) ∈ lw_all := lw_g (lw_at lw_m4 18 rfl) rfl
theorem q874 : (Jvm.Cond.methodLink "LongerHalf$Boiled" (1 : Nat) ({ cls := "LongerHalf$Bone", name := "<init>", desc := "(Ljava/lang/String;I)V" } : Jvm.MethodName)) ∈ lw_all := lw_g (lw_at lw_m4 19 rfl) rfl
theorem q875 : (Jvm.Cond.laysFinal "LongerHalf$Boiled" "LongerHalf$Bone" "thick" "[I") ∈ lw_all := lw_g (lw_at lw_m4 20 rfl) rfl
theorem q876 : (Jvm.Cond.laysFinal "LongerHalf$Boiled" "LongerHalf$Bone" "size" "[I") ∈ lw_all := lw_g (lw_at lw_m4 21 rfl) rfl
theorem q877 : (Jvm.Cond.lays "LongerHalf$Boiled" "LongerHalf$Bone" "dry" "I") ∈ lw_all := lw_g (lw_at lw_m4 22 rfl) rfl
theorem q878 : (Jvm.Cond.laysFinal "LongerHalf$Boiled" "LongerHalf$Named" "name" "Ljava/lang/String;") ∈ lw_all := lw_g (lw_at lw_m4 23 rfl) rfl
theorem q879 : (Jvm.Cond.laysFinal "LongerHalf$Boiled" "LongerHalf$Named" "number" "I") ∈ lw_all := lw_g (lw_at lw_m4 24 rfl) rfl
theorem q880 : (Jvm.Cond.superclass "LongerHalf$Boiled" "LongerHalf$Bone") ∈ lw_all := lw_g (lw_at lw_m4 25 rfl) rfl
theorem q889 : (Jvm.Cond.selects "LongerHalf$Boiled" ({ cls := "LongerHalf$Bone", name := "size", desc := "(I)I" } : Jvm.MethodName) ({ cls := "LongerHalf$Bone", name := "size", desc := "(I)I" } : Jvm.MethodName)) ∈ lw_all := lw_g (lw_at lw_m4 34 rfl) rfl
theorem q896 : (Jvm.Cond.selects "LongerHalf$Boiled" ({ cls := "LongerHalf$Bone", name := "add", desc := "(II)V" } : Jvm.MethodName) ({ cls := "LongerHalf$Bone", name := "add", desc := "(II)V" } : Jvm.MethodName)) ∈ lw_all := lw_g (lw_at lw_m4 41 rfl) rfl
theorem q1071 : (Jvm.Cond.selects "LongerHalf$Boiled" ({ cls := "LongerHalf$Bone", name := "isRubber", desc := "()Z" } : Jvm.MethodName) ({ cls := "LongerHalf$Boiled", name := "isRubber", desc := "()Z" } : Jvm.MethodName)) ∈ lw_all := lw_g (lw_at lw_m4 216 rfl) rfl
theorem q1072 : (Jvm.Cond.instanceMethod ({ cls := "LongerHalf$Boiled", name := "isRubber", desc := "()Z" } : Jvm.MethodName)) ∈ lw_all := lw_g (lw_at lw_m4 217 rfl) rfl
theorem q1073 : (Jvm.Cond.code ({ cls := "LongerHalf$Boiled", name := "isRubber", desc := "()Z" } : Jvm.MethodName) prog_2_method_3_code (1 : Nat) (Option.some Jvm.ClassFile.FieldType.boolean)) ∈ lw_all := lw_g (lw_at lw_m4 218 rfl) rfl
theorem q1097 : (Jvm.Cond.selects "LongerHalf$Boiled" ({ cls := "LongerHalf$Bone", name := "kind", desc := "()I" } : Jvm.MethodName) ({ cls := "LongerHalf$Boiled", name := "kind", desc := "()I" } : Jvm.MethodName)) ∈ lw_all := lw_g (lw_at lw_m5 2 rfl) rfl
theorem q1098 : (Jvm.Cond.instanceMethod ({ cls := "LongerHalf$Boiled", name := "kind", desc := "()I" } : Jvm.MethodName)) ∈ lw_all := lw_g (lw_at lw_m5 3 rfl) rfl
theorem q1099 : (Jvm.Cond.code ({ cls := "LongerHalf$Boiled", name := "kind", desc := "()I" } : Jvm.MethodName) prog_2_method_2_code (1 : Nat) (Option.some Jvm.ClassFile.FieldType.int)) ∈ lw_all := lw_g (lw_at lw_m5 4 rfl) rfl
theorem q1118 : (Jvm.Cond.selects "LongerHalf$Boiled" ({ cls := "LongerHalf$Bone", name := "thick", desc := "(II)I" } : Jvm.MethodName) ({ cls := "LongerHalf$Bone", name := "thick", desc := "(II)I" } : Jvm.MethodName)) ∈ lw_all := lw_g (lw_at lw_m5 23 rfl) rfl
theorem q1264 : (Jvm.Cond.selects "LongerHalf$Boiled" ({ cls := "LongerHalf$Bone", name := "places", desc := "()I" } : Jvm.MethodName) ({ cls := "LongerHalf$Bone", name := "places", desc := "()I" } : Jvm.MethodName)) ∈ lw_all := lw_g (lw_at lw_m5 169 rfl) rfl
theorem q1390 : (Jvm.Cond.selects "LongerHalf$Boiled" ({ cls := "LongerHalf$Bone", name := "all", desc := "(I)I" } : Jvm.MethodName) ({ cls := "LongerHalf$Bone", name := "all", desc := "(I)I" } : Jvm.MethodName)) ∈ lw_all := lw_g (lw_at lw_m6 55 rfl) rfl
theorem q1553 : (Jvm.Cond.selects "LongerHalf$Boiled" ({ cls := "LongerHalf$Bone", name := "isPulled", desc := "()Z" } : Jvm.MethodName) ({ cls := "LongerHalf$Bone", name := "isPulled", desc := "()Z" } : Jvm.MethodName)) ∈ lw_all := lw_g (lw_at lw_m6 218 rfl) rfl
theorem q2477 : (Jvm.Cond.castable "LongerHalf$Boiled" "java/lang/Object") ∈ lw_tbl := lw_at lw_m10 182 rfl
theorem q2487 : (Jvm.Cond.castable "LongerHalf$Boiled" "LongerHalf$Bone") ∈ lw_tbl := lw_at lw_m10 192 rfl
theorem in_X14 : ∀ w ∈ wsX140, w ∈ lw_all := lw_in wsX140 [875, 876, 877, 878, 879] (by decide +kernel) (by decide +kernel)

/-! LongerHalf$Person -/
set_option maxRecDepth 100000
def RX15 : String := "LongerHalf$Person"
abbrev cX15_init : ByteArray := prog_13_method_1_code
def yX15_init : MethodName := ⟨RX15, "<init>", "(Ljava/lang/String;I)V"⟩
def dkwX15_init_0 : List UInt8 := [42, 43, 28, 183, 0, 3, 42, 16, 6, 188, 10, 181, 0, 9, 42, 16, 254, 181, 0, 15, 177]
abbrev dktX15_init_0 : List UInt8 := dkwX15_init_0 ++ []
theorem dksX15_init_0 : cX15_init.data.toList.drop 0 = dktX15_init_0 := by decide +kernel
theorem dX15_init_0 : decode cX15_init 0 = .ok (.aload_n 0, 1) := dk_42 (dk_at dksX15_init_0 0 rfl rfl)
theorem dX15_init_1 : decode cX15_init 1 = .ok (.aload_n 1, 1) := dk_43 (dk_at dksX15_init_0 1 rfl rfl)
theorem dX15_init_2 : decode cX15_init 2 = .ok (.iload_n 2, 1) := dk_28 (dk_at dksX15_init_0 2 rfl rfl)
theorem dX15_init_3 : decode cX15_init 3 = .ok (.invokespecial 3, 3) := dk_183 0 3 (dk_at dksX15_init_0 3 rfl rfl)
theorem dX15_init_6 : decode cX15_init 6 = .ok (.aload_n 0, 1) := dk_42 (dk_at dksX15_init_0 6 rfl rfl)
theorem dX15_init_7 : decode cX15_init 7 = .ok (.bipush 6, 2) := dk_16 6 (dk_at dksX15_init_0 7 rfl rfl)
theorem dX15_init_9 : decode cX15_init 9 = .ok (.newarray .int, 2) := dk_188_10 (dk_at dksX15_init_0 9 rfl rfl)
theorem dX15_init_11 : decode cX15_init 11 = .ok (.putfield 9, 3) := dk_181 0 9 (dk_at dksX15_init_0 11 rfl rfl)
theorem dX15_init_14 : decode cX15_init 14 = .ok (.aload_n 0, 1) := dk_42 (dk_at dksX15_init_0 14 rfl rfl)
theorem dX15_init_15 : decode cX15_init 15 = .ok (.bipush (-2), 2) := dk_16 254 (dk_at dksX15_init_0 15 rfl rfl)
theorem dX15_init_17 : decode cX15_init 17 = .ok (.putfield 15, 3) := dk_181 0 15 (dk_at dksX15_init_0 17 rfl rfl)
theorem dX15_init_20 : decode cX15_init 20 = .ok (.return_, 1) := dk_177 (dk_at dksX15_init_0 20 rfl rfl)
abbrev cX15_presses : ByteArray := prog_13_method_4_code
def yX15_presses : MethodName := ⟨RX15, "presses", "()Z"⟩
theorem dX15_presses_0 : decode cX15_presses 0 = .ok (.iconst 0, 1) := by decide +kernel
theorem dX15_presses_1 : decode cX15_presses 1 = .ok (.ireturn, 1) := by decide +kernel
abbrev cX15_mustMove : ByteArray := prog_13_method_3_code
def yX15_mustMove : MethodName := ⟨RX15, "mustMove", "()Z"⟩
theorem dX15_mustMove_0 : decode cX15_mustMove 0 = .ok (.iconst 0, 1) := by decide +kernel
theorem dX15_mustMove_1 : decode cX15_mustMove 1 = .ok (.ireturn, 1) := by decide +kernel
abbrev cX15_hold : ByteArray := prog_13_method_6_code
def yX15_hold : MethodName := ⟨RX15, "hold", "(LLongerHalf$Bone;I)I"⟩
def dkwX15_hold_0 : List UInt8 := [42, 180, 0, 19, 43, 28, 182, 0, 22, 184, 0, 28, 172]
abbrev dktX15_hold_0 : List UInt8 := dkwX15_hold_0 ++ []
theorem dksX15_hold_0 : cX15_hold.data.toList.drop 0 = dktX15_hold_0 := by decide +kernel
theorem dX15_hold_0 : decode cX15_hold 0 = .ok (.aload_n 0, 1) := dk_42 (dk_at dksX15_hold_0 0 rfl rfl)
theorem dX15_hold_1 : decode cX15_hold 1 = .ok (.getfield 19, 3) := dk_180 0 19 (dk_at dksX15_hold_0 1 rfl rfl)
theorem dX15_hold_4 : decode cX15_hold 4 = .ok (.aload_n 1, 1) := dk_43 (dk_at dksX15_hold_0 4 rfl rfl)
theorem dX15_hold_5 : decode cX15_hold 5 = .ok (.iload_n 2, 1) := dk_28 (dk_at dksX15_hold_0 5 rfl rfl)
theorem dX15_hold_6 : decode cX15_hold 6 = .ok (.invokevirtual 22, 3) := dk_182 0 22 (dk_at dksX15_hold_0 6 rfl rfl)
theorem dX15_hold_9 : decode cX15_hold 9 = .ok (.invokestatic 28, 3) := dk_184 0 28 (dk_at dksX15_hold_0 9 rfl rfl)
theorem dX15_hold_12 : decode cX15_hold 12 = .ok (.ireturn, 1) := dk_172 (dk_at dksX15_hold_0 12 rfl rfl)
abbrev cX15_chooses : ByteArray := prog_13_method_5_code
def yX15_chooses : MethodName := ⟨RX15, "chooses", "(LLongerHalf$Bone;JJ)I"⟩
def dkwX15_chooses_0 : List UInt8 := [22, 4, 32, 148, 158, 0, 7, 4, 167, 0, 4, 3, 172]
abbrev dktX15_chooses_0 : List UInt8 := dkwX15_chooses_0 ++ []
theorem dksX15_chooses_0 : cX15_chooses.data.toList.drop 0 = dktX15_chooses_0 := by decide +kernel
theorem dX15_chooses_0 : decode cX15_chooses 0 = .ok (.lload 4, 2) := dk_22 4 (dk_at dksX15_chooses_0 0 rfl rfl)
theorem dX15_chooses_2 : decode cX15_chooses 2 = .ok (.lload_n 2, 1) := dk_32 (dk_at dksX15_chooses_0 2 rfl rfl)
theorem dX15_chooses_3 : decode cX15_chooses 3 = .ok (.lcmp, 1) := dk_148 (dk_at dksX15_chooses_0 3 rfl rfl)
theorem dX15_chooses_4 : decode cX15_chooses 4 = .ok (.ifCond .le 7, 3) := dk_158 0 7 (dk_at dksX15_chooses_0 4 rfl rfl)
theorem dX15_chooses_7 : decode cX15_chooses 7 = .ok (.iconst 1, 1) := dk_4 (dk_at dksX15_chooses_0 7 rfl rfl)
theorem dX15_chooses_8 : decode cX15_chooses 8 = .ok (.goto 4, 3) := dk_167 0 4 (dk_at dksX15_chooses_0 8 rfl rfl)
theorem dX15_chooses_11 : decode cX15_chooses 11 = .ok (.iconst 0, 1) := dk_3 (dk_at dksX15_chooses_0 11 rfl rfl)
theorem dX15_chooses_12 : decode cX15_chooses 12 = .ok (.ireturn, 1) := dk_172 (dk_at dksX15_chooses_0 12 rfl rfl)
theorem q158 : (Jvm.Cond.initialized "LongerHalf$Person") ∈ lw_all := lw_g (lw_at lw_m1 23 rfl) rfl
theorem q843 : (Jvm.Cond.sameField "LongerHalf$Person" "LongerHalf$Named" "number" "I") ∈ lw_all := lw_g (lw_at lw_m3 228 rfl) rfl
theorem q919 : (Jvm.Cond.instanceMethod ({ cls := "LongerHalf$Person", name := "<init>", desc := "(Ljava/lang/String;I)V" } : Jvm.MethodName)) ∈ lw_all := lw_g (lw_at lw_m4 64 rfl) rfl
theorem q920 : (Jvm.Cond.code ({ cls := "LongerHalf$Person", name := "<init>", desc := "(Ljava/lang/String;I)V" } : Jvm.MethodName) prog_13_method_1_code (3 : Nat) (Option.none : Option Jvm.ClassFile.FieldType)) ∈ lw_all := lw_g (lw_at lw_m4 65 rfl) rfl
theorem q921 : (Jvm.Cond.methodLink "LongerHalf$Person" (3 : Nat) ({ cls := "LongerHalf$Named", name := "<init>", desc := "(Ljava/lang/String;I)V" } : Jvm.MethodName)) ∈ lw_all := lw_g (lw_at lw_m4 66 rfl) rfl
theorem q922 : (Jvm.Cond.fieldLink "LongerHalf$Person" (9 : Nat) "LongerHalf$Person" "others" "[I") ∈ lw_all := lw_g (lw_at lw_m4 67 rfl) rfl
theorem q928 : (Jvm.Cond.fieldLink "LongerHalf$Person" (19 : Nat) "LongerHalf$Person" "hold" "I") ∈ lw_all := lw_g (lw_at lw_m4 73 rfl) rfl
theorem q937 : (Jvm.Cond.fieldLink "LongerHalf$Person" (15 : Nat) "LongerHalf$Person" "doubt" "I") ∈ lw_all := lw_g (lw_at lw_m4 82 rfl) rfl
theorem q946 : (Jvm.Cond.soleField "LongerHalf$Person" "others") ∈ lw_all := lw_g (lw_at lw_m4 91 rfl) rfl
theorem q948 : (Jvm.Cond.soleField "LongerHalf$Person" "force") ∈ lw_all := lw_g (lw_at lw_m4 93 rfl) rfl
theorem q950 : (Jvm.Cond.soleField "LongerHalf$Person" "hold") ∈ lw_all := lw_g (lw_at lw_m4 95 rfl) rfl
theorem q952 : (Jvm.Cond.soleField "LongerHalf$Person" "wish") ∈ lw_all := lw_g (lw_at lw_m4 97 rfl) rfl
theorem q954 : (Jvm.Cond.soleField "LongerHalf$Person" "plays") ∈ lw_all := lw_g (lw_at lw_m4 99 rfl) rfl
theorem q956 : (Jvm.Cond.soleField "LongerHalf$Person" "won") ∈ lw_all := lw_g (lw_at lw_m4 101 rfl) rfl
theorem q958 : (Jvm.Cond.soleField "LongerHalf$Person" "doubt") ∈ lw_all := lw_g (lw_at lw_m4 103 rfl) rfl
theorem q960 : (Jvm.Cond.soleField "LongerHalf$Person" "thumb") ∈ lw_all := lw_g (lw_at lw_m4 105 rfl) rfl
theorem q962 : (Jvm.Cond.soleField "LongerHalf$Person" "fair") ∈ lw_all := lw_g (lw_at lw_m4 107 rfl) rfl
theorem q964 : (Jvm.Cond.soleField "LongerHalf$Person" "told") ∈ lw_all := lw_g (lw_at lw_m4 109 rfl) rfl
theorem q1131 : (Jvm.Cond.declares ({ cls := "LongerHalf$Person", name := "kind", desc := "()I" } : Jvm.MethodName)) ∈ lw_tbl := lw_at lw_m5 36 rfl
theorem q1132 : (Jvm.Cond.sameMethod "LongerHalf$Person" "LongerHalf$Person" "kind" "()I") ∈ lw_all := lw_g (lw_at lw_m5 37 rfl) rfl
theorem q1167 : (Jvm.Cond.instanceMethod ({ cls := "LongerHalf$Person", name := "presses", desc := "()Z" } : Jvm.MethodName)) ∈ lw_all := lw_g (lw_at lw_m5 72 rfl) rfl
theorem q1168 : (Jvm.Cond.sameMethod "LongerHalf$Person" "LongerHalf$Person" "presses" "()Z") ∈ lw_all := lw_g (lw_at lw_m5 73 rfl) rfl
theorem q1175 : (Jvm.Cond.code ({ cls := "LongerHalf$Person", name := "presses", desc := "()Z" } : Jvm.MethodName) prog_13_method_4_code (1 : Nat) (Option.some Jvm.ClassFile.FieldType.boolean)) ∈ lw_all := lw_g (lw_at lw_m5 80 rfl) rfl
theorem q1209 : (Jvm.Cond.instanceMethod ({ cls := "LongerHalf$Person", name := "mustMove", desc := "()Z" } : Jvm.MethodName)) ∈ lw_all := lw_g (lw_at lw_m5 114 rfl) rfl
theorem q1210 : (Jvm.Cond.sameMethod "LongerHalf$Person" "LongerHalf$Person" "mustMove" "()Z") ∈ lw_all := lw_g (lw_at lw_m5 115 rfl) rfl
theorem q1217 : (Jvm.Cond.code ({ cls := "LongerHalf$Person", name := "mustMove", desc := "()Z" } : Jvm.MethodName) prog_13_method_3_code (1 : Nat) (Option.some Jvm.ClassFile.FieldType.boolean)) ∈ lw_all := lw_g (lw_at lw_m5 122 rfl) rfl
theorem q1350 : (Jvm.Cond.instanceMethod ({ cls := "LongerHalf$Person", name := "hold", desc := "(LLongerHalf$Bone;I)I" } : Jvm.MethodName)) ∈ lw_all := lw_g (lw_at lw_m6 15 rfl) rfl
theorem q1351 : (Jvm.Cond.sameMethod "LongerHalf$Person" "LongerHalf$Person" "hold" "(LLongerHalf$Bone;I)I") ∈ lw_all := lw_g (lw_at lw_m6 16 rfl) rfl
theorem q1356 : (Jvm.Cond.code ({ cls := "LongerHalf$Person", name := "hold", desc := "(LLongerHalf$Bone;I)I" } : Jvm.MethodName) prog_13_method_6_code (3 : Nat) (Option.some Jvm.ClassFile.FieldType.int)) ∈ lw_all := lw_g (lw_at lw_m6 21 rfl) rfl
theorem q1357 : (Jvm.Cond.methodLink "LongerHalf$Person" (22 : Nat) ({ cls := "LongerHalf$Bone", name := "size", desc := "(I)I" } : Jvm.MethodName)) ∈ lw_all := lw_g (lw_at lw_m6 22 rfl) rfl
theorem q1358 : (Jvm.Cond.methodLink "LongerHalf$Person" (28 : Nat) ({ cls := "java/lang/Math", name := "min", desc := "(II)I" } : Jvm.MethodName)) ∈ lw_all := lw_g (lw_at lw_m6 23 rfl) rfl
theorem q1380 : (Jvm.Cond.instanceMethod ({ cls := "LongerHalf$Person", name := "chooses", desc := "(LLongerHalf$Bone;JJ)I" } : Jvm.MethodName)) ∈ lw_all := lw_g (lw_at lw_m6 45 rfl) rfl
theorem q1381 : (Jvm.Cond.sameMethod "LongerHalf$Person" "LongerHalf$Person" "chooses" "(LLongerHalf$Bone;JJ)I") ∈ lw_all := lw_g (lw_at lw_m6 46 rfl) rfl
theorem q1396 : (Jvm.Cond.code ({ cls := "LongerHalf$Person", name := "chooses", desc := "(LLongerHalf$Bone;JJ)I" } : Jvm.MethodName) prog_13_method_5_code (6 : Nat) (Option.some Jvm.ClassFile.FieldType.int)) ∈ lw_all := lw_g (lw_at lw_m6 61 rfl) rfl

/-! LongerHalf$Plain -/
set_option maxRecDepth 100000
def RX16 : String := "LongerHalf$Plain"
def TX16 : u_T := fun k => match k with
  | 0 => ("LongerHalf$Person", "others", "[I", true)
  | 1 => ("LongerHalf$Person", "force", "I", false)
  | 2 => ("LongerHalf$Person", "hold", "I", false)
  | 3 => ("LongerHalf$Person", "wish", "I", false)
  | 4 => ("LongerHalf$Person", "plays", "I", false)
  | 5 => ("LongerHalf$Person", "won", "I", false)
  | 6 => ("LongerHalf$Person", "doubt", "I", false)
  | 7 => ("LongerHalf$Person", "thumb", "I", false)
  | 8 => ("LongerHalf$Person", "fair", "I", false)
  | 9 => ("LongerHalf$Person", "told", "I", false)
  | 10 => ("LongerHalf$Named", "name", "Ljava/lang/String;", true)
  | _ => ("LongerHalf$Named", "number", "I", true)
def tyX16 : Nat → FieldType := fun k => match k with
  | 0 => .array .int
  | 1 => .int
  | 2 => .int
  | 3 => .int
  | 4 => .int
  | 5 => .int
  | 6 => .int
  | 7 => .int
  | 8 => .int
  | 9 => .int
  | 10 => .object "java/lang/String"
  | _ => .int
abbrev wsX160 : List Cond := u_ws RX16 TX16 12
theorem nmX16 : ∀ a, a < 12 → ∀ b, b < 12 → a ≠ b → (TX16 a).2.1 ≠ (TX16 b).2.1 := by decide +kernel
theorem tyX16_ok : ∀ k, k < 12 → parseFieldDescriptor (TX16 k).2.2.1 = some (tyX16 k) := by decide +kernel
abbrev cX16_init : ByteArray := prog_14_method_1_code
def yX16_init : MethodName := ⟨RX16, "<init>", "(Ljava/lang/String;I)V"⟩
def dkwX16_init_0 : List UInt8 := [42, 43, 28, 183, 0, 1, 177]
abbrev dktX16_init_0 : List UInt8 := dkwX16_init_0 ++ []
theorem dksX16_init_0 : cX16_init.data.toList.drop 0 = dktX16_init_0 := by decide +kernel
theorem dX16_init_0 : decode cX16_init 0 = .ok (.aload_n 0, 1) := dk_42 (dk_at dksX16_init_0 0 rfl rfl)
theorem dX16_init_1 : decode cX16_init 1 = .ok (.aload_n 1, 1) := dk_43 (dk_at dksX16_init_0 1 rfl rfl)
theorem dX16_init_2 : decode cX16_init 2 = .ok (.iload_n 2, 1) := dk_28 (dk_at dksX16_init_0 2 rfl rfl)
theorem dX16_init_3 : decode cX16_init 3 = .ok (.invokespecial 1, 3) := dk_183 0 1 (dk_at dksX16_init_0 3 rfl rfl)
theorem dX16_init_6 : decode cX16_init 6 = .ok (.return_, 1) := dk_177 (dk_at dksX16_init_0 6 rfl rfl)
abbrev cX16_kind : ByteArray := prog_14_method_2_code
def yX16_kind : MethodName := ⟨RX16, "kind", "()I"⟩
theorem dX16_kind_0 : decode cX16_kind 0 = .ok (.iconst 0, 1) := by decide +kernel
theorem dX16_kind_1 : decode cX16_kind 1 = .ok (.ireturn, 1) := by decide +kernel
theorem q159 : (Jvm.Cond.initialized "LongerHalf$Plain") ∈ lw_all := lw_g (lw_at lw_m1 24 rfl) rfl
theorem q914 : (Jvm.Cond.instantiable "LongerHalf$Plain" (12 : Nat)) ∈ lw_all := lw_g (lw_at lw_m4 59 rfl) rfl
theorem q916 : (Jvm.Cond.instanceMethod ({ cls := "LongerHalf$Plain", name := "<init>", desc := "(Ljava/lang/String;I)V" } : Jvm.MethodName)) ∈ lw_all := lw_g (lw_at lw_m4 61 rfl) rfl
theorem q917 : (Jvm.Cond.code ({ cls := "LongerHalf$Plain", name := "<init>", desc := "(Ljava/lang/String;I)V" } : Jvm.MethodName) prog_14_method_1_code (3 : Nat) (Option.none : Option Jvm.ClassFile.FieldType)) ∈ lw_all := lw_g (lw_at lw_m4 62 rfl) rfl
theorem q918 : (Jvm.Cond.methodLink "LongerHalf$Plain" (1 : Nat) ({ cls := "LongerHalf$Person", name := "<init>", desc := "(Ljava/lang/String;I)V" } : Jvm.MethodName)) ∈ lw_all := lw_g (lw_at lw_m4 63 rfl) rfl
theorem q945 : (Jvm.Cond.laysFinal "LongerHalf$Plain" "LongerHalf$Person" "others" "[I") ∈ lw_all := lw_g (lw_at lw_m4 90 rfl) rfl
theorem q947 : (Jvm.Cond.lays "LongerHalf$Plain" "LongerHalf$Person" "force" "I") ∈ lw_all := lw_g (lw_at lw_m4 92 rfl) rfl
theorem q949 : (Jvm.Cond.lays "LongerHalf$Plain" "LongerHalf$Person" "hold" "I") ∈ lw_all := lw_g (lw_at lw_m4 94 rfl) rfl
theorem q951 : (Jvm.Cond.lays "LongerHalf$Plain" "LongerHalf$Person" "wish" "I") ∈ lw_all := lw_g (lw_at lw_m4 96 rfl) rfl
theorem q953 : (Jvm.Cond.lays "LongerHalf$Plain" "LongerHalf$Person" "plays" "I") ∈ lw_all := lw_g (lw_at lw_m4 98 rfl) rfl
theorem q955 : (Jvm.Cond.lays "LongerHalf$Plain" "LongerHalf$Person" "won" "I") ∈ lw_all := lw_g (lw_at lw_m4 100 rfl) rfl
theorem q957 : (Jvm.Cond.lays "LongerHalf$Plain" "LongerHalf$Person" "doubt" "I") ∈ lw_all := lw_g (lw_at lw_m4 102 rfl) rfl
theorem q959 : (Jvm.Cond.lays "LongerHalf$Plain" "LongerHalf$Person" "thumb" "I") ∈ lw_all := lw_g (lw_at lw_m4 104 rfl) rfl
theorem q961 : (Jvm.Cond.lays "LongerHalf$Plain" "LongerHalf$Person" "fair" "I") ∈ lw_all := lw_g (lw_at lw_m4 106 rfl) rfl
theorem q963 : (Jvm.Cond.lays "LongerHalf$Plain" "LongerHalf$Person" "told" "I") ∈ lw_all := lw_g (lw_at lw_m4 108 rfl) rfl
theorem q965 : (Jvm.Cond.laysFinal "LongerHalf$Plain" "LongerHalf$Named" "name" "Ljava/lang/String;") ∈ lw_all := lw_g (lw_at lw_m4 110 rfl) rfl
theorem q966 : (Jvm.Cond.laysFinal "LongerHalf$Plain" "LongerHalf$Named" "number" "I") ∈ lw_all := lw_g (lw_at lw_m4 111 rfl) rfl
theorem q967 : (Jvm.Cond.superclass "LongerHalf$Plain" "LongerHalf$Person") ∈ lw_all := lw_g (lw_at lw_m4 112 rfl) rfl
theorem q1142 : (Jvm.Cond.selects "LongerHalf$Plain" ({ cls := "LongerHalf$Person", name := "kind", desc := "()I" } : Jvm.MethodName) ({ cls := "LongerHalf$Plain", name := "kind", desc := "()I" } : Jvm.MethodName)) ∈ lw_all := lw_g (lw_at lw_m5 47 rfl) rfl
theorem q1143 : (Jvm.Cond.instanceMethod ({ cls := "LongerHalf$Plain", name := "kind", desc := "()I" } : Jvm.MethodName)) ∈ lw_all := lw_g (lw_at lw_m5 48 rfl) rfl
theorem q1144 : (Jvm.Cond.code ({ cls := "LongerHalf$Plain", name := "kind", desc := "()I" } : Jvm.MethodName) prog_14_method_2_code (1 : Nat) (Option.some Jvm.ClassFile.FieldType.int)) ∈ lw_all := lw_g (lw_at lw_m5 49 rfl) rfl
theorem q1174 : (Jvm.Cond.selects "LongerHalf$Plain" ({ cls := "LongerHalf$Person", name := "presses", desc := "()Z" } : Jvm.MethodName) ({ cls := "LongerHalf$Person", name := "presses", desc := "()Z" } : Jvm.MethodName)) ∈ lw_all := lw_g (lw_at lw_m5 79 rfl) rfl
theorem q1216 : (Jvm.Cond.selects "LongerHalf$Plain" ({ cls := "LongerHalf$Person", name := "mustMove", desc := "()Z" } : Jvm.MethodName) ({ cls := "LongerHalf$Person", name := "mustMove", desc := "()Z" } : Jvm.MethodName)) ∈ lw_all := lw_g (lw_at lw_m5 121 rfl) rfl
theorem q1355 : (Jvm.Cond.selects "LongerHalf$Plain" ({ cls := "LongerHalf$Person", name := "hold", desc := "(LLongerHalf$Bone;I)I" } : Jvm.MethodName) ({ cls := "LongerHalf$Person", name := "hold", desc := "(LLongerHalf$Bone;I)I" } : Jvm.MethodName)) ∈ lw_all := lw_g (lw_at lw_m6 20 rfl) rfl
theorem q1395 : (Jvm.Cond.selects "LongerHalf$Plain" ({ cls := "LongerHalf$Person", name := "chooses", desc := "(LLongerHalf$Bone;JJ)I" } : Jvm.MethodName) ({ cls := "LongerHalf$Person", name := "chooses", desc := "(LLongerHalf$Bone;JJ)I" } : Jvm.MethodName)) ∈ lw_all := lw_g (lw_at lw_m6 60 rfl) rfl
theorem q2463 : (Jvm.Cond.castable "LongerHalf$Plain" "LongerHalf$Person") ∈ lw_tbl := lw_at lw_m10 168 rfl
theorem q2478 : (Jvm.Cond.castable "LongerHalf$Plain" "java/lang/Object") ∈ lw_tbl := lw_at lw_m10 183 rfl
theorem in_X16 : ∀ w ∈ wsX160, w ∈ lw_all := lw_in wsX160 [945, 947, 949, 951, 953, 955, 957, 959, 961, 963, 965, 966] (by decide +kernel) (by decide +kernel)

/-! LongerHalf$Cook -/
set_option maxRecDepth 100000
def RX17 : String := "LongerHalf$Cook"
def TX17 : u_T := fun k => match k with
  | 0 => ("LongerHalf$Person", "others", "[I", true)
  | 1 => ("LongerHalf$Person", "force", "I", false)
  | 2 => ("LongerHalf$Person", "hold", "I", false)
  | 3 => ("LongerHalf$Person", "wish", "I", false)
  | 4 => ("LongerHalf$Person", "plays", "I", false)
  | 5 => ("LongerHalf$Person", "won", "I", false)
  | 6 => ("LongerHalf$Person", "doubt", "I", false)
  | 7 => ("LongerHalf$Person", "thumb", "I", false)
  | 8 => ("LongerHalf$Person", "fair", "I", false)
  | 9 => ("LongerHalf$Person", "told", "I", false)
  | 10 => ("LongerHalf$Named", "name", "Ljava/lang/String;", true)
  | _ => ("LongerHalf$Named", "number", "I", true)
def tyX17 : Nat → FieldType := fun k => match k with
  | 0 => .array .int
  | 1 => .int
  | 2 => .int
  | 3 => .int
  | 4 => .int
  | 5 => .int
  | 6 => .int
  | 7 => .int
  | 8 => .int
  | 9 => .int
  | 10 => .object "java/lang/String"
  | _ => .int
abbrev wsX170 : List Cond := u_ws RX17 TX17 12
theorem nmX17 : ∀ a, a < 12 → ∀ b, b < 12 → a ≠ b → (TX17 a).2.1 ≠ (TX17 b).2.1 := by decide +kernel
theorem tyX17_ok : ∀ k, k < 12 → parseFieldDescriptor (TX17 k).2.2.1 = some (tyX17 k) := by decide +kernel
abbrev cX17_init : ByteArray := prog_6_method_1_code
def yX17_init : MethodName := ⟨RX17, "<init>", "(Ljava/lang/String;I)V"⟩
def dkwX17_init_0 : List UInt8 := [42, 43, 28, 183, 0, 3, 177]
abbrev dktX17_init_0 : List UInt8 := dkwX17_init_0 ++ []
theorem dksX17_init_0 : cX17_init.data.toList.drop 0 = dktX17_init_0 := by decide +kernel
theorem dX17_init_0 : decode cX17_init 0 = .ok (.aload_n 0, 1) := dk_42 (dk_at dksX17_init_0 0 rfl rfl)
theorem dX17_init_1 : decode cX17_init 1 = .ok (.aload_n 1, 1) := dk_43 (dk_at dksX17_init_0 1 rfl rfl)
theorem dX17_init_2 : decode cX17_init 2 = .ok (.iload_n 2, 1) := dk_28 (dk_at dksX17_init_0 2 rfl rfl)
theorem dX17_init_3 : decode cX17_init 3 = .ok (.invokespecial 3, 3) := dk_183 0 3 (dk_at dksX17_init_0 3 rfl rfl)
theorem dX17_init_6 : decode cX17_init 6 = .ok (.return_, 1) := dk_177 (dk_at dksX17_init_0 6 rfl rfl)
abbrev cX17_kind : ByteArray := prog_6_method_2_code
def yX17_kind : MethodName := ⟨RX17, "kind", "()I"⟩
theorem dX17_kind_0 : decode cX17_kind 0 = .ok (.iconst 1, 1) := by decide +kernel
theorem dX17_kind_1 : decode cX17_kind 1 = .ok (.ireturn, 1) := by decide +kernel
abbrev cX17_chooses : ByteArray := prog_6_method_3_code
def yX17_chooses : MethodName := ⟨RX17, "chooses", "(LLongerHalf$Bone;JJ)I"⟩
def dkwX17_chooses_0 : List UInt8 := [43, 4, 182, 0, 9, 43, 3, 182, 0, 9, 164, 0, 7, 4, 167, 0, 4, 3, 172]
abbrev dktX17_chooses_0 : List UInt8 := dkwX17_chooses_0 ++ []
theorem dksX17_chooses_0 : cX17_chooses.data.toList.drop 0 = dktX17_chooses_0 := by decide +kernel
theorem dX17_chooses_0 : decode cX17_chooses 0 = .ok (.aload_n 1, 1) := dk_43 (dk_at dksX17_chooses_0 0 rfl rfl)
theorem dX17_chooses_1 : decode cX17_chooses 1 = .ok (.iconst 1, 1) := dk_4 (dk_at dksX17_chooses_0 1 rfl rfl)
theorem dX17_chooses_2 : decode cX17_chooses 2 = .ok (.invokevirtual 9, 3) := dk_182 0 9 (dk_at dksX17_chooses_0 2 rfl rfl)
theorem dX17_chooses_5 : decode cX17_chooses 5 = .ok (.aload_n 1, 1) := dk_43 (dk_at dksX17_chooses_0 5 rfl rfl)
theorem dX17_chooses_6 : decode cX17_chooses 6 = .ok (.iconst 0, 1) := dk_3 (dk_at dksX17_chooses_0 6 rfl rfl)
theorem dX17_chooses_7 : decode cX17_chooses 7 = .ok (.invokevirtual 9, 3) := dk_182 0 9 (dk_at dksX17_chooses_0 7 rfl rfl)
theorem dX17_chooses_10 : decode cX17_chooses 10 = .ok (.if_icmp .le 7, 3) := dk_164 0 7 (dk_at dksX17_chooses_0 10 rfl rfl)
theorem dX17_chooses_13 : decode cX17_chooses 13 = .ok (.iconst 1, 1) := dk_4 (dk_at dksX17_chooses_0 13 rfl rfl)
theorem dX17_chooses_14 : decode cX17_chooses 14 = .ok (.goto 4, 3) := dk_167 0 4 (dk_at dksX17_chooses_0 14 rfl rfl)
theorem dX17_chooses_17 : decode cX17_chooses 17 = .ok (.iconst 0, 1) := dk_3 (dk_at dksX17_chooses_0 17 rfl rfl)
theorem dX17_chooses_18 : decode cX17_chooses 18 = .ok (.ireturn, 1) := dk_172 (dk_at dksX17_chooses_0 18 rfl rfl)
theorem q160 : (Jvm.Cond.initialized "LongerHalf$Cook") ∈ lw_all := lw_g (lw_at lw_m1 25 rfl) rfl
theorem q970 : (Jvm.Cond.instantiable "LongerHalf$Cook" (12 : Nat)) ∈ lw_all := lw_g (lw_at lw_m4 115 rfl) rfl
theorem q972 : (Jvm.Cond.instanceMethod ({ cls := "LongerHalf$Cook", name := "<init>", desc := "(Ljava/lang/String;I)V" } : Jvm.MethodName)) ∈ lw_all := lw_g (lw_at lw_m4 117 rfl) rfl
theorem q973 : (Jvm.Cond.code ({ cls := "LongerHalf$Cook", name := "<init>", desc := "(Ljava/lang/String;I)V" } : Jvm.MethodName) prog_6_method_1_code (3 : Nat) (Option.none : Option Jvm.ClassFile.FieldType)) ∈ lw_all := lw_g (lw_at lw_m4 118 rfl) rfl
theorem q974 : (Jvm.Cond.methodLink "LongerHalf$Cook" (3 : Nat) ({ cls := "LongerHalf$Person", name := "<init>", desc := "(Ljava/lang/String;I)V" } : Jvm.MethodName)) ∈ lw_all := lw_g (lw_at lw_m4 119 rfl) rfl
theorem q975 : (Jvm.Cond.laysFinal "LongerHalf$Cook" "LongerHalf$Person" "others" "[I") ∈ lw_all := lw_g (lw_at lw_m4 120 rfl) rfl
theorem q976 : (Jvm.Cond.lays "LongerHalf$Cook" "LongerHalf$Person" "force" "I") ∈ lw_all := lw_g (lw_at lw_m4 121 rfl) rfl
theorem q977 : (Jvm.Cond.lays "LongerHalf$Cook" "LongerHalf$Person" "hold" "I") ∈ lw_all := lw_g (lw_at lw_m4 122 rfl) rfl
theorem q978 : (Jvm.Cond.lays "LongerHalf$Cook" "LongerHalf$Person" "wish" "I") ∈ lw_all := lw_g (lw_at lw_m4 123 rfl) rfl
theorem q979 : (Jvm.Cond.lays "LongerHalf$Cook" "LongerHalf$Person" "plays" "I") ∈ lw_all := lw_g (lw_at lw_m4 124 rfl) rfl
theorem q980 : (Jvm.Cond.lays "LongerHalf$Cook" "LongerHalf$Person" "won" "I") ∈ lw_all := lw_g (lw_at lw_m4 125 rfl) rfl
theorem q981 : (Jvm.Cond.lays "LongerHalf$Cook" "LongerHalf$Person" "doubt" "I") ∈ lw_all := lw_g (lw_at lw_m4 126 rfl) rfl
theorem q982 : (Jvm.Cond.lays "LongerHalf$Cook" "LongerHalf$Person" "thumb" "I") ∈ lw_all := lw_g (lw_at lw_m4 127 rfl) rfl
theorem q983 : (Jvm.Cond.lays "LongerHalf$Cook" "LongerHalf$Person" "fair" "I") ∈ lw_all := lw_g (lw_at lw_m4 128 rfl) rfl
theorem q984 : (Jvm.Cond.lays "LongerHalf$Cook" "LongerHalf$Person" "told" "I") ∈ lw_all := lw_g (lw_at lw_m4 129 rfl) rfl
theorem q985 : (Jvm.Cond.laysFinal "LongerHalf$Cook" "LongerHalf$Named" "name" "Ljava/lang/String;") ∈ lw_all := lw_g (lw_at lw_m4 130 rfl) rfl
theorem q986 : (Jvm.Cond.laysFinal "LongerHalf$Cook" "LongerHalf$Named" "number" "I") ∈ lw_all := lw_g (lw_at lw_m4 131 rfl) rfl
theorem q987 : (Jvm.Cond.superclass "LongerHalf$Cook" "LongerHalf$Person") ∈ lw_all := lw_g (lw_at lw_m4 132 rfl) rfl
theorem q1139 : (Jvm.Cond.selects "LongerHalf$Cook" ({ cls := "LongerHalf$Person", name := "kind", desc := "()I" } : Jvm.MethodName) ({ cls := "LongerHalf$Cook", name := "kind", desc := "()I" } : Jvm.MethodName)) ∈ lw_all := lw_g (lw_at lw_m5 44 rfl) rfl
theorem q1140 : (Jvm.Cond.instanceMethod ({ cls := "LongerHalf$Cook", name := "kind", desc := "()I" } : Jvm.MethodName)) ∈ lw_all := lw_g (lw_at lw_m5 45 rfl) rfl
theorem q1141 : (Jvm.Cond.code ({ cls := "LongerHalf$Cook", name := "kind", desc := "()I" } : Jvm.MethodName) prog_6_method_2_code (1 : Nat) (Option.some Jvm.ClassFile.FieldType.int)) ∈ lw_all := lw_g (lw_at lw_m5 46 rfl) rfl
theorem q1173 : (Jvm.Cond.selects "LongerHalf$Cook" ({ cls := "LongerHalf$Person", name := "presses", desc := "()Z" } : Jvm.MethodName) ({ cls := "LongerHalf$Person", name := "presses", desc := "()Z" } : Jvm.MethodName)) ∈ lw_all := lw_g (lw_at lw_m5 78 rfl) rfl
theorem q1215 : (Jvm.Cond.selects "LongerHalf$Cook" ({ cls := "LongerHalf$Person", name := "mustMove", desc := "()Z" } : Jvm.MethodName) ({ cls := "LongerHalf$Person", name := "mustMove", desc := "()Z" } : Jvm.MethodName)) ∈ lw_all := lw_g (lw_at lw_m5 120 rfl) rfl
theorem q1354 : (Jvm.Cond.selects "LongerHalf$Cook" ({ cls := "LongerHalf$Person", name := "hold", desc := "(LLongerHalf$Bone;I)I" } : Jvm.MethodName) ({ cls := "LongerHalf$Person", name := "hold", desc := "(LLongerHalf$Bone;I)I" } : Jvm.MethodName)) ∈ lw_all := lw_g (lw_at lw_m6 19 rfl) rfl
theorem q1384 : (Jvm.Cond.selects "LongerHalf$Cook" ({ cls := "LongerHalf$Person", name := "chooses", desc := "(LLongerHalf$Bone;JJ)I" } : Jvm.MethodName) ({ cls := "LongerHalf$Cook", name := "chooses", desc := "(LLongerHalf$Bone;JJ)I" } : Jvm.MethodName)) ∈ lw_all := lw_g (lw_at lw_m6 49 rfl) rfl
theorem q1385 : (Jvm.Cond.instanceMethod ({ cls := "LongerHalf$Cook", name := "chooses", desc := "(LLongerHalf$Bone;JJ)I" } : Jvm.MethodName)) ∈ lw_all := lw_g (lw_at lw_m6 50 rfl) rfl
theorem q1386 : (Jvm.Cond.code ({ cls := "LongerHalf$Cook", name := "chooses", desc := "(LLongerHalf$Bone;JJ)I" } : Jvm.MethodName) prog_6_method_3_code (6 : Nat) (Option.some Jvm.ClassFile.FieldType.int)) ∈ lw_all := lw_g (lw_at lw_m6 51 rfl) rfl
theorem q1387 : (Jvm.Cond.methodLink "LongerHalf$Cook" (9 : Nat) ({ cls := "LongerHalf$Bone", name := "all", desc := "(I)I" } : Jvm.MethodName)) ∈ lw_all := lw_g (lw_at lw_m6 52 rfl) rfl
theorem q2462 : (Jvm.Cond.castable "LongerHalf$Cook" "LongerHalf$Person") ∈ lw_tbl := lw_at lw_m10 167 rfl
theorem q2479 : (Jvm.Cond.castable "LongerHalf$Cook" "java/lang/Object") ∈ lw_tbl := lw_at lw_m10 184 rfl
theorem in_X17 : ∀ w ∈ wsX170, w ∈ lw_all := lw_in wsX170 [975, 976, 977, 978, 979, 980, 981, 982, 983, 984, 985, 986] (by decide +kernel) (by decide +kernel)

/-! LongerHalf$Child -/
set_option maxRecDepth 100000
def RX18 : String := "LongerHalf$Child"
def TX18 : u_T := fun k => match k with
  | 0 => ("LongerHalf$Person", "others", "[I", true)
  | 1 => ("LongerHalf$Person", "force", "I", false)
  | 2 => ("LongerHalf$Person", "hold", "I", false)
  | 3 => ("LongerHalf$Person", "wish", "I", false)
  | 4 => ("LongerHalf$Person", "plays", "I", false)
  | 5 => ("LongerHalf$Person", "won", "I", false)
  | 6 => ("LongerHalf$Person", "doubt", "I", false)
  | 7 => ("LongerHalf$Person", "thumb", "I", false)
  | 8 => ("LongerHalf$Person", "fair", "I", false)
  | 9 => ("LongerHalf$Person", "told", "I", false)
  | 10 => ("LongerHalf$Named", "name", "Ljava/lang/String;", true)
  | _ => ("LongerHalf$Named", "number", "I", true)
def tyX18 : Nat → FieldType := fun k => match k with
  | 0 => .array .int
  | 1 => .int
  | 2 => .int
  | 3 => .int
  | 4 => .int
  | 5 => .int
  | 6 => .int
  | 7 => .int
  | 8 => .int
  | 9 => .int
  | 10 => .object "java/lang/String"
  | _ => .int
abbrev wsX180 : List Cond := u_ws RX18 TX18 12
theorem nmX18 : ∀ a, a < 12 → ∀ b, b < 12 → a ≠ b → (TX18 a).2.1 ≠ (TX18 b).2.1 := by decide +kernel
theorem tyX18_ok : ∀ k, k < 12 → parseFieldDescriptor (TX18 k).2.2.1 = some (tyX18 k) := by decide +kernel
abbrev cX18_init : ByteArray := prog_5_method_1_code
def yX18_init : MethodName := ⟨RX18, "<init>", "(Ljava/lang/String;I)V"⟩
def dkwX18_init_0 : List UInt8 := [42, 43, 28, 183, 0, 1, 177]
abbrev dktX18_init_0 : List UInt8 := dkwX18_init_0 ++ []
theorem dksX18_init_0 : cX18_init.data.toList.drop 0 = dktX18_init_0 := by decide +kernel
theorem dX18_init_0 : decode cX18_init 0 = .ok (.aload_n 0, 1) := dk_42 (dk_at dksX18_init_0 0 rfl rfl)
theorem dX18_init_1 : decode cX18_init 1 = .ok (.aload_n 1, 1) := dk_43 (dk_at dksX18_init_0 1 rfl rfl)
theorem dX18_init_2 : decode cX18_init 2 = .ok (.iload_n 2, 1) := dk_28 (dk_at dksX18_init_0 2 rfl rfl)
theorem dX18_init_3 : decode cX18_init 3 = .ok (.invokespecial 1, 3) := dk_183 0 1 (dk_at dksX18_init_0 3 rfl rfl)
theorem dX18_init_6 : decode cX18_init 6 = .ok (.return_, 1) := dk_177 (dk_at dksX18_init_0 6 rfl rfl)
abbrev cX18_kind : ByteArray := prog_5_method_2_code
def yX18_kind : MethodName := ⟨RX18, "kind", "()I"⟩
theorem dX18_kind_0 : decode cX18_kind 0 = .ok (.iconst 2, 1) := by decide +kernel
theorem dX18_kind_1 : decode cX18_kind 1 = .ok (.ireturn, 1) := by decide +kernel
abbrev cX18_mustMove : ByteArray := prog_5_method_3_code
def yX18_mustMove : MethodName := ⟨RX18, "mustMove", "()Z"⟩
theorem dX18_mustMove_0 : decode cX18_mustMove 0 = .ok (.iconst 1, 1) := by decide +kernel
theorem dX18_mustMove_1 : decode cX18_mustMove 1 = .ok (.ireturn, 1) := by decide +kernel
theorem q161 : (Jvm.Cond.initialized "LongerHalf$Child") ∈ lw_all := lw_g (lw_at lw_m1 26 rfl) rfl
theorem q990 : (Jvm.Cond.instantiable "LongerHalf$Child" (12 : Nat)) ∈ lw_all := lw_g (lw_at lw_m4 135 rfl) rfl
theorem q992 : (Jvm.Cond.instanceMethod ({ cls := "LongerHalf$Child", name := "<init>", desc := "(Ljava/lang/String;I)V" } : Jvm.MethodName)) ∈ lw_all := lw_g (lw_at lw_m4 137 rfl) rfl
theorem q993 : (Jvm.Cond.code ({ cls := "LongerHalf$Child", name := "<init>", desc := "(Ljava/lang/String;I)V" } : Jvm.MethodName) prog_5_method_1_code (3 : Nat) (Option.none : Option Jvm.ClassFile.FieldType)) ∈ lw_all := lw_g (lw_at lw_m4 138 rfl) rfl
theorem q994 : (Jvm.Cond.methodLink "LongerHalf$Child" (1 : Nat) ({ cls := "LongerHalf$Person", name := "<init>", desc := "(Ljava/lang/String;I)V" } : Jvm.MethodName)) ∈ lw_all := lw_g (lw_at lw_m4 139 rfl) rfl
theorem q995 : (Jvm.Cond.laysFinal "LongerHalf$Child" "LongerHalf$Person" "others" "[I") ∈ lw_all := lw_g (lw_at lw_m4 140 rfl) rfl
theorem q996 : (Jvm.Cond.lays "LongerHalf$Child" "LongerHalf$Person" "force" "I") ∈ lw_all := lw_g (lw_at lw_m4 141 rfl) rfl
theorem q997 : (Jvm.Cond.lays "LongerHalf$Child" "LongerHalf$Person" "hold" "I") ∈ lw_all := lw_g (lw_at lw_m4 142 rfl) rfl
theorem q998 : (Jvm.Cond.lays "LongerHalf$Child" "LongerHalf$Person" "wish" "I") ∈ lw_all := lw_g (lw_at lw_m4 143 rfl) rfl
theorem q999 : (Jvm.Cond.lays "LongerHalf$Child" "LongerHalf$Person" "plays" "I") ∈ lw_all := lw_g (lw_at lw_m4 144 rfl) rfl
theorem q1000 : (Jvm.Cond.lays "LongerHalf$Child" "LongerHalf$Person" "won" "I") ∈ lw_all := lw_g (lw_at lw_m4 145 rfl) rfl
theorem q1001 : (Jvm.Cond.lays "LongerHalf$Child" "LongerHalf$Person" "doubt" "I") ∈ lw_all := lw_g (lw_at lw_m4 146 rfl) rfl
theorem q1002 : (Jvm.Cond.lays "LongerHalf$Child" "LongerHalf$Person" "thumb" "I") ∈ lw_all := lw_g (lw_at lw_m4 147 rfl) rfl
theorem q1003 : (Jvm.Cond.lays "LongerHalf$Child" "LongerHalf$Person" "fair" "I") ∈ lw_all := lw_g (lw_at lw_m4 148 rfl) rfl
theorem q1004 : (Jvm.Cond.lays "LongerHalf$Child" "LongerHalf$Person" "told" "I") ∈ lw_all := lw_g (lw_at lw_m4 149 rfl) rfl
theorem q1005 : (Jvm.Cond.laysFinal "LongerHalf$Child" "LongerHalf$Named" "name" "Ljava/lang/String;") ∈ lw_all := lw_g (lw_at lw_m4 150 rfl) rfl
theorem q1006 : (Jvm.Cond.laysFinal "LongerHalf$Child" "LongerHalf$Named" "number" "I") ∈ lw_all := lw_g (lw_at lw_m4 151 rfl) rfl
theorem q1007 : (Jvm.Cond.superclass "LongerHalf$Child" "LongerHalf$Person") ∈ lw_all := lw_g (lw_at lw_m4 152 rfl) rfl
theorem q1136 : (Jvm.Cond.selects "LongerHalf$Child" ({ cls := "LongerHalf$Person", name := "kind", desc := "()I" } : Jvm.MethodName) ({ cls := "LongerHalf$Child", name := "kind", desc := "()I" } : Jvm.MethodName)) ∈ lw_all := lw_g (lw_at lw_m5 41 rfl) rfl
theorem q1137 : (Jvm.Cond.instanceMethod ({ cls := "LongerHalf$Child", name := "kind", desc := "()I" } : Jvm.MethodName)) ∈ lw_all := lw_g (lw_at lw_m5 42 rfl) rfl
theorem q1138 : (Jvm.Cond.code ({ cls := "LongerHalf$Child", name := "kind", desc := "()I" } : Jvm.MethodName) prog_5_method_2_code (1 : Nat) (Option.some Jvm.ClassFile.FieldType.int)) ∈ lw_all := lw_g (lw_at lw_m5 43 rfl) rfl
theorem q1172 : (Jvm.Cond.selects "LongerHalf$Child" ({ cls := "LongerHalf$Person", name := "presses", desc := "()Z" } : Jvm.MethodName) ({ cls := "LongerHalf$Person", name := "presses", desc := "()Z" } : Jvm.MethodName)) ∈ lw_all := lw_g (lw_at lw_m5 77 rfl) rfl
theorem q1212 : (Jvm.Cond.selects "LongerHalf$Child" ({ cls := "LongerHalf$Person", name := "mustMove", desc := "()Z" } : Jvm.MethodName) ({ cls := "LongerHalf$Child", name := "mustMove", desc := "()Z" } : Jvm.MethodName)) ∈ lw_all := lw_g (lw_at lw_m5 117 rfl) rfl
theorem q1213 : (Jvm.Cond.instanceMethod ({ cls := "LongerHalf$Child", name := "mustMove", desc := "()Z" } : Jvm.MethodName)) ∈ lw_all := lw_g (lw_at lw_m5 118 rfl) rfl
theorem q1214 : (Jvm.Cond.code ({ cls := "LongerHalf$Child", name := "mustMove", desc := "()Z" } : Jvm.MethodName) prog_5_method_3_code (1 : Nat) (Option.some Jvm.ClassFile.FieldType.boolean)) ∈ lw_all := lw_g (lw_at lw_m5 119 rfl) rfl
theorem q1353 : (Jvm.Cond.selects "LongerHalf$Child" ({ cls := "LongerHalf$Person", name := "hold", desc := "(LLongerHalf$Bone;I)I" } : Jvm.MethodName) ({ cls := "LongerHalf$Person", name := "hold", desc := "(LLongerHalf$Bone;I)I" } : Jvm.MethodName)) ∈ lw_all := lw_g (lw_at lw_m6 18 rfl) rfl
theorem q1383 : (Jvm.Cond.selects "LongerHalf$Child" ({ cls := "LongerHalf$Person", name := "chooses", desc := "(LLongerHalf$Bone;JJ)I" } : Jvm.MethodName) ({ cls := "LongerHalf$Person", name := "chooses", desc := "(LLongerHalf$Bone;JJ)I" } : Jvm.MethodName)) ∈ lw_all := lw_g (lw_at lw_m6 48 rfl) rfl
theorem q2461 : (Jvm.Cond.castable "LongerHalf$Child" "LongerHalf$Person") ∈ lw_tbl := lw_at lw_m10 166 rfl
theorem q2480 : (Jvm.Cond.castable "LongerHalf$Child" "java/lang/Object") ∈ lw_tbl := lw_at lw_m10 185 rfl
theorem in_X18 : ∀ w ∈ wsX180, w ∈ lw_all := lw_in wsX180 [995, 996, 997, 998, 999, 1000, 1001, 1002, 1003, 1004, 1005, 1006] (by decide +kernel) (by decide +kernel)

/-! LongerHalf$Cheat -/
set_option maxRecDepth 100000
def RX19 : String := "LongerHalf$Cheat"
def TX19 : u_T := fun k => match k with
  | 0 => ("LongerHalf$Person", "others", "[I", true)
  | 1 => ("LongerHalf$Person", "force", "I", false)
  | 2 => ("LongerHalf$Person", "hold", "I", false)
  | 3 => ("LongerHalf$Person", "wish", "I", false)
  | 4 => ("LongerHalf$Person", "plays", "I", false)
  | 5 => ("LongerHalf$Person", "won", "I", false)
  | 6 => ("LongerHalf$Person", "doubt", "I", false)
  | 7 => ("LongerHalf$Person", "thumb", "I", false)
  | 8 => ("LongerHalf$Person", "fair", "I", false)
  | 9 => ("LongerHalf$Person", "told", "I", false)
  | 10 => ("LongerHalf$Named", "name", "Ljava/lang/String;", true)
  | _ => ("LongerHalf$Named", "number", "I", true)
def tyX19 : Nat → FieldType := fun k => match k with
  | 0 => .array .int
  | 1 => .int
  | 2 => .int
  | 3 => .int
  | 4 => .int
  | 5 => .int
  | 6 => .int
  | 7 => .int
  | 8 => .int
  | 9 => .int
  | 10 => .object "java/lang/String"
  | _ => .int
abbrev wsX190 : List Cond := u_ws RX19 TX19 12
theorem nmX19 : ∀ a, a < 12 → ∀ b, b < 12 → a ≠ b → (TX19 a).2.1 ≠ (TX19 b).2.1 := by decide +kernel
theorem tyX19_ok : ∀ k, k < 12 → parseFieldDescriptor (TX19 k).2.2.1 = some (tyX19 k) := by decide +kernel
abbrev cX19_init : ByteArray := prog_4_method_1_code
def yX19_init : MethodName := ⟨RX19, "<init>", "(Ljava/lang/String;I)V"⟩
def dkwX19_init_0 : List UInt8 := [42, 43, 28, 183, 0, 1, 177]
abbrev dktX19_init_0 : List UInt8 := dkwX19_init_0 ++ []
theorem dksX19_init_0 : cX19_init.data.toList.drop 0 = dktX19_init_0 := by decide +kernel
theorem dX19_init_0 : decode cX19_init 0 = .ok (.aload_n 0, 1) := dk_42 (dk_at dksX19_init_0 0 rfl rfl)
theorem dX19_init_1 : decode cX19_init 1 = .ok (.aload_n 1, 1) := dk_43 (dk_at dksX19_init_0 1 rfl rfl)
theorem dX19_init_2 : decode cX19_init 2 = .ok (.iload_n 2, 1) := dk_28 (dk_at dksX19_init_0 2 rfl rfl)
theorem dX19_init_3 : decode cX19_init 3 = .ok (.invokespecial 1, 3) := dk_183 0 1 (dk_at dksX19_init_0 3 rfl rfl)
theorem dX19_init_6 : decode cX19_init 6 = .ok (.return_, 1) := dk_177 (dk_at dksX19_init_0 6 rfl rfl)
abbrev cX19_kind : ByteArray := prog_4_method_2_code
def yX19_kind : MethodName := ⟨RX19, "kind", "()I"⟩
theorem dX19_kind_0 : decode cX19_kind 0 = .ok (.iconst 3, 1) := by decide +kernel
theorem dX19_kind_1 : decode cX19_kind 1 = .ok (.ireturn, 1) := by decide +kernel
abbrev cX19_presses : ByteArray := prog_4_method_3_code
def yX19_presses : MethodName := ⟨RX19, "presses", "()Z"⟩
theorem dX19_presses_0 : decode cX19_presses 0 = .ok (.iconst 1, 1) := by decide +kernel
theorem dX19_presses_1 : decode cX19_presses 1 = .ok (.ireturn, 1) := by decide +kernel
theorem q162 : (Jvm.Cond.initialized "LongerHalf$Cheat") ∈ lw_all := lw_g (lw_at lw_m1 27 rfl) rfl
theorem q1010 : (Jvm.Cond.instantiable "LongerHalf$Cheat" (12 : Nat)) ∈ lw_all := lw_g (lw_at lw_m4 155 rfl) rfl
theorem q1012 : (Jvm.Cond.instanceMethod ({ cls := "LongerHalf$Cheat", name := "<init>", desc := "(Ljava/lang/String;I)V" } : Jvm.MethodName)) ∈ lw_all := lw_g (lw_at lw_m4 157 rfl) rfl
theorem q1013 : (Jvm.Cond.code ({ cls := "LongerHalf$Cheat", name := "<init>", desc := "(Ljava/lang/String;I)V" } : Jvm.MethodName) prog_4_method_1_code (3 : Nat) (Option.none : Option Jvm.ClassFile.FieldType)) ∈ lw_all := lw_g (lw_at lw_m4 158 rfl) rfl
theorem q1014 : (Jvm.Cond.methodLink "LongerHalf$Cheat" (1 : Nat) ({ cls := "LongerHalf$Person", name := "<init>", desc := "(Ljava/lang/String;I)V" } : Jvm.MethodName)) ∈ lw_all := lw_g (lw_at lw_m4 159 rfl) rfl
theorem q1015 : (Jvm.Cond.laysFinal "LongerHalf$Cheat" "LongerHalf$Person" "others" "[I") ∈ lw_all := lw_g (lw_at lw_m4 160 rfl) rfl
theorem q1016 : (Jvm.Cond.lays "LongerHalf$Cheat" "LongerHalf$Person" "force" "I") ∈ lw_all := lw_g (lw_at lw_m4 161 rfl) rfl
theorem q1017 : (Jvm.Cond.lays "LongerHalf$Cheat" "LongerHalf$Person" "hold" "I") ∈ lw_all := lw_g (lw_at lw_m4 162 rfl) rfl
theorem q1018 : (Jvm.Cond.lays "LongerHalf$Cheat" "LongerHalf$Person" "wish" "I") ∈ lw_all := lw_g (lw_at lw_m4 163 rfl) rfl
theorem q1019 : (Jvm.Cond.lays "LongerHalf$Cheat" "LongerHalf$Person" "plays" "I") ∈ lw_all := lw_g (lw_at lw_m4 164 rfl) rfl
theorem q1020 : (Jvm.Cond.lays "LongerHalf$Cheat" "LongerHalf$Person" "won" "I") ∈ lw_all := lw_g (lw_at lw_m4 165 rfl) rfl
theorem q1021 : (Jvm.Cond.lays "LongerHalf$Cheat" "LongerHalf$Person" "doubt" "I") ∈ lw_all := lw_g (lw_at lw_m4 166 rfl) rfl
theorem q1022 : (Jvm.Cond.lays "LongerHalf$Cheat" "LongerHalf$Person" "thumb" "I") ∈ lw_all := lw_g (lw_at lw_m4 167 rfl) rfl
theorem q1023 : (Jvm.Cond.lays "LongerHalf$Cheat" "LongerHalf$Person" "fair" "I") ∈ lw_all := lw_g (lw_at lw_m4 168 rfl) rfl
theorem q1024 : (Jvm.Cond.lays "LongerHalf$Cheat" "LongerHalf$Person" "told" "I") ∈ lw_all := lw_g (lw_at lw_m4 169 rfl) rfl
theorem q1025 : (Jvm.Cond.laysFinal "LongerHalf$Cheat" "LongerHalf$Named" "name" "Ljava/lang/String;") ∈ lw_all := lw_g (lw_at lw_m4 170 rfl) rfl
theorem q1026 : (Jvm.Cond.laysFinal "LongerHalf$Cheat" "LongerHalf$Named" "number" "I") ∈ lw_all := lw_g (lw_at lw_m4 171 rfl) rfl
theorem q1027 : (Jvm.Cond.superclass "LongerHalf$Cheat" "LongerHalf$Person") ∈ lw_all := lw_g (lw_at lw_m4 172 rfl) rfl
theorem q1133 : (Jvm.Cond.selects "LongerHalf$Cheat" ({ cls := "LongerHalf$Person", name := "kind", desc := "()I" } : Jvm.MethodName) ({ cls := "LongerHalf$Cheat", name := "kind", desc := "()I" } : Jvm.MethodName)) ∈ lw_all := lw_g (lw_at lw_m5 38 rfl) rfl
theorem q1134 : (Jvm.Cond.instanceMethod ({ cls := "LongerHalf$Cheat", name := "kind", desc := "()I" } : Jvm.MethodName)) ∈ lw_all := lw_g (lw_at lw_m5 39 rfl) rfl
theorem q1135 : (Jvm.Cond.code ({ cls := "LongerHalf$Cheat", name := "kind", desc := "()I" } : Jvm.MethodName) prog_4_method_2_code (1 : Nat) (Option.some Jvm.ClassFile.FieldType.int)) ∈ lw_all := lw_g (lw_at lw_m5 40 rfl) rfl
theorem q1169 : (Jvm.Cond.selects "LongerHalf$Cheat" ({ cls := "LongerHalf$Person", name := "presses", desc := "()Z" } : Jvm.MethodName) ({ cls := "LongerHalf$Cheat", name := "presses", desc := "()Z" } : Jvm.MethodName)) ∈ lw_all := lw_g (lw_at lw_m5 74 rfl) rfl
theorem q1170 : (Jvm.Cond.instanceMethod ({ cls := "LongerHalf$Cheat", name := "presses", desc := "()Z" } : Jvm.MethodName)) ∈ lw_all := lw_g (lw_at lw_m5 75 rfl) rfl
theorem q1171 : (Jvm.Cond.code ({ cls := "LongerHalf$Cheat", name := "presses", desc := "()Z" } : Jvm.MethodName) prog_4_method_3_code (1 : Nat) (Option.some Jvm.ClassFile.FieldType.boolean)) ∈ lw_all := lw_g (lw_at lw_m5 76 rfl) rfl
theorem q1211 : (Jvm.Cond.selects "LongerHalf$Cheat" ({ cls := "LongerHalf$Person", name := "mustMove", desc := "()Z" } : Jvm.MethodName) ({ cls := "LongerHalf$Person", name := "mustMove", desc := "()Z" } : Jvm.MethodName)) ∈ lw_all := lw_g (lw_at lw_m5 116 rfl) rfl
theorem q1352 : (Jvm.Cond.selects "LongerHalf$Cheat" ({ cls := "LongerHalf$Person", name := "hold", desc := "(LLongerHalf$Bone;I)I" } : Jvm.MethodName) ({ cls := "LongerHalf$Person", name := "hold", desc := "(LLongerHalf$Bone;I)I" } : Jvm.MethodName)) ∈ lw_all := lw_g (lw_at lw_m6 17 rfl) rfl
theorem q1382 : (Jvm.Cond.selects "LongerHalf$Cheat" ({ cls := "LongerHalf$Person", name := "chooses", desc := "(LLongerHalf$Bone;JJ)I" } : Jvm.MethodName) ({ cls := "LongerHalf$Person", name := "chooses", desc := "(LLongerHalf$Bone;JJ)I" } : Jvm.MethodName)) ∈ lw_all := lw_g (lw_at lw_m6 47 rfl) rfl
theorem q2460 : (Jvm.Cond.castable "LongerHalf$Cheat" "LongerHalf$Person") ∈ lw_tbl := lw_at lw_m10 165 rfl
theorem q2481 : (Jvm.Cond.castable "LongerHalf$Cheat" "java/lang/Object") ∈ lw_tbl := lw_at lw_m10 186 rfl
theorem in_X19 : ∀ w ∈ wsX190, w ∈ lw_all := lw_in wsX190 [1015, 1016, 1017, 1018, 1019, 1020, 1021, 1022, 1023, 1024, 1025, 1026] (by decide +kernel) (by decide +kernel)

/-! LongerHalfModel$Kitchen -/
set_option maxRecDepth 100000
def RX20 : String := "LongerHalfModel$Kitchen"
def TX20 : u_T := fun k => match k with
  | 0 => ("LongerHalfModel$Kitchen", "bends", "I", false)
  | 1 => ("LongerHalfModel$Kitchen", "tough", "I", false)
  | 2 => ("LongerHalfModel$Kitchen", "jerk", "I", false)
  | 3 => ("LongerHalfModel$Kitchen", "thumb", "I", false)
  | 4 => ("LongerHalfModel$Kitchen", "flaw", "I", false)
  | 5 => ("LongerHalfModel$Kitchen", "bones", "I", false)
  | 6 => ("LongerHalfModel$Kitchen", "people", "I", false)
  | 7 => ("LongerHalfModel$Kitchen", "fors", "I", false)
  | 8 => ("LongerHalfModel$Kitchen", "halves", "I", false)
  | 9 => ("LongerHalfModel$Kitchen", "pieces", "I", false)
  | 10 => ("LongerHalfModel$Kitchen", "names", "I", false)
  | 11 => ("LongerHalfModel$Kitchen", "isTold", "Z", false)
  | 12 => ("LongerHalfModel$Kitchen", "kind", "[I", true)
  | 13 => ("LongerHalfModel$Kitchen", "dry", "[I", true)
  | 14 => ("LongerHalfModel$Kitchen", "places", "[I", true)
  | 15 => ("LongerHalfModel$Kitchen", "thick", "[I", true)
  | 16 => ("LongerHalfModel$Kitchen", "is", "[I", true)
  | 17 => ("LongerHalfModel$Kitchen", "force", "[I", true)
  | 18 => ("LongerHalfModel$Kitchen", "hold", "[I", true)
  | 19 => ("LongerHalfModel$Kitchen", "wish", "[I", true)
  | 20 => ("LongerHalfModel$Kitchen", "forWhom", "[I", true)
  | 21 => ("LongerHalfModel$Kitchen", "forAll", "[I", true)
  | 22 => ("LongerHalfModel$Kitchen", "winner", "[I", true)
  | 23 => ("LongerHalfModel$Kitchen", "loser", "[I", true)
  | 24 => ("LongerHalfModel$Kitchen", "side", "[I", true)
  | 25 => ("LongerHalfModel$Kitchen", "pieceArm", "[I", true)
  | 26 => ("LongerHalfModel$Kitchen", "pieceAt", "[I", true)
  | 27 => ("LongerHalfModel$Kitchen", "cheats", "[I", true)
  | 28 => ("LongerHalfModel$Kitchen", "byThumb", "[I", true)
  | 29 => ("LongerHalfModel$Kitchen", "byFair", "[I", true)
  | 30 => ("LongerHalfModel$Kitchen", "name", "[J", true)
  | 31 => ("LongerHalfModel$Kitchen", "isBone", "[Z", true)
  | _ => ("LongerHalfModel$Kitchen", "numberOf", "[I", true)
def tyX20 : Nat → FieldType := fun k => match k with
  | 0 => .int
  | 1 => .int
  | 2 => .int
  | 3 => .int
  | 4 => .int
  | 5 => .int
  | 6 => .int
  | 7 => .int
  | 8 => .int
  | 9 => .int
  | 10 => .int
  | 11 => .boolean
  | 12 => .array .int
  | 13 => .array .int
  | 14 => .array .int
  | 15 => .array .int
  | 16 => .array .int
  | 17 => .array .int
  | 18 => .array .int
  | 19 => .array .int
  | 20 => .array .int
  | 21 => .array .int
  | 22 => .array .int
  | 23 => .array .int
  | 24 => .array .int
  | 25 => .array .int
  | 26 => .array .int
  | 27 => .array .int
  | 28 => .array .int
  | 29 => .array .int
  | 30 => .array .long
  | 31 => .array .boolean
  | _ => .array .int
abbrev wsX200 : List Cond := u_ws RX20 TX20 33
set_option maxRecDepth 100000 in
theorem nmX20 : ∀ a, a < 33 → ∀ b, b < 33 → a ≠ b → (TX20 a).2.1 ≠ (TX20 b).2.1 := by decide +kernel
set_option maxRecDepth 100000 in
theorem tyX20_ok : ∀ k, k < 33 → parseFieldDescriptor (TX20 k).2.2.1 = some (tyX20 k) := by decide +kernel
abbrev cX20_init : ByteArray := prog_21_method_1_code
def yX20_init : MethodName := ⟨RX20, "<init>", "()V"⟩
def dkwX20_init_7 : List UInt8 := [181, 0, 74, 177]
abbrev dktX20_init_7 : List UInt8 := dkwX20_init_7 ++ []
def dkwX20_init_6 : List UInt8 := [181, 0, 63, 42, 16, 11, 188, 11, 181, 0, 66, 42, 16, 11, 188, 4, 181, 0, 70, 42, 16, 11, 188, 10]
abbrev dktX20_init_6 : List UInt8 := dkwX20_init_6 ++ dktX20_init_7
def dkwX20_init_5 : List UInt8 := [181, 0, 54, 42, 16, 6, 188, 10, 181, 0, 57, 42, 16, 6, 188, 10, 181, 0, 60, 42, 16, 6, 188, 10]
abbrev dktX20_init_5 : List UInt8 := dkwX20_init_5 ++ dktX20_init_6
def dkwX20_init_4 : List UInt8 := [181, 0, 45, 42, 16, 12, 188, 10, 181, 0, 48, 42, 7, 188, 10, 181, 0, 51, 42, 7, 188, 10]
abbrev dktX20_init_4 : List UInt8 := dkwX20_init_4 ++ dktX20_init_5
def dkwX20_init_3 : List UInt8 := [181, 0, 36, 42, 16, 6, 188, 10, 181, 0, 39, 42, 16, 12, 188, 10, 181, 0, 42, 42, 16, 12, 188, 10]
abbrev dktX20_init_3 : List UInt8 := dkwX20_init_3 ++ dktX20_init_4
def dkwX20_init_2 : List UInt8 := [181, 0, 27, 42, 16, 6, 188, 10, 181, 0, 30, 42, 16, 6, 188, 10, 181, 0, 33, 42, 16, 6, 188, 10]
abbrev dktX20_init_2 : List UInt8 := dkwX20_init_2 ++ dktX20_init_3
def dkwX20_init_1 : List UInt8 := [181, 0, 18, 42, 16, 60, 188, 10, 181, 0, 21, 42, 16, 6, 188, 10, 181, 0, 24, 42, 16, 6, 188, 10]
abbrev dktX20_init_1 : List UInt8 := dkwX20_init_1 ++ dktX20_init_2
def dkwX20_init_0 : List UInt8 := [42, 183, 0, 3, 42, 8, 188, 10, 181, 0, 9, 42, 8, 188, 10, 181, 0, 15, 42, 16, 10, 188, 10]
abbrev dktX20_init_0 : List UInt8 := dkwX20_init_0 ++ dktX20_init_1
theorem dksX20_init_0 : cX20_init.data.toList.drop 0 = dktX20_init_0 := by decide +kernel
theorem dksX20_init_1 : cX20_init.data.toList.drop 23 = dktX20_init_1 := dk_seg dksX20_init_0 23 rfl rfl
theorem dksX20_init_2 : cX20_init.data.toList.drop 47 = dktX20_init_2 := dk_seg dksX20_init_1 24 rfl rfl
theorem dksX20_init_3 : cX20_init.data.toList.drop 71 = dktX20_init_3 := dk_seg dksX20_init_2 24 rfl rfl
theorem dksX20_init_4 : cX20_init.data.toList.drop 95 = dktX20_init_4 := dk_seg dksX20_init_3 24 rfl rfl
theorem dksX20_init_5 : cX20_init.data.toList.drop 117 = dktX20_init_5 := dk_seg dksX20_init_4 22 rfl rfl
theorem dksX20_init_6 : cX20_init.data.toList.drop 141 = dktX20_init_6 := dk_seg dksX20_init_5 24 rfl rfl
theorem dksX20_init_7 : cX20_init.data.toList.drop 165 = dktX20_init_7 := dk_seg dksX20_init_6 24 rfl rfl
theorem dX20_init_0 : decode cX20_init 0 = .ok (.aload_n 0, 1) := dk_42 (dk_at dksX20_init_0 0 rfl rfl)
theorem dX20_init_1 : decode cX20_init 1 = .ok (.invokespecial 3, 3) := dk_183 0 3 (dk_at dksX20_init_0 1 rfl rfl)
theorem dX20_init_4 : decode cX20_init 4 = .ok (.aload_n 0, 1) := dk_42 (dk_at dksX20_init_0 4 rfl rfl)
theorem dX20_init_5 : decode cX20_init 5 = .ok (.iconst 5, 1) := dk_8 (dk_at dksX20_init_0 5 rfl rfl)
theorem dX20_init_6 : decode cX20_init 6 = .ok (.newarray .int, 2) := dk_188_10 (dk_at dksX20_init_0 6 rfl rfl)
theorem dX20_init_8 : decode cX20_init 8 = .ok (.putfield 9, 3) := dk_181 0 9 (dk_at dksX20_init_0 8 rfl rfl)
theorem dX20_init_11 : decode cX20_init 11 = .ok (.aload_n 0, 1) := dk_42 (dk_at dksX20_init_0 11 rfl rfl)
theorem dX20_init_12 : decode cX20_init 12 = .ok (.iconst 5, 1) := dk_8 (dk_at dksX20_init_0 12 rfl rfl)
theorem dX20_init_13 : decode cX20_init 13 = .ok (.newarray .int, 2) := dk_188_10 (dk_at dksX20_init_0 13 rfl rfl)
theorem dX20_init_15 : decode cX20_init 15 = .ok (.putfield 15, 3) := dk_181 0 15 (dk_at dksX20_init_0 15 rfl rfl)
theorem dX20_init_18 : decode cX20_init 18 = .ok (.aload_n 0, 1) := dk_42 (dk_at dksX20_init_0 18 rfl rfl)
theorem dX20_init_19 : decode cX20_init 19 = .ok (.bipush 10, 2) := dk_16 10 (dk_at dksX20_init_0 19 rfl rfl)
theorem dX20_init_21 : decode cX20_init 21 = .ok (.newarray .int, 2) := dk_188_10 (dk_at dksX20_init_0 21 rfl rfl)
theorem dX20_init_23 : decode cX20_init 23 = .ok (.putfield 18, 3) := dk_181 0 18 (dk_at dksX20_init_1 0 rfl rfl)
theorem dX20_init_26 : decode cX20_init 26 = .ok (.aload_n 0, 1) := dk_42 (dk_at dksX20_init_1 3 rfl rfl)
theorem dX20_init_27 : decode cX20_init 27 = .ok (.bipush 60, 2) := dk_16 60 (dk_at dksX20_init_1 4 rfl rfl)
theorem dX20_init_29 : decode cX20_init 29 = .ok (.newarray .int, 2) := dk_188_10 (dk_at dksX20_init_1 6 rfl rfl)
theorem dX20_init_31 : decode cX20_init 31 = .ok (.putfield 21, 3) := dk_181 0 21 (dk_at dksX20_init_1 8 rfl rfl)
theorem dX20_init_34 : decode cX20_init 34 = .ok (.aload_n 0, 1) := dk_42 (dk_at dksX20_init_1 11 rfl rfl)
theorem dX20_init_35 : decode cX20_init 35 = .ok (.bipush 6, 2) := dk_16 6 (dk_at dksX20_init_1 12 rfl rfl)
theorem dX20_init_37 : decode cX20_init 37 = .ok (.newarray .int, 2) := dk_188_10 (dk_at dksX20_init_1 14 rfl rfl)
theorem dX20_init_39 : decode cX20_init 39 = .ok (.putfield 24, 3) := dk_181 0 24 (dk_at dksX20_init_1 16 rfl rfl)
theorem dX20_init_42 : decode cX20_init 42 = .ok (.aload_n 0, 1) := dk_42 (dk_at dksX20_init_1 19 rfl rfl)
theorem dX20_init_43 : decode cX20_init 43 = .ok (.bipush 6, 2) := dk_16 6 (dk_at dksX20_init_1 20 rfl rfl)
theorem dX20_init_45 : decode cX20_init 45 = .ok (.newarray .int, 2) := dk_188_10 (dk_at dksX20_init_1 22 rfl rfl)
theorem dX20_init_47 : decode cX20_init 47 = .ok (.putfield 27, 3) := dk_181 0 27 (dk_at dksX20_init_2 0 rfl rfl)
theorem dX20_init_50 : decode cX20_init 50 = .ok (.aload_n 0, 1) := dk_42 (dk_at dksX20_init_2 3 rfl rfl)
theorem dX20_init_51 : decode cX20_init 51 = .ok (.bipush 6, 2) := dk_16 6 (dk_at dksX20_init_2 4 rfl rfl)
theorem dX20_init_53 : decode cX20_init 53 = .ok (.newarray .int, 2) := dk_188_10 (dk_at dksX20_init_2 6 rfl rfl)
theorem dX20_init_55 : decode cX20_init 55 = .ok (.putfield 30, 3) := dk_181 0 30 (dk_at dksX20_init_2 8 rfl rfl)
theorem dX20_init_58 : decode cX20_init 58 = .ok (.aload_n 0, 1) := dk_42 (dk_at dksX20_init_2 11 rfl rfl)
theorem dX20_init_59 : decode cX20_init 59 = .ok (.bipush 6, 2) := dk_16 6 (dk_at dksX20_init_2 12 rfl rfl)
theorem dX20_init_61 : decode cX20_init 61 = .ok (.newarray .int, 2) := dk_188_10 (dk_at dksX20_init_2 14 rfl rfl)
theorem dX20_init_63 : decode cX20_init 63 = .ok (.putfield 33, 3) := dk_181 0 33 (dk_at dksX20_init_2 16 rfl rfl)
theorem dX20_init_66 : decode cX20_init 66 = .ok (.aload_n 0, 1) := dk_42 (dk_at dksX20_init_2 19 rfl rfl)
theorem dX20_init_67 : decode cX20_init 67 = .ok (.bipush 6, 2) := dk_16 6 (dk_at dksX20_init_2 20 rfl rfl)
theorem dX20_init_69 : decode cX20_init 69 = .ok (.newarray .int, 2) := dk_188_10 (dk_at dksX20_init_2 22 rfl rfl)
theorem dX20_init_71 : decode cX20_init 71 = .ok (.putfield 36, 3) := dk_181 0 36 (dk_at dksX20_init_3 0 rfl rfl)
theorem dX20_init_74 : decode cX20_init 74 = .ok (.aload_n 0, 1) := dk_42 (dk_at dksX20_init_3 3 rfl rfl)
theorem dX20_init_75 : decode cX20_init 75 = .ok (.bipush 6, 2) := dk_16 6 (dk_at dksX20_init_3 4 rfl rfl)
theorem dX20_init_77 : decode cX20_init 77 = .ok (.newarray .int, 2) := dk_188_10 (dk_at dksX20_init_3 6 rfl rfl)
theorem dX20_init_79 : decode cX20_init 79 = .ok (.putfield 39, 3) := dk_181 0 39 (dk_at dksX20_init_3 8 rfl rfl)
theorem dX20_init_82 : decode cX20_init 82 = .ok (.aload_n 0, 1) := dk_42 (dk_at dksX20_init_3 11 rfl rfl)
theorem dX20_init_83 : decode cX20_init 83 = .ok (.bipush 12, 2) := dk_16 12 (dk_at dksX20_init_3 12 rfl rfl)
theorem dX20_init_85 : decode cX20_init 85 = .ok (.newarray .int, 2) := dk_188_10 (dk_at dksX20_init_3 14 rfl rfl)
theorem dX20_init_87 : decode cX20_init 87 = .ok (.putfield 42, 3) := dk_181 0 42 (dk_at dksX20_init_3 16 rfl rfl)
theorem dX20_init_90 : decode cX20_init 90 = .ok (.aload_n 0, 1) := dk_42 (dk_at dksX20_init_3 19 rfl rfl)
theorem dX20_init_91 : decode cX20_init 91 = .ok (.bipush 12, 2) := dk_16 12 (dk_at dksX20_init_3 20 rfl rfl)
theorem dX20_init_93 : decode cX20_init 93 = .ok (.newarray .int, 2) := dk_188_10 (dk_at dksX20_init_3 22 rfl rfl)
theorem dX20_init_95 : decode cX20_init 95 = .ok (.putfield 45, 3) := dk_181 0 45 (dk_at dksX20_init_4 0 rfl rfl)
theorem dX20_init_98 : decode cX20_init 98 = .ok (.aload_n 0, 1) := dk_42 (dk_at dksX20_init_4 3 rfl rfl)
theorem dX20_init_99 : decode cX20_init 99 = .ok (.bipush 12, 2) := dk_16 12 (dk_at dksX20_init_4 4 rfl rfl)
theorem dX20_init_101 : decode cX20_init 101 = .ok (.newarray .int, 2) := dk_188_10 (dk_at dksX20_init_4 6 rfl rfl)
theorem dX20_init_103 : decode cX20_init 103 = .ok (.putfield 48, 3) := dk_181 0 48 (dk_at dksX20_init_4 8 rfl rfl)
theorem dX20_init_106 : decode cX20_init 106 = .ok (.aload_n 0, 1) := dk_42 (dk_at dksX20_init_4 11 rfl rfl)
theorem dX20_init_107 : decode cX20_init 107 = .ok (.iconst 4, 1) := dk_7 (dk_at dksX20_init_4 12 rfl rfl)
theorem dX20_init_108 : decode cX20_init 108 = .ok (.newarray .int, 2) := dk_188_10 (dk_at dksX20_init_4 13 rfl rfl)
theorem dX20_init_110 : decode cX20_init 110 = .ok (.putfield 51, 3) := dk_181 0 51 (dk_at dksX20_init_4 15 rfl rfl)
theorem dX20_init_113 : decode cX20_init 113 = .ok (.aload_n 0, 1) := dk_42 (dk_at dksX20_init_4 18 rfl rfl)
theorem dX20_init_114 : decode cX20_init 114 = .ok (.iconst 4, 1) := dk_7 (dk_at dksX20_init_4 19 rfl rfl)
theorem dX20_init_115 : decode cX20_init 115 = .ok (.newarray .int, 2) := dk_188_10 (dk_at dksX20_init_4 20 rfl rfl)
theorem dX20_init_117 : decode cX20_init 117 = .ok (.putfield 54, 3) := dk_181 0 54 (dk_at dksX20_init_5 0 rfl rfl)
theorem dX20_init_120 : decode cX20_init 120 = .ok (.aload_n 0, 1) := dk_42 (dk_at dksX20_init_5 3 rfl rfl)
theorem dX20_init_121 : decode cX20_init 121 = .ok (.bipush 6, 2) := dk_16 6 (dk_at dksX20_init_5 4 rfl rfl)
theorem dX20_init_123 : decode cX20_init 123 = .ok (.newarray .int, 2) := dk_188_10 (dk_at dksX20_init_5 6 rfl rfl)
theorem dX20_init_125 : decode cX20_init 125 = .ok (.putfield 57, 3) := dk_181 0 57 (dk_at dksX20_init_5 8 rfl rfl)
theorem dX20_init_128 : decode cX20_init 128 = .ok (.aload_n 0, 1) := dk_42 (dk_at dksX20_init_5 11 rfl rfl)
theorem dX20_init_129 : decode cX20_init 129 = .ok (.bipush 6, 2) := dk_16 6 (dk_at dksX20_init_5 12 rfl rfl)
theorem dX20_init_131 : decode cX20_init 131 = .ok (.newarray .int, 2) := dk_188_10 (dk_at dksX20_init_5 14 rfl rfl)
theorem dX20_init_133 : decode cX20_init 133 = .ok (.putfield 60, 3) := dk_181 0 60 (dk_at dksX20_init_5 16 rfl rfl)
theorem dX20_init_136 : decode cX20_init 136 = .ok (.aload_n 0, 1) := dk_42 (dk_at dksX20_init_5 19 rfl rfl)
theorem dX20_init_137 : decode cX20_init 137 = .ok (.bipush 6, 2) := dk_16 6 (dk_at dksX20_init_5 20 rfl rfl)
theorem dX20_init_139 : decode cX20_init 139 = .ok (.newarray .int, 2) := dk_188_10 (dk_at dksX20_init_5 22 rfl rfl)
theorem dX20_init_141 : decode cX20_init 141 = .ok (.putfield 63, 3) := dk_181 0 63 (dk_at dksX20_init_6 0 rfl rfl)
theorem dX20_init_144 : decode cX20_init 144 = .ok (.aload_n 0, 1) := dk_42 (dk_at dksX20_init_6 3 rfl rfl)
theorem dX20_init_145 : decode cX20_init 145 = .ok (.bipush 11, 2) := dk_16 11 (dk_at dksX20_init_6 4 rfl rfl)
theorem dX20_init_147 : decode cX20_init 147 = .ok (.newarray .long, 2) := dk_188_11 (dk_at dksX20_init_6 6 rfl rfl)
theorem dX20_init_149 : decode cX20_init 149 = .ok (.putfield 66, 3) := dk_181 0 66 (dk_at dksX20_init_6 8 rfl rfl)
theorem dX20_init_152 : decode cX20_init 152 = .ok (.aload_n 0, 1) := dk_42 (dk_at dksX20_init_6 11 rfl rfl)
theorem dX20_init_153 : decode cX20_init 153 = .ok (.bipush 11, 2) := dk_16 11 (dk_at dksX20_init_6 12 rfl rfl)
theorem dX20_init_155 : decode cX20_init 155 = .ok (.newarray .boolean, 2) := dk_188_4 (dk_at dksX20_init_6 14 rfl rfl)
theorem dX20_init_157 : decode cX20_init 157 = .ok (.putfield 70, 3) := dk_181 0 70 (dk_at dksX20_init_6 16 rfl rfl)
theorem dX20_init_160 : decode cX20_init 160 = .ok (.aload_n 0, 1) := dk_42 (dk_at dksX20_init_6 19 rfl rfl)
theorem dX20_init_161 : decode cX20_init 161 = .ok (.bipush 11, 2) := dk_16 11 (dk_at dksX20_init_6 20 rfl rfl)
theorem dX20_init_163 : decode cX20_init 163 = .ok (.newarray .int, 2) := dk_188_10 (dk_at dksX20_init_6 22 rfl rfl)
theorem dX20_init_165 : decode cX20_init 165 = .ok (.putfield 74, 3) := dk_181 0 74 (dk_at dksX20_init_7 0 rfl rfl)
theorem dX20_init_168 : decode cX20_init 168 = .ok (.return_, 1) := dk_177 (dk_at dksX20_init_7 3 rfl rfl)
abbrev cX20_find : ByteArray := prog_21_method_2_code
def yX20_find : MethodName := ⟨RX20, "find", "(J)I"⟩
def dkwX20_find_1 : List UInt8 := [132, 3, 1, 167, 255, 232, 2, 172]
abbrev dktX20_find_1 : List UInt8 := dkwX20_find_1 ++ []
def dkwX20_find_0 : List UInt8 := [3, 62, 29, 42, 180, 0, 77, 162, 0, 22, 42, 180, 0, 66, 29, 47, 31, 148, 154, 0, 5, 29, 172]
abbrev dktX20_find_0 : List UInt8 := dkwX20_find_0 ++ dktX20_find_1
theorem dksX20_find_0 : cX20_find.data.toList.drop 0 = dktX20_find_0 := by decide +kernel
theorem dksX20_find_1 : cX20_find.data.toList.drop 23 = dktX20_find_1 := dk_seg dksX20_find_0 23 rfl rfl
theorem dX20_find_0 : decode cX20_find 0 = .ok (.iconst 0, 1) := dk_3 (dk_at dksX20_find_0 0 rfl rfl)
theorem dX20_find_1 : decode cX20_find 1 = .ok (.istore_n 3, 1) := dk_62 (dk_at dksX20_find_0 1 rfl rfl)
theorem dX20_find_2 : decode cX20_find 2 = .ok (.iload_n 3, 1) := dk_29 (dk_at dksX20_find_0 2 rfl rfl)
theorem dX20_find_3 : decode cX20_find 3 = .ok (.aload_n 0, 1) := dk_42 (dk_at dksX20_find_0 3 rfl rfl)
theorem dX20_find_4 : decode cX20_find 4 = .ok (.getfield 77, 3) := dk_180 0 77 (dk_at dksX20_find_0 4 rfl rfl)
theorem dX20_find_7 : decode cX20_find 7 = .ok (.if_icmp .ge 22, 3) := dk_162 0 22 (dk_at dksX20_find_0 7 rfl rfl)
theorem dX20_find_10 : decode cX20_find 10 = .ok (.aload_n 0, 1) := dk_42 (dk_at dksX20_find_0 10 rfl rfl)
theorem dX20_find_11 : decode cX20_find 11 = .ok (.getfield 66, 3) := dk_180 0 66 (dk_at dksX20_find_0 11 rfl rfl)
theorem dX20_find_14 : decode cX20_find 14 = .ok (.iload_n 3, 1) := dk_29 (dk_at dksX20_find_0 14 rfl rfl)
theorem dX20_find_15 : decode cX20_find 15 = .ok (.laload, 1) := dk_47 (dk_at dksX20_find_0 15 rfl rfl)
theorem dX20_find_16 : decode cX20_find 16 = .ok (.lload_n 1, 1) := dk_31 (dk_at dksX20_find_0 16 rfl rfl)
theorem dX20_find_17 : decode cX20_find 17 = .ok (.lcmp, 1) := dk_148 (dk_at dksX20_find_0 17 rfl rfl)
theorem dX20_find_18 : decode cX20_find 18 = .ok (.ifCond .ne 5, 3) := dk_154 0 5 (dk_at dksX20_find_0 18 rfl rfl)
theorem dX20_find_21 : decode cX20_find 21 = .ok (.iload_n 3, 1) := dk_29 (dk_at dksX20_find_0 21 rfl rfl)
theorem dX20_find_22 : decode cX20_find 22 = .ok (.ireturn, 1) := dk_172 (dk_at dksX20_find_0 22 rfl rfl)
theorem dX20_find_23 : decode cX20_find 23 = .ok (.iinc 3 1, 3) := dk_132 3 1 (dk_at dksX20_find_1 0 rfl rfl)
theorem dX20_find_26 : decode cX20_find 26 = .ok (.goto (-24), 3) := dk_167 255 232 (dk_at dksX20_find_1 3 rfl rfl)
theorem dX20_find_29 : decode cX20_find 29 = .ok (.iconst (-1), 1) := dk_2 (dk_at dksX20_find_1 6 rfl rfl)
theorem dX20_find_30 : decode cX20_find 30 = .ok (.ireturn, 1) := dk_172 (dk_at dksX20_find_1 7 rfl rfl)
abbrev cX20_many : ByteArray := prog_21_method_3_code
def yX20_many : MethodName := ⟨RX20, "many", "(II)I"⟩
def dkwX20_many_0 : List UInt8 := [42, 180, 0, 18, 5, 27, 104, 28, 96, 46, 172]
abbrev dktX20_many_0 : List UInt8 := dkwX20_many_0 ++ []
theorem dksX20_many_0 : cX20_many.data.toList.drop 0 = dktX20_many_0 := by decide +kernel
theorem dX20_many_0 : decode cX20_many 0 = .ok (.aload_n 0, 1) := dk_42 (dk_at dksX20_many_0 0 rfl rfl)
theorem dX20_many_1 : decode cX20_many 1 = .ok (.getfield 18, 3) := dk_180 0 18 (dk_at dksX20_many_0 1 rfl rfl)
theorem dX20_many_4 : decode cX20_many 4 = .ok (.iconst 2, 1) := dk_5 (dk_at dksX20_many_0 4 rfl rfl)
theorem dX20_many_5 : decode cX20_many 5 = .ok (.iload_n 1, 1) := dk_27 (dk_at dksX20_many_0 5 rfl rfl)
theorem dX20_many_6 : decode cX20_many 6 = .ok (.imul, 1) := dk_104 (dk_at dksX20_many_0 6 rfl rfl)
theorem dX20_many_7 : decode cX20_many 7 = .ok (.iload_n 2, 1) := dk_28 (dk_at dksX20_many_0 7 rfl rfl)
theorem dX20_many_8 : decode cX20_many 8 = .ok (.iadd, 1) := dk_96 (dk_at dksX20_many_0 8 rfl rfl)
theorem dX20_many_9 : decode cX20_many 9 = .ok (.iaload, 1) := dk_46 (dk_at dksX20_many_0 9 rfl rfl)
theorem dX20_many_10 : decode cX20_many 10 = .ok (.ireturn, 1) := dk_172 (dk_at dksX20_many_0 10 rfl rfl)
abbrev cX20_thickAt : ByteArray := prog_21_method_4_code
def yX20_thickAt : MethodName := ⟨RX20, "thickAt", "(III)I"⟩
def dkwX20_thickAt_0 : List UInt8 := [42, 180, 0, 21, 16, 6, 5, 27, 104, 28, 96, 104, 29, 96, 46, 172]
abbrev dktX20_thickAt_0 : List UInt8 := dkwX20_thickAt_0 ++ []
theorem dksX20_thickAt_0 : cX20_thickAt.data.toList.drop 0 = dktX20_thickAt_0 := by decide +kernel
theorem dX20_thickAt_0 : decode cX20_thickAt 0 = .ok (.aload_n 0, 1) := dk_42 (dk_at dksX20_thickAt_0 0 rfl rfl)
theorem dX20_thickAt_1 : decode cX20_thickAt 1 = .ok (.getfield 21, 3) := dk_180 0 21 (dk_at dksX20_thickAt_0 1 rfl rfl)
theorem dX20_thickAt_4 : decode cX20_thickAt 4 = .ok (.bipush 6, 2) := dk_16 6 (dk_at dksX20_thickAt_0 4 rfl rfl)
theorem dX20_thickAt_6 : decode cX20_thickAt 6 = .ok (.iconst 2, 1) := dk_5 (dk_at dksX20_thickAt_0 6 rfl rfl)
theorem dX20_thickAt_7 : decode cX20_thickAt 7 = .ok (.iload_n 1, 1) := dk_27 (dk_at dksX20_thickAt_0 7 rfl rfl)
theorem dX20_thickAt_8 : decode cX20_thickAt 8 = .ok (.imul, 1) := dk_104 (dk_at dksX20_thickAt_0 8 rfl rfl)
theorem dX20_thickAt_9 : decode cX20_thickAt 9 = .ok (.iload_n 2, 1) := dk_28 (dk_at dksX20_thickAt_0 9 rfl rfl)
theorem dX20_thickAt_10 : decode cX20_thickAt 10 = .ok (.iadd, 1) := dk_96 (dk_at dksX20_thickAt_0 10 rfl rfl)
theorem dX20_thickAt_11 : decode cX20_thickAt 11 = .ok (.imul, 1) := dk_104 (dk_at dksX20_thickAt_0 11 rfl rfl)
theorem dX20_thickAt_12 : decode cX20_thickAt 12 = .ok (.iload_n 3, 1) := dk_29 (dk_at dksX20_thickAt_0 12 rfl rfl)
theorem dX20_thickAt_13 : decode cX20_thickAt 13 = .ok (.iadd, 1) := dk_96 (dk_at dksX20_thickAt_0 13 rfl rfl)
theorem dX20_thickAt_14 : decode cX20_thickAt 14 = .ok (.iaload, 1) := dk_46 (dk_at dksX20_thickAt_0 14 rfl rfl)
theorem dX20_thickAt_15 : decode cX20_thickAt 15 = .ok (.ireturn, 1) := dk_172 (dk_at dksX20_thickAt_0 15 rfl rfl)
abbrev cX20_holds : ByteArray := prog_21_method_5_code
def yX20_holds : MethodName := ⟨RX20, "holds", "(III)I"⟩
def dkwX20_holds_1 : List UInt8 := [42, 28, 29, 182, 0, 81, 172]
abbrev dktX20_holds_1 : List UInt8 := dkwX20_holds_1 ++ []
def dkwX20_holds_0 : List UInt8 := [42, 180, 0, 30, 27, 46, 42, 28, 29, 182, 0, 81, 162, 0, 12, 42, 180, 0, 30, 27, 46, 167, 0, 9]
abbrev dktX20_holds_0 : List UInt8 := dkwX20_holds_0 ++ dktX20_holds_1
theorem dksX20_holds_0 : cX20_holds.data.toList.drop 0 = dktX20_holds_0 := by decide +kernel
theorem dksX20_holds_1 : cX20_holds.data.toList.drop 24 = dktX20_holds_1 := dk_seg dksX20_holds_0 24 rfl rfl
theorem dX20_holds_0 : decode cX20_holds 0 = .ok (.aload_n 0, 1) := dk_42 (dk_at dksX20_holds_0 0 rfl rfl)
theorem dX20_holds_1 : decode cX20_holds 1 = .ok (.getfield 30, 3) := dk_180 0 30 (dk_at dksX20_holds_0 1 rfl rfl)
theorem dX20_holds_4 : decode cX20_holds 4 = .ok (.iload_n 1, 1) := dk_27 (dk_at dksX20_holds_0 4 rfl rfl)
theorem dX20_holds_5 : decode cX20_holds 5 = .ok (.iaload, 1) := dk_46 (dk_at dksX20_holds_0 5 rfl rfl)
theorem dX20_holds_6 : decode cX20_holds 6 = .ok (.aload_n 0, 1) := dk_42 (dk_at dksX20_holds_0 6 rfl rfl)
theorem dX20_holds_7 : decode cX20_holds 7 = .ok (.iload_n 2, 1) := dk_28 (dk_at dksX20_holds_0 7 rfl rfl)
theorem dX20_holds_8 : decode cX20_holds 8 = .ok (.iload_n 3, 1) := dk_29 (dk_at dksX20_holds_0 8 rfl rfl)
theorem dX20_holds_9 : decode cX20_holds 9 = .ok (.invokevirtual 81, 3) := dk_182 0 81 (dk_at dksX20_holds_0 9 rfl rfl)
theorem dX20_holds_12 : decode cX20_holds 12 = .ok (.if_icmp .ge 12, 3) := dk_162 0 12 (dk_at dksX20_holds_0 12 rfl rfl)
theorem dX20_holds_15 : decode cX20_holds 15 = .ok (.aload_n 0, 1) := dk_42 (dk_at dksX20_holds_0 15 rfl rfl)
theorem dX20_holds_16 : decode cX20_holds 16 = .ok (.getfield 30, 3) := dk_180 0 30 (dk_at dksX20_holds_0 16 rfl rfl)
theorem dX20_holds_19 : decode cX20_holds 19 = .ok (.iload_n 1, 1) := dk_27 (dk_at dksX20_holds_0 19 rfl rfl)
theorem dX20_holds_20 : decode cX20_holds 20 = .ok (.iaload, 1) := dk_46 (dk_at dksX20_holds_0 20 rfl rfl)
theorem dX20_holds_21 : decode cX20_holds 21 = .ok (.goto 9, 3) := dk_167 0 9 (dk_at dksX20_holds_0 21 rfl rfl)
theorem dX20_holds_24 : decode cX20_holds 24 = .ok (.aload_n 0, 1) := dk_42 (dk_at dksX20_holds_1 0 rfl rfl)
theorem dX20_holds_25 : decode cX20_holds 25 = .ok (.iload_n 2, 1) := dk_28 (dk_at dksX20_holds_1 1 rfl rfl)
theorem dX20_holds_26 : decode cX20_holds 26 = .ok (.iload_n 3, 1) := dk_29 (dk_at dksX20_holds_1 2 rfl rfl)
theorem dX20_holds_27 : decode cX20_holds 27 = .ok (.invokevirtual 81, 3) := dk_182 0 81 (dk_at dksX20_holds_1 3 rfl rfl)
theorem dX20_holds_30 : decode cX20_holds 30 = .ok (.ireturn, 1) := dk_172 (dk_at dksX20_holds_1 6 rfl rfl)
theorem q163 : (Jvm.Cond.initialized "LongerHalfModel$Kitchen") ∈ lw_all := lw_g (lw_at lw_m1 28 rfl) rfl
theorem q1754 : (Jvm.Cond.instantiable "LongerHalfModel$Kitchen" (33 : Nat)) ∈ lw_all := lw_g (lw_at lw_m7 179 rfl) rfl
theorem q1756 : (Jvm.Cond.instanceMethod ({ cls := "LongerHalfModel$Kitchen", name := "<init>", desc := "()V" } : Jvm.MethodName)) ∈ lw_all := lw_g (lw_at lw_m7 181 rfl) rfl
theorem q1757 : (Jvm.Cond.code ({ cls := "LongerHalfModel$Kitchen", name := "<init>", desc := "()V" } : Jvm.MethodName) prog_21_method_1_code (1 : Nat) (Option.none : Option Jvm.ClassFile.FieldType)) ∈ lw_all := lw_g (lw_at lw_m7 182 rfl) rfl
theorem q1758 : (Jvm.Cond.methodLink "LongerHalfModel$Kitchen" (3 : Nat) ({ cls := "java/lang/Object", name := "<init>", desc := "()V" } : Jvm.MethodName)) ∈ lw_all := lw_g (lw_at lw_m7 183 rfl) rfl
theorem q1769 : (Jvm.Cond.fieldLink "LongerHalfModel$Kitchen" (77 : Nat) "LongerHalfModel$Kitchen" "names" "I") ∈ lw_all := lw_g (lw_at lw_m7 194 rfl) rfl
theorem q1772 : (Jvm.Cond.fieldLink "LongerHalfModel$Kitchen" (9 : Nat) "LongerHalfModel$Kitchen" "kind" "[I") ∈ lw_all := lw_g (lw_at lw_m7 197 rfl) rfl
theorem q1774 : (Jvm.Cond.fieldLink "LongerHalfModel$Kitchen" (15 : Nat) "LongerHalfModel$Kitchen" "dry" "[I") ∈ lw_all := lw_g (lw_at lw_m7 199 rfl) rfl
theorem q1776 : (Jvm.Cond.fieldLink "LongerHalfModel$Kitchen" (18 : Nat) "LongerHalfModel$Kitchen" "places" "[I") ∈ lw_all := lw_g (lw_at lw_m7 201 rfl) rfl
theorem q1778 : (Jvm.Cond.fieldLink "LongerHalfModel$Kitchen" (21 : Nat) "LongerHalfModel$Kitchen" "thick" "[I") ∈ lw_all := lw_g (lw_at lw_m7 203 rfl) rfl
theorem q1780 : (Jvm.Cond.fieldLink "LongerHalfModel$Kitchen" (24 : Nat) "LongerHalfModel$Kitchen" "is" "[I") ∈ lw_all := lw_g (lw_at lw_m7 205 rfl) rfl
theorem q1782 : (Jvm.Cond.fieldLink "LongerHalfModel$Kitchen" (27 : Nat) "LongerHalfModel$Kitchen" "force" "[I") ∈ lw_all := lw_g (lw_at lw_m7 207 rfl) rfl
theorem q1784 : (Jvm.Cond.fieldLink "LongerHalfModel$Kitchen" (30 : Nat) "LongerHalfModel$Kitchen" "hold" "[I") ∈ lw_all := lw_g (lw_at lw_m7 209 rfl) rfl
theorem q1786 : (Jvm.Cond.fieldLink "LongerHalfModel$Kitchen" (33 : Nat) "LongerHalfModel$Kitchen" "wish" "[I") ∈ lw_all := lw_g (lw_at lw_m7 211 rfl) rfl
theorem q1788 : (Jvm.Cond.fieldLink "LongerHalfModel$Kitchen" (36 : Nat) "LongerHalfModel$Kitchen" "forWhom" "[I") ∈ lw_all := lw_g (lw_at lw_m7 213 rfl) rfl
theorem q1790 : (Jvm.Cond.fieldLink "LongerHalfModel$Kitchen" (39 : Nat) "LongerHalfModel$Kitchen" "forAll" "[I") ∈ lw_all := lw_g (lw_at lw_m7 215 rfl) rfl
theorem q1792 : (Jvm.Cond.fieldLink "LongerHalfModel$Kitchen" (42 : Nat) "LongerHalfModel$Kitchen" "winner" "[I") ∈ lw_all := lw_g (lw_at lw_m7 217 rfl) rfl
theorem q1794 : (Jvm.Cond.fieldLink "LongerHalfModel$Kitchen" (45 : Nat) "LongerHalfModel$Kitchen" "loser" "[I") ∈ lw_all := lw_g (lw_at lw_m7 219 rfl) rfl
theorem q1796 : (Jvm.Cond.fieldLink "LongerHalfModel$Kitchen" (48 : Nat) "LongerHalfModel$Kitchen" "side" "[I") ∈ lw_all := lw_g (lw_at lw_m7 221 rfl) rfl
theorem q1798 : (Jvm.Cond.fieldLink "LongerHalfModel$Kitchen" (51 : Nat) "LongerHalfModel$Kitchen" "pieceArm" "[I") ∈ lw_all := lw_g (lw_at lw_m7 223 rfl) rfl
theorem q1800 : (Jvm.Cond.fieldLink "LongerHalfModel$Kitchen" (54 : Nat) "LongerHalfModel$Kitchen" "pieceAt" "[I") ∈ lw_all := lw_g (lw_at lw_m7 225 rfl) rfl
theorem q1802 : (Jvm.Cond.fieldLink "LongerHalfModel$Kitchen" (57 : Nat) "LongerHalfModel$Kitchen" "cheats" "[I") ∈ lw_all := lw_g (lw_at lw_m7 227 rfl) rfl
theorem q1804 : (Jvm.Cond.fieldLink "LongerHalfModel$Kitchen" (60 : Nat) "LongerHalfModel$Kitchen" "byThumb" "[I") ∈ lw_all := lw_g (lw_at lw_m7 229 rfl) rfl
theorem q1806 : (Jvm.Cond.fieldLink "LongerHalfModel$Kitchen" (63 : Nat) "LongerHalfModel$Kitchen" "byFair" "[I") ∈ lw_all := lw_g (lw_at lw_m7 231 rfl) rfl
theorem q1808 : (Jvm.Cond.fieldLink "LongerHalfModel$Kitchen" (66 : Nat) "LongerHalfModel$Kitchen" "name" "[J") ∈ lw_all := lw_g (lw_at lw_m7 233 rfl) rfl
theorem q1810 : (Jvm.Cond.fieldLink "LongerHalfModel$Kitchen" (70 : Nat) "LongerHalfModel$Kitchen" "isBone" "[Z") ∈ lw_all := lw_g (lw_at lw_m7 235 rfl) rfl
theorem q1812 : (Jvm.Cond.fieldLink "LongerHalfModel$Kitchen" (74 : Nat) "LongerHalfModel$Kitchen" "numberOf" "[I") ∈ lw_all := lw_g (lw_at lw_m7 237 rfl) rfl
theorem q1814 : (Jvm.Cond.lays "LongerHalfModel$Kitchen" "LongerHalfModel$Kitchen" "bends" "I") ∈ lw_all := lw_g (lw_at lw_m7 239 rfl) rfl
theorem q1815 : (Jvm.Cond.soleField "LongerHalfModel$Kitchen" "bends") ∈ lw_all := lw_g (lw_at lw_m8 0 rfl) rfl
theorem q1816 : (Jvm.Cond.lays "LongerHalfModel$Kitchen" "LongerHalfModel$Kitchen" "tough" "I") ∈ lw_all := lw_g (lw_at lw_m8 1 rfl) rfl
theorem q1817 : (Jvm.Cond.soleField "LongerHalfModel$Kitchen" "tough") ∈ lw_all := lw_g (lw_at lw_m8 2 rfl) rfl
theorem q1818 : (Jvm.Cond.lays "LongerHalfModel$Kitchen" "LongerHalfModel$Kitchen" "jerk" "I") ∈ lw_all := lw_g (lw_at lw_m8 3 rfl) rfl
theorem q1819 : (Jvm.Cond.soleField "LongerHalfModel$Kitchen" "jerk") ∈ lw_all := lw_g (lw_at lw_m8 4 rfl) rfl
theorem q1820 : (Jvm.Cond.lays "LongerHalfModel$Kitchen" "LongerHalfModel$Kitchen" "thumb" "I") ∈ lw_all := lw_g (lw_at lw_m8 5 rfl) rfl
theorem q1821 : (Jvm.Cond.soleField "LongerHalfModel$Kitchen" "thumb") ∈ lw_all := lw_g (lw_at lw_m8 6 rfl) rfl
theorem q1822 : (Jvm.Cond.lays "LongerHalfModel$Kitchen" "LongerHalfModel$Kitchen" "flaw" "I") ∈ lw_all := lw_g (lw_at lw_m8 7 rfl) rfl
theorem q1823 : (Jvm.Cond.soleField "LongerHalfModel$Kitchen" "flaw") ∈ lw_all := lw_g (lw_at lw_m8 8 rfl) rfl
theorem q1824 : (Jvm.Cond.lays "LongerHalfModel$Kitchen" "LongerHalfModel$Kitchen" "bones" "I") ∈ lw_all := lw_g (lw_at lw_m8 9 rfl) rfl
theorem q1825 : (Jvm.Cond.soleField "LongerHalfModel$Kitchen" "bones") ∈ lw_all := lw_g (lw_at lw_m8 10 rfl) rfl
theorem q1826 : (Jvm.Cond.lays "LongerHalfModel$Kitchen" "LongerHalfModel$Kitchen" "people" "I") ∈ lw_all := lw_g (lw_at lw_m8 11 rfl) rfl
theorem q1827 : (Jvm.Cond.soleField "LongerHalfModel$Kitchen" "people") ∈ lw_all := lw_g (lw_at lw_m8 12 rfl) rfl
theorem q1828 : (Jvm.Cond.lays "LongerHalfModel$Kitchen" "LongerHalfModel$Kitchen" "fors" "I") ∈ lw_all := lw_g (lw_at lw_m8 13 rfl) rfl
theorem q1829 : (Jvm.Cond.soleField "LongerHalfModel$Kitchen" "fors") ∈ lw_all := lw_g (lw_at lw_m8 14 rfl) rfl
theorem q1830 : (Jvm.Cond.lays "LongerHalfModel$Kitchen" "LongerHalfModel$Kitchen" "halves" "I") ∈ lw_all := lw_g (lw_at lw_m8 15 rfl) rfl
theorem q1831 : (Jvm.Cond.soleField "LongerHalfModel$Kitchen" "halves") ∈ lw_all := lw_g (lw_at lw_m8 16 rfl) rfl
theorem q1832 : (Jvm.Cond.lays "LongerHalfModel$Kitchen" "LongerHalfModel$Kitchen" "pieces" "I") ∈ lw_all := lw_g (lw_at lw_m8 17 rfl) rfl
theorem q1833 : (Jvm.Cond.soleField "LongerHalfModel$Kitchen" "pieces") ∈ lw_all := lw_g (lw_at lw_m8 18 rfl) rfl
theorem q1834 : (Jvm.Cond.lays "LongerHalfModel$Kitchen" "LongerHalfModel$Kitchen" "names" "I") ∈ lw_all := lw_g (lw_at lw_m8 19 rfl) rfl
theorem q1835 : (Jvm.Cond.soleField "LongerHalfModel$Kitchen" "names") ∈ lw_all := lw_g (lw_at lw_m8 20 rfl) rfl
theorem q1836 : (Jvm.Cond.lays "LongerHalfModel$Kitchen" "LongerHalfModel$Kitchen" "isTold" "Z") ∈ lw_all := lw_g (lw_at lw_m8 21 rfl) rfl
theorem q1837 : (Jvm.Cond.soleField "LongerHalfModel$Kitchen" "isTold") ∈ lw_all := lw_g (lw_at lw_m8 22 rfl) rfl
theorem q1838 : (Jvm.Cond.laysFinal "LongerHalfModel$Kitchen" "LongerHalfModel$Kitchen" "kind" "[I") ∈ lw_all := lw_g (lw_at lw_m8 23 rfl) rfl
theorem q1839 : (Jvm.Cond.soleField "LongerHalfModel$Kitchen" "kind") ∈ lw_all := lw_g (lw_at lw_m8 24 rfl) rfl
theorem q1840 : (Jvm.Cond.laysFinal "LongerHalfModel$Kitchen" "LongerHalfModel$Kitchen" "dry" "[I") ∈ lw_all := lw_g (lw_at lw_m8 25 rfl) rfl
theorem q1841 : (Jvm.Cond.soleField "LongerHalfModel$Kitchen" "dry") ∈ lw_all := lw_g (lw_at lw_m8 26 rfl) rfl
theorem q1842 : (Jvm.Cond.laysFinal "LongerHalfModel$Kitchen" "LongerHalfModel$Kitchen" "places" "[I") ∈ lw_all := lw_g (lw_at lw_m8 27 rfl) rfl
theorem q1843 : (Jvm.Cond.soleField "LongerHalfModel$Kitchen" "places") ∈ lw_all := lw_g (lw_at lw_m8 28 rfl) rfl
theorem q1844 : (Jvm.Cond.laysFinal "LongerHalfModel$Kitchen" "LongerHalfModel$Kitchen" "thick" "[I") ∈ lw_all := lw_g (lw_at lw_m8 29 rfl) rfl
theorem q1845 : (Jvm.Cond.soleField "LongerHalfModel$Kitchen" "thick") ∈ lw_all := lw_g (lw_at lw_m8 30 rfl) rfl
theorem q1846 : (Jvm.Cond.laysFinal "LongerHalfModel$Kitchen" "LongerHalfModel$Kitchen" "is" "[I") ∈ lw_all := lw_g (lw_at lw_m8 31 rfl) rfl
theorem q1847 : (Jvm.Cond.soleField "LongerHalfModel$Kitchen" "is") ∈ lw_all := lw_g (lw_at lw_m8 32 rfl) rfl
theorem q1848 : (Jvm.Cond.laysFinal "LongerHalfModel$Kitchen" "LongerHalfModel$Kitchen" "force" "[I") ∈ lw_all := lw_g (lw_at lw_m8 33 rfl) rfl
theorem q1849 : (Jvm.Cond.soleField "LongerHalfModel$Kitchen" "force") ∈ lw_all := lw_g (lw_at lw_m8 34 rfl) rfl
theorem q1850 : (Jvm.Cond.laysFinal "LongerHalfModel$Kitchen" "LongerHalfModel$Kitchen" "hold" "[I") ∈ lw_all := lw_g (lw_at lw_m8 35 rfl) rfl
theorem q1851 : (Jvm.Cond.soleField "LongerHalfModel$Kitchen" "hold") ∈ lw_all := lw_g (lw_at lw_m8 36 rfl) rfl
theorem q1852 : (Jvm.Cond.laysFinal "LongerHalfModel$Kitchen" "LongerHalfModel$Kitchen" "wish" "[I") ∈ lw_all := lw_g (lw_at lw_m8 37 rfl) rfl
theorem q1853 : (Jvm.Cond.soleField "LongerHalfModel$Kitchen" "wish") ∈ lw_all := lw_g (lw_at lw_m8 38 rfl) rfl
theorem q1854 : (Jvm.Cond.laysFinal "LongerHalfModel$Kitchen" "LongerHalfModel$Kitchen" "forWhom" "[I") ∈ lw_all := lw_g (lw_at lw_m8 39 rfl) rfl
theorem q1855 : (Jvm.Cond.soleField "LongerHalfModel$Kitchen" "forWhom") ∈ lw_all := lw_g (lw_at lw_m8 40 rfl) rfl
theorem q1856 : (Jvm.Cond.laysFinal "LongerHalfModel$Kitchen" "LongerHalfModel$Kitchen" "forAll" "[I") ∈ lw_all := lw_g (lw_at lw_m8 41 rfl) rfl
theorem q1857 : (Jvm.Cond.soleField "LongerHalfModel$Kitchen" "forAll") ∈ lw_all := lw_g (lw_at lw_m8 42 rfl) rfl
theorem q1858 : (Jvm.Cond.laysFinal "LongerHalfModel$Kitchen" "LongerHalfModel$Kitchen" "winner" "[I") ∈ lw_all := lw_g (lw_at lw_m8 43 rfl) rfl
theorem q1859 : (Jvm.Cond.soleField "LongerHalfModel$Kitchen" "winner") ∈ lw_all := lw_g (lw_at lw_m8 44 rfl) rfl
theorem q1860 : (Jvm.Cond.laysFinal "LongerHalfModel$Kitchen" "LongerHalfModel$Kitchen" "loser" "[I") ∈ lw_all := lw_g (lw_at lw_m8 45 rfl) rfl
theorem q1861 : (Jvm.Cond.soleField "LongerHalfModel$Kitchen" "loser") ∈ lw_all := lw_g (lw_at lw_m8 46 rfl) rfl
theorem q1862 : (Jvm.Cond.laysFinal "LongerHalfModel$Kitchen" "LongerHalfModel$Kitchen" "side" "[I") ∈ lw_all := lw_g (lw_at lw_m8 47 rfl) rfl
theorem q1863 : (Jvm.Cond.soleField "LongerHalfModel$Kitchen" "side") ∈ lw_all := lw_g (lw_at lw_m8 48 rfl) rfl
theorem q1864 : (Jvm.Cond.laysFinal "LongerHalfModel$Kitchen" "LongerHalfModel$Kitchen" "pieceArm" "[I") ∈ lw_all := lw_g (lw_at lw_m8 49 rfl) rfl
theorem q1865 : (Jvm.Cond.soleField "LongerHalfModel$Kitchen" "pieceArm") ∈ lw_all := lw_g (lw_at lw_m8 50 rfl) rfl
theorem q1866 : (Jvm.Cond.laysFinal "LongerHalfModel$Kitchen" "LongerHalfModel$Kitchen" "pieceAt" "[I") ∈ lw_all := lw_g (lw_at lw_m8 51 rfl) rfl
theorem q1867 : (Jvm.Cond.soleField "LongerHalfModel$Kitchen" "pieceAt") ∈ lw_all := lw_g (lw_at lw_m8 52 rfl) rfl
theorem q1868 : (Jvm.Cond.laysFinal "LongerHalfModel$Kitchen" "LongerHalfModel$Kitchen" "cheats" "[I") ∈ lw_all := lw_g (lw_at lw_m8 53 rfl) rfl
theorem q1869 : (Jvm.Cond.soleField "LongerHalfModel$Kitchen" "cheats") ∈ lw_all := lw_g (lw_at lw_m8 54 rfl) rfl
theorem q1870 : (Jvm.Cond.laysFinal "LongerHalfModel$Kitchen" "LongerHalfModel$Kitchen" "byThumb" "[I") ∈ lw_all := lw_g (lw_at lw_m8 55 rfl) rfl
theorem q1871 : (Jvm.Cond.soleField "LongerHalfModel$Kitchen" "byThumb") ∈ lw_all := lw_g (lw_at lw_m8 56 rfl) rfl
theorem q1872 : (Jvm.Cond.laysFinal "LongerHalfModel$Kitchen" "LongerHalfModel$Kitchen" "byFair" "[I") ∈ lw_all := lw_g (lw_at lw_m8 57 rfl) rfl
theorem q1873 : (Jvm.Cond.soleField "LongerHalfModel$Kitchen" "byFair") ∈ lw_all := lw_g (lw_at lw_m8 58 rfl) rfl
theorem q1874 : (Jvm.Cond.laysFinal "LongerHalfModel$Kitchen" "LongerHalfModel$Kitchen" "name" "[J") ∈ lw_all := lw_g (lw_at lw_m8 59 rfl) rfl
theorem q1875 : (Jvm.Cond.soleField "LongerHalfModel$Kitchen" "name") ∈ lw_all := lw_g (lw_at lw_m8 60 rfl) rfl
theorem q1876 : (Jvm.Cond.laysFinal "LongerHalfModel$Kitchen" "LongerHalfModel$Kitchen" "isBone" "[Z") ∈ lw_all := lw_g (lw_at lw_m8 61 rfl) rfl
theorem q1877 : (Jvm.Cond.soleField "LongerHalfModel$Kitchen" "isBone") ∈ lw_all := lw_g (lw_at lw_m8 62 rfl) rfl
theorem q1878 : (Jvm.Cond.laysFinal "LongerHalfModel$Kitchen" "LongerHalfModel$Kitchen" "numberOf" "[I") ∈ lw_all := lw_g (lw_at lw_m8 63 rfl) rfl
theorem q1879 : (Jvm.Cond.soleField "LongerHalfModel$Kitchen" "numberOf") ∈ lw_all := lw_g (lw_at lw_m8 64 rfl) rfl
theorem q1880 : (Jvm.Cond.superclass "LongerHalfModel$Kitchen" "java/lang/Object") ∈ lw_all := lw_g (lw_at lw_m8 65 rfl) rfl
theorem q1997 : (Jvm.Cond.instanceMethod ({ cls := "LongerHalfModel$Kitchen", name := "find", desc := "(J)I" } : Jvm.MethodName)) ∈ lw_all := lw_g (lw_at lw_m8 182 rfl) rfl
theorem q1998 : (Jvm.Cond.selects "LongerHalfModel$Kitchen" ({ cls := "LongerHalfModel$Kitchen", name := "find", desc := "(J)I" } : Jvm.MethodName) ({ cls := "LongerHalfModel$Kitchen", name := "find", desc := "(J)I" } : Jvm.MethodName)) ∈ lw_all := lw_g (lw_at lw_m8 183 rfl) rfl
theorem q1999 : (Jvm.Cond.code ({ cls := "LongerHalfModel$Kitchen", name := "find", desc := "(J)I" } : Jvm.MethodName) prog_21_method_2_code (4 : Nat) (Option.some Jvm.ClassFile.FieldType.int)) ∈ lw_all := lw_g (lw_at lw_m8 184 rfl) rfl
theorem q2084 : (Jvm.Cond.instanceMethod ({ cls := "LongerHalfModel$Kitchen", name := "many", desc := "(II)I" } : Jvm.MethodName)) ∈ lw_all := lw_g (lw_at lw_m9 29 rfl) rfl
theorem q2085 : (Jvm.Cond.selects "LongerHalfModel$Kitchen" ({ cls := "LongerHalfModel$Kitchen", name := "many", desc := "(II)I" } : Jvm.MethodName) ({ cls := "LongerHalfModel$Kitchen", name := "many", desc := "(II)I" } : Jvm.MethodName)) ∈ lw_all := lw_g (lw_at lw_m9 30 rfl) rfl
theorem q2086 : (Jvm.Cond.code ({ cls := "LongerHalfModel$Kitchen", name := "many", desc := "(II)I" } : Jvm.MethodName) prog_21_method_3_code (3 : Nat) (Option.some Jvm.ClassFile.FieldType.int)) ∈ lw_all := lw_g (lw_at lw_m9 31 rfl) rfl
theorem q2096 : (Jvm.Cond.instanceMethod ({ cls := "LongerHalfModel$Kitchen", name := "thickAt", desc := "(III)I" } : Jvm.MethodName)) ∈ lw_all := lw_g (lw_at lw_m9 41 rfl) rfl
theorem q2097 : (Jvm.Cond.selects "LongerHalfModel$Kitchen" ({ cls := "LongerHalfModel$Kitchen", name := "thickAt", desc := "(III)I" } : Jvm.MethodName) ({ cls := "LongerHalfModel$Kitchen", name := "thickAt", desc := "(III)I" } : Jvm.MethodName)) ∈ lw_all := lw_g (lw_at lw_m9 42 rfl) rfl
theorem q2098 : (Jvm.Cond.code ({ cls := "LongerHalfModel$Kitchen", name := "thickAt", desc := "(III)I" } : Jvm.MethodName) prog_21_method_4_code (4 : Nat) (Option.some Jvm.ClassFile.FieldType.int)) ∈ lw_all := lw_g (lw_at lw_m9 43 rfl) rfl
theorem q2244 : (Jvm.Cond.instanceMethod ({ cls := "LongerHalfModel$Kitchen", name := "holds", desc := "(III)I" } : Jvm.MethodName)) ∈ lw_all := lw_g (lw_at lw_m9 189 rfl) rfl
theorem q2245 : (Jvm.Cond.selects "LongerHalfModel$Kitchen" ({ cls := "LongerHalfModel$Kitchen", name := "holds", desc := "(III)I" } : Jvm.MethodName) ({ cls := "LongerHalfModel$Kitchen", name := "holds", desc := "(III)I" } : Jvm.MethodName)) ∈ lw_all := lw_g (lw_at lw_m9 190 rfl) rfl
theorem q2246 : (Jvm.Cond.code ({ cls := "LongerHalfModel$Kitchen", name := "holds", desc := "(III)I" } : Jvm.MethodName) prog_21_method_5_code (4 : Nat) (Option.some Jvm.ClassFile.FieldType.int)) ∈ lw_all := lw_g (lw_at lw_m9 191 rfl) rfl
theorem q2247 : (Jvm.Cond.methodLink "LongerHalfModel$Kitchen" (81 : Nat) ({ cls := "LongerHalfModel$Kitchen", name := "many", desc := "(II)I" } : Jvm.MethodName)) ∈ lw_all := lw_g (lw_at lw_m9 192 rfl) rfl
theorem q2482 : (Jvm.Cond.castable "LongerHalfModel$Kitchen" "java/lang/Object") ∈ lw_tbl := lw_at lw_m10 187 rfl
theorem in_X20 : ∀ w ∈ wsX200, w ∈ lw_all := lw_in wsX200 [1814, 1816, 1818, 1820, 1822, 1824, 1826, 1828, 1830, 1832, 1834, 1836, 1838, 1840, 1842, 1844, 1846, 1848, 1850, 1852, 1854, 1856, 1858, 1860, 1862, 1864, 1866, 1868, 1870, 1872, 1874, 1876, 1878] (by decide +kernel) (by decide +kernel)

