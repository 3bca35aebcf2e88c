/-! CityBrigadeLaw -/
set_option maxRecDepth 100000
def RX0 : String := "CityBrigadeLaw"
abbrev cX0_about : ByteArray := method_3_code
def yX0_about : MethodName := ⟨RX0, "about", "(LCityBrigade;II[J)I"⟩
def dkwX0_about_0 : List UInt8 := [45, 3, 42, 27, 28, 182, 0, 7, 133, 80, 167, 0, 7, 58, 4, 4, 172, 3, 172]
abbrev dktX0_about_0 : List UInt8 := dkwX0_about_0 ++ []
theorem dksX0_about_0 : cX0_about.data.toList.drop 0 = dktX0_about_0 := by decide +kernel
theorem dX0_about_0 : decode cX0_about 0 = .ok (.aload_n 3, 1) := dk_45 (dk_at dksX0_about_0 0 rfl rfl)
theorem dX0_about_1 : decode cX0_about 1 = .ok (.iconst 0, 1) := dk_3 (dk_at dksX0_about_0 1 rfl rfl)
theorem dX0_about_2 : decode cX0_about 2 = .ok (.aload_n 0, 1) := dk_42 (dk_at dksX0_about_0 2 rfl rfl)
theorem dX0_about_3 : decode cX0_about 3 = .ok (.iload_n 1, 1) := dk_27 (dk_at dksX0_about_0 3 rfl rfl)
theorem dX0_about_4 : decode cX0_about 4 = .ok (.iload_n 2, 1) := dk_28 (dk_at dksX0_about_0 4 rfl rfl)
theorem dX0_about_5 : decode cX0_about 5 = .ok (.invokevirtual 7, 3) := dk_182 0 7 (dk_at dksX0_about_0 5 rfl rfl)
theorem dX0_about_8 : decode cX0_about 8 = .ok (.i2l, 1) := dk_133 (dk_at dksX0_about_0 8 rfl rfl)
theorem dX0_about_9 : decode cX0_about 9 = .ok (.lastore, 1) := dk_80 (dk_at dksX0_about_0 9 rfl rfl)
theorem dX0_about_10 : decode cX0_about 10 = .ok (.goto 7, 3) := dk_167 0 7 (dk_at dksX0_about_0 10 rfl rfl)
theorem dX0_about_13 : decode cX0_about 13 = .ok (.astore 4, 2) := dk_58 4 (dk_at dksX0_about_0 13 rfl rfl)
theorem dX0_about_15 : decode cX0_about 15 = .ok (.iconst 1, 1) := dk_4 (dk_at dksX0_about_0 15 rfl rfl)
theorem dX0_about_16 : decode cX0_about 16 = .ok (.ireturn, 1) := dk_172 (dk_at dksX0_about_0 16 rfl rfl)
theorem dX0_about_17 : decode cX0_about 17 = .ok (.iconst 0, 1) := dk_3 (dk_at dksX0_about_0 17 rfl rfl)
theorem dX0_about_18 : decode cX0_about 18 = .ok (.ireturn, 1) := dk_172 (dk_at dksX0_about_0 18 rfl rfl)
theorem q158 : (Jvm.Cond.initialized "CityBrigadeLaw") ∈ lw_all := lw_g (lw_at lw_m1 0 rfl) rfl
theorem q201 : (Jvm.Cond.classLink "CityBrigadeLaw" (8 : Nat) "CityBrigade") ∈ lw_all := lw_g (lw_at lw_m1 43 rfl) rfl
theorem q203 : (Jvm.Cond.methodLink "CityBrigadeLaw" (15 : Nat) ({ cls := "CityBrigade", name := "<init>", desc := "()V" } : Jvm.MethodName)) ∈ lw_all := lw_g (lw_at lw_m1 45 rfl) rfl
theorem q464 : (Jvm.Cond.methodLink "CityBrigadeLaw" (19 : Nat) ({ cls := "CityBrigade", name := "street", desc := "(III)I" } : Jvm.MethodName)) ∈ lw_all := lw_g (lw_at lw_m2 66 rfl) rfl
theorem q499 : (Jvm.Cond.methodLink "CityBrigadeLaw" (24 : Nat) ({ cls := "CityBrigade", name := "jam", desc := "(III)Z" } : Jvm.MethodName)) ∈ lw_all := lw_g (lw_at lw_m2 101 rfl) rfl
theorem q507 : (Jvm.Cond.methodLink "CityBrigadeLaw" (29 : Nat) ({ cls := "CityBrigade", name := "closed", desc := "(IZ)Z" } : Jvm.MethodName)) ∈ lw_all := lw_g (lw_at lw_m2 109 rfl) rfl
theorem q511 : (Jvm.Cond.methodLink "CityBrigadeLaw" (34 : Nat) ({ cls := "CityBrigade", name := "come", desc := "(IIII)I" } : Jvm.MethodName)) ∈ lw_all := lw_g (lw_at lw_m2 113 rfl) rfl
theorem q533 : (Jvm.Cond.methodLink "CityBrigadeLaw" (39 : Nat) ({ cls := "CityBrigade", name := "feet", desc := "(II)I" } : Jvm.MethodName)) ∈ lw_all := lw_g (lw_at lw_m2 135 rfl) rfl
theorem q546 : (Jvm.Cond.methodLink "CityBrigadeLaw" (43 : Nat) ({ cls := "CityBrigade", name := "house", desc := "(IIIII)I" } : Jvm.MethodName)) ∈ lw_all := lw_g (lw_at lw_m2 148 rfl) rfl
theorem q653 : (Jvm.Cond.methodLink "CityBrigadeLaw" (48 : Nat) ({ cls := "CityBrigade", name := "build", desc := "(IZII)Z" } : Jvm.MethodName)) ∈ lw_all := lw_g (lw_at lw_m3 15 rfl) rfl
theorem q661 : (Jvm.Cond.methodLink "CityBrigadeLaw" (53 : Nat) ({ cls := "CityBrigade", name := "use", desc := "(II)Z" } : Jvm.MethodName)) ∈ lw_all := lw_g (lw_at lw_m3 23 rfl) rfl
theorem q669 : (Jvm.Cond.methodLink "CityBrigadeLaw" (58 : Nat) ({ cls := "CityBrigade", name := "floor", desc := "(IIII)Z" } : Jvm.MethodName)) ∈ lw_all := lw_g (lw_at lw_m3 31 rfl) rfl
theorem q701 : (Jvm.Cond.methodLink "CityBrigadeLaw" (63 : Nat) ({ cls := "CityBrigade", name := "light", desc := "(II)Z" } : Jvm.MethodName)) ∈ lw_all := lw_g (lw_at lw_m3 63 rfl) rfl
theorem q714 : (Jvm.Cond.methodLink "CityBrigadeLaw" (67 : Nat) ({ cls := "CityBrigade", name := "room", desc := "(III)I" } : Jvm.MethodName)) ∈ lw_all := lw_g (lw_at lw_m3 76 rfl) rfl
theorem q719 : (Jvm.Cond.methodLink "CityBrigadeLaw" (71 : Nat) ({ cls := "CityBrigade", name := "floored", desc := "(III)I" } : Jvm.MethodName)) ∈ lw_all := lw_g (lw_at lw_m3 81 rfl) rfl
theorem q727 : (Jvm.Cond.methodLink "CityBrigadeLaw" (75 : Nat) ({ cls := "CityBrigade", name := "housed", desc := "(II)I" } : Jvm.MethodName)) ∈ lw_all := lw_g (lw_at lw_m3 89 rfl) rfl
theorem q743 : (Jvm.Cond.methodLink "CityBrigadeLaw" (79 : Nat) ({ cls := "CityBrigade", name := "main", desc := "(I)I" } : Jvm.MethodName)) ∈ lw_all := lw_g (lw_at lw_m3 105 rfl) rfl
theorem q747 : (Jvm.Cond.methodLink "CityBrigadeLaw" (84 : Nat) ({ cls := "CityBrigade", name := "head", desc := "(II)I" } : Jvm.MethodName)) ∈ lw_all := lw_g (lw_at lw_m3 109 rfl) rfl
theorem q765 : (Jvm.Cond.methodLink "CityBrigadeLaw" (88 : Nat) ({ cls := "CityBrigade", name := "crew", desc := "(IIZII)I" } : Jvm.MethodName)) ∈ lw_all := lw_g (lw_at lw_m3 127 rfl) rfl
theorem q927 : (Jvm.Cond.methodLink "CityBrigadeLaw" (93 : Nat) ({ cls := "CityBrigade", name := "gear", desc := "(IIII)Z" } : Jvm.MethodName)) ∈ lw_all := lw_g (lw_at lw_m4 49 rfl) rfl
theorem q954 : (Jvm.Cond.methodLink "CityBrigadeLaw" (97 : Nat) ({ cls := "CityBrigade", name := "heal", desc := "(I)Z" } : Jvm.MethodName)) ∈ lw_all := lw_g (lw_at lw_m4 76 rfl) rfl
theorem q962 : (Jvm.Cond.methodLink "CityBrigadeLaw" (102 : Nat) ({ cls := "CityBrigade", name := "recall", desc := "(I)Z" } : Jvm.MethodName)) ∈ lw_all := lw_g (lw_at lw_m4 84 rfl) rfl
theorem q1011 : (Jvm.Cond.methodLink "CityBrigadeLaw" (116 : Nat) ({ cls := "CityBrigade", name := "reach", desc := "(II)I" } : Jvm.MethodName)) ∈ lw_all := lw_g (lw_at lw_m4 133 rfl) rfl
theorem q1037 : (Jvm.Cond.methodLink "CityBrigadeLaw" (132 : Nat) ({ cls := "CityBrigade", name := "feed", desc := "(IIIII)I" } : Jvm.MethodName)) ∈ lw_all := lw_g (lw_at lw_m4 159 rfl) rfl
theorem q1044 : (Jvm.Cond.methodLink "CityBrigadeLaw" (136 : Nat) ({ cls := "CityBrigade", name := "end", desc := "(I)Z" } : Jvm.MethodName)) ∈ lw_all := lw_g (lw_at lw_m4 166 rfl) rfl
theorem q1048 : (Jvm.Cond.methodLink "CityBrigadeLaw" (140 : Nat) ({ cls := "CityBrigade", name := "fault", desc := "(I)I" } : Jvm.MethodName)) ∈ lw_all := lw_g (lw_at lw_m4 170 rfl) rfl
theorem q1315 : (Jvm.Cond.methodLink "CityBrigadeLaw" (144 : Nat) ({ cls := "CityBrigade", name := "orders", desc := "()I" } : Jvm.MethodName)) ∈ lw_all := lw_g (lw_at lw_m5 197 rfl) rfl
theorem q1319 : (Jvm.Cond.methodLink "CityBrigadeLaw" (148 : Nat) ({ cls := "CityBrigade", name := "leaving", desc := "()Z" } : Jvm.MethodName)) ∈ lw_all := lw_g (lw_at lw_m5 201 rfl) rfl
theorem q1323 : (Jvm.Cond.methodLink "CityBrigadeLaw" (128 : Nat) ({ cls := "CityBrigade", name := "falses", desc := "(II)I" } : Jvm.MethodName)) ∈ lw_all := lw_g (lw_at lw_m5 205 rfl) rfl
theorem q1332 : (Jvm.Cond.methodLink "CityBrigadeLaw" (153 : Nat) ({ cls := "CityBrigade", name := "asks", desc := "(III)I" } : Jvm.MethodName)) ∈ lw_all := lw_g (lw_at lw_m5 214 rfl) rfl
theorem q1398 : (Jvm.Cond.methodLink "CityBrigadeLaw" (157 : Nat) ({ cls := "CityBrigade", name := "why", desc := "(II)I" } : Jvm.MethodName)) ∈ lw_all := lw_g (lw_at lw_m6 40 rfl) rfl
theorem q1402 : (Jvm.Cond.methodLink "CityBrigadeLaw" (120 : Nat) ({ cls := "CityBrigade", name := "call", desc := "(I)I" } : Jvm.MethodName)) ∈ lw_all := lw_g (lw_at lw_m6 44 rfl) rfl
theorem q1477 : (Jvm.Cond.methodLink "CityBrigadeLaw" (124 : Nat) ({ cls := "CityBrigade", name := "called", desc := "(II)I" } : Jvm.MethodName)) ∈ lw_all := lw_g (lw_at lw_m6 119 rfl) rfl
theorem q1481 : (Jvm.Cond.methodLink "CityBrigadeLaw" (161 : Nat) ({ cls := "CityBrigade", name := "tick", desc := "(I)I" } : Jvm.MethodName)) ∈ lw_all := lw_g (lw_at lw_m6 123 rfl) rfl
theorem q1602 : (Jvm.Cond.methodLink "CityBrigadeLaw" (165 : Nat) ({ cls := "CityBrigade", name := "act", desc := "(I)I" } : Jvm.MethodName)) ∈ lw_all := lw_g (lw_at lw_m7 4 rfl) rfl
theorem q1606 : (Jvm.Cond.methodLink "CityBrigadeLaw" (169 : Nat) ({ cls := "CityBrigade", name := "force", desc := "(II)I" } : Jvm.MethodName)) ∈ lw_all := lw_g (lw_at lw_m7 8 rfl) rfl
theorem q1618 : (Jvm.Cond.methodLink "CityBrigadeLaw" (173 : Nat) ({ cls := "CityBrigade", name := "change", desc := "(III)Z" } : Jvm.MethodName)) ∈ lw_all := lw_g (lw_at lw_m7 20 rfl) rfl
theorem q1626 : (Jvm.Cond.methodLink "CityBrigadeLaw" (181 : Nat) ({ cls := "CityBrigade", name := "look", desc := "(I)Z" } : Jvm.MethodName)) ∈ lw_all := lw_g (lw_at lw_m7 28 rfl) rfl
theorem q1630 : (Jvm.Cond.methodLink "CityBrigadeLaw" (177 : Nat) ({ cls := "CityBrigade", name := "used", desc := "(II)I" } : Jvm.MethodName)) ∈ lw_all := lw_g (lw_at lw_m7 32 rfl) rfl
theorem q1638 : (Jvm.Cond.methodLink "CityBrigadeLaw" (185 : Nat) ({ cls := "CityBrigade", name := "fails", desc := "(II)I" } : Jvm.MethodName)) ∈ lw_all := lw_g (lw_at lw_m7 40 rfl) rfl
theorem q1658 : (Jvm.Cond.methodLink "CityBrigadeLaw" (189 : Nat) ({ cls := "CityBrigade", name := "code", desc := "(III)I" } : Jvm.MethodName)) ∈ lw_all := lw_g (lw_at lw_m7 60 rfl) rfl
theorem q1662 : (Jvm.Cond.methodLink "CityBrigadeLaw" (193 : Nat) ({ cls := "CityBrigade", name := "failing", desc := "()I" } : Jvm.MethodName)) ∈ lw_all := lw_g (lw_at lw_m7 64 rfl) rfl
theorem q1666 : (Jvm.Cond.methodLink "CityBrigadeLaw" (197 : Nat) ({ cls := "CityBrigade", name := "round", desc := "(III)I" } : Jvm.MethodName)) ∈ lw_all := lw_g (lw_at lw_m7 68 rfl) rfl
theorem q1685 : (Jvm.Cond.methodLink "CityBrigadeLaw" (201 : Nat) ({ cls := "CityBrigade", name := "rounded", desc := "(III)I" } : Jvm.MethodName)) ∈ lw_all := lw_g (lw_at lw_m7 87 rfl) rfl
theorem q1689 : (Jvm.Cond.methodLink "CityBrigadeLaw" (205 : Nat) ({ cls := "CityBrigade", name := "plan", desc := "(II)I" } : Jvm.MethodName)) ∈ lw_all := lw_g (lw_at lw_m7 91 rfl) rfl
theorem q1709 : (Jvm.Cond.methodLink "CityBrigadeLaw" (209 : Nat) ({ cls := "CityBrigade", name := "planned", desc := "(III)I" } : Jvm.MethodName)) ∈ lw_all := lw_g (lw_at lw_m7 111 rfl) rfl
theorem q1713 : (Jvm.Cond.methodLink "CityBrigadeLaw" (213 : Nat) ({ cls := "CityBrigade", name := "row", desc := "(I)I" } : Jvm.MethodName)) ∈ lw_all := lw_g (lw_at lw_m7 115 rfl) rfl
theorem q1762 : (Jvm.Cond.methodLink "CityBrigadeLaw" (217 : Nat) ({ cls := "CityBrigade", name := "put", desc := "(III)Z" } : Jvm.MethodName)) ∈ lw_all := lw_g (lw_at lw_m7 164 rfl) rfl
theorem q1790 : (Jvm.Cond.methodLink "CityBrigadeLaw" (221 : Nat) ({ cls := "CityBrigade", name := "lose", desc := "(I)Z" } : Jvm.MethodName)) ∈ lw_all := lw_g (lw_at lw_m7 192 rfl) rfl
theorem q1794 : (Jvm.Cond.methodLink "CityBrigadeLaw" (225 : Nat) ({ cls := "CityBrigade", name := "copy", desc := "(IIIII)I" } : Jvm.MethodName)) ∈ lw_all := lw_g (lw_at lw_m7 196 rfl) rfl
theorem q1855 : (Jvm.Cond.methodLink "CityBrigadeLaw" (229 : Nat) ({ cls := "CityBrigade", name := "judge", desc := "(III)D" } : Jvm.MethodName)) ∈ lw_all := lw_g (lw_at lw_m8 17 rfl) rfl
theorem q1886 : (Jvm.Cond.methodLink "CityBrigadeLaw" (234 : Nat) ({ cls := "CityBrigade", name := "loss", desc := "(IIII)D" } : Jvm.MethodName)) ∈ lw_all := lw_g (lw_at lw_m8 48 rfl) rfl
theorem q1890 : (Jvm.Cond.methodLink "CityBrigadeLaw" (239 : Nat) ({ cls := "CityBrigade", name := "what", desc := "(IIII)I" } : Jvm.MethodName)) ∈ lw_all := lw_g (lw_at lw_m8 52 rfl) rfl
theorem q1899 : (Jvm.Cond.methodLink "CityBrigadeLaw" (243 : Nat) ({ cls := "CityBrigade", name := "count", desc := "(I)I" } : Jvm.MethodName)) ∈ lw_all := lw_g (lw_at lw_m8 61 rfl) rfl
theorem q1903 : (Jvm.Cond.methodLink "CityBrigadeLaw" (106 : Nat) ({ cls := "CityBrigadeLaw", name := "about", desc := "(LCityBrigade;II[J)I" } : Jvm.MethodName)) ∈ lw_all := lw_g (lw_at lw_m8 65 rfl) rfl
theorem q1904 : (Jvm.Cond.static ({ cls := "CityBrigadeLaw", name := "about", desc := "(LCityBrigade;II[J)I" } : Jvm.MethodName)) ∈ lw_all := lw_g (lw_at lw_m8 66 rfl) rfl
theorem q1905 : (Jvm.Cond.codeWith ({ cls := "CityBrigadeLaw", name := "about", desc := "(LCityBrigade;II[J)I" } : Jvm.MethodName) method_3_code (5 : Nat) (Option.some Jvm.ClassFile.FieldType.int) [((0 : Nat), (10 : Nat), (13 : Nat), (13 : Nat))]) ∈ lw_all := lw_g (lw_at lw_m8 67 rfl) rfl
theorem q1906 : (Jvm.Cond.classLink "CityBrigadeLaw" (13 : Nat) "java/util/NoSuchElementException") ∈ lw_all := lw_g (lw_at lw_m8 68 rfl) rfl
theorem q1907 : (Jvm.Cond.methodLink "CityBrigadeLaw" (7 : Nat) ({ cls := "CityBrigade", name := "about", desc := "(II)I" } : Jvm.MethodName)) ∈ lw_all := lw_g (lw_at lw_m8 69 rfl) rfl
theorem q1933 : (Jvm.Cond.classLink "CityBrigadeLaw" (16 : Nat) "CityBrigadeModel") ∈ lw_all := lw_g (lw_at lw_m8 95 rfl) rfl
theorem q1935 : (Jvm.Cond.methodLink "CityBrigadeLaw" (18 : Nat) ({ cls := "CityBrigadeModel", name := "<init>", desc := "()V" } : Jvm.MethodName)) ∈ lw_all := lw_g (lw_at lw_m8 97 rfl) rfl
theorem q2306 : (Jvm.Cond.methodLink "CityBrigadeLaw" (112 : Nat) ({ cls := "CityBrigadeModel", name := "thrown", desc := "()I" } : Jvm.MethodName)) ∈ lw_all := lw_g (lw_at lw_m9 228 rfl) rfl
theorem q2310 : (Jvm.Cond.methodLink "CityBrigadeLaw" (23 : Nat) ({ cls := "CityBrigadeModel", name := "street", desc := "(III)I" } : Jvm.MethodName)) ∈ lw_all := lw_g (lw_at lw_m9 232 rfl) rfl
theorem q2321 : (Jvm.Cond.methodLink "CityBrigadeLaw" (28 : Nat) ({ cls := "CityBrigadeModel", name := "jam", desc := "(III)Z" } : Jvm.MethodName)) ∈ lw_all := lw_g (lw_at lw_m10 3 rfl) rfl
theorem q2329 : (Jvm.Cond.methodLink "CityBrigadeLaw" (33 : Nat) ({ cls := "CityBrigadeModel", name := "closed", desc := "(IZ)Z" } : Jvm.MethodName)) ∈ lw_all := lw_g (lw_at lw_m10 11 rfl) rfl
theorem q2333 : (Jvm.Cond.methodLink "CityBrigadeLaw" (38 : Nat) ({ cls := "CityBrigadeModel", name := "come", desc := "(IIII)I" } : Jvm.MethodName)) ∈ lw_all := lw_g (lw_at lw_m10 15 rfl) rfl
theorem q2344 : (Jvm.Cond.methodLink "CityBrigadeLaw" (42 : Nat) ({ cls := "CityBrigadeModel", name := "feet", desc := "(II)I" } : Jvm.MethodName)) ∈ lw_all := lw_g (lw_at lw_m10 26 rfl) rfl
theorem q2352 : (Jvm.Cond.methodLink "CityBrigadeLaw" (47 : Nat) ({ cls := "CityBrigadeModel", name := "house", desc := "(IIIII)I" } : Jvm.MethodName)) ∈ lw_all := lw_g (lw_at lw_m10 34 rfl) rfl
theorem q2356 : (Jvm.Cond.methodLink "CityBrigadeLaw" (52 : Nat) ({ cls := "CityBrigadeModel", name := "build", desc := "(IZII)Z" } : Jvm.MethodName)) ∈ lw_all := lw_g (lw_at lw_m10 38 rfl) rfl
theorem q2364 : (Jvm.Cond.methodLink "CityBrigadeLaw" (62 : Nat) ({ cls := "CityBrigadeModel", name := "floor", desc := "(IIII)Z" } : Jvm.MethodName)) ∈ lw_all := lw_g (lw_at lw_m10 46 rfl) rfl
theorem q2396 : (Jvm.Cond.methodLink "CityBrigadeLaw" (66 : Nat) ({ cls := "CityBrigadeModel", name := "light", desc := "(II)Z" } : Jvm.MethodName)) ∈ lw_all := lw_g (lw_at lw_m10 78 rfl) rfl
theorem q2405 : (Jvm.Cond.methodLink "CityBrigadeLaw" (70 : Nat) ({ cls := "CityBrigadeModel", name := "room", desc := "(III)I" } : Jvm.MethodName)) ∈ lw_all := lw_g (lw_at lw_m10 87 rfl) rfl
theorem q2409 : (Jvm.Cond.methodLink "CityBrigadeLaw" (74 : Nat) ({ cls := "CityBrigadeModel", name := "floored", desc := "(III)I" } : Jvm.MethodName)) ∈ lw_all := lw_g (lw_at lw_m10 91 rfl) rfl
theorem q2417 : (Jvm.Cond.methodLink "CityBrigadeLaw" (78 : Nat) ({ cls := "CityBrigadeModel", name := "housed", desc := "(II)I" } : Jvm.MethodName)) ∈ lw_all := lw_g (lw_at lw_m10 99 rfl) rfl
theorem q2425 : (Jvm.Cond.methodLink "CityBrigadeLaw" (83 : Nat) ({ cls := "CityBrigadeModel", name := "main", desc := "(I)I" } : Jvm.MethodName)) ∈ lw_all := lw_g (lw_at lw_m10 107 rfl) rfl
theorem q2429 : (Jvm.Cond.methodLink "CityBrigadeLaw" (87 : Nat) ({ cls := "CityBrigadeModel", name := "head", desc := "(II)I" } : Jvm.MethodName)) ∈ lw_all := lw_g (lw_at lw_m10 111 rfl) rfl
theorem q2433 : (Jvm.Cond.methodLink "CityBrigadeLaw" (92 : Nat) ({ cls := "CityBrigadeModel", name := "crew", desc := "(IIZII)I" } : Jvm.MethodName)) ∈ lw_all := lw_g (lw_at lw_m10 115 rfl) rfl
theorem q2437 : (Jvm.Cond.methodLink "CityBrigadeLaw" (96 : Nat) ({ cls := "CityBrigadeModel", name := "gear", desc := "(IIII)Z" } : Jvm.MethodName)) ∈ lw_all := lw_g (lw_at lw_m10 119 rfl) rfl
theorem q2445 : (Jvm.Cond.methodLink "CityBrigadeLaw" (101 : Nat) ({ cls := "CityBrigadeModel", name := "heal", desc := "(I)Z" } : Jvm.MethodName)) ∈ lw_all := lw_g (lw_at lw_m10 127 rfl) rfl
theorem q2453 : (Jvm.Cond.methodLink "CityBrigadeLaw" (105 : Nat) ({ cls := "CityBrigadeModel", name := "recall", desc := "(I)Z" } : Jvm.MethodName)) ∈ lw_all := lw_g (lw_at lw_m10 135 rfl) rfl
theorem q2465 : (Jvm.Cond.methodLink "CityBrigadeLaw" (111 : Nat) ({ cls := "CityBrigadeModel", name := "about", desc := "(II)I" } : Jvm.MethodName)) ∈ lw_all := lw_g (lw_at lw_m10 147 rfl) rfl
theorem q2469 : (Jvm.Cond.methodLink "CityBrigadeLaw" (119 : Nat) ({ cls := "CityBrigadeModel", name := "reach", desc := "(II)I" } : Jvm.MethodName)) ∈ lw_all := lw_g (lw_at lw_m10 151 rfl) rfl
theorem q2481 : (Jvm.Cond.methodLink "CityBrigadeLaw" (135 : Nat) ({ cls := "CityBrigadeModel", name := "feed", desc := "(IIIII)I" } : Jvm.MethodName)) ∈ lw_all := lw_g (lw_at lw_m10 163 rfl) rfl
theorem q2492 : (Jvm.Cond.methodLink "CityBrigadeLaw" (139 : Nat) ({ cls := "CityBrigadeModel", name := "end", desc := "(I)Z" } : Jvm.MethodName)) ∈ lw_all := lw_g (lw_at lw_m10 174 rfl) rfl
theorem q2496 : (Jvm.Cond.methodLink "CityBrigadeLaw" (143 : Nat) ({ cls := "CityBrigadeModel", name := "fault", desc := "(I)I" } : Jvm.MethodName)) ∈ lw_all := lw_g (lw_at lw_m10 178 rfl) rfl
theorem q2570 : (Jvm.Cond.methodLink "CityBrigadeLaw" (147 : Nat) ({ cls := "CityBrigadeModel", name := "orders", desc := "()I" } : Jvm.MethodName)) ∈ lw_all := lw_g (lw_at lw_m11 12 rfl) rfl
theorem q2575 : (Jvm.Cond.methodLink "CityBrigadeLaw" (152 : Nat) ({ cls := "CityBrigadeModel", name := "leaving", desc := "()Z" } : Jvm.MethodName)) ∈ lw_all := lw_g (lw_at lw_m11 17 rfl) rfl
theorem q2579 : (Jvm.Cond.methodLink "CityBrigadeLaw" (168 : Nat) ({ cls := "CityBrigadeModel", name := "act", desc := "(I)I" } : Jvm.MethodName)) ∈ lw_all := lw_g (lw_at lw_m11 21 rfl) rfl
theorem q2583 : (Jvm.Cond.methodLink "CityBrigadeLaw" (131 : Nat) ({ cls := "CityBrigadeModel", name := "falses", desc := "(II)I" } : Jvm.MethodName)) ∈ lw_all := lw_g (lw_at lw_m11 25 rfl) rfl
theorem q2591 : (Jvm.Cond.methodLink "CityBrigadeLaw" (156 : Nat) ({ cls := "CityBrigadeModel", name := "asks", desc := "(III)I" } : Jvm.MethodName)) ∈ lw_all := lw_g (lw_at lw_m11 33 rfl) rfl
theorem q2603 : (Jvm.Cond.methodLink "CityBrigadeLaw" (160 : Nat) ({ cls := "CityBrigadeModel", name := "why", desc := "(II)I" } : Jvm.MethodName)) ∈ lw_all := lw_g (lw_at lw_m11 45 rfl) rfl
theorem q2607 : (Jvm.Cond.methodLink "CityBrigadeLaw" (123 : Nat) ({ cls := "CityBrigadeModel", name := "call", desc := "(I)I" } : Jvm.MethodName)) ∈ lw_all := lw_g (lw_at lw_m11 49 rfl) rfl
theorem q2627 : (Jvm.Cond.methodLink "CityBrigadeLaw" (127 : Nat) ({ cls := "CityBrigadeModel", name := "called", desc := "(II)I" } : Jvm.MethodName)) ∈ lw_all := lw_g (lw_at lw_m11 69 rfl) rfl
theorem q2631 : (Jvm.Cond.methodLink "CityBrigadeLaw" (164 : Nat) ({ cls := "CityBrigadeModel", name := "tick", desc := "(I)I" } : Jvm.MethodName)) ∈ lw_all := lw_g (lw_at lw_m11 73 rfl) rfl
theorem q2699 : (Jvm.Cond.methodLink "CityBrigadeLaw" (172 : Nat) ({ cls := "CityBrigadeModel", name := "force", desc := "(II)I" } : Jvm.MethodName)) ∈ lw_all := lw_g (lw_at lw_m11 141 rfl) rfl
theorem q2707 : (Jvm.Cond.methodLink "CityBrigadeLaw" (57 : Nat) ({ cls := "CityBrigadeModel", name := "use", desc := "(II)Z" } : Jvm.MethodName)) ∈ lw_all := lw_g (lw_at lw_m11 149 rfl) rfl
theorem q2711 : (Jvm.Cond.methodLink "CityBrigadeLaw" (176 : Nat) ({ cls := "CityBrigadeModel", name := "change", desc := "(III)Z" } : Jvm.MethodName)) ∈ lw_all := lw_g (lw_at lw_m11 153 rfl) rfl
theorem q2719 : (Jvm.Cond.methodLink "CityBrigadeLaw" (184 : Nat) ({ cls := "CityBrigadeModel", name := "look", desc := "(I)Z" } : Jvm.MethodName)) ∈ lw_all := lw_g (lw_at lw_m11 161 rfl) rfl
theorem q2723 : (Jvm.Cond.methodLink "CityBrigadeLaw" (180 : Nat) ({ cls := "CityBrigadeModel", name := "used", desc := "(II)I" } : Jvm.MethodName)) ∈ lw_all := lw_g (lw_at lw_m11 165 rfl) rfl
theorem q2731 : (Jvm.Cond.methodLink "CityBrigadeLaw" (188 : Nat) ({ cls := "CityBrigadeModel", name := "fails", desc := "(II)I" } : Jvm.MethodName)) ∈ lw_all := lw_g (lw_at lw_m11 173 rfl) rfl
theorem q2743 : (Jvm.Cond.methodLink "CityBrigadeLaw" (192 : Nat) ({ cls := "CityBrigadeModel", name := "code", desc := "(III)I" } : Jvm.MethodName)) ∈ lw_all := lw_g (lw_at lw_m11 185 rfl) rfl
theorem q2747 : (Jvm.Cond.methodLink "CityBrigadeLaw" (196 : Nat) ({ cls := "CityBrigadeModel", name := "failing", desc := "()I" } : Jvm.MethodName)) ∈ lw_all := lw_g (lw_at lw_m11 189 rfl) rfl
theorem q2751 : (Jvm.Cond.methodLink "CityBrigadeLaw" (200 : Nat) ({ cls := "CityBrigadeModel", name := "round", desc := "(III)I" } : Jvm.MethodName)) ∈ lw_all := lw_g (lw_at lw_m11 193 rfl) rfl
theorem q2763 : (Jvm.Cond.methodLink "CityBrigadeLaw" (204 : Nat) ({ cls := "CityBrigadeModel", name := "rounded", desc := "(III)I" } : Jvm.MethodName)) ∈ lw_all := lw_g (lw_at lw_m11 205 rfl) rfl
theorem q2767 : (Jvm.Cond.methodLink "CityBrigadeLaw" (208 : Nat) ({ cls := "CityBrigadeModel", name := "plan", desc := "(II)I" } : Jvm.MethodName)) ∈ lw_all := lw_g (lw_at lw_m11 209 rfl) rfl
theorem q2783 : (Jvm.Cond.methodLink "CityBrigadeLaw" (212 : Nat) ({ cls := "CityBrigadeModel", name := "planned", desc := "(III)I" } : Jvm.MethodName)) ∈ lw_all := lw_g (lw_at lw_m11 225 rfl) rfl
theorem q2787 : (Jvm.Cond.methodLink "CityBrigadeLaw" (216 : Nat) ({ cls := "CityBrigadeModel", name := "row", desc := "(I)I" } : Jvm.MethodName)) ∈ lw_all := lw_g (lw_at lw_m11 229 rfl) rfl
theorem q2791 : (Jvm.Cond.methodLink "CityBrigadeLaw" (220 : Nat) ({ cls := "CityBrigadeModel", name := "put", desc := "(III)Z" } : Jvm.MethodName)) ∈ lw_all := lw_g (lw_at lw_m11 233 rfl) rfl
theorem q2802 : (Jvm.Cond.methodLink "CityBrigadeLaw" (224 : Nat) ({ cls := "CityBrigadeModel", name := "lose", desc := "(I)Z" } : Jvm.MethodName)) ∈ lw_all := lw_g (lw_at lw_m12 4 rfl) rfl
theorem q2806 : (Jvm.Cond.methodLink "CityBrigadeLaw" (228 : Nat) ({ cls := "CityBrigadeModel", name := "copy", desc := "(IIIII)I" } : Jvm.MethodName)) ∈ lw_all := lw_g (lw_at lw_m12 8 rfl) rfl
theorem q2813 : (Jvm.Cond.methodLink "CityBrigadeLaw" (233 : Nat) ({ cls := "CityBrigadeModel", name := "judge", desc := "(III)D" } : Jvm.MethodName)) ∈ lw_all := lw_g (lw_at lw_m12 15 rfl) rfl
theorem q2830 : (Jvm.Cond.methodLink "CityBrigadeLaw" (238 : Nat) ({ cls := "CityBrigadeModel", name := "loss", desc := "(IIII)D" } : Jvm.MethodName)) ∈ lw_all := lw_g (lw_at lw_m12 32 rfl) rfl
theorem q2834 : (Jvm.Cond.methodLink "CityBrigadeLaw" (242 : Nat) ({ cls := "CityBrigadeModel", name := "what", desc := "(IIII)I" } : Jvm.MethodName)) ∈ lw_all := lw_g (lw_at lw_m12 36 rfl) rfl
theorem q2838 : (Jvm.Cond.methodLink "CityBrigadeLaw" (246 : Nat) ({ cls := "CityBrigadeModel", name := "count", desc := "(I)I" } : Jvm.MethodName)) ∈ lw_all := lw_g (lw_at lw_m12 40 rfl) rfl
/-! CityBrigade$Fault -/
set_option maxRecDepth 100000
def RX2 : String := "CityBrigade$Fault"
def TX2 : u_T := fun k => match k with
  | 0 => ("java/lang/Throwable", "cause", "Ljava/lang/Throwable;", false)
  | 1 => ("java/lang/Throwable", "stackTrace", "[Ljava/lang/StackTraceElement;", false)
  | 2 => ("java/lang/Throwable", "suppressedExceptions", "Ljava/util/List;", false)
  | 3 => ("java/lang/Throwable", "detailMessage", "Ljava/lang/String;", false)
  | 4 => ("java/lang/Throwable", "backtrace", "Ljava/lang/Object;", false)
  | _ => ("java/lang/Throwable", "depth", "I", false)
def tyX2 : Nat → FieldType := fun k => match k with
  | 0 => .object "java/lang/Throwable"
  | 1 => .array (.object "java/lang/StackTraceElement")
  | 2 => .object "java/util/List"
  | 3 => .object "java/lang/String"
  | 4 => .object "java/lang/Object"
  | _ => .int
abbrev wsX20 : List Cond := u_ws RX2 TX2 6
theorem nmX2 : ∀ a, a < 6 → ∀ b, b < 6 → a ≠ b → (TX2 a).2.1 ≠ (TX2 b).2.1 := by decide +kernel
theorem tyX2_ok : ∀ k, k < 6 → parseFieldDescriptor (TX2 k).2.2.1 = some (tyX2 k) := by decide +kernel
abbrev cX2_init : ByteArray := prog_10_method_1_code
def yX2_init : MethodName := ⟨RX2, "<init>", "()V"⟩
theorem dX2_init_0 : decode cX2_init 0 = .ok (.aload_n 0, 1) := by decide +kernel
theorem dX2_init_1 : decode cX2_init 1 = .ok (.invokespecial 1, 3) := by decide +kernel
theorem dX2_init_4 : decode cX2_init 4 = .ok (.return_, 1) := by decide +kernel
theorem q162 : (Jvm.Cond.initialized "CityBrigade$Fault") ∈ lw_all := lw_g (lw_at lw_m1 4 rfl) rfl
theorem q220 : (Jvm.Cond.instantiable "CityBrigade$Fault" (6 : Nat)) ∈ lw_all := lw_g (lw_at lw_m1 62 rfl) rfl
theorem q221 : (Jvm.Cond.castable "CityBrigade$Fault" "CityBrigade$Fault") ∈ lw_tbl := lw_at lw_m1 63 rfl
theorem q226 : (Jvm.Cond.selects "CityBrigade$Fault" ({ cls := "java/lang/Throwable", name := "fillInStackTrace", desc := "(I)Ljava/lang/Throwable;" } : Jvm.MethodName) ({ cls := "java/lang/Throwable", name := "fillInStackTrace", desc := "(I)Ljava/lang/Throwable;" } : Jvm.MethodName)) ∈ lw_all := lw_g (lw_at lw_m1 68 rfl) rfl
theorem q227 : (Jvm.Cond.selects "CityBrigade$Fault" ({ cls := "java/lang/Throwable", name := "fillInStackTrace", desc := "()Ljava/lang/Throwable;" } : Jvm.MethodName) ({ cls := "java/lang/Throwable", name := "fillInStackTrace", desc := "()Ljava/lang/Throwable;" } : Jvm.MethodName)) ∈ lw_all := lw_g (lw_at lw_m1 69 rfl) rfl
theorem q228 : (Jvm.Cond.lays "CityBrigade$Fault" "java/lang/Throwable" "cause" "Ljava/lang/Throwable;") ∈ lw_all := lw_g (lw_at lw_m1 70 rfl) rfl
theorem q230 : (Jvm.Cond.lays "CityBrigade$Fault" "java/lang/Throwable" "stackTrace" "[Ljava/lang/StackTraceElement;") ∈ lw_all := lw_g (lw_at lw_m1 72 rfl) rfl
theorem q232 : (Jvm.Cond.lays "CityBrigade$Fault" "java/lang/Throwable" "suppressedExceptions" "Ljava/util/List;") ∈ lw_all := lw_g (lw_at lw_m1 74 rfl) rfl
theorem q234 : (Jvm.Cond.lays "CityBrigade$Fault" "java/lang/Throwable" "detailMessage" "Ljava/lang/String;") ∈ lw_all := lw_g (lw_at lw_m1 76 rfl) rfl
theorem q236 : (Jvm.Cond.lays "CityBrigade$Fault" "java/lang/Throwable" "backtrace" "Ljava/lang/Object;") ∈ lw_all := lw_g (lw_at lw_m1 78 rfl) rfl
theorem q259 : (Jvm.Cond.instanceMethod ({ cls := "CityBrigade$Fault", name := "<init>", desc := "()V" } : Jvm.MethodName)) ∈ lw_all := lw_g (lw_at lw_m1 101 rfl) rfl
theorem q260 : (Jvm.Cond.code ({ cls := "CityBrigade$Fault", name := "<init>", desc := "()V" } : Jvm.MethodName) prog_10_method_1_code (1 : Nat) (Option.none : Option Jvm.ClassFile.FieldType)) ∈ lw_all := lw_g (lw_at lw_m1 102 rfl) rfl
theorem q261 : (Jvm.Cond.methodLink "CityBrigade$Fault" (1 : Nat) ({ cls := "java/lang/Exception", name := "<init>", desc := "()V" } : Jvm.MethodName)) ∈ lw_all := lw_g (lw_at lw_m1 103 rfl) rfl
theorem q274 : (Jvm.Cond.lays "CityBrigade$Fault" "java/lang/Throwable" "depth" "I") ∈ lw_all := lw_g (lw_at lw_m1 116 rfl) rfl
theorem q277 : (Jvm.Cond.superclass "CityBrigade$Fault" "java/lang/Exception") ∈ lw_all := lw_g (lw_at lw_m1 119 rfl) rfl
theorem q2849 : (Jvm.Cond.castable "CityBrigade$Fault" "java/lang/Object") ∈ lw_tbl := lw_at lw_m12 51 rfl
theorem in_X2 : ∀ w ∈ wsX20, w ∈ lw_all := lw_in wsX20 [228, 230, 232, 234, 236, 274] (by decide +kernel) (by decide +kernel)
/-! CityBrigade$Street -/
set_option maxRecDepth 100000
def RX4 : String := "CityBrigade$Street"
def TX4 : u_T := fun k => match k with
  | 0 => ("CityBrigade$Street", "one", "I", true)
  | 1 => ("CityBrigade$Street", "other", "I", true)
  | 2 => ("CityBrigade$Street", "lasts", "I", true)
  | 3 => ("CityBrigade$Street", "jams", "[I", true)
  | _ => ("CityBrigade$Street", "isClosed", "Z", false)
def tyX4 : Nat → FieldType := fun k => match k with
  | 0 => .int
  | 1 => .int
  | 2 => .int
  | 3 => .array .int
  | _ => .boolean
abbrev wsX40 : List Cond := u_ws RX4 TX4 5
theorem nmX4 : ∀ a, a < 5 → ∀ b, b < 5 → a ≠ b → (TX4 a).2.1 ≠ (TX4 b).2.1 := by decide +kernel
theorem tyX4_ok : ∀ k, k < 5 → parseFieldDescriptor (TX4 k).2.2.1 = some (tyX4 k) := by decide +kernel
abbrev cX4_init : ByteArray := prog_25_method_1_code
def yX4_init : MethodName := ⟨RX4, "<init>", "(III)V"⟩
def dkwX4_init_1 : List UInt8 := [6, 16, 100, 79, 181, 0, 9, 42, 27, 181, 0, 15, 42, 28, 181, 0, 19, 42, 29, 181, 0, 22, 177]
abbrev dktX4_init_1 : List UInt8 := dkwX4_init_1 ++ []
def dkwX4_init_0 : List UInt8 := [42, 183, 0, 3, 42, 7, 188, 10, 89, 3, 16, 100, 79, 89, 4, 16, 100, 79, 89, 5, 16, 100, 79, 89]
abbrev dktX4_init_0 : List UInt8 := dkwX4_init_0 ++ dktX4_init_1
theorem dksX4_init_0 : cX4_init.data.toList.drop 0 = dktX4_init_0 := by decide +kernel
theorem dksX4_init_1 : cX4_init.data.toList.drop 24 = dktX4_init_1 := dk_seg dksX4_init_0 24 rfl rfl
theorem dX4_init_0 : decode cX4_init 0 = .ok (.aload_n 0, 1) := dk_42 (dk_at dksX4_init_0 0 rfl rfl)
theorem dX4_init_1 : decode cX4_init 1 = .ok (.invokespecial 3, 3) := dk_183 0 3 (dk_at dksX4_init_0 1 rfl rfl)
theorem dX4_init_4 : decode cX4_init 4 = .ok (.aload_n 0, 1) := dk_42 (dk_at dksX4_init_0 4 rfl rfl)
theorem dX4_init_5 : decode cX4_init 5 = .ok (.iconst 4, 1) := dk_7 (dk_at dksX4_init_0 5 rfl rfl)
theorem dX4_init_6 : decode cX4_init 6 = .ok (.newarray .int, 2) := dk_188_10 (dk_at dksX4_init_0 6 rfl rfl)
theorem dX4_init_8 : decode cX4_init 8 = .ok (.dup, 1) := dk_89 (dk_at dksX4_init_0 8 rfl rfl)
theorem dX4_init_9 : decode cX4_init 9 = .ok (.iconst 0, 1) := dk_3 (dk_at dksX4_init_0 9 rfl rfl)
theorem dX4_init_10 : decode cX4_init 10 = .ok (.bipush 100, 2) := dk_16 100 (dk_at dksX4_init_0 10 rfl rfl)
theorem dX4_init_12 : decode cX4_init 12 = .ok (.iastore, 1) := dk_79 (dk_at dksX4_init_0 12 rfl rfl)
theorem dX4_init_13 : decode cX4_init 13 = .ok (.dup, 1) := dk_89 (dk_at dksX4_init_0 13 rfl rfl)
theorem dX4_init_14 : decode cX4_init 14 = .ok (.iconst 1, 1) := dk_4 (dk_at dksX4_init_0 14 rfl rfl)
theorem dX4_init_15 : decode cX4_init 15 = .ok (.bipush 100, 2) := dk_16 100 (dk_at dksX4_init_0 15 rfl rfl)
theorem dX4_init_17 : decode cX4_init 17 = .ok (.iastore, 1) := dk_79 (dk_at dksX4_init_0 17 rfl rfl)
theorem dX4_init_18 : decode cX4_init 18 = .ok (.dup, 1) := dk_89 (dk_at dksX4_init_0 18 rfl rfl)
theorem dX4_init_19 : decode cX4_init 19 = .ok (.iconst 2, 1) := dk_5 (dk_at dksX4_init_0 19 rfl rfl)
theorem dX4_init_20 : decode cX4_init 20 = .ok (.bipush 100, 2) := dk_16 100 (dk_at dksX4_init_0 20 rfl rfl)
theorem dX4_init_22 : decode cX4_init 22 = .ok (.iastore, 1) := dk_79 (dk_at dksX4_init_0 22 rfl rfl)
theorem dX4_init_23 : decode cX4_init 23 = .ok (.dup, 1) := dk_89 (dk_at dksX4_init_0 23 rfl rfl)
theorem dX4_init_24 : decode cX4_init 24 = .ok (.iconst 3, 1) := dk_6 (dk_at dksX4_init_1 0 rfl rfl)
theorem dX4_init_25 : decode cX4_init 25 = .ok (.bipush 100, 2) := dk_16 100 (dk_at dksX4_init_1 1 rfl rfl)
theorem dX4_init_27 : decode cX4_init 27 = .ok (.iastore, 1) := dk_79 (dk_at dksX4_init_1 3 rfl rfl)
theorem dX4_init_28 : decode cX4_init 28 = .ok (.putfield 9, 3) := dk_181 0 9 (dk_at dksX4_init_1 4 rfl rfl)
theorem dX4_init_31 : decode cX4_init 31 = .ok (.aload_n 0, 1) := dk_42 (dk_at dksX4_init_1 7 rfl rfl)
theorem dX4_init_32 : decode cX4_init 32 = .ok (.iload_n 1, 1) := dk_27 (dk_at dksX4_init_1 8 rfl rfl)
theorem dX4_init_33 : decode cX4_init 33 = .ok (.putfield 15, 3) := dk_181 0 15 (dk_at dksX4_init_1 9 rfl rfl)
theorem dX4_init_36 : decode cX4_init 36 = .ok (.aload_n 0, 1) := dk_42 (dk_at dksX4_init_1 12 rfl rfl)
theorem dX4_init_37 : decode cX4_init 37 = .ok (.iload_n 2, 1) := dk_28 (dk_at dksX4_init_1 13 rfl rfl)
theorem dX4_init_38 : decode cX4_init 38 = .ok (.putfield 19, 3) := dk_181 0 19 (dk_at dksX4_init_1 14 rfl rfl)
theorem dX4_init_41 : decode cX4_init 41 = .ok (.aload_n 0, 1) := dk_42 (dk_at dksX4_init_1 17 rfl rfl)
theorem dX4_init_42 : decode cX4_init 42 = .ok (.iload_n 3, 1) := dk_29 (dk_at dksX4_init_1 18 rfl rfl)
theorem dX4_init_43 : decode cX4_init 43 = .ok (.putfield 22, 3) := dk_181 0 22 (dk_at dksX4_init_1 19 rfl rfl)
theorem dX4_init_46 : decode cX4_init 46 = .ok (.return_, 1) := dk_177 (dk_at dksX4_init_1 22 rfl rfl)
abbrev cX4_minutes : ByteArray := prog_25_method_3_code
def yX4_minutes : MethodName := ⟨RX4, "minutes", "(II)I"⟩
def dkwX4_minutes_1 : List UInt8 := [172]
abbrev dktX4_minutes_1 : List UInt8 := dkwX4_minutes_1 ++ []
def dkwX4_minutes_0 : List UInt8 := [42, 180, 0, 22, 42, 180, 0, 9, 27, 184, 0, 25, 46, 104, 28, 104, 17, 39, 15, 96, 17, 39, 16, 108]
abbrev dktX4_minutes_0 : List UInt8 := dkwX4_minutes_0 ++ dktX4_minutes_1
theorem dksX4_minutes_0 : cX4_minutes.data.toList.drop 0 = dktX4_minutes_0 := by decide +kernel
theorem dksX4_minutes_1 : cX4_minutes.data.toList.drop 24 = dktX4_minutes_1 := dk_seg dksX4_minutes_0 24 rfl rfl
theorem dX4_minutes_0 : decode cX4_minutes 0 = .ok (.aload_n 0, 1) := dk_42 (dk_at dksX4_minutes_0 0 rfl rfl)
theorem dX4_minutes_1 : decode cX4_minutes 1 = .ok (.getfield 22, 3) := dk_180 0 22 (dk_at dksX4_minutes_0 1 rfl rfl)
theorem dX4_minutes_4 : decode cX4_minutes 4 = .ok (.aload_n 0, 1) := dk_42 (dk_at dksX4_minutes_0 4 rfl rfl)
theorem dX4_minutes_5 : decode cX4_minutes 5 = .ok (.getfield 9, 3) := dk_180 0 9 (dk_at dksX4_minutes_0 5 rfl rfl)
theorem dX4_minutes_8 : decode cX4_minutes 8 = .ok (.iload_n 1, 1) := dk_27 (dk_at dksX4_minutes_0 8 rfl rfl)
theorem dX4_minutes_9 : decode cX4_minutes 9 = .ok (.invokestatic 25, 3) := dk_184 0 25 (dk_at dksX4_minutes_0 9 rfl rfl)
theorem dX4_minutes_12 : decode cX4_minutes 12 = .ok (.iaload, 1) := dk_46 (dk_at dksX4_minutes_0 12 rfl rfl)
theorem dX4_minutes_13 : decode cX4_minutes 13 = .ok (.imul, 1) := dk_104 (dk_at dksX4_minutes_0 13 rfl rfl)
theorem dX4_minutes_14 : decode cX4_minutes 14 = .ok (.iload_n 2, 1) := dk_28 (dk_at dksX4_minutes_0 14 rfl rfl)
theorem dX4_minutes_15 : decode cX4_minutes 15 = .ok (.imul, 1) := dk_104 (dk_at dksX4_minutes_0 15 rfl rfl)
theorem dX4_minutes_16 : decode cX4_minutes 16 = .ok (.sipush 9999, 3) := dk_17 39 15 (dk_at dksX4_minutes_0 16 rfl rfl)
theorem dX4_minutes_19 : decode cX4_minutes 19 = .ok (.iadd, 1) := dk_96 (dk_at dksX4_minutes_0 19 rfl rfl)
theorem dX4_minutes_20 : decode cX4_minutes 20 = .ok (.sipush 10000, 3) := dk_17 39 16 (dk_at dksX4_minutes_0 20 rfl rfl)
theorem dX4_minutes_23 : decode cX4_minutes 23 = .ok (.idiv, 1) := dk_108 (dk_at dksX4_minutes_0 23 rfl rfl)
theorem dX4_minutes_24 : decode cX4_minutes 24 = .ok (.ireturn, 1) := dk_172 (dk_at dksX4_minutes_1 0 rfl rfl)
theorem q164 : (Jvm.Cond.initialized "CityBrigade$Street") ∈ lw_all := lw_g (lw_at lw_m1 6 rfl) rfl
theorem q474 : (Jvm.Cond.instantiable "CityBrigade$Street" (5 : Nat)) ∈ lw_all := lw_g (lw_at lw_m2 76 rfl) rfl
theorem q476 : (Jvm.Cond.instanceMethod ({ cls := "CityBrigade$Street", name := "<init>", desc := "(III)V" } : Jvm.MethodName)) ∈ lw_all := lw_g (lw_at lw_m2 78 rfl) rfl
theorem q477 : (Jvm.Cond.code ({ cls := "CityBrigade$Street", name := "<init>", desc := "(III)V" } : Jvm.MethodName) prog_25_method_1_code (4 : Nat) (Option.none : Option Jvm.ClassFile.FieldType)) ∈ lw_all := lw_g (lw_at lw_m2 79 rfl) rfl
theorem q478 : (Jvm.Cond.methodLink "CityBrigade$Street" (3 : Nat) ({ cls := "java/lang/Object", name := "<init>", desc := "()V" } : Jvm.MethodName)) ∈ lw_all := lw_g (lw_at lw_m2 80 rfl) rfl
theorem q479 : (Jvm.Cond.fieldLink "CityBrigade$Street" (15 : Nat) "CityBrigade$Street" "one" "I") ∈ lw_all := lw_g (lw_at lw_m2 81 rfl) rfl
theorem q481 : (Jvm.Cond.fieldLink "CityBrigade$Street" (19 : Nat) "CityBrigade$Street" "other" "I") ∈ lw_all := lw_g (lw_at lw_m2 83 rfl) rfl
theorem q483 : (Jvm.Cond.fieldLink "CityBrigade$Street" (22 : Nat) "CityBrigade$Street" "lasts" "I") ∈ lw_all := lw_g (lw_at lw_m2 85 rfl) rfl
theorem q485 : (Jvm.Cond.fieldLink "CityBrigade$Street" (9 : Nat) "CityBrigade$Street" "jams" "[I") ∈ lw_all := lw_g (lw_at lw_m2 87 rfl) rfl
theorem q488 : (Jvm.Cond.laysFinal "CityBrigade$Street" "CityBrigade$Street" "one" "I") ∈ lw_all := lw_g (lw_at lw_m2 90 rfl) rfl
theorem q489 : (Jvm.Cond.soleField "CityBrigade$Street" "one") ∈ lw_all := lw_g (lw_at lw_m2 91 rfl) rfl
theorem q490 : (Jvm.Cond.laysFinal "CityBrigade$Street" "CityBrigade$Street" "other" "I") ∈ lw_all := lw_g (lw_at lw_m2 92 rfl) rfl
theorem q491 : (Jvm.Cond.soleField "CityBrigade$Street" "other") ∈ lw_all := lw_g (lw_at lw_m2 93 rfl) rfl
theorem q492 : (Jvm.Cond.laysFinal "CityBrigade$Street" "CityBrigade$Street" "lasts" "I") ∈ lw_all := lw_g (lw_at lw_m2 94 rfl) rfl
theorem q493 : (Jvm.Cond.soleField "CityBrigade$Street" "lasts") ∈ lw_all := lw_g (lw_at lw_m2 95 rfl) rfl
theorem q494 : (Jvm.Cond.laysFinal "CityBrigade$Street" "CityBrigade$Street" "jams" "[I") ∈ lw_all := lw_g (lw_at lw_m2 96 rfl) rfl
theorem q495 : (Jvm.Cond.soleField "CityBrigade$Street" "jams") ∈ lw_all := lw_g (lw_at lw_m2 97 rfl) rfl
theorem q496 : (Jvm.Cond.lays "CityBrigade$Street" "CityBrigade$Street" "isClosed" "Z") ∈ lw_all := lw_g (lw_at lw_m2 98 rfl) rfl
theorem q497 : (Jvm.Cond.soleField "CityBrigade$Street" "isClosed") ∈ lw_all := lw_g (lw_at lw_m2 99 rfl) rfl
theorem q498 : (Jvm.Cond.superclass "CityBrigade$Street" "java/lang/Object") ∈ lw_all := lw_g (lw_at lw_m2 100 rfl) rfl
theorem q527 : (Jvm.Cond.instanceMethod ({ cls := "CityBrigade$Street", name := "minutes", desc := "(II)I" } : Jvm.MethodName)) ∈ lw_all := lw_g (lw_at lw_m2 129 rfl) rfl
theorem q528 : (Jvm.Cond.selects "CityBrigade$Street" ({ cls := "CityBrigade$Street", name := "minutes", desc := "(II)I" } : Jvm.MethodName) ({ cls := "CityBrigade$Street", name := "minutes", desc := "(II)I" } : Jvm.MethodName)) ∈ lw_all := lw_g (lw_at lw_m2 130 rfl) rfl
theorem q529 : (Jvm.Cond.code ({ cls := "CityBrigade$Street", name := "minutes", desc := "(II)I" } : Jvm.MethodName) prog_25_method_3_code (3 : Nat) (Option.some Jvm.ClassFile.FieldType.int)) ∈ lw_all := lw_g (lw_at lw_m2 131 rfl) rfl
theorem q530 : (Jvm.Cond.methodLinkNest "CityBrigade$Street" (25 : Nat) ({ cls := "CityBrigade", name := "partOf", desc := "(I)I" } : Jvm.MethodName) "CityBrigade") ∈ lw_tbl := lw_at lw_m2 132 rfl
theorem q2851 : (Jvm.Cond.castable "CityBrigade$Street" "java/lang/Object") ∈ lw_tbl := lw_at lw_m12 53 rfl
theorem in_X4 : ∀ w ∈ wsX40, w ∈ lw_all := lw_in wsX40 [488, 490, 492, 494, 496] (by decide +kernel) (by decide +kernel)
/-! CityBrigade$House -/
set_option maxRecDepth 100000
def RX5 : String := "CityBrigade$House"
def TX5 : u_T := fun k => match k with
  | 0 => ("CityBrigade$House", "corner", "I", true)
  | 1 => ("CityBrigade$House", "kind", "I", true)
  | 2 => ("CityBrigade$House", "floors", "I", true)
  | 3 => ("CityBrigade$House", "rooms", "I", true)
  | 4 => ("CityBrigade$House", "shaft", "I", true)
  | 5 => ("CityBrigade$House", "doors", "Z", false)
  | 6 => ("CityBrigade$House", "wall", "I", false)
  | 7 => ("CityBrigade$House", "year", "I", false)
  | 8 => ("CityBrigade$House", "use", "I", false)
  | 9 => ("CityBrigade$House", "saved", "I", false)
  | 10 => ("CityBrigade$House", "lost", "I", false)
  | 11 => ("CityBrigade$House", "gallons", "I", false)
  | 12 => ("CityBrigade$House", "people", "[I", true)
  | 13 => ("CityBrigade$House", "told", "[I", true)
  | 14 => ("CityBrigade$House", "blaze", "LCityBrigade$Blaze;", true)
  | _ => ("CityBrigade$House", "copy", "LCityBrigade$Blaze;", true)
def tyX5 : Nat → FieldType := fun k => match k with
  | 0 => .int
  | 1 => .int
  | 2 => .int
  | 3 => .int
  | 4 => .int
  | 5 => .boolean
  | 6 => .int
  | 7 => .int
  | 8 => .int
  | 9 => .int
  | 10 => .int
  | 11 => .int
  | 12 => .array .int
  | 13 => .array .int
  | 14 => .object "CityBrigade$Blaze"
  | _ => .object "CityBrigade$Blaze"
abbrev wsX50 : List Cond := u_ws RX5 TX5 16
set_option maxRecDepth 100000 in
theorem nmX5 : ∀ a, a < 16 → ∀ b, b < 16 → a ≠ b → (TX5 a).2.1 ≠ (TX5 b).2.1 := by decide +kernel
set_option maxRecDepth 100000 in
theorem tyX5_ok : ∀ k, k < 16 → parseFieldDescriptor (TX5 k).2.2.1 = some (tyX5 k) := by decide +kernel
abbrev cX5_init : ByteArray := prog_15_method_1_code
def yX5_init : MethodName := ⟨RX5, "<init>", "(IIIII)V"⟩
def dkwX5_init_3 : List UInt8 := [42, 21, 5, 181, 0, 44, 177]
abbrev dktX5_init_3 : List UInt8 := dkwX5_init_3 ++ []
def dkwX5_init_2 : List UInt8 := [181, 0, 29, 42, 27, 181, 0, 32, 42, 28, 181, 0, 35, 42, 29, 181, 0, 38, 42, 21, 4, 181, 0, 41]
abbrev dktX5_init_2 : List UInt8 := dkwX5_init_2 ++ dktX5_init_3
def dkwX5_init_1 : List UInt8 := [181, 0, 19, 42, 187, 0, 22, 89, 183, 0, 24, 181, 0, 25, 42, 187, 0, 22, 89, 183, 0, 24]
abbrev dktX5_init_1 : List UInt8 := dkwX5_init_1 ++ dktX5_init_2
def dkwX5_init_0 : List UInt8 := [42, 183, 0, 3, 42, 4, 181, 0, 9, 42, 16, 6, 188, 10, 181, 0, 15, 42, 16, 6, 188, 10]
abbrev dktX5_init_0 : List UInt8 := dkwX5_init_0 ++ dktX5_init_1
theorem dksX5_init_0 : cX5_init.data.toList.drop 0 = dktX5_init_0 := by decide +kernel
theorem dksX5_init_1 : cX5_init.data.toList.drop 22 = dktX5_init_1 := dk_seg dksX5_init_0 22 rfl rfl
theorem dksX5_init_2 : cX5_init.data.toList.drop 44 = dktX5_init_2 := dk_seg dksX5_init_1 22 rfl rfl
theorem dksX5_init_3 : cX5_init.data.toList.drop 68 = dktX5_init_3 := dk_seg dksX5_init_2 24 rfl rfl
theorem dX5_init_0 : decode cX5_init 0 = .ok (.aload_n 0, 1) := dk_42 (dk_at dksX5_init_0 0 rfl rfl)
theorem dX5_init_1 : decode cX5_init 1 = .ok (.invokespecial 3, 3) := dk_183 0 3 (dk_at dksX5_init_0 1 rfl rfl)
theorem dX5_init_4 : decode cX5_init 4 = .ok (.aload_n 0, 1) := dk_42 (dk_at dksX5_init_0 4 rfl rfl)
theorem dX5_init_5 : decode cX5_init 5 = .ok (.iconst 1, 1) := dk_4 (dk_at dksX5_init_0 5 rfl rfl)
theorem dX5_init_6 : decode cX5_init 6 = .ok (.putfield 9, 3) := dk_181 0 9 (dk_at dksX5_init_0 6 rfl rfl)
theorem dX5_init_9 : decode cX5_init 9 = .ok (.aload_n 0, 1) := dk_42 (dk_at dksX5_init_0 9 rfl rfl)
theorem dX5_init_10 : decode cX5_init 10 = .ok (.bipush 6, 2) := dk_16 6 (dk_at dksX5_init_0 10 rfl rfl)
theorem dX5_init_12 : decode cX5_init 12 = .ok (.newarray .int, 2) := dk_188_10 (dk_at dksX5_init_0 12 rfl rfl)
theorem dX5_init_14 : decode cX5_init 14 = .ok (.putfield 15, 3) := dk_181 0 15 (dk_at dksX5_init_0 14 rfl rfl)
theorem dX5_init_17 : decode cX5_init 17 = .ok (.aload_n 0, 1) := dk_42 (dk_at dksX5_init_0 17 rfl rfl)
theorem dX5_init_18 : decode cX5_init 18 = .ok (.bipush 6, 2) := dk_16 6 (dk_at dksX5_init_0 18 rfl rfl)
theorem dX5_init_20 : decode cX5_init 20 = .ok (.newarray .int, 2) := dk_188_10 (dk_at dksX5_init_0 20 rfl rfl)
theorem dX5_init_22 : decode cX5_init 22 = .ok (.putfield 19, 3) := dk_181 0 19 (dk_at dksX5_init_1 0 rfl rfl)
theorem dX5_init_25 : decode cX5_init 25 = .ok (.aload_n 0, 1) := dk_42 (dk_at dksX5_init_1 3 rfl rfl)
theorem dX5_init_26 : decode cX5_init 26 = .ok (.new 22, 3) := dk_187 0 22 (dk_at dksX5_init_1 4 rfl rfl)
theorem dX5_init_29 : decode cX5_init 29 = .ok (.dup, 1) := dk_89 (dk_at dksX5_init_1 7 rfl rfl)
theorem dX5_init_30 : decode cX5_init 30 = .ok (.invokespecial 24, 3) := dk_183 0 24 (dk_at dksX5_init_1 8 rfl rfl)
theorem dX5_init_33 : decode cX5_init 33 = .ok (.putfield 25, 3) := dk_181 0 25 (dk_at dksX5_init_1 11 rfl rfl)
theorem dX5_init_36 : decode cX5_init 36 = .ok (.aload_n 0, 1) := dk_42 (dk_at dksX5_init_1 14 rfl rfl)
theorem dX5_init_37 : decode cX5_init 37 = .ok (.new 22, 3) := dk_187 0 22 (dk_at dksX5_init_1 15 rfl rfl)
theorem dX5_init_40 : decode cX5_init 40 = .ok (.dup, 1) := dk_89 (dk_at dksX5_init_1 18 rfl rfl)
theorem dX5_init_41 : decode cX5_init 41 = .ok (.invokespecial 24, 3) := dk_183 0 24 (dk_at dksX5_init_1 19 rfl rfl)
theorem dX5_init_44 : decode cX5_init 44 = .ok (.putfield 29, 3) := dk_181 0 29 (dk_at dksX5_init_2 0 rfl rfl)
theorem dX5_init_47 : decode cX5_init 47 = .ok (.aload_n 0, 1) := dk_42 (dk_at dksX5_init_2 3 rfl rfl)
theorem dX5_init_48 : decode cX5_init 48 = .ok (.iload_n 1, 1) := dk_27 (dk_at dksX5_init_2 4 rfl rfl)
theorem dX5_init_49 : decode cX5_init 49 = .ok (.putfield 32, 3) := dk_181 0 32 (dk_at dksX5_init_2 5 rfl rfl)
theorem dX5_init_52 : decode cX5_init 52 = .ok (.aload_n 0, 1) := dk_42 (dk_at dksX5_init_2 8 rfl rfl)
theorem dX5_init_53 : decode cX5_init 53 = .ok (.iload_n 2, 1) := dk_28 (dk_at dksX5_init_2 9 rfl rfl)
theorem dX5_init_54 : decode cX5_init 54 = .ok (.putfield 35, 3) := dk_181 0 35 (dk_at dksX5_init_2 10 rfl rfl)
theorem dX5_init_57 : decode cX5_init 57 = .ok (.aload_n 0, 1) := dk_42 (dk_at dksX5_init_2 13 rfl rfl)
theorem dX5_init_58 : decode cX5_init 58 = .ok (.iload_n 3, 1) := dk_29 (dk_at dksX5_init_2 14 rfl rfl)
theorem dX5_init_59 : decode cX5_init 59 = .ok (.putfield 38, 3) := dk_181 0 38 (dk_at dksX5_init_2 15 rfl rfl)
theorem dX5_init_62 : decode cX5_init 62 = .ok (.aload_n 0, 1) := dk_42 (dk_at dksX5_init_2 18 rfl rfl)
theorem dX5_init_63 : decode cX5_init 63 = .ok (.iload 4, 2) := dk_21 4 (dk_at dksX5_init_2 19 rfl rfl)
theorem dX5_init_65 : decode cX5_init 65 = .ok (.putfield 41, 3) := dk_181 0 41 (dk_at dksX5_init_2 21 rfl rfl)
theorem dX5_init_68 : decode cX5_init 68 = .ok (.aload_n 0, 1) := dk_42 (dk_at dksX5_init_3 0 rfl rfl)
theorem dX5_init_69 : decode cX5_init 69 = .ok (.iload 5, 2) := dk_21 5 (dk_at dksX5_init_3 1 rfl rfl)
theorem dX5_init_71 : decode cX5_init 71 = .ok (.putfield 44, 3) := dk_181 0 44 (dk_at dksX5_init_3 3 rfl rfl)
theorem dX5_init_74 : decode cX5_init 74 = .ok (.return_, 1) := dk_177 (dk_at dksX5_init_3 6 rfl rfl)
abbrev cX5_burning : ByteArray := prog_15_method_5_code
def yX5_burning : MethodName := ⟨RX5, "burning", "()I"⟩
def dkwX5_burning_1 : List UInt8 := [132, 1, 1, 132, 2, 1, 167, 255, 230, 27, 172]
abbrev dktX5_burning_1 : List UInt8 := dkwX5_burning_1 ++ []
def dkwX5_burning_0 : List UInt8 := [3, 60, 3, 61, 28, 42, 182, 0, 61, 162, 0, 24, 42, 42, 180, 0, 25, 28, 182, 0, 65, 153, 0, 6]
abbrev dktX5_burning_0 : List UInt8 := dkwX5_burning_0 ++ dktX5_burning_1
theorem dksX5_burning_0 : cX5_burning.data.toList.drop 0 = dktX5_burning_0 := by decide +kernel
theorem dksX5_burning_1 : cX5_burning.data.toList.drop 24 = dktX5_burning_1 := dk_seg dksX5_burning_0 24 rfl rfl
theorem dX5_burning_0 : decode cX5_burning 0 = .ok (.iconst 0, 1) := dk_3 (dk_at dksX5_burning_0 0 rfl rfl)
theorem dX5_burning_1 : decode cX5_burning 1 = .ok (.istore_n 1, 1) := dk_60 (dk_at dksX5_burning_0 1 rfl rfl)
theorem dX5_burning_2 : decode cX5_burning 2 = .ok (.iconst 0, 1) := dk_3 (dk_at dksX5_burning_0 2 rfl rfl)
theorem dX5_burning_3 : decode cX5_burning 3 = .ok (.istore_n 2, 1) := dk_61 (dk_at dksX5_burning_0 3 rfl rfl)
theorem dX5_burning_4 : decode cX5_burning 4 = .ok (.iload_n 2, 1) := dk_28 (dk_at dksX5_burning_0 4 rfl rfl)
theorem dX5_burning_5 : decode cX5_burning 5 = .ok (.aload_n 0, 1) := dk_42 (dk_at dksX5_burning_0 5 rfl rfl)
theorem dX5_burning_6 : decode cX5_burning 6 = .ok (.invokevirtual 61, 3) := dk_182 0 61 (dk_at dksX5_burning_0 6 rfl rfl)
theorem dX5_burning_9 : decode cX5_burning 9 = .ok (.if_icmp .ge 24, 3) := dk_162 0 24 (dk_at dksX5_burning_0 9 rfl rfl)
theorem dX5_burning_12 : decode cX5_burning 12 = .ok (.aload_n 0, 1) := dk_42 (dk_at dksX5_burning_0 12 rfl rfl)
theorem dX5_burning_13 : decode cX5_burning 13 = .ok (.aload_n 0, 1) := dk_42 (dk_at dksX5_burning_0 13 rfl rfl)
theorem dX5_burning_14 : decode cX5_burning 14 = .ok (.getfield 25, 3) := dk_180 0 25 (dk_at dksX5_burning_0 14 rfl rfl)
theorem dX5_burning_17 : decode cX5_burning 17 = .ok (.iload_n 2, 1) := dk_28 (dk_at dksX5_burning_0 17 rfl rfl)
theorem dX5_burning_18 : decode cX5_burning 18 = .ok (.invokevirtual 65, 3) := dk_182 0 65 (dk_at dksX5_burning_0 18 rfl rfl)
theorem dX5_burning_21 : decode cX5_burning 21 = .ok (.ifCond .eq 6, 3) := dk_153 0 6 (dk_at dksX5_burning_0 21 rfl rfl)
theorem dX5_burning_24 : decode cX5_burning 24 = .ok (.iinc 1 1, 3) := dk_132 1 1 (dk_at dksX5_burning_1 0 rfl rfl)
theorem dX5_burning_27 : decode cX5_burning 27 = .ok (.iinc 2 1, 3) := dk_132 2 1 (dk_at dksX5_burning_1 3 rfl rfl)
theorem dX5_burning_30 : decode cX5_burning 30 = .ok (.goto (-26), 3) := dk_167 255 230 (dk_at dksX5_burning_1 6 rfl rfl)
theorem dX5_burning_33 : decode cX5_burning 33 = .ok (.iload_n 1, 1) := dk_27 (dk_at dksX5_burning_1 9 rfl rfl)
theorem dX5_burning_34 : decode cX5_burning 34 = .ok (.ireturn, 1) := dk_172 (dk_at dksX5_burning_1 10 rfl rfl)
abbrev cX5_all : ByteArray := prog_15_method_2_code
def yX5_all : MethodName := ⟨RX5, "all", "()I"⟩
def dkwX5_all_0 : List UInt8 := [42, 180, 0, 38, 42, 180, 0, 41, 104, 172]
abbrev dktX5_all_0 : List UInt8 := dkwX5_all_0 ++ []
theorem dksX5_all_0 : cX5_all.data.toList.drop 0 = dktX5_all_0 := by decide +kernel
theorem dX5_all_0 : decode cX5_all 0 = .ok (.aload_n 0, 1) := dk_42 (dk_at dksX5_all_0 0 rfl rfl)
theorem dX5_all_1 : decode cX5_all 1 = .ok (.getfield 38, 3) := dk_180 0 38 (dk_at dksX5_all_0 1 rfl rfl)
theorem dX5_all_4 : decode cX5_all 4 = .ok (.aload_n 0, 1) := dk_42 (dk_at dksX5_all_0 4 rfl rfl)
theorem dX5_all_5 : decode cX5_all 5 = .ok (.getfield 41, 3) := dk_180 0 41 (dk_at dksX5_all_0 5 rfl rfl)
theorem dX5_all_8 : decode cX5_all 8 = .ok (.imul, 1) := dk_104 (dk_at dksX5_all_0 8 rfl rfl)
theorem dX5_all_9 : decode cX5_all 9 = .ok (.ireturn, 1) := dk_172 (dk_at dksX5_all_0 9 rfl rfl)
abbrev cX5_burns : ByteArray := prog_15_method_4_code
def yX5_burns : MethodName := ⟨RX5, "burns", "(LCityBrigade$Blaze;I)Z"⟩
def dkwX5_burns_1 : List UInt8 := [180, 0, 53, 42, 28, 182, 0, 57, 51, 154, 0, 7, 4, 167, 0, 4, 3, 172]
abbrev dktX5_burns_1 : List UInt8 := dkwX5_burns_1 ++ []
def dkwX5_burns_0 : List UInt8 := [43, 180, 0, 47, 28, 46, 17, 1, 44, 161, 0, 29, 43, 180, 0, 50, 28, 46, 158, 0, 20, 43]
abbrev dktX5_burns_0 : List UInt8 := dkwX5_burns_0 ++ dktX5_burns_1
theorem dksX5_burns_0 : cX5_burns.data.toList.drop 0 = dktX5_burns_0 := by decide +kernel
theorem dksX5_burns_1 : cX5_burns.data.toList.drop 22 = dktX5_burns_1 := dk_seg dksX5_burns_0 22 rfl rfl
theorem dX5_burns_0 : decode cX5_burns 0 = .ok (.aload_n 1, 1) := dk_43 (dk_at dksX5_burns_0 0 rfl rfl)
theorem dX5_burns_1 : decode cX5_burns 1 = .ok (.getfield 47, 3) := dk_180 0 47 (dk_at dksX5_burns_0 1 rfl rfl)
theorem dX5_burns_4 : decode cX5_burns 4 = .ok (.iload_n 2, 1) := dk_28 (dk_at dksX5_burns_0 4 rfl rfl)
theorem dX5_burns_5 : decode cX5_burns 5 = .ok (.iaload, 1) := dk_46 (dk_at dksX5_burns_0 5 rfl rfl)
theorem dX5_burns_6 : decode cX5_burns 6 = .ok (.sipush 300, 3) := dk_17 1 44 (dk_at dksX5_burns_0 6 rfl rfl)
theorem dX5_burns_9 : decode cX5_burns 9 = .ok (.if_icmp .lt 29, 3) := dk_161 0 29 (dk_at dksX5_burns_0 9 rfl rfl)
theorem dX5_burns_12 : decode cX5_burns 12 = .ok (.aload_n 1, 1) := dk_43 (dk_at dksX5_burns_0 12 rfl rfl)
theorem dX5_burns_13 : decode cX5_burns 13 = .ok (.getfield 50, 3) := dk_180 0 50 (dk_at dksX5_burns_0 13 rfl rfl)
theorem dX5_burns_16 : decode cX5_burns 16 = .ok (.iload_n 2, 1) := dk_28 (dk_at dksX5_burns_0 16 rfl rfl)
theorem dX5_burns_17 : decode cX5_burns 17 = .ok (.iaload, 1) := dk_46 (dk_at dksX5_burns_0 17 rfl rfl)
theorem dX5_burns_18 : decode cX5_burns 18 = .ok (.ifCond .le 20, 3) := dk_158 0 20 (dk_at dksX5_burns_0 18 rfl rfl)
theorem dX5_burns_21 : decode cX5_burns 21 = .ok (.aload_n 1, 1) := dk_43 (dk_at dksX5_burns_0 21 rfl rfl)
theorem dX5_burns_22 : decode cX5_burns 22 = .ok (.getfield 53, 3) := dk_180 0 53 (dk_at dksX5_burns_1 0 rfl rfl)
theorem dX5_burns_25 : decode cX5_burns 25 = .ok (.aload_n 0, 1) := dk_42 (dk_at dksX5_burns_1 3 rfl rfl)
theorem dX5_burns_26 : decode cX5_burns 26 = .ok (.iload_n 2, 1) := dk_28 (dk_at dksX5_burns_1 4 rfl rfl)
theorem dX5_burns_27 : decode cX5_burns 27 = .ok (.invokevirtual 57, 3) := dk_182 0 57 (dk_at dksX5_burns_1 5 rfl rfl)
theorem dX5_burns_30 : decode cX5_burns 30 = .ok (.baload, 1) := dk_51 (dk_at dksX5_burns_1 8 rfl rfl)
theorem dX5_burns_31 : decode cX5_burns 31 = .ok (.ifCond .ne 7, 3) := dk_154 0 7 (dk_at dksX5_burns_1 9 rfl rfl)
theorem dX5_burns_34 : decode cX5_burns 34 = .ok (.iconst 1, 1) := dk_4 (dk_at dksX5_burns_1 12 rfl rfl)
theorem dX5_burns_35 : decode cX5_burns 35 = .ok (.goto 4, 3) := dk_167 0 4 (dk_at dksX5_burns_1 13 rfl rfl)
theorem dX5_burns_38 : decode cX5_burns 38 = .ok (.iconst 0, 1) := dk_3 (dk_at dksX5_burns_1 16 rfl rfl)
theorem dX5_burns_39 : decode cX5_burns 39 = .ok (.ireturn, 1) := dk_172 (dk_at dksX5_burns_1 17 rfl rfl)
abbrev cX5_floorOf : ByteArray := prog_15_method_3_code
def yX5_floorOf : MethodName := ⟨RX5, "floorOf", "(I)I"⟩
def dkwX5_floorOf_0 : List UInt8 := [27, 42, 180, 0, 41, 108, 172]
abbrev dktX5_floorOf_0 : List UInt8 := dkwX5_floorOf_0 ++ []
theorem dksX5_floorOf_0 : cX5_floorOf.data.toList.drop 0 = dktX5_floorOf_0 := by decide +kernel
theorem dX5_floorOf_0 : decode cX5_floorOf 0 = .ok (.iload_n 1, 1) := dk_27 (dk_at dksX5_floorOf_0 0 rfl rfl)
theorem dX5_floorOf_1 : decode cX5_floorOf 1 = .ok (.aload_n 0, 1) := dk_42 (dk_at dksX5_floorOf_0 1 rfl rfl)
theorem dX5_floorOf_2 : decode cX5_floorOf 2 = .ok (.getfield 41, 3) := dk_180 0 41 (dk_at dksX5_floorOf_0 2 rfl rfl)
theorem dX5_floorOf_5 : decode cX5_floorOf 5 = .ok (.idiv, 1) := dk_108 (dk_at dksX5_floorOf_0 5 rfl rfl)
theorem dX5_floorOf_6 : decode cX5_floorOf 6 = .ok (.ireturn, 1) := dk_172 (dk_at dksX5_floorOf_0 6 rfl rfl)
abbrev cX5_load : ByteArray := prog_15_method_7_code
def yX5_load : MethodName := ⟨RX5, "load", "(LCityBrigade$Blaze;I)I"⟩
def dkwX5_load_1 : List UInt8 := [96, 172]
abbrev dktX5_load_1 : List UInt8 := dkwX5_load_1 ++ []
def dkwX5_load_0 : List UInt8 := [28, 154, 0, 7, 3, 167, 0, 20, 43, 180, 0, 69, 28, 46, 5, 43, 180, 0, 69, 28, 4, 100, 46, 104]
abbrev dktX5_load_0 : List UInt8 := dkwX5_load_0 ++ dktX5_load_1
theorem dksX5_load_0 : cX5_load.data.toList.drop 0 = dktX5_load_0 := by decide +kernel
theorem dksX5_load_1 : cX5_load.data.toList.drop 24 = dktX5_load_1 := dk_seg dksX5_load_0 24 rfl rfl
theorem dX5_load_0 : decode cX5_load 0 = .ok (.iload_n 2, 1) := dk_28 (dk_at dksX5_load_0 0 rfl rfl)
theorem dX5_load_1 : decode cX5_load 1 = .ok (.ifCond .ne 7, 3) := dk_154 0 7 (dk_at dksX5_load_0 1 rfl rfl)
theorem dX5_load_4 : decode cX5_load 4 = .ok (.iconst 0, 1) := dk_3 (dk_at dksX5_load_0 4 rfl rfl)
theorem dX5_load_5 : decode cX5_load 5 = .ok (.goto 20, 3) := dk_167 0 20 (dk_at dksX5_load_0 5 rfl rfl)
theorem dX5_load_8 : decode cX5_load 8 = .ok (.aload_n 1, 1) := dk_43 (dk_at dksX5_load_0 8 rfl rfl)
theorem dX5_load_9 : decode cX5_load 9 = .ok (.getfield 69, 3) := dk_180 0 69 (dk_at dksX5_load_0 9 rfl rfl)
theorem dX5_load_12 : decode cX5_load 12 = .ok (.iload_n 2, 1) := dk_28 (dk_at dksX5_load_0 12 rfl rfl)
theorem dX5_load_13 : decode cX5_load 13 = .ok (.iaload, 1) := dk_46 (dk_at dksX5_load_0 13 rfl rfl)
theorem dX5_load_14 : decode cX5_load 14 = .ok (.iconst 2, 1) := dk_5 (dk_at dksX5_load_0 14 rfl rfl)
theorem dX5_load_15 : decode cX5_load 15 = .ok (.aload_n 1, 1) := dk_43 (dk_at dksX5_load_0 15 rfl rfl)
theorem dX5_load_16 : decode cX5_load 16 = .ok (.getfield 69, 3) := dk_180 0 69 (dk_at dksX5_load_0 16 rfl rfl)
theorem dX5_load_19 : decode cX5_load 19 = .ok (.iload_n 2, 1) := dk_28 (dk_at dksX5_load_0 19 rfl rfl)
theorem dX5_load_20 : decode cX5_load 20 = .ok (.iconst 1, 1) := dk_4 (dk_at dksX5_load_0 20 rfl rfl)
theorem dX5_load_21 : decode cX5_load 21 = .ok (.isub, 1) := dk_100 (dk_at dksX5_load_0 21 rfl rfl)
theorem dX5_load_22 : decode cX5_load 22 = .ok (.iaload, 1) := dk_46 (dk_at dksX5_load_0 22 rfl rfl)
theorem dX5_load_23 : decode cX5_load 23 = .ok (.imul, 1) := dk_104 (dk_at dksX5_load_0 23 rfl rfl)
theorem dX5_load_24 : decode cX5_load 24 = .ok (.iadd, 1) := dk_96 (dk_at dksX5_load_1 0 rfl rfl)
theorem dX5_load_25 : decode cX5_load 25 = .ok (.ireturn, 1) := dk_172 (dk_at dksX5_load_1 1 rfl rfl)
abbrev cX5_bears : ByteArray := prog_15_method_6_code
def yX5_bears : MethodName := ⟨RX5, "bears", "()I"⟩
def dkwX5_bears_1 : List UInt8 := [16, 100, 167, 0, 6, 17, 0, 140, 104, 172]
abbrev dktX5_bears_1 : List UInt8 := dkwX5_bears_1 ++ []
def dkwX5_bears_0 : List UInt8 := [42, 180, 0, 41, 42, 180, 0, 35, 154, 0, 8, 16, 60, 167, 0, 19, 42, 180, 0, 35, 4, 160, 0, 8]
abbrev dktX5_bears_0 : List UInt8 := dkwX5_bears_0 ++ dktX5_bears_1
theorem dksX5_bears_0 : cX5_bears.data.toList.drop 0 = dktX5_bears_0 := by decide +kernel
theorem dksX5_bears_1 : cX5_bears.data.toList.drop 24 = dktX5_bears_1 := dk_seg dksX5_bears_0 24 rfl rfl
theorem dX5_bears_0 : decode cX5_bears 0 = .ok (.aload_n 0, 1) := dk_42 (dk_at dksX5_bears_0 0 rfl rfl)
theorem dX5_bears_1 : decode cX5_bears 1 = .ok (.getfield 41, 3) := dk_180 0 41 (dk_at dksX5_bears_0 1 rfl rfl)
theorem dX5_bears_4 : decode cX5_bears 4 = .ok (.aload_n 0, 1) := dk_42 (dk_at dksX5_bears_0 4 rfl rfl)
theorem dX5_bears_5 : decode cX5_bears 5 = .ok (.getfield 35, 3) := dk_180 0 35 (dk_at dksX5_bears_0 5 rfl rfl)
theorem dX5_bears_8 : decode cX5_bears 8 = .ok (.ifCond .ne 8, 3) := dk_154 0 8 (dk_at dksX5_bears_0 8 rfl rfl)
theorem dX5_bears_11 : decode cX5_bears 11 = .ok (.bipush 60, 2) := dk_16 60 (dk_at dksX5_bears_0 11 rfl rfl)
theorem dX5_bears_13 : decode cX5_bears 13 = .ok (.goto 19, 3) := dk_167 0 19 (dk_at dksX5_bears_0 13 rfl rfl)
theorem dX5_bears_16 : decode cX5_bears 16 = .ok (.aload_n 0, 1) := dk_42 (dk_at dksX5_bears_0 16 rfl rfl)
theorem dX5_bears_17 : decode cX5_bears 17 = .ok (.getfield 35, 3) := dk_180 0 35 (dk_at dksX5_bears_0 17 rfl rfl)
theorem dX5_bears_20 : decode cX5_bears 20 = .ok (.iconst 1, 1) := dk_4 (dk_at dksX5_bears_0 20 rfl rfl)
theorem dX5_bears_21 : decode cX5_bears 21 = .ok (.if_icmp .ne 8, 3) := dk_160 0 8 (dk_at dksX5_bears_0 21 rfl rfl)
theorem dX5_bears_24 : decode cX5_bears 24 = .ok (.bipush 100, 2) := dk_16 100 (dk_at dksX5_bears_1 0 rfl rfl)
theorem dX5_bears_26 : decode cX5_bears 26 = .ok (.goto 6, 3) := dk_167 0 6 (dk_at dksX5_bears_1 2 rfl rfl)
theorem dX5_bears_29 : decode cX5_bears 29 = .ok (.sipush 140, 3) := dk_17 0 140 (dk_at dksX5_bears_1 5 rfl rfl)
theorem dX5_bears_32 : decode cX5_bears 32 = .ok (.imul, 1) := dk_104 (dk_at dksX5_bears_1 8 rfl rfl)
theorem dX5_bears_33 : decode cX5_bears 33 = .ok (.ireturn, 1) := dk_172 (dk_at dksX5_bears_1 9 rfl rfl)
theorem q167 : (Jvm.Cond.initialized "CityBrigade$House") ∈ lw_all := lw_g (lw_at lw_m1 9 rfl) rfl
theorem q550 : (Jvm.Cond.instantiable "CityBrigade$House" (16 : Nat)) ∈ lw_all := lw_g (lw_at lw_m2 152 rfl) rfl
theorem q552 : (Jvm.Cond.instanceMethod ({ cls := "CityBrigade$House", name := "<init>", desc := "(IIIII)V" } : Jvm.MethodName)) ∈ lw_all := lw_g (lw_at lw_m2 154 rfl) rfl
theorem q553 : (Jvm.Cond.code ({ cls := "CityBrigade$House", name := "<init>", desc := "(IIIII)V" } : Jvm.MethodName) prog_15_method_1_code (6 : Nat) (Option.none : Option Jvm.ClassFile.FieldType)) ∈ lw_all := lw_g (lw_at lw_m2 155 rfl) rfl
theorem q554 : (Jvm.Cond.methodLink "CityBrigade$House" (3 : Nat) ({ cls := "java/lang/Object", name := "<init>", desc := "()V" } : Jvm.MethodName)) ∈ lw_all := lw_g (lw_at lw_m2 156 rfl) rfl
theorem q555 : (Jvm.Cond.classLink "CityBrigade$House" (22 : Nat) "CityBrigade$Blaze") ∈ lw_all := lw_g (lw_at lw_m2 157 rfl) rfl
theorem q557 : (Jvm.Cond.methodLinkNest "CityBrigade$House" (24 : Nat) ({ cls := "CityBrigade$Blaze", name := "<init>", desc := "()V" } : Jvm.MethodName) "CityBrigade") ∈ lw_tbl := lw_at lw_m2 159 rfl
theorem q562 : (Jvm.Cond.fieldLinkNest "CityBrigade$House" (47 : Nat) "CityBrigade$Blaze" "heat" "[I" "CityBrigade") ∈ lw_tbl := lw_at lw_m2 164 rfl
theorem q565 : (Jvm.Cond.fieldLinkNest "CityBrigade$House" (50 : Nat) "CityBrigade$Blaze" "stuff" "[I" "CityBrigade") ∈ lw_tbl := lw_at lw_m2 167 rfl
theorem q570 : (Jvm.Cond.fieldLinkNest "CityBrigade$House" (69 : Nat) "CityBrigade$Blaze" "burnt" "[I" "CityBrigade") ∈ lw_tbl := lw_at lw_m2 172 rfl
theorem q573 : (Jvm.Cond.fieldLinkNest "CityBrigade$House" (53 : Nat) "CityBrigade$Blaze" "fallen" "[Z" "CityBrigade") ∈ lw_tbl := lw_at lw_m2 175 rfl
theorem q594 : (Jvm.Cond.fieldLink "CityBrigade$House" (32 : Nat) "CityBrigade$House" "corner" "I") ∈ lw_all := lw_g (lw_at lw_m2 196 rfl) rfl
theorem q596 : (Jvm.Cond.fieldLink "CityBrigade$House" (35 : Nat) "CityBrigade$House" "kind" "I") ∈ lw_all := lw_g (lw_at lw_m2 198 rfl) rfl
theorem q598 : (Jvm.Cond.fieldLink "CityBrigade$House" (38 : Nat) "CityBrigade$House" "floors" "I") ∈ lw_all := lw_g (lw_at lw_m2 200 rfl) rfl
theorem q600 : (Jvm.Cond.fieldLink "CityBrigade$House" (41 : Nat) "CityBrigade$House" "rooms" "I") ∈ lw_all := lw_g (lw_at lw_m2 202 rfl) rfl
theorem q602 : (Jvm.Cond.fieldLink "CityBrigade$House" (44 : Nat) "CityBrigade$House" "shaft" "I") ∈ lw_all := lw_g (lw_at lw_m2 204 rfl) rfl
theorem q606 : (Jvm.Cond.fieldLink "CityBrigade$House" (9 : Nat) "CityBrigade$House" "year" "I") ∈ lw_all := lw_g (lw_at lw_m2 208 rfl) rfl
theorem q612 : (Jvm.Cond.fieldLink "CityBrigade$House" (15 : Nat) "CityBrigade$House" "people" "[I") ∈ lw_all := lw_g (lw_at lw_m2 214 rfl) rfl
theorem q614 : (Jvm.Cond.fieldLink "CityBrigade$House" (19 : Nat) "CityBrigade$House" "told" "[I") ∈ lw_all := lw_g (lw_at lw_m2 216 rfl) rfl
theorem q616 : (Jvm.Cond.fieldLink "CityBrigade$House" (25 : Nat) "CityBrigade$House" "blaze" "LCityBrigade$Blaze;") ∈ lw_all := lw_g (lw_at lw_m2 218 rfl) rfl
theorem q618 : (Jvm.Cond.fieldLink "CityBrigade$House" (29 : Nat) "CityBrigade$House" "copy" "LCityBrigade$Blaze;") ∈ lw_all := lw_g (lw_at lw_m2 220 rfl) rfl
theorem q620 : (Jvm.Cond.laysFinal "CityBrigade$House" "CityBrigade$House" "corner" "I") ∈ lw_all := lw_g (lw_at lw_m2 222 rfl) rfl
theorem q621 : (Jvm.Cond.soleField "CityBrigade$House" "corner") ∈ lw_all := lw_g (lw_at lw_m2 223 rfl) rfl
theorem q622 : (Jvm.Cond.laysFinal "CityBrigade$House" "CityBrigade$House" "kind" "I") ∈ lw_all := lw_g (lw_at lw_m2 224 rfl) rfl
theorem q623 : (Jvm.Cond.soleField "CityBrigade$House" "kind") ∈ lw_all := lw_g (lw_at lw_m2 225 rfl) rfl
theorem q624 : (Jvm.Cond.laysFinal "CityBrigade$House" "CityBrigade$House" "floors" "I") ∈ lw_all := lw_g (lw_at lw_m2 226 rfl) rfl
theorem q625 : (Jvm.Cond.soleField "CityBrigade$House" "floors") ∈ lw_all := lw_g (lw_at lw_m2 227 rfl) rfl
theorem q626 : (Jvm.Cond.laysFinal "CityBrigade$House" "CityBrigade$House" "rooms" "I") ∈ lw_all := lw_g (lw_at lw_m2 228 rfl) rfl
theorem q627 : (Jvm.Cond.soleField "CityBrigade$House" "rooms") ∈ lw_all := lw_g (lw_at lw_m2 229 rfl) rfl
theorem q628 : (Jvm.Cond.laysFinal "CityBrigade$House" "CityBrigade$House" "shaft" "I") ∈ lw_all := lw_g (lw_at lw_m2 230 rfl) rfl
theorem q629 : (Jvm.Cond.soleField "CityBrigade$House" "shaft") ∈ lw_all := lw_g (lw_at lw_m2 231 rfl) rfl
theorem q630 : (Jvm.Cond.lays "CityBrigade$House" "CityBrigade$House" "doors" "Z") ∈ lw_all := lw_g (lw_at lw_m2 232 rfl) rfl
theorem q631 : (Jvm.Cond.soleField "CityBrigade$House" "doors") ∈ lw_all := lw_g (lw_at lw_m2 233 rfl) rfl
theorem q632 : (Jvm.Cond.lays "CityBrigade$House" "CityBrigade$House" "wall" "I") ∈ lw_all := lw_g (lw_at lw_m2 234 rfl) rfl
theorem q633 : (Jvm.Cond.soleField "CityBrigade$House" "wall") ∈ lw_all := lw_g (lw_at lw_m2 235 rfl) rfl
theorem q634 : (Jvm.Cond.lays "CityBrigade$House" "CityBrigade$House" "year" "I") ∈ lw_all := lw_g (lw_at lw_m2 236 rfl) rfl
theorem q635 : (Jvm.Cond.soleField "CityBrigade$House" "year") ∈ lw_all := lw_g (lw_at lw_m2 237 rfl) rfl
theorem q636 : (Jvm.Cond.lays "CityBrigade$House" "CityBrigade$House" "use" "I") ∈ lw_all := lw_g (lw_at lw_m2 238 rfl) rfl
theorem q637 : (Jvm.Cond.soleField "CityBrigade$House" "use") ∈ lw_all := lw_g (lw_at lw_m2 239 rfl) rfl
theorem q638 : (Jvm.Cond.lays "CityBrigade$House" "CityBrigade$House" "saved" "I") ∈ lw_all := lw_g (lw_at lw_m3 0 rfl) rfl
theorem q639 : (Jvm.Cond.soleField "CityBrigade$House" "saved") ∈ lw_all := lw_g (lw_at lw_m3 1 rfl) rfl
theorem q640 : (Jvm.Cond.lays "CityBrigade$House" "CityBrigade$House" "lost" "I") ∈ lw_all := lw_g (lw_at lw_m3 2 rfl) rfl
theorem q641 : (Jvm.Cond.soleField "CityBrigade$House" "lost") ∈ lw_all := lw_g (lw_at lw_m3 3 rfl) rfl
theorem q642 : (Jvm.Cond.lays "CityBrigade$House" "CityBrigade$House" "gallons" "I") ∈ lw_all := lw_g (lw_at lw_m3 4 rfl) rfl
theorem q643 : (Jvm.Cond.soleField "CityBrigade$House" "gallons") ∈ lw_all := lw_g (lw_at lw_m3 5 rfl) rfl
theorem q644 : (Jvm.Cond.laysFinal "CityBrigade$House" "CityBrigade$House" "people" "[I") ∈ lw_all := lw_g (lw_at lw_m3 6 rfl) rfl
theorem q645 : (Jvm.Cond.soleField "CityBrigade$House" "people") ∈ lw_all := lw_g (lw_at lw_m3 7 rfl) rfl
theorem q646 : (Jvm.Cond.laysFinal "CityBrigade$House" "CityBrigade$House" "told" "[I") ∈ lw_all := lw_g (lw_at lw_m3 8 rfl) rfl
theorem q647 : (Jvm.Cond.soleField "CityBrigade$House" "told") ∈ lw_all := lw_g (lw_at lw_m3 9 rfl) rfl
theorem q648 : (Jvm.Cond.laysFinal "CityBrigade$House" "CityBrigade$House" "blaze" "LCityBrigade$Blaze;") ∈ lw_all := lw_g (lw_at lw_m3 10 rfl) rfl
theorem q649 : (Jvm.Cond.soleField "CityBrigade$House" "blaze") ∈ lw_all := lw_g (lw_at lw_m3 11 rfl) rfl
theorem q650 : (Jvm.Cond.laysFinal "CityBrigade$House" "CityBrigade$House" "copy" "LCityBrigade$Blaze;") ∈ lw_all := lw_g (lw_at lw_m3 12 rfl) rfl
theorem q651 : (Jvm.Cond.soleField "CityBrigade$House" "copy") ∈ lw_all := lw_g (lw_at lw_m3 13 rfl) rfl
theorem q652 : (Jvm.Cond.superclass "CityBrigade$House" "java/lang/Object") ∈ lw_all := lw_g (lw_at lw_m3 14 rfl) rfl
theorem q686 : (Jvm.Cond.instanceMethod ({ cls := "CityBrigade$House", name := "burning", desc := "()I" } : Jvm.MethodName)) ∈ lw_all := lw_g (lw_at lw_m3 48 rfl) rfl
theorem q687 : (Jvm.Cond.selects "CityBrigade$House" ({ cls := "CityBrigade$House", name := "burning", desc := "()I" } : Jvm.MethodName) ({ cls := "CityBrigade$House", name := "burning", desc := "()I" } : Jvm.MethodName)) ∈ lw_all := lw_g (lw_at lw_m3 49 rfl) rfl
theorem q688 : (Jvm.Cond.code ({ cls := "CityBrigade$House", name := "burning", desc := "()I" } : Jvm.MethodName) prog_15_method_5_code (3 : Nat) (Option.some Jvm.ClassFile.FieldType.int)) ∈ lw_all := lw_g (lw_at lw_m3 50 rfl) rfl
theorem q689 : (Jvm.Cond.methodLink "CityBrigade$House" (61 : Nat) ({ cls := "CityBrigade$House", name := "all", desc := "()I" } : Jvm.MethodName)) ∈ lw_all := lw_g (lw_at lw_m3 51 rfl) rfl
theorem q690 : (Jvm.Cond.instanceMethod ({ cls := "CityBrigade$House", name := "all", desc := "()I" } : Jvm.MethodName)) ∈ lw_all := lw_g (lw_at lw_m3 52 rfl) rfl
theorem q691 : (Jvm.Cond.selects "CityBrigade$House" ({ cls := "CityBrigade$House", name := "all", desc := "()I" } : Jvm.MethodName) ({ cls := "CityBrigade$House", name := "all", desc := "()I" } : Jvm.MethodName)) ∈ lw_all := lw_g (lw_at lw_m3 53 rfl) rfl
theorem q692 : (Jvm.Cond.code ({ cls := "CityBrigade$House", name := "all", desc := "()I" } : Jvm.MethodName) prog_15_method_2_code (1 : Nat) (Option.some Jvm.ClassFile.FieldType.int)) ∈ lw_all := lw_g (lw_at lw_m3 54 rfl) rfl
theorem q693 : (Jvm.Cond.methodLink "CityBrigade$House" (65 : Nat) ({ cls := "CityBrigade$House", name := "burns", desc := "(LCityBrigade$Blaze;I)Z" } : Jvm.MethodName)) ∈ lw_all := lw_g (lw_at lw_m3 55 rfl) rfl
theorem q694 : (Jvm.Cond.instanceMethod ({ cls := "CityBrigade$House", name := "burns", desc := "(LCityBrigade$Blaze;I)Z" } : Jvm.MethodName)) ∈ lw_all := lw_g (lw_at lw_m3 56 rfl) rfl
theorem q695 : (Jvm.Cond.selects "CityBrigade$House" ({ cls := "CityBrigade$House", name := "burns", desc := "(LCityBrigade$Blaze;I)Z" } : Jvm.MethodName) ({ cls := "CityBrigade$House", name := "burns", desc := "(LCityBrigade$Blaze;I)Z" } : Jvm.MethodName)) ∈ lw_all := lw_g (lw_at lw_m3 57 rfl) rfl
theorem q696 : (Jvm.Cond.code ({ cls := "CityBrigade$House", name := "burns", desc := "(LCityBrigade$Blaze;I)Z" } : Jvm.MethodName) prog_15_method_4_code (3 : Nat) (Option.some Jvm.ClassFile.FieldType.boolean)) ∈ lw_all := lw_g (lw_at lw_m3 58 rfl) rfl
theorem q697 : (Jvm.Cond.methodLink "CityBrigade$House" (57 : Nat) ({ cls := "CityBrigade$House", name := "floorOf", desc := "(I)I" } : Jvm.MethodName)) ∈ lw_all := lw_g (lw_at lw_m3 59 rfl) rfl
theorem q698 : (Jvm.Cond.instanceMethod ({ cls := "CityBrigade$House", name := "floorOf", desc := "(I)I" } : Jvm.MethodName)) ∈ lw_all := lw_g (lw_at lw_m3 60 rfl) rfl
theorem q699 : (Jvm.Cond.selects "CityBrigade$House" ({ cls := "CityBrigade$House", name := "floorOf", desc := "(I)I" } : Jvm.MethodName) ({ cls := "CityBrigade$House", name := "floorOf", desc := "(I)I" } : Jvm.MethodName)) ∈ lw_all := lw_g (lw_at lw_m3 61 rfl) rfl
theorem q700 : (Jvm.Cond.code ({ cls := "CityBrigade$House", name := "floorOf", desc := "(I)I" } : Jvm.MethodName) prog_15_method_3_code (2 : Nat) (Option.some Jvm.ClassFile.FieldType.int)) ∈ lw_all := lw_g (lw_at lw_m3 62 rfl) rfl
theorem q724 : (Jvm.Cond.instanceMethod ({ cls := "CityBrigade$House", name := "load", desc := "(LCityBrigade$Blaze;I)I" } : Jvm.MethodName)) ∈ lw_all := lw_g (lw_at lw_m3 86 rfl) rfl
theorem q725 : (Jvm.Cond.selects "CityBrigade$House" ({ cls := "CityBrigade$House", name := "load", desc := "(LCityBrigade$Blaze;I)I" } : Jvm.MethodName) ({ cls := "CityBrigade$House", name := "load", desc := "(LCityBrigade$Blaze;I)I" } : Jvm.MethodName)) ∈ lw_all := lw_g (lw_at lw_m3 87 rfl) rfl
theorem q726 : (Jvm.Cond.code ({ cls := "CityBrigade$House", name := "load", desc := "(LCityBrigade$Blaze;I)I" } : Jvm.MethodName) prog_15_method_7_code (3 : Nat) (Option.some Jvm.ClassFile.FieldType.int)) ∈ lw_all := lw_g (lw_at lw_m3 88 rfl) rfl
theorem q1537 : (Jvm.Cond.instanceMethod ({ cls := "CityBrigade$House", name := "bears", desc := "()I" } : Jvm.MethodName)) ∈ lw_all := lw_g (lw_at lw_m6 179 rfl) rfl
theorem q1538 : (Jvm.Cond.selects "CityBrigade$House" ({ cls := "CityBrigade$House", name := "bears", desc := "()I" } : Jvm.MethodName) ({ cls := "CityBrigade$House", name := "bears", desc := "()I" } : Jvm.MethodName)) ∈ lw_all := lw_g (lw_at lw_m6 180 rfl) rfl
theorem q1539 : (Jvm.Cond.code ({ cls := "CityBrigade$House", name := "bears", desc := "()I" } : Jvm.MethodName) prog_15_method_6_code (1 : Nat) (Option.some Jvm.ClassFile.FieldType.int)) ∈ lw_all := lw_g (lw_at lw_m6 181 rfl) rfl
theorem q2852 : (Jvm.Cond.castable "CityBrigade$House" "java/lang/Object") ∈ lw_tbl := lw_at lw_m12 54 rfl
theorem in_X5 : ∀ w ∈ wsX50, w ∈ lw_all := lw_in wsX50 [620, 622, 624, 626, 628, 630, 632, 634, 636, 638, 640, 642, 644, 646, 648, 650] (by decide +kernel) (by decide +kernel)
/-! CityBrigade$Blaze -/
set_option maxRecDepth 100000
def RX6 : String := "CityBrigade$Blaze"
def TX6 : u_T := fun k => match k with
  | 0 => ("CityBrigade$Blaze", "heat", "[I", true)
  | 1 => ("CityBrigade$Blaze", "stuff", "[I", true)
  | 2 => ("CityBrigade$Blaze", "water", "[I", true)
  | 3 => ("CityBrigade$Blaze", "burnt", "[I", true)
  | 4 => ("CityBrigade$Blaze", "fallen", "[Z", true)
  | 5 => ("CityBrigade$Blaze", "burned", "[Z", true)
  | _ => ("CityBrigade$Blaze", "gain", "[I", true)
def tyX6 : Nat → FieldType := fun k => match k with
  | 0 => .array .int
  | 1 => .array .int
  | 2 => .array .int
  | 3 => .array .int
  | 4 => .array .boolean
  | 5 => .array .boolean
  | _ => .array .int
abbrev wsX60 : List Cond := u_ws RX6 TX6 7
theorem nmX6 : ∀ a, a < 7 → ∀ b, b < 7 → a ≠ b → (TX6 a).2.1 ≠ (TX6 b).2.1 := by decide +kernel
theorem tyX6_ok : ∀ k, k < 7 → parseFieldDescriptor (TX6 k).2.2.1 = some (tyX6 k) := by decide +kernel
abbrev cX6_init : ByteArray := prog_2_method_1_code
def yX6_init : MethodName := ⟨RX6, "<init>", "()V"⟩
def dkwX6_init_2 : List UInt8 := [188, 4, 181, 0, 28, 42, 16, 24, 188, 10, 181, 0, 31, 177]
abbrev dktX6_init_2 : List UInt8 := dkwX6_init_2 ++ []
def dkwX6_init_1 : List UInt8 := [188, 10, 181, 0, 18, 42, 16, 6, 188, 10, 181, 0, 21, 42, 16, 6, 188, 4, 181, 0, 24, 42, 16, 24]
abbrev dktX6_init_1 : List UInt8 := dkwX6_init_1 ++ dktX6_init_2
def dkwX6_init_0 : List UInt8 := [42, 183, 0, 3, 42, 16, 24, 188, 10, 181, 0, 9, 42, 16, 24, 188, 10, 181, 0, 15, 42, 16, 24]
abbrev dktX6_init_0 : List UInt8 := dkwX6_init_0 ++ dktX6_init_1
theorem dksX6_init_0 : cX6_init.data.toList.drop 0 = dktX6_init_0 := by decide +kernel
theorem dksX6_init_1 : cX6_init.data.toList.drop 23 = dktX6_init_1 := dk_seg dksX6_init_0 23 rfl rfl
theorem dksX6_init_2 : cX6_init.data.toList.drop 47 = dktX6_init_2 := dk_seg dksX6_init_1 24 rfl rfl
theorem dX6_init_0 : decode cX6_init 0 = .ok (.aload_n 0, 1) := dk_42 (dk_at dksX6_init_0 0 rfl rfl)
theorem dX6_init_1 : decode cX6_init 1 = .ok (.invokespecial 3, 3) := dk_183 0 3 (dk_at dksX6_init_0 1 rfl rfl)
theorem dX6_init_4 : decode cX6_init 4 = .ok (.aload_n 0, 1) := dk_42 (dk_at dksX6_init_0 4 rfl rfl)
theorem dX6_init_5 : decode cX6_init 5 = .ok (.bipush 24, 2) := dk_16 24 (dk_at dksX6_init_0 5 rfl rfl)
theorem dX6_init_7 : decode cX6_init 7 = .ok (.newarray .int, 2) := dk_188_10 (dk_at dksX6_init_0 7 rfl rfl)
theorem dX6_init_9 : decode cX6_init 9 = .ok (.putfield 9, 3) := dk_181 0 9 (dk_at dksX6_init_0 9 rfl rfl)
theorem dX6_init_12 : decode cX6_init 12 = .ok (.aload_n 0, 1) := dk_42 (dk_at dksX6_init_0 12 rfl rfl)
theorem dX6_init_13 : decode cX6_init 13 = .ok (.bipush 24, 2) := dk_16 24 (dk_at dksX6_init_0 13 rfl rfl)
theorem dX6_init_15 : decode cX6_init 15 = .ok (.newarray .int, 2) := dk_188_10 (dk_at dksX6_init_0 15 rfl rfl)
theorem dX6_init_17 : decode cX6_init 17 = .ok (.putfield 15, 3) := dk_181 0 15 (dk_at dksX6_init_0 17 rfl rfl)
theorem dX6_init_20 : decode cX6_init 20 = .ok (.aload_n 0, 1) := dk_42 (dk_at dksX6_init_0 20 rfl rfl)
theorem dX6_init_21 : decode cX6_init 21 = .ok (.bipush 24, 2) := dk_16 24 (dk_at dksX6_init_0 21 rfl rfl)
theorem dX6_init_23 : decode cX6_init 23 = .ok (.newarray .int, 2) := dk_188_10 (dk_at dksX6_init_1 0 rfl rfl)
theorem dX6_init_25 : decode cX6_init 25 = .ok (.putfield 18, 3) := dk_181 0 18 (dk_at dksX6_init_1 2 rfl rfl)
theorem dX6_init_28 : decode cX6_init 28 = .ok (.aload_n 0, 1) := dk_42 (dk_at dksX6_init_1 5 rfl rfl)
theorem dX6_init_29 : decode cX6_init 29 = .ok (.bipush 6, 2) := dk_16 6 (dk_at dksX6_init_1 6 rfl rfl)
theorem dX6_init_31 : decode cX6_init 31 = .ok (.newarray .int, 2) := dk_188_10 (dk_at dksX6_init_1 8 rfl rfl)
theorem dX6_init_33 : decode cX6_init 33 = .ok (.putfield 21, 3) := dk_181 0 21 (dk_at dksX6_init_1 10 rfl rfl)
theorem dX6_init_36 : decode cX6_init 36 = .ok (.aload_n 0, 1) := dk_42 (dk_at dksX6_init_1 13 rfl rfl)
theorem dX6_init_37 : decode cX6_init 37 = .ok (.bipush 6, 2) := dk_16 6 (dk_at dksX6_init_1 14 rfl rfl)
theorem dX6_init_39 : decode cX6_init 39 = .ok (.newarray .boolean, 2) := dk_188_4 (dk_at dksX6_init_1 16 rfl rfl)
theorem dX6_init_41 : decode cX6_init 41 = .ok (.putfield 24, 3) := dk_181 0 24 (dk_at dksX6_init_1 18 rfl rfl)
theorem dX6_init_44 : decode cX6_init 44 = .ok (.aload_n 0, 1) := dk_42 (dk_at dksX6_init_1 21 rfl rfl)
theorem dX6_init_45 : decode cX6_init 45 = .ok (.bipush 24, 2) := dk_16 24 (dk_at dksX6_init_1 22 rfl rfl)
theorem dX6_init_47 : decode cX6_init 47 = .ok (.newarray .boolean, 2) := dk_188_4 (dk_at dksX6_init_2 0 rfl rfl)
theorem dX6_init_49 : decode cX6_init 49 = .ok (.putfield 28, 3) := dk_181 0 28 (dk_at dksX6_init_2 2 rfl rfl)
theorem dX6_init_52 : decode cX6_init 52 = .ok (.aload_n 0, 1) := dk_42 (dk_at dksX6_init_2 5 rfl rfl)
theorem dX6_init_53 : decode cX6_init 53 = .ok (.bipush 24, 2) := dk_16 24 (dk_at dksX6_init_2 6 rfl rfl)
theorem dX6_init_55 : decode cX6_init 55 = .ok (.newarray .int, 2) := dk_188_10 (dk_at dksX6_init_2 8 rfl rfl)
theorem dX6_init_57 : decode cX6_init 57 = .ok (.putfield 31, 3) := dk_181 0 31 (dk_at dksX6_init_2 10 rfl rfl)
theorem dX6_init_60 : decode cX6_init 60 = .ok (.return_, 1) := dk_177 (dk_at dksX6_init_2 13 rfl rfl)
abbrev cX6_take : ByteArray := prog_2_method_2_code
def yX6_take : MethodName := ⟨RX6, "take", "(LCityBrigade$Blaze;)V"⟩
def dkwX6_take_2 : List UInt8 := [180, 0, 24, 3, 42, 180, 0, 24, 3, 16, 6, 184, 0, 34, 177]
abbrev dktX6_take_2 : List UInt8 := dkwX6_take_2 ++ []
def dkwX6_take_1 : List UInt8 := [3, 16, 24, 184, 0, 34, 43, 180, 0, 21, 3, 42, 180, 0, 21, 3, 16, 6, 184, 0, 34, 43]
abbrev dktX6_take_1 : List UInt8 := dkwX6_take_1 ++ dktX6_take_2
def dkwX6_take_0 : List UInt8 := [43, 180, 0, 9, 3, 42, 180, 0, 9, 3, 16, 24, 184, 0, 34, 43, 180, 0, 15, 3, 42, 180, 0, 15]
abbrev dktX6_take_0 : List UInt8 := dkwX6_take_0 ++ dktX6_take_1
theorem dksX6_take_0 : cX6_take.data.toList.drop 0 = dktX6_take_0 := by decide +kernel
theorem dksX6_take_1 : cX6_take.data.toList.drop 24 = dktX6_take_1 := dk_seg dksX6_take_0 24 rfl rfl
theorem dksX6_take_2 : cX6_take.data.toList.drop 46 = dktX6_take_2 := dk_seg dksX6_take_1 22 rfl rfl
theorem dX6_take_0 : decode cX6_take 0 = .ok (.aload_n 1, 1) := dk_43 (dk_at dksX6_take_0 0 rfl rfl)
theorem dX6_take_1 : decode cX6_take 1 = .ok (.getfield 9, 3) := dk_180 0 9 (dk_at dksX6_take_0 1 rfl rfl)
theorem dX6_take_4 : decode cX6_take 4 = .ok (.iconst 0, 1) := dk_3 (dk_at dksX6_take_0 4 rfl rfl)
theorem dX6_take_5 : decode cX6_take 5 = .ok (.aload_n 0, 1) := dk_42 (dk_at dksX6_take_0 5 rfl rfl)
theorem dX6_take_6 : decode cX6_take 6 = .ok (.getfield 9, 3) := dk_180 0 9 (dk_at dksX6_take_0 6 rfl rfl)
theorem dX6_take_9 : decode cX6_take 9 = .ok (.iconst 0, 1) := dk_3 (dk_at dksX6_take_0 9 rfl rfl)
theorem dX6_take_10 : decode cX6_take 10 = .ok (.bipush 24, 2) := dk_16 24 (dk_at dksX6_take_0 10 rfl rfl)
theorem dX6_take_12 : decode cX6_take 12 = .ok (.invokestatic 34, 3) := dk_184 0 34 (dk_at dksX6_take_0 12 rfl rfl)
theorem dX6_take_15 : decode cX6_take 15 = .ok (.aload_n 1, 1) := dk_43 (dk_at dksX6_take_0 15 rfl rfl)
theorem dX6_take_16 : decode cX6_take 16 = .ok (.getfield 15, 3) := dk_180 0 15 (dk_at dksX6_take_0 16 rfl rfl)
theorem dX6_take_19 : decode cX6_take 19 = .ok (.iconst 0, 1) := dk_3 (dk_at dksX6_take_0 19 rfl rfl)
theorem dX6_take_20 : decode cX6_take 20 = .ok (.aload_n 0, 1) := dk_42 (dk_at dksX6_take_0 20 rfl rfl)
theorem dX6_take_21 : decode cX6_take 21 = .ok (.getfield 15, 3) := dk_180 0 15 (dk_at dksX6_take_0 21 rfl rfl)
theorem dX6_take_24 : decode cX6_take 24 = .ok (.iconst 0, 1) := dk_3 (dk_at dksX6_take_1 0 rfl rfl)
theorem dX6_take_25 : decode cX6_take 25 = .ok (.bipush 24, 2) := dk_16 24 (dk_at dksX6_take_1 1 rfl rfl)
theorem dX6_take_27 : decode cX6_take 27 = .ok (.invokestatic 34, 3) := dk_184 0 34 (dk_at dksX6_take_1 3 rfl rfl)
theorem dX6_take_30 : decode cX6_take 30 = .ok (.aload_n 1, 1) := dk_43 (dk_at dksX6_take_1 6 rfl rfl)
theorem dX6_take_31 : decode cX6_take 31 = .ok (.getfield 21, 3) := dk_180 0 21 (dk_at dksX6_take_1 7 rfl rfl)
theorem dX6_take_34 : decode cX6_take 34 = .ok (.iconst 0, 1) := dk_3 (dk_at dksX6_take_1 10 rfl rfl)
theorem dX6_take_35 : decode cX6_take 35 = .ok (.aload_n 0, 1) := dk_42 (dk_at dksX6_take_1 11 rfl rfl)
theorem dX6_take_36 : decode cX6_take 36 = .ok (.getfield 21, 3) := dk_180 0 21 (dk_at dksX6_take_1 12 rfl rfl)
theorem dX6_take_39 : decode cX6_take 39 = .ok (.iconst 0, 1) := dk_3 (dk_at dksX6_take_1 15 rfl rfl)
theorem dX6_take_40 : decode cX6_take 40 = .ok (.bipush 6, 2) := dk_16 6 (dk_at dksX6_take_1 16 rfl rfl)
theorem dX6_take_42 : decode cX6_take 42 = .ok (.invokestatic 34, 3) := dk_184 0 34 (dk_at dksX6_take_1 18 rfl rfl)
theorem dX6_take_45 : decode cX6_take 45 = .ok (.aload_n 1, 1) := dk_43 (dk_at dksX6_take_1 21 rfl rfl)
theorem dX6_take_46 : decode cX6_take 46 = .ok (.getfield 24, 3) := dk_180 0 24 (dk_at dksX6_take_2 0 rfl rfl)
theorem dX6_take_49 : decode cX6_take 49 = .ok (.iconst 0, 1) := dk_3 (dk_at dksX6_take_2 3 rfl rfl)
theorem dX6_take_50 : decode cX6_take 50 = .ok (.aload_n 0, 1) := dk_42 (dk_at dksX6_take_2 4 rfl rfl)
theorem dX6_take_51 : decode cX6_take 51 = .ok (.getfield 24, 3) := dk_180 0 24 (dk_at dksX6_take_2 5 rfl rfl)
theorem dX6_take_54 : decode cX6_take 54 = .ok (.iconst 0, 1) := dk_3 (dk_at dksX6_take_2 8 rfl rfl)
theorem dX6_take_55 : decode cX6_take 55 = .ok (.bipush 6, 2) := dk_16 6 (dk_at dksX6_take_2 9 rfl rfl)
theorem dX6_take_57 : decode cX6_take 57 = .ok (.invokestatic 34, 3) := dk_184 0 34 (dk_at dksX6_take_2 11 rfl rfl)
theorem dX6_take_60 : decode cX6_take 60 = .ok (.return_, 1) := dk_177 (dk_at dksX6_take_2 14 rfl rfl)
theorem q168 : (Jvm.Cond.initialized "CityBrigade$Blaze") ∈ lw_all := lw_g (lw_at lw_m1 10 rfl) rfl
theorem q556 : (Jvm.Cond.instantiable "CityBrigade$Blaze" (7 : Nat)) ∈ lw_all := lw_g (lw_at lw_m2 158 rfl) rfl
theorem q558 : (Jvm.Cond.instanceMethod ({ cls := "CityBrigade$Blaze", name := "<init>", desc := "()V" } : Jvm.MethodName)) ∈ lw_all := lw_g (lw_at lw_m2 160 rfl) rfl
theorem q559 : (Jvm.Cond.code ({ cls := "CityBrigade$Blaze", name := "<init>", desc := "()V" } : Jvm.MethodName) prog_2_method_1_code (1 : Nat) (Option.none : Option Jvm.ClassFile.FieldType)) ∈ lw_all := lw_g (lw_at lw_m2 161 rfl) rfl
theorem q560 : (Jvm.Cond.methodLink "CityBrigade$Blaze" (3 : Nat) ({ cls := "java/lang/Object", name := "<init>", desc := "()V" } : Jvm.MethodName)) ∈ lw_all := lw_g (lw_at lw_m2 162 rfl) rfl
theorem q561 : (Jvm.Cond.fieldLink "CityBrigade$Blaze" (9 : Nat) "CityBrigade$Blaze" "heat" "[I") ∈ lw_all := lw_g (lw_at lw_m2 163 rfl) rfl
theorem q564 : (Jvm.Cond.fieldLink "CityBrigade$Blaze" (15 : Nat) "CityBrigade$Blaze" "stuff" "[I") ∈ lw_all := lw_g (lw_at lw_m2 166 rfl) rfl
theorem q567 : (Jvm.Cond.fieldLink "CityBrigade$Blaze" (18 : Nat) "CityBrigade$Blaze" "water" "[I") ∈ lw_all := lw_g (lw_at lw_m2 169 rfl) rfl
theorem q569 : (Jvm.Cond.fieldLink "CityBrigade$Blaze" (21 : Nat) "CityBrigade$Blaze" "burnt" "[I") ∈ lw_all := lw_g (lw_at lw_m2 171 rfl) rfl
theorem q572 : (Jvm.Cond.fieldLink "CityBrigade$Blaze" (24 : Nat) "CityBrigade$Blaze" "fallen" "[Z") ∈ lw_all := lw_g (lw_at lw_m2 174 rfl) rfl
theorem q575 : (Jvm.Cond.fieldLink "CityBrigade$Blaze" (28 : Nat) "CityBrigade$Blaze" "burned" "[Z") ∈ lw_all := lw_g (lw_at lw_m2 177 rfl) rfl
theorem q577 : (Jvm.Cond.fieldLink "CityBrigade$Blaze" (31 : Nat) "CityBrigade$Blaze" "gain" "[I") ∈ lw_all := lw_g (lw_at lw_m2 179 rfl) rfl
theorem q579 : (Jvm.Cond.laysFinal "CityBrigade$Blaze" "CityBrigade$Blaze" "heat" "[I") ∈ lw_all := lw_g (lw_at lw_m2 181 rfl) rfl
theorem q580 : (Jvm.Cond.soleField "CityBrigade$Blaze" "heat") ∈ lw_all := lw_g (lw_at lw_m2 182 rfl) rfl
theorem q581 : (Jvm.Cond.laysFinal "CityBrigade$Blaze" "CityBrigade$Blaze" "stuff" "[I") ∈ lw_all := lw_g (lw_at lw_m2 183 rfl) rfl
theorem q582 : (Jvm.Cond.soleField "CityBrigade$Blaze" "stuff") ∈ lw_all := lw_g (lw_at lw_m2 184 rfl) rfl
theorem q583 : (Jvm.Cond.laysFinal "CityBrigade$Blaze" "CityBrigade$Blaze" "water" "[I") ∈ lw_all := lw_g (lw_at lw_m2 185 rfl) rfl
theorem q584 : (Jvm.Cond.soleField "CityBrigade$Blaze" "water") ∈ lw_all := lw_g (lw_at lw_m2 186 rfl) rfl
theorem q585 : (Jvm.Cond.laysFinal "CityBrigade$Blaze" "CityBrigade$Blaze" "burnt" "[I") ∈ lw_all := lw_g (lw_at lw_m2 187 rfl) rfl
theorem q586 : (Jvm.Cond.soleField "CityBrigade$Blaze" "burnt") ∈ lw_all := lw_g (lw_at lw_m2 188 rfl) rfl
theorem q587 : (Jvm.Cond.laysFinal "CityBrigade$Blaze" "CityBrigade$Blaze" "fallen" "[Z") ∈ lw_all := lw_g (lw_at lw_m2 189 rfl) rfl
theorem q588 : (Jvm.Cond.soleField "CityBrigade$Blaze" "fallen") ∈ lw_all := lw_g (lw_at lw_m2 190 rfl) rfl
theorem q589 : (Jvm.Cond.laysFinal "CityBrigade$Blaze" "CityBrigade$Blaze" "burned" "[Z") ∈ lw_all := lw_g (lw_at lw_m2 191 rfl) rfl
theorem q590 : (Jvm.Cond.soleField "CityBrigade$Blaze" "burned") ∈ lw_all := lw_g (lw_at lw_m2 192 rfl) rfl
theorem q591 : (Jvm.Cond.laysFinal "CityBrigade$Blaze" "CityBrigade$Blaze" "gain" "[I") ∈ lw_all := lw_g (lw_at lw_m2 193 rfl) rfl
theorem q592 : (Jvm.Cond.soleField "CityBrigade$Blaze" "gain") ∈ lw_all := lw_g (lw_at lw_m2 194 rfl) rfl
theorem q593 : (Jvm.Cond.superclass "CityBrigade$Blaze" "java/lang/Object") ∈ lw_all := lw_g (lw_at lw_m2 195 rfl) rfl
theorem q1895 : (Jvm.Cond.instanceMethod ({ cls := "CityBrigade$Blaze", name := "take", desc := "(LCityBrigade$Blaze;)V" } : Jvm.MethodName)) ∈ lw_all := lw_g (lw_at lw_m8 57 rfl) rfl
theorem q1896 : (Jvm.Cond.selects "CityBrigade$Blaze" ({ cls := "CityBrigade$Blaze", name := "take", desc := "(LCityBrigade$Blaze;)V" } : Jvm.MethodName) ({ cls := "CityBrigade$Blaze", name := "take", desc := "(LCityBrigade$Blaze;)V" } : Jvm.MethodName)) ∈ lw_all := lw_g (lw_at lw_m8 58 rfl) rfl
theorem q1897 : (Jvm.Cond.code ({ cls := "CityBrigade$Blaze", name := "take", desc := "(LCityBrigade$Blaze;)V" } : Jvm.MethodName) prog_2_method_2_code (2 : Nat) (Option.none : Option Jvm.ClassFile.FieldType)) ∈ lw_all := lw_g (lw_at lw_m8 59 rfl) rfl
theorem q1898 : (Jvm.Cond.methodLink "CityBrigade$Blaze" (34 : Nat) ({ cls := "java/lang/System", name := "arraycopy", desc := "(Ljava/lang/Object;ILjava/lang/Object;II)V" } : Jvm.MethodName)) ∈ lw_all := lw_g (lw_at lw_m8 60 rfl) rfl
theorem q2853 : (Jvm.Cond.castable "CityBrigade$Blaze" "java/lang/Object") ∈ lw_tbl := lw_at lw_m12 55 rfl
theorem in_X6 : ∀ w ∈ wsX60, w ∈ lw_all := lw_in wsX60 [579, 581, 583, 585, 587, 589, 591] (by decide +kernel) (by decide +kernel)
/-! CityBrigade$Head -/
set_option maxRecDepth 100000
def RX7 : String := "CityBrigade$Head"
def TX7 : u_T := fun k => match k with
  | 0 => ("CityBrigade$Head", "corner", "I", true)
  | _ => ("CityBrigade$Head", "main", "I", true)
def tyX7 : Nat → FieldType := fun k => match k with
  | 0 => .int
  | _ => .int
abbrev wsX70 : List Cond := u_ws RX7 TX7 2
theorem nmX7 : ∀ a, a < 2 → ∀ b, b < 2 → a ≠ b → (TX7 a).2.1 ≠ (TX7 b).2.1 := by decide +kernel
theorem tyX7_ok : ∀ k, k < 2 → parseFieldDescriptor (TX7 k).2.2.1 = some (tyX7 k) := by decide +kernel
abbrev cX7_init : ByteArray := prog_14_method_1_code
def yX7_init : MethodName := ⟨RX7, "<init>", "(II)V"⟩
def dkwX7_init_0 : List UInt8 := [42, 183, 0, 1, 42, 27, 181, 0, 7, 42, 28, 181, 0, 13, 177]
abbrev dktX7_init_0 : List UInt8 := dkwX7_init_0 ++ []
theorem dksX7_init_0 : cX7_init.data.toList.drop 0 = dktX7_init_0 := by decide +kernel
theorem dX7_init_0 : decode cX7_init 0 = .ok (.aload_n 0, 1) := dk_42 (dk_at dksX7_init_0 0 rfl rfl)
theorem dX7_init_1 : decode cX7_init 1 = .ok (.invokespecial 1, 3) := dk_183 0 1 (dk_at dksX7_init_0 1 rfl rfl)
theorem dX7_init_4 : decode cX7_init 4 = .ok (.aload_n 0, 1) := dk_42 (dk_at dksX7_init_0 4 rfl rfl)
theorem dX7_init_5 : decode cX7_init 5 = .ok (.iload_n 1, 1) := dk_27 (dk_at dksX7_init_0 5 rfl rfl)
theorem dX7_init_6 : decode cX7_init 6 = .ok (.putfield 7, 3) := dk_181 0 7 (dk_at dksX7_init_0 6 rfl rfl)
theorem dX7_init_9 : decode cX7_init 9 = .ok (.aload_n 0, 1) := dk_42 (dk_at dksX7_init_0 9 rfl rfl)
theorem dX7_init_10 : decode cX7_init 10 = .ok (.iload_n 2, 1) := dk_28 (dk_at dksX7_init_0 10 rfl rfl)
theorem dX7_init_11 : decode cX7_init 11 = .ok (.putfield 13, 3) := dk_181 0 13 (dk_at dksX7_init_0 11 rfl rfl)
theorem dX7_init_14 : decode cX7_init 14 = .ok (.return_, 1) := dk_177 (dk_at dksX7_init_0 14 rfl rfl)
theorem q169 : (Jvm.Cond.initialized "CityBrigade$Head") ∈ lw_all := lw_g (lw_at lw_m1 11 rfl) rfl
theorem q751 : (Jvm.Cond.instantiable "CityBrigade$Head" (2 : Nat)) ∈ lw_all := lw_g (lw_at lw_m3 113 rfl) rfl
theorem q753 : (Jvm.Cond.instanceMethod ({ cls := "CityBrigade$Head", name := "<init>", desc := "(II)V" } : Jvm.MethodName)) ∈ lw_all := lw_g (lw_at lw_m3 115 rfl) rfl
theorem q754 : (Jvm.Cond.code ({ cls := "CityBrigade$Head", name := "<init>", desc := "(II)V" } : Jvm.MethodName) prog_14_method_1_code (3 : Nat) (Option.none : Option Jvm.ClassFile.FieldType)) ∈ lw_all := lw_g (lw_at lw_m3 116 rfl) rfl
theorem q755 : (Jvm.Cond.methodLink "CityBrigade$Head" (1 : Nat) ({ cls := "java/lang/Object", name := "<init>", desc := "()V" } : Jvm.MethodName)) ∈ lw_all := lw_g (lw_at lw_m3 117 rfl) rfl
theorem q756 : (Jvm.Cond.fieldLink "CityBrigade$Head" (7 : Nat) "CityBrigade$Head" "corner" "I") ∈ lw_all := lw_g (lw_at lw_m3 118 rfl) rfl
theorem q758 : (Jvm.Cond.fieldLink "CityBrigade$Head" (13 : Nat) "CityBrigade$Head" "main" "I") ∈ lw_all := lw_g (lw_at lw_m3 120 rfl) rfl
theorem q760 : (Jvm.Cond.laysFinal "CityBrigade$Head" "CityBrigade$Head" "corner" "I") ∈ lw_all := lw_g (lw_at lw_m3 122 rfl) rfl
theorem q761 : (Jvm.Cond.soleField "CityBrigade$Head" "corner") ∈ lw_all := lw_g (lw_at lw_m3 123 rfl) rfl
theorem q762 : (Jvm.Cond.laysFinal "CityBrigade$Head" "CityBrigade$Head" "main" "I") ∈ lw_all := lw_g (lw_at lw_m3 124 rfl) rfl
theorem q763 : (Jvm.Cond.soleField "CityBrigade$Head" "main") ∈ lw_all := lw_g (lw_at lw_m3 125 rfl) rfl
theorem q764 : (Jvm.Cond.superclass "CityBrigade$Head" "java/lang/Object") ∈ lw_all := lw_g (lw_at lw_m3 126 rfl) rfl
theorem q2854 : (Jvm.Cond.castable "CityBrigade$Head" "java/lang/Object") ∈ lw_tbl := lw_at lw_m12 56 rfl
theorem in_X7 : ∀ w ∈ wsX70, w ∈ lw_all := lw_in wsX70 [760, 762] (by decide +kernel) (by decide +kernel)
/-! CityBrigade$Crew -/
set_option maxRecDepth 100000
def RX8 : String := "CityBrigade$Crew"
abbrev cX8_init : ByteArray := prog_9_method_1_code
def yX8_init : MethodName := ⟨RX8, "<init>", "(IIZII)V"⟩
def dkwX8_init_2 : List UInt8 := [181, 0, 37, 42, 21, 5, 181, 0, 40, 42, 28, 181, 0, 43, 177]
abbrev dktX8_init_2 : List UInt8 := dkwX8_init_2 ++ []
def dkwX8_init_1 : List UInt8 := [42, 2, 181, 0, 24, 42, 27, 181, 0, 27, 42, 28, 181, 0, 30, 42, 29, 181, 0, 33, 42, 21, 4]
abbrev dktX8_init_1 : List UInt8 := dkwX8_init_1 ++ dktX8_init_2
def dkwX8_init_0 : List UInt8 := [42, 183, 0, 3, 42, 3, 181, 0, 9, 42, 2, 181, 0, 15, 42, 2, 181, 0, 18, 42, 2, 181, 0, 21]
abbrev dktX8_init_0 : List UInt8 := dkwX8_init_0 ++ dktX8_init_1
theorem dksX8_init_0 : cX8_init.data.toList.drop 0 = dktX8_init_0 := by decide +kernel
theorem dksX8_init_1 : cX8_init.data.toList.drop 24 = dktX8_init_1 := dk_seg dksX8_init_0 24 rfl rfl
theorem dksX8_init_2 : cX8_init.data.toList.drop 47 = dktX8_init_2 := dk_seg dksX8_init_1 23 rfl rfl
theorem dX8_init_0 : decode cX8_init 0 = .ok (.aload_n 0, 1) := dk_42 (dk_at dksX8_init_0 0 rfl rfl)
theorem dX8_init_1 : decode cX8_init 1 = .ok (.invokespecial 3, 3) := dk_183 0 3 (dk_at dksX8_init_0 1 rfl rfl)
theorem dX8_init_4 : decode cX8_init 4 = .ok (.aload_n 0, 1) := dk_42 (dk_at dksX8_init_0 4 rfl rfl)
theorem dX8_init_5 : decode cX8_init 5 = .ok (.iconst 0, 1) := dk_3 (dk_at dksX8_init_0 5 rfl rfl)
theorem dX8_init_6 : decode cX8_init 6 = .ok (.putfield 9, 3) := dk_181 0 9 (dk_at dksX8_init_0 6 rfl rfl)
theorem dX8_init_9 : decode cX8_init 9 = .ok (.aload_n 0, 1) := dk_42 (dk_at dksX8_init_0 9 rfl rfl)
theorem dX8_init_10 : decode cX8_init 10 = .ok (.iconst (-1), 1) := dk_2 (dk_at dksX8_init_0 10 rfl rfl)
theorem dX8_init_11 : decode cX8_init 11 = .ok (.putfield 15, 3) := dk_181 0 15 (dk_at dksX8_init_0 11 rfl rfl)
theorem dX8_init_14 : decode cX8_init 14 = .ok (.aload_n 0, 1) := dk_42 (dk_at dksX8_init_0 14 rfl rfl)
theorem dX8_init_15 : decode cX8_init 15 = .ok (.iconst (-1), 1) := dk_2 (dk_at dksX8_init_0 15 rfl rfl)
theorem dX8_init_16 : decode cX8_init 16 = .ok (.putfield 18, 3) := dk_181 0 18 (dk_at dksX8_init_0 16 rfl rfl)
theorem dX8_init_19 : decode cX8_init 19 = .ok (.aload_n 0, 1) := dk_42 (dk_at dksX8_init_0 19 rfl rfl)
theorem dX8_init_20 : decode cX8_init 20 = .ok (.iconst (-1), 1) := dk_2 (dk_at dksX8_init_0 20 rfl rfl)
theorem dX8_init_21 : decode cX8_init 21 = .ok (.putfield 21, 3) := dk_181 0 21 (dk_at dksX8_init_0 21 rfl rfl)
theorem dX8_init_24 : decode cX8_init 24 = .ok (.aload_n 0, 1) := dk_42 (dk_at dksX8_init_1 0 rfl rfl)
theorem dX8_init_25 : decode cX8_init 25 = .ok (.iconst (-1), 1) := dk_2 (dk_at dksX8_init_1 1 rfl rfl)
theorem dX8_init_26 : decode cX8_init 26 = .ok (.putfield 24, 3) := dk_181 0 24 (dk_at dksX8_init_1 2 rfl rfl)
theorem dX8_init_29 : decode cX8_init 29 = .ok (.aload_n 0, 1) := dk_42 (dk_at dksX8_init_1 5 rfl rfl)
theorem dX8_init_30 : decode cX8_init 30 = .ok (.iload_n 1, 1) := dk_27 (dk_at dksX8_init_1 6 rfl rfl)
theorem dX8_init_31 : decode cX8_init 31 = .ok (.putfield 27, 3) := dk_181 0 27 (dk_at dksX8_init_1 7 rfl rfl)
theorem dX8_init_34 : decode cX8_init 34 = .ok (.aload_n 0, 1) := dk_42 (dk_at dksX8_init_1 10 rfl rfl)
theorem dX8_init_35 : decode cX8_init 35 = .ok (.iload_n 2, 1) := dk_28 (dk_at dksX8_init_1 11 rfl rfl)
theorem dX8_init_36 : decode cX8_init 36 = .ok (.putfield 30, 3) := dk_181 0 30 (dk_at dksX8_init_1 12 rfl rfl)
theorem dX8_init_39 : decode cX8_init 39 = .ok (.aload_n 0, 1) := dk_42 (dk_at dksX8_init_1 15 rfl rfl)
theorem dX8_init_40 : decode cX8_init 40 = .ok (.iload_n 3, 1) := dk_29 (dk_at dksX8_init_1 16 rfl rfl)
theorem dX8_init_41 : decode cX8_init 41 = .ok (.putfield 33, 3) := dk_181 0 33 (dk_at dksX8_init_1 17 rfl rfl)
theorem dX8_init_44 : decode cX8_init 44 = .ok (.aload_n 0, 1) := dk_42 (dk_at dksX8_init_1 20 rfl rfl)
theorem dX8_init_45 : decode cX8_init 45 = .ok (.iload 4, 2) := dk_21 4 (dk_at dksX8_init_1 21 rfl rfl)
theorem dX8_init_47 : decode cX8_init 47 = .ok (.putfield 37, 3) := dk_181 0 37 (dk_at dksX8_init_2 0 rfl rfl)
theorem dX8_init_50 : decode cX8_init 50 = .ok (.aload_n 0, 1) := dk_42 (dk_at dksX8_init_2 3 rfl rfl)
theorem dX8_init_51 : decode cX8_init 51 = .ok (.iload 5, 2) := dk_21 5 (dk_at dksX8_init_2 4 rfl rfl)
theorem dX8_init_53 : decode cX8_init 53 = .ok (.putfield 40, 3) := dk_181 0 40 (dk_at dksX8_init_2 6 rfl rfl)
theorem dX8_init_56 : decode cX8_init 56 = .ok (.aload_n 0, 1) := dk_42 (dk_at dksX8_init_2 9 rfl rfl)
theorem dX8_init_57 : decode cX8_init 57 = .ok (.iload_n 2, 1) := dk_28 (dk_at dksX8_init_2 10 rfl rfl)
theorem dX8_init_58 : decode cX8_init 58 = .ok (.putfield 43, 3) := dk_181 0 43 (dk_at dksX8_init_2 11 rfl rfl)
theorem dX8_init_61 : decode cX8_init 61 = .ok (.return_, 1) := dk_177 (dk_at dksX8_init_2 14 rfl rfl)
abbrev cX8_slowNow : ByteArray := prog_9_method_5_code
def yX8_slowNow : MethodName := ⟨RX8, "slowNow", "()I"⟩
def dkwX8_slowNow_0 : List UInt8 := [42, 42, 180, 0, 52, 182, 0, 55, 172]
abbrev dktX8_slowNow_0 : List UInt8 := dkwX8_slowNow_0 ++ []
theorem dksX8_slowNow_0 : cX8_slowNow.data.toList.drop 0 = dktX8_slowNow_0 := by decide +kernel
theorem dX8_slowNow_0 : decode cX8_slowNow 0 = .ok (.aload_n 0, 1) := dk_42 (dk_at dksX8_slowNow_0 0 rfl rfl)
theorem dX8_slowNow_1 : decode cX8_slowNow 1 = .ok (.aload_n 0, 1) := dk_42 (dk_at dksX8_slowNow_0 1 rfl rfl)
theorem dX8_slowNow_2 : decode cX8_slowNow 2 = .ok (.getfield 52, 3) := dk_180 0 52 (dk_at dksX8_slowNow_0 2 rfl rfl)
theorem dX8_slowNow_5 : decode cX8_slowNow 5 = .ok (.invokevirtual 55, 3) := dk_182 0 55 (dk_at dksX8_slowNow_0 5 rfl rfl)
theorem dX8_slowNow_8 : decode cX8_slowNow 8 = .ok (.ireturn, 1) := dk_172 (dk_at dksX8_slowNow_0 8 rfl rfl)
abbrev cX8_slow : ByteArray := prog_9_method_4_code
def yX8_slow : MethodName := ⟨RX8, "slow", "(I)I"⟩
def dkwX8_slow_0 : List UInt8 := [42, 180, 0, 33, 153, 0, 14, 42, 180, 0, 37, 27, 6, 108, 96, 167, 0, 8, 42, 27, 183, 0, 46, 172]
abbrev dktX8_slow_0 : List UInt8 := dkwX8_slow_0 ++ []
theorem dksX8_slow_0 : cX8_slow.data.toList.drop 0 = dktX8_slow_0 := by decide +kernel
theorem dX8_slow_0 : decode cX8_slow 0 = .ok (.aload_n 0, 1) := dk_42 (dk_at dksX8_slow_0 0 rfl rfl)
theorem dX8_slow_1 : decode cX8_slow 1 = .ok (.getfield 33, 3) := dk_180 0 33 (dk_at dksX8_slow_0 1 rfl rfl)
theorem dX8_slow_4 : decode cX8_slow 4 = .ok (.ifCond .eq 14, 3) := dk_153 0 14 (dk_at dksX8_slow_0 4 rfl rfl)
theorem dX8_slow_7 : decode cX8_slow 7 = .ok (.aload_n 0, 1) := dk_42 (dk_at dksX8_slow_0 7 rfl rfl)
theorem dX8_slow_8 : decode cX8_slow 8 = .ok (.getfield 37, 3) := dk_180 0 37 (dk_at dksX8_slow_0 8 rfl rfl)
theorem dX8_slow_11 : decode cX8_slow 11 = .ok (.iload_n 1, 1) := dk_27 (dk_at dksX8_slow_0 11 rfl rfl)
theorem dX8_slow_12 : decode cX8_slow 12 = .ok (.iconst 3, 1) := dk_6 (dk_at dksX8_slow_0 12 rfl rfl)
theorem dX8_slow_13 : decode cX8_slow 13 = .ok (.idiv, 1) := dk_108 (dk_at dksX8_slow_0 13 rfl rfl)
theorem dX8_slow_14 : decode cX8_slow 14 = .ok (.iadd, 1) := dk_96 (dk_at dksX8_slow_0 14 rfl rfl)
theorem dX8_slow_15 : decode cX8_slow 15 = .ok (.goto 8, 3) := dk_167 0 8 (dk_at dksX8_slow_0 15 rfl rfl)
theorem dX8_slow_18 : decode cX8_slow 18 = .ok (.aload_n 0, 1) := dk_42 (dk_at dksX8_slow_0 18 rfl rfl)
theorem dX8_slow_19 : decode cX8_slow 19 = .ok (.iload_n 1, 1) := dk_27 (dk_at dksX8_slow_0 19 rfl rfl)
theorem dX8_slow_20 : decode cX8_slow 20 = .ok (.invokespecial 46, 3) := dk_183 0 46 (dk_at dksX8_slow_0 20 rfl rfl)
theorem dX8_slow_23 : decode cX8_slow 23 = .ok (.ireturn, 1) := dk_172 (dk_at dksX8_slow_0 23 rfl rfl)
abbrev cX8_best : ByteArray := prog_9_method_3_code
def yX8_best : MethodName := ⟨RX8, "best", "()I"⟩
theorem dX8_best_0 : decode cX8_best 0 = .ok (.aload_n 0, 1) := by decide +kernel
theorem dX8_best_1 : decode cX8_best 1 = .ok (.getfield 37, 3) := by decide +kernel
theorem dX8_best_4 : decode cX8_best 4 = .ok (.ireturn, 1) := by decide +kernel
abbrev cX8_tire : ByteArray := prog_9_method_7_code
def yX8_tire : MethodName := ⟨RX8, "tire", "()V"⟩
def dkwX8_tire_1 : List UInt8 := [180, 0, 9, 182, 0, 56, 96, 184, 0, 59, 184, 0, 65, 181, 0, 52, 177]
abbrev dktX8_tire_1 : List UInt8 := dkwX8_tire_1 ++ []
def dkwX8_tire_0 : List UInt8 := [42, 42, 180, 0, 9, 7, 160, 0, 7, 3, 167, 0, 26, 3, 17, 1, 44, 42, 180, 0, 52, 42, 42]
abbrev dktX8_tire_0 : List UInt8 := dkwX8_tire_0 ++ dktX8_tire_1
theorem dksX8_tire_0 : cX8_tire.data.toList.drop 0 = dktX8_tire_0 := by decide +kernel
theorem dksX8_tire_1 : cX8_tire.data.toList.drop 23 = dktX8_tire_1 := dk_seg dksX8_tire_0 23 rfl rfl
theorem dX8_tire_0 : decode cX8_tire 0 = .ok (.aload_n 0, 1) := dk_42 (dk_at dksX8_tire_0 0 rfl rfl)
theorem dX8_tire_1 : decode cX8_tire 1 = .ok (.aload_n 0, 1) := dk_42 (dk_at dksX8_tire_0 1 rfl rfl)
theorem dX8_tire_2 : decode cX8_tire 2 = .ok (.getfield 9, 3) := dk_180 0 9 (dk_at dksX8_tire_0 2 rfl rfl)
theorem dX8_tire_5 : decode cX8_tire 5 = .ok (.iconst 4, 1) := dk_7 (dk_at dksX8_tire_0 5 rfl rfl)
theorem dX8_tire_6 : decode cX8_tire 6 = .ok (.if_icmp .ne 7, 3) := dk_160 0 7 (dk_at dksX8_tire_0 6 rfl rfl)
theorem dX8_tire_9 : decode cX8_tire 9 = .ok (.iconst 0, 1) := dk_3 (dk_at dksX8_tire_0 9 rfl rfl)
theorem dX8_tire_10 : decode cX8_tire 10 = .ok (.goto 26, 3) := dk_167 0 26 (dk_at dksX8_tire_0 10 rfl rfl)
theorem dX8_tire_13 : decode cX8_tire 13 = .ok (.iconst 0, 1) := dk_3 (dk_at dksX8_tire_0 13 rfl rfl)
theorem dX8_tire_14 : decode cX8_tire 14 = .ok (.sipush 300, 3) := dk_17 1 44 (dk_at dksX8_tire_0 14 rfl rfl)
theorem dX8_tire_17 : decode cX8_tire 17 = .ok (.aload_n 0, 1) := dk_42 (dk_at dksX8_tire_0 17 rfl rfl)
theorem dX8_tire_18 : decode cX8_tire 18 = .ok (.getfield 52, 3) := dk_180 0 52 (dk_at dksX8_tire_0 18 rfl rfl)
theorem dX8_tire_21 : decode cX8_tire 21 = .ok (.aload_n 0, 1) := dk_42 (dk_at dksX8_tire_0 21 rfl rfl)
theorem dX8_tire_22 : decode cX8_tire 22 = .ok (.aload_n 0, 1) := dk_42 (dk_at dksX8_tire_0 22 rfl rfl)
theorem dX8_tire_23 : decode cX8_tire 23 = .ok (.getfield 9, 3) := dk_180 0 9 (dk_at dksX8_tire_1 0 rfl rfl)
theorem dX8_tire_26 : decode cX8_tire 26 = .ok (.invokevirtual 56, 3) := dk_182 0 56 (dk_at dksX8_tire_1 3 rfl rfl)
theorem dX8_tire_29 : decode cX8_tire 29 = .ok (.iadd, 1) := dk_96 (dk_at dksX8_tire_1 6 rfl rfl)
theorem dX8_tire_30 : decode cX8_tire 30 = .ok (.invokestatic 59, 3) := dk_184 0 59 (dk_at dksX8_tire_1 7 rfl rfl)
theorem dX8_tire_33 : decode cX8_tire 33 = .ok (.invokestatic 65, 3) := dk_184 0 65 (dk_at dksX8_tire_1 10 rfl rfl)
theorem dX8_tire_36 : decode cX8_tire 36 = .ok (.putfield 52, 3) := dk_181 0 52 (dk_at dksX8_tire_1 13 rfl rfl)
theorem dX8_tire_39 : decode cX8_tire 39 = .ok (.return_, 1) := dk_177 (dk_at dksX8_tire_1 16 rfl rfl)
theorem q170 : (Jvm.Cond.initialized "CityBrigade$Crew") ∈ lw_all := lw_g (lw_at lw_m1 12 rfl) rfl
theorem q779 : (Jvm.Cond.instanceMethod ({ cls := "CityBrigade$Crew", name := "<init>", desc := "(IIZII)V" } : Jvm.MethodName)) ∈ lw_all := lw_g (lw_at lw_m3 141 rfl) rfl
theorem q780 : (Jvm.Cond.code ({ cls := "CityBrigade$Crew", name := "<init>", desc := "(IIZII)V" } : Jvm.MethodName) prog_9_method_1_code (6 : Nat) (Option.none : Option Jvm.ClassFile.FieldType)) ∈ lw_all := lw_g (lw_at lw_m3 142 rfl) rfl
theorem q781 : (Jvm.Cond.methodLink "CityBrigade$Crew" (3 : Nat) ({ cls := "java/lang/Object", name := "<init>", desc := "()V" } : Jvm.MethodName)) ∈ lw_all := lw_g (lw_at lw_m3 143 rfl) rfl
theorem q784 : (Jvm.Cond.fieldLink "CityBrigade$Crew" (27 : Nat) "CityBrigade$Crew" "number" "I") ∈ lw_all := lw_g (lw_at lw_m3 146 rfl) rfl
theorem q786 : (Jvm.Cond.fieldLink "CityBrigade$Crew" (30 : Nat) "CityBrigade$Crew" "home" "I") ∈ lw_all := lw_g (lw_at lw_m3 148 rfl) rfl
theorem q788 : (Jvm.Cond.fieldLink "CityBrigade$Crew" (37 : Nat) "CityBrigade$Crew" "best" "I") ∈ lw_all := lw_g (lw_at lw_m3 150 rfl) rfl
theorem q789 : (Jvm.Cond.fieldLink "CityBrigade$Crew" (40 : Nat) "CityBrigade$Crew" "men" "I") ∈ lw_all := lw_g (lw_at lw_m3 151 rfl) rfl
theorem q791 : (Jvm.Cond.fieldLink "CityBrigade$Crew" (33 : Nat) "CityBrigade$Crew" "horses" "Z") ∈ lw_all := lw_g (lw_at lw_m3 153 rfl) rfl
theorem q792 : (Jvm.Cond.fieldLink "CityBrigade$Crew" (9 : Nat) "CityBrigade$Crew" "state" "I") ∈ lw_all := lw_g (lw_at lw_m3 154 rfl) rfl
theorem q794 : (Jvm.Cond.fieldLink "CityBrigade$Crew" (43 : Nat) "CityBrigade$Crew" "post" "I") ∈ lw_all := lw_g (lw_at lw_m3 156 rfl) rfl
theorem q796 : (Jvm.Cond.fieldLink "CityBrigade$Crew" (15 : Nat) "CityBrigade$Crew" "till" "I") ∈ lw_all := lw_g (lw_at lw_m3 158 rfl) rfl
theorem q798 : (Jvm.Cond.fieldLink "CityBrigade$Crew" (18 : Nat) "CityBrigade$Crew" "sent" "I") ∈ lw_all := lw_g (lw_at lw_m3 160 rfl) rfl
theorem q800 : (Jvm.Cond.fieldLink "CityBrigade$Crew" (21 : Nat) "CityBrigade$Crew" "floor" "I") ∈ lw_all := lw_g (lw_at lw_m3 162 rfl) rfl
theorem q802 : (Jvm.Cond.fieldLink "CityBrigade$Crew" (52 : Nat) "CityBrigade$Crew" "tired" "I") ∈ lw_all := lw_g (lw_at lw_m3 164 rfl) rfl
theorem q806 : (Jvm.Cond.fieldLink "CityBrigade$Crew" (24 : Nat) "CityBrigade$Crew" "room" "I") ∈ lw_all := lw_g (lw_at lw_m3 168 rfl) rfl
theorem q817 : (Jvm.Cond.soleField "CityBrigade$Crew" "number") ∈ lw_all := lw_g (lw_at lw_m3 179 rfl) rfl
theorem q819 : (Jvm.Cond.soleField "CityBrigade$Crew" "home") ∈ lw_all := lw_g (lw_at lw_m3 181 rfl) rfl
theorem q821 : (Jvm.Cond.soleField "CityBrigade$Crew" "best") ∈ lw_all := lw_g (lw_at lw_m3 183 rfl) rfl
theorem q823 : (Jvm.Cond.soleField "CityBrigade$Crew" "men") ∈ lw_all := lw_g (lw_at lw_m3 185 rfl) rfl
theorem q825 : (Jvm.Cond.soleField "CityBrigade$Crew" "horses") ∈ lw_all := lw_g (lw_at lw_m3 187 rfl) rfl
theorem q827 : (Jvm.Cond.soleField "CityBrigade$Crew" "state") ∈ lw_all := lw_g (lw_at lw_m3 189 rfl) rfl
theorem q829 : (Jvm.Cond.soleField "CityBrigade$Crew" "post") ∈ lw_all := lw_g (lw_at lw_m3 191 rfl) rfl
theorem q831 : (Jvm.Cond.soleField "CityBrigade$Crew" "till") ∈ lw_all := lw_g (lw_at lw_m3 193 rfl) rfl
theorem q833 : (Jvm.Cond.soleField "CityBrigade$Crew" "sent") ∈ lw_all := lw_g (lw_at lw_m3 195 rfl) rfl
theorem q835 : (Jvm.Cond.soleField "CityBrigade$Crew" "floor") ∈ lw_all := lw_g (lw_at lw_m3 197 rfl) rfl
theorem q837 : (Jvm.Cond.soleField "CityBrigade$Crew" "tired") ∈ lw_all := lw_g (lw_at lw_m3 199 rfl) rfl
theorem q839 : (Jvm.Cond.soleField "CityBrigade$Crew" "got") ∈ lw_all := lw_g (lw_at lw_m3 201 rfl) rfl
theorem q841 : (Jvm.Cond.soleField "CityBrigade$Crew" "began") ∈ lw_all := lw_g (lw_at lw_m3 203 rfl) rfl
theorem q843 : (Jvm.Cond.soleField "CityBrigade$Crew" "room") ∈ lw_all := lw_g (lw_at lw_m3 205 rfl) rfl
theorem q845 : (Jvm.Cond.soleField "CityBrigade$Crew" "asks") ∈ lw_all := lw_g (lw_at lw_m3 207 rfl) rfl
theorem q847 : (Jvm.Cond.soleField "CityBrigade$Crew" "house") ∈ lw_all := lw_g (lw_at lw_m3 209 rfl) rfl
theorem q936 : (Jvm.Cond.declares ({ cls := "CityBrigade$Crew", name := "gear", desc := "(III)Z" } : Jvm.MethodName)) ∈ lw_tbl := lw_at lw_m4 58 rfl
theorem q937 : (Jvm.Cond.sameMethod "CityBrigade$Crew" "CityBrigade$Crew" "gear" "(III)Z") ∈ lw_all := lw_g (lw_at lw_m4 59 rfl) rfl
theorem q971 : (Jvm.Cond.instanceMethod ({ cls := "CityBrigade$Crew", name := "slowNow", desc := "()I" } : Jvm.MethodName)) ∈ lw_all := lw_g (lw_at lw_m4 93 rfl) rfl
theorem q972 : (Jvm.Cond.sameMethod "CityBrigade$Crew" "CityBrigade$Crew" "slowNow" "()I") ∈ lw_all := lw_g (lw_at lw_m4 94 rfl) rfl
theorem q977 : (Jvm.Cond.code ({ cls := "CityBrigade$Crew", name := "slowNow", desc := "()I" } : Jvm.MethodName) prog_9_method_5_code (1 : Nat) (Option.some Jvm.ClassFile.FieldType.int)) ∈ lw_all := lw_g (lw_at lw_m4 99 rfl) rfl
theorem q978 : (Jvm.Cond.methodLink "CityBrigade$Crew" (55 : Nat) ({ cls := "CityBrigade$Crew", name := "slow", desc := "(I)I" } : Jvm.MethodName)) ∈ lw_all := lw_g (lw_at lw_m4 100 rfl) rfl
theorem q979 : (Jvm.Cond.instanceMethod ({ cls := "CityBrigade$Crew", name := "slow", desc := "(I)I" } : Jvm.MethodName)) ∈ lw_all := lw_g (lw_at lw_m4 101 rfl) rfl
theorem q980 : (Jvm.Cond.sameMethod "CityBrigade$Crew" "CityBrigade$Crew" "slow" "(I)I") ∈ lw_all := lw_g (lw_at lw_m4 102 rfl) rfl
theorem q985 : (Jvm.Cond.code ({ cls := "CityBrigade$Crew", name := "slow", desc := "(I)I" } : Jvm.MethodName) prog_9_method_4_code (2 : Nat) (Option.some Jvm.ClassFile.FieldType.int)) ∈ lw_all := lw_g (lw_at lw_m4 107 rfl) rfl
theorem q986 : (Jvm.Cond.methodLink "CityBrigade$Crew" (46 : Nat) ({ cls := "CityBrigade$Goes", name := "slow", desc := "(I)I" } : Jvm.MethodName)) ∈ lw_all := lw_g (lw_at lw_m4 108 rfl) rfl
theorem q988 : (Jvm.Cond.superclass "CityBrigade$Crew" "java/lang/Object") ∈ lw_all := lw_g (lw_at lw_m4 110 rfl) rfl
theorem q999 : (Jvm.Cond.instanceMethod ({ cls := "CityBrigade$Crew", name := "best", desc := "()I" } : Jvm.MethodName)) ∈ lw_all := lw_g (lw_at lw_m4 121 rfl) rfl
theorem q1000 : (Jvm.Cond.publicMethod ({ cls := "CityBrigade$Crew", name := "best", desc := "()I" } : Jvm.MethodName)) ∈ lw_tbl := lw_at lw_m4 122 rfl
theorem q1001 : (Jvm.Cond.code ({ cls := "CityBrigade$Crew", name := "best", desc := "()I" } : Jvm.MethodName) prog_9_method_3_code (1 : Nat) (Option.some Jvm.ClassFile.FieldType.int)) ∈ lw_all := lw_g (lw_at lw_m4 123 rfl) rfl
theorem q1349 : (Jvm.Cond.declares ({ cls := "CityBrigade$Crew", name := "sort", desc := "()I" } : Jvm.MethodName)) ∈ lw_tbl := lw_at lw_m5 231 rfl
theorem q1350 : (Jvm.Cond.sameMethod "CityBrigade$Crew" "CityBrigade$Crew" "sort" "()I") ∈ lw_all := lw_g (lw_at lw_m5 232 rfl) rfl
theorem q1585 : (Jvm.Cond.instanceMethod ({ cls := "CityBrigade$Crew", name := "tire", desc := "()V" } : Jvm.MethodName)) ∈ lw_all := lw_g (lw_at lw_m6 227 rfl) rfl
theorem q1586 : (Jvm.Cond.sameMethod "CityBrigade$Crew" "CityBrigade$Crew" "tire" "()V") ∈ lw_all := lw_g (lw_at lw_m6 228 rfl) rfl
theorem q1591 : (Jvm.Cond.code ({ cls := "CityBrigade$Crew", name := "tire", desc := "()V" } : Jvm.MethodName) prog_9_method_7_code (1 : Nat) (Option.none : Option Jvm.ClassFile.FieldType)) ∈ lw_all := lw_g (lw_at lw_m6 233 rfl) rfl
theorem q1600 : (Jvm.Cond.methodLink "CityBrigade$Crew" (59 : Nat) ({ cls := "java/lang/Math", name := "min", desc := "(II)I" } : Jvm.MethodName)) ∈ lw_all := lw_g (lw_at lw_m7 2 rfl) rfl
theorem q1601 : (Jvm.Cond.methodLink "CityBrigade$Crew" (65 : Nat) ({ cls := "java/lang/Math", name := "max", desc := "(II)I" } : Jvm.MethodName)) ∈ lw_all := lw_g (lw_at lw_m7 3 rfl) rfl
/-! CityBrigade$Pump -/
set_option maxRecDepth 100000
def RX9 : String := "CityBrigade$Pump"
def TX9 : u_T := fun k => match k with
  | 0 => ("CityBrigade$Crew", "number", "I", true)
  | 1 => ("CityBrigade$Crew", "home", "I", true)
  | 2 => ("CityBrigade$Crew", "best", "I", true)
  | 3 => ("CityBrigade$Crew", "men", "I", true)
  | 4 => ("CityBrigade$Crew", "horses", "Z", true)
  | 5 => ("CityBrigade$Crew", "state", "I", false)
  | 6 => ("CityBrigade$Crew", "post", "I", false)
  | 7 => ("CityBrigade$Crew", "till", "I", false)
  | 8 => ("CityBrigade$Crew", "sent", "I", false)
  | 9 => ("CityBrigade$Crew", "floor", "I", false)
  | 10 => ("CityBrigade$Crew", "tired", "I", false)
  | 11 => ("CityBrigade$Crew", "got", "I", false)
  | 12 => ("CityBrigade$Crew", "began", "I", false)
  | 13 => ("CityBrigade$Crew", "room", "I", false)
  | 14 => ("CityBrigade$Crew", "asks", "I", false)
  | 15 => ("CityBrigade$Crew", "house", "LCityBrigade$House;", false)
  | 16 => ("CityBrigade$Pump", "hose", "I", false)
  | _ => ("CityBrigade$Pump", "gallons", "I", false)
def tyX9 : Nat → FieldType := fun k => match k with
  | 0 => .int
  | 1 => .int
  | 2 => .int
  | 3 => .int
  | 4 => .boolean
  | 5 => .int
  | 6 => .int
  | 7 => .int
  | 8 => .int
  | 9 => .int
  | 10 => .int
  | 11 => .int
  | 12 => .int
  | 13 => .int
  | 14 => .int
  | 15 => .object "CityBrigade$House"
  | 16 => .int
  | _ => .int
abbrev wsX90 : List Cond := u_ws RX9 TX9 18
set_option maxRecDepth 100000 in
theorem nmX9 : ∀ a, a < 18 → ∀ b, b < 18 → a ≠ b → (TX9 a).2.1 ≠ (TX9 b).2.1 := by decide +kernel
set_option maxRecDepth 100000 in
theorem tyX9_ok : ∀ k, k < 18 → parseFieldDescriptor (TX9 k).2.2.1 = some (tyX9 k) := by decide +kernel
abbrev cX9_init : ByteArray := prog_21_method_1_code
def yX9_init : MethodName := ⟨RX9, "<init>", "(IIZII)V"⟩
def dkwX9_init_0 : List UInt8 := [42, 27, 28, 29, 21, 4, 21, 5, 183, 0, 1, 42, 16, 100, 181, 0, 7, 42, 16, 10, 181, 0, 13, 177]
abbrev dktX9_init_0 : List UInt8 := dkwX9_init_0 ++ []
theorem dksX9_init_0 : cX9_init.data.toList.drop 0 = dktX9_init_0 := by decide +kernel
theorem dX9_init_0 : decode cX9_init 0 = .ok (.aload_n 0, 1) := dk_42 (dk_at dksX9_init_0 0 rfl rfl)
theorem dX9_init_1 : decode cX9_init 1 = .ok (.iload_n 1, 1) := dk_27 (dk_at dksX9_init_0 1 rfl rfl)
theorem dX9_init_2 : decode cX9_init 2 = .ok (.iload_n 2, 1) := dk_28 (dk_at dksX9_init_0 2 rfl rfl)
theorem dX9_init_3 : decode cX9_init 3 = .ok (.iload_n 3, 1) := dk_29 (dk_at dksX9_init_0 3 rfl rfl)
theorem dX9_init_4 : decode cX9_init 4 = .ok (.iload 4, 2) := dk_21 4 (dk_at dksX9_init_0 4 rfl rfl)
theorem dX9_init_6 : decode cX9_init 6 = .ok (.iload 5, 2) := dk_21 5 (dk_at dksX9_init_0 6 rfl rfl)
theorem dX9_init_8 : decode cX9_init 8 = .ok (.invokespecial 1, 3) := dk_183 0 1 (dk_at dksX9_init_0 8 rfl rfl)
theorem dX9_init_11 : decode cX9_init 11 = .ok (.aload_n 0, 1) := dk_42 (dk_at dksX9_init_0 11 rfl rfl)
theorem dX9_init_12 : decode cX9_init 12 = .ok (.bipush 100, 2) := dk_16 100 (dk_at dksX9_init_0 12 rfl rfl)
theorem dX9_init_14 : decode cX9_init 14 = .ok (.putfield 7, 3) := dk_181 0 7 (dk_at dksX9_init_0 14 rfl rfl)
theorem dX9_init_17 : decode cX9_init 17 = .ok (.aload_n 0, 1) := dk_42 (dk_at dksX9_init_0 17 rfl rfl)
theorem dX9_init_18 : decode cX9_init 18 = .ok (.bipush 10, 2) := dk_16 10 (dk_at dksX9_init_0 18 rfl rfl)
theorem dX9_init_20 : decode cX9_init 20 = .ok (.putfield 13, 3) := dk_181 0 13 (dk_at dksX9_init_0 20 rfl rfl)
theorem dX9_init_23 : decode cX9_init 23 = .ok (.return_, 1) := dk_177 (dk_at dksX9_init_0 23 rfl rfl)
abbrev cX9_gear : ByteArray := prog_21_method_5_code
def yX9_gear : MethodName := ⟨RX9, "gear", "(III)Z"⟩
def dkwX9_gear_1 : List UInt8 := [29, 153, 0, 5, 3, 172, 42, 27, 181, 0, 7, 42, 28, 181, 0, 13, 4, 172]
abbrev dktX9_gear_1 : List UInt8 := dkwX9_gear_1 ++ []
def dkwX9_gear_0 : List UInt8 := [27, 16, 100, 17, 11, 184, 184, 0, 16, 153, 0, 19, 28, 16, 10, 17, 1, 244, 184, 0, 16, 153, 0, 7]
abbrev dktX9_gear_0 : List UInt8 := dkwX9_gear_0 ++ dktX9_gear_1
theorem dksX9_gear_0 : cX9_gear.data.toList.drop 0 = dktX9_gear_0 := by decide +kernel
theorem dksX9_gear_1 : cX9_gear.data.toList.drop 24 = dktX9_gear_1 := dk_seg dksX9_gear_0 24 rfl rfl
theorem dX9_gear_0 : decode cX9_gear 0 = .ok (.iload_n 1, 1) := dk_27 (dk_at dksX9_gear_0 0 rfl rfl)
theorem dX9_gear_1 : decode cX9_gear 1 = .ok (.bipush 100, 2) := dk_16 100 (dk_at dksX9_gear_0 1 rfl rfl)
theorem dX9_gear_3 : decode cX9_gear 3 = .ok (.sipush 3000, 3) := dk_17 11 184 (dk_at dksX9_gear_0 3 rfl rfl)
theorem dX9_gear_6 : decode cX9_gear 6 = .ok (.invokestatic 16, 3) := dk_184 0 16 (dk_at dksX9_gear_0 6 rfl rfl)
theorem dX9_gear_9 : decode cX9_gear 9 = .ok (.ifCond .eq 19, 3) := dk_153 0 19 (dk_at dksX9_gear_0 9 rfl rfl)
theorem dX9_gear_12 : decode cX9_gear 12 = .ok (.iload_n 2, 1) := dk_28 (dk_at dksX9_gear_0 12 rfl rfl)
theorem dX9_gear_13 : decode cX9_gear 13 = .ok (.bipush 10, 2) := dk_16 10 (dk_at dksX9_gear_0 13 rfl rfl)
theorem dX9_gear_15 : decode cX9_gear 15 = .ok (.sipush 500, 3) := dk_17 1 244 (dk_at dksX9_gear_0 15 rfl rfl)
theorem dX9_gear_18 : decode cX9_gear 18 = .ok (.invokestatic 16, 3) := dk_184 0 16 (dk_at dksX9_gear_0 18 rfl rfl)
theorem dX9_gear_21 : decode cX9_gear 21 = .ok (.ifCond .eq 7, 3) := dk_153 0 7 (dk_at dksX9_gear_0 21 rfl rfl)
theorem dX9_gear_24 : decode cX9_gear 24 = .ok (.iload_n 3, 1) := dk_29 (dk_at dksX9_gear_1 0 rfl rfl)
theorem dX9_gear_25 : decode cX9_gear 25 = .ok (.ifCond .eq 5, 3) := dk_153 0 5 (dk_at dksX9_gear_1 1 rfl rfl)
theorem dX9_gear_28 : decode cX9_gear 28 = .ok (.iconst 0, 1) := dk_3 (dk_at dksX9_gear_1 4 rfl rfl)
theorem dX9_gear_29 : decode cX9_gear 29 = .ok (.ireturn, 1) := dk_172 (dk_at dksX9_gear_1 5 rfl rfl)
theorem dX9_gear_30 : decode cX9_gear 30 = .ok (.aload_n 0, 1) := dk_42 (dk_at dksX9_gear_1 6 rfl rfl)
theorem dX9_gear_31 : decode cX9_gear 31 = .ok (.iload_n 1, 1) := dk_27 (dk_at dksX9_gear_1 7 rfl rfl)
theorem dX9_gear_32 : decode cX9_gear 32 = .ok (.putfield 7, 3) := dk_181 0 7 (dk_at dksX9_gear_1 8 rfl rfl)
theorem dX9_gear_35 : decode cX9_gear 35 = .ok (.aload_n 0, 1) := dk_42 (dk_at dksX9_gear_1 11 rfl rfl)
theorem dX9_gear_36 : decode cX9_gear 36 = .ok (.iload_n 2, 1) := dk_28 (dk_at dksX9_gear_1 12 rfl rfl)
theorem dX9_gear_37 : decode cX9_gear 37 = .ok (.putfield 13, 3) := dk_181 0 13 (dk_at dksX9_gear_1 13 rfl rfl)
theorem dX9_gear_40 : decode cX9_gear 40 = .ok (.iconst 1, 1) := dk_4 (dk_at dksX9_gear_1 16 rfl rfl)
theorem dX9_gear_41 : decode cX9_gear 41 = .ok (.ireturn, 1) := dk_172 (dk_at dksX9_gear_1 17 rfl rfl)
abbrev cX9_hose : ByteArray := prog_21_method_3_code
def yX9_hose : MethodName := ⟨RX9, "hose", "()I"⟩
theorem dX9_hose_0 : decode cX9_hose 0 = .ok (.aload_n 0, 1) := by decide +kernel
theorem dX9_hose_1 : decode cX9_hose 1 = .ok (.getfield 7, 3) := by decide +kernel
theorem dX9_hose_4 : decode cX9_hose 4 = .ok (.ireturn, 1) := by decide +kernel
abbrev cX9_sort : ByteArray := prog_21_method_2_code
def yX9_sort : MethodName := ⟨RX9, "sort", "()I"⟩
theorem dX9_sort_0 : decode cX9_sort 0 = .ok (.iconst 0, 1) := by decide +kernel
theorem dX9_sort_1 : decode cX9_sort 1 = .ok (.ireturn, 1) := by decide +kernel
abbrev cX9_asks : ByteArray := prog_21_method_4_code
def yX9_asks : MethodName := ⟨RX9, "asks", "(I)I"⟩
theorem dX9_asks_0 : decode cX9_asks 0 = .ok (.aload_n 0, 1) := by decide +kernel
theorem dX9_asks_1 : decode cX9_asks 1 = .ok (.getfield 13, 3) := by decide +kernel
theorem dX9_asks_4 : decode cX9_asks 4 = .ok (.ireturn, 1) := by decide +kernel
theorem q171 : (Jvm.Cond.initialized "CityBrigade$Pump") ∈ lw_all := lw_g (lw_at lw_m1 13 rfl) rfl
theorem q774 : (Jvm.Cond.instantiable "CityBrigade$Pump" (18 : Nat)) ∈ lw_all := lw_g (lw_at lw_m3 136 rfl) rfl
theorem q776 : (Jvm.Cond.instanceMethod ({ cls := "CityBrigade$Pump", name := "<init>", desc := "(IIZII)V" } : Jvm.MethodName)) ∈ lw_all := lw_g (lw_at lw_m3 138 rfl) rfl
theorem q777 : (Jvm.Cond.code ({ cls := "CityBrigade$Pump", name := "<init>", desc := "(IIZII)V" } : Jvm.MethodName) prog_21_method_1_code (6 : Nat) (Option.none : Option Jvm.ClassFile.FieldType)) ∈ lw_all := lw_g (lw_at lw_m3 139 rfl) rfl
theorem q778 : (Jvm.Cond.methodLink "CityBrigade$Pump" (1 : Nat) ({ cls := "CityBrigade$Crew", name := "<init>", desc := "(IIZII)V" } : Jvm.MethodName)) ∈ lw_all := lw_g (lw_at lw_m3 140 rfl) rfl
theorem q782 : (Jvm.Cond.fieldLink "CityBrigade$Pump" (7 : Nat) "CityBrigade$Pump" "hose" "I") ∈ lw_all := lw_g (lw_at lw_m3 144 rfl) rfl
theorem q783 : (Jvm.Cond.fieldLink "CityBrigade$Pump" (13 : Nat) "CityBrigade$Pump" "gallons" "I") ∈ lw_all := lw_g (lw_at lw_m3 145 rfl) rfl
theorem q812 : (Jvm.Cond.lays "CityBrigade$Pump" "CityBrigade$Pump" "hose" "I") ∈ lw_all := lw_g (lw_at lw_m3 174 rfl) rfl
theorem q813 : (Jvm.Cond.soleField "CityBrigade$Pump" "hose") ∈ lw_all := lw_g (lw_at lw_m3 175 rfl) rfl
theorem q814 : (Jvm.Cond.lays "CityBrigade$Pump" "CityBrigade$Pump" "gallons" "I") ∈ lw_all := lw_g (lw_at lw_m3 176 rfl) rfl
theorem q815 : (Jvm.Cond.soleField "CityBrigade$Pump" "gallons") ∈ lw_all := lw_g (lw_at lw_m3 177 rfl) rfl
theorem q816 : (Jvm.Cond.laysFinal "CityBrigade$Pump" "CityBrigade$Crew" "number" "I") ∈ lw_all := lw_g (lw_at lw_m3 178 rfl) rfl
theorem q818 : (Jvm.Cond.laysFinal "CityBrigade$Pump" "CityBrigade$Crew" "home" "I") ∈ lw_all := lw_g (lw_at lw_m3 180 rfl) rfl
theorem q820 : (Jvm.Cond.laysFinal "CityBrigade$Pump" "CityBrigade$Crew" "best" "I") ∈ lw_all := lw_g (lw_at lw_m3 182 rfl) rfl
theorem q822 : (Jvm.Cond.laysFinal "CityBrigade$Pump" "CityBrigade$Crew" "men" "I") ∈ lw_all := lw_g (lw_at lw_m3 184 rfl) rfl
theorem q824 : (Jvm.Cond.laysFinal "CityBrigade$Pump" "CityBrigade$Crew" "horses" "Z") ∈ lw_all := lw_g (lw_at lw_m3 186 rfl) rfl
theorem q826 : (Jvm.Cond.lays "CityBrigade$Pump" "CityBrigade$Crew" "state" "I") ∈ lw_all := lw_g (lw_at lw_m3 188 rfl) rfl
theorem q828 : (Jvm.Cond.lays "CityBrigade$Pump" "CityBrigade$Crew" "post" "I") ∈ lw_all := lw_g (lw_at lw_m3 190 rfl) rfl
theorem q830 : (Jvm.Cond.lays "CityBrigade$Pump" "CityBrigade$Crew" "till" "I") ∈ lw_all := lw_g (lw_at lw_m3 192 rfl) rfl
theorem q832 : (Jvm.Cond.lays "CityBrigade$Pump" "CityBrigade$Crew" "sent" "I") ∈ lw_all := lw_g (lw_at lw_m3 194 rfl) rfl
theorem q834 : (Jvm.Cond.lays "CityBrigade$Pump" "CityBrigade$Crew" "floor" "I") ∈ lw_all := lw_g (lw_at lw_m3 196 rfl) rfl
theorem q836 : (Jvm.Cond.lays "CityBrigade$Pump" "CityBrigade$Crew" "tired" "I") ∈ lw_all := lw_g (lw_at lw_m3 198 rfl) rfl
theorem q838 : (Jvm.Cond.lays "CityBrigade$Pump" "CityBrigade$Crew" "got" "I") ∈ lw_all := lw_g (lw_at lw_m3 200 rfl) rfl
theorem q840 : (Jvm.Cond.lays "CityBrigade$Pump" "CityBrigade$Crew" "began" "I") ∈ lw_all := lw_g (lw_at lw_m3 202 rfl) rfl
theorem q842 : (Jvm.Cond.lays "CityBrigade$Pump" "CityBrigade$Crew" "room" "I") ∈ lw_all := lw_g (lw_at lw_m3 204 rfl) rfl
theorem q844 : (Jvm.Cond.lays "CityBrigade$Pump" "CityBrigade$Crew" "asks" "I") ∈ lw_all := lw_g (lw_at lw_m3 206 rfl) rfl
theorem q846 : (Jvm.Cond.lays "CityBrigade$Pump" "CityBrigade$Crew" "house" "LCityBrigade$House;") ∈ lw_all := lw_g (lw_at lw_m3 208 rfl) rfl
theorem q848 : (Jvm.Cond.superclass "CityBrigade$Pump" "CityBrigade$Crew") ∈ lw_all := lw_g (lw_at lw_m3 210 rfl) rfl
theorem q945 : (Jvm.Cond.selects "CityBrigade$Pump" ({ cls := "CityBrigade$Crew", name := "gear", desc := "(III)Z" } : Jvm.MethodName) ({ cls := "CityBrigade$Pump", name := "gear", desc := "(III)Z" } : Jvm.MethodName)) ∈ lw_all := lw_g (lw_at lw_m4 67 rfl) rfl
theorem q946 : (Jvm.Cond.instanceMethod ({ cls := "CityBrigade$Pump", name := "gear", desc := "(III)Z" } : Jvm.MethodName)) ∈ lw_all := lw_g (lw_at lw_m4 68 rfl) rfl
theorem q947 : (Jvm.Cond.code ({ cls := "CityBrigade$Pump", name := "gear", desc := "(III)Z" } : Jvm.MethodName) prog_21_method_5_code (4 : Nat) (Option.some Jvm.ClassFile.FieldType.boolean)) ∈ lw_all := lw_g (lw_at lw_m4 69 rfl) rfl
theorem q948 : (Jvm.Cond.methodLinkNest "CityBrigade$Pump" (16 : Nat) ({ cls := "CityBrigade", name := "in", desc := "(III)Z" } : Jvm.MethodName) "CityBrigade") ∈ lw_tbl := lw_at lw_m4 70 rfl
theorem q975 : (Jvm.Cond.selects "CityBrigade$Pump" ({ cls := "CityBrigade$Crew", name := "slowNow", desc := "()I" } : Jvm.MethodName) ({ cls := "CityBrigade$Crew", name := "slowNow", desc := "()I" } : Jvm.MethodName)) ∈ lw_all := lw_g (lw_at lw_m4 97 rfl) rfl
theorem q983 : (Jvm.Cond.selects "CityBrigade$Pump" ({ cls := "CityBrigade$Crew", name := "slow", desc := "(I)I" } : Jvm.MethodName) ({ cls := "CityBrigade$Crew", name := "slow", desc := "(I)I" } : Jvm.MethodName)) ∈ lw_all := lw_g (lw_at lw_m4 105 rfl) rfl
theorem q1005 : (Jvm.Cond.castable "CityBrigade$Pump" "CityBrigade$Goes") ∈ lw_tbl := lw_at lw_m4 127 rfl
theorem q1006 : (Jvm.Cond.selects "CityBrigade$Pump" ({ cls := "CityBrigade$Goes", name := "best", desc := "()I" } : Jvm.MethodName) ({ cls := "CityBrigade$Crew", name := "best", desc := "()I" } : Jvm.MethodName)) ∈ lw_all := lw_g (lw_at lw_m4 128 rfl) rfl
theorem q1007 : (Jvm.Cond.unhidden "CityBrigade$Pump" "best" "()I") ∈ lw_tbl := lw_at lw_m4 129 rfl
theorem q1028 : (Jvm.Cond.castable "CityBrigade$Pump" "CityBrigade$Gives") ∈ lw_tbl := lw_at lw_m4 150 rfl
theorem q1029 : (Jvm.Cond.selects "CityBrigade$Pump" ({ cls := "CityBrigade$Gives", name := "hose", desc := "()I" } : Jvm.MethodName) ({ cls := "CityBrigade$Pump", name := "hose", desc := "()I" } : Jvm.MethodName)) ∈ lw_all := lw_g (lw_at lw_m4 151 rfl) rfl
theorem q1030 : (Jvm.Cond.unhidden "CityBrigade$Pump" "hose" "()I") ∈ lw_tbl := lw_at lw_m4 152 rfl
theorem q1031 : (Jvm.Cond.instanceMethod ({ cls := "CityBrigade$Pump", name := "hose", desc := "()I" } : Jvm.MethodName)) ∈ lw_all := lw_g (lw_at lw_m4 153 rfl) rfl
theorem q1032 : (Jvm.Cond.publicMethod ({ cls := "CityBrigade$Pump", name := "hose", desc := "()I" } : Jvm.MethodName)) ∈ lw_tbl := lw_at lw_m4 154 rfl
theorem q1033 : (Jvm.Cond.code ({ cls := "CityBrigade$Pump", name := "hose", desc := "()I" } : Jvm.MethodName) prog_21_method_3_code (1 : Nat) (Option.some Jvm.ClassFile.FieldType.int)) ∈ lw_all := lw_g (lw_at lw_m4 155 rfl) rfl
theorem q1357 : (Jvm.Cond.selects "CityBrigade$Pump" ({ cls := "CityBrigade$Crew", name := "sort", desc := "()I" } : Jvm.MethodName) ({ cls := "CityBrigade$Pump", name := "sort", desc := "()I" } : Jvm.MethodName)) ∈ lw_all := lw_g (lw_at lw_m5 239 rfl) rfl
theorem q1358 : (Jvm.Cond.instanceMethod ({ cls := "CityBrigade$Pump", name := "sort", desc := "()I" } : Jvm.MethodName)) ∈ lw_all := lw_g (lw_at lw_m6 0 rfl) rfl
theorem q1359 : (Jvm.Cond.code ({ cls := "CityBrigade$Pump", name := "sort", desc := "()I" } : Jvm.MethodName) prog_21_method_2_code (1 : Nat) (Option.some Jvm.ClassFile.FieldType.int)) ∈ lw_all := lw_g (lw_at lw_m6 1 rfl) rfl
theorem q1521 : (Jvm.Cond.selects "CityBrigade$Pump" ({ cls := "CityBrigade$Gives", name := "asks", desc := "(I)I" } : Jvm.MethodName) ({ cls := "CityBrigade$Pump", name := "asks", desc := "(I)I" } : Jvm.MethodName)) ∈ lw_all := lw_g (lw_at lw_m6 163 rfl) rfl
theorem q1522 : (Jvm.Cond.unhidden "CityBrigade$Pump" "asks" "(I)I") ∈ lw_tbl := lw_at lw_m6 164 rfl
theorem q1523 : (Jvm.Cond.instanceMethod ({ cls := "CityBrigade$Pump", name := "asks", desc := "(I)I" } : Jvm.MethodName)) ∈ lw_all := lw_g (lw_at lw_m6 165 rfl) rfl
theorem q1524 : (Jvm.Cond.publicMethod ({ cls := "CityBrigade$Pump", name := "asks", desc := "(I)I" } : Jvm.MethodName)) ∈ lw_tbl := lw_at lw_m6 166 rfl
theorem q1525 : (Jvm.Cond.code ({ cls := "CityBrigade$Pump", name := "asks", desc := "(I)I" } : Jvm.MethodName) prog_21_method_4_code (2 : Nat) (Option.some Jvm.ClassFile.FieldType.int)) ∈ lw_all := lw_g (lw_at lw_m6 167 rfl) rfl
theorem q1589 : (Jvm.Cond.selects "CityBrigade$Pump" ({ cls := "CityBrigade$Crew", name := "tire", desc := "()V" } : Jvm.MethodName) ({ cls := "CityBrigade$Crew", name := "tire", desc := "()V" } : Jvm.MethodName)) ∈ lw_all := lw_g (lw_at lw_m6 231 rfl) rfl
theorem q1595 : (Jvm.Cond.unhidden "CityBrigade$Pump" "more" "(I)I") ∈ lw_tbl := lw_at lw_m6 237 rfl
theorem q2844 : (Jvm.Cond.sameMethod "CityBrigade$Pump" "CityBrigade$Pump" "gear" "(III)Z") ∈ lw_all := lw_g (lw_at lw_m12 46 rfl) rfl
theorem q2845 : (Jvm.Cond.sameMethod "CityBrigade$Pump" "CityBrigade$Pump" "asks" "(I)I") ∈ lw_all := lw_g (lw_at lw_m12 47 rfl) rfl
theorem q2855 : (Jvm.Cond.castable "CityBrigade$Pump" "java/lang/Object") ∈ lw_tbl := lw_at lw_m12 57 rfl
theorem q2875 : (Jvm.Cond.castable "CityBrigade$Pump" "CityBrigade$Crew") ∈ lw_tbl := lw_at lw_m12 77 rfl
theorem in_X9 : ∀ w ∈ wsX90, w ∈ lw_all := lw_in wsX90 [816, 818, 820, 822, 824, 826, 828, 830, 832, 834, 836, 838, 840, 842, 844, 846, 812, 814] (by decide +kernel) (by decide +kernel)
/-! CityBrigade$Steamer -/
set_option maxRecDepth 100000
def RX10 : String := "CityBrigade$Steamer"
def TX10 : u_T := fun k => match k with
  | 0 => ("CityBrigade$Crew", "number", "I", true)
  | 1 => ("CityBrigade$Crew", "home", "I", true)
  | 2 => ("CityBrigade$Crew", "best", "I", true)
  | 3 => ("CityBrigade$Crew", "men", "I", true)
  | 4 => ("CityBrigade$Crew", "horses", "Z", true)
  | 5 => ("CityBrigade$Crew", "state", "I", false)
  | 6 => ("CityBrigade$Crew", "post", "I", false)
  | 7 => ("CityBrigade$Crew", "till", "I", false)
  | 8 => ("CityBrigade$Crew", "sent", "I", false)
  | 9 => ("CityBrigade$Crew", "floor", "I", false)
  | 10 => ("CityBrigade$Crew", "tired", "I", false)
  | 11 => ("CityBrigade$Crew", "got", "I", false)
  | 12 => ("CityBrigade$Crew", "began", "I", false)
  | 13 => ("CityBrigade$Crew", "room", "I", false)
  | 14 => ("CityBrigade$Crew", "asks", "I", false)
  | 15 => ("CityBrigade$Crew", "house", "LCityBrigade$House;", false)
  | 16 => ("CityBrigade$Pump", "hose", "I", false)
  | 17 => ("CityBrigade$Pump", "gallons", "I", false)
  | _ => ("CityBrigade$Steamer", "pressure", "I", false)
def tyX10 : Nat → FieldType := fun k => match k with
  | 0 => .int
  | 1 => .int
  | 2 => .int
  | 3 => .int
  | 4 => .boolean
  | 5 => .int
  | 6 => .int
  | 7 => .int
  | 8 => .int
  | 9 => .int
  | 10 => .int
  | 11 => .int
  | 12 => .int
  | 13 => .int
  | 14 => .int
  | 15 => .object "CityBrigade$House"
  | 16 => .int
  | 17 => .int
  | _ => .int
abbrev wsX100 : List Cond := u_ws RX10 TX10 19
set_option maxRecDepth 100000 in
theorem nmX10 : ∀ a, a < 19 → ∀ b, b < 19 → a ≠ b → (TX10 a).2.1 ≠ (TX10 b).2.1 := by decide +kernel
set_option maxRecDepth 100000 in
theorem tyX10_ok : ∀ k, k < 19 → parseFieldDescriptor (TX10 k).2.2.1 = some (tyX10 k) := by decide +kernel
abbrev cX10_init : ByteArray := prog_24_method_1_code
def yX10_init : MethodName := ⟨RX10, "<init>", "(IIZII)V"⟩
def dkwX10_init_0 : List UInt8 := [42, 27, 28, 29, 21, 4, 21, 5, 183, 0, 1, 42, 4, 181, 0, 7, 177]
abbrev dktX10_init_0 : List UInt8 := dkwX10_init_0 ++ []
theorem dksX10_init_0 : cX10_init.data.toList.drop 0 = dktX10_init_0 := by decide +kernel
theorem dX10_init_0 : decode cX10_init 0 = .ok (.aload_n 0, 1) := dk_42 (dk_at dksX10_init_0 0 rfl rfl)
theorem dX10_init_1 : decode cX10_init 1 = .ok (.iload_n 1, 1) := dk_27 (dk_at dksX10_init_0 1 rfl rfl)
theorem dX10_init_2 : decode cX10_init 2 = .ok (.iload_n 2, 1) := dk_28 (dk_at dksX10_init_0 2 rfl rfl)
theorem dX10_init_3 : decode cX10_init 3 = .ok (.iload_n 3, 1) := dk_29 (dk_at dksX10_init_0 3 rfl rfl)
theorem dX10_init_4 : decode cX10_init 4 = .ok (.iload 4, 2) := dk_21 4 (dk_at dksX10_init_0 4 rfl rfl)
theorem dX10_init_6 : decode cX10_init 6 = .ok (.iload 5, 2) := dk_21 5 (dk_at dksX10_init_0 6 rfl rfl)
theorem dX10_init_8 : decode cX10_init 8 = .ok (.invokespecial 1, 3) := dk_183 0 1 (dk_at dksX10_init_0 8 rfl rfl)
theorem dX10_init_11 : decode cX10_init 11 = .ok (.aload_n 0, 1) := dk_42 (dk_at dksX10_init_0 11 rfl rfl)
theorem dX10_init_12 : decode cX10_init 12 = .ok (.iconst 1, 1) := dk_4 (dk_at dksX10_init_0 12 rfl rfl)
theorem dX10_init_13 : decode cX10_init 13 = .ok (.putfield 7, 3) := dk_181 0 7 (dk_at dksX10_init_0 13 rfl rfl)
theorem dX10_init_16 : decode cX10_init 16 = .ok (.return_, 1) := dk_177 (dk_at dksX10_init_0 16 rfl rfl)
abbrev cX10_gear : ByteArray := prog_24_method_4_code
def yX10_gear : MethodName := ⟨RX10, "gear", "(III)Z"⟩
def dkwX10_gear_1 : List UInt8 := [181, 0, 7, 4, 172]
abbrev dktX10_gear_1 : List UInt8 := dkwX10_gear_1 ++ []
def dkwX10_gear_0 : List UInt8 := [29, 4, 16, 30, 184, 0, 17, 153, 0, 13, 42, 27, 28, 3, 183, 0, 23, 154, 0, 5, 3, 172, 42, 29]
abbrev dktX10_gear_0 : List UInt8 := dkwX10_gear_0 ++ dktX10_gear_1
theorem dksX10_gear_0 : cX10_gear.data.toList.drop 0 = dktX10_gear_0 := by decide +kernel
theorem dksX10_gear_1 : cX10_gear.data.toList.drop 24 = dktX10_gear_1 := dk_seg dksX10_gear_0 24 rfl rfl
theorem dX10_gear_0 : decode cX10_gear 0 = .ok (.iload_n 3, 1) := dk_29 (dk_at dksX10_gear_0 0 rfl rfl)
theorem dX10_gear_1 : decode cX10_gear 1 = .ok (.iconst 1, 1) := dk_4 (dk_at dksX10_gear_0 1 rfl rfl)
theorem dX10_gear_2 : decode cX10_gear 2 = .ok (.bipush 30, 2) := dk_16 30 (dk_at dksX10_gear_0 2 rfl rfl)
theorem dX10_gear_4 : decode cX10_gear 4 = .ok (.invokestatic 17, 3) := dk_184 0 17 (dk_at dksX10_gear_0 4 rfl rfl)
theorem dX10_gear_7 : decode cX10_gear 7 = .ok (.ifCond .eq 13, 3) := dk_153 0 13 (dk_at dksX10_gear_0 7 rfl rfl)
theorem dX10_gear_10 : decode cX10_gear 10 = .ok (.aload_n 0, 1) := dk_42 (dk_at dksX10_gear_0 10 rfl rfl)
theorem dX10_gear_11 : decode cX10_gear 11 = .ok (.iload_n 1, 1) := dk_27 (dk_at dksX10_gear_0 11 rfl rfl)
theorem dX10_gear_12 : decode cX10_gear 12 = .ok (.iload_n 2, 1) := dk_28 (dk_at dksX10_gear_0 12 rfl rfl)
theorem dX10_gear_13 : decode cX10_gear 13 = .ok (.iconst 0, 1) := dk_3 (dk_at dksX10_gear_0 13 rfl rfl)
theorem dX10_gear_14 : decode cX10_gear 14 = .ok (.invokespecial 23, 3) := dk_183 0 23 (dk_at dksX10_gear_0 14 rfl rfl)
theorem dX10_gear_17 : decode cX10_gear 17 = .ok (.ifCond .ne 5, 3) := dk_154 0 5 (dk_at dksX10_gear_0 17 rfl rfl)
theorem dX10_gear_20 : decode cX10_gear 20 = .ok (.iconst 0, 1) := dk_3 (dk_at dksX10_gear_0 20 rfl rfl)
theorem dX10_gear_21 : decode cX10_gear 21 = .ok (.ireturn, 1) := dk_172 (dk_at dksX10_gear_0 21 rfl rfl)
theorem dX10_gear_22 : decode cX10_gear 22 = .ok (.aload_n 0, 1) := dk_42 (dk_at dksX10_gear_0 22 rfl rfl)
theorem dX10_gear_23 : decode cX10_gear 23 = .ok (.iload_n 3, 1) := dk_29 (dk_at dksX10_gear_0 23 rfl rfl)
theorem dX10_gear_24 : decode cX10_gear 24 = .ok (.putfield 7, 3) := dk_181 0 7 (dk_at dksX10_gear_1 0 rfl rfl)
theorem dX10_gear_27 : decode cX10_gear 27 = .ok (.iconst 1, 1) := dk_4 (dk_at dksX10_gear_1 3 rfl rfl)
theorem dX10_gear_28 : decode cX10_gear 28 = .ok (.ireturn, 1) := dk_172 (dk_at dksX10_gear_1 4 rfl rfl)
abbrev cX10_sort : ByteArray := prog_24_method_2_code
def yX10_sort : MethodName := ⟨RX10, "sort", "()I"⟩
theorem dX10_sort_0 : decode cX10_sort 0 = .ok (.iconst 1, 1) := by decide +kernel
theorem dX10_sort_1 : decode cX10_sort 1 = .ok (.ireturn, 1) := by decide +kernel
abbrev cX10_asks : ByteArray := prog_24_method_3_code
def yX10_asks : MethodName := ⟨RX10, "asks", "(I)I"⟩
def dkwX10_asks_0 : List UInt8 := [27, 42, 180, 0, 7, 162, 0, 7, 3, 167, 0, 8, 42, 27, 183, 0, 13, 172]
abbrev dktX10_asks_0 : List UInt8 := dkwX10_asks_0 ++ []
theorem dksX10_asks_0 : cX10_asks.data.toList.drop 0 = dktX10_asks_0 := by decide +kernel
theorem dX10_asks_0 : decode cX10_asks 0 = .ok (.iload_n 1, 1) := dk_27 (dk_at dksX10_asks_0 0 rfl rfl)
theorem dX10_asks_1 : decode cX10_asks 1 = .ok (.aload_n 0, 1) := dk_42 (dk_at dksX10_asks_0 1 rfl rfl)
theorem dX10_asks_2 : decode cX10_asks 2 = .ok (.getfield 7, 3) := dk_180 0 7 (dk_at dksX10_asks_0 2 rfl rfl)
theorem dX10_asks_5 : decode cX10_asks 5 = .ok (.if_icmp .ge 7, 3) := dk_162 0 7 (dk_at dksX10_asks_0 5 rfl rfl)
theorem dX10_asks_8 : decode cX10_asks 8 = .ok (.iconst 0, 1) := dk_3 (dk_at dksX10_asks_0 8 rfl rfl)
theorem dX10_asks_9 : decode cX10_asks 9 = .ok (.goto 8, 3) := dk_167 0 8 (dk_at dksX10_asks_0 9 rfl rfl)
theorem dX10_asks_12 : decode cX10_asks 12 = .ok (.aload_n 0, 1) := dk_42 (dk_at dksX10_asks_0 12 rfl rfl)
theorem dX10_asks_13 : decode cX10_asks 13 = .ok (.iload_n 1, 1) := dk_27 (dk_at dksX10_asks_0 13 rfl rfl)
theorem dX10_asks_14 : decode cX10_asks 14 = .ok (.invokespecial 13, 3) := dk_183 0 13 (dk_at dksX10_asks_0 14 rfl rfl)
theorem dX10_asks_17 : decode cX10_asks 17 = .ok (.ireturn, 1) := dk_172 (dk_at dksX10_asks_0 17 rfl rfl)
theorem q172 : (Jvm.Cond.initialized "CityBrigade$Steamer") ∈ lw_all := lw_g (lw_at lw_m1 14 rfl) rfl
theorem q850 : (Jvm.Cond.instantiable "CityBrigade$Steamer" (19 : Nat)) ∈ lw_all := lw_g (lw_at lw_m3 212 rfl) rfl
theorem q852 : (Jvm.Cond.instanceMethod ({ cls := "CityBrigade$Steamer", name := "<init>", desc := "(IIZII)V" } : Jvm.MethodName)) ∈ lw_all := lw_g (lw_at lw_m3 214 rfl) rfl
theorem q853 : (Jvm.Cond.code ({ cls := "CityBrigade$Steamer", name := "<init>", desc := "(IIZII)V" } : Jvm.MethodName) prog_24_method_1_code (6 : Nat) (Option.none : Option Jvm.ClassFile.FieldType)) ∈ lw_all := lw_g (lw_at lw_m3 215 rfl) rfl
theorem q854 : (Jvm.Cond.methodLink "CityBrigade$Steamer" (1 : Nat) ({ cls := "CityBrigade$Pump", name := "<init>", desc := "(IIZII)V" } : Jvm.MethodName)) ∈ lw_all := lw_g (lw_at lw_m3 216 rfl) rfl
theorem q855 : (Jvm.Cond.fieldLink "CityBrigade$Steamer" (7 : Nat) "CityBrigade$Steamer" "pressure" "I") ∈ lw_all := lw_g (lw_at lw_m3 217 rfl) rfl
theorem q856 : (Jvm.Cond.lays "CityBrigade$Steamer" "CityBrigade$Steamer" "pressure" "I") ∈ lw_all := lw_g (lw_at lw_m3 218 rfl) rfl
theorem q857 : (Jvm.Cond.soleField "CityBrigade$Steamer" "pressure") ∈ lw_all := lw_g (lw_at lw_m3 219 rfl) rfl
theorem q858 : (Jvm.Cond.lays "CityBrigade$Steamer" "CityBrigade$Pump" "hose" "I") ∈ lw_all := lw_g (lw_at lw_m3 220 rfl) rfl
theorem q859 : (Jvm.Cond.lays "CityBrigade$Steamer" "CityBrigade$Pump" "gallons" "I") ∈ lw_all := lw_g (lw_at lw_m3 221 rfl) rfl
theorem q860 : (Jvm.Cond.laysFinal "CityBrigade$Steamer" "CityBrigade$Crew" "number" "I") ∈ lw_all := lw_g (lw_at lw_m3 222 rfl) rfl
theorem q861 : (Jvm.Cond.laysFinal "CityBrigade$Steamer" "CityBrigade$Crew" "home" "I") ∈ lw_all := lw_g (lw_at lw_m3 223 rfl) rfl
theorem q862 : (Jvm.Cond.laysFinal "CityBrigade$Steamer" "CityBrigade$Crew" "best" "I") ∈ lw_all := lw_g (lw_at lw_m3 224 rfl) rfl
theorem q863 : (Jvm.Cond.laysFinal "CityBrigade$Steamer" "CityBrigade$Crew" "men" "I") ∈ lw_all := lw_g (lw_at lw_m3 225 rfl) rfl
theorem q864 : (Jvm.Cond.laysFinal "CityBrigade$Steamer" "CityBrigade$Crew" "horses" "Z") ∈ lw_all := lw_g (lw_at lw_m3 226 rfl) rfl
theorem q865 : (Jvm.Cond.lays "CityBrigade$Steamer" "CityBrigade$Crew" "state" "I") ∈ lw_all := lw_g (lw_at lw_m3 227 rfl) rfl
theorem q866 : (Jvm.Cond.lays "CityBrigade$Steamer" "CityBrigade$Crew" "post" "I") ∈ lw_all := lw_g (lw_at lw_m3 228 rfl) rfl
theorem q867 : (Jvm.Cond.lays "CityBrigade$Steamer" "CityBrigade$Crew" "till" "I") ∈ lw_all := lw_g (lw_at lw_m3 229 rfl) rfl
theorem q868 : (Jvm.Cond.lays "CityBrigade$Steamer" "CityBrigade$Crew" "sent" "I") ∈ lw_all := lw_g (lw_at lw_m3 230 rfl) rfl
theorem q869 : (Jvm.Cond.lays "CityBrigade$Steamer" "CityBrigade$Crew" "floor" "I") ∈ lw_all := lw_g (lw_at lw_m3 231 rfl) rfl
theorem q870 : (Jvm.Cond.lays "CityBrigade$Steamer" "CityBrigade$Crew" "tired" "I") ∈ lw_all := lw_g (lw_at lw_m3 232 rfl) rfl
theorem q871 : (Jvm.Cond.lays "CityBrigade$Steamer" "CityBrigade$Crew" "got" "I") ∈ lw_all := lw_g (lw_at lw_m3 233 rfl) rfl
theorem q872 : (Jvm.Cond.lays "CityBrigade$Steamer" "CityBrigade$Crew" "began" "I") ∈ lw_all := lw_g (lw_at lw_m3 234 rfl) rfl
theorem q873 : (Jvm.Cond.lays "CityBrigade$Steamer" "CityBrigade$Crew" "room" "I") ∈ lw_all := lw_g (lw_at lw_m3 235 rfl) rfl
theorem q874 : (Jvm.Cond.lays "CityBrigade$Steamer" "CityBrigade$Crew" "asks" "I") ∈ lw_all := lw_g (lw_at lw_m3 236 rfl) rfl
theorem q875 : (Jvm.Cond.lays "CityBrigade$Steamer" "CityBrigade$Crew" "house" "LCityBrigade$House;") ∈ lw_all := lw_g (lw_at lw_m3 237 rfl) rfl
theorem q876 : (Jvm.Cond.superclass "CityBrigade$Steamer" "CityBrigade$Pump") ∈ lw_all := lw_g (lw_at lw_m3 238 rfl) rfl
theorem q949 : (Jvm.Cond.selects "CityBrigade$Steamer" ({ cls := "CityBrigade$Crew", name := "gear", desc := "(III)Z" } : Jvm.MethodName) ({ cls := "CityBrigade$Steamer", name := "gear", desc := "(III)Z" } : Jvm.MethodName)) ∈ lw_all := lw_g (lw_at lw_m4 71 rfl) rfl
theorem q950 : (Jvm.Cond.instanceMethod ({ cls := "CityBrigade$Steamer", name := "gear", desc := "(III)Z" } : Jvm.MethodName)) ∈ lw_all := lw_g (lw_at lw_m4 72 rfl) rfl
theorem q951 : (Jvm.Cond.code ({ cls := "CityBrigade$Steamer", name := "gear", desc := "(III)Z" } : Jvm.MethodName) prog_24_method_4_code (4 : Nat) (Option.some Jvm.ClassFile.FieldType.boolean)) ∈ lw_all := lw_g (lw_at lw_m4 73 rfl) rfl
theorem q952 : (Jvm.Cond.methodLinkNest "CityBrigade$Steamer" (17 : Nat) ({ cls := "CityBrigade", name := "in", desc := "(III)Z" } : Jvm.MethodName) "CityBrigade") ∈ lw_tbl := lw_at lw_m4 74 rfl
theorem q953 : (Jvm.Cond.methodLink "CityBrigade$Steamer" (23 : Nat) ({ cls := "CityBrigade$Pump", name := "gear", desc := "(III)Z" } : Jvm.MethodName)) ∈ lw_all := lw_g (lw_at lw_m4 75 rfl) rfl
theorem q976 : (Jvm.Cond.selects "CityBrigade$Steamer" ({ cls := "CityBrigade$Crew", name := "slowNow", desc := "()I" } : Jvm.MethodName) ({ cls := "CityBrigade$Crew", name := "slowNow", desc := "()I" } : Jvm.MethodName)) ∈ lw_all := lw_g (lw_at lw_m4 98 rfl) rfl
theorem q984 : (Jvm.Cond.selects "CityBrigade$Steamer" ({ cls := "CityBrigade$Crew", name := "slow", desc := "(I)I" } : Jvm.MethodName) ({ cls := "CityBrigade$Crew", name := "slow", desc := "(I)I" } : Jvm.MethodName)) ∈ lw_all := lw_g (lw_at lw_m4 106 rfl) rfl
theorem q1008 : (Jvm.Cond.castable "CityBrigade$Steamer" "CityBrigade$Goes") ∈ lw_tbl := lw_at lw_m4 130 rfl
theorem q1009 : (Jvm.Cond.selects "CityBrigade$Steamer" ({ cls := "CityBrigade$Goes", name := "best", desc := "()I" } : Jvm.MethodName) ({ cls := "CityBrigade$Crew", name := "best", desc := "()I" } : Jvm.MethodName)) ∈ lw_all := lw_g (lw_at lw_m4 131 rfl) rfl
theorem q1010 : (Jvm.Cond.unhidden "CityBrigade$Steamer" "best" "()I") ∈ lw_tbl := lw_at lw_m4 132 rfl
theorem q1034 : (Jvm.Cond.castable "CityBrigade$Steamer" "CityBrigade$Gives") ∈ lw_tbl := lw_at lw_m4 156 rfl
theorem q1035 : (Jvm.Cond.selects "CityBrigade$Steamer" ({ cls := "CityBrigade$Gives", name := "hose", desc := "()I" } : Jvm.MethodName) ({ cls := "CityBrigade$Pump", name := "hose", desc := "()I" } : Jvm.MethodName)) ∈ lw_all := lw_g (lw_at lw_m4 157 rfl) rfl
theorem q1036 : (Jvm.Cond.unhidden "CityBrigade$Steamer" "hose" "()I") ∈ lw_tbl := lw_at lw_m4 158 rfl
theorem q1360 : (Jvm.Cond.selects "CityBrigade$Steamer" ({ cls := "CityBrigade$Crew", name := "sort", desc := "()I" } : Jvm.MethodName) ({ cls := "CityBrigade$Steamer", name := "sort", desc := "()I" } : Jvm.MethodName)) ∈ lw_all := lw_g (lw_at lw_m6 2 rfl) rfl
theorem q1361 : (Jvm.Cond.instanceMethod ({ cls := "CityBrigade$Steamer", name := "sort", desc := "()I" } : Jvm.MethodName)) ∈ lw_all := lw_g (lw_at lw_m6 3 rfl) rfl
theorem q1362 : (Jvm.Cond.code ({ cls := "CityBrigade$Steamer", name := "sort", desc := "()I" } : Jvm.MethodName) prog_24_method_2_code (1 : Nat) (Option.some Jvm.ClassFile.FieldType.int)) ∈ lw_all := lw_g (lw_at lw_m6 4 rfl) rfl
theorem q1526 : (Jvm.Cond.selects "CityBrigade$Steamer" ({ cls := "CityBrigade$Gives", name := "asks", desc := "(I)I" } : Jvm.MethodName) ({ cls := "CityBrigade$Steamer", name := "asks", desc := "(I)I" } : Jvm.MethodName)) ∈ lw_all := lw_g (lw_at lw_m6 168 rfl) rfl
theorem q1527 : (Jvm.Cond.unhidden "CityBrigade$Steamer" "asks" "(I)I") ∈ lw_tbl := lw_at lw_m6 169 rfl
theorem q1528 : (Jvm.Cond.instanceMethod ({ cls := "CityBrigade$Steamer", name := "asks", desc := "(I)I" } : Jvm.MethodName)) ∈ lw_all := lw_g (lw_at lw_m6 170 rfl) rfl
theorem q1529 : (Jvm.Cond.publicMethod ({ cls := "CityBrigade$Steamer", name := "asks", desc := "(I)I" } : Jvm.MethodName)) ∈ lw_tbl := lw_at lw_m6 171 rfl
theorem q1530 : (Jvm.Cond.code ({ cls := "CityBrigade$Steamer", name := "asks", desc := "(I)I" } : Jvm.MethodName) prog_24_method_3_code (2 : Nat) (Option.some Jvm.ClassFile.FieldType.int)) ∈ lw_all := lw_g (lw_at lw_m6 172 rfl) rfl
theorem q1531 : (Jvm.Cond.methodLink "CityBrigade$Steamer" (13 : Nat) ({ cls := "CityBrigade$Pump", name := "asks", desc := "(I)I" } : Jvm.MethodName)) ∈ lw_all := lw_g (lw_at lw_m6 173 rfl) rfl
theorem q1590 : (Jvm.Cond.selects "CityBrigade$Steamer" ({ cls := "CityBrigade$Crew", name := "tire", desc := "()V" } : Jvm.MethodName) ({ cls := "CityBrigade$Crew", name := "tire", desc := "()V" } : Jvm.MethodName)) ∈ lw_all := lw_g (lw_at lw_m6 232 rfl) rfl
theorem q1596 : (Jvm.Cond.unhidden "CityBrigade$Steamer" "more" "(I)I") ∈ lw_tbl := lw_at lw_m6 238 rfl
theorem q2856 : (Jvm.Cond.castable "CityBrigade$Steamer" "java/lang/Object") ∈ lw_tbl := lw_at lw_m12 58 rfl
theorem q2876 : (Jvm.Cond.castable "CityBrigade$Steamer" "CityBrigade$Crew") ∈ lw_tbl := lw_at lw_m12 78 rfl
theorem in_X10 : ∀ w ∈ wsX100, w ∈ lw_all := lw_in wsX100 [860, 861, 862, 863, 864, 865, 866, 867, 868, 869, 870, 871, 872, 873, 874, 875, 858, 859, 856] (by decide +kernel) (by decide +kernel)
/-! CityBrigade$Ladder -/
set_option maxRecDepth 100000
def RX11 : String := "CityBrigade$Ladder"
def TX11 : u_T := fun k => match k with
  | 0 => ("CityBrigade$Crew", "number", "I", true)
  | 1 => ("CityBrigade$Crew", "home", "I", true)
  | 2 => ("CityBrigade$Crew", "best", "I", true)
  | 3 => ("CityBrigade$Crew", "men", "I", true)
  | 4 => ("CityBrigade$Crew", "horses", "Z", true)
  | 5 => ("CityBrigade$Crew", "state", "I", false)
  | 6 => ("CityBrigade$Crew", "post", "I", false)
  | 7 => ("CityBrigade$Crew", "till", "I", false)
  | 8 => ("CityBrigade$Crew", "sent", "I", false)
  | 9 => ("CityBrigade$Crew", "floor", "I", false)
  | 10 => ("CityBrigade$Crew", "tired", "I", false)
  | 11 => ("CityBrigade$Crew", "got", "I", false)
  | 12 => ("CityBrigade$Crew", "began", "I", false)
  | 13 => ("CityBrigade$Crew", "room", "I", false)
  | 14 => ("CityBrigade$Crew", "asks", "I", false)
  | 15 => ("CityBrigade$Crew", "house", "LCityBrigade$House;", false)
  | _ => ("CityBrigade$Ladder", "height", "I", false)
def tyX11 : Nat → FieldType := fun k => match k with
  | 0 => .int
  | 1 => .int
  | 2 => .int
  | 3 => .int
  | 4 => .boolean
  | 5 => .int
  | 6 => .int
  | 7 => .int
  | 8 => .int
  | 9 => .int
  | 10 => .int
  | 11 => .int
  | 12 => .int
  | 13 => .int
  | 14 => .int
  | 15 => .object "CityBrigade$House"
  | _ => .int
abbrev wsX110 : List Cond := u_ws RX11 TX11 17
set_option maxRecDepth 100000 in
theorem nmX11 : ∀ a, a < 17 → ∀ b, b < 17 → a ≠ b → (TX11 a).2.1 ≠ (TX11 b).2.1 := by decide +kernel
set_option maxRecDepth 100000 in
theorem tyX11_ok : ∀ k, k < 17 → parseFieldDescriptor (TX11 k).2.2.1 = some (tyX11 k) := by decide +kernel
abbrev cX11_init : ByteArray := prog_17_method_1_code
def yX11_init : MethodName := ⟨RX11, "<init>", "(IIZII)V"⟩
def dkwX11_init_0 : List UInt8 := [42, 27, 28, 29, 21, 4, 21, 5, 183, 0, 3, 42, 4, 181, 0, 9, 177]
abbrev dktX11_init_0 : List UInt8 := dkwX11_init_0 ++ []
theorem dksX11_init_0 : cX11_init.data.toList.drop 0 = dktX11_init_0 := by decide +kernel
theorem dX11_init_0 : decode cX11_init 0 = .ok (.aload_n 0, 1) := dk_42 (dk_at dksX11_init_0 0 rfl rfl)
theorem dX11_init_1 : decode cX11_init 1 = .ok (.iload_n 1, 1) := dk_27 (dk_at dksX11_init_0 1 rfl rfl)
theorem dX11_init_2 : decode cX11_init 2 = .ok (.iload_n 2, 1) := dk_28 (dk_at dksX11_init_0 2 rfl rfl)
theorem dX11_init_3 : decode cX11_init 3 = .ok (.iload_n 3, 1) := dk_29 (dk_at dksX11_init_0 3 rfl rfl)
theorem dX11_init_4 : decode cX11_init 4 = .ok (.iload 4, 2) := dk_21 4 (dk_at dksX11_init_0 4 rfl rfl)
theorem dX11_init_6 : decode cX11_init 6 = .ok (.iload 5, 2) := dk_21 5 (dk_at dksX11_init_0 6 rfl rfl)
theorem dX11_init_8 : decode cX11_init 8 = .ok (.invokespecial 3, 3) := dk_183 0 3 (dk_at dksX11_init_0 8 rfl rfl)
theorem dX11_init_11 : decode cX11_init 11 = .ok (.aload_n 0, 1) := dk_42 (dk_at dksX11_init_0 11 rfl rfl)
theorem dX11_init_12 : decode cX11_init 12 = .ok (.iconst 1, 1) := dk_4 (dk_at dksX11_init_0 12 rfl rfl)
theorem dX11_init_13 : decode cX11_init 13 = .ok (.putfield 9, 3) := dk_181 0 9 (dk_at dksX11_init_0 13 rfl rfl)
theorem dX11_init_16 : decode cX11_init 16 = .ok (.return_, 1) := dk_177 (dk_at dksX11_init_0 16 rfl rfl)
abbrev cX11_gear : ByteArray := prog_17_method_3_code
def yX11_gear : MethodName := ⟨RX11, "gear", "(III)Z"⟩
def dkwX11_gear_1 : List UInt8 := [181, 0, 9, 4, 172]
abbrev dktX11_gear_1 : List UInt8 := dkwX11_gear_1 ++ []
def dkwX11_gear_0 : List UInt8 := [27, 4, 16, 6, 184, 0, 15, 153, 0, 11, 28, 154, 0, 7, 29, 153, 0, 5, 3, 172, 42, 27]
abbrev dktX11_gear_0 : List UInt8 := dkwX11_gear_0 ++ dktX11_gear_1
theorem dksX11_gear_0 : cX11_gear.data.toList.drop 0 = dktX11_gear_0 := by decide +kernel
theorem dksX11_gear_1 : cX11_gear.data.toList.drop 22 = dktX11_gear_1 := dk_seg dksX11_gear_0 22 rfl rfl
theorem dX11_gear_0 : decode cX11_gear 0 = .ok (.iload_n 1, 1) := dk_27 (dk_at dksX11_gear_0 0 rfl rfl)
theorem dX11_gear_1 : decode cX11_gear 1 = .ok (.iconst 1, 1) := dk_4 (dk_at dksX11_gear_0 1 rfl rfl)
theorem dX11_gear_2 : decode cX11_gear 2 = .ok (.bipush 6, 2) := dk_16 6 (dk_at dksX11_gear_0 2 rfl rfl)
theorem dX11_gear_4 : decode cX11_gear 4 = .ok (.invokestatic 15, 3) := dk_184 0 15 (dk_at dksX11_gear_0 4 rfl rfl)
theorem dX11_gear_7 : decode cX11_gear 7 = .ok (.ifCond .eq 11, 3) := dk_153 0 11 (dk_at dksX11_gear_0 7 rfl rfl)
theorem dX11_gear_10 : decode cX11_gear 10 = .ok (.iload_n 2, 1) := dk_28 (dk_at dksX11_gear_0 10 rfl rfl)
theorem dX11_gear_11 : decode cX11_gear 11 = .ok (.ifCond .ne 7, 3) := dk_154 0 7 (dk_at dksX11_gear_0 11 rfl rfl)
theorem dX11_gear_14 : decode cX11_gear 14 = .ok (.iload_n 3, 1) := dk_29 (dk_at dksX11_gear_0 14 rfl rfl)
theorem dX11_gear_15 : decode cX11_gear 15 = .ok (.ifCond .eq 5, 3) := dk_153 0 5 (dk_at dksX11_gear_0 15 rfl rfl)
theorem dX11_gear_18 : decode cX11_gear 18 = .ok (.iconst 0, 1) := dk_3 (dk_at dksX11_gear_0 18 rfl rfl)
theorem dX11_gear_19 : decode cX11_gear 19 = .ok (.ireturn, 1) := dk_172 (dk_at dksX11_gear_0 19 rfl rfl)
theorem dX11_gear_20 : decode cX11_gear 20 = .ok (.aload_n 0, 1) := dk_42 (dk_at dksX11_gear_0 20 rfl rfl)
theorem dX11_gear_21 : decode cX11_gear 21 = .ok (.iload_n 1, 1) := dk_27 (dk_at dksX11_gear_0 21 rfl rfl)
theorem dX11_gear_22 : decode cX11_gear 22 = .ok (.putfield 9, 3) := dk_181 0 9 (dk_at dksX11_gear_1 0 rfl rfl)
theorem dX11_gear_25 : decode cX11_gear 25 = .ok (.iconst 1, 1) := dk_4 (dk_at dksX11_gear_1 3 rfl rfl)
theorem dX11_gear_26 : decode cX11_gear 26 = .ok (.ireturn, 1) := dk_172 (dk_at dksX11_gear_1 4 rfl rfl)
abbrev cX11_sort : ByteArray := prog_17_method_2_code
def yX11_sort : MethodName := ⟨RX11, "sort", "()I"⟩
theorem dX11_sort_0 : decode cX11_sort 0 = .ok (.iconst 2, 1) := by decide +kernel
theorem dX11_sort_1 : decode cX11_sort 1 = .ok (.ireturn, 1) := by decide +kernel
theorem q173 : (Jvm.Cond.initialized "CityBrigade$Ladder") ∈ lw_all := lw_g (lw_at lw_m1 15 rfl) rfl
theorem q811 : (Jvm.Cond.sameField "CityBrigade$Ladder" "CityBrigade$Crew" "house" "LCityBrigade$House;") ∈ lw_all := lw_g (lw_at lw_m3 173 rfl) rfl
theorem q878 : (Jvm.Cond.instantiable "CityBrigade$Ladder" (17 : Nat)) ∈ lw_all := lw_g (lw_at lw_m4 0 rfl) rfl
theorem q880 : (Jvm.Cond.instanceMethod ({ cls := "CityBrigade$Ladder", name := "<init>", desc := "(IIZII)V" } : Jvm.MethodName)) ∈ lw_all := lw_g (lw_at lw_m4 2 rfl) rfl
theorem q881 : (Jvm.Cond.code ({ cls := "CityBrigade$Ladder", name := "<init>", desc := "(IIZII)V" } : Jvm.MethodName) prog_17_method_1_code (6 : Nat) (Option.none : Option Jvm.ClassFile.FieldType)) ∈ lw_all := lw_g (lw_at lw_m4 3 rfl) rfl
theorem q882 : (Jvm.Cond.methodLink "CityBrigade$Ladder" (3 : Nat) ({ cls := "CityBrigade$Crew", name := "<init>", desc := "(IIZII)V" } : Jvm.MethodName)) ∈ lw_all := lw_g (lw_at lw_m4 4 rfl) rfl
theorem q883 : (Jvm.Cond.fieldLink "CityBrigade$Ladder" (9 : Nat) "CityBrigade$Ladder" "height" "I") ∈ lw_all := lw_g (lw_at lw_m4 5 rfl) rfl
theorem q885 : (Jvm.Cond.lays "CityBrigade$Ladder" "CityBrigade$Ladder" "height" "I") ∈ lw_all := lw_g (lw_at lw_m4 7 rfl) rfl
theorem q886 : (Jvm.Cond.soleField "CityBrigade$Ladder" "height") ∈ lw_all := lw_g (lw_at lw_m4 8 rfl) rfl
theorem q887 : (Jvm.Cond.laysFinal "CityBrigade$Ladder" "CityBrigade$Crew" "number" "I") ∈ lw_all := lw_g (lw_at lw_m4 9 rfl) rfl
theorem q888 : (Jvm.Cond.laysFinal "CityBrigade$Ladder" "CityBrigade$Crew" "home" "I") ∈ lw_all := lw_g (lw_at lw_m4 10 rfl) rfl
theorem q889 : (Jvm.Cond.laysFinal "CityBrigade$Ladder" "CityBrigade$Crew" "best" "I") ∈ lw_all := lw_g (lw_at lw_m4 11 rfl) rfl
theorem q890 : (Jvm.Cond.laysFinal "CityBrigade$Ladder" "CityBrigade$Crew" "men" "I") ∈ lw_all := lw_g (lw_at lw_m4 12 rfl) rfl
theorem q891 : (Jvm.Cond.laysFinal "CityBrigade$Ladder" "CityBrigade$Crew" "horses" "Z") ∈ lw_all := lw_g (lw_at lw_m4 13 rfl) rfl
theorem q892 : (Jvm.Cond.lays "CityBrigade$Ladder" "CityBrigade$Crew" "state" "I") ∈ lw_all := lw_g (lw_at lw_m4 14 rfl) rfl
theorem q893 : (Jvm.Cond.lays "CityBrigade$Ladder" "CityBrigade$Crew" "post" "I") ∈ lw_all := lw_g (lw_at lw_m4 15 rfl) rfl
theorem q894 : (Jvm.Cond.lays "CityBrigade$Ladder" "CityBrigade$Crew" "till" "I") ∈ lw_all := lw_g (lw_at lw_m4 16 rfl) rfl
theorem q895 : (Jvm.Cond.lays "CityBrigade$Ladder" "CityBrigade$Crew" "sent" "I") ∈ lw_all := lw_g (lw_at lw_m4 17 rfl) rfl
theorem q896 : (Jvm.Cond.lays "CityBrigade$Ladder" "CityBrigade$Crew" "floor" "I") ∈ lw_all := lw_g (lw_at lw_m4 18 rfl) rfl
theorem q897 : (Jvm.Cond.lays "CityBrigade$Ladder" "CityBrigade$Crew" "tired" "I") ∈ lw_all := lw_g (lw_at lw_m4 19 rfl) rfl
theorem q898 : (Jvm.Cond.lays "CityBrigade$Ladder" "CityBrigade$Crew" "got" "I") ∈ lw_all := lw_g (lw_at lw_m4 20 rfl) rfl
theorem q899 : (Jvm.Cond.lays "CityBrigade$Ladder" "CityBrigade$Crew" "began" "I") ∈ lw_all := lw_g (lw_at lw_m4 21 rfl) rfl
theorem q900 : (Jvm.Cond.lays "CityBrigade$Ladder" "CityBrigade$Crew" "room" "I") ∈ lw_all := lw_g (lw_at lw_m4 22 rfl) rfl
theorem q901 : (Jvm.Cond.lays "CityBrigade$Ladder" "CityBrigade$Crew" "asks" "I") ∈ lw_all := lw_g (lw_at lw_m4 23 rfl) rfl
theorem q902 : (Jvm.Cond.lays "CityBrigade$Ladder" "CityBrigade$Crew" "house" "LCityBrigade$House;") ∈ lw_all := lw_g (lw_at lw_m4 24 rfl) rfl
theorem q903 : (Jvm.Cond.superclass "CityBrigade$Ladder" "CityBrigade$Crew") ∈ lw_all := lw_g (lw_at lw_m4 25 rfl) rfl
theorem q941 : (Jvm.Cond.selects "CityBrigade$Ladder" ({ cls := "CityBrigade$Crew", name := "gear", desc := "(III)Z" } : Jvm.MethodName) ({ cls := "CityBrigade$Ladder", name := "gear", desc := "(III)Z" } : Jvm.MethodName)) ∈ lw_all := lw_g (lw_at lw_m4 63 rfl) rfl
theorem q942 : (Jvm.Cond.instanceMethod ({ cls := "CityBrigade$Ladder", name := "gear", desc := "(III)Z" } : Jvm.MethodName)) ∈ lw_all := lw_g (lw_at lw_m4 64 rfl) rfl
theorem q943 : (Jvm.Cond.code ({ cls := "CityBrigade$Ladder", name := "gear", desc := "(III)Z" } : Jvm.MethodName) prog_17_method_3_code (4 : Nat) (Option.some Jvm.ClassFile.FieldType.boolean)) ∈ lw_all := lw_g (lw_at lw_m4 65 rfl) rfl
theorem q944 : (Jvm.Cond.methodLinkNest "CityBrigade$Ladder" (15 : Nat) ({ cls := "CityBrigade", name := "in", desc := "(III)Z" } : Jvm.MethodName) "CityBrigade") ∈ lw_tbl := lw_at lw_m4 66 rfl
theorem q974 : (Jvm.Cond.selects "CityBrigade$Ladder" ({ cls := "CityBrigade$Crew", name := "slowNow", desc := "()I" } : Jvm.MethodName) ({ cls := "CityBrigade$Crew", name := "slowNow", desc := "()I" } : Jvm.MethodName)) ∈ lw_all := lw_g (lw_at lw_m4 96 rfl) rfl
theorem q982 : (Jvm.Cond.selects "CityBrigade$Ladder" ({ cls := "CityBrigade$Crew", name := "slow", desc := "(I)I" } : Jvm.MethodName) ({ cls := "CityBrigade$Crew", name := "slow", desc := "(I)I" } : Jvm.MethodName)) ∈ lw_all := lw_g (lw_at lw_m4 104 rfl) rfl
theorem q1002 : (Jvm.Cond.castable "CityBrigade$Ladder" "CityBrigade$Goes") ∈ lw_tbl := lw_at lw_m4 124 rfl
theorem q1003 : (Jvm.Cond.selects "CityBrigade$Ladder" ({ cls := "CityBrigade$Goes", name := "best", desc := "()I" } : Jvm.MethodName) ({ cls := "CityBrigade$Crew", name := "best", desc := "()I" } : Jvm.MethodName)) ∈ lw_all := lw_g (lw_at lw_m4 125 rfl) rfl
theorem q1004 : (Jvm.Cond.unhidden "CityBrigade$Ladder" "best" "()I") ∈ lw_tbl := lw_at lw_m4 126 rfl
theorem q1354 : (Jvm.Cond.selects "CityBrigade$Ladder" ({ cls := "CityBrigade$Crew", name := "sort", desc := "()I" } : Jvm.MethodName) ({ cls := "CityBrigade$Ladder", name := "sort", desc := "()I" } : Jvm.MethodName)) ∈ lw_all := lw_g (lw_at lw_m5 236 rfl) rfl
theorem q1355 : (Jvm.Cond.instanceMethod ({ cls := "CityBrigade$Ladder", name := "sort", desc := "()I" } : Jvm.MethodName)) ∈ lw_all := lw_g (lw_at lw_m5 237 rfl) rfl
theorem q1356 : (Jvm.Cond.code ({ cls := "CityBrigade$Ladder", name := "sort", desc := "()I" } : Jvm.MethodName) prog_17_method_2_code (1 : Nat) (Option.some Jvm.ClassFile.FieldType.int)) ∈ lw_all := lw_g (lw_at lw_m5 238 rfl) rfl
theorem q1588 : (Jvm.Cond.selects "CityBrigade$Ladder" ({ cls := "CityBrigade$Crew", name := "tire", desc := "()V" } : Jvm.MethodName) ({ cls := "CityBrigade$Crew", name := "tire", desc := "()V" } : Jvm.MethodName)) ∈ lw_all := lw_g (lw_at lw_m6 230 rfl) rfl
theorem q1594 : (Jvm.Cond.unhidden "CityBrigade$Ladder" "more" "(I)I") ∈ lw_tbl := lw_at lw_m6 236 rfl
theorem q2857 : (Jvm.Cond.castable "CityBrigade$Ladder" "java/lang/Object") ∈ lw_tbl := lw_at lw_m12 59 rfl
theorem q2877 : (Jvm.Cond.castable "CityBrigade$Ladder" "CityBrigade$Crew") ∈ lw_tbl := lw_at lw_m12 79 rfl
theorem in_X11 : ∀ w ∈ wsX110, w ∈ lw_all := lw_in wsX110 [887, 888, 889, 890, 891, 892, 893, 894, 895, 896, 897, 898, 899, 900, 901, 902, 885] (by decide +kernel) (by decide +kernel)
/-! CityBrigade$Chief -/
set_option maxRecDepth 100000
def RX12 : String := "CityBrigade$Chief"
def TX12 : u_T := fun k => match k with
  | 0 => ("CityBrigade$Crew", "number", "I", true)
  | 1 => ("CityBrigade$Crew", "home", "I", true)
  | 2 => ("CityBrigade$Crew", "best", "I", true)
  | 3 => ("CityBrigade$Crew", "men", "I", true)
  | 4 => ("CityBrigade$Crew", "horses", "Z", true)
  | 5 => ("CityBrigade$Crew", "state", "I", false)
  | 6 => ("CityBrigade$Crew", "post", "I", false)
  | 7 => ("CityBrigade$Crew", "till", "I", false)
  | 8 => ("CityBrigade$Crew", "sent", "I", false)
  | 9 => ("CityBrigade$Crew", "floor", "I", false)
  | 10 => ("CityBrigade$Crew", "tired", "I", false)
  | 11 => ("CityBrigade$Crew", "got", "I", false)
  | 12 => ("CityBrigade$Crew", "began", "I", false)
  | 13 => ("CityBrigade$Crew", "room", "I", false)
  | 14 => ("CityBrigade$Crew", "asks", "I", false)
  | _ => ("CityBrigade$Crew", "house", "LCityBrigade$House;", false)
def tyX12 : Nat → FieldType := fun k => match k with
  | 0 => .int
  | 1 => .int
  | 2 => .int
  | 3 => .int
  | 4 => .boolean
  | 5 => .int
  | 6 => .int
  | 7 => .int
  | 8 => .int
  | 9 => .int
  | 10 => .int
  | 11 => .int
  | 12 => .int
  | 13 => .int
  | 14 => .int
  | _ => .object "CityBrigade$House"
abbrev wsX120 : List Cond := u_ws RX12 TX12 16
set_option maxRecDepth 100000 in
theorem nmX12 : ∀ a, a < 16 → ∀ b, b < 16 → a ≠ b → (TX12 a).2.1 ≠ (TX12 b).2.1 := by decide +kernel
set_option maxRecDepth 100000 in
theorem tyX12_ok : ∀ k, k < 16 → parseFieldDescriptor (TX12 k).2.2.1 = some (tyX12 k) := by decide +kernel
abbrev cX12_init : ByteArray := prog_6_method_1_code
def yX12_init : MethodName := ⟨RX12, "<init>", "(IIZII)V"⟩
def dkwX12_init_0 : List UInt8 := [42, 27, 28, 29, 21, 4, 21, 5, 183, 0, 1, 177]
abbrev dktX12_init_0 : List UInt8 := dkwX12_init_0 ++ []
theorem dksX12_init_0 : cX12_init.data.toList.drop 0 = dktX12_init_0 := by decide +kernel
theorem dX12_init_0 : decode cX12_init 0 = .ok (.aload_n 0, 1) := dk_42 (dk_at dksX12_init_0 0 rfl rfl)
theorem dX12_init_1 : decode cX12_init 1 = .ok (.iload_n 1, 1) := dk_27 (dk_at dksX12_init_0 1 rfl rfl)
theorem dX12_init_2 : decode cX12_init 2 = .ok (.iload_n 2, 1) := dk_28 (dk_at dksX12_init_0 2 rfl rfl)
theorem dX12_init_3 : decode cX12_init 3 = .ok (.iload_n 3, 1) := dk_29 (dk_at dksX12_init_0 3 rfl rfl)
theorem dX12_init_4 : decode cX12_init 4 = .ok (.iload 4, 2) := dk_21 4 (dk_at dksX12_init_0 4 rfl rfl)
theorem dX12_init_6 : decode cX12_init 6 = .ok (.iload 5, 2) := dk_21 5 (dk_at dksX12_init_0 6 rfl rfl)
theorem dX12_init_8 : decode cX12_init 8 = .ok (.invokespecial 1, 3) := dk_183 0 1 (dk_at dksX12_init_0 8 rfl rfl)
theorem dX12_init_11 : decode cX12_init 11 = .ok (.return_, 1) := dk_177 (dk_at dksX12_init_0 11 rfl rfl)
abbrev cX12_gear : ByteArray := prog_6_method_3_code
def yX12_gear : MethodName := ⟨RX12, "gear", "(III)Z"⟩
def dkwX12_gear_0 : List UInt8 := [27, 154, 0, 15, 28, 154, 0, 11, 29, 154, 0, 7, 4, 167, 0, 4, 3, 172]
abbrev dktX12_gear_0 : List UInt8 := dkwX12_gear_0 ++ []
theorem dksX12_gear_0 : cX12_gear.data.toList.drop 0 = dktX12_gear_0 := by decide +kernel
theorem dX12_gear_0 : decode cX12_gear 0 = .ok (.iload_n 1, 1) := dk_27 (dk_at dksX12_gear_0 0 rfl rfl)
theorem dX12_gear_1 : decode cX12_gear 1 = .ok (.ifCond .ne 15, 3) := dk_154 0 15 (dk_at dksX12_gear_0 1 rfl rfl)
theorem dX12_gear_4 : decode cX12_gear 4 = .ok (.iload_n 2, 1) := dk_28 (dk_at dksX12_gear_0 4 rfl rfl)
theorem dX12_gear_5 : decode cX12_gear 5 = .ok (.ifCond .ne 11, 3) := dk_154 0 11 (dk_at dksX12_gear_0 5 rfl rfl)
theorem dX12_gear_8 : decode cX12_gear 8 = .ok (.iload_n 3, 1) := dk_29 (dk_at dksX12_gear_0 8 rfl rfl)
theorem dX12_gear_9 : decode cX12_gear 9 = .ok (.ifCond .ne 7, 3) := dk_154 0 7 (dk_at dksX12_gear_0 9 rfl rfl)
theorem dX12_gear_12 : decode cX12_gear 12 = .ok (.iconst 1, 1) := dk_4 (dk_at dksX12_gear_0 12 rfl rfl)
theorem dX12_gear_13 : decode cX12_gear 13 = .ok (.goto 4, 3) := dk_167 0 4 (dk_at dksX12_gear_0 13 rfl rfl)
theorem dX12_gear_16 : decode cX12_gear 16 = .ok (.iconst 0, 1) := dk_3 (dk_at dksX12_gear_0 16 rfl rfl)
theorem dX12_gear_17 : decode cX12_gear 17 = .ok (.ireturn, 1) := dk_172 (dk_at dksX12_gear_0 17 rfl rfl)
abbrev cX12_sort : ByteArray := prog_6_method_2_code
def yX12_sort : MethodName := ⟨RX12, "sort", "()I"⟩
theorem dX12_sort_0 : decode cX12_sort 0 = .ok (.iconst 3, 1) := by decide +kernel
theorem dX12_sort_1 : decode cX12_sort 1 = .ok (.ireturn, 1) := by decide +kernel
theorem q174 : (Jvm.Cond.initialized "CityBrigade$Chief") ∈ lw_all := lw_g (lw_at lw_m1 16 rfl) rfl
theorem q905 : (Jvm.Cond.instantiable "CityBrigade$Chief" (16 : Nat)) ∈ lw_all := lw_g (lw_at lw_m4 27 rfl) rfl
theorem q907 : (Jvm.Cond.instanceMethod ({ cls := "CityBrigade$Chief", name := "<init>", desc := "(IIZII)V" } : Jvm.MethodName)) ∈ lw_all := lw_g (lw_at lw_m4 29 rfl) rfl
theorem q908 : (Jvm.Cond.code ({ cls := "CityBrigade$Chief", name := "<init>", desc := "(IIZII)V" } : Jvm.MethodName) prog_6_method_1_code (6 : Nat) (Option.none : Option Jvm.ClassFile.FieldType)) ∈ lw_all := lw_g (lw_at lw_m4 30 rfl) rfl
theorem q909 : (Jvm.Cond.methodLink "CityBrigade$Chief" (1 : Nat) ({ cls := "CityBrigade$Crew", name := "<init>", desc := "(IIZII)V" } : Jvm.MethodName)) ∈ lw_all := lw_g (lw_at lw_m4 31 rfl) rfl
theorem q910 : (Jvm.Cond.laysFinal "CityBrigade$Chief" "CityBrigade$Crew" "number" "I") ∈ lw_all := lw_g (lw_at lw_m4 32 rfl) rfl
theorem q911 : (Jvm.Cond.laysFinal "CityBrigade$Chief" "CityBrigade$Crew" "home" "I") ∈ lw_all := lw_g (lw_at lw_m4 33 rfl) rfl
theorem q912 : (Jvm.Cond.laysFinal "CityBrigade$Chief" "CityBrigade$Crew" "best" "I") ∈ lw_all := lw_g (lw_at lw_m4 34 rfl) rfl
theorem q913 : (Jvm.Cond.laysFinal "CityBrigade$Chief" "CityBrigade$Crew" "men" "I") ∈ lw_all := lw_g (lw_at lw_m4 35 rfl) rfl
theorem q914 : (Jvm.Cond.laysFinal "CityBrigade$Chief" "CityBrigade$Crew" "horses" "Z") ∈ lw_all := lw_g (lw_at lw_m4 36 rfl) rfl
theorem q915 : (Jvm.Cond.lays "CityBrigade$Chief" "CityBrigade$Crew" "state" "I") ∈ lw_all := lw_g (lw_at lw_m4 37 rfl) rfl
theorem q916 : (Jvm.Cond.lays "CityBrigade$Chief" "CityBrigade$Crew" "post" "I") ∈ lw_all := lw_g (lw_at lw_m4 38 rfl) rfl
theorem q917 : (Jvm.Cond.lays "CityBrigade$Chief" "CityBrigade$Crew" "till" "I") ∈ lw_all := lw_g (lw_at lw_m4 39 rfl) rfl
theorem q918 : (Jvm.Cond.lays "CityBrigade$Chief" "CityBrigade$Crew" "sent" "I") ∈ lw_all := lw_g (lw_at lw_m4 40 rfl) rfl
theorem q919 : (Jvm.Cond.lays "CityBrigade$Chief" "CityBrigade$Crew" "floor" "I") ∈ lw_all := lw_g (lw_at lw_m4 41 rfl) rfl
theorem q920 : (Jvm.Cond.lays "CityBrigade$Chief" "CityBrigade$Crew" "tired" "I") ∈ lw_all := lw_g (lw_at lw_m4 42 rfl) rfl
theorem q921 : (Jvm.Cond.lays "CityBrigade$Chief" "CityBrigade$Crew" "got" "I") ∈ lw_all := lw_g (lw_at lw_m4 43 rfl) rfl
theorem q922 : (Jvm.Cond.lays "CityBrigade$Chief" "CityBrigade$Crew" "began" "I") ∈ lw_all := lw_g (lw_at lw_m4 44 rfl) rfl
theorem q923 : (Jvm.Cond.lays "CityBrigade$Chief" "CityBrigade$Crew" "room" "I") ∈ lw_all := lw_g (lw_at lw_m4 45 rfl) rfl
theorem q924 : (Jvm.Cond.lays "CityBrigade$Chief" "CityBrigade$Crew" "asks" "I") ∈ lw_all := lw_g (lw_at lw_m4 46 rfl) rfl
theorem q925 : (Jvm.Cond.lays "CityBrigade$Chief" "CityBrigade$Crew" "house" "LCityBrigade$House;") ∈ lw_all := lw_g (lw_at lw_m4 47 rfl) rfl
theorem q926 : (Jvm.Cond.superclass "CityBrigade$Chief" "CityBrigade$Crew") ∈ lw_all := lw_g (lw_at lw_m4 48 rfl) rfl
theorem q938 : (Jvm.Cond.selects "CityBrigade$Chief" ({ cls := "CityBrigade$Crew", name := "gear", desc := "(III)Z" } : Jvm.MethodName) ({ cls := "CityBrigade$Chief", name := "gear", desc := "(III)Z" } : Jvm.MethodName)) ∈ lw_all := lw_g (lw_at lw_m4 60 rfl) rfl
theorem q939 : (Jvm.Cond.instanceMethod ({ cls := "CityBrigade$Chief", name := "gear", desc := "(III)Z" } : Jvm.MethodName)) ∈ lw_all := lw_g (lw_at lw_m4 61 rfl) rfl
theorem q940 : (Jvm.Cond.code ({ cls := "CityBrigade$Chief", name := "gear", desc := "(III)Z" } : Jvm.MethodName) prog_6_method_3_code (4 : Nat) (Option.some Jvm.ClassFile.FieldType.boolean)) ∈ lw_all := lw_g (lw_at lw_m4 62 rfl) rfl
theorem q973 : (Jvm.Cond.selects "CityBrigade$Chief" ({ cls := "CityBrigade$Crew", name := "slowNow", desc := "()I" } : Jvm.MethodName) ({ cls := "CityBrigade$Crew", name := "slowNow", desc := "()I" } : Jvm.MethodName)) ∈ lw_all := lw_g (lw_at lw_m4 95 rfl) rfl
theorem q981 : (Jvm.Cond.selects "CityBrigade$Chief" ({ cls := "CityBrigade$Crew", name := "slow", desc := "(I)I" } : Jvm.MethodName) ({ cls := "CityBrigade$Crew", name := "slow", desc := "(I)I" } : Jvm.MethodName)) ∈ lw_all := lw_g (lw_at lw_m4 103 rfl) rfl
theorem q996 : (Jvm.Cond.castable "CityBrigade$Chief" "CityBrigade$Goes") ∈ lw_tbl := lw_at lw_m4 118 rfl
theorem q997 : (Jvm.Cond.selects "CityBrigade$Chief" ({ cls := "CityBrigade$Goes", name := "best", desc := "()I" } : Jvm.MethodName) ({ cls := "CityBrigade$Crew", name := "best", desc := "()I" } : Jvm.MethodName)) ∈ lw_all := lw_g (lw_at lw_m4 119 rfl) rfl
theorem q998 : (Jvm.Cond.unhidden "CityBrigade$Chief" "best" "()I") ∈ lw_tbl := lw_at lw_m4 120 rfl
theorem q1351 : (Jvm.Cond.selects "CityBrigade$Chief" ({ cls := "CityBrigade$Crew", name := "sort", desc := "()I" } : Jvm.MethodName) ({ cls := "CityBrigade$Chief", name := "sort", desc := "()I" } : Jvm.MethodName)) ∈ lw_all := lw_g (lw_at lw_m5 233 rfl) rfl
theorem q1352 : (Jvm.Cond.instanceMethod ({ cls := "CityBrigade$Chief", name := "sort", desc := "()I" } : Jvm.MethodName)) ∈ lw_all := lw_g (lw_at lw_m5 234 rfl) rfl
theorem q1353 : (Jvm.Cond.code ({ cls := "CityBrigade$Chief", name := "sort", desc := "()I" } : Jvm.MethodName) prog_6_method_2_code (1 : Nat) (Option.some Jvm.ClassFile.FieldType.int)) ∈ lw_all := lw_g (lw_at lw_m5 235 rfl) rfl
theorem q1587 : (Jvm.Cond.selects "CityBrigade$Chief" ({ cls := "CityBrigade$Crew", name := "tire", desc := "()V" } : Jvm.MethodName) ({ cls := "CityBrigade$Crew", name := "tire", desc := "()V" } : Jvm.MethodName)) ∈ lw_all := lw_g (lw_at lw_m6 229 rfl) rfl
theorem q1593 : (Jvm.Cond.unhidden "CityBrigade$Chief" "more" "(I)I") ∈ lw_tbl := lw_at lw_m6 235 rfl
theorem q2858 : (Jvm.Cond.castable "CityBrigade$Chief" "java/lang/Object") ∈ lw_tbl := lw_at lw_m12 60 rfl
theorem q2878 : (Jvm.Cond.castable "CityBrigade$Chief" "CityBrigade$Crew") ∈ lw_tbl := lw_at lw_m12 80 rfl
theorem in_X12 : ∀ w ∈ wsX120, w ∈ lw_all := lw_in wsX120 [910, 911, 912, 913, 914, 915, 916, 917, 918, 919, 920, 921, 922, 923, 924, 925] (by decide +kernel) (by decide +kernel)
/-! CityBrigade$Call -/
set_option maxRecDepth 100000
def RX13 : String := "CityBrigade$Call"
def TX13 : u_T := fun k => match k with
  | 0 => ("CityBrigade$Call", "number", "I", true)
  | 1 => ("CityBrigade$Call", "corner", "I", true)
  | 2 => ("CityBrigade$Call", "began", "I", true)
  | 3 => ("CityBrigade$Call", "word", "I", false)
  | 4 => ("CityBrigade$Call", "what", "I", false)
  | 5 => ("CityBrigade$Call", "ended", "I", false)
  | 6 => ("CityBrigade$Call", "sent", "I", false)
  | 7 => ("CityBrigade$Call", "lacks", "I", false)
  | 8 => ("CityBrigade$Call", "times", "I", false)
  | _ => ("CityBrigade$Call", "burned", "Z", false)
def tyX13 : Nat → FieldType := fun k => match k with
  | 0 => .int
  | 1 => .int
  | 2 => .int
  | 3 => .int
  | 4 => .int
  | 5 => .int
  | 6 => .int
  | 7 => .int
  | 8 => .int
  | _ => .boolean
abbrev wsX130 : List Cond := u_ws RX13 TX13 10
theorem nmX13 : ∀ a, a < 10 → ∀ b, b < 10 → a ≠ b → (TX13 a).2.1 ≠ (TX13 b).2.1 := by decide +kernel
theorem tyX13_ok : ∀ k, k < 10 → parseFieldDescriptor (TX13 k).2.2.1 = some (tyX13 k) := by decide +kernel
abbrev cX13_init : ByteArray := prog_5_method_1_code
def yX13_init : MethodName := ⟨RX13, "<init>", "(III)V"⟩
def dkwX13_init_1 : List UInt8 := [42, 27, 181, 0, 24, 42, 28, 181, 0, 27, 42, 29, 181, 0, 30, 177]
abbrev dktX13_init_1 : List UInt8 := dkwX13_init_1 ++ []
def dkwX13_init_0 : List UInt8 := [42, 183, 0, 3, 42, 4, 181, 0, 9, 42, 3, 181, 0, 15, 42, 2, 181, 0, 18, 42, 4, 181, 0, 21]
abbrev dktX13_init_0 : List UInt8 := dkwX13_init_0 ++ dktX13_init_1
theorem dksX13_init_0 : cX13_init.data.toList.drop 0 = dktX13_init_0 := by decide +kernel
theorem dksX13_init_1 : cX13_init.data.toList.drop 24 = dktX13_init_1 := dk_seg dksX13_init_0 24 rfl rfl
theorem dX13_init_0 : decode cX13_init 0 = .ok (.aload_n 0, 1) := dk_42 (dk_at dksX13_init_0 0 rfl rfl)
theorem dX13_init_1 : decode cX13_init 1 = .ok (.invokespecial 3, 3) := dk_183 0 3 (dk_at dksX13_init_0 1 rfl rfl)
theorem dX13_init_4 : decode cX13_init 4 = .ok (.aload_n 0, 1) := dk_42 (dk_at dksX13_init_0 4 rfl rfl)
theorem dX13_init_5 : decode cX13_init 5 = .ok (.iconst 1, 1) := dk_4 (dk_at dksX13_init_0 5 rfl rfl)
theorem dX13_init_6 : decode cX13_init 6 = .ok (.putfield 9, 3) := dk_181 0 9 (dk_at dksX13_init_0 6 rfl rfl)
theorem dX13_init_9 : decode cX13_init 9 = .ok (.aload_n 0, 1) := dk_42 (dk_at dksX13_init_0 9 rfl rfl)
theorem dX13_init_10 : decode cX13_init 10 = .ok (.iconst 0, 1) := dk_3 (dk_at dksX13_init_0 10 rfl rfl)
theorem dX13_init_11 : decode cX13_init 11 = .ok (.putfield 15, 3) := dk_181 0 15 (dk_at dksX13_init_0 11 rfl rfl)
theorem dX13_init_14 : decode cX13_init 14 = .ok (.aload_n 0, 1) := dk_42 (dk_at dksX13_init_0 14 rfl rfl)
theorem dX13_init_15 : decode cX13_init 15 = .ok (.iconst (-1), 1) := dk_2 (dk_at dksX13_init_0 15 rfl rfl)
theorem dX13_init_16 : decode cX13_init 16 = .ok (.putfield 18, 3) := dk_181 0 18 (dk_at dksX13_init_0 16 rfl rfl)
theorem dX13_init_19 : decode cX13_init 19 = .ok (.aload_n 0, 1) := dk_42 (dk_at dksX13_init_0 19 rfl rfl)
theorem dX13_init_20 : decode cX13_init 20 = .ok (.iconst 1, 1) := dk_4 (dk_at dksX13_init_0 20 rfl rfl)
theorem dX13_init_21 : decode cX13_init 21 = .ok (.putfield 21, 3) := dk_181 0 21 (dk_at dksX13_init_0 21 rfl rfl)
theorem dX13_init_24 : decode cX13_init 24 = .ok (.aload_n 0, 1) := dk_42 (dk_at dksX13_init_1 0 rfl rfl)
theorem dX13_init_25 : decode cX13_init 25 = .ok (.iload_n 1, 1) := dk_27 (dk_at dksX13_init_1 1 rfl rfl)
theorem dX13_init_26 : decode cX13_init 26 = .ok (.putfield 24, 3) := dk_181 0 24 (dk_at dksX13_init_1 2 rfl rfl)
theorem dX13_init_29 : decode cX13_init 29 = .ok (.aload_n 0, 1) := dk_42 (dk_at dksX13_init_1 5 rfl rfl)
theorem dX13_init_30 : decode cX13_init 30 = .ok (.iload_n 2, 1) := dk_28 (dk_at dksX13_init_1 6 rfl rfl)
theorem dX13_init_31 : decode cX13_init 31 = .ok (.putfield 27, 3) := dk_181 0 27 (dk_at dksX13_init_1 7 rfl rfl)
theorem dX13_init_34 : decode cX13_init 34 = .ok (.aload_n 0, 1) := dk_42 (dk_at dksX13_init_1 10 rfl rfl)
theorem dX13_init_35 : decode cX13_init 35 = .ok (.iload_n 3, 1) := dk_29 (dk_at dksX13_init_1 11 rfl rfl)
theorem dX13_init_36 : decode cX13_init 36 = .ok (.putfield 30, 3) := dk_181 0 30 (dk_at dksX13_init_1 12 rfl rfl)
theorem dX13_init_39 : decode cX13_init 39 = .ok (.return_, 1) := dk_177 (dk_at dksX13_init_1 15 rfl rfl)
theorem q177 : (Jvm.Cond.initialized "CityBrigade$Call") ∈ lw_all := lw_g (lw_at lw_m1 19 rfl) rfl
theorem q1410 : (Jvm.Cond.instantiable "CityBrigade$Call" (10 : Nat)) ∈ lw_all := lw_g (lw_at lw_m6 52 rfl) rfl
theorem q1412 : (Jvm.Cond.instanceMethod ({ cls := "CityBrigade$Call", name := "<init>", desc := "(III)V" } : Jvm.MethodName)) ∈ lw_all := lw_g (lw_at lw_m6 54 rfl) rfl
theorem q1413 : (Jvm.Cond.code ({ cls := "CityBrigade$Call", name := "<init>", desc := "(III)V" } : Jvm.MethodName) prog_5_method_1_code (4 : Nat) (Option.none : Option Jvm.ClassFile.FieldType)) ∈ lw_all := lw_g (lw_at lw_m6 55 rfl) rfl
theorem q1414 : (Jvm.Cond.methodLink "CityBrigade$Call" (3 : Nat) ({ cls := "java/lang/Object", name := "<init>", desc := "()V" } : Jvm.MethodName)) ∈ lw_all := lw_g (lw_at lw_m6 56 rfl) rfl
theorem q1415 : (Jvm.Cond.fieldLink "CityBrigade$Call" (24 : Nat) "CityBrigade$Call" "number" "I") ∈ lw_all := lw_g (lw_at lw_m6 57 rfl) rfl
theorem q1417 : (Jvm.Cond.fieldLink "CityBrigade$Call" (27 : Nat) "CityBrigade$Call" "corner" "I") ∈ lw_all := lw_g (lw_at lw_m6 59 rfl) rfl
theorem q1419 : (Jvm.Cond.fieldLink "CityBrigade$Call" (30 : Nat) "CityBrigade$Call" "began" "I") ∈ lw_all := lw_g (lw_at lw_m6 61 rfl) rfl
theorem q1421 : (Jvm.Cond.fieldLink "CityBrigade$Call" (9 : Nat) "CityBrigade$Call" "word" "I") ∈ lw_all := lw_g (lw_at lw_m6 63 rfl) rfl
theorem q1423 : (Jvm.Cond.fieldLink "CityBrigade$Call" (15 : Nat) "CityBrigade$Call" "what" "I") ∈ lw_all := lw_g (lw_at lw_m6 65 rfl) rfl
theorem q1425 : (Jvm.Cond.fieldLink "CityBrigade$Call" (18 : Nat) "CityBrigade$Call" "ended" "I") ∈ lw_all := lw_g (lw_at lw_m6 67 rfl) rfl
theorem q1429 : (Jvm.Cond.fieldLink "CityBrigade$Call" (21 : Nat) "CityBrigade$Call" "times" "I") ∈ lw_all := lw_g (lw_at lw_m6 71 rfl) rfl
theorem q1432 : (Jvm.Cond.laysFinal "CityBrigade$Call" "CityBrigade$Call" "number" "I") ∈ lw_all := lw_g (lw_at lw_m6 74 rfl) rfl
theorem q1433 : (Jvm.Cond.soleField "CityBrigade$Call" "number") ∈ lw_all := lw_g (lw_at lw_m6 75 rfl) rfl
theorem q1434 : (Jvm.Cond.laysFinal "CityBrigade$Call" "CityBrigade$Call" "corner" "I") ∈ lw_all := lw_g (lw_at lw_m6 76 rfl) rfl
theorem q1435 : (Jvm.Cond.soleField "CityBrigade$Call" "corner") ∈ lw_all := lw_g (lw_at lw_m6 77 rfl) rfl
theorem q1436 : (Jvm.Cond.laysFinal "CityBrigade$Call" "CityBrigade$Call" "began" "I") ∈ lw_all := lw_g (lw_at lw_m6 78 rfl) rfl
theorem q1437 : (Jvm.Cond.soleField "CityBrigade$Call" "began") ∈ lw_all := lw_g (lw_at lw_m6 79 rfl) rfl
theorem q1438 : (Jvm.Cond.lays "CityBrigade$Call" "CityBrigade$Call" "word" "I") ∈ lw_all := lw_g (lw_at lw_m6 80 rfl) rfl
theorem q1439 : (Jvm.Cond.soleField "CityBrigade$Call" "word") ∈ lw_all := lw_g (lw_at lw_m6 81 rfl) rfl
theorem q1440 : (Jvm.Cond.lays "CityBrigade$Call" "CityBrigade$Call" "what" "I") ∈ lw_all := lw_g (lw_at lw_m6 82 rfl) rfl
theorem q1441 : (Jvm.Cond.soleField "CityBrigade$Call" "what") ∈ lw_all := lw_g (lw_at lw_m6 83 rfl) rfl
theorem q1442 : (Jvm.Cond.lays "CityBrigade$Call" "CityBrigade$Call" "ended" "I") ∈ lw_all := lw_g (lw_at lw_m6 84 rfl) rfl
theorem q1443 : (Jvm.Cond.soleField "CityBrigade$Call" "ended") ∈ lw_all := lw_g (lw_at lw_m6 85 rfl) rfl
theorem q1444 : (Jvm.Cond.lays "CityBrigade$Call" "CityBrigade$Call" "sent" "I") ∈ lw_all := lw_g (lw_at lw_m6 86 rfl) rfl
theorem q1445 : (Jvm.Cond.soleField "CityBrigade$Call" "sent") ∈ lw_all := lw_g (lw_at lw_m6 87 rfl) rfl
theorem q1446 : (Jvm.Cond.lays "CityBrigade$Call" "CityBrigade$Call" "lacks" "I") ∈ lw_all := lw_g (lw_at lw_m6 88 rfl) rfl
theorem q1447 : (Jvm.Cond.soleField "CityBrigade$Call" "lacks") ∈ lw_all := lw_g (lw_at lw_m6 89 rfl) rfl
theorem q1448 : (Jvm.Cond.lays "CityBrigade$Call" "CityBrigade$Call" "times" "I") ∈ lw_all := lw_g (lw_at lw_m6 90 rfl) rfl
theorem q1449 : (Jvm.Cond.soleField "CityBrigade$Call" "times") ∈ lw_all := lw_g (lw_at lw_m6 91 rfl) rfl
theorem q1450 : (Jvm.Cond.lays "CityBrigade$Call" "CityBrigade$Call" "burned" "Z") ∈ lw_all := lw_g (lw_at lw_m6 92 rfl) rfl
theorem q1451 : (Jvm.Cond.soleField "CityBrigade$Call" "burned") ∈ lw_all := lw_g (lw_at lw_m6 93 rfl) rfl
theorem q1452 : (Jvm.Cond.superclass "CityBrigade$Call" "java/lang/Object") ∈ lw_all := lw_g (lw_at lw_m6 94 rfl) rfl
theorem q2860 : (Jvm.Cond.castable "CityBrigade$Call" "java/lang/Object") ∈ lw_tbl := lw_at lw_m12 62 rfl
theorem in_X13 : ∀ w ∈ wsX130, w ∈ lw_all := lw_in wsX130 [1432, 1434, 1436, 1438, 1440, 1442, 1444, 1446, 1448, 1450] (by decide +kernel) (by decide +kernel)
/-! CityBrigade$Test -/
set_option maxRecDepth 100000
def RX14 : String := "CityBrigade$Test"
abbrev cX14_init : ByteArray := prog_27_method_1_code
def yX14_init : MethodName := ⟨RX14, "<init>", "()V"⟩
theorem dX14_init_0 : decode cX14_init 0 = .ok (.aload_n 0, 1) := by decide +kernel
theorem dX14_init_1 : decode cX14_init 1 = .ok (.invokespecial 1, 3) := by decide +kernel
theorem dX14_init_4 : decode cX14_init 4 = .ok (.return_, 1) := by decide +kernel
theorem q183 : (Jvm.Cond.initialized "CityBrigade$Test") ∈ lw_all := lw_g (lw_at lw_m1 25 rfl) rfl
theorem q1090 : (Jvm.Cond.instanceMethod ({ cls := "CityBrigade$Test", name := "<init>", desc := "()V" } : Jvm.MethodName)) ∈ lw_all := lw_g (lw_at lw_m4 212 rfl) rfl
theorem q1091 : (Jvm.Cond.code ({ cls := "CityBrigade$Test", name := "<init>", desc := "()V" } : Jvm.MethodName) prog_27_method_1_code (1 : Nat) (Option.none : Option Jvm.ClassFile.FieldType)) ∈ lw_all := lw_g (lw_at lw_m4 213 rfl) rfl
theorem q1092 : (Jvm.Cond.methodLink "CityBrigade$Test" (1 : Nat) ({ cls := "java/lang/Object", name := "<init>", desc := "()V" } : Jvm.MethodName)) ∈ lw_all := lw_g (lw_at lw_m4 214 rfl) rfl
theorem q1364 : (Jvm.Cond.declares ({ cls := "CityBrigade$Test", name := "holds", desc := "([I)Z" } : Jvm.MethodName)) ∈ lw_tbl := lw_at lw_m6 6 rfl
theorem q1365 : (Jvm.Cond.sameMethod "CityBrigade$Test" "CityBrigade$Test" "holds" "([I)Z") ∈ lw_all := lw_g (lw_at lw_m6 7 rfl) rfl
/-! CityBrigade$Not -/
set_option maxRecDepth 100000
def RX15 : String := "CityBrigade$Not"
def TX15 : u_T := fun k => match k with
  | _ => ("CityBrigade$Not", "test", "LCityBrigade$Test;", true)
def tyX15 : Nat → FieldType := fun k => match k with
  | _ => .object "CityBrigade$Test"
abbrev wsX150 : List Cond := u_ws RX15 TX15 1
theorem nmX15 : ∀ a, a < 1 → ∀ b, b < 1 → a ≠ b → (TX15 a).2.1 ≠ (TX15 b).2.1 := by decide +kernel
theorem tyX15_ok : ∀ k, k < 1 → parseFieldDescriptor (TX15 k).2.2.1 = some (tyX15 k) := by decide +kernel
abbrev cX15_init : ByteArray := prog_19_method_1_code
def yX15_init : MethodName := ⟨RX15, "<init>", "(LCityBrigade$Test;)V"⟩
def dkwX15_init_0 : List UInt8 := [42, 183, 0, 1, 42, 43, 181, 0, 7, 177]
abbrev dktX15_init_0 : List UInt8 := dkwX15_init_0 ++ []
theorem dksX15_init_0 : cX15_init.data.toList.drop 0 = dktX15_init_0 := by decide +kernel
theorem dX15_init_0 : decode cX15_init 0 = .ok (.aload_n 0, 1) := dk_42 (dk_at dksX15_init_0 0 rfl rfl)
theorem dX15_init_1 : decode cX15_init 1 = .ok (.invokespecial 1, 3) := dk_183 0 1 (dk_at dksX15_init_0 1 rfl rfl)
theorem dX15_init_4 : decode cX15_init 4 = .ok (.aload_n 0, 1) := dk_42 (dk_at dksX15_init_0 4 rfl rfl)
theorem dX15_init_5 : decode cX15_init 5 = .ok (.aload_n 1, 1) := dk_43 (dk_at dksX15_init_0 5 rfl rfl)
theorem dX15_init_6 : decode cX15_init 6 = .ok (.putfield 7, 3) := dk_181 0 7 (dk_at dksX15_init_0 6 rfl rfl)
theorem dX15_init_9 : decode cX15_init 9 = .ok (.return_, 1) := dk_177 (dk_at dksX15_init_0 9 rfl rfl)
abbrev cX15_holds : ByteArray := prog_19_method_2_code
def yX15_holds : MethodName := ⟨RX15, "holds", "([I)Z"⟩
def dkwX15_holds_0 : List UInt8 := [42, 180, 0, 7, 43, 182, 0, 13, 154, 0, 7, 4, 167, 0, 4, 3, 172]
abbrev dktX15_holds_0 : List UInt8 := dkwX15_holds_0 ++ []
theorem dksX15_holds_0 : cX15_holds.data.toList.drop 0 = dktX15_holds_0 := by decide +kernel
theorem dX15_holds_0 : decode cX15_holds 0 = .ok (.aload_n 0, 1) := dk_42 (dk_at dksX15_holds_0 0 rfl rfl)
theorem dX15_holds_1 : decode cX15_holds 1 = .ok (.getfield 7, 3) := dk_180 0 7 (dk_at dksX15_holds_0 1 rfl rfl)
theorem dX15_holds_4 : decode cX15_holds 4 = .ok (.aload_n 1, 1) := dk_43 (dk_at dksX15_holds_0 4 rfl rfl)
theorem dX15_holds_5 : decode cX15_holds 5 = .ok (.invokevirtual 13, 3) := dk_182 0 13 (dk_at dksX15_holds_0 5 rfl rfl)
theorem dX15_holds_8 : decode cX15_holds 8 = .ok (.ifCond .ne 7, 3) := dk_154 0 7 (dk_at dksX15_holds_0 8 rfl rfl)
theorem dX15_holds_11 : decode cX15_holds 11 = .ok (.iconst 1, 1) := dk_4 (dk_at dksX15_holds_0 11 rfl rfl)
theorem dX15_holds_12 : decode cX15_holds 12 = .ok (.goto 4, 3) := dk_167 0 4 (dk_at dksX15_holds_0 12 rfl rfl)
theorem dX15_holds_15 : decode cX15_holds 15 = .ok (.iconst 0, 1) := dk_3 (dk_at dksX15_holds_0 15 rfl rfl)
theorem dX15_holds_16 : decode cX15_holds 16 = .ok (.ireturn, 1) := dk_172 (dk_at dksX15_holds_0 16 rfl rfl)
theorem q184 : (Jvm.Cond.initialized "CityBrigade$Not") ∈ lw_all := lw_g (lw_at lw_m1 26 rfl) rfl
theorem q1085 : (Jvm.Cond.instantiable "CityBrigade$Not" (1 : Nat)) ∈ lw_all := lw_g (lw_at lw_m4 207 rfl) rfl
theorem q1087 : (Jvm.Cond.instanceMethod ({ cls := "CityBrigade$Not", name := "<init>", desc := "(LCityBrigade$Test;)V" } : Jvm.MethodName)) ∈ lw_all := lw_g (lw_at lw_m4 209 rfl) rfl
theorem q1088 : (Jvm.Cond.code ({ cls := "CityBrigade$Not", name := "<init>", desc := "(LCityBrigade$Test;)V" } : Jvm.MethodName) prog_19_method_1_code (2 : Nat) (Option.none : Option Jvm.ClassFile.FieldType)) ∈ lw_all := lw_g (lw_at lw_m4 210 rfl) rfl
theorem q1089 : (Jvm.Cond.methodLinkNest "CityBrigade$Not" (1 : Nat) ({ cls := "CityBrigade$Test", name := "<init>", desc := "()V" } : Jvm.MethodName) "CityBrigade") ∈ lw_tbl := lw_at lw_m4 211 rfl
theorem q1093 : (Jvm.Cond.fieldLink "CityBrigade$Not" (7 : Nat) "CityBrigade$Not" "test" "LCityBrigade$Test;") ∈ lw_all := lw_g (lw_at lw_m4 215 rfl) rfl
theorem q1094 : (Jvm.Cond.laysFinal "CityBrigade$Not" "CityBrigade$Not" "test" "LCityBrigade$Test;") ∈ lw_all := lw_g (lw_at lw_m4 216 rfl) rfl
theorem q1095 : (Jvm.Cond.soleField "CityBrigade$Not" "test") ∈ lw_all := lw_g (lw_at lw_m4 217 rfl) rfl
theorem q1096 : (Jvm.Cond.superclass "CityBrigade$Not" "CityBrigade$Test") ∈ lw_all := lw_g (lw_at lw_m4 218 rfl) rfl
theorem q1393 : (Jvm.Cond.instanceMethod ({ cls := "CityBrigade$Not", name := "holds", desc := "([I)Z" } : Jvm.MethodName)) ∈ lw_all := lw_g (lw_at lw_m6 35 rfl) rfl
theorem q1394 : (Jvm.Cond.code ({ cls := "CityBrigade$Not", name := "holds", desc := "([I)Z" } : Jvm.MethodName) prog_19_method_2_code (2 : Nat) (Option.some Jvm.ClassFile.FieldType.boolean)) ∈ lw_all := lw_g (lw_at lw_m6 36 rfl) rfl
theorem q1395 : (Jvm.Cond.methodLink "CityBrigade$Not" (13 : Nat) ({ cls := "CityBrigade$Test", name := "holds", desc := "([I)Z" } : Jvm.MethodName)) ∈ lw_all := lw_g (lw_at lw_m6 37 rfl) rfl
theorem q1397 : (Jvm.Cond.selects "CityBrigade$Not" ({ cls := "CityBrigade$Test", name := "holds", desc := "([I)Z" } : Jvm.MethodName) ({ cls := "CityBrigade$Not", name := "holds", desc := "([I)Z" } : Jvm.MethodName)) ∈ lw_all := lw_g (lw_at lw_m6 39 rfl) rfl
theorem q2861 : (Jvm.Cond.castable "CityBrigade$Not" "java/lang/Object") ∈ lw_tbl := lw_at lw_m12 63 rfl
theorem in_X15 : ∀ w ∈ wsX150, w ∈ lw_all := lw_in wsX150 [1094] (by decide +kernel) (by decide +kernel)
/-! CityBrigade$Sum -/
set_option maxRecDepth 100000
def RX16 : String := "CityBrigade$Sum"
abbrev cX16_init : ByteArray := prog_26_method_1_code
def yX16_init : MethodName := ⟨RX16, "<init>", "()V"⟩
theorem dX16_init_0 : decode cX16_init 0 = .ok (.aload_n 0, 1) := by decide +kernel
theorem dX16_init_1 : decode cX16_init 1 = .ok (.invokespecial 1, 3) := by decide +kernel
theorem dX16_init_4 : decode cX16_init 4 = .ok (.return_, 1) := by decide +kernel
theorem q185 : (Jvm.Cond.initialized "CityBrigade$Sum") ∈ lw_all := lw_g (lw_at lw_m1 27 rfl) rfl
theorem q1209 : (Jvm.Cond.instanceMethod ({ cls := "CityBrigade$Sum", name := "<init>", desc := "()V" } : Jvm.MethodName)) ∈ lw_all := lw_g (lw_at lw_m5 91 rfl) rfl
theorem q1210 : (Jvm.Cond.code ({ cls := "CityBrigade$Sum", name := "<init>", desc := "()V" } : Jvm.MethodName) prog_26_method_1_code (1 : Nat) (Option.none : Option Jvm.ClassFile.FieldType)) ∈ lw_all := lw_g (lw_at lw_m5 92 rfl) rfl
theorem q1211 : (Jvm.Cond.methodLink "CityBrigade$Sum" (1 : Nat) ({ cls := "java/lang/Object", name := "<init>", desc := "()V" } : Jvm.MethodName)) ∈ lw_all := lw_g (lw_at lw_m5 93 rfl) rfl
theorem q1373 : (Jvm.Cond.declares ({ cls := "CityBrigade$Sum", name := "value", desc := "([I)I" } : Jvm.MethodName)) ∈ lw_tbl := lw_at lw_m6 15 rfl
theorem q1374 : (Jvm.Cond.sameMethod "CityBrigade$Sum" "CityBrigade$Sum" "value" "([I)I") ∈ lw_all := lw_g (lw_at lw_m6 16 rfl) rfl
/-! CityBrigade$Letter -/
set_option maxRecDepth 100000
def RX17 : String := "CityBrigade$Letter"
def TX17 : u_T := fun k => match k with
  | _ => ("CityBrigade$Letter", "c", "I", true)
def tyX17 : Nat → FieldType := fun k => match k with
  | _ => .int
abbrev wsX170 : List Cond := u_ws RX17 TX17 1
theorem nmX17 : ∀ a, a < 1 → ∀ b, b < 1 → a ≠ b → (TX17 a).2.1 ≠ (TX17 b).2.1 := by decide +kernel
theorem tyX17_ok : ∀ k, k < 1 → parseFieldDescriptor (TX17 k).2.2.1 = some (tyX17 k) := by decide +kernel
abbrev cX17_init : ByteArray := prog_18_method_1_code
def yX17_init : MethodName := ⟨RX17, "<init>", "(I)V"⟩
def dkwX17_init_0 : List UInt8 := [42, 183, 0, 1, 42, 27, 181, 0, 7, 177]
abbrev dktX17_init_0 : List UInt8 := dkwX17_init_0 ++ []
theorem dksX17_init_0 : cX17_init.data.toList.drop 0 = dktX17_init_0 := by decide +kernel
theorem dX17_init_0 : decode cX17_init 0 = .ok (.aload_n 0, 1) := dk_42 (dk_at dksX17_init_0 0 rfl rfl)
theorem dX17_init_1 : decode cX17_init 1 = .ok (.invokespecial 1, 3) := dk_183 0 1 (dk_at dksX17_init_0 1 rfl rfl)
theorem dX17_init_4 : decode cX17_init 4 = .ok (.aload_n 0, 1) := dk_42 (dk_at dksX17_init_0 4 rfl rfl)
theorem dX17_init_5 : decode cX17_init 5 = .ok (.iload_n 1, 1) := dk_27 (dk_at dksX17_init_0 5 rfl rfl)
theorem dX17_init_6 : decode cX17_init 6 = .ok (.putfield 7, 3) := dk_181 0 7 (dk_at dksX17_init_0 6 rfl rfl)
theorem dX17_init_9 : decode cX17_init 9 = .ok (.return_, 1) := dk_177 (dk_at dksX17_init_0 9 rfl rfl)
abbrev cX17_value : ByteArray := prog_18_method_2_code
def yX17_value : MethodName := ⟨RX17, "value", "([I)I"⟩
def dkwX17_value_0 : List UInt8 := [43, 42, 180, 0, 7, 46, 172]
abbrev dktX17_value_0 : List UInt8 := dkwX17_value_0 ++ []
theorem dksX17_value_0 : cX17_value.data.toList.drop 0 = dktX17_value_0 := by decide +kernel
theorem dX17_value_0 : decode cX17_value 0 = .ok (.aload_n 1, 1) := dk_43 (dk_at dksX17_value_0 0 rfl rfl)
theorem dX17_value_1 : decode cX17_value 1 = .ok (.aload_n 0, 1) := dk_42 (dk_at dksX17_value_0 1 rfl rfl)
theorem dX17_value_2 : decode cX17_value 2 = .ok (.getfield 7, 3) := dk_180 0 7 (dk_at dksX17_value_0 2 rfl rfl)
theorem dX17_value_5 : decode cX17_value 5 = .ok (.iaload, 1) := dk_46 (dk_at dksX17_value_0 5 rfl rfl)
theorem dX17_value_6 : decode cX17_value 6 = .ok (.ireturn, 1) := dk_172 (dk_at dksX17_value_0 6 rfl rfl)
theorem q186 : (Jvm.Cond.initialized "CityBrigade$Letter") ∈ lw_all := lw_g (lw_at lw_m1 28 rfl) rfl
theorem q1204 : (Jvm.Cond.instantiable "CityBrigade$Letter" (1 : Nat)) ∈ lw_all := lw_g (lw_at lw_m5 86 rfl) rfl
theorem q1206 : (Jvm.Cond.instanceMethod ({ cls := "CityBrigade$Letter", name := "<init>", desc := "(I)V" } : Jvm.MethodName)) ∈ lw_all := lw_g (lw_at lw_m5 88 rfl) rfl
theorem q1207 : (Jvm.Cond.code ({ cls := "CityBrigade$Letter", name := "<init>", desc := "(I)V" } : Jvm.MethodName) prog_18_method_1_code (2 : Nat) (Option.none : Option Jvm.ClassFile.FieldType)) ∈ lw_all := lw_g (lw_at lw_m5 89 rfl) rfl
theorem q1208 : (Jvm.Cond.methodLinkNest "CityBrigade$Letter" (1 : Nat) ({ cls := "CityBrigade$Sum", name := "<init>", desc := "()V" } : Jvm.MethodName) "CityBrigade") ∈ lw_tbl := lw_at lw_m5 90 rfl
theorem q1212 : (Jvm.Cond.fieldLink "CityBrigade$Letter" (7 : Nat) "CityBrigade$Letter" "c" "I") ∈ lw_all := lw_g (lw_at lw_m5 94 rfl) rfl
theorem q1213 : (Jvm.Cond.laysFinal "CityBrigade$Letter" "CityBrigade$Letter" "c" "I") ∈ lw_all := lw_g (lw_at lw_m5 95 rfl) rfl
theorem q1214 : (Jvm.Cond.soleField "CityBrigade$Letter" "c") ∈ lw_all := lw_g (lw_at lw_m5 96 rfl) rfl
theorem q1215 : (Jvm.Cond.superclass "CityBrigade$Letter" "CityBrigade$Sum") ∈ lw_all := lw_g (lw_at lw_m5 97 rfl) rfl
theorem q1375 : (Jvm.Cond.selects "CityBrigade$Letter" ({ cls := "CityBrigade$Sum", name := "value", desc := "([I)I" } : Jvm.MethodName) ({ cls := "CityBrigade$Letter", name := "value", desc := "([I)I" } : Jvm.MethodName)) ∈ lw_all := lw_g (lw_at lw_m6 17 rfl) rfl
theorem q1376 : (Jvm.Cond.instanceMethod ({ cls := "CityBrigade$Letter", name := "value", desc := "([I)I" } : Jvm.MethodName)) ∈ lw_all := lw_g (lw_at lw_m6 18 rfl) rfl
theorem q1377 : (Jvm.Cond.code ({ cls := "CityBrigade$Letter", name := "value", desc := "([I)I" } : Jvm.MethodName) prog_18_method_2_code (2 : Nat) (Option.some Jvm.ClassFile.FieldType.int)) ∈ lw_all := lw_g (lw_at lw_m6 19 rfl) rfl
theorem q2862 : (Jvm.Cond.castable "CityBrigade$Letter" "java/lang/Object") ∈ lw_tbl := lw_at lw_m12 64 rfl
theorem in_X17 : ∀ w ∈ wsX170, w ∈ lw_all := lw_in wsX170 [1213] (by decide +kernel) (by decide +kernel)
/-! CityBrigade$Number -/
set_option maxRecDepth 100000
def RX18 : String := "CityBrigade$Number"
def TX18 : u_T := fun k => match k with
  | _ => ("CityBrigade$Number", "v", "I", true)
def tyX18 : Nat → FieldType := fun k => match k with
  | _ => .int
abbrev wsX180 : List Cond := u_ws RX18 TX18 1
theorem nmX18 : ∀ a, a < 1 → ∀ b, b < 1 → a ≠ b → (TX18 a).2.1 ≠ (TX18 b).2.1 := by decide +kernel
theorem tyX18_ok : ∀ k, k < 1 → parseFieldDescriptor (TX18 k).2.2.1 = some (tyX18 k) := by decide +kernel
abbrev cX18_init : ByteArray := prog_20_method_1_code
def yX18_init : MethodName := ⟨RX18, "<init>", "(I)V"⟩
def dkwX18_init_0 : List UInt8 := [42, 183, 0, 1, 42, 27, 181, 0, 7, 177]
abbrev dktX18_init_0 : List UInt8 := dkwX18_init_0 ++ []
theorem dksX18_init_0 : cX18_init.data.toList.drop 0 = dktX18_init_0 := by decide +kernel
theorem dX18_init_0 : decode cX18_init 0 = .ok (.aload_n 0, 1) := dk_42 (dk_at dksX18_init_0 0 rfl rfl)
theorem dX18_init_1 : decode cX18_init 1 = .ok (.invokespecial 1, 3) := dk_183 0 1 (dk_at dksX18_init_0 1 rfl rfl)
theorem dX18_init_4 : decode cX18_init 4 = .ok (.aload_n 0, 1) := dk_42 (dk_at dksX18_init_0 4 rfl rfl)
theorem dX18_init_5 : decode cX18_init 5 = .ok (.iload_n 1, 1) := dk_27 (dk_at dksX18_init_0 5 rfl rfl)
theorem dX18_init_6 : decode cX18_init 6 = .ok (.putfield 7, 3) := dk_181 0 7 (dk_at dksX18_init_0 6 rfl rfl)
theorem dX18_init_9 : decode cX18_init 9 = .ok (.return_, 1) := dk_177 (dk_at dksX18_init_0 9 rfl rfl)
abbrev cX18_value : ByteArray := prog_20_method_2_code
def yX18_value : MethodName := ⟨RX18, "value", "([I)I"⟩
theorem dX18_value_0 : decode cX18_value 0 = .ok (.aload_n 0, 1) := by decide +kernel
theorem dX18_value_1 : decode cX18_value 1 = .ok (.getfield 7, 3) := by decide +kernel
theorem dX18_value_4 : decode cX18_value 4 = .ok (.ireturn, 1) := by decide +kernel
theorem q187 : (Jvm.Cond.initialized "CityBrigade$Number") ∈ lw_all := lw_g (lw_at lw_m1 29 rfl) rfl
theorem q1217 : (Jvm.Cond.instantiable "CityBrigade$Number" (1 : Nat)) ∈ lw_all := lw_g (lw_at lw_m5 99 rfl) rfl
theorem q1226 : (Jvm.Cond.instanceMethod ({ cls := "CityBrigade$Number", name := "<init>", desc := "(I)V" } : Jvm.MethodName)) ∈ lw_all := lw_g (lw_at lw_m5 108 rfl) rfl
theorem q1227 : (Jvm.Cond.code ({ cls := "CityBrigade$Number", name := "<init>", desc := "(I)V" } : Jvm.MethodName) prog_20_method_1_code (2 : Nat) (Option.none : Option Jvm.ClassFile.FieldType)) ∈ lw_all := lw_g (lw_at lw_m5 109 rfl) rfl
theorem q1228 : (Jvm.Cond.methodLinkNest "CityBrigade$Number" (1 : Nat) ({ cls := "CityBrigade$Sum", name := "<init>", desc := "()V" } : Jvm.MethodName) "CityBrigade") ∈ lw_tbl := lw_at lw_m5 110 rfl
theorem q1229 : (Jvm.Cond.fieldLink "CityBrigade$Number" (7 : Nat) "CityBrigade$Number" "v" "I") ∈ lw_all := lw_g (lw_at lw_m5 111 rfl) rfl
theorem q1230 : (Jvm.Cond.laysFinal "CityBrigade$Number" "CityBrigade$Number" "v" "I") ∈ lw_all := lw_g (lw_at lw_m5 112 rfl) rfl
theorem q1231 : (Jvm.Cond.soleField "CityBrigade$Number" "v") ∈ lw_all := lw_g (lw_at lw_m5 113 rfl) rfl
theorem q1232 : (Jvm.Cond.superclass "CityBrigade$Number" "CityBrigade$Sum") ∈ lw_all := lw_g (lw_at lw_m5 114 rfl) rfl
theorem q1378 : (Jvm.Cond.selects "CityBrigade$Number" ({ cls := "CityBrigade$Sum", name := "value", desc := "([I)I" } : Jvm.MethodName) ({ cls := "CityBrigade$Number", name := "value", desc := "([I)I" } : Jvm.MethodName)) ∈ lw_all := lw_g (lw_at lw_m6 20 rfl) rfl
theorem q1379 : (Jvm.Cond.instanceMethod ({ cls := "CityBrigade$Number", name := "value", desc := "([I)I" } : Jvm.MethodName)) ∈ lw_all := lw_g (lw_at lw_m6 21 rfl) rfl
theorem q1380 : (Jvm.Cond.code ({ cls := "CityBrigade$Number", name := "value", desc := "([I)I" } : Jvm.MethodName) prog_20_method_2_code (2 : Nat) (Option.some Jvm.ClassFile.FieldType.int)) ∈ lw_all := lw_g (lw_at lw_m6 22 rfl) rfl
theorem q2863 : (Jvm.Cond.castable "CityBrigade$Number" "java/lang/Object") ∈ lw_tbl := lw_at lw_m12 65 rfl
theorem in_X18 : ∀ w ∈ wsX180, w ∈ lw_all := lw_in wsX180 [1230] (by decide +kernel) (by decide +kernel)
/-! CityBrigade$Two -/
set_option maxRecDepth 100000
def RX19 : String := "CityBrigade$Two"
def TX19 : u_T := fun k => match k with
  | 0 => ("CityBrigade$Two", "sign", "I", true)
  | 1 => ("CityBrigade$Two", "one", "LCityBrigade$Sum;", true)
  | _ => ("CityBrigade$Two", "other", "LCityBrigade$Sum;", true)
def tyX19 : Nat → FieldType := fun k => match k with
  | 0 => .int
  | 1 => .object "CityBrigade$Sum"
  | _ => .object "CityBrigade$Sum"
abbrev wsX190 : List Cond := u_ws RX19 TX19 3
theorem nmX19 : ∀ a, a < 3 → ∀ b, b < 3 → a ≠ b → (TX19 a).2.1 ≠ (TX19 b).2.1 := by decide +kernel
theorem tyX19_ok : ∀ k, k < 3 → parseFieldDescriptor (TX19 k).2.2.1 = some (tyX19 k) := by decide +kernel
abbrev cX19_init : ByteArray := prog_29_method_1_code
def yX19_init : MethodName := ⟨RX19, "<init>", "(ILCityBrigade$Sum;LCityBrigade$Sum;)V"⟩
def dkwX19_init_0 : List UInt8 := [42, 183, 0, 3, 42, 27, 181, 0, 9, 42, 44, 181, 0, 15, 42, 45, 181, 0, 19, 177]
abbrev dktX19_init_0 : List UInt8 := dkwX19_init_0 ++ []
theorem dksX19_init_0 : cX19_init.data.toList.drop 0 = dktX19_init_0 := by decide +kernel
theorem dX19_init_0 : decode cX19_init 0 = .ok (.aload_n 0, 1) := dk_42 (dk_at dksX19_init_0 0 rfl rfl)
theorem dX19_init_1 : decode cX19_init 1 = .ok (.invokespecial 3, 3) := dk_183 0 3 (dk_at dksX19_init_0 1 rfl rfl)
theorem dX19_init_4 : decode cX19_init 4 = .ok (.aload_n 0, 1) := dk_42 (dk_at dksX19_init_0 4 rfl rfl)
theorem dX19_init_5 : decode cX19_init 5 = .ok (.iload_n 1, 1) := dk_27 (dk_at dksX19_init_0 5 rfl rfl)
theorem dX19_init_6 : decode cX19_init 6 = .ok (.putfield 9, 3) := dk_181 0 9 (dk_at dksX19_init_0 6 rfl rfl)
theorem dX19_init_9 : decode cX19_init 9 = .ok (.aload_n 0, 1) := dk_42 (dk_at dksX19_init_0 9 rfl rfl)
theorem dX19_init_10 : decode cX19_init 10 = .ok (.aload_n 2, 1) := dk_44 (dk_at dksX19_init_0 10 rfl rfl)
theorem dX19_init_11 : decode cX19_init 11 = .ok (.putfield 15, 3) := dk_181 0 15 (dk_at dksX19_init_0 11 rfl rfl)
theorem dX19_init_14 : decode cX19_init 14 = .ok (.aload_n 0, 1) := dk_42 (dk_at dksX19_init_0 14 rfl rfl)
theorem dX19_init_15 : decode cX19_init 15 = .ok (.aload_n 3, 1) := dk_45 (dk_at dksX19_init_0 15 rfl rfl)
theorem dX19_init_16 : decode cX19_init 16 = .ok (.putfield 19, 3) := dk_181 0 19 (dk_at dksX19_init_0 16 rfl rfl)
theorem dX19_init_19 : decode cX19_init 19 = .ok (.return_, 1) := dk_177 (dk_at dksX19_init_0 19 rfl rfl)
abbrev cX19_value : ByteArray := prog_29_method_2_code
def yX19_value : MethodName := ⟨RX19, "value", "([I)I"⟩
def dkwX19_value_3 : List UInt8 := [184, 0, 36, 136, 172]
abbrev dktX19_value_3 : List UInt8 := dkwX19_value_3 ++ []
def dkwX19_value_2 : List UInt8 := [32, 22, 4, 101, 167, 0, 7, 32, 22, 4, 105, 55, 6, 20, 0, 26, 20, 0, 28, 22, 6, 184, 0, 30]
abbrev dktX19_value_2 : List UInt8 := dkwX19_value_2 ++ dktX19_value_3
def dkwX19_value_1 : List UInt8 := [180, 0, 9, 16, 43, 160, 0, 10, 32, 22, 4, 97, 167, 0, 23, 42, 180, 0, 9, 16, 45, 160, 0, 10]
abbrev dktX19_value_1 : List UInt8 := dkwX19_value_1 ++ dktX19_value_2
def dkwX19_value_0 : List UInt8 := [42, 180, 0, 15, 43, 182, 0, 22, 133, 65, 42, 180, 0, 19, 43, 182, 0, 22, 133, 55, 4, 42]
abbrev dktX19_value_0 : List UInt8 := dkwX19_value_0 ++ dktX19_value_1
theorem dksX19_value_0 : cX19_value.data.toList.drop 0 = dktX19_value_0 := by decide +kernel
theorem dksX19_value_1 : cX19_value.data.toList.drop 22 = dktX19_value_1 := dk_seg dksX19_value_0 22 rfl rfl
theorem dksX19_value_2 : cX19_value.data.toList.drop 46 = dktX19_value_2 := dk_seg dksX19_value_1 24 rfl rfl
theorem dksX19_value_3 : cX19_value.data.toList.drop 70 = dktX19_value_3 := dk_seg dksX19_value_2 24 rfl rfl
theorem dX19_value_0 : decode cX19_value 0 = .ok (.aload_n 0, 1) := dk_42 (dk_at dksX19_value_0 0 rfl rfl)
theorem dX19_value_1 : decode cX19_value 1 = .ok (.getfield 15, 3) := dk_180 0 15 (dk_at dksX19_value_0 1 rfl rfl)
theorem dX19_value_4 : decode cX19_value 4 = .ok (.aload_n 1, 1) := dk_43 (dk_at dksX19_value_0 4 rfl rfl)
theorem dX19_value_5 : decode cX19_value 5 = .ok (.invokevirtual 22, 3) := dk_182 0 22 (dk_at dksX19_value_0 5 rfl rfl)
theorem dX19_value_8 : decode cX19_value 8 = .ok (.i2l, 1) := dk_133 (dk_at dksX19_value_0 8 rfl rfl)
theorem dX19_value_9 : decode cX19_value 9 = .ok (.lstore_n 2, 1) := dk_65 (dk_at dksX19_value_0 9 rfl rfl)
theorem dX19_value_10 : decode cX19_value 10 = .ok (.aload_n 0, 1) := dk_42 (dk_at dksX19_value_0 10 rfl rfl)
theorem dX19_value_11 : decode cX19_value 11 = .ok (.getfield 19, 3) := dk_180 0 19 (dk_at dksX19_value_0 11 rfl rfl)
theorem dX19_value_14 : decode cX19_value 14 = .ok (.aload_n 1, 1) := dk_43 (dk_at dksX19_value_0 14 rfl rfl)
theorem dX19_value_15 : decode cX19_value 15 = .ok (.invokevirtual 22, 3) := dk_182 0 22 (dk_at dksX19_value_0 15 rfl rfl)
theorem dX19_value_18 : decode cX19_value 18 = .ok (.i2l, 1) := dk_133 (dk_at dksX19_value_0 18 rfl rfl)
theorem dX19_value_19 : decode cX19_value 19 = .ok (.lstore 4, 2) := dk_55 4 (dk_at dksX19_value_0 19 rfl rfl)
theorem dX19_value_21 : decode cX19_value 21 = .ok (.aload_n 0, 1) := dk_42 (dk_at dksX19_value_0 21 rfl rfl)
theorem dX19_value_22 : decode cX19_value 22 = .ok (.getfield 9, 3) := dk_180 0 9 (dk_at dksX19_value_1 0 rfl rfl)
theorem dX19_value_25 : decode cX19_value 25 = .ok (.bipush 43, 2) := dk_16 43 (dk_at dksX19_value_1 3 rfl rfl)
theorem dX19_value_27 : decode cX19_value 27 = .ok (.if_icmp .ne 10, 3) := dk_160 0 10 (dk_at dksX19_value_1 5 rfl rfl)
theorem dX19_value_30 : decode cX19_value 30 = .ok (.lload_n 2, 1) := dk_32 (dk_at dksX19_value_1 8 rfl rfl)
theorem dX19_value_31 : decode cX19_value 31 = .ok (.lload 4, 2) := dk_22 4 (dk_at dksX19_value_1 9 rfl rfl)
theorem dX19_value_33 : decode cX19_value 33 = .ok (.ladd, 1) := dk_97 (dk_at dksX19_value_1 11 rfl rfl)
theorem dX19_value_34 : decode cX19_value 34 = .ok (.goto 23, 3) := dk_167 0 23 (dk_at dksX19_value_1 12 rfl rfl)
theorem dX19_value_37 : decode cX19_value 37 = .ok (.aload_n 0, 1) := dk_42 (dk_at dksX19_value_1 15 rfl rfl)
theorem dX19_value_38 : decode cX19_value 38 = .ok (.getfield 9, 3) := dk_180 0 9 (dk_at dksX19_value_1 16 rfl rfl)
theorem dX19_value_41 : decode cX19_value 41 = .ok (.bipush 45, 2) := dk_16 45 (dk_at dksX19_value_1 19 rfl rfl)
theorem dX19_value_43 : decode cX19_value 43 = .ok (.if_icmp .ne 10, 3) := dk_160 0 10 (dk_at dksX19_value_1 21 rfl rfl)
theorem dX19_value_46 : decode cX19_value 46 = .ok (.lload_n 2, 1) := dk_32 (dk_at dksX19_value_2 0 rfl rfl)
theorem dX19_value_47 : decode cX19_value 47 = .ok (.lload 4, 2) := dk_22 4 (dk_at dksX19_value_2 1 rfl rfl)
theorem dX19_value_49 : decode cX19_value 49 = .ok (.lsub, 1) := dk_101 (dk_at dksX19_value_2 3 rfl rfl)
theorem dX19_value_50 : decode cX19_value 50 = .ok (.goto 7, 3) := dk_167 0 7 (dk_at dksX19_value_2 4 rfl rfl)
theorem dX19_value_53 : decode cX19_value 53 = .ok (.lload_n 2, 1) := dk_32 (dk_at dksX19_value_2 7 rfl rfl)
theorem dX19_value_54 : decode cX19_value 54 = .ok (.lload 4, 2) := dk_22 4 (dk_at dksX19_value_2 8 rfl rfl)
theorem dX19_value_56 : decode cX19_value 56 = .ok (.lmul, 1) := dk_105 (dk_at dksX19_value_2 10 rfl rfl)
theorem dX19_value_57 : decode cX19_value 57 = .ok (.lstore 6, 2) := dk_55 6 (dk_at dksX19_value_2 11 rfl rfl)
theorem dX19_value_59 : decode cX19_value 59 = .ok (.ldc2_w 26, 3) := dk_20 0 26 (dk_at dksX19_value_2 13 rfl rfl)
theorem dX19_value_62 : decode cX19_value 62 = .ok (.ldc2_w 28, 3) := dk_20 0 28 (dk_at dksX19_value_2 16 rfl rfl)
theorem dX19_value_65 : decode cX19_value 65 = .ok (.lload 6, 2) := dk_22 6 (dk_at dksX19_value_2 19 rfl rfl)
theorem dX19_value_67 : decode cX19_value 67 = .ok (.invokestatic 30, 3) := dk_184 0 30 (dk_at dksX19_value_2 21 rfl rfl)
theorem dX19_value_70 : decode cX19_value 70 = .ok (.invokestatic 36, 3) := dk_184 0 36 (dk_at dksX19_value_3 0 rfl rfl)
theorem dX19_value_73 : decode cX19_value 73 = .ok (.l2i, 1) := dk_136 (dk_at dksX19_value_3 3 rfl rfl)
theorem dX19_value_74 : decode cX19_value 74 = .ok (.ireturn, 1) := dk_172 (dk_at dksX19_value_3 4 rfl rfl)
theorem q188 : (Jvm.Cond.initialized "CityBrigade$Two") ∈ lw_all := lw_g (lw_at lw_m1 30 rfl) rfl
theorem q1234 : (Jvm.Cond.instantiable "CityBrigade$Two" (3 : Nat)) ∈ lw_all := lw_g (lw_at lw_m5 116 rfl) rfl
theorem q1236 : (Jvm.Cond.instanceMethod ({ cls := "CityBrigade$Two", name := "<init>", desc := "(ILCityBrigade$Sum;LCityBrigade$Sum;)V" } : Jvm.MethodName)) ∈ lw_all := lw_g (lw_at lw_m5 118 rfl) rfl
theorem q1237 : (Jvm.Cond.code ({ cls := "CityBrigade$Two", name := "<init>", desc := "(ILCityBrigade$Sum;LCityBrigade$Sum;)V" } : Jvm.MethodName) prog_29_method_1_code (4 : Nat) (Option.none : Option Jvm.ClassFile.FieldType)) ∈ lw_all := lw_g (lw_at lw_m5 119 rfl) rfl
theorem q1238 : (Jvm.Cond.methodLinkNest "CityBrigade$Two" (3 : Nat) ({ cls := "CityBrigade$Sum", name := "<init>", desc := "()V" } : Jvm.MethodName) "CityBrigade") ∈ lw_tbl := lw_at lw_m5 120 rfl
theorem q1239 : (Jvm.Cond.fieldLink "CityBrigade$Two" (9 : Nat) "CityBrigade$Two" "sign" "I") ∈ lw_all := lw_g (lw_at lw_m5 121 rfl) rfl
theorem q1240 : (Jvm.Cond.fieldLink "CityBrigade$Two" (15 : Nat) "CityBrigade$Two" "one" "LCityBrigade$Sum;") ∈ lw_all := lw_g (lw_at lw_m5 122 rfl) rfl
theorem q1241 : (Jvm.Cond.fieldLink "CityBrigade$Two" (19 : Nat) "CityBrigade$Two" "other" "LCityBrigade$Sum;") ∈ lw_all := lw_g (lw_at lw_m5 123 rfl) rfl
theorem q1242 : (Jvm.Cond.laysFinal "CityBrigade$Two" "CityBrigade$Two" "sign" "I") ∈ lw_all := lw_g (lw_at lw_m5 124 rfl) rfl
theorem q1243 : (Jvm.Cond.soleField "CityBrigade$Two" "sign") ∈ lw_all := lw_g (lw_at lw_m5 125 rfl) rfl
theorem q1244 : (Jvm.Cond.laysFinal "CityBrigade$Two" "CityBrigade$Two" "one" "LCityBrigade$Sum;") ∈ lw_all := lw_g (lw_at lw_m5 126 rfl) rfl
theorem q1245 : (Jvm.Cond.soleField "CityBrigade$Two" "one") ∈ lw_all := lw_g (lw_at lw_m5 127 rfl) rfl
theorem q1246 : (Jvm.Cond.laysFinal "CityBrigade$Two" "CityBrigade$Two" "other" "LCityBrigade$Sum;") ∈ lw_all := lw_g (lw_at lw_m5 128 rfl) rfl
theorem q1247 : (Jvm.Cond.soleField "CityBrigade$Two" "other") ∈ lw_all := lw_g (lw_at lw_m5 129 rfl) rfl
theorem q1248 : (Jvm.Cond.superclass "CityBrigade$Two" "CityBrigade$Sum") ∈ lw_all := lw_g (lw_at lw_m5 130 rfl) rfl
theorem q1381 : (Jvm.Cond.selects "CityBrigade$Two" ({ cls := "CityBrigade$Sum", name := "value", desc := "([I)I" } : Jvm.MethodName) ({ cls := "CityBrigade$Two", name := "value", desc := "([I)I" } : Jvm.MethodName)) ∈ lw_all := lw_g (lw_at lw_m6 23 rfl) rfl
theorem q1382 : (Jvm.Cond.instanceMethod ({ cls := "CityBrigade$Two", name := "value", desc := "([I)I" } : Jvm.MethodName)) ∈ lw_all := lw_g (lw_at lw_m6 24 rfl) rfl
theorem q1383 : (Jvm.Cond.code ({ cls := "CityBrigade$Two", name := "value", desc := "([I)I" } : Jvm.MethodName) prog_29_method_2_code (8 : Nat) (Option.some Jvm.ClassFile.FieldType.int)) ∈ lw_all := lw_g (lw_at lw_m6 25 rfl) rfl
theorem q1384 : (Jvm.Cond.methodLink "CityBrigade$Two" (22 : Nat) ({ cls := "CityBrigade$Sum", name := "value", desc := "([I)I" } : Jvm.MethodName)) ∈ lw_all := lw_g (lw_at lw_m6 26 rfl) rfl
theorem q1385 : (Jvm.Cond.constantLong "CityBrigade$Two" (26 : Nat) (-1000000 : Int64)) ∈ lw_all := lw_g (lw_at lw_m6 27 rfl) rfl
theorem q1386 : (Jvm.Cond.constantLong "CityBrigade$Two" (28 : Nat) (1000000 : Int64)) ∈ lw_all := lw_g (lw_at lw_m6 28 rfl) rfl
theorem q1387 : (Jvm.Cond.methodLink "CityBrigade$Two" (30 : Nat) ({ cls := "java/lang/Math", name := "min", desc := "(JJ)J" } : Jvm.MethodName)) ∈ lw_all := lw_g (lw_at lw_m6 29 rfl) rfl
theorem q1390 : (Jvm.Cond.methodLink "CityBrigade$Two" (36 : Nat) ({ cls := "java/lang/Math", name := "max", desc := "(JJ)J" } : Jvm.MethodName)) ∈ lw_all := lw_g (lw_at lw_m6 32 rfl) rfl
theorem q2864 : (Jvm.Cond.castable "CityBrigade$Two" "java/lang/Object") ∈ lw_tbl := lw_at lw_m12 66 rfl
theorem in_X19 : ∀ w ∈ wsX190, w ∈ lw_all := lw_in wsX190 [1242, 1244, 1246] (by decide +kernel) (by decide +kernel)
/-! CityBrigade$Compare -/
set_option maxRecDepth 100000
def RX20 : String := "CityBrigade$Compare"
def TX20 : u_T := fun k => match k with
  | 0 => ("CityBrigade$Compare", "sign", "I", true)
  | 1 => ("CityBrigade$Compare", "one", "LCityBrigade$Sum;", true)
  | _ => ("CityBrigade$Compare", "other", "LCityBrigade$Sum;", true)
def tyX20 : Nat → FieldType := fun k => match k with
  | 0 => .int
  | 1 => .object "CityBrigade$Sum"
  | _ => .object "CityBrigade$Sum"
abbrev wsX200 : List Cond := u_ws RX20 TX20 3
theorem nmX20 : ∀ a, a < 3 → ∀ b, b < 3 → a ≠ b → (TX20 a).2.1 ≠ (TX20 b).2.1 := by decide +kernel
theorem tyX20_ok : ∀ k, k < 3 → parseFieldDescriptor (TX20 k).2.2.1 = some (tyX20 k) := by decide +kernel
abbrev cX20_init : ByteArray := prog_8_method_1_code
def yX20_init : MethodName := ⟨RX20, "<init>", "(ILCityBrigade$Sum;LCityBrigade$Sum;)V"⟩
def dkwX20_init_0 : List UInt8 := [42, 183, 0, 1, 42, 27, 181, 0, 7, 42, 44, 181, 0, 13, 42, 45, 181, 0, 17, 177]
abbrev dktX20_init_0 : List UInt8 := dkwX20_init_0 ++ []
theorem dksX20_init_0 : cX20_init.data.toList.drop 0 = dktX20_init_0 := by decide +kernel
theorem dX20_init_0 : decode cX20_init 0 = .ok (.aload_n 0, 1) := dk_42 (dk_at dksX20_init_0 0 rfl rfl)
theorem dX20_init_1 : decode cX20_init 1 = .ok (.invokespecial 1, 3) := dk_183 0 1 (dk_at dksX20_init_0 1 rfl rfl)
theorem dX20_init_4 : decode cX20_init 4 = .ok (.aload_n 0, 1) := dk_42 (dk_at dksX20_init_0 4 rfl rfl)
theorem dX20_init_5 : decode cX20_init 5 = .ok (.iload_n 1, 1) := dk_27 (dk_at dksX20_init_0 5 rfl rfl)
theorem dX20_init_6 : decode cX20_init 6 = .ok (.putfield 7, 3) := dk_181 0 7 (dk_at dksX20_init_0 6 rfl rfl)
theorem dX20_init_9 : decode cX20_init 9 = .ok (.aload_n 0, 1) := dk_42 (dk_at dksX20_init_0 9 rfl rfl)
theorem dX20_init_10 : decode cX20_init 10 = .ok (.aload_n 2, 1) := dk_44 (dk_at dksX20_init_0 10 rfl rfl)
theorem dX20_init_11 : decode cX20_init 11 = .ok (.putfield 13, 3) := dk_181 0 13 (dk_at dksX20_init_0 11 rfl rfl)
theorem dX20_init_14 : decode cX20_init 14 = .ok (.aload_n 0, 1) := dk_42 (dk_at dksX20_init_0 14 rfl rfl)
theorem dX20_init_15 : decode cX20_init 15 = .ok (.aload_n 3, 1) := dk_45 (dk_at dksX20_init_0 15 rfl rfl)
theorem dX20_init_16 : decode cX20_init 16 = .ok (.putfield 17, 3) := dk_181 0 17 (dk_at dksX20_init_0 16 rfl rfl)
theorem dX20_init_19 : decode cX20_init 19 = .ok (.return_, 1) := dk_177 (dk_at dksX20_init_0 19 rfl rfl)
abbrev cX20_holds : ByteArray := prog_8_method_2_code
def yX20_holds : MethodName := ⟨RX20, "holds", "([I)Z"⟩
def dkwX20_holds_3 : List UInt8 := [167, 0, 4, 3, 172]
abbrev dktX20_holds_3 : List UInt8 := dkwX20_holds_3 ++ []
def dkwX20_holds_2 : List UInt8 := [160, 0, 16, 28, 29, 162, 0, 7, 4, 167, 0, 17, 3, 167, 0, 13, 28, 29, 164, 0, 7, 4]
abbrev dktX20_holds_2 : List UInt8 := dkwX20_holds_2 ++ dktX20_holds_3
def dkwX20_holds_1 : List UInt8 := [160, 0, 16, 28, 29, 160, 0, 7, 4, 167, 0, 39, 3, 167, 0, 35, 42, 180, 0, 7, 16, 60]
abbrev dktX20_holds_1 : List UInt8 := dkwX20_holds_1 ++ dktX20_holds_2
def dkwX20_holds_0 : List UInt8 := [42, 180, 0, 13, 43, 182, 0, 20, 61, 42, 180, 0, 17, 43, 182, 0, 20, 62, 42, 180, 0, 7, 16, 61]
abbrev dktX20_holds_0 : List UInt8 := dkwX20_holds_0 ++ dktX20_holds_1
theorem dksX20_holds_0 : cX20_holds.data.toList.drop 0 = dktX20_holds_0 := by decide +kernel
theorem dksX20_holds_1 : cX20_holds.data.toList.drop 24 = dktX20_holds_1 := dk_seg dksX20_holds_0 24 rfl rfl
theorem dksX20_holds_2 : cX20_holds.data.toList.drop 46 = dktX20_holds_2 := dk_seg dksX20_holds_1 22 rfl rfl
theorem dksX20_holds_3 : cX20_holds.data.toList.drop 68 = dktX20_holds_3 := dk_seg dksX20_holds_2 22 rfl rfl
theorem dX20_holds_0 : decode cX20_holds 0 = .ok (.aload_n 0, 1) := dk_42 (dk_at dksX20_holds_0 0 rfl rfl)
theorem dX20_holds_1 : decode cX20_holds 1 = .ok (.getfield 13, 3) := dk_180 0 13 (dk_at dksX20_holds_0 1 rfl rfl)
theorem dX20_holds_4 : decode cX20_holds 4 = .ok (.aload_n 1, 1) := dk_43 (dk_at dksX20_holds_0 4 rfl rfl)
theorem dX20_holds_5 : decode cX20_holds 5 = .ok (.invokevirtual 20, 3) := dk_182 0 20 (dk_at dksX20_holds_0 5 rfl rfl)
theorem dX20_holds_8 : decode cX20_holds 8 = .ok (.istore_n 2, 1) := dk_61 (dk_at dksX20_holds_0 8 rfl rfl)
theorem dX20_holds_9 : decode cX20_holds 9 = .ok (.aload_n 0, 1) := dk_42 (dk_at dksX20_holds_0 9 rfl rfl)
theorem dX20_holds_10 : decode cX20_holds 10 = .ok (.getfield 17, 3) := dk_180 0 17 (dk_at dksX20_holds_0 10 rfl rfl)
theorem dX20_holds_13 : decode cX20_holds 13 = .ok (.aload_n 1, 1) := dk_43 (dk_at dksX20_holds_0 13 rfl rfl)
theorem dX20_holds_14 : decode cX20_holds 14 = .ok (.invokevirtual 20, 3) := dk_182 0 20 (dk_at dksX20_holds_0 14 rfl rfl)
theorem dX20_holds_17 : decode cX20_holds 17 = .ok (.istore_n 3, 1) := dk_62 (dk_at dksX20_holds_0 17 rfl rfl)
theorem dX20_holds_18 : decode cX20_holds 18 = .ok (.aload_n 0, 1) := dk_42 (dk_at dksX20_holds_0 18 rfl rfl)
theorem dX20_holds_19 : decode cX20_holds 19 = .ok (.getfield 7, 3) := dk_180 0 7 (dk_at dksX20_holds_0 19 rfl rfl)
theorem dX20_holds_22 : decode cX20_holds 22 = .ok (.bipush 61, 2) := dk_16 61 (dk_at dksX20_holds_0 22 rfl rfl)
theorem dX20_holds_24 : decode cX20_holds 24 = .ok (.if_icmp .ne 16, 3) := dk_160 0 16 (dk_at dksX20_holds_1 0 rfl rfl)
theorem dX20_holds_27 : decode cX20_holds 27 = .ok (.iload_n 2, 1) := dk_28 (dk_at dksX20_holds_1 3 rfl rfl)
theorem dX20_holds_28 : decode cX20_holds 28 = .ok (.iload_n 3, 1) := dk_29 (dk_at dksX20_holds_1 4 rfl rfl)
theorem dX20_holds_29 : decode cX20_holds 29 = .ok (.if_icmp .ne 7, 3) := dk_160 0 7 (dk_at dksX20_holds_1 5 rfl rfl)
theorem dX20_holds_32 : decode cX20_holds 32 = .ok (.iconst 1, 1) := dk_4 (dk_at dksX20_holds_1 8 rfl rfl)
theorem dX20_holds_33 : decode cX20_holds 33 = .ok (.goto 39, 3) := dk_167 0 39 (dk_at dksX20_holds_1 9 rfl rfl)
theorem dX20_holds_36 : decode cX20_holds 36 = .ok (.iconst 0, 1) := dk_3 (dk_at dksX20_holds_1 12 rfl rfl)
theorem dX20_holds_37 : decode cX20_holds 37 = .ok (.goto 35, 3) := dk_167 0 35 (dk_at dksX20_holds_1 13 rfl rfl)
theorem dX20_holds_40 : decode cX20_holds 40 = .ok (.aload_n 0, 1) := dk_42 (dk_at dksX20_holds_1 16 rfl rfl)
theorem dX20_holds_41 : decode cX20_holds 41 = .ok (.getfield 7, 3) := dk_180 0 7 (dk_at dksX20_holds_1 17 rfl rfl)
theorem dX20_holds_44 : decode cX20_holds 44 = .ok (.bipush 60, 2) := dk_16 60 (dk_at dksX20_holds_1 20 rfl rfl)
theorem dX20_holds_46 : decode cX20_holds 46 = .ok (.if_icmp .ne 16, 3) := dk_160 0 16 (dk_at dksX20_holds_2 0 rfl rfl)
theorem dX20_holds_49 : decode cX20_holds 49 = .ok (.iload_n 2, 1) := dk_28 (dk_at dksX20_holds_2 3 rfl rfl)
theorem dX20_holds_50 : decode cX20_holds 50 = .ok (.iload_n 3, 1) := dk_29 (dk_at dksX20_holds_2 4 rfl rfl)
theorem dX20_holds_51 : decode cX20_holds 51 = .ok (.if_icmp .ge 7, 3) := dk_162 0 7 (dk_at dksX20_holds_2 5 rfl rfl)
theorem dX20_holds_54 : decode cX20_holds 54 = .ok (.iconst 1, 1) := dk_4 (dk_at dksX20_holds_2 8 rfl rfl)
theorem dX20_holds_55 : decode cX20_holds 55 = .ok (.goto 17, 3) := dk_167 0 17 (dk_at dksX20_holds_2 9 rfl rfl)
theorem dX20_holds_58 : decode cX20_holds 58 = .ok (.iconst 0, 1) := dk_3 (dk_at dksX20_holds_2 12 rfl rfl)
theorem dX20_holds_59 : decode cX20_holds 59 = .ok (.goto 13, 3) := dk_167 0 13 (dk_at dksX20_holds_2 13 rfl rfl)
theorem dX20_holds_62 : decode cX20_holds 62 = .ok (.iload_n 2, 1) := dk_28 (dk_at dksX20_holds_2 16 rfl rfl)
theorem dX20_holds_63 : decode cX20_holds 63 = .ok (.iload_n 3, 1) := dk_29 (dk_at dksX20_holds_2 17 rfl rfl)
theorem dX20_holds_64 : decode cX20_holds 64 = .ok (.if_icmp .le 7, 3) := dk_164 0 7 (dk_at dksX20_holds_2 18 rfl rfl)
theorem dX20_holds_67 : decode cX20_holds 67 = .ok (.iconst 1, 1) := dk_4 (dk_at dksX20_holds_2 21 rfl rfl)
theorem dX20_holds_68 : decode cX20_holds 68 = .ok (.goto 4, 3) := dk_167 0 4 (dk_at dksX20_holds_3 0 rfl rfl)
theorem dX20_holds_71 : decode cX20_holds 71 = .ok (.iconst 0, 1) := dk_3 (dk_at dksX20_holds_3 3 rfl rfl)
theorem dX20_holds_72 : decode cX20_holds 72 = .ok (.ireturn, 1) := dk_172 (dk_at dksX20_holds_3 4 rfl rfl)
theorem q189 : (Jvm.Cond.initialized "CityBrigade$Compare") ∈ lw_all := lw_g (lw_at lw_m1 31 rfl) rfl
theorem q1250 : (Jvm.Cond.instantiable "CityBrigade$Compare" (3 : Nat)) ∈ lw_all := lw_g (lw_at lw_m5 132 rfl) rfl
theorem q1252 : (Jvm.Cond.instanceMethod ({ cls := "CityBrigade$Compare", name := "<init>", desc := "(ILCityBrigade$Sum;LCityBrigade$Sum;)V" } : Jvm.MethodName)) ∈ lw_all := lw_g (lw_at lw_m5 134 rfl) rfl
theorem q1253 : (Jvm.Cond.code ({ cls := "CityBrigade$Compare", name := "<init>", desc := "(ILCityBrigade$Sum;LCityBrigade$Sum;)V" } : Jvm.MethodName) prog_8_method_1_code (4 : Nat) (Option.none : Option Jvm.ClassFile.FieldType)) ∈ lw_all := lw_g (lw_at lw_m5 135 rfl) rfl
theorem q1254 : (Jvm.Cond.methodLinkNest "CityBrigade$Compare" (1 : Nat) ({ cls := "CityBrigade$Test", name := "<init>", desc := "()V" } : Jvm.MethodName) "CityBrigade") ∈ lw_tbl := lw_at lw_m5 136 rfl
theorem q1255 : (Jvm.Cond.fieldLink "CityBrigade$Compare" (7 : Nat) "CityBrigade$Compare" "sign" "I") ∈ lw_all := lw_g (lw_at lw_m5 137 rfl) rfl
theorem q1256 : (Jvm.Cond.fieldLink "CityBrigade$Compare" (13 : Nat) "CityBrigade$Compare" "one" "LCityBrigade$Sum;") ∈ lw_all := lw_g (lw_at lw_m5 138 rfl) rfl
theorem q1257 : (Jvm.Cond.fieldLink "CityBrigade$Compare" (17 : Nat) "CityBrigade$Compare" "other" "LCityBrigade$Sum;") ∈ lw_all := lw_g (lw_at lw_m5 139 rfl) rfl
theorem q1258 : (Jvm.Cond.laysFinal "CityBrigade$Compare" "CityBrigade$Compare" "sign" "I") ∈ lw_all := lw_g (lw_at lw_m5 140 rfl) rfl
theorem q1259 : (Jvm.Cond.soleField "CityBrigade$Compare" "sign") ∈ lw_all := lw_g (lw_at lw_m5 141 rfl) rfl
theorem q1260 : (Jvm.Cond.laysFinal "CityBrigade$Compare" "CityBrigade$Compare" "one" "LCityBrigade$Sum;") ∈ lw_all := lw_g (lw_at lw_m5 142 rfl) rfl
theorem q1261 : (Jvm.Cond.soleField "CityBrigade$Compare" "one") ∈ lw_all := lw_g (lw_at lw_m5 143 rfl) rfl
theorem q1262 : (Jvm.Cond.laysFinal "CityBrigade$Compare" "CityBrigade$Compare" "other" "LCityBrigade$Sum;") ∈ lw_all := lw_g (lw_at lw_m5 144 rfl) rfl
theorem q1263 : (Jvm.Cond.soleField "CityBrigade$Compare" "other") ∈ lw_all := lw_g (lw_at lw_m5 145 rfl) rfl
theorem q1264 : (Jvm.Cond.superclass "CityBrigade$Compare" "CityBrigade$Test") ∈ lw_all := lw_g (lw_at lw_m5 146 rfl) rfl
theorem q1370 : (Jvm.Cond.instanceMethod ({ cls := "CityBrigade$Compare", name := "holds", desc := "([I)Z" } : Jvm.MethodName)) ∈ lw_all := lw_g (lw_at lw_m6 12 rfl) rfl
theorem q1371 : (Jvm.Cond.code ({ cls := "CityBrigade$Compare", name := "holds", desc := "([I)Z" } : Jvm.MethodName) prog_8_method_2_code (4 : Nat) (Option.some Jvm.ClassFile.FieldType.boolean)) ∈ lw_all := lw_g (lw_at lw_m6 13 rfl) rfl
theorem q1372 : (Jvm.Cond.methodLink "CityBrigade$Compare" (20 : Nat) ({ cls := "CityBrigade$Sum", name := "value", desc := "([I)I" } : Jvm.MethodName)) ∈ lw_all := lw_g (lw_at lw_m6 14 rfl) rfl
theorem q1396 : (Jvm.Cond.selects "CityBrigade$Compare" ({ cls := "CityBrigade$Test", name := "holds", desc := "([I)Z" } : Jvm.MethodName) ({ cls := "CityBrigade$Compare", name := "holds", desc := "([I)Z" } : Jvm.MethodName)) ∈ lw_all := lw_g (lw_at lw_m6 38 rfl) rfl
theorem q2865 : (Jvm.Cond.castable "CityBrigade$Compare" "java/lang/Object") ∈ lw_tbl := lw_at lw_m12 67 rfl
theorem in_X20 : ∀ w ∈ wsX200, w ∈ lw_all := lw_in wsX200 [1258, 1260, 1262] (by decide +kernel) (by decide +kernel)
/-! CityBrigade$Both -/
set_option maxRecDepth 100000
def RX21 : String := "CityBrigade$Both"
def TX21 : u_T := fun k => match k with
  | 0 => ("CityBrigade$Both", "isAnd", "Z", true)
  | 1 => ("CityBrigade$Both", "one", "LCityBrigade$Test;", true)
  | _ => ("CityBrigade$Both", "other", "LCityBrigade$Test;", true)
def tyX21 : Nat → FieldType := fun k => match k with
  | 0 => .boolean
  | 1 => .object "CityBrigade$Test"
  | _ => .object "CityBrigade$Test"
abbrev wsX210 : List Cond := u_ws RX21 TX21 3
theorem nmX21 : ∀ a, a < 3 → ∀ b, b < 3 → a ≠ b → (TX21 a).2.1 ≠ (TX21 b).2.1 := by decide +kernel
theorem tyX21_ok : ∀ k, k < 3 → parseFieldDescriptor (TX21 k).2.2.1 = some (tyX21 k) := by decide +kernel
abbrev cX21_init : ByteArray := prog_3_method_1_code
def yX21_init : MethodName := ⟨RX21, "<init>", "(ZLCityBrigade$Test;LCityBrigade$Test;)V"⟩
def dkwX21_init_0 : List UInt8 := [42, 183, 0, 1, 42, 27, 181, 0, 7, 42, 44, 181, 0, 13, 42, 45, 181, 0, 17, 177]
abbrev dktX21_init_0 : List UInt8 := dkwX21_init_0 ++ []
theorem dksX21_init_0 : cX21_init.data.toList.drop 0 = dktX21_init_0 := by decide +kernel
theorem dX21_init_0 : decode cX21_init 0 = .ok (.aload_n 0, 1) := dk_42 (dk_at dksX21_init_0 0 rfl rfl)
theorem dX21_init_1 : decode cX21_init 1 = .ok (.invokespecial 1, 3) := dk_183 0 1 (dk_at dksX21_init_0 1 rfl rfl)
theorem dX21_init_4 : decode cX21_init 4 = .ok (.aload_n 0, 1) := dk_42 (dk_at dksX21_init_0 4 rfl rfl)
theorem dX21_init_5 : decode cX21_init 5 = .ok (.iload_n 1, 1) := dk_27 (dk_at dksX21_init_0 5 rfl rfl)
theorem dX21_init_6 : decode cX21_init 6 = .ok (.putfield 7, 3) := dk_181 0 7 (dk_at dksX21_init_0 6 rfl rfl)
theorem dX21_init_9 : decode cX21_init 9 = .ok (.aload_n 0, 1) := dk_42 (dk_at dksX21_init_0 9 rfl rfl)
theorem dX21_init_10 : decode cX21_init 10 = .ok (.aload_n 2, 1) := dk_44 (dk_at dksX21_init_0 10 rfl rfl)
theorem dX21_init_11 : decode cX21_init 11 = .ok (.putfield 13, 3) := dk_181 0 13 (dk_at dksX21_init_0 11 rfl rfl)
theorem dX21_init_14 : decode cX21_init 14 = .ok (.aload_n 0, 1) := dk_42 (dk_at dksX21_init_0 14 rfl rfl)
theorem dX21_init_15 : decode cX21_init 15 = .ok (.aload_n 3, 1) := dk_45 (dk_at dksX21_init_0 15 rfl rfl)
theorem dX21_init_16 : decode cX21_init 16 = .ok (.putfield 17, 3) := dk_181 0 17 (dk_at dksX21_init_0 16 rfl rfl)
theorem dX21_init_19 : decode cX21_init 19 = .ok (.return_, 1) := dk_177 (dk_at dksX21_init_0 19 rfl rfl)
abbrev cX21_holds : ByteArray := prog_3_method_2_code
def yX21_holds : MethodName := ⟨RX21, "holds", "([I)Z"⟩
def dkwX21_holds_2 : List UInt8 := [154, 0, 14, 42, 180, 0, 17, 43, 182, 0, 20, 153, 0, 7, 4, 167, 0, 4, 3, 172]
abbrev dktX21_holds_2 : List UInt8 := dkwX21_holds_2 ++ []
def dkwX21_holds_1 : List UInt8 := [182, 0, 20, 153, 0, 7, 4, 167, 0, 34, 3, 167, 0, 30, 42, 180, 0, 13, 43, 182, 0, 20]
abbrev dktX21_holds_1 : List UInt8 := dkwX21_holds_1 ++ dktX21_holds_2
def dkwX21_holds_0 : List UInt8 := [42, 180, 0, 7, 153, 0, 33, 42, 180, 0, 13, 43, 182, 0, 20, 153, 0, 18, 42, 180, 0, 17, 43]
abbrev dktX21_holds_0 : List UInt8 := dkwX21_holds_0 ++ dktX21_holds_1
theorem dksX21_holds_0 : cX21_holds.data.toList.drop 0 = dktX21_holds_0 := by decide +kernel
theorem dksX21_holds_1 : cX21_holds.data.toList.drop 23 = dktX21_holds_1 := dk_seg dksX21_holds_0 23 rfl rfl
theorem dksX21_holds_2 : cX21_holds.data.toList.drop 45 = dktX21_holds_2 := dk_seg dksX21_holds_1 22 rfl rfl
theorem dX21_holds_0 : decode cX21_holds 0 = .ok (.aload_n 0, 1) := dk_42 (dk_at dksX21_holds_0 0 rfl rfl)
theorem dX21_holds_1 : decode cX21_holds 1 = .ok (.getfield 7, 3) := dk_180 0 7 (dk_at dksX21_holds_0 1 rfl rfl)
theorem dX21_holds_4 : decode cX21_holds 4 = .ok (.ifCond .eq 33, 3) := dk_153 0 33 (dk_at dksX21_holds_0 4 rfl rfl)
theorem dX21_holds_7 : decode cX21_holds 7 = .ok (.aload_n 0, 1) := dk_42 (dk_at dksX21_holds_0 7 rfl rfl)
theorem dX21_holds_8 : decode cX21_holds 8 = .ok (.getfield 13, 3) := dk_180 0 13 (dk_at dksX21_holds_0 8 rfl rfl)
theorem dX21_holds_11 : decode cX21_holds 11 = .ok (.aload_n 1, 1) := dk_43 (dk_at dksX21_holds_0 11 rfl rfl)
theorem dX21_holds_12 : decode cX21_holds 12 = .ok (.invokevirtual 20, 3) := dk_182 0 20 (dk_at dksX21_holds_0 12 rfl rfl)
theorem dX21_holds_15 : decode cX21_holds 15 = .ok (.ifCond .eq 18, 3) := dk_153 0 18 (dk_at dksX21_holds_0 15 rfl rfl)
theorem dX21_holds_18 : decode cX21_holds 18 = .ok (.aload_n 0, 1) := dk_42 (dk_at dksX21_holds_0 18 rfl rfl)
theorem dX21_holds_19 : decode cX21_holds 19 = .ok (.getfield 17, 3) := dk_180 0 17 (dk_at dksX21_holds_0 19 rfl rfl)
theorem dX21_holds_22 : decode cX21_holds 22 = .ok (.aload_n 1, 1) := dk_43 (dk_at dksX21_holds_0 22 rfl rfl)
theorem dX21_holds_23 : decode cX21_holds 23 = .ok (.invokevirtual 20, 3) := dk_182 0 20 (dk_at dksX21_holds_1 0 rfl rfl)
theorem dX21_holds_26 : decode cX21_holds 26 = .ok (.ifCond .eq 7, 3) := dk_153 0 7 (dk_at dksX21_holds_1 3 rfl rfl)
theorem dX21_holds_29 : decode cX21_holds 29 = .ok (.iconst 1, 1) := dk_4 (dk_at dksX21_holds_1 6 rfl rfl)
theorem dX21_holds_30 : decode cX21_holds 30 = .ok (.goto 34, 3) := dk_167 0 34 (dk_at dksX21_holds_1 7 rfl rfl)
theorem dX21_holds_33 : decode cX21_holds 33 = .ok (.iconst 0, 1) := dk_3 (dk_at dksX21_holds_1 10 rfl rfl)
theorem dX21_holds_34 : decode cX21_holds 34 = .ok (.goto 30, 3) := dk_167 0 30 (dk_at dksX21_holds_1 11 rfl rfl)
theorem dX21_holds_37 : decode cX21_holds 37 = .ok (.aload_n 0, 1) := dk_42 (dk_at dksX21_holds_1 14 rfl rfl)
theorem dX21_holds_38 : decode cX21_holds 38 = .ok (.getfield 13, 3) := dk_180 0 13 (dk_at dksX21_holds_1 15 rfl rfl)
theorem dX21_holds_41 : decode cX21_holds 41 = .ok (.aload_n 1, 1) := dk_43 (dk_at dksX21_holds_1 18 rfl rfl)
theorem dX21_holds_42 : decode cX21_holds 42 = .ok (.invokevirtual 20, 3) := dk_182 0 20 (dk_at dksX21_holds_1 19 rfl rfl)
theorem dX21_holds_45 : decode cX21_holds 45 = .ok (.ifCond .ne 14, 3) := dk_154 0 14 (dk_at dksX21_holds_2 0 rfl rfl)
theorem dX21_holds_48 : decode cX21_holds 48 = .ok (.aload_n 0, 1) := dk_42 (dk_at dksX21_holds_2 3 rfl rfl)
theorem dX21_holds_49 : decode cX21_holds 49 = .ok (.getfield 17, 3) := dk_180 0 17 (dk_at dksX21_holds_2 4 rfl rfl)
theorem dX21_holds_52 : decode cX21_holds 52 = .ok (.aload_n 1, 1) := dk_43 (dk_at dksX21_holds_2 7 rfl rfl)
theorem dX21_holds_53 : decode cX21_holds 53 = .ok (.invokevirtual 20, 3) := dk_182 0 20 (dk_at dksX21_holds_2 8 rfl rfl)
theorem dX21_holds_56 : decode cX21_holds 56 = .ok (.ifCond .eq 7, 3) := dk_153 0 7 (dk_at dksX21_holds_2 11 rfl rfl)
theorem dX21_holds_59 : decode cX21_holds 59 = .ok (.iconst 1, 1) := dk_4 (dk_at dksX21_holds_2 14 rfl rfl)
theorem dX21_holds_60 : decode cX21_holds 60 = .ok (.goto 4, 3) := dk_167 0 4 (dk_at dksX21_holds_2 15 rfl rfl)
theorem dX21_holds_63 : decode cX21_holds 63 = .ok (.iconst 0, 1) := dk_3 (dk_at dksX21_holds_2 18 rfl rfl)
theorem dX21_holds_64 : decode cX21_holds 64 = .ok (.ireturn, 1) := dk_172 (dk_at dksX21_holds_2 19 rfl rfl)
theorem q190 : (Jvm.Cond.initialized "CityBrigade$Both") ∈ lw_all := lw_g (lw_at lw_m1 32 rfl) rfl
theorem q1266 : (Jvm.Cond.instantiable "CityBrigade$Both" (3 : Nat)) ∈ lw_all := lw_g (lw_at lw_m5 148 rfl) rfl
theorem q1268 : (Jvm.Cond.instanceMethod ({ cls := "CityBrigade$Both", name := "<init>", desc := "(ZLCityBrigade$Test;LCityBrigade$Test;)V" } : Jvm.MethodName)) ∈ lw_all := lw_g (lw_at lw_m5 150 rfl) rfl
theorem q1269 : (Jvm.Cond.code ({ cls := "CityBrigade$Both", name := "<init>", desc := "(ZLCityBrigade$Test;LCityBrigade$Test;)V" } : Jvm.MethodName) prog_3_method_1_code (4 : Nat) (Option.none : Option Jvm.ClassFile.FieldType)) ∈ lw_all := lw_g (lw_at lw_m5 151 rfl) rfl
theorem q1270 : (Jvm.Cond.methodLinkNest "CityBrigade$Both" (1 : Nat) ({ cls := "CityBrigade$Test", name := "<init>", desc := "()V" } : Jvm.MethodName) "CityBrigade") ∈ lw_tbl := lw_at lw_m5 152 rfl
theorem q1271 : (Jvm.Cond.fieldLink "CityBrigade$Both" (7 : Nat) "CityBrigade$Both" "isAnd" "Z") ∈ lw_all := lw_g (lw_at lw_m5 153 rfl) rfl
theorem q1272 : (Jvm.Cond.fieldLink "CityBrigade$Both" (13 : Nat) "CityBrigade$Both" "one" "LCityBrigade$Test;") ∈ lw_all := lw_g (lw_at lw_m5 154 rfl) rfl
theorem q1273 : (Jvm.Cond.fieldLink "CityBrigade$Both" (17 : Nat) "CityBrigade$Both" "other" "LCityBrigade$Test;") ∈ lw_all := lw_g (lw_at lw_m5 155 rfl) rfl
theorem q1274 : (Jvm.Cond.laysFinal "CityBrigade$Both" "CityBrigade$Both" "isAnd" "Z") ∈ lw_all := lw_g (lw_at lw_m5 156 rfl) rfl
theorem q1275 : (Jvm.Cond.soleField "CityBrigade$Both" "isAnd") ∈ lw_all := lw_g (lw_at lw_m5 157 rfl) rfl
theorem q1276 : (Jvm.Cond.laysFinal "CityBrigade$Both" "CityBrigade$Both" "one" "LCityBrigade$Test;") ∈ lw_all := lw_g (lw_at lw_m5 158 rfl) rfl
theorem q1277 : (Jvm.Cond.soleField "CityBrigade$Both" "one") ∈ lw_all := lw_g (lw_at lw_m5 159 rfl) rfl
theorem q1278 : (Jvm.Cond.laysFinal "CityBrigade$Both" "CityBrigade$Both" "other" "LCityBrigade$Test;") ∈ lw_all := lw_g (lw_at lw_m5 160 rfl) rfl
theorem q1279 : (Jvm.Cond.soleField "CityBrigade$Both" "other") ∈ lw_all := lw_g (lw_at lw_m5 161 rfl) rfl
theorem q1280 : (Jvm.Cond.superclass "CityBrigade$Both" "CityBrigade$Test") ∈ lw_all := lw_g (lw_at lw_m5 162 rfl) rfl
theorem q1366 : (Jvm.Cond.selects "CityBrigade$Both" ({ cls := "CityBrigade$Test", name := "holds", desc := "([I)Z" } : Jvm.MethodName) ({ cls := "CityBrigade$Both", name := "holds", desc := "([I)Z" } : Jvm.MethodName)) ∈ lw_all := lw_g (lw_at lw_m6 8 rfl) rfl
theorem q1367 : (Jvm.Cond.instanceMethod ({ cls := "CityBrigade$Both", name := "holds", desc := "([I)Z" } : Jvm.MethodName)) ∈ lw_all := lw_g (lw_at lw_m6 9 rfl) rfl
theorem q1368 : (Jvm.Cond.code ({ cls := "CityBrigade$Both", name := "holds", desc := "([I)Z" } : Jvm.MethodName) prog_3_method_2_code (2 : Nat) (Option.some Jvm.ClassFile.FieldType.boolean)) ∈ lw_all := lw_g (lw_at lw_m6 10 rfl) rfl
theorem q1369 : (Jvm.Cond.methodLink "CityBrigade$Both" (20 : Nat) ({ cls := "CityBrigade$Test", name := "holds", desc := "([I)Z" } : Jvm.MethodName)) ∈ lw_all := lw_g (lw_at lw_m6 11 rfl) rfl
theorem q2866 : (Jvm.Cond.castable "CityBrigade$Both" "java/lang/Object") ∈ lw_tbl := lw_at lw_m12 68 rfl
theorem in_X21 : ∀ w ∈ wsX210, w ∈ lw_all := lw_in wsX210 [1274, 1276, 1278] (by decide +kernel) (by decide +kernel)
/-! CityBrigade$Clause -/
set_option maxRecDepth 100000
def RX22 : String := "CityBrigade$Clause"
def TX22 : u_T := fun k => match k with
  | 0 => ("CityBrigade$Clause", "test", "LCityBrigade$Test;", true)
  | 1 => ("CityBrigade$Clause", "asks", "[I", true)
  | 2 => ("CityBrigade$Clause", "code", "I", false)
  | _ => ("CityBrigade$Clause", "next", "LCityBrigade$Clause;", false)
def tyX22 : Nat → FieldType := fun k => match k with
  | 0 => .object "CityBrigade$Test"
  | 1 => .array .int
  | 2 => .int
  | _ => .object "CityBrigade$Clause"
abbrev wsX220 : List Cond := u_ws RX22 TX22 4
theorem nmX22 : ∀ a, a < 4 → ∀ b, b < 4 → a ≠ b → (TX22 a).2.1 ≠ (TX22 b).2.1 := by decide +kernel
theorem tyX22_ok : ∀ k, k < 4 → parseFieldDescriptor (TX22 k).2.2.1 = some (tyX22 k) := by decide +kernel
abbrev cX22_init : ByteArray := prog_7_method_1_code
def yX22_init : MethodName := ⟨RX22, "<init>", "(LCityBrigade$Test;)V"⟩
def dkwX22_init_0 : List UInt8 := [42, 183, 0, 3, 42, 8, 188, 10, 181, 0, 9, 42, 43, 181, 0, 15, 177]
abbrev dktX22_init_0 : List UInt8 := dkwX22_init_0 ++ []
theorem dksX22_init_0 : cX22_init.data.toList.drop 0 = dktX22_init_0 := by decide +kernel
theorem dX22_init_0 : decode cX22_init 0 = .ok (.aload_n 0, 1) := dk_42 (dk_at dksX22_init_0 0 rfl rfl)
theorem dX22_init_1 : decode cX22_init 1 = .ok (.invokespecial 3, 3) := dk_183 0 3 (dk_at dksX22_init_0 1 rfl rfl)
theorem dX22_init_4 : decode cX22_init 4 = .ok (.aload_n 0, 1) := dk_42 (dk_at dksX22_init_0 4 rfl rfl)
theorem dX22_init_5 : decode cX22_init 5 = .ok (.iconst 5, 1) := dk_8 (dk_at dksX22_init_0 5 rfl rfl)
theorem dX22_init_6 : decode cX22_init 6 = .ok (.newarray .int, 2) := dk_188_10 (dk_at dksX22_init_0 6 rfl rfl)
theorem dX22_init_8 : decode cX22_init 8 = .ok (.putfield 9, 3) := dk_181 0 9 (dk_at dksX22_init_0 8 rfl rfl)
theorem dX22_init_11 : decode cX22_init 11 = .ok (.aload_n 0, 1) := dk_42 (dk_at dksX22_init_0 11 rfl rfl)
theorem dX22_init_12 : decode cX22_init 12 = .ok (.aload_n 1, 1) := dk_43 (dk_at dksX22_init_0 12 rfl rfl)
theorem dX22_init_13 : decode cX22_init 13 = .ok (.putfield 15, 3) := dk_181 0 15 (dk_at dksX22_init_0 13 rfl rfl)
theorem dX22_init_16 : decode cX22_init 16 = .ok (.return_, 1) := dk_177 (dk_at dksX22_init_0 16 rfl rfl)
theorem q191 : (Jvm.Cond.initialized "CityBrigade$Clause") ∈ lw_all := lw_g (lw_at lw_m1 33 rfl) rfl
theorem q1289 : (Jvm.Cond.instantiable "CityBrigade$Clause" (4 : Nat)) ∈ lw_all := lw_g (lw_at lw_m5 171 rfl) rfl
theorem q1291 : (Jvm.Cond.instanceMethod ({ cls := "CityBrigade$Clause", name := "<init>", desc := "(LCityBrigade$Test;)V" } : Jvm.MethodName)) ∈ lw_all := lw_g (lw_at lw_m5 173 rfl) rfl
theorem q1292 : (Jvm.Cond.code ({ cls := "CityBrigade$Clause", name := "<init>", desc := "(LCityBrigade$Test;)V" } : Jvm.MethodName) prog_7_method_1_code (2 : Nat) (Option.none : Option Jvm.ClassFile.FieldType)) ∈ lw_all := lw_g (lw_at lw_m5 174 rfl) rfl
theorem q1293 : (Jvm.Cond.methodLink "CityBrigade$Clause" (3 : Nat) ({ cls := "java/lang/Object", name := "<init>", desc := "()V" } : Jvm.MethodName)) ∈ lw_all := lw_g (lw_at lw_m5 175 rfl) rfl
theorem q1294 : (Jvm.Cond.fieldLink "CityBrigade$Clause" (15 : Nat) "CityBrigade$Clause" "test" "LCityBrigade$Test;") ∈ lw_all := lw_g (lw_at lw_m5 176 rfl) rfl
theorem q1296 : (Jvm.Cond.fieldLink "CityBrigade$Clause" (9 : Nat) "CityBrigade$Clause" "asks" "[I") ∈ lw_all := lw_g (lw_at lw_m5 178 rfl) rfl
theorem q1300 : (Jvm.Cond.laysFinal "CityBrigade$Clause" "CityBrigade$Clause" "test" "LCityBrigade$Test;") ∈ lw_all := lw_g (lw_at lw_m5 182 rfl) rfl
theorem q1301 : (Jvm.Cond.soleField "CityBrigade$Clause" "test") ∈ lw_all := lw_g (lw_at lw_m5 183 rfl) rfl
theorem q1302 : (Jvm.Cond.laysFinal "CityBrigade$Clause" "CityBrigade$Clause" "asks" "[I") ∈ lw_all := lw_g (lw_at lw_m5 184 rfl) rfl
theorem q1303 : (Jvm.Cond.soleField "CityBrigade$Clause" "asks") ∈ lw_all := lw_g (lw_at lw_m5 185 rfl) rfl
theorem q1304 : (Jvm.Cond.lays "CityBrigade$Clause" "CityBrigade$Clause" "code" "I") ∈ lw_all := lw_g (lw_at lw_m5 186 rfl) rfl
theorem q1305 : (Jvm.Cond.soleField "CityBrigade$Clause" "code") ∈ lw_all := lw_g (lw_at lw_m5 187 rfl) rfl
theorem q1306 : (Jvm.Cond.lays "CityBrigade$Clause" "CityBrigade$Clause" "next" "LCityBrigade$Clause;") ∈ lw_all := lw_g (lw_at lw_m5 188 rfl) rfl
theorem q1307 : (Jvm.Cond.soleField "CityBrigade$Clause" "next") ∈ lw_all := lw_g (lw_at lw_m5 189 rfl) rfl
theorem q1308 : (Jvm.Cond.superclass "CityBrigade$Clause" "java/lang/Object") ∈ lw_all := lw_g (lw_at lw_m5 190 rfl) rfl
theorem q2867 : (Jvm.Cond.castable "CityBrigade$Clause" "java/lang/Object") ∈ lw_tbl := lw_at lw_m12 69 rfl
theorem in_X22 : ∀ w ∈ wsX220, w ∈ lw_all := lw_in wsX220 [1300, 1302, 1304, 1306] (by decide +kernel) (by decide +kernel)
/-! CityBrigade$Row -/
set_option maxRecDepth 100000
def RX23 : String := "CityBrigade$Row"
abbrev cX23_init : ByteArray := prog_22_method_1_code
def yX23_init : MethodName := ⟨RX23, "<init>", "()V"⟩
theorem dX23_init_0 : decode cX23_init 0 = .ok (.aload_n 0, 1) := by decide +kernel
theorem dX23_init_1 : decode cX23_init 1 = .ok (.invokespecial 1, 3) := by decide +kernel
theorem dX23_init_4 : decode cX23_init 4 = .ok (.return_, 1) := by decide +kernel
theorem q193 : (Jvm.Cond.initialized "CityBrigade$Row") ∈ lw_all := lw_g (lw_at lw_m1 35 rfl) rfl
theorem q1723 : (Jvm.Cond.instanceMethod ({ cls := "CityBrigade$Row", name := "<init>", desc := "()V" } : Jvm.MethodName)) ∈ lw_all := lw_g (lw_at lw_m7 125 rfl) rfl
theorem q1724 : (Jvm.Cond.code ({ cls := "CityBrigade$Row", name := "<init>", desc := "()V" } : Jvm.MethodName) prog_22_method_1_code (1 : Nat) (Option.none : Option Jvm.ClassFile.FieldType)) ∈ lw_all := lw_g (lw_at lw_m7 126 rfl) rfl
theorem q1725 : (Jvm.Cond.methodLink "CityBrigade$Row" (1 : Nat) ({ cls := "java/lang/Object", name := "<init>", desc := "()V" } : Jvm.MethodName)) ∈ lw_all := lw_g (lw_at lw_m7 127 rfl) rfl
theorem q1773 : (Jvm.Cond.declares ({ cls := "CityBrigade$Row", name := "put", desc := "(II)V" } : Jvm.MethodName)) ∈ lw_tbl := lw_at lw_m7 175 rfl
theorem q1774 : (Jvm.Cond.sameMethod "CityBrigade$Row" "CityBrigade$Row" "put" "(II)V") ∈ lw_all := lw_g (lw_at lw_m7 176 rfl) rfl
theorem q1833 : (Jvm.Cond.declares ({ cls := "CityBrigade$Row", name := "copy", desc := "(ILCityBrigade$Row;II)V" } : Jvm.MethodName)) ∈ lw_tbl := lw_at lw_m7 235 rfl
theorem q1834 : (Jvm.Cond.sameMethod "CityBrigade$Row" "CityBrigade$Row" "copy" "(ILCityBrigade$Row;II)V") ∈ lw_all := lw_g (lw_at lw_m7 236 rfl) rfl
theorem q1870 : (Jvm.Cond.declares ({ cls := "CityBrigade$Row", name := "value", desc := "(I)D" } : Jvm.MethodName)) ∈ lw_tbl := lw_at lw_m8 32 rfl
theorem q1871 : (Jvm.Cond.sameMethod "CityBrigade$Row" "CityBrigade$Row" "value" "(I)D") ∈ lw_all := lw_g (lw_at lw_m8 33 rfl) rfl
/-! CityBrigade$Bytes -/
set_option maxRecDepth 100000
def RX24 : String := "CityBrigade$Bytes"
def TX24 : u_T := fun k => match k with
  | _ => ("CityBrigade$Bytes", "row", "[B", true)
def tyX24 : Nat → FieldType := fun k => match k with
  | _ => .array .byte
abbrev wsX240 : List Cond := u_ws RX24 TX24 1
theorem nmX24 : ∀ a, a < 1 → ∀ b, b < 1 → a ≠ b → (TX24 a).2.1 ≠ (TX24 b).2.1 := by decide +kernel
theorem tyX24_ok : ∀ k, k < 1 → parseFieldDescriptor (TX24 k).2.2.1 = some (tyX24 k) := by decide +kernel
abbrev cX24_init : ByteArray := prog_4_method_1_code
def yX24_init : MethodName := ⟨RX24, "<init>", "()V"⟩
def dkwX24_init_0 : List UInt8 := [42, 183, 0, 3, 42, 16, 20, 188, 8, 181, 0, 9, 177]
abbrev dktX24_init_0 : List UInt8 := dkwX24_init_0 ++ []
theorem dksX24_init_0 : cX24_init.data.toList.drop 0 = dktX24_init_0 := by decide +kernel
theorem dX24_init_0 : decode cX24_init 0 = .ok (.aload_n 0, 1) := dk_42 (dk_at dksX24_init_0 0 rfl rfl)
theorem dX24_init_1 : decode cX24_init 1 = .ok (.invokespecial 3, 3) := dk_183 0 3 (dk_at dksX24_init_0 1 rfl rfl)
theorem dX24_init_4 : decode cX24_init 4 = .ok (.aload_n 0, 1) := dk_42 (dk_at dksX24_init_0 4 rfl rfl)
theorem dX24_init_5 : decode cX24_init 5 = .ok (.bipush 20, 2) := dk_16 20 (dk_at dksX24_init_0 5 rfl rfl)
theorem dX24_init_7 : decode cX24_init 7 = .ok (.newarray .byte, 2) := dk_188_8 (dk_at dksX24_init_0 7 rfl rfl)
theorem dX24_init_9 : decode cX24_init 9 = .ok (.putfield 9, 3) := dk_181 0 9 (dk_at dksX24_init_0 9 rfl rfl)
theorem dX24_init_12 : decode cX24_init 12 = .ok (.return_, 1) := dk_177 (dk_at dksX24_init_0 12 rfl rfl)
abbrev cX24_put : ByteArray := prog_4_method_2_code
def yX24_put : MethodName := ⟨RX24, "put", "(II)V"⟩
def dkwX24_put_0 : List UInt8 := [42, 180, 0, 9, 27, 28, 145, 84, 177]
abbrev dktX24_put_0 : List UInt8 := dkwX24_put_0 ++ []
theorem dksX24_put_0 : cX24_put.data.toList.drop 0 = dktX24_put_0 := by decide +kernel
theorem dX24_put_0 : decode cX24_put 0 = .ok (.aload_n 0, 1) := dk_42 (dk_at dksX24_put_0 0 rfl rfl)
theorem dX24_put_1 : decode cX24_put 1 = .ok (.getfield 9, 3) := dk_180 0 9 (dk_at dksX24_put_0 1 rfl rfl)
theorem dX24_put_4 : decode cX24_put 4 = .ok (.iload_n 1, 1) := dk_27 (dk_at dksX24_put_0 4 rfl rfl)
theorem dX24_put_5 : decode cX24_put 5 = .ok (.iload_n 2, 1) := dk_28 (dk_at dksX24_put_0 5 rfl rfl)
theorem dX24_put_6 : decode cX24_put 6 = .ok (.i2b, 1) := dk_145 (dk_at dksX24_put_0 6 rfl rfl)
theorem dX24_put_7 : decode cX24_put 7 = .ok (.bastore, 1) := dk_84 (dk_at dksX24_put_0 7 rfl rfl)
theorem dX24_put_8 : decode cX24_put 8 = .ok (.return_, 1) := dk_177 (dk_at dksX24_put_0 8 rfl rfl)
abbrev cX24_copy : ByteArray := prog_4_method_4_code
def yX24_copy : MethodName := ⟨RX24, "copy", "(ILCityBrigade$Row;II)V"⟩
def dkwX24_copy_0 : List UInt8 := [42, 180, 0, 9, 27, 44, 192, 0, 10, 180, 0, 9, 29, 21, 4, 184, 0, 15, 177]
abbrev dktX24_copy_0 : List UInt8 := dkwX24_copy_0 ++ []
theorem dksX24_copy_0 : cX24_copy.data.toList.drop 0 = dktX24_copy_0 := by decide +kernel
theorem dX24_copy_0 : decode cX24_copy 0 = .ok (.aload_n 0, 1) := dk_42 (dk_at dksX24_copy_0 0 rfl rfl)
theorem dX24_copy_1 : decode cX24_copy 1 = .ok (.getfield 9, 3) := dk_180 0 9 (dk_at dksX24_copy_0 1 rfl rfl)
theorem dX24_copy_4 : decode cX24_copy 4 = .ok (.iload_n 1, 1) := dk_27 (dk_at dksX24_copy_0 4 rfl rfl)
theorem dX24_copy_5 : decode cX24_copy 5 = .ok (.aload_n 2, 1) := dk_44 (dk_at dksX24_copy_0 5 rfl rfl)
theorem dX24_copy_6 : decode cX24_copy 6 = .ok (.checkcast 10, 3) := dk_192 0 10 (dk_at dksX24_copy_0 6 rfl rfl)
theorem dX24_copy_9 : decode cX24_copy 9 = .ok (.getfield 9, 3) := dk_180 0 9 (dk_at dksX24_copy_0 9 rfl rfl)
theorem dX24_copy_12 : decode cX24_copy 12 = .ok (.iload_n 3, 1) := dk_29 (dk_at dksX24_copy_0 12 rfl rfl)
theorem dX24_copy_13 : decode cX24_copy 13 = .ok (.iload 4, 2) := dk_21 4 (dk_at dksX24_copy_0 13 rfl rfl)
theorem dX24_copy_15 : decode cX24_copy 15 = .ok (.invokestatic 15, 3) := dk_184 0 15 (dk_at dksX24_copy_0 15 rfl rfl)
theorem dX24_copy_18 : decode cX24_copy 18 = .ok (.return_, 1) := dk_177 (dk_at dksX24_copy_0 18 rfl rfl)
abbrev cX24_value : ByteArray := prog_4_method_3_code
def yX24_value : MethodName := ⟨RX24, "value", "(I)D"⟩
def dkwX24_value_0 : List UInt8 := [42, 180, 0, 9, 27, 51, 135, 175]
abbrev dktX24_value_0 : List UInt8 := dkwX24_value_0 ++ []
theorem dksX24_value_0 : cX24_value.data.toList.drop 0 = dktX24_value_0 := by decide +kernel
theorem dX24_value_0 : decode cX24_value 0 = .ok (.aload_n 0, 1) := dk_42 (dk_at dksX24_value_0 0 rfl rfl)
theorem dX24_value_1 : decode cX24_value 1 = .ok (.getfield 9, 3) := dk_180 0 9 (dk_at dksX24_value_0 1 rfl rfl)
theorem dX24_value_4 : decode cX24_value 4 = .ok (.iload_n 1, 1) := dk_27 (dk_at dksX24_value_0 4 rfl rfl)
theorem dX24_value_5 : decode cX24_value 5 = .ok (.baload, 1) := dk_51 (dk_at dksX24_value_0 5 rfl rfl)
theorem dX24_value_6 : decode cX24_value 6 = .ok (.i2d, 1) := dk_135 (dk_at dksX24_value_0 6 rfl rfl)
theorem dX24_value_7 : decode cX24_value 7 = .ok (.dreturn, 1) := dk_175 (dk_at dksX24_value_0 7 rfl rfl)
theorem q194 : (Jvm.Cond.initialized "CityBrigade$Bytes") ∈ lw_all := lw_g (lw_at lw_m1 36 rfl) rfl
theorem q1718 : (Jvm.Cond.instantiable "CityBrigade$Bytes" (1 : Nat)) ∈ lw_all := lw_g (lw_at lw_m7 120 rfl) rfl
theorem q1720 : (Jvm.Cond.instanceMethod ({ cls := "CityBrigade$Bytes", name := "<init>", desc := "()V" } : Jvm.MethodName)) ∈ lw_all := lw_g (lw_at lw_m7 122 rfl) rfl
theorem q1721 : (Jvm.Cond.code ({ cls := "CityBrigade$Bytes", name := "<init>", desc := "()V" } : Jvm.MethodName) prog_4_method_1_code (1 : Nat) (Option.none : Option Jvm.ClassFile.FieldType)) ∈ lw_all := lw_g (lw_at lw_m7 123 rfl) rfl
theorem q1722 : (Jvm.Cond.methodLinkNest "CityBrigade$Bytes" (3 : Nat) ({ cls := "CityBrigade$Row", name := "<init>", desc := "()V" } : Jvm.MethodName) "CityBrigade") ∈ lw_tbl := lw_at lw_m7 124 rfl
theorem q1726 : (Jvm.Cond.fieldLink "CityBrigade$Bytes" (9 : Nat) "CityBrigade$Bytes" "row" "[B") ∈ lw_all := lw_g (lw_at lw_m7 128 rfl) rfl
theorem q1727 : (Jvm.Cond.laysFinal "CityBrigade$Bytes" "CityBrigade$Bytes" "row" "[B") ∈ lw_all := lw_g (lw_at lw_m7 129 rfl) rfl
theorem q1728 : (Jvm.Cond.soleField "CityBrigade$Bytes" "row") ∈ lw_all := lw_g (lw_at lw_m7 130 rfl) rfl
theorem q1729 : (Jvm.Cond.superclass "CityBrigade$Bytes" "CityBrigade$Row") ∈ lw_all := lw_g (lw_at lw_m7 131 rfl) rfl
theorem q1775 : (Jvm.Cond.selects "CityBrigade$Bytes" ({ cls := "CityBrigade$Row", name := "put", desc := "(II)V" } : Jvm.MethodName) ({ cls := "CityBrigade$Bytes", name := "put", desc := "(II)V" } : Jvm.MethodName)) ∈ lw_all := lw_g (lw_at lw_m7 177 rfl) rfl
theorem q1776 : (Jvm.Cond.instanceMethod ({ cls := "CityBrigade$Bytes", name := "put", desc := "(II)V" } : Jvm.MethodName)) ∈ lw_all := lw_g (lw_at lw_m7 178 rfl) rfl
theorem q1777 : (Jvm.Cond.code ({ cls := "CityBrigade$Bytes", name := "put", desc := "(II)V" } : Jvm.MethodName) prog_4_method_2_code (3 : Nat) (Option.none : Option Jvm.ClassFile.FieldType)) ∈ lw_all := lw_g (lw_at lw_m7 179 rfl) rfl
theorem q1835 : (Jvm.Cond.selects "CityBrigade$Bytes" ({ cls := "CityBrigade$Row", name := "copy", desc := "(ILCityBrigade$Row;II)V" } : Jvm.MethodName) ({ cls := "CityBrigade$Bytes", name := "copy", desc := "(ILCityBrigade$Row;II)V" } : Jvm.MethodName)) ∈ lw_all := lw_g (lw_at lw_m7 237 rfl) rfl
theorem q1836 : (Jvm.Cond.instanceMethod ({ cls := "CityBrigade$Bytes", name := "copy", desc := "(ILCityBrigade$Row;II)V" } : Jvm.MethodName)) ∈ lw_all := lw_g (lw_at lw_m7 238 rfl) rfl
theorem q1837 : (Jvm.Cond.code ({ cls := "CityBrigade$Bytes", name := "copy", desc := "(ILCityBrigade$Row;II)V" } : Jvm.MethodName) prog_4_method_4_code (5 : Nat) (Option.none : Option Jvm.ClassFile.FieldType)) ∈ lw_all := lw_g (lw_at lw_m7 239 rfl) rfl
theorem q1838 : (Jvm.Cond.classLink "CityBrigade$Bytes" (10 : Nat) "CityBrigade$Bytes") ∈ lw_all := lw_g (lw_at lw_m8 0 rfl) rfl
theorem q1839 : (Jvm.Cond.methodLink "CityBrigade$Bytes" (15 : Nat) ({ cls := "java/lang/System", name := "arraycopy", desc := "(Ljava/lang/Object;ILjava/lang/Object;II)V" } : Jvm.MethodName)) ∈ lw_all := lw_g (lw_at lw_m8 1 rfl) rfl
theorem q1872 : (Jvm.Cond.selects "CityBrigade$Bytes" ({ cls := "CityBrigade$Row", name := "value", desc := "(I)D" } : Jvm.MethodName) ({ cls := "CityBrigade$Bytes", name := "value", desc := "(I)D" } : Jvm.MethodName)) ∈ lw_all := lw_g (lw_at lw_m8 34 rfl) rfl
theorem q1873 : (Jvm.Cond.instanceMethod ({ cls := "CityBrigade$Bytes", name := "value", desc := "(I)D" } : Jvm.MethodName)) ∈ lw_all := lw_g (lw_at lw_m8 35 rfl) rfl
theorem q1874 : (Jvm.Cond.code ({ cls := "CityBrigade$Bytes", name := "value", desc := "(I)D" } : Jvm.MethodName) prog_4_method_3_code (2 : Nat) (Option.some Jvm.ClassFile.FieldType.double)) ∈ lw_all := lw_g (lw_at lw_m8 36 rfl) rfl
theorem q2868 : (Jvm.Cond.castable "CityBrigade$Bytes" "java/lang/Object") ∈ lw_tbl := lw_at lw_m12 70 rfl
theorem q2879 : (Jvm.Cond.castable "CityBrigade$Bytes" "CityBrigade$Row") ∈ lw_tbl := lw_at lw_m12 81 rfl
theorem in_X24 : ∀ w ∈ wsX240, w ∈ lw_all := lw_in wsX240 [1727] (by decide +kernel) (by decide +kernel)
/-! CityBrigade$Shorts -/
set_option maxRecDepth 100000
def RX25 : String := "CityBrigade$Shorts"
def TX25 : u_T := fun k => match k with
  | _ => ("CityBrigade$Shorts", "row", "[S", true)
def tyX25 : Nat → FieldType := fun k => match k with
  | _ => .array .short
abbrev wsX250 : List Cond := u_ws RX25 TX25 1
theorem nmX25 : ∀ a, a < 1 → ∀ b, b < 1 → a ≠ b → (TX25 a).2.1 ≠ (TX25 b).2.1 := by decide +kernel
theorem tyX25_ok : ∀ k, k < 1 → parseFieldDescriptor (TX25 k).2.2.1 = some (tyX25 k) := by decide +kernel
abbrev cX25_init : ByteArray := prog_23_method_1_code
def yX25_init : MethodName := ⟨RX25, "<init>", "()V"⟩
def dkwX25_init_0 : List UInt8 := [42, 183, 0, 3, 42, 16, 20, 188, 9, 181, 0, 9, 177]
abbrev dktX25_init_0 : List UInt8 := dkwX25_init_0 ++ []
theorem dksX25_init_0 : cX25_init.data.toList.drop 0 = dktX25_init_0 := by decide +kernel
theorem dX25_init_0 : decode cX25_init 0 = .ok (.aload_n 0, 1) := dk_42 (dk_at dksX25_init_0 0 rfl rfl)
theorem dX25_init_1 : decode cX25_init 1 = .ok (.invokespecial 3, 3) := dk_183 0 3 (dk_at dksX25_init_0 1 rfl rfl)
theorem dX25_init_4 : decode cX25_init 4 = .ok (.aload_n 0, 1) := dk_42 (dk_at dksX25_init_0 4 rfl rfl)
theorem dX25_init_5 : decode cX25_init 5 = .ok (.bipush 20, 2) := dk_16 20 (dk_at dksX25_init_0 5 rfl rfl)
theorem dX25_init_7 : decode cX25_init 7 = .ok (.newarray .short, 2) := dk_188_9 (dk_at dksX25_init_0 7 rfl rfl)
theorem dX25_init_9 : decode cX25_init 9 = .ok (.putfield 9, 3) := dk_181 0 9 (dk_at dksX25_init_0 9 rfl rfl)
theorem dX25_init_12 : decode cX25_init 12 = .ok (.return_, 1) := dk_177 (dk_at dksX25_init_0 12 rfl rfl)
abbrev cX25_put : ByteArray := prog_23_method_2_code
def yX25_put : MethodName := ⟨RX25, "put", "(II)V"⟩
def dkwX25_put_0 : List UInt8 := [42, 180, 0, 9, 27, 28, 147, 86, 177]
abbrev dktX25_put_0 : List UInt8 := dkwX25_put_0 ++ []
theorem dksX25_put_0 : cX25_put.data.toList.drop 0 = dktX25_put_0 := by decide +kernel
theorem dX25_put_0 : decode cX25_put 0 = .ok (.aload_n 0, 1) := dk_42 (dk_at dksX25_put_0 0 rfl rfl)
theorem dX25_put_1 : decode cX25_put 1 = .ok (.getfield 9, 3) := dk_180 0 9 (dk_at dksX25_put_0 1 rfl rfl)
theorem dX25_put_4 : decode cX25_put 4 = .ok (.iload_n 1, 1) := dk_27 (dk_at dksX25_put_0 4 rfl rfl)
theorem dX25_put_5 : decode cX25_put 5 = .ok (.iload_n 2, 1) := dk_28 (dk_at dksX25_put_0 5 rfl rfl)
theorem dX25_put_6 : decode cX25_put 6 = .ok (.i2s, 1) := dk_147 (dk_at dksX25_put_0 6 rfl rfl)
theorem dX25_put_7 : decode cX25_put 7 = .ok (.sastore, 1) := dk_86 (dk_at dksX25_put_0 7 rfl rfl)
theorem dX25_put_8 : decode cX25_put 8 = .ok (.return_, 1) := dk_177 (dk_at dksX25_put_0 8 rfl rfl)
abbrev cX25_copy : ByteArray := prog_23_method_4_code
def yX25_copy : MethodName := ⟨RX25, "copy", "(ILCityBrigade$Row;II)V"⟩
def dkwX25_copy_0 : List UInt8 := [42, 180, 0, 9, 27, 44, 192, 0, 10, 180, 0, 9, 29, 21, 4, 184, 0, 15, 177]
abbrev dktX25_copy_0 : List UInt8 := dkwX25_copy_0 ++ []
theorem dksX25_copy_0 : cX25_copy.data.toList.drop 0 = dktX25_copy_0 := by decide +kernel
theorem dX25_copy_0 : decode cX25_copy 0 = .ok (.aload_n 0, 1) := dk_42 (dk_at dksX25_copy_0 0 rfl rfl)
theorem dX25_copy_1 : decode cX25_copy 1 = .ok (.getfield 9, 3) := dk_180 0 9 (dk_at dksX25_copy_0 1 rfl rfl)
theorem dX25_copy_4 : decode cX25_copy 4 = .ok (.iload_n 1, 1) := dk_27 (dk_at dksX25_copy_0 4 rfl rfl)
theorem dX25_copy_5 : decode cX25_copy 5 = .ok (.aload_n 2, 1) := dk_44 (dk_at dksX25_copy_0 5 rfl rfl)
theorem dX25_copy_6 : decode cX25_copy 6 = .ok (.checkcast 10, 3) := dk_192 0 10 (dk_at dksX25_copy_0 6 rfl rfl)
theorem dX25_copy_9 : decode cX25_copy 9 = .ok (.getfield 9, 3) := dk_180 0 9 (dk_at dksX25_copy_0 9 rfl rfl)
theorem dX25_copy_12 : decode cX25_copy 12 = .ok (.iload_n 3, 1) := dk_29 (dk_at dksX25_copy_0 12 rfl rfl)
theorem dX25_copy_13 : decode cX25_copy 13 = .ok (.iload 4, 2) := dk_21 4 (dk_at dksX25_copy_0 13 rfl rfl)
theorem dX25_copy_15 : decode cX25_copy 15 = .ok (.invokestatic 15, 3) := dk_184 0 15 (dk_at dksX25_copy_0 15 rfl rfl)
theorem dX25_copy_18 : decode cX25_copy 18 = .ok (.return_, 1) := dk_177 (dk_at dksX25_copy_0 18 rfl rfl)
abbrev cX25_value : ByteArray := prog_23_method_3_code
def yX25_value : MethodName := ⟨RX25, "value", "(I)D"⟩
def dkwX25_value_0 : List UInt8 := [42, 180, 0, 9, 27, 53, 135, 175]
abbrev dktX25_value_0 : List UInt8 := dkwX25_value_0 ++ []
theorem dksX25_value_0 : cX25_value.data.toList.drop 0 = dktX25_value_0 := by decide +kernel
theorem dX25_value_0 : decode cX25_value 0 = .ok (.aload_n 0, 1) := dk_42 (dk_at dksX25_value_0 0 rfl rfl)
theorem dX25_value_1 : decode cX25_value 1 = .ok (.getfield 9, 3) := dk_180 0 9 (dk_at dksX25_value_0 1 rfl rfl)
theorem dX25_value_4 : decode cX25_value 4 = .ok (.iload_n 1, 1) := dk_27 (dk_at dksX25_value_0 4 rfl rfl)
theorem dX25_value_5 : decode cX25_value 5 = .ok (.saload, 1) := dk_53 (dk_at dksX25_value_0 5 rfl rfl)
theorem dX25_value_6 : decode cX25_value 6 = .ok (.i2d, 1) := dk_135 (dk_at dksX25_value_0 6 rfl rfl)
theorem dX25_value_7 : decode cX25_value 7 = .ok (.dreturn, 1) := dk_175 (dk_at dksX25_value_0 7 rfl rfl)
theorem q195 : (Jvm.Cond.initialized "CityBrigade$Shorts") ∈ lw_all := lw_g (lw_at lw_m1 37 rfl) rfl
theorem q1731 : (Jvm.Cond.instantiable "CityBrigade$Shorts" (1 : Nat)) ∈ lw_all := lw_g (lw_at lw_m7 133 rfl) rfl
theorem q1733 : (Jvm.Cond.instanceMethod ({ cls := "CityBrigade$Shorts", name := "<init>", desc := "()V" } : Jvm.MethodName)) ∈ lw_all := lw_g (lw_at lw_m7 135 rfl) rfl
theorem q1734 : (Jvm.Cond.code ({ cls := "CityBrigade$Shorts", name := "<init>", desc := "()V" } : Jvm.MethodName) prog_23_method_1_code (1 : Nat) (Option.none : Option Jvm.ClassFile.FieldType)) ∈ lw_all := lw_g (lw_at lw_m7 136 rfl) rfl
theorem q1735 : (Jvm.Cond.methodLinkNest "CityBrigade$Shorts" (3 : Nat) ({ cls := "CityBrigade$Row", name := "<init>", desc := "()V" } : Jvm.MethodName) "CityBrigade") ∈ lw_tbl := lw_at lw_m7 137 rfl
theorem q1736 : (Jvm.Cond.fieldLink "CityBrigade$Shorts" (9 : Nat) "CityBrigade$Shorts" "row" "[S") ∈ lw_all := lw_g (lw_at lw_m7 138 rfl) rfl
theorem q1737 : (Jvm.Cond.laysFinal "CityBrigade$Shorts" "CityBrigade$Shorts" "row" "[S") ∈ lw_all := lw_g (lw_at lw_m7 139 rfl) rfl
theorem q1738 : (Jvm.Cond.soleField "CityBrigade$Shorts" "row") ∈ lw_all := lw_g (lw_at lw_m7 140 rfl) rfl
theorem q1739 : (Jvm.Cond.superclass "CityBrigade$Shorts" "CityBrigade$Row") ∈ lw_all := lw_g (lw_at lw_m7 141 rfl) rfl
theorem q1787 : (Jvm.Cond.selects "CityBrigade$Shorts" ({ cls := "CityBrigade$Row", name := "put", desc := "(II)V" } : Jvm.MethodName) ({ cls := "CityBrigade$Shorts", name := "put", desc := "(II)V" } : Jvm.MethodName)) ∈ lw_all := lw_g (lw_at lw_m7 189 rfl) rfl
theorem q1788 : (Jvm.Cond.instanceMethod ({ cls := "CityBrigade$Shorts", name := "put", desc := "(II)V" } : Jvm.MethodName)) ∈ lw_all := lw_g (lw_at lw_m7 190 rfl) rfl
theorem q1789 : (Jvm.Cond.code ({ cls := "CityBrigade$Shorts", name := "put", desc := "(II)V" } : Jvm.MethodName) prog_23_method_2_code (3 : Nat) (Option.none : Option Jvm.ClassFile.FieldType)) ∈ lw_all := lw_g (lw_at lw_m7 191 rfl) rfl
theorem q1850 : (Jvm.Cond.selects "CityBrigade$Shorts" ({ cls := "CityBrigade$Row", name := "copy", desc := "(ILCityBrigade$Row;II)V" } : Jvm.MethodName) ({ cls := "CityBrigade$Shorts", name := "copy", desc := "(ILCityBrigade$Row;II)V" } : Jvm.MethodName)) ∈ lw_all := lw_g (lw_at lw_m8 12 rfl) rfl
theorem q1851 : (Jvm.Cond.instanceMethod ({ cls := "CityBrigade$Shorts", name := "copy", desc := "(ILCityBrigade$Row;II)V" } : Jvm.MethodName)) ∈ lw_all := lw_g (lw_at lw_m8 13 rfl) rfl
theorem q1852 : (Jvm.Cond.code ({ cls := "CityBrigade$Shorts", name := "copy", desc := "(ILCityBrigade$Row;II)V" } : Jvm.MethodName) prog_23_method_4_code (5 : Nat) (Option.none : Option Jvm.ClassFile.FieldType)) ∈ lw_all := lw_g (lw_at lw_m8 14 rfl) rfl
theorem q1853 : (Jvm.Cond.classLink "CityBrigade$Shorts" (10 : Nat) "CityBrigade$Shorts") ∈ lw_all := lw_g (lw_at lw_m8 15 rfl) rfl
theorem q1854 : (Jvm.Cond.methodLink "CityBrigade$Shorts" (15 : Nat) ({ cls := "java/lang/System", name := "arraycopy", desc := "(Ljava/lang/Object;ILjava/lang/Object;II)V" } : Jvm.MethodName)) ∈ lw_all := lw_g (lw_at lw_m8 16 rfl) rfl
theorem q1882 : (Jvm.Cond.selects "CityBrigade$Shorts" ({ cls := "CityBrigade$Row", name := "value", desc := "(I)D" } : Jvm.MethodName) ({ cls := "CityBrigade$Shorts", name := "value", desc := "(I)D" } : Jvm.MethodName)) ∈ lw_all := lw_g (lw_at lw_m8 44 rfl) rfl
theorem q1883 : (Jvm.Cond.instanceMethod ({ cls := "CityBrigade$Shorts", name := "value", desc := "(I)D" } : Jvm.MethodName)) ∈ lw_all := lw_g (lw_at lw_m8 45 rfl) rfl
theorem q1884 : (Jvm.Cond.code ({ cls := "CityBrigade$Shorts", name := "value", desc := "(I)D" } : Jvm.MethodName) prog_23_method_3_code (2 : Nat) (Option.some Jvm.ClassFile.FieldType.double)) ∈ lw_all := lw_g (lw_at lw_m8 46 rfl) rfl
theorem q2869 : (Jvm.Cond.castable "CityBrigade$Shorts" "java/lang/Object") ∈ lw_tbl := lw_at lw_m12 71 rfl
theorem q2880 : (Jvm.Cond.castable "CityBrigade$Shorts" "CityBrigade$Row") ∈ lw_tbl := lw_at lw_m12 82 rfl
theorem in_X25 : ∀ w ∈ wsX250, w ∈ lw_all := lw_in wsX250 [1737] (by decide +kernel) (by decide +kernel)
/-! CityBrigade$Ints -/
set_option maxRecDepth 100000
def RX26 : String := "CityBrigade$Ints"
def TX26 : u_T := fun k => match k with
  | _ => ("CityBrigade$Ints", "row", "[I", true)
def tyX26 : Nat → FieldType := fun k => match k with
  | _ => .array .int
abbrev wsX260 : List Cond := u_ws RX26 TX26 1
theorem nmX26 : ∀ a, a < 1 → ∀ b, b < 1 → a ≠ b → (TX26 a).2.1 ≠ (TX26 b).2.1 := by decide +kernel
theorem tyX26_ok : ∀ k, k < 1 → parseFieldDescriptor (TX26 k).2.2.1 = some (tyX26 k) := by decide +kernel
abbrev cX26_init : ByteArray := prog_16_method_1_code
def yX26_init : MethodName := ⟨RX26, "<init>", "()V"⟩
def dkwX26_init_0 : List UInt8 := [42, 183, 0, 3, 42, 16, 20, 188, 10, 181, 0, 9, 177]
abbrev dktX26_init_0 : List UInt8 := dkwX26_init_0 ++ []
theorem dksX26_init_0 : cX26_init.data.toList.drop 0 = dktX26_init_0 := by decide +kernel
theorem dX26_init_0 : decode cX26_init 0 = .ok (.aload_n 0, 1) := dk_42 (dk_at dksX26_init_0 0 rfl rfl)
theorem dX26_init_1 : decode cX26_init 1 = .ok (.invokespecial 3, 3) := dk_183 0 3 (dk_at dksX26_init_0 1 rfl rfl)
theorem dX26_init_4 : decode cX26_init 4 = .ok (.aload_n 0, 1) := dk_42 (dk_at dksX26_init_0 4 rfl rfl)
theorem dX26_init_5 : decode cX26_init 5 = .ok (.bipush 20, 2) := dk_16 20 (dk_at dksX26_init_0 5 rfl rfl)
theorem dX26_init_7 : decode cX26_init 7 = .ok (.newarray .int, 2) := dk_188_10 (dk_at dksX26_init_0 7 rfl rfl)
theorem dX26_init_9 : decode cX26_init 9 = .ok (.putfield 9, 3) := dk_181 0 9 (dk_at dksX26_init_0 9 rfl rfl)
theorem dX26_init_12 : decode cX26_init 12 = .ok (.return_, 1) := dk_177 (dk_at dksX26_init_0 12 rfl rfl)
abbrev cX26_put : ByteArray := prog_16_method_2_code
def yX26_put : MethodName := ⟨RX26, "put", "(II)V"⟩
def dkwX26_put_0 : List UInt8 := [42, 180, 0, 9, 27, 28, 79, 177]
abbrev dktX26_put_0 : List UInt8 := dkwX26_put_0 ++ []
theorem dksX26_put_0 : cX26_put.data.toList.drop 0 = dktX26_put_0 := by decide +kernel
theorem dX26_put_0 : decode cX26_put 0 = .ok (.aload_n 0, 1) := dk_42 (dk_at dksX26_put_0 0 rfl rfl)
theorem dX26_put_1 : decode cX26_put 1 = .ok (.getfield 9, 3) := dk_180 0 9 (dk_at dksX26_put_0 1 rfl rfl)
theorem dX26_put_4 : decode cX26_put 4 = .ok (.iload_n 1, 1) := dk_27 (dk_at dksX26_put_0 4 rfl rfl)
theorem dX26_put_5 : decode cX26_put 5 = .ok (.iload_n 2, 1) := dk_28 (dk_at dksX26_put_0 5 rfl rfl)
theorem dX26_put_6 : decode cX26_put 6 = .ok (.iastore, 1) := dk_79 (dk_at dksX26_put_0 6 rfl rfl)
theorem dX26_put_7 : decode cX26_put 7 = .ok (.return_, 1) := dk_177 (dk_at dksX26_put_0 7 rfl rfl)
abbrev cX26_copy : ByteArray := prog_16_method_4_code
def yX26_copy : MethodName := ⟨RX26, "copy", "(ILCityBrigade$Row;II)V"⟩
def dkwX26_copy_0 : List UInt8 := [42, 180, 0, 9, 27, 44, 192, 0, 10, 180, 0, 9, 29, 21, 4, 184, 0, 15, 177]
abbrev dktX26_copy_0 : List UInt8 := dkwX26_copy_0 ++ []
theorem dksX26_copy_0 : cX26_copy.data.toList.drop 0 = dktX26_copy_0 := by decide +kernel
theorem dX26_copy_0 : decode cX26_copy 0 = .ok (.aload_n 0, 1) := dk_42 (dk_at dksX26_copy_0 0 rfl rfl)
theorem dX26_copy_1 : decode cX26_copy 1 = .ok (.getfield 9, 3) := dk_180 0 9 (dk_at dksX26_copy_0 1 rfl rfl)
theorem dX26_copy_4 : decode cX26_copy 4 = .ok (.iload_n 1, 1) := dk_27 (dk_at dksX26_copy_0 4 rfl rfl)
theorem dX26_copy_5 : decode cX26_copy 5 = .ok (.aload_n 2, 1) := dk_44 (dk_at dksX26_copy_0 5 rfl rfl)
theorem dX26_copy_6 : decode cX26_copy 6 = .ok (.checkcast 10, 3) := dk_192 0 10 (dk_at dksX26_copy_0 6 rfl rfl)
theorem dX26_copy_9 : decode cX26_copy 9 = .ok (.getfield 9, 3) := dk_180 0 9 (dk_at dksX26_copy_0 9 rfl rfl)
theorem dX26_copy_12 : decode cX26_copy 12 = .ok (.iload_n 3, 1) := dk_29 (dk_at dksX26_copy_0 12 rfl rfl)
theorem dX26_copy_13 : decode cX26_copy 13 = .ok (.iload 4, 2) := dk_21 4 (dk_at dksX26_copy_0 13 rfl rfl)
theorem dX26_copy_15 : decode cX26_copy 15 = .ok (.invokestatic 15, 3) := dk_184 0 15 (dk_at dksX26_copy_0 15 rfl rfl)
theorem dX26_copy_18 : decode cX26_copy 18 = .ok (.return_, 1) := dk_177 (dk_at dksX26_copy_0 18 rfl rfl)
abbrev cX26_value : ByteArray := prog_16_method_3_code
def yX26_value : MethodName := ⟨RX26, "value", "(I)D"⟩
def dkwX26_value_0 : List UInt8 := [42, 180, 0, 9, 27, 46, 135, 175]
abbrev dktX26_value_0 : List UInt8 := dkwX26_value_0 ++ []
theorem dksX26_value_0 : cX26_value.data.toList.drop 0 = dktX26_value_0 := by decide +kernel
theorem dX26_value_0 : decode cX26_value 0 = .ok (.aload_n 0, 1) := dk_42 (dk_at dksX26_value_0 0 rfl rfl)
theorem dX26_value_1 : decode cX26_value 1 = .ok (.getfield 9, 3) := dk_180 0 9 (dk_at dksX26_value_0 1 rfl rfl)
theorem dX26_value_4 : decode cX26_value 4 = .ok (.iload_n 1, 1) := dk_27 (dk_at dksX26_value_0 4 rfl rfl)
theorem dX26_value_5 : decode cX26_value 5 = .ok (.iaload, 1) := dk_46 (dk_at dksX26_value_0 5 rfl rfl)
theorem dX26_value_6 : decode cX26_value 6 = .ok (.i2d, 1) := dk_135 (dk_at dksX26_value_0 6 rfl rfl)
theorem dX26_value_7 : decode cX26_value 7 = .ok (.dreturn, 1) := dk_175 (dk_at dksX26_value_0 7 rfl rfl)
theorem q196 : (Jvm.Cond.initialized "CityBrigade$Ints") ∈ lw_all := lw_g (lw_at lw_m1 38 rfl) rfl
theorem q1742 : (Jvm.Cond.instantiable "CityBrigade$Ints" (1 : Nat)) ∈ lw_all := lw_g (lw_at lw_m7 144 rfl) rfl
theorem q1744 : (Jvm.Cond.instanceMethod ({ cls := "CityBrigade$Ints", name := "<init>", desc := "()V" } : Jvm.MethodName)) ∈ lw_all := lw_g (lw_at lw_m7 146 rfl) rfl
theorem q1745 : (Jvm.Cond.code ({ cls := "CityBrigade$Ints", name := "<init>", desc := "()V" } : Jvm.MethodName) prog_16_method_1_code (1 : Nat) (Option.none : Option Jvm.ClassFile.FieldType)) ∈ lw_all := lw_g (lw_at lw_m7 147 rfl) rfl
theorem q1746 : (Jvm.Cond.methodLinkNest "CityBrigade$Ints" (3 : Nat) ({ cls := "CityBrigade$Row", name := "<init>", desc := "()V" } : Jvm.MethodName) "CityBrigade") ∈ lw_tbl := lw_at lw_m7 148 rfl
theorem q1747 : (Jvm.Cond.fieldLink "CityBrigade$Ints" (9 : Nat) "CityBrigade$Ints" "row" "[I") ∈ lw_all := lw_g (lw_at lw_m7 149 rfl) rfl
theorem q1748 : (Jvm.Cond.laysFinal "CityBrigade$Ints" "CityBrigade$Ints" "row" "[I") ∈ lw_all := lw_g (lw_at lw_m7 150 rfl) rfl
theorem q1749 : (Jvm.Cond.soleField "CityBrigade$Ints" "row") ∈ lw_all := lw_g (lw_at lw_m7 151 rfl) rfl
theorem q1750 : (Jvm.Cond.superclass "CityBrigade$Ints" "CityBrigade$Row") ∈ lw_all := lw_g (lw_at lw_m7 152 rfl) rfl
theorem q1784 : (Jvm.Cond.selects "CityBrigade$Ints" ({ cls := "CityBrigade$Row", name := "put", desc := "(II)V" } : Jvm.MethodName) ({ cls := "CityBrigade$Ints", name := "put", desc := "(II)V" } : Jvm.MethodName)) ∈ lw_all := lw_g (lw_at lw_m7 186 rfl) rfl
theorem q1785 : (Jvm.Cond.instanceMethod ({ cls := "CityBrigade$Ints", name := "put", desc := "(II)V" } : Jvm.MethodName)) ∈ lw_all := lw_g (lw_at lw_m7 187 rfl) rfl
theorem q1786 : (Jvm.Cond.code ({ cls := "CityBrigade$Ints", name := "put", desc := "(II)V" } : Jvm.MethodName) prog_16_method_2_code (3 : Nat) (Option.none : Option Jvm.ClassFile.FieldType)) ∈ lw_all := lw_g (lw_at lw_m7 188 rfl) rfl
theorem q1845 : (Jvm.Cond.selects "CityBrigade$Ints" ({ cls := "CityBrigade$Row", name := "copy", desc := "(ILCityBrigade$Row;II)V" } : Jvm.MethodName) ({ cls := "CityBrigade$Ints", name := "copy", desc := "(ILCityBrigade$Row;II)V" } : Jvm.MethodName)) ∈ lw_all := lw_g (lw_at lw_m8 7 rfl) rfl
theorem q1846 : (Jvm.Cond.instanceMethod ({ cls := "CityBrigade$Ints", name := "copy", desc := "(ILCityBrigade$Row;II)V" } : Jvm.MethodName)) ∈ lw_all := lw_g (lw_at lw_m8 8 rfl) rfl
theorem q1847 : (Jvm.Cond.code ({ cls := "CityBrigade$Ints", name := "copy", desc := "(ILCityBrigade$Row;II)V" } : Jvm.MethodName) prog_16_method_4_code (5 : Nat) (Option.none : Option Jvm.ClassFile.FieldType)) ∈ lw_all := lw_g (lw_at lw_m8 9 rfl) rfl
theorem q1848 : (Jvm.Cond.classLink "CityBrigade$Ints" (10 : Nat) "CityBrigade$Ints") ∈ lw_all := lw_g (lw_at lw_m8 10 rfl) rfl
theorem q1849 : (Jvm.Cond.methodLink "CityBrigade$Ints" (15 : Nat) ({ cls := "java/lang/System", name := "arraycopy", desc := "(Ljava/lang/Object;ILjava/lang/Object;II)V" } : Jvm.MethodName)) ∈ lw_all := lw_g (lw_at lw_m8 11 rfl) rfl
theorem q1879 : (Jvm.Cond.selects "CityBrigade$Ints" ({ cls := "CityBrigade$Row", name := "value", desc := "(I)D" } : Jvm.MethodName) ({ cls := "CityBrigade$Ints", name := "value", desc := "(I)D" } : Jvm.MethodName)) ∈ lw_all := lw_g (lw_at lw_m8 41 rfl) rfl
theorem q1880 : (Jvm.Cond.instanceMethod ({ cls := "CityBrigade$Ints", name := "value", desc := "(I)D" } : Jvm.MethodName)) ∈ lw_all := lw_g (lw_at lw_m8 42 rfl) rfl
theorem q1881 : (Jvm.Cond.code ({ cls := "CityBrigade$Ints", name := "value", desc := "(I)D" } : Jvm.MethodName) prog_16_method_3_code (2 : Nat) (Option.some Jvm.ClassFile.FieldType.double)) ∈ lw_all := lw_g (lw_at lw_m8 43 rfl) rfl
theorem q2870 : (Jvm.Cond.castable "CityBrigade$Ints" "java/lang/Object") ∈ lw_tbl := lw_at lw_m12 72 rfl
theorem q2881 : (Jvm.Cond.castable "CityBrigade$Ints" "CityBrigade$Row") ∈ lw_tbl := lw_at lw_m12 83 rfl
theorem in_X26 : ∀ w ∈ wsX260, w ∈ lw_all := lw_in wsX260 [1748] (by decide +kernel) (by decide +kernel)
/-! CityBrigade$Floats -/
set_option maxRecDepth 100000
def RX27 : String := "CityBrigade$Floats"
def TX27 : u_T := fun k => match k with
  | _ => ("CityBrigade$Floats", "row", "[F", true)
def tyX27 : Nat → FieldType := fun k => match k with
  | _ => .array .float
abbrev wsX270 : List Cond := u_ws RX27 TX27 1
theorem nmX27 : ∀ a, a < 1 → ∀ b, b < 1 → a ≠ b → (TX27 a).2.1 ≠ (TX27 b).2.1 := by decide +kernel
theorem tyX27_ok : ∀ k, k < 1 → parseFieldDescriptor (TX27 k).2.2.1 = some (tyX27 k) := by decide +kernel
abbrev cX27_init : ByteArray := prog_11_method_1_code
def yX27_init : MethodName := ⟨RX27, "<init>", "()V"⟩
def dkwX27_init_0 : List UInt8 := [42, 183, 0, 3, 42, 16, 20, 188, 6, 181, 0, 9, 177]
abbrev dktX27_init_0 : List UInt8 := dkwX27_init_0 ++ []
theorem dksX27_init_0 : cX27_init.data.toList.drop 0 = dktX27_init_0 := by decide +kernel
theorem dX27_init_0 : decode cX27_init 0 = .ok (.aload_n 0, 1) := dk_42 (dk_at dksX27_init_0 0 rfl rfl)
theorem dX27_init_1 : decode cX27_init 1 = .ok (.invokespecial 3, 3) := dk_183 0 3 (dk_at dksX27_init_0 1 rfl rfl)
theorem dX27_init_4 : decode cX27_init 4 = .ok (.aload_n 0, 1) := dk_42 (dk_at dksX27_init_0 4 rfl rfl)
theorem dX27_init_5 : decode cX27_init 5 = .ok (.bipush 20, 2) := dk_16 20 (dk_at dksX27_init_0 5 rfl rfl)
theorem dX27_init_7 : decode cX27_init 7 = .ok (.newarray .float, 2) := dk_188_6 (dk_at dksX27_init_0 7 rfl rfl)
theorem dX27_init_9 : decode cX27_init 9 = .ok (.putfield 9, 3) := dk_181 0 9 (dk_at dksX27_init_0 9 rfl rfl)
theorem dX27_init_12 : decode cX27_init 12 = .ok (.return_, 1) := dk_177 (dk_at dksX27_init_0 12 rfl rfl)
abbrev cX27_put : ByteArray := prog_11_method_2_code
def yX27_put : MethodName := ⟨RX27, "put", "(II)V"⟩
def dkwX27_put_0 : List UInt8 := [42, 180, 0, 9, 27, 28, 18, 15, 160, 0, 8, 18, 18, 167, 0, 8, 28, 134, 18, 19, 110, 81, 177]
abbrev dktX27_put_0 : List UInt8 := dkwX27_put_0 ++ []
theorem dksX27_put_0 : cX27_put.data.toList.drop 0 = dktX27_put_0 := by decide +kernel
theorem dX27_put_0 : decode cX27_put 0 = .ok (.aload_n 0, 1) := dk_42 (dk_at dksX27_put_0 0 rfl rfl)
theorem dX27_put_1 : decode cX27_put 1 = .ok (.getfield 9, 3) := dk_180 0 9 (dk_at dksX27_put_0 1 rfl rfl)
theorem dX27_put_4 : decode cX27_put 4 = .ok (.iload_n 1, 1) := dk_27 (dk_at dksX27_put_0 4 rfl rfl)
theorem dX27_put_5 : decode cX27_put 5 = .ok (.iload_n 2, 1) := dk_28 (dk_at dksX27_put_0 5 rfl rfl)
theorem dX27_put_6 : decode cX27_put 6 = .ok (.ldc 15, 2) := dk_18 15 (dk_at dksX27_put_0 6 rfl rfl)
theorem dX27_put_8 : decode cX27_put 8 = .ok (.if_icmp .ne 8, 3) := dk_160 0 8 (dk_at dksX27_put_0 8 rfl rfl)
theorem dX27_put_11 : decode cX27_put 11 = .ok (.ldc 18, 2) := dk_18 18 (dk_at dksX27_put_0 11 rfl rfl)
theorem dX27_put_13 : decode cX27_put 13 = .ok (.goto 8, 3) := dk_167 0 8 (dk_at dksX27_put_0 13 rfl rfl)
theorem dX27_put_16 : decode cX27_put 16 = .ok (.iload_n 2, 1) := dk_28 (dk_at dksX27_put_0 16 rfl rfl)
theorem dX27_put_17 : decode cX27_put 17 = .ok (.i2f, 1) := dk_134 (dk_at dksX27_put_0 17 rfl rfl)
theorem dX27_put_18 : decode cX27_put 18 = .ok (.ldc 19, 2) := dk_18 19 (dk_at dksX27_put_0 18 rfl rfl)
theorem dX27_put_20 : decode cX27_put 20 = .ok (.fdiv, 1) := dk_110 (dk_at dksX27_put_0 20 rfl rfl)
theorem dX27_put_21 : decode cX27_put 21 = .ok (.fastore, 1) := dk_81 (dk_at dksX27_put_0 21 rfl rfl)
theorem dX27_put_22 : decode cX27_put 22 = .ok (.return_, 1) := dk_177 (dk_at dksX27_put_0 22 rfl rfl)
abbrev cX27_copy : ByteArray := prog_11_method_4_code
def yX27_copy : MethodName := ⟨RX27, "copy", "(ILCityBrigade$Row;II)V"⟩
def dkwX27_copy_0 : List UInt8 := [42, 180, 0, 9, 27, 44, 192, 0, 10, 180, 0, 9, 29, 21, 4, 184, 0, 24, 177]
abbrev dktX27_copy_0 : List UInt8 := dkwX27_copy_0 ++ []
theorem dksX27_copy_0 : cX27_copy.data.toList.drop 0 = dktX27_copy_0 := by decide +kernel
theorem dX27_copy_0 : decode cX27_copy 0 = .ok (.aload_n 0, 1) := dk_42 (dk_at dksX27_copy_0 0 rfl rfl)
theorem dX27_copy_1 : decode cX27_copy 1 = .ok (.getfield 9, 3) := dk_180 0 9 (dk_at dksX27_copy_0 1 rfl rfl)
theorem dX27_copy_4 : decode cX27_copy 4 = .ok (.iload_n 1, 1) := dk_27 (dk_at dksX27_copy_0 4 rfl rfl)
theorem dX27_copy_5 : decode cX27_copy 5 = .ok (.aload_n 2, 1) := dk_44 (dk_at dksX27_copy_0 5 rfl rfl)
theorem dX27_copy_6 : decode cX27_copy 6 = .ok (.checkcast 10, 3) := dk_192 0 10 (dk_at dksX27_copy_0 6 rfl rfl)
theorem dX27_copy_9 : decode cX27_copy 9 = .ok (.getfield 9, 3) := dk_180 0 9 (dk_at dksX27_copy_0 9 rfl rfl)
theorem dX27_copy_12 : decode cX27_copy 12 = .ok (.iload_n 3, 1) := dk_29 (dk_at dksX27_copy_0 12 rfl rfl)
theorem dX27_copy_13 : decode cX27_copy 13 = .ok (.iload 4, 2) := dk_21 4 (dk_at dksX27_copy_0 13 rfl rfl)
theorem dX27_copy_15 : decode cX27_copy 15 = .ok (.invokestatic 24, 3) := dk_184 0 24 (dk_at dksX27_copy_0 15 rfl rfl)
theorem dX27_copy_18 : decode cX27_copy 18 = .ok (.return_, 1) := dk_177 (dk_at dksX27_copy_0 18 rfl rfl)
abbrev cX27_value : ByteArray := prog_11_method_3_code
def yX27_value : MethodName := ⟨RX27, "value", "(I)D"⟩
def dkwX27_value_1 : List UInt8 := [180, 0, 9, 27, 48, 141, 175]
abbrev dktX27_value_1 : List UInt8 := dkwX27_value_1 ++ []
def dkwX27_value_0 : List UInt8 := [42, 180, 0, 9, 27, 48, 42, 180, 0, 9, 27, 48, 149, 153, 0, 9, 20, 0, 22, 167, 0, 10, 42]
abbrev dktX27_value_0 : List UInt8 := dkwX27_value_0 ++ dktX27_value_1
theorem dksX27_value_0 : cX27_value.data.toList.drop 0 = dktX27_value_0 := by decide +kernel
theorem dksX27_value_1 : cX27_value.data.toList.drop 23 = dktX27_value_1 := dk_seg dksX27_value_0 23 rfl rfl
theorem dX27_value_0 : decode cX27_value 0 = .ok (.aload_n 0, 1) := dk_42 (dk_at dksX27_value_0 0 rfl rfl)
theorem dX27_value_1 : decode cX27_value 1 = .ok (.getfield 9, 3) := dk_180 0 9 (dk_at dksX27_value_0 1 rfl rfl)
theorem dX27_value_4 : decode cX27_value 4 = .ok (.iload_n 1, 1) := dk_27 (dk_at dksX27_value_0 4 rfl rfl)
theorem dX27_value_5 : decode cX27_value 5 = .ok (.faload, 1) := dk_48 (dk_at dksX27_value_0 5 rfl rfl)
theorem dX27_value_6 : decode cX27_value 6 = .ok (.aload_n 0, 1) := dk_42 (dk_at dksX27_value_0 6 rfl rfl)
theorem dX27_value_7 : decode cX27_value 7 = .ok (.getfield 9, 3) := dk_180 0 9 (dk_at dksX27_value_0 7 rfl rfl)
theorem dX27_value_10 : decode cX27_value 10 = .ok (.iload_n 1, 1) := dk_27 (dk_at dksX27_value_0 10 rfl rfl)
theorem dX27_value_11 : decode cX27_value 11 = .ok (.faload, 1) := dk_48 (dk_at dksX27_value_0 11 rfl rfl)
theorem dX27_value_12 : decode cX27_value 12 = .ok (.fcmp .l, 1) := dk_149 (dk_at dksX27_value_0 12 rfl rfl)
theorem dX27_value_13 : decode cX27_value 13 = .ok (.ifCond .eq 9, 3) := dk_153 0 9 (dk_at dksX27_value_0 13 rfl rfl)
theorem dX27_value_16 : decode cX27_value 16 = .ok (.ldc2_w 22, 3) := dk_20 0 22 (dk_at dksX27_value_0 16 rfl rfl)
theorem dX27_value_19 : decode cX27_value 19 = .ok (.goto 10, 3) := dk_167 0 10 (dk_at dksX27_value_0 19 rfl rfl)
theorem dX27_value_22 : decode cX27_value 22 = .ok (.aload_n 0, 1) := dk_42 (dk_at dksX27_value_0 22 rfl rfl)
theorem dX27_value_23 : decode cX27_value 23 = .ok (.getfield 9, 3) := dk_180 0 9 (dk_at dksX27_value_1 0 rfl rfl)
theorem dX27_value_26 : decode cX27_value 26 = .ok (.iload_n 1, 1) := dk_27 (dk_at dksX27_value_1 3 rfl rfl)
theorem dX27_value_27 : decode cX27_value 27 = .ok (.faload, 1) := dk_48 (dk_at dksX27_value_1 4 rfl rfl)
theorem dX27_value_28 : decode cX27_value 28 = .ok (.f2d, 1) := dk_141 (dk_at dksX27_value_1 5 rfl rfl)
theorem dX27_value_29 : decode cX27_value 29 = .ok (.dreturn, 1) := dk_175 (dk_at dksX27_value_1 6 rfl rfl)
theorem q197 : (Jvm.Cond.initialized "CityBrigade$Floats") ∈ lw_all := lw_g (lw_at lw_m1 39 rfl) rfl
theorem q1752 : (Jvm.Cond.instantiable "CityBrigade$Floats" (1 : Nat)) ∈ lw_all := lw_g (lw_at lw_m7 154 rfl) rfl
theorem q1754 : (Jvm.Cond.instanceMethod ({ cls := "CityBrigade$Floats", name := "<init>", desc := "()V" } : Jvm.MethodName)) ∈ lw_all := lw_g (lw_at lw_m7 156 rfl) rfl
theorem q1755 : (Jvm.Cond.code ({ cls := "CityBrigade$Floats", name := "<init>", desc := "()V" } : Jvm.MethodName) prog_11_method_1_code (1 : Nat) (Option.none : Option Jvm.ClassFile.FieldType)) ∈ lw_all := lw_g (lw_at lw_m7 157 rfl) rfl
theorem q1756 : (Jvm.Cond.methodLinkNest "CityBrigade$Floats" (3 : Nat) ({ cls := "CityBrigade$Row", name := "<init>", desc := "()V" } : Jvm.MethodName) "CityBrigade") ∈ lw_tbl := lw_at lw_m7 158 rfl
theorem q1757 : (Jvm.Cond.fieldLink "CityBrigade$Floats" (9 : Nat) "CityBrigade$Floats" "row" "[F") ∈ lw_all := lw_g (lw_at lw_m7 159 rfl) rfl
theorem q1758 : (Jvm.Cond.laysFinal "CityBrigade$Floats" "CityBrigade$Floats" "row" "[F") ∈ lw_all := lw_g (lw_at lw_m7 160 rfl) rfl
theorem q1759 : (Jvm.Cond.soleField "CityBrigade$Floats" "row") ∈ lw_all := lw_g (lw_at lw_m7 161 rfl) rfl
theorem q1760 : (Jvm.Cond.superclass "CityBrigade$Floats" "CityBrigade$Row") ∈ lw_all := lw_g (lw_at lw_m7 162 rfl) rfl
theorem q1778 : (Jvm.Cond.selects "CityBrigade$Floats" ({ cls := "CityBrigade$Row", name := "put", desc := "(II)V" } : Jvm.MethodName) ({ cls := "CityBrigade$Floats", name := "put", desc := "(II)V" } : Jvm.MethodName)) ∈ lw_all := lw_g (lw_at lw_m7 180 rfl) rfl
theorem q1779 : (Jvm.Cond.instanceMethod ({ cls := "CityBrigade$Floats", name := "put", desc := "(II)V" } : Jvm.MethodName)) ∈ lw_all := lw_g (lw_at lw_m7 181 rfl) rfl
theorem q1780 : (Jvm.Cond.code ({ cls := "CityBrigade$Floats", name := "put", desc := "(II)V" } : Jvm.MethodName) prog_11_method_2_code (3 : Nat) (Option.none : Option Jvm.ClassFile.FieldType)) ∈ lw_all := lw_g (lw_at lw_m7 182 rfl) rfl
theorem q1781 : (Jvm.Cond.constant "CityBrigade$Floats" (15 : Nat) (-1000000 : Int32)) ∈ lw_all := lw_g (lw_at lw_m7 183 rfl) rfl
theorem q1782 : (Jvm.Cond.constantFloat "CityBrigade$Floats" (18 : Nat) (2143289344 : UInt32)) ∈ lw_all := lw_g (lw_at lw_m7 184 rfl) rfl
theorem q1783 : (Jvm.Cond.constantFloat "CityBrigade$Floats" (19 : Nat) (1090519040 : UInt32)) ∈ lw_all := lw_g (lw_at lw_m7 185 rfl) rfl
theorem q1840 : (Jvm.Cond.selects "CityBrigade$Floats" ({ cls := "CityBrigade$Row", name := "copy", desc := "(ILCityBrigade$Row;II)V" } : Jvm.MethodName) ({ cls := "CityBrigade$Floats", name := "copy", desc := "(ILCityBrigade$Row;II)V" } : Jvm.MethodName)) ∈ lw_all := lw_g (lw_at lw_m8 2 rfl) rfl
theorem q1841 : (Jvm.Cond.instanceMethod ({ cls := "CityBrigade$Floats", name := "copy", desc := "(ILCityBrigade$Row;II)V" } : Jvm.MethodName)) ∈ lw_all := lw_g (lw_at lw_m8 3 rfl) rfl
theorem q1842 : (Jvm.Cond.code ({ cls := "CityBrigade$Floats", name := "copy", desc := "(ILCityBrigade$Row;II)V" } : Jvm.MethodName) prog_11_method_4_code (5 : Nat) (Option.none : Option Jvm.ClassFile.FieldType)) ∈ lw_all := lw_g (lw_at lw_m8 4 rfl) rfl
theorem q1843 : (Jvm.Cond.classLink "CityBrigade$Floats" (10 : Nat) "CityBrigade$Floats") ∈ lw_all := lw_g (lw_at lw_m8 5 rfl) rfl
theorem q1844 : (Jvm.Cond.methodLink "CityBrigade$Floats" (24 : Nat) ({ cls := "java/lang/System", name := "arraycopy", desc := "(Ljava/lang/Object;ILjava/lang/Object;II)V" } : Jvm.MethodName)) ∈ lw_all := lw_g (lw_at lw_m8 6 rfl) rfl
theorem q1875 : (Jvm.Cond.selects "CityBrigade$Floats" ({ cls := "CityBrigade$Row", name := "value", desc := "(I)D" } : Jvm.MethodName) ({ cls := "CityBrigade$Floats", name := "value", desc := "(I)D" } : Jvm.MethodName)) ∈ lw_all := lw_g (lw_at lw_m8 37 rfl) rfl
theorem q1876 : (Jvm.Cond.instanceMethod ({ cls := "CityBrigade$Floats", name := "value", desc := "(I)D" } : Jvm.MethodName)) ∈ lw_all := lw_g (lw_at lw_m8 38 rfl) rfl
theorem q1877 : (Jvm.Cond.code ({ cls := "CityBrigade$Floats", name := "value", desc := "(I)D" } : Jvm.MethodName) prog_11_method_3_code (2 : Nat) (Option.some Jvm.ClassFile.FieldType.double)) ∈ lw_all := lw_g (lw_at lw_m8 39 rfl) rfl
theorem q1878 : (Jvm.Cond.constantDouble "CityBrigade$Floats" (22 : Nat) (9221120237041090560 : UInt64)) ∈ lw_all := lw_g (lw_at lw_m8 40 rfl) rfl
theorem q2871 : (Jvm.Cond.castable "CityBrigade$Floats" "java/lang/Object") ∈ lw_tbl := lw_at lw_m12 73 rfl
theorem q2882 : (Jvm.Cond.castable "CityBrigade$Floats" "CityBrigade$Row") ∈ lw_tbl := lw_at lw_m12 84 rfl
theorem in_X27 : ∀ w ∈ wsX270, w ∈ lw_all := lw_in wsX270 [1758] (by decide +kernel) (by decide +kernel)
/-! CityBrigade$Goes -/
set_option maxRecDepth 100000
def RX28 : String := "CityBrigade$Goes"
abbrev cX28_slow : ByteArray := prog_13_method_2_code
def yX28_slow : MethodName := ⟨RX28, "slow", "(I)I"⟩
theorem dX28_slow_0 : decode cX28_slow 0 = .ok (.aload_n 0, 1) := by decide +kernel
theorem dX28_slow_1 : decode cX28_slow 1 = .ok (.invokeinterface 1 1, 5) := by decide +kernel
theorem dX28_slow_6 : decode cX28_slow 6 = .ok (.ireturn, 1) := by decide +kernel
theorem q987 : (Jvm.Cond.interfaceMethod "CityBrigade$Goes" "CityBrigade$Goes" "slow" "(I)I") ∈ lw_tbl := lw_at lw_m4 109 rfl
theorem q989 : (Jvm.Cond.declares ({ cls := "CityBrigade$Goes", name := "slow", desc := "(I)I" } : Jvm.MethodName)) ∈ lw_tbl := lw_at lw_m4 111 rfl
theorem q990 : (Jvm.Cond.instanceMethod ({ cls := "CityBrigade$Goes", name := "slow", desc := "(I)I" } : Jvm.MethodName)) ∈ lw_all := lw_g (lw_at lw_m4 112 rfl) rfl
theorem q991 : (Jvm.Cond.code ({ cls := "CityBrigade$Goes", name := "slow", desc := "(I)I" } : Jvm.MethodName) prog_13_method_2_code (2 : Nat) (Option.some Jvm.ClassFile.FieldType.int)) ∈ lw_all := lw_g (lw_at lw_m4 113 rfl) rfl
theorem q992 : (Jvm.Cond.interfaceEntry "CityBrigade$Goes" (1 : Nat)) ∈ lw_tbl := lw_at lw_m4 114 rfl
theorem q993 : (Jvm.Cond.methodLink "CityBrigade$Goes" (1 : Nat) ({ cls := "CityBrigade$Goes", name := "best", desc := "()I" } : Jvm.MethodName)) ∈ lw_all := lw_g (lw_at lw_m4 115 rfl) rfl
theorem q994 : (Jvm.Cond.interfaceMethod "CityBrigade$Goes" "CityBrigade$Goes" "best" "()I") ∈ lw_tbl := lw_at lw_m4 116 rfl
theorem q995 : (Jvm.Cond.declares ({ cls := "CityBrigade$Goes", name := "best", desc := "()I" } : Jvm.MethodName)) ∈ lw_tbl := lw_at lw_m4 117 rfl
/-! CityBrigade$Tires -/
set_option maxRecDepth 100000
def RX29 : String := "CityBrigade$Tires"
abbrev cX29_more : ByteArray := prog_28_method_1_code
def yX29_more : MethodName := ⟨RX29, "more", "(I)I"⟩
def dkwX29_more_0 : List UInt8 := [27, 154, 0, 7, 2, 167, 0, 13, 27, 5, 160, 0, 7, 5, 167, 0, 4, 4, 172]
abbrev dktX29_more_0 : List UInt8 := dkwX29_more_0 ++ []
theorem dksX29_more_0 : cX29_more.data.toList.drop 0 = dktX29_more_0 := by decide +kernel
theorem dX29_more_0 : decode cX29_more 0 = .ok (.iload_n 1, 1) := dk_27 (dk_at dksX29_more_0 0 rfl rfl)
theorem dX29_more_1 : decode cX29_more 1 = .ok (.ifCond .ne 7, 3) := dk_154 0 7 (dk_at dksX29_more_0 1 rfl rfl)
theorem dX29_more_4 : decode cX29_more 4 = .ok (.iconst (-1), 1) := dk_2 (dk_at dksX29_more_0 4 rfl rfl)
theorem dX29_more_5 : decode cX29_more 5 = .ok (.goto 13, 3) := dk_167 0 13 (dk_at dksX29_more_0 5 rfl rfl)
theorem dX29_more_8 : decode cX29_more 8 = .ok (.iload_n 1, 1) := dk_27 (dk_at dksX29_more_0 8 rfl rfl)
theorem dX29_more_9 : decode cX29_more 9 = .ok (.iconst 2, 1) := dk_5 (dk_at dksX29_more_0 9 rfl rfl)
theorem dX29_more_10 : decode cX29_more 10 = .ok (.if_icmp .ne 7, 3) := dk_160 0 7 (dk_at dksX29_more_0 10 rfl rfl)
theorem dX29_more_13 : decode cX29_more 13 = .ok (.iconst 2, 1) := dk_5 (dk_at dksX29_more_0 13 rfl rfl)
theorem dX29_more_14 : decode cX29_more 14 = .ok (.goto 4, 3) := dk_167 0 4 (dk_at dksX29_more_0 14 rfl rfl)
theorem dX29_more_17 : decode cX29_more 17 = .ok (.iconst 1, 1) := dk_4 (dk_at dksX29_more_0 17 rfl rfl)
theorem dX29_more_18 : decode cX29_more 18 = .ok (.ireturn, 1) := dk_172 (dk_at dksX29_more_0 18 rfl rfl)
theorem q1592 : (Jvm.Cond.declares ({ cls := "CityBrigade$Tires", name := "more", desc := "(I)I" } : Jvm.MethodName)) ∈ lw_tbl := lw_at lw_m6 234 rfl
theorem q1597 : (Jvm.Cond.instanceMethod ({ cls := "CityBrigade$Tires", name := "more", desc := "(I)I" } : Jvm.MethodName)) ∈ lw_all := lw_g (lw_at lw_m6 239 rfl) rfl
theorem q1598 : (Jvm.Cond.publicMethod ({ cls := "CityBrigade$Tires", name := "more", desc := "(I)I" } : Jvm.MethodName)) ∈ lw_tbl := lw_at lw_m7 0 rfl
theorem q1599 : (Jvm.Cond.code ({ cls := "CityBrigade$Tires", name := "more", desc := "(I)I" } : Jvm.MethodName) prog_28_method_1_code (2 : Nat) (Option.some Jvm.ClassFile.FieldType.int)) ∈ lw_all := lw_g (lw_at lw_m7 1 rfl) rfl
theorem q2846 : (Jvm.Cond.initialized "CityBrigade$Tires") ∈ lw_all := lw_g (lw_at lw_m12 48 rfl) rfl
