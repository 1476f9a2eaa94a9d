/-! SaidSoLaw -/
set_option maxRecDepth 100000
def RX0 : String := "SaidSoLaw"
abbrev cX0_look : ByteArray := method_3_code
def yX0_look : MethodName := ⟨RX0, "look", "(LSaidSo;II[J)I"⟩
def dkwX0_look_0 : List UInt8 := [45, 3, 42, 27, 28, 182, 0, 7, 133, 80, 167, 0, 11, 58, 4, 4, 172, 58, 4, 5, 172, 3, 172]
abbrev dktX0_look_0 : List UInt8 := dkwX0_look_0 ++ []
theorem dksX0_look_0 : cX0_look.data.toList.drop 0 = dktX0_look_0 := by decide +kernel
theorem dX0_look_0 : decode cX0_look 0 = .ok (.aload_n 3, 1) := dk_45 (dk_at dksX0_look_0 0 rfl rfl)
theorem dX0_look_1 : decode cX0_look 1 = .ok (.iconst 0, 1) := dk_3 (dk_at dksX0_look_0 1 rfl rfl)
theorem dX0_look_2 : decode cX0_look 2 = .ok (.aload_n 0, 1) := dk_42 (dk_at dksX0_look_0 2 rfl rfl)
theorem dX0_look_3 : decode cX0_look 3 = .ok (.iload_n 1, 1) := dk_27 (dk_at dksX0_look_0 3 rfl rfl)
theorem dX0_look_4 : decode cX0_look 4 = .ok (.iload_n 2, 1) := dk_28 (dk_at dksX0_look_0 4 rfl rfl)
theorem dX0_look_5 : decode cX0_look 5 = .ok (.invokevirtual 7, 3) := dk_182 0 7 (dk_at dksX0_look_0 5 rfl rfl)
theorem dX0_look_8 : decode cX0_look 8 = .ok (.i2l, 1) := dk_133 (dk_at dksX0_look_0 8 rfl rfl)
theorem dX0_look_9 : decode cX0_look 9 = .ok (.lastore, 1) := dk_80 (dk_at dksX0_look_0 9 rfl rfl)
theorem dX0_look_10 : decode cX0_look 10 = .ok (.goto 11, 3) := dk_167 0 11 (dk_at dksX0_look_0 10 rfl rfl)
theorem dX0_look_13 : decode cX0_look 13 = .ok (.astore 4, 2) := dk_58 4 (dk_at dksX0_look_0 13 rfl rfl)
theorem dX0_look_15 : decode cX0_look 15 = .ok (.iconst 1, 1) := dk_4 (dk_at dksX0_look_0 15 rfl rfl)
theorem dX0_look_16 : decode cX0_look 16 = .ok (.ireturn, 1) := dk_172 (dk_at dksX0_look_0 16 rfl rfl)
theorem dX0_look_17 : decode cX0_look 17 = .ok (.astore 4, 2) := dk_58 4 (dk_at dksX0_look_0 17 rfl rfl)
theorem dX0_look_19 : decode cX0_look 19 = .ok (.iconst 2, 1) := dk_5 (dk_at dksX0_look_0 19 rfl rfl)
theorem dX0_look_20 : decode cX0_look 20 = .ok (.ireturn, 1) := dk_172 (dk_at dksX0_look_0 20 rfl rfl)
theorem dX0_look_21 : decode cX0_look 21 = .ok (.iconst 0, 1) := dk_3 (dk_at dksX0_look_0 21 rfl rfl)
theorem dX0_look_22 : decode cX0_look 22 = .ok (.ireturn, 1) := dk_172 (dk_at dksX0_look_0 22 rfl rfl)
theorem q138 : (Jvm.Cond.initialized "SaidSoLaw") ∈ lw_all := lw_g (lw_at lw_m1 0 rfl) rfl
theorem q175 : (Jvm.Cond.classLink "SaidSoLaw" (8 : Nat) "SaidSo") ∈ lw_all := lw_g (lw_at lw_m1 37 rfl) rfl
theorem q177 : (Jvm.Cond.methodLink "SaidSoLaw" (17 : Nat) ({ cls := "SaidSo", name := "<init>", desc := "()V" } : Jvm.MethodName)) ∈ lw_all := lw_g (lw_at lw_m1 39 rfl) rfl
theorem q354 : (Jvm.Cond.methodLink "SaidSoLaw" (21 : Nat) ({ cls := "SaidSo", name := "feed", desc := "(IIIII)I" } : Jvm.MethodName)) ∈ lw_all := lw_g (lw_at lw_m1 216 rfl) rfl
theorem q362 : (Jvm.Cond.methodLink "SaidSoLaw" (26 : Nat) ({ cls := "SaidSo", name := "tell", desc := "(I)I" } : Jvm.MethodName)) ∈ lw_all := lw_g (lw_at lw_m1 224 rfl) rfl
theorem q954 : (Jvm.Cond.methodLink "SaidSoLaw" (31 : Nat) ({ cls := "SaidSo", name := "fault", desc := "(I)I" } : Jvm.MethodName)) ∈ lw_all := lw_g (lw_at lw_m4 96 rfl) rfl
theorem q958 : (Jvm.Cond.methodLink "SaidSoLaw" (35 : Nat) ({ cls := "SaidSo", name := "named", desc := "(II)I" } : Jvm.MethodName)) ∈ lw_all := lw_g (lw_at lw_m4 100 rfl) rfl
theorem q964 : (Jvm.Cond.methodLink "SaidSoLaw" (49 : Nat) ({ cls := "SaidSo", name := "teller", desc := "(II)I" } : Jvm.MethodName)) ∈ lw_all := lw_g (lw_at lw_m4 106 rfl) rfl
theorem q975 : (Jvm.Cond.methodLink "SaidSoLaw" (53 : Nat) ({ cls := "SaidSo", name := "line", desc := "(II)I" } : Jvm.MethodName)) ∈ lw_all := lw_g (lw_at lw_m4 117 rfl) rfl
theorem q992 : (Jvm.Cond.methodLink "SaidSoLaw" (57 : Nat) ({ cls := "SaidSo", name := "say", desc := "(ZIIII)I" } : Jvm.MethodName)) ∈ lw_all := lw_g (lw_at lw_m4 134 rfl) rfl
theorem q1007 : (Jvm.Cond.methodLink "SaidSoLaw" (62 : Nat) ({ cls := "SaidSo", name := "undo", desc := "()I" } : Jvm.MethodName)) ∈ lw_all := lw_g (lw_at lw_m4 149 rfl) rfl
theorem q1020 : (Jvm.Cond.methodLink "SaidSoLaw" (66 : Nat) ({ cls := "SaidSo", name := "hear", desc := "(I)I" } : Jvm.MethodName)) ∈ lw_all := lw_g (lw_at lw_m4 162 rfl) rfl
theorem q1028 : (Jvm.Cond.methodLink "SaidSoLaw" (70 : Nat) ({ cls := "SaidSo", name := "word", desc := "(I)I" } : Jvm.MethodName)) ∈ lw_all := lw_g (lw_at lw_m4 170 rfl) rfl
theorem q1102 : (Jvm.Cond.methodLink "SaidSoLaw" (74 : Nat) ({ cls := "SaidSo", name := "led", desc := "(I)I" } : Jvm.MethodName)) ∈ lw_all := lw_g (lw_at lw_m5 4 rfl) rfl
theorem q1106 : (Jvm.Cond.methodLink "SaidSoLaw" (78 : Nat) ({ cls := "SaidSo", name := "words", desc := "(II)I" } : Jvm.MethodName)) ∈ lw_all := lw_g (lw_at lw_m5 8 rfl) rfl
theorem q1110 : (Jvm.Cond.methodLink "SaidSoLaw" (82 : Nat) ({ cls := "SaidSo", name := "truth", desc := "(I)Z" } : Jvm.MethodName)) ∈ lw_all := lw_g (lw_at lw_m5 12 rfl) rfl
theorem q1114 : (Jvm.Cond.methodLink "SaidSoLaw" (87 : Nat) ({ cls := "SaidSo", name := "begin", desc := "(II)Z" } : Jvm.MethodName)) ∈ lw_all := lw_g (lw_at lw_m5 16 rfl) rfl
theorem q1118 : (Jvm.Cond.methodLink "SaidSoLaw" (92 : Nat) ({ cls := "SaidSo", name := "odds", desc := "(III)J" } : Jvm.MethodName)) ∈ lw_all := lw_g (lw_at lw_m5 20 rfl) rfl
theorem q1140 : (Jvm.Cond.methodLink "SaidSoLaw" (97 : Nat) ({ cls := "SaidSo", name := "page", desc := "(I)I" } : Jvm.MethodName)) ∈ lw_all := lw_g (lw_at lw_m5 42 rfl) rfl
theorem q1156 : (Jvm.Cond.methodLink "SaidSoLaw" (101 : Nat) ({ cls := "SaidSo", name := "left", desc := "(I)I" } : Jvm.MethodName)) ∈ lw_all := lw_g (lw_at lw_m5 58 rfl) rfl
theorem q1164 : (Jvm.Cond.methodLink "SaidSoLaw" (105 : Nat) ({ cls := "SaidSo", name := "moved", desc := "(I)I" } : Jvm.MethodName)) ∈ lw_all := lw_g (lw_at lw_m5 66 rfl) rfl
theorem q1169 : (Jvm.Cond.methodLink "SaidSoLaw" (109 : Nat) ({ cls := "SaidSo", name := "story", desc := "(II)I" } : Jvm.MethodName)) ∈ lw_all := lw_g (lw_at lw_m5 71 rfl) rfl
theorem q1177 : (Jvm.Cond.methodLink "SaidSoLaw" (113 : Nat) ({ cls := "SaidSo", name := "clash", desc := "(II)I" } : Jvm.MethodName)) ∈ lw_all := lw_g (lw_at lw_m5 79 rfl) rfl
theorem q1185 : (Jvm.Cond.methodLink "SaidSoLaw" (117 : Nat) ({ cls := "SaidSo", name := "together", desc := "()I" } : Jvm.MethodName)) ∈ lw_all := lw_g (lw_at lw_m5 87 rfl) rfl
theorem q1195 : (Jvm.Cond.methodLink "SaidSoLaw" (121 : Nat) ({ cls := "SaidSo", name := "lies", desc := "(I)I" } : Jvm.MethodName)) ∈ lw_all := lw_g (lw_at lw_m5 97 rfl) rfl
theorem q1199 : (Jvm.Cond.methodLink "SaidSoLaw" (125 : Nat) ({ cls := "SaidSo", name := "supposed", desc := "(I)I" } : Jvm.MethodName)) ∈ lw_all := lw_g (lw_at lw_m5 101 rfl) rfl
theorem q1204 : (Jvm.Cond.methodLink "SaidSoLaw" (129 : Nat) ({ cls := "SaidSo", name := "law", desc := "(I)I" } : Jvm.MethodName)) ∈ lw_all := lw_g (lw_at lw_m5 106 rfl) rfl
theorem q1269 : (Jvm.Cond.methodLink "SaidSoLaw" (133 : Nat) ({ cls := "SaidSo", name := "draws", desc := "(III)I" } : Jvm.MethodName)) ∈ lw_all := lw_g (lw_at lw_m5 171 rfl) rfl
theorem q1283 : (Jvm.Cond.methodLink "SaidSoLaw" (138 : Nat) ({ cls := "SaidSo", name := "barred", desc := "(I)I" } : Jvm.MethodName)) ∈ lw_all := lw_g (lw_at lw_m5 185 rfl) rfl
theorem q1303 : (Jvm.Cond.methodLink "SaidSoLaw" (142 : Nat) ({ cls := "SaidSo", name := "jury", desc := "(II)I" } : Jvm.MethodName)) ∈ lw_all := lw_g (lw_at lw_m5 205 rfl) rfl
theorem q1315 : (Jvm.Cond.methodLink "SaidSoLaw" (146 : Nat) ({ cls := "SaidSo", name := "there", desc := "(I)I" } : Jvm.MethodName)) ∈ lw_all := lw_g (lw_at lw_m5 217 rfl) rfl
theorem q1319 : (Jvm.Cond.methodLink "SaidSoLaw" (150 : Nat) ({ cls := "SaidSo", name := "found", desc := "(II)I" } : Jvm.MethodName)) ∈ lw_all := lw_g (lw_at lw_m5 221 rfl) rfl
theorem q1323 : (Jvm.Cond.methodLink "SaidSoLaw" (154 : Nat) ({ cls := "SaidSo", name := "count", desc := "(I)I" } : Jvm.MethodName)) ∈ lw_all := lw_g (lw_at lw_m5 225 rfl) rfl
theorem q1324 : (Jvm.Cond.methodLink "SaidSoLaw" (39 : Nat) ({ cls := "SaidSoLaw", name := "look", desc := "(LSaidSo;II[J)I" } : Jvm.MethodName)) ∈ lw_all := lw_g (lw_at lw_m5 226 rfl) rfl
theorem q1325 : (Jvm.Cond.static ({ cls := "SaidSoLaw", name := "look", desc := "(LSaidSo;II[J)I" } : Jvm.MethodName)) ∈ lw_all := lw_g (lw_at lw_m5 227 rfl) rfl
theorem q1326 : (Jvm.Cond.codeWith ({ cls := "SaidSoLaw", name := "look", desc := "(LSaidSo;II[J)I" } : Jvm.MethodName) method_3_code (5 : Nat) (Option.some Jvm.ClassFile.FieldType.int) [((0 : Nat), (10 : Nat), (13 : Nat), (13 : Nat)), ((0 : Nat), (10 : Nat), (17 : Nat), (15 : Nat))]) ∈ lw_all := lw_g (lw_at lw_m5 228 rfl) rfl
theorem q1327 : (Jvm.Cond.classLink "SaidSoLaw" (13 : Nat) "java/lang/IndexOutOfBoundsException") ∈ lw_all := lw_g (lw_at lw_m5 229 rfl) rfl
theorem q1361 : (Jvm.Cond.classLink "SaidSoLaw" (15 : Nat) "java/util/NoSuchElementException") ∈ lw_all := lw_g (lw_at lw_m6 23 rfl) rfl
theorem q1362 : (Jvm.Cond.methodLink "SaidSoLaw" (7 : Nat) ({ cls := "SaidSo", name := "look", desc := "(II)I" } : Jvm.MethodName)) ∈ lw_all := lw_g (lw_at lw_m6 24 rfl) rfl
theorem q1402 : (Jvm.Cond.classLink "SaidSoLaw" (18 : Nat) "SaidSoModel") ∈ lw_all := lw_g (lw_at lw_m6 64 rfl) rfl
theorem q1404 : (Jvm.Cond.methodLink "SaidSoLaw" (20 : Nat) ({ cls := "SaidSoModel", name := "<init>", desc := "()V" } : Jvm.MethodName)) ∈ lw_all := lw_g (lw_at lw_m6 66 rfl) rfl
theorem q1620 : (Jvm.Cond.methodLink "SaidSoLaw" (45 : Nat) ({ cls := "SaidSoModel", name := "thrown", desc := "()I" } : Jvm.MethodName)) ∈ lw_all := lw_g (lw_at lw_m7 42 rfl) rfl
theorem q1624 : (Jvm.Cond.methodLink "SaidSoLaw" (25 : Nat) ({ cls := "SaidSoModel", name := "feed", desc := "(IIIII)I" } : Jvm.MethodName)) ∈ lw_all := lw_g (lw_at lw_m7 46 rfl) rfl
theorem q1628 : (Jvm.Cond.methodLink "SaidSoLaw" (30 : Nat) ({ cls := "SaidSoModel", name := "tell", desc := "(I)I" } : Jvm.MethodName)) ∈ lw_all := lw_g (lw_at lw_m7 50 rfl) rfl
theorem q1747 : (Jvm.Cond.methodLink "SaidSoLaw" (34 : Nat) ({ cls := "SaidSoModel", name := "fault", desc := "(I)I" } : Jvm.MethodName)) ∈ lw_all := lw_g (lw_at lw_m7 169 rfl) rfl
theorem q1751 : (Jvm.Cond.methodLink "SaidSoLaw" (38 : Nat) ({ cls := "SaidSoModel", name := "named", desc := "(II)I" } : Jvm.MethodName)) ∈ lw_all := lw_g (lw_at lw_m7 173 rfl) rfl
theorem q1755 : (Jvm.Cond.methodLink "SaidSoLaw" (44 : Nat) ({ cls := "SaidSoModel", name := "look", desc := "(II)I" } : Jvm.MethodName)) ∈ lw_all := lw_g (lw_at lw_m7 177 rfl) rfl
theorem q1767 : (Jvm.Cond.methodLink "SaidSoLaw" (52 : Nat) ({ cls := "SaidSoModel", name := "teller", desc := "(II)I" } : Jvm.MethodName)) ∈ lw_all := lw_g (lw_at lw_m7 189 rfl) rfl
theorem q1775 : (Jvm.Cond.methodLink "SaidSoLaw" (56 : Nat) ({ cls := "SaidSoModel", name := "line", desc := "(II)I" } : Jvm.MethodName)) ∈ lw_all := lw_g (lw_at lw_m7 197 rfl) rfl
theorem q1783 : (Jvm.Cond.methodLink "SaidSoLaw" (61 : Nat) ({ cls := "SaidSoModel", name := "say", desc := "(ZIIII)I" } : Jvm.MethodName)) ∈ lw_all := lw_g (lw_at lw_m7 205 rfl) rfl
theorem q1787 : (Jvm.Cond.methodLink "SaidSoLaw" (65 : Nat) ({ cls := "SaidSoModel", name := "undo", desc := "()I" } : Jvm.MethodName)) ∈ lw_all := lw_g (lw_at lw_m7 209 rfl) rfl
theorem q1791 : (Jvm.Cond.methodLink "SaidSoLaw" (69 : Nat) ({ cls := "SaidSoModel", name := "hear", desc := "(I)I" } : Jvm.MethodName)) ∈ lw_all := lw_g (lw_at lw_m7 213 rfl) rfl
theorem q1802 : (Jvm.Cond.methodLink "SaidSoLaw" (73 : Nat) ({ cls := "SaidSoModel", name := "word", desc := "(I)I" } : Jvm.MethodName)) ∈ lw_all := lw_g (lw_at lw_m7 224 rfl) rfl
theorem q1845 : (Jvm.Cond.methodLink "SaidSoLaw" (77 : Nat) ({ cls := "SaidSoModel", name := "led", desc := "(I)I" } : Jvm.MethodName)) ∈ lw_all := lw_g (lw_at lw_m8 27 rfl) rfl
theorem q1849 : (Jvm.Cond.methodLink "SaidSoLaw" (81 : Nat) ({ cls := "SaidSoModel", name := "words", desc := "(II)I" } : Jvm.MethodName)) ∈ lw_all := lw_g (lw_at lw_m8 31 rfl) rfl
theorem q1853 : (Jvm.Cond.methodLink "SaidSoLaw" (86 : Nat) ({ cls := "SaidSoModel", name := "truth", desc := "(I)Z" } : Jvm.MethodName)) ∈ lw_all := lw_g (lw_at lw_m8 35 rfl) rfl
theorem q1857 : (Jvm.Cond.methodLink "SaidSoLaw" (91 : Nat) ({ cls := "SaidSoModel", name := "begin", desc := "(II)Z" } : Jvm.MethodName)) ∈ lw_all := lw_g (lw_at lw_m8 39 rfl) rfl
theorem q1861 : (Jvm.Cond.methodLink "SaidSoLaw" (96 : Nat) ({ cls := "SaidSoModel", name := "odds", desc := "(III)J" } : Jvm.MethodName)) ∈ lw_all := lw_g (lw_at lw_m8 43 rfl) rfl
theorem q1882 : (Jvm.Cond.methodLink "SaidSoLaw" (100 : Nat) ({ cls := "SaidSoModel", name := "page", desc := "(I)I" } : Jvm.MethodName)) ∈ lw_all := lw_g (lw_at lw_m8 64 rfl) rfl
theorem q1898 : (Jvm.Cond.methodLink "SaidSoLaw" (104 : Nat) ({ cls := "SaidSoModel", name := "left", desc := "(I)I" } : Jvm.MethodName)) ∈ lw_all := lw_g (lw_at lw_m8 80 rfl) rfl
theorem q1906 : (Jvm.Cond.methodLink "SaidSoLaw" (108 : Nat) ({ cls := "SaidSoModel", name := "moved", desc := "(I)I" } : Jvm.MethodName)) ∈ lw_all := lw_g (lw_at lw_m8 88 rfl) rfl
theorem q1910 : (Jvm.Cond.methodLink "SaidSoLaw" (112 : Nat) ({ cls := "SaidSoModel", name := "story", desc := "(II)I" } : Jvm.MethodName)) ∈ lw_all := lw_g (lw_at lw_m8 92 rfl) rfl
theorem q1918 : (Jvm.Cond.methodLink "SaidSoLaw" (116 : Nat) ({ cls := "SaidSoModel", name := "clash", desc := "(II)I" } : Jvm.MethodName)) ∈ lw_all := lw_g (lw_at lw_m8 100 rfl) rfl
theorem q1926 : (Jvm.Cond.methodLink "SaidSoLaw" (120 : Nat) ({ cls := "SaidSoModel", name := "together", desc := "()I" } : Jvm.MethodName)) ∈ lw_all := lw_g (lw_at lw_m8 108 rfl) rfl
theorem q1936 : (Jvm.Cond.methodLink "SaidSoLaw" (124 : Nat) ({ cls := "SaidSoModel", name := "lies", desc := "(I)I" } : Jvm.MethodName)) ∈ lw_all := lw_g (lw_at lw_m8 118 rfl) rfl
theorem q1944 : (Jvm.Cond.methodLink "SaidSoLaw" (128 : Nat) ({ cls := "SaidSoModel", name := "supposed", desc := "(I)I" } : Jvm.MethodName)) ∈ lw_all := lw_g (lw_at lw_m8 126 rfl) rfl
theorem q1956 : (Jvm.Cond.methodLink "SaidSoLaw" (132 : Nat) ({ cls := "SaidSoModel", name := "law", desc := "(I)I" } : Jvm.MethodName)) ∈ lw_all := lw_g (lw_at lw_m8 138 rfl) rfl
theorem q1998 : (Jvm.Cond.methodLink "SaidSoLaw" (137 : Nat) ({ cls := "SaidSoModel", name := "draws", desc := "(III)I" } : Jvm.MethodName)) ∈ lw_all := lw_g (lw_at lw_m8 180 rfl) rfl
theorem q2018 : (Jvm.Cond.methodLink "SaidSoLaw" (141 : Nat) ({ cls := "SaidSoModel", name := "barred", desc := "(I)I" } : Jvm.MethodName)) ∈ lw_all := lw_g (lw_at lw_m8 200 rfl) rfl
theorem q2046 : (Jvm.Cond.methodLink "SaidSoLaw" (145 : Nat) ({ cls := "SaidSoModel", name := "jury", desc := "(II)I" } : Jvm.MethodName)) ∈ lw_all := lw_g (lw_at lw_m8 228 rfl) rfl
theorem q2058 : (Jvm.Cond.methodLink "SaidSoLaw" (149 : Nat) ({ cls := "SaidSoModel", name := "there", desc := "(I)I" } : Jvm.MethodName)) ∈ lw_all := lw_g (lw_at lw_m9 0 rfl) rfl
theorem q2062 : (Jvm.Cond.methodLink "SaidSoLaw" (153 : Nat) ({ cls := "SaidSoModel", name := "found", desc := "(II)I" } : Jvm.MethodName)) ∈ lw_all := lw_g (lw_at lw_m9 4 rfl) rfl
theorem q2066 : (Jvm.Cond.methodLink "SaidSoLaw" (157 : Nat) ({ cls := "SaidSoModel", name := "count", desc := "(I)I" } : Jvm.MethodName)) ∈ lw_all := lw_g (lw_at lw_m9 8 rfl) rfl

/-! SaidSo -/
set_option maxRecDepth 100000
def RX1 : String := "SaidSo"
def TX1 : u_T := fun k => match k with
  | 0 => ("SaidSo", "bytes", "[B", true)
  | 1 => ("SaidSo", "fed", "I", false)
  | 2 => ("SaidSo", "faultKind", "I", false)
  | 3 => ("SaidSo", "faultPlace", "I", false)
  | 4 => ("SaidSo", "heard", "I", false)
  | 5 => ("SaidSo", "truth", "I", false)
  | 6 => ("SaidSo", "told", "I", false)
  | 7 => ("SaidSo", "there", "I", false)
  | 8 => ("SaidSo", "isThere", "I", false)
  | 9 => ("SaidSo", "isNot", "I", false)
  | 10 => ("SaidSo", "reader", "LSaidSo$Reader;", true)
  | 11 => ("SaidSo", "now", "LSaidSo$Case;", false)
  | 12 => ("SaidSo", "names", "[J", true)
  | 13 => ("SaidSo", "fore", "J", false)
  | 14 => ("SaidSo", "against", "J", false)
  | 15 => ("SaidSo", "rising", "[I", true)
  | 16 => ("SaidSo", "keys", "[I", true)
  | 17 => ("SaidSo", "number", "I", false)
  | 18 => ("SaidSo", "firsts", "[I", true)
  | 19 => ("SaidSo", "laws", "[I", true)
  | _ => ("SaidSo", "puts", "[I", true)
def tyX1 : Nat → FieldType := fun k => match k with
  | 0 => .array .byte
  | 1 => .int
  | 2 => .int
  | 3 => .int
  | 4 => .int
  | 5 => .int
  | 6 => .int
  | 7 => .int
  | 8 => .int
  | 9 => .int
  | 10 => .object "SaidSo$Reader"
  | 11 => .object "SaidSo$Case"
  | 12 => .array .long
  | 13 => .long
  | 14 => .long
  | 15 => .array .int
  | 16 => .array .int
  | 17 => .int
  | 18 => .array .int
  | 19 => .array .int
  | _ => .array .int
abbrev wsX10 : List Cond := u_ws RX1 TX1 21
set_option maxRecDepth 100000 in
theorem nmX1 : ∀ a, a < 21 → ∀ b, b < 21 → a ≠ b → (TX1 a).2.1 ≠ (TX1 b).2.1 := by decide +kernel
set_option maxRecDepth 100000 in
theorem tyX1_ok : ∀ k, k < 21 → parseFieldDescriptor (TX1 k).2.2.1 = some (tyX1 k) := by decide +kernel
abbrev cX1_init : ByteArray := prog_1_method_3_code
def yX1_init : MethodName := ⟨RX1, "<init>", "()V"⟩
def dkwX1_init_4 : List UInt8 := [181, 0, 64, 42, 16, 8, 188, 10, 181, 0, 67, 42, 16, 8, 188, 10, 181, 0, 70, 177]
abbrev dktX1_init_4 : List UInt8 := dkwX1_init_4 ++ []
def dkwX1_init_3 : List UInt8 := [181, 0, 53, 42, 16, 20, 188, 10, 181, 0, 57, 42, 16, 20, 188, 10, 181, 0, 61, 42, 16, 8, 188, 10]
abbrev dktX1_init_3 : List UInt8 := dkwX1_init_3 ++ dktX1_init_4
def dkwX1_init_2 : List UInt8 := [42, 183, 0, 39, 181, 0, 42, 42, 187, 0, 46, 89, 183, 0, 48, 181, 0, 49, 42, 16, 10, 188, 11]
abbrev dktX1_init_2 : List UInt8 := dkwX1_init_2 ++ dktX1_init_3
def dkwX1_init_1 : List UInt8 := [181, 0, 25, 42, 16, 9, 181, 0, 28, 42, 4, 181, 0, 31, 42, 4, 181, 0, 34, 42, 187, 0, 37, 89]
abbrev dktX1_init_1 : List UInt8 := dkwX1_init_1 ++ dktX1_init_2
def dkwX1_init_0 : List UInt8 := [42, 183, 0, 11, 42, 17, 3, 32, 188, 8, 181, 0, 17, 42, 2, 181, 0, 21, 42, 17, 0, 199]
abbrev dktX1_init_0 : List UInt8 := dkwX1_init_0 ++ dktX1_init_1
theorem dksX1_init_0 : cX1_init.data.toList.drop 0 = dktX1_init_0 := by decide +kernel
theorem dksX1_init_1 : cX1_init.data.toList.drop 22 = dktX1_init_1 := dk_seg dksX1_init_0 22 rfl rfl
theorem dksX1_init_2 : cX1_init.data.toList.drop 46 = dktX1_init_2 := dk_seg dksX1_init_1 24 rfl rfl
theorem dksX1_init_3 : cX1_init.data.toList.drop 69 = dktX1_init_3 := dk_seg dksX1_init_2 23 rfl rfl
theorem dksX1_init_4 : cX1_init.data.toList.drop 93 = dktX1_init_4 := dk_seg dksX1_init_3 24 rfl rfl
theorem dX1_init_0 : decode cX1_init 0 = .ok (.aload_n 0, 1) := dk_42 (dk_at dksX1_init_0 0 rfl rfl)
theorem dX1_init_1 : decode cX1_init 1 = .ok (.invokespecial 11, 3) := dk_183 0 11 (dk_at dksX1_init_0 1 rfl rfl)
theorem dX1_init_4 : decode cX1_init 4 = .ok (.aload_n 0, 1) := dk_42 (dk_at dksX1_init_0 4 rfl rfl)
theorem dX1_init_5 : decode cX1_init 5 = .ok (.sipush 800, 3) := dk_17 3 32 (dk_at dksX1_init_0 5 rfl rfl)
theorem dX1_init_8 : decode cX1_init 8 = .ok (.newarray .byte, 2) := dk_188_8 (dk_at dksX1_init_0 8 rfl rfl)
theorem dX1_init_10 : decode cX1_init 10 = .ok (.putfield 17, 3) := dk_181 0 17 (dk_at dksX1_init_0 10 rfl rfl)
theorem dX1_init_13 : decode cX1_init 13 = .ok (.aload_n 0, 1) := dk_42 (dk_at dksX1_init_0 13 rfl rfl)
theorem dX1_init_14 : decode cX1_init 14 = .ok (.iconst (-1), 1) := dk_2 (dk_at dksX1_init_0 14 rfl rfl)
theorem dX1_init_15 : decode cX1_init 15 = .ok (.putfield 21, 3) := dk_181 0 21 (dk_at dksX1_init_0 15 rfl rfl)
theorem dX1_init_18 : decode cX1_init 18 = .ok (.aload_n 0, 1) := dk_42 (dk_at dksX1_init_0 18 rfl rfl)
theorem dX1_init_19 : decode cX1_init 19 = .ok (.sipush 199, 3) := dk_17 0 199 (dk_at dksX1_init_0 19 rfl rfl)
theorem dX1_init_22 : decode cX1_init 22 = .ok (.putfield 25, 3) := dk_181 0 25 (dk_at dksX1_init_1 0 rfl rfl)
theorem dX1_init_25 : decode cX1_init 25 = .ok (.aload_n 0, 1) := dk_42 (dk_at dksX1_init_1 3 rfl rfl)
theorem dX1_init_26 : decode cX1_init 26 = .ok (.bipush 9, 2) := dk_16 9 (dk_at dksX1_init_1 4 rfl rfl)
theorem dX1_init_28 : decode cX1_init 28 = .ok (.putfield 28, 3) := dk_181 0 28 (dk_at dksX1_init_1 6 rfl rfl)
theorem dX1_init_31 : decode cX1_init 31 = .ok (.aload_n 0, 1) := dk_42 (dk_at dksX1_init_1 9 rfl rfl)
theorem dX1_init_32 : decode cX1_init 32 = .ok (.iconst 1, 1) := dk_4 (dk_at dksX1_init_1 10 rfl rfl)
theorem dX1_init_33 : decode cX1_init 33 = .ok (.putfield 31, 3) := dk_181 0 31 (dk_at dksX1_init_1 11 rfl rfl)
theorem dX1_init_36 : decode cX1_init 36 = .ok (.aload_n 0, 1) := dk_42 (dk_at dksX1_init_1 14 rfl rfl)
theorem dX1_init_37 : decode cX1_init 37 = .ok (.iconst 1, 1) := dk_4 (dk_at dksX1_init_1 15 rfl rfl)
theorem dX1_init_38 : decode cX1_init 38 = .ok (.putfield 34, 3) := dk_181 0 34 (dk_at dksX1_init_1 16 rfl rfl)
theorem dX1_init_41 : decode cX1_init 41 = .ok (.aload_n 0, 1) := dk_42 (dk_at dksX1_init_1 19 rfl rfl)
theorem dX1_init_42 : decode cX1_init 42 = .ok (.new 37, 3) := dk_187 0 37 (dk_at dksX1_init_1 20 rfl rfl)
theorem dX1_init_45 : decode cX1_init 45 = .ok (.dup, 1) := dk_89 (dk_at dksX1_init_1 23 rfl rfl)
theorem dX1_init_46 : decode cX1_init 46 = .ok (.aload_n 0, 1) := dk_42 (dk_at dksX1_init_2 0 rfl rfl)
theorem dX1_init_47 : decode cX1_init 47 = .ok (.invokespecial 39, 3) := dk_183 0 39 (dk_at dksX1_init_2 1 rfl rfl)
theorem dX1_init_50 : decode cX1_init 50 = .ok (.putfield 42, 3) := dk_181 0 42 (dk_at dksX1_init_2 4 rfl rfl)
theorem dX1_init_53 : decode cX1_init 53 = .ok (.aload_n 0, 1) := dk_42 (dk_at dksX1_init_2 7 rfl rfl)
theorem dX1_init_54 : decode cX1_init 54 = .ok (.new 46, 3) := dk_187 0 46 (dk_at dksX1_init_2 8 rfl rfl)
theorem dX1_init_57 : decode cX1_init 57 = .ok (.dup, 1) := dk_89 (dk_at dksX1_init_2 11 rfl rfl)
theorem dX1_init_58 : decode cX1_init 58 = .ok (.invokespecial 48, 3) := dk_183 0 48 (dk_at dksX1_init_2 12 rfl rfl)
theorem dX1_init_61 : decode cX1_init 61 = .ok (.putfield 49, 3) := dk_181 0 49 (dk_at dksX1_init_2 15 rfl rfl)
theorem dX1_init_64 : decode cX1_init 64 = .ok (.aload_n 0, 1) := dk_42 (dk_at dksX1_init_2 18 rfl rfl)
theorem dX1_init_65 : decode cX1_init 65 = .ok (.bipush 10, 2) := dk_16 10 (dk_at dksX1_init_2 19 rfl rfl)
theorem dX1_init_67 : decode cX1_init 67 = .ok (.newarray .long, 2) := dk_188_11 (dk_at dksX1_init_2 21 rfl rfl)
theorem dX1_init_69 : decode cX1_init 69 = .ok (.putfield 53, 3) := dk_181 0 53 (dk_at dksX1_init_3 0 rfl rfl)
theorem dX1_init_72 : decode cX1_init 72 = .ok (.aload_n 0, 1) := dk_42 (dk_at dksX1_init_3 3 rfl rfl)
theorem dX1_init_73 : decode cX1_init 73 = .ok (.bipush 20, 2) := dk_16 20 (dk_at dksX1_init_3 4 rfl rfl)
theorem dX1_init_75 : decode cX1_init 75 = .ok (.newarray .int, 2) := dk_188_10 (dk_at dksX1_init_3 6 rfl rfl)
theorem dX1_init_77 : decode cX1_init 77 = .ok (.putfield 57, 3) := dk_181 0 57 (dk_at dksX1_init_3 8 rfl rfl)
theorem dX1_init_80 : decode cX1_init 80 = .ok (.aload_n 0, 1) := dk_42 (dk_at dksX1_init_3 11 rfl rfl)
theorem dX1_init_81 : decode cX1_init 81 = .ok (.bipush 20, 2) := dk_16 20 (dk_at dksX1_init_3 12 rfl rfl)
theorem dX1_init_83 : decode cX1_init 83 = .ok (.newarray .int, 2) := dk_188_10 (dk_at dksX1_init_3 14 rfl rfl)
theorem dX1_init_85 : decode cX1_init 85 = .ok (.putfield 61, 3) := dk_181 0 61 (dk_at dksX1_init_3 16 rfl rfl)
theorem dX1_init_88 : decode cX1_init 88 = .ok (.aload_n 0, 1) := dk_42 (dk_at dksX1_init_3 19 rfl rfl)
theorem dX1_init_89 : decode cX1_init 89 = .ok (.bipush 8, 2) := dk_16 8 (dk_at dksX1_init_3 20 rfl rfl)
theorem dX1_init_91 : decode cX1_init 91 = .ok (.newarray .int, 2) := dk_188_10 (dk_at dksX1_init_3 22 rfl rfl)
theorem dX1_init_93 : decode cX1_init 93 = .ok (.putfield 64, 3) := dk_181 0 64 (dk_at dksX1_init_4 0 rfl rfl)
theorem dX1_init_96 : decode cX1_init 96 = .ok (.aload_n 0, 1) := dk_42 (dk_at dksX1_init_4 3 rfl rfl)
theorem dX1_init_97 : decode cX1_init 97 = .ok (.bipush 8, 2) := dk_16 8 (dk_at dksX1_init_4 4 rfl rfl)
theorem dX1_init_99 : decode cX1_init 99 = .ok (.newarray .int, 2) := dk_188_10 (dk_at dksX1_init_4 6 rfl rfl)
theorem dX1_init_101 : decode cX1_init 101 = .ok (.putfield 67, 3) := dk_181 0 67 (dk_at dksX1_init_4 8 rfl rfl)
theorem dX1_init_104 : decode cX1_init 104 = .ok (.aload_n 0, 1) := dk_42 (dk_at dksX1_init_4 11 rfl rfl)
theorem dX1_init_105 : decode cX1_init 105 = .ok (.bipush 8, 2) := dk_16 8 (dk_at dksX1_init_4 12 rfl rfl)
theorem dX1_init_107 : decode cX1_init 107 = .ok (.newarray .int, 2) := dk_188_10 (dk_at dksX1_init_4 14 rfl rfl)
theorem dX1_init_109 : decode cX1_init 109 = .ok (.putfield 70, 3) := dk_181 0 70 (dk_at dksX1_init_4 16 rfl rfl)
theorem dX1_init_112 : decode cX1_init 112 = .ok (.return_, 1) := dk_177 (dk_at dksX1_init_4 19 rfl rfl)
abbrev cX1_feed : ByteArray := prog_1_method_4_code
def yX1_feed : MethodName := ⟨RX1, "feed", "(IIIII)I"⟩
def dkwX1_feed_2 : List UInt8 := [172]
abbrev dktX1_feed_2 : List UInt8 := dkwX1_feed_2 ++ []
def dkwX1_feed_1 : List UInt8 := [182, 0, 76, 42, 29, 182, 0, 76, 42, 21, 4, 182, 0, 76, 42, 21, 5, 182, 0, 76, 42, 180, 0, 73]
abbrev dktX1_feed_1 : List UInt8 := dkwX1_feed_1 ++ dktX1_feed_2
def dkwX1_feed_0 : List UInt8 := [42, 180, 0, 73, 16, 20, 96, 17, 3, 32, 164, 0, 5, 2, 172, 42, 27, 182, 0, 76, 42, 28]
abbrev dktX1_feed_0 : List UInt8 := dkwX1_feed_0 ++ dktX1_feed_1
theorem dksX1_feed_0 : cX1_feed.data.toList.drop 0 = dktX1_feed_0 := by decide +kernel
theorem dksX1_feed_1 : cX1_feed.data.toList.drop 22 = dktX1_feed_1 := dk_seg dksX1_feed_0 22 rfl rfl
theorem dksX1_feed_2 : cX1_feed.data.toList.drop 46 = dktX1_feed_2 := dk_seg dksX1_feed_1 24 rfl rfl
theorem dX1_feed_0 : decode cX1_feed 0 = .ok (.aload_n 0, 1) := dk_42 (dk_at dksX1_feed_0 0 rfl rfl)
theorem dX1_feed_1 : decode cX1_feed 1 = .ok (.getfield 73, 3) := dk_180 0 73 (dk_at dksX1_feed_0 1 rfl rfl)
theorem dX1_feed_4 : decode cX1_feed 4 = .ok (.bipush 20, 2) := dk_16 20 (dk_at dksX1_feed_0 4 rfl rfl)
theorem dX1_feed_6 : decode cX1_feed 6 = .ok (.iadd, 1) := dk_96 (dk_at dksX1_feed_0 6 rfl rfl)
theorem dX1_feed_7 : decode cX1_feed 7 = .ok (.sipush 800, 3) := dk_17 3 32 (dk_at dksX1_feed_0 7 rfl rfl)
theorem dX1_feed_10 : decode cX1_feed 10 = .ok (.if_icmp .le 5, 3) := dk_164 0 5 (dk_at dksX1_feed_0 10 rfl rfl)
theorem dX1_feed_13 : decode cX1_feed 13 = .ok (.iconst (-1), 1) := dk_2 (dk_at dksX1_feed_0 13 rfl rfl)
theorem dX1_feed_14 : decode cX1_feed 14 = .ok (.ireturn, 1) := dk_172 (dk_at dksX1_feed_0 14 rfl rfl)
theorem dX1_feed_15 : decode cX1_feed 15 = .ok (.aload_n 0, 1) := dk_42 (dk_at dksX1_feed_0 15 rfl rfl)
theorem dX1_feed_16 : decode cX1_feed 16 = .ok (.iload_n 1, 1) := dk_27 (dk_at dksX1_feed_0 16 rfl rfl)
theorem dX1_feed_17 : decode cX1_feed 17 = .ok (.invokevirtual 76, 3) := dk_182 0 76 (dk_at dksX1_feed_0 17 rfl rfl)
theorem dX1_feed_20 : decode cX1_feed 20 = .ok (.aload_n 0, 1) := dk_42 (dk_at dksX1_feed_0 20 rfl rfl)
theorem dX1_feed_21 : decode cX1_feed 21 = .ok (.iload_n 2, 1) := dk_28 (dk_at dksX1_feed_0 21 rfl rfl)
theorem dX1_feed_22 : decode cX1_feed 22 = .ok (.invokevirtual 76, 3) := dk_182 0 76 (dk_at dksX1_feed_1 0 rfl rfl)
theorem dX1_feed_25 : decode cX1_feed 25 = .ok (.aload_n 0, 1) := dk_42 (dk_at dksX1_feed_1 3 rfl rfl)
theorem dX1_feed_26 : decode cX1_feed 26 = .ok (.iload_n 3, 1) := dk_29 (dk_at dksX1_feed_1 4 rfl rfl)
theorem dX1_feed_27 : decode cX1_feed 27 = .ok (.invokevirtual 76, 3) := dk_182 0 76 (dk_at dksX1_feed_1 5 rfl rfl)
theorem dX1_feed_30 : decode cX1_feed 30 = .ok (.aload_n 0, 1) := dk_42 (dk_at dksX1_feed_1 8 rfl rfl)
theorem dX1_feed_31 : decode cX1_feed 31 = .ok (.iload 4, 2) := dk_21 4 (dk_at dksX1_feed_1 9 rfl rfl)
theorem dX1_feed_33 : decode cX1_feed 33 = .ok (.invokevirtual 76, 3) := dk_182 0 76 (dk_at dksX1_feed_1 11 rfl rfl)
theorem dX1_feed_36 : decode cX1_feed 36 = .ok (.aload_n 0, 1) := dk_42 (dk_at dksX1_feed_1 14 rfl rfl)
theorem dX1_feed_37 : decode cX1_feed 37 = .ok (.iload 5, 2) := dk_21 5 (dk_at dksX1_feed_1 15 rfl rfl)
theorem dX1_feed_39 : decode cX1_feed 39 = .ok (.invokevirtual 76, 3) := dk_182 0 76 (dk_at dksX1_feed_1 17 rfl rfl)
theorem dX1_feed_42 : decode cX1_feed 42 = .ok (.aload_n 0, 1) := dk_42 (dk_at dksX1_feed_1 20 rfl rfl)
theorem dX1_feed_43 : decode cX1_feed 43 = .ok (.getfield 73, 3) := dk_180 0 73 (dk_at dksX1_feed_1 21 rfl rfl)
theorem dX1_feed_46 : decode cX1_feed 46 = .ok (.ireturn, 1) := dk_172 (dk_at dksX1_feed_2 0 rfl rfl)
abbrev cX1_put : ByteArray := prog_1_method_5_code
def yX1_put : MethodName := ⟨RX1, "put", "(I)V"⟩
def dkwX1_put_1 : List UInt8 := [122, 145, 84, 132, 2, 248, 167, 255, 229, 177]
abbrev dktX1_put_1 : List UInt8 := dkwX1_put_1 ++ []
def dkwX1_put_0 : List UInt8 := [16, 24, 61, 28, 155, 0, 29, 42, 180, 0, 17, 42, 89, 180, 0, 73, 90, 4, 96, 181, 0, 73, 27, 28]
abbrev dktX1_put_0 : List UInt8 := dkwX1_put_0 ++ dktX1_put_1
theorem dksX1_put_0 : cX1_put.data.toList.drop 0 = dktX1_put_0 := by decide +kernel
theorem dksX1_put_1 : cX1_put.data.toList.drop 24 = dktX1_put_1 := dk_seg dksX1_put_0 24 rfl rfl
theorem dX1_put_0 : decode cX1_put 0 = .ok (.bipush 24, 2) := dk_16 24 (dk_at dksX1_put_0 0 rfl rfl)
theorem dX1_put_2 : decode cX1_put 2 = .ok (.istore_n 2, 1) := dk_61 (dk_at dksX1_put_0 2 rfl rfl)
theorem dX1_put_3 : decode cX1_put 3 = .ok (.iload_n 2, 1) := dk_28 (dk_at dksX1_put_0 3 rfl rfl)
theorem dX1_put_4 : decode cX1_put 4 = .ok (.ifCond .lt 29, 3) := dk_155 0 29 (dk_at dksX1_put_0 4 rfl rfl)
theorem dX1_put_7 : decode cX1_put 7 = .ok (.aload_n 0, 1) := dk_42 (dk_at dksX1_put_0 7 rfl rfl)
theorem dX1_put_8 : decode cX1_put 8 = .ok (.getfield 17, 3) := dk_180 0 17 (dk_at dksX1_put_0 8 rfl rfl)
theorem dX1_put_11 : decode cX1_put 11 = .ok (.aload_n 0, 1) := dk_42 (dk_at dksX1_put_0 11 rfl rfl)
theorem dX1_put_12 : decode cX1_put 12 = .ok (.dup, 1) := dk_89 (dk_at dksX1_put_0 12 rfl rfl)
theorem dX1_put_13 : decode cX1_put 13 = .ok (.getfield 73, 3) := dk_180 0 73 (dk_at dksX1_put_0 13 rfl rfl)
theorem dX1_put_16 : decode cX1_put 16 = .ok (.dup_x1, 1) := dk_90 (dk_at dksX1_put_0 16 rfl rfl)
theorem dX1_put_17 : decode cX1_put 17 = .ok (.iconst 1, 1) := dk_4 (dk_at dksX1_put_0 17 rfl rfl)
theorem dX1_put_18 : decode cX1_put 18 = .ok (.iadd, 1) := dk_96 (dk_at dksX1_put_0 18 rfl rfl)
theorem dX1_put_19 : decode cX1_put 19 = .ok (.putfield 73, 3) := dk_181 0 73 (dk_at dksX1_put_0 19 rfl rfl)
theorem dX1_put_22 : decode cX1_put 22 = .ok (.iload_n 1, 1) := dk_27 (dk_at dksX1_put_0 22 rfl rfl)
theorem dX1_put_23 : decode cX1_put 23 = .ok (.iload_n 2, 1) := dk_28 (dk_at dksX1_put_0 23 rfl rfl)
theorem dX1_put_24 : decode cX1_put 24 = .ok (.ishr, 1) := dk_122 (dk_at dksX1_put_1 0 rfl rfl)
theorem dX1_put_25 : decode cX1_put 25 = .ok (.i2b, 1) := dk_145 (dk_at dksX1_put_1 1 rfl rfl)
theorem dX1_put_26 : decode cX1_put 26 = .ok (.bastore, 1) := dk_84 (dk_at dksX1_put_1 2 rfl rfl)
theorem dX1_put_27 : decode cX1_put 27 = .ok (.iinc 2 (-8), 3) := dk_132 2 248 (dk_at dksX1_put_1 3 rfl rfl)
theorem dX1_put_30 : decode cX1_put 30 = .ok (.goto (-27), 3) := dk_167 255 229 (dk_at dksX1_put_1 6 rfl rfl)
theorem dX1_put_33 : decode cX1_put 33 = .ok (.return_, 1) := dk_177 (dk_at dksX1_put_1 9 rfl rfl)
abbrev cX1_tell : ByteArray := prog_1_method_6_code
def yX1_tell : MethodName := ⟨RX1, "tell", "(I)I"⟩
def dkwX1_tell_3 : List UInt8 := [181, 0, 25, 42, 3, 181, 0, 99, 42, 3, 181, 0, 102, 42, 180, 0, 49, 180, 0, 105, 172]
abbrev dktX1_tell_3 : List UInt8 := dkwX1_tell_3 ++ []
def dkwX1_tell_2 : List UInt8 := [42, 44, 180, 0, 93, 181, 0, 84, 42, 44, 180, 0, 96, 181, 0, 21, 2, 172, 42, 17, 0, 199]
abbrev dktX1_tell_2 : List UInt8 := dkwX1_tell_2 ++ dktX1_tell_3
def dkwX1_tell_1 : List UInt8 := [181, 0, 84, 42, 2, 181, 0, 21, 42, 42, 180, 0, 42, 27, 182, 0, 87, 181, 0, 49, 167, 0, 22, 77]
abbrev dktX1_tell_1 : List UInt8 := dkwX1_tell_1 ++ dktX1_tell_2
def dkwX1_tell_0 : List UInt8 := [27, 3, 42, 180, 0, 73, 184, 0, 80, 154, 0, 6, 16, 254, 172, 42, 3, 181, 0, 73, 42, 3]
abbrev dktX1_tell_0 : List UInt8 := dkwX1_tell_0 ++ dktX1_tell_1
theorem dksX1_tell_0 : cX1_tell.data.toList.drop 0 = dktX1_tell_0 := by decide +kernel
theorem dksX1_tell_1 : cX1_tell.data.toList.drop 22 = dktX1_tell_1 := dk_seg dksX1_tell_0 22 rfl rfl
theorem dksX1_tell_2 : cX1_tell.data.toList.drop 46 = dktX1_tell_2 := dk_seg dksX1_tell_1 24 rfl rfl
theorem dksX1_tell_3 : cX1_tell.data.toList.drop 68 = dktX1_tell_3 := dk_seg dksX1_tell_2 22 rfl rfl
theorem dX1_tell_0 : decode cX1_tell 0 = .ok (.iload_n 1, 1) := dk_27 (dk_at dksX1_tell_0 0 rfl rfl)
theorem dX1_tell_1 : decode cX1_tell 1 = .ok (.iconst 0, 1) := dk_3 (dk_at dksX1_tell_0 1 rfl rfl)
theorem dX1_tell_2 : decode cX1_tell 2 = .ok (.aload_n 0, 1) := dk_42 (dk_at dksX1_tell_0 2 rfl rfl)
theorem dX1_tell_3 : decode cX1_tell 3 = .ok (.getfield 73, 3) := dk_180 0 73 (dk_at dksX1_tell_0 3 rfl rfl)
theorem dX1_tell_6 : decode cX1_tell 6 = .ok (.invokestatic 80, 3) := dk_184 0 80 (dk_at dksX1_tell_0 6 rfl rfl)
theorem dX1_tell_9 : decode cX1_tell 9 = .ok (.ifCond .ne 6, 3) := dk_154 0 6 (dk_at dksX1_tell_0 9 rfl rfl)
theorem dX1_tell_12 : decode cX1_tell 12 = .ok (.bipush (-2), 2) := dk_16 254 (dk_at dksX1_tell_0 12 rfl rfl)
theorem dX1_tell_14 : decode cX1_tell 14 = .ok (.ireturn, 1) := dk_172 (dk_at dksX1_tell_0 14 rfl rfl)
theorem dX1_tell_15 : decode cX1_tell 15 = .ok (.aload_n 0, 1) := dk_42 (dk_at dksX1_tell_0 15 rfl rfl)
theorem dX1_tell_16 : decode cX1_tell 16 = .ok (.iconst 0, 1) := dk_3 (dk_at dksX1_tell_0 16 rfl rfl)
theorem dX1_tell_17 : decode cX1_tell 17 = .ok (.putfield 73, 3) := dk_181 0 73 (dk_at dksX1_tell_0 17 rfl rfl)
theorem dX1_tell_20 : decode cX1_tell 20 = .ok (.aload_n 0, 1) := dk_42 (dk_at dksX1_tell_0 20 rfl rfl)
theorem dX1_tell_21 : decode cX1_tell 21 = .ok (.iconst 0, 1) := dk_3 (dk_at dksX1_tell_0 21 rfl rfl)
theorem dX1_tell_22 : decode cX1_tell 22 = .ok (.putfield 84, 3) := dk_181 0 84 (dk_at dksX1_tell_1 0 rfl rfl)
theorem dX1_tell_25 : decode cX1_tell 25 = .ok (.aload_n 0, 1) := dk_42 (dk_at dksX1_tell_1 3 rfl rfl)
theorem dX1_tell_26 : decode cX1_tell 26 = .ok (.iconst (-1), 1) := dk_2 (dk_at dksX1_tell_1 4 rfl rfl)
theorem dX1_tell_27 : decode cX1_tell 27 = .ok (.putfield 21, 3) := dk_181 0 21 (dk_at dksX1_tell_1 5 rfl rfl)
theorem dX1_tell_30 : decode cX1_tell 30 = .ok (.aload_n 0, 1) := dk_42 (dk_at dksX1_tell_1 8 rfl rfl)
theorem dX1_tell_31 : decode cX1_tell 31 = .ok (.aload_n 0, 1) := dk_42 (dk_at dksX1_tell_1 9 rfl rfl)
theorem dX1_tell_32 : decode cX1_tell 32 = .ok (.getfield 42, 3) := dk_180 0 42 (dk_at dksX1_tell_1 10 rfl rfl)
theorem dX1_tell_35 : decode cX1_tell 35 = .ok (.iload_n 1, 1) := dk_27 (dk_at dksX1_tell_1 13 rfl rfl)
theorem dX1_tell_36 : decode cX1_tell 36 = .ok (.invokevirtual 87, 3) := dk_182 0 87 (dk_at dksX1_tell_1 14 rfl rfl)
theorem dX1_tell_39 : decode cX1_tell 39 = .ok (.putfield 49, 3) := dk_181 0 49 (dk_at dksX1_tell_1 17 rfl rfl)
theorem dX1_tell_42 : decode cX1_tell 42 = .ok (.goto 22, 3) := dk_167 0 22 (dk_at dksX1_tell_1 20 rfl rfl)
theorem dX1_tell_45 : decode cX1_tell 45 = .ok (.astore_n 2, 1) := dk_77 (dk_at dksX1_tell_1 23 rfl rfl)
theorem dX1_tell_46 : decode cX1_tell 46 = .ok (.aload_n 0, 1) := dk_42 (dk_at dksX1_tell_2 0 rfl rfl)
theorem dX1_tell_47 : decode cX1_tell 47 = .ok (.aload_n 2, 1) := dk_44 (dk_at dksX1_tell_2 1 rfl rfl)
theorem dX1_tell_48 : decode cX1_tell 48 = .ok (.getfield 93, 3) := dk_180 0 93 (dk_at dksX1_tell_2 2 rfl rfl)
theorem dX1_tell_51 : decode cX1_tell 51 = .ok (.putfield 84, 3) := dk_181 0 84 (dk_at dksX1_tell_2 5 rfl rfl)
theorem dX1_tell_54 : decode cX1_tell 54 = .ok (.aload_n 0, 1) := dk_42 (dk_at dksX1_tell_2 8 rfl rfl)
theorem dX1_tell_55 : decode cX1_tell 55 = .ok (.aload_n 2, 1) := dk_44 (dk_at dksX1_tell_2 9 rfl rfl)
theorem dX1_tell_56 : decode cX1_tell 56 = .ok (.getfield 96, 3) := dk_180 0 96 (dk_at dksX1_tell_2 10 rfl rfl)
theorem dX1_tell_59 : decode cX1_tell 59 = .ok (.putfield 21, 3) := dk_181 0 21 (dk_at dksX1_tell_2 13 rfl rfl)
theorem dX1_tell_62 : decode cX1_tell 62 = .ok (.iconst (-1), 1) := dk_2 (dk_at dksX1_tell_2 16 rfl rfl)
theorem dX1_tell_63 : decode cX1_tell 63 = .ok (.ireturn, 1) := dk_172 (dk_at dksX1_tell_2 17 rfl rfl)
theorem dX1_tell_64 : decode cX1_tell 64 = .ok (.aload_n 0, 1) := dk_42 (dk_at dksX1_tell_2 18 rfl rfl)
theorem dX1_tell_65 : decode cX1_tell 65 = .ok (.sipush 199, 3) := dk_17 0 199 (dk_at dksX1_tell_2 19 rfl rfl)
theorem dX1_tell_68 : decode cX1_tell 68 = .ok (.putfield 25, 3) := dk_181 0 25 (dk_at dksX1_tell_3 0 rfl rfl)
theorem dX1_tell_71 : decode cX1_tell 71 = .ok (.aload_n 0, 1) := dk_42 (dk_at dksX1_tell_3 3 rfl rfl)
theorem dX1_tell_72 : decode cX1_tell 72 = .ok (.iconst 0, 1) := dk_3 (dk_at dksX1_tell_3 4 rfl rfl)
theorem dX1_tell_73 : decode cX1_tell 73 = .ok (.putfield 99, 3) := dk_181 0 99 (dk_at dksX1_tell_3 5 rfl rfl)
theorem dX1_tell_76 : decode cX1_tell 76 = .ok (.aload_n 0, 1) := dk_42 (dk_at dksX1_tell_3 8 rfl rfl)
theorem dX1_tell_77 : decode cX1_tell 77 = .ok (.iconst 0, 1) := dk_3 (dk_at dksX1_tell_3 9 rfl rfl)
theorem dX1_tell_78 : decode cX1_tell 78 = .ok (.putfield 102, 3) := dk_181 0 102 (dk_at dksX1_tell_3 10 rfl rfl)
theorem dX1_tell_81 : decode cX1_tell 81 = .ok (.aload_n 0, 1) := dk_42 (dk_at dksX1_tell_3 13 rfl rfl)
theorem dX1_tell_82 : decode cX1_tell 82 = .ok (.getfield 49, 3) := dk_180 0 49 (dk_at dksX1_tell_3 14 rfl rfl)
theorem dX1_tell_85 : decode cX1_tell 85 = .ok (.getfield 105, 3) := dk_180 0 105 (dk_at dksX1_tell_3 17 rfl rfl)
theorem dX1_tell_88 : decode cX1_tell 88 = .ok (.ireturn, 1) := dk_172 (dk_at dksX1_tell_3 20 rfl rfl)
abbrev cX1_in : ByteArray := prog_1_method_1_code
def yX1_in : MethodName := ⟨RX1, "in", "(III)Z"⟩
def dkwX1_in_0 : List UInt8 := [26, 27, 161, 0, 12, 26, 28, 163, 0, 7, 4, 167, 0, 4, 3, 172]
abbrev dktX1_in_0 : List UInt8 := dkwX1_in_0 ++ []
theorem dksX1_in_0 : cX1_in.data.toList.drop 0 = dktX1_in_0 := by decide +kernel
theorem dX1_in_0 : decode cX1_in 0 = .ok (.iload_n 0, 1) := dk_26 (dk_at dksX1_in_0 0 rfl rfl)
theorem dX1_in_1 : decode cX1_in 1 = .ok (.iload_n 1, 1) := dk_27 (dk_at dksX1_in_0 1 rfl rfl)
theorem dX1_in_2 : decode cX1_in 2 = .ok (.if_icmp .lt 12, 3) := dk_161 0 12 (dk_at dksX1_in_0 2 rfl rfl)
theorem dX1_in_5 : decode cX1_in 5 = .ok (.iload_n 0, 1) := dk_26 (dk_at dksX1_in_0 5 rfl rfl)
theorem dX1_in_6 : decode cX1_in 6 = .ok (.iload_n 2, 1) := dk_28 (dk_at dksX1_in_0 6 rfl rfl)
theorem dX1_in_7 : decode cX1_in 7 = .ok (.if_icmp .gt 7, 3) := dk_163 0 7 (dk_at dksX1_in_0 7 rfl rfl)
theorem dX1_in_10 : decode cX1_in 10 = .ok (.iconst 1, 1) := dk_4 (dk_at dksX1_in_0 10 rfl rfl)
theorem dX1_in_11 : decode cX1_in 11 = .ok (.goto 4, 3) := dk_167 0 4 (dk_at dksX1_in_0 11 rfl rfl)
theorem dX1_in_14 : decode cX1_in 14 = .ok (.iconst 0, 1) := dk_3 (dk_at dksX1_in_0 14 rfl rfl)
theorem dX1_in_15 : decode cX1_in 15 = .ok (.ireturn, 1) := dk_172 (dk_at dksX1_in_0 15 rfl rfl)
abbrev cX1_fault : ByteArray := prog_1_method_7_code
def yX1_fault : MethodName := ⟨RX1, "fault", "(I)I"⟩
def dkwX1_fault_1 : List UInt8 := [172]
abbrev dktX1_fault_1 : List UInt8 := dkwX1_fault_1 ++ []
def dkwX1_fault_0 : List UInt8 := [27, 154, 0, 10, 42, 180, 0, 84, 167, 0, 16, 27, 4, 160, 0, 10, 42, 180, 0, 21, 167, 0, 4, 2]
abbrev dktX1_fault_0 : List UInt8 := dkwX1_fault_0 ++ dktX1_fault_1
theorem dksX1_fault_0 : cX1_fault.data.toList.drop 0 = dktX1_fault_0 := by decide +kernel
theorem dksX1_fault_1 : cX1_fault.data.toList.drop 24 = dktX1_fault_1 := dk_seg dksX1_fault_0 24 rfl rfl
theorem dX1_fault_0 : decode cX1_fault 0 = .ok (.iload_n 1, 1) := dk_27 (dk_at dksX1_fault_0 0 rfl rfl)
theorem dX1_fault_1 : decode cX1_fault 1 = .ok (.ifCond .ne 10, 3) := dk_154 0 10 (dk_at dksX1_fault_0 1 rfl rfl)
theorem dX1_fault_4 : decode cX1_fault 4 = .ok (.aload_n 0, 1) := dk_42 (dk_at dksX1_fault_0 4 rfl rfl)
theorem dX1_fault_5 : decode cX1_fault 5 = .ok (.getfield 84, 3) := dk_180 0 84 (dk_at dksX1_fault_0 5 rfl rfl)
theorem dX1_fault_8 : decode cX1_fault 8 = .ok (.goto 16, 3) := dk_167 0 16 (dk_at dksX1_fault_0 8 rfl rfl)
theorem dX1_fault_11 : decode cX1_fault 11 = .ok (.iload_n 1, 1) := dk_27 (dk_at dksX1_fault_0 11 rfl rfl)
theorem dX1_fault_12 : decode cX1_fault 12 = .ok (.iconst 1, 1) := dk_4 (dk_at dksX1_fault_0 12 rfl rfl)
theorem dX1_fault_13 : decode cX1_fault 13 = .ok (.if_icmp .ne 10, 3) := dk_160 0 10 (dk_at dksX1_fault_0 13 rfl rfl)
theorem dX1_fault_16 : decode cX1_fault 16 = .ok (.aload_n 0, 1) := dk_42 (dk_at dksX1_fault_0 16 rfl rfl)
theorem dX1_fault_17 : decode cX1_fault 17 = .ok (.getfield 21, 3) := dk_180 0 21 (dk_at dksX1_fault_0 17 rfl rfl)
theorem dX1_fault_20 : decode cX1_fault 20 = .ok (.goto 4, 3) := dk_167 0 4 (dk_at dksX1_fault_0 20 rfl rfl)
theorem dX1_fault_23 : decode cX1_fault 23 = .ok (.iconst (-1), 1) := dk_2 (dk_at dksX1_fault_0 23 rfl rfl)
theorem dX1_fault_24 : decode cX1_fault 24 = .ok (.ireturn, 1) := dk_172 (dk_at dksX1_fault_1 0 rfl rfl)
abbrev cX1_named : ByteArray := prog_1_method_8_code
def yX1_named : MethodName := ⟨RX1, "named", "(II)I"⟩
def dkwX1_named_1 : List UInt8 := [28, 182, 0, 112, 167, 0, 4, 2, 172]
abbrev dktX1_named_1 : List UInt8 := dkwX1_named_1 ++ []
def dkwX1_named_0 : List UInt8 := [27, 154, 0, 14, 42, 180, 0, 49, 28, 182, 0, 108, 167, 0, 20, 27, 4, 160, 0, 14, 42, 180, 0, 49]
abbrev dktX1_named_0 : List UInt8 := dkwX1_named_0 ++ dktX1_named_1
theorem dksX1_named_0 : cX1_named.data.toList.drop 0 = dktX1_named_0 := by decide +kernel
theorem dksX1_named_1 : cX1_named.data.toList.drop 24 = dktX1_named_1 := dk_seg dksX1_named_0 24 rfl rfl
theorem dX1_named_0 : decode cX1_named 0 = .ok (.iload_n 1, 1) := dk_27 (dk_at dksX1_named_0 0 rfl rfl)
theorem dX1_named_1 : decode cX1_named 1 = .ok (.ifCond .ne 14, 3) := dk_154 0 14 (dk_at dksX1_named_0 1 rfl rfl)
theorem dX1_named_4 : decode cX1_named 4 = .ok (.aload_n 0, 1) := dk_42 (dk_at dksX1_named_0 4 rfl rfl)
theorem dX1_named_5 : decode cX1_named 5 = .ok (.getfield 49, 3) := dk_180 0 49 (dk_at dksX1_named_0 5 rfl rfl)
theorem dX1_named_8 : decode cX1_named 8 = .ok (.iload_n 2, 1) := dk_28 (dk_at dksX1_named_0 8 rfl rfl)
theorem dX1_named_9 : decode cX1_named 9 = .ok (.invokevirtual 108, 3) := dk_182 0 108 (dk_at dksX1_named_0 9 rfl rfl)
theorem dX1_named_12 : decode cX1_named 12 = .ok (.goto 20, 3) := dk_167 0 20 (dk_at dksX1_named_0 12 rfl rfl)
theorem dX1_named_15 : decode cX1_named 15 = .ok (.iload_n 1, 1) := dk_27 (dk_at dksX1_named_0 15 rfl rfl)
theorem dX1_named_16 : decode cX1_named 16 = .ok (.iconst 1, 1) := dk_4 (dk_at dksX1_named_0 16 rfl rfl)
theorem dX1_named_17 : decode cX1_named 17 = .ok (.if_icmp .ne 14, 3) := dk_160 0 14 (dk_at dksX1_named_0 17 rfl rfl)
theorem dX1_named_20 : decode cX1_named 20 = .ok (.aload_n 0, 1) := dk_42 (dk_at dksX1_named_0 20 rfl rfl)
theorem dX1_named_21 : decode cX1_named 21 = .ok (.getfield 49, 3) := dk_180 0 49 (dk_at dksX1_named_0 21 rfl rfl)
theorem dX1_named_24 : decode cX1_named 24 = .ok (.iload_n 2, 1) := dk_28 (dk_at dksX1_named_1 0 rfl rfl)
theorem dX1_named_25 : decode cX1_named 25 = .ok (.invokevirtual 112, 3) := dk_182 0 112 (dk_at dksX1_named_1 1 rfl rfl)
theorem dX1_named_28 : decode cX1_named 28 = .ok (.goto 4, 3) := dk_167 0 4 (dk_at dksX1_named_1 4 rfl rfl)
theorem dX1_named_31 : decode cX1_named 31 = .ok (.iconst (-1), 1) := dk_2 (dk_at dksX1_named_1 7 rfl rfl)
theorem dX1_named_32 : decode cX1_named 32 = .ok (.ireturn, 1) := dk_172 (dk_at dksX1_named_1 8 rfl rfl)
abbrev cX1_teller : ByteArray := prog_1_method_12_code
def yX1_teller : MethodName := ⟨RX1, "teller", "(II)I"⟩
def dkwX1_teller_3 : List UInt8 := [180, 0, 170, 172]
abbrev dktX1_teller_3 : List UInt8 := dkwX1_teller_3 ++ []
def dkwX1_teller_2 : List UInt8 := [160, 0, 10, 45, 180, 0, 164, 167, 0, 19, 28, 5, 160, 0, 10, 45, 180, 0, 167, 167, 0, 7, 45]
abbrev dktX1_teller_2 : List UInt8 := dkwX1_teller_2 ++ dktX1_teller_3
def dkwX1_teller_1 : List UInt8 := [180, 0, 115, 27, 182, 0, 135, 192, 0, 159, 78, 28, 154, 0, 10, 45, 180, 0, 161, 167, 0, 31, 28, 4]
abbrev dktX1_teller_1 : List UInt8 := dkwX1_teller_1 ++ dktX1_teller_2
def dkwX1_teller_0 : List UInt8 := [42, 27, 182, 0, 156, 153, 0, 12, 28, 3, 6, 184, 0, 80, 154, 0, 5, 2, 172, 42, 180, 0, 49]
abbrev dktX1_teller_0 : List UInt8 := dkwX1_teller_0 ++ dktX1_teller_1
theorem dksX1_teller_0 : cX1_teller.data.toList.drop 0 = dktX1_teller_0 := by decide +kernel
theorem dksX1_teller_1 : cX1_teller.data.toList.drop 23 = dktX1_teller_1 := dk_seg dksX1_teller_0 23 rfl rfl
theorem dksX1_teller_2 : cX1_teller.data.toList.drop 47 = dktX1_teller_2 := dk_seg dksX1_teller_1 24 rfl rfl
theorem dksX1_teller_3 : cX1_teller.data.toList.drop 70 = dktX1_teller_3 := dk_seg dksX1_teller_2 23 rfl rfl
theorem dX1_teller_0 : decode cX1_teller 0 = .ok (.aload_n 0, 1) := dk_42 (dk_at dksX1_teller_0 0 rfl rfl)
theorem dX1_teller_1 : decode cX1_teller 1 = .ok (.iload_n 1, 1) := dk_27 (dk_at dksX1_teller_0 1 rfl rfl)
theorem dX1_teller_2 : decode cX1_teller 2 = .ok (.invokevirtual 156, 3) := dk_182 0 156 (dk_at dksX1_teller_0 2 rfl rfl)
theorem dX1_teller_5 : decode cX1_teller 5 = .ok (.ifCond .eq 12, 3) := dk_153 0 12 (dk_at dksX1_teller_0 5 rfl rfl)
theorem dX1_teller_8 : decode cX1_teller 8 = .ok (.iload_n 2, 1) := dk_28 (dk_at dksX1_teller_0 8 rfl rfl)
theorem dX1_teller_9 : decode cX1_teller 9 = .ok (.iconst 0, 1) := dk_3 (dk_at dksX1_teller_0 9 rfl rfl)
theorem dX1_teller_10 : decode cX1_teller 10 = .ok (.iconst 3, 1) := dk_6 (dk_at dksX1_teller_0 10 rfl rfl)
theorem dX1_teller_11 : decode cX1_teller 11 = .ok (.invokestatic 80, 3) := dk_184 0 80 (dk_at dksX1_teller_0 11 rfl rfl)
theorem dX1_teller_14 : decode cX1_teller 14 = .ok (.ifCond .ne 5, 3) := dk_154 0 5 (dk_at dksX1_teller_0 14 rfl rfl)
theorem dX1_teller_17 : decode cX1_teller 17 = .ok (.iconst (-1), 1) := dk_2 (dk_at dksX1_teller_0 17 rfl rfl)
theorem dX1_teller_18 : decode cX1_teller 18 = .ok (.ireturn, 1) := dk_172 (dk_at dksX1_teller_0 18 rfl rfl)
theorem dX1_teller_19 : decode cX1_teller 19 = .ok (.aload_n 0, 1) := dk_42 (dk_at dksX1_teller_0 19 rfl rfl)
theorem dX1_teller_20 : decode cX1_teller 20 = .ok (.getfield 49, 3) := dk_180 0 49 (dk_at dksX1_teller_0 20 rfl rfl)
theorem dX1_teller_23 : decode cX1_teller 23 = .ok (.getfield 115, 3) := dk_180 0 115 (dk_at dksX1_teller_1 0 rfl rfl)
theorem dX1_teller_26 : decode cX1_teller 26 = .ok (.iload_n 1, 1) := dk_27 (dk_at dksX1_teller_1 3 rfl rfl)
theorem dX1_teller_27 : decode cX1_teller 27 = .ok (.invokevirtual 135, 3) := dk_182 0 135 (dk_at dksX1_teller_1 4 rfl rfl)
theorem dX1_teller_30 : decode cX1_teller 30 = .ok (.checkcast 159, 3) := dk_192 0 159 (dk_at dksX1_teller_1 7 rfl rfl)
theorem dX1_teller_33 : decode cX1_teller 33 = .ok (.astore_n 3, 1) := dk_78 (dk_at dksX1_teller_1 10 rfl rfl)
theorem dX1_teller_34 : decode cX1_teller 34 = .ok (.iload_n 2, 1) := dk_28 (dk_at dksX1_teller_1 11 rfl rfl)
theorem dX1_teller_35 : decode cX1_teller 35 = .ok (.ifCond .ne 10, 3) := dk_154 0 10 (dk_at dksX1_teller_1 12 rfl rfl)
theorem dX1_teller_38 : decode cX1_teller 38 = .ok (.aload_n 3, 1) := dk_45 (dk_at dksX1_teller_1 15 rfl rfl)
theorem dX1_teller_39 : decode cX1_teller 39 = .ok (.getfield 161, 3) := dk_180 0 161 (dk_at dksX1_teller_1 16 rfl rfl)
theorem dX1_teller_42 : decode cX1_teller 42 = .ok (.goto 31, 3) := dk_167 0 31 (dk_at dksX1_teller_1 19 rfl rfl)
theorem dX1_teller_45 : decode cX1_teller 45 = .ok (.iload_n 2, 1) := dk_28 (dk_at dksX1_teller_1 22 rfl rfl)
theorem dX1_teller_46 : decode cX1_teller 46 = .ok (.iconst 1, 1) := dk_4 (dk_at dksX1_teller_1 23 rfl rfl)
theorem dX1_teller_47 : decode cX1_teller 47 = .ok (.if_icmp .ne 10, 3) := dk_160 0 10 (dk_at dksX1_teller_2 0 rfl rfl)
theorem dX1_teller_50 : decode cX1_teller 50 = .ok (.aload_n 3, 1) := dk_45 (dk_at dksX1_teller_2 3 rfl rfl)
theorem dX1_teller_51 : decode cX1_teller 51 = .ok (.getfield 164, 3) := dk_180 0 164 (dk_at dksX1_teller_2 4 rfl rfl)
theorem dX1_teller_54 : decode cX1_teller 54 = .ok (.goto 19, 3) := dk_167 0 19 (dk_at dksX1_teller_2 7 rfl rfl)
theorem dX1_teller_57 : decode cX1_teller 57 = .ok (.iload_n 2, 1) := dk_28 (dk_at dksX1_teller_2 10 rfl rfl)
theorem dX1_teller_58 : decode cX1_teller 58 = .ok (.iconst 2, 1) := dk_5 (dk_at dksX1_teller_2 11 rfl rfl)
theorem dX1_teller_59 : decode cX1_teller 59 = .ok (.if_icmp .ne 10, 3) := dk_160 0 10 (dk_at dksX1_teller_2 12 rfl rfl)
theorem dX1_teller_62 : decode cX1_teller 62 = .ok (.aload_n 3, 1) := dk_45 (dk_at dksX1_teller_2 15 rfl rfl)
theorem dX1_teller_63 : decode cX1_teller 63 = .ok (.getfield 167, 3) := dk_180 0 167 (dk_at dksX1_teller_2 16 rfl rfl)
theorem dX1_teller_66 : decode cX1_teller 66 = .ok (.goto 7, 3) := dk_167 0 7 (dk_at dksX1_teller_2 19 rfl rfl)
theorem dX1_teller_69 : decode cX1_teller 69 = .ok (.aload_n 3, 1) := dk_45 (dk_at dksX1_teller_2 22 rfl rfl)
theorem dX1_teller_70 : decode cX1_teller 70 = .ok (.getfield 170, 3) := dk_180 0 170 (dk_at dksX1_teller_3 0 rfl rfl)
theorem dX1_teller_73 : decode cX1_teller 73 = .ok (.ireturn, 1) := dk_172 (dk_at dksX1_teller_3 3 rfl rfl)
abbrev cX1_isTeller : ByteArray := prog_1_method_9_code
def yX1_isTeller : MethodName := ⟨RX1, "isTeller", "(I)Z"⟩
def dkwX1_isTeller_0 : List UInt8 := [27, 3, 42, 180, 0, 49, 180, 0, 115, 182, 0, 119, 4, 100, 184, 0, 80, 172]
abbrev dktX1_isTeller_0 : List UInt8 := dkwX1_isTeller_0 ++ []
theorem dksX1_isTeller_0 : cX1_isTeller.data.toList.drop 0 = dktX1_isTeller_0 := by decide +kernel
theorem dX1_isTeller_0 : decode cX1_isTeller 0 = .ok (.iload_n 1, 1) := dk_27 (dk_at dksX1_isTeller_0 0 rfl rfl)
theorem dX1_isTeller_1 : decode cX1_isTeller 1 = .ok (.iconst 0, 1) := dk_3 (dk_at dksX1_isTeller_0 1 rfl rfl)
theorem dX1_isTeller_2 : decode cX1_isTeller 2 = .ok (.aload_n 0, 1) := dk_42 (dk_at dksX1_isTeller_0 2 rfl rfl)
theorem dX1_isTeller_3 : decode cX1_isTeller 3 = .ok (.getfield 49, 3) := dk_180 0 49 (dk_at dksX1_isTeller_0 3 rfl rfl)
theorem dX1_isTeller_6 : decode cX1_isTeller 6 = .ok (.getfield 115, 3) := dk_180 0 115 (dk_at dksX1_isTeller_0 6 rfl rfl)
theorem dX1_isTeller_9 : decode cX1_isTeller 9 = .ok (.invokevirtual 119, 3) := dk_182 0 119 (dk_at dksX1_isTeller_0 9 rfl rfl)
theorem dX1_isTeller_12 : decode cX1_isTeller 12 = .ok (.iconst 1, 1) := dk_4 (dk_at dksX1_isTeller_0 12 rfl rfl)
theorem dX1_isTeller_13 : decode cX1_isTeller 13 = .ok (.isub, 1) := dk_100 (dk_at dksX1_isTeller_0 13 rfl rfl)
theorem dX1_isTeller_14 : decode cX1_isTeller 14 = .ok (.invokestatic 80, 3) := dk_184 0 80 (dk_at dksX1_isTeller_0 14 rfl rfl)
theorem dX1_isTeller_17 : decode cX1_isTeller 17 = .ok (.ireturn, 1) := dk_172 (dk_at dksX1_isTeller_0 17 rfl rfl)
abbrev cX1_line : ByteArray := prog_1_method_17_code
def yX1_line : MethodName := ⟨RX1, "line", "(II)I"⟩
def dkwX1_line_4 : List UInt8 := [180, 0, 184, 172, 45, 180, 0, 199, 172]
abbrev dktX1_line_4 : List UInt8 := dkwX1_line_4 ++ []
def dkwX1_line_3 : List UInt8 := [45, 182, 0, 190, 153, 0, 7, 4, 167, 0, 4, 3, 172, 45, 180, 0, 181, 172, 45, 180, 0, 178, 172, 45]
abbrev dktX1_line_3 : List UInt8 := dkwX1_line_3 ++ dktX1_line_4
def dkwX1_line_2 : List UInt8 := [170, 0, 0, 0, 0, 0, 0, 60, 0, 0, 0, 0, 0, 0, 0, 3, 0, 0, 0, 32, 0, 0, 0, 45, 0, 0, 0, 50, 0, 0, 0, 55]
abbrev dktX1_line_2 : List UInt8 := dkwX1_line_2 ++ dktX1_line_3
def dkwX1_line_1 : List UInt8 := [180, 0, 173, 27, 182, 0, 135, 192, 0, 176, 78, 28]
abbrev dktX1_line_1 : List UInt8 := dkwX1_line_1 ++ dktX1_line_2
def dkwX1_line_0 : List UInt8 := [42, 27, 182, 0, 196, 153, 0, 12, 28, 3, 7, 184, 0, 80, 154, 0, 6, 16, 254, 172, 42, 180, 0, 49]
abbrev dktX1_line_0 : List UInt8 := dkwX1_line_0 ++ dktX1_line_1
theorem dksX1_line_0 : cX1_line.data.toList.drop 0 = dktX1_line_0 := by decide +kernel
theorem dksX1_line_1 : cX1_line.data.toList.drop 24 = dktX1_line_1 := dk_seg dksX1_line_0 24 rfl rfl
theorem dksX1_line_2 : cX1_line.data.toList.drop 36 = dktX1_line_2 := dk_seg dksX1_line_1 12 rfl rfl
theorem dksX1_line_3 : cX1_line.data.toList.drop 68 = dktX1_line_3 := dk_seg dksX1_line_2 32 rfl rfl
theorem dksX1_line_4 : cX1_line.data.toList.drop 92 = dktX1_line_4 := dk_seg dksX1_line_3 24 rfl rfl
theorem dX1_line_0 : decode cX1_line 0 = .ok (.aload_n 0, 1) := dk_42 (dk_at dksX1_line_0 0 rfl rfl)
theorem dX1_line_1 : decode cX1_line 1 = .ok (.iload_n 1, 1) := dk_27 (dk_at dksX1_line_0 1 rfl rfl)
theorem dX1_line_2 : decode cX1_line 2 = .ok (.invokevirtual 196, 3) := dk_182 0 196 (dk_at dksX1_line_0 2 rfl rfl)
theorem dX1_line_5 : decode cX1_line 5 = .ok (.ifCond .eq 12, 3) := dk_153 0 12 (dk_at dksX1_line_0 5 rfl rfl)
theorem dX1_line_8 : decode cX1_line 8 = .ok (.iload_n 2, 1) := dk_28 (dk_at dksX1_line_0 8 rfl rfl)
theorem dX1_line_9 : decode cX1_line 9 = .ok (.iconst 0, 1) := dk_3 (dk_at dksX1_line_0 9 rfl rfl)
theorem dX1_line_10 : decode cX1_line 10 = .ok (.iconst 4, 1) := dk_7 (dk_at dksX1_line_0 10 rfl rfl)
theorem dX1_line_11 : decode cX1_line 11 = .ok (.invokestatic 80, 3) := dk_184 0 80 (dk_at dksX1_line_0 11 rfl rfl)
theorem dX1_line_14 : decode cX1_line 14 = .ok (.ifCond .ne 6, 3) := dk_154 0 6 (dk_at dksX1_line_0 14 rfl rfl)
theorem dX1_line_17 : decode cX1_line 17 = .ok (.bipush (-2), 2) := dk_16 254 (dk_at dksX1_line_0 17 rfl rfl)
theorem dX1_line_19 : decode cX1_line 19 = .ok (.ireturn, 1) := dk_172 (dk_at dksX1_line_0 19 rfl rfl)
theorem dX1_line_20 : decode cX1_line 20 = .ok (.aload_n 0, 1) := dk_42 (dk_at dksX1_line_0 20 rfl rfl)
theorem dX1_line_21 : decode cX1_line 21 = .ok (.getfield 49, 3) := dk_180 0 49 (dk_at dksX1_line_0 21 rfl rfl)
theorem dX1_line_24 : decode cX1_line 24 = .ok (.getfield 173, 3) := dk_180 0 173 (dk_at dksX1_line_1 0 rfl rfl)
theorem dX1_line_27 : decode cX1_line 27 = .ok (.iload_n 1, 1) := dk_27 (dk_at dksX1_line_1 3 rfl rfl)
theorem dX1_line_28 : decode cX1_line 28 = .ok (.invokevirtual 135, 3) := dk_182 0 135 (dk_at dksX1_line_1 4 rfl rfl)
theorem dX1_line_31 : decode cX1_line 31 = .ok (.checkcast 176, 3) := dk_192 0 176 (dk_at dksX1_line_1 7 rfl rfl)
theorem dX1_line_34 : decode cX1_line 34 = .ok (.astore_n 3, 1) := dk_78 (dk_at dksX1_line_1 10 rfl rfl)
theorem dX1_line_35 : decode cX1_line 35 = .ok (.iload_n 2, 1) := dk_28 (dk_at dksX1_line_1 11 rfl rfl)
theorem dX1_line_36 : decode cX1_line 36 = .ok (.tableswitch 60 0 3 #[32, 45, 50, 55], 32) := by decide +kernel
theorem dX1_line_68 : decode cX1_line 68 = .ok (.aload_n 3, 1) := dk_45 (dk_at dksX1_line_3 0 rfl rfl)
theorem dX1_line_69 : decode cX1_line 69 = .ok (.invokevirtual 190, 3) := dk_182 0 190 (dk_at dksX1_line_3 1 rfl rfl)
theorem dX1_line_72 : decode cX1_line 72 = .ok (.ifCond .eq 7, 3) := dk_153 0 7 (dk_at dksX1_line_3 4 rfl rfl)
theorem dX1_line_75 : decode cX1_line 75 = .ok (.iconst 1, 1) := dk_4 (dk_at dksX1_line_3 7 rfl rfl)
theorem dX1_line_76 : decode cX1_line 76 = .ok (.goto 4, 3) := dk_167 0 4 (dk_at dksX1_line_3 8 rfl rfl)
theorem dX1_line_79 : decode cX1_line 79 = .ok (.iconst 0, 1) := dk_3 (dk_at dksX1_line_3 11 rfl rfl)
theorem dX1_line_80 : decode cX1_line 80 = .ok (.ireturn, 1) := dk_172 (dk_at dksX1_line_3 12 rfl rfl)
theorem dX1_line_81 : decode cX1_line 81 = .ok (.aload_n 3, 1) := dk_45 (dk_at dksX1_line_3 13 rfl rfl)
theorem dX1_line_82 : decode cX1_line 82 = .ok (.getfield 181, 3) := dk_180 0 181 (dk_at dksX1_line_3 14 rfl rfl)
theorem dX1_line_85 : decode cX1_line 85 = .ok (.ireturn, 1) := dk_172 (dk_at dksX1_line_3 17 rfl rfl)
theorem dX1_line_86 : decode cX1_line 86 = .ok (.aload_n 3, 1) := dk_45 (dk_at dksX1_line_3 18 rfl rfl)
theorem dX1_line_87 : decode cX1_line 87 = .ok (.getfield 178, 3) := dk_180 0 178 (dk_at dksX1_line_3 19 rfl rfl)
theorem dX1_line_90 : decode cX1_line 90 = .ok (.ireturn, 1) := dk_172 (dk_at dksX1_line_3 22 rfl rfl)
theorem dX1_line_91 : decode cX1_line 91 = .ok (.aload_n 3, 1) := dk_45 (dk_at dksX1_line_3 23 rfl rfl)
theorem dX1_line_92 : decode cX1_line 92 = .ok (.getfield 184, 3) := dk_180 0 184 (dk_at dksX1_line_4 0 rfl rfl)
theorem dX1_line_95 : decode cX1_line 95 = .ok (.ireturn, 1) := dk_172 (dk_at dksX1_line_4 3 rfl rfl)
theorem dX1_line_96 : decode cX1_line 96 = .ok (.aload_n 3, 1) := dk_45 (dk_at dksX1_line_4 4 rfl rfl)
theorem dX1_line_97 : decode cX1_line 97 = .ok (.getfield 199, 3) := dk_180 0 199 (dk_at dksX1_line_4 5 rfl rfl)
theorem dX1_line_100 : decode cX1_line 100 = .ok (.ireturn, 1) := dk_172 (dk_at dksX1_line_4 8 rfl rfl)
abbrev cX1_isHeard : ByteArray := prog_1_method_13_code
def yX1_isHeard : MethodName := ⟨RX1, "isHeard", "(I)Z"⟩
def dkwX1_isHeard_2 : List UInt8 := [3, 172]
abbrev dktX1_isHeard_2 : List UInt8 := dkwX1_isHeard_2 ++ []
def dkwX1_isHeard_1 : List UInt8 := [180, 0, 173, 27, 182, 0, 135, 192, 0, 176, 180, 0, 178, 42, 180, 0, 25, 163, 0, 7, 4, 167, 0, 4]
abbrev dktX1_isHeard_1 : List UInt8 := dkwX1_isHeard_1 ++ dktX1_isHeard_2
def dkwX1_isHeard_0 : List UInt8 := [27, 3, 42, 180, 0, 49, 180, 0, 173, 182, 0, 119, 4, 100, 184, 0, 80, 153, 0, 31, 42, 180, 0, 49]
abbrev dktX1_isHeard_0 : List UInt8 := dkwX1_isHeard_0 ++ dktX1_isHeard_1
theorem dksX1_isHeard_0 : cX1_isHeard.data.toList.drop 0 = dktX1_isHeard_0 := by decide +kernel
theorem dksX1_isHeard_1 : cX1_isHeard.data.toList.drop 24 = dktX1_isHeard_1 := dk_seg dksX1_isHeard_0 24 rfl rfl
theorem dksX1_isHeard_2 : cX1_isHeard.data.toList.drop 48 = dktX1_isHeard_2 := dk_seg dksX1_isHeard_1 24 rfl rfl
theorem dX1_isHeard_0 : decode cX1_isHeard 0 = .ok (.iload_n 1, 1) := dk_27 (dk_at dksX1_isHeard_0 0 rfl rfl)
theorem dX1_isHeard_1 : decode cX1_isHeard 1 = .ok (.iconst 0, 1) := dk_3 (dk_at dksX1_isHeard_0 1 rfl rfl)
theorem dX1_isHeard_2 : decode cX1_isHeard 2 = .ok (.aload_n 0, 1) := dk_42 (dk_at dksX1_isHeard_0 2 rfl rfl)
theorem dX1_isHeard_3 : decode cX1_isHeard 3 = .ok (.getfield 49, 3) := dk_180 0 49 (dk_at dksX1_isHeard_0 3 rfl rfl)
theorem dX1_isHeard_6 : decode cX1_isHeard 6 = .ok (.getfield 173, 3) := dk_180 0 173 (dk_at dksX1_isHeard_0 6 rfl rfl)
theorem dX1_isHeard_9 : decode cX1_isHeard 9 = .ok (.invokevirtual 119, 3) := dk_182 0 119 (dk_at dksX1_isHeard_0 9 rfl rfl)
theorem dX1_isHeard_12 : decode cX1_isHeard 12 = .ok (.iconst 1, 1) := dk_4 (dk_at dksX1_isHeard_0 12 rfl rfl)
theorem dX1_isHeard_13 : decode cX1_isHeard 13 = .ok (.isub, 1) := dk_100 (dk_at dksX1_isHeard_0 13 rfl rfl)
theorem dX1_isHeard_14 : decode cX1_isHeard 14 = .ok (.invokestatic 80, 3) := dk_184 0 80 (dk_at dksX1_isHeard_0 14 rfl rfl)
theorem dX1_isHeard_17 : decode cX1_isHeard 17 = .ok (.ifCond .eq 31, 3) := dk_153 0 31 (dk_at dksX1_isHeard_0 17 rfl rfl)
theorem dX1_isHeard_20 : decode cX1_isHeard 20 = .ok (.aload_n 0, 1) := dk_42 (dk_at dksX1_isHeard_0 20 rfl rfl)
theorem dX1_isHeard_21 : decode cX1_isHeard 21 = .ok (.getfield 49, 3) := dk_180 0 49 (dk_at dksX1_isHeard_0 21 rfl rfl)
theorem dX1_isHeard_24 : decode cX1_isHeard 24 = .ok (.getfield 173, 3) := dk_180 0 173 (dk_at dksX1_isHeard_1 0 rfl rfl)
theorem dX1_isHeard_27 : decode cX1_isHeard 27 = .ok (.iload_n 1, 1) := dk_27 (dk_at dksX1_isHeard_1 3 rfl rfl)
theorem dX1_isHeard_28 : decode cX1_isHeard 28 = .ok (.invokevirtual 135, 3) := dk_182 0 135 (dk_at dksX1_isHeard_1 4 rfl rfl)
theorem dX1_isHeard_31 : decode cX1_isHeard 31 = .ok (.checkcast 176, 3) := dk_192 0 176 (dk_at dksX1_isHeard_1 7 rfl rfl)
theorem dX1_isHeard_34 : decode cX1_isHeard 34 = .ok (.getfield 178, 3) := dk_180 0 178 (dk_at dksX1_isHeard_1 10 rfl rfl)
theorem dX1_isHeard_37 : decode cX1_isHeard 37 = .ok (.aload_n 0, 1) := dk_42 (dk_at dksX1_isHeard_1 13 rfl rfl)
theorem dX1_isHeard_38 : decode cX1_isHeard 38 = .ok (.getfield 25, 3) := dk_180 0 25 (dk_at dksX1_isHeard_1 14 rfl rfl)
theorem dX1_isHeard_41 : decode cX1_isHeard 41 = .ok (.if_icmp .gt 7, 3) := dk_163 0 7 (dk_at dksX1_isHeard_1 17 rfl rfl)
theorem dX1_isHeard_44 : decode cX1_isHeard 44 = .ok (.iconst 1, 1) := dk_4 (dk_at dksX1_isHeard_1 20 rfl rfl)
theorem dX1_isHeard_45 : decode cX1_isHeard 45 = .ok (.goto 4, 3) := dk_167 0 4 (dk_at dksX1_isHeard_1 21 rfl rfl)
theorem dX1_isHeard_48 : decode cX1_isHeard 48 = .ok (.iconst 0, 1) := dk_3 (dk_at dksX1_isHeard_2 0 rfl rfl)
theorem dX1_isHeard_49 : decode cX1_isHeard 49 = .ok (.ireturn, 1) := dk_172 (dk_at dksX1_isHeard_2 1 rfl rfl)
abbrev cX1_say : ByteArray := prog_1_method_18_code
def yX1_say : MethodName := ⟨RX1, "say", "(ZIIII)I"⟩
def dkwX1_say_7 : List UInt8 := [180, 0, 49, 180, 0, 173, 182, 0, 119, 4, 100, 172]
abbrev dktX1_say_7 : List UInt8 := dkwX1_say_7 ++ []
def dkwX1_say_6 : List UInt8 := [28, 29, 21, 4, 21, 5, 183, 0, 210, 182, 0, 211, 87, 42, 89, 180, 0, 102, 4, 96, 181, 0, 102, 42]
abbrev dktX1_say_6 : List UInt8 := dkwX1_say_6 ++ dktX1_say_7
def dkwX1_say_5 : List UInt8 := [42, 180, 0, 49, 28, 29, 21, 4, 21, 5, 183, 0, 205, 167, 0, 20, 187, 0, 208, 89, 42, 180, 0, 49]
abbrev dktX1_say_5 : List UInt8 := dkwX1_say_5 ++ dktX1_say_6
def dkwX1_say_4 : List UInt8 := [100, 184, 0, 80, 154, 0, 5, 2, 172, 42, 180, 0, 49, 180, 0, 173, 27, 153, 0, 23, 187, 0, 194, 89]
abbrev dktX1_say_4 : List UInt8 := dkwX1_say_4 ++ dktX1_say_5
def dkwX1_say_3 : List UInt8 := [3, 167, 0, 4, 2, 42, 180, 0, 49, 180, 0, 125, 21, 4, 182, 0, 135, 192, 0, 139, 180, 0, 141, 4]
abbrev dktX1_say_3 : List UInt8 := dkwX1_say_3 ++ dktX1_say_4
def dkwX1_say_2 : List UInt8 := [28, 182, 0, 135, 192, 0, 159, 180, 0, 167, 184, 0, 80, 154, 0, 5, 2, 172, 21, 5, 27, 153, 0, 7]
abbrev dktX1_say_2 : List UInt8 := dkwX1_say_2 ++ dktX1_say_3
def dkwX1_say_1 : List UInt8 := [182, 0, 119, 16, 60, 159, 0, 35, 29, 42, 180, 0, 49, 28, 182, 0, 202, 42, 180, 0, 49, 180, 0, 115]
abbrev dktX1_say_1 : List UInt8 := dkwX1_say_1 ++ dktX1_say_2
def dkwX1_say_0 : List UInt8 := [42, 28, 182, 0, 156, 153, 0, 59, 42, 21, 4, 182, 0, 128, 153, 0, 50, 42, 180, 0, 49, 180, 0, 173]
abbrev dktX1_say_0 : List UInt8 := dkwX1_say_0 ++ dktX1_say_1
theorem dksX1_say_0 : cX1_say.data.toList.drop 0 = dktX1_say_0 := by decide +kernel
theorem dksX1_say_1 : cX1_say.data.toList.drop 24 = dktX1_say_1 := dk_seg dksX1_say_0 24 rfl rfl
theorem dksX1_say_2 : cX1_say.data.toList.drop 48 = dktX1_say_2 := dk_seg dksX1_say_1 24 rfl rfl
theorem dksX1_say_3 : cX1_say.data.toList.drop 72 = dktX1_say_3 := dk_seg dksX1_say_2 24 rfl rfl
theorem dksX1_say_4 : cX1_say.data.toList.drop 96 = dktX1_say_4 := dk_seg dksX1_say_3 24 rfl rfl
theorem dksX1_say_5 : cX1_say.data.toList.drop 120 = dktX1_say_5 := dk_seg dksX1_say_4 24 rfl rfl
theorem dksX1_say_6 : cX1_say.data.toList.drop 144 = dktX1_say_6 := dk_seg dksX1_say_5 24 rfl rfl
theorem dksX1_say_7 : cX1_say.data.toList.drop 168 = dktX1_say_7 := dk_seg dksX1_say_6 24 rfl rfl
theorem dX1_say_0 : decode cX1_say 0 = .ok (.aload_n 0, 1) := dk_42 (dk_at dksX1_say_0 0 rfl rfl)
theorem dX1_say_1 : decode cX1_say 1 = .ok (.iload_n 2, 1) := dk_28 (dk_at dksX1_say_0 1 rfl rfl)
theorem dX1_say_2 : decode cX1_say 2 = .ok (.invokevirtual 156, 3) := dk_182 0 156 (dk_at dksX1_say_0 2 rfl rfl)
theorem dX1_say_5 : decode cX1_say 5 = .ok (.ifCond .eq 59, 3) := dk_153 0 59 (dk_at dksX1_say_0 5 rfl rfl)
theorem dX1_say_8 : decode cX1_say 8 = .ok (.aload_n 0, 1) := dk_42 (dk_at dksX1_say_0 8 rfl rfl)
theorem dX1_say_9 : decode cX1_say 9 = .ok (.iload 4, 2) := dk_21 4 (dk_at dksX1_say_0 9 rfl rfl)
theorem dX1_say_11 : decode cX1_say 11 = .ok (.invokevirtual 128, 3) := dk_182 0 128 (dk_at dksX1_say_0 11 rfl rfl)
theorem dX1_say_14 : decode cX1_say 14 = .ok (.ifCond .eq 50, 3) := dk_153 0 50 (dk_at dksX1_say_0 14 rfl rfl)
theorem dX1_say_17 : decode cX1_say 17 = .ok (.aload_n 0, 1) := dk_42 (dk_at dksX1_say_0 17 rfl rfl)
theorem dX1_say_18 : decode cX1_say 18 = .ok (.getfield 49, 3) := dk_180 0 49 (dk_at dksX1_say_0 18 rfl rfl)
theorem dX1_say_21 : decode cX1_say 21 = .ok (.getfield 173, 3) := dk_180 0 173 (dk_at dksX1_say_0 21 rfl rfl)
theorem dX1_say_24 : decode cX1_say 24 = .ok (.invokevirtual 119, 3) := dk_182 0 119 (dk_at dksX1_say_1 0 rfl rfl)
theorem dX1_say_27 : decode cX1_say 27 = .ok (.bipush 60, 2) := dk_16 60 (dk_at dksX1_say_1 3 rfl rfl)
theorem dX1_say_29 : decode cX1_say 29 = .ok (.if_icmp .eq 35, 3) := dk_159 0 35 (dk_at dksX1_say_1 5 rfl rfl)
theorem dX1_say_32 : decode cX1_say 32 = .ok (.iload_n 3, 1) := dk_29 (dk_at dksX1_say_1 8 rfl rfl)
theorem dX1_say_33 : decode cX1_say 33 = .ok (.aload_n 0, 1) := dk_42 (dk_at dksX1_say_1 9 rfl rfl)
theorem dX1_say_34 : decode cX1_say 34 = .ok (.getfield 49, 3) := dk_180 0 49 (dk_at dksX1_say_1 10 rfl rfl)
theorem dX1_say_37 : decode cX1_say 37 = .ok (.iload_n 2, 1) := dk_28 (dk_at dksX1_say_1 13 rfl rfl)
theorem dX1_say_38 : decode cX1_say 38 = .ok (.invokevirtual 202, 3) := dk_182 0 202 (dk_at dksX1_say_1 14 rfl rfl)
theorem dX1_say_41 : decode cX1_say 41 = .ok (.aload_n 0, 1) := dk_42 (dk_at dksX1_say_1 17 rfl rfl)
theorem dX1_say_42 : decode cX1_say 42 = .ok (.getfield 49, 3) := dk_180 0 49 (dk_at dksX1_say_1 18 rfl rfl)
theorem dX1_say_45 : decode cX1_say 45 = .ok (.getfield 115, 3) := dk_180 0 115 (dk_at dksX1_say_1 21 rfl rfl)
theorem dX1_say_48 : decode cX1_say 48 = .ok (.iload_n 2, 1) := dk_28 (dk_at dksX1_say_2 0 rfl rfl)
theorem dX1_say_49 : decode cX1_say 49 = .ok (.invokevirtual 135, 3) := dk_182 0 135 (dk_at dksX1_say_2 1 rfl rfl)
theorem dX1_say_52 : decode cX1_say 52 = .ok (.checkcast 159, 3) := dk_192 0 159 (dk_at dksX1_say_2 4 rfl rfl)
theorem dX1_say_55 : decode cX1_say 55 = .ok (.getfield 167, 3) := dk_180 0 167 (dk_at dksX1_say_2 7 rfl rfl)
theorem dX1_say_58 : decode cX1_say 58 = .ok (.invokestatic 80, 3) := dk_184 0 80 (dk_at dksX1_say_2 10 rfl rfl)
theorem dX1_say_61 : decode cX1_say 61 = .ok (.ifCond .ne 5, 3) := dk_154 0 5 (dk_at dksX1_say_2 13 rfl rfl)
theorem dX1_say_64 : decode cX1_say 64 = .ok (.iconst (-1), 1) := dk_2 (dk_at dksX1_say_2 16 rfl rfl)
theorem dX1_say_65 : decode cX1_say 65 = .ok (.ireturn, 1) := dk_172 (dk_at dksX1_say_2 17 rfl rfl)
theorem dX1_say_66 : decode cX1_say 66 = .ok (.iload 5, 2) := dk_21 5 (dk_at dksX1_say_2 18 rfl rfl)
theorem dX1_say_68 : decode cX1_say 68 = .ok (.iload_n 1, 1) := dk_27 (dk_at dksX1_say_2 20 rfl rfl)
theorem dX1_say_69 : decode cX1_say 69 = .ok (.ifCond .eq 7, 3) := dk_153 0 7 (dk_at dksX1_say_2 21 rfl rfl)
theorem dX1_say_72 : decode cX1_say 72 = .ok (.iconst 0, 1) := dk_3 (dk_at dksX1_say_3 0 rfl rfl)
theorem dX1_say_73 : decode cX1_say 73 = .ok (.goto 4, 3) := dk_167 0 4 (dk_at dksX1_say_3 1 rfl rfl)
theorem dX1_say_76 : decode cX1_say 76 = .ok (.iconst (-1), 1) := dk_2 (dk_at dksX1_say_3 4 rfl rfl)
theorem dX1_say_77 : decode cX1_say 77 = .ok (.aload_n 0, 1) := dk_42 (dk_at dksX1_say_3 5 rfl rfl)
theorem dX1_say_78 : decode cX1_say 78 = .ok (.getfield 49, 3) := dk_180 0 49 (dk_at dksX1_say_3 6 rfl rfl)
theorem dX1_say_81 : decode cX1_say 81 = .ok (.getfield 125, 3) := dk_180 0 125 (dk_at dksX1_say_3 9 rfl rfl)
theorem dX1_say_84 : decode cX1_say 84 = .ok (.iload 4, 2) := dk_21 4 (dk_at dksX1_say_3 12 rfl rfl)
theorem dX1_say_86 : decode cX1_say 86 = .ok (.invokevirtual 135, 3) := dk_182 0 135 (dk_at dksX1_say_3 14 rfl rfl)
theorem dX1_say_89 : decode cX1_say 89 = .ok (.checkcast 139, 3) := dk_192 0 139 (dk_at dksX1_say_3 17 rfl rfl)
theorem dX1_say_92 : decode cX1_say 92 = .ok (.getfield 141, 3) := dk_180 0 141 (dk_at dksX1_say_3 20 rfl rfl)
theorem dX1_say_95 : decode cX1_say 95 = .ok (.iconst 1, 1) := dk_4 (dk_at dksX1_say_3 23 rfl rfl)
theorem dX1_say_96 : decode cX1_say 96 = .ok (.isub, 1) := dk_100 (dk_at dksX1_say_4 0 rfl rfl)
theorem dX1_say_97 : decode cX1_say 97 = .ok (.invokestatic 80, 3) := dk_184 0 80 (dk_at dksX1_say_4 1 rfl rfl)
theorem dX1_say_100 : decode cX1_say 100 = .ok (.ifCond .ne 5, 3) := dk_154 0 5 (dk_at dksX1_say_4 4 rfl rfl)
theorem dX1_say_103 : decode cX1_say 103 = .ok (.iconst (-1), 1) := dk_2 (dk_at dksX1_say_4 7 rfl rfl)
theorem dX1_say_104 : decode cX1_say 104 = .ok (.ireturn, 1) := dk_172 (dk_at dksX1_say_4 8 rfl rfl)
theorem dX1_say_105 : decode cX1_say 105 = .ok (.aload_n 0, 1) := dk_42 (dk_at dksX1_say_4 9 rfl rfl)
theorem dX1_say_106 : decode cX1_say 106 = .ok (.getfield 49, 3) := dk_180 0 49 (dk_at dksX1_say_4 10 rfl rfl)
theorem dX1_say_109 : decode cX1_say 109 = .ok (.getfield 173, 3) := dk_180 0 173 (dk_at dksX1_say_4 13 rfl rfl)
theorem dX1_say_112 : decode cX1_say 112 = .ok (.iload_n 1, 1) := dk_27 (dk_at dksX1_say_4 16 rfl rfl)
theorem dX1_say_113 : decode cX1_say 113 = .ok (.ifCond .eq 23, 3) := dk_153 0 23 (dk_at dksX1_say_4 17 rfl rfl)
theorem dX1_say_116 : decode cX1_say 116 = .ok (.new 194, 3) := dk_187 0 194 (dk_at dksX1_say_4 20 rfl rfl)
theorem dX1_say_119 : decode cX1_say 119 = .ok (.dup, 1) := dk_89 (dk_at dksX1_say_4 23 rfl rfl)
theorem dX1_say_120 : decode cX1_say 120 = .ok (.aload_n 0, 1) := dk_42 (dk_at dksX1_say_5 0 rfl rfl)
theorem dX1_say_121 : decode cX1_say 121 = .ok (.getfield 49, 3) := dk_180 0 49 (dk_at dksX1_say_5 1 rfl rfl)
theorem dX1_say_124 : decode cX1_say 124 = .ok (.iload_n 2, 1) := dk_28 (dk_at dksX1_say_5 4 rfl rfl)
theorem dX1_say_125 : decode cX1_say 125 = .ok (.iload_n 3, 1) := dk_29 (dk_at dksX1_say_5 5 rfl rfl)
theorem dX1_say_126 : decode cX1_say 126 = .ok (.iload 4, 2) := dk_21 4 (dk_at dksX1_say_5 6 rfl rfl)
theorem dX1_say_128 : decode cX1_say 128 = .ok (.iload 5, 2) := dk_21 5 (dk_at dksX1_say_5 8 rfl rfl)
theorem dX1_say_130 : decode cX1_say 130 = .ok (.invokespecial 205, 3) := dk_183 0 205 (dk_at dksX1_say_5 10 rfl rfl)
theorem dX1_say_133 : decode cX1_say 133 = .ok (.goto 20, 3) := dk_167 0 20 (dk_at dksX1_say_5 13 rfl rfl)
theorem dX1_say_136 : decode cX1_say 136 = .ok (.new 208, 3) := dk_187 0 208 (dk_at dksX1_say_5 16 rfl rfl)
theorem dX1_say_139 : decode cX1_say 139 = .ok (.dup, 1) := dk_89 (dk_at dksX1_say_5 19 rfl rfl)
theorem dX1_say_140 : decode cX1_say 140 = .ok (.aload_n 0, 1) := dk_42 (dk_at dksX1_say_5 20 rfl rfl)
theorem dX1_say_141 : decode cX1_say 141 = .ok (.getfield 49, 3) := dk_180 0 49 (dk_at dksX1_say_5 21 rfl rfl)
theorem dX1_say_144 : decode cX1_say 144 = .ok (.iload_n 2, 1) := dk_28 (dk_at dksX1_say_6 0 rfl rfl)
theorem dX1_say_145 : decode cX1_say 145 = .ok (.iload_n 3, 1) := dk_29 (dk_at dksX1_say_6 1 rfl rfl)
theorem dX1_say_146 : decode cX1_say 146 = .ok (.iload 4, 2) := dk_21 4 (dk_at dksX1_say_6 2 rfl rfl)
theorem dX1_say_148 : decode cX1_say 148 = .ok (.iload 5, 2) := dk_21 5 (dk_at dksX1_say_6 4 rfl rfl)
theorem dX1_say_150 : decode cX1_say 150 = .ok (.invokespecial 210, 3) := dk_183 0 210 (dk_at dksX1_say_6 6 rfl rfl)
theorem dX1_say_153 : decode cX1_say 153 = .ok (.invokevirtual 211, 3) := dk_182 0 211 (dk_at dksX1_say_6 9 rfl rfl)
theorem dX1_say_156 : decode cX1_say 156 = .ok (.pop, 1) := dk_87 (dk_at dksX1_say_6 12 rfl rfl)
theorem dX1_say_157 : decode cX1_say 157 = .ok (.aload_n 0, 1) := dk_42 (dk_at dksX1_say_6 13 rfl rfl)
theorem dX1_say_158 : decode cX1_say 158 = .ok (.dup, 1) := dk_89 (dk_at dksX1_say_6 14 rfl rfl)
theorem dX1_say_159 : decode cX1_say 159 = .ok (.getfield 102, 3) := dk_180 0 102 (dk_at dksX1_say_6 15 rfl rfl)
theorem dX1_say_162 : decode cX1_say 162 = .ok (.iconst 1, 1) := dk_4 (dk_at dksX1_say_6 18 rfl rfl)
theorem dX1_say_163 : decode cX1_say 163 = .ok (.iadd, 1) := dk_96 (dk_at dksX1_say_6 19 rfl rfl)
theorem dX1_say_164 : decode cX1_say 164 = .ok (.putfield 102, 3) := dk_181 0 102 (dk_at dksX1_say_6 20 rfl rfl)
theorem dX1_say_167 : decode cX1_say 167 = .ok (.aload_n 0, 1) := dk_42 (dk_at dksX1_say_6 23 rfl rfl)
theorem dX1_say_168 : decode cX1_say 168 = .ok (.getfield 49, 3) := dk_180 0 49 (dk_at dksX1_say_7 0 rfl rfl)
theorem dX1_say_171 : decode cX1_say 171 = .ok (.getfield 173, 3) := dk_180 0 173 (dk_at dksX1_say_7 3 rfl rfl)
theorem dX1_say_174 : decode cX1_say 174 = .ok (.invokevirtual 119, 3) := dk_182 0 119 (dk_at dksX1_say_7 6 rfl rfl)
theorem dX1_say_177 : decode cX1_say 177 = .ok (.iconst 1, 1) := dk_4 (dk_at dksX1_say_7 9 rfl rfl)
theorem dX1_say_178 : decode cX1_say 178 = .ok (.isub, 1) := dk_100 (dk_at dksX1_say_7 10 rfl rfl)
theorem dX1_say_179 : decode cX1_say 179 = .ok (.ireturn, 1) := dk_172 (dk_at dksX1_say_7 11 rfl rfl)
abbrev cX1_isThing : ByteArray := prog_1_method_10_code
def yX1_isThing : MethodName := ⟨RX1, "isThing", "(I)Z"⟩
def dkwX1_isThing_0 : List UInt8 := [27, 3, 42, 180, 0, 49, 180, 0, 125, 182, 0, 119, 4, 100, 184, 0, 80, 172]
abbrev dktX1_isThing_0 : List UInt8 := dkwX1_isThing_0 ++ []
theorem dksX1_isThing_0 : cX1_isThing.data.toList.drop 0 = dktX1_isThing_0 := by decide +kernel
theorem dX1_isThing_0 : decode cX1_isThing 0 = .ok (.iload_n 1, 1) := dk_27 (dk_at dksX1_isThing_0 0 rfl rfl)
theorem dX1_isThing_1 : decode cX1_isThing 1 = .ok (.iconst 0, 1) := dk_3 (dk_at dksX1_isThing_0 1 rfl rfl)
theorem dX1_isThing_2 : decode cX1_isThing 2 = .ok (.aload_n 0, 1) := dk_42 (dk_at dksX1_isThing_0 2 rfl rfl)
theorem dX1_isThing_3 : decode cX1_isThing 3 = .ok (.getfield 49, 3) := dk_180 0 49 (dk_at dksX1_isThing_0 3 rfl rfl)
theorem dX1_isThing_6 : decode cX1_isThing 6 = .ok (.getfield 125, 3) := dk_180 0 125 (dk_at dksX1_isThing_0 6 rfl rfl)
theorem dX1_isThing_9 : decode cX1_isThing 9 = .ok (.invokevirtual 119, 3) := dk_182 0 119 (dk_at dksX1_isThing_0 9 rfl rfl)
theorem dX1_isThing_12 : decode cX1_isThing 12 = .ok (.iconst 1, 1) := dk_4 (dk_at dksX1_isThing_0 12 rfl rfl)
theorem dX1_isThing_13 : decode cX1_isThing 13 = .ok (.isub, 1) := dk_100 (dk_at dksX1_isThing_0 13 rfl rfl)
theorem dX1_isThing_14 : decode cX1_isThing 14 = .ok (.invokestatic 80, 3) := dk_184 0 80 (dk_at dksX1_isThing_0 14 rfl rfl)
theorem dX1_isThing_17 : decode cX1_isThing 17 = .ok (.ireturn, 1) := dk_172 (dk_at dksX1_isThing_0 17 rfl rfl)
abbrev cX1_undo : ByteArray := prog_1_method_19_code
def yX1_undo : MethodName := ⟨RX1, "undo", "()I"⟩
def dkwX1_undo_1 : List UInt8 := [182, 0, 119, 4, 100, 182, 0, 215, 87, 42, 89, 180, 0, 102, 4, 100, 181, 0, 102, 42, 180, 0, 102, 172]
abbrev dktX1_undo_1 : List UInt8 := dkwX1_undo_1 ++ []
def dkwX1_undo_0 : List UInt8 := [42, 180, 0, 102, 154, 0, 5, 2, 172, 42, 180, 0, 49, 180, 0, 173, 42, 180, 0, 49, 180, 0, 173]
abbrev dktX1_undo_0 : List UInt8 := dkwX1_undo_0 ++ dktX1_undo_1
theorem dksX1_undo_0 : cX1_undo.data.toList.drop 0 = dktX1_undo_0 := by decide +kernel
theorem dksX1_undo_1 : cX1_undo.data.toList.drop 23 = dktX1_undo_1 := dk_seg dksX1_undo_0 23 rfl rfl
theorem dX1_undo_0 : decode cX1_undo 0 = .ok (.aload_n 0, 1) := dk_42 (dk_at dksX1_undo_0 0 rfl rfl)
theorem dX1_undo_1 : decode cX1_undo 1 = .ok (.getfield 102, 3) := dk_180 0 102 (dk_at dksX1_undo_0 1 rfl rfl)
theorem dX1_undo_4 : decode cX1_undo 4 = .ok (.ifCond .ne 5, 3) := dk_154 0 5 (dk_at dksX1_undo_0 4 rfl rfl)
theorem dX1_undo_7 : decode cX1_undo 7 = .ok (.iconst (-1), 1) := dk_2 (dk_at dksX1_undo_0 7 rfl rfl)
theorem dX1_undo_8 : decode cX1_undo 8 = .ok (.ireturn, 1) := dk_172 (dk_at dksX1_undo_0 8 rfl rfl)
theorem dX1_undo_9 : decode cX1_undo 9 = .ok (.aload_n 0, 1) := dk_42 (dk_at dksX1_undo_0 9 rfl rfl)
theorem dX1_undo_10 : decode cX1_undo 10 = .ok (.getfield 49, 3) := dk_180 0 49 (dk_at dksX1_undo_0 10 rfl rfl)
theorem dX1_undo_13 : decode cX1_undo 13 = .ok (.getfield 173, 3) := dk_180 0 173 (dk_at dksX1_undo_0 13 rfl rfl)
theorem dX1_undo_16 : decode cX1_undo 16 = .ok (.aload_n 0, 1) := dk_42 (dk_at dksX1_undo_0 16 rfl rfl)
theorem dX1_undo_17 : decode cX1_undo 17 = .ok (.getfield 49, 3) := dk_180 0 49 (dk_at dksX1_undo_0 17 rfl rfl)
theorem dX1_undo_20 : decode cX1_undo 20 = .ok (.getfield 173, 3) := dk_180 0 173 (dk_at dksX1_undo_0 20 rfl rfl)
theorem dX1_undo_23 : decode cX1_undo 23 = .ok (.invokevirtual 119, 3) := dk_182 0 119 (dk_at dksX1_undo_1 0 rfl rfl)
theorem dX1_undo_26 : decode cX1_undo 26 = .ok (.iconst 1, 1) := dk_4 (dk_at dksX1_undo_1 3 rfl rfl)
theorem dX1_undo_27 : decode cX1_undo 27 = .ok (.isub, 1) := dk_100 (dk_at dksX1_undo_1 4 rfl rfl)
theorem dX1_undo_28 : decode cX1_undo 28 = .ok (.invokevirtual 215, 3) := dk_182 0 215 (dk_at dksX1_undo_1 5 rfl rfl)
theorem dX1_undo_31 : decode cX1_undo 31 = .ok (.pop, 1) := dk_87 (dk_at dksX1_undo_1 8 rfl rfl)
theorem dX1_undo_32 : decode cX1_undo 32 = .ok (.aload_n 0, 1) := dk_42 (dk_at dksX1_undo_1 9 rfl rfl)
theorem dX1_undo_33 : decode cX1_undo 33 = .ok (.dup, 1) := dk_89 (dk_at dksX1_undo_1 10 rfl rfl)
theorem dX1_undo_34 : decode cX1_undo 34 = .ok (.getfield 102, 3) := dk_180 0 102 (dk_at dksX1_undo_1 11 rfl rfl)
theorem dX1_undo_37 : decode cX1_undo 37 = .ok (.iconst 1, 1) := dk_4 (dk_at dksX1_undo_1 14 rfl rfl)
theorem dX1_undo_38 : decode cX1_undo 38 = .ok (.isub, 1) := dk_100 (dk_at dksX1_undo_1 15 rfl rfl)
theorem dX1_undo_39 : decode cX1_undo 39 = .ok (.putfield 102, 3) := dk_181 0 102 (dk_at dksX1_undo_1 16 rfl rfl)
theorem dX1_undo_42 : decode cX1_undo 42 = .ok (.aload_n 0, 1) := dk_42 (dk_at dksX1_undo_1 19 rfl rfl)
theorem dX1_undo_43 : decode cX1_undo 43 = .ok (.getfield 102, 3) := dk_180 0 102 (dk_at dksX1_undo_1 20 rfl rfl)
theorem dX1_undo_46 : decode cX1_undo 46 = .ok (.ireturn, 1) := dk_172 (dk_at dksX1_undo_1 23 rfl rfl)
abbrev cX1_hear : ByteArray := prog_1_method_20_code
def yX1_hear : MethodName := ⟨RX1, "hear", "(I)I"⟩
def dkwX1_hear_0 : List UInt8 := [27, 3, 17, 0, 199, 184, 0, 80, 154, 0, 5, 2, 172, 42, 27, 181, 0, 25, 42, 6, 182, 0, 218, 172]
abbrev dktX1_hear_0 : List UInt8 := dkwX1_hear_0 ++ []
theorem dksX1_hear_0 : cX1_hear.data.toList.drop 0 = dktX1_hear_0 := by decide +kernel
theorem dX1_hear_0 : decode cX1_hear 0 = .ok (.iload_n 1, 1) := dk_27 (dk_at dksX1_hear_0 0 rfl rfl)
theorem dX1_hear_1 : decode cX1_hear 1 = .ok (.iconst 0, 1) := dk_3 (dk_at dksX1_hear_0 1 rfl rfl)
theorem dX1_hear_2 : decode cX1_hear 2 = .ok (.sipush 199, 3) := dk_17 0 199 (dk_at dksX1_hear_0 2 rfl rfl)
theorem dX1_hear_5 : decode cX1_hear 5 = .ok (.invokestatic 80, 3) := dk_184 0 80 (dk_at dksX1_hear_0 5 rfl rfl)
theorem dX1_hear_8 : decode cX1_hear 8 = .ok (.ifCond .ne 5, 3) := dk_154 0 5 (dk_at dksX1_hear_0 8 rfl rfl)
theorem dX1_hear_11 : decode cX1_hear 11 = .ok (.iconst (-1), 1) := dk_2 (dk_at dksX1_hear_0 11 rfl rfl)
theorem dX1_hear_12 : decode cX1_hear 12 = .ok (.ireturn, 1) := dk_172 (dk_at dksX1_hear_0 12 rfl rfl)
theorem dX1_hear_13 : decode cX1_hear 13 = .ok (.aload_n 0, 1) := dk_42 (dk_at dksX1_hear_0 13 rfl rfl)
theorem dX1_hear_14 : decode cX1_hear 14 = .ok (.iload_n 1, 1) := dk_27 (dk_at dksX1_hear_0 14 rfl rfl)
theorem dX1_hear_15 : decode cX1_hear 15 = .ok (.putfield 25, 3) := dk_181 0 25 (dk_at dksX1_hear_0 15 rfl rfl)
theorem dX1_hear_18 : decode cX1_hear 18 = .ok (.aload_n 0, 1) := dk_42 (dk_at dksX1_hear_0 18 rfl rfl)
theorem dX1_hear_19 : decode cX1_hear 19 = .ok (.iconst 3, 1) := dk_6 (dk_at dksX1_hear_0 19 rfl rfl)
theorem dX1_hear_20 : decode cX1_hear 20 = .ok (.invokevirtual 218, 3) := dk_182 0 218 (dk_at dksX1_hear_0 20 rfl rfl)
theorem dX1_hear_23 : decode cX1_hear 23 = .ok (.ireturn, 1) := dk_172 (dk_at dksX1_hear_0 23 rfl rfl)
abbrev cX1_count : ByteArray := prog_1_method_66_code
def yX1_count : MethodName := ⟨RX1, "count", "(I)I"⟩
def dkwX1_count_6 : List UInt8 := [42, 180, 0, 25, 172, 42, 180, 0, 102, 172, 2, 172]
abbrev dktX1_count_6 : List UInt8 := dkwX1_count_6 ++ []
def dkwX1_count_5 : List UInt8 := [167, 255, 223, 28, 172, 42, 180, 0, 49, 180, 1, 25, 182, 0, 119, 172, 42, 180, 0, 49, 180, 1, 146, 172]
abbrev dktX1_count_5 : List UInt8 := dkwX1_count_5 ++ dktX1_count_6
def dkwX1_count_4 : List UInt8 := [162, 0, 25, 28, 42, 29, 182, 0, 196, 153, 0, 7, 4, 167, 0, 4, 3, 96, 61, 132, 3, 1]
abbrev dktX1_count_4 : List UInt8 := dkwX1_count_4 ++ dktX1_count_5
def dkwX1_count_3 : List UInt8 := [180, 0, 49, 180, 0, 173, 182, 0, 119, 172, 3, 62, 29, 42, 180, 0, 49, 180, 0, 173, 182, 0, 119]
abbrev dktX1_count_3 : List UInt8 := dkwX1_count_3 ++ dktX1_count_4
def dkwX1_count_2 : List UInt8 := [42, 180, 0, 49, 180, 0, 125, 182, 0, 119, 172, 42, 180, 0, 49, 180, 0, 115, 182, 0, 119, 172, 42]
abbrev dktX1_count_2 : List UInt8 := dkwX1_count_2 ++ dktX1_count_3
def dkwX1_count_1 : List UInt8 := [170, 0, 0, 0, 147, 0, 0, 0, 0, 0, 0, 0, 7, 0, 0, 0, 45, 0, 0, 0, 56, 0, 0, 0, 67, 0, 0, 0, 78, 0, 0, 0, 118, 0, 0, 0, 129, 0, 0, 0, 137, 0, 0, 0, 142]
abbrev dktX1_count_1 : List UInt8 := dkwX1_count_1 ++ dktX1_count_2
def dkwX1_count_0 : List UInt8 := [3, 61, 27]
abbrev dktX1_count_0 : List UInt8 := dkwX1_count_0 ++ dktX1_count_1
theorem dksX1_count_0 : cX1_count.data.toList.drop 0 = dktX1_count_0 := by decide +kernel
theorem dksX1_count_1 : cX1_count.data.toList.drop 3 = dktX1_count_1 := dk_seg dksX1_count_0 3 rfl rfl
theorem dksX1_count_2 : cX1_count.data.toList.drop 48 = dktX1_count_2 := dk_seg dksX1_count_1 45 rfl rfl
theorem dksX1_count_3 : cX1_count.data.toList.drop 71 = dktX1_count_3 := dk_seg dksX1_count_2 23 rfl rfl
theorem dksX1_count_4 : cX1_count.data.toList.drop 94 = dktX1_count_4 := dk_seg dksX1_count_3 23 rfl rfl
theorem dksX1_count_5 : cX1_count.data.toList.drop 116 = dktX1_count_5 := dk_seg dksX1_count_4 22 rfl rfl
theorem dksX1_count_6 : cX1_count.data.toList.drop 140 = dktX1_count_6 := dk_seg dksX1_count_5 24 rfl rfl
theorem dX1_count_0 : decode cX1_count 0 = .ok (.iconst 0, 1) := dk_3 (dk_at dksX1_count_0 0 rfl rfl)
theorem dX1_count_1 : decode cX1_count 1 = .ok (.istore_n 2, 1) := dk_61 (dk_at dksX1_count_0 1 rfl rfl)
theorem dX1_count_2 : decode cX1_count 2 = .ok (.iload_n 1, 1) := dk_27 (dk_at dksX1_count_0 2 rfl rfl)
theorem dX1_count_3 : decode cX1_count 3 = .ok (.tableswitch 147 0 7 #[45, 56, 67, 78, 118, 129, 137, 142], 45) := by decide +kernel
theorem dX1_count_48 : decode cX1_count 48 = .ok (.aload_n 0, 1) := dk_42 (dk_at dksX1_count_2 0 rfl rfl)
theorem dX1_count_49 : decode cX1_count 49 = .ok (.getfield 49, 3) := dk_180 0 49 (dk_at dksX1_count_2 1 rfl rfl)
theorem dX1_count_52 : decode cX1_count 52 = .ok (.getfield 125, 3) := dk_180 0 125 (dk_at dksX1_count_2 4 rfl rfl)
theorem dX1_count_55 : decode cX1_count 55 = .ok (.invokevirtual 119, 3) := dk_182 0 119 (dk_at dksX1_count_2 7 rfl rfl)
theorem dX1_count_58 : decode cX1_count 58 = .ok (.ireturn, 1) := dk_172 (dk_at dksX1_count_2 10 rfl rfl)
theorem dX1_count_59 : decode cX1_count 59 = .ok (.aload_n 0, 1) := dk_42 (dk_at dksX1_count_2 11 rfl rfl)
theorem dX1_count_60 : decode cX1_count 60 = .ok (.getfield 49, 3) := dk_180 0 49 (dk_at dksX1_count_2 12 rfl rfl)
theorem dX1_count_63 : decode cX1_count 63 = .ok (.getfield 115, 3) := dk_180 0 115 (dk_at dksX1_count_2 15 rfl rfl)
theorem dX1_count_66 : decode cX1_count 66 = .ok (.invokevirtual 119, 3) := dk_182 0 119 (dk_at dksX1_count_2 18 rfl rfl)
theorem dX1_count_69 : decode cX1_count 69 = .ok (.ireturn, 1) := dk_172 (dk_at dksX1_count_2 21 rfl rfl)
theorem dX1_count_70 : decode cX1_count 70 = .ok (.aload_n 0, 1) := dk_42 (dk_at dksX1_count_2 22 rfl rfl)
theorem dX1_count_71 : decode cX1_count 71 = .ok (.getfield 49, 3) := dk_180 0 49 (dk_at dksX1_count_3 0 rfl rfl)
theorem dX1_count_74 : decode cX1_count 74 = .ok (.getfield 173, 3) := dk_180 0 173 (dk_at dksX1_count_3 3 rfl rfl)
theorem dX1_count_77 : decode cX1_count 77 = .ok (.invokevirtual 119, 3) := dk_182 0 119 (dk_at dksX1_count_3 6 rfl rfl)
theorem dX1_count_80 : decode cX1_count 80 = .ok (.ireturn, 1) := dk_172 (dk_at dksX1_count_3 9 rfl rfl)
theorem dX1_count_81 : decode cX1_count 81 = .ok (.iconst 0, 1) := dk_3 (dk_at dksX1_count_3 10 rfl rfl)
theorem dX1_count_82 : decode cX1_count 82 = .ok (.istore_n 3, 1) := dk_62 (dk_at dksX1_count_3 11 rfl rfl)
theorem dX1_count_83 : decode cX1_count 83 = .ok (.iload_n 3, 1) := dk_29 (dk_at dksX1_count_3 12 rfl rfl)
theorem dX1_count_84 : decode cX1_count 84 = .ok (.aload_n 0, 1) := dk_42 (dk_at dksX1_count_3 13 rfl rfl)
theorem dX1_count_85 : decode cX1_count 85 = .ok (.getfield 49, 3) := dk_180 0 49 (dk_at dksX1_count_3 14 rfl rfl)
theorem dX1_count_88 : decode cX1_count 88 = .ok (.getfield 173, 3) := dk_180 0 173 (dk_at dksX1_count_3 17 rfl rfl)
theorem dX1_count_91 : decode cX1_count 91 = .ok (.invokevirtual 119, 3) := dk_182 0 119 (dk_at dksX1_count_3 20 rfl rfl)
theorem dX1_count_94 : decode cX1_count 94 = .ok (.if_icmp .ge 25, 3) := dk_162 0 25 (dk_at dksX1_count_4 0 rfl rfl)
theorem dX1_count_97 : decode cX1_count 97 = .ok (.iload_n 2, 1) := dk_28 (dk_at dksX1_count_4 3 rfl rfl)
theorem dX1_count_98 : decode cX1_count 98 = .ok (.aload_n 0, 1) := dk_42 (dk_at dksX1_count_4 4 rfl rfl)
theorem dX1_count_99 : decode cX1_count 99 = .ok (.iload_n 3, 1) := dk_29 (dk_at dksX1_count_4 5 rfl rfl)
theorem dX1_count_100 : decode cX1_count 100 = .ok (.invokevirtual 196, 3) := dk_182 0 196 (dk_at dksX1_count_4 6 rfl rfl)
theorem dX1_count_103 : decode cX1_count 103 = .ok (.ifCond .eq 7, 3) := dk_153 0 7 (dk_at dksX1_count_4 9 rfl rfl)
theorem dX1_count_106 : decode cX1_count 106 = .ok (.iconst 1, 1) := dk_4 (dk_at dksX1_count_4 12 rfl rfl)
theorem dX1_count_107 : decode cX1_count 107 = .ok (.goto 4, 3) := dk_167 0 4 (dk_at dksX1_count_4 13 rfl rfl)
theorem dX1_count_110 : decode cX1_count 110 = .ok (.iconst 0, 1) := dk_3 (dk_at dksX1_count_4 16 rfl rfl)
theorem dX1_count_111 : decode cX1_count 111 = .ok (.iadd, 1) := dk_96 (dk_at dksX1_count_4 17 rfl rfl)
theorem dX1_count_112 : decode cX1_count 112 = .ok (.istore_n 2, 1) := dk_61 (dk_at dksX1_count_4 18 rfl rfl)
theorem dX1_count_113 : decode cX1_count 113 = .ok (.iinc 3 1, 3) := dk_132 3 1 (dk_at dksX1_count_4 19 rfl rfl)
theorem dX1_count_116 : decode cX1_count 116 = .ok (.goto (-33), 3) := dk_167 255 223 (dk_at dksX1_count_5 0 rfl rfl)
theorem dX1_count_119 : decode cX1_count 119 = .ok (.iload_n 2, 1) := dk_28 (dk_at dksX1_count_5 3 rfl rfl)
theorem dX1_count_120 : decode cX1_count 120 = .ok (.ireturn, 1) := dk_172 (dk_at dksX1_count_5 4 rfl rfl)
theorem dX1_count_121 : decode cX1_count 121 = .ok (.aload_n 0, 1) := dk_42 (dk_at dksX1_count_5 5 rfl rfl)
theorem dX1_count_122 : decode cX1_count 122 = .ok (.getfield 49, 3) := dk_180 0 49 (dk_at dksX1_count_5 6 rfl rfl)
theorem dX1_count_125 : decode cX1_count 125 = .ok (.getfield 281, 3) := dk_180 1 25 (dk_at dksX1_count_5 9 rfl rfl)
theorem dX1_count_128 : decode cX1_count 128 = .ok (.invokevirtual 119, 3) := dk_182 0 119 (dk_at dksX1_count_5 12 rfl rfl)
theorem dX1_count_131 : decode cX1_count 131 = .ok (.ireturn, 1) := dk_172 (dk_at dksX1_count_5 15 rfl rfl)
theorem dX1_count_132 : decode cX1_count 132 = .ok (.aload_n 0, 1) := dk_42 (dk_at dksX1_count_5 16 rfl rfl)
theorem dX1_count_133 : decode cX1_count 133 = .ok (.getfield 49, 3) := dk_180 0 49 (dk_at dksX1_count_5 17 rfl rfl)
theorem dX1_count_136 : decode cX1_count 136 = .ok (.getfield 402, 3) := dk_180 1 146 (dk_at dksX1_count_5 20 rfl rfl)
theorem dX1_count_139 : decode cX1_count 139 = .ok (.ireturn, 1) := dk_172 (dk_at dksX1_count_5 23 rfl rfl)
theorem dX1_count_140 : decode cX1_count 140 = .ok (.aload_n 0, 1) := dk_42 (dk_at dksX1_count_6 0 rfl rfl)
theorem dX1_count_141 : decode cX1_count 141 = .ok (.getfield 25, 3) := dk_180 0 25 (dk_at dksX1_count_6 1 rfl rfl)
theorem dX1_count_144 : decode cX1_count 144 = .ok (.ireturn, 1) := dk_172 (dk_at dksX1_count_6 4 rfl rfl)
theorem dX1_count_145 : decode cX1_count 145 = .ok (.aload_n 0, 1) := dk_42 (dk_at dksX1_count_6 5 rfl rfl)
theorem dX1_count_146 : decode cX1_count 146 = .ok (.getfield 102, 3) := dk_180 0 102 (dk_at dksX1_count_6 6 rfl rfl)
theorem dX1_count_149 : decode cX1_count 149 = .ok (.ireturn, 1) := dk_172 (dk_at dksX1_count_6 9 rfl rfl)
theorem dX1_count_150 : decode cX1_count 150 = .ok (.iconst (-1), 1) := dk_2 (dk_at dksX1_count_6 10 rfl rfl)
theorem dX1_count_151 : decode cX1_count 151 = .ok (.ireturn, 1) := dk_172 (dk_at dksX1_count_6 11 rfl rfl)
abbrev cX1_word : ByteArray := prog_1_method_25_code
def yX1_word : MethodName := ⟨RX1, "word", "(I)I"⟩
def dkwX1_word_0 : List UInt8 := [42, 27, 182, 0, 238, 199, 0, 7, 2, 167, 0, 8, 42, 27, 182, 1, 5, 172]
abbrev dktX1_word_0 : List UInt8 := dkwX1_word_0 ++ []
theorem dksX1_word_0 : cX1_word.data.toList.drop 0 = dktX1_word_0 := by decide +kernel
theorem dX1_word_0 : decode cX1_word 0 = .ok (.aload_n 0, 1) := dk_42 (dk_at dksX1_word_0 0 rfl rfl)
theorem dX1_word_1 : decode cX1_word 1 = .ok (.iload_n 1, 1) := dk_27 (dk_at dksX1_word_0 1 rfl rfl)
theorem dX1_word_2 : decode cX1_word 2 = .ok (.invokevirtual 238, 3) := dk_182 0 238 (dk_at dksX1_word_0 2 rfl rfl)
theorem dX1_word_5 : decode cX1_word 5 = .ok (.ifnonnull 7, 3) := dk_199 0 7 (dk_at dksX1_word_0 5 rfl rfl)
theorem dX1_word_8 : decode cX1_word 8 = .ok (.iconst (-1), 1) := dk_2 (dk_at dksX1_word_0 8 rfl rfl)
theorem dX1_word_9 : decode cX1_word 9 = .ok (.goto 8, 3) := dk_167 0 8 (dk_at dksX1_word_0 9 rfl rfl)
theorem dX1_word_12 : decode cX1_word 12 = .ok (.aload_n 0, 1) := dk_42 (dk_at dksX1_word_0 12 rfl rfl)
theorem dX1_word_13 : decode cX1_word 13 = .ok (.iload_n 1, 1) := dk_27 (dk_at dksX1_word_0 13 rfl rfl)
theorem dX1_word_14 : decode cX1_word 14 = .ok (.invokevirtual 261, 3) := dk_182 1 5 (dk_at dksX1_word_0 14 rfl rfl)
theorem dX1_word_17 : decode cX1_word 17 = .ok (.ireturn, 1) := dk_172 (dk_at dksX1_word_0 17 rfl rfl)
abbrev cX1_aWord : ByteArray := prog_1_method_16_code
def yX1_aWord : MethodName := ⟨RX1, "aWord", "(I)LSaidSo$Word;"⟩
def dkwX1_aWord_2 : List UInt8 := [176]
abbrev dktX1_aWord_2 : List UInt8 := dkwX1_aWord_2 ++ []
def dkwX1_aWord_1 : List UInt8 := [182, 0, 190, 153, 0, 20, 42, 180, 0, 49, 180, 0, 173, 27, 182, 0, 135, 192, 0, 194, 167, 0, 4, 1]
abbrev dktX1_aWord_1 : List UInt8 := dkwX1_aWord_1 ++ dktX1_aWord_2
def dkwX1_aWord_0 : List UInt8 := [42, 27, 182, 0, 196, 153, 0, 40, 42, 180, 0, 49, 180, 0, 173, 27, 182, 0, 135, 192, 0, 176]
abbrev dktX1_aWord_0 : List UInt8 := dkwX1_aWord_0 ++ dktX1_aWord_1
theorem dksX1_aWord_0 : cX1_aWord.data.toList.drop 0 = dktX1_aWord_0 := by decide +kernel
theorem dksX1_aWord_1 : cX1_aWord.data.toList.drop 22 = dktX1_aWord_1 := dk_seg dksX1_aWord_0 22 rfl rfl
theorem dksX1_aWord_2 : cX1_aWord.data.toList.drop 46 = dktX1_aWord_2 := dk_seg dksX1_aWord_1 24 rfl rfl
theorem dX1_aWord_0 : decode cX1_aWord 0 = .ok (.aload_n 0, 1) := dk_42 (dk_at dksX1_aWord_0 0 rfl rfl)
theorem dX1_aWord_1 : decode cX1_aWord 1 = .ok (.iload_n 1, 1) := dk_27 (dk_at dksX1_aWord_0 1 rfl rfl)
theorem dX1_aWord_2 : decode cX1_aWord 2 = .ok (.invokevirtual 196, 3) := dk_182 0 196 (dk_at dksX1_aWord_0 2 rfl rfl)
theorem dX1_aWord_5 : decode cX1_aWord 5 = .ok (.ifCond .eq 40, 3) := dk_153 0 40 (dk_at dksX1_aWord_0 5 rfl rfl)
theorem dX1_aWord_8 : decode cX1_aWord 8 = .ok (.aload_n 0, 1) := dk_42 (dk_at dksX1_aWord_0 8 rfl rfl)
theorem dX1_aWord_9 : decode cX1_aWord 9 = .ok (.getfield 49, 3) := dk_180 0 49 (dk_at dksX1_aWord_0 9 rfl rfl)
theorem dX1_aWord_12 : decode cX1_aWord 12 = .ok (.getfield 173, 3) := dk_180 0 173 (dk_at dksX1_aWord_0 12 rfl rfl)
theorem dX1_aWord_15 : decode cX1_aWord 15 = .ok (.iload_n 1, 1) := dk_27 (dk_at dksX1_aWord_0 15 rfl rfl)
theorem dX1_aWord_16 : decode cX1_aWord 16 = .ok (.invokevirtual 135, 3) := dk_182 0 135 (dk_at dksX1_aWord_0 16 rfl rfl)
theorem dX1_aWord_19 : decode cX1_aWord 19 = .ok (.checkcast 176, 3) := dk_192 0 176 (dk_at dksX1_aWord_0 19 rfl rfl)
theorem dX1_aWord_22 : decode cX1_aWord 22 = .ok (.invokevirtual 190, 3) := dk_182 0 190 (dk_at dksX1_aWord_1 0 rfl rfl)
theorem dX1_aWord_25 : decode cX1_aWord 25 = .ok (.ifCond .eq 20, 3) := dk_153 0 20 (dk_at dksX1_aWord_1 3 rfl rfl)
theorem dX1_aWord_28 : decode cX1_aWord 28 = .ok (.aload_n 0, 1) := dk_42 (dk_at dksX1_aWord_1 6 rfl rfl)
theorem dX1_aWord_29 : decode cX1_aWord 29 = .ok (.getfield 49, 3) := dk_180 0 49 (dk_at dksX1_aWord_1 7 rfl rfl)
theorem dX1_aWord_32 : decode cX1_aWord 32 = .ok (.getfield 173, 3) := dk_180 0 173 (dk_at dksX1_aWord_1 10 rfl rfl)
theorem dX1_aWord_35 : decode cX1_aWord 35 = .ok (.iload_n 1, 1) := dk_27 (dk_at dksX1_aWord_1 13 rfl rfl)
theorem dX1_aWord_36 : decode cX1_aWord 36 = .ok (.invokevirtual 135, 3) := dk_182 0 135 (dk_at dksX1_aWord_1 14 rfl rfl)
theorem dX1_aWord_39 : decode cX1_aWord 39 = .ok (.checkcast 194, 3) := dk_192 0 194 (dk_at dksX1_aWord_1 17 rfl rfl)
theorem dX1_aWord_42 : decode cX1_aWord 42 = .ok (.goto 4, 3) := dk_167 0 4 (dk_at dksX1_aWord_1 20 rfl rfl)
theorem dX1_aWord_45 : decode cX1_aWord 45 = .ok (.aconst_null, 1) := dk_1 (dk_at dksX1_aWord_1 23 rfl rfl)
theorem dX1_aWord_46 : decode cX1_aWord 46 = .ok (.areturn, 1) := dk_176 (dk_at dksX1_aWord_2 0 rfl rfl)
abbrev cX1_bitsOf : ByteArray := prog_1_method_24_code
def yX1_bitsOf : MethodName := ⟨RX1, "bitsOf", "(I)I"⟩
def dkwX1_bitsOf_4 : List UInt8 := [5, 160, 0, 10, 29, 16, 64, 128, 167, 0, 4, 29, 172]
abbrev dktX1_bitsOf_4 : List UInt8 := dkwX1_bitsOf_4 ++ []
def dkwX1_bitsOf_3 : List UInt8 := [167, 0, 4, 3, 128, 44, 182, 1, 2, 153, 0, 8, 16, 32, 167, 0, 4, 3, 128, 62, 29, 16, 30, 126]
abbrev dktX1_bitsOf_3 : List UInt8 := dkwX1_bitsOf_3 ++ dktX1_bitsOf_4
def dkwX1_bitsOf_2 : List UInt8 := [44, 182, 0, 252, 153, 0, 8, 16, 8, 167, 0, 4, 3, 128, 44, 182, 0, 255, 153, 0, 8, 16, 16]
abbrev dktX1_bitsOf_2 : List UInt8 := dkwX1_bitsOf_2 ++ dktX1_bitsOf_3
def dkwX1_bitsOf_1 : List UInt8 := [153, 0, 7, 5, 167, 0, 4, 3, 128, 42, 27, 182, 0, 249, 2, 159, 0, 7, 7, 167, 0, 4, 3, 128]
abbrev dktX1_bitsOf_1 : List UInt8 := dkwX1_bitsOf_1 ++ dktX1_bitsOf_2
def dkwX1_bitsOf_0 : List UInt8 := [42, 27, 182, 0, 238, 77, 44, 182, 0, 242, 153, 0, 7, 4, 167, 0, 4, 3, 42, 27, 3, 182, 0, 245]
abbrev dktX1_bitsOf_0 : List UInt8 := dkwX1_bitsOf_0 ++ dktX1_bitsOf_1
theorem dksX1_bitsOf_0 : cX1_bitsOf.data.toList.drop 0 = dktX1_bitsOf_0 := by decide +kernel
theorem dksX1_bitsOf_1 : cX1_bitsOf.data.toList.drop 24 = dktX1_bitsOf_1 := dk_seg dksX1_bitsOf_0 24 rfl rfl
theorem dksX1_bitsOf_2 : cX1_bitsOf.data.toList.drop 48 = dktX1_bitsOf_2 := dk_seg dksX1_bitsOf_1 24 rfl rfl
theorem dksX1_bitsOf_3 : cX1_bitsOf.data.toList.drop 71 = dktX1_bitsOf_3 := dk_seg dksX1_bitsOf_2 23 rfl rfl
theorem dksX1_bitsOf_4 : cX1_bitsOf.data.toList.drop 95 = dktX1_bitsOf_4 := dk_seg dksX1_bitsOf_3 24 rfl rfl
theorem dX1_bitsOf_0 : decode cX1_bitsOf 0 = .ok (.aload_n 0, 1) := dk_42 (dk_at dksX1_bitsOf_0 0 rfl rfl)
theorem dX1_bitsOf_1 : decode cX1_bitsOf 1 = .ok (.iload_n 1, 1) := dk_27 (dk_at dksX1_bitsOf_0 1 rfl rfl)
theorem dX1_bitsOf_2 : decode cX1_bitsOf 2 = .ok (.invokevirtual 238, 3) := dk_182 0 238 (dk_at dksX1_bitsOf_0 2 rfl rfl)
theorem dX1_bitsOf_5 : decode cX1_bitsOf 5 = .ok (.astore_n 2, 1) := dk_77 (dk_at dksX1_bitsOf_0 5 rfl rfl)
theorem dX1_bitsOf_6 : decode cX1_bitsOf 6 = .ok (.aload_n 2, 1) := dk_44 (dk_at dksX1_bitsOf_0 6 rfl rfl)
theorem dX1_bitsOf_7 : decode cX1_bitsOf 7 = .ok (.invokevirtual 242, 3) := dk_182 0 242 (dk_at dksX1_bitsOf_0 7 rfl rfl)
theorem dX1_bitsOf_10 : decode cX1_bitsOf 10 = .ok (.ifCond .eq 7, 3) := dk_153 0 7 (dk_at dksX1_bitsOf_0 10 rfl rfl)
theorem dX1_bitsOf_13 : decode cX1_bitsOf 13 = .ok (.iconst 1, 1) := dk_4 (dk_at dksX1_bitsOf_0 13 rfl rfl)
theorem dX1_bitsOf_14 : decode cX1_bitsOf 14 = .ok (.goto 4, 3) := dk_167 0 4 (dk_at dksX1_bitsOf_0 14 rfl rfl)
theorem dX1_bitsOf_17 : decode cX1_bitsOf 17 = .ok (.iconst 0, 1) := dk_3 (dk_at dksX1_bitsOf_0 17 rfl rfl)
theorem dX1_bitsOf_18 : decode cX1_bitsOf 18 = .ok (.aload_n 0, 1) := dk_42 (dk_at dksX1_bitsOf_0 18 rfl rfl)
theorem dX1_bitsOf_19 : decode cX1_bitsOf 19 = .ok (.iload_n 1, 1) := dk_27 (dk_at dksX1_bitsOf_0 19 rfl rfl)
theorem dX1_bitsOf_20 : decode cX1_bitsOf 20 = .ok (.iconst 0, 1) := dk_3 (dk_at dksX1_bitsOf_0 20 rfl rfl)
theorem dX1_bitsOf_21 : decode cX1_bitsOf 21 = .ok (.invokevirtual 245, 3) := dk_182 0 245 (dk_at dksX1_bitsOf_0 21 rfl rfl)
theorem dX1_bitsOf_24 : decode cX1_bitsOf 24 = .ok (.ifCond .eq 7, 3) := dk_153 0 7 (dk_at dksX1_bitsOf_1 0 rfl rfl)
theorem dX1_bitsOf_27 : decode cX1_bitsOf 27 = .ok (.iconst 2, 1) := dk_5 (dk_at dksX1_bitsOf_1 3 rfl rfl)
theorem dX1_bitsOf_28 : decode cX1_bitsOf 28 = .ok (.goto 4, 3) := dk_167 0 4 (dk_at dksX1_bitsOf_1 4 rfl rfl)
theorem dX1_bitsOf_31 : decode cX1_bitsOf 31 = .ok (.iconst 0, 1) := dk_3 (dk_at dksX1_bitsOf_1 7 rfl rfl)
theorem dX1_bitsOf_32 : decode cX1_bitsOf 32 = .ok (.ior, 1) := dk_128 (dk_at dksX1_bitsOf_1 8 rfl rfl)
theorem dX1_bitsOf_33 : decode cX1_bitsOf 33 = .ok (.aload_n 0, 1) := dk_42 (dk_at dksX1_bitsOf_1 9 rfl rfl)
theorem dX1_bitsOf_34 : decode cX1_bitsOf 34 = .ok (.iload_n 1, 1) := dk_27 (dk_at dksX1_bitsOf_1 10 rfl rfl)
theorem dX1_bitsOf_35 : decode cX1_bitsOf 35 = .ok (.invokevirtual 249, 3) := dk_182 0 249 (dk_at dksX1_bitsOf_1 11 rfl rfl)
theorem dX1_bitsOf_38 : decode cX1_bitsOf 38 = .ok (.iconst (-1), 1) := dk_2 (dk_at dksX1_bitsOf_1 14 rfl rfl)
theorem dX1_bitsOf_39 : decode cX1_bitsOf 39 = .ok (.if_icmp .eq 7, 3) := dk_159 0 7 (dk_at dksX1_bitsOf_1 15 rfl rfl)
theorem dX1_bitsOf_42 : decode cX1_bitsOf 42 = .ok (.iconst 4, 1) := dk_7 (dk_at dksX1_bitsOf_1 18 rfl rfl)
theorem dX1_bitsOf_43 : decode cX1_bitsOf 43 = .ok (.goto 4, 3) := dk_167 0 4 (dk_at dksX1_bitsOf_1 19 rfl rfl)
theorem dX1_bitsOf_46 : decode cX1_bitsOf 46 = .ok (.iconst 0, 1) := dk_3 (dk_at dksX1_bitsOf_1 22 rfl rfl)
theorem dX1_bitsOf_47 : decode cX1_bitsOf 47 = .ok (.ior, 1) := dk_128 (dk_at dksX1_bitsOf_1 23 rfl rfl)
theorem dX1_bitsOf_48 : decode cX1_bitsOf 48 = .ok (.aload_n 2, 1) := dk_44 (dk_at dksX1_bitsOf_2 0 rfl rfl)
theorem dX1_bitsOf_49 : decode cX1_bitsOf 49 = .ok (.invokevirtual 252, 3) := dk_182 0 252 (dk_at dksX1_bitsOf_2 1 rfl rfl)
theorem dX1_bitsOf_52 : decode cX1_bitsOf 52 = .ok (.ifCond .eq 8, 3) := dk_153 0 8 (dk_at dksX1_bitsOf_2 4 rfl rfl)
theorem dX1_bitsOf_55 : decode cX1_bitsOf 55 = .ok (.bipush 8, 2) := dk_16 8 (dk_at dksX1_bitsOf_2 7 rfl rfl)
theorem dX1_bitsOf_57 : decode cX1_bitsOf 57 = .ok (.goto 4, 3) := dk_167 0 4 (dk_at dksX1_bitsOf_2 9 rfl rfl)
theorem dX1_bitsOf_60 : decode cX1_bitsOf 60 = .ok (.iconst 0, 1) := dk_3 (dk_at dksX1_bitsOf_2 12 rfl rfl)
theorem dX1_bitsOf_61 : decode cX1_bitsOf 61 = .ok (.ior, 1) := dk_128 (dk_at dksX1_bitsOf_2 13 rfl rfl)
theorem dX1_bitsOf_62 : decode cX1_bitsOf 62 = .ok (.aload_n 2, 1) := dk_44 (dk_at dksX1_bitsOf_2 14 rfl rfl)
theorem dX1_bitsOf_63 : decode cX1_bitsOf 63 = .ok (.invokevirtual 255, 3) := dk_182 0 255 (dk_at dksX1_bitsOf_2 15 rfl rfl)
theorem dX1_bitsOf_66 : decode cX1_bitsOf 66 = .ok (.ifCond .eq 8, 3) := dk_153 0 8 (dk_at dksX1_bitsOf_2 18 rfl rfl)
theorem dX1_bitsOf_69 : decode cX1_bitsOf 69 = .ok (.bipush 16, 2) := dk_16 16 (dk_at dksX1_bitsOf_2 21 rfl rfl)
theorem dX1_bitsOf_71 : decode cX1_bitsOf 71 = .ok (.goto 4, 3) := dk_167 0 4 (dk_at dksX1_bitsOf_3 0 rfl rfl)
theorem dX1_bitsOf_74 : decode cX1_bitsOf 74 = .ok (.iconst 0, 1) := dk_3 (dk_at dksX1_bitsOf_3 3 rfl rfl)
theorem dX1_bitsOf_75 : decode cX1_bitsOf 75 = .ok (.ior, 1) := dk_128 (dk_at dksX1_bitsOf_3 4 rfl rfl)
theorem dX1_bitsOf_76 : decode cX1_bitsOf 76 = .ok (.aload_n 2, 1) := dk_44 (dk_at dksX1_bitsOf_3 5 rfl rfl)
theorem dX1_bitsOf_77 : decode cX1_bitsOf 77 = .ok (.invokevirtual 258, 3) := dk_182 1 2 (dk_at dksX1_bitsOf_3 6 rfl rfl)
theorem dX1_bitsOf_80 : decode cX1_bitsOf 80 = .ok (.ifCond .eq 8, 3) := dk_153 0 8 (dk_at dksX1_bitsOf_3 9 rfl rfl)
theorem dX1_bitsOf_83 : decode cX1_bitsOf 83 = .ok (.bipush 32, 2) := dk_16 32 (dk_at dksX1_bitsOf_3 12 rfl rfl)
theorem dX1_bitsOf_85 : decode cX1_bitsOf 85 = .ok (.goto 4, 3) := dk_167 0 4 (dk_at dksX1_bitsOf_3 14 rfl rfl)
theorem dX1_bitsOf_88 : decode cX1_bitsOf 88 = .ok (.iconst 0, 1) := dk_3 (dk_at dksX1_bitsOf_3 17 rfl rfl)
theorem dX1_bitsOf_89 : decode cX1_bitsOf 89 = .ok (.ior, 1) := dk_128 (dk_at dksX1_bitsOf_3 18 rfl rfl)
theorem dX1_bitsOf_90 : decode cX1_bitsOf 90 = .ok (.istore_n 3, 1) := dk_62 (dk_at dksX1_bitsOf_3 19 rfl rfl)
theorem dX1_bitsOf_91 : decode cX1_bitsOf 91 = .ok (.iload_n 3, 1) := dk_29 (dk_at dksX1_bitsOf_3 20 rfl rfl)
theorem dX1_bitsOf_92 : decode cX1_bitsOf 92 = .ok (.bipush 30, 2) := dk_16 30 (dk_at dksX1_bitsOf_3 21 rfl rfl)
theorem dX1_bitsOf_94 : decode cX1_bitsOf 94 = .ok (.iand, 1) := dk_126 (dk_at dksX1_bitsOf_3 23 rfl rfl)
theorem dX1_bitsOf_95 : decode cX1_bitsOf 95 = .ok (.iconst 2, 1) := dk_5 (dk_at dksX1_bitsOf_4 0 rfl rfl)
theorem dX1_bitsOf_96 : decode cX1_bitsOf 96 = .ok (.if_icmp .ne 10, 3) := dk_160 0 10 (dk_at dksX1_bitsOf_4 1 rfl rfl)
theorem dX1_bitsOf_99 : decode cX1_bitsOf 99 = .ok (.iload_n 3, 1) := dk_29 (dk_at dksX1_bitsOf_4 4 rfl rfl)
theorem dX1_bitsOf_100 : decode cX1_bitsOf 100 = .ok (.bipush 64, 2) := dk_16 64 (dk_at dksX1_bitsOf_4 5 rfl rfl)
theorem dX1_bitsOf_102 : decode cX1_bitsOf 102 = .ok (.ior, 1) := dk_128 (dk_at dksX1_bitsOf_4 7 rfl rfl)
theorem dX1_bitsOf_103 : decode cX1_bitsOf 103 = .ok (.goto 4, 3) := dk_167 0 4 (dk_at dksX1_bitsOf_4 8 rfl rfl)
theorem dX1_bitsOf_106 : decode cX1_bitsOf 106 = .ok (.iload_n 3, 1) := dk_29 (dk_at dksX1_bitsOf_4 11 rfl rfl)
theorem dX1_bitsOf_107 : decode cX1_bitsOf 107 = .ok (.ireturn, 1) := dk_172 (dk_at dksX1_bitsOf_4 12 rfl rfl)
abbrev cX1_isFirst : ByteArray := prog_1_method_22_code
def yX1_isFirst : MethodName := ⟨RX1, "isFirst", "(IZ)Z"⟩
def dkwX1_isFirst_3 : List UInt8 := [167, 255, 205, 4, 172]
abbrev dktX1_isFirst_3 : List UInt8 := dkwX1_isFirst_3 ++ []
def dkwX1_isFirst_2 : List UInt8 := [180, 0, 173, 21, 4, 182, 0, 135, 192, 0, 176, 28, 182, 0, 231, 153, 0, 5, 3, 172, 132, 4, 1]
abbrev dktX1_isFirst_2 : List UInt8 := dkwX1_isFirst_2 ++ dktX1_isFirst_3
def dkwX1_isFirst_1 : List UInt8 := [42, 21, 4, 45, 180, 0, 181, 45, 180, 0, 184, 182, 0, 227, 198, 0, 28, 42, 42, 180, 0, 49]
abbrev dktX1_isFirst_1 : List UInt8 := dkwX1_isFirst_1 ++ dktX1_isFirst_2
def dkwX1_isFirst_0 : List UInt8 := [42, 180, 0, 49, 180, 0, 173, 27, 182, 0, 135, 192, 0, 176, 78, 3, 54, 4, 21, 4, 27, 162, 0, 51]
abbrev dktX1_isFirst_0 : List UInt8 := dkwX1_isFirst_0 ++ dktX1_isFirst_1
theorem dksX1_isFirst_0 : cX1_isFirst.data.toList.drop 0 = dktX1_isFirst_0 := by decide +kernel
theorem dksX1_isFirst_1 : cX1_isFirst.data.toList.drop 24 = dktX1_isFirst_1 := dk_seg dksX1_isFirst_0 24 rfl rfl
theorem dksX1_isFirst_2 : cX1_isFirst.data.toList.drop 46 = dktX1_isFirst_2 := dk_seg dksX1_isFirst_1 22 rfl rfl
theorem dksX1_isFirst_3 : cX1_isFirst.data.toList.drop 69 = dktX1_isFirst_3 := dk_seg dksX1_isFirst_2 23 rfl rfl
theorem dX1_isFirst_0 : decode cX1_isFirst 0 = .ok (.aload_n 0, 1) := dk_42 (dk_at dksX1_isFirst_0 0 rfl rfl)
theorem dX1_isFirst_1 : decode cX1_isFirst 1 = .ok (.getfield 49, 3) := dk_180 0 49 (dk_at dksX1_isFirst_0 1 rfl rfl)
theorem dX1_isFirst_4 : decode cX1_isFirst 4 = .ok (.getfield 173, 3) := dk_180 0 173 (dk_at dksX1_isFirst_0 4 rfl rfl)
theorem dX1_isFirst_7 : decode cX1_isFirst 7 = .ok (.iload_n 1, 1) := dk_27 (dk_at dksX1_isFirst_0 7 rfl rfl)
theorem dX1_isFirst_8 : decode cX1_isFirst 8 = .ok (.invokevirtual 135, 3) := dk_182 0 135 (dk_at dksX1_isFirst_0 8 rfl rfl)
theorem dX1_isFirst_11 : decode cX1_isFirst 11 = .ok (.checkcast 176, 3) := dk_192 0 176 (dk_at dksX1_isFirst_0 11 rfl rfl)
theorem dX1_isFirst_14 : decode cX1_isFirst 14 = .ok (.astore_n 3, 1) := dk_78 (dk_at dksX1_isFirst_0 14 rfl rfl)
theorem dX1_isFirst_15 : decode cX1_isFirst 15 = .ok (.iconst 0, 1) := dk_3 (dk_at dksX1_isFirst_0 15 rfl rfl)
theorem dX1_isFirst_16 : decode cX1_isFirst 16 = .ok (.istore 4, 2) := dk_54 4 (dk_at dksX1_isFirst_0 16 rfl rfl)
theorem dX1_isFirst_18 : decode cX1_isFirst 18 = .ok (.iload 4, 2) := dk_21 4 (dk_at dksX1_isFirst_0 18 rfl rfl)
theorem dX1_isFirst_20 : decode cX1_isFirst 20 = .ok (.iload_n 1, 1) := dk_27 (dk_at dksX1_isFirst_0 20 rfl rfl)
theorem dX1_isFirst_21 : decode cX1_isFirst 21 = .ok (.if_icmp .ge 51, 3) := dk_162 0 51 (dk_at dksX1_isFirst_0 21 rfl rfl)
theorem dX1_isFirst_24 : decode cX1_isFirst 24 = .ok (.aload_n 0, 1) := dk_42 (dk_at dksX1_isFirst_1 0 rfl rfl)
theorem dX1_isFirst_25 : decode cX1_isFirst 25 = .ok (.iload 4, 2) := dk_21 4 (dk_at dksX1_isFirst_1 1 rfl rfl)
theorem dX1_isFirst_27 : decode cX1_isFirst 27 = .ok (.aload_n 3, 1) := dk_45 (dk_at dksX1_isFirst_1 3 rfl rfl)
theorem dX1_isFirst_28 : decode cX1_isFirst 28 = .ok (.getfield 181, 3) := dk_180 0 181 (dk_at dksX1_isFirst_1 4 rfl rfl)
theorem dX1_isFirst_31 : decode cX1_isFirst 31 = .ok (.aload_n 3, 1) := dk_45 (dk_at dksX1_isFirst_1 7 rfl rfl)
theorem dX1_isFirst_32 : decode cX1_isFirst 32 = .ok (.getfield 184, 3) := dk_180 0 184 (dk_at dksX1_isFirst_1 8 rfl rfl)
theorem dX1_isFirst_35 : decode cX1_isFirst 35 = .ok (.invokevirtual 227, 3) := dk_182 0 227 (dk_at dksX1_isFirst_1 11 rfl rfl)
theorem dX1_isFirst_38 : decode cX1_isFirst 38 = .ok (.ifnull 28, 3) := dk_198 0 28 (dk_at dksX1_isFirst_1 14 rfl rfl)
theorem dX1_isFirst_41 : decode cX1_isFirst 41 = .ok (.aload_n 0, 1) := dk_42 (dk_at dksX1_isFirst_1 17 rfl rfl)
theorem dX1_isFirst_42 : decode cX1_isFirst 42 = .ok (.aload_n 0, 1) := dk_42 (dk_at dksX1_isFirst_1 18 rfl rfl)
theorem dX1_isFirst_43 : decode cX1_isFirst 43 = .ok (.getfield 49, 3) := dk_180 0 49 (dk_at dksX1_isFirst_1 19 rfl rfl)
theorem dX1_isFirst_46 : decode cX1_isFirst 46 = .ok (.getfield 173, 3) := dk_180 0 173 (dk_at dksX1_isFirst_2 0 rfl rfl)
theorem dX1_isFirst_49 : decode cX1_isFirst 49 = .ok (.iload 4, 2) := dk_21 4 (dk_at dksX1_isFirst_2 3 rfl rfl)
theorem dX1_isFirst_51 : decode cX1_isFirst 51 = .ok (.invokevirtual 135, 3) := dk_182 0 135 (dk_at dksX1_isFirst_2 5 rfl rfl)
theorem dX1_isFirst_54 : decode cX1_isFirst 54 = .ok (.checkcast 176, 3) := dk_192 0 176 (dk_at dksX1_isFirst_2 8 rfl rfl)
theorem dX1_isFirst_57 : decode cX1_isFirst 57 = .ok (.iload_n 2, 1) := dk_28 (dk_at dksX1_isFirst_2 11 rfl rfl)
theorem dX1_isFirst_58 : decode cX1_isFirst 58 = .ok (.invokevirtual 231, 3) := dk_182 0 231 (dk_at dksX1_isFirst_2 12 rfl rfl)
theorem dX1_isFirst_61 : decode cX1_isFirst 61 = .ok (.ifCond .eq 5, 3) := dk_153 0 5 (dk_at dksX1_isFirst_2 15 rfl rfl)
theorem dX1_isFirst_64 : decode cX1_isFirst 64 = .ok (.iconst 0, 1) := dk_3 (dk_at dksX1_isFirst_2 18 rfl rfl)
theorem dX1_isFirst_65 : decode cX1_isFirst 65 = .ok (.ireturn, 1) := dk_172 (dk_at dksX1_isFirst_2 19 rfl rfl)
theorem dX1_isFirst_66 : decode cX1_isFirst 66 = .ok (.iinc 4 1, 3) := dk_132 4 1 (dk_at dksX1_isFirst_2 20 rfl rfl)
theorem dX1_isFirst_69 : decode cX1_isFirst 69 = .ok (.goto (-51), 3) := dk_167 255 205 (dk_at dksX1_isFirst_3 0 rfl rfl)
theorem dX1_isFirst_72 : decode cX1_isFirst 72 = .ok (.iconst 1, 1) := dk_4 (dk_at dksX1_isFirst_3 3 rfl rfl)
theorem dX1_isFirst_73 : decode cX1_isFirst 73 = .ok (.ireturn, 1) := dk_172 (dk_at dksX1_isFirst_3 4 rfl rfl)
abbrev cX1_word_2 : ByteArray := prog_1_method_15_code
def yX1_word_2 : MethodName := ⟨RX1, "word", "(III)LSaidSo$Word;"⟩
def dkwX1_word_2_1 : List UInt8 := [192, 0, 194, 167, 0, 4, 1, 176]
abbrev dktX1_word_2_1 : List UInt8 := dkwX1_word_2_1 ++ []
def dkwX1_word_2_0 : List UInt8 := [42, 27, 28, 29, 182, 0, 187, 58, 4, 25, 4, 198, 0, 19, 25, 4, 182, 0, 190, 153, 0, 11, 25, 4]
abbrev dktX1_word_2_0 : List UInt8 := dkwX1_word_2_0 ++ dktX1_word_2_1
theorem dksX1_word_2_0 : cX1_word_2.data.toList.drop 0 = dktX1_word_2_0 := by decide +kernel
theorem dksX1_word_2_1 : cX1_word_2.data.toList.drop 24 = dktX1_word_2_1 := dk_seg dksX1_word_2_0 24 rfl rfl
theorem dX1_word_2_0 : decode cX1_word_2 0 = .ok (.aload_n 0, 1) := dk_42 (dk_at dksX1_word_2_0 0 rfl rfl)
theorem dX1_word_2_1 : decode cX1_word_2 1 = .ok (.iload_n 1, 1) := dk_27 (dk_at dksX1_word_2_0 1 rfl rfl)
theorem dX1_word_2_2 : decode cX1_word_2 2 = .ok (.iload_n 2, 1) := dk_28 (dk_at dksX1_word_2_0 2 rfl rfl)
theorem dX1_word_2_3 : decode cX1_word_2 3 = .ok (.iload_n 3, 1) := dk_29 (dk_at dksX1_word_2_0 3 rfl rfl)
theorem dX1_word_2_4 : decode cX1_word_2 4 = .ok (.invokevirtual 187, 3) := dk_182 0 187 (dk_at dksX1_word_2_0 4 rfl rfl)
theorem dX1_word_2_7 : decode cX1_word_2 7 = .ok (.astore 4, 2) := dk_58 4 (dk_at dksX1_word_2_0 7 rfl rfl)
theorem dX1_word_2_9 : decode cX1_word_2 9 = .ok (.aload 4, 2) := dk_25 4 (dk_at dksX1_word_2_0 9 rfl rfl)
theorem dX1_word_2_11 : decode cX1_word_2 11 = .ok (.ifnull 19, 3) := dk_198 0 19 (dk_at dksX1_word_2_0 11 rfl rfl)
theorem dX1_word_2_14 : decode cX1_word_2 14 = .ok (.aload 4, 2) := dk_25 4 (dk_at dksX1_word_2_0 14 rfl rfl)
theorem dX1_word_2_16 : decode cX1_word_2 16 = .ok (.invokevirtual 190, 3) := dk_182 0 190 (dk_at dksX1_word_2_0 16 rfl rfl)
theorem dX1_word_2_19 : decode cX1_word_2 19 = .ok (.ifCond .eq 11, 3) := dk_153 0 11 (dk_at dksX1_word_2_0 19 rfl rfl)
theorem dX1_word_2_22 : decode cX1_word_2 22 = .ok (.aload 4, 2) := dk_25 4 (dk_at dksX1_word_2_0 22 rfl rfl)
theorem dX1_word_2_24 : decode cX1_word_2 24 = .ok (.checkcast 194, 3) := dk_192 0 194 (dk_at dksX1_word_2_1 0 rfl rfl)
theorem dX1_word_2_27 : decode cX1_word_2 27 = .ok (.goto 4, 3) := dk_167 0 4 (dk_at dksX1_word_2_1 3 rfl rfl)
theorem dX1_word_2_30 : decode cX1_word_2 30 = .ok (.aconst_null, 1) := dk_1 (dk_at dksX1_word_2_1 6 rfl rfl)
theorem dX1_word_2_31 : decode cX1_word_2 31 = .ok (.areturn, 1) := dk_176 (dk_at dksX1_word_2_1 7 rfl rfl)
abbrev cX1_heard : ByteArray := prog_1_method_14_code
def yX1_heard : MethodName := ⟨RX1, "heard", "(III)LSaidSo$Line;"⟩
def dkwX1_heard_2 : List UInt8 := [180, 0, 184, 29, 160, 0, 8, 25, 4, 167, 0, 4, 1, 176]
abbrev dktX1_heard_2 : List UInt8 := dkwX1_heard_2 ++ []
def dkwX1_heard_1 : List UInt8 := [180, 0, 25, 163, 0, 31, 25, 4, 180, 0, 181, 28, 160, 0, 22, 29, 2, 159, 0, 12, 25, 4]
abbrev dktX1_heard_1 : List UInt8 := dkwX1_heard_1 ++ dktX1_heard_2
def dkwX1_heard_0 : List UInt8 := [42, 180, 0, 49, 180, 0, 173, 27, 182, 0, 135, 192, 0, 176, 58, 4, 25, 4, 180, 0, 178, 42]
abbrev dktX1_heard_0 : List UInt8 := dkwX1_heard_0 ++ dktX1_heard_1
theorem dksX1_heard_0 : cX1_heard.data.toList.drop 0 = dktX1_heard_0 := by decide +kernel
theorem dksX1_heard_1 : cX1_heard.data.toList.drop 22 = dktX1_heard_1 := dk_seg dksX1_heard_0 22 rfl rfl
theorem dksX1_heard_2 : cX1_heard.data.toList.drop 44 = dktX1_heard_2 := dk_seg dksX1_heard_1 22 rfl rfl
theorem dX1_heard_0 : decode cX1_heard 0 = .ok (.aload_n 0, 1) := dk_42 (dk_at dksX1_heard_0 0 rfl rfl)
theorem dX1_heard_1 : decode cX1_heard 1 = .ok (.getfield 49, 3) := dk_180 0 49 (dk_at dksX1_heard_0 1 rfl rfl)
theorem dX1_heard_4 : decode cX1_heard 4 = .ok (.getfield 173, 3) := dk_180 0 173 (dk_at dksX1_heard_0 4 rfl rfl)
theorem dX1_heard_7 : decode cX1_heard 7 = .ok (.iload_n 1, 1) := dk_27 (dk_at dksX1_heard_0 7 rfl rfl)
theorem dX1_heard_8 : decode cX1_heard 8 = .ok (.invokevirtual 135, 3) := dk_182 0 135 (dk_at dksX1_heard_0 8 rfl rfl)
theorem dX1_heard_11 : decode cX1_heard 11 = .ok (.checkcast 176, 3) := dk_192 0 176 (dk_at dksX1_heard_0 11 rfl rfl)
theorem dX1_heard_14 : decode cX1_heard 14 = .ok (.astore 4, 2) := dk_58 4 (dk_at dksX1_heard_0 14 rfl rfl)
theorem dX1_heard_16 : decode cX1_heard 16 = .ok (.aload 4, 2) := dk_25 4 (dk_at dksX1_heard_0 16 rfl rfl)
theorem dX1_heard_18 : decode cX1_heard 18 = .ok (.getfield 178, 3) := dk_180 0 178 (dk_at dksX1_heard_0 18 rfl rfl)
theorem dX1_heard_21 : decode cX1_heard 21 = .ok (.aload_n 0, 1) := dk_42 (dk_at dksX1_heard_0 21 rfl rfl)
theorem dX1_heard_22 : decode cX1_heard 22 = .ok (.getfield 25, 3) := dk_180 0 25 (dk_at dksX1_heard_1 0 rfl rfl)
theorem dX1_heard_25 : decode cX1_heard 25 = .ok (.if_icmp .gt 31, 3) := dk_163 0 31 (dk_at dksX1_heard_1 3 rfl rfl)
theorem dX1_heard_28 : decode cX1_heard 28 = .ok (.aload 4, 2) := dk_25 4 (dk_at dksX1_heard_1 6 rfl rfl)
theorem dX1_heard_30 : decode cX1_heard 30 = .ok (.getfield 181, 3) := dk_180 0 181 (dk_at dksX1_heard_1 8 rfl rfl)
theorem dX1_heard_33 : decode cX1_heard 33 = .ok (.iload_n 2, 1) := dk_28 (dk_at dksX1_heard_1 11 rfl rfl)
theorem dX1_heard_34 : decode cX1_heard 34 = .ok (.if_icmp .ne 22, 3) := dk_160 0 22 (dk_at dksX1_heard_1 12 rfl rfl)
theorem dX1_heard_37 : decode cX1_heard 37 = .ok (.iload_n 3, 1) := dk_29 (dk_at dksX1_heard_1 15 rfl rfl)
theorem dX1_heard_38 : decode cX1_heard 38 = .ok (.iconst (-1), 1) := dk_2 (dk_at dksX1_heard_1 16 rfl rfl)
theorem dX1_heard_39 : decode cX1_heard 39 = .ok (.if_icmp .eq 12, 3) := dk_159 0 12 (dk_at dksX1_heard_1 17 rfl rfl)
theorem dX1_heard_42 : decode cX1_heard 42 = .ok (.aload 4, 2) := dk_25 4 (dk_at dksX1_heard_1 20 rfl rfl)
theorem dX1_heard_44 : decode cX1_heard 44 = .ok (.getfield 184, 3) := dk_180 0 184 (dk_at dksX1_heard_2 0 rfl rfl)
theorem dX1_heard_47 : decode cX1_heard 47 = .ok (.iload_n 3, 1) := dk_29 (dk_at dksX1_heard_2 3 rfl rfl)
theorem dX1_heard_48 : decode cX1_heard 48 = .ok (.if_icmp .ne 8, 3) := dk_160 0 8 (dk_at dksX1_heard_2 4 rfl rfl)
theorem dX1_heard_51 : decode cX1_heard 51 = .ok (.aload 4, 2) := dk_25 4 (dk_at dksX1_heard_2 7 rfl rfl)
theorem dX1_heard_53 : decode cX1_heard 53 = .ok (.goto 4, 3) := dk_167 0 4 (dk_at dksX1_heard_2 9 rfl rfl)
theorem dX1_heard_56 : decode cX1_heard 56 = .ok (.aconst_null, 1) := dk_1 (dk_at dksX1_heard_2 12 rfl rfl)
theorem dX1_heard_57 : decode cX1_heard 57 = .ok (.areturn, 1) := dk_176 (dk_at dksX1_heard_2 13 rfl rfl)
abbrev cX1_counts : ByteArray := prog_1_method_21_code
def yX1_counts : MethodName := ⟨RX1, "counts", "(LSaidSo$Line;Z)Z"⟩
def dkwX1_counts_0 : List UInt8 := [28, 153, 0, 17, 43, 180, 0, 221, 43, 180, 0, 178, 182, 0, 224, 153, 0, 7, 4, 167, 0, 4, 3, 172]
abbrev dktX1_counts_0 : List UInt8 := dkwX1_counts_0 ++ []
theorem dksX1_counts_0 : cX1_counts.data.toList.drop 0 = dktX1_counts_0 := by decide +kernel
theorem dX1_counts_0 : decode cX1_counts 0 = .ok (.iload_n 2, 1) := dk_28 (dk_at dksX1_counts_0 0 rfl rfl)
theorem dX1_counts_1 : decode cX1_counts 1 = .ok (.ifCond .eq 17, 3) := dk_153 0 17 (dk_at dksX1_counts_0 1 rfl rfl)
theorem dX1_counts_4 : decode cX1_counts 4 = .ok (.aload_n 1, 1) := dk_43 (dk_at dksX1_counts_0 4 rfl rfl)
theorem dX1_counts_5 : decode cX1_counts 5 = .ok (.getfield 221, 3) := dk_180 0 221 (dk_at dksX1_counts_0 5 rfl rfl)
theorem dX1_counts_8 : decode cX1_counts 8 = .ok (.aload_n 1, 1) := dk_43 (dk_at dksX1_counts_0 8 rfl rfl)
theorem dX1_counts_9 : decode cX1_counts 9 = .ok (.getfield 178, 3) := dk_180 0 178 (dk_at dksX1_counts_0 9 rfl rfl)
theorem dX1_counts_12 : decode cX1_counts 12 = .ok (.invokevirtual 224, 3) := dk_182 0 224 (dk_at dksX1_counts_0 12 rfl rfl)
theorem dX1_counts_15 : decode cX1_counts 15 = .ok (.ifCond .eq 7, 3) := dk_153 0 7 (dk_at dksX1_counts_0 15 rfl rfl)
theorem dX1_counts_18 : decode cX1_counts 18 = .ok (.iconst 1, 1) := dk_4 (dk_at dksX1_counts_0 18 rfl rfl)
theorem dX1_counts_19 : decode cX1_counts 19 = .ok (.goto 4, 3) := dk_167 0 4 (dk_at dksX1_counts_0 19 rfl rfl)
theorem dX1_counts_22 : decode cX1_counts 22 = .ok (.iconst 0, 1) := dk_3 (dk_at dksX1_counts_0 22 rfl rfl)
theorem dX1_counts_23 : decode cX1_counts 23 = .ok (.ireturn, 1) := dk_172 (dk_at dksX1_counts_0 23 rfl rfl)
abbrev cX1_ledBy : ByteArray := prog_1_method_23_code
def yX1_ledBy : MethodName := ⟨RX1, "ledBy", "(I)I"⟩
def dkwX1_ledBy_3 : List UInt8 := [172]
abbrev dktX1_ledBy_3 : List UInt8 := dkwX1_ledBy_3 ++ []
def dkwX1_ledBy_2 : List UInt8 := [153, 0, 17, 25, 4, 180, 0, 199, 44, 180, 0, 199, 160, 0, 5, 29, 172, 132, 3, 255, 167, 255, 207, 2]
abbrev dktX1_ledBy_2 : List UInt8 := dkwX1_ledBy_2 ++ dktX1_ledBy_3
def dkwX1_ledBy_1 : List UInt8 := [29, 44, 180, 0, 181, 44, 180, 0, 184, 182, 0, 187, 58, 4, 25, 4, 198, 0, 25, 25, 4, 182, 0, 235]
abbrev dktX1_ledBy_1 : List UInt8 := dkwX1_ledBy_1 ++ dktX1_ledBy_2
def dkwX1_ledBy_0 : List UInt8 := [42, 180, 0, 49, 180, 0, 173, 27, 182, 0, 135, 192, 0, 176, 77, 27, 4, 100, 62, 29, 155, 0, 51, 42]
abbrev dktX1_ledBy_0 : List UInt8 := dkwX1_ledBy_0 ++ dktX1_ledBy_1
theorem dksX1_ledBy_0 : cX1_ledBy.data.toList.drop 0 = dktX1_ledBy_0 := by decide +kernel
theorem dksX1_ledBy_1 : cX1_ledBy.data.toList.drop 24 = dktX1_ledBy_1 := dk_seg dksX1_ledBy_0 24 rfl rfl
theorem dksX1_ledBy_2 : cX1_ledBy.data.toList.drop 48 = dktX1_ledBy_2 := dk_seg dksX1_ledBy_1 24 rfl rfl
theorem dksX1_ledBy_3 : cX1_ledBy.data.toList.drop 72 = dktX1_ledBy_3 := dk_seg dksX1_ledBy_2 24 rfl rfl
theorem dX1_ledBy_0 : decode cX1_ledBy 0 = .ok (.aload_n 0, 1) := dk_42 (dk_at dksX1_ledBy_0 0 rfl rfl)
theorem dX1_ledBy_1 : decode cX1_ledBy 1 = .ok (.getfield 49, 3) := dk_180 0 49 (dk_at dksX1_ledBy_0 1 rfl rfl)
theorem dX1_ledBy_4 : decode cX1_ledBy 4 = .ok (.getfield 173, 3) := dk_180 0 173 (dk_at dksX1_ledBy_0 4 rfl rfl)
theorem dX1_ledBy_7 : decode cX1_ledBy 7 = .ok (.iload_n 1, 1) := dk_27 (dk_at dksX1_ledBy_0 7 rfl rfl)
theorem dX1_ledBy_8 : decode cX1_ledBy 8 = .ok (.invokevirtual 135, 3) := dk_182 0 135 (dk_at dksX1_ledBy_0 8 rfl rfl)
theorem dX1_ledBy_11 : decode cX1_ledBy 11 = .ok (.checkcast 176, 3) := dk_192 0 176 (dk_at dksX1_ledBy_0 11 rfl rfl)
theorem dX1_ledBy_14 : decode cX1_ledBy 14 = .ok (.astore_n 2, 1) := dk_77 (dk_at dksX1_ledBy_0 14 rfl rfl)
theorem dX1_ledBy_15 : decode cX1_ledBy 15 = .ok (.iload_n 1, 1) := dk_27 (dk_at dksX1_ledBy_0 15 rfl rfl)
theorem dX1_ledBy_16 : decode cX1_ledBy 16 = .ok (.iconst 1, 1) := dk_4 (dk_at dksX1_ledBy_0 16 rfl rfl)
theorem dX1_ledBy_17 : decode cX1_ledBy 17 = .ok (.isub, 1) := dk_100 (dk_at dksX1_ledBy_0 17 rfl rfl)
theorem dX1_ledBy_18 : decode cX1_ledBy 18 = .ok (.istore_n 3, 1) := dk_62 (dk_at dksX1_ledBy_0 18 rfl rfl)
theorem dX1_ledBy_19 : decode cX1_ledBy 19 = .ok (.iload_n 3, 1) := dk_29 (dk_at dksX1_ledBy_0 19 rfl rfl)
theorem dX1_ledBy_20 : decode cX1_ledBy 20 = .ok (.ifCond .lt 51, 3) := dk_155 0 51 (dk_at dksX1_ledBy_0 20 rfl rfl)
theorem dX1_ledBy_23 : decode cX1_ledBy 23 = .ok (.aload_n 0, 1) := dk_42 (dk_at dksX1_ledBy_0 23 rfl rfl)
theorem dX1_ledBy_24 : decode cX1_ledBy 24 = .ok (.iload_n 3, 1) := dk_29 (dk_at dksX1_ledBy_1 0 rfl rfl)
theorem dX1_ledBy_25 : decode cX1_ledBy 25 = .ok (.aload_n 2, 1) := dk_44 (dk_at dksX1_ledBy_1 1 rfl rfl)
theorem dX1_ledBy_26 : decode cX1_ledBy 26 = .ok (.getfield 181, 3) := dk_180 0 181 (dk_at dksX1_ledBy_1 2 rfl rfl)
theorem dX1_ledBy_29 : decode cX1_ledBy 29 = .ok (.aload_n 2, 1) := dk_44 (dk_at dksX1_ledBy_1 5 rfl rfl)
theorem dX1_ledBy_30 : decode cX1_ledBy 30 = .ok (.getfield 184, 3) := dk_180 0 184 (dk_at dksX1_ledBy_1 6 rfl rfl)
theorem dX1_ledBy_33 : decode cX1_ledBy 33 = .ok (.invokevirtual 187, 3) := dk_182 0 187 (dk_at dksX1_ledBy_1 9 rfl rfl)
theorem dX1_ledBy_36 : decode cX1_ledBy 36 = .ok (.astore 4, 2) := dk_58 4 (dk_at dksX1_ledBy_1 12 rfl rfl)
theorem dX1_ledBy_38 : decode cX1_ledBy 38 = .ok (.aload 4, 2) := dk_25 4 (dk_at dksX1_ledBy_1 14 rfl rfl)
theorem dX1_ledBy_40 : decode cX1_ledBy 40 = .ok (.ifnull 25, 3) := dk_198 0 25 (dk_at dksX1_ledBy_1 16 rfl rfl)
theorem dX1_ledBy_43 : decode cX1_ledBy 43 = .ok (.aload 4, 2) := dk_25 4 (dk_at dksX1_ledBy_1 19 rfl rfl)
theorem dX1_ledBy_45 : decode cX1_ledBy 45 = .ok (.invokevirtual 235, 3) := dk_182 0 235 (dk_at dksX1_ledBy_1 21 rfl rfl)
theorem dX1_ledBy_48 : decode cX1_ledBy 48 = .ok (.ifCond .eq 17, 3) := dk_153 0 17 (dk_at dksX1_ledBy_2 0 rfl rfl)
theorem dX1_ledBy_51 : decode cX1_ledBy 51 = .ok (.aload 4, 2) := dk_25 4 (dk_at dksX1_ledBy_2 3 rfl rfl)
theorem dX1_ledBy_53 : decode cX1_ledBy 53 = .ok (.getfield 199, 3) := dk_180 0 199 (dk_at dksX1_ledBy_2 5 rfl rfl)
theorem dX1_ledBy_56 : decode cX1_ledBy 56 = .ok (.aload_n 2, 1) := dk_44 (dk_at dksX1_ledBy_2 8 rfl rfl)
theorem dX1_ledBy_57 : decode cX1_ledBy 57 = .ok (.getfield 199, 3) := dk_180 0 199 (dk_at dksX1_ledBy_2 9 rfl rfl)
theorem dX1_ledBy_60 : decode cX1_ledBy 60 = .ok (.if_icmp .ne 5, 3) := dk_160 0 5 (dk_at dksX1_ledBy_2 12 rfl rfl)
theorem dX1_ledBy_63 : decode cX1_ledBy 63 = .ok (.iload_n 3, 1) := dk_29 (dk_at dksX1_ledBy_2 15 rfl rfl)
theorem dX1_ledBy_64 : decode cX1_ledBy 64 = .ok (.ireturn, 1) := dk_172 (dk_at dksX1_ledBy_2 16 rfl rfl)
theorem dX1_ledBy_65 : decode cX1_ledBy 65 = .ok (.iinc 3 (-1), 3) := dk_132 3 255 (dk_at dksX1_ledBy_2 17 rfl rfl)
theorem dX1_ledBy_68 : decode cX1_ledBy 68 = .ok (.goto (-49), 3) := dk_167 255 207 (dk_at dksX1_ledBy_2 20 rfl rfl)
theorem dX1_ledBy_71 : decode cX1_ledBy 71 = .ok (.iconst (-1), 1) := dk_2 (dk_at dksX1_ledBy_2 23 rfl rfl)
theorem dX1_ledBy_72 : decode cX1_ledBy 72 = .ok (.ireturn, 1) := dk_172 (dk_at dksX1_ledBy_3 0 rfl rfl)
abbrev cX1_led : ByteArray := prog_1_method_26_code
def yX1_led : MethodName := ⟨RX1, "led", "(I)I"⟩
def dkwX1_led_0 : List UInt8 := [42, 27, 182, 0, 238, 199, 0, 7, 2, 167, 0, 8, 42, 27, 182, 0, 249, 172]
abbrev dktX1_led_0 : List UInt8 := dkwX1_led_0 ++ []
theorem dksX1_led_0 : cX1_led.data.toList.drop 0 = dktX1_led_0 := by decide +kernel
theorem dX1_led_0 : decode cX1_led 0 = .ok (.aload_n 0, 1) := dk_42 (dk_at dksX1_led_0 0 rfl rfl)
theorem dX1_led_1 : decode cX1_led 1 = .ok (.iload_n 1, 1) := dk_27 (dk_at dksX1_led_0 1 rfl rfl)
theorem dX1_led_2 : decode cX1_led 2 = .ok (.invokevirtual 238, 3) := dk_182 0 238 (dk_at dksX1_led_0 2 rfl rfl)
theorem dX1_led_5 : decode cX1_led 5 = .ok (.ifnonnull 7, 3) := dk_199 0 7 (dk_at dksX1_led_0 5 rfl rfl)
theorem dX1_led_8 : decode cX1_led 8 = .ok (.iconst (-1), 1) := dk_2 (dk_at dksX1_led_0 8 rfl rfl)
theorem dX1_led_9 : decode cX1_led 9 = .ok (.goto 8, 3) := dk_167 0 8 (dk_at dksX1_led_0 9 rfl rfl)
theorem dX1_led_12 : decode cX1_led 12 = .ok (.aload_n 0, 1) := dk_42 (dk_at dksX1_led_0 12 rfl rfl)
theorem dX1_led_13 : decode cX1_led 13 = .ok (.iload_n 1, 1) := dk_27 (dk_at dksX1_led_0 13 rfl rfl)
theorem dX1_led_14 : decode cX1_led 14 = .ok (.invokevirtual 249, 3) := dk_182 0 249 (dk_at dksX1_led_0 14 rfl rfl)
theorem dX1_led_17 : decode cX1_led 17 = .ok (.ireturn, 1) := dk_172 (dk_at dksX1_led_0 17 rfl rfl)
abbrev cX1_words : ByteArray := prog_1_method_27_code
def yX1_words : MethodName := ⟨RX1, "words", "(II)I"⟩
def dkwX1_words_3 : List UInt8 := [62, 132, 4, 1, 167, 255, 207, 29, 172]
abbrev dktX1_words_3 : List UInt8 := dkwX1_words_3 ++ []
def dkwX1_words_2 : List UInt8 := [182, 0, 227, 198, 0, 19, 42, 21, 4, 182, 1, 5, 28, 126, 28, 160, 0, 7, 4, 167, 0, 4, 3, 96]
abbrev dktX1_words_2 : List UInt8 := dkwX1_words_2 ++ dktX1_words_3
def dkwX1_words_1 : List UInt8 := [54, 4, 21, 4, 42, 180, 0, 49, 180, 0, 173, 182, 0, 119, 162, 0, 40, 29, 42, 21, 4, 27, 2]
abbrev dktX1_words_1 : List UInt8 := dkwX1_words_1 ++ dktX1_words_2
def dkwX1_words_0 : List UInt8 := [42, 27, 182, 0, 156, 153, 0, 13, 28, 4, 16, 127, 184, 0, 80, 154, 0, 5, 2, 172, 3, 62, 3]
abbrev dktX1_words_0 : List UInt8 := dkwX1_words_0 ++ dktX1_words_1
theorem dksX1_words_0 : cX1_words.data.toList.drop 0 = dktX1_words_0 := by decide +kernel
theorem dksX1_words_1 : cX1_words.data.toList.drop 23 = dktX1_words_1 := dk_seg dksX1_words_0 23 rfl rfl
theorem dksX1_words_2 : cX1_words.data.toList.drop 46 = dktX1_words_2 := dk_seg dksX1_words_1 23 rfl rfl
theorem dksX1_words_3 : cX1_words.data.toList.drop 70 = dktX1_words_3 := dk_seg dksX1_words_2 24 rfl rfl
theorem dX1_words_0 : decode cX1_words 0 = .ok (.aload_n 0, 1) := dk_42 (dk_at dksX1_words_0 0 rfl rfl)
theorem dX1_words_1 : decode cX1_words 1 = .ok (.iload_n 1, 1) := dk_27 (dk_at dksX1_words_0 1 rfl rfl)
theorem dX1_words_2 : decode cX1_words 2 = .ok (.invokevirtual 156, 3) := dk_182 0 156 (dk_at dksX1_words_0 2 rfl rfl)
theorem dX1_words_5 : decode cX1_words 5 = .ok (.ifCond .eq 13, 3) := dk_153 0 13 (dk_at dksX1_words_0 5 rfl rfl)
theorem dX1_words_8 : decode cX1_words 8 = .ok (.iload_n 2, 1) := dk_28 (dk_at dksX1_words_0 8 rfl rfl)
theorem dX1_words_9 : decode cX1_words 9 = .ok (.iconst 1, 1) := dk_4 (dk_at dksX1_words_0 9 rfl rfl)
theorem dX1_words_10 : decode cX1_words 10 = .ok (.bipush 127, 2) := dk_16 127 (dk_at dksX1_words_0 10 rfl rfl)
theorem dX1_words_12 : decode cX1_words 12 = .ok (.invokestatic 80, 3) := dk_184 0 80 (dk_at dksX1_words_0 12 rfl rfl)
theorem dX1_words_15 : decode cX1_words 15 = .ok (.ifCond .ne 5, 3) := dk_154 0 5 (dk_at dksX1_words_0 15 rfl rfl)
theorem dX1_words_18 : decode cX1_words 18 = .ok (.iconst (-1), 1) := dk_2 (dk_at dksX1_words_0 18 rfl rfl)
theorem dX1_words_19 : decode cX1_words 19 = .ok (.ireturn, 1) := dk_172 (dk_at dksX1_words_0 19 rfl rfl)
theorem dX1_words_20 : decode cX1_words 20 = .ok (.iconst 0, 1) := dk_3 (dk_at dksX1_words_0 20 rfl rfl)
theorem dX1_words_21 : decode cX1_words 21 = .ok (.istore_n 3, 1) := dk_62 (dk_at dksX1_words_0 21 rfl rfl)
theorem dX1_words_22 : decode cX1_words 22 = .ok (.iconst 0, 1) := dk_3 (dk_at dksX1_words_0 22 rfl rfl)
theorem dX1_words_23 : decode cX1_words 23 = .ok (.istore 4, 2) := dk_54 4 (dk_at dksX1_words_1 0 rfl rfl)
theorem dX1_words_25 : decode cX1_words 25 = .ok (.iload 4, 2) := dk_21 4 (dk_at dksX1_words_1 2 rfl rfl)
theorem dX1_words_27 : decode cX1_words 27 = .ok (.aload_n 0, 1) := dk_42 (dk_at dksX1_words_1 4 rfl rfl)
theorem dX1_words_28 : decode cX1_words 28 = .ok (.getfield 49, 3) := dk_180 0 49 (dk_at dksX1_words_1 5 rfl rfl)
theorem dX1_words_31 : decode cX1_words 31 = .ok (.getfield 173, 3) := dk_180 0 173 (dk_at dksX1_words_1 8 rfl rfl)
theorem dX1_words_34 : decode cX1_words 34 = .ok (.invokevirtual 119, 3) := dk_182 0 119 (dk_at dksX1_words_1 11 rfl rfl)
theorem dX1_words_37 : decode cX1_words 37 = .ok (.if_icmp .ge 40, 3) := dk_162 0 40 (dk_at dksX1_words_1 14 rfl rfl)
theorem dX1_words_40 : decode cX1_words 40 = .ok (.iload_n 3, 1) := dk_29 (dk_at dksX1_words_1 17 rfl rfl)
theorem dX1_words_41 : decode cX1_words 41 = .ok (.aload_n 0, 1) := dk_42 (dk_at dksX1_words_1 18 rfl rfl)
theorem dX1_words_42 : decode cX1_words 42 = .ok (.iload 4, 2) := dk_21 4 (dk_at dksX1_words_1 19 rfl rfl)
theorem dX1_words_44 : decode cX1_words 44 = .ok (.iload_n 1, 1) := dk_27 (dk_at dksX1_words_1 21 rfl rfl)
theorem dX1_words_45 : decode cX1_words 45 = .ok (.iconst (-1), 1) := dk_2 (dk_at dksX1_words_1 22 rfl rfl)
theorem dX1_words_46 : decode cX1_words 46 = .ok (.invokevirtual 227, 3) := dk_182 0 227 (dk_at dksX1_words_2 0 rfl rfl)
theorem dX1_words_49 : decode cX1_words 49 = .ok (.ifnull 19, 3) := dk_198 0 19 (dk_at dksX1_words_2 3 rfl rfl)
theorem dX1_words_52 : decode cX1_words 52 = .ok (.aload_n 0, 1) := dk_42 (dk_at dksX1_words_2 6 rfl rfl)
theorem dX1_words_53 : decode cX1_words 53 = .ok (.iload 4, 2) := dk_21 4 (dk_at dksX1_words_2 7 rfl rfl)
theorem dX1_words_55 : decode cX1_words 55 = .ok (.invokevirtual 261, 3) := dk_182 1 5 (dk_at dksX1_words_2 9 rfl rfl)
theorem dX1_words_58 : decode cX1_words 58 = .ok (.iload_n 2, 1) := dk_28 (dk_at dksX1_words_2 12 rfl rfl)
theorem dX1_words_59 : decode cX1_words 59 = .ok (.iand, 1) := dk_126 (dk_at dksX1_words_2 13 rfl rfl)
theorem dX1_words_60 : decode cX1_words 60 = .ok (.iload_n 2, 1) := dk_28 (dk_at dksX1_words_2 14 rfl rfl)
theorem dX1_words_61 : decode cX1_words 61 = .ok (.if_icmp .ne 7, 3) := dk_160 0 7 (dk_at dksX1_words_2 15 rfl rfl)
theorem dX1_words_64 : decode cX1_words 64 = .ok (.iconst 1, 1) := dk_4 (dk_at dksX1_words_2 18 rfl rfl)
theorem dX1_words_65 : decode cX1_words 65 = .ok (.goto 4, 3) := dk_167 0 4 (dk_at dksX1_words_2 19 rfl rfl)
theorem dX1_words_68 : decode cX1_words 68 = .ok (.iconst 0, 1) := dk_3 (dk_at dksX1_words_2 22 rfl rfl)
theorem dX1_words_69 : decode cX1_words 69 = .ok (.iadd, 1) := dk_96 (dk_at dksX1_words_2 23 rfl rfl)
theorem dX1_words_70 : decode cX1_words 70 = .ok (.istore_n 3, 1) := dk_62 (dk_at dksX1_words_3 0 rfl rfl)
theorem dX1_words_71 : decode cX1_words 71 = .ok (.iinc 4 1, 3) := dk_132 4 1 (dk_at dksX1_words_3 1 rfl rfl)
theorem dX1_words_74 : decode cX1_words 74 = .ok (.goto (-49), 3) := dk_167 255 207 (dk_at dksX1_words_3 4 rfl rfl)
theorem dX1_words_77 : decode cX1_words 77 = .ok (.iload_n 3, 1) := dk_29 (dk_at dksX1_words_3 7 rfl rfl)
theorem dX1_words_78 : decode cX1_words 78 = .ok (.ireturn, 1) := dk_172 (dk_at dksX1_words_3 8 rfl rfl)
abbrev cX1_truth : ByteArray := prog_1_method_28_code
def yX1_truth : MethodName := ⟨RX1, "truth", "(I)Z"⟩
def dkwX1_truth_0 : List UInt8 := [27, 4, 16, 9, 184, 0, 80, 154, 0, 5, 3, 172, 42, 27, 181, 0, 28, 4, 172]
abbrev dktX1_truth_0 : List UInt8 := dkwX1_truth_0 ++ []
theorem dksX1_truth_0 : cX1_truth.data.toList.drop 0 = dktX1_truth_0 := by decide +kernel
theorem dX1_truth_0 : decode cX1_truth 0 = .ok (.iload_n 1, 1) := dk_27 (dk_at dksX1_truth_0 0 rfl rfl)
theorem dX1_truth_1 : decode cX1_truth 1 = .ok (.iconst 1, 1) := dk_4 (dk_at dksX1_truth_0 1 rfl rfl)
theorem dX1_truth_2 : decode cX1_truth 2 = .ok (.bipush 9, 2) := dk_16 9 (dk_at dksX1_truth_0 2 rfl rfl)
theorem dX1_truth_4 : decode cX1_truth 4 = .ok (.invokestatic 80, 3) := dk_184 0 80 (dk_at dksX1_truth_0 4 rfl rfl)
theorem dX1_truth_7 : decode cX1_truth 7 = .ok (.ifCond .ne 5, 3) := dk_154 0 5 (dk_at dksX1_truth_0 7 rfl rfl)
theorem dX1_truth_10 : decode cX1_truth 10 = .ok (.iconst 0, 1) := dk_3 (dk_at dksX1_truth_0 10 rfl rfl)
theorem dX1_truth_11 : decode cX1_truth 11 = .ok (.ireturn, 1) := dk_172 (dk_at dksX1_truth_0 11 rfl rfl)
theorem dX1_truth_12 : decode cX1_truth 12 = .ok (.aload_n 0, 1) := dk_42 (dk_at dksX1_truth_0 12 rfl rfl)
theorem dX1_truth_13 : decode cX1_truth 13 = .ok (.iload_n 1, 1) := dk_27 (dk_at dksX1_truth_0 13 rfl rfl)
theorem dX1_truth_14 : decode cX1_truth 14 = .ok (.putfield 28, 3) := dk_181 0 28 (dk_at dksX1_truth_0 14 rfl rfl)
theorem dX1_truth_17 : decode cX1_truth 17 = .ok (.iconst 1, 1) := dk_4 (dk_at dksX1_truth_0 17 rfl rfl)
theorem dX1_truth_18 : decode cX1_truth 18 = .ok (.ireturn, 1) := dk_172 (dk_at dksX1_truth_0 18 rfl rfl)
abbrev cX1_begin : ByteArray := prog_1_method_29_code
def yX1_begin : MethodName := ⟨RX1, "begin", "(II)Z"⟩
def dkwX1_begin_1 : List UInt8 := [181, 0, 31, 42, 28, 181, 0, 34, 4, 172]
abbrev dktX1_begin_1 : List UInt8 := dkwX1_begin_1 ++ []
def dkwX1_begin_0 : List UInt8 := [27, 4, 16, 99, 184, 0, 80, 153, 0, 13, 28, 4, 16, 99, 184, 0, 80, 154, 0, 5, 3, 172, 42, 27]
abbrev dktX1_begin_0 : List UInt8 := dkwX1_begin_0 ++ dktX1_begin_1
theorem dksX1_begin_0 : cX1_begin.data.toList.drop 0 = dktX1_begin_0 := by decide +kernel
theorem dksX1_begin_1 : cX1_begin.data.toList.drop 24 = dktX1_begin_1 := dk_seg dksX1_begin_0 24 rfl rfl
theorem dX1_begin_0 : decode cX1_begin 0 = .ok (.iload_n 1, 1) := dk_27 (dk_at dksX1_begin_0 0 rfl rfl)
theorem dX1_begin_1 : decode cX1_begin 1 = .ok (.iconst 1, 1) := dk_4 (dk_at dksX1_begin_0 1 rfl rfl)
theorem dX1_begin_2 : decode cX1_begin 2 = .ok (.bipush 99, 2) := dk_16 99 (dk_at dksX1_begin_0 2 rfl rfl)
theorem dX1_begin_4 : decode cX1_begin 4 = .ok (.invokestatic 80, 3) := dk_184 0 80 (dk_at dksX1_begin_0 4 rfl rfl)
theorem dX1_begin_7 : decode cX1_begin 7 = .ok (.ifCond .eq 13, 3) := dk_153 0 13 (dk_at dksX1_begin_0 7 rfl rfl)
theorem dX1_begin_10 : decode cX1_begin 10 = .ok (.iload_n 2, 1) := dk_28 (dk_at dksX1_begin_0 10 rfl rfl)
theorem dX1_begin_11 : decode cX1_begin 11 = .ok (.iconst 1, 1) := dk_4 (dk_at dksX1_begin_0 11 rfl rfl)
theorem dX1_begin_12 : decode cX1_begin 12 = .ok (.bipush 99, 2) := dk_16 99 (dk_at dksX1_begin_0 12 rfl rfl)
theorem dX1_begin_14 : decode cX1_begin 14 = .ok (.invokestatic 80, 3) := dk_184 0 80 (dk_at dksX1_begin_0 14 rfl rfl)
theorem dX1_begin_17 : decode cX1_begin 17 = .ok (.ifCond .ne 5, 3) := dk_154 0 5 (dk_at dksX1_begin_0 17 rfl rfl)
theorem dX1_begin_20 : decode cX1_begin 20 = .ok (.iconst 0, 1) := dk_3 (dk_at dksX1_begin_0 20 rfl rfl)
theorem dX1_begin_21 : decode cX1_begin 21 = .ok (.ireturn, 1) := dk_172 (dk_at dksX1_begin_0 21 rfl rfl)
theorem dX1_begin_22 : decode cX1_begin 22 = .ok (.aload_n 0, 1) := dk_42 (dk_at dksX1_begin_0 22 rfl rfl)
theorem dX1_begin_23 : decode cX1_begin 23 = .ok (.iload_n 1, 1) := dk_27 (dk_at dksX1_begin_0 23 rfl rfl)
theorem dX1_begin_24 : decode cX1_begin 24 = .ok (.putfield 31, 3) := dk_181 0 31 (dk_at dksX1_begin_1 0 rfl rfl)
theorem dX1_begin_27 : decode cX1_begin 27 = .ok (.aload_n 0, 1) := dk_42 (dk_at dksX1_begin_1 3 rfl rfl)
theorem dX1_begin_28 : decode cX1_begin 28 = .ok (.iload_n 2, 1) := dk_28 (dk_at dksX1_begin_1 4 rfl rfl)
theorem dX1_begin_29 : decode cX1_begin 29 = .ok (.putfield 34, 3) := dk_181 0 34 (dk_at dksX1_begin_1 5 rfl rfl)
theorem dX1_begin_32 : decode cX1_begin 32 = .ok (.iconst 1, 1) := dk_4 (dk_at dksX1_begin_1 8 rfl rfl)
theorem dX1_begin_33 : decode cX1_begin 33 = .ok (.ireturn, 1) := dk_172 (dk_at dksX1_begin_1 9 rfl rfl)
abbrev cX1_odds : ByteArray := prog_1_method_34_code
def yX1_odds : MethodName := ⟨RX1, "odds", "(III)J"⟩
def dkwX1_odds_10 : List UInt8 := [132, 4, 1, 167, 255, 169, 29, 154, 0, 10, 42, 180, 1, 12, 167, 0, 7, 42, 180, 1, 16, 173]
abbrev dktX1_odds_10 : List UInt8 := dkwX1_odds_10 ++ []
def dkwX1_odds_9 : List UInt8 := [21, 4, 182, 0, 135, 192, 0, 139, 180, 0, 144, 160, 0, 7, 4, 167, 0, 4, 3, 182, 1, 37]
abbrev dktX1_odds_9 : List UInt8 := dkwX1_odds_9 ++ dktX1_odds_10
def dkwX1_odds_8 : List UInt8 := [180, 0, 125, 21, 4, 182, 0, 135, 192, 0, 139, 25, 5, 180, 1, 44, 42, 180, 0, 49, 180, 0, 125]
abbrev dktX1_odds_8 : List UInt8 := dkwX1_odds_8 ++ dktX1_odds_9
def dkwX1_odds_7 : List UInt8 := [28, 5, 160, 0, 73, 42, 27, 21, 4, 182, 1, 40, 58, 5, 25, 5, 198, 0, 53, 42, 42, 180, 0, 49]
abbrev dktX1_odds_7 : List UInt8 := dkwX1_odds_7 ++ dktX1_odds_8
def dkwX1_odds_6 : List UInt8 := [132, 4, 1, 167, 255, 173, 3, 54, 4, 21, 4, 42, 180, 0, 49, 180, 0, 125, 182, 0, 119, 162, 0, 78]
abbrev dktX1_odds_6 : List UInt8 := dkwX1_odds_6 ++ dktX1_odds_7
def dkwX1_odds_5 : List UInt8 := [54, 6, 21, 6, 5, 160, 0, 17, 42, 25, 5, 180, 1, 34, 25, 5, 182, 0, 242, 182, 1, 37]
abbrev dktX1_odds_5 : List UInt8 := dkwX1_odds_5 ++ dktX1_odds_6
def dkwX1_odds_4 : List UInt8 := [167, 0, 45, 42, 21, 4, 182, 1, 5, 16, 14, 28, 154, 0, 8, 16, 16, 167, 0, 4, 3, 128, 126]
abbrev dktX1_odds_4 : List UInt8 := dkwX1_odds_4 ++ dktX1_odds_5
def dkwX1_odds_3 : List UInt8 := [162, 0, 74, 28, 5, 162, 0, 69, 42, 21, 4, 27, 2, 182, 0, 227, 58, 5, 25, 5, 199, 0, 6]
abbrev dktX1_odds_3 : List UInt8 := dkwX1_odds_3 ++ dktX1_odds_4
def dkwX1_odds_2 : List UInt8 := [180, 0, 34, 133, 182, 1, 21, 3, 54, 4, 21, 4, 42, 180, 0, 49, 180, 0, 173, 182, 0, 119]
abbrev dktX1_odds_2 : List UInt8 := dkwX1_odds_2 ++ dktX1_odds_3
def dkwX1_odds_1 : List UInt8 := [154, 0, 7, 20, 1, 32, 173, 42, 10, 181, 1, 12, 42, 10, 181, 1, 16, 42, 42, 180, 0, 31, 133, 42]
abbrev dktX1_odds_1 : List UInt8 := dkwX1_odds_1 ++ dktX1_odds_2
def dkwX1_odds_0 : List UInt8 := [42, 27, 182, 0, 156, 153, 0, 21, 28, 3, 5, 184, 0, 80, 153, 0, 12, 29, 3, 4, 184, 0, 80]
abbrev dktX1_odds_0 : List UInt8 := dkwX1_odds_0 ++ dktX1_odds_1
theorem dksX1_odds_0 : cX1_odds.data.toList.drop 0 = dktX1_odds_0 := by decide +kernel
theorem dksX1_odds_1 : cX1_odds.data.toList.drop 23 = dktX1_odds_1 := dk_seg dksX1_odds_0 23 rfl rfl
theorem dksX1_odds_2 : cX1_odds.data.toList.drop 47 = dktX1_odds_2 := dk_seg dksX1_odds_1 24 rfl rfl
theorem dksX1_odds_3 : cX1_odds.data.toList.drop 69 = dktX1_odds_3 := dk_seg dksX1_odds_2 22 rfl rfl
theorem dksX1_odds_4 : cX1_odds.data.toList.drop 92 = dktX1_odds_4 := dk_seg dksX1_odds_3 23 rfl rfl
theorem dksX1_odds_5 : cX1_odds.data.toList.drop 115 = dktX1_odds_5 := dk_seg dksX1_odds_4 23 rfl rfl
theorem dksX1_odds_6 : cX1_odds.data.toList.drop 137 = dktX1_odds_6 := dk_seg dksX1_odds_5 22 rfl rfl
theorem dksX1_odds_7 : cX1_odds.data.toList.drop 161 = dktX1_odds_7 := dk_seg dksX1_odds_6 24 rfl rfl
theorem dksX1_odds_8 : cX1_odds.data.toList.drop 185 = dktX1_odds_8 := dk_seg dksX1_odds_7 24 rfl rfl
theorem dksX1_odds_9 : cX1_odds.data.toList.drop 208 = dktX1_odds_9 := dk_seg dksX1_odds_8 23 rfl rfl
theorem dksX1_odds_10 : cX1_odds.data.toList.drop 230 = dktX1_odds_10 := dk_seg dksX1_odds_9 22 rfl rfl
theorem dX1_odds_0 : decode cX1_odds 0 = .ok (.aload_n 0, 1) := dk_42 (dk_at dksX1_odds_0 0 rfl rfl)
theorem dX1_odds_1 : decode cX1_odds 1 = .ok (.iload_n 1, 1) := dk_27 (dk_at dksX1_odds_0 1 rfl rfl)
theorem dX1_odds_2 : decode cX1_odds 2 = .ok (.invokevirtual 156, 3) := dk_182 0 156 (dk_at dksX1_odds_0 2 rfl rfl)
theorem dX1_odds_5 : decode cX1_odds 5 = .ok (.ifCond .eq 21, 3) := dk_153 0 21 (dk_at dksX1_odds_0 5 rfl rfl)
theorem dX1_odds_8 : decode cX1_odds 8 = .ok (.iload_n 2, 1) := dk_28 (dk_at dksX1_odds_0 8 rfl rfl)
theorem dX1_odds_9 : decode cX1_odds 9 = .ok (.iconst 0, 1) := dk_3 (dk_at dksX1_odds_0 9 rfl rfl)
theorem dX1_odds_10 : decode cX1_odds 10 = .ok (.iconst 2, 1) := dk_5 (dk_at dksX1_odds_0 10 rfl rfl)
theorem dX1_odds_11 : decode cX1_odds 11 = .ok (.invokestatic 80, 3) := dk_184 0 80 (dk_at dksX1_odds_0 11 rfl rfl)
theorem dX1_odds_14 : decode cX1_odds 14 = .ok (.ifCond .eq 12, 3) := dk_153 0 12 (dk_at dksX1_odds_0 14 rfl rfl)
theorem dX1_odds_17 : decode cX1_odds 17 = .ok (.iload_n 3, 1) := dk_29 (dk_at dksX1_odds_0 17 rfl rfl)
theorem dX1_odds_18 : decode cX1_odds 18 = .ok (.iconst 0, 1) := dk_3 (dk_at dksX1_odds_0 18 rfl rfl)
theorem dX1_odds_19 : decode cX1_odds 19 = .ok (.iconst 1, 1) := dk_4 (dk_at dksX1_odds_0 19 rfl rfl)
theorem dX1_odds_20 : decode cX1_odds 20 = .ok (.invokestatic 80, 3) := dk_184 0 80 (dk_at dksX1_odds_0 20 rfl rfl)
theorem dX1_odds_23 : decode cX1_odds 23 = .ok (.ifCond .ne 7, 3) := dk_154 0 7 (dk_at dksX1_odds_1 0 rfl rfl)
theorem dX1_odds_26 : decode cX1_odds 26 = .ok (.ldc2_w 288, 3) := dk_20 1 32 (dk_at dksX1_odds_1 3 rfl rfl)
theorem dX1_odds_29 : decode cX1_odds 29 = .ok (.lreturn, 1) := dk_173 (dk_at dksX1_odds_1 6 rfl rfl)
theorem dX1_odds_30 : decode cX1_odds 30 = .ok (.aload_n 0, 1) := dk_42 (dk_at dksX1_odds_1 7 rfl rfl)
theorem dX1_odds_31 : decode cX1_odds 31 = .ok (.lconst 1, 1) := dk_10 (dk_at dksX1_odds_1 8 rfl rfl)
theorem dX1_odds_32 : decode cX1_odds 32 = .ok (.putfield 268, 3) := dk_181 1 12 (dk_at dksX1_odds_1 9 rfl rfl)
theorem dX1_odds_35 : decode cX1_odds 35 = .ok (.aload_n 0, 1) := dk_42 (dk_at dksX1_odds_1 12 rfl rfl)
theorem dX1_odds_36 : decode cX1_odds 36 = .ok (.lconst 1, 1) := dk_10 (dk_at dksX1_odds_1 13 rfl rfl)
theorem dX1_odds_37 : decode cX1_odds 37 = .ok (.putfield 272, 3) := dk_181 1 16 (dk_at dksX1_odds_1 14 rfl rfl)
theorem dX1_odds_40 : decode cX1_odds 40 = .ok (.aload_n 0, 1) := dk_42 (dk_at dksX1_odds_1 17 rfl rfl)
theorem dX1_odds_41 : decode cX1_odds 41 = .ok (.aload_n 0, 1) := dk_42 (dk_at dksX1_odds_1 18 rfl rfl)
theorem dX1_odds_42 : decode cX1_odds 42 = .ok (.getfield 31, 3) := dk_180 0 31 (dk_at dksX1_odds_1 19 rfl rfl)
theorem dX1_odds_45 : decode cX1_odds 45 = .ok (.i2l, 1) := dk_133 (dk_at dksX1_odds_1 22 rfl rfl)
theorem dX1_odds_46 : decode cX1_odds 46 = .ok (.aload_n 0, 1) := dk_42 (dk_at dksX1_odds_1 23 rfl rfl)
theorem dX1_odds_47 : decode cX1_odds 47 = .ok (.getfield 34, 3) := dk_180 0 34 (dk_at dksX1_odds_2 0 rfl rfl)
theorem dX1_odds_50 : decode cX1_odds 50 = .ok (.i2l, 1) := dk_133 (dk_at dksX1_odds_2 3 rfl rfl)
theorem dX1_odds_51 : decode cX1_odds 51 = .ok (.invokevirtual 277, 3) := dk_182 1 21 (dk_at dksX1_odds_2 4 rfl rfl)
theorem dX1_odds_54 : decode cX1_odds 54 = .ok (.iconst 0, 1) := dk_3 (dk_at dksX1_odds_2 7 rfl rfl)
theorem dX1_odds_55 : decode cX1_odds 55 = .ok (.istore 4, 2) := dk_54 4 (dk_at dksX1_odds_2 8 rfl rfl)
theorem dX1_odds_57 : decode cX1_odds 57 = .ok (.iload 4, 2) := dk_21 4 (dk_at dksX1_odds_2 10 rfl rfl)
theorem dX1_odds_59 : decode cX1_odds 59 = .ok (.aload_n 0, 1) := dk_42 (dk_at dksX1_odds_2 12 rfl rfl)
theorem dX1_odds_60 : decode cX1_odds 60 = .ok (.getfield 49, 3) := dk_180 0 49 (dk_at dksX1_odds_2 13 rfl rfl)
theorem dX1_odds_63 : decode cX1_odds 63 = .ok (.getfield 173, 3) := dk_180 0 173 (dk_at dksX1_odds_2 16 rfl rfl)
theorem dX1_odds_66 : decode cX1_odds 66 = .ok (.invokevirtual 119, 3) := dk_182 0 119 (dk_at dksX1_odds_2 19 rfl rfl)
theorem dX1_odds_69 : decode cX1_odds 69 = .ok (.if_icmp .ge 74, 3) := dk_162 0 74 (dk_at dksX1_odds_3 0 rfl rfl)
theorem dX1_odds_72 : decode cX1_odds 72 = .ok (.iload_n 2, 1) := dk_28 (dk_at dksX1_odds_3 3 rfl rfl)
theorem dX1_odds_73 : decode cX1_odds 73 = .ok (.iconst 2, 1) := dk_5 (dk_at dksX1_odds_3 4 rfl rfl)
theorem dX1_odds_74 : decode cX1_odds 74 = .ok (.if_icmp .ge 69, 3) := dk_162 0 69 (dk_at dksX1_odds_3 5 rfl rfl)
theorem dX1_odds_77 : decode cX1_odds 77 = .ok (.aload_n 0, 1) := dk_42 (dk_at dksX1_odds_3 8 rfl rfl)
theorem dX1_odds_78 : decode cX1_odds 78 = .ok (.iload 4, 2) := dk_21 4 (dk_at dksX1_odds_3 9 rfl rfl)
theorem dX1_odds_80 : decode cX1_odds 80 = .ok (.iload_n 1, 1) := dk_27 (dk_at dksX1_odds_3 11 rfl rfl)
theorem dX1_odds_81 : decode cX1_odds 81 = .ok (.iconst (-1), 1) := dk_2 (dk_at dksX1_odds_3 12 rfl rfl)
theorem dX1_odds_82 : decode cX1_odds 82 = .ok (.invokevirtual 227, 3) := dk_182 0 227 (dk_at dksX1_odds_3 13 rfl rfl)
theorem dX1_odds_85 : decode cX1_odds 85 = .ok (.astore 5, 2) := dk_58 5 (dk_at dksX1_odds_3 16 rfl rfl)
theorem dX1_odds_87 : decode cX1_odds 87 = .ok (.aload 5, 2) := dk_25 5 (dk_at dksX1_odds_3 18 rfl rfl)
theorem dX1_odds_89 : decode cX1_odds 89 = .ok (.ifnonnull 6, 3) := dk_199 0 6 (dk_at dksX1_odds_3 20 rfl rfl)
theorem dX1_odds_92 : decode cX1_odds 92 = .ok (.goto 45, 3) := dk_167 0 45 (dk_at dksX1_odds_4 0 rfl rfl)
theorem dX1_odds_95 : decode cX1_odds 95 = .ok (.aload_n 0, 1) := dk_42 (dk_at dksX1_odds_4 3 rfl rfl)
theorem dX1_odds_96 : decode cX1_odds 96 = .ok (.iload 4, 2) := dk_21 4 (dk_at dksX1_odds_4 4 rfl rfl)
theorem dX1_odds_98 : decode cX1_odds 98 = .ok (.invokevirtual 261, 3) := dk_182 1 5 (dk_at dksX1_odds_4 6 rfl rfl)
theorem dX1_odds_101 : decode cX1_odds 101 = .ok (.bipush 14, 2) := dk_16 14 (dk_at dksX1_odds_4 9 rfl rfl)
theorem dX1_odds_103 : decode cX1_odds 103 = .ok (.iload_n 2, 1) := dk_28 (dk_at dksX1_odds_4 11 rfl rfl)
theorem dX1_odds_104 : decode cX1_odds 104 = .ok (.ifCond .ne 8, 3) := dk_154 0 8 (dk_at dksX1_odds_4 12 rfl rfl)
theorem dX1_odds_107 : decode cX1_odds 107 = .ok (.bipush 16, 2) := dk_16 16 (dk_at dksX1_odds_4 15 rfl rfl)
theorem dX1_odds_109 : decode cX1_odds 109 = .ok (.goto 4, 3) := dk_167 0 4 (dk_at dksX1_odds_4 17 rfl rfl)
theorem dX1_odds_112 : decode cX1_odds 112 = .ok (.iconst 0, 1) := dk_3 (dk_at dksX1_odds_4 20 rfl rfl)
theorem dX1_odds_113 : decode cX1_odds 113 = .ok (.ior, 1) := dk_128 (dk_at dksX1_odds_4 21 rfl rfl)
theorem dX1_odds_114 : decode cX1_odds 114 = .ok (.iand, 1) := dk_126 (dk_at dksX1_odds_4 22 rfl rfl)
theorem dX1_odds_115 : decode cX1_odds 115 = .ok (.istore 6, 2) := dk_54 6 (dk_at dksX1_odds_5 0 rfl rfl)
theorem dX1_odds_117 : decode cX1_odds 117 = .ok (.iload 6, 2) := dk_21 6 (dk_at dksX1_odds_5 2 rfl rfl)
theorem dX1_odds_119 : decode cX1_odds 119 = .ok (.iconst 2, 1) := dk_5 (dk_at dksX1_odds_5 4 rfl rfl)
theorem dX1_odds_120 : decode cX1_odds 120 = .ok (.if_icmp .ne 17, 3) := dk_160 0 17 (dk_at dksX1_odds_5 5 rfl rfl)
theorem dX1_odds_123 : decode cX1_odds 123 = .ok (.aload_n 0, 1) := dk_42 (dk_at dksX1_odds_5 8 rfl rfl)
theorem dX1_odds_124 : decode cX1_odds 124 = .ok (.aload 5, 2) := dk_25 5 (dk_at dksX1_odds_5 9 rfl rfl)
theorem dX1_odds_126 : decode cX1_odds 126 = .ok (.getfield 290, 3) := dk_180 1 34 (dk_at dksX1_odds_5 11 rfl rfl)
theorem dX1_odds_129 : decode cX1_odds 129 = .ok (.aload 5, 2) := dk_25 5 (dk_at dksX1_odds_5 14 rfl rfl)
theorem dX1_odds_131 : decode cX1_odds 131 = .ok (.invokevirtual 242, 3) := dk_182 0 242 (dk_at dksX1_odds_5 16 rfl rfl)
theorem dX1_odds_134 : decode cX1_odds 134 = .ok (.invokevirtual 293, 3) := dk_182 1 37 (dk_at dksX1_odds_5 19 rfl rfl)
theorem dX1_odds_137 : decode cX1_odds 137 = .ok (.iinc 4 1, 3) := dk_132 4 1 (dk_at dksX1_odds_6 0 rfl rfl)
theorem dX1_odds_140 : decode cX1_odds 140 = .ok (.goto (-83), 3) := dk_167 255 173 (dk_at dksX1_odds_6 3 rfl rfl)
theorem dX1_odds_143 : decode cX1_odds 143 = .ok (.iconst 0, 1) := dk_3 (dk_at dksX1_odds_6 6 rfl rfl)
theorem dX1_odds_144 : decode cX1_odds 144 = .ok (.istore 4, 2) := dk_54 4 (dk_at dksX1_odds_6 7 rfl rfl)
theorem dX1_odds_146 : decode cX1_odds 146 = .ok (.iload 4, 2) := dk_21 4 (dk_at dksX1_odds_6 9 rfl rfl)
theorem dX1_odds_148 : decode cX1_odds 148 = .ok (.aload_n 0, 1) := dk_42 (dk_at dksX1_odds_6 11 rfl rfl)
theorem dX1_odds_149 : decode cX1_odds 149 = .ok (.getfield 49, 3) := dk_180 0 49 (dk_at dksX1_odds_6 12 rfl rfl)
theorem dX1_odds_152 : decode cX1_odds 152 = .ok (.getfield 125, 3) := dk_180 0 125 (dk_at dksX1_odds_6 15 rfl rfl)
theorem dX1_odds_155 : decode cX1_odds 155 = .ok (.invokevirtual 119, 3) := dk_182 0 119 (dk_at dksX1_odds_6 18 rfl rfl)
theorem dX1_odds_158 : decode cX1_odds 158 = .ok (.if_icmp .ge 78, 3) := dk_162 0 78 (dk_at dksX1_odds_6 21 rfl rfl)
theorem dX1_odds_161 : decode cX1_odds 161 = .ok (.iload_n 2, 1) := dk_28 (dk_at dksX1_odds_7 0 rfl rfl)
theorem dX1_odds_162 : decode cX1_odds 162 = .ok (.iconst 2, 1) := dk_5 (dk_at dksX1_odds_7 1 rfl rfl)
theorem dX1_odds_163 : decode cX1_odds 163 = .ok (.if_icmp .ne 73, 3) := dk_160 0 73 (dk_at dksX1_odds_7 2 rfl rfl)
theorem dX1_odds_166 : decode cX1_odds 166 = .ok (.aload_n 0, 1) := dk_42 (dk_at dksX1_odds_7 5 rfl rfl)
theorem dX1_odds_167 : decode cX1_odds 167 = .ok (.iload_n 1, 1) := dk_27 (dk_at dksX1_odds_7 6 rfl rfl)
theorem dX1_odds_168 : decode cX1_odds 168 = .ok (.iload 4, 2) := dk_21 4 (dk_at dksX1_odds_7 7 rfl rfl)
theorem dX1_odds_170 : decode cX1_odds 170 = .ok (.invokevirtual 296, 3) := dk_182 1 40 (dk_at dksX1_odds_7 9 rfl rfl)
theorem dX1_odds_173 : decode cX1_odds 173 = .ok (.astore 5, 2) := dk_58 5 (dk_at dksX1_odds_7 12 rfl rfl)
theorem dX1_odds_175 : decode cX1_odds 175 = .ok (.aload 5, 2) := dk_25 5 (dk_at dksX1_odds_7 14 rfl rfl)
theorem dX1_odds_177 : decode cX1_odds 177 = .ok (.ifnull 53, 3) := dk_198 0 53 (dk_at dksX1_odds_7 16 rfl rfl)
theorem dX1_odds_180 : decode cX1_odds 180 = .ok (.aload_n 0, 1) := dk_42 (dk_at dksX1_odds_7 19 rfl rfl)
theorem dX1_odds_181 : decode cX1_odds 181 = .ok (.aload_n 0, 1) := dk_42 (dk_at dksX1_odds_7 20 rfl rfl)
theorem dX1_odds_182 : decode cX1_odds 182 = .ok (.getfield 49, 3) := dk_180 0 49 (dk_at dksX1_odds_7 21 rfl rfl)
theorem dX1_odds_185 : decode cX1_odds 185 = .ok (.getfield 125, 3) := dk_180 0 125 (dk_at dksX1_odds_8 0 rfl rfl)
theorem dX1_odds_188 : decode cX1_odds 188 = .ok (.iload 4, 2) := dk_21 4 (dk_at dksX1_odds_8 3 rfl rfl)
theorem dX1_odds_190 : decode cX1_odds 190 = .ok (.invokevirtual 135, 3) := dk_182 0 135 (dk_at dksX1_odds_8 5 rfl rfl)
theorem dX1_odds_193 : decode cX1_odds 193 = .ok (.checkcast 139, 3) := dk_192 0 139 (dk_at dksX1_odds_8 8 rfl rfl)
theorem dX1_odds_196 : decode cX1_odds 196 = .ok (.aload 5, 2) := dk_25 5 (dk_at dksX1_odds_8 11 rfl rfl)
theorem dX1_odds_198 : decode cX1_odds 198 = .ok (.getfield 300, 3) := dk_180 1 44 (dk_at dksX1_odds_8 13 rfl rfl)
theorem dX1_odds_201 : decode cX1_odds 201 = .ok (.aload_n 0, 1) := dk_42 (dk_at dksX1_odds_8 16 rfl rfl)
theorem dX1_odds_202 : decode cX1_odds 202 = .ok (.getfield 49, 3) := dk_180 0 49 (dk_at dksX1_odds_8 17 rfl rfl)
theorem dX1_odds_205 : decode cX1_odds 205 = .ok (.getfield 125, 3) := dk_180 0 125 (dk_at dksX1_odds_8 20 rfl rfl)
theorem dX1_odds_208 : decode cX1_odds 208 = .ok (.iload 4, 2) := dk_21 4 (dk_at dksX1_odds_9 0 rfl rfl)
theorem dX1_odds_210 : decode cX1_odds 210 = .ok (.invokevirtual 135, 3) := dk_182 0 135 (dk_at dksX1_odds_9 2 rfl rfl)
theorem dX1_odds_213 : decode cX1_odds 213 = .ok (.checkcast 139, 3) := dk_192 0 139 (dk_at dksX1_odds_9 5 rfl rfl)
theorem dX1_odds_216 : decode cX1_odds 216 = .ok (.getfield 144, 3) := dk_180 0 144 (dk_at dksX1_odds_9 8 rfl rfl)
theorem dX1_odds_219 : decode cX1_odds 219 = .ok (.if_icmp .ne 7, 3) := dk_160 0 7 (dk_at dksX1_odds_9 11 rfl rfl)
theorem dX1_odds_222 : decode cX1_odds 222 = .ok (.iconst 1, 1) := dk_4 (dk_at dksX1_odds_9 14 rfl rfl)
theorem dX1_odds_223 : decode cX1_odds 223 = .ok (.goto 4, 3) := dk_167 0 4 (dk_at dksX1_odds_9 15 rfl rfl)
theorem dX1_odds_226 : decode cX1_odds 226 = .ok (.iconst 0, 1) := dk_3 (dk_at dksX1_odds_9 18 rfl rfl)
theorem dX1_odds_227 : decode cX1_odds 227 = .ok (.invokevirtual 293, 3) := dk_182 1 37 (dk_at dksX1_odds_9 19 rfl rfl)
theorem dX1_odds_230 : decode cX1_odds 230 = .ok (.iinc 4 1, 3) := dk_132 4 1 (dk_at dksX1_odds_10 0 rfl rfl)
theorem dX1_odds_233 : decode cX1_odds 233 = .ok (.goto (-87), 3) := dk_167 255 169 (dk_at dksX1_odds_10 3 rfl rfl)
theorem dX1_odds_236 : decode cX1_odds 236 = .ok (.iload_n 3, 1) := dk_29 (dk_at dksX1_odds_10 6 rfl rfl)
theorem dX1_odds_237 : decode cX1_odds 237 = .ok (.ifCond .ne 10, 3) := dk_154 0 10 (dk_at dksX1_odds_10 7 rfl rfl)
theorem dX1_odds_240 : decode cX1_odds 240 = .ok (.aload_n 0, 1) := dk_42 (dk_at dksX1_odds_10 10 rfl rfl)
theorem dX1_odds_241 : decode cX1_odds 241 = .ok (.getfield 268, 3) := dk_180 1 12 (dk_at dksX1_odds_10 11 rfl rfl)
theorem dX1_odds_244 : decode cX1_odds 244 = .ok (.goto 7, 3) := dk_167 0 7 (dk_at dksX1_odds_10 14 rfl rfl)
theorem dX1_odds_247 : decode cX1_odds 247 = .ok (.aload_n 0, 1) := dk_42 (dk_at dksX1_odds_10 17 rfl rfl)
theorem dX1_odds_248 : decode cX1_odds 248 = .ok (.getfield 272, 3) := dk_180 1 16 (dk_at dksX1_odds_10 18 rfl rfl)
theorem dX1_odds_251 : decode cX1_odds 251 = .ok (.lreturn, 1) := dk_173 (dk_at dksX1_odds_10 21 rfl rfl)
abbrev cX1_weigh : ByteArray := prog_1_method_31_code
def yX1_weigh : MethodName := ⟨RX1, "weigh", "(JJ)V"⟩
def dkwX1_weigh_2 : List UInt8 := [180, 1, 16, 22, 5, 109, 181, 1, 16, 177]
abbrev dktX1_weigh_2 : List UInt8 := dkwX1_weigh_2 ++ []
def dkwX1_weigh_1 : List UInt8 := [42, 180, 1, 16, 184, 1, 8, 55, 5, 42, 89, 180, 1, 12, 22, 5, 109, 181, 1, 12, 42, 89]
abbrev dktX1_weigh_1 : List UInt8 := dkwX1_weigh_1 ++ dktX1_weigh_2
def dkwX1_weigh_0 : List UInt8 := [42, 89, 180, 1, 12, 31, 105, 181, 1, 12, 42, 89, 180, 1, 16, 33, 105, 181, 1, 16, 42, 180, 1, 12]
abbrev dktX1_weigh_0 : List UInt8 := dkwX1_weigh_0 ++ dktX1_weigh_1
theorem dksX1_weigh_0 : cX1_weigh.data.toList.drop 0 = dktX1_weigh_0 := by decide +kernel
theorem dksX1_weigh_1 : cX1_weigh.data.toList.drop 24 = dktX1_weigh_1 := dk_seg dksX1_weigh_0 24 rfl rfl
theorem dksX1_weigh_2 : cX1_weigh.data.toList.drop 46 = dktX1_weigh_2 := dk_seg dksX1_weigh_1 22 rfl rfl
theorem dX1_weigh_0 : decode cX1_weigh 0 = .ok (.aload_n 0, 1) := dk_42 (dk_at dksX1_weigh_0 0 rfl rfl)
theorem dX1_weigh_1 : decode cX1_weigh 1 = .ok (.dup, 1) := dk_89 (dk_at dksX1_weigh_0 1 rfl rfl)
theorem dX1_weigh_2 : decode cX1_weigh 2 = .ok (.getfield 268, 3) := dk_180 1 12 (dk_at dksX1_weigh_0 2 rfl rfl)
theorem dX1_weigh_5 : decode cX1_weigh 5 = .ok (.lload_n 1, 1) := dk_31 (dk_at dksX1_weigh_0 5 rfl rfl)
theorem dX1_weigh_6 : decode cX1_weigh 6 = .ok (.lmul, 1) := dk_105 (dk_at dksX1_weigh_0 6 rfl rfl)
theorem dX1_weigh_7 : decode cX1_weigh 7 = .ok (.putfield 268, 3) := dk_181 1 12 (dk_at dksX1_weigh_0 7 rfl rfl)
theorem dX1_weigh_10 : decode cX1_weigh 10 = .ok (.aload_n 0, 1) := dk_42 (dk_at dksX1_weigh_0 10 rfl rfl)
theorem dX1_weigh_11 : decode cX1_weigh 11 = .ok (.dup, 1) := dk_89 (dk_at dksX1_weigh_0 11 rfl rfl)
theorem dX1_weigh_12 : decode cX1_weigh 12 = .ok (.getfield 272, 3) := dk_180 1 16 (dk_at dksX1_weigh_0 12 rfl rfl)
theorem dX1_weigh_15 : decode cX1_weigh 15 = .ok (.lload_n 3, 1) := dk_33 (dk_at dksX1_weigh_0 15 rfl rfl)
theorem dX1_weigh_16 : decode cX1_weigh 16 = .ok (.lmul, 1) := dk_105 (dk_at dksX1_weigh_0 16 rfl rfl)
theorem dX1_weigh_17 : decode cX1_weigh 17 = .ok (.putfield 272, 3) := dk_181 1 16 (dk_at dksX1_weigh_0 17 rfl rfl)
theorem dX1_weigh_20 : decode cX1_weigh 20 = .ok (.aload_n 0, 1) := dk_42 (dk_at dksX1_weigh_0 20 rfl rfl)
theorem dX1_weigh_21 : decode cX1_weigh 21 = .ok (.getfield 268, 3) := dk_180 1 12 (dk_at dksX1_weigh_0 21 rfl rfl)
theorem dX1_weigh_24 : decode cX1_weigh 24 = .ok (.aload_n 0, 1) := dk_42 (dk_at dksX1_weigh_1 0 rfl rfl)
theorem dX1_weigh_25 : decode cX1_weigh 25 = .ok (.getfield 272, 3) := dk_180 1 16 (dk_at dksX1_weigh_1 1 rfl rfl)
theorem dX1_weigh_28 : decode cX1_weigh 28 = .ok (.invokestatic 264, 3) := dk_184 1 8 (dk_at dksX1_weigh_1 4 rfl rfl)
theorem dX1_weigh_31 : decode cX1_weigh 31 = .ok (.lstore 5, 2) := dk_55 5 (dk_at dksX1_weigh_1 7 rfl rfl)
theorem dX1_weigh_33 : decode cX1_weigh 33 = .ok (.aload_n 0, 1) := dk_42 (dk_at dksX1_weigh_1 9 rfl rfl)
theorem dX1_weigh_34 : decode cX1_weigh 34 = .ok (.dup, 1) := dk_89 (dk_at dksX1_weigh_1 10 rfl rfl)
theorem dX1_weigh_35 : decode cX1_weigh 35 = .ok (.getfield 268, 3) := dk_180 1 12 (dk_at dksX1_weigh_1 11 rfl rfl)
theorem dX1_weigh_38 : decode cX1_weigh 38 = .ok (.lload 5, 2) := dk_22 5 (dk_at dksX1_weigh_1 14 rfl rfl)
theorem dX1_weigh_40 : decode cX1_weigh 40 = .ok (.ldiv, 1) := dk_109 (dk_at dksX1_weigh_1 16 rfl rfl)
theorem dX1_weigh_41 : decode cX1_weigh 41 = .ok (.putfield 268, 3) := dk_181 1 12 (dk_at dksX1_weigh_1 17 rfl rfl)
theorem dX1_weigh_44 : decode cX1_weigh 44 = .ok (.aload_n 0, 1) := dk_42 (dk_at dksX1_weigh_1 20 rfl rfl)
theorem dX1_weigh_45 : decode cX1_weigh 45 = .ok (.dup, 1) := dk_89 (dk_at dksX1_weigh_1 21 rfl rfl)
theorem dX1_weigh_46 : decode cX1_weigh 46 = .ok (.getfield 272, 3) := dk_180 1 16 (dk_at dksX1_weigh_2 0 rfl rfl)
theorem dX1_weigh_49 : decode cX1_weigh 49 = .ok (.lload 5, 2) := dk_22 5 (dk_at dksX1_weigh_2 3 rfl rfl)
theorem dX1_weigh_51 : decode cX1_weigh 51 = .ok (.ldiv, 1) := dk_109 (dk_at dksX1_weigh_2 5 rfl rfl)
theorem dX1_weigh_52 : decode cX1_weigh 52 = .ok (.putfield 272, 3) := dk_181 1 16 (dk_at dksX1_weigh_2 6 rfl rfl)
theorem dX1_weigh_55 : decode cX1_weigh 55 = .ok (.return_, 1) := dk_177 (dk_at dksX1_weigh_2 9 rfl rfl)
abbrev cX1_common : ByteArray := prog_1_method_30_code
def yX1_common : MethodName := ⟨RX1, "common", "(JJ)J"⟩
def dkwX1_common_0 : List UInt8 := [32, 9, 148, 154, 0, 7, 30, 167, 0, 10, 32, 30, 32, 113, 184, 1, 8, 173]
abbrev dktX1_common_0 : List UInt8 := dkwX1_common_0 ++ []
theorem dksX1_common_0 : cX1_common.data.toList.drop 0 = dktX1_common_0 := by decide +kernel
theorem dX1_common_0 : decode cX1_common 0 = .ok (.lload_n 2, 1) := dk_32 (dk_at dksX1_common_0 0 rfl rfl)
theorem dX1_common_1 : decode cX1_common 1 = .ok (.lconst 0, 1) := dk_9 (dk_at dksX1_common_0 1 rfl rfl)
theorem dX1_common_2 : decode cX1_common 2 = .ok (.lcmp, 1) := dk_148 (dk_at dksX1_common_0 2 rfl rfl)
theorem dX1_common_3 : decode cX1_common 3 = .ok (.ifCond .ne 7, 3) := dk_154 0 7 (dk_at dksX1_common_0 3 rfl rfl)
theorem dX1_common_6 : decode cX1_common 6 = .ok (.lload_n 0, 1) := dk_30 (dk_at dksX1_common_0 6 rfl rfl)
theorem dX1_common_7 : decode cX1_common 7 = .ok (.goto 10, 3) := dk_167 0 10 (dk_at dksX1_common_0 7 rfl rfl)
theorem dX1_common_10 : decode cX1_common 10 = .ok (.lload_n 2, 1) := dk_32 (dk_at dksX1_common_0 10 rfl rfl)
theorem dX1_common_11 : decode cX1_common 11 = .ok (.lload_n 0, 1) := dk_30 (dk_at dksX1_common_0 11 rfl rfl)
theorem dX1_common_12 : decode cX1_common 12 = .ok (.lload_n 2, 1) := dk_32 (dk_at dksX1_common_0 12 rfl rfl)
theorem dX1_common_13 : decode cX1_common 13 = .ok (.lrem, 1) := dk_113 (dk_at dksX1_common_0 13 rfl rfl)
theorem dX1_common_14 : decode cX1_common 14 = .ok (.invokestatic 264, 3) := dk_184 1 8 (dk_at dksX1_common_0 14 rfl rfl)
theorem dX1_common_17 : decode cX1_common 17 = .ok (.lreturn, 1) := dk_173 (dk_at dksX1_common_0 17 rfl rfl)
abbrev cX1_weigh_2 : ByteArray := prog_1_method_32_code
def yX1_weigh_2 : MethodName := ⟨RX1, "weigh", "(LSaidSo$Thing;Z)V"⟩
def dkwX1_weigh_2_2 : List UInt8 := [180, 0, 141, 4, 100, 133, 105, 182, 1, 21, 177]
abbrev dktX1_weigh_2_2 : List UInt8 := dkwX1_weigh_2_2 ++ []
def dkwX1_weigh_2_1 : List UInt8 := [167, 0, 32, 42, 16, 10, 42, 180, 0, 28, 100, 133, 43, 180, 0, 141, 133, 105, 20, 1, 19, 43]
abbrev dktX1_weigh_2_1 : List UInt8 := dkwX1_weigh_2_1 ++ dktX1_weigh_2_2
def dkwX1_weigh_2_0 : List UInt8 := [28, 153, 0, 24, 42, 42, 180, 0, 28, 133, 43, 180, 0, 141, 133, 105, 20, 1, 19, 182, 1, 21]
abbrev dktX1_weigh_2_0 : List UInt8 := dkwX1_weigh_2_0 ++ dktX1_weigh_2_1
theorem dksX1_weigh_2_0 : cX1_weigh_2.data.toList.drop 0 = dktX1_weigh_2_0 := by decide +kernel
theorem dksX1_weigh_2_1 : cX1_weigh_2.data.toList.drop 22 = dktX1_weigh_2_1 := dk_seg dksX1_weigh_2_0 22 rfl rfl
theorem dksX1_weigh_2_2 : cX1_weigh_2.data.toList.drop 44 = dktX1_weigh_2_2 := dk_seg dksX1_weigh_2_1 22 rfl rfl
theorem dX1_weigh_2_0 : decode cX1_weigh_2 0 = .ok (.iload_n 2, 1) := dk_28 (dk_at dksX1_weigh_2_0 0 rfl rfl)
theorem dX1_weigh_2_1 : decode cX1_weigh_2 1 = .ok (.ifCond .eq 24, 3) := dk_153 0 24 (dk_at dksX1_weigh_2_0 1 rfl rfl)
theorem dX1_weigh_2_4 : decode cX1_weigh_2 4 = .ok (.aload_n 0, 1) := dk_42 (dk_at dksX1_weigh_2_0 4 rfl rfl)
theorem dX1_weigh_2_5 : decode cX1_weigh_2 5 = .ok (.aload_n 0, 1) := dk_42 (dk_at dksX1_weigh_2_0 5 rfl rfl)
theorem dX1_weigh_2_6 : decode cX1_weigh_2 6 = .ok (.getfield 28, 3) := dk_180 0 28 (dk_at dksX1_weigh_2_0 6 rfl rfl)
theorem dX1_weigh_2_9 : decode cX1_weigh_2 9 = .ok (.i2l, 1) := dk_133 (dk_at dksX1_weigh_2_0 9 rfl rfl)
theorem dX1_weigh_2_10 : decode cX1_weigh_2 10 = .ok (.aload_n 1, 1) := dk_43 (dk_at dksX1_weigh_2_0 10 rfl rfl)
theorem dX1_weigh_2_11 : decode cX1_weigh_2 11 = .ok (.getfield 141, 3) := dk_180 0 141 (dk_at dksX1_weigh_2_0 11 rfl rfl)
theorem dX1_weigh_2_14 : decode cX1_weigh_2 14 = .ok (.i2l, 1) := dk_133 (dk_at dksX1_weigh_2_0 14 rfl rfl)
theorem dX1_weigh_2_15 : decode cX1_weigh_2 15 = .ok (.lmul, 1) := dk_105 (dk_at dksX1_weigh_2_0 15 rfl rfl)
theorem dX1_weigh_2_16 : decode cX1_weigh_2 16 = .ok (.ldc2_w 275, 3) := dk_20 1 19 (dk_at dksX1_weigh_2_0 16 rfl rfl)
theorem dX1_weigh_2_19 : decode cX1_weigh_2 19 = .ok (.invokevirtual 277, 3) := dk_182 1 21 (dk_at dksX1_weigh_2_0 19 rfl rfl)
theorem dX1_weigh_2_22 : decode cX1_weigh_2 22 = .ok (.goto 32, 3) := dk_167 0 32 (dk_at dksX1_weigh_2_1 0 rfl rfl)
theorem dX1_weigh_2_25 : decode cX1_weigh_2 25 = .ok (.aload_n 0, 1) := dk_42 (dk_at dksX1_weigh_2_1 3 rfl rfl)
theorem dX1_weigh_2_26 : decode cX1_weigh_2 26 = .ok (.bipush 10, 2) := dk_16 10 (dk_at dksX1_weigh_2_1 4 rfl rfl)
theorem dX1_weigh_2_28 : decode cX1_weigh_2 28 = .ok (.aload_n 0, 1) := dk_42 (dk_at dksX1_weigh_2_1 6 rfl rfl)
theorem dX1_weigh_2_29 : decode cX1_weigh_2 29 = .ok (.getfield 28, 3) := dk_180 0 28 (dk_at dksX1_weigh_2_1 7 rfl rfl)
theorem dX1_weigh_2_32 : decode cX1_weigh_2 32 = .ok (.isub, 1) := dk_100 (dk_at dksX1_weigh_2_1 10 rfl rfl)
theorem dX1_weigh_2_33 : decode cX1_weigh_2 33 = .ok (.i2l, 1) := dk_133 (dk_at dksX1_weigh_2_1 11 rfl rfl)
theorem dX1_weigh_2_34 : decode cX1_weigh_2 34 = .ok (.aload_n 1, 1) := dk_43 (dk_at dksX1_weigh_2_1 12 rfl rfl)
theorem dX1_weigh_2_35 : decode cX1_weigh_2 35 = .ok (.getfield 141, 3) := dk_180 0 141 (dk_at dksX1_weigh_2_1 13 rfl rfl)
theorem dX1_weigh_2_38 : decode cX1_weigh_2 38 = .ok (.i2l, 1) := dk_133 (dk_at dksX1_weigh_2_1 16 rfl rfl)
theorem dX1_weigh_2_39 : decode cX1_weigh_2 39 = .ok (.lmul, 1) := dk_105 (dk_at dksX1_weigh_2_1 17 rfl rfl)
theorem dX1_weigh_2_40 : decode cX1_weigh_2 40 = .ok (.ldc2_w 275, 3) := dk_20 1 19 (dk_at dksX1_weigh_2_1 18 rfl rfl)
theorem dX1_weigh_2_43 : decode cX1_weigh_2 43 = .ok (.aload_n 1, 1) := dk_43 (dk_at dksX1_weigh_2_1 21 rfl rfl)
theorem dX1_weigh_2_44 : decode cX1_weigh_2 44 = .ok (.getfield 141, 3) := dk_180 0 141 (dk_at dksX1_weigh_2_2 0 rfl rfl)
theorem dX1_weigh_2_47 : decode cX1_weigh_2 47 = .ok (.iconst 1, 1) := dk_4 (dk_at dksX1_weigh_2_2 3 rfl rfl)
theorem dX1_weigh_2_48 : decode cX1_weigh_2 48 = .ok (.isub, 1) := dk_100 (dk_at dksX1_weigh_2_2 4 rfl rfl)
theorem dX1_weigh_2_49 : decode cX1_weigh_2 49 = .ok (.i2l, 1) := dk_133 (dk_at dksX1_weigh_2_2 5 rfl rfl)
theorem dX1_weigh_2_50 : decode cX1_weigh_2 50 = .ok (.lmul, 1) := dk_105 (dk_at dksX1_weigh_2_2 6 rfl rfl)
theorem dX1_weigh_2_51 : decode cX1_weigh_2 51 = .ok (.invokevirtual 277, 3) := dk_182 1 21 (dk_at dksX1_weigh_2_2 7 rfl rfl)
theorem dX1_weigh_2_54 : decode cX1_weigh_2 54 = .ok (.return_, 1) := dk_177 (dk_at dksX1_weigh_2_2 10 rfl rfl)
abbrev cX1_firstPage : ByteArray := prog_1_method_33_code
def yX1_firstPage : MethodName := ⟨RX1, "firstPage", "(II)LSaidSo$Page;"⟩
def dkwX1_firstPage_3 : List UInt8 := [176, 132, 3, 1, 167, 255, 182, 1, 176]
abbrev dktX1_firstPage_3 : List UInt8 := dkwX1_firstPage_3 ++ []
def dkwX1_firstPage_2 : List UInt8 := [192, 1, 28, 180, 1, 31, 28, 160, 0, 18, 42, 180, 0, 49, 180, 1, 25, 29, 182, 0, 135, 192, 1, 28]
abbrev dktX1_firstPage_2 : List UInt8 := dkwX1_firstPage_2 ++ dktX1_firstPage_3
def dkwX1_firstPage_1 : List UInt8 := [182, 0, 135, 192, 1, 28, 180, 1, 30, 27, 160, 0, 39, 42, 180, 0, 49, 180, 1, 25, 29, 182, 0, 135]
abbrev dktX1_firstPage_1 : List UInt8 := dkwX1_firstPage_1 ++ dktX1_firstPage_2
def dkwX1_firstPage_0 : List UInt8 := [3, 62, 29, 42, 180, 0, 49, 180, 1, 25, 182, 0, 119, 162, 0, 66, 42, 180, 0, 49, 180, 1, 25, 29]
abbrev dktX1_firstPage_0 : List UInt8 := dkwX1_firstPage_0 ++ dktX1_firstPage_1
theorem dksX1_firstPage_0 : cX1_firstPage.data.toList.drop 0 = dktX1_firstPage_0 := by decide +kernel
theorem dksX1_firstPage_1 : cX1_firstPage.data.toList.drop 24 = dktX1_firstPage_1 := dk_seg dksX1_firstPage_0 24 rfl rfl
theorem dksX1_firstPage_2 : cX1_firstPage.data.toList.drop 48 = dktX1_firstPage_2 := dk_seg dksX1_firstPage_1 24 rfl rfl
theorem dksX1_firstPage_3 : cX1_firstPage.data.toList.drop 72 = dktX1_firstPage_3 := dk_seg dksX1_firstPage_2 24 rfl rfl
theorem dX1_firstPage_0 : decode cX1_firstPage 0 = .ok (.iconst 0, 1) := dk_3 (dk_at dksX1_firstPage_0 0 rfl rfl)
theorem dX1_firstPage_1 : decode cX1_firstPage 1 = .ok (.istore_n 3, 1) := dk_62 (dk_at dksX1_firstPage_0 1 rfl rfl)
theorem dX1_firstPage_2 : decode cX1_firstPage 2 = .ok (.iload_n 3, 1) := dk_29 (dk_at dksX1_firstPage_0 2 rfl rfl)
theorem dX1_firstPage_3 : decode cX1_firstPage 3 = .ok (.aload_n 0, 1) := dk_42 (dk_at dksX1_firstPage_0 3 rfl rfl)
theorem dX1_firstPage_4 : decode cX1_firstPage 4 = .ok (.getfield 49, 3) := dk_180 0 49 (dk_at dksX1_firstPage_0 4 rfl rfl)
theorem dX1_firstPage_7 : decode cX1_firstPage 7 = .ok (.getfield 281, 3) := dk_180 1 25 (dk_at dksX1_firstPage_0 7 rfl rfl)
theorem dX1_firstPage_10 : decode cX1_firstPage 10 = .ok (.invokevirtual 119, 3) := dk_182 0 119 (dk_at dksX1_firstPage_0 10 rfl rfl)
theorem dX1_firstPage_13 : decode cX1_firstPage 13 = .ok (.if_icmp .ge 66, 3) := dk_162 0 66 (dk_at dksX1_firstPage_0 13 rfl rfl)
theorem dX1_firstPage_16 : decode cX1_firstPage 16 = .ok (.aload_n 0, 1) := dk_42 (dk_at dksX1_firstPage_0 16 rfl rfl)
theorem dX1_firstPage_17 : decode cX1_firstPage 17 = .ok (.getfield 49, 3) := dk_180 0 49 (dk_at dksX1_firstPage_0 17 rfl rfl)
theorem dX1_firstPage_20 : decode cX1_firstPage 20 = .ok (.getfield 281, 3) := dk_180 1 25 (dk_at dksX1_firstPage_0 20 rfl rfl)
theorem dX1_firstPage_23 : decode cX1_firstPage 23 = .ok (.iload_n 3, 1) := dk_29 (dk_at dksX1_firstPage_0 23 rfl rfl)
theorem dX1_firstPage_24 : decode cX1_firstPage 24 = .ok (.invokevirtual 135, 3) := dk_182 0 135 (dk_at dksX1_firstPage_1 0 rfl rfl)
theorem dX1_firstPage_27 : decode cX1_firstPage 27 = .ok (.checkcast 284, 3) := dk_192 1 28 (dk_at dksX1_firstPage_1 3 rfl rfl)
theorem dX1_firstPage_30 : decode cX1_firstPage 30 = .ok (.getfield 286, 3) := dk_180 1 30 (dk_at dksX1_firstPage_1 6 rfl rfl)
theorem dX1_firstPage_33 : decode cX1_firstPage 33 = .ok (.iload_n 1, 1) := dk_27 (dk_at dksX1_firstPage_1 9 rfl rfl)
theorem dX1_firstPage_34 : decode cX1_firstPage 34 = .ok (.if_icmp .ne 39, 3) := dk_160 0 39 (dk_at dksX1_firstPage_1 10 rfl rfl)
theorem dX1_firstPage_37 : decode cX1_firstPage 37 = .ok (.aload_n 0, 1) := dk_42 (dk_at dksX1_firstPage_1 13 rfl rfl)
theorem dX1_firstPage_38 : decode cX1_firstPage 38 = .ok (.getfield 49, 3) := dk_180 0 49 (dk_at dksX1_firstPage_1 14 rfl rfl)
theorem dX1_firstPage_41 : decode cX1_firstPage 41 = .ok (.getfield 281, 3) := dk_180 1 25 (dk_at dksX1_firstPage_1 17 rfl rfl)
theorem dX1_firstPage_44 : decode cX1_firstPage 44 = .ok (.iload_n 3, 1) := dk_29 (dk_at dksX1_firstPage_1 20 rfl rfl)
theorem dX1_firstPage_45 : decode cX1_firstPage 45 = .ok (.invokevirtual 135, 3) := dk_182 0 135 (dk_at dksX1_firstPage_1 21 rfl rfl)
theorem dX1_firstPage_48 : decode cX1_firstPage 48 = .ok (.checkcast 284, 3) := dk_192 1 28 (dk_at dksX1_firstPage_2 0 rfl rfl)
theorem dX1_firstPage_51 : decode cX1_firstPage 51 = .ok (.getfield 287, 3) := dk_180 1 31 (dk_at dksX1_firstPage_2 3 rfl rfl)
theorem dX1_firstPage_54 : decode cX1_firstPage 54 = .ok (.iload_n 2, 1) := dk_28 (dk_at dksX1_firstPage_2 6 rfl rfl)
theorem dX1_firstPage_55 : decode cX1_firstPage 55 = .ok (.if_icmp .ne 18, 3) := dk_160 0 18 (dk_at dksX1_firstPage_2 7 rfl rfl)
theorem dX1_firstPage_58 : decode cX1_firstPage 58 = .ok (.aload_n 0, 1) := dk_42 (dk_at dksX1_firstPage_2 10 rfl rfl)
theorem dX1_firstPage_59 : decode cX1_firstPage 59 = .ok (.getfield 49, 3) := dk_180 0 49 (dk_at dksX1_firstPage_2 11 rfl rfl)
theorem dX1_firstPage_62 : decode cX1_firstPage 62 = .ok (.getfield 281, 3) := dk_180 1 25 (dk_at dksX1_firstPage_2 14 rfl rfl)
theorem dX1_firstPage_65 : decode cX1_firstPage 65 = .ok (.iload_n 3, 1) := dk_29 (dk_at dksX1_firstPage_2 17 rfl rfl)
theorem dX1_firstPage_66 : decode cX1_firstPage 66 = .ok (.invokevirtual 135, 3) := dk_182 0 135 (dk_at dksX1_firstPage_2 18 rfl rfl)
theorem dX1_firstPage_69 : decode cX1_firstPage 69 = .ok (.checkcast 284, 3) := dk_192 1 28 (dk_at dksX1_firstPage_2 21 rfl rfl)
theorem dX1_firstPage_72 : decode cX1_firstPage 72 = .ok (.areturn, 1) := dk_176 (dk_at dksX1_firstPage_3 0 rfl rfl)
theorem dX1_firstPage_73 : decode cX1_firstPage 73 = .ok (.iinc 3 1, 3) := dk_132 3 1 (dk_at dksX1_firstPage_3 1 rfl rfl)
theorem dX1_firstPage_76 : decode cX1_firstPage 76 = .ok (.goto (-74), 3) := dk_167 255 182 (dk_at dksX1_firstPage_3 4 rfl rfl)
theorem dX1_firstPage_79 : decode cX1_firstPage 79 = .ok (.aconst_null, 1) := dk_1 (dk_at dksX1_firstPage_3 7 rfl rfl)
theorem dX1_firstPage_80 : decode cX1_firstPage 80 = .ok (.areturn, 1) := dk_176 (dk_at dksX1_firstPage_3 8 rfl rfl)
abbrev cX1_page : ByteArray := prog_1_method_38_code
def yX1_page : MethodName := ⟨RX1, "page", "(I)I"⟩
def dkwX1_page_1 : List UInt8 := [180, 0, 49, 180, 1, 25, 27, 182, 0, 135, 192, 1, 28, 182, 1, 53, 167, 0, 4, 2, 172]
abbrev dktX1_page_1 : List UInt8 := dkwX1_page_1 ++ []
def dkwX1_page_0 : List UInt8 := [27, 3, 42, 180, 0, 49, 180, 1, 25, 182, 0, 119, 4, 100, 184, 0, 80, 153, 0, 24, 42, 42]
abbrev dktX1_page_0 : List UInt8 := dkwX1_page_0 ++ dktX1_page_1
theorem dksX1_page_0 : cX1_page.data.toList.drop 0 = dktX1_page_0 := by decide +kernel
theorem dksX1_page_1 : cX1_page.data.toList.drop 22 = dktX1_page_1 := dk_seg dksX1_page_0 22 rfl rfl
theorem dX1_page_0 : decode cX1_page 0 = .ok (.iload_n 1, 1) := dk_27 (dk_at dksX1_page_0 0 rfl rfl)
theorem dX1_page_1 : decode cX1_page 1 = .ok (.iconst 0, 1) := dk_3 (dk_at dksX1_page_0 1 rfl rfl)
theorem dX1_page_2 : decode cX1_page 2 = .ok (.aload_n 0, 1) := dk_42 (dk_at dksX1_page_0 2 rfl rfl)
theorem dX1_page_3 : decode cX1_page 3 = .ok (.getfield 49, 3) := dk_180 0 49 (dk_at dksX1_page_0 3 rfl rfl)
theorem dX1_page_6 : decode cX1_page 6 = .ok (.getfield 281, 3) := dk_180 1 25 (dk_at dksX1_page_0 6 rfl rfl)
theorem dX1_page_9 : decode cX1_page 9 = .ok (.invokevirtual 119, 3) := dk_182 0 119 (dk_at dksX1_page_0 9 rfl rfl)
theorem dX1_page_12 : decode cX1_page 12 = .ok (.iconst 1, 1) := dk_4 (dk_at dksX1_page_0 12 rfl rfl)
theorem dX1_page_13 : decode cX1_page 13 = .ok (.isub, 1) := dk_100 (dk_at dksX1_page_0 13 rfl rfl)
theorem dX1_page_14 : decode cX1_page 14 = .ok (.invokestatic 80, 3) := dk_184 0 80 (dk_at dksX1_page_0 14 rfl rfl)
theorem dX1_page_17 : decode cX1_page 17 = .ok (.ifCond .eq 24, 3) := dk_153 0 24 (dk_at dksX1_page_0 17 rfl rfl)
theorem dX1_page_20 : decode cX1_page 20 = .ok (.aload_n 0, 1) := dk_42 (dk_at dksX1_page_0 20 rfl rfl)
theorem dX1_page_21 : decode cX1_page 21 = .ok (.aload_n 0, 1) := dk_42 (dk_at dksX1_page_0 21 rfl rfl)
theorem dX1_page_22 : decode cX1_page 22 = .ok (.getfield 49, 3) := dk_180 0 49 (dk_at dksX1_page_1 0 rfl rfl)
theorem dX1_page_25 : decode cX1_page 25 = .ok (.getfield 281, 3) := dk_180 1 25 (dk_at dksX1_page_1 3 rfl rfl)
theorem dX1_page_28 : decode cX1_page 28 = .ok (.iload_n 1, 1) := dk_27 (dk_at dksX1_page_1 6 rfl rfl)
theorem dX1_page_29 : decode cX1_page 29 = .ok (.invokevirtual 135, 3) := dk_182 0 135 (dk_at dksX1_page_1 7 rfl rfl)
theorem dX1_page_32 : decode cX1_page 32 = .ok (.checkcast 284, 3) := dk_192 1 28 (dk_at dksX1_page_1 10 rfl rfl)
theorem dX1_page_35 : decode cX1_page 35 = .ok (.invokevirtual 309, 3) := dk_182 1 53 (dk_at dksX1_page_1 13 rfl rfl)
theorem dX1_page_38 : decode cX1_page 38 = .ok (.goto 4, 3) := dk_167 0 4 (dk_at dksX1_page_1 16 rfl rfl)
theorem dX1_page_41 : decode cX1_page 41 = .ok (.iconst (-1), 1) := dk_2 (dk_at dksX1_page_1 19 rfl rfl)
theorem dX1_page_42 : decode cX1_page 42 = .ok (.ireturn, 1) := dk_172 (dk_at dksX1_page_1 20 rfl rfl)
abbrev cX1_kindOf : ByteArray := prog_1_method_37_code
def yX1_kindOf : MethodName := ⟨RX1, "kindOf", "(LSaidSo$Page;)I"⟩
def dkwX1_kindOf_2 : List UInt8 := [180, 1, 44, 182, 1, 49, 2, 159, 0, 7, 4, 167, 0, 4, 5, 172]
abbrev dktX1_kindOf_2 : List UInt8 := dkwX1_kindOf_2 ++ []
def dkwX1_kindOf_1 : List UInt8 := [180, 1, 48, 43, 180, 1, 44, 160, 0, 7, 3, 167, 0, 28, 42, 43, 180, 1, 30, 43, 180, 1, 31, 43]
abbrev dktX1_kindOf_1 : List UInt8 := dkwX1_kindOf_1 ++ dktX1_kindOf_2
def dkwX1_kindOf_0 : List UInt8 := [42, 43, 180, 1, 30, 43, 180, 1, 31, 182, 1, 45, 77, 44, 199, 0, 7, 6, 167, 0, 43, 44]
abbrev dktX1_kindOf_0 : List UInt8 := dkwX1_kindOf_0 ++ dktX1_kindOf_1
theorem dksX1_kindOf_0 : cX1_kindOf.data.toList.drop 0 = dktX1_kindOf_0 := by decide +kernel
theorem dksX1_kindOf_1 : cX1_kindOf.data.toList.drop 22 = dktX1_kindOf_1 := dk_seg dksX1_kindOf_0 22 rfl rfl
theorem dksX1_kindOf_2 : cX1_kindOf.data.toList.drop 46 = dktX1_kindOf_2 := dk_seg dksX1_kindOf_1 24 rfl rfl
theorem dX1_kindOf_0 : decode cX1_kindOf 0 = .ok (.aload_n 0, 1) := dk_42 (dk_at dksX1_kindOf_0 0 rfl rfl)
theorem dX1_kindOf_1 : decode cX1_kindOf 1 = .ok (.aload_n 1, 1) := dk_43 (dk_at dksX1_kindOf_0 1 rfl rfl)
theorem dX1_kindOf_2 : decode cX1_kindOf 2 = .ok (.getfield 286, 3) := dk_180 1 30 (dk_at dksX1_kindOf_0 2 rfl rfl)
theorem dX1_kindOf_5 : decode cX1_kindOf 5 = .ok (.aload_n 1, 1) := dk_43 (dk_at dksX1_kindOf_0 5 rfl rfl)
theorem dX1_kindOf_6 : decode cX1_kindOf 6 = .ok (.getfield 287, 3) := dk_180 1 31 (dk_at dksX1_kindOf_0 6 rfl rfl)
theorem dX1_kindOf_9 : decode cX1_kindOf 9 = .ok (.invokevirtual 301, 3) := dk_182 1 45 (dk_at dksX1_kindOf_0 9 rfl rfl)
theorem dX1_kindOf_12 : decode cX1_kindOf 12 = .ok (.astore_n 2, 1) := dk_77 (dk_at dksX1_kindOf_0 12 rfl rfl)
theorem dX1_kindOf_13 : decode cX1_kindOf 13 = .ok (.aload_n 2, 1) := dk_44 (dk_at dksX1_kindOf_0 13 rfl rfl)
theorem dX1_kindOf_14 : decode cX1_kindOf 14 = .ok (.ifnonnull 7, 3) := dk_199 0 7 (dk_at dksX1_kindOf_0 14 rfl rfl)
theorem dX1_kindOf_17 : decode cX1_kindOf 17 = .ok (.iconst 3, 1) := dk_6 (dk_at dksX1_kindOf_0 17 rfl rfl)
theorem dX1_kindOf_18 : decode cX1_kindOf 18 = .ok (.goto 43, 3) := dk_167 0 43 (dk_at dksX1_kindOf_0 18 rfl rfl)
theorem dX1_kindOf_21 : decode cX1_kindOf 21 = .ok (.aload_n 2, 1) := dk_44 (dk_at dksX1_kindOf_0 21 rfl rfl)
theorem dX1_kindOf_22 : decode cX1_kindOf 22 = .ok (.getfield 304, 3) := dk_180 1 48 (dk_at dksX1_kindOf_1 0 rfl rfl)
theorem dX1_kindOf_25 : decode cX1_kindOf 25 = .ok (.aload_n 1, 1) := dk_43 (dk_at dksX1_kindOf_1 3 rfl rfl)
theorem dX1_kindOf_26 : decode cX1_kindOf 26 = .ok (.getfield 300, 3) := dk_180 1 44 (dk_at dksX1_kindOf_1 4 rfl rfl)
theorem dX1_kindOf_29 : decode cX1_kindOf 29 = .ok (.if_icmp .ne 7, 3) := dk_160 0 7 (dk_at dksX1_kindOf_1 7 rfl rfl)
theorem dX1_kindOf_32 : decode cX1_kindOf 32 = .ok (.iconst 0, 1) := dk_3 (dk_at dksX1_kindOf_1 10 rfl rfl)
theorem dX1_kindOf_33 : decode cX1_kindOf 33 = .ok (.goto 28, 3) := dk_167 0 28 (dk_at dksX1_kindOf_1 11 rfl rfl)
theorem dX1_kindOf_36 : decode cX1_kindOf 36 = .ok (.aload_n 0, 1) := dk_42 (dk_at dksX1_kindOf_1 14 rfl rfl)
theorem dX1_kindOf_37 : decode cX1_kindOf 37 = .ok (.aload_n 1, 1) := dk_43 (dk_at dksX1_kindOf_1 15 rfl rfl)
theorem dX1_kindOf_38 : decode cX1_kindOf 38 = .ok (.getfield 286, 3) := dk_180 1 30 (dk_at dksX1_kindOf_1 16 rfl rfl)
theorem dX1_kindOf_41 : decode cX1_kindOf 41 = .ok (.aload_n 1, 1) := dk_43 (dk_at dksX1_kindOf_1 19 rfl rfl)
theorem dX1_kindOf_42 : decode cX1_kindOf 42 = .ok (.getfield 287, 3) := dk_180 1 31 (dk_at dksX1_kindOf_1 20 rfl rfl)
theorem dX1_kindOf_45 : decode cX1_kindOf 45 = .ok (.aload_n 1, 1) := dk_43 (dk_at dksX1_kindOf_1 23 rfl rfl)
theorem dX1_kindOf_46 : decode cX1_kindOf 46 = .ok (.getfield 300, 3) := dk_180 1 44 (dk_at dksX1_kindOf_2 0 rfl rfl)
theorem dX1_kindOf_49 : decode cX1_kindOf 49 = .ok (.invokevirtual 305, 3) := dk_182 1 49 (dk_at dksX1_kindOf_2 3 rfl rfl)
theorem dX1_kindOf_52 : decode cX1_kindOf 52 = .ok (.iconst (-1), 1) := dk_2 (dk_at dksX1_kindOf_2 6 rfl rfl)
theorem dX1_kindOf_53 : decode cX1_kindOf 53 = .ok (.if_icmp .eq 7, 3) := dk_159 0 7 (dk_at dksX1_kindOf_2 7 rfl rfl)
theorem dX1_kindOf_56 : decode cX1_kindOf 56 = .ok (.iconst 1, 1) := dk_4 (dk_at dksX1_kindOf_2 10 rfl rfl)
theorem dX1_kindOf_57 : decode cX1_kindOf 57 = .ok (.goto 4, 3) := dk_167 0 4 (dk_at dksX1_kindOf_2 11 rfl rfl)
theorem dX1_kindOf_60 : decode cX1_kindOf 60 = .ok (.iconst 2, 1) := dk_5 (dk_at dksX1_kindOf_2 14 rfl rfl)
theorem dX1_kindOf_61 : decode cX1_kindOf 61 = .ok (.ireturn, 1) := dk_172 (dk_at dksX1_kindOf_2 15 rfl rfl)
abbrev cX1_latest : ByteArray := prog_1_method_35_code
def yX1_latest : MethodName := ⟨RX1, "latest", "(II)LSaidSo$Word;"⟩
def dkwX1_latest_1 : List UInt8 := [28, 182, 0, 227, 198, 0, 12, 42, 21, 4, 27, 28, 182, 0, 227, 78, 132, 4, 1, 167, 255, 218, 45, 176]
abbrev dktX1_latest_1 : List UInt8 := dkwX1_latest_1 ++ []
def dkwX1_latest_0 : List UInt8 := [1, 78, 3, 54, 4, 21, 4, 42, 180, 0, 49, 180, 0, 173, 182, 0, 119, 162, 0, 29, 42, 21, 4, 27]
abbrev dktX1_latest_0 : List UInt8 := dkwX1_latest_0 ++ dktX1_latest_1
theorem dksX1_latest_0 : cX1_latest.data.toList.drop 0 = dktX1_latest_0 := by decide +kernel
theorem dksX1_latest_1 : cX1_latest.data.toList.drop 24 = dktX1_latest_1 := dk_seg dksX1_latest_0 24 rfl rfl
theorem dX1_latest_0 : decode cX1_latest 0 = .ok (.aconst_null, 1) := dk_1 (dk_at dksX1_latest_0 0 rfl rfl)
theorem dX1_latest_1 : decode cX1_latest 1 = .ok (.astore_n 3, 1) := dk_78 (dk_at dksX1_latest_0 1 rfl rfl)
theorem dX1_latest_2 : decode cX1_latest 2 = .ok (.iconst 0, 1) := dk_3 (dk_at dksX1_latest_0 2 rfl rfl)
theorem dX1_latest_3 : decode cX1_latest 3 = .ok (.istore 4, 2) := dk_54 4 (dk_at dksX1_latest_0 3 rfl rfl)
theorem dX1_latest_5 : decode cX1_latest 5 = .ok (.iload 4, 2) := dk_21 4 (dk_at dksX1_latest_0 5 rfl rfl)
theorem dX1_latest_7 : decode cX1_latest 7 = .ok (.aload_n 0, 1) := dk_42 (dk_at dksX1_latest_0 7 rfl rfl)
theorem dX1_latest_8 : decode cX1_latest 8 = .ok (.getfield 49, 3) := dk_180 0 49 (dk_at dksX1_latest_0 8 rfl rfl)
theorem dX1_latest_11 : decode cX1_latest 11 = .ok (.getfield 173, 3) := dk_180 0 173 (dk_at dksX1_latest_0 11 rfl rfl)
theorem dX1_latest_14 : decode cX1_latest 14 = .ok (.invokevirtual 119, 3) := dk_182 0 119 (dk_at dksX1_latest_0 14 rfl rfl)
theorem dX1_latest_17 : decode cX1_latest 17 = .ok (.if_icmp .ge 29, 3) := dk_162 0 29 (dk_at dksX1_latest_0 17 rfl rfl)
theorem dX1_latest_20 : decode cX1_latest 20 = .ok (.aload_n 0, 1) := dk_42 (dk_at dksX1_latest_0 20 rfl rfl)
theorem dX1_latest_21 : decode cX1_latest 21 = .ok (.iload 4, 2) := dk_21 4 (dk_at dksX1_latest_0 21 rfl rfl)
theorem dX1_latest_23 : decode cX1_latest 23 = .ok (.iload_n 1, 1) := dk_27 (dk_at dksX1_latest_0 23 rfl rfl)
theorem dX1_latest_24 : decode cX1_latest 24 = .ok (.iload_n 2, 1) := dk_28 (dk_at dksX1_latest_1 0 rfl rfl)
theorem dX1_latest_25 : decode cX1_latest 25 = .ok (.invokevirtual 227, 3) := dk_182 0 227 (dk_at dksX1_latest_1 1 rfl rfl)
theorem dX1_latest_28 : decode cX1_latest 28 = .ok (.ifnull 12, 3) := dk_198 0 12 (dk_at dksX1_latest_1 4 rfl rfl)
theorem dX1_latest_31 : decode cX1_latest 31 = .ok (.aload_n 0, 1) := dk_42 (dk_at dksX1_latest_1 7 rfl rfl)
theorem dX1_latest_32 : decode cX1_latest 32 = .ok (.iload 4, 2) := dk_21 4 (dk_at dksX1_latest_1 8 rfl rfl)
theorem dX1_latest_34 : decode cX1_latest 34 = .ok (.iload_n 1, 1) := dk_27 (dk_at dksX1_latest_1 10 rfl rfl)
theorem dX1_latest_35 : decode cX1_latest 35 = .ok (.iload_n 2, 1) := dk_28 (dk_at dksX1_latest_1 11 rfl rfl)
theorem dX1_latest_36 : decode cX1_latest 36 = .ok (.invokevirtual 227, 3) := dk_182 0 227 (dk_at dksX1_latest_1 12 rfl rfl)
theorem dX1_latest_39 : decode cX1_latest 39 = .ok (.astore_n 3, 1) := dk_78 (dk_at dksX1_latest_1 15 rfl rfl)
theorem dX1_latest_40 : decode cX1_latest 40 = .ok (.iinc 4 1, 3) := dk_132 4 1 (dk_at dksX1_latest_1 16 rfl rfl)
theorem dX1_latest_43 : decode cX1_latest 43 = .ok (.goto (-38), 3) := dk_167 255 218 (dk_at dksX1_latest_1 19 rfl rfl)
theorem dX1_latest_46 : decode cX1_latest 46 = .ok (.aload_n 3, 1) := dk_45 (dk_at dksX1_latest_1 22 rfl rfl)
theorem dX1_latest_47 : decode cX1_latest 47 = .ok (.areturn, 1) := dk_176 (dk_at dksX1_latest_1 23 rfl rfl)
abbrev cX1_said : ByteArray := prog_1_method_36_code
def yX1_said : MethodName := ⟨RX1, "said", "(III)I"⟩
def dkwX1_said_2 : List UInt8 := [29, 160, 0, 6, 21, 4, 172, 132, 4, 1, 167, 255, 202, 2, 172]
abbrev dktX1_said_2 : List UInt8 := dkwX1_said_2 ++ []
def dkwX1_said_1 : List UInt8 := [182, 0, 227, 198, 0, 28, 42, 180, 0, 49, 180, 0, 173, 21, 4, 182, 0, 135, 192, 0, 176, 180, 0, 199]
abbrev dktX1_said_1 : List UInt8 := dkwX1_said_1 ++ dktX1_said_2
def dkwX1_said_0 : List UInt8 := [3, 54, 4, 21, 4, 42, 180, 0, 49, 180, 0, 173, 182, 0, 119, 162, 0, 45, 42, 21, 4, 27, 28]
abbrev dktX1_said_0 : List UInt8 := dkwX1_said_0 ++ dktX1_said_1
theorem dksX1_said_0 : cX1_said.data.toList.drop 0 = dktX1_said_0 := by decide +kernel
theorem dksX1_said_1 : cX1_said.data.toList.drop 23 = dktX1_said_1 := dk_seg dksX1_said_0 23 rfl rfl
theorem dksX1_said_2 : cX1_said.data.toList.drop 47 = dktX1_said_2 := dk_seg dksX1_said_1 24 rfl rfl
theorem dX1_said_0 : decode cX1_said 0 = .ok (.iconst 0, 1) := dk_3 (dk_at dksX1_said_0 0 rfl rfl)
theorem dX1_said_1 : decode cX1_said 1 = .ok (.istore 4, 2) := dk_54 4 (dk_at dksX1_said_0 1 rfl rfl)
theorem dX1_said_3 : decode cX1_said 3 = .ok (.iload 4, 2) := dk_21 4 (dk_at dksX1_said_0 3 rfl rfl)
theorem dX1_said_5 : decode cX1_said 5 = .ok (.aload_n 0, 1) := dk_42 (dk_at dksX1_said_0 5 rfl rfl)
theorem dX1_said_6 : decode cX1_said 6 = .ok (.getfield 49, 3) := dk_180 0 49 (dk_at dksX1_said_0 6 rfl rfl)
theorem dX1_said_9 : decode cX1_said 9 = .ok (.getfield 173, 3) := dk_180 0 173 (dk_at dksX1_said_0 9 rfl rfl)
theorem dX1_said_12 : decode cX1_said 12 = .ok (.invokevirtual 119, 3) := dk_182 0 119 (dk_at dksX1_said_0 12 rfl rfl)
theorem dX1_said_15 : decode cX1_said 15 = .ok (.if_icmp .ge 45, 3) := dk_162 0 45 (dk_at dksX1_said_0 15 rfl rfl)
theorem dX1_said_18 : decode cX1_said 18 = .ok (.aload_n 0, 1) := dk_42 (dk_at dksX1_said_0 18 rfl rfl)
theorem dX1_said_19 : decode cX1_said 19 = .ok (.iload 4, 2) := dk_21 4 (dk_at dksX1_said_0 19 rfl rfl)
theorem dX1_said_21 : decode cX1_said 21 = .ok (.iload_n 1, 1) := dk_27 (dk_at dksX1_said_0 21 rfl rfl)
theorem dX1_said_22 : decode cX1_said 22 = .ok (.iload_n 2, 1) := dk_28 (dk_at dksX1_said_0 22 rfl rfl)
theorem dX1_said_23 : decode cX1_said 23 = .ok (.invokevirtual 227, 3) := dk_182 0 227 (dk_at dksX1_said_1 0 rfl rfl)
theorem dX1_said_26 : decode cX1_said 26 = .ok (.ifnull 28, 3) := dk_198 0 28 (dk_at dksX1_said_1 3 rfl rfl)
theorem dX1_said_29 : decode cX1_said 29 = .ok (.aload_n 0, 1) := dk_42 (dk_at dksX1_said_1 6 rfl rfl)
theorem dX1_said_30 : decode cX1_said 30 = .ok (.getfield 49, 3) := dk_180 0 49 (dk_at dksX1_said_1 7 rfl rfl)
theorem dX1_said_33 : decode cX1_said 33 = .ok (.getfield 173, 3) := dk_180 0 173 (dk_at dksX1_said_1 10 rfl rfl)
theorem dX1_said_36 : decode cX1_said 36 = .ok (.iload 4, 2) := dk_21 4 (dk_at dksX1_said_1 13 rfl rfl)
theorem dX1_said_38 : decode cX1_said 38 = .ok (.invokevirtual 135, 3) := dk_182 0 135 (dk_at dksX1_said_1 15 rfl rfl)
theorem dX1_said_41 : decode cX1_said 41 = .ok (.checkcast 176, 3) := dk_192 0 176 (dk_at dksX1_said_1 18 rfl rfl)
theorem dX1_said_44 : decode cX1_said 44 = .ok (.getfield 199, 3) := dk_180 0 199 (dk_at dksX1_said_1 21 rfl rfl)
theorem dX1_said_47 : decode cX1_said 47 = .ok (.iload_n 3, 1) := dk_29 (dk_at dksX1_said_2 0 rfl rfl)
theorem dX1_said_48 : decode cX1_said 48 = .ok (.if_icmp .ne 6, 3) := dk_160 0 6 (dk_at dksX1_said_2 1 rfl rfl)
theorem dX1_said_51 : decode cX1_said 51 = .ok (.iload 4, 2) := dk_21 4 (dk_at dksX1_said_2 4 rfl rfl)
theorem dX1_said_53 : decode cX1_said 53 = .ok (.ireturn, 1) := dk_172 (dk_at dksX1_said_2 6 rfl rfl)
theorem dX1_said_54 : decode cX1_said 54 = .ok (.iinc 4 1, 3) := dk_132 4 1 (dk_at dksX1_said_2 7 rfl rfl)
theorem dX1_said_57 : decode cX1_said 57 = .ok (.goto (-54), 3) := dk_167 255 202 (dk_at dksX1_said_2 10 rfl rfl)
theorem dX1_said_60 : decode cX1_said 60 = .ok (.iconst (-1), 1) := dk_2 (dk_at dksX1_said_2 13 rfl rfl)
theorem dX1_said_61 : decode cX1_said 61 = .ok (.ireturn, 1) := dk_172 (dk_at dksX1_said_2 14 rfl rfl)
abbrev cX1_left : ByteArray := prog_1_method_40_code
def yX1_left : MethodName := ⟨RX1, "left", "(I)I"⟩
def dkwX1_left_3 : List UInt8 := [4, 167, 0, 4, 3, 96, 61, 132, 3, 1, 167, 255, 191, 28, 172]
abbrev dktX1_left_3 : List UInt8 := dkwX1_left_3 ++ []
def dkwX1_left_2 : List UInt8 := [182, 0, 242, 154, 0, 25, 42, 27, 25, 4, 180, 1, 57, 25, 4, 180, 1, 48, 182, 1, 58, 154, 0, 7]
abbrev dktX1_left_2 : List UInt8 := dkwX1_left_2 ++ dktX1_left_3
def dkwX1_left_1 : List UInt8 := [182, 0, 119, 162, 0, 57, 42, 29, 27, 2, 182, 0, 227, 58, 4, 28, 25, 4, 198, 0, 33, 25, 4]
abbrev dktX1_left_1 : List UInt8 := dkwX1_left_1 ++ dktX1_left_2
def dkwX1_left_0 : List UInt8 := [42, 27, 182, 0, 156, 154, 0, 5, 2, 172, 3, 61, 3, 62, 29, 42, 180, 0, 49, 180, 0, 173]
abbrev dktX1_left_0 : List UInt8 := dkwX1_left_0 ++ dktX1_left_1
theorem dksX1_left_0 : cX1_left.data.toList.drop 0 = dktX1_left_0 := by decide +kernel
theorem dksX1_left_1 : cX1_left.data.toList.drop 22 = dktX1_left_1 := dk_seg dksX1_left_0 22 rfl rfl
theorem dksX1_left_2 : cX1_left.data.toList.drop 45 = dktX1_left_2 := dk_seg dksX1_left_1 23 rfl rfl
theorem dksX1_left_3 : cX1_left.data.toList.drop 69 = dktX1_left_3 := dk_seg dksX1_left_2 24 rfl rfl
theorem dX1_left_0 : decode cX1_left 0 = .ok (.aload_n 0, 1) := dk_42 (dk_at dksX1_left_0 0 rfl rfl)
theorem dX1_left_1 : decode cX1_left 1 = .ok (.iload_n 1, 1) := dk_27 (dk_at dksX1_left_0 1 rfl rfl)
theorem dX1_left_2 : decode cX1_left 2 = .ok (.invokevirtual 156, 3) := dk_182 0 156 (dk_at dksX1_left_0 2 rfl rfl)
theorem dX1_left_5 : decode cX1_left 5 = .ok (.ifCond .ne 5, 3) := dk_154 0 5 (dk_at dksX1_left_0 5 rfl rfl)
theorem dX1_left_8 : decode cX1_left 8 = .ok (.iconst (-1), 1) := dk_2 (dk_at dksX1_left_0 8 rfl rfl)
theorem dX1_left_9 : decode cX1_left 9 = .ok (.ireturn, 1) := dk_172 (dk_at dksX1_left_0 9 rfl rfl)
theorem dX1_left_10 : decode cX1_left 10 = .ok (.iconst 0, 1) := dk_3 (dk_at dksX1_left_0 10 rfl rfl)
theorem dX1_left_11 : decode cX1_left 11 = .ok (.istore_n 2, 1) := dk_61 (dk_at dksX1_left_0 11 rfl rfl)
theorem dX1_left_12 : decode cX1_left 12 = .ok (.iconst 0, 1) := dk_3 (dk_at dksX1_left_0 12 rfl rfl)
theorem dX1_left_13 : decode cX1_left 13 = .ok (.istore_n 3, 1) := dk_62 (dk_at dksX1_left_0 13 rfl rfl)
theorem dX1_left_14 : decode cX1_left 14 = .ok (.iload_n 3, 1) := dk_29 (dk_at dksX1_left_0 14 rfl rfl)
theorem dX1_left_15 : decode cX1_left 15 = .ok (.aload_n 0, 1) := dk_42 (dk_at dksX1_left_0 15 rfl rfl)
theorem dX1_left_16 : decode cX1_left 16 = .ok (.getfield 49, 3) := dk_180 0 49 (dk_at dksX1_left_0 16 rfl rfl)
theorem dX1_left_19 : decode cX1_left 19 = .ok (.getfield 173, 3) := dk_180 0 173 (dk_at dksX1_left_0 19 rfl rfl)
theorem dX1_left_22 : decode cX1_left 22 = .ok (.invokevirtual 119, 3) := dk_182 0 119 (dk_at dksX1_left_1 0 rfl rfl)
theorem dX1_left_25 : decode cX1_left 25 = .ok (.if_icmp .ge 57, 3) := dk_162 0 57 (dk_at dksX1_left_1 3 rfl rfl)
theorem dX1_left_28 : decode cX1_left 28 = .ok (.aload_n 0, 1) := dk_42 (dk_at dksX1_left_1 6 rfl rfl)
theorem dX1_left_29 : decode cX1_left 29 = .ok (.iload_n 3, 1) := dk_29 (dk_at dksX1_left_1 7 rfl rfl)
theorem dX1_left_30 : decode cX1_left 30 = .ok (.iload_n 1, 1) := dk_27 (dk_at dksX1_left_1 8 rfl rfl)
theorem dX1_left_31 : decode cX1_left 31 = .ok (.iconst (-1), 1) := dk_2 (dk_at dksX1_left_1 9 rfl rfl)
theorem dX1_left_32 : decode cX1_left 32 = .ok (.invokevirtual 227, 3) := dk_182 0 227 (dk_at dksX1_left_1 10 rfl rfl)
theorem dX1_left_35 : decode cX1_left 35 = .ok (.astore 4, 2) := dk_58 4 (dk_at dksX1_left_1 13 rfl rfl)
theorem dX1_left_37 : decode cX1_left 37 = .ok (.iload_n 2, 1) := dk_28 (dk_at dksX1_left_1 15 rfl rfl)
theorem dX1_left_38 : decode cX1_left 38 = .ok (.aload 4, 2) := dk_25 4 (dk_at dksX1_left_1 16 rfl rfl)
theorem dX1_left_40 : decode cX1_left 40 = .ok (.ifnull 33, 3) := dk_198 0 33 (dk_at dksX1_left_1 18 rfl rfl)
theorem dX1_left_43 : decode cX1_left 43 = .ok (.aload 4, 2) := dk_25 4 (dk_at dksX1_left_1 21 rfl rfl)
theorem dX1_left_45 : decode cX1_left 45 = .ok (.invokevirtual 242, 3) := dk_182 0 242 (dk_at dksX1_left_2 0 rfl rfl)
theorem dX1_left_48 : decode cX1_left 48 = .ok (.ifCond .ne 25, 3) := dk_154 0 25 (dk_at dksX1_left_2 3 rfl rfl)
theorem dX1_left_51 : decode cX1_left 51 = .ok (.aload_n 0, 1) := dk_42 (dk_at dksX1_left_2 6 rfl rfl)
theorem dX1_left_52 : decode cX1_left 52 = .ok (.iload_n 1, 1) := dk_27 (dk_at dksX1_left_2 7 rfl rfl)
theorem dX1_left_53 : decode cX1_left 53 = .ok (.aload 4, 2) := dk_25 4 (dk_at dksX1_left_2 8 rfl rfl)
theorem dX1_left_55 : decode cX1_left 55 = .ok (.getfield 313, 3) := dk_180 1 57 (dk_at dksX1_left_2 10 rfl rfl)
theorem dX1_left_58 : decode cX1_left 58 = .ok (.aload 4, 2) := dk_25 4 (dk_at dksX1_left_2 13 rfl rfl)
theorem dX1_left_60 : decode cX1_left 60 = .ok (.getfield 304, 3) := dk_180 1 48 (dk_at dksX1_left_2 15 rfl rfl)
theorem dX1_left_63 : decode cX1_left 63 = .ok (.invokevirtual 314, 3) := dk_182 1 58 (dk_at dksX1_left_2 18 rfl rfl)
theorem dX1_left_66 : decode cX1_left 66 = .ok (.ifCond .ne 7, 3) := dk_154 0 7 (dk_at dksX1_left_2 21 rfl rfl)
theorem dX1_left_69 : decode cX1_left 69 = .ok (.iconst 1, 1) := dk_4 (dk_at dksX1_left_3 0 rfl rfl)
theorem dX1_left_70 : decode cX1_left 70 = .ok (.goto 4, 3) := dk_167 0 4 (dk_at dksX1_left_3 1 rfl rfl)
theorem dX1_left_73 : decode cX1_left 73 = .ok (.iconst 0, 1) := dk_3 (dk_at dksX1_left_3 4 rfl rfl)
theorem dX1_left_74 : decode cX1_left 74 = .ok (.iadd, 1) := dk_96 (dk_at dksX1_left_3 5 rfl rfl)
theorem dX1_left_75 : decode cX1_left 75 = .ok (.istore_n 2, 1) := dk_61 (dk_at dksX1_left_3 6 rfl rfl)
theorem dX1_left_76 : decode cX1_left 76 = .ok (.iinc 3 1, 3) := dk_132 3 1 (dk_at dksX1_left_3 7 rfl rfl)
theorem dX1_left_79 : decode cX1_left 79 = .ok (.goto (-65), 3) := dk_167 255 191 (dk_at dksX1_left_3 10 rfl rfl)
theorem dX1_left_82 : decode cX1_left 82 = .ok (.iload_n 2, 1) := dk_28 (dk_at dksX1_left_3 13 rfl rfl)
theorem dX1_left_83 : decode cX1_left 83 = .ok (.ireturn, 1) := dk_172 (dk_at dksX1_left_3 14 rfl rfl)
abbrev cX1_hasPage : ByteArray := prog_1_method_39_code
def yX1_hasPage : MethodName := ⟨RX1, "hasPage", "(III)Z"⟩
def dkwX1_hasPage_3 : List UInt8 := [3, 172]
abbrev dktX1_hasPage_3 : List UInt8 := dkwX1_hasPage_3 ++ []
def dkwX1_hasPage_2 : List UInt8 := [180, 1, 31, 28, 160, 0, 14, 25, 5, 180, 1, 44, 29, 160, 0, 5, 4, 172, 132, 4, 1, 167, 255, 192]
abbrev dktX1_hasPage_2 : List UInt8 := dkwX1_hasPage_2 ++ dktX1_hasPage_3
def dkwX1_hasPage_1 : List UInt8 := [180, 1, 25, 21, 4, 182, 0, 135, 192, 1, 28, 58, 5, 25, 5, 180, 1, 30, 27, 160, 0, 23, 25, 5]
abbrev dktX1_hasPage_1 : List UInt8 := dkwX1_hasPage_1 ++ dktX1_hasPage_2
def dkwX1_hasPage_0 : List UInt8 := [3, 54, 4, 21, 4, 42, 180, 0, 49, 180, 1, 25, 182, 0, 119, 162, 0, 55, 42, 180, 0, 49]
abbrev dktX1_hasPage_0 : List UInt8 := dkwX1_hasPage_0 ++ dktX1_hasPage_1
theorem dksX1_hasPage_0 : cX1_hasPage.data.toList.drop 0 = dktX1_hasPage_0 := by decide +kernel
theorem dksX1_hasPage_1 : cX1_hasPage.data.toList.drop 22 = dktX1_hasPage_1 := dk_seg dksX1_hasPage_0 22 rfl rfl
theorem dksX1_hasPage_2 : cX1_hasPage.data.toList.drop 46 = dktX1_hasPage_2 := dk_seg dksX1_hasPage_1 24 rfl rfl
theorem dksX1_hasPage_3 : cX1_hasPage.data.toList.drop 70 = dktX1_hasPage_3 := dk_seg dksX1_hasPage_2 24 rfl rfl
theorem dX1_hasPage_0 : decode cX1_hasPage 0 = .ok (.iconst 0, 1) := dk_3 (dk_at dksX1_hasPage_0 0 rfl rfl)
theorem dX1_hasPage_1 : decode cX1_hasPage 1 = .ok (.istore 4, 2) := dk_54 4 (dk_at dksX1_hasPage_0 1 rfl rfl)
theorem dX1_hasPage_3 : decode cX1_hasPage 3 = .ok (.iload 4, 2) := dk_21 4 (dk_at dksX1_hasPage_0 3 rfl rfl)
theorem dX1_hasPage_5 : decode cX1_hasPage 5 = .ok (.aload_n 0, 1) := dk_42 (dk_at dksX1_hasPage_0 5 rfl rfl)
theorem dX1_hasPage_6 : decode cX1_hasPage 6 = .ok (.getfield 49, 3) := dk_180 0 49 (dk_at dksX1_hasPage_0 6 rfl rfl)
theorem dX1_hasPage_9 : decode cX1_hasPage 9 = .ok (.getfield 281, 3) := dk_180 1 25 (dk_at dksX1_hasPage_0 9 rfl rfl)
theorem dX1_hasPage_12 : decode cX1_hasPage 12 = .ok (.invokevirtual 119, 3) := dk_182 0 119 (dk_at dksX1_hasPage_0 12 rfl rfl)
theorem dX1_hasPage_15 : decode cX1_hasPage 15 = .ok (.if_icmp .ge 55, 3) := dk_162 0 55 (dk_at dksX1_hasPage_0 15 rfl rfl)
theorem dX1_hasPage_18 : decode cX1_hasPage 18 = .ok (.aload_n 0, 1) := dk_42 (dk_at dksX1_hasPage_0 18 rfl rfl)
theorem dX1_hasPage_19 : decode cX1_hasPage 19 = .ok (.getfield 49, 3) := dk_180 0 49 (dk_at dksX1_hasPage_0 19 rfl rfl)
theorem dX1_hasPage_22 : decode cX1_hasPage 22 = .ok (.getfield 281, 3) := dk_180 1 25 (dk_at dksX1_hasPage_1 0 rfl rfl)
theorem dX1_hasPage_25 : decode cX1_hasPage 25 = .ok (.iload 4, 2) := dk_21 4 (dk_at dksX1_hasPage_1 3 rfl rfl)
theorem dX1_hasPage_27 : decode cX1_hasPage 27 = .ok (.invokevirtual 135, 3) := dk_182 0 135 (dk_at dksX1_hasPage_1 5 rfl rfl)
theorem dX1_hasPage_30 : decode cX1_hasPage 30 = .ok (.checkcast 284, 3) := dk_192 1 28 (dk_at dksX1_hasPage_1 8 rfl rfl)
theorem dX1_hasPage_33 : decode cX1_hasPage 33 = .ok (.astore 5, 2) := dk_58 5 (dk_at dksX1_hasPage_1 11 rfl rfl)
theorem dX1_hasPage_35 : decode cX1_hasPage 35 = .ok (.aload 5, 2) := dk_25 5 (dk_at dksX1_hasPage_1 13 rfl rfl)
theorem dX1_hasPage_37 : decode cX1_hasPage 37 = .ok (.getfield 286, 3) := dk_180 1 30 (dk_at dksX1_hasPage_1 15 rfl rfl)
theorem dX1_hasPage_40 : decode cX1_hasPage 40 = .ok (.iload_n 1, 1) := dk_27 (dk_at dksX1_hasPage_1 18 rfl rfl)
theorem dX1_hasPage_41 : decode cX1_hasPage 41 = .ok (.if_icmp .ne 23, 3) := dk_160 0 23 (dk_at dksX1_hasPage_1 19 rfl rfl)
theorem dX1_hasPage_44 : decode cX1_hasPage 44 = .ok (.aload 5, 2) := dk_25 5 (dk_at dksX1_hasPage_1 22 rfl rfl)
theorem dX1_hasPage_46 : decode cX1_hasPage 46 = .ok (.getfield 287, 3) := dk_180 1 31 (dk_at dksX1_hasPage_2 0 rfl rfl)
theorem dX1_hasPage_49 : decode cX1_hasPage 49 = .ok (.iload_n 2, 1) := dk_28 (dk_at dksX1_hasPage_2 3 rfl rfl)
theorem dX1_hasPage_50 : decode cX1_hasPage 50 = .ok (.if_icmp .ne 14, 3) := dk_160 0 14 (dk_at dksX1_hasPage_2 4 rfl rfl)
theorem dX1_hasPage_53 : decode cX1_hasPage 53 = .ok (.aload 5, 2) := dk_25 5 (dk_at dksX1_hasPage_2 7 rfl rfl)
theorem dX1_hasPage_55 : decode cX1_hasPage 55 = .ok (.getfield 300, 3) := dk_180 1 44 (dk_at dksX1_hasPage_2 9 rfl rfl)
theorem dX1_hasPage_58 : decode cX1_hasPage 58 = .ok (.iload_n 3, 1) := dk_29 (dk_at dksX1_hasPage_2 12 rfl rfl)
theorem dX1_hasPage_59 : decode cX1_hasPage 59 = .ok (.if_icmp .ne 5, 3) := dk_160 0 5 (dk_at dksX1_hasPage_2 13 rfl rfl)
theorem dX1_hasPage_62 : decode cX1_hasPage 62 = .ok (.iconst 1, 1) := dk_4 (dk_at dksX1_hasPage_2 16 rfl rfl)
theorem dX1_hasPage_63 : decode cX1_hasPage 63 = .ok (.ireturn, 1) := dk_172 (dk_at dksX1_hasPage_2 17 rfl rfl)
theorem dX1_hasPage_64 : decode cX1_hasPage 64 = .ok (.iinc 4 1, 3) := dk_132 4 1 (dk_at dksX1_hasPage_2 18 rfl rfl)
theorem dX1_hasPage_67 : decode cX1_hasPage 67 = .ok (.goto (-64), 3) := dk_167 255 192 (dk_at dksX1_hasPage_2 21 rfl rfl)
theorem dX1_hasPage_70 : decode cX1_hasPage 70 = .ok (.iconst 0, 1) := dk_3 (dk_at dksX1_hasPage_3 0 rfl rfl)
theorem dX1_hasPage_71 : decode cX1_hasPage 71 = .ok (.ireturn, 1) := dk_172 (dk_at dksX1_hasPage_3 1 rfl rfl)
abbrev cX1_moved : ByteArray := prog_1_method_41_code
def yX1_moved : MethodName := ⟨RX1, "moved", "(I)I"⟩
def dkwX1_moved_7 : List UInt8 := [184, 1, 61, 62, 132, 2, 1, 132, 4, 1, 167, 255, 102, 28, 29, 100, 172]
abbrev dktX1_moved_7 : List UInt8 := dkwX1_moved_7 ++ []
def dkwX1_moved_6 : List UInt8 := [21, 6, 46, 4, 96, 184, 1, 61, 79, 132, 6, 1, 167, 255, 207, 29, 42, 180, 0, 57, 28, 46]
abbrev dktX1_moved_6 : List UInt8 := dkwX1_moved_6 ++ dktX1_moved_7
def dkwX1_moved_5 : List UInt8 := [180, 0, 61, 28, 46, 163, 0, 27, 42, 180, 0, 57, 28, 42, 180, 0, 57, 28, 46, 42, 180, 0, 57]
abbrev dktX1_moved_5 : List UInt8 := dkwX1_moved_5 ++ dktX1_moved_6
def dkwX1_moved_4 : List UInt8 := [180, 0, 57, 28, 4, 79, 3, 54, 6, 21, 6, 28, 162, 0, 49, 42, 180, 0, 61, 21, 6, 46, 42]
abbrev dktX1_moved_4 : List UInt8 := dkwX1_moved_4 ++ dktX1_moved_5
def dkwX1_moved_3 : List UInt8 := [42, 180, 0, 61, 28, 42, 27, 25, 5, 180, 1, 31, 25, 5, 180, 1, 44, 182, 1, 49, 79, 42]
abbrev dktX1_moved_3 : List UInt8 := dkwX1_moved_3 ++ dktX1_moved_4
def dkwX1_moved_2 : List UInt8 := [58, 5, 25, 5, 180, 1, 30, 27, 160, 0, 113, 42, 25, 5, 182, 1, 53, 4, 164, 0, 6, 167, 0, 100]
abbrev dktX1_moved_2 : List UInt8 := dkwX1_moved_2 ++ dktX1_moved_3
def dkwX1_moved_1 : List UInt8 := [180, 1, 25, 182, 0, 119, 162, 0, 145, 42, 180, 0, 49, 180, 1, 25, 21, 4, 182, 0, 135, 192, 1, 28]
abbrev dktX1_moved_1 : List UInt8 := dkwX1_moved_1 ++ dktX1_moved_2
def dkwX1_moved_0 : List UInt8 := [42, 27, 182, 0, 156, 154, 0, 5, 2, 172, 3, 61, 3, 62, 3, 54, 4, 21, 4, 42, 180, 0, 49]
abbrev dktX1_moved_0 : List UInt8 := dkwX1_moved_0 ++ dktX1_moved_1
theorem dksX1_moved_0 : cX1_moved.data.toList.drop 0 = dktX1_moved_0 := by decide +kernel
theorem dksX1_moved_1 : cX1_moved.data.toList.drop 23 = dktX1_moved_1 := dk_seg dksX1_moved_0 23 rfl rfl
theorem dksX1_moved_2 : cX1_moved.data.toList.drop 47 = dktX1_moved_2 := dk_seg dksX1_moved_1 24 rfl rfl
theorem dksX1_moved_3 : cX1_moved.data.toList.drop 71 = dktX1_moved_3 := dk_seg dksX1_moved_2 24 rfl rfl
theorem dksX1_moved_4 : cX1_moved.data.toList.drop 93 = dktX1_moved_4 := dk_seg dksX1_moved_3 22 rfl rfl
theorem dksX1_moved_5 : cX1_moved.data.toList.drop 116 = dktX1_moved_5 := dk_seg dksX1_moved_4 23 rfl rfl
theorem dksX1_moved_6 : cX1_moved.data.toList.drop 139 = dktX1_moved_6 := dk_seg dksX1_moved_5 23 rfl rfl
theorem dksX1_moved_7 : cX1_moved.data.toList.drop 161 = dktX1_moved_7 := dk_seg dksX1_moved_6 22 rfl rfl
theorem dX1_moved_0 : decode cX1_moved 0 = .ok (.aload_n 0, 1) := dk_42 (dk_at dksX1_moved_0 0 rfl rfl)
theorem dX1_moved_1 : decode cX1_moved 1 = .ok (.iload_n 1, 1) := dk_27 (dk_at dksX1_moved_0 1 rfl rfl)
theorem dX1_moved_2 : decode cX1_moved 2 = .ok (.invokevirtual 156, 3) := dk_182 0 156 (dk_at dksX1_moved_0 2 rfl rfl)
theorem dX1_moved_5 : decode cX1_moved 5 = .ok (.ifCond .ne 5, 3) := dk_154 0 5 (dk_at dksX1_moved_0 5 rfl rfl)
theorem dX1_moved_8 : decode cX1_moved 8 = .ok (.iconst (-1), 1) := dk_2 (dk_at dksX1_moved_0 8 rfl rfl)
theorem dX1_moved_9 : decode cX1_moved 9 = .ok (.ireturn, 1) := dk_172 (dk_at dksX1_moved_0 9 rfl rfl)
theorem dX1_moved_10 : decode cX1_moved 10 = .ok (.iconst 0, 1) := dk_3 (dk_at dksX1_moved_0 10 rfl rfl)
theorem dX1_moved_11 : decode cX1_moved 11 = .ok (.istore_n 2, 1) := dk_61 (dk_at dksX1_moved_0 11 rfl rfl)
theorem dX1_moved_12 : decode cX1_moved 12 = .ok (.iconst 0, 1) := dk_3 (dk_at dksX1_moved_0 12 rfl rfl)
theorem dX1_moved_13 : decode cX1_moved 13 = .ok (.istore_n 3, 1) := dk_62 (dk_at dksX1_moved_0 13 rfl rfl)
theorem dX1_moved_14 : decode cX1_moved 14 = .ok (.iconst 0, 1) := dk_3 (dk_at dksX1_moved_0 14 rfl rfl)
theorem dX1_moved_15 : decode cX1_moved 15 = .ok (.istore 4, 2) := dk_54 4 (dk_at dksX1_moved_0 15 rfl rfl)
theorem dX1_moved_17 : decode cX1_moved 17 = .ok (.iload 4, 2) := dk_21 4 (dk_at dksX1_moved_0 17 rfl rfl)
theorem dX1_moved_19 : decode cX1_moved 19 = .ok (.aload_n 0, 1) := dk_42 (dk_at dksX1_moved_0 19 rfl rfl)
theorem dX1_moved_20 : decode cX1_moved 20 = .ok (.getfield 49, 3) := dk_180 0 49 (dk_at dksX1_moved_0 20 rfl rfl)
theorem dX1_moved_23 : decode cX1_moved 23 = .ok (.getfield 281, 3) := dk_180 1 25 (dk_at dksX1_moved_1 0 rfl rfl)
theorem dX1_moved_26 : decode cX1_moved 26 = .ok (.invokevirtual 119, 3) := dk_182 0 119 (dk_at dksX1_moved_1 3 rfl rfl)
theorem dX1_moved_29 : decode cX1_moved 29 = .ok (.if_icmp .ge 145, 3) := dk_162 0 145 (dk_at dksX1_moved_1 6 rfl rfl)
theorem dX1_moved_32 : decode cX1_moved 32 = .ok (.aload_n 0, 1) := dk_42 (dk_at dksX1_moved_1 9 rfl rfl)
theorem dX1_moved_33 : decode cX1_moved 33 = .ok (.getfield 49, 3) := dk_180 0 49 (dk_at dksX1_moved_1 10 rfl rfl)
theorem dX1_moved_36 : decode cX1_moved 36 = .ok (.getfield 281, 3) := dk_180 1 25 (dk_at dksX1_moved_1 13 rfl rfl)
theorem dX1_moved_39 : decode cX1_moved 39 = .ok (.iload 4, 2) := dk_21 4 (dk_at dksX1_moved_1 16 rfl rfl)
theorem dX1_moved_41 : decode cX1_moved 41 = .ok (.invokevirtual 135, 3) := dk_182 0 135 (dk_at dksX1_moved_1 18 rfl rfl)
theorem dX1_moved_44 : decode cX1_moved 44 = .ok (.checkcast 284, 3) := dk_192 1 28 (dk_at dksX1_moved_1 21 rfl rfl)
theorem dX1_moved_47 : decode cX1_moved 47 = .ok (.astore 5, 2) := dk_58 5 (dk_at dksX1_moved_2 0 rfl rfl)
theorem dX1_moved_49 : decode cX1_moved 49 = .ok (.aload 5, 2) := dk_25 5 (dk_at dksX1_moved_2 2 rfl rfl)
theorem dX1_moved_51 : decode cX1_moved 51 = .ok (.getfield 286, 3) := dk_180 1 30 (dk_at dksX1_moved_2 4 rfl rfl)
theorem dX1_moved_54 : decode cX1_moved 54 = .ok (.iload_n 1, 1) := dk_27 (dk_at dksX1_moved_2 7 rfl rfl)
theorem dX1_moved_55 : decode cX1_moved 55 = .ok (.if_icmp .ne 113, 3) := dk_160 0 113 (dk_at dksX1_moved_2 8 rfl rfl)
theorem dX1_moved_58 : decode cX1_moved 58 = .ok (.aload_n 0, 1) := dk_42 (dk_at dksX1_moved_2 11 rfl rfl)
theorem dX1_moved_59 : decode cX1_moved 59 = .ok (.aload 5, 2) := dk_25 5 (dk_at dksX1_moved_2 12 rfl rfl)
theorem dX1_moved_61 : decode cX1_moved 61 = .ok (.invokevirtual 309, 3) := dk_182 1 53 (dk_at dksX1_moved_2 14 rfl rfl)
theorem dX1_moved_64 : decode cX1_moved 64 = .ok (.iconst 1, 1) := dk_4 (dk_at dksX1_moved_2 17 rfl rfl)
theorem dX1_moved_65 : decode cX1_moved 65 = .ok (.if_icmp .le 6, 3) := dk_164 0 6 (dk_at dksX1_moved_2 18 rfl rfl)
theorem dX1_moved_68 : decode cX1_moved 68 = .ok (.goto 100, 3) := dk_167 0 100 (dk_at dksX1_moved_2 21 rfl rfl)
theorem dX1_moved_71 : decode cX1_moved 71 = .ok (.aload_n 0, 1) := dk_42 (dk_at dksX1_moved_3 0 rfl rfl)
theorem dX1_moved_72 : decode cX1_moved 72 = .ok (.getfield 61, 3) := dk_180 0 61 (dk_at dksX1_moved_3 1 rfl rfl)
theorem dX1_moved_75 : decode cX1_moved 75 = .ok (.iload_n 2, 1) := dk_28 (dk_at dksX1_moved_3 4 rfl rfl)
theorem dX1_moved_76 : decode cX1_moved 76 = .ok (.aload_n 0, 1) := dk_42 (dk_at dksX1_moved_3 5 rfl rfl)
theorem dX1_moved_77 : decode cX1_moved 77 = .ok (.iload_n 1, 1) := dk_27 (dk_at dksX1_moved_3 6 rfl rfl)
theorem dX1_moved_78 : decode cX1_moved 78 = .ok (.aload 5, 2) := dk_25 5 (dk_at dksX1_moved_3 7 rfl rfl)
theorem dX1_moved_80 : decode cX1_moved 80 = .ok (.getfield 287, 3) := dk_180 1 31 (dk_at dksX1_moved_3 9 rfl rfl)
theorem dX1_moved_83 : decode cX1_moved 83 = .ok (.aload 5, 2) := dk_25 5 (dk_at dksX1_moved_3 12 rfl rfl)
theorem dX1_moved_85 : decode cX1_moved 85 = .ok (.getfield 300, 3) := dk_180 1 44 (dk_at dksX1_moved_3 14 rfl rfl)
theorem dX1_moved_88 : decode cX1_moved 88 = .ok (.invokevirtual 305, 3) := dk_182 1 49 (dk_at dksX1_moved_3 17 rfl rfl)
theorem dX1_moved_91 : decode cX1_moved 91 = .ok (.iastore, 1) := dk_79 (dk_at dksX1_moved_3 20 rfl rfl)
theorem dX1_moved_92 : decode cX1_moved 92 = .ok (.aload_n 0, 1) := dk_42 (dk_at dksX1_moved_3 21 rfl rfl)
theorem dX1_moved_93 : decode cX1_moved 93 = .ok (.getfield 57, 3) := dk_180 0 57 (dk_at dksX1_moved_4 0 rfl rfl)
theorem dX1_moved_96 : decode cX1_moved 96 = .ok (.iload_n 2, 1) := dk_28 (dk_at dksX1_moved_4 3 rfl rfl)
theorem dX1_moved_97 : decode cX1_moved 97 = .ok (.iconst 1, 1) := dk_4 (dk_at dksX1_moved_4 4 rfl rfl)
theorem dX1_moved_98 : decode cX1_moved 98 = .ok (.iastore, 1) := dk_79 (dk_at dksX1_moved_4 5 rfl rfl)
theorem dX1_moved_99 : decode cX1_moved 99 = .ok (.iconst 0, 1) := dk_3 (dk_at dksX1_moved_4 6 rfl rfl)
theorem dX1_moved_100 : decode cX1_moved 100 = .ok (.istore 6, 2) := dk_54 6 (dk_at dksX1_moved_4 7 rfl rfl)
theorem dX1_moved_102 : decode cX1_moved 102 = .ok (.iload 6, 2) := dk_21 6 (dk_at dksX1_moved_4 9 rfl rfl)
theorem dX1_moved_104 : decode cX1_moved 104 = .ok (.iload_n 2, 1) := dk_28 (dk_at dksX1_moved_4 11 rfl rfl)
theorem dX1_moved_105 : decode cX1_moved 105 = .ok (.if_icmp .ge 49, 3) := dk_162 0 49 (dk_at dksX1_moved_4 12 rfl rfl)
theorem dX1_moved_108 : decode cX1_moved 108 = .ok (.aload_n 0, 1) := dk_42 (dk_at dksX1_moved_4 15 rfl rfl)
theorem dX1_moved_109 : decode cX1_moved 109 = .ok (.getfield 61, 3) := dk_180 0 61 (dk_at dksX1_moved_4 16 rfl rfl)
theorem dX1_moved_112 : decode cX1_moved 112 = .ok (.iload 6, 2) := dk_21 6 (dk_at dksX1_moved_4 19 rfl rfl)
theorem dX1_moved_114 : decode cX1_moved 114 = .ok (.iaload, 1) := dk_46 (dk_at dksX1_moved_4 21 rfl rfl)
theorem dX1_moved_115 : decode cX1_moved 115 = .ok (.aload_n 0, 1) := dk_42 (dk_at dksX1_moved_4 22 rfl rfl)
theorem dX1_moved_116 : decode cX1_moved 116 = .ok (.getfield 61, 3) := dk_180 0 61 (dk_at dksX1_moved_5 0 rfl rfl)
theorem dX1_moved_119 : decode cX1_moved 119 = .ok (.iload_n 2, 1) := dk_28 (dk_at dksX1_moved_5 3 rfl rfl)
theorem dX1_moved_120 : decode cX1_moved 120 = .ok (.iaload, 1) := dk_46 (dk_at dksX1_moved_5 4 rfl rfl)
theorem dX1_moved_121 : decode cX1_moved 121 = .ok (.if_icmp .gt 27, 3) := dk_163 0 27 (dk_at dksX1_moved_5 5 rfl rfl)
theorem dX1_moved_124 : decode cX1_moved 124 = .ok (.aload_n 0, 1) := dk_42 (dk_at dksX1_moved_5 8 rfl rfl)
theorem dX1_moved_125 : decode cX1_moved 125 = .ok (.getfield 57, 3) := dk_180 0 57 (dk_at dksX1_moved_5 9 rfl rfl)
theorem dX1_moved_128 : decode cX1_moved 128 = .ok (.iload_n 2, 1) := dk_28 (dk_at dksX1_moved_5 12 rfl rfl)
theorem dX1_moved_129 : decode cX1_moved 129 = .ok (.aload_n 0, 1) := dk_42 (dk_at dksX1_moved_5 13 rfl rfl)
theorem dX1_moved_130 : decode cX1_moved 130 = .ok (.getfield 57, 3) := dk_180 0 57 (dk_at dksX1_moved_5 14 rfl rfl)
theorem dX1_moved_133 : decode cX1_moved 133 = .ok (.iload_n 2, 1) := dk_28 (dk_at dksX1_moved_5 17 rfl rfl)
theorem dX1_moved_134 : decode cX1_moved 134 = .ok (.iaload, 1) := dk_46 (dk_at dksX1_moved_5 18 rfl rfl)
theorem dX1_moved_135 : decode cX1_moved 135 = .ok (.aload_n 0, 1) := dk_42 (dk_at dksX1_moved_5 19 rfl rfl)
theorem dX1_moved_136 : decode cX1_moved 136 = .ok (.getfield 57, 3) := dk_180 0 57 (dk_at dksX1_moved_5 20 rfl rfl)
theorem dX1_moved_139 : decode cX1_moved 139 = .ok (.iload 6, 2) := dk_21 6 (dk_at dksX1_moved_6 0 rfl rfl)
theorem dX1_moved_141 : decode cX1_moved 141 = .ok (.iaload, 1) := dk_46 (dk_at dksX1_moved_6 2 rfl rfl)
theorem dX1_moved_142 : decode cX1_moved 142 = .ok (.iconst 1, 1) := dk_4 (dk_at dksX1_moved_6 3 rfl rfl)
theorem dX1_moved_143 : decode cX1_moved 143 = .ok (.iadd, 1) := dk_96 (dk_at dksX1_moved_6 4 rfl rfl)
theorem dX1_moved_144 : decode cX1_moved 144 = .ok (.invokestatic 317, 3) := dk_184 1 61 (dk_at dksX1_moved_6 5 rfl rfl)
theorem dX1_moved_147 : decode cX1_moved 147 = .ok (.iastore, 1) := dk_79 (dk_at dksX1_moved_6 8 rfl rfl)
theorem dX1_moved_148 : decode cX1_moved 148 = .ok (.iinc 6 1, 3) := dk_132 6 1 (dk_at dksX1_moved_6 9 rfl rfl)
theorem dX1_moved_151 : decode cX1_moved 151 = .ok (.goto (-49), 3) := dk_167 255 207 (dk_at dksX1_moved_6 12 rfl rfl)
theorem dX1_moved_154 : decode cX1_moved 154 = .ok (.iload_n 3, 1) := dk_29 (dk_at dksX1_moved_6 15 rfl rfl)
theorem dX1_moved_155 : decode cX1_moved 155 = .ok (.aload_n 0, 1) := dk_42 (dk_at dksX1_moved_6 16 rfl rfl)
theorem dX1_moved_156 : decode cX1_moved 156 = .ok (.getfield 57, 3) := dk_180 0 57 (dk_at dksX1_moved_6 17 rfl rfl)
theorem dX1_moved_159 : decode cX1_moved 159 = .ok (.iload_n 2, 1) := dk_28 (dk_at dksX1_moved_6 20 rfl rfl)
theorem dX1_moved_160 : decode cX1_moved 160 = .ok (.iaload, 1) := dk_46 (dk_at dksX1_moved_6 21 rfl rfl)
theorem dX1_moved_161 : decode cX1_moved 161 = .ok (.invokestatic 317, 3) := dk_184 1 61 (dk_at dksX1_moved_7 0 rfl rfl)
theorem dX1_moved_164 : decode cX1_moved 164 = .ok (.istore_n 3, 1) := dk_62 (dk_at dksX1_moved_7 3 rfl rfl)
theorem dX1_moved_165 : decode cX1_moved 165 = .ok (.iinc 2 1, 3) := dk_132 2 1 (dk_at dksX1_moved_7 4 rfl rfl)
theorem dX1_moved_168 : decode cX1_moved 168 = .ok (.iinc 4 1, 3) := dk_132 4 1 (dk_at dksX1_moved_7 7 rfl rfl)
theorem dX1_moved_171 : decode cX1_moved 171 = .ok (.goto (-154), 3) := dk_167 255 102 (dk_at dksX1_moved_7 10 rfl rfl)
theorem dX1_moved_174 : decode cX1_moved 174 = .ok (.iload_n 2, 1) := dk_28 (dk_at dksX1_moved_7 13 rfl rfl)
theorem dX1_moved_175 : decode cX1_moved 175 = .ok (.iload_n 3, 1) := dk_29 (dk_at dksX1_moved_7 14 rfl rfl)
theorem dX1_moved_176 : decode cX1_moved 176 = .ok (.isub, 1) := dk_100 (dk_at dksX1_moved_7 15 rfl rfl)
theorem dX1_moved_177 : decode cX1_moved 177 = .ok (.ireturn, 1) := dk_172 (dk_at dksX1_moved_7 16 rfl rfl)
abbrev cX1_story : ByteArray := prog_1_method_43_code
def yX1_story : MethodName := ⟨RX1, "story", "(II)I"⟩
def dkwX1_story_1 : List UInt8 := [167, 0, 5, 16, 254, 172]
abbrev dktX1_story_1 : List UInt8 := dkwX1_story_1 ++ []
def dkwX1_story_0 : List UInt8 := [42, 27, 182, 0, 156, 153, 0, 20, 42, 28, 182, 0, 128, 153, 0, 12, 42, 27, 28, 182, 1, 67]
abbrev dktX1_story_0 : List UInt8 := dkwX1_story_0 ++ dktX1_story_1
theorem dksX1_story_0 : cX1_story.data.toList.drop 0 = dktX1_story_0 := by decide +kernel
theorem dksX1_story_1 : cX1_story.data.toList.drop 22 = dktX1_story_1 := dk_seg dksX1_story_0 22 rfl rfl
theorem dX1_story_0 : decode cX1_story 0 = .ok (.aload_n 0, 1) := dk_42 (dk_at dksX1_story_0 0 rfl rfl)
theorem dX1_story_1 : decode cX1_story 1 = .ok (.iload_n 1, 1) := dk_27 (dk_at dksX1_story_0 1 rfl rfl)
theorem dX1_story_2 : decode cX1_story 2 = .ok (.invokevirtual 156, 3) := dk_182 0 156 (dk_at dksX1_story_0 2 rfl rfl)
theorem dX1_story_5 : decode cX1_story 5 = .ok (.ifCond .eq 20, 3) := dk_153 0 20 (dk_at dksX1_story_0 5 rfl rfl)
theorem dX1_story_8 : decode cX1_story 8 = .ok (.aload_n 0, 1) := dk_42 (dk_at dksX1_story_0 8 rfl rfl)
theorem dX1_story_9 : decode cX1_story 9 = .ok (.iload_n 2, 1) := dk_28 (dk_at dksX1_story_0 9 rfl rfl)
theorem dX1_story_10 : decode cX1_story 10 = .ok (.invokevirtual 128, 3) := dk_182 0 128 (dk_at dksX1_story_0 10 rfl rfl)
theorem dX1_story_13 : decode cX1_story 13 = .ok (.ifCond .eq 12, 3) := dk_153 0 12 (dk_at dksX1_story_0 13 rfl rfl)
theorem dX1_story_16 : decode cX1_story 16 = .ok (.aload_n 0, 1) := dk_42 (dk_at dksX1_story_0 16 rfl rfl)
theorem dX1_story_17 : decode cX1_story 17 = .ok (.iload_n 1, 1) := dk_27 (dk_at dksX1_story_0 17 rfl rfl)
theorem dX1_story_18 : decode cX1_story 18 = .ok (.iload_n 2, 1) := dk_28 (dk_at dksX1_story_0 18 rfl rfl)
theorem dX1_story_19 : decode cX1_story 19 = .ok (.invokevirtual 323, 3) := dk_182 1 67 (dk_at dksX1_story_0 19 rfl rfl)
theorem dX1_story_22 : decode cX1_story 22 = .ok (.goto 5, 3) := dk_167 0 5 (dk_at dksX1_story_1 0 rfl rfl)
theorem dX1_story_25 : decode cX1_story 25 = .ok (.bipush (-2), 2) := dk_16 254 (dk_at dksX1_story_1 3 rfl rfl)
theorem dX1_story_27 : decode cX1_story 27 = .ok (.ireturn, 1) := dk_172 (dk_at dksX1_story_1 5 rfl rfl)
abbrev cX1_storyOf : ByteArray := prog_1_method_42_code
def yX1_storyOf : MethodName := ⟨RX1, "storyOf", "(II)I"⟩
def dkwX1_storyOf_0 : List UInt8 := [42, 27, 28, 182, 1, 45, 78, 45, 199, 0, 7, 2, 167, 0, 7, 45, 180, 1, 48, 172]
abbrev dktX1_storyOf_0 : List UInt8 := dkwX1_storyOf_0 ++ []
theorem dksX1_storyOf_0 : cX1_storyOf.data.toList.drop 0 = dktX1_storyOf_0 := by decide +kernel
theorem dX1_storyOf_0 : decode cX1_storyOf 0 = .ok (.aload_n 0, 1) := dk_42 (dk_at dksX1_storyOf_0 0 rfl rfl)
theorem dX1_storyOf_1 : decode cX1_storyOf 1 = .ok (.iload_n 1, 1) := dk_27 (dk_at dksX1_storyOf_0 1 rfl rfl)
theorem dX1_storyOf_2 : decode cX1_storyOf 2 = .ok (.iload_n 2, 1) := dk_28 (dk_at dksX1_storyOf_0 2 rfl rfl)
theorem dX1_storyOf_3 : decode cX1_storyOf 3 = .ok (.invokevirtual 301, 3) := dk_182 1 45 (dk_at dksX1_storyOf_0 3 rfl rfl)
theorem dX1_storyOf_6 : decode cX1_storyOf 6 = .ok (.astore_n 3, 1) := dk_78 (dk_at dksX1_storyOf_0 6 rfl rfl)
theorem dX1_storyOf_7 : decode cX1_storyOf 7 = .ok (.aload_n 3, 1) := dk_45 (dk_at dksX1_storyOf_0 7 rfl rfl)
theorem dX1_storyOf_8 : decode cX1_storyOf 8 = .ok (.ifnonnull 7, 3) := dk_199 0 7 (dk_at dksX1_storyOf_0 8 rfl rfl)
theorem dX1_storyOf_11 : decode cX1_storyOf 11 = .ok (.iconst (-1), 1) := dk_2 (dk_at dksX1_storyOf_0 11 rfl rfl)
theorem dX1_storyOf_12 : decode cX1_storyOf 12 = .ok (.goto 7, 3) := dk_167 0 7 (dk_at dksX1_storyOf_0 12 rfl rfl)
theorem dX1_storyOf_15 : decode cX1_storyOf 15 = .ok (.aload_n 3, 1) := dk_45 (dk_at dksX1_storyOf_0 15 rfl rfl)
theorem dX1_storyOf_16 : decode cX1_storyOf 16 = .ok (.getfield 304, 3) := dk_180 1 48 (dk_at dksX1_storyOf_0 16 rfl rfl)
theorem dX1_storyOf_19 : decode cX1_storyOf 19 = .ok (.ireturn, 1) := dk_172 (dk_at dksX1_storyOf_0 19 rfl rfl)
abbrev cX1_clash : ByteArray := prog_1_method_45_code
def yX1_clash : MethodName := ⟨RX1, "clash", "(II)I"⟩
def dkwX1_clash_1 : List UInt8 := [182, 1, 70, 167, 0, 4, 2, 172]
abbrev dktX1_clash_1 : List UInt8 := dkwX1_clash_1 ++ []
def dkwX1_clash_0 : List UInt8 := [42, 27, 182, 0, 156, 153, 0, 25, 42, 28, 182, 0, 156, 153, 0, 17, 27, 28, 159, 0, 12, 42, 27, 28]
abbrev dktX1_clash_0 : List UInt8 := dkwX1_clash_0 ++ dktX1_clash_1
theorem dksX1_clash_0 : cX1_clash.data.toList.drop 0 = dktX1_clash_0 := by decide +kernel
theorem dksX1_clash_1 : cX1_clash.data.toList.drop 24 = dktX1_clash_1 := dk_seg dksX1_clash_0 24 rfl rfl
theorem dX1_clash_0 : decode cX1_clash 0 = .ok (.aload_n 0, 1) := dk_42 (dk_at dksX1_clash_0 0 rfl rfl)
theorem dX1_clash_1 : decode cX1_clash 1 = .ok (.iload_n 1, 1) := dk_27 (dk_at dksX1_clash_0 1 rfl rfl)
theorem dX1_clash_2 : decode cX1_clash 2 = .ok (.invokevirtual 156, 3) := dk_182 0 156 (dk_at dksX1_clash_0 2 rfl rfl)
theorem dX1_clash_5 : decode cX1_clash 5 = .ok (.ifCond .eq 25, 3) := dk_153 0 25 (dk_at dksX1_clash_0 5 rfl rfl)
theorem dX1_clash_8 : decode cX1_clash 8 = .ok (.aload_n 0, 1) := dk_42 (dk_at dksX1_clash_0 8 rfl rfl)
theorem dX1_clash_9 : decode cX1_clash 9 = .ok (.iload_n 2, 1) := dk_28 (dk_at dksX1_clash_0 9 rfl rfl)
theorem dX1_clash_10 : decode cX1_clash 10 = .ok (.invokevirtual 156, 3) := dk_182 0 156 (dk_at dksX1_clash_0 10 rfl rfl)
theorem dX1_clash_13 : decode cX1_clash 13 = .ok (.ifCond .eq 17, 3) := dk_153 0 17 (dk_at dksX1_clash_0 13 rfl rfl)
theorem dX1_clash_16 : decode cX1_clash 16 = .ok (.iload_n 1, 1) := dk_27 (dk_at dksX1_clash_0 16 rfl rfl)
theorem dX1_clash_17 : decode cX1_clash 17 = .ok (.iload_n 2, 1) := dk_28 (dk_at dksX1_clash_0 17 rfl rfl)
theorem dX1_clash_18 : decode cX1_clash 18 = .ok (.if_icmp .eq 12, 3) := dk_159 0 12 (dk_at dksX1_clash_0 18 rfl rfl)
theorem dX1_clash_21 : decode cX1_clash 21 = .ok (.aload_n 0, 1) := dk_42 (dk_at dksX1_clash_0 21 rfl rfl)
theorem dX1_clash_22 : decode cX1_clash 22 = .ok (.iload_n 1, 1) := dk_27 (dk_at dksX1_clash_0 22 rfl rfl)
theorem dX1_clash_23 : decode cX1_clash 23 = .ok (.iload_n 2, 1) := dk_28 (dk_at dksX1_clash_0 23 rfl rfl)
theorem dX1_clash_24 : decode cX1_clash 24 = .ok (.invokevirtual 326, 3) := dk_182 1 70 (dk_at dksX1_clash_1 0 rfl rfl)
theorem dX1_clash_27 : decode cX1_clash 27 = .ok (.goto 4, 3) := dk_167 0 4 (dk_at dksX1_clash_1 3 rfl rfl)
theorem dX1_clash_30 : decode cX1_clash 30 = .ok (.iconst (-1), 1) := dk_2 (dk_at dksX1_clash_1 6 rfl rfl)
theorem dX1_clash_31 : decode cX1_clash 31 = .ok (.ireturn, 1) := dk_172 (dk_at dksX1_clash_1 7 rfl rfl)
abbrev cX1_clashes : ByteArray := prog_1_method_44_code
def yX1_clashes : MethodName := ⟨RX1, "clashes", "(II)I"⟩
def dkwX1_clashes_3 : List UInt8 := [167, 255, 191, 29, 172]
abbrev dktX1_clashes_3 : List UInt8 := dkwX1_clashes_3 ++ []
def dkwX1_clashes_2 : List UInt8 := [182, 1, 67, 42, 28, 21, 4, 182, 1, 67, 159, 0, 7, 4, 167, 0, 4, 3, 96, 62, 132, 4, 1]
abbrev dktX1_clashes_2 : List UInt8 := dkwX1_clashes_2 ++ dktX1_clashes_3
def dkwX1_clashes_1 : List UInt8 := [21, 4, 182, 1, 67, 2, 159, 0, 35, 42, 28, 21, 4, 182, 1, 67, 2, 159, 0, 24, 42, 27, 21, 4]
abbrev dktX1_clashes_1 : List UInt8 := dkwX1_clashes_1 ++ dktX1_clashes_2
def dkwX1_clashes_0 : List UInt8 := [3, 62, 3, 54, 4, 21, 4, 42, 180, 0, 49, 180, 0, 125, 182, 0, 119, 162, 0, 56, 29, 42, 27]
abbrev dktX1_clashes_0 : List UInt8 := dkwX1_clashes_0 ++ dktX1_clashes_1
theorem dksX1_clashes_0 : cX1_clashes.data.toList.drop 0 = dktX1_clashes_0 := by decide +kernel
theorem dksX1_clashes_1 : cX1_clashes.data.toList.drop 23 = dktX1_clashes_1 := dk_seg dksX1_clashes_0 23 rfl rfl
theorem dksX1_clashes_2 : cX1_clashes.data.toList.drop 47 = dktX1_clashes_2 := dk_seg dksX1_clashes_1 24 rfl rfl
theorem dksX1_clashes_3 : cX1_clashes.data.toList.drop 70 = dktX1_clashes_3 := dk_seg dksX1_clashes_2 23 rfl rfl
theorem dX1_clashes_0 : decode cX1_clashes 0 = .ok (.iconst 0, 1) := dk_3 (dk_at dksX1_clashes_0 0 rfl rfl)
theorem dX1_clashes_1 : decode cX1_clashes 1 = .ok (.istore_n 3, 1) := dk_62 (dk_at dksX1_clashes_0 1 rfl rfl)
theorem dX1_clashes_2 : decode cX1_clashes 2 = .ok (.iconst 0, 1) := dk_3 (dk_at dksX1_clashes_0 2 rfl rfl)
theorem dX1_clashes_3 : decode cX1_clashes 3 = .ok (.istore 4, 2) := dk_54 4 (dk_at dksX1_clashes_0 3 rfl rfl)
theorem dX1_clashes_5 : decode cX1_clashes 5 = .ok (.iload 4, 2) := dk_21 4 (dk_at dksX1_clashes_0 5 rfl rfl)
theorem dX1_clashes_7 : decode cX1_clashes 7 = .ok (.aload_n 0, 1) := dk_42 (dk_at dksX1_clashes_0 7 rfl rfl)
theorem dX1_clashes_8 : decode cX1_clashes 8 = .ok (.getfield 49, 3) := dk_180 0 49 (dk_at dksX1_clashes_0 8 rfl rfl)
theorem dX1_clashes_11 : decode cX1_clashes 11 = .ok (.getfield 125, 3) := dk_180 0 125 (dk_at dksX1_clashes_0 11 rfl rfl)
theorem dX1_clashes_14 : decode cX1_clashes 14 = .ok (.invokevirtual 119, 3) := dk_182 0 119 (dk_at dksX1_clashes_0 14 rfl rfl)
theorem dX1_clashes_17 : decode cX1_clashes 17 = .ok (.if_icmp .ge 56, 3) := dk_162 0 56 (dk_at dksX1_clashes_0 17 rfl rfl)
theorem dX1_clashes_20 : decode cX1_clashes 20 = .ok (.iload_n 3, 1) := dk_29 (dk_at dksX1_clashes_0 20 rfl rfl)
theorem dX1_clashes_21 : decode cX1_clashes 21 = .ok (.aload_n 0, 1) := dk_42 (dk_at dksX1_clashes_0 21 rfl rfl)
theorem dX1_clashes_22 : decode cX1_clashes 22 = .ok (.iload_n 1, 1) := dk_27 (dk_at dksX1_clashes_0 22 rfl rfl)
theorem dX1_clashes_23 : decode cX1_clashes 23 = .ok (.iload 4, 2) := dk_21 4 (dk_at dksX1_clashes_1 0 rfl rfl)
theorem dX1_clashes_25 : decode cX1_clashes 25 = .ok (.invokevirtual 323, 3) := dk_182 1 67 (dk_at dksX1_clashes_1 2 rfl rfl)
theorem dX1_clashes_28 : decode cX1_clashes 28 = .ok (.iconst (-1), 1) := dk_2 (dk_at dksX1_clashes_1 5 rfl rfl)
theorem dX1_clashes_29 : decode cX1_clashes 29 = .ok (.if_icmp .eq 35, 3) := dk_159 0 35 (dk_at dksX1_clashes_1 6 rfl rfl)
theorem dX1_clashes_32 : decode cX1_clashes 32 = .ok (.aload_n 0, 1) := dk_42 (dk_at dksX1_clashes_1 9 rfl rfl)
theorem dX1_clashes_33 : decode cX1_clashes 33 = .ok (.iload_n 2, 1) := dk_28 (dk_at dksX1_clashes_1 10 rfl rfl)
theorem dX1_clashes_34 : decode cX1_clashes 34 = .ok (.iload 4, 2) := dk_21 4 (dk_at dksX1_clashes_1 11 rfl rfl)
theorem dX1_clashes_36 : decode cX1_clashes 36 = .ok (.invokevirtual 323, 3) := dk_182 1 67 (dk_at dksX1_clashes_1 13 rfl rfl)
theorem dX1_clashes_39 : decode cX1_clashes 39 = .ok (.iconst (-1), 1) := dk_2 (dk_at dksX1_clashes_1 16 rfl rfl)
theorem dX1_clashes_40 : decode cX1_clashes 40 = .ok (.if_icmp .eq 24, 3) := dk_159 0 24 (dk_at dksX1_clashes_1 17 rfl rfl)
theorem dX1_clashes_43 : decode cX1_clashes 43 = .ok (.aload_n 0, 1) := dk_42 (dk_at dksX1_clashes_1 20 rfl rfl)
theorem dX1_clashes_44 : decode cX1_clashes 44 = .ok (.iload_n 1, 1) := dk_27 (dk_at dksX1_clashes_1 21 rfl rfl)
theorem dX1_clashes_45 : decode cX1_clashes 45 = .ok (.iload 4, 2) := dk_21 4 (dk_at dksX1_clashes_1 22 rfl rfl)
theorem dX1_clashes_47 : decode cX1_clashes 47 = .ok (.invokevirtual 323, 3) := dk_182 1 67 (dk_at dksX1_clashes_2 0 rfl rfl)
theorem dX1_clashes_50 : decode cX1_clashes 50 = .ok (.aload_n 0, 1) := dk_42 (dk_at dksX1_clashes_2 3 rfl rfl)
theorem dX1_clashes_51 : decode cX1_clashes 51 = .ok (.iload_n 2, 1) := dk_28 (dk_at dksX1_clashes_2 4 rfl rfl)
theorem dX1_clashes_52 : decode cX1_clashes 52 = .ok (.iload 4, 2) := dk_21 4 (dk_at dksX1_clashes_2 5 rfl rfl)
theorem dX1_clashes_54 : decode cX1_clashes 54 = .ok (.invokevirtual 323, 3) := dk_182 1 67 (dk_at dksX1_clashes_2 7 rfl rfl)
theorem dX1_clashes_57 : decode cX1_clashes 57 = .ok (.if_icmp .eq 7, 3) := dk_159 0 7 (dk_at dksX1_clashes_2 10 rfl rfl)
theorem dX1_clashes_60 : decode cX1_clashes 60 = .ok (.iconst 1, 1) := dk_4 (dk_at dksX1_clashes_2 13 rfl rfl)
theorem dX1_clashes_61 : decode cX1_clashes 61 = .ok (.goto 4, 3) := dk_167 0 4 (dk_at dksX1_clashes_2 14 rfl rfl)
theorem dX1_clashes_64 : decode cX1_clashes 64 = .ok (.iconst 0, 1) := dk_3 (dk_at dksX1_clashes_2 17 rfl rfl)
theorem dX1_clashes_65 : decode cX1_clashes 65 = .ok (.iadd, 1) := dk_96 (dk_at dksX1_clashes_2 18 rfl rfl)
theorem dX1_clashes_66 : decode cX1_clashes 66 = .ok (.istore_n 3, 1) := dk_62 (dk_at dksX1_clashes_2 19 rfl rfl)
theorem dX1_clashes_67 : decode cX1_clashes 67 = .ok (.iinc 4 1, 3) := dk_132 4 1 (dk_at dksX1_clashes_2 20 rfl rfl)
theorem dX1_clashes_70 : decode cX1_clashes 70 = .ok (.goto (-65), 3) := dk_167 255 191 (dk_at dksX1_clashes_3 0 rfl rfl)
theorem dX1_clashes_73 : decode cX1_clashes 73 = .ok (.iload_n 3, 1) := dk_29 (dk_at dksX1_clashes_3 3 rfl rfl)
theorem dX1_clashes_74 : decode cX1_clashes 74 = .ok (.ireturn, 1) := dk_172 (dk_at dksX1_clashes_3 4 rfl rfl)
abbrev cX1_together : ByteArray := prog_1_method_46_code
def yX1_together : MethodName := ⟨RX1, "together", "()I"⟩
def dkwX1_together_5 : List UInt8 := [167, 255, 181, 29, 153, 0, 5, 28, 60, 132, 2, 1, 167, 255, 133, 27, 172]
abbrev dktX1_together_5 : List UInt8 := dkwX1_together_5 ++ []
def dkwX1_together_4 : List UInt8 := [182, 1, 70, 154, 0, 7, 4, 167, 0, 4, 3, 126, 62, 132, 5, 1, 167, 255, 209, 132, 4, 1]
abbrev dktX1_together_4 : List UInt8 := dkwX1_together_4 ++ dktX1_together_5
def dkwX1_together_3 : List UInt8 := [28, 21, 4, 122, 4, 126, 153, 0, 23, 28, 21, 5, 122, 4, 126, 153, 0, 14, 42, 21, 4, 21, 5]
abbrev dktX1_together_3 : List UInt8 := dkwX1_together_3 ++ dktX1_together_4
def dkwX1_together_2 : List UInt8 := [180, 0, 115, 182, 0, 119, 162, 0, 66, 29, 153, 0, 62, 3, 54, 5, 21, 5, 21, 4, 162, 0, 46, 29]
abbrev dktX1_together_2 : List UInt8 := dkwX1_together_2 ++ dktX1_together_3
def dkwX1_together_1 : List UInt8 := [27, 184, 1, 73, 164, 0, 7, 4, 167, 0, 4, 3, 62, 3, 54, 4, 21, 4, 42, 180, 0, 49]
abbrev dktX1_together_1 : List UInt8 := dkwX1_together_1 ++ dktX1_together_2
def dkwX1_together_0 : List UInt8 := [3, 60, 3, 61, 28, 4, 42, 180, 0, 49, 180, 0, 115, 182, 0, 119, 120, 162, 0, 113, 28, 184, 1, 73]
abbrev dktX1_together_0 : List UInt8 := dkwX1_together_0 ++ dktX1_together_1
theorem dksX1_together_0 : cX1_together.data.toList.drop 0 = dktX1_together_0 := by decide +kernel
theorem dksX1_together_1 : cX1_together.data.toList.drop 24 = dktX1_together_1 := dk_seg dksX1_together_0 24 rfl rfl
theorem dksX1_together_2 : cX1_together.data.toList.drop 46 = dktX1_together_2 := dk_seg dksX1_together_1 22 rfl rfl
theorem dksX1_together_3 : cX1_together.data.toList.drop 70 = dktX1_together_3 := dk_seg dksX1_together_2 24 rfl rfl
theorem dksX1_together_4 : cX1_together.data.toList.drop 93 = dktX1_together_4 := dk_seg dksX1_together_3 23 rfl rfl
theorem dksX1_together_5 : cX1_together.data.toList.drop 115 = dktX1_together_5 := dk_seg dksX1_together_4 22 rfl rfl
theorem dX1_together_0 : decode cX1_together 0 = .ok (.iconst 0, 1) := dk_3 (dk_at dksX1_together_0 0 rfl rfl)
theorem dX1_together_1 : decode cX1_together 1 = .ok (.istore_n 1, 1) := dk_60 (dk_at dksX1_together_0 1 rfl rfl)
theorem dX1_together_2 : decode cX1_together 2 = .ok (.iconst 0, 1) := dk_3 (dk_at dksX1_together_0 2 rfl rfl)
theorem dX1_together_3 : decode cX1_together 3 = .ok (.istore_n 2, 1) := dk_61 (dk_at dksX1_together_0 3 rfl rfl)
theorem dX1_together_4 : decode cX1_together 4 = .ok (.iload_n 2, 1) := dk_28 (dk_at dksX1_together_0 4 rfl rfl)
theorem dX1_together_5 : decode cX1_together 5 = .ok (.iconst 1, 1) := dk_4 (dk_at dksX1_together_0 5 rfl rfl)
theorem dX1_together_6 : decode cX1_together 6 = .ok (.aload_n 0, 1) := dk_42 (dk_at dksX1_together_0 6 rfl rfl)
theorem dX1_together_7 : decode cX1_together 7 = .ok (.getfield 49, 3) := dk_180 0 49 (dk_at dksX1_together_0 7 rfl rfl)
theorem dX1_together_10 : decode cX1_together 10 = .ok (.getfield 115, 3) := dk_180 0 115 (dk_at dksX1_together_0 10 rfl rfl)
theorem dX1_together_13 : decode cX1_together 13 = .ok (.invokevirtual 119, 3) := dk_182 0 119 (dk_at dksX1_together_0 13 rfl rfl)
theorem dX1_together_16 : decode cX1_together 16 = .ok (.ishl, 1) := dk_120 (dk_at dksX1_together_0 16 rfl rfl)
theorem dX1_together_17 : decode cX1_together 17 = .ok (.if_icmp .ge 113, 3) := dk_162 0 113 (dk_at dksX1_together_0 17 rfl rfl)
theorem dX1_together_20 : decode cX1_together 20 = .ok (.iload_n 2, 1) := dk_28 (dk_at dksX1_together_0 20 rfl rfl)
theorem dX1_together_21 : decode cX1_together 21 = .ok (.invokestatic 329, 3) := dk_184 1 73 (dk_at dksX1_together_0 21 rfl rfl)
theorem dX1_together_24 : decode cX1_together 24 = .ok (.iload_n 1, 1) := dk_27 (dk_at dksX1_together_1 0 rfl rfl)
theorem dX1_together_25 : decode cX1_together 25 = .ok (.invokestatic 329, 3) := dk_184 1 73 (dk_at dksX1_together_1 1 rfl rfl)
theorem dX1_together_28 : decode cX1_together 28 = .ok (.if_icmp .le 7, 3) := dk_164 0 7 (dk_at dksX1_together_1 4 rfl rfl)
theorem dX1_together_31 : decode cX1_together 31 = .ok (.iconst 1, 1) := dk_4 (dk_at dksX1_together_1 7 rfl rfl)
theorem dX1_together_32 : decode cX1_together 32 = .ok (.goto 4, 3) := dk_167 0 4 (dk_at dksX1_together_1 8 rfl rfl)
theorem dX1_together_35 : decode cX1_together 35 = .ok (.iconst 0, 1) := dk_3 (dk_at dksX1_together_1 11 rfl rfl)
theorem dX1_together_36 : decode cX1_together 36 = .ok (.istore_n 3, 1) := dk_62 (dk_at dksX1_together_1 12 rfl rfl)
theorem dX1_together_37 : decode cX1_together 37 = .ok (.iconst 0, 1) := dk_3 (dk_at dksX1_together_1 13 rfl rfl)
theorem dX1_together_38 : decode cX1_together 38 = .ok (.istore 4, 2) := dk_54 4 (dk_at dksX1_together_1 14 rfl rfl)
theorem dX1_together_40 : decode cX1_together 40 = .ok (.iload 4, 2) := dk_21 4 (dk_at dksX1_together_1 16 rfl rfl)
theorem dX1_together_42 : decode cX1_together 42 = .ok (.aload_n 0, 1) := dk_42 (dk_at dksX1_together_1 18 rfl rfl)
theorem dX1_together_43 : decode cX1_together 43 = .ok (.getfield 49, 3) := dk_180 0 49 (dk_at dksX1_together_1 19 rfl rfl)
theorem dX1_together_46 : decode cX1_together 46 = .ok (.getfield 115, 3) := dk_180 0 115 (dk_at dksX1_together_2 0 rfl rfl)
theorem dX1_together_49 : decode cX1_together 49 = .ok (.invokevirtual 119, 3) := dk_182 0 119 (dk_at dksX1_together_2 3 rfl rfl)
theorem dX1_together_52 : decode cX1_together 52 = .ok (.if_icmp .ge 66, 3) := dk_162 0 66 (dk_at dksX1_together_2 6 rfl rfl)
theorem dX1_together_55 : decode cX1_together 55 = .ok (.iload_n 3, 1) := dk_29 (dk_at dksX1_together_2 9 rfl rfl)
theorem dX1_together_56 : decode cX1_together 56 = .ok (.ifCond .eq 62, 3) := dk_153 0 62 (dk_at dksX1_together_2 10 rfl rfl)
theorem dX1_together_59 : decode cX1_together 59 = .ok (.iconst 0, 1) := dk_3 (dk_at dksX1_together_2 13 rfl rfl)
theorem dX1_together_60 : decode cX1_together 60 = .ok (.istore 5, 2) := dk_54 5 (dk_at dksX1_together_2 14 rfl rfl)
theorem dX1_together_62 : decode cX1_together 62 = .ok (.iload 5, 2) := dk_21 5 (dk_at dksX1_together_2 16 rfl rfl)
theorem dX1_together_64 : decode cX1_together 64 = .ok (.iload 4, 2) := dk_21 4 (dk_at dksX1_together_2 18 rfl rfl)
theorem dX1_together_66 : decode cX1_together 66 = .ok (.if_icmp .ge 46, 3) := dk_162 0 46 (dk_at dksX1_together_2 20 rfl rfl)
theorem dX1_together_69 : decode cX1_together 69 = .ok (.iload_n 3, 1) := dk_29 (dk_at dksX1_together_2 23 rfl rfl)
theorem dX1_together_70 : decode cX1_together 70 = .ok (.iload_n 2, 1) := dk_28 (dk_at dksX1_together_3 0 rfl rfl)
theorem dX1_together_71 : decode cX1_together 71 = .ok (.iload 4, 2) := dk_21 4 (dk_at dksX1_together_3 1 rfl rfl)
theorem dX1_together_73 : decode cX1_together 73 = .ok (.ishr, 1) := dk_122 (dk_at dksX1_together_3 3 rfl rfl)
theorem dX1_together_74 : decode cX1_together 74 = .ok (.iconst 1, 1) := dk_4 (dk_at dksX1_together_3 4 rfl rfl)
theorem dX1_together_75 : decode cX1_together 75 = .ok (.iand, 1) := dk_126 (dk_at dksX1_together_3 5 rfl rfl)
theorem dX1_together_76 : decode cX1_together 76 = .ok (.ifCond .eq 23, 3) := dk_153 0 23 (dk_at dksX1_together_3 6 rfl rfl)
theorem dX1_together_79 : decode cX1_together 79 = .ok (.iload_n 2, 1) := dk_28 (dk_at dksX1_together_3 9 rfl rfl)
theorem dX1_together_80 : decode cX1_together 80 = .ok (.iload 5, 2) := dk_21 5 (dk_at dksX1_together_3 10 rfl rfl)
theorem dX1_together_82 : decode cX1_together 82 = .ok (.ishr, 1) := dk_122 (dk_at dksX1_together_3 12 rfl rfl)
theorem dX1_together_83 : decode cX1_together 83 = .ok (.iconst 1, 1) := dk_4 (dk_at dksX1_together_3 13 rfl rfl)
theorem dX1_together_84 : decode cX1_together 84 = .ok (.iand, 1) := dk_126 (dk_at dksX1_together_3 14 rfl rfl)
theorem dX1_together_85 : decode cX1_together 85 = .ok (.ifCond .eq 14, 3) := dk_153 0 14 (dk_at dksX1_together_3 15 rfl rfl)
theorem dX1_together_88 : decode cX1_together 88 = .ok (.aload_n 0, 1) := dk_42 (dk_at dksX1_together_3 18 rfl rfl)
theorem dX1_together_89 : decode cX1_together 89 = .ok (.iload 4, 2) := dk_21 4 (dk_at dksX1_together_3 19 rfl rfl)
theorem dX1_together_91 : decode cX1_together 91 = .ok (.iload 5, 2) := dk_21 5 (dk_at dksX1_together_3 21 rfl rfl)
theorem dX1_together_93 : decode cX1_together 93 = .ok (.invokevirtual 326, 3) := dk_182 1 70 (dk_at dksX1_together_4 0 rfl rfl)
theorem dX1_together_96 : decode cX1_together 96 = .ok (.ifCond .ne 7, 3) := dk_154 0 7 (dk_at dksX1_together_4 3 rfl rfl)
theorem dX1_together_99 : decode cX1_together 99 = .ok (.iconst 1, 1) := dk_4 (dk_at dksX1_together_4 6 rfl rfl)
theorem dX1_together_100 : decode cX1_together 100 = .ok (.goto 4, 3) := dk_167 0 4 (dk_at dksX1_together_4 7 rfl rfl)
theorem dX1_together_103 : decode cX1_together 103 = .ok (.iconst 0, 1) := dk_3 (dk_at dksX1_together_4 10 rfl rfl)
theorem dX1_together_104 : decode cX1_together 104 = .ok (.iand, 1) := dk_126 (dk_at dksX1_together_4 11 rfl rfl)
theorem dX1_together_105 : decode cX1_together 105 = .ok (.istore_n 3, 1) := dk_62 (dk_at dksX1_together_4 12 rfl rfl)
theorem dX1_together_106 : decode cX1_together 106 = .ok (.iinc 5 1, 3) := dk_132 5 1 (dk_at dksX1_together_4 13 rfl rfl)
theorem dX1_together_109 : decode cX1_together 109 = .ok (.goto (-47), 3) := dk_167 255 209 (dk_at dksX1_together_4 16 rfl rfl)
theorem dX1_together_112 : decode cX1_together 112 = .ok (.iinc 4 1, 3) := dk_132 4 1 (dk_at dksX1_together_4 19 rfl rfl)
theorem dX1_together_115 : decode cX1_together 115 = .ok (.goto (-75), 3) := dk_167 255 181 (dk_at dksX1_together_5 0 rfl rfl)
theorem dX1_together_118 : decode cX1_together 118 = .ok (.iload_n 3, 1) := dk_29 (dk_at dksX1_together_5 3 rfl rfl)
theorem dX1_together_119 : decode cX1_together 119 = .ok (.ifCond .eq 5, 3) := dk_153 0 5 (dk_at dksX1_together_5 4 rfl rfl)
theorem dX1_together_122 : decode cX1_together 122 = .ok (.iload_n 2, 1) := dk_28 (dk_at dksX1_together_5 7 rfl rfl)
theorem dX1_together_123 : decode cX1_together 123 = .ok (.istore_n 1, 1) := dk_60 (dk_at dksX1_together_5 8 rfl rfl)
theorem dX1_together_124 : decode cX1_together 124 = .ok (.iinc 2 1, 3) := dk_132 2 1 (dk_at dksX1_together_5 9 rfl rfl)
theorem dX1_together_127 : decode cX1_together 127 = .ok (.goto (-123), 3) := dk_167 255 133 (dk_at dksX1_together_5 12 rfl rfl)
theorem dX1_together_130 : decode cX1_together 130 = .ok (.iload_n 1, 1) := dk_27 (dk_at dksX1_together_5 15 rfl rfl)
theorem dX1_together_131 : decode cX1_together 131 = .ok (.ireturn, 1) := dk_172 (dk_at dksX1_together_5 16 rfl rfl)
abbrev cX1_lies : ByteArray := prog_1_method_47_code
def yX1_lies : MethodName := ⟨RX1, "lies", "(I)I"⟩
def dkwX1_lies_7 : List UInt8 := [167, 255, 119, 28, 172]
abbrev dktX1_lies_7 : List UInt8 := dkwX1_lies_7 ++ []
def dkwX1_lies_6 : List UInt8 := [184, 1, 61, 54, 5, 132, 6, 1, 167, 255, 156, 28, 21, 4, 21, 5, 100, 96, 61, 132, 3, 1]
abbrev dktX1_lies_6 : List UInt8 := dkwX1_lies_6 ++ dktX1_lies_7
def dkwX1_lies_5 : List UInt8 := [167, 0, 4, 3, 96, 54, 7, 132, 8, 1, 167, 255, 206, 21, 4, 21, 7, 96, 54, 4, 21, 5, 21, 7]
abbrev dktX1_lies_5 : List UInt8 := dkwX1_lies_5 ++ dktX1_lies_6
def dkwX1_lies_4 : List UInt8 := [21, 8, 122, 4, 126, 4, 160, 0, 19, 42, 21, 8, 29, 182, 1, 67, 21, 6, 160, 0, 7, 4]
abbrev dktX1_lies_4 : List UInt8 := dkwX1_lies_4 ++ dktX1_lies_5
def dkwX1_lies_3 : List UInt8 := [3, 54, 7, 3, 54, 8, 21, 8, 42, 180, 0, 49, 180, 0, 115, 182, 0, 119, 162, 0, 41, 21, 7, 27]
abbrev dktX1_lies_3 : List UInt8 := dkwX1_lies_3 ++ dktX1_lies_4
def dkwX1_lies_2 : List UInt8 := [54, 6, 21, 6, 42, 180, 0, 49, 180, 0, 125, 29, 182, 0, 135, 192, 0, 139, 180, 0, 141, 162, 0, 84]
abbrev dktX1_lies_2 : List UInt8 := dkwX1_lies_2 ++ dktX1_lies_3
def dkwX1_lies_1 : List UInt8 := [3, 62, 29, 42, 180, 0, 49, 180, 0, 125, 182, 0, 119, 162, 0, 129, 3, 54, 4, 3, 54, 5, 3]
abbrev dktX1_lies_1 : List UInt8 := dkwX1_lies_1 ++ dktX1_lies_2
def dkwX1_lies_0 : List UInt8 := [27, 155, 0, 19, 27, 4, 42, 180, 0, 49, 180, 0, 115, 182, 0, 119, 120, 161, 0, 5, 2, 172, 3, 61]
abbrev dktX1_lies_0 : List UInt8 := dkwX1_lies_0 ++ dktX1_lies_1
theorem dksX1_lies_0 : cX1_lies.data.toList.drop 0 = dktX1_lies_0 := by decide +kernel
theorem dksX1_lies_1 : cX1_lies.data.toList.drop 24 = dktX1_lies_1 := dk_seg dksX1_lies_0 24 rfl rfl
theorem dksX1_lies_2 : cX1_lies.data.toList.drop 47 = dktX1_lies_2 := dk_seg dksX1_lies_1 23 rfl rfl
theorem dksX1_lies_3 : cX1_lies.data.toList.drop 71 = dktX1_lies_3 := dk_seg dksX1_lies_2 24 rfl rfl
theorem dksX1_lies_4 : cX1_lies.data.toList.drop 95 = dktX1_lies_4 := dk_seg dksX1_lies_3 24 rfl rfl
theorem dksX1_lies_5 : cX1_lies.data.toList.drop 117 = dktX1_lies_5 := dk_seg dksX1_lies_4 22 rfl rfl
theorem dksX1_lies_6 : cX1_lies.data.toList.drop 141 = dktX1_lies_6 := dk_seg dksX1_lies_5 24 rfl rfl
theorem dksX1_lies_7 : cX1_lies.data.toList.drop 163 = dktX1_lies_7 := dk_seg dksX1_lies_6 22 rfl rfl
theorem dX1_lies_0 : decode cX1_lies 0 = .ok (.iload_n 1, 1) := dk_27 (dk_at dksX1_lies_0 0 rfl rfl)
theorem dX1_lies_1 : decode cX1_lies 1 = .ok (.ifCond .lt 19, 3) := dk_155 0 19 (dk_at dksX1_lies_0 1 rfl rfl)
theorem dX1_lies_4 : decode cX1_lies 4 = .ok (.iload_n 1, 1) := dk_27 (dk_at dksX1_lies_0 4 rfl rfl)
theorem dX1_lies_5 : decode cX1_lies 5 = .ok (.iconst 1, 1) := dk_4 (dk_at dksX1_lies_0 5 rfl rfl)
theorem dX1_lies_6 : decode cX1_lies 6 = .ok (.aload_n 0, 1) := dk_42 (dk_at dksX1_lies_0 6 rfl rfl)
theorem dX1_lies_7 : decode cX1_lies 7 = .ok (.getfield 49, 3) := dk_180 0 49 (dk_at dksX1_lies_0 7 rfl rfl)
theorem dX1_lies_10 : decode cX1_lies 10 = .ok (.getfield 115, 3) := dk_180 0 115 (dk_at dksX1_lies_0 10 rfl rfl)
theorem dX1_lies_13 : decode cX1_lies 13 = .ok (.invokevirtual 119, 3) := dk_182 0 119 (dk_at dksX1_lies_0 13 rfl rfl)
theorem dX1_lies_16 : decode cX1_lies 16 = .ok (.ishl, 1) := dk_120 (dk_at dksX1_lies_0 16 rfl rfl)
theorem dX1_lies_17 : decode cX1_lies 17 = .ok (.if_icmp .lt 5, 3) := dk_161 0 5 (dk_at dksX1_lies_0 17 rfl rfl)
theorem dX1_lies_20 : decode cX1_lies 20 = .ok (.iconst (-1), 1) := dk_2 (dk_at dksX1_lies_0 20 rfl rfl)
theorem dX1_lies_21 : decode cX1_lies 21 = .ok (.ireturn, 1) := dk_172 (dk_at dksX1_lies_0 21 rfl rfl)
theorem dX1_lies_22 : decode cX1_lies 22 = .ok (.iconst 0, 1) := dk_3 (dk_at dksX1_lies_0 22 rfl rfl)
theorem dX1_lies_23 : decode cX1_lies 23 = .ok (.istore_n 2, 1) := dk_61 (dk_at dksX1_lies_0 23 rfl rfl)
theorem dX1_lies_24 : decode cX1_lies 24 = .ok (.iconst 0, 1) := dk_3 (dk_at dksX1_lies_1 0 rfl rfl)
theorem dX1_lies_25 : decode cX1_lies 25 = .ok (.istore_n 3, 1) := dk_62 (dk_at dksX1_lies_1 1 rfl rfl)
theorem dX1_lies_26 : decode cX1_lies 26 = .ok (.iload_n 3, 1) := dk_29 (dk_at dksX1_lies_1 2 rfl rfl)
theorem dX1_lies_27 : decode cX1_lies 27 = .ok (.aload_n 0, 1) := dk_42 (dk_at dksX1_lies_1 3 rfl rfl)
theorem dX1_lies_28 : decode cX1_lies 28 = .ok (.getfield 49, 3) := dk_180 0 49 (dk_at dksX1_lies_1 4 rfl rfl)
theorem dX1_lies_31 : decode cX1_lies 31 = .ok (.getfield 125, 3) := dk_180 0 125 (dk_at dksX1_lies_1 7 rfl rfl)
theorem dX1_lies_34 : decode cX1_lies 34 = .ok (.invokevirtual 119, 3) := dk_182 0 119 (dk_at dksX1_lies_1 10 rfl rfl)
theorem dX1_lies_37 : decode cX1_lies 37 = .ok (.if_icmp .ge 129, 3) := dk_162 0 129 (dk_at dksX1_lies_1 13 rfl rfl)
theorem dX1_lies_40 : decode cX1_lies 40 = .ok (.iconst 0, 1) := dk_3 (dk_at dksX1_lies_1 16 rfl rfl)
theorem dX1_lies_41 : decode cX1_lies 41 = .ok (.istore 4, 2) := dk_54 4 (dk_at dksX1_lies_1 17 rfl rfl)
theorem dX1_lies_43 : decode cX1_lies 43 = .ok (.iconst 0, 1) := dk_3 (dk_at dksX1_lies_1 19 rfl rfl)
theorem dX1_lies_44 : decode cX1_lies 44 = .ok (.istore 5, 2) := dk_54 5 (dk_at dksX1_lies_1 20 rfl rfl)
theorem dX1_lies_46 : decode cX1_lies 46 = .ok (.iconst 0, 1) := dk_3 (dk_at dksX1_lies_1 22 rfl rfl)
theorem dX1_lies_47 : decode cX1_lies 47 = .ok (.istore 6, 2) := dk_54 6 (dk_at dksX1_lies_2 0 rfl rfl)
theorem dX1_lies_49 : decode cX1_lies 49 = .ok (.iload 6, 2) := dk_21 6 (dk_at dksX1_lies_2 2 rfl rfl)
theorem dX1_lies_51 : decode cX1_lies 51 = .ok (.aload_n 0, 1) := dk_42 (dk_at dksX1_lies_2 4 rfl rfl)
theorem dX1_lies_52 : decode cX1_lies 52 = .ok (.getfield 49, 3) := dk_180 0 49 (dk_at dksX1_lies_2 5 rfl rfl)
theorem dX1_lies_55 : decode cX1_lies 55 = .ok (.getfield 125, 3) := dk_180 0 125 (dk_at dksX1_lies_2 8 rfl rfl)
theorem dX1_lies_58 : decode cX1_lies 58 = .ok (.iload_n 3, 1) := dk_29 (dk_at dksX1_lies_2 11 rfl rfl)
theorem dX1_lies_59 : decode cX1_lies 59 = .ok (.invokevirtual 135, 3) := dk_182 0 135 (dk_at dksX1_lies_2 12 rfl rfl)
theorem dX1_lies_62 : decode cX1_lies 62 = .ok (.checkcast 139, 3) := dk_192 0 139 (dk_at dksX1_lies_2 15 rfl rfl)
theorem dX1_lies_65 : decode cX1_lies 65 = .ok (.getfield 141, 3) := dk_180 0 141 (dk_at dksX1_lies_2 18 rfl rfl)
theorem dX1_lies_68 : decode cX1_lies 68 = .ok (.if_icmp .ge 84, 3) := dk_162 0 84 (dk_at dksX1_lies_2 21 rfl rfl)
theorem dX1_lies_71 : decode cX1_lies 71 = .ok (.iconst 0, 1) := dk_3 (dk_at dksX1_lies_3 0 rfl rfl)
theorem dX1_lies_72 : decode cX1_lies 72 = .ok (.istore 7, 2) := dk_54 7 (dk_at dksX1_lies_3 1 rfl rfl)
theorem dX1_lies_74 : decode cX1_lies 74 = .ok (.iconst 0, 1) := dk_3 (dk_at dksX1_lies_3 3 rfl rfl)
theorem dX1_lies_75 : decode cX1_lies 75 = .ok (.istore 8, 2) := dk_54 8 (dk_at dksX1_lies_3 4 rfl rfl)
theorem dX1_lies_77 : decode cX1_lies 77 = .ok (.iload 8, 2) := dk_21 8 (dk_at dksX1_lies_3 6 rfl rfl)
theorem dX1_lies_79 : decode cX1_lies 79 = .ok (.aload_n 0, 1) := dk_42 (dk_at dksX1_lies_3 8 rfl rfl)
theorem dX1_lies_80 : decode cX1_lies 80 = .ok (.getfield 49, 3) := dk_180 0 49 (dk_at dksX1_lies_3 9 rfl rfl)
theorem dX1_lies_83 : decode cX1_lies 83 = .ok (.getfield 115, 3) := dk_180 0 115 (dk_at dksX1_lies_3 12 rfl rfl)
theorem dX1_lies_86 : decode cX1_lies 86 = .ok (.invokevirtual 119, 3) := dk_182 0 119 (dk_at dksX1_lies_3 15 rfl rfl)
theorem dX1_lies_89 : decode cX1_lies 89 = .ok (.if_icmp .ge 41, 3) := dk_162 0 41 (dk_at dksX1_lies_3 18 rfl rfl)
theorem dX1_lies_92 : decode cX1_lies 92 = .ok (.iload 7, 2) := dk_21 7 (dk_at dksX1_lies_3 21 rfl rfl)
theorem dX1_lies_94 : decode cX1_lies 94 = .ok (.iload_n 1, 1) := dk_27 (dk_at dksX1_lies_3 23 rfl rfl)
theorem dX1_lies_95 : decode cX1_lies 95 = .ok (.iload 8, 2) := dk_21 8 (dk_at dksX1_lies_4 0 rfl rfl)
theorem dX1_lies_97 : decode cX1_lies 97 = .ok (.ishr, 1) := dk_122 (dk_at dksX1_lies_4 2 rfl rfl)
theorem dX1_lies_98 : decode cX1_lies 98 = .ok (.iconst 1, 1) := dk_4 (dk_at dksX1_lies_4 3 rfl rfl)
theorem dX1_lies_99 : decode cX1_lies 99 = .ok (.iand, 1) := dk_126 (dk_at dksX1_lies_4 4 rfl rfl)
theorem dX1_lies_100 : decode cX1_lies 100 = .ok (.iconst 1, 1) := dk_4 (dk_at dksX1_lies_4 5 rfl rfl)
theorem dX1_lies_101 : decode cX1_lies 101 = .ok (.if_icmp .ne 19, 3) := dk_160 0 19 (dk_at dksX1_lies_4 6 rfl rfl)
theorem dX1_lies_104 : decode cX1_lies 104 = .ok (.aload_n 0, 1) := dk_42 (dk_at dksX1_lies_4 9 rfl rfl)
theorem dX1_lies_105 : decode cX1_lies 105 = .ok (.iload 8, 2) := dk_21 8 (dk_at dksX1_lies_4 10 rfl rfl)
theorem dX1_lies_107 : decode cX1_lies 107 = .ok (.iload_n 3, 1) := dk_29 (dk_at dksX1_lies_4 12 rfl rfl)
theorem dX1_lies_108 : decode cX1_lies 108 = .ok (.invokevirtual 323, 3) := dk_182 1 67 (dk_at dksX1_lies_4 13 rfl rfl)
theorem dX1_lies_111 : decode cX1_lies 111 = .ok (.iload 6, 2) := dk_21 6 (dk_at dksX1_lies_4 16 rfl rfl)
theorem dX1_lies_113 : decode cX1_lies 113 = .ok (.if_icmp .ne 7, 3) := dk_160 0 7 (dk_at dksX1_lies_4 18 rfl rfl)
theorem dX1_lies_116 : decode cX1_lies 116 = .ok (.iconst 1, 1) := dk_4 (dk_at dksX1_lies_4 21 rfl rfl)
theorem dX1_lies_117 : decode cX1_lies 117 = .ok (.goto 4, 3) := dk_167 0 4 (dk_at dksX1_lies_5 0 rfl rfl)
theorem dX1_lies_120 : decode cX1_lies 120 = .ok (.iconst 0, 1) := dk_3 (dk_at dksX1_lies_5 3 rfl rfl)
theorem dX1_lies_121 : decode cX1_lies 121 = .ok (.iadd, 1) := dk_96 (dk_at dksX1_lies_5 4 rfl rfl)
theorem dX1_lies_122 : decode cX1_lies 122 = .ok (.istore 7, 2) := dk_54 7 (dk_at dksX1_lies_5 5 rfl rfl)
theorem dX1_lies_124 : decode cX1_lies 124 = .ok (.iinc 8 1, 3) := dk_132 8 1 (dk_at dksX1_lies_5 7 rfl rfl)
theorem dX1_lies_127 : decode cX1_lies 127 = .ok (.goto (-50), 3) := dk_167 255 206 (dk_at dksX1_lies_5 10 rfl rfl)
theorem dX1_lies_130 : decode cX1_lies 130 = .ok (.iload 4, 2) := dk_21 4 (dk_at dksX1_lies_5 13 rfl rfl)
theorem dX1_lies_132 : decode cX1_lies 132 = .ok (.iload 7, 2) := dk_21 7 (dk_at dksX1_lies_5 15 rfl rfl)
theorem dX1_lies_134 : decode cX1_lies 134 = .ok (.iadd, 1) := dk_96 (dk_at dksX1_lies_5 17 rfl rfl)
theorem dX1_lies_135 : decode cX1_lies 135 = .ok (.istore 4, 2) := dk_54 4 (dk_at dksX1_lies_5 18 rfl rfl)
theorem dX1_lies_137 : decode cX1_lies 137 = .ok (.iload 5, 2) := dk_21 5 (dk_at dksX1_lies_5 20 rfl rfl)
theorem dX1_lies_139 : decode cX1_lies 139 = .ok (.iload 7, 2) := dk_21 7 (dk_at dksX1_lies_5 22 rfl rfl)
theorem dX1_lies_141 : decode cX1_lies 141 = .ok (.invokestatic 317, 3) := dk_184 1 61 (dk_at dksX1_lies_6 0 rfl rfl)
theorem dX1_lies_144 : decode cX1_lies 144 = .ok (.istore 5, 2) := dk_54 5 (dk_at dksX1_lies_6 3 rfl rfl)
theorem dX1_lies_146 : decode cX1_lies 146 = .ok (.iinc 6 1, 3) := dk_132 6 1 (dk_at dksX1_lies_6 5 rfl rfl)
theorem dX1_lies_149 : decode cX1_lies 149 = .ok (.goto (-100), 3) := dk_167 255 156 (dk_at dksX1_lies_6 8 rfl rfl)
theorem dX1_lies_152 : decode cX1_lies 152 = .ok (.iload_n 2, 1) := dk_28 (dk_at dksX1_lies_6 11 rfl rfl)
theorem dX1_lies_153 : decode cX1_lies 153 = .ok (.iload 4, 2) := dk_21 4 (dk_at dksX1_lies_6 12 rfl rfl)
theorem dX1_lies_155 : decode cX1_lies 155 = .ok (.iload 5, 2) := dk_21 5 (dk_at dksX1_lies_6 14 rfl rfl)
theorem dX1_lies_157 : decode cX1_lies 157 = .ok (.isub, 1) := dk_100 (dk_at dksX1_lies_6 16 rfl rfl)
theorem dX1_lies_158 : decode cX1_lies 158 = .ok (.iadd, 1) := dk_96 (dk_at dksX1_lies_6 17 rfl rfl)
theorem dX1_lies_159 : decode cX1_lies 159 = .ok (.istore_n 2, 1) := dk_61 (dk_at dksX1_lies_6 18 rfl rfl)
theorem dX1_lies_160 : decode cX1_lies 160 = .ok (.iinc 3 1, 3) := dk_132 3 1 (dk_at dksX1_lies_6 19 rfl rfl)
theorem dX1_lies_163 : decode cX1_lies 163 = .ok (.goto (-137), 3) := dk_167 255 119 (dk_at dksX1_lies_7 0 rfl rfl)
theorem dX1_lies_166 : decode cX1_lies 166 = .ok (.iload_n 2, 1) := dk_28 (dk_at dksX1_lies_7 3 rfl rfl)
theorem dX1_lies_167 : decode cX1_lies 167 = .ok (.ireturn, 1) := dk_172 (dk_at dksX1_lies_7 4 rfl rfl)
abbrev cX1_supposed : ByteArray := prog_1_method_48_code
def yX1_supposed : MethodName := ⟨RX1, "supposed", "(I)I"⟩
def dkwX1_supposed_7 : List UInt8 := [167, 255, 125, 29, 172]
abbrev dktX1_supposed_7 : List UInt8 := dkwX1_supposed_7 ++ []
def dkwX1_supposed_6 : List UInt8 := [44, 180, 0, 170, 182, 1, 79, 153, 0, 13, 29, 4, 25, 6, 180, 0, 184, 120, 128, 62, 132, 5, 1]
abbrev dktX1_supposed_6 : List UInt8 := dkwX1_supposed_6 ++ dktX1_supposed_7
def dkwX1_supposed_5 : List UInt8 := [182, 0, 242, 153, 0, 41, 21, 4, 25, 6, 180, 0, 184, 122, 4, 126, 154, 0, 28, 25, 6, 180, 1, 78]
abbrev dktX1_supposed_5 : List UInt8 := dkwX1_supposed_5 ++ dktX1_supposed_6
def dkwX1_supposed_4 : List UInt8 := [154, 0, 18, 21, 4, 4, 25, 6, 180, 0, 184, 120, 128, 54, 4, 167, 0, 52, 25, 6, 192, 0, 194]
abbrev dktX1_supposed_4 : List UInt8 := dkwX1_supposed_4 ++ dktX1_supposed_5
def dkwX1_supposed_3 : List UInt8 := [198, 0, 90, 44, 25, 6, 180, 0, 178, 182, 0, 224, 154, 0, 6, 167, 0, 75, 25, 6, 182, 0, 190]
abbrev dktX1_supposed_3 : List UInt8 := dkwX1_supposed_3 ++ dktX1_supposed_4
def dkwX1_supposed_2 : List UInt8 := [44, 180, 0, 170, 44, 180, 0, 164, 164, 0, 111, 42, 21, 5, 27, 2, 182, 0, 187, 58, 6, 25, 6]
abbrev dktX1_supposed_2 : List UInt8 := dkwX1_supposed_2 ++ dktX1_supposed_3
def dkwX1_supposed_1 : List UInt8 := [77, 3, 62, 3, 54, 4, 3, 54, 5, 21, 5, 42, 180, 0, 49, 180, 0, 173, 182, 0, 119, 162, 0, 122]
abbrev dktX1_supposed_1 : List UInt8 := dkwX1_supposed_1 ++ dktX1_supposed_2
def dkwX1_supposed_0 : List UInt8 := [42, 27, 182, 0, 156, 154, 0, 5, 2, 172, 42, 180, 0, 49, 180, 0, 115, 27, 182, 0, 135, 192, 0, 159]
abbrev dktX1_supposed_0 : List UInt8 := dkwX1_supposed_0 ++ dktX1_supposed_1
theorem dksX1_supposed_0 : cX1_supposed.data.toList.drop 0 = dktX1_supposed_0 := by decide +kernel
theorem dksX1_supposed_1 : cX1_supposed.data.toList.drop 24 = dktX1_supposed_1 := dk_seg dksX1_supposed_0 24 rfl rfl
theorem dksX1_supposed_2 : cX1_supposed.data.toList.drop 48 = dktX1_supposed_2 := dk_seg dksX1_supposed_1 24 rfl rfl
theorem dksX1_supposed_3 : cX1_supposed.data.toList.drop 71 = dktX1_supposed_3 := dk_seg dksX1_supposed_2 23 rfl rfl
theorem dksX1_supposed_4 : cX1_supposed.data.toList.drop 94 = dktX1_supposed_4 := dk_seg dksX1_supposed_3 23 rfl rfl
theorem dksX1_supposed_5 : cX1_supposed.data.toList.drop 117 = dktX1_supposed_5 := dk_seg dksX1_supposed_4 23 rfl rfl
theorem dksX1_supposed_6 : cX1_supposed.data.toList.drop 141 = dktX1_supposed_6 := dk_seg dksX1_supposed_5 24 rfl rfl
theorem dksX1_supposed_7 : cX1_supposed.data.toList.drop 164 = dktX1_supposed_7 := dk_seg dksX1_supposed_6 23 rfl rfl
theorem dX1_supposed_0 : decode cX1_supposed 0 = .ok (.aload_n 0, 1) := dk_42 (dk_at dksX1_supposed_0 0 rfl rfl)
theorem dX1_supposed_1 : decode cX1_supposed 1 = .ok (.iload_n 1, 1) := dk_27 (dk_at dksX1_supposed_0 1 rfl rfl)
theorem dX1_supposed_2 : decode cX1_supposed 2 = .ok (.invokevirtual 156, 3) := dk_182 0 156 (dk_at dksX1_supposed_0 2 rfl rfl)
theorem dX1_supposed_5 : decode cX1_supposed 5 = .ok (.ifCond .ne 5, 3) := dk_154 0 5 (dk_at dksX1_supposed_0 5 rfl rfl)
theorem dX1_supposed_8 : decode cX1_supposed 8 = .ok (.iconst (-1), 1) := dk_2 (dk_at dksX1_supposed_0 8 rfl rfl)
theorem dX1_supposed_9 : decode cX1_supposed 9 = .ok (.ireturn, 1) := dk_172 (dk_at dksX1_supposed_0 9 rfl rfl)
theorem dX1_supposed_10 : decode cX1_supposed 10 = .ok (.aload_n 0, 1) := dk_42 (dk_at dksX1_supposed_0 10 rfl rfl)
theorem dX1_supposed_11 : decode cX1_supposed 11 = .ok (.getfield 49, 3) := dk_180 0 49 (dk_at dksX1_supposed_0 11 rfl rfl)
theorem dX1_supposed_14 : decode cX1_supposed 14 = .ok (.getfield 115, 3) := dk_180 0 115 (dk_at dksX1_supposed_0 14 rfl rfl)
theorem dX1_supposed_17 : decode cX1_supposed 17 = .ok (.iload_n 1, 1) := dk_27 (dk_at dksX1_supposed_0 17 rfl rfl)
theorem dX1_supposed_18 : decode cX1_supposed 18 = .ok (.invokevirtual 135, 3) := dk_182 0 135 (dk_at dksX1_supposed_0 18 rfl rfl)
theorem dX1_supposed_21 : decode cX1_supposed 21 = .ok (.checkcast 159, 3) := dk_192 0 159 (dk_at dksX1_supposed_0 21 rfl rfl)
theorem dX1_supposed_24 : decode cX1_supposed 24 = .ok (.astore_n 2, 1) := dk_77 (dk_at dksX1_supposed_1 0 rfl rfl)
theorem dX1_supposed_25 : decode cX1_supposed 25 = .ok (.iconst 0, 1) := dk_3 (dk_at dksX1_supposed_1 1 rfl rfl)
theorem dX1_supposed_26 : decode cX1_supposed 26 = .ok (.istore_n 3, 1) := dk_62 (dk_at dksX1_supposed_1 2 rfl rfl)
theorem dX1_supposed_27 : decode cX1_supposed 27 = .ok (.iconst 0, 1) := dk_3 (dk_at dksX1_supposed_1 3 rfl rfl)
theorem dX1_supposed_28 : decode cX1_supposed 28 = .ok (.istore 4, 2) := dk_54 4 (dk_at dksX1_supposed_1 4 rfl rfl)
theorem dX1_supposed_30 : decode cX1_supposed 30 = .ok (.iconst 0, 1) := dk_3 (dk_at dksX1_supposed_1 6 rfl rfl)
theorem dX1_supposed_31 : decode cX1_supposed 31 = .ok (.istore 5, 2) := dk_54 5 (dk_at dksX1_supposed_1 7 rfl rfl)
theorem dX1_supposed_33 : decode cX1_supposed 33 = .ok (.iload 5, 2) := dk_21 5 (dk_at dksX1_supposed_1 9 rfl rfl)
theorem dX1_supposed_35 : decode cX1_supposed 35 = .ok (.aload_n 0, 1) := dk_42 (dk_at dksX1_supposed_1 11 rfl rfl)
theorem dX1_supposed_36 : decode cX1_supposed 36 = .ok (.getfield 49, 3) := dk_180 0 49 (dk_at dksX1_supposed_1 12 rfl rfl)
theorem dX1_supposed_39 : decode cX1_supposed 39 = .ok (.getfield 173, 3) := dk_180 0 173 (dk_at dksX1_supposed_1 15 rfl rfl)
theorem dX1_supposed_42 : decode cX1_supposed 42 = .ok (.invokevirtual 119, 3) := dk_182 0 119 (dk_at dksX1_supposed_1 18 rfl rfl)
theorem dX1_supposed_45 : decode cX1_supposed 45 = .ok (.if_icmp .ge 122, 3) := dk_162 0 122 (dk_at dksX1_supposed_1 21 rfl rfl)
theorem dX1_supposed_48 : decode cX1_supposed 48 = .ok (.aload_n 2, 1) := dk_44 (dk_at dksX1_supposed_2 0 rfl rfl)
theorem dX1_supposed_49 : decode cX1_supposed 49 = .ok (.getfield 170, 3) := dk_180 0 170 (dk_at dksX1_supposed_2 1 rfl rfl)
theorem dX1_supposed_52 : decode cX1_supposed 52 = .ok (.aload_n 2, 1) := dk_44 (dk_at dksX1_supposed_2 4 rfl rfl)
theorem dX1_supposed_53 : decode cX1_supposed 53 = .ok (.getfield 164, 3) := dk_180 0 164 (dk_at dksX1_supposed_2 5 rfl rfl)
theorem dX1_supposed_56 : decode cX1_supposed 56 = .ok (.if_icmp .le 111, 3) := dk_164 0 111 (dk_at dksX1_supposed_2 8 rfl rfl)
theorem dX1_supposed_59 : decode cX1_supposed 59 = .ok (.aload_n 0, 1) := dk_42 (dk_at dksX1_supposed_2 11 rfl rfl)
theorem dX1_supposed_60 : decode cX1_supposed 60 = .ok (.iload 5, 2) := dk_21 5 (dk_at dksX1_supposed_2 12 rfl rfl)
theorem dX1_supposed_62 : decode cX1_supposed 62 = .ok (.iload_n 1, 1) := dk_27 (dk_at dksX1_supposed_2 14 rfl rfl)
theorem dX1_supposed_63 : decode cX1_supposed 63 = .ok (.iconst (-1), 1) := dk_2 (dk_at dksX1_supposed_2 15 rfl rfl)
theorem dX1_supposed_64 : decode cX1_supposed 64 = .ok (.invokevirtual 187, 3) := dk_182 0 187 (dk_at dksX1_supposed_2 16 rfl rfl)
theorem dX1_supposed_67 : decode cX1_supposed 67 = .ok (.astore 6, 2) := dk_58 6 (dk_at dksX1_supposed_2 19 rfl rfl)
theorem dX1_supposed_69 : decode cX1_supposed 69 = .ok (.aload 6, 2) := dk_25 6 (dk_at dksX1_supposed_2 21 rfl rfl)
theorem dX1_supposed_71 : decode cX1_supposed 71 = .ok (.ifnull 90, 3) := dk_198 0 90 (dk_at dksX1_supposed_3 0 rfl rfl)
theorem dX1_supposed_74 : decode cX1_supposed 74 = .ok (.aload_n 2, 1) := dk_44 (dk_at dksX1_supposed_3 3 rfl rfl)
theorem dX1_supposed_75 : decode cX1_supposed 75 = .ok (.aload 6, 2) := dk_25 6 (dk_at dksX1_supposed_3 4 rfl rfl)
theorem dX1_supposed_77 : decode cX1_supposed 77 = .ok (.getfield 178, 3) := dk_180 0 178 (dk_at dksX1_supposed_3 6 rfl rfl)
theorem dX1_supposed_80 : decode cX1_supposed 80 = .ok (.invokevirtual 224, 3) := dk_182 0 224 (dk_at dksX1_supposed_3 9 rfl rfl)
theorem dX1_supposed_83 : decode cX1_supposed 83 = .ok (.ifCond .ne 6, 3) := dk_154 0 6 (dk_at dksX1_supposed_3 12 rfl rfl)
theorem dX1_supposed_86 : decode cX1_supposed 86 = .ok (.goto 75, 3) := dk_167 0 75 (dk_at dksX1_supposed_3 15 rfl rfl)
theorem dX1_supposed_89 : decode cX1_supposed 89 = .ok (.aload 6, 2) := dk_25 6 (dk_at dksX1_supposed_3 18 rfl rfl)
theorem dX1_supposed_91 : decode cX1_supposed 91 = .ok (.invokevirtual 190, 3) := dk_182 0 190 (dk_at dksX1_supposed_3 20 rfl rfl)
theorem dX1_supposed_94 : decode cX1_supposed 94 = .ok (.ifCond .ne 18, 3) := dk_154 0 18 (dk_at dksX1_supposed_4 0 rfl rfl)
theorem dX1_supposed_97 : decode cX1_supposed 97 = .ok (.iload 4, 2) := dk_21 4 (dk_at dksX1_supposed_4 3 rfl rfl)
theorem dX1_supposed_99 : decode cX1_supposed 99 = .ok (.iconst 1, 1) := dk_4 (dk_at dksX1_supposed_4 5 rfl rfl)
theorem dX1_supposed_100 : decode cX1_supposed 100 = .ok (.aload 6, 2) := dk_25 6 (dk_at dksX1_supposed_4 6 rfl rfl)
theorem dX1_supposed_102 : decode cX1_supposed 102 = .ok (.getfield 184, 3) := dk_180 0 184 (dk_at dksX1_supposed_4 8 rfl rfl)
theorem dX1_supposed_105 : decode cX1_supposed 105 = .ok (.ishl, 1) := dk_120 (dk_at dksX1_supposed_4 11 rfl rfl)
theorem dX1_supposed_106 : decode cX1_supposed 106 = .ok (.ior, 1) := dk_128 (dk_at dksX1_supposed_4 12 rfl rfl)
theorem dX1_supposed_107 : decode cX1_supposed 107 = .ok (.istore 4, 2) := dk_54 4 (dk_at dksX1_supposed_4 13 rfl rfl)
theorem dX1_supposed_109 : decode cX1_supposed 109 = .ok (.goto 52, 3) := dk_167 0 52 (dk_at dksX1_supposed_4 15 rfl rfl)
theorem dX1_supposed_112 : decode cX1_supposed 112 = .ok (.aload 6, 2) := dk_25 6 (dk_at dksX1_supposed_4 18 rfl rfl)
theorem dX1_supposed_114 : decode cX1_supposed 114 = .ok (.checkcast 194, 3) := dk_192 0 194 (dk_at dksX1_supposed_4 20 rfl rfl)
theorem dX1_supposed_117 : decode cX1_supposed 117 = .ok (.invokevirtual 242, 3) := dk_182 0 242 (dk_at dksX1_supposed_5 0 rfl rfl)
theorem dX1_supposed_120 : decode cX1_supposed 120 = .ok (.ifCond .eq 41, 3) := dk_153 0 41 (dk_at dksX1_supposed_5 3 rfl rfl)
theorem dX1_supposed_123 : decode cX1_supposed 123 = .ok (.iload 4, 2) := dk_21 4 (dk_at dksX1_supposed_5 6 rfl rfl)
theorem dX1_supposed_125 : decode cX1_supposed 125 = .ok (.aload 6, 2) := dk_25 6 (dk_at dksX1_supposed_5 8 rfl rfl)
theorem dX1_supposed_127 : decode cX1_supposed 127 = .ok (.getfield 184, 3) := dk_180 0 184 (dk_at dksX1_supposed_5 10 rfl rfl)
theorem dX1_supposed_130 : decode cX1_supposed 130 = .ok (.ishr, 1) := dk_122 (dk_at dksX1_supposed_5 13 rfl rfl)
theorem dX1_supposed_131 : decode cX1_supposed 131 = .ok (.iconst 1, 1) := dk_4 (dk_at dksX1_supposed_5 14 rfl rfl)
theorem dX1_supposed_132 : decode cX1_supposed 132 = .ok (.iand, 1) := dk_126 (dk_at dksX1_supposed_5 15 rfl rfl)
theorem dX1_supposed_133 : decode cX1_supposed 133 = .ok (.ifCond .ne 28, 3) := dk_154 0 28 (dk_at dksX1_supposed_5 16 rfl rfl)
theorem dX1_supposed_136 : decode cX1_supposed 136 = .ok (.aload 6, 2) := dk_25 6 (dk_at dksX1_supposed_5 19 rfl rfl)
theorem dX1_supposed_138 : decode cX1_supposed 138 = .ok (.getfield 334, 3) := dk_180 1 78 (dk_at dksX1_supposed_5 21 rfl rfl)
theorem dX1_supposed_141 : decode cX1_supposed 141 = .ok (.aload_n 2, 1) := dk_44 (dk_at dksX1_supposed_6 0 rfl rfl)
theorem dX1_supposed_142 : decode cX1_supposed 142 = .ok (.getfield 170, 3) := dk_180 0 170 (dk_at dksX1_supposed_6 1 rfl rfl)
theorem dX1_supposed_145 : decode cX1_supposed 145 = .ok (.invokevirtual 335, 3) := dk_182 1 79 (dk_at dksX1_supposed_6 4 rfl rfl)
theorem dX1_supposed_148 : decode cX1_supposed 148 = .ok (.ifCond .eq 13, 3) := dk_153 0 13 (dk_at dksX1_supposed_6 7 rfl rfl)
theorem dX1_supposed_151 : decode cX1_supposed 151 = .ok (.iload_n 3, 1) := dk_29 (dk_at dksX1_supposed_6 10 rfl rfl)
theorem dX1_supposed_152 : decode cX1_supposed 152 = .ok (.iconst 1, 1) := dk_4 (dk_at dksX1_supposed_6 11 rfl rfl)
theorem dX1_supposed_153 : decode cX1_supposed 153 = .ok (.aload 6, 2) := dk_25 6 (dk_at dksX1_supposed_6 12 rfl rfl)
theorem dX1_supposed_155 : decode cX1_supposed 155 = .ok (.getfield 184, 3) := dk_180 0 184 (dk_at dksX1_supposed_6 14 rfl rfl)
theorem dX1_supposed_158 : decode cX1_supposed 158 = .ok (.ishl, 1) := dk_120 (dk_at dksX1_supposed_6 17 rfl rfl)
theorem dX1_supposed_159 : decode cX1_supposed 159 = .ok (.ior, 1) := dk_128 (dk_at dksX1_supposed_6 18 rfl rfl)
theorem dX1_supposed_160 : decode cX1_supposed 160 = .ok (.istore_n 3, 1) := dk_62 (dk_at dksX1_supposed_6 19 rfl rfl)
theorem dX1_supposed_161 : decode cX1_supposed 161 = .ok (.iinc 5 1, 3) := dk_132 5 1 (dk_at dksX1_supposed_6 20 rfl rfl)
theorem dX1_supposed_164 : decode cX1_supposed 164 = .ok (.goto (-131), 3) := dk_167 255 125 (dk_at dksX1_supposed_7 0 rfl rfl)
theorem dX1_supposed_167 : decode cX1_supposed 167 = .ok (.iload_n 3, 1) := dk_29 (dk_at dksX1_supposed_7 3 rfl rfl)
theorem dX1_supposed_168 : decode cX1_supposed 168 = .ok (.ireturn, 1) := dk_172 (dk_at dksX1_supposed_7 4 rfl rfl)
abbrev cX1_law : ByteArray := prog_1_method_52_code
def yX1_law : MethodName := ⟨RX1, "law", "(I)I"⟩
def dkwX1_law_0 : List UInt8 := [42, 27, 182, 0, 238, 199, 0, 7, 2, 167, 0, 8, 42, 27, 182, 1, 112, 172]
abbrev dktX1_law_0 : List UInt8 := dkwX1_law_0 ++ []
theorem dksX1_law_0 : cX1_law.data.toList.drop 0 = dktX1_law_0 := by decide +kernel
theorem dX1_law_0 : decode cX1_law 0 = .ok (.aload_n 0, 1) := dk_42 (dk_at dksX1_law_0 0 rfl rfl)
theorem dX1_law_1 : decode cX1_law 1 = .ok (.iload_n 1, 1) := dk_27 (dk_at dksX1_law_0 1 rfl rfl)
theorem dX1_law_2 : decode cX1_law 2 = .ok (.invokevirtual 238, 3) := dk_182 0 238 (dk_at dksX1_law_0 2 rfl rfl)
theorem dX1_law_5 : decode cX1_law 5 = .ok (.ifnonnull 7, 3) := dk_199 0 7 (dk_at dksX1_law_0 5 rfl rfl)
theorem dX1_law_8 : decode cX1_law 8 = .ok (.iconst (-1), 1) := dk_2 (dk_at dksX1_law_0 8 rfl rfl)
theorem dX1_law_9 : decode cX1_law 9 = .ok (.goto 8, 3) := dk_167 0 8 (dk_at dksX1_law_0 9 rfl rfl)
theorem dX1_law_12 : decode cX1_law 12 = .ok (.aload_n 0, 1) := dk_42 (dk_at dksX1_law_0 12 rfl rfl)
theorem dX1_law_13 : decode cX1_law 13 = .ok (.iload_n 1, 1) := dk_27 (dk_at dksX1_law_0 13 rfl rfl)
theorem dX1_law_14 : decode cX1_law 14 = .ok (.invokevirtual 368, 3) := dk_182 1 112 (dk_at dksX1_law_0 14 rfl rfl)
theorem dX1_law_17 : decode cX1_law 17 = .ok (.ireturn, 1) := dk_172 (dk_at dksX1_law_0 17 rfl rfl)
abbrev cX1_lawAt : ByteArray := prog_1_method_51_code
def yX1_lawAt : MethodName := ⟨RX1, "lawAt", "(I)I"⟩
def dkwX1_lawAt_4 : List UInt8 := [180, 1, 82, 3, 50, 42, 180, 0, 53, 182, 1, 99, 184, 1, 105, 184, 1, 108, 136, 172, 78, 16, 50, 172]
abbrev dktX1_lawAt_4 : List UInt8 := dkwX1_lawAt_4 ++ []
def dkwX1_lawAt_3 : List UInt8 := [182, 1, 90, 133, 80, 42, 44, 180, 0, 181, 27, 3, 182, 1, 93, 9, 20, 1, 97, 42, 180, 0, 49]
abbrev dktX1_lawAt_3 : List UInt8 := dkwX1_lawAt_3 ++ dktX1_lawAt_4
def dkwX1_lawAt_2 : List UInt8 := [180, 0, 221, 180, 0, 164, 100, 133, 80, 42, 180, 0, 53, 5, 44, 180, 0, 221, 44, 180, 0, 178]
abbrev dktX1_lawAt_2 : List UInt8 := dkwX1_lawAt_2 ++ dktX1_lawAt_3
def dkwX1_lawAt_1 : List UInt8 := [199, 0, 6, 16, 50, 172, 42, 44, 180, 0, 221, 182, 1, 86, 42, 180, 0, 53, 4, 44, 180, 0, 178, 44]
abbrev dktX1_lawAt_1 : List UInt8 := dkwX1_lawAt_1 ++ dktX1_lawAt_2
def dkwX1_lawAt_0 : List UInt8 := [42, 180, 0, 49, 180, 0, 173, 27, 182, 0, 135, 192, 0, 176, 77, 42, 180, 0, 49, 180, 1, 82, 3, 50]
abbrev dktX1_lawAt_0 : List UInt8 := dkwX1_lawAt_0 ++ dktX1_lawAt_1
theorem dksX1_lawAt_0 : cX1_lawAt.data.toList.drop 0 = dktX1_lawAt_0 := by decide +kernel
theorem dksX1_lawAt_1 : cX1_lawAt.data.toList.drop 24 = dktX1_lawAt_1 := dk_seg dksX1_lawAt_0 24 rfl rfl
theorem dksX1_lawAt_2 : cX1_lawAt.data.toList.drop 48 = dktX1_lawAt_2 := dk_seg dksX1_lawAt_1 24 rfl rfl
theorem dksX1_lawAt_3 : cX1_lawAt.data.toList.drop 70 = dktX1_lawAt_3 := dk_seg dksX1_lawAt_2 22 rfl rfl
theorem dksX1_lawAt_4 : cX1_lawAt.data.toList.drop 93 = dktX1_lawAt_4 := dk_seg dksX1_lawAt_3 23 rfl rfl
theorem dX1_lawAt_0 : decode cX1_lawAt 0 = .ok (.aload_n 0, 1) := dk_42 (dk_at dksX1_lawAt_0 0 rfl rfl)
theorem dX1_lawAt_1 : decode cX1_lawAt 1 = .ok (.getfield 49, 3) := dk_180 0 49 (dk_at dksX1_lawAt_0 1 rfl rfl)
theorem dX1_lawAt_4 : decode cX1_lawAt 4 = .ok (.getfield 173, 3) := dk_180 0 173 (dk_at dksX1_lawAt_0 4 rfl rfl)
theorem dX1_lawAt_7 : decode cX1_lawAt 7 = .ok (.iload_n 1, 1) := dk_27 (dk_at dksX1_lawAt_0 7 rfl rfl)
theorem dX1_lawAt_8 : decode cX1_lawAt 8 = .ok (.invokevirtual 135, 3) := dk_182 0 135 (dk_at dksX1_lawAt_0 8 rfl rfl)
theorem dX1_lawAt_11 : decode cX1_lawAt 11 = .ok (.checkcast 176, 3) := dk_192 0 176 (dk_at dksX1_lawAt_0 11 rfl rfl)
theorem dX1_lawAt_14 : decode cX1_lawAt 14 = .ok (.astore_n 2, 1) := dk_77 (dk_at dksX1_lawAt_0 14 rfl rfl)
theorem dX1_lawAt_15 : decode cX1_lawAt 15 = .ok (.aload_n 0, 1) := dk_42 (dk_at dksX1_lawAt_0 15 rfl rfl)
theorem dX1_lawAt_16 : decode cX1_lawAt 16 = .ok (.getfield 49, 3) := dk_180 0 49 (dk_at dksX1_lawAt_0 16 rfl rfl)
theorem dX1_lawAt_19 : decode cX1_lawAt 19 = .ok (.getfield 338, 3) := dk_180 1 82 (dk_at dksX1_lawAt_0 19 rfl rfl)
theorem dX1_lawAt_22 : decode cX1_lawAt 22 = .ok (.iconst 0, 1) := dk_3 (dk_at dksX1_lawAt_0 22 rfl rfl)
theorem dX1_lawAt_23 : decode cX1_lawAt 23 = .ok (.aaload, 1) := dk_50 (dk_at dksX1_lawAt_0 23 rfl rfl)
theorem dX1_lawAt_24 : decode cX1_lawAt 24 = .ok (.ifnonnull 6, 3) := dk_199 0 6 (dk_at dksX1_lawAt_1 0 rfl rfl)
theorem dX1_lawAt_27 : decode cX1_lawAt 27 = .ok (.bipush 50, 2) := dk_16 50 (dk_at dksX1_lawAt_1 3 rfl rfl)
theorem dX1_lawAt_29 : decode cX1_lawAt 29 = .ok (.ireturn, 1) := dk_172 (dk_at dksX1_lawAt_1 5 rfl rfl)
theorem dX1_lawAt_30 : decode cX1_lawAt 30 = .ok (.aload_n 0, 1) := dk_42 (dk_at dksX1_lawAt_1 6 rfl rfl)
theorem dX1_lawAt_31 : decode cX1_lawAt 31 = .ok (.aload_n 2, 1) := dk_44 (dk_at dksX1_lawAt_1 7 rfl rfl)
theorem dX1_lawAt_32 : decode cX1_lawAt 32 = .ok (.getfield 221, 3) := dk_180 0 221 (dk_at dksX1_lawAt_1 8 rfl rfl)
theorem dX1_lawAt_35 : decode cX1_lawAt 35 = .ok (.invokevirtual 342, 3) := dk_182 1 86 (dk_at dksX1_lawAt_1 11 rfl rfl)
theorem dX1_lawAt_38 : decode cX1_lawAt 38 = .ok (.aload_n 0, 1) := dk_42 (dk_at dksX1_lawAt_1 14 rfl rfl)
theorem dX1_lawAt_39 : decode cX1_lawAt 39 = .ok (.getfield 53, 3) := dk_180 0 53 (dk_at dksX1_lawAt_1 15 rfl rfl)
theorem dX1_lawAt_42 : decode cX1_lawAt 42 = .ok (.iconst 1, 1) := dk_4 (dk_at dksX1_lawAt_1 18 rfl rfl)
theorem dX1_lawAt_43 : decode cX1_lawAt 43 = .ok (.aload_n 2, 1) := dk_44 (dk_at dksX1_lawAt_1 19 rfl rfl)
theorem dX1_lawAt_44 : decode cX1_lawAt 44 = .ok (.getfield 178, 3) := dk_180 0 178 (dk_at dksX1_lawAt_1 20 rfl rfl)
theorem dX1_lawAt_47 : decode cX1_lawAt 47 = .ok (.aload_n 2, 1) := dk_44 (dk_at dksX1_lawAt_1 23 rfl rfl)
theorem dX1_lawAt_48 : decode cX1_lawAt 48 = .ok (.getfield 221, 3) := dk_180 0 221 (dk_at dksX1_lawAt_2 0 rfl rfl)
theorem dX1_lawAt_51 : decode cX1_lawAt 51 = .ok (.getfield 164, 3) := dk_180 0 164 (dk_at dksX1_lawAt_2 3 rfl rfl)
theorem dX1_lawAt_54 : decode cX1_lawAt 54 = .ok (.isub, 1) := dk_100 (dk_at dksX1_lawAt_2 6 rfl rfl)
theorem dX1_lawAt_55 : decode cX1_lawAt 55 = .ok (.i2l, 1) := dk_133 (dk_at dksX1_lawAt_2 7 rfl rfl)
theorem dX1_lawAt_56 : decode cX1_lawAt 56 = .ok (.lastore, 1) := dk_80 (dk_at dksX1_lawAt_2 8 rfl rfl)
theorem dX1_lawAt_57 : decode cX1_lawAt 57 = .ok (.aload_n 0, 1) := dk_42 (dk_at dksX1_lawAt_2 9 rfl rfl)
theorem dX1_lawAt_58 : decode cX1_lawAt 58 = .ok (.getfield 53, 3) := dk_180 0 53 (dk_at dksX1_lawAt_2 10 rfl rfl)
theorem dX1_lawAt_61 : decode cX1_lawAt 61 = .ok (.iconst 2, 1) := dk_5 (dk_at dksX1_lawAt_2 13 rfl rfl)
theorem dX1_lawAt_62 : decode cX1_lawAt 62 = .ok (.aload_n 2, 1) := dk_44 (dk_at dksX1_lawAt_2 14 rfl rfl)
theorem dX1_lawAt_63 : decode cX1_lawAt 63 = .ok (.getfield 221, 3) := dk_180 0 221 (dk_at dksX1_lawAt_2 15 rfl rfl)
theorem dX1_lawAt_66 : decode cX1_lawAt 66 = .ok (.aload_n 2, 1) := dk_44 (dk_at dksX1_lawAt_2 18 rfl rfl)
theorem dX1_lawAt_67 : decode cX1_lawAt 67 = .ok (.getfield 178, 3) := dk_180 0 178 (dk_at dksX1_lawAt_2 19 rfl rfl)
theorem dX1_lawAt_70 : decode cX1_lawAt 70 = .ok (.invokevirtual 346, 3) := dk_182 1 90 (dk_at dksX1_lawAt_3 0 rfl rfl)
theorem dX1_lawAt_73 : decode cX1_lawAt 73 = .ok (.i2l, 1) := dk_133 (dk_at dksX1_lawAt_3 3 rfl rfl)
theorem dX1_lawAt_74 : decode cX1_lawAt 74 = .ok (.lastore, 1) := dk_80 (dk_at dksX1_lawAt_3 4 rfl rfl)
theorem dX1_lawAt_75 : decode cX1_lawAt 75 = .ok (.aload_n 0, 1) := dk_42 (dk_at dksX1_lawAt_3 5 rfl rfl)
theorem dX1_lawAt_76 : decode cX1_lawAt 76 = .ok (.aload_n 2, 1) := dk_44 (dk_at dksX1_lawAt_3 6 rfl rfl)
theorem dX1_lawAt_77 : decode cX1_lawAt 77 = .ok (.getfield 181, 3) := dk_180 0 181 (dk_at dksX1_lawAt_3 7 rfl rfl)
theorem dX1_lawAt_80 : decode cX1_lawAt 80 = .ok (.iload_n 1, 1) := dk_27 (dk_at dksX1_lawAt_3 10 rfl rfl)
theorem dX1_lawAt_81 : decode cX1_lawAt 81 = .ok (.iconst 0, 1) := dk_3 (dk_at dksX1_lawAt_3 11 rfl rfl)
theorem dX1_lawAt_82 : decode cX1_lawAt 82 = .ok (.invokevirtual 349, 3) := dk_182 1 93 (dk_at dksX1_lawAt_3 12 rfl rfl)
theorem dX1_lawAt_85 : decode cX1_lawAt 85 = .ok (.lconst 0, 1) := dk_9 (dk_at dksX1_lawAt_3 15 rfl rfl)
theorem dX1_lawAt_86 : decode cX1_lawAt 86 = .ok (.ldc2_w 353, 3) := dk_20 1 97 (dk_at dksX1_lawAt_3 16 rfl rfl)
theorem dX1_lawAt_89 : decode cX1_lawAt 89 = .ok (.aload_n 0, 1) := dk_42 (dk_at dksX1_lawAt_3 19 rfl rfl)
theorem dX1_lawAt_90 : decode cX1_lawAt 90 = .ok (.getfield 49, 3) := dk_180 0 49 (dk_at dksX1_lawAt_3 20 rfl rfl)
theorem dX1_lawAt_93 : decode cX1_lawAt 93 = .ok (.getfield 338, 3) := dk_180 1 82 (dk_at dksX1_lawAt_4 0 rfl rfl)
theorem dX1_lawAt_96 : decode cX1_lawAt 96 = .ok (.iconst 0, 1) := dk_3 (dk_at dksX1_lawAt_4 3 rfl rfl)
theorem dX1_lawAt_97 : decode cX1_lawAt 97 = .ok (.aaload, 1) := dk_50 (dk_at dksX1_lawAt_4 4 rfl rfl)
theorem dX1_lawAt_98 : decode cX1_lawAt 98 = .ok (.aload_n 0, 1) := dk_42 (dk_at dksX1_lawAt_4 5 rfl rfl)
theorem dX1_lawAt_99 : decode cX1_lawAt 99 = .ok (.getfield 53, 3) := dk_180 0 53 (dk_at dksX1_lawAt_4 6 rfl rfl)
theorem dX1_lawAt_102 : decode cX1_lawAt 102 = .ok (.invokevirtual 355, 3) := dk_182 1 99 (dk_at dksX1_lawAt_4 9 rfl rfl)
theorem dX1_lawAt_105 : decode cX1_lawAt 105 = .ok (.invokestatic 361, 3) := dk_184 1 105 (dk_at dksX1_lawAt_4 12 rfl rfl)
theorem dX1_lawAt_108 : decode cX1_lawAt 108 = .ok (.invokestatic 364, 3) := dk_184 1 108 (dk_at dksX1_lawAt_4 15 rfl rfl)
theorem dX1_lawAt_111 : decode cX1_lawAt 111 = .ok (.l2i, 1) := dk_136 (dk_at dksX1_lawAt_4 18 rfl rfl)
theorem dX1_lawAt_112 : decode cX1_lawAt 112 = .ok (.ireturn, 1) := dk_172 (dk_at dksX1_lawAt_4 19 rfl rfl)
theorem dX1_lawAt_113 : decode cX1_lawAt 113 = .ok (.astore_n 3, 1) := dk_78 (dk_at dksX1_lawAt_4 20 rfl rfl)
theorem dX1_lawAt_114 : decode cX1_lawAt 114 = .ok (.bipush 50, 2) := dk_16 50 (dk_at dksX1_lawAt_4 21 rfl rfl)
theorem dX1_lawAt_116 : decode cX1_lawAt 116 = .ok (.ireturn, 1) := dk_172 (dk_at dksX1_lawAt_4 23 rfl rfl)
abbrev cX1_nothing : ByteArray := prog_1_method_49_code
def yX1_nothing : MethodName := ⟨RX1, "nothing", "(LSaidSo$Teller;)V"⟩
def dkwX1_nothing_1 : List UInt8 := [42, 180, 0, 53, 3, 43, 180, 0, 161, 133, 80, 177]
abbrev dktX1_nothing_1 : List UInt8 := dkwX1_nothing_1 ++ []
def dkwX1_nothing_0 : List UInt8 := [3, 61, 28, 42, 180, 0, 53, 190, 162, 0, 16, 42, 180, 0, 53, 28, 9, 80, 132, 2, 1, 167, 255, 237]
abbrev dktX1_nothing_0 : List UInt8 := dkwX1_nothing_0 ++ dktX1_nothing_1
theorem dksX1_nothing_0 : cX1_nothing.data.toList.drop 0 = dktX1_nothing_0 := by decide +kernel
theorem dksX1_nothing_1 : cX1_nothing.data.toList.drop 24 = dktX1_nothing_1 := dk_seg dksX1_nothing_0 24 rfl rfl
theorem dX1_nothing_0 : decode cX1_nothing 0 = .ok (.iconst 0, 1) := dk_3 (dk_at dksX1_nothing_0 0 rfl rfl)
theorem dX1_nothing_1 : decode cX1_nothing 1 = .ok (.istore_n 2, 1) := dk_61 (dk_at dksX1_nothing_0 1 rfl rfl)
theorem dX1_nothing_2 : decode cX1_nothing 2 = .ok (.iload_n 2, 1) := dk_28 (dk_at dksX1_nothing_0 2 rfl rfl)
theorem dX1_nothing_3 : decode cX1_nothing 3 = .ok (.aload_n 0, 1) := dk_42 (dk_at dksX1_nothing_0 3 rfl rfl)
theorem dX1_nothing_4 : decode cX1_nothing 4 = .ok (.getfield 53, 3) := dk_180 0 53 (dk_at dksX1_nothing_0 4 rfl rfl)
theorem dX1_nothing_7 : decode cX1_nothing 7 = .ok (.arraylength, 1) := dk_190 (dk_at dksX1_nothing_0 7 rfl rfl)
theorem dX1_nothing_8 : decode cX1_nothing 8 = .ok (.if_icmp .ge 16, 3) := dk_162 0 16 (dk_at dksX1_nothing_0 8 rfl rfl)
theorem dX1_nothing_11 : decode cX1_nothing 11 = .ok (.aload_n 0, 1) := dk_42 (dk_at dksX1_nothing_0 11 rfl rfl)
theorem dX1_nothing_12 : decode cX1_nothing 12 = .ok (.getfield 53, 3) := dk_180 0 53 (dk_at dksX1_nothing_0 12 rfl rfl)
theorem dX1_nothing_15 : decode cX1_nothing 15 = .ok (.iload_n 2, 1) := dk_28 (dk_at dksX1_nothing_0 15 rfl rfl)
theorem dX1_nothing_16 : decode cX1_nothing 16 = .ok (.lconst 0, 1) := dk_9 (dk_at dksX1_nothing_0 16 rfl rfl)
theorem dX1_nothing_17 : decode cX1_nothing 17 = .ok (.lastore, 1) := dk_80 (dk_at dksX1_nothing_0 17 rfl rfl)
theorem dX1_nothing_18 : decode cX1_nothing 18 = .ok (.iinc 2 1, 3) := dk_132 2 1 (dk_at dksX1_nothing_0 18 rfl rfl)
theorem dX1_nothing_21 : decode cX1_nothing 21 = .ok (.goto (-19), 3) := dk_167 255 237 (dk_at dksX1_nothing_0 21 rfl rfl)
theorem dX1_nothing_24 : decode cX1_nothing 24 = .ok (.aload_n 0, 1) := dk_42 (dk_at dksX1_nothing_1 0 rfl rfl)
theorem dX1_nothing_25 : decode cX1_nothing 25 = .ok (.getfield 53, 3) := dk_180 0 53 (dk_at dksX1_nothing_1 1 rfl rfl)
theorem dX1_nothing_28 : decode cX1_nothing 28 = .ok (.iconst 0, 1) := dk_3 (dk_at dksX1_nothing_1 4 rfl rfl)
theorem dX1_nothing_29 : decode cX1_nothing 29 = .ok (.aload_n 1, 1) := dk_43 (dk_at dksX1_nothing_1 5 rfl rfl)
theorem dX1_nothing_30 : decode cX1_nothing 30 = .ok (.getfield 161, 3) := dk_180 0 161 (dk_at dksX1_nothing_1 6 rfl rfl)
theorem dX1_nothing_33 : decode cX1_nothing 33 = .ok (.i2l, 1) := dk_133 (dk_at dksX1_nothing_1 9 rfl rfl)
theorem dX1_nothing_34 : decode cX1_nothing 34 = .ok (.lastore, 1) := dk_80 (dk_at dksX1_nothing_1 10 rfl rfl)
theorem dX1_nothing_35 : decode cX1_nothing 35 = .ok (.return_, 1) := dk_177 (dk_at dksX1_nothing_1 11 rfl rfl)
abbrev cX1_countAsks : ByteArray := prog_1_method_50_code
def yX1_countAsks : MethodName := ⟨RX1, "countAsks", "(IIZ)V"⟩
def dkwX1_countAsks_3 : List UInt8 := [10, 167, 0, 4, 9, 97, 80, 132, 4, 1, 167, 255, 179, 177]
abbrev dktX1_countAsks_3 : List UInt8 := dkwX1_countAsks_3 ++ []
def dkwX1_countAsks_2 : List UInt8 := [180, 0, 53, 6, 92, 47, 10, 97, 80, 42, 180, 0, 53, 7, 92, 47, 25, 5, 182, 0, 235, 153, 0, 7]
abbrev dktX1_countAsks_2 : List UInt8 := dkwX1_countAsks_2 ++ dktX1_countAsks_3
def dkwX1_countAsks_1 : List UInt8 := [25, 5, 182, 0, 190, 154, 0, 48, 42, 25, 5, 29, 182, 0, 231, 154, 0, 6, 167, 0, 35, 42]
abbrev dktX1_countAsks_1 : List UInt8 := dkwX1_countAsks_1 ++ dktX1_countAsks_2
def dkwX1_countAsks_0 : List UInt8 := [3, 54, 4, 21, 4, 28, 162, 0, 77, 42, 21, 4, 27, 2, 182, 0, 187, 58, 5, 25, 5, 198, 0, 56]
abbrev dktX1_countAsks_0 : List UInt8 := dkwX1_countAsks_0 ++ dktX1_countAsks_1
theorem dksX1_countAsks_0 : cX1_countAsks.data.toList.drop 0 = dktX1_countAsks_0 := by decide +kernel
theorem dksX1_countAsks_1 : cX1_countAsks.data.toList.drop 24 = dktX1_countAsks_1 := dk_seg dksX1_countAsks_0 24 rfl rfl
theorem dksX1_countAsks_2 : cX1_countAsks.data.toList.drop 46 = dktX1_countAsks_2 := dk_seg dksX1_countAsks_1 22 rfl rfl
theorem dksX1_countAsks_3 : cX1_countAsks.data.toList.drop 70 = dktX1_countAsks_3 := dk_seg dksX1_countAsks_2 24 rfl rfl
theorem dX1_countAsks_0 : decode cX1_countAsks 0 = .ok (.iconst 0, 1) := dk_3 (dk_at dksX1_countAsks_0 0 rfl rfl)
theorem dX1_countAsks_1 : decode cX1_countAsks 1 = .ok (.istore 4, 2) := dk_54 4 (dk_at dksX1_countAsks_0 1 rfl rfl)
theorem dX1_countAsks_3 : decode cX1_countAsks 3 = .ok (.iload 4, 2) := dk_21 4 (dk_at dksX1_countAsks_0 3 rfl rfl)
theorem dX1_countAsks_5 : decode cX1_countAsks 5 = .ok (.iload_n 2, 1) := dk_28 (dk_at dksX1_countAsks_0 5 rfl rfl)
theorem dX1_countAsks_6 : decode cX1_countAsks 6 = .ok (.if_icmp .ge 77, 3) := dk_162 0 77 (dk_at dksX1_countAsks_0 6 rfl rfl)
theorem dX1_countAsks_9 : decode cX1_countAsks 9 = .ok (.aload_n 0, 1) := dk_42 (dk_at dksX1_countAsks_0 9 rfl rfl)
theorem dX1_countAsks_10 : decode cX1_countAsks 10 = .ok (.iload 4, 2) := dk_21 4 (dk_at dksX1_countAsks_0 10 rfl rfl)
theorem dX1_countAsks_12 : decode cX1_countAsks 12 = .ok (.iload_n 1, 1) := dk_27 (dk_at dksX1_countAsks_0 12 rfl rfl)
theorem dX1_countAsks_13 : decode cX1_countAsks 13 = .ok (.iconst (-1), 1) := dk_2 (dk_at dksX1_countAsks_0 13 rfl rfl)
theorem dX1_countAsks_14 : decode cX1_countAsks 14 = .ok (.invokevirtual 187, 3) := dk_182 0 187 (dk_at dksX1_countAsks_0 14 rfl rfl)
theorem dX1_countAsks_17 : decode cX1_countAsks 17 = .ok (.astore 5, 2) := dk_58 5 (dk_at dksX1_countAsks_0 17 rfl rfl)
theorem dX1_countAsks_19 : decode cX1_countAsks 19 = .ok (.aload 5, 2) := dk_25 5 (dk_at dksX1_countAsks_0 19 rfl rfl)
theorem dX1_countAsks_21 : decode cX1_countAsks 21 = .ok (.ifnull 56, 3) := dk_198 0 56 (dk_at dksX1_countAsks_0 21 rfl rfl)
theorem dX1_countAsks_24 : decode cX1_countAsks 24 = .ok (.aload 5, 2) := dk_25 5 (dk_at dksX1_countAsks_1 0 rfl rfl)
theorem dX1_countAsks_26 : decode cX1_countAsks 26 = .ok (.invokevirtual 190, 3) := dk_182 0 190 (dk_at dksX1_countAsks_1 2 rfl rfl)
theorem dX1_countAsks_29 : decode cX1_countAsks 29 = .ok (.ifCond .ne 48, 3) := dk_154 0 48 (dk_at dksX1_countAsks_1 5 rfl rfl)
theorem dX1_countAsks_32 : decode cX1_countAsks 32 = .ok (.aload_n 0, 1) := dk_42 (dk_at dksX1_countAsks_1 8 rfl rfl)
theorem dX1_countAsks_33 : decode cX1_countAsks 33 = .ok (.aload 5, 2) := dk_25 5 (dk_at dksX1_countAsks_1 9 rfl rfl)
theorem dX1_countAsks_35 : decode cX1_countAsks 35 = .ok (.iload_n 3, 1) := dk_29 (dk_at dksX1_countAsks_1 11 rfl rfl)
theorem dX1_countAsks_36 : decode cX1_countAsks 36 = .ok (.invokevirtual 231, 3) := dk_182 0 231 (dk_at dksX1_countAsks_1 12 rfl rfl)
theorem dX1_countAsks_39 : decode cX1_countAsks 39 = .ok (.ifCond .ne 6, 3) := dk_154 0 6 (dk_at dksX1_countAsks_1 15 rfl rfl)
theorem dX1_countAsks_42 : decode cX1_countAsks 42 = .ok (.goto 35, 3) := dk_167 0 35 (dk_at dksX1_countAsks_1 18 rfl rfl)
theorem dX1_countAsks_45 : decode cX1_countAsks 45 = .ok (.aload_n 0, 1) := dk_42 (dk_at dksX1_countAsks_1 21 rfl rfl)
theorem dX1_countAsks_46 : decode cX1_countAsks 46 = .ok (.getfield 53, 3) := dk_180 0 53 (dk_at dksX1_countAsks_2 0 rfl rfl)
theorem dX1_countAsks_49 : decode cX1_countAsks 49 = .ok (.iconst 3, 1) := dk_6 (dk_at dksX1_countAsks_2 3 rfl rfl)
theorem dX1_countAsks_50 : decode cX1_countAsks 50 = .ok (.dup2, 1) := dk_92 (dk_at dksX1_countAsks_2 4 rfl rfl)
theorem dX1_countAsks_51 : decode cX1_countAsks 51 = .ok (.laload, 1) := dk_47 (dk_at dksX1_countAsks_2 5 rfl rfl)
theorem dX1_countAsks_52 : decode cX1_countAsks 52 = .ok (.lconst 1, 1) := dk_10 (dk_at dksX1_countAsks_2 6 rfl rfl)
theorem dX1_countAsks_53 : decode cX1_countAsks 53 = .ok (.ladd, 1) := dk_97 (dk_at dksX1_countAsks_2 7 rfl rfl)
theorem dX1_countAsks_54 : decode cX1_countAsks 54 = .ok (.lastore, 1) := dk_80 (dk_at dksX1_countAsks_2 8 rfl rfl)
theorem dX1_countAsks_55 : decode cX1_countAsks 55 = .ok (.aload_n 0, 1) := dk_42 (dk_at dksX1_countAsks_2 9 rfl rfl)
theorem dX1_countAsks_56 : decode cX1_countAsks 56 = .ok (.getfield 53, 3) := dk_180 0 53 (dk_at dksX1_countAsks_2 10 rfl rfl)
theorem dX1_countAsks_59 : decode cX1_countAsks 59 = .ok (.iconst 4, 1) := dk_7 (dk_at dksX1_countAsks_2 13 rfl rfl)
theorem dX1_countAsks_60 : decode cX1_countAsks 60 = .ok (.dup2, 1) := dk_92 (dk_at dksX1_countAsks_2 14 rfl rfl)
theorem dX1_countAsks_61 : decode cX1_countAsks 61 = .ok (.laload, 1) := dk_47 (dk_at dksX1_countAsks_2 15 rfl rfl)
theorem dX1_countAsks_62 : decode cX1_countAsks 62 = .ok (.aload 5, 2) := dk_25 5 (dk_at dksX1_countAsks_2 16 rfl rfl)
theorem dX1_countAsks_64 : decode cX1_countAsks 64 = .ok (.invokevirtual 235, 3) := dk_182 0 235 (dk_at dksX1_countAsks_2 18 rfl rfl)
theorem dX1_countAsks_67 : decode cX1_countAsks 67 = .ok (.ifCond .eq 7, 3) := dk_153 0 7 (dk_at dksX1_countAsks_2 21 rfl rfl)
theorem dX1_countAsks_70 : decode cX1_countAsks 70 = .ok (.lconst 1, 1) := dk_10 (dk_at dksX1_countAsks_3 0 rfl rfl)
theorem dX1_countAsks_71 : decode cX1_countAsks 71 = .ok (.goto 4, 3) := dk_167 0 4 (dk_at dksX1_countAsks_3 1 rfl rfl)
theorem dX1_countAsks_74 : decode cX1_countAsks 74 = .ok (.lconst 0, 1) := dk_9 (dk_at dksX1_countAsks_3 4 rfl rfl)
theorem dX1_countAsks_75 : decode cX1_countAsks 75 = .ok (.ladd, 1) := dk_97 (dk_at dksX1_countAsks_3 5 rfl rfl)
theorem dX1_countAsks_76 : decode cX1_countAsks 76 = .ok (.lastore, 1) := dk_80 (dk_at dksX1_countAsks_3 6 rfl rfl)
theorem dX1_countAsks_77 : decode cX1_countAsks 77 = .ok (.iinc 4 1, 3) := dk_132 4 1 (dk_at dksX1_countAsks_3 7 rfl rfl)
theorem dX1_countAsks_80 : decode cX1_countAsks 80 = .ok (.goto (-77), 3) := dk_167 255 179 (dk_at dksX1_countAsks_3 10 rfl rfl)
theorem dX1_countAsks_83 : decode cX1_countAsks 83 = .ok (.return_, 1) := dk_177 (dk_at dksX1_countAsks_3 13 rfl rfl)
abbrev cX1_sure : ByteArray := prog_1_method_2_code
def yX1_sure : MethodName := ⟨RX1, "sure", "(J)J"⟩
def dkwX1_sure_0 : List UInt8 := [30, 20, 0, 3, 148, 157, 0, 11, 30, 20, 0, 5, 148, 156, 0, 7, 178, 0, 7, 191, 30, 173]
abbrev dktX1_sure_0 : List UInt8 := dkwX1_sure_0 ++ []
theorem dksX1_sure_0 : cX1_sure.data.toList.drop 0 = dktX1_sure_0 := by decide +kernel
theorem dX1_sure_0 : decode cX1_sure 0 = .ok (.lload_n 0, 1) := dk_30 (dk_at dksX1_sure_0 0 rfl rfl)
theorem dX1_sure_1 : decode cX1_sure 1 = .ok (.ldc2_w 3, 3) := dk_20 0 3 (dk_at dksX1_sure_0 1 rfl rfl)
theorem dX1_sure_4 : decode cX1_sure 4 = .ok (.lcmp, 1) := dk_148 (dk_at dksX1_sure_0 4 rfl rfl)
theorem dX1_sure_5 : decode cX1_sure 5 = .ok (.ifCond .gt 11, 3) := dk_157 0 11 (dk_at dksX1_sure_0 5 rfl rfl)
theorem dX1_sure_8 : decode cX1_sure 8 = .ok (.lload_n 0, 1) := dk_30 (dk_at dksX1_sure_0 8 rfl rfl)
theorem dX1_sure_9 : decode cX1_sure 9 = .ok (.ldc2_w 5, 3) := dk_20 0 5 (dk_at dksX1_sure_0 9 rfl rfl)
theorem dX1_sure_12 : decode cX1_sure 12 = .ok (.lcmp, 1) := dk_148 (dk_at dksX1_sure_0 12 rfl rfl)
theorem dX1_sure_13 : decode cX1_sure 13 = .ok (.ifCond .ge 7, 3) := dk_156 0 7 (dk_at dksX1_sure_0 13 rfl rfl)
theorem dX1_sure_16 : decode cX1_sure 16 = .ok (.getstatic 7, 3) := dk_178 0 7 (dk_at dksX1_sure_0 16 rfl rfl)
theorem dX1_sure_19 : decode cX1_sure 19 = .ok (.athrow, 1) := dk_191 (dk_at dksX1_sure_0 19 rfl rfl)
theorem dX1_sure_20 : decode cX1_sure 20 = .ok (.lload_n 0, 1) := dk_30 (dk_at dksX1_sure_0 20 rfl rfl)
theorem dX1_sure_21 : decode cX1_sure 21 = .ok (.lreturn, 1) := dk_173 (dk_at dksX1_sure_0 21 rfl rfl)
abbrev cX1_draws : ByteArray := prog_1_method_55_code
def yX1_draws : MethodName := ⟨RX1, "draws", "(III)I"⟩
def dkwX1_draws_12 : List UInt8 := [96, 54, 6, 132, 7, 1, 167, 255, 118, 21, 6, 172]
abbrev dktX1_draws_12 : List UInt8 := dkwX1_draws_12 ++ []
def dkwX1_draws_11 : List UInt8 := [3, 96, 54, 8, 132, 9, 1, 167, 255, 153, 21, 6, 21, 8, 21, 5, 161, 0, 7, 4, 167, 0, 4, 3]
abbrev dktX1_draws_11 : List UInt8 := dkwX1_draws_11 ++ dktX1_draws_12
def dkwX1_draws_10 : List UInt8 := [180, 0, 141, 182, 1, 123, 54, 11, 21, 8, 21, 11, 25, 10, 180, 0, 144, 160, 0, 7, 4, 167, 0, 4]
abbrev dktX1_draws_10 : List UInt8 := dkwX1_draws_10 ++ dktX1_draws_11
def dkwX1_draws_9 : List UInt8 := [180, 0, 67, 21, 9, 46, 162, 0, 13, 42, 180, 0, 70, 21, 9, 46, 167, 0, 12, 42, 25, 10]
abbrev dktX1_draws_9 : List UInt8 := dkwX1_draws_9 ++ dktX1_draws_10
def dkwX1_draws_8 : List UInt8 := [180, 1, 78, 58, 10, 42, 180, 0, 70, 21, 9, 46, 2, 159, 0, 29, 42, 16, 100, 182, 1, 123, 42]
abbrev dktX1_draws_8 : List UInt8 := dkwX1_draws_8 ++ dktX1_draws_9
def dkwX1_draws_7 : List UInt8 := [162, 0, 102, 42, 180, 0, 49, 180, 0, 173, 42, 180, 0, 64, 21, 9, 46, 182, 0, 135, 192, 0, 176]
abbrev dktX1_draws_7 : List UInt8 := dkwX1_draws_7 ++ dktX1_draws_8
def dkwX1_draws_6 : List UInt8 := [42, 28, 181, 1, 115, 3, 54, 7, 21, 7, 29, 162, 0, 138, 3, 54, 8, 3, 54, 9, 21, 9, 21, 4]
abbrev dktX1_draws_6 : List UInt8 := dkwX1_draws_6 ++ dktX1_draws_7
def dkwX1_draws_5 : List UInt8 := [21, 5, 25, 8, 182, 0, 242, 153, 0, 7, 4, 167, 0, 4, 3, 96, 54, 5, 132, 7, 1, 167, 255, 154]
abbrev dktX1_draws_5 : List UInt8 := dkwX1_draws_5 ++ dktX1_draws_6
def dkwX1_draws_4 : List UInt8 := [42, 21, 7, 182, 1, 112, 79, 42, 180, 0, 70, 21, 4, 42, 21, 7, 182, 1, 120, 79, 132, 4, 1]
abbrev dktX1_draws_4 : List UInt8 := dkwX1_draws_4 ++ dktX1_draws_5
def dkwX1_draws_3 : List UInt8 := [182, 0, 245, 154, 0, 6, 167, 0, 59, 42, 180, 0, 64, 21, 4, 21, 7, 79, 42, 180, 0, 67, 21, 4]
abbrev dktX1_draws_3 : List UInt8 := dkwX1_draws_3 ++ dktX1_draws_4
def dkwX1_draws_2 : List UInt8 := [162, 0, 93, 42, 21, 7, 27, 2, 182, 0, 227, 58, 8, 25, 8, 198, 0, 72, 42, 21, 7, 3]
abbrev dktX1_draws_2 : List UInt8 := dkwX1_draws_2 ++ dktX1_draws_3
def dkwX1_draws_1 : List UInt8 := [3, 54, 4, 3, 54, 5, 3, 54, 6, 3, 54, 7, 21, 7, 42, 180, 0, 49, 180, 0, 173, 182, 0, 119]
abbrev dktX1_draws_1 : List UInt8 := dkwX1_draws_1 ++ dktX1_draws_2
def dkwX1_draws_0 : List UInt8 := [42, 27, 182, 0, 156, 153, 0, 17, 28, 155, 0, 13, 29, 4, 16, 99, 184, 0, 80, 154, 0, 5, 2, 172]
abbrev dktX1_draws_0 : List UInt8 := dkwX1_draws_0 ++ dktX1_draws_1
theorem dksX1_draws_0 : cX1_draws.data.toList.drop 0 = dktX1_draws_0 := by decide +kernel
theorem dksX1_draws_1 : cX1_draws.data.toList.drop 24 = dktX1_draws_1 := dk_seg dksX1_draws_0 24 rfl rfl
theorem dksX1_draws_2 : cX1_draws.data.toList.drop 48 = dktX1_draws_2 := dk_seg dksX1_draws_1 24 rfl rfl
theorem dksX1_draws_3 : cX1_draws.data.toList.drop 70 = dktX1_draws_3 := dk_seg dksX1_draws_2 22 rfl rfl
theorem dksX1_draws_4 : cX1_draws.data.toList.drop 94 = dktX1_draws_4 := dk_seg dksX1_draws_3 24 rfl rfl
theorem dksX1_draws_5 : cX1_draws.data.toList.drop 117 = dktX1_draws_5 := dk_seg dksX1_draws_4 23 rfl rfl
theorem dksX1_draws_6 : cX1_draws.data.toList.drop 141 = dktX1_draws_6 := dk_seg dksX1_draws_5 24 rfl rfl
theorem dksX1_draws_7 : cX1_draws.data.toList.drop 165 = dktX1_draws_7 := dk_seg dksX1_draws_6 24 rfl rfl
theorem dksX1_draws_8 : cX1_draws.data.toList.drop 188 = dktX1_draws_8 := dk_seg dksX1_draws_7 23 rfl rfl
theorem dksX1_draws_9 : cX1_draws.data.toList.drop 211 = dktX1_draws_9 := dk_seg dksX1_draws_8 23 rfl rfl
theorem dksX1_draws_10 : cX1_draws.data.toList.drop 233 = dktX1_draws_10 := dk_seg dksX1_draws_9 22 rfl rfl
theorem dksX1_draws_11 : cX1_draws.data.toList.drop 257 = dktX1_draws_11 := dk_seg dksX1_draws_10 24 rfl rfl
theorem dksX1_draws_12 : cX1_draws.data.toList.drop 281 = dktX1_draws_12 := dk_seg dksX1_draws_11 24 rfl rfl
theorem dX1_draws_0 : decode cX1_draws 0 = .ok (.aload_n 0, 1) := dk_42 (dk_at dksX1_draws_0 0 rfl rfl)
theorem dX1_draws_1 : decode cX1_draws 1 = .ok (.iload_n 1, 1) := dk_27 (dk_at dksX1_draws_0 1 rfl rfl)
theorem dX1_draws_2 : decode cX1_draws 2 = .ok (.invokevirtual 156, 3) := dk_182 0 156 (dk_at dksX1_draws_0 2 rfl rfl)
theorem dX1_draws_5 : decode cX1_draws 5 = .ok (.ifCond .eq 17, 3) := dk_153 0 17 (dk_at dksX1_draws_0 5 rfl rfl)
theorem dX1_draws_8 : decode cX1_draws 8 = .ok (.iload_n 2, 1) := dk_28 (dk_at dksX1_draws_0 8 rfl rfl)
theorem dX1_draws_9 : decode cX1_draws 9 = .ok (.ifCond .lt 13, 3) := dk_155 0 13 (dk_at dksX1_draws_0 9 rfl rfl)
theorem dX1_draws_12 : decode cX1_draws 12 = .ok (.iload_n 3, 1) := dk_29 (dk_at dksX1_draws_0 12 rfl rfl)
theorem dX1_draws_13 : decode cX1_draws 13 = .ok (.iconst 1, 1) := dk_4 (dk_at dksX1_draws_0 13 rfl rfl)
theorem dX1_draws_14 : decode cX1_draws 14 = .ok (.bipush 99, 2) := dk_16 99 (dk_at dksX1_draws_0 14 rfl rfl)
theorem dX1_draws_16 : decode cX1_draws 16 = .ok (.invokestatic 80, 3) := dk_184 0 80 (dk_at dksX1_draws_0 16 rfl rfl)
theorem dX1_draws_19 : decode cX1_draws 19 = .ok (.ifCond .ne 5, 3) := dk_154 0 5 (dk_at dksX1_draws_0 19 rfl rfl)
theorem dX1_draws_22 : decode cX1_draws 22 = .ok (.iconst (-1), 1) := dk_2 (dk_at dksX1_draws_0 22 rfl rfl)
theorem dX1_draws_23 : decode cX1_draws 23 = .ok (.ireturn, 1) := dk_172 (dk_at dksX1_draws_0 23 rfl rfl)
theorem dX1_draws_24 : decode cX1_draws 24 = .ok (.iconst 0, 1) := dk_3 (dk_at dksX1_draws_1 0 rfl rfl)
theorem dX1_draws_25 : decode cX1_draws 25 = .ok (.istore 4, 2) := dk_54 4 (dk_at dksX1_draws_1 1 rfl rfl)
theorem dX1_draws_27 : decode cX1_draws 27 = .ok (.iconst 0, 1) := dk_3 (dk_at dksX1_draws_1 3 rfl rfl)
theorem dX1_draws_28 : decode cX1_draws 28 = .ok (.istore 5, 2) := dk_54 5 (dk_at dksX1_draws_1 4 rfl rfl)
theorem dX1_draws_30 : decode cX1_draws 30 = .ok (.iconst 0, 1) := dk_3 (dk_at dksX1_draws_1 6 rfl rfl)
theorem dX1_draws_31 : decode cX1_draws 31 = .ok (.istore 6, 2) := dk_54 6 (dk_at dksX1_draws_1 7 rfl rfl)
theorem dX1_draws_33 : decode cX1_draws 33 = .ok (.iconst 0, 1) := dk_3 (dk_at dksX1_draws_1 9 rfl rfl)
theorem dX1_draws_34 : decode cX1_draws 34 = .ok (.istore 7, 2) := dk_54 7 (dk_at dksX1_draws_1 10 rfl rfl)
theorem dX1_draws_36 : decode cX1_draws 36 = .ok (.iload 7, 2) := dk_21 7 (dk_at dksX1_draws_1 12 rfl rfl)
theorem dX1_draws_38 : decode cX1_draws 38 = .ok (.aload_n 0, 1) := dk_42 (dk_at dksX1_draws_1 14 rfl rfl)
theorem dX1_draws_39 : decode cX1_draws 39 = .ok (.getfield 49, 3) := dk_180 0 49 (dk_at dksX1_draws_1 15 rfl rfl)
theorem dX1_draws_42 : decode cX1_draws 42 = .ok (.getfield 173, 3) := dk_180 0 173 (dk_at dksX1_draws_1 18 rfl rfl)
theorem dX1_draws_45 : decode cX1_draws 45 = .ok (.invokevirtual 119, 3) := dk_182 0 119 (dk_at dksX1_draws_1 21 rfl rfl)
theorem dX1_draws_48 : decode cX1_draws 48 = .ok (.if_icmp .ge 93, 3) := dk_162 0 93 (dk_at dksX1_draws_2 0 rfl rfl)
theorem dX1_draws_51 : decode cX1_draws 51 = .ok (.aload_n 0, 1) := dk_42 (dk_at dksX1_draws_2 3 rfl rfl)
theorem dX1_draws_52 : decode cX1_draws 52 = .ok (.iload 7, 2) := dk_21 7 (dk_at dksX1_draws_2 4 rfl rfl)
theorem dX1_draws_54 : decode cX1_draws 54 = .ok (.iload_n 1, 1) := dk_27 (dk_at dksX1_draws_2 6 rfl rfl)
theorem dX1_draws_55 : decode cX1_draws 55 = .ok (.iconst (-1), 1) := dk_2 (dk_at dksX1_draws_2 7 rfl rfl)
theorem dX1_draws_56 : decode cX1_draws 56 = .ok (.invokevirtual 227, 3) := dk_182 0 227 (dk_at dksX1_draws_2 8 rfl rfl)
theorem dX1_draws_59 : decode cX1_draws 59 = .ok (.astore 8, 2) := dk_58 8 (dk_at dksX1_draws_2 11 rfl rfl)
theorem dX1_draws_61 : decode cX1_draws 61 = .ok (.aload 8, 2) := dk_25 8 (dk_at dksX1_draws_2 13 rfl rfl)
theorem dX1_draws_63 : decode cX1_draws 63 = .ok (.ifnull 72, 3) := dk_198 0 72 (dk_at dksX1_draws_2 15 rfl rfl)
theorem dX1_draws_66 : decode cX1_draws 66 = .ok (.aload_n 0, 1) := dk_42 (dk_at dksX1_draws_2 18 rfl rfl)
theorem dX1_draws_67 : decode cX1_draws 67 = .ok (.iload 7, 2) := dk_21 7 (dk_at dksX1_draws_2 19 rfl rfl)
theorem dX1_draws_69 : decode cX1_draws 69 = .ok (.iconst 0, 1) := dk_3 (dk_at dksX1_draws_2 21 rfl rfl)
theorem dX1_draws_70 : decode cX1_draws 70 = .ok (.invokevirtual 245, 3) := dk_182 0 245 (dk_at dksX1_draws_3 0 rfl rfl)
theorem dX1_draws_73 : decode cX1_draws 73 = .ok (.ifCond .ne 6, 3) := dk_154 0 6 (dk_at dksX1_draws_3 3 rfl rfl)
theorem dX1_draws_76 : decode cX1_draws 76 = .ok (.goto 59, 3) := dk_167 0 59 (dk_at dksX1_draws_3 6 rfl rfl)
theorem dX1_draws_79 : decode cX1_draws 79 = .ok (.aload_n 0, 1) := dk_42 (dk_at dksX1_draws_3 9 rfl rfl)
theorem dX1_draws_80 : decode cX1_draws 80 = .ok (.getfield 64, 3) := dk_180 0 64 (dk_at dksX1_draws_3 10 rfl rfl)
theorem dX1_draws_83 : decode cX1_draws 83 = .ok (.iload 4, 2) := dk_21 4 (dk_at dksX1_draws_3 13 rfl rfl)
theorem dX1_draws_85 : decode cX1_draws 85 = .ok (.iload 7, 2) := dk_21 7 (dk_at dksX1_draws_3 15 rfl rfl)
theorem dX1_draws_87 : decode cX1_draws 87 = .ok (.iastore, 1) := dk_79 (dk_at dksX1_draws_3 17 rfl rfl)
theorem dX1_draws_88 : decode cX1_draws 88 = .ok (.aload_n 0, 1) := dk_42 (dk_at dksX1_draws_3 18 rfl rfl)
theorem dX1_draws_89 : decode cX1_draws 89 = .ok (.getfield 67, 3) := dk_180 0 67 (dk_at dksX1_draws_3 19 rfl rfl)
theorem dX1_draws_92 : decode cX1_draws 92 = .ok (.iload 4, 2) := dk_21 4 (dk_at dksX1_draws_3 22 rfl rfl)
theorem dX1_draws_94 : decode cX1_draws 94 = .ok (.aload_n 0, 1) := dk_42 (dk_at dksX1_draws_4 0 rfl rfl)
theorem dX1_draws_95 : decode cX1_draws 95 = .ok (.iload 7, 2) := dk_21 7 (dk_at dksX1_draws_4 1 rfl rfl)
theorem dX1_draws_97 : decode cX1_draws 97 = .ok (.invokevirtual 368, 3) := dk_182 1 112 (dk_at dksX1_draws_4 3 rfl rfl)
theorem dX1_draws_100 : decode cX1_draws 100 = .ok (.iastore, 1) := dk_79 (dk_at dksX1_draws_4 6 rfl rfl)
theorem dX1_draws_101 : decode cX1_draws 101 = .ok (.aload_n 0, 1) := dk_42 (dk_at dksX1_draws_4 7 rfl rfl)
theorem dX1_draws_102 : decode cX1_draws 102 = .ok (.getfield 70, 3) := dk_180 0 70 (dk_at dksX1_draws_4 8 rfl rfl)
theorem dX1_draws_105 : decode cX1_draws 105 = .ok (.iload 4, 2) := dk_21 4 (dk_at dksX1_draws_4 11 rfl rfl)
theorem dX1_draws_107 : decode cX1_draws 107 = .ok (.aload_n 0, 1) := dk_42 (dk_at dksX1_draws_4 13 rfl rfl)
theorem dX1_draws_108 : decode cX1_draws 108 = .ok (.iload 7, 2) := dk_21 7 (dk_at dksX1_draws_4 14 rfl rfl)
theorem dX1_draws_110 : decode cX1_draws 110 = .ok (.invokevirtual 376, 3) := dk_182 1 120 (dk_at dksX1_draws_4 16 rfl rfl)
theorem dX1_draws_113 : decode cX1_draws 113 = .ok (.iastore, 1) := dk_79 (dk_at dksX1_draws_4 19 rfl rfl)
theorem dX1_draws_114 : decode cX1_draws 114 = .ok (.iinc 4 1, 3) := dk_132 4 1 (dk_at dksX1_draws_4 20 rfl rfl)
theorem dX1_draws_117 : decode cX1_draws 117 = .ok (.iload 5, 2) := dk_21 5 (dk_at dksX1_draws_5 0 rfl rfl)
theorem dX1_draws_119 : decode cX1_draws 119 = .ok (.aload 8, 2) := dk_25 8 (dk_at dksX1_draws_5 2 rfl rfl)
theorem dX1_draws_121 : decode cX1_draws 121 = .ok (.invokevirtual 242, 3) := dk_182 0 242 (dk_at dksX1_draws_5 4 rfl rfl)
theorem dX1_draws_124 : decode cX1_draws 124 = .ok (.ifCond .eq 7, 3) := dk_153 0 7 (dk_at dksX1_draws_5 7 rfl rfl)
theorem dX1_draws_127 : decode cX1_draws 127 = .ok (.iconst 1, 1) := dk_4 (dk_at dksX1_draws_5 10 rfl rfl)
theorem dX1_draws_128 : decode cX1_draws 128 = .ok (.goto 4, 3) := dk_167 0 4 (dk_at dksX1_draws_5 11 rfl rfl)
theorem dX1_draws_131 : decode cX1_draws 131 = .ok (.iconst 0, 1) := dk_3 (dk_at dksX1_draws_5 14 rfl rfl)
theorem dX1_draws_132 : decode cX1_draws 132 = .ok (.iadd, 1) := dk_96 (dk_at dksX1_draws_5 15 rfl rfl)
theorem dX1_draws_133 : decode cX1_draws 133 = .ok (.istore 5, 2) := dk_54 5 (dk_at dksX1_draws_5 16 rfl rfl)
theorem dX1_draws_135 : decode cX1_draws 135 = .ok (.iinc 7 1, 3) := dk_132 7 1 (dk_at dksX1_draws_5 18 rfl rfl)
theorem dX1_draws_138 : decode cX1_draws 138 = .ok (.goto (-102), 3) := dk_167 255 154 (dk_at dksX1_draws_5 21 rfl rfl)
theorem dX1_draws_141 : decode cX1_draws 141 = .ok (.aload_n 0, 1) := dk_42 (dk_at dksX1_draws_6 0 rfl rfl)
theorem dX1_draws_142 : decode cX1_draws 142 = .ok (.iload_n 2, 1) := dk_28 (dk_at dksX1_draws_6 1 rfl rfl)
theorem dX1_draws_143 : decode cX1_draws 143 = .ok (.putfield 371, 3) := dk_181 1 115 (dk_at dksX1_draws_6 2 rfl rfl)
theorem dX1_draws_146 : decode cX1_draws 146 = .ok (.iconst 0, 1) := dk_3 (dk_at dksX1_draws_6 5 rfl rfl)
theorem dX1_draws_147 : decode cX1_draws 147 = .ok (.istore 7, 2) := dk_54 7 (dk_at dksX1_draws_6 6 rfl rfl)
theorem dX1_draws_149 : decode cX1_draws 149 = .ok (.iload 7, 2) := dk_21 7 (dk_at dksX1_draws_6 8 rfl rfl)
theorem dX1_draws_151 : decode cX1_draws 151 = .ok (.iload_n 3, 1) := dk_29 (dk_at dksX1_draws_6 10 rfl rfl)
theorem dX1_draws_152 : decode cX1_draws 152 = .ok (.if_icmp .ge 138, 3) := dk_162 0 138 (dk_at dksX1_draws_6 11 rfl rfl)
theorem dX1_draws_155 : decode cX1_draws 155 = .ok (.iconst 0, 1) := dk_3 (dk_at dksX1_draws_6 14 rfl rfl)
theorem dX1_draws_156 : decode cX1_draws 156 = .ok (.istore 8, 2) := dk_54 8 (dk_at dksX1_draws_6 15 rfl rfl)
theorem dX1_draws_158 : decode cX1_draws 158 = .ok (.iconst 0, 1) := dk_3 (dk_at dksX1_draws_6 17 rfl rfl)
theorem dX1_draws_159 : decode cX1_draws 159 = .ok (.istore 9, 2) := dk_54 9 (dk_at dksX1_draws_6 18 rfl rfl)
theorem dX1_draws_161 : decode cX1_draws 161 = .ok (.iload 9, 2) := dk_21 9 (dk_at dksX1_draws_6 20 rfl rfl)
theorem dX1_draws_163 : decode cX1_draws 163 = .ok (.iload 4, 2) := dk_21 4 (dk_at dksX1_draws_6 22 rfl rfl)
theorem dX1_draws_165 : decode cX1_draws 165 = .ok (.if_icmp .ge 102, 3) := dk_162 0 102 (dk_at dksX1_draws_7 0 rfl rfl)
theorem dX1_draws_168 : decode cX1_draws 168 = .ok (.aload_n 0, 1) := dk_42 (dk_at dksX1_draws_7 3 rfl rfl)
theorem dX1_draws_169 : decode cX1_draws 169 = .ok (.getfield 49, 3) := dk_180 0 49 (dk_at dksX1_draws_7 4 rfl rfl)
theorem dX1_draws_172 : decode cX1_draws 172 = .ok (.getfield 173, 3) := dk_180 0 173 (dk_at dksX1_draws_7 7 rfl rfl)
theorem dX1_draws_175 : decode cX1_draws 175 = .ok (.aload_n 0, 1) := dk_42 (dk_at dksX1_draws_7 10 rfl rfl)
theorem dX1_draws_176 : decode cX1_draws 176 = .ok (.getfield 64, 3) := dk_180 0 64 (dk_at dksX1_draws_7 11 rfl rfl)
theorem dX1_draws_179 : decode cX1_draws 179 = .ok (.iload 9, 2) := dk_21 9 (dk_at dksX1_draws_7 14 rfl rfl)
theorem dX1_draws_181 : decode cX1_draws 181 = .ok (.iaload, 1) := dk_46 (dk_at dksX1_draws_7 16 rfl rfl)
theorem dX1_draws_182 : decode cX1_draws 182 = .ok (.invokevirtual 135, 3) := dk_182 0 135 (dk_at dksX1_draws_7 17 rfl rfl)
theorem dX1_draws_185 : decode cX1_draws 185 = .ok (.checkcast 176, 3) := dk_192 0 176 (dk_at dksX1_draws_7 20 rfl rfl)
theorem dX1_draws_188 : decode cX1_draws 188 = .ok (.getfield 334, 3) := dk_180 1 78 (dk_at dksX1_draws_8 0 rfl rfl)
theorem dX1_draws_191 : decode cX1_draws 191 = .ok (.astore 10, 2) := dk_58 10 (dk_at dksX1_draws_8 3 rfl rfl)
theorem dX1_draws_193 : decode cX1_draws 193 = .ok (.aload_n 0, 1) := dk_42 (dk_at dksX1_draws_8 5 rfl rfl)
theorem dX1_draws_194 : decode cX1_draws 194 = .ok (.getfield 70, 3) := dk_180 0 70 (dk_at dksX1_draws_8 6 rfl rfl)
theorem dX1_draws_197 : decode cX1_draws 197 = .ok (.iload 9, 2) := dk_21 9 (dk_at dksX1_draws_8 9 rfl rfl)
theorem dX1_draws_199 : decode cX1_draws 199 = .ok (.iaload, 1) := dk_46 (dk_at dksX1_draws_8 11 rfl rfl)
theorem dX1_draws_200 : decode cX1_draws 200 = .ok (.iconst (-1), 1) := dk_2 (dk_at dksX1_draws_8 12 rfl rfl)
theorem dX1_draws_201 : decode cX1_draws 201 = .ok (.if_icmp .eq 29, 3) := dk_159 0 29 (dk_at dksX1_draws_8 13 rfl rfl)
theorem dX1_draws_204 : decode cX1_draws 204 = .ok (.aload_n 0, 1) := dk_42 (dk_at dksX1_draws_8 16 rfl rfl)
theorem dX1_draws_205 : decode cX1_draws 205 = .ok (.bipush 100, 2) := dk_16 100 (dk_at dksX1_draws_8 17 rfl rfl)
theorem dX1_draws_207 : decode cX1_draws 207 = .ok (.invokevirtual 379, 3) := dk_182 1 123 (dk_at dksX1_draws_8 19 rfl rfl)
theorem dX1_draws_210 : decode cX1_draws 210 = .ok (.aload_n 0, 1) := dk_42 (dk_at dksX1_draws_8 22 rfl rfl)
theorem dX1_draws_211 : decode cX1_draws 211 = .ok (.getfield 67, 3) := dk_180 0 67 (dk_at dksX1_draws_9 0 rfl rfl)
theorem dX1_draws_214 : decode cX1_draws 214 = .ok (.iload 9, 2) := dk_21 9 (dk_at dksX1_draws_9 3 rfl rfl)
theorem dX1_draws_216 : decode cX1_draws 216 = .ok (.iaload, 1) := dk_46 (dk_at dksX1_draws_9 5 rfl rfl)
theorem dX1_draws_217 : decode cX1_draws 217 = .ok (.if_icmp .ge 13, 3) := dk_162 0 13 (dk_at dksX1_draws_9 6 rfl rfl)
theorem dX1_draws_220 : decode cX1_draws 220 = .ok (.aload_n 0, 1) := dk_42 (dk_at dksX1_draws_9 9 rfl rfl)
theorem dX1_draws_221 : decode cX1_draws 221 = .ok (.getfield 70, 3) := dk_180 0 70 (dk_at dksX1_draws_9 10 rfl rfl)
theorem dX1_draws_224 : decode cX1_draws 224 = .ok (.iload 9, 2) := dk_21 9 (dk_at dksX1_draws_9 13 rfl rfl)
theorem dX1_draws_226 : decode cX1_draws 226 = .ok (.iaload, 1) := dk_46 (dk_at dksX1_draws_9 15 rfl rfl)
theorem dX1_draws_227 : decode cX1_draws 227 = .ok (.goto 12, 3) := dk_167 0 12 (dk_at dksX1_draws_9 16 rfl rfl)
theorem dX1_draws_230 : decode cX1_draws 230 = .ok (.aload_n 0, 1) := dk_42 (dk_at dksX1_draws_9 19 rfl rfl)
theorem dX1_draws_231 : decode cX1_draws 231 = .ok (.aload 10, 2) := dk_25 10 (dk_at dksX1_draws_9 20 rfl rfl)
theorem dX1_draws_233 : decode cX1_draws 233 = .ok (.getfield 141, 3) := dk_180 0 141 (dk_at dksX1_draws_10 0 rfl rfl)
theorem dX1_draws_236 : decode cX1_draws 236 = .ok (.invokevirtual 379, 3) := dk_182 1 123 (dk_at dksX1_draws_10 3 rfl rfl)
theorem dX1_draws_239 : decode cX1_draws 239 = .ok (.istore 11, 2) := dk_54 11 (dk_at dksX1_draws_10 6 rfl rfl)
theorem dX1_draws_241 : decode cX1_draws 241 = .ok (.iload 8, 2) := dk_21 8 (dk_at dksX1_draws_10 8 rfl rfl)
theorem dX1_draws_243 : decode cX1_draws 243 = .ok (.iload 11, 2) := dk_21 11 (dk_at dksX1_draws_10 10 rfl rfl)
theorem dX1_draws_245 : decode cX1_draws 245 = .ok (.aload 10, 2) := dk_25 10 (dk_at dksX1_draws_10 12 rfl rfl)
theorem dX1_draws_247 : decode cX1_draws 247 = .ok (.getfield 144, 3) := dk_180 0 144 (dk_at dksX1_draws_10 14 rfl rfl)
theorem dX1_draws_250 : decode cX1_draws 250 = .ok (.if_icmp .ne 7, 3) := dk_160 0 7 (dk_at dksX1_draws_10 17 rfl rfl)
theorem dX1_draws_253 : decode cX1_draws 253 = .ok (.iconst 1, 1) := dk_4 (dk_at dksX1_draws_10 20 rfl rfl)
theorem dX1_draws_254 : decode cX1_draws 254 = .ok (.goto 4, 3) := dk_167 0 4 (dk_at dksX1_draws_10 21 rfl rfl)
theorem dX1_draws_257 : decode cX1_draws 257 = .ok (.iconst 0, 1) := dk_3 (dk_at dksX1_draws_11 0 rfl rfl)
theorem dX1_draws_258 : decode cX1_draws 258 = .ok (.iadd, 1) := dk_96 (dk_at dksX1_draws_11 1 rfl rfl)
theorem dX1_draws_259 : decode cX1_draws 259 = .ok (.istore 8, 2) := dk_54 8 (dk_at dksX1_draws_11 2 rfl rfl)
theorem dX1_draws_261 : decode cX1_draws 261 = .ok (.iinc 9 1, 3) := dk_132 9 1 (dk_at dksX1_draws_11 4 rfl rfl)
theorem dX1_draws_264 : decode cX1_draws 264 = .ok (.goto (-103), 3) := dk_167 255 153 (dk_at dksX1_draws_11 7 rfl rfl)
theorem dX1_draws_267 : decode cX1_draws 267 = .ok (.iload 6, 2) := dk_21 6 (dk_at dksX1_draws_11 10 rfl rfl)
theorem dX1_draws_269 : decode cX1_draws 269 = .ok (.iload 8, 2) := dk_21 8 (dk_at dksX1_draws_11 12 rfl rfl)
theorem dX1_draws_271 : decode cX1_draws 271 = .ok (.iload 5, 2) := dk_21 5 (dk_at dksX1_draws_11 14 rfl rfl)
theorem dX1_draws_273 : decode cX1_draws 273 = .ok (.if_icmp .lt 7, 3) := dk_161 0 7 (dk_at dksX1_draws_11 16 rfl rfl)
theorem dX1_draws_276 : decode cX1_draws 276 = .ok (.iconst 1, 1) := dk_4 (dk_at dksX1_draws_11 19 rfl rfl)
theorem dX1_draws_277 : decode cX1_draws 277 = .ok (.goto 4, 3) := dk_167 0 4 (dk_at dksX1_draws_11 20 rfl rfl)
theorem dX1_draws_280 : decode cX1_draws 280 = .ok (.iconst 0, 1) := dk_3 (dk_at dksX1_draws_11 23 rfl rfl)
theorem dX1_draws_281 : decode cX1_draws 281 = .ok (.iadd, 1) := dk_96 (dk_at dksX1_draws_12 0 rfl rfl)
theorem dX1_draws_282 : decode cX1_draws 282 = .ok (.istore 6, 2) := dk_54 6 (dk_at dksX1_draws_12 1 rfl rfl)
theorem dX1_draws_284 : decode cX1_draws 284 = .ok (.iinc 7 1, 3) := dk_132 7 1 (dk_at dksX1_draws_12 3 rfl rfl)
theorem dX1_draws_287 : decode cX1_draws 287 = .ok (.goto (-138), 3) := dk_167 255 118 (dk_at dksX1_draws_12 6 rfl rfl)
theorem dX1_draws_290 : decode cX1_draws 290 = .ok (.iload 6, 2) := dk_21 6 (dk_at dksX1_draws_12 9 rfl rfl)
theorem dX1_draws_292 : decode cX1_draws 292 = .ok (.ireturn, 1) := dk_172 (dk_at dksX1_draws_12 11 rfl rfl)
abbrev cX1_putAhead : ByteArray := prog_1_method_54_code
def yX1_putAhead : MethodName := ⟨RX1, "putAhead", "(I)I"⟩
def dkwX1_putAhead_2 : List UInt8 := [153, 0, 9, 25, 4, 180, 0, 199, 172, 132, 3, 255, 167, 255, 215, 2, 172]
abbrev dktX1_putAhead_2 : List UInt8 := dkwX1_putAhead_2 ++ []
def dkwX1_putAhead_1 : List UInt8 := [29, 44, 180, 0, 181, 44, 180, 0, 184, 182, 0, 187, 58, 4, 25, 4, 198, 0, 17, 25, 4, 182, 0, 235]
abbrev dktX1_putAhead_1 : List UInt8 := dkwX1_putAhead_1 ++ dktX1_putAhead_2
def dkwX1_putAhead_0 : List UInt8 := [42, 180, 0, 49, 180, 0, 173, 27, 182, 0, 135, 192, 0, 176, 77, 27, 4, 100, 62, 29, 155, 0, 43, 42]
abbrev dktX1_putAhead_0 : List UInt8 := dkwX1_putAhead_0 ++ dktX1_putAhead_1
theorem dksX1_putAhead_0 : cX1_putAhead.data.toList.drop 0 = dktX1_putAhead_0 := by decide +kernel
theorem dksX1_putAhead_1 : cX1_putAhead.data.toList.drop 24 = dktX1_putAhead_1 := dk_seg dksX1_putAhead_0 24 rfl rfl
theorem dksX1_putAhead_2 : cX1_putAhead.data.toList.drop 48 = dktX1_putAhead_2 := dk_seg dksX1_putAhead_1 24 rfl rfl
theorem dX1_putAhead_0 : decode cX1_putAhead 0 = .ok (.aload_n 0, 1) := dk_42 (dk_at dksX1_putAhead_0 0 rfl rfl)
theorem dX1_putAhead_1 : decode cX1_putAhead 1 = .ok (.getfield 49, 3) := dk_180 0 49 (dk_at dksX1_putAhead_0 1 rfl rfl)
theorem dX1_putAhead_4 : decode cX1_putAhead 4 = .ok (.getfield 173, 3) := dk_180 0 173 (dk_at dksX1_putAhead_0 4 rfl rfl)
theorem dX1_putAhead_7 : decode cX1_putAhead 7 = .ok (.iload_n 1, 1) := dk_27 (dk_at dksX1_putAhead_0 7 rfl rfl)
theorem dX1_putAhead_8 : decode cX1_putAhead 8 = .ok (.invokevirtual 135, 3) := dk_182 0 135 (dk_at dksX1_putAhead_0 8 rfl rfl)
theorem dX1_putAhead_11 : decode cX1_putAhead 11 = .ok (.checkcast 176, 3) := dk_192 0 176 (dk_at dksX1_putAhead_0 11 rfl rfl)
theorem dX1_putAhead_14 : decode cX1_putAhead 14 = .ok (.astore_n 2, 1) := dk_77 (dk_at dksX1_putAhead_0 14 rfl rfl)
theorem dX1_putAhead_15 : decode cX1_putAhead 15 = .ok (.iload_n 1, 1) := dk_27 (dk_at dksX1_putAhead_0 15 rfl rfl)
theorem dX1_putAhead_16 : decode cX1_putAhead 16 = .ok (.iconst 1, 1) := dk_4 (dk_at dksX1_putAhead_0 16 rfl rfl)
theorem dX1_putAhead_17 : decode cX1_putAhead 17 = .ok (.isub, 1) := dk_100 (dk_at dksX1_putAhead_0 17 rfl rfl)
theorem dX1_putAhead_18 : decode cX1_putAhead 18 = .ok (.istore_n 3, 1) := dk_62 (dk_at dksX1_putAhead_0 18 rfl rfl)
theorem dX1_putAhead_19 : decode cX1_putAhead 19 = .ok (.iload_n 3, 1) := dk_29 (dk_at dksX1_putAhead_0 19 rfl rfl)
theorem dX1_putAhead_20 : decode cX1_putAhead 20 = .ok (.ifCond .lt 43, 3) := dk_155 0 43 (dk_at dksX1_putAhead_0 20 rfl rfl)
theorem dX1_putAhead_23 : decode cX1_putAhead 23 = .ok (.aload_n 0, 1) := dk_42 (dk_at dksX1_putAhead_0 23 rfl rfl)
theorem dX1_putAhead_24 : decode cX1_putAhead 24 = .ok (.iload_n 3, 1) := dk_29 (dk_at dksX1_putAhead_1 0 rfl rfl)
theorem dX1_putAhead_25 : decode cX1_putAhead 25 = .ok (.aload_n 2, 1) := dk_44 (dk_at dksX1_putAhead_1 1 rfl rfl)
theorem dX1_putAhead_26 : decode cX1_putAhead 26 = .ok (.getfield 181, 3) := dk_180 0 181 (dk_at dksX1_putAhead_1 2 rfl rfl)
theorem dX1_putAhead_29 : decode cX1_putAhead 29 = .ok (.aload_n 2, 1) := dk_44 (dk_at dksX1_putAhead_1 5 rfl rfl)
theorem dX1_putAhead_30 : decode cX1_putAhead 30 = .ok (.getfield 184, 3) := dk_180 0 184 (dk_at dksX1_putAhead_1 6 rfl rfl)
theorem dX1_putAhead_33 : decode cX1_putAhead 33 = .ok (.invokevirtual 187, 3) := dk_182 0 187 (dk_at dksX1_putAhead_1 9 rfl rfl)
theorem dX1_putAhead_36 : decode cX1_putAhead 36 = .ok (.astore 4, 2) := dk_58 4 (dk_at dksX1_putAhead_1 12 rfl rfl)
theorem dX1_putAhead_38 : decode cX1_putAhead 38 = .ok (.aload 4, 2) := dk_25 4 (dk_at dksX1_putAhead_1 14 rfl rfl)
theorem dX1_putAhead_40 : decode cX1_putAhead 40 = .ok (.ifnull 17, 3) := dk_198 0 17 (dk_at dksX1_putAhead_1 16 rfl rfl)
theorem dX1_putAhead_43 : decode cX1_putAhead 43 = .ok (.aload 4, 2) := dk_25 4 (dk_at dksX1_putAhead_1 19 rfl rfl)
theorem dX1_putAhead_45 : decode cX1_putAhead 45 = .ok (.invokevirtual 235, 3) := dk_182 0 235 (dk_at dksX1_putAhead_1 21 rfl rfl)
theorem dX1_putAhead_48 : decode cX1_putAhead 48 = .ok (.ifCond .eq 9, 3) := dk_153 0 9 (dk_at dksX1_putAhead_2 0 rfl rfl)
theorem dX1_putAhead_51 : decode cX1_putAhead 51 = .ok (.aload 4, 2) := dk_25 4 (dk_at dksX1_putAhead_2 3 rfl rfl)
theorem dX1_putAhead_53 : decode cX1_putAhead 53 = .ok (.getfield 199, 3) := dk_180 0 199 (dk_at dksX1_putAhead_2 5 rfl rfl)
theorem dX1_putAhead_56 : decode cX1_putAhead 56 = .ok (.ireturn, 1) := dk_172 (dk_at dksX1_putAhead_2 8 rfl rfl)
theorem dX1_putAhead_57 : decode cX1_putAhead 57 = .ok (.iinc 3 (-1), 3) := dk_132 3 255 (dk_at dksX1_putAhead_2 9 rfl rfl)
theorem dX1_putAhead_60 : decode cX1_putAhead 60 = .ok (.goto (-41), 3) := dk_167 255 215 (dk_at dksX1_putAhead_2 12 rfl rfl)
theorem dX1_putAhead_63 : decode cX1_putAhead 63 = .ok (.iconst (-1), 1) := dk_2 (dk_at dksX1_putAhead_2 15 rfl rfl)
theorem dX1_putAhead_64 : decode cX1_putAhead 64 = .ok (.ireturn, 1) := dk_172 (dk_at dksX1_putAhead_2 16 rfl rfl)
abbrev cX1_next : ByteArray := prog_1_method_53_code
def yX1_next : MethodName := ⟨RX1, "next", "(I)I"⟩
def dkwX1_next_1 : List UInt8 := [16, 16, 122, 27, 112, 172]
abbrev dktX1_next_1 : List UInt8 := dkwX1_next_1 ++ []
def dkwX1_next_0 : List UInt8 := [42, 42, 180, 1, 115, 19, 1, 118, 104, 17, 48, 57, 96, 19, 1, 119, 126, 181, 1, 115, 42, 180, 1, 115]
abbrev dktX1_next_0 : List UInt8 := dkwX1_next_0 ++ dktX1_next_1
theorem dksX1_next_0 : cX1_next.data.toList.drop 0 = dktX1_next_0 := by decide +kernel
theorem dksX1_next_1 : cX1_next.data.toList.drop 24 = dktX1_next_1 := dk_seg dksX1_next_0 24 rfl rfl
theorem dX1_next_0 : decode cX1_next 0 = .ok (.aload_n 0, 1) := dk_42 (dk_at dksX1_next_0 0 rfl rfl)
theorem dX1_next_1 : decode cX1_next 1 = .ok (.aload_n 0, 1) := dk_42 (dk_at dksX1_next_0 1 rfl rfl)
theorem dX1_next_2 : decode cX1_next 2 = .ok (.getfield 371, 3) := dk_180 1 115 (dk_at dksX1_next_0 2 rfl rfl)
theorem dX1_next_5 : decode cX1_next 5 = .ok (.ldc_w 374, 3) := dk_19 1 118 (dk_at dksX1_next_0 5 rfl rfl)
theorem dX1_next_8 : decode cX1_next 8 = .ok (.imul, 1) := dk_104 (dk_at dksX1_next_0 8 rfl rfl)
theorem dX1_next_9 : decode cX1_next 9 = .ok (.sipush 12345, 3) := dk_17 48 57 (dk_at dksX1_next_0 9 rfl rfl)
theorem dX1_next_12 : decode cX1_next 12 = .ok (.iadd, 1) := dk_96 (dk_at dksX1_next_0 12 rfl rfl)
theorem dX1_next_13 : decode cX1_next 13 = .ok (.ldc_w 375, 3) := dk_19 1 119 (dk_at dksX1_next_0 13 rfl rfl)
theorem dX1_next_16 : decode cX1_next 16 = .ok (.iand, 1) := dk_126 (dk_at dksX1_next_0 16 rfl rfl)
theorem dX1_next_17 : decode cX1_next 17 = .ok (.putfield 371, 3) := dk_181 1 115 (dk_at dksX1_next_0 17 rfl rfl)
theorem dX1_next_20 : decode cX1_next 20 = .ok (.aload_n 0, 1) := dk_42 (dk_at dksX1_next_0 20 rfl rfl)
theorem dX1_next_21 : decode cX1_next 21 = .ok (.getfield 371, 3) := dk_180 1 115 (dk_at dksX1_next_0 21 rfl rfl)
theorem dX1_next_24 : decode cX1_next 24 = .ok (.bipush 16, 2) := dk_16 16 (dk_at dksX1_next_1 0 rfl rfl)
theorem dX1_next_26 : decode cX1_next 26 = .ok (.ishr, 1) := dk_122 (dk_at dksX1_next_1 2 rfl rfl)
theorem dX1_next_27 : decode cX1_next 27 = .ok (.iload_n 1, 1) := dk_27 (dk_at dksX1_next_1 3 rfl rfl)
theorem dX1_next_28 : decode cX1_next 28 = .ok (.irem, 1) := dk_112 (dk_at dksX1_next_1 4 rfl rfl)
theorem dX1_next_29 : decode cX1_next 29 = .ok (.ireturn, 1) := dk_172 (dk_at dksX1_next_1 5 rfl rfl)
abbrev cX1_barred : ByteArray := prog_1_method_62_code
def yX1_barred : MethodName := ⟨RX1, "barred", "(I)I"⟩
def dkwX1_barred_1 : List UInt8 := [3, 172]
abbrev dktX1_barred_1 : List UInt8 := dkwX1_barred_1 ++ []
def dkwX1_barred_0 : List UInt8 := [42, 27, 182, 0, 156, 154, 0, 7, 2, 167, 0, 16, 42, 27, 182, 1, 139, 153, 0, 7, 4, 167, 0, 4]
abbrev dktX1_barred_0 : List UInt8 := dkwX1_barred_0 ++ dktX1_barred_1
theorem dksX1_barred_0 : cX1_barred.data.toList.drop 0 = dktX1_barred_0 := by decide +kernel
theorem dksX1_barred_1 : cX1_barred.data.toList.drop 24 = dktX1_barred_1 := dk_seg dksX1_barred_0 24 rfl rfl
theorem dX1_barred_0 : decode cX1_barred 0 = .ok (.aload_n 0, 1) := dk_42 (dk_at dksX1_barred_0 0 rfl rfl)
theorem dX1_barred_1 : decode cX1_barred 1 = .ok (.iload_n 1, 1) := dk_27 (dk_at dksX1_barred_0 1 rfl rfl)
theorem dX1_barred_2 : decode cX1_barred 2 = .ok (.invokevirtual 156, 3) := dk_182 0 156 (dk_at dksX1_barred_0 2 rfl rfl)
theorem dX1_barred_5 : decode cX1_barred 5 = .ok (.ifCond .ne 7, 3) := dk_154 0 7 (dk_at dksX1_barred_0 5 rfl rfl)
theorem dX1_barred_8 : decode cX1_barred 8 = .ok (.iconst (-1), 1) := dk_2 (dk_at dksX1_barred_0 8 rfl rfl)
theorem dX1_barred_9 : decode cX1_barred 9 = .ok (.goto 16, 3) := dk_167 0 16 (dk_at dksX1_barred_0 9 rfl rfl)
theorem dX1_barred_12 : decode cX1_barred 12 = .ok (.aload_n 0, 1) := dk_42 (dk_at dksX1_barred_0 12 rfl rfl)
theorem dX1_barred_13 : decode cX1_barred 13 = .ok (.iload_n 1, 1) := dk_27 (dk_at dksX1_barred_0 13 rfl rfl)
theorem dX1_barred_14 : decode cX1_barred 14 = .ok (.invokevirtual 395, 3) := dk_182 1 139 (dk_at dksX1_barred_0 14 rfl rfl)
theorem dX1_barred_17 : decode cX1_barred 17 = .ok (.ifCond .eq 7, 3) := dk_153 0 7 (dk_at dksX1_barred_0 17 rfl rfl)
theorem dX1_barred_20 : decode cX1_barred 20 = .ok (.iconst 1, 1) := dk_4 (dk_at dksX1_barred_0 20 rfl rfl)
theorem dX1_barred_21 : decode cX1_barred 21 = .ok (.goto 4, 3) := dk_167 0 4 (dk_at dksX1_barred_0 21 rfl rfl)
theorem dX1_barred_24 : decode cX1_barred 24 = .ok (.iconst 0, 1) := dk_3 (dk_at dksX1_barred_1 0 rfl rfl)
theorem dX1_barred_25 : decode cX1_barred 25 = .ok (.ireturn, 1) := dk_172 (dk_at dksX1_barred_1 1 rfl rfl)
abbrev cX1_isBarred : ByteArray := prog_1_method_60_code
def yX1_isBarred : MethodName := ⟨RX1, "isBarred", "(I)Z"⟩
def dkwX1_isBarred_0 : List UInt8 := [42, 27, 3, 182, 1, 130, 42, 4, 182, 1, 133, 172]
abbrev dktX1_isBarred_0 : List UInt8 := dkwX1_isBarred_0 ++ []
theorem dksX1_isBarred_0 : cX1_isBarred.data.toList.drop 0 = dktX1_isBarred_0 := by decide +kernel
theorem dX1_isBarred_0 : decode cX1_isBarred 0 = .ok (.aload_n 0, 1) := dk_42 (dk_at dksX1_isBarred_0 0 rfl rfl)
theorem dX1_isBarred_1 : decode cX1_isBarred 1 = .ok (.iload_n 1, 1) := dk_27 (dk_at dksX1_isBarred_0 1 rfl rfl)
theorem dX1_isBarred_2 : decode cX1_isBarred 2 = .ok (.iconst 0, 1) := dk_3 (dk_at dksX1_isBarred_0 2 rfl rfl)
theorem dX1_isBarred_3 : decode cX1_isBarred 3 = .ok (.invokevirtual 386, 3) := dk_182 1 130 (dk_at dksX1_isBarred_0 3 rfl rfl)
theorem dX1_isBarred_6 : decode cX1_isBarred 6 = .ok (.aload_n 0, 1) := dk_42 (dk_at dksX1_isBarred_0 6 rfl rfl)
theorem dX1_isBarred_7 : decode cX1_isBarred 7 = .ok (.iconst 1, 1) := dk_4 (dk_at dksX1_isBarred_0 7 rfl rfl)
theorem dX1_isBarred_8 : decode cX1_isBarred 8 = .ok (.invokevirtual 389, 3) := dk_182 1 133 (dk_at dksX1_isBarred_0 8 rfl rfl)
theorem dX1_isBarred_11 : decode cX1_isBarred 11 = .ok (.ireturn, 1) := dk_172 (dk_at dksX1_isBarred_0 11 rfl rfl)
abbrev cX1_hearTalk : ByteArray := prog_1_method_57_code
def yX1_hearTalk : MethodName := ⟨RX1, "hearTalk", "(IZ)V"⟩
def dkwX1_hearTalk_8 : List UInt8 := [97, 80, 132, 4, 1, 167, 255, 173, 177]
abbrev dktX1_hearTalk_8 : List UInt8 := dkwX1_hearTalk_8 ++ []
def dkwX1_hearTalk_7 : List UInt8 := [80, 42, 180, 0, 53, 16, 8, 92, 47, 42, 25, 5, 182, 1, 53, 4, 164, 0, 7, 10, 167, 0, 4, 9]
abbrev dktX1_hearTalk_7 : List UInt8 := dkwX1_hearTalk_7 ++ dktX1_hearTalk_8
def dkwX1_hearTalk_6 : List UInt8 := [58, 5, 25, 5, 180, 1, 30, 27, 159, 0, 6, 167, 0, 39, 42, 180, 0, 53, 16, 9, 92, 47, 10, 97]
abbrev dktX1_hearTalk_6 : List UInt8 := dkwX1_hearTalk_6 ++ dktX1_hearTalk_7
def dkwX1_hearTalk_5 : List UInt8 := [180, 1, 25, 182, 0, 119, 162, 0, 74, 42, 180, 0, 49, 180, 1, 25, 21, 4, 182, 0, 135, 192, 1, 28]
abbrev dktX1_hearTalk_5 : List UInt8 := dkwX1_hearTalk_5 ++ dktX1_hearTalk_6
def dkwX1_hearTalk_4 : List UInt8 := [180, 0, 53, 5, 45, 45, 180, 0, 167, 182, 1, 90, 133, 80, 3, 54, 4, 21, 4, 42, 180, 0, 49]
abbrev dktX1_hearTalk_4 : List UInt8 := dkwX1_hearTalk_4 ++ dktX1_hearTalk_5
def dkwX1_hearTalk_3 : List UInt8 := [180, 0, 173, 182, 0, 119, 28, 182, 1, 93, 42, 27, 28, 182, 1, 126, 28, 153, 0, 4, 177, 42]
abbrev dktX1_hearTalk_3 : List UInt8 := dkwX1_hearTalk_3 ++ dktX1_hearTalk_4
def dkwX1_hearTalk_2 : List UInt8 := [160, 0, 7, 9, 167, 0, 13, 45, 180, 0, 167, 45, 180, 0, 170, 100, 133, 80, 42, 27, 42, 180, 0, 49]
abbrev dktX1_hearTalk_2 : List UInt8 := dkwX1_hearTalk_2 ++ dktX1_hearTalk_3
def dkwX1_hearTalk_1 : List UInt8 := [4, 28, 154, 0, 16, 45, 180, 0, 167, 45, 180, 0, 164, 100, 133, 167, 0, 25, 45, 180, 0, 170, 2]
abbrev dktX1_hearTalk_1 : List UInt8 := dkwX1_hearTalk_1 ++ dktX1_hearTalk_2
def dkwX1_hearTalk_0 : List UInt8 := [42, 180, 0, 49, 180, 0, 115, 27, 182, 0, 135, 192, 0, 159, 78, 42, 45, 182, 1, 86, 42, 180, 0, 53]
abbrev dktX1_hearTalk_0 : List UInt8 := dkwX1_hearTalk_0 ++ dktX1_hearTalk_1
theorem dksX1_hearTalk_0 : cX1_hearTalk.data.toList.drop 0 = dktX1_hearTalk_0 := by decide +kernel
theorem dksX1_hearTalk_1 : cX1_hearTalk.data.toList.drop 24 = dktX1_hearTalk_1 := dk_seg dksX1_hearTalk_0 24 rfl rfl
theorem dksX1_hearTalk_2 : cX1_hearTalk.data.toList.drop 47 = dktX1_hearTalk_2 := dk_seg dksX1_hearTalk_1 23 rfl rfl
theorem dksX1_hearTalk_3 : cX1_hearTalk.data.toList.drop 71 = dktX1_hearTalk_3 := dk_seg dksX1_hearTalk_2 24 rfl rfl
theorem dksX1_hearTalk_4 : cX1_hearTalk.data.toList.drop 93 = dktX1_hearTalk_4 := dk_seg dksX1_hearTalk_3 22 rfl rfl
theorem dksX1_hearTalk_5 : cX1_hearTalk.data.toList.drop 116 = dktX1_hearTalk_5 := dk_seg dksX1_hearTalk_4 23 rfl rfl
theorem dksX1_hearTalk_6 : cX1_hearTalk.data.toList.drop 140 = dktX1_hearTalk_6 := dk_seg dksX1_hearTalk_5 24 rfl rfl
theorem dksX1_hearTalk_7 : cX1_hearTalk.data.toList.drop 164 = dktX1_hearTalk_7 := dk_seg dksX1_hearTalk_6 24 rfl rfl
theorem dksX1_hearTalk_8 : cX1_hearTalk.data.toList.drop 188 = dktX1_hearTalk_8 := dk_seg dksX1_hearTalk_7 24 rfl rfl
theorem dX1_hearTalk_0 : decode cX1_hearTalk 0 = .ok (.aload_n 0, 1) := dk_42 (dk_at dksX1_hearTalk_0 0 rfl rfl)
theorem dX1_hearTalk_1 : decode cX1_hearTalk 1 = .ok (.getfield 49, 3) := dk_180 0 49 (dk_at dksX1_hearTalk_0 1 rfl rfl)
theorem dX1_hearTalk_4 : decode cX1_hearTalk 4 = .ok (.getfield 115, 3) := dk_180 0 115 (dk_at dksX1_hearTalk_0 4 rfl rfl)
theorem dX1_hearTalk_7 : decode cX1_hearTalk 7 = .ok (.iload_n 1, 1) := dk_27 (dk_at dksX1_hearTalk_0 7 rfl rfl)
theorem dX1_hearTalk_8 : decode cX1_hearTalk 8 = .ok (.invokevirtual 135, 3) := dk_182 0 135 (dk_at dksX1_hearTalk_0 8 rfl rfl)
theorem dX1_hearTalk_11 : decode cX1_hearTalk 11 = .ok (.checkcast 159, 3) := dk_192 0 159 (dk_at dksX1_hearTalk_0 11 rfl rfl)
theorem dX1_hearTalk_14 : decode cX1_hearTalk 14 = .ok (.astore_n 3, 1) := dk_78 (dk_at dksX1_hearTalk_0 14 rfl rfl)
theorem dX1_hearTalk_15 : decode cX1_hearTalk 15 = .ok (.aload_n 0, 1) := dk_42 (dk_at dksX1_hearTalk_0 15 rfl rfl)
theorem dX1_hearTalk_16 : decode cX1_hearTalk 16 = .ok (.aload_n 3, 1) := dk_45 (dk_at dksX1_hearTalk_0 16 rfl rfl)
theorem dX1_hearTalk_17 : decode cX1_hearTalk 17 = .ok (.invokevirtual 342, 3) := dk_182 1 86 (dk_at dksX1_hearTalk_0 17 rfl rfl)
theorem dX1_hearTalk_20 : decode cX1_hearTalk 20 = .ok (.aload_n 0, 1) := dk_42 (dk_at dksX1_hearTalk_0 20 rfl rfl)
theorem dX1_hearTalk_21 : decode cX1_hearTalk 21 = .ok (.getfield 53, 3) := dk_180 0 53 (dk_at dksX1_hearTalk_0 21 rfl rfl)
theorem dX1_hearTalk_24 : decode cX1_hearTalk 24 = .ok (.iconst 1, 1) := dk_4 (dk_at dksX1_hearTalk_1 0 rfl rfl)
theorem dX1_hearTalk_25 : decode cX1_hearTalk 25 = .ok (.iload_n 2, 1) := dk_28 (dk_at dksX1_hearTalk_1 1 rfl rfl)
theorem dX1_hearTalk_26 : decode cX1_hearTalk 26 = .ok (.ifCond .ne 16, 3) := dk_154 0 16 (dk_at dksX1_hearTalk_1 2 rfl rfl)
theorem dX1_hearTalk_29 : decode cX1_hearTalk 29 = .ok (.aload_n 3, 1) := dk_45 (dk_at dksX1_hearTalk_1 5 rfl rfl)
theorem dX1_hearTalk_30 : decode cX1_hearTalk 30 = .ok (.getfield 167, 3) := dk_180 0 167 (dk_at dksX1_hearTalk_1 6 rfl rfl)
theorem dX1_hearTalk_33 : decode cX1_hearTalk 33 = .ok (.aload_n 3, 1) := dk_45 (dk_at dksX1_hearTalk_1 9 rfl rfl)
theorem dX1_hearTalk_34 : decode cX1_hearTalk 34 = .ok (.getfield 164, 3) := dk_180 0 164 (dk_at dksX1_hearTalk_1 10 rfl rfl)
theorem dX1_hearTalk_37 : decode cX1_hearTalk 37 = .ok (.isub, 1) := dk_100 (dk_at dksX1_hearTalk_1 13 rfl rfl)
theorem dX1_hearTalk_38 : decode cX1_hearTalk 38 = .ok (.i2l, 1) := dk_133 (dk_at dksX1_hearTalk_1 14 rfl rfl)
theorem dX1_hearTalk_39 : decode cX1_hearTalk 39 = .ok (.goto 25, 3) := dk_167 0 25 (dk_at dksX1_hearTalk_1 15 rfl rfl)
theorem dX1_hearTalk_42 : decode cX1_hearTalk 42 = .ok (.aload_n 3, 1) := dk_45 (dk_at dksX1_hearTalk_1 18 rfl rfl)
theorem dX1_hearTalk_43 : decode cX1_hearTalk 43 = .ok (.getfield 170, 3) := dk_180 0 170 (dk_at dksX1_hearTalk_1 19 rfl rfl)
theorem dX1_hearTalk_46 : decode cX1_hearTalk 46 = .ok (.iconst (-1), 1) := dk_2 (dk_at dksX1_hearTalk_1 22 rfl rfl)
theorem dX1_hearTalk_47 : decode cX1_hearTalk 47 = .ok (.if_icmp .ne 7, 3) := dk_160 0 7 (dk_at dksX1_hearTalk_2 0 rfl rfl)
theorem dX1_hearTalk_50 : decode cX1_hearTalk 50 = .ok (.lconst 0, 1) := dk_9 (dk_at dksX1_hearTalk_2 3 rfl rfl)
theorem dX1_hearTalk_51 : decode cX1_hearTalk 51 = .ok (.goto 13, 3) := dk_167 0 13 (dk_at dksX1_hearTalk_2 4 rfl rfl)
theorem dX1_hearTalk_54 : decode cX1_hearTalk 54 = .ok (.aload_n 3, 1) := dk_45 (dk_at dksX1_hearTalk_2 7 rfl rfl)
theorem dX1_hearTalk_55 : decode cX1_hearTalk 55 = .ok (.getfield 167, 3) := dk_180 0 167 (dk_at dksX1_hearTalk_2 8 rfl rfl)
theorem dX1_hearTalk_58 : decode cX1_hearTalk 58 = .ok (.aload_n 3, 1) := dk_45 (dk_at dksX1_hearTalk_2 11 rfl rfl)
theorem dX1_hearTalk_59 : decode cX1_hearTalk 59 = .ok (.getfield 170, 3) := dk_180 0 170 (dk_at dksX1_hearTalk_2 12 rfl rfl)
theorem dX1_hearTalk_62 : decode cX1_hearTalk 62 = .ok (.isub, 1) := dk_100 (dk_at dksX1_hearTalk_2 15 rfl rfl)
theorem dX1_hearTalk_63 : decode cX1_hearTalk 63 = .ok (.i2l, 1) := dk_133 (dk_at dksX1_hearTalk_2 16 rfl rfl)
theorem dX1_hearTalk_64 : decode cX1_hearTalk 64 = .ok (.lastore, 1) := dk_80 (dk_at dksX1_hearTalk_2 17 rfl rfl)
theorem dX1_hearTalk_65 : decode cX1_hearTalk 65 = .ok (.aload_n 0, 1) := dk_42 (dk_at dksX1_hearTalk_2 18 rfl rfl)
theorem dX1_hearTalk_66 : decode cX1_hearTalk 66 = .ok (.iload_n 1, 1) := dk_27 (dk_at dksX1_hearTalk_2 19 rfl rfl)
theorem dX1_hearTalk_67 : decode cX1_hearTalk 67 = .ok (.aload_n 0, 1) := dk_42 (dk_at dksX1_hearTalk_2 20 rfl rfl)
theorem dX1_hearTalk_68 : decode cX1_hearTalk 68 = .ok (.getfield 49, 3) := dk_180 0 49 (dk_at dksX1_hearTalk_2 21 rfl rfl)
theorem dX1_hearTalk_71 : decode cX1_hearTalk 71 = .ok (.getfield 173, 3) := dk_180 0 173 (dk_at dksX1_hearTalk_3 0 rfl rfl)
theorem dX1_hearTalk_74 : decode cX1_hearTalk 74 = .ok (.invokevirtual 119, 3) := dk_182 0 119 (dk_at dksX1_hearTalk_3 3 rfl rfl)
theorem dX1_hearTalk_77 : decode cX1_hearTalk 77 = .ok (.iload_n 2, 1) := dk_28 (dk_at dksX1_hearTalk_3 6 rfl rfl)
theorem dX1_hearTalk_78 : decode cX1_hearTalk 78 = .ok (.invokevirtual 349, 3) := dk_182 1 93 (dk_at dksX1_hearTalk_3 7 rfl rfl)
theorem dX1_hearTalk_81 : decode cX1_hearTalk 81 = .ok (.aload_n 0, 1) := dk_42 (dk_at dksX1_hearTalk_3 10 rfl rfl)
theorem dX1_hearTalk_82 : decode cX1_hearTalk 82 = .ok (.iload_n 1, 1) := dk_27 (dk_at dksX1_hearTalk_3 11 rfl rfl)
theorem dX1_hearTalk_83 : decode cX1_hearTalk 83 = .ok (.iload_n 2, 1) := dk_28 (dk_at dksX1_hearTalk_3 12 rfl rfl)
theorem dX1_hearTalk_84 : decode cX1_hearTalk 84 = .ok (.invokevirtual 382, 3) := dk_182 1 126 (dk_at dksX1_hearTalk_3 13 rfl rfl)
theorem dX1_hearTalk_87 : decode cX1_hearTalk 87 = .ok (.iload_n 2, 1) := dk_28 (dk_at dksX1_hearTalk_3 16 rfl rfl)
theorem dX1_hearTalk_88 : decode cX1_hearTalk 88 = .ok (.ifCond .eq 4, 3) := dk_153 0 4 (dk_at dksX1_hearTalk_3 17 rfl rfl)
theorem dX1_hearTalk_91 : decode cX1_hearTalk 91 = .ok (.return_, 1) := dk_177 (dk_at dksX1_hearTalk_3 20 rfl rfl)
theorem dX1_hearTalk_92 : decode cX1_hearTalk 92 = .ok (.aload_n 0, 1) := dk_42 (dk_at dksX1_hearTalk_3 21 rfl rfl)
theorem dX1_hearTalk_93 : decode cX1_hearTalk 93 = .ok (.getfield 53, 3) := dk_180 0 53 (dk_at dksX1_hearTalk_4 0 rfl rfl)
theorem dX1_hearTalk_96 : decode cX1_hearTalk 96 = .ok (.iconst 2, 1) := dk_5 (dk_at dksX1_hearTalk_4 3 rfl rfl)
theorem dX1_hearTalk_97 : decode cX1_hearTalk 97 = .ok (.aload_n 3, 1) := dk_45 (dk_at dksX1_hearTalk_4 4 rfl rfl)
theorem dX1_hearTalk_98 : decode cX1_hearTalk 98 = .ok (.aload_n 3, 1) := dk_45 (dk_at dksX1_hearTalk_4 5 rfl rfl)
theorem dX1_hearTalk_99 : decode cX1_hearTalk 99 = .ok (.getfield 167, 3) := dk_180 0 167 (dk_at dksX1_hearTalk_4 6 rfl rfl)
theorem dX1_hearTalk_102 : decode cX1_hearTalk 102 = .ok (.invokevirtual 346, 3) := dk_182 1 90 (dk_at dksX1_hearTalk_4 9 rfl rfl)
theorem dX1_hearTalk_105 : decode cX1_hearTalk 105 = .ok (.i2l, 1) := dk_133 (dk_at dksX1_hearTalk_4 12 rfl rfl)
theorem dX1_hearTalk_106 : decode cX1_hearTalk 106 = .ok (.lastore, 1) := dk_80 (dk_at dksX1_hearTalk_4 13 rfl rfl)
theorem dX1_hearTalk_107 : decode cX1_hearTalk 107 = .ok (.iconst 0, 1) := dk_3 (dk_at dksX1_hearTalk_4 14 rfl rfl)
theorem dX1_hearTalk_108 : decode cX1_hearTalk 108 = .ok (.istore 4, 2) := dk_54 4 (dk_at dksX1_hearTalk_4 15 rfl rfl)
theorem dX1_hearTalk_110 : decode cX1_hearTalk 110 = .ok (.iload 4, 2) := dk_21 4 (dk_at dksX1_hearTalk_4 17 rfl rfl)
theorem dX1_hearTalk_112 : decode cX1_hearTalk 112 = .ok (.aload_n 0, 1) := dk_42 (dk_at dksX1_hearTalk_4 19 rfl rfl)
theorem dX1_hearTalk_113 : decode cX1_hearTalk 113 = .ok (.getfield 49, 3) := dk_180 0 49 (dk_at dksX1_hearTalk_4 20 rfl rfl)
theorem dX1_hearTalk_116 : decode cX1_hearTalk 116 = .ok (.getfield 281, 3) := dk_180 1 25 (dk_at dksX1_hearTalk_5 0 rfl rfl)
theorem dX1_hearTalk_119 : decode cX1_hearTalk 119 = .ok (.invokevirtual 119, 3) := dk_182 0 119 (dk_at dksX1_hearTalk_5 3 rfl rfl)
theorem dX1_hearTalk_122 : decode cX1_hearTalk 122 = .ok (.if_icmp .ge 74, 3) := dk_162 0 74 (dk_at dksX1_hearTalk_5 6 rfl rfl)
theorem dX1_hearTalk_125 : decode cX1_hearTalk 125 = .ok (.aload_n 0, 1) := dk_42 (dk_at dksX1_hearTalk_5 9 rfl rfl)
theorem dX1_hearTalk_126 : decode cX1_hearTalk 126 = .ok (.getfield 49, 3) := dk_180 0 49 (dk_at dksX1_hearTalk_5 10 rfl rfl)
theorem dX1_hearTalk_129 : decode cX1_hearTalk 129 = .ok (.getfield 281, 3) := dk_180 1 25 (dk_at dksX1_hearTalk_5 13 rfl rfl)
theorem dX1_hearTalk_132 : decode cX1_hearTalk 132 = .ok (.iload 4, 2) := dk_21 4 (dk_at dksX1_hearTalk_5 16 rfl rfl)
theorem dX1_hearTalk_134 : decode cX1_hearTalk 134 = .ok (.invokevirtual 135, 3) := dk_182 0 135 (dk_at dksX1_hearTalk_5 18 rfl rfl)
theorem dX1_hearTalk_137 : decode cX1_hearTalk 137 = .ok (.checkcast 284, 3) := dk_192 1 28 (dk_at dksX1_hearTalk_5 21 rfl rfl)
theorem dX1_hearTalk_140 : decode cX1_hearTalk 140 = .ok (.astore 5, 2) := dk_58 5 (dk_at dksX1_hearTalk_6 0 rfl rfl)
theorem dX1_hearTalk_142 : decode cX1_hearTalk 142 = .ok (.aload 5, 2) := dk_25 5 (dk_at dksX1_hearTalk_6 2 rfl rfl)
theorem dX1_hearTalk_144 : decode cX1_hearTalk 144 = .ok (.getfield 286, 3) := dk_180 1 30 (dk_at dksX1_hearTalk_6 4 rfl rfl)
theorem dX1_hearTalk_147 : decode cX1_hearTalk 147 = .ok (.iload_n 1, 1) := dk_27 (dk_at dksX1_hearTalk_6 7 rfl rfl)
theorem dX1_hearTalk_148 : decode cX1_hearTalk 148 = .ok (.if_icmp .eq 6, 3) := dk_159 0 6 (dk_at dksX1_hearTalk_6 8 rfl rfl)
theorem dX1_hearTalk_151 : decode cX1_hearTalk 151 = .ok (.goto 39, 3) := dk_167 0 39 (dk_at dksX1_hearTalk_6 11 rfl rfl)
theorem dX1_hearTalk_154 : decode cX1_hearTalk 154 = .ok (.aload_n 0, 1) := dk_42 (dk_at dksX1_hearTalk_6 14 rfl rfl)
theorem dX1_hearTalk_155 : decode cX1_hearTalk 155 = .ok (.getfield 53, 3) := dk_180 0 53 (dk_at dksX1_hearTalk_6 15 rfl rfl)
theorem dX1_hearTalk_158 : decode cX1_hearTalk 158 = .ok (.bipush 9, 2) := dk_16 9 (dk_at dksX1_hearTalk_6 18 rfl rfl)
theorem dX1_hearTalk_160 : decode cX1_hearTalk 160 = .ok (.dup2, 1) := dk_92 (dk_at dksX1_hearTalk_6 20 rfl rfl)
theorem dX1_hearTalk_161 : decode cX1_hearTalk 161 = .ok (.laload, 1) := dk_47 (dk_at dksX1_hearTalk_6 21 rfl rfl)
theorem dX1_hearTalk_162 : decode cX1_hearTalk 162 = .ok (.lconst 1, 1) := dk_10 (dk_at dksX1_hearTalk_6 22 rfl rfl)
theorem dX1_hearTalk_163 : decode cX1_hearTalk 163 = .ok (.ladd, 1) := dk_97 (dk_at dksX1_hearTalk_6 23 rfl rfl)
theorem dX1_hearTalk_164 : decode cX1_hearTalk 164 = .ok (.lastore, 1) := dk_80 (dk_at dksX1_hearTalk_7 0 rfl rfl)
theorem dX1_hearTalk_165 : decode cX1_hearTalk 165 = .ok (.aload_n 0, 1) := dk_42 (dk_at dksX1_hearTalk_7 1 rfl rfl)
theorem dX1_hearTalk_166 : decode cX1_hearTalk 166 = .ok (.getfield 53, 3) := dk_180 0 53 (dk_at dksX1_hearTalk_7 2 rfl rfl)
theorem dX1_hearTalk_169 : decode cX1_hearTalk 169 = .ok (.bipush 8, 2) := dk_16 8 (dk_at dksX1_hearTalk_7 5 rfl rfl)
theorem dX1_hearTalk_171 : decode cX1_hearTalk 171 = .ok (.dup2, 1) := dk_92 (dk_at dksX1_hearTalk_7 7 rfl rfl)
theorem dX1_hearTalk_172 : decode cX1_hearTalk 172 = .ok (.laload, 1) := dk_47 (dk_at dksX1_hearTalk_7 8 rfl rfl)
theorem dX1_hearTalk_173 : decode cX1_hearTalk 173 = .ok (.aload_n 0, 1) := dk_42 (dk_at dksX1_hearTalk_7 9 rfl rfl)
theorem dX1_hearTalk_174 : decode cX1_hearTalk 174 = .ok (.aload 5, 2) := dk_25 5 (dk_at dksX1_hearTalk_7 10 rfl rfl)
theorem dX1_hearTalk_176 : decode cX1_hearTalk 176 = .ok (.invokevirtual 309, 3) := dk_182 1 53 (dk_at dksX1_hearTalk_7 12 rfl rfl)
theorem dX1_hearTalk_179 : decode cX1_hearTalk 179 = .ok (.iconst 1, 1) := dk_4 (dk_at dksX1_hearTalk_7 15 rfl rfl)
theorem dX1_hearTalk_180 : decode cX1_hearTalk 180 = .ok (.if_icmp .le 7, 3) := dk_164 0 7 (dk_at dksX1_hearTalk_7 16 rfl rfl)
theorem dX1_hearTalk_183 : decode cX1_hearTalk 183 = .ok (.lconst 1, 1) := dk_10 (dk_at dksX1_hearTalk_7 19 rfl rfl)
theorem dX1_hearTalk_184 : decode cX1_hearTalk 184 = .ok (.goto 4, 3) := dk_167 0 4 (dk_at dksX1_hearTalk_7 20 rfl rfl)
theorem dX1_hearTalk_187 : decode cX1_hearTalk 187 = .ok (.lconst 0, 1) := dk_9 (dk_at dksX1_hearTalk_7 23 rfl rfl)
theorem dX1_hearTalk_188 : decode cX1_hearTalk 188 = .ok (.ladd, 1) := dk_97 (dk_at dksX1_hearTalk_8 0 rfl rfl)
theorem dX1_hearTalk_189 : decode cX1_hearTalk 189 = .ok (.lastore, 1) := dk_80 (dk_at dksX1_hearTalk_8 1 rfl rfl)
theorem dX1_hearTalk_190 : decode cX1_hearTalk 190 = .ok (.iinc 4 1, 3) := dk_132 4 1 (dk_at dksX1_hearTalk_8 2 rfl rfl)
theorem dX1_hearTalk_193 : decode cX1_hearTalk 193 = .ok (.goto (-83), 3) := dk_167 255 173 (dk_at dksX1_hearTalk_8 5 rfl rfl)
theorem dX1_hearTalk_196 : decode cX1_hearTalk 196 = .ok (.return_, 1) := dk_177 (dk_at dksX1_hearTalk_8 8 rfl rfl)
abbrev cX1_countWords : ByteArray := prog_1_method_56_code
def yX1_countWords : MethodName := ⟨RX1, "countWords", "(IZ)V"⟩
def dkwX1_countWords_4 : List UInt8 := [167, 0, 4, 9, 97, 80, 132, 3, 1, 167, 255, 157, 177]
abbrev dktX1_countWords_4 : List UInt8 := dkwX1_countWords_4 ++ []
def dkwX1_countWords_3 : List UInt8 := [92, 47, 10, 97, 80, 42, 180, 0, 53, 16, 7, 92, 47, 25, 4, 182, 1, 2, 153, 0, 7, 10]
abbrev dktX1_countWords_3 : List UInt8 := dkwX1_countWords_3 ++ dktX1_countWords_4
def dkwX1_countWords_2 : List UInt8 := [154, 0, 6, 167, 0, 49, 42, 180, 0, 53, 25, 4, 182, 0, 242, 153, 0, 7, 8, 167, 0, 5, 16, 6]
abbrev dktX1_countWords_2 : List UInt8 := dkwX1_countWords_2 ++ dktX1_countWords_3
def dkwX1_countWords_1 : List UInt8 := [58, 4, 25, 4, 198, 0, 71, 42, 25, 4, 28, 182, 0, 231, 153, 0, 61, 42, 29, 28, 182, 0, 245]
abbrev dktX1_countWords_1 : List UInt8 := dkwX1_countWords_1 ++ dktX1_countWords_2
def dkwX1_countWords_0 : List UInt8 := [3, 62, 29, 42, 180, 0, 49, 180, 0, 173, 182, 0, 119, 162, 0, 91, 42, 29, 27, 2, 182, 0, 227]
abbrev dktX1_countWords_0 : List UInt8 := dkwX1_countWords_0 ++ dktX1_countWords_1
theorem dksX1_countWords_0 : cX1_countWords.data.toList.drop 0 = dktX1_countWords_0 := by decide +kernel
theorem dksX1_countWords_1 : cX1_countWords.data.toList.drop 23 = dktX1_countWords_1 := dk_seg dksX1_countWords_0 23 rfl rfl
theorem dksX1_countWords_2 : cX1_countWords.data.toList.drop 46 = dktX1_countWords_2 := dk_seg dksX1_countWords_1 23 rfl rfl
theorem dksX1_countWords_3 : cX1_countWords.data.toList.drop 70 = dktX1_countWords_3 := dk_seg dksX1_countWords_2 24 rfl rfl
theorem dksX1_countWords_4 : cX1_countWords.data.toList.drop 92 = dktX1_countWords_4 := dk_seg dksX1_countWords_3 22 rfl rfl
theorem dX1_countWords_0 : decode cX1_countWords 0 = .ok (.iconst 0, 1) := dk_3 (dk_at dksX1_countWords_0 0 rfl rfl)
theorem dX1_countWords_1 : decode cX1_countWords 1 = .ok (.istore_n 3, 1) := dk_62 (dk_at dksX1_countWords_0 1 rfl rfl)
theorem dX1_countWords_2 : decode cX1_countWords 2 = .ok (.iload_n 3, 1) := dk_29 (dk_at dksX1_countWords_0 2 rfl rfl)
theorem dX1_countWords_3 : decode cX1_countWords 3 = .ok (.aload_n 0, 1) := dk_42 (dk_at dksX1_countWords_0 3 rfl rfl)
theorem dX1_countWords_4 : decode cX1_countWords 4 = .ok (.getfield 49, 3) := dk_180 0 49 (dk_at dksX1_countWords_0 4 rfl rfl)
theorem dX1_countWords_7 : decode cX1_countWords 7 = .ok (.getfield 173, 3) := dk_180 0 173 (dk_at dksX1_countWords_0 7 rfl rfl)
theorem dX1_countWords_10 : decode cX1_countWords 10 = .ok (.invokevirtual 119, 3) := dk_182 0 119 (dk_at dksX1_countWords_0 10 rfl rfl)
theorem dX1_countWords_13 : decode cX1_countWords 13 = .ok (.if_icmp .ge 91, 3) := dk_162 0 91 (dk_at dksX1_countWords_0 13 rfl rfl)
theorem dX1_countWords_16 : decode cX1_countWords 16 = .ok (.aload_n 0, 1) := dk_42 (dk_at dksX1_countWords_0 16 rfl rfl)
theorem dX1_countWords_17 : decode cX1_countWords 17 = .ok (.iload_n 3, 1) := dk_29 (dk_at dksX1_countWords_0 17 rfl rfl)
theorem dX1_countWords_18 : decode cX1_countWords 18 = .ok (.iload_n 1, 1) := dk_27 (dk_at dksX1_countWords_0 18 rfl rfl)
theorem dX1_countWords_19 : decode cX1_countWords 19 = .ok (.iconst (-1), 1) := dk_2 (dk_at dksX1_countWords_0 19 rfl rfl)
theorem dX1_countWords_20 : decode cX1_countWords 20 = .ok (.invokevirtual 227, 3) := dk_182 0 227 (dk_at dksX1_countWords_0 20 rfl rfl)
theorem dX1_countWords_23 : decode cX1_countWords 23 = .ok (.astore 4, 2) := dk_58 4 (dk_at dksX1_countWords_1 0 rfl rfl)
theorem dX1_countWords_25 : decode cX1_countWords 25 = .ok (.aload 4, 2) := dk_25 4 (dk_at dksX1_countWords_1 2 rfl rfl)
theorem dX1_countWords_27 : decode cX1_countWords 27 = .ok (.ifnull 71, 3) := dk_198 0 71 (dk_at dksX1_countWords_1 4 rfl rfl)
theorem dX1_countWords_30 : decode cX1_countWords 30 = .ok (.aload_n 0, 1) := dk_42 (dk_at dksX1_countWords_1 7 rfl rfl)
theorem dX1_countWords_31 : decode cX1_countWords 31 = .ok (.aload 4, 2) := dk_25 4 (dk_at dksX1_countWords_1 8 rfl rfl)
theorem dX1_countWords_33 : decode cX1_countWords 33 = .ok (.iload_n 2, 1) := dk_28 (dk_at dksX1_countWords_1 10 rfl rfl)
theorem dX1_countWords_34 : decode cX1_countWords 34 = .ok (.invokevirtual 231, 3) := dk_182 0 231 (dk_at dksX1_countWords_1 11 rfl rfl)
theorem dX1_countWords_37 : decode cX1_countWords 37 = .ok (.ifCond .eq 61, 3) := dk_153 0 61 (dk_at dksX1_countWords_1 14 rfl rfl)
theorem dX1_countWords_40 : decode cX1_countWords 40 = .ok (.aload_n 0, 1) := dk_42 (dk_at dksX1_countWords_1 17 rfl rfl)
theorem dX1_countWords_41 : decode cX1_countWords 41 = .ok (.iload_n 3, 1) := dk_29 (dk_at dksX1_countWords_1 18 rfl rfl)
theorem dX1_countWords_42 : decode cX1_countWords 42 = .ok (.iload_n 2, 1) := dk_28 (dk_at dksX1_countWords_1 19 rfl rfl)
theorem dX1_countWords_43 : decode cX1_countWords 43 = .ok (.invokevirtual 245, 3) := dk_182 0 245 (dk_at dksX1_countWords_1 20 rfl rfl)
theorem dX1_countWords_46 : decode cX1_countWords 46 = .ok (.ifCond .ne 6, 3) := dk_154 0 6 (dk_at dksX1_countWords_2 0 rfl rfl)
theorem dX1_countWords_49 : decode cX1_countWords 49 = .ok (.goto 49, 3) := dk_167 0 49 (dk_at dksX1_countWords_2 3 rfl rfl)
theorem dX1_countWords_52 : decode cX1_countWords 52 = .ok (.aload_n 0, 1) := dk_42 (dk_at dksX1_countWords_2 6 rfl rfl)
theorem dX1_countWords_53 : decode cX1_countWords 53 = .ok (.getfield 53, 3) := dk_180 0 53 (dk_at dksX1_countWords_2 7 rfl rfl)
theorem dX1_countWords_56 : decode cX1_countWords 56 = .ok (.aload 4, 2) := dk_25 4 (dk_at dksX1_countWords_2 10 rfl rfl)
theorem dX1_countWords_58 : decode cX1_countWords 58 = .ok (.invokevirtual 242, 3) := dk_182 0 242 (dk_at dksX1_countWords_2 12 rfl rfl)
theorem dX1_countWords_61 : decode cX1_countWords 61 = .ok (.ifCond .eq 7, 3) := dk_153 0 7 (dk_at dksX1_countWords_2 15 rfl rfl)
theorem dX1_countWords_64 : decode cX1_countWords 64 = .ok (.iconst 5, 1) := dk_8 (dk_at dksX1_countWords_2 18 rfl rfl)
theorem dX1_countWords_65 : decode cX1_countWords 65 = .ok (.goto 5, 3) := dk_167 0 5 (dk_at dksX1_countWords_2 19 rfl rfl)
theorem dX1_countWords_68 : decode cX1_countWords 68 = .ok (.bipush 6, 2) := dk_16 6 (dk_at dksX1_countWords_2 22 rfl rfl)
theorem dX1_countWords_70 : decode cX1_countWords 70 = .ok (.dup2, 1) := dk_92 (dk_at dksX1_countWords_3 0 rfl rfl)
theorem dX1_countWords_71 : decode cX1_countWords 71 = .ok (.laload, 1) := dk_47 (dk_at dksX1_countWords_3 1 rfl rfl)
theorem dX1_countWords_72 : decode cX1_countWords 72 = .ok (.lconst 1, 1) := dk_10 (dk_at dksX1_countWords_3 2 rfl rfl)
theorem dX1_countWords_73 : decode cX1_countWords 73 = .ok (.ladd, 1) := dk_97 (dk_at dksX1_countWords_3 3 rfl rfl)
theorem dX1_countWords_74 : decode cX1_countWords 74 = .ok (.lastore, 1) := dk_80 (dk_at dksX1_countWords_3 4 rfl rfl)
theorem dX1_countWords_75 : decode cX1_countWords 75 = .ok (.aload_n 0, 1) := dk_42 (dk_at dksX1_countWords_3 5 rfl rfl)
theorem dX1_countWords_76 : decode cX1_countWords 76 = .ok (.getfield 53, 3) := dk_180 0 53 (dk_at dksX1_countWords_3 6 rfl rfl)
theorem dX1_countWords_79 : decode cX1_countWords 79 = .ok (.bipush 7, 2) := dk_16 7 (dk_at dksX1_countWords_3 9 rfl rfl)
theorem dX1_countWords_81 : decode cX1_countWords 81 = .ok (.dup2, 1) := dk_92 (dk_at dksX1_countWords_3 11 rfl rfl)
theorem dX1_countWords_82 : decode cX1_countWords 82 = .ok (.laload, 1) := dk_47 (dk_at dksX1_countWords_3 12 rfl rfl)
theorem dX1_countWords_83 : decode cX1_countWords 83 = .ok (.aload 4, 2) := dk_25 4 (dk_at dksX1_countWords_3 13 rfl rfl)
theorem dX1_countWords_85 : decode cX1_countWords 85 = .ok (.invokevirtual 258, 3) := dk_182 1 2 (dk_at dksX1_countWords_3 15 rfl rfl)
theorem dX1_countWords_88 : decode cX1_countWords 88 = .ok (.ifCond .eq 7, 3) := dk_153 0 7 (dk_at dksX1_countWords_3 18 rfl rfl)
theorem dX1_countWords_91 : decode cX1_countWords 91 = .ok (.lconst 1, 1) := dk_10 (dk_at dksX1_countWords_3 21 rfl rfl)
theorem dX1_countWords_92 : decode cX1_countWords 92 = .ok (.goto 4, 3) := dk_167 0 4 (dk_at dksX1_countWords_4 0 rfl rfl)
theorem dX1_countWords_95 : decode cX1_countWords 95 = .ok (.lconst 0, 1) := dk_9 (dk_at dksX1_countWords_4 3 rfl rfl)
theorem dX1_countWords_96 : decode cX1_countWords 96 = .ok (.ladd, 1) := dk_97 (dk_at dksX1_countWords_4 4 rfl rfl)
theorem dX1_countWords_97 : decode cX1_countWords 97 = .ok (.lastore, 1) := dk_80 (dk_at dksX1_countWords_4 5 rfl rfl)
theorem dX1_countWords_98 : decode cX1_countWords 98 = .ok (.iinc 3 1, 3) := dk_132 3 1 (dk_at dksX1_countWords_4 6 rfl rfl)
theorem dX1_countWords_101 : decode cX1_countWords 101 = .ok (.goto (-99), 3) := dk_167 255 157 (dk_at dksX1_countWords_4 9 rfl rfl)
theorem dX1_countWords_104 : decode cX1_countWords 104 = .ok (.return_, 1) := dk_177 (dk_at dksX1_countWords_4 12 rfl rfl)
abbrev cX1_holds : ByteArray := prog_1_method_59_code
def yX1_holds : MethodName := ⟨RX1, "holds", "(I)Z"⟩
def dkwX1_holds_1 : List UInt8 := [180, 0, 53, 182, 1, 99, 9, 148, 153, 0, 7, 4, 167, 0, 4, 3, 172, 77, 3, 172]
abbrev dktX1_holds_1 : List UInt8 := dkwX1_holds_1 ++ []
def dkwX1_holds_0 : List UInt8 := [42, 180, 0, 49, 180, 1, 82, 27, 50, 199, 0, 5, 3, 172, 42, 180, 0, 49, 180, 1, 82, 27, 50, 42]
abbrev dktX1_holds_0 : List UInt8 := dkwX1_holds_0 ++ dktX1_holds_1
theorem dksX1_holds_0 : cX1_holds.data.toList.drop 0 = dktX1_holds_0 := by decide +kernel
theorem dksX1_holds_1 : cX1_holds.data.toList.drop 24 = dktX1_holds_1 := dk_seg dksX1_holds_0 24 rfl rfl
theorem dX1_holds_0 : decode cX1_holds 0 = .ok (.aload_n 0, 1) := dk_42 (dk_at dksX1_holds_0 0 rfl rfl)
theorem dX1_holds_1 : decode cX1_holds 1 = .ok (.getfield 49, 3) := dk_180 0 49 (dk_at dksX1_holds_0 1 rfl rfl)
theorem dX1_holds_4 : decode cX1_holds 4 = .ok (.getfield 338, 3) := dk_180 1 82 (dk_at dksX1_holds_0 4 rfl rfl)
theorem dX1_holds_7 : decode cX1_holds 7 = .ok (.iload_n 1, 1) := dk_27 (dk_at dksX1_holds_0 7 rfl rfl)
theorem dX1_holds_8 : decode cX1_holds 8 = .ok (.aaload, 1) := dk_50 (dk_at dksX1_holds_0 8 rfl rfl)
theorem dX1_holds_9 : decode cX1_holds 9 = .ok (.ifnonnull 5, 3) := dk_199 0 5 (dk_at dksX1_holds_0 9 rfl rfl)
theorem dX1_holds_12 : decode cX1_holds 12 = .ok (.iconst 0, 1) := dk_3 (dk_at dksX1_holds_0 12 rfl rfl)
theorem dX1_holds_13 : decode cX1_holds 13 = .ok (.ireturn, 1) := dk_172 (dk_at dksX1_holds_0 13 rfl rfl)
theorem dX1_holds_14 : decode cX1_holds 14 = .ok (.aload_n 0, 1) := dk_42 (dk_at dksX1_holds_0 14 rfl rfl)
theorem dX1_holds_15 : decode cX1_holds 15 = .ok (.getfield 49, 3) := dk_180 0 49 (dk_at dksX1_holds_0 15 rfl rfl)
theorem dX1_holds_18 : decode cX1_holds 18 = .ok (.getfield 338, 3) := dk_180 1 82 (dk_at dksX1_holds_0 18 rfl rfl)
theorem dX1_holds_21 : decode cX1_holds 21 = .ok (.iload_n 1, 1) := dk_27 (dk_at dksX1_holds_0 21 rfl rfl)
theorem dX1_holds_22 : decode cX1_holds 22 = .ok (.aaload, 1) := dk_50 (dk_at dksX1_holds_0 22 rfl rfl)
theorem dX1_holds_23 : decode cX1_holds 23 = .ok (.aload_n 0, 1) := dk_42 (dk_at dksX1_holds_0 23 rfl rfl)
theorem dX1_holds_24 : decode cX1_holds 24 = .ok (.getfield 53, 3) := dk_180 0 53 (dk_at dksX1_holds_1 0 rfl rfl)
theorem dX1_holds_27 : decode cX1_holds 27 = .ok (.invokevirtual 355, 3) := dk_182 1 99 (dk_at dksX1_holds_1 3 rfl rfl)
theorem dX1_holds_30 : decode cX1_holds 30 = .ok (.lconst 0, 1) := dk_9 (dk_at dksX1_holds_1 6 rfl rfl)
theorem dX1_holds_31 : decode cX1_holds 31 = .ok (.lcmp, 1) := dk_148 (dk_at dksX1_holds_1 7 rfl rfl)
theorem dX1_holds_32 : decode cX1_holds 32 = .ok (.ifCond .eq 7, 3) := dk_153 0 7 (dk_at dksX1_holds_1 8 rfl rfl)
theorem dX1_holds_35 : decode cX1_holds 35 = .ok (.iconst 1, 1) := dk_4 (dk_at dksX1_holds_1 11 rfl rfl)
theorem dX1_holds_36 : decode cX1_holds 36 = .ok (.goto 4, 3) := dk_167 0 4 (dk_at dksX1_holds_1 12 rfl rfl)
theorem dX1_holds_39 : decode cX1_holds 39 = .ok (.iconst 0, 1) := dk_3 (dk_at dksX1_holds_1 15 rfl rfl)
theorem dX1_holds_40 : decode cX1_holds 40 = .ok (.ireturn, 1) := dk_172 (dk_at dksX1_holds_1 16 rfl rfl)
theorem dX1_holds_41 : decode cX1_holds 41 = .ok (.astore_n 2, 1) := dk_77 (dk_at dksX1_holds_1 17 rfl rfl)
theorem dX1_holds_42 : decode cX1_holds 42 = .ok (.iconst 0, 1) := dk_3 (dk_at dksX1_holds_1 18 rfl rfl)
theorem dX1_holds_43 : decode cX1_holds 43 = .ok (.ireturn, 1) := dk_172 (dk_at dksX1_holds_1 19 rfl rfl)
abbrev cX1_jury : ByteArray := prog_1_method_63_code
def yX1_jury : MethodName := ⟨RX1, "jury", "(II)I"⟩
def dkwX1_jury_1 : List UInt8 := [182, 1, 142, 153, 0, 7, 4, 167, 0, 4, 3, 172]
abbrev dktX1_jury_1 : List UInt8 := dkwX1_jury_1 ++ []
def dkwX1_jury_0 : List UInt8 := [42, 27, 182, 0, 156, 153, 0, 12, 28, 3, 5, 184, 0, 80, 154, 0, 7, 2, 167, 0, 17, 42, 27, 28]
abbrev dktX1_jury_0 : List UInt8 := dkwX1_jury_0 ++ dktX1_jury_1
theorem dksX1_jury_0 : cX1_jury.data.toList.drop 0 = dktX1_jury_0 := by decide +kernel
theorem dksX1_jury_1 : cX1_jury.data.toList.drop 24 = dktX1_jury_1 := dk_seg dksX1_jury_0 24 rfl rfl
theorem dX1_jury_0 : decode cX1_jury 0 = .ok (.aload_n 0, 1) := dk_42 (dk_at dksX1_jury_0 0 rfl rfl)
theorem dX1_jury_1 : decode cX1_jury 1 = .ok (.iload_n 1, 1) := dk_27 (dk_at dksX1_jury_0 1 rfl rfl)
theorem dX1_jury_2 : decode cX1_jury 2 = .ok (.invokevirtual 156, 3) := dk_182 0 156 (dk_at dksX1_jury_0 2 rfl rfl)
theorem dX1_jury_5 : decode cX1_jury 5 = .ok (.ifCond .eq 12, 3) := dk_153 0 12 (dk_at dksX1_jury_0 5 rfl rfl)
theorem dX1_jury_8 : decode cX1_jury 8 = .ok (.iload_n 2, 1) := dk_28 (dk_at dksX1_jury_0 8 rfl rfl)
theorem dX1_jury_9 : decode cX1_jury 9 = .ok (.iconst 0, 1) := dk_3 (dk_at dksX1_jury_0 9 rfl rfl)
theorem dX1_jury_10 : decode cX1_jury 10 = .ok (.iconst 2, 1) := dk_5 (dk_at dksX1_jury_0 10 rfl rfl)
theorem dX1_jury_11 : decode cX1_jury 11 = .ok (.invokestatic 80, 3) := dk_184 0 80 (dk_at dksX1_jury_0 11 rfl rfl)
theorem dX1_jury_14 : decode cX1_jury 14 = .ok (.ifCond .ne 7, 3) := dk_154 0 7 (dk_at dksX1_jury_0 14 rfl rfl)
theorem dX1_jury_17 : decode cX1_jury 17 = .ok (.iconst (-1), 1) := dk_2 (dk_at dksX1_jury_0 17 rfl rfl)
theorem dX1_jury_18 : decode cX1_jury 18 = .ok (.goto 17, 3) := dk_167 0 17 (dk_at dksX1_jury_0 18 rfl rfl)
theorem dX1_jury_21 : decode cX1_jury 21 = .ok (.aload_n 0, 1) := dk_42 (dk_at dksX1_jury_0 21 rfl rfl)
theorem dX1_jury_22 : decode cX1_jury 22 = .ok (.iload_n 1, 1) := dk_27 (dk_at dksX1_jury_0 22 rfl rfl)
theorem dX1_jury_23 : decode cX1_jury 23 = .ok (.iload_n 2, 1) := dk_28 (dk_at dksX1_jury_0 23 rfl rfl)
theorem dX1_jury_24 : decode cX1_jury 24 = .ok (.invokevirtual 398, 3) := dk_182 1 142 (dk_at dksX1_jury_1 0 rfl rfl)
theorem dX1_jury_27 : decode cX1_jury 27 = .ok (.ifCond .eq 7, 3) := dk_153 0 7 (dk_at dksX1_jury_1 3 rfl rfl)
theorem dX1_jury_30 : decode cX1_jury 30 = .ok (.iconst 1, 1) := dk_4 (dk_at dksX1_jury_1 6 rfl rfl)
theorem dX1_jury_31 : decode cX1_jury 31 = .ok (.goto 4, 3) := dk_167 0 4 (dk_at dksX1_jury_1 7 rfl rfl)
theorem dX1_jury_34 : decode cX1_jury 34 = .ok (.iconst 0, 1) := dk_3 (dk_at dksX1_jury_1 10 rfl rfl)
theorem dX1_jury_35 : decode cX1_jury 35 = .ok (.ireturn, 1) := dk_172 (dk_at dksX1_jury_1 11 rfl rfl)
abbrev cX1_finds : ByteArray := prog_1_method_61_code
def yX1_finds : MethodName := ⟨RX1, "finds", "(II)Z"⟩
def dkwX1_finds_1 : List UInt8 := [182, 1, 130, 42, 5, 182, 1, 133, 172]
abbrev dktX1_finds_1 : List UInt8 := dkwX1_finds_1 ++ []
def dkwX1_finds_0 : List UInt8 := [28, 154, 0, 11, 42, 27, 182, 1, 136, 167, 0, 18, 42, 27, 28, 4, 160, 0, 7, 4, 167, 0, 4, 3]
abbrev dktX1_finds_0 : List UInt8 := dkwX1_finds_0 ++ dktX1_finds_1
theorem dksX1_finds_0 : cX1_finds.data.toList.drop 0 = dktX1_finds_0 := by decide +kernel
theorem dksX1_finds_1 : cX1_finds.data.toList.drop 24 = dktX1_finds_1 := dk_seg dksX1_finds_0 24 rfl rfl
theorem dX1_finds_0 : decode cX1_finds 0 = .ok (.iload_n 2, 1) := dk_28 (dk_at dksX1_finds_0 0 rfl rfl)
theorem dX1_finds_1 : decode cX1_finds 1 = .ok (.ifCond .ne 11, 3) := dk_154 0 11 (dk_at dksX1_finds_0 1 rfl rfl)
theorem dX1_finds_4 : decode cX1_finds 4 = .ok (.aload_n 0, 1) := dk_42 (dk_at dksX1_finds_0 4 rfl rfl)
theorem dX1_finds_5 : decode cX1_finds 5 = .ok (.iload_n 1, 1) := dk_27 (dk_at dksX1_finds_0 5 rfl rfl)
theorem dX1_finds_6 : decode cX1_finds 6 = .ok (.invokevirtual 392, 3) := dk_182 1 136 (dk_at dksX1_finds_0 6 rfl rfl)
theorem dX1_finds_9 : decode cX1_finds 9 = .ok (.goto 18, 3) := dk_167 0 18 (dk_at dksX1_finds_0 9 rfl rfl)
theorem dX1_finds_12 : decode cX1_finds 12 = .ok (.aload_n 0, 1) := dk_42 (dk_at dksX1_finds_0 12 rfl rfl)
theorem dX1_finds_13 : decode cX1_finds 13 = .ok (.iload_n 1, 1) := dk_27 (dk_at dksX1_finds_0 13 rfl rfl)
theorem dX1_finds_14 : decode cX1_finds 14 = .ok (.iload_n 2, 1) := dk_28 (dk_at dksX1_finds_0 14 rfl rfl)
theorem dX1_finds_15 : decode cX1_finds 15 = .ok (.iconst 1, 1) := dk_4 (dk_at dksX1_finds_0 15 rfl rfl)
theorem dX1_finds_16 : decode cX1_finds 16 = .ok (.if_icmp .ne 7, 3) := dk_160 0 7 (dk_at dksX1_finds_0 16 rfl rfl)
theorem dX1_finds_19 : decode cX1_finds 19 = .ok (.iconst 1, 1) := dk_4 (dk_at dksX1_finds_0 19 rfl rfl)
theorem dX1_finds_20 : decode cX1_finds 20 = .ok (.goto 4, 3) := dk_167 0 4 (dk_at dksX1_finds_0 20 rfl rfl)
theorem dX1_finds_23 : decode cX1_finds 23 = .ok (.iconst 0, 1) := dk_3 (dk_at dksX1_finds_0 23 rfl rfl)
theorem dX1_finds_24 : decode cX1_finds 24 = .ok (.invokevirtual 386, 3) := dk_182 1 130 (dk_at dksX1_finds_1 0 rfl rfl)
theorem dX1_finds_27 : decode cX1_finds 27 = .ok (.aload_n 0, 1) := dk_42 (dk_at dksX1_finds_1 3 rfl rfl)
theorem dX1_finds_28 : decode cX1_finds 28 = .ok (.iconst 2, 1) := dk_5 (dk_at dksX1_finds_1 4 rfl rfl)
theorem dX1_finds_29 : decode cX1_finds 29 = .ok (.invokevirtual 389, 3) := dk_182 1 133 (dk_at dksX1_finds_1 5 rfl rfl)
theorem dX1_finds_32 : decode cX1_finds 32 = .ok (.ireturn, 1) := dk_172 (dk_at dksX1_finds_1 8 rfl rfl)
abbrev cX1_hearPage : ByteArray := prog_1_method_58_code
def yX1_hearPage : MethodName := ⟨RX1, "hearPage", "(I)V"⟩
def dkwX1_hearPage_6 : List UInt8 := [132, 2, 1, 167, 255, 203, 177]
abbrev dktX1_hearPage_6 : List UInt8 := dkwX1_hearPage_6 ++ []
def dkwX1_hearPage_5 : List UInt8 := [180, 1, 25, 28, 182, 0, 135, 192, 1, 28, 180, 1, 30, 27, 160, 0, 7, 10, 167, 0, 4, 9, 97, 80]
abbrev dktX1_hearPage_5 : List UInt8 := dkwX1_hearPage_5 ++ dktX1_hearPage_6
def dkwX1_hearPage_4 : List UInt8 := [180, 0, 49, 180, 1, 25, 182, 0, 119, 162, 0, 45, 42, 180, 0, 53, 16, 9, 92, 47, 42, 180, 0, 49]
abbrev dktX1_hearPage_4 : List UInt8 := dkwX1_hearPage_4 ++ dktX1_hearPage_5
def dkwX1_hearPage_3 : List UInt8 := [160, 0, 7, 8, 167, 0, 5, 16, 6, 92, 47, 10, 97, 80, 132, 2, 1, 167, 255, 189, 3, 61, 28, 42]
abbrev dktX1_hearPage_3 : List UInt8 := dkwX1_hearPage_3 ++ dktX1_hearPage_4
def dkwX1_hearPage_2 : List UInt8 := [180, 0, 53, 45, 180, 1, 44, 42, 180, 0, 49, 180, 0, 125, 28, 182, 0, 135, 192, 0, 139, 180, 0, 144]
abbrev dktX1_hearPage_2 : List UInt8 := dkwX1_hearPage_2 ++ dktX1_hearPage_3
def dkwX1_hearPage_1 : List UInt8 := [180, 0, 49, 180, 0, 125, 182, 0, 119, 162, 0, 59, 42, 27, 28, 182, 1, 40, 78, 45, 198, 0, 42, 42]
abbrev dktX1_hearPage_1 : List UInt8 := dkwX1_hearPage_1 ++ dktX1_hearPage_2
def dkwX1_hearPage_0 : List UInt8 := [42, 42, 180, 0, 49, 180, 0, 115, 27, 182, 0, 135, 192, 0, 159, 182, 1, 86, 3, 61, 28, 42]
abbrev dktX1_hearPage_0 : List UInt8 := dkwX1_hearPage_0 ++ dktX1_hearPage_1
theorem dksX1_hearPage_0 : cX1_hearPage.data.toList.drop 0 = dktX1_hearPage_0 := by decide +kernel
theorem dksX1_hearPage_1 : cX1_hearPage.data.toList.drop 22 = dktX1_hearPage_1 := dk_seg dksX1_hearPage_0 22 rfl rfl
theorem dksX1_hearPage_2 : cX1_hearPage.data.toList.drop 46 = dktX1_hearPage_2 := dk_seg dksX1_hearPage_1 24 rfl rfl
theorem dksX1_hearPage_3 : cX1_hearPage.data.toList.drop 70 = dktX1_hearPage_3 := dk_seg dksX1_hearPage_2 24 rfl rfl
theorem dksX1_hearPage_4 : cX1_hearPage.data.toList.drop 94 = dktX1_hearPage_4 := dk_seg dksX1_hearPage_3 24 rfl rfl
theorem dksX1_hearPage_5 : cX1_hearPage.data.toList.drop 118 = dktX1_hearPage_5 := dk_seg dksX1_hearPage_4 24 rfl rfl
theorem dksX1_hearPage_6 : cX1_hearPage.data.toList.drop 142 = dktX1_hearPage_6 := dk_seg dksX1_hearPage_5 24 rfl rfl
theorem dX1_hearPage_0 : decode cX1_hearPage 0 = .ok (.aload_n 0, 1) := dk_42 (dk_at dksX1_hearPage_0 0 rfl rfl)
theorem dX1_hearPage_1 : decode cX1_hearPage 1 = .ok (.aload_n 0, 1) := dk_42 (dk_at dksX1_hearPage_0 1 rfl rfl)
theorem dX1_hearPage_2 : decode cX1_hearPage 2 = .ok (.getfield 49, 3) := dk_180 0 49 (dk_at dksX1_hearPage_0 2 rfl rfl)
theorem dX1_hearPage_5 : decode cX1_hearPage 5 = .ok (.getfield 115, 3) := dk_180 0 115 (dk_at dksX1_hearPage_0 5 rfl rfl)
theorem dX1_hearPage_8 : decode cX1_hearPage 8 = .ok (.iload_n 1, 1) := dk_27 (dk_at dksX1_hearPage_0 8 rfl rfl)
theorem dX1_hearPage_9 : decode cX1_hearPage 9 = .ok (.invokevirtual 135, 3) := dk_182 0 135 (dk_at dksX1_hearPage_0 9 rfl rfl)
theorem dX1_hearPage_12 : decode cX1_hearPage 12 = .ok (.checkcast 159, 3) := dk_192 0 159 (dk_at dksX1_hearPage_0 12 rfl rfl)
theorem dX1_hearPage_15 : decode cX1_hearPage 15 = .ok (.invokevirtual 342, 3) := dk_182 1 86 (dk_at dksX1_hearPage_0 15 rfl rfl)
theorem dX1_hearPage_18 : decode cX1_hearPage 18 = .ok (.iconst 0, 1) := dk_3 (dk_at dksX1_hearPage_0 18 rfl rfl)
theorem dX1_hearPage_19 : decode cX1_hearPage 19 = .ok (.istore_n 2, 1) := dk_61 (dk_at dksX1_hearPage_0 19 rfl rfl)
theorem dX1_hearPage_20 : decode cX1_hearPage 20 = .ok (.iload_n 2, 1) := dk_28 (dk_at dksX1_hearPage_0 20 rfl rfl)
theorem dX1_hearPage_21 : decode cX1_hearPage 21 = .ok (.aload_n 0, 1) := dk_42 (dk_at dksX1_hearPage_0 21 rfl rfl)
theorem dX1_hearPage_22 : decode cX1_hearPage 22 = .ok (.getfield 49, 3) := dk_180 0 49 (dk_at dksX1_hearPage_1 0 rfl rfl)
theorem dX1_hearPage_25 : decode cX1_hearPage 25 = .ok (.getfield 125, 3) := dk_180 0 125 (dk_at dksX1_hearPage_1 3 rfl rfl)
theorem dX1_hearPage_28 : decode cX1_hearPage 28 = .ok (.invokevirtual 119, 3) := dk_182 0 119 (dk_at dksX1_hearPage_1 6 rfl rfl)
theorem dX1_hearPage_31 : decode cX1_hearPage 31 = .ok (.if_icmp .ge 59, 3) := dk_162 0 59 (dk_at dksX1_hearPage_1 9 rfl rfl)
theorem dX1_hearPage_34 : decode cX1_hearPage 34 = .ok (.aload_n 0, 1) := dk_42 (dk_at dksX1_hearPage_1 12 rfl rfl)
theorem dX1_hearPage_35 : decode cX1_hearPage 35 = .ok (.iload_n 1, 1) := dk_27 (dk_at dksX1_hearPage_1 13 rfl rfl)
theorem dX1_hearPage_36 : decode cX1_hearPage 36 = .ok (.iload_n 2, 1) := dk_28 (dk_at dksX1_hearPage_1 14 rfl rfl)
theorem dX1_hearPage_37 : decode cX1_hearPage 37 = .ok (.invokevirtual 296, 3) := dk_182 1 40 (dk_at dksX1_hearPage_1 15 rfl rfl)
theorem dX1_hearPage_40 : decode cX1_hearPage 40 = .ok (.astore_n 3, 1) := dk_78 (dk_at dksX1_hearPage_1 18 rfl rfl)
theorem dX1_hearPage_41 : decode cX1_hearPage 41 = .ok (.aload_n 3, 1) := dk_45 (dk_at dksX1_hearPage_1 19 rfl rfl)
theorem dX1_hearPage_42 : decode cX1_hearPage 42 = .ok (.ifnull 42, 3) := dk_198 0 42 (dk_at dksX1_hearPage_1 20 rfl rfl)
theorem dX1_hearPage_45 : decode cX1_hearPage 45 = .ok (.aload_n 0, 1) := dk_42 (dk_at dksX1_hearPage_1 23 rfl rfl)
theorem dX1_hearPage_46 : decode cX1_hearPage 46 = .ok (.getfield 53, 3) := dk_180 0 53 (dk_at dksX1_hearPage_2 0 rfl rfl)
theorem dX1_hearPage_49 : decode cX1_hearPage 49 = .ok (.aload_n 3, 1) := dk_45 (dk_at dksX1_hearPage_2 3 rfl rfl)
theorem dX1_hearPage_50 : decode cX1_hearPage 50 = .ok (.getfield 300, 3) := dk_180 1 44 (dk_at dksX1_hearPage_2 4 rfl rfl)
theorem dX1_hearPage_53 : decode cX1_hearPage 53 = .ok (.aload_n 0, 1) := dk_42 (dk_at dksX1_hearPage_2 7 rfl rfl)
theorem dX1_hearPage_54 : decode cX1_hearPage 54 = .ok (.getfield 49, 3) := dk_180 0 49 (dk_at dksX1_hearPage_2 8 rfl rfl)
theorem dX1_hearPage_57 : decode cX1_hearPage 57 = .ok (.getfield 125, 3) := dk_180 0 125 (dk_at dksX1_hearPage_2 11 rfl rfl)
theorem dX1_hearPage_60 : decode cX1_hearPage 60 = .ok (.iload_n 2, 1) := dk_28 (dk_at dksX1_hearPage_2 14 rfl rfl)
theorem dX1_hearPage_61 : decode cX1_hearPage 61 = .ok (.invokevirtual 135, 3) := dk_182 0 135 (dk_at dksX1_hearPage_2 15 rfl rfl)
theorem dX1_hearPage_64 : decode cX1_hearPage 64 = .ok (.checkcast 139, 3) := dk_192 0 139 (dk_at dksX1_hearPage_2 18 rfl rfl)
theorem dX1_hearPage_67 : decode cX1_hearPage 67 = .ok (.getfield 144, 3) := dk_180 0 144 (dk_at dksX1_hearPage_2 21 rfl rfl)
theorem dX1_hearPage_70 : decode cX1_hearPage 70 = .ok (.if_icmp .ne 7, 3) := dk_160 0 7 (dk_at dksX1_hearPage_3 0 rfl rfl)
theorem dX1_hearPage_73 : decode cX1_hearPage 73 = .ok (.iconst 5, 1) := dk_8 (dk_at dksX1_hearPage_3 3 rfl rfl)
theorem dX1_hearPage_74 : decode cX1_hearPage 74 = .ok (.goto 5, 3) := dk_167 0 5 (dk_at dksX1_hearPage_3 4 rfl rfl)
theorem dX1_hearPage_77 : decode cX1_hearPage 77 = .ok (.bipush 6, 2) := dk_16 6 (dk_at dksX1_hearPage_3 7 rfl rfl)
theorem dX1_hearPage_79 : decode cX1_hearPage 79 = .ok (.dup2, 1) := dk_92 (dk_at dksX1_hearPage_3 9 rfl rfl)
theorem dX1_hearPage_80 : decode cX1_hearPage 80 = .ok (.laload, 1) := dk_47 (dk_at dksX1_hearPage_3 10 rfl rfl)
theorem dX1_hearPage_81 : decode cX1_hearPage 81 = .ok (.lconst 1, 1) := dk_10 (dk_at dksX1_hearPage_3 11 rfl rfl)
theorem dX1_hearPage_82 : decode cX1_hearPage 82 = .ok (.ladd, 1) := dk_97 (dk_at dksX1_hearPage_3 12 rfl rfl)
theorem dX1_hearPage_83 : decode cX1_hearPage 83 = .ok (.lastore, 1) := dk_80 (dk_at dksX1_hearPage_3 13 rfl rfl)
theorem dX1_hearPage_84 : decode cX1_hearPage 84 = .ok (.iinc 2 1, 3) := dk_132 2 1 (dk_at dksX1_hearPage_3 14 rfl rfl)
theorem dX1_hearPage_87 : decode cX1_hearPage 87 = .ok (.goto (-67), 3) := dk_167 255 189 (dk_at dksX1_hearPage_3 17 rfl rfl)
theorem dX1_hearPage_90 : decode cX1_hearPage 90 = .ok (.iconst 0, 1) := dk_3 (dk_at dksX1_hearPage_3 20 rfl rfl)
theorem dX1_hearPage_91 : decode cX1_hearPage 91 = .ok (.istore_n 2, 1) := dk_61 (dk_at dksX1_hearPage_3 21 rfl rfl)
theorem dX1_hearPage_92 : decode cX1_hearPage 92 = .ok (.iload_n 2, 1) := dk_28 (dk_at dksX1_hearPage_3 22 rfl rfl)
theorem dX1_hearPage_93 : decode cX1_hearPage 93 = .ok (.aload_n 0, 1) := dk_42 (dk_at dksX1_hearPage_3 23 rfl rfl)
theorem dX1_hearPage_94 : decode cX1_hearPage 94 = .ok (.getfield 49, 3) := dk_180 0 49 (dk_at dksX1_hearPage_4 0 rfl rfl)
theorem dX1_hearPage_97 : decode cX1_hearPage 97 = .ok (.getfield 281, 3) := dk_180 1 25 (dk_at dksX1_hearPage_4 3 rfl rfl)
theorem dX1_hearPage_100 : decode cX1_hearPage 100 = .ok (.invokevirtual 119, 3) := dk_182 0 119 (dk_at dksX1_hearPage_4 6 rfl rfl)
theorem dX1_hearPage_103 : decode cX1_hearPage 103 = .ok (.if_icmp .ge 45, 3) := dk_162 0 45 (dk_at dksX1_hearPage_4 9 rfl rfl)
theorem dX1_hearPage_106 : decode cX1_hearPage 106 = .ok (.aload_n 0, 1) := dk_42 (dk_at dksX1_hearPage_4 12 rfl rfl)
theorem dX1_hearPage_107 : decode cX1_hearPage 107 = .ok (.getfield 53, 3) := dk_180 0 53 (dk_at dksX1_hearPage_4 13 rfl rfl)
theorem dX1_hearPage_110 : decode cX1_hearPage 110 = .ok (.bipush 9, 2) := dk_16 9 (dk_at dksX1_hearPage_4 16 rfl rfl)
theorem dX1_hearPage_112 : decode cX1_hearPage 112 = .ok (.dup2, 1) := dk_92 (dk_at dksX1_hearPage_4 18 rfl rfl)
theorem dX1_hearPage_113 : decode cX1_hearPage 113 = .ok (.laload, 1) := dk_47 (dk_at dksX1_hearPage_4 19 rfl rfl)
theorem dX1_hearPage_114 : decode cX1_hearPage 114 = .ok (.aload_n 0, 1) := dk_42 (dk_at dksX1_hearPage_4 20 rfl rfl)
theorem dX1_hearPage_115 : decode cX1_hearPage 115 = .ok (.getfield 49, 3) := dk_180 0 49 (dk_at dksX1_hearPage_4 21 rfl rfl)
theorem dX1_hearPage_118 : decode cX1_hearPage 118 = .ok (.getfield 281, 3) := dk_180 1 25 (dk_at dksX1_hearPage_5 0 rfl rfl)
theorem dX1_hearPage_121 : decode cX1_hearPage 121 = .ok (.iload_n 2, 1) := dk_28 (dk_at dksX1_hearPage_5 3 rfl rfl)
theorem dX1_hearPage_122 : decode cX1_hearPage 122 = .ok (.invokevirtual 135, 3) := dk_182 0 135 (dk_at dksX1_hearPage_5 4 rfl rfl)
theorem dX1_hearPage_125 : decode cX1_hearPage 125 = .ok (.checkcast 284, 3) := dk_192 1 28 (dk_at dksX1_hearPage_5 7 rfl rfl)
theorem dX1_hearPage_128 : decode cX1_hearPage 128 = .ok (.getfield 286, 3) := dk_180 1 30 (dk_at dksX1_hearPage_5 10 rfl rfl)
theorem dX1_hearPage_131 : decode cX1_hearPage 131 = .ok (.iload_n 1, 1) := dk_27 (dk_at dksX1_hearPage_5 13 rfl rfl)
theorem dX1_hearPage_132 : decode cX1_hearPage 132 = .ok (.if_icmp .ne 7, 3) := dk_160 0 7 (dk_at dksX1_hearPage_5 14 rfl rfl)
theorem dX1_hearPage_135 : decode cX1_hearPage 135 = .ok (.lconst 1, 1) := dk_10 (dk_at dksX1_hearPage_5 17 rfl rfl)
theorem dX1_hearPage_136 : decode cX1_hearPage 136 = .ok (.goto 4, 3) := dk_167 0 4 (dk_at dksX1_hearPage_5 18 rfl rfl)
theorem dX1_hearPage_139 : decode cX1_hearPage 139 = .ok (.lconst 0, 1) := dk_9 (dk_at dksX1_hearPage_5 21 rfl rfl)
theorem dX1_hearPage_140 : decode cX1_hearPage 140 = .ok (.ladd, 1) := dk_97 (dk_at dksX1_hearPage_5 22 rfl rfl)
theorem dX1_hearPage_141 : decode cX1_hearPage 141 = .ok (.lastore, 1) := dk_80 (dk_at dksX1_hearPage_5 23 rfl rfl)
theorem dX1_hearPage_142 : decode cX1_hearPage 142 = .ok (.iinc 2 1, 3) := dk_132 2 1 (dk_at dksX1_hearPage_6 0 rfl rfl)
theorem dX1_hearPage_145 : decode cX1_hearPage 145 = .ok (.goto (-53), 3) := dk_167 255 203 (dk_at dksX1_hearPage_6 3 rfl rfl)
theorem dX1_hearPage_148 : decode cX1_hearPage 148 = .ok (.return_, 1) := dk_177 (dk_at dksX1_hearPage_6 6 rfl rfl)
abbrev cX1_there : ByteArray := prog_1_method_64_code
def yX1_there : MethodName := ⟨RX1, "there", "(I)I"⟩
def dkwX1_there_1 : List UInt8 := [181, 0, 99, 27, 184, 1, 73, 172]
abbrev dktX1_there_1 : List UInt8 := dkwX1_there_1 ++ []
def dkwX1_there_0 : List UInt8 := [27, 155, 0, 19, 27, 4, 42, 180, 0, 49, 180, 0, 115, 182, 0, 119, 120, 161, 0, 5, 2, 172, 42, 27]
abbrev dktX1_there_0 : List UInt8 := dkwX1_there_0 ++ dktX1_there_1
theorem dksX1_there_0 : cX1_there.data.toList.drop 0 = dktX1_there_0 := by decide +kernel
theorem dksX1_there_1 : cX1_there.data.toList.drop 24 = dktX1_there_1 := dk_seg dksX1_there_0 24 rfl rfl
theorem dX1_there_0 : decode cX1_there 0 = .ok (.iload_n 1, 1) := dk_27 (dk_at dksX1_there_0 0 rfl rfl)
theorem dX1_there_1 : decode cX1_there 1 = .ok (.ifCond .lt 19, 3) := dk_155 0 19 (dk_at dksX1_there_0 1 rfl rfl)
theorem dX1_there_4 : decode cX1_there 4 = .ok (.iload_n 1, 1) := dk_27 (dk_at dksX1_there_0 4 rfl rfl)
theorem dX1_there_5 : decode cX1_there 5 = .ok (.iconst 1, 1) := dk_4 (dk_at dksX1_there_0 5 rfl rfl)
theorem dX1_there_6 : decode cX1_there 6 = .ok (.aload_n 0, 1) := dk_42 (dk_at dksX1_there_0 6 rfl rfl)
theorem dX1_there_7 : decode cX1_there 7 = .ok (.getfield 49, 3) := dk_180 0 49 (dk_at dksX1_there_0 7 rfl rfl)
theorem dX1_there_10 : decode cX1_there 10 = .ok (.getfield 115, 3) := dk_180 0 115 (dk_at dksX1_there_0 10 rfl rfl)
theorem dX1_there_13 : decode cX1_there 13 = .ok (.invokevirtual 119, 3) := dk_182 0 119 (dk_at dksX1_there_0 13 rfl rfl)
theorem dX1_there_16 : decode cX1_there 16 = .ok (.ishl, 1) := dk_120 (dk_at dksX1_there_0 16 rfl rfl)
theorem dX1_there_17 : decode cX1_there 17 = .ok (.if_icmp .lt 5, 3) := dk_161 0 5 (dk_at dksX1_there_0 17 rfl rfl)
theorem dX1_there_20 : decode cX1_there 20 = .ok (.iconst (-1), 1) := dk_2 (dk_at dksX1_there_0 20 rfl rfl)
theorem dX1_there_21 : decode cX1_there 21 = .ok (.ireturn, 1) := dk_172 (dk_at dksX1_there_0 21 rfl rfl)
theorem dX1_there_22 : decode cX1_there 22 = .ok (.aload_n 0, 1) := dk_42 (dk_at dksX1_there_0 22 rfl rfl)
theorem dX1_there_23 : decode cX1_there 23 = .ok (.iload_n 1, 1) := dk_27 (dk_at dksX1_there_0 23 rfl rfl)
theorem dX1_there_24 : decode cX1_there 24 = .ok (.putfield 99, 3) := dk_181 0 99 (dk_at dksX1_there_1 0 rfl rfl)
theorem dX1_there_27 : decode cX1_there 27 = .ok (.iload_n 1, 1) := dk_27 (dk_at dksX1_there_1 3 rfl rfl)
theorem dX1_there_28 : decode cX1_there 28 = .ok (.invokestatic 329, 3) := dk_184 1 73 (dk_at dksX1_there_1 4 rfl rfl)
theorem dX1_there_31 : decode cX1_there 31 = .ok (.ireturn, 1) := dk_172 (dk_at dksX1_there_1 7 rfl rfl)
abbrev cX1_found : ByteArray := prog_1_method_65_code
def yX1_found : MethodName := ⟨RX1, "found", "(II)I"⟩
def dkwX1_found_4 : List UInt8 := [180, 0, 99, 29, 2, 130, 126, 172]
abbrev dktX1_found_4 : List UInt8 := dkwX1_found_4 ++ []
def dkwX1_found_3 : List UInt8 := [132, 4, 1, 167, 255, 208, 28, 154, 0, 14, 29, 42, 180, 0, 99, 2, 130, 126, 167, 0, 11, 42]
abbrev dktX1_found_3 : List UInt8 := dkwX1_found_3 ++ dktX1_found_4
def dkwX1_found_2 : List UInt8 := [154, 0, 20, 42, 21, 4, 27, 182, 1, 142, 153, 0, 10, 4, 21, 4, 120, 167, 0, 4, 3, 128, 62]
abbrev dktX1_found_2 : List UInt8 := dkwX1_found_2 ++ dktX1_found_3
def dkwX1_found_1 : List UInt8 := [54, 4, 21, 4, 42, 180, 0, 49, 180, 0, 115, 182, 0, 119, 162, 0, 39, 29, 42, 21, 4, 182, 1, 139]
abbrev dktX1_found_1 : List UInt8 := dkwX1_found_1 ++ dktX1_found_2
def dkwX1_found_0 : List UInt8 := [27, 3, 5, 184, 0, 80, 153, 0, 12, 28, 3, 4, 184, 0, 80, 154, 0, 5, 2, 172, 3, 62, 3]
abbrev dktX1_found_0 : List UInt8 := dkwX1_found_0 ++ dktX1_found_1
theorem dksX1_found_0 : cX1_found.data.toList.drop 0 = dktX1_found_0 := by decide +kernel
theorem dksX1_found_1 : cX1_found.data.toList.drop 23 = dktX1_found_1 := dk_seg dksX1_found_0 23 rfl rfl
theorem dksX1_found_2 : cX1_found.data.toList.drop 47 = dktX1_found_2 := dk_seg dksX1_found_1 24 rfl rfl
theorem dksX1_found_3 : cX1_found.data.toList.drop 70 = dktX1_found_3 := dk_seg dksX1_found_2 23 rfl rfl
theorem dksX1_found_4 : cX1_found.data.toList.drop 92 = dktX1_found_4 := dk_seg dksX1_found_3 22 rfl rfl
theorem dX1_found_0 : decode cX1_found 0 = .ok (.iload_n 1, 1) := dk_27 (dk_at dksX1_found_0 0 rfl rfl)
theorem dX1_found_1 : decode cX1_found 1 = .ok (.iconst 0, 1) := dk_3 (dk_at dksX1_found_0 1 rfl rfl)
theorem dX1_found_2 : decode cX1_found 2 = .ok (.iconst 2, 1) := dk_5 (dk_at dksX1_found_0 2 rfl rfl)
theorem dX1_found_3 : decode cX1_found 3 = .ok (.invokestatic 80, 3) := dk_184 0 80 (dk_at dksX1_found_0 3 rfl rfl)
theorem dX1_found_6 : decode cX1_found 6 = .ok (.ifCond .eq 12, 3) := dk_153 0 12 (dk_at dksX1_found_0 6 rfl rfl)
theorem dX1_found_9 : decode cX1_found 9 = .ok (.iload_n 2, 1) := dk_28 (dk_at dksX1_found_0 9 rfl rfl)
theorem dX1_found_10 : decode cX1_found 10 = .ok (.iconst 0, 1) := dk_3 (dk_at dksX1_found_0 10 rfl rfl)
theorem dX1_found_11 : decode cX1_found 11 = .ok (.iconst 1, 1) := dk_4 (dk_at dksX1_found_0 11 rfl rfl)
theorem dX1_found_12 : decode cX1_found 12 = .ok (.invokestatic 80, 3) := dk_184 0 80 (dk_at dksX1_found_0 12 rfl rfl)
theorem dX1_found_15 : decode cX1_found 15 = .ok (.ifCond .ne 5, 3) := dk_154 0 5 (dk_at dksX1_found_0 15 rfl rfl)
theorem dX1_found_18 : decode cX1_found 18 = .ok (.iconst (-1), 1) := dk_2 (dk_at dksX1_found_0 18 rfl rfl)
theorem dX1_found_19 : decode cX1_found 19 = .ok (.ireturn, 1) := dk_172 (dk_at dksX1_found_0 19 rfl rfl)
theorem dX1_found_20 : decode cX1_found 20 = .ok (.iconst 0, 1) := dk_3 (dk_at dksX1_found_0 20 rfl rfl)
theorem dX1_found_21 : decode cX1_found 21 = .ok (.istore_n 3, 1) := dk_62 (dk_at dksX1_found_0 21 rfl rfl)
theorem dX1_found_22 : decode cX1_found 22 = .ok (.iconst 0, 1) := dk_3 (dk_at dksX1_found_0 22 rfl rfl)
theorem dX1_found_23 : decode cX1_found 23 = .ok (.istore 4, 2) := dk_54 4 (dk_at dksX1_found_1 0 rfl rfl)
theorem dX1_found_25 : decode cX1_found 25 = .ok (.iload 4, 2) := dk_21 4 (dk_at dksX1_found_1 2 rfl rfl)
theorem dX1_found_27 : decode cX1_found 27 = .ok (.aload_n 0, 1) := dk_42 (dk_at dksX1_found_1 4 rfl rfl)
theorem dX1_found_28 : decode cX1_found 28 = .ok (.getfield 49, 3) := dk_180 0 49 (dk_at dksX1_found_1 5 rfl rfl)
theorem dX1_found_31 : decode cX1_found 31 = .ok (.getfield 115, 3) := dk_180 0 115 (dk_at dksX1_found_1 8 rfl rfl)
theorem dX1_found_34 : decode cX1_found 34 = .ok (.invokevirtual 119, 3) := dk_182 0 119 (dk_at dksX1_found_1 11 rfl rfl)
theorem dX1_found_37 : decode cX1_found 37 = .ok (.if_icmp .ge 39, 3) := dk_162 0 39 (dk_at dksX1_found_1 14 rfl rfl)
theorem dX1_found_40 : decode cX1_found 40 = .ok (.iload_n 3, 1) := dk_29 (dk_at dksX1_found_1 17 rfl rfl)
theorem dX1_found_41 : decode cX1_found 41 = .ok (.aload_n 0, 1) := dk_42 (dk_at dksX1_found_1 18 rfl rfl)
theorem dX1_found_42 : decode cX1_found 42 = .ok (.iload 4, 2) := dk_21 4 (dk_at dksX1_found_1 19 rfl rfl)
theorem dX1_found_44 : decode cX1_found 44 = .ok (.invokevirtual 395, 3) := dk_182 1 139 (dk_at dksX1_found_1 21 rfl rfl)
theorem dX1_found_47 : decode cX1_found 47 = .ok (.ifCond .ne 20, 3) := dk_154 0 20 (dk_at dksX1_found_2 0 rfl rfl)
theorem dX1_found_50 : decode cX1_found 50 = .ok (.aload_n 0, 1) := dk_42 (dk_at dksX1_found_2 3 rfl rfl)
theorem dX1_found_51 : decode cX1_found 51 = .ok (.iload 4, 2) := dk_21 4 (dk_at dksX1_found_2 4 rfl rfl)
theorem dX1_found_53 : decode cX1_found 53 = .ok (.iload_n 1, 1) := dk_27 (dk_at dksX1_found_2 6 rfl rfl)
theorem dX1_found_54 : decode cX1_found 54 = .ok (.invokevirtual 398, 3) := dk_182 1 142 (dk_at dksX1_found_2 7 rfl rfl)
theorem dX1_found_57 : decode cX1_found 57 = .ok (.ifCond .eq 10, 3) := dk_153 0 10 (dk_at dksX1_found_2 10 rfl rfl)
theorem dX1_found_60 : decode cX1_found 60 = .ok (.iconst 1, 1) := dk_4 (dk_at dksX1_found_2 13 rfl rfl)
theorem dX1_found_61 : decode cX1_found 61 = .ok (.iload 4, 2) := dk_21 4 (dk_at dksX1_found_2 14 rfl rfl)
theorem dX1_found_63 : decode cX1_found 63 = .ok (.ishl, 1) := dk_120 (dk_at dksX1_found_2 16 rfl rfl)
theorem dX1_found_64 : decode cX1_found 64 = .ok (.goto 4, 3) := dk_167 0 4 (dk_at dksX1_found_2 17 rfl rfl)
theorem dX1_found_67 : decode cX1_found 67 = .ok (.iconst 0, 1) := dk_3 (dk_at dksX1_found_2 20 rfl rfl)
theorem dX1_found_68 : decode cX1_found 68 = .ok (.ior, 1) := dk_128 (dk_at dksX1_found_2 21 rfl rfl)
theorem dX1_found_69 : decode cX1_found 69 = .ok (.istore_n 3, 1) := dk_62 (dk_at dksX1_found_2 22 rfl rfl)
theorem dX1_found_70 : decode cX1_found 70 = .ok (.iinc 4 1, 3) := dk_132 4 1 (dk_at dksX1_found_3 0 rfl rfl)
theorem dX1_found_73 : decode cX1_found 73 = .ok (.goto (-48), 3) := dk_167 255 208 (dk_at dksX1_found_3 3 rfl rfl)
theorem dX1_found_76 : decode cX1_found 76 = .ok (.iload_n 2, 1) := dk_28 (dk_at dksX1_found_3 6 rfl rfl)
theorem dX1_found_77 : decode cX1_found 77 = .ok (.ifCond .ne 14, 3) := dk_154 0 14 (dk_at dksX1_found_3 7 rfl rfl)
theorem dX1_found_80 : decode cX1_found 80 = .ok (.iload_n 3, 1) := dk_29 (dk_at dksX1_found_3 10 rfl rfl)
theorem dX1_found_81 : decode cX1_found 81 = .ok (.aload_n 0, 1) := dk_42 (dk_at dksX1_found_3 11 rfl rfl)
theorem dX1_found_82 : decode cX1_found 82 = .ok (.getfield 99, 3) := dk_180 0 99 (dk_at dksX1_found_3 12 rfl rfl)
theorem dX1_found_85 : decode cX1_found 85 = .ok (.iconst (-1), 1) := dk_2 (dk_at dksX1_found_3 15 rfl rfl)
theorem dX1_found_86 : decode cX1_found 86 = .ok (.ixor, 1) := dk_130 (dk_at dksX1_found_3 16 rfl rfl)
theorem dX1_found_87 : decode cX1_found 87 = .ok (.iand, 1) := dk_126 (dk_at dksX1_found_3 17 rfl rfl)
theorem dX1_found_88 : decode cX1_found 88 = .ok (.goto 11, 3) := dk_167 0 11 (dk_at dksX1_found_3 18 rfl rfl)
theorem dX1_found_91 : decode cX1_found 91 = .ok (.aload_n 0, 1) := dk_42 (dk_at dksX1_found_3 21 rfl rfl)
theorem dX1_found_92 : decode cX1_found 92 = .ok (.getfield 99, 3) := dk_180 0 99 (dk_at dksX1_found_4 0 rfl rfl)
theorem dX1_found_95 : decode cX1_found 95 = .ok (.iload_n 3, 1) := dk_29 (dk_at dksX1_found_4 3 rfl rfl)
theorem dX1_found_96 : decode cX1_found 96 = .ok (.iconst (-1), 1) := dk_2 (dk_at dksX1_found_4 4 rfl rfl)
theorem dX1_found_97 : decode cX1_found 97 = .ok (.ixor, 1) := dk_130 (dk_at dksX1_found_4 5 rfl rfl)
theorem dX1_found_98 : decode cX1_found 98 = .ok (.iand, 1) := dk_126 (dk_at dksX1_found_4 6 rfl rfl)
theorem dX1_found_99 : decode cX1_found 99 = .ok (.ireturn, 1) := dk_172 (dk_at dksX1_found_4 7 rfl rfl)
abbrev cX1_look : ByteArray := prog_1_method_11_code
def yX1_look : MethodName := ⟨RX1, "look", "(II)I"⟩
def dkwX1_look_4 : List UInt8 := [183, 0, 155, 191]
abbrev dktX1_look_4 : List UInt8 := dkwX1_look_4 ++ []
def dkwX1_look_3 : List UInt8 := [45, 180, 0, 141, 172, 45, 180, 0, 144, 172, 45, 180, 0, 147, 172, 45, 180, 0, 150, 172, 187, 0, 153, 89]
abbrev dktX1_look_3 : List UInt8 := dkwX1_look_3 ++ dktX1_look_4
def dkwX1_look_2 : List UInt8 := [170, 0, 0, 0, 0, 0, 0, 52, 0, 0, 0, 0, 0, 0, 0, 3, 0, 0, 0, 32, 0, 0, 0, 37, 0, 0, 0, 42, 0, 0, 0, 47]
abbrev dktX1_look_2 : List UInt8 := dkwX1_look_2 ++ dktX1_look_3
def dkwX1_look_1 : List UInt8 := [182, 0, 135, 192, 0, 139, 78, 28]
abbrev dktX1_look_1 : List UInt8 := dkwX1_look_1 ++ dktX1_look_2
def dkwX1_look_0 : List UInt8 := [42, 27, 182, 0, 128, 154, 0, 11, 187, 0, 132, 89, 183, 0, 134, 191, 42, 180, 0, 49, 180, 0, 125, 27]
abbrev dktX1_look_0 : List UInt8 := dkwX1_look_0 ++ dktX1_look_1
theorem dksX1_look_0 : cX1_look.data.toList.drop 0 = dktX1_look_0 := by decide +kernel
theorem dksX1_look_1 : cX1_look.data.toList.drop 24 = dktX1_look_1 := dk_seg dksX1_look_0 24 rfl rfl
theorem dksX1_look_2 : cX1_look.data.toList.drop 32 = dktX1_look_2 := dk_seg dksX1_look_1 8 rfl rfl
theorem dksX1_look_3 : cX1_look.data.toList.drop 64 = dktX1_look_3 := dk_seg dksX1_look_2 32 rfl rfl
theorem dksX1_look_4 : cX1_look.data.toList.drop 88 = dktX1_look_4 := dk_seg dksX1_look_3 24 rfl rfl
theorem dX1_look_0 : decode cX1_look 0 = .ok (.aload_n 0, 1) := dk_42 (dk_at dksX1_look_0 0 rfl rfl)
theorem dX1_look_1 : decode cX1_look 1 = .ok (.iload_n 1, 1) := dk_27 (dk_at dksX1_look_0 1 rfl rfl)
theorem dX1_look_2 : decode cX1_look 2 = .ok (.invokevirtual 128, 3) := dk_182 0 128 (dk_at dksX1_look_0 2 rfl rfl)
theorem dX1_look_5 : decode cX1_look 5 = .ok (.ifCond .ne 11, 3) := dk_154 0 11 (dk_at dksX1_look_0 5 rfl rfl)
theorem dX1_look_8 : decode cX1_look 8 = .ok (.new 132, 3) := dk_187 0 132 (dk_at dksX1_look_0 8 rfl rfl)
theorem dX1_look_11 : decode cX1_look 11 = .ok (.dup, 1) := dk_89 (dk_at dksX1_look_0 11 rfl rfl)
theorem dX1_look_12 : decode cX1_look 12 = .ok (.invokespecial 134, 3) := dk_183 0 134 (dk_at dksX1_look_0 12 rfl rfl)
theorem dX1_look_15 : decode cX1_look 15 = .ok (.athrow, 1) := dk_191 (dk_at dksX1_look_0 15 rfl rfl)
theorem dX1_look_16 : decode cX1_look 16 = .ok (.aload_n 0, 1) := dk_42 (dk_at dksX1_look_0 16 rfl rfl)
theorem dX1_look_17 : decode cX1_look 17 = .ok (.getfield 49, 3) := dk_180 0 49 (dk_at dksX1_look_0 17 rfl rfl)
theorem dX1_look_20 : decode cX1_look 20 = .ok (.getfield 125, 3) := dk_180 0 125 (dk_at dksX1_look_0 20 rfl rfl)
theorem dX1_look_23 : decode cX1_look 23 = .ok (.iload_n 1, 1) := dk_27 (dk_at dksX1_look_0 23 rfl rfl)
theorem dX1_look_24 : decode cX1_look 24 = .ok (.invokevirtual 135, 3) := dk_182 0 135 (dk_at dksX1_look_1 0 rfl rfl)
theorem dX1_look_27 : decode cX1_look 27 = .ok (.checkcast 139, 3) := dk_192 0 139 (dk_at dksX1_look_1 3 rfl rfl)
theorem dX1_look_30 : decode cX1_look 30 = .ok (.astore_n 3, 1) := dk_78 (dk_at dksX1_look_1 6 rfl rfl)
theorem dX1_look_31 : decode cX1_look 31 = .ok (.iload_n 2, 1) := dk_28 (dk_at dksX1_look_1 7 rfl rfl)
theorem dX1_look_32 : decode cX1_look 32 = .ok (.tableswitch 52 0 3 #[32, 37, 42, 47], 32) := by decide +kernel
theorem dX1_look_64 : decode cX1_look 64 = .ok (.aload_n 3, 1) := dk_45 (dk_at dksX1_look_3 0 rfl rfl)
theorem dX1_look_65 : decode cX1_look 65 = .ok (.getfield 141, 3) := dk_180 0 141 (dk_at dksX1_look_3 1 rfl rfl)
theorem dX1_look_68 : decode cX1_look 68 = .ok (.ireturn, 1) := dk_172 (dk_at dksX1_look_3 4 rfl rfl)
theorem dX1_look_69 : decode cX1_look 69 = .ok (.aload_n 3, 1) := dk_45 (dk_at dksX1_look_3 5 rfl rfl)
theorem dX1_look_70 : decode cX1_look 70 = .ok (.getfield 144, 3) := dk_180 0 144 (dk_at dksX1_look_3 6 rfl rfl)
theorem dX1_look_73 : decode cX1_look 73 = .ok (.ireturn, 1) := dk_172 (dk_at dksX1_look_3 9 rfl rfl)
theorem dX1_look_74 : decode cX1_look 74 = .ok (.aload_n 3, 1) := dk_45 (dk_at dksX1_look_3 10 rfl rfl)
theorem dX1_look_75 : decode cX1_look 75 = .ok (.getfield 147, 3) := dk_180 0 147 (dk_at dksX1_look_3 11 rfl rfl)
theorem dX1_look_78 : decode cX1_look 78 = .ok (.ireturn, 1) := dk_172 (dk_at dksX1_look_3 14 rfl rfl)
theorem dX1_look_79 : decode cX1_look 79 = .ok (.aload_n 3, 1) := dk_45 (dk_at dksX1_look_3 15 rfl rfl)
theorem dX1_look_80 : decode cX1_look 80 = .ok (.getfield 150, 3) := dk_180 0 150 (dk_at dksX1_look_3 16 rfl rfl)
theorem dX1_look_83 : decode cX1_look 83 = .ok (.ireturn, 1) := dk_172 (dk_at dksX1_look_3 19 rfl rfl)
theorem dX1_look_84 : decode cX1_look 84 = .ok (.new 153, 3) := dk_187 0 153 (dk_at dksX1_look_3 20 rfl rfl)
theorem dX1_look_87 : decode cX1_look 87 = .ok (.dup, 1) := dk_89 (dk_at dksX1_look_3 23 rfl rfl)
theorem dX1_look_88 : decode cX1_look 88 = .ok (.invokespecial 155, 3) := dk_183 0 155 (dk_at dksX1_look_4 0 rfl rfl)
theorem dX1_look_91 : decode cX1_look 91 = .ok (.athrow, 1) := dk_191 (dk_at dksX1_look_4 3 rfl rfl)
theorem q139 : (Jvm.Cond.initialized "SaidSo") ∈ lw_all := lw_g (lw_at lw_m1 1 rfl) rfl
theorem q176 : (Jvm.Cond.instantiable "SaidSo" (21 : Nat)) ∈ lw_all := lw_g (lw_at lw_m1 38 rfl) rfl
theorem q178 : (Jvm.Cond.instanceMethod ({ cls := "SaidSo", name := "<init>", desc := "()V" } : Jvm.MethodName)) ∈ lw_all := lw_g (lw_at lw_m1 40 rfl) rfl
theorem q179 : (Jvm.Cond.code ({ cls := "SaidSo", name := "<init>", desc := "()V" } : Jvm.MethodName) prog_1_method_3_code (1 : Nat) (Option.none : Option Jvm.ClassFile.FieldType)) ∈ lw_all := lw_g (lw_at lw_m1 41 rfl) rfl
theorem q180 : (Jvm.Cond.methodLink "SaidSo" (11 : Nat) ({ cls := "java/lang/Object", name := "<init>", desc := "()V" } : Jvm.MethodName)) ∈ lw_all := lw_g (lw_at lw_m1 42 rfl) rfl
theorem q183 : (Jvm.Cond.classLink "SaidSo" (37 : Nat) "SaidSo$Reader") ∈ lw_all := lw_g (lw_at lw_m1 45 rfl) rfl
theorem q185 : (Jvm.Cond.methodLinkNest "SaidSo" (39 : Nat) ({ cls := "SaidSo$Reader", name := "<init>", desc := "(LSaidSo;)V" } : Jvm.MethodName) "SaidSo") ∈ lw_tbl := lw_at lw_m1 47 rfl
theorem q215 : (Jvm.Cond.classLink "SaidSo" (46 : Nat) "SaidSo$Case") ∈ lw_all := lw_g (lw_at lw_m1 77 rfl) rfl
theorem q217 : (Jvm.Cond.methodLinkNest "SaidSo" (48 : Nat) ({ cls := "SaidSo$Case", name := "<init>", desc := "()V" } : Jvm.MethodName) "SaidSo") ∈ lw_tbl := lw_at lw_m1 79 rfl
theorem q253 : (Jvm.Cond.fieldLinkNest "SaidSo" (125 : Nat) "SaidSo$Case" "things" "Ljava/util/ArrayList;" "SaidSo") ∈ lw_tbl := lw_at lw_m1 115 rfl
theorem q257 : (Jvm.Cond.fieldLinkNest "SaidSo" (115 : Nat) "SaidSo$Case" "tellers" "Ljava/util/ArrayList;" "SaidSo") ∈ lw_tbl := lw_at lw_m1 119 rfl
theorem q260 : (Jvm.Cond.fieldLinkNest "SaidSo" (173 : Nat) "SaidSo$Case" "lines" "Ljava/util/ArrayList;" "SaidSo") ∈ lw_tbl := lw_at lw_m1 122 rfl
theorem q264 : (Jvm.Cond.fieldLinkNest "SaidSo" (281 : Nat) "SaidSo$Case" "pages" "Ljava/util/ArrayList;" "SaidSo") ∈ lw_tbl := lw_at lw_m1 126 rfl
theorem q267 : (Jvm.Cond.fieldLinkNest "SaidSo" (338 : Nat) "SaidSo$Case" "parts" "[LSaidSo$Part;" "SaidSo") ∈ lw_tbl := lw_at lw_m1 129 rfl
theorem q268 : (Jvm.Cond.fieldLinkNest "SaidSo" (105 : Nat) "SaidSo$Case" "many" "I" "SaidSo") ∈ lw_tbl := lw_at lw_m1 130 rfl
theorem q271 : (Jvm.Cond.fieldLinkNest "SaidSo" (402 : Nat) "SaidSo$Case" "knots" "I" "SaidSo") ∈ lw_tbl := lw_at lw_m1 133 rfl
theorem q288 : (Jvm.Cond.fieldLink "SaidSo" (17 : Nat) "SaidSo" "bytes" "[B") ∈ lw_all := lw_g (lw_at lw_m1 150 rfl) rfl
theorem q289 : (Jvm.Cond.fieldLink "SaidSo" (73 : Nat) "SaidSo" "fed" "I") ∈ lw_all := lw_g (lw_at lw_m1 151 rfl) rfl
theorem q290 : (Jvm.Cond.fieldLink "SaidSo" (84 : Nat) "SaidSo" "faultKind" "I") ∈ lw_all := lw_g (lw_at lw_m1 152 rfl) rfl
theorem q291 : (Jvm.Cond.fieldLink "SaidSo" (21 : Nat) "SaidSo" "faultPlace" "I") ∈ lw_all := lw_g (lw_at lw_m1 153 rfl) rfl
theorem q292 : (Jvm.Cond.fieldLink "SaidSo" (25 : Nat) "SaidSo" "heard" "I") ∈ lw_all := lw_g (lw_at lw_m1 154 rfl) rfl
theorem q293 : (Jvm.Cond.fieldLink "SaidSo" (28 : Nat) "SaidSo" "truth" "I") ∈ lw_all := lw_g (lw_at lw_m1 155 rfl) rfl
theorem q294 : (Jvm.Cond.fieldLink "SaidSo" (102 : Nat) "SaidSo" "told" "I") ∈ lw_all := lw_g (lw_at lw_m1 156 rfl) rfl
theorem q295 : (Jvm.Cond.fieldLink "SaidSo" (99 : Nat) "SaidSo" "there" "I") ∈ lw_all := lw_g (lw_at lw_m1 157 rfl) rfl
theorem q296 : (Jvm.Cond.fieldLink "SaidSo" (31 : Nat) "SaidSo" "isThere" "I") ∈ lw_all := lw_g (lw_at lw_m1 158 rfl) rfl
theorem q297 : (Jvm.Cond.fieldLink "SaidSo" (34 : Nat) "SaidSo" "isNot" "I") ∈ lw_all := lw_g (lw_at lw_m1 159 rfl) rfl
theorem q298 : (Jvm.Cond.fieldLink "SaidSo" (42 : Nat) "SaidSo" "reader" "LSaidSo$Reader;") ∈ lw_all := lw_g (lw_at lw_m1 160 rfl) rfl
theorem q299 : (Jvm.Cond.fieldLink "SaidSo" (49 : Nat) "SaidSo" "now" "LSaidSo$Case;") ∈ lw_all := lw_g (lw_at lw_m1 161 rfl) rfl
theorem q300 : (Jvm.Cond.fieldLink "SaidSo" (53 : Nat) "SaidSo" "names" "[J") ∈ lw_all := lw_g (lw_at lw_m1 162 rfl) rfl
theorem q301 : (Jvm.Cond.fieldLink "SaidSo" (268 : Nat) "SaidSo" "fore" "J") ∈ lw_all := lw_g (lw_at lw_m1 163 rfl) rfl
theorem q302 : (Jvm.Cond.fieldLink "SaidSo" (272 : Nat) "SaidSo" "against" "J") ∈ lw_all := lw_g (lw_at lw_m1 164 rfl) rfl
theorem q303 : (Jvm.Cond.fieldLink "SaidSo" (57 : Nat) "SaidSo" "rising" "[I") ∈ lw_all := lw_g (lw_at lw_m1 165 rfl) rfl
theorem q304 : (Jvm.Cond.fieldLink "SaidSo" (61 : Nat) "SaidSo" "keys" "[I") ∈ lw_all := lw_g (lw_at lw_m1 166 rfl) rfl
theorem q305 : (Jvm.Cond.fieldLink "SaidSo" (371 : Nat) "SaidSo" "number" "I") ∈ lw_all := lw_g (lw_at lw_m1 167 rfl) rfl
theorem q306 : (Jvm.Cond.fieldLink "SaidSo" (64 : Nat) "SaidSo" "firsts" "[I") ∈ lw_all := lw_g (lw_at lw_m1 168 rfl) rfl
theorem q307 : (Jvm.Cond.fieldLink "SaidSo" (67 : Nat) "SaidSo" "laws" "[I") ∈ lw_all := lw_g (lw_at lw_m1 169 rfl) rfl
theorem q308 : (Jvm.Cond.fieldLink "SaidSo" (70 : Nat) "SaidSo" "puts" "[I") ∈ lw_all := lw_g (lw_at lw_m1 170 rfl) rfl
theorem q309 : (Jvm.Cond.laysFinal "SaidSo" "SaidSo" "bytes" "[B") ∈ lw_all := lw_g (lw_at lw_m1 171 rfl) rfl
theorem q310 : (Jvm.Cond.soleField "SaidSo" "bytes") ∈ lw_all := lw_g (lw_at lw_m1 172 rfl) rfl
theorem q311 : (Jvm.Cond.lays "SaidSo" "SaidSo" "fed" "I") ∈ lw_all := lw_g (lw_at lw_m1 173 rfl) rfl
theorem q312 : (Jvm.Cond.soleField "SaidSo" "fed") ∈ lw_all := lw_g (lw_at lw_m1 174 rfl) rfl
theorem q313 : (Jvm.Cond.lays "SaidSo" "SaidSo" "faultKind" "I") ∈ lw_all := lw_g (lw_at lw_m1 175 rfl) rfl
theorem q314 : (Jvm.Cond.soleField "SaidSo" "faultKind") ∈ lw_all := lw_g (lw_at lw_m1 176 rfl) rfl
theorem q315 : (Jvm.Cond.lays "SaidSo" "SaidSo" "faultPlace" "I") ∈ lw_all := lw_g (lw_at lw_m1 177 rfl) rfl
theorem q316 : (Jvm.Cond.soleField "SaidSo" "faultPlace") ∈ lw_all := lw_g (lw_at lw_m1 178 rfl) rfl
theorem q317 : (Jvm.Cond.lays "SaidSo" "SaidSo" "heard" "I") ∈ lw_all := lw_g (lw_at lw_m1 179 rfl) rfl
theorem q318 : (Jvm.Cond.soleField "SaidSo" "heard") ∈ lw_all := lw_g (lw_at lw_m1 180 rfl) rfl
theorem q319 : (Jvm.Cond.lays "SaidSo" "SaidSo" "truth" "I") ∈ lw_all := lw_g (lw_at lw_m1 181 rfl) rfl
theorem q320 : (Jvm.Cond.soleField "SaidSo" "truth") ∈ lw_all := lw_g (lw_at lw_m1 182 rfl) rfl
theorem q321 : (Jvm.Cond.lays "SaidSo" "SaidSo" "told" "I") ∈ lw_all := lw_g (lw_at lw_m1 183 rfl) rfl
theorem q322 : (Jvm.Cond.soleField "SaidSo" "told") ∈ lw_all := lw_g (lw_at lw_m1 184 rfl) rfl
theorem q323 : (Jvm.Cond.lays "SaidSo" "SaidSo" "there" "I") ∈ lw_all := lw_g (lw_at lw_m1 185 rfl) rfl
theorem q324 : (Jvm.Cond.soleField "SaidSo" "there") ∈ lw_all := lw_g (lw_at lw_m1 186 rfl) rfl
theorem q325 : (Jvm.Cond.lays "SaidSo" "SaidSo" "isThere" "I") ∈ lw_all := lw_g (lw_at lw_m1 187 rfl) rfl
theorem q326 : (Jvm.Cond.soleField "SaidSo" "isThere") ∈ lw_all := lw_g (lw_at lw_m1 188 rfl) rfl
theorem q327 : (Jvm.Cond.lays "SaidSo" "SaidSo" "isNot" "I") ∈ lw_all := lw_g (lw_at lw_m1 189 rfl) rfl
theorem q328 : (Jvm.Cond.soleField "SaidSo" "isNot") ∈ lw_all := lw_g (lw_at lw_m1 190 rfl) rfl
theorem q329 : (Jvm.Cond.laysFinal "SaidSo" "SaidSo" "reader" "LSaidSo$Reader;") ∈ lw_all := lw_g (lw_at lw_m1 191 rfl) rfl
theorem q330 : (Jvm.Cond.soleField "SaidSo" "reader") ∈ lw_all := lw_g (lw_at lw_m1 192 rfl) rfl
theorem q331 : (Jvm.Cond.lays "SaidSo" "SaidSo" "now" "LSaidSo$Case;") ∈ lw_all := lw_g (lw_at lw_m1 193 rfl) rfl
theorem q332 : (Jvm.Cond.soleField "SaidSo" "now") ∈ lw_all := lw_g (lw_at lw_m1 194 rfl) rfl
theorem q333 : (Jvm.Cond.laysFinal "SaidSo" "SaidSo" "names" "[J") ∈ lw_all := lw_g (lw_at lw_m1 195 rfl) rfl
theorem q334 : (Jvm.Cond.soleField "SaidSo" "names") ∈ lw_all := lw_g (lw_at lw_m1 196 rfl) rfl
theorem q335 : (Jvm.Cond.lays "SaidSo" "SaidSo" "fore" "J") ∈ lw_all := lw_g (lw_at lw_m1 197 rfl) rfl
theorem q336 : (Jvm.Cond.soleField "SaidSo" "fore") ∈ lw_all := lw_g (lw_at lw_m1 198 rfl) rfl
theorem q337 : (Jvm.Cond.lays "SaidSo" "SaidSo" "against" "J") ∈ lw_all := lw_g (lw_at lw_m1 199 rfl) rfl
theorem q338 : (Jvm.Cond.soleField "SaidSo" "against") ∈ lw_all := lw_g (lw_at lw_m1 200 rfl) rfl
theorem q339 : (Jvm.Cond.laysFinal "SaidSo" "SaidSo" "rising" "[I") ∈ lw_all := lw_g (lw_at lw_m1 201 rfl) rfl
theorem q340 : (Jvm.Cond.soleField "SaidSo" "rising") ∈ lw_all := lw_g (lw_at lw_m1 202 rfl) rfl
theorem q341 : (Jvm.Cond.laysFinal "SaidSo" "SaidSo" "keys" "[I") ∈ lw_all := lw_g (lw_at lw_m1 203 rfl) rfl
theorem q342 : (Jvm.Cond.soleField "SaidSo" "keys") ∈ lw_all := lw_g (lw_at lw_m1 204 rfl) rfl
theorem q343 : (Jvm.Cond.lays "SaidSo" "SaidSo" "number" "I") ∈ lw_all := lw_g (lw_at lw_m1 205 rfl) rfl
theorem q344 : (Jvm.Cond.soleField "SaidSo" "number") ∈ lw_all := lw_g (lw_at lw_m1 206 rfl) rfl
theorem q345 : (Jvm.Cond.laysFinal "SaidSo" "SaidSo" "firsts" "[I") ∈ lw_all := lw_g (lw_at lw_m1 207 rfl) rfl
theorem q346 : (Jvm.Cond.soleField "SaidSo" "firsts") ∈ lw_all := lw_g (lw_at lw_m1 208 rfl) rfl
theorem q347 : (Jvm.Cond.laysFinal "SaidSo" "SaidSo" "laws" "[I") ∈ lw_all := lw_g (lw_at lw_m1 209 rfl) rfl
theorem q348 : (Jvm.Cond.soleField "SaidSo" "laws") ∈ lw_all := lw_g (lw_at lw_m1 210 rfl) rfl
theorem q349 : (Jvm.Cond.laysFinal "SaidSo" "SaidSo" "puts" "[I") ∈ lw_all := lw_g (lw_at lw_m1 211 rfl) rfl
theorem q350 : (Jvm.Cond.soleField "SaidSo" "puts") ∈ lw_all := lw_g (lw_at lw_m1 212 rfl) rfl
theorem q351 : (Jvm.Cond.superclass "SaidSo" "java/lang/Object") ∈ lw_all := lw_g (lw_at lw_m1 213 rfl) rfl
theorem q355 : (Jvm.Cond.instanceMethod ({ cls := "SaidSo", name := "feed", desc := "(IIIII)I" } : Jvm.MethodName)) ∈ lw_all := lw_g (lw_at lw_m1 217 rfl) rfl
theorem q356 : (Jvm.Cond.selects "SaidSo" ({ cls := "SaidSo", name := "feed", desc := "(IIIII)I" } : Jvm.MethodName) ({ cls := "SaidSo", name := "feed", desc := "(IIIII)I" } : Jvm.MethodName)) ∈ lw_all := lw_g (lw_at lw_m1 218 rfl) rfl
theorem q357 : (Jvm.Cond.code ({ cls := "SaidSo", name := "feed", desc := "(IIIII)I" } : Jvm.MethodName) prog_1_method_4_code (6 : Nat) (Option.some Jvm.ClassFile.FieldType.int)) ∈ lw_all := lw_g (lw_at lw_m1 219 rfl) rfl
theorem q358 : (Jvm.Cond.methodLink "SaidSo" (76 : Nat) ({ cls := "SaidSo", name := "put", desc := "(I)V" } : Jvm.MethodName)) ∈ lw_all := lw_g (lw_at lw_m1 220 rfl) rfl
theorem q359 : (Jvm.Cond.privateMethod ({ cls := "SaidSo", name := "put", desc := "(I)V" } : Jvm.MethodName)) ∈ lw_tbl := lw_at lw_m1 221 rfl
theorem q360 : (Jvm.Cond.instanceMethod ({ cls := "SaidSo", name := "put", desc := "(I)V" } : Jvm.MethodName)) ∈ lw_all := lw_g (lw_at lw_m1 222 rfl) rfl
theorem q361 : (Jvm.Cond.code ({ cls := "SaidSo", name := "put", desc := "(I)V" } : Jvm.MethodName) prog_1_method_5_code (3 : Nat) (Option.none : Option Jvm.ClassFile.FieldType)) ∈ lw_all := lw_g (lw_at lw_m1 223 rfl) rfl
theorem q363 : (Jvm.Cond.instanceMethod ({ cls := "SaidSo", name := "tell", desc := "(I)I" } : Jvm.MethodName)) ∈ lw_all := lw_g (lw_at lw_m1 225 rfl) rfl
theorem q364 : (Jvm.Cond.selects "SaidSo" ({ cls := "SaidSo", name := "tell", desc := "(I)I" } : Jvm.MethodName) ({ cls := "SaidSo", name := "tell", desc := "(I)I" } : Jvm.MethodName)) ∈ lw_all := lw_g (lw_at lw_m1 226 rfl) rfl
theorem q365 : (Jvm.Cond.codeWith ({ cls := "SaidSo", name := "tell", desc := "(I)I" } : Jvm.MethodName) prog_1_method_6_code (3 : Nat) (Option.some Jvm.ClassFile.FieldType.int) [((30 : Nat), (42 : Nat), (45 : Nat), (91 : Nat))]) ∈ lw_all := lw_g (lw_at lw_m1 227 rfl) rfl
theorem q366 : (Jvm.Cond.classLink "SaidSo" (91 : Nat) "SaidSo$Fault") ∈ lw_all := lw_g (lw_at lw_m1 228 rfl) rfl
theorem q367 : (Jvm.Cond.methodLink "SaidSo" (80 : Nat) ({ cls := "SaidSo", name := "in", desc := "(III)Z" } : Jvm.MethodName)) ∈ lw_all := lw_g (lw_at lw_m1 229 rfl) rfl
theorem q368 : (Jvm.Cond.static ({ cls := "SaidSo", name := "in", desc := "(III)Z" } : Jvm.MethodName)) ∈ lw_all := lw_g (lw_at lw_m1 230 rfl) rfl
theorem q369 : (Jvm.Cond.code ({ cls := "SaidSo", name := "in", desc := "(III)Z" } : Jvm.MethodName) prog_1_method_1_code (3 : Nat) (Option.some Jvm.ClassFile.FieldType.boolean)) ∈ lw_all := lw_g (lw_at lw_m1 231 rfl) rfl
theorem q370 : (Jvm.Cond.methodLink "SaidSo" (87 : Nat) ({ cls := "SaidSo$Reader", name := "read", desc := "(I)LSaidSo$Case;" } : Jvm.MethodName)) ∈ lw_all := lw_g (lw_at lw_m1 232 rfl) rfl
theorem q390 : (Jvm.Cond.laysStatic "SaidSo" "NAMES" "[Ljava/lang/String;") ∈ lw_tbl := lw_at lw_m2 12 rfl
theorem q570 : (Jvm.Cond.fieldLinkNest "SaidSo" (93 : Nat) "SaidSo$Fault" "kind" "I" "SaidSo") ∈ lw_tbl := lw_at lw_m2 192 rfl
theorem q572 : (Jvm.Cond.fieldLinkNest "SaidSo" (96 : Nat) "SaidSo$Fault" "place" "I" "SaidSo") ∈ lw_tbl := lw_at lw_m2 194 rfl
theorem q642 : (Jvm.Cond.fieldLinkNest "SaidSo" (141 : Nat) "SaidSo$Thing" "ways" "I" "SaidSo") ∈ lw_tbl := lw_at lw_m3 24 rfl
theorem q646 : (Jvm.Cond.fieldLinkNest "SaidSo" (144 : Nat) "SaidSo$Thing" "is" "I" "SaidSo") ∈ lw_tbl := lw_at lw_m3 28 rfl
theorem q648 : (Jvm.Cond.fieldLinkNest "SaidSo" (147 : Nat) "SaidSo$Thing" "paper" "I" "SaidSo") ∈ lw_tbl := lw_at lw_m3 30 rfl
theorem q651 : (Jvm.Cond.fieldLinkNest "SaidSo" (150 : Nat) "SaidSo$Thing" "police" "I" "SaidSo") ∈ lw_tbl := lw_at lw_m3 33 rfl
theorem q696 : (Jvm.Cond.selects "SaidSo" ({ cls := "java/lang/Object", name := "getClass", desc := "()Ljava/lang/Class;" } : Jvm.MethodName) ({ cls := "java/lang/Object", name := "getClass", desc := "()Ljava/lang/Class;" } : Jvm.MethodName)) ∈ lw_all := lw_g (lw_at lw_m3 78 rfl) rfl
theorem q739 : (Jvm.Cond.fieldLinkNest "SaidSo" (161 : Nat) "SaidSo$Teller" "age" "I" "SaidSo") ∈ lw_tbl := lw_at lw_m3 121 rfl
theorem q743 : (Jvm.Cond.fieldLinkNest "SaidSo" (164 : Nat) "SaidSo$Teller" "begins" "I" "SaidSo") ∈ lw_tbl := lw_at lw_m3 125 rfl
theorem q746 : (Jvm.Cond.fieldLinkNest "SaidSo" (167 : Nat) "SaidSo$Teller" "ends" "I" "SaidSo") ∈ lw_tbl := lw_at lw_m3 128 rfl
theorem q749 : (Jvm.Cond.fieldLinkNest "SaidSo" (170 : Nat) "SaidSo$Teller" "tape" "I" "SaidSo") ∈ lw_tbl := lw_at lw_m3 131 rfl
theorem q791 : (Jvm.Cond.fieldLink "SaidSo" (221 : Nat) "SaidSo$Line" "teller" "LSaidSo$Teller;") ∈ lw_all := lw_g (lw_at lw_m3 173 rfl) rfl
theorem q795 : (Jvm.Cond.fieldLink "SaidSo" (290 : Nat) "SaidSo$Word" "thing" "LSaidSo$Thing;") ∈ lw_all := lw_g (lw_at lw_m3 177 rfl) rfl
theorem q796 : (Jvm.Cond.fieldLink "SaidSo" (334 : Nat) "SaidSo$Line" "thing" "LSaidSo$Thing;") ∈ lw_all := lw_g (lw_at lw_m3 178 rfl) rfl
theorem q799 : (Jvm.Cond.fieldLink "SaidSo" (181 : Nat) "SaidSo$Line" "whose" "I") ∈ lw_all := lw_g (lw_at lw_m3 181 rfl) rfl
theorem q801 : (Jvm.Cond.fieldLink "SaidSo" (184 : Nat) "SaidSo$Line" "what" "I") ∈ lw_all := lw_g (lw_at lw_m3 183 rfl) rfl
theorem q802 : (Jvm.Cond.fieldLink "SaidSo" (313 : Nat) "SaidSo$Word" "what" "I") ∈ lw_all := lw_g (lw_at lw_m3 184 rfl) rfl
theorem q808 : (Jvm.Cond.fieldLink "SaidSo" (178 : Nat) "SaidSo$Line" "hour" "I") ∈ lw_all := lw_g (lw_at lw_m3 190 rfl) rfl
theorem q814 : (Jvm.Cond.fieldLink "SaidSo" (199 : Nat) "SaidSo$Line" "value" "I") ∈ lw_all := lw_g (lw_at lw_m3 196 rfl) rfl
theorem q815 : (Jvm.Cond.fieldLink "SaidSo" (304 : Nat) "SaidSo$Word" "value" "I") ∈ lw_all := lw_g (lw_at lw_m3 197 rfl) rfl
theorem q853 : (Jvm.Cond.fieldLinkNest "SaidSo" (286 : Nat) "SaidSo$Page" "whose" "I" "SaidSo") ∈ lw_tbl := lw_at lw_m3 235 rfl
theorem q855 : (Jvm.Cond.fieldLinkNest "SaidSo" (287 : Nat) "SaidSo$Page" "what" "I" "SaidSo") ∈ lw_tbl := lw_at lw_m3 237 rfl
theorem q857 : (Jvm.Cond.fieldLinkNest "SaidSo" (300 : Nat) "SaidSo$Page" "value" "I" "SaidSo") ∈ lw_tbl := lw_at lw_m3 239 rfl
theorem q955 : (Jvm.Cond.instanceMethod ({ cls := "SaidSo", name := "fault", desc := "(I)I" } : Jvm.MethodName)) ∈ lw_all := lw_g (lw_at lw_m4 97 rfl) rfl
theorem q956 : (Jvm.Cond.selects "SaidSo" ({ cls := "SaidSo", name := "fault", desc := "(I)I" } : Jvm.MethodName) ({ cls := "SaidSo", name := "fault", desc := "(I)I" } : Jvm.MethodName)) ∈ lw_all := lw_g (lw_at lw_m4 98 rfl) rfl
theorem q957 : (Jvm.Cond.code ({ cls := "SaidSo", name := "fault", desc := "(I)I" } : Jvm.MethodName) prog_1_method_7_code (2 : Nat) (Option.some Jvm.ClassFile.FieldType.int)) ∈ lw_all := lw_g (lw_at lw_m4 99 rfl) rfl
theorem q959 : (Jvm.Cond.instanceMethod ({ cls := "SaidSo", name := "named", desc := "(II)I" } : Jvm.MethodName)) ∈ lw_all := lw_g (lw_at lw_m4 101 rfl) rfl
theorem q960 : (Jvm.Cond.selects "SaidSo" ({ cls := "SaidSo", name := "named", desc := "(II)I" } : Jvm.MethodName) ({ cls := "SaidSo", name := "named", desc := "(II)I" } : Jvm.MethodName)) ∈ lw_all := lw_g (lw_at lw_m4 102 rfl) rfl
theorem q961 : (Jvm.Cond.code ({ cls := "SaidSo", name := "named", desc := "(II)I" } : Jvm.MethodName) prog_1_method_8_code (3 : Nat) (Option.some Jvm.ClassFile.FieldType.int)) ∈ lw_all := lw_g (lw_at lw_m4 103 rfl) rfl
theorem q962 : (Jvm.Cond.methodLink "SaidSo" (108 : Nat) ({ cls := "SaidSo$Case", name := "thing", desc := "(I)I" } : Jvm.MethodName)) ∈ lw_all := lw_g (lw_at lw_m4 104 rfl) rfl
theorem q963 : (Jvm.Cond.methodLink "SaidSo" (112 : Nat) ({ cls := "SaidSo$Case", name := "teller", desc := "(I)I" } : Jvm.MethodName)) ∈ lw_all := lw_g (lw_at lw_m4 105 rfl) rfl
theorem q965 : (Jvm.Cond.instanceMethod ({ cls := "SaidSo", name := "teller", desc := "(II)I" } : Jvm.MethodName)) ∈ lw_all := lw_g (lw_at lw_m4 107 rfl) rfl
theorem q966 : (Jvm.Cond.selects "SaidSo" ({ cls := "SaidSo", name := "teller", desc := "(II)I" } : Jvm.MethodName) ({ cls := "SaidSo", name := "teller", desc := "(II)I" } : Jvm.MethodName)) ∈ lw_all := lw_g (lw_at lw_m4 108 rfl) rfl
theorem q967 : (Jvm.Cond.code ({ cls := "SaidSo", name := "teller", desc := "(II)I" } : Jvm.MethodName) prog_1_method_12_code (4 : Nat) (Option.some Jvm.ClassFile.FieldType.int)) ∈ lw_all := lw_g (lw_at lw_m4 109 rfl) rfl
theorem q968 : (Jvm.Cond.methodLink "SaidSo" (156 : Nat) ({ cls := "SaidSo", name := "isTeller", desc := "(I)Z" } : Jvm.MethodName)) ∈ lw_all := lw_g (lw_at lw_m4 110 rfl) rfl
theorem q969 : (Jvm.Cond.privateMethod ({ cls := "SaidSo", name := "isTeller", desc := "(I)Z" } : Jvm.MethodName)) ∈ lw_tbl := lw_at lw_m4 111 rfl
theorem q970 : (Jvm.Cond.instanceMethod ({ cls := "SaidSo", name := "isTeller", desc := "(I)Z" } : Jvm.MethodName)) ∈ lw_all := lw_g (lw_at lw_m4 112 rfl) rfl
theorem q971 : (Jvm.Cond.code ({ cls := "SaidSo", name := "isTeller", desc := "(I)Z" } : Jvm.MethodName) prog_1_method_9_code (2 : Nat) (Option.some Jvm.ClassFile.FieldType.boolean)) ∈ lw_all := lw_g (lw_at lw_m4 113 rfl) rfl
theorem q972 : (Jvm.Cond.methodLink "SaidSo" (119 : Nat) ({ cls := "java/util/ArrayList", name := "size", desc := "()I" } : Jvm.MethodName)) ∈ lw_all := lw_g (lw_at lw_m4 114 rfl) rfl
theorem q973 : (Jvm.Cond.methodLink "SaidSo" (135 : Nat) ({ cls := "java/util/ArrayList", name := "get", desc := "(I)Ljava/lang/Object;" } : Jvm.MethodName)) ∈ lw_all := lw_g (lw_at lw_m4 115 rfl) rfl
theorem q974 : (Jvm.Cond.classLink "SaidSo" (159 : Nat) "SaidSo$Teller") ∈ lw_all := lw_g (lw_at lw_m4 116 rfl) rfl
theorem q976 : (Jvm.Cond.instanceMethod ({ cls := "SaidSo", name := "line", desc := "(II)I" } : Jvm.MethodName)) ∈ lw_all := lw_g (lw_at lw_m4 118 rfl) rfl
theorem q977 : (Jvm.Cond.selects "SaidSo" ({ cls := "SaidSo", name := "line", desc := "(II)I" } : Jvm.MethodName) ({ cls := "SaidSo", name := "line", desc := "(II)I" } : Jvm.MethodName)) ∈ lw_all := lw_g (lw_at lw_m4 119 rfl) rfl
theorem q978 : (Jvm.Cond.code ({ cls := "SaidSo", name := "line", desc := "(II)I" } : Jvm.MethodName) prog_1_method_17_code (4 : Nat) (Option.some Jvm.ClassFile.FieldType.int)) ∈ lw_all := lw_g (lw_at lw_m4 120 rfl) rfl
theorem q979 : (Jvm.Cond.methodLink "SaidSo" (196 : Nat) ({ cls := "SaidSo", name := "isHeard", desc := "(I)Z" } : Jvm.MethodName)) ∈ lw_all := lw_g (lw_at lw_m4 121 rfl) rfl
theorem q980 : (Jvm.Cond.privateMethod ({ cls := "SaidSo", name := "isHeard", desc := "(I)Z" } : Jvm.MethodName)) ∈ lw_tbl := lw_at lw_m4 122 rfl
theorem q981 : (Jvm.Cond.instanceMethod ({ cls := "SaidSo", name := "isHeard", desc := "(I)Z" } : Jvm.MethodName)) ∈ lw_all := lw_g (lw_at lw_m4 123 rfl) rfl
theorem q982 : (Jvm.Cond.code ({ cls := "SaidSo", name := "isHeard", desc := "(I)Z" } : Jvm.MethodName) prog_1_method_13_code (2 : Nat) (Option.some Jvm.ClassFile.FieldType.boolean)) ∈ lw_all := lw_g (lw_at lw_m4 124 rfl) rfl
theorem q983 : (Jvm.Cond.classLink "SaidSo" (176 : Nat) "SaidSo$Line") ∈ lw_all := lw_g (lw_at lw_m4 125 rfl) rfl
theorem q984 : (Jvm.Cond.methodLink "SaidSo" (190 : Nat) ({ cls := "SaidSo$Line", name := "isWord", desc := "()Z" } : Jvm.MethodName)) ∈ lw_all := lw_g (lw_at lw_m4 126 rfl) rfl
theorem q993 : (Jvm.Cond.instanceMethod ({ cls := "SaidSo", name := "say", desc := "(ZIIII)I" } : Jvm.MethodName)) ∈ lw_all := lw_g (lw_at lw_m4 135 rfl) rfl
theorem q994 : (Jvm.Cond.selects "SaidSo" ({ cls := "SaidSo", name := "say", desc := "(ZIIII)I" } : Jvm.MethodName) ({ cls := "SaidSo", name := "say", desc := "(ZIIII)I" } : Jvm.MethodName)) ∈ lw_all := lw_g (lw_at lw_m4 136 rfl) rfl
theorem q995 : (Jvm.Cond.code ({ cls := "SaidSo", name := "say", desc := "(ZIIII)I" } : Jvm.MethodName) prog_1_method_18_code (6 : Nat) (Option.some Jvm.ClassFile.FieldType.int)) ∈ lw_all := lw_g (lw_at lw_m4 137 rfl) rfl
theorem q996 : (Jvm.Cond.methodLink "SaidSo" (128 : Nat) ({ cls := "SaidSo", name := "isThing", desc := "(I)Z" } : Jvm.MethodName)) ∈ lw_all := lw_g (lw_at lw_m4 138 rfl) rfl
theorem q997 : (Jvm.Cond.privateMethod ({ cls := "SaidSo", name := "isThing", desc := "(I)Z" } : Jvm.MethodName)) ∈ lw_tbl := lw_at lw_m4 139 rfl
theorem q998 : (Jvm.Cond.instanceMethod ({ cls := "SaidSo", name := "isThing", desc := "(I)Z" } : Jvm.MethodName)) ∈ lw_all := lw_g (lw_at lw_m4 140 rfl) rfl
theorem q999 : (Jvm.Cond.code ({ cls := "SaidSo", name := "isThing", desc := "(I)Z" } : Jvm.MethodName) prog_1_method_10_code (2 : Nat) (Option.some Jvm.ClassFile.FieldType.boolean)) ∈ lw_all := lw_g (lw_at lw_m4 141 rfl) rfl
theorem q1000 : (Jvm.Cond.methodLink "SaidSo" (202 : Nat) ({ cls := "SaidSo$Case", name := "latest", desc := "(I)I" } : Jvm.MethodName)) ∈ lw_all := lw_g (lw_at lw_m4 142 rfl) rfl
theorem q1001 : (Jvm.Cond.classLink "SaidSo" (139 : Nat) "SaidSo$Thing") ∈ lw_all := lw_g (lw_at lw_m4 143 rfl) rfl
theorem q1002 : (Jvm.Cond.classLink "SaidSo" (194 : Nat) "SaidSo$Word") ∈ lw_all := lw_g (lw_at lw_m4 144 rfl) rfl
theorem q1003 : (Jvm.Cond.methodLink "SaidSo" (205 : Nat) ({ cls := "SaidSo$Word", name := "<init>", desc := "(LSaidSo$Case;IIII)V" } : Jvm.MethodName)) ∈ lw_all := lw_g (lw_at lw_m4 145 rfl) rfl
theorem q1004 : (Jvm.Cond.classLink "SaidSo" (208 : Nat) "SaidSo$Ask") ∈ lw_all := lw_g (lw_at lw_m4 146 rfl) rfl
theorem q1005 : (Jvm.Cond.methodLink "SaidSo" (210 : Nat) ({ cls := "SaidSo$Ask", name := "<init>", desc := "(LSaidSo$Case;IIII)V" } : Jvm.MethodName)) ∈ lw_all := lw_g (lw_at lw_m4 147 rfl) rfl
theorem q1006 : (Jvm.Cond.methodLink "SaidSo" (211 : Nat) ({ cls := "java/util/ArrayList", name := "add", desc := "(Ljava/lang/Object;)Z" } : Jvm.MethodName)) ∈ lw_all := lw_g (lw_at lw_m4 148 rfl) rfl
theorem q1008 : (Jvm.Cond.instanceMethod ({ cls := "SaidSo", name := "undo", desc := "()I" } : Jvm.MethodName)) ∈ lw_all := lw_g (lw_at lw_m4 150 rfl) rfl
theorem q1009 : (Jvm.Cond.selects "SaidSo" ({ cls := "SaidSo", name := "undo", desc := "()I" } : Jvm.MethodName) ({ cls := "SaidSo", name := "undo", desc := "()I" } : Jvm.MethodName)) ∈ lw_all := lw_g (lw_at lw_m4 151 rfl) rfl
theorem q1010 : (Jvm.Cond.code ({ cls := "SaidSo", name := "undo", desc := "()I" } : Jvm.MethodName) prog_1_method_19_code (1 : Nat) (Option.some Jvm.ClassFile.FieldType.int)) ∈ lw_all := lw_g (lw_at lw_m4 152 rfl) rfl
theorem q1011 : (Jvm.Cond.methodLink "SaidSo" (215 : Nat) ({ cls := "java/util/ArrayList", name := "remove", desc := "(I)Ljava/lang/Object;" } : Jvm.MethodName)) ∈ lw_all := lw_g (lw_at lw_m4 153 rfl) rfl
theorem q1021 : (Jvm.Cond.instanceMethod ({ cls := "SaidSo", name := "hear", desc := "(I)I" } : Jvm.MethodName)) ∈ lw_all := lw_g (lw_at lw_m4 163 rfl) rfl
theorem q1022 : (Jvm.Cond.selects "SaidSo" ({ cls := "SaidSo", name := "hear", desc := "(I)I" } : Jvm.MethodName) ({ cls := "SaidSo", name := "hear", desc := "(I)I" } : Jvm.MethodName)) ∈ lw_all := lw_g (lw_at lw_m4 164 rfl) rfl
theorem q1023 : (Jvm.Cond.code ({ cls := "SaidSo", name := "hear", desc := "(I)I" } : Jvm.MethodName) prog_1_method_20_code (2 : Nat) (Option.some Jvm.ClassFile.FieldType.int)) ∈ lw_all := lw_g (lw_at lw_m4 165 rfl) rfl
theorem q1024 : (Jvm.Cond.methodLink "SaidSo" (218 : Nat) ({ cls := "SaidSo", name := "count", desc := "(I)I" } : Jvm.MethodName)) ∈ lw_all := lw_g (lw_at lw_m4 166 rfl) rfl
theorem q1025 : (Jvm.Cond.instanceMethod ({ cls := "SaidSo", name := "count", desc := "(I)I" } : Jvm.MethodName)) ∈ lw_all := lw_g (lw_at lw_m4 167 rfl) rfl
theorem q1026 : (Jvm.Cond.selects "SaidSo" ({ cls := "SaidSo", name := "count", desc := "(I)I" } : Jvm.MethodName) ({ cls := "SaidSo", name := "count", desc := "(I)I" } : Jvm.MethodName)) ∈ lw_all := lw_g (lw_at lw_m4 168 rfl) rfl
theorem q1027 : (Jvm.Cond.code ({ cls := "SaidSo", name := "count", desc := "(I)I" } : Jvm.MethodName) prog_1_method_66_code (4 : Nat) (Option.some Jvm.ClassFile.FieldType.int)) ∈ lw_all := lw_g (lw_at lw_m4 169 rfl) rfl
theorem q1029 : (Jvm.Cond.instanceMethod ({ cls := "SaidSo", name := "word", desc := "(I)I" } : Jvm.MethodName)) ∈ lw_all := lw_g (lw_at lw_m4 171 rfl) rfl
theorem q1030 : (Jvm.Cond.selects "SaidSo" ({ cls := "SaidSo", name := "word", desc := "(I)I" } : Jvm.MethodName) ({ cls := "SaidSo", name := "word", desc := "(I)I" } : Jvm.MethodName)) ∈ lw_all := lw_g (lw_at lw_m4 172 rfl) rfl
theorem q1031 : (Jvm.Cond.code ({ cls := "SaidSo", name := "word", desc := "(I)I" } : Jvm.MethodName) prog_1_method_25_code (2 : Nat) (Option.some Jvm.ClassFile.FieldType.int)) ∈ lw_all := lw_g (lw_at lw_m4 173 rfl) rfl
theorem q1032 : (Jvm.Cond.methodLink "SaidSo" (238 : Nat) ({ cls := "SaidSo", name := "aWord", desc := "(I)LSaidSo$Word;" } : Jvm.MethodName)) ∈ lw_all := lw_g (lw_at lw_m4 174 rfl) rfl
theorem q1033 : (Jvm.Cond.privateMethod ({ cls := "SaidSo", name := "aWord", desc := "(I)LSaidSo$Word;" } : Jvm.MethodName)) ∈ lw_tbl := lw_at lw_m4 175 rfl
theorem q1034 : (Jvm.Cond.instanceMethod ({ cls := "SaidSo", name := "aWord", desc := "(I)LSaidSo$Word;" } : Jvm.MethodName)) ∈ lw_all := lw_g (lw_at lw_m4 176 rfl) rfl
theorem q1035 : (Jvm.Cond.code ({ cls := "SaidSo", name := "aWord", desc := "(I)LSaidSo$Word;" } : Jvm.MethodName) prog_1_method_16_code (2 : Nat) (Option.some (Jvm.ClassFile.FieldType.object "SaidSo$Word"))) ∈ lw_all := lw_g (lw_at lw_m4 177 rfl) rfl
theorem q1036 : (Jvm.Cond.methodLink "SaidSo" (261 : Nat) ({ cls := "SaidSo", name := "bitsOf", desc := "(I)I" } : Jvm.MethodName)) ∈ lw_all := lw_g (lw_at lw_m4 178 rfl) rfl
theorem q1037 : (Jvm.Cond.privateMethod ({ cls := "SaidSo", name := "bitsOf", desc := "(I)I" } : Jvm.MethodName)) ∈ lw_tbl := lw_at lw_m4 179 rfl
theorem q1038 : (Jvm.Cond.instanceMethod ({ cls := "SaidSo", name := "bitsOf", desc := "(I)I" } : Jvm.MethodName)) ∈ lw_all := lw_g (lw_at lw_m4 180 rfl) rfl
theorem q1039 : (Jvm.Cond.code ({ cls := "SaidSo", name := "bitsOf", desc := "(I)I" } : Jvm.MethodName) prog_1_method_24_code (4 : Nat) (Option.some Jvm.ClassFile.FieldType.int)) ∈ lw_all := lw_g (lw_at lw_m4 181 rfl) rfl
theorem q1040 : (Jvm.Cond.methodLink "SaidSo" (242 : Nat) ({ cls := "SaidSo$Word", name := "isRight", desc := "()Z" } : Jvm.MethodName)) ∈ lw_all := lw_g (lw_at lw_m4 182 rfl) rfl
theorem q1044 : (Jvm.Cond.methodLink "SaidSo" (245 : Nat) ({ cls := "SaidSo", name := "isFirst", desc := "(IZ)Z" } : Jvm.MethodName)) ∈ lw_all := lw_g (lw_at lw_m4 186 rfl) rfl
theorem q1045 : (Jvm.Cond.privateMethod ({ cls := "SaidSo", name := "isFirst", desc := "(IZ)Z" } : Jvm.MethodName)) ∈ lw_tbl := lw_at lw_m4 187 rfl
theorem q1046 : (Jvm.Cond.instanceMethod ({ cls := "SaidSo", name := "isFirst", desc := "(IZ)Z" } : Jvm.MethodName)) ∈ lw_all := lw_g (lw_at lw_m4 188 rfl) rfl
theorem q1047 : (Jvm.Cond.code ({ cls := "SaidSo", name := "isFirst", desc := "(IZ)Z" } : Jvm.MethodName) prog_1_method_22_code (5 : Nat) (Option.some Jvm.ClassFile.FieldType.boolean)) ∈ lw_all := lw_g (lw_at lw_m4 189 rfl) rfl
theorem q1048 : (Jvm.Cond.methodLink "SaidSo" (227 : Nat) ({ cls := "SaidSo", name := "word", desc := "(III)LSaidSo$Word;" } : Jvm.MethodName)) ∈ lw_all := lw_g (lw_at lw_m4 190 rfl) rfl
theorem q1049 : (Jvm.Cond.privateMethod ({ cls := "SaidSo", name := "word", desc := "(III)LSaidSo$Word;" } : Jvm.MethodName)) ∈ lw_tbl := lw_at lw_m4 191 rfl
theorem q1050 : (Jvm.Cond.instanceMethod ({ cls := "SaidSo", name := "word", desc := "(III)LSaidSo$Word;" } : Jvm.MethodName)) ∈ lw_all := lw_g (lw_at lw_m4 192 rfl) rfl
theorem q1051 : (Jvm.Cond.code ({ cls := "SaidSo", name := "word", desc := "(III)LSaidSo$Word;" } : Jvm.MethodName) prog_1_method_15_code (5 : Nat) (Option.some (Jvm.ClassFile.FieldType.object "SaidSo$Word"))) ∈ lw_all := lw_g (lw_at lw_m4 193 rfl) rfl
theorem q1052 : (Jvm.Cond.methodLink "SaidSo" (187 : Nat) ({ cls := "SaidSo", name := "heard", desc := "(III)LSaidSo$Line;" } : Jvm.MethodName)) ∈ lw_all := lw_g (lw_at lw_m4 194 rfl) rfl
theorem q1053 : (Jvm.Cond.privateMethod ({ cls := "SaidSo", name := "heard", desc := "(III)LSaidSo$Line;" } : Jvm.MethodName)) ∈ lw_tbl := lw_at lw_m4 195 rfl
theorem q1054 : (Jvm.Cond.instanceMethod ({ cls := "SaidSo", name := "heard", desc := "(III)LSaidSo$Line;" } : Jvm.MethodName)) ∈ lw_all := lw_g (lw_at lw_m4 196 rfl) rfl
theorem q1055 : (Jvm.Cond.code ({ cls := "SaidSo", name := "heard", desc := "(III)LSaidSo$Line;" } : Jvm.MethodName) prog_1_method_14_code (5 : Nat) (Option.some (Jvm.ClassFile.FieldType.object "SaidSo$Line"))) ∈ lw_all := lw_g (lw_at lw_m4 197 rfl) rfl
theorem q1056 : (Jvm.Cond.methodLink "SaidSo" (231 : Nat) ({ cls := "SaidSo", name := "counts", desc := "(LSaidSo$Line;Z)Z" } : Jvm.MethodName)) ∈ lw_all := lw_g (lw_at lw_m4 198 rfl) rfl
theorem q1057 : (Jvm.Cond.privateMethod ({ cls := "SaidSo", name := "counts", desc := "(LSaidSo$Line;Z)Z" } : Jvm.MethodName)) ∈ lw_tbl := lw_at lw_m4 199 rfl
theorem q1058 : (Jvm.Cond.instanceMethod ({ cls := "SaidSo", name := "counts", desc := "(LSaidSo$Line;Z)Z" } : Jvm.MethodName)) ∈ lw_all := lw_g (lw_at lw_m4 200 rfl) rfl
theorem q1059 : (Jvm.Cond.code ({ cls := "SaidSo", name := "counts", desc := "(LSaidSo$Line;Z)Z" } : Jvm.MethodName) prog_1_method_21_code (3 : Nat) (Option.some Jvm.ClassFile.FieldType.boolean)) ∈ lw_all := lw_g (lw_at lw_m4 201 rfl) rfl
theorem q1060 : (Jvm.Cond.methodLink "SaidSo" (224 : Nat) ({ cls := "SaidSo$Teller", name := "isTaped", desc := "(I)Z" } : Jvm.MethodName)) ∈ lw_all := lw_g (lw_at lw_m4 202 rfl) rfl
theorem q1064 : (Jvm.Cond.methodLink "SaidSo" (249 : Nat) ({ cls := "SaidSo", name := "ledBy", desc := "(I)I" } : Jvm.MethodName)) ∈ lw_all := lw_g (lw_at lw_m4 206 rfl) rfl
theorem q1065 : (Jvm.Cond.privateMethod ({ cls := "SaidSo", name := "ledBy", desc := "(I)I" } : Jvm.MethodName)) ∈ lw_tbl := lw_at lw_m4 207 rfl
theorem q1066 : (Jvm.Cond.instanceMethod ({ cls := "SaidSo", name := "ledBy", desc := "(I)I" } : Jvm.MethodName)) ∈ lw_all := lw_g (lw_at lw_m4 208 rfl) rfl
theorem q1067 : (Jvm.Cond.code ({ cls := "SaidSo", name := "ledBy", desc := "(I)I" } : Jvm.MethodName) prog_1_method_23_code (5 : Nat) (Option.some Jvm.ClassFile.FieldType.int)) ∈ lw_all := lw_g (lw_at lw_m4 209 rfl) rfl
theorem q1068 : (Jvm.Cond.methodLink "SaidSo" (235 : Nat) ({ cls := "SaidSo$Line", name := "isPut", desc := "()Z" } : Jvm.MethodName)) ∈ lw_all := lw_g (lw_at lw_m4 210 rfl) rfl
theorem q1076 : (Jvm.Cond.methodLink "SaidSo" (252 : Nat) ({ cls := "SaidSo$Word", name := "isPublic", desc := "()Z" } : Jvm.MethodName)) ∈ lw_all := lw_g (lw_at lw_m4 218 rfl) rfl
theorem q1085 : (Jvm.Cond.methodLink "SaidSo" (255 : Nat) ({ cls := "SaidSo$Word", name := "isOff", desc := "()Z" } : Jvm.MethodName)) ∈ lw_all := lw_g (lw_at lw_m4 227 rfl) rfl
theorem q1098 : (Jvm.Cond.methodLink "SaidSo" (258 : Nat) ({ cls := "SaidSo$Word", name := "isNew", desc := "()Z" } : Jvm.MethodName)) ∈ lw_all := lw_g (lw_at lw_m5 0 rfl) rfl
theorem q1103 : (Jvm.Cond.instanceMethod ({ cls := "SaidSo", name := "led", desc := "(I)I" } : Jvm.MethodName)) ∈ lw_all := lw_g (lw_at lw_m5 5 rfl) rfl
theorem q1104 : (Jvm.Cond.selects "SaidSo" ({ cls := "SaidSo", name := "led", desc := "(I)I" } : Jvm.MethodName) ({ cls := "SaidSo", name := "led", desc := "(I)I" } : Jvm.MethodName)) ∈ lw_all := lw_g (lw_at lw_m5 6 rfl) rfl
theorem q1105 : (Jvm.Cond.code ({ cls := "SaidSo", name := "led", desc := "(I)I" } : Jvm.MethodName) prog_1_method_26_code (2 : Nat) (Option.some Jvm.ClassFile.FieldType.int)) ∈ lw_all := lw_g (lw_at lw_m5 7 rfl) rfl
theorem q1107 : (Jvm.Cond.instanceMethod ({ cls := "SaidSo", name := "words", desc := "(II)I" } : Jvm.MethodName)) ∈ lw_all := lw_g (lw_at lw_m5 9 rfl) rfl
theorem q1108 : (Jvm.Cond.selects "SaidSo" ({ cls := "SaidSo", name := "words", desc := "(II)I" } : Jvm.MethodName) ({ cls := "SaidSo", name := "words", desc := "(II)I" } : Jvm.MethodName)) ∈ lw_all := lw_g (lw_at lw_m5 10 rfl) rfl
theorem q1109 : (Jvm.Cond.code ({ cls := "SaidSo", name := "words", desc := "(II)I" } : Jvm.MethodName) prog_1_method_27_code (5 : Nat) (Option.some Jvm.ClassFile.FieldType.int)) ∈ lw_all := lw_g (lw_at lw_m5 11 rfl) rfl
theorem q1111 : (Jvm.Cond.instanceMethod ({ cls := "SaidSo", name := "truth", desc := "(I)Z" } : Jvm.MethodName)) ∈ lw_all := lw_g (lw_at lw_m5 13 rfl) rfl
theorem q1112 : (Jvm.Cond.selects "SaidSo" ({ cls := "SaidSo", name := "truth", desc := "(I)Z" } : Jvm.MethodName) ({ cls := "SaidSo", name := "truth", desc := "(I)Z" } : Jvm.MethodName)) ∈ lw_all := lw_g (lw_at lw_m5 14 rfl) rfl
theorem q1113 : (Jvm.Cond.code ({ cls := "SaidSo", name := "truth", desc := "(I)Z" } : Jvm.MethodName) prog_1_method_28_code (2 : Nat) (Option.some Jvm.ClassFile.FieldType.boolean)) ∈ lw_all := lw_g (lw_at lw_m5 15 rfl) rfl
theorem q1115 : (Jvm.Cond.instanceMethod ({ cls := "SaidSo", name := "begin", desc := "(II)Z" } : Jvm.MethodName)) ∈ lw_all := lw_g (lw_at lw_m5 17 rfl) rfl
theorem q1116 : (Jvm.Cond.selects "SaidSo" ({ cls := "SaidSo", name := "begin", desc := "(II)Z" } : Jvm.MethodName) ({ cls := "SaidSo", name := "begin", desc := "(II)Z" } : Jvm.MethodName)) ∈ lw_all := lw_g (lw_at lw_m5 18 rfl) rfl
theorem q1117 : (Jvm.Cond.code ({ cls := "SaidSo", name := "begin", desc := "(II)Z" } : Jvm.MethodName) prog_1_method_29_code (3 : Nat) (Option.some Jvm.ClassFile.FieldType.boolean)) ∈ lw_all := lw_g (lw_at lw_m5 19 rfl) rfl
theorem q1119 : (Jvm.Cond.instanceMethod ({ cls := "SaidSo", name := "odds", desc := "(III)J" } : Jvm.MethodName)) ∈ lw_all := lw_g (lw_at lw_m5 21 rfl) rfl
theorem q1120 : (Jvm.Cond.selects "SaidSo" ({ cls := "SaidSo", name := "odds", desc := "(III)J" } : Jvm.MethodName) ({ cls := "SaidSo", name := "odds", desc := "(III)J" } : Jvm.MethodName)) ∈ lw_all := lw_g (lw_at lw_m5 22 rfl) rfl
theorem q1121 : (Jvm.Cond.code ({ cls := "SaidSo", name := "odds", desc := "(III)J" } : Jvm.MethodName) prog_1_method_34_code (7 : Nat) (Option.some Jvm.ClassFile.FieldType.long)) ∈ lw_all := lw_g (lw_at lw_m5 23 rfl) rfl
theorem q1122 : (Jvm.Cond.constantLong "SaidSo" (288 : Nat) (-1 : Int64)) ∈ lw_all := lw_g (lw_at lw_m5 24 rfl) rfl
theorem q1123 : (Jvm.Cond.methodLink "SaidSo" (277 : Nat) ({ cls := "SaidSo", name := "weigh", desc := "(JJ)V" } : Jvm.MethodName)) ∈ lw_all := lw_g (lw_at lw_m5 25 rfl) rfl
theorem q1124 : (Jvm.Cond.privateMethod ({ cls := "SaidSo", name := "weigh", desc := "(JJ)V" } : Jvm.MethodName)) ∈ lw_tbl := lw_at lw_m5 26 rfl
theorem q1125 : (Jvm.Cond.instanceMethod ({ cls := "SaidSo", name := "weigh", desc := "(JJ)V" } : Jvm.MethodName)) ∈ lw_all := lw_g (lw_at lw_m5 27 rfl) rfl
theorem q1126 : (Jvm.Cond.code ({ cls := "SaidSo", name := "weigh", desc := "(JJ)V" } : Jvm.MethodName) prog_1_method_31_code (7 : Nat) (Option.none : Option Jvm.ClassFile.FieldType)) ∈ lw_all := lw_g (lw_at lw_m5 28 rfl) rfl
theorem q1127 : (Jvm.Cond.methodLink "SaidSo" (264 : Nat) ({ cls := "SaidSo", name := "common", desc := "(JJ)J" } : Jvm.MethodName)) ∈ lw_all := lw_g (lw_at lw_m5 29 rfl) rfl
theorem q1128 : (Jvm.Cond.static ({ cls := "SaidSo", name := "common", desc := "(JJ)J" } : Jvm.MethodName)) ∈ lw_all := lw_g (lw_at lw_m5 30 rfl) rfl
theorem q1129 : (Jvm.Cond.code ({ cls := "SaidSo", name := "common", desc := "(JJ)J" } : Jvm.MethodName) prog_1_method_30_code (4 : Nat) (Option.some Jvm.ClassFile.FieldType.long)) ∈ lw_all := lw_g (lw_at lw_m5 31 rfl) rfl
theorem q1130 : (Jvm.Cond.methodLink "SaidSo" (293 : Nat) ({ cls := "SaidSo", name := "weigh", desc := "(LSaidSo$Thing;Z)V" } : Jvm.MethodName)) ∈ lw_all := lw_g (lw_at lw_m5 32 rfl) rfl
theorem q1131 : (Jvm.Cond.privateMethod ({ cls := "SaidSo", name := "weigh", desc := "(LSaidSo$Thing;Z)V" } : Jvm.MethodName)) ∈ lw_tbl := lw_at lw_m5 33 rfl
theorem q1132 : (Jvm.Cond.instanceMethod ({ cls := "SaidSo", name := "weigh", desc := "(LSaidSo$Thing;Z)V" } : Jvm.MethodName)) ∈ lw_all := lw_g (lw_at lw_m5 34 rfl) rfl
theorem q1133 : (Jvm.Cond.code ({ cls := "SaidSo", name := "weigh", desc := "(LSaidSo$Thing;Z)V" } : Jvm.MethodName) prog_1_method_32_code (3 : Nat) (Option.none : Option Jvm.ClassFile.FieldType)) ∈ lw_all := lw_g (lw_at lw_m5 35 rfl) rfl
theorem q1134 : (Jvm.Cond.constantLong "SaidSo" (275 : Nat) (10 : Int64)) ∈ lw_all := lw_g (lw_at lw_m5 36 rfl) rfl
theorem q1135 : (Jvm.Cond.methodLink "SaidSo" (296 : Nat) ({ cls := "SaidSo", name := "firstPage", desc := "(II)LSaidSo$Page;" } : Jvm.MethodName)) ∈ lw_all := lw_g (lw_at lw_m5 37 rfl) rfl
theorem q1136 : (Jvm.Cond.privateMethod ({ cls := "SaidSo", name := "firstPage", desc := "(II)LSaidSo$Page;" } : Jvm.MethodName)) ∈ lw_tbl := lw_at lw_m5 38 rfl
theorem q1137 : (Jvm.Cond.instanceMethod ({ cls := "SaidSo", name := "firstPage", desc := "(II)LSaidSo$Page;" } : Jvm.MethodName)) ∈ lw_all := lw_g (lw_at lw_m5 39 rfl) rfl
theorem q1138 : (Jvm.Cond.code ({ cls := "SaidSo", name := "firstPage", desc := "(II)LSaidSo$Page;" } : Jvm.MethodName) prog_1_method_33_code (4 : Nat) (Option.some (Jvm.ClassFile.FieldType.object "SaidSo$Page"))) ∈ lw_all := lw_g (lw_at lw_m5 40 rfl) rfl
theorem q1139 : (Jvm.Cond.classLink "SaidSo" (284 : Nat) "SaidSo$Page") ∈ lw_all := lw_g (lw_at lw_m5 41 rfl) rfl
theorem q1141 : (Jvm.Cond.instanceMethod ({ cls := "SaidSo", name := "page", desc := "(I)I" } : Jvm.MethodName)) ∈ lw_all := lw_g (lw_at lw_m5 43 rfl) rfl
theorem q1142 : (Jvm.Cond.selects "SaidSo" ({ cls := "SaidSo", name := "page", desc := "(I)I" } : Jvm.MethodName) ({ cls := "SaidSo", name := "page", desc := "(I)I" } : Jvm.MethodName)) ∈ lw_all := lw_g (lw_at lw_m5 44 rfl) rfl
theorem q1143 : (Jvm.Cond.code ({ cls := "SaidSo", name := "page", desc := "(I)I" } : Jvm.MethodName) prog_1_method_38_code (2 : Nat) (Option.some Jvm.ClassFile.FieldType.int)) ∈ lw_all := lw_g (lw_at lw_m5 45 rfl) rfl
theorem q1144 : (Jvm.Cond.methodLink "SaidSo" (309 : Nat) ({ cls := "SaidSo", name := "kindOf", desc := "(LSaidSo$Page;)I" } : Jvm.MethodName)) ∈ lw_all := lw_g (lw_at lw_m5 46 rfl) rfl
theorem q1145 : (Jvm.Cond.privateMethod ({ cls := "SaidSo", name := "kindOf", desc := "(LSaidSo$Page;)I" } : Jvm.MethodName)) ∈ lw_tbl := lw_at lw_m5 47 rfl
theorem q1146 : (Jvm.Cond.instanceMethod ({ cls := "SaidSo", name := "kindOf", desc := "(LSaidSo$Page;)I" } : Jvm.MethodName)) ∈ lw_all := lw_g (lw_at lw_m5 48 rfl) rfl
theorem q1147 : (Jvm.Cond.code ({ cls := "SaidSo", name := "kindOf", desc := "(LSaidSo$Page;)I" } : Jvm.MethodName) prog_1_method_37_code (3 : Nat) (Option.some Jvm.ClassFile.FieldType.int)) ∈ lw_all := lw_g (lw_at lw_m5 49 rfl) rfl
theorem q1148 : (Jvm.Cond.methodLink "SaidSo" (301 : Nat) ({ cls := "SaidSo", name := "latest", desc := "(II)LSaidSo$Word;" } : Jvm.MethodName)) ∈ lw_all := lw_g (lw_at lw_m5 50 rfl) rfl
theorem q1149 : (Jvm.Cond.privateMethod ({ cls := "SaidSo", name := "latest", desc := "(II)LSaidSo$Word;" } : Jvm.MethodName)) ∈ lw_tbl := lw_at lw_m5 51 rfl
theorem q1150 : (Jvm.Cond.instanceMethod ({ cls := "SaidSo", name := "latest", desc := "(II)LSaidSo$Word;" } : Jvm.MethodName)) ∈ lw_all := lw_g (lw_at lw_m5 52 rfl) rfl
theorem q1151 : (Jvm.Cond.code ({ cls := "SaidSo", name := "latest", desc := "(II)LSaidSo$Word;" } : Jvm.MethodName) prog_1_method_35_code (5 : Nat) (Option.some (Jvm.ClassFile.FieldType.object "SaidSo$Word"))) ∈ lw_all := lw_g (lw_at lw_m5 53 rfl) rfl
theorem q1152 : (Jvm.Cond.methodLink "SaidSo" (305 : Nat) ({ cls := "SaidSo", name := "said", desc := "(III)I" } : Jvm.MethodName)) ∈ lw_all := lw_g (lw_at lw_m5 54 rfl) rfl
theorem q1153 : (Jvm.Cond.privateMethod ({ cls := "SaidSo", name := "said", desc := "(III)I" } : Jvm.MethodName)) ∈ lw_tbl := lw_at lw_m5 55 rfl
theorem q1154 : (Jvm.Cond.instanceMethod ({ cls := "SaidSo", name := "said", desc := "(III)I" } : Jvm.MethodName)) ∈ lw_all := lw_g (lw_at lw_m5 56 rfl) rfl
theorem q1155 : (Jvm.Cond.code ({ cls := "SaidSo", name := "said", desc := "(III)I" } : Jvm.MethodName) prog_1_method_36_code (5 : Nat) (Option.some Jvm.ClassFile.FieldType.int)) ∈ lw_all := lw_g (lw_at lw_m5 57 rfl) rfl
theorem q1157 : (Jvm.Cond.instanceMethod ({ cls := "SaidSo", name := "left", desc := "(I)I" } : Jvm.MethodName)) ∈ lw_all := lw_g (lw_at lw_m5 59 rfl) rfl
theorem q1158 : (Jvm.Cond.selects "SaidSo" ({ cls := "SaidSo", name := "left", desc := "(I)I" } : Jvm.MethodName) ({ cls := "SaidSo", name := "left", desc := "(I)I" } : Jvm.MethodName)) ∈ lw_all := lw_g (lw_at lw_m5 60 rfl) rfl
theorem q1159 : (Jvm.Cond.code ({ cls := "SaidSo", name := "left", desc := "(I)I" } : Jvm.MethodName) prog_1_method_40_code (5 : Nat) (Option.some Jvm.ClassFile.FieldType.int)) ∈ lw_all := lw_g (lw_at lw_m5 61 rfl) rfl
theorem q1160 : (Jvm.Cond.methodLink "SaidSo" (314 : Nat) ({ cls := "SaidSo", name := "hasPage", desc := "(III)Z" } : Jvm.MethodName)) ∈ lw_all := lw_g (lw_at lw_m5 62 rfl) rfl
theorem q1161 : (Jvm.Cond.privateMethod ({ cls := "SaidSo", name := "hasPage", desc := "(III)Z" } : Jvm.MethodName)) ∈ lw_tbl := lw_at lw_m5 63 rfl
theorem q1162 : (Jvm.Cond.instanceMethod ({ cls := "SaidSo", name := "hasPage", desc := "(III)Z" } : Jvm.MethodName)) ∈ lw_all := lw_g (lw_at lw_m5 64 rfl) rfl
theorem q1163 : (Jvm.Cond.code ({ cls := "SaidSo", name := "hasPage", desc := "(III)Z" } : Jvm.MethodName) prog_1_method_39_code (6 : Nat) (Option.some Jvm.ClassFile.FieldType.boolean)) ∈ lw_all := lw_g (lw_at lw_m5 65 rfl) rfl
theorem q1165 : (Jvm.Cond.instanceMethod ({ cls := "SaidSo", name := "moved", desc := "(I)I" } : Jvm.MethodName)) ∈ lw_all := lw_g (lw_at lw_m5 67 rfl) rfl
theorem q1166 : (Jvm.Cond.selects "SaidSo" ({ cls := "SaidSo", name := "moved", desc := "(I)I" } : Jvm.MethodName) ({ cls := "SaidSo", name := "moved", desc := "(I)I" } : Jvm.MethodName)) ∈ lw_all := lw_g (lw_at lw_m5 68 rfl) rfl
theorem q1167 : (Jvm.Cond.code ({ cls := "SaidSo", name := "moved", desc := "(I)I" } : Jvm.MethodName) prog_1_method_41_code (7 : Nat) (Option.some Jvm.ClassFile.FieldType.int)) ∈ lw_all := lw_g (lw_at lw_m5 69 rfl) rfl
theorem q1168 : (Jvm.Cond.methodLink "SaidSo" (317 : Nat) ({ cls := "java/lang/Math", name := "max", desc := "(II)I" } : Jvm.MethodName)) ∈ lw_all := lw_g (lw_at lw_m5 70 rfl) rfl
theorem q1170 : (Jvm.Cond.instanceMethod ({ cls := "SaidSo", name := "story", desc := "(II)I" } : Jvm.MethodName)) ∈ lw_all := lw_g (lw_at lw_m5 72 rfl) rfl
theorem q1171 : (Jvm.Cond.selects "SaidSo" ({ cls := "SaidSo", name := "story", desc := "(II)I" } : Jvm.MethodName) ({ cls := "SaidSo", name := "story", desc := "(II)I" } : Jvm.MethodName)) ∈ lw_all := lw_g (lw_at lw_m5 73 rfl) rfl
theorem q1172 : (Jvm.Cond.code ({ cls := "SaidSo", name := "story", desc := "(II)I" } : Jvm.MethodName) prog_1_method_43_code (3 : Nat) (Option.some Jvm.ClassFile.FieldType.int)) ∈ lw_all := lw_g (lw_at lw_m5 74 rfl) rfl
theorem q1173 : (Jvm.Cond.methodLink "SaidSo" (323 : Nat) ({ cls := "SaidSo", name := "storyOf", desc := "(II)I" } : Jvm.MethodName)) ∈ lw_all := lw_g (lw_at lw_m5 75 rfl) rfl
theorem q1174 : (Jvm.Cond.privateMethod ({ cls := "SaidSo", name := "storyOf", desc := "(II)I" } : Jvm.MethodName)) ∈ lw_tbl := lw_at lw_m5 76 rfl
theorem q1175 : (Jvm.Cond.instanceMethod ({ cls := "SaidSo", name := "storyOf", desc := "(II)I" } : Jvm.MethodName)) ∈ lw_all := lw_g (lw_at lw_m5 77 rfl) rfl
theorem q1176 : (Jvm.Cond.code ({ cls := "SaidSo", name := "storyOf", desc := "(II)I" } : Jvm.MethodName) prog_1_method_42_code (4 : Nat) (Option.some Jvm.ClassFile.FieldType.int)) ∈ lw_all := lw_g (lw_at lw_m5 78 rfl) rfl
theorem q1178 : (Jvm.Cond.instanceMethod ({ cls := "SaidSo", name := "clash", desc := "(II)I" } : Jvm.MethodName)) ∈ lw_all := lw_g (lw_at lw_m5 80 rfl) rfl
theorem q1179 : (Jvm.Cond.selects "SaidSo" ({ cls := "SaidSo", name := "clash", desc := "(II)I" } : Jvm.MethodName) ({ cls := "SaidSo", name := "clash", desc := "(II)I" } : Jvm.MethodName)) ∈ lw_all := lw_g (lw_at lw_m5 81 rfl) rfl
theorem q1180 : (Jvm.Cond.code ({ cls := "SaidSo", name := "clash", desc := "(II)I" } : Jvm.MethodName) prog_1_method_45_code (3 : Nat) (Option.some Jvm.ClassFile.FieldType.int)) ∈ lw_all := lw_g (lw_at lw_m5 82 rfl) rfl
theorem q1181 : (Jvm.Cond.methodLink "SaidSo" (326 : Nat) ({ cls := "SaidSo", name := "clashes", desc := "(II)I" } : Jvm.MethodName)) ∈ lw_all := lw_g (lw_at lw_m5 83 rfl) rfl
theorem q1182 : (Jvm.Cond.privateMethod ({ cls := "SaidSo", name := "clashes", desc := "(II)I" } : Jvm.MethodName)) ∈ lw_tbl := lw_at lw_m5 84 rfl
theorem q1183 : (Jvm.Cond.instanceMethod ({ cls := "SaidSo", name := "clashes", desc := "(II)I" } : Jvm.MethodName)) ∈ lw_all := lw_g (lw_at lw_m5 85 rfl) rfl
theorem q1184 : (Jvm.Cond.code ({ cls := "SaidSo", name := "clashes", desc := "(II)I" } : Jvm.MethodName) prog_1_method_44_code (5 : Nat) (Option.some Jvm.ClassFile.FieldType.int)) ∈ lw_all := lw_g (lw_at lw_m5 86 rfl) rfl
theorem q1186 : (Jvm.Cond.instanceMethod ({ cls := "SaidSo", name := "together", desc := "()I" } : Jvm.MethodName)) ∈ lw_all := lw_g (lw_at lw_m5 88 rfl) rfl
theorem q1187 : (Jvm.Cond.selects "SaidSo" ({ cls := "SaidSo", name := "together", desc := "()I" } : Jvm.MethodName) ({ cls := "SaidSo", name := "together", desc := "()I" } : Jvm.MethodName)) ∈ lw_all := lw_g (lw_at lw_m5 89 rfl) rfl
theorem q1188 : (Jvm.Cond.code ({ cls := "SaidSo", name := "together", desc := "()I" } : Jvm.MethodName) prog_1_method_46_code (6 : Nat) (Option.some Jvm.ClassFile.FieldType.int)) ∈ lw_all := lw_g (lw_at lw_m5 90 rfl) rfl
theorem q1189 : (Jvm.Cond.methodLink "SaidSo" (329 : Nat) ({ cls := "java/lang/Integer", name := "bitCount", desc := "(I)I" } : Jvm.MethodName)) ∈ lw_all := lw_g (lw_at lw_m5 91 rfl) rfl
theorem q1196 : (Jvm.Cond.instanceMethod ({ cls := "SaidSo", name := "lies", desc := "(I)I" } : Jvm.MethodName)) ∈ lw_all := lw_g (lw_at lw_m5 98 rfl) rfl
theorem q1197 : (Jvm.Cond.selects "SaidSo" ({ cls := "SaidSo", name := "lies", desc := "(I)I" } : Jvm.MethodName) ({ cls := "SaidSo", name := "lies", desc := "(I)I" } : Jvm.MethodName)) ∈ lw_all := lw_g (lw_at lw_m5 99 rfl) rfl
theorem q1198 : (Jvm.Cond.code ({ cls := "SaidSo", name := "lies", desc := "(I)I" } : Jvm.MethodName) prog_1_method_47_code (9 : Nat) (Option.some Jvm.ClassFile.FieldType.int)) ∈ lw_all := lw_g (lw_at lw_m5 100 rfl) rfl
theorem q1200 : (Jvm.Cond.instanceMethod ({ cls := "SaidSo", name := "supposed", desc := "(I)I" } : Jvm.MethodName)) ∈ lw_all := lw_g (lw_at lw_m5 102 rfl) rfl
theorem q1201 : (Jvm.Cond.selects "SaidSo" ({ cls := "SaidSo", name := "supposed", desc := "(I)I" } : Jvm.MethodName) ({ cls := "SaidSo", name := "supposed", desc := "(I)I" } : Jvm.MethodName)) ∈ lw_all := lw_g (lw_at lw_m5 103 rfl) rfl
theorem q1202 : (Jvm.Cond.code ({ cls := "SaidSo", name := "supposed", desc := "(I)I" } : Jvm.MethodName) prog_1_method_48_code (7 : Nat) (Option.some Jvm.ClassFile.FieldType.int)) ∈ lw_all := lw_g (lw_at lw_m5 104 rfl) rfl
theorem q1203 : (Jvm.Cond.methodLink "SaidSo" (335 : Nat) ({ cls := "SaidSo$Thing", name := "isPolice", desc := "(I)Z" } : Jvm.MethodName)) ∈ lw_all := lw_g (lw_at lw_m5 105 rfl) rfl
theorem q1205 : (Jvm.Cond.instanceMethod ({ cls := "SaidSo", name := "law", desc := "(I)I" } : Jvm.MethodName)) ∈ lw_all := lw_g (lw_at lw_m5 107 rfl) rfl
theorem q1206 : (Jvm.Cond.selects "SaidSo" ({ cls := "SaidSo", name := "law", desc := "(I)I" } : Jvm.MethodName) ({ cls := "SaidSo", name := "law", desc := "(I)I" } : Jvm.MethodName)) ∈ lw_all := lw_g (lw_at lw_m5 108 rfl) rfl
theorem q1207 : (Jvm.Cond.code ({ cls := "SaidSo", name := "law", desc := "(I)I" } : Jvm.MethodName) prog_1_method_52_code (2 : Nat) (Option.some Jvm.ClassFile.FieldType.int)) ∈ lw_all := lw_g (lw_at lw_m5 109 rfl) rfl
theorem q1208 : (Jvm.Cond.methodLink "SaidSo" (368 : Nat) ({ cls := "SaidSo", name := "lawAt", desc := "(I)I" } : Jvm.MethodName)) ∈ lw_all := lw_g (lw_at lw_m5 110 rfl) rfl
theorem q1209 : (Jvm.Cond.privateMethod ({ cls := "SaidSo", name := "lawAt", desc := "(I)I" } : Jvm.MethodName)) ∈ lw_tbl := lw_at lw_m5 111 rfl
theorem q1210 : (Jvm.Cond.instanceMethod ({ cls := "SaidSo", name := "lawAt", desc := "(I)I" } : Jvm.MethodName)) ∈ lw_all := lw_g (lw_at lw_m5 112 rfl) rfl
theorem q1211 : (Jvm.Cond.codeWith ({ cls := "SaidSo", name := "lawAt", desc := "(I)I" } : Jvm.MethodName) prog_1_method_51_code (4 : Nat) (Option.some Jvm.ClassFile.FieldType.int) [((85 : Nat), (112 : Nat), (113 : Nat), (366 : Nat))]) ∈ lw_all := lw_g (lw_at lw_m5 113 rfl) rfl
theorem q1212 : (Jvm.Cond.classLink "SaidSo" (366 : Nat) "SaidSo$Trouble") ∈ lw_all := lw_g (lw_at lw_m5 114 rfl) rfl
theorem q1213 : (Jvm.Cond.methodLink "SaidSo" (342 : Nat) ({ cls := "SaidSo", name := "nothing", desc := "(LSaidSo$Teller;)V" } : Jvm.MethodName)) ∈ lw_all := lw_g (lw_at lw_m5 115 rfl) rfl
theorem q1214 : (Jvm.Cond.privateMethod ({ cls := "SaidSo", name := "nothing", desc := "(LSaidSo$Teller;)V" } : Jvm.MethodName)) ∈ lw_tbl := lw_at lw_m5 116 rfl
theorem q1215 : (Jvm.Cond.instanceMethod ({ cls := "SaidSo", name := "nothing", desc := "(LSaidSo$Teller;)V" } : Jvm.MethodName)) ∈ lw_all := lw_g (lw_at lw_m5 117 rfl) rfl
theorem q1216 : (Jvm.Cond.code ({ cls := "SaidSo", name := "nothing", desc := "(LSaidSo$Teller;)V" } : Jvm.MethodName) prog_1_method_49_code (3 : Nat) (Option.none : Option Jvm.ClassFile.FieldType)) ∈ lw_all := lw_g (lw_at lw_m5 118 rfl) rfl
theorem q1217 : (Jvm.Cond.methodLink "SaidSo" (346 : Nat) ({ cls := "SaidSo$Teller", name := "off", desc := "(I)I" } : Jvm.MethodName)) ∈ lw_all := lw_g (lw_at lw_m5 119 rfl) rfl
theorem q1223 : (Jvm.Cond.methodLink "SaidSo" (349 : Nat) ({ cls := "SaidSo", name := "countAsks", desc := "(IIZ)V" } : Jvm.MethodName)) ∈ lw_all := lw_g (lw_at lw_m5 125 rfl) rfl
theorem q1224 : (Jvm.Cond.privateMethod ({ cls := "SaidSo", name := "countAsks", desc := "(IIZ)V" } : Jvm.MethodName)) ∈ lw_tbl := lw_at lw_m5 126 rfl
theorem q1225 : (Jvm.Cond.instanceMethod ({ cls := "SaidSo", name := "countAsks", desc := "(IIZ)V" } : Jvm.MethodName)) ∈ lw_all := lw_g (lw_at lw_m5 127 rfl) rfl
theorem q1226 : (Jvm.Cond.code ({ cls := "SaidSo", name := "countAsks", desc := "(IIZ)V" } : Jvm.MethodName) prog_1_method_50_code (6 : Nat) (Option.none : Option Jvm.ClassFile.FieldType)) ∈ lw_all := lw_g (lw_at lw_m5 128 rfl) rfl
theorem q1227 : (Jvm.Cond.constantLong "SaidSo" (353 : Nat) (100 : Int64)) ∈ lw_all := lw_g (lw_at lw_m5 129 rfl) rfl
theorem q1228 : (Jvm.Cond.methodLink "SaidSo" (355 : Nat) ({ cls := "SaidSo$Part", name := "of", desc := "([J)J" } : Jvm.MethodName)) ∈ lw_all := lw_g (lw_at lw_m5 130 rfl) rfl
theorem q1244 : (Jvm.Cond.static ({ cls := "SaidSo", name := "sure", desc := "(J)J" } : Jvm.MethodName)) ∈ lw_all := lw_g (lw_at lw_m5 146 rfl) rfl
theorem q1245 : (Jvm.Cond.code ({ cls := "SaidSo", name := "sure", desc := "(J)J" } : Jvm.MethodName) prog_1_method_2_code (2 : Nat) (Option.some Jvm.ClassFile.FieldType.long)) ∈ lw_all := lw_g (lw_at lw_m5 147 rfl) rfl
theorem q1246 : (Jvm.Cond.constantLong "SaidSo" (3 : Nat) (1000000000000 : Int64)) ∈ lw_all := lw_g (lw_at lw_m5 148 rfl) rfl
theorem q1247 : (Jvm.Cond.constantLong "SaidSo" (5 : Nat) (-1000000000000 : Int64)) ∈ lw_all := lw_g (lw_at lw_m5 149 rfl) rfl
theorem q1248 : (Jvm.Cond.fieldLink "SaidSo" (7 : Nat) "SaidSo" "TROUBLE" "LSaidSo$Trouble;") ∈ lw_all := lw_g (lw_at lw_m5 150 rfl) rfl
theorem q1249 : (Jvm.Cond.laysStatic "SaidSo" "TROUBLE" "LSaidSo$Trouble;") ∈ lw_tbl := lw_at lw_m5 151 rfl
theorem q1263 : (Jvm.Cond.methodLink "SaidSo" (361 : Nat) ({ cls := "java/lang/Math", name := "min", desc := "(JJ)J" } : Jvm.MethodName)) ∈ lw_all := lw_g (lw_at lw_m5 165 rfl) rfl
theorem q1266 : (Jvm.Cond.methodLink "SaidSo" (364 : Nat) ({ cls := "java/lang/Math", name := "max", desc := "(JJ)J" } : Jvm.MethodName)) ∈ lw_all := lw_g (lw_at lw_m5 168 rfl) rfl
theorem q1270 : (Jvm.Cond.instanceMethod ({ cls := "SaidSo", name := "draws", desc := "(III)I" } : Jvm.MethodName)) ∈ lw_all := lw_g (lw_at lw_m5 172 rfl) rfl
theorem q1271 : (Jvm.Cond.selects "SaidSo" ({ cls := "SaidSo", name := "draws", desc := "(III)I" } : Jvm.MethodName) ({ cls := "SaidSo", name := "draws", desc := "(III)I" } : Jvm.MethodName)) ∈ lw_all := lw_g (lw_at lw_m5 173 rfl) rfl
theorem q1272 : (Jvm.Cond.code ({ cls := "SaidSo", name := "draws", desc := "(III)I" } : Jvm.MethodName) prog_1_method_55_code (12 : Nat) (Option.some Jvm.ClassFile.FieldType.int)) ∈ lw_all := lw_g (lw_at lw_m5 174 rfl) rfl
theorem q1273 : (Jvm.Cond.methodLink "SaidSo" (376 : Nat) ({ cls := "SaidSo", name := "putAhead", desc := "(I)I" } : Jvm.MethodName)) ∈ lw_all := lw_g (lw_at lw_m5 175 rfl) rfl
theorem q1274 : (Jvm.Cond.privateMethod ({ cls := "SaidSo", name := "putAhead", desc := "(I)I" } : Jvm.MethodName)) ∈ lw_tbl := lw_at lw_m5 176 rfl
theorem q1275 : (Jvm.Cond.instanceMethod ({ cls := "SaidSo", name := "putAhead", desc := "(I)I" } : Jvm.MethodName)) ∈ lw_all := lw_g (lw_at lw_m5 177 rfl) rfl
theorem q1276 : (Jvm.Cond.code ({ cls := "SaidSo", name := "putAhead", desc := "(I)I" } : Jvm.MethodName) prog_1_method_54_code (5 : Nat) (Option.some Jvm.ClassFile.FieldType.int)) ∈ lw_all := lw_g (lw_at lw_m5 178 rfl) rfl
theorem q1277 : (Jvm.Cond.methodLink "SaidSo" (379 : Nat) ({ cls := "SaidSo", name := "next", desc := "(I)I" } : Jvm.MethodName)) ∈ lw_all := lw_g (lw_at lw_m5 179 rfl) rfl
theorem q1278 : (Jvm.Cond.privateMethod ({ cls := "SaidSo", name := "next", desc := "(I)I" } : Jvm.MethodName)) ∈ lw_tbl := lw_at lw_m5 180 rfl
theorem q1279 : (Jvm.Cond.instanceMethod ({ cls := "SaidSo", name := "next", desc := "(I)I" } : Jvm.MethodName)) ∈ lw_all := lw_g (lw_at lw_m5 181 rfl) rfl
theorem q1280 : (Jvm.Cond.code ({ cls := "SaidSo", name := "next", desc := "(I)I" } : Jvm.MethodName) prog_1_method_53_code (2 : Nat) (Option.some Jvm.ClassFile.FieldType.int)) ∈ lw_all := lw_g (lw_at lw_m5 182 rfl) rfl
theorem q1281 : (Jvm.Cond.constant "SaidSo" (374 : Nat) (1103515245 : Int32)) ∈ lw_all := lw_g (lw_at lw_m5 183 rfl) rfl
theorem q1282 : (Jvm.Cond.constant "SaidSo" (375 : Nat) (2147483647 : Int32)) ∈ lw_all := lw_g (lw_at lw_m5 184 rfl) rfl
theorem q1284 : (Jvm.Cond.instanceMethod ({ cls := "SaidSo", name := "barred", desc := "(I)I" } : Jvm.MethodName)) ∈ lw_all := lw_g (lw_at lw_m5 186 rfl) rfl
theorem q1285 : (Jvm.Cond.selects "SaidSo" ({ cls := "SaidSo", name := "barred", desc := "(I)I" } : Jvm.MethodName) ({ cls := "SaidSo", name := "barred", desc := "(I)I" } : Jvm.MethodName)) ∈ lw_all := lw_g (lw_at lw_m5 187 rfl) rfl
theorem q1286 : (Jvm.Cond.code ({ cls := "SaidSo", name := "barred", desc := "(I)I" } : Jvm.MethodName) prog_1_method_62_code (2 : Nat) (Option.some Jvm.ClassFile.FieldType.int)) ∈ lw_all := lw_g (lw_at lw_m5 188 rfl) rfl
theorem q1287 : (Jvm.Cond.methodLink "SaidSo" (395 : Nat) ({ cls := "SaidSo", name := "isBarred", desc := "(I)Z" } : Jvm.MethodName)) ∈ lw_all := lw_g (lw_at lw_m5 189 rfl) rfl
theorem q1288 : (Jvm.Cond.privateMethod ({ cls := "SaidSo", name := "isBarred", desc := "(I)Z" } : Jvm.MethodName)) ∈ lw_tbl := lw_at lw_m5 190 rfl
theorem q1289 : (Jvm.Cond.instanceMethod ({ cls := "SaidSo", name := "isBarred", desc := "(I)Z" } : Jvm.MethodName)) ∈ lw_all := lw_g (lw_at lw_m5 191 rfl) rfl
theorem q1290 : (Jvm.Cond.code ({ cls := "SaidSo", name := "isBarred", desc := "(I)Z" } : Jvm.MethodName) prog_1_method_60_code (2 : Nat) (Option.some Jvm.ClassFile.FieldType.boolean)) ∈ lw_all := lw_g (lw_at lw_m5 192 rfl) rfl
theorem q1291 : (Jvm.Cond.methodLink "SaidSo" (386 : Nat) ({ cls := "SaidSo", name := "hearTalk", desc := "(IZ)V" } : Jvm.MethodName)) ∈ lw_all := lw_g (lw_at lw_m5 193 rfl) rfl
theorem q1292 : (Jvm.Cond.privateMethod ({ cls := "SaidSo", name := "hearTalk", desc := "(IZ)V" } : Jvm.MethodName)) ∈ lw_tbl := lw_at lw_m5 194 rfl
theorem q1293 : (Jvm.Cond.instanceMethod ({ cls := "SaidSo", name := "hearTalk", desc := "(IZ)V" } : Jvm.MethodName)) ∈ lw_all := lw_g (lw_at lw_m5 195 rfl) rfl
theorem q1294 : (Jvm.Cond.code ({ cls := "SaidSo", name := "hearTalk", desc := "(IZ)V" } : Jvm.MethodName) prog_1_method_57_code (6 : Nat) (Option.none : Option Jvm.ClassFile.FieldType)) ∈ lw_all := lw_g (lw_at lw_m5 196 rfl) rfl
theorem q1295 : (Jvm.Cond.methodLink "SaidSo" (382 : Nat) ({ cls := "SaidSo", name := "countWords", desc := "(IZ)V" } : Jvm.MethodName)) ∈ lw_all := lw_g (lw_at lw_m5 197 rfl) rfl
theorem q1296 : (Jvm.Cond.privateMethod ({ cls := "SaidSo", name := "countWords", desc := "(IZ)V" } : Jvm.MethodName)) ∈ lw_tbl := lw_at lw_m5 198 rfl
theorem q1297 : (Jvm.Cond.instanceMethod ({ cls := "SaidSo", name := "countWords", desc := "(IZ)V" } : Jvm.MethodName)) ∈ lw_all := lw_g (lw_at lw_m5 199 rfl) rfl
theorem q1298 : (Jvm.Cond.code ({ cls := "SaidSo", name := "countWords", desc := "(IZ)V" } : Jvm.MethodName) prog_1_method_56_code (5 : Nat) (Option.none : Option Jvm.ClassFile.FieldType)) ∈ lw_all := lw_g (lw_at lw_m5 200 rfl) rfl
theorem q1299 : (Jvm.Cond.methodLink "SaidSo" (389 : Nat) ({ cls := "SaidSo", name := "holds", desc := "(I)Z" } : Jvm.MethodName)) ∈ lw_all := lw_g (lw_at lw_m5 201 rfl) rfl
theorem q1300 : (Jvm.Cond.privateMethod ({ cls := "SaidSo", name := "holds", desc := "(I)Z" } : Jvm.MethodName)) ∈ lw_tbl := lw_at lw_m5 202 rfl
theorem q1301 : (Jvm.Cond.instanceMethod ({ cls := "SaidSo", name := "holds", desc := "(I)Z" } : Jvm.MethodName)) ∈ lw_all := lw_g (lw_at lw_m5 203 rfl) rfl
theorem q1302 : (Jvm.Cond.codeWith ({ cls := "SaidSo", name := "holds", desc := "(I)Z" } : Jvm.MethodName) prog_1_method_59_code (3 : Nat) (Option.some Jvm.ClassFile.FieldType.boolean) [((14 : Nat), (40 : Nat), (41 : Nat), (366 : Nat))]) ∈ lw_all := lw_g (lw_at lw_m5 204 rfl) rfl
theorem q1304 : (Jvm.Cond.instanceMethod ({ cls := "SaidSo", name := "jury", desc := "(II)I" } : Jvm.MethodName)) ∈ lw_all := lw_g (lw_at lw_m5 206 rfl) rfl
theorem q1305 : (Jvm.Cond.selects "SaidSo" ({ cls := "SaidSo", name := "jury", desc := "(II)I" } : Jvm.MethodName) ({ cls := "SaidSo", name := "jury", desc := "(II)I" } : Jvm.MethodName)) ∈ lw_all := lw_g (lw_at lw_m5 207 rfl) rfl
theorem q1306 : (Jvm.Cond.code ({ cls := "SaidSo", name := "jury", desc := "(II)I" } : Jvm.MethodName) prog_1_method_63_code (3 : Nat) (Option.some Jvm.ClassFile.FieldType.int)) ∈ lw_all := lw_g (lw_at lw_m5 208 rfl) rfl
theorem q1307 : (Jvm.Cond.methodLink "SaidSo" (398 : Nat) ({ cls := "SaidSo", name := "finds", desc := "(II)Z" } : Jvm.MethodName)) ∈ lw_all := lw_g (lw_at lw_m5 209 rfl) rfl
theorem q1308 : (Jvm.Cond.privateMethod ({ cls := "SaidSo", name := "finds", desc := "(II)Z" } : Jvm.MethodName)) ∈ lw_tbl := lw_at lw_m5 210 rfl
theorem q1309 : (Jvm.Cond.instanceMethod ({ cls := "SaidSo", name := "finds", desc := "(II)Z" } : Jvm.MethodName)) ∈ lw_all := lw_g (lw_at lw_m5 211 rfl) rfl
theorem q1310 : (Jvm.Cond.code ({ cls := "SaidSo", name := "finds", desc := "(II)Z" } : Jvm.MethodName) prog_1_method_61_code (3 : Nat) (Option.some Jvm.ClassFile.FieldType.boolean)) ∈ lw_all := lw_g (lw_at lw_m5 212 rfl) rfl
theorem q1311 : (Jvm.Cond.methodLink "SaidSo" (392 : Nat) ({ cls := "SaidSo", name := "hearPage", desc := "(I)V" } : Jvm.MethodName)) ∈ lw_all := lw_g (lw_at lw_m5 213 rfl) rfl
theorem q1312 : (Jvm.Cond.privateMethod ({ cls := "SaidSo", name := "hearPage", desc := "(I)V" } : Jvm.MethodName)) ∈ lw_tbl := lw_at lw_m5 214 rfl
theorem q1313 : (Jvm.Cond.instanceMethod ({ cls := "SaidSo", name := "hearPage", desc := "(I)V" } : Jvm.MethodName)) ∈ lw_all := lw_g (lw_at lw_m5 215 rfl) rfl
theorem q1314 : (Jvm.Cond.code ({ cls := "SaidSo", name := "hearPage", desc := "(I)V" } : Jvm.MethodName) prog_1_method_58_code (4 : Nat) (Option.none : Option Jvm.ClassFile.FieldType)) ∈ lw_all := lw_g (lw_at lw_m5 216 rfl) rfl
theorem q1316 : (Jvm.Cond.instanceMethod ({ cls := "SaidSo", name := "there", desc := "(I)I" } : Jvm.MethodName)) ∈ lw_all := lw_g (lw_at lw_m5 218 rfl) rfl
theorem q1317 : (Jvm.Cond.selects "SaidSo" ({ cls := "SaidSo", name := "there", desc := "(I)I" } : Jvm.MethodName) ({ cls := "SaidSo", name := "there", desc := "(I)I" } : Jvm.MethodName)) ∈ lw_all := lw_g (lw_at lw_m5 219 rfl) rfl
theorem q1318 : (Jvm.Cond.code ({ cls := "SaidSo", name := "there", desc := "(I)I" } : Jvm.MethodName) prog_1_method_64_code (2 : Nat) (Option.some Jvm.ClassFile.FieldType.int)) ∈ lw_all := lw_g (lw_at lw_m5 220 rfl) rfl
theorem q1320 : (Jvm.Cond.instanceMethod ({ cls := "SaidSo", name := "found", desc := "(II)I" } : Jvm.MethodName)) ∈ lw_all := lw_g (lw_at lw_m5 222 rfl) rfl
theorem q1321 : (Jvm.Cond.selects "SaidSo" ({ cls := "SaidSo", name := "found", desc := "(II)I" } : Jvm.MethodName) ({ cls := "SaidSo", name := "found", desc := "(II)I" } : Jvm.MethodName)) ∈ lw_all := lw_g (lw_at lw_m5 223 rfl) rfl
theorem q1322 : (Jvm.Cond.code ({ cls := "SaidSo", name := "found", desc := "(II)I" } : Jvm.MethodName) prog_1_method_65_code (5 : Nat) (Option.some Jvm.ClassFile.FieldType.int)) ∈ lw_all := lw_g (lw_at lw_m5 224 rfl) rfl
theorem q1363 : (Jvm.Cond.instanceMethod ({ cls := "SaidSo", name := "look", desc := "(II)I" } : Jvm.MethodName)) ∈ lw_all := lw_g (lw_at lw_m6 25 rfl) rfl
theorem q1364 : (Jvm.Cond.selects "SaidSo" ({ cls := "SaidSo", name := "look", desc := "(II)I" } : Jvm.MethodName) ({ cls := "SaidSo", name := "look", desc := "(II)I" } : Jvm.MethodName)) ∈ lw_all := lw_g (lw_at lw_m6 26 rfl) rfl
theorem q1365 : (Jvm.Cond.code ({ cls := "SaidSo", name := "look", desc := "(II)I" } : Jvm.MethodName) prog_1_method_11_code (4 : Nat) (Option.some Jvm.ClassFile.FieldType.int)) ∈ lw_all := lw_g (lw_at lw_m6 27 rfl) rfl
theorem q1366 : (Jvm.Cond.classLink "SaidSo" (132 : Nat) "java/lang/IndexOutOfBoundsException") ∈ lw_all := lw_g (lw_at lw_m6 28 rfl) rfl
theorem q1375 : (Jvm.Cond.methodLink "SaidSo" (134 : Nat) ({ cls := "java/lang/IndexOutOfBoundsException", name := "<init>", desc := "()V" } : Jvm.MethodName)) ∈ lw_all := lw_g (lw_at lw_m6 37 rfl) rfl
theorem q1387 : (Jvm.Cond.classLink "SaidSo" (153 : Nat) "java/util/NoSuchElementException") ∈ lw_all := lw_g (lw_at lw_m6 49 rfl) rfl
theorem q1396 : (Jvm.Cond.methodLink "SaidSo" (155 : Nat) ({ cls := "java/util/NoSuchElementException", name := "<init>", desc := "()V" } : Jvm.MethodName)) ∈ lw_all := lw_g (lw_at lw_m6 58 rfl) rfl
theorem q2078 : (Jvm.Cond.castable "SaidSo" "java/lang/Object") ∈ lw_tbl := lw_at lw_m9 20 rfl
theorem q2114 : (Jvm.Cond.stringRef "SaidSo" (408 : Nat) "thing") ∈ lw_tbl := lw_at lw_m9 56 rfl
theorem q2115 : (Jvm.Cond.stringRef "SaidSo" (409 : Nat) "teller") ∈ lw_tbl := lw_at lw_m9 57 rfl
theorem q2116 : (Jvm.Cond.stringRef "SaidSo" (410 : Nat) "ask") ∈ lw_tbl := lw_at lw_m9 58 rfl
theorem q2117 : (Jvm.Cond.stringRef "SaidSo" (412 : Nat) "say") ∈ lw_tbl := lw_at lw_m9 59 rfl
theorem q2118 : (Jvm.Cond.stringRef "SaidSo" (414 : Nat) "page") ∈ lw_tbl := lw_at lw_m9 60 rfl
theorem q2119 : (Jvm.Cond.stringRef "SaidSo" (416 : Nat) "law") ∈ lw_tbl := lw_at lw_m9 61 rfl
theorem q2120 : (Jvm.Cond.stringRef "SaidSo" (418 : Nat) "bar") ∈ lw_tbl := lw_at lw_m9 62 rfl
theorem q2121 : (Jvm.Cond.stringRef "SaidSo" (420 : Nat) "jury") ∈ lw_tbl := lw_at lw_m9 63 rfl
theorem q2122 : (Jvm.Cond.stringRef "SaidSo" (422 : Nat) "is") ∈ lw_tbl := lw_at lw_m9 64 rfl
theorem q2123 : (Jvm.Cond.stringRef "SaidSo" (423 : Nat) "paper") ∈ lw_tbl := lw_at lw_m9 65 rfl
theorem q2124 : (Jvm.Cond.stringRef "SaidSo" (424 : Nat) "police") ∈ lw_tbl := lw_at lw_m9 66 rfl
theorem q2125 : (Jvm.Cond.stringRef "SaidSo" (425 : Nat) "begins") ∈ lw_tbl := lw_at lw_m9 67 rfl
theorem q2126 : (Jvm.Cond.stringRef "SaidSo" (426 : Nat) "ends") ∈ lw_tbl := lw_at lw_m9 68 rfl
theorem q2127 : (Jvm.Cond.stringRef "SaidSo" (427 : Nat) "tape") ∈ lw_tbl := lw_at lw_m9 69 rfl
theorem q2128 : (Jvm.Cond.stringRef "SaidSo" (428 : Nat) "or") ∈ lw_tbl := lw_at lw_m9 70 rfl
theorem q2129 : (Jvm.Cond.stringRef "SaidSo" (430 : Nat) "and") ∈ lw_tbl := lw_at lw_m9 71 rfl
theorem q2130 : (Jvm.Cond.stringRef "SaidSo" (432 : Nat) "not") ∈ lw_tbl := lw_at lw_m9 72 rfl
theorem q2131 : (Jvm.Cond.stringRef "SaidSo" (434 : Nat) "age") ∈ lw_tbl := lw_at lw_m9 73 rfl
theorem q2132 : (Jvm.Cond.stringRef "SaidSo" (435 : Nat) "hours") ∈ lw_tbl := lw_at lw_m9 74 rfl
theorem q2133 : (Jvm.Cond.stringRef "SaidSo" (437 : Nat) "off") ∈ lw_tbl := lw_at lw_m9 75 rfl
theorem q2134 : (Jvm.Cond.stringRef "SaidSo" (438 : Nat) "asks") ∈ lw_tbl := lw_at lw_m9 76 rfl
theorem q2135 : (Jvm.Cond.stringRef "SaidSo" (440 : Nat) "led") ∈ lw_tbl := lw_at lw_m9 77 rfl
theorem q2136 : (Jvm.Cond.stringRef "SaidSo" (442 : Nat) "right") ∈ lw_tbl := lw_at lw_m9 78 rfl
theorem q2137 : (Jvm.Cond.stringRef "SaidSo" (444 : Nat) "wrong") ∈ lw_tbl := lw_at lw_m9 79 rfl
theorem q2138 : (Jvm.Cond.stringRef "SaidSo" (446 : Nat) "new") ∈ lw_tbl := lw_at lw_m9 80 rfl
theorem q2139 : (Jvm.Cond.stringRef "SaidSo" (448 : Nat) "put") ∈ lw_tbl := lw_at lw_m9 81 rfl
theorem q2140 : (Jvm.Cond.stringRef "SaidSo" (449 : Nat) "lines") ∈ lw_tbl := lw_at lw_m9 82 rfl
theorem in_X1 : ∀ w ∈ wsX10, w ∈ lw_all := lw_in wsX10 [309, 311, 313, 315, 317, 319, 321, 323, 325, 327, 329, 331, 333, 335, 337, 339, 341, 343, 345, 347, 349] (by decide +kernel) (by decide +kernel)

/-! SaidSo$Reader -/
set_option maxRecDepth 100000
def RX2 : String := "SaidSo$Reader"
def TX2 : u_T := fun k => match k with
  | 0 => ("SaidSo$Reader", "at", "I", false)
  | 1 => ("SaidSo$Reader", "size", "I", false)
  | 2 => ("SaidSo$Reader", "place", "I", false)
  | 3 => ("SaidSo$Reader", "sort", "I", false)
  | 4 => ("SaidSo$Reader", "value", "I", false)
  | 5 => ("SaidSo$Reader", "open", "I", false)
  | 6 => ("SaidSo$Reader", "made", "LSaidSo$Case;", false)
  | _ => ("SaidSo$Reader", "this$0", "LSaidSo;", true)
def tyX2 : Nat → FieldType := fun k => match k with
  | 0 => .int
  | 1 => .int
  | 2 => .int
  | 3 => .int
  | 4 => .int
  | 5 => .int
  | 6 => .object "SaidSo$Case"
  | _ => .object "SaidSo"
abbrev wsX20 : List Cond := u_ws RX2 TX2 8
theorem nmX2 : ∀ a, a < 8 → ∀ b, b < 8 → a ≠ b → (TX2 a).2.1 ≠ (TX2 b).2.1 := by decide +kernel
theorem tyX2_ok : ∀ k, k < 8 → parseFieldDescriptor (TX2 k).2.2.1 = some (tyX2 k) := by decide +kernel
abbrev cX2_init : ByteArray := prog_11_method_1_code
def yX2_init : MethodName := ⟨RX2, "<init>", "(LSaidSo;)V"⟩
def dkwX2_init_0 : List UInt8 := [42, 43, 181, 0, 3, 42, 183, 0, 9, 177]
abbrev dktX2_init_0 : List UInt8 := dkwX2_init_0 ++ []
theorem dksX2_init_0 : cX2_init.data.toList.drop 0 = dktX2_init_0 := by decide +kernel
theorem dX2_init_0 : decode cX2_init 0 = .ok (.aload_n 0, 1) := dk_42 (dk_at dksX2_init_0 0 rfl rfl)
theorem dX2_init_1 : decode cX2_init 1 = .ok (.aload_n 1, 1) := dk_43 (dk_at dksX2_init_0 1 rfl rfl)
theorem dX2_init_2 : decode cX2_init 2 = .ok (.putfield 3, 3) := dk_181 0 3 (dk_at dksX2_init_0 2 rfl rfl)
theorem dX2_init_5 : decode cX2_init 5 = .ok (.aload_n 0, 1) := dk_42 (dk_at dksX2_init_0 5 rfl rfl)
theorem dX2_init_6 : decode cX2_init 6 = .ok (.invokespecial 9, 3) := dk_183 0 9 (dk_at dksX2_init_0 6 rfl rfl)
theorem dX2_init_9 : decode cX2_init 9 = .ok (.return_, 1) := dk_177 (dk_at dksX2_init_0 9 rfl rfl)
abbrev cX2_read : ByteArray := prog_11_method_12_code
def yX2_read : MethodName := ⟨RX2, "read", "(I)LSaidSo$Case;"⟩
def dkwX2_read_2 : List UInt8 := [180, 0, 93, 176]
abbrev dktX2_read_2 : List UInt8 := dkwX2_read_2 ++ []
def dkwX2_read_1 : List UInt8 := [181, 0, 93, 42, 182, 0, 84, 42, 180, 0, 33, 7, 159, 0, 10, 42, 182, 0, 97, 167, 255, 244, 42]
abbrev dktX2_read_1 : List UInt8 := dkwX2_read_1 ++ dktX2_read_2
def dkwX2_read_0 : List UInt8 := [42, 3, 181, 0, 15, 42, 27, 181, 0, 19, 42, 3, 181, 0, 87, 42, 187, 0, 90, 89, 183, 0, 92]
abbrev dktX2_read_0 : List UInt8 := dkwX2_read_0 ++ dktX2_read_1
theorem dksX2_read_0 : cX2_read.data.toList.drop 0 = dktX2_read_0 := by decide +kernel
theorem dksX2_read_1 : cX2_read.data.toList.drop 23 = dktX2_read_1 := dk_seg dksX2_read_0 23 rfl rfl
theorem dksX2_read_2 : cX2_read.data.toList.drop 46 = dktX2_read_2 := dk_seg dksX2_read_1 23 rfl rfl
theorem dX2_read_0 : decode cX2_read 0 = .ok (.aload_n 0, 1) := dk_42 (dk_at dksX2_read_0 0 rfl rfl)
theorem dX2_read_1 : decode cX2_read 1 = .ok (.iconst 0, 1) := dk_3 (dk_at dksX2_read_0 1 rfl rfl)
theorem dX2_read_2 : decode cX2_read 2 = .ok (.putfield 15, 3) := dk_181 0 15 (dk_at dksX2_read_0 2 rfl rfl)
theorem dX2_read_5 : decode cX2_read 5 = .ok (.aload_n 0, 1) := dk_42 (dk_at dksX2_read_0 5 rfl rfl)
theorem dX2_read_6 : decode cX2_read 6 = .ok (.iload_n 1, 1) := dk_27 (dk_at dksX2_read_0 6 rfl rfl)
theorem dX2_read_7 : decode cX2_read 7 = .ok (.putfield 19, 3) := dk_181 0 19 (dk_at dksX2_read_0 7 rfl rfl)
theorem dX2_read_10 : decode cX2_read 10 = .ok (.aload_n 0, 1) := dk_42 (dk_at dksX2_read_0 10 rfl rfl)
theorem dX2_read_11 : decode cX2_read 11 = .ok (.iconst 0, 1) := dk_3 (dk_at dksX2_read_0 11 rfl rfl)
theorem dX2_read_12 : decode cX2_read 12 = .ok (.putfield 87, 3) := dk_181 0 87 (dk_at dksX2_read_0 12 rfl rfl)
theorem dX2_read_15 : decode cX2_read 15 = .ok (.aload_n 0, 1) := dk_42 (dk_at dksX2_read_0 15 rfl rfl)
theorem dX2_read_16 : decode cX2_read 16 = .ok (.new 90, 3) := dk_187 0 90 (dk_at dksX2_read_0 16 rfl rfl)
theorem dX2_read_19 : decode cX2_read 19 = .ok (.dup, 1) := dk_89 (dk_at dksX2_read_0 19 rfl rfl)
theorem dX2_read_20 : decode cX2_read 20 = .ok (.invokespecial 92, 3) := dk_183 0 92 (dk_at dksX2_read_0 20 rfl rfl)
theorem dX2_read_23 : decode cX2_read 23 = .ok (.putfield 93, 3) := dk_181 0 93 (dk_at dksX2_read_1 0 rfl rfl)
theorem dX2_read_26 : decode cX2_read 26 = .ok (.aload_n 0, 1) := dk_42 (dk_at dksX2_read_1 3 rfl rfl)
theorem dX2_read_27 : decode cX2_read 27 = .ok (.invokevirtual 84, 3) := dk_182 0 84 (dk_at dksX2_read_1 4 rfl rfl)
theorem dX2_read_30 : decode cX2_read 30 = .ok (.aload_n 0, 1) := dk_42 (dk_at dksX2_read_1 7 rfl rfl)
theorem dX2_read_31 : decode cX2_read 31 = .ok (.getfield 33, 3) := dk_180 0 33 (dk_at dksX2_read_1 8 rfl rfl)
theorem dX2_read_34 : decode cX2_read 34 = .ok (.iconst 4, 1) := dk_7 (dk_at dksX2_read_1 11 rfl rfl)
theorem dX2_read_35 : decode cX2_read 35 = .ok (.if_icmp .eq 10, 3) := dk_159 0 10 (dk_at dksX2_read_1 12 rfl rfl)
theorem dX2_read_38 : decode cX2_read 38 = .ok (.aload_n 0, 1) := dk_42 (dk_at dksX2_read_1 15 rfl rfl)
theorem dX2_read_39 : decode cX2_read 39 = .ok (.invokevirtual 97, 3) := dk_182 0 97 (dk_at dksX2_read_1 16 rfl rfl)
theorem dX2_read_42 : decode cX2_read 42 = .ok (.goto (-12), 3) := dk_167 255 244 (dk_at dksX2_read_1 19 rfl rfl)
theorem dX2_read_45 : decode cX2_read 45 = .ok (.aload_n 0, 1) := dk_42 (dk_at dksX2_read_1 22 rfl rfl)
theorem dX2_read_46 : decode cX2_read 46 = .ok (.getfield 93, 3) := dk_180 0 93 (dk_at dksX2_read_2 0 rfl rfl)
theorem dX2_read_49 : decode cX2_read 49 = .ok (.areturn, 1) := dk_176 (dk_at dksX2_read_2 3 rfl rfl)
abbrev cX2_next : ByteArray := prog_11_method_3_code
def yX2_next : MethodName := ⟨RX2, "next", "()V"⟩
def dkwX2_next_10 : List UInt8 := [180, 0, 15, 4, 96, 181, 0, 15, 167, 255, 196, 42, 182, 0, 49, 177]
abbrev dktX2_next_10 : List UInt8 := dkwX2_next_10 ++ []
def dkwX2_next_9 : List UInt8 := [167, 0, 18, 16, 10, 42, 180, 0, 43, 104, 42, 182, 0, 26, 96, 16, 48, 100, 181, 0, 43, 42, 89]
abbrev dktX2_next_9 : List UInt8 := dkwX2_next_9 ++ dktX2_next_10
def dkwX2_next_8 : List UInt8 := [16, 57, 184, 0, 36, 153, 0, 56, 42, 42, 180, 0, 43, 17, 3, 231, 164, 0, 10, 42, 180, 0, 43]
abbrev dktX2_next_8 : List UInt8 := dkwX2_next_8 ++ dktX2_next_9
def dkwX2_next_7 : List UInt8 := [16, 57, 184, 0, 36, 153, 0, 76, 42, 5, 181, 0, 33, 42, 3, 181, 0, 43, 42, 182, 0, 26, 16, 48]
abbrev dktX2_next_7 : List UInt8 := dkwX2_next_7 ++ dktX2_next_8
def dkwX2_next_6 : List UInt8 := [181, 0, 33, 42, 180, 0, 33, 4, 160, 0, 101, 42, 182, 0, 46, 167, 0, 94, 42, 182, 0, 26, 16, 48]
abbrev dktX2_next_6 : List UInt8 := dkwX2_next_6 ++ dktX2_next_7
def dkwX2_next_5 : List UInt8 := [167, 0, 22, 42, 180, 0, 15, 42, 180, 0, 30, 100, 16, 6, 164, 0, 7, 8, 167, 0, 4, 4]
abbrev dktX2_next_5 : List UInt8 := dkwX2_next_5 ++ dktX2_next_6
def dkwX2_next_4 : List UInt8 := [181, 0, 15, 167, 255, 232, 42, 42, 182, 0, 40, 181, 0, 43, 42, 42, 180, 0, 43, 2, 159, 0, 7, 3]
abbrev dktX2_next_4 : List UInt8 := dkwX2_next_4 ++ dktX2_next_5
def dkwX2_next_3 : List UInt8 := [153, 0, 88, 42, 182, 0, 26, 16, 97, 16, 122, 184, 0, 36, 153, 0, 16, 42, 89, 180, 0, 15, 4, 96]
abbrev dktX2_next_3 : List UInt8 := dkwX2_next_3 ++ dktX2_next_4
def dkwX2_next_2 : List UInt8 := [160, 0, 11, 42, 7, 181, 0, 33, 167, 0, 193, 42, 182, 0, 26, 16, 97, 16, 122, 184, 0, 36]
abbrev dktX2_next_2 : List UInt8 := dkwX2_next_2 ++ dktX2_next_3
def dkwX2_next_1 : List UInt8 := [96, 181, 0, 15, 167, 255, 228, 42, 42, 180, 0, 15, 181, 0, 30, 42, 180, 0, 15, 42, 180, 0, 19]
abbrev dktX2_next_1 : List UInt8 := dkwX2_next_1 ++ dktX2_next_2
def dkwX2_next_0 : List UInt8 := [42, 182, 0, 26, 16, 10, 159, 0, 12, 42, 182, 0, 26, 16, 32, 160, 0, 16, 42, 89, 180, 0, 15, 4]
abbrev dktX2_next_0 : List UInt8 := dkwX2_next_0 ++ dktX2_next_1
theorem dksX2_next_0 : cX2_next.data.toList.drop 0 = dktX2_next_0 := by decide +kernel
theorem dksX2_next_1 : cX2_next.data.toList.drop 24 = dktX2_next_1 := dk_seg dksX2_next_0 24 rfl rfl
theorem dksX2_next_2 : cX2_next.data.toList.drop 47 = dktX2_next_2 := dk_seg dksX2_next_1 23 rfl rfl
theorem dksX2_next_3 : cX2_next.data.toList.drop 69 = dktX2_next_3 := dk_seg dksX2_next_2 22 rfl rfl
theorem dksX2_next_4 : cX2_next.data.toList.drop 93 = dktX2_next_4 := dk_seg dksX2_next_3 24 rfl rfl
theorem dksX2_next_5 : cX2_next.data.toList.drop 117 = dktX2_next_5 := dk_seg dksX2_next_4 24 rfl rfl
theorem dksX2_next_6 : cX2_next.data.toList.drop 139 = dktX2_next_6 := dk_seg dksX2_next_5 22 rfl rfl
theorem dksX2_next_7 : cX2_next.data.toList.drop 163 = dktX2_next_7 := dk_seg dksX2_next_6 24 rfl rfl
theorem dksX2_next_8 : cX2_next.data.toList.drop 187 = dktX2_next_8 := dk_seg dksX2_next_7 24 rfl rfl
theorem dksX2_next_9 : cX2_next.data.toList.drop 210 = dktX2_next_9 := dk_seg dksX2_next_8 23 rfl rfl
theorem dksX2_next_10 : cX2_next.data.toList.drop 233 = dktX2_next_10 := dk_seg dksX2_next_9 23 rfl rfl
theorem dX2_next_0 : decode cX2_next 0 = .ok (.aload_n 0, 1) := dk_42 (dk_at dksX2_next_0 0 rfl rfl)
theorem dX2_next_1 : decode cX2_next 1 = .ok (.invokevirtual 26, 3) := dk_182 0 26 (dk_at dksX2_next_0 1 rfl rfl)
theorem dX2_next_4 : decode cX2_next 4 = .ok (.bipush 10, 2) := dk_16 10 (dk_at dksX2_next_0 4 rfl rfl)
theorem dX2_next_6 : decode cX2_next 6 = .ok (.if_icmp .eq 12, 3) := dk_159 0 12 (dk_at dksX2_next_0 6 rfl rfl)
theorem dX2_next_9 : decode cX2_next 9 = .ok (.aload_n 0, 1) := dk_42 (dk_at dksX2_next_0 9 rfl rfl)
theorem dX2_next_10 : decode cX2_next 10 = .ok (.invokevirtual 26, 3) := dk_182 0 26 (dk_at dksX2_next_0 10 rfl rfl)
theorem dX2_next_13 : decode cX2_next 13 = .ok (.bipush 32, 2) := dk_16 32 (dk_at dksX2_next_0 13 rfl rfl)
theorem dX2_next_15 : decode cX2_next 15 = .ok (.if_icmp .ne 16, 3) := dk_160 0 16 (dk_at dksX2_next_0 15 rfl rfl)
theorem dX2_next_18 : decode cX2_next 18 = .ok (.aload_n 0, 1) := dk_42 (dk_at dksX2_next_0 18 rfl rfl)
theorem dX2_next_19 : decode cX2_next 19 = .ok (.dup, 1) := dk_89 (dk_at dksX2_next_0 19 rfl rfl)
theorem dX2_next_20 : decode cX2_next 20 = .ok (.getfield 15, 3) := dk_180 0 15 (dk_at dksX2_next_0 20 rfl rfl)
theorem dX2_next_23 : decode cX2_next 23 = .ok (.iconst 1, 1) := dk_4 (dk_at dksX2_next_0 23 rfl rfl)
theorem dX2_next_24 : decode cX2_next 24 = .ok (.iadd, 1) := dk_96 (dk_at dksX2_next_1 0 rfl rfl)
theorem dX2_next_25 : decode cX2_next 25 = .ok (.putfield 15, 3) := dk_181 0 15 (dk_at dksX2_next_1 1 rfl rfl)
theorem dX2_next_28 : decode cX2_next 28 = .ok (.goto (-28), 3) := dk_167 255 228 (dk_at dksX2_next_1 4 rfl rfl)
theorem dX2_next_31 : decode cX2_next 31 = .ok (.aload_n 0, 1) := dk_42 (dk_at dksX2_next_1 7 rfl rfl)
theorem dX2_next_32 : decode cX2_next 32 = .ok (.aload_n 0, 1) := dk_42 (dk_at dksX2_next_1 8 rfl rfl)
theorem dX2_next_33 : decode cX2_next 33 = .ok (.getfield 15, 3) := dk_180 0 15 (dk_at dksX2_next_1 9 rfl rfl)
theorem dX2_next_36 : decode cX2_next 36 = .ok (.putfield 30, 3) := dk_181 0 30 (dk_at dksX2_next_1 12 rfl rfl)
theorem dX2_next_39 : decode cX2_next 39 = .ok (.aload_n 0, 1) := dk_42 (dk_at dksX2_next_1 15 rfl rfl)
theorem dX2_next_40 : decode cX2_next 40 = .ok (.getfield 15, 3) := dk_180 0 15 (dk_at dksX2_next_1 16 rfl rfl)
theorem dX2_next_43 : decode cX2_next 43 = .ok (.aload_n 0, 1) := dk_42 (dk_at dksX2_next_1 19 rfl rfl)
theorem dX2_next_44 : decode cX2_next 44 = .ok (.getfield 19, 3) := dk_180 0 19 (dk_at dksX2_next_1 20 rfl rfl)
theorem dX2_next_47 : decode cX2_next 47 = .ok (.if_icmp .ne 11, 3) := dk_160 0 11 (dk_at dksX2_next_2 0 rfl rfl)
theorem dX2_next_50 : decode cX2_next 50 = .ok (.aload_n 0, 1) := dk_42 (dk_at dksX2_next_2 3 rfl rfl)
theorem dX2_next_51 : decode cX2_next 51 = .ok (.iconst 4, 1) := dk_7 (dk_at dksX2_next_2 4 rfl rfl)
theorem dX2_next_52 : decode cX2_next 52 = .ok (.putfield 33, 3) := dk_181 0 33 (dk_at dksX2_next_2 5 rfl rfl)
theorem dX2_next_55 : decode cX2_next 55 = .ok (.goto 193, 3) := dk_167 0 193 (dk_at dksX2_next_2 8 rfl rfl)
theorem dX2_next_58 : decode cX2_next 58 = .ok (.aload_n 0, 1) := dk_42 (dk_at dksX2_next_2 11 rfl rfl)
theorem dX2_next_59 : decode cX2_next 59 = .ok (.invokevirtual 26, 3) := dk_182 0 26 (dk_at dksX2_next_2 12 rfl rfl)
theorem dX2_next_62 : decode cX2_next 62 = .ok (.bipush 97, 2) := dk_16 97 (dk_at dksX2_next_2 15 rfl rfl)
theorem dX2_next_64 : decode cX2_next 64 = .ok (.bipush 122, 2) := dk_16 122 (dk_at dksX2_next_2 17 rfl rfl)
theorem dX2_next_66 : decode cX2_next 66 = .ok (.invokestatic 36, 3) := dk_184 0 36 (dk_at dksX2_next_2 19 rfl rfl)
theorem dX2_next_69 : decode cX2_next 69 = .ok (.ifCond .eq 88, 3) := dk_153 0 88 (dk_at dksX2_next_3 0 rfl rfl)
theorem dX2_next_72 : decode cX2_next 72 = .ok (.aload_n 0, 1) := dk_42 (dk_at dksX2_next_3 3 rfl rfl)
theorem dX2_next_73 : decode cX2_next 73 = .ok (.invokevirtual 26, 3) := dk_182 0 26 (dk_at dksX2_next_3 4 rfl rfl)
theorem dX2_next_76 : decode cX2_next 76 = .ok (.bipush 97, 2) := dk_16 97 (dk_at dksX2_next_3 7 rfl rfl)
theorem dX2_next_78 : decode cX2_next 78 = .ok (.bipush 122, 2) := dk_16 122 (dk_at dksX2_next_3 9 rfl rfl)
theorem dX2_next_80 : decode cX2_next 80 = .ok (.invokestatic 36, 3) := dk_184 0 36 (dk_at dksX2_next_3 11 rfl rfl)
theorem dX2_next_83 : decode cX2_next 83 = .ok (.ifCond .eq 16, 3) := dk_153 0 16 (dk_at dksX2_next_3 14 rfl rfl)
theorem dX2_next_86 : decode cX2_next 86 = .ok (.aload_n 0, 1) := dk_42 (dk_at dksX2_next_3 17 rfl rfl)
theorem dX2_next_87 : decode cX2_next 87 = .ok (.dup, 1) := dk_89 (dk_at dksX2_next_3 18 rfl rfl)
theorem dX2_next_88 : decode cX2_next 88 = .ok (.getfield 15, 3) := dk_180 0 15 (dk_at dksX2_next_3 19 rfl rfl)
theorem dX2_next_91 : decode cX2_next 91 = .ok (.iconst 1, 1) := dk_4 (dk_at dksX2_next_3 22 rfl rfl)
theorem dX2_next_92 : decode cX2_next 92 = .ok (.iadd, 1) := dk_96 (dk_at dksX2_next_3 23 rfl rfl)
theorem dX2_next_93 : decode cX2_next 93 = .ok (.putfield 15, 3) := dk_181 0 15 (dk_at dksX2_next_4 0 rfl rfl)
theorem dX2_next_96 : decode cX2_next 96 = .ok (.goto (-24), 3) := dk_167 255 232 (dk_at dksX2_next_4 3 rfl rfl)
theorem dX2_next_99 : decode cX2_next 99 = .ok (.aload_n 0, 1) := dk_42 (dk_at dksX2_next_4 6 rfl rfl)
theorem dX2_next_100 : decode cX2_next 100 = .ok (.aload_n 0, 1) := dk_42 (dk_at dksX2_next_4 7 rfl rfl)
theorem dX2_next_101 : decode cX2_next 101 = .ok (.invokevirtual 40, 3) := dk_182 0 40 (dk_at dksX2_next_4 8 rfl rfl)
theorem dX2_next_104 : decode cX2_next 104 = .ok (.putfield 43, 3) := dk_181 0 43 (dk_at dksX2_next_4 11 rfl rfl)
theorem dX2_next_107 : decode cX2_next 107 = .ok (.aload_n 0, 1) := dk_42 (dk_at dksX2_next_4 14 rfl rfl)
theorem dX2_next_108 : decode cX2_next 108 = .ok (.aload_n 0, 1) := dk_42 (dk_at dksX2_next_4 15 rfl rfl)
theorem dX2_next_109 : decode cX2_next 109 = .ok (.getfield 43, 3) := dk_180 0 43 (dk_at dksX2_next_4 16 rfl rfl)
theorem dX2_next_112 : decode cX2_next 112 = .ok (.iconst (-1), 1) := dk_2 (dk_at dksX2_next_4 19 rfl rfl)
theorem dX2_next_113 : decode cX2_next 113 = .ok (.if_icmp .eq 7, 3) := dk_159 0 7 (dk_at dksX2_next_4 20 rfl rfl)
theorem dX2_next_116 : decode cX2_next 116 = .ok (.iconst 0, 1) := dk_3 (dk_at dksX2_next_4 23 rfl rfl)
theorem dX2_next_117 : decode cX2_next 117 = .ok (.goto 22, 3) := dk_167 0 22 (dk_at dksX2_next_5 0 rfl rfl)
theorem dX2_next_120 : decode cX2_next 120 = .ok (.aload_n 0, 1) := dk_42 (dk_at dksX2_next_5 3 rfl rfl)
theorem dX2_next_121 : decode cX2_next 121 = .ok (.getfield 15, 3) := dk_180 0 15 (dk_at dksX2_next_5 4 rfl rfl)
theorem dX2_next_124 : decode cX2_next 124 = .ok (.aload_n 0, 1) := dk_42 (dk_at dksX2_next_5 7 rfl rfl)
theorem dX2_next_125 : decode cX2_next 125 = .ok (.getfield 30, 3) := dk_180 0 30 (dk_at dksX2_next_5 8 rfl rfl)
theorem dX2_next_128 : decode cX2_next 128 = .ok (.isub, 1) := dk_100 (dk_at dksX2_next_5 11 rfl rfl)
theorem dX2_next_129 : decode cX2_next 129 = .ok (.bipush 6, 2) := dk_16 6 (dk_at dksX2_next_5 12 rfl rfl)
theorem dX2_next_131 : decode cX2_next 131 = .ok (.if_icmp .le 7, 3) := dk_164 0 7 (dk_at dksX2_next_5 14 rfl rfl)
theorem dX2_next_134 : decode cX2_next 134 = .ok (.iconst 5, 1) := dk_8 (dk_at dksX2_next_5 17 rfl rfl)
theorem dX2_next_135 : decode cX2_next 135 = .ok (.goto 4, 3) := dk_167 0 4 (dk_at dksX2_next_5 18 rfl rfl)
theorem dX2_next_138 : decode cX2_next 138 = .ok (.iconst 1, 1) := dk_4 (dk_at dksX2_next_5 21 rfl rfl)
theorem dX2_next_139 : decode cX2_next 139 = .ok (.putfield 33, 3) := dk_181 0 33 (dk_at dksX2_next_6 0 rfl rfl)
theorem dX2_next_142 : decode cX2_next 142 = .ok (.aload_n 0, 1) := dk_42 (dk_at dksX2_next_6 3 rfl rfl)
theorem dX2_next_143 : decode cX2_next 143 = .ok (.getfield 33, 3) := dk_180 0 33 (dk_at dksX2_next_6 4 rfl rfl)
theorem dX2_next_146 : decode cX2_next 146 = .ok (.iconst 1, 1) := dk_4 (dk_at dksX2_next_6 7 rfl rfl)
theorem dX2_next_147 : decode cX2_next 147 = .ok (.if_icmp .ne 101, 3) := dk_160 0 101 (dk_at dksX2_next_6 8 rfl rfl)
theorem dX2_next_150 : decode cX2_next 150 = .ok (.aload_n 0, 1) := dk_42 (dk_at dksX2_next_6 11 rfl rfl)
theorem dX2_next_151 : decode cX2_next 151 = .ok (.invokevirtual 46, 3) := dk_182 0 46 (dk_at dksX2_next_6 12 rfl rfl)
theorem dX2_next_154 : decode cX2_next 154 = .ok (.goto 94, 3) := dk_167 0 94 (dk_at dksX2_next_6 15 rfl rfl)
theorem dX2_next_157 : decode cX2_next 157 = .ok (.aload_n 0, 1) := dk_42 (dk_at dksX2_next_6 18 rfl rfl)
theorem dX2_next_158 : decode cX2_next 158 = .ok (.invokevirtual 26, 3) := dk_182 0 26 (dk_at dksX2_next_6 19 rfl rfl)
theorem dX2_next_161 : decode cX2_next 161 = .ok (.bipush 48, 2) := dk_16 48 (dk_at dksX2_next_6 22 rfl rfl)
theorem dX2_next_163 : decode cX2_next 163 = .ok (.bipush 57, 2) := dk_16 57 (dk_at dksX2_next_7 0 rfl rfl)
theorem dX2_next_165 : decode cX2_next 165 = .ok (.invokestatic 36, 3) := dk_184 0 36 (dk_at dksX2_next_7 2 rfl rfl)
theorem dX2_next_168 : decode cX2_next 168 = .ok (.ifCond .eq 76, 3) := dk_153 0 76 (dk_at dksX2_next_7 5 rfl rfl)
theorem dX2_next_171 : decode cX2_next 171 = .ok (.aload_n 0, 1) := dk_42 (dk_at dksX2_next_7 8 rfl rfl)
theorem dX2_next_172 : decode cX2_next 172 = .ok (.iconst 2, 1) := dk_5 (dk_at dksX2_next_7 9 rfl rfl)
theorem dX2_next_173 : decode cX2_next 173 = .ok (.putfield 33, 3) := dk_181 0 33 (dk_at dksX2_next_7 10 rfl rfl)
theorem dX2_next_176 : decode cX2_next 176 = .ok (.aload_n 0, 1) := dk_42 (dk_at dksX2_next_7 13 rfl rfl)
theorem dX2_next_177 : decode cX2_next 177 = .ok (.iconst 0, 1) := dk_3 (dk_at dksX2_next_7 14 rfl rfl)
theorem dX2_next_178 : decode cX2_next 178 = .ok (.putfield 43, 3) := dk_181 0 43 (dk_at dksX2_next_7 15 rfl rfl)
theorem dX2_next_181 : decode cX2_next 181 = .ok (.aload_n 0, 1) := dk_42 (dk_at dksX2_next_7 18 rfl rfl)
theorem dX2_next_182 : decode cX2_next 182 = .ok (.invokevirtual 26, 3) := dk_182 0 26 (dk_at dksX2_next_7 19 rfl rfl)
theorem dX2_next_185 : decode cX2_next 185 = .ok (.bipush 48, 2) := dk_16 48 (dk_at dksX2_next_7 22 rfl rfl)
theorem dX2_next_187 : decode cX2_next 187 = .ok (.bipush 57, 2) := dk_16 57 (dk_at dksX2_next_8 0 rfl rfl)
theorem dX2_next_189 : decode cX2_next 189 = .ok (.invokestatic 36, 3) := dk_184 0 36 (dk_at dksX2_next_8 2 rfl rfl)
theorem dX2_next_192 : decode cX2_next 192 = .ok (.ifCond .eq 56, 3) := dk_153 0 56 (dk_at dksX2_next_8 5 rfl rfl)
theorem dX2_next_195 : decode cX2_next 195 = .ok (.aload_n 0, 1) := dk_42 (dk_at dksX2_next_8 8 rfl rfl)
theorem dX2_next_196 : decode cX2_next 196 = .ok (.aload_n 0, 1) := dk_42 (dk_at dksX2_next_8 9 rfl rfl)
theorem dX2_next_197 : decode cX2_next 197 = .ok (.getfield 43, 3) := dk_180 0 43 (dk_at dksX2_next_8 10 rfl rfl)
theorem dX2_next_200 : decode cX2_next 200 = .ok (.sipush 999, 3) := dk_17 3 231 (dk_at dksX2_next_8 13 rfl rfl)
theorem dX2_next_203 : decode cX2_next 203 = .ok (.if_icmp .le 10, 3) := dk_164 0 10 (dk_at dksX2_next_8 16 rfl rfl)
theorem dX2_next_206 : decode cX2_next 206 = .ok (.aload_n 0, 1) := dk_42 (dk_at dksX2_next_8 19 rfl rfl)
theorem dX2_next_207 : decode cX2_next 207 = .ok (.getfield 43, 3) := dk_180 0 43 (dk_at dksX2_next_8 20 rfl rfl)
theorem dX2_next_210 : decode cX2_next 210 = .ok (.goto 18, 3) := dk_167 0 18 (dk_at dksX2_next_9 0 rfl rfl)
theorem dX2_next_213 : decode cX2_next 213 = .ok (.bipush 10, 2) := dk_16 10 (dk_at dksX2_next_9 3 rfl rfl)
theorem dX2_next_215 : decode cX2_next 215 = .ok (.aload_n 0, 1) := dk_42 (dk_at dksX2_next_9 5 rfl rfl)
theorem dX2_next_216 : decode cX2_next 216 = .ok (.getfield 43, 3) := dk_180 0 43 (dk_at dksX2_next_9 6 rfl rfl)
theorem dX2_next_219 : decode cX2_next 219 = .ok (.imul, 1) := dk_104 (dk_at dksX2_next_9 9 rfl rfl)
theorem dX2_next_220 : decode cX2_next 220 = .ok (.aload_n 0, 1) := dk_42 (dk_at dksX2_next_9 10 rfl rfl)
theorem dX2_next_221 : decode cX2_next 221 = .ok (.invokevirtual 26, 3) := dk_182 0 26 (dk_at dksX2_next_9 11 rfl rfl)
theorem dX2_next_224 : decode cX2_next 224 = .ok (.iadd, 1) := dk_96 (dk_at dksX2_next_9 14 rfl rfl)
theorem dX2_next_225 : decode cX2_next 225 = .ok (.bipush 48, 2) := dk_16 48 (dk_at dksX2_next_9 15 rfl rfl)
theorem dX2_next_227 : decode cX2_next 227 = .ok (.isub, 1) := dk_100 (dk_at dksX2_next_9 17 rfl rfl)
theorem dX2_next_228 : decode cX2_next 228 = .ok (.putfield 43, 3) := dk_181 0 43 (dk_at dksX2_next_9 18 rfl rfl)
theorem dX2_next_231 : decode cX2_next 231 = .ok (.aload_n 0, 1) := dk_42 (dk_at dksX2_next_9 21 rfl rfl)
theorem dX2_next_232 : decode cX2_next 232 = .ok (.dup, 1) := dk_89 (dk_at dksX2_next_9 22 rfl rfl)
theorem dX2_next_233 : decode cX2_next 233 = .ok (.getfield 15, 3) := dk_180 0 15 (dk_at dksX2_next_10 0 rfl rfl)
theorem dX2_next_236 : decode cX2_next 236 = .ok (.iconst 1, 1) := dk_4 (dk_at dksX2_next_10 3 rfl rfl)
theorem dX2_next_237 : decode cX2_next 237 = .ok (.iadd, 1) := dk_96 (dk_at dksX2_next_10 4 rfl rfl)
theorem dX2_next_238 : decode cX2_next 238 = .ok (.putfield 15, 3) := dk_181 0 15 (dk_at dksX2_next_10 5 rfl rfl)
theorem dX2_next_241 : decode cX2_next 241 = .ok (.goto (-60), 3) := dk_167 255 196 (dk_at dksX2_next_10 8 rfl rfl)
theorem dX2_next_244 : decode cX2_next 244 = .ok (.aload_n 0, 1) := dk_42 (dk_at dksX2_next_10 11 rfl rfl)
theorem dX2_next_245 : decode cX2_next 245 = .ok (.invokevirtual 49, 3) := dk_182 0 49 (dk_at dksX2_next_10 12 rfl rfl)
theorem dX2_next_248 : decode cX2_next 248 = .ok (.return_, 1) := dk_177 (dk_at dksX2_next_10 15 rfl rfl)
abbrev cX2_here : ByteArray := prog_11_method_2_code
def yX2_here : MethodName := ⟨RX2, "here", "()I"⟩
def dkwX2_here_1 : List UInt8 := [17, 0, 255, 126, 167, 0, 4, 2, 172]
abbrev dktX2_here_1 : List UInt8 := dkwX2_here_1 ++ []
def dkwX2_here_0 : List UInt8 := [42, 180, 0, 15, 42, 180, 0, 19, 162, 0, 22, 42, 180, 0, 3, 180, 0, 22, 42, 180, 0, 15, 51]
abbrev dktX2_here_0 : List UInt8 := dkwX2_here_0 ++ dktX2_here_1
theorem dksX2_here_0 : cX2_here.data.toList.drop 0 = dktX2_here_0 := by decide +kernel
theorem dksX2_here_1 : cX2_here.data.toList.drop 23 = dktX2_here_1 := dk_seg dksX2_here_0 23 rfl rfl
theorem dX2_here_0 : decode cX2_here 0 = .ok (.aload_n 0, 1) := dk_42 (dk_at dksX2_here_0 0 rfl rfl)
theorem dX2_here_1 : decode cX2_here 1 = .ok (.getfield 15, 3) := dk_180 0 15 (dk_at dksX2_here_0 1 rfl rfl)
theorem dX2_here_4 : decode cX2_here 4 = .ok (.aload_n 0, 1) := dk_42 (dk_at dksX2_here_0 4 rfl rfl)
theorem dX2_here_5 : decode cX2_here 5 = .ok (.getfield 19, 3) := dk_180 0 19 (dk_at dksX2_here_0 5 rfl rfl)
theorem dX2_here_8 : decode cX2_here 8 = .ok (.if_icmp .ge 22, 3) := dk_162 0 22 (dk_at dksX2_here_0 8 rfl rfl)
theorem dX2_here_11 : decode cX2_here 11 = .ok (.aload_n 0, 1) := dk_42 (dk_at dksX2_here_0 11 rfl rfl)
theorem dX2_here_12 : decode cX2_here 12 = .ok (.getfield 3, 3) := dk_180 0 3 (dk_at dksX2_here_0 12 rfl rfl)
theorem dX2_here_15 : decode cX2_here 15 = .ok (.getfield 22, 3) := dk_180 0 22 (dk_at dksX2_here_0 15 rfl rfl)
theorem dX2_here_18 : decode cX2_here 18 = .ok (.aload_n 0, 1) := dk_42 (dk_at dksX2_here_0 18 rfl rfl)
theorem dX2_here_19 : decode cX2_here 19 = .ok (.getfield 15, 3) := dk_180 0 15 (dk_at dksX2_here_0 19 rfl rfl)
theorem dX2_here_22 : decode cX2_here 22 = .ok (.baload, 1) := dk_51 (dk_at dksX2_here_0 22 rfl rfl)
theorem dX2_here_23 : decode cX2_here 23 = .ok (.sipush 255, 3) := dk_17 0 255 (dk_at dksX2_here_1 0 rfl rfl)
theorem dX2_here_26 : decode cX2_here 26 = .ok (.iand, 1) := dk_126 (dk_at dksX2_here_1 3 rfl rfl)
theorem dX2_here_27 : decode cX2_here 27 = .ok (.goto 4, 3) := dk_167 0 4 (dk_at dksX2_here_1 4 rfl rfl)
theorem dX2_here_30 : decode cX2_here 30 = .ok (.iconst (-1), 1) := dk_2 (dk_at dksX2_here_1 7 rfl rfl)
theorem dX2_here_31 : decode cX2_here 31 = .ok (.ireturn, 1) := dk_172 (dk_at dksX2_here_1 8 rfl rfl)
abbrev cX2_word : ByteArray := prog_11_method_5_code
def yX2_word : MethodName := ⟨RX2, "word", "()I"⟩
def dkwX2_word_4 : List UInt8 := [27, 172, 132, 1, 1, 167, 255, 160, 2, 172]
abbrev dktX2_word_4 : List UInt8 := dkwX2_word_4 ++ []
def dkwX2_word_3 : List UInt8 := [96, 51, 160, 0, 9, 132, 2, 1, 167, 255, 214, 42, 180, 0, 30, 28, 96, 42, 180, 0, 15, 160, 0, 5]
abbrev dktX2_word_3 : List UInt8 := dkwX2_word_3 ++ dktX2_word_4
def dkwX2_word_2 : List UInt8 := [162, 0, 35, 178, 0, 60, 27, 50, 28, 182, 0, 67, 42, 180, 0, 3, 180, 0, 22, 42, 180, 0, 30, 28]
abbrev dktX2_word_2 : List UInt8 := dkwX2_word_2 ++ dktX2_word_3
def dkwX2_word_1 : List UInt8 := [180, 0, 30, 100, 159, 0, 6, 167, 0, 65, 3, 61, 42, 180, 0, 30, 28, 96, 42, 180, 0, 15]
abbrev dktX2_word_1 : List UInt8 := dkwX2_word_1 ++ dktX2_word_2
def dkwX2_word_0 : List UInt8 := [3, 60, 27, 178, 0, 60, 190, 162, 0, 94, 178, 0, 60, 27, 50, 182, 0, 64, 42, 180, 0, 15, 42]
abbrev dktX2_word_0 : List UInt8 := dkwX2_word_0 ++ dktX2_word_1
theorem dksX2_word_0 : cX2_word.data.toList.drop 0 = dktX2_word_0 := by decide +kernel
theorem dksX2_word_1 : cX2_word.data.toList.drop 23 = dktX2_word_1 := dk_seg dksX2_word_0 23 rfl rfl
theorem dksX2_word_2 : cX2_word.data.toList.drop 45 = dktX2_word_2 := dk_seg dksX2_word_1 22 rfl rfl
theorem dksX2_word_3 : cX2_word.data.toList.drop 69 = dktX2_word_3 := dk_seg dksX2_word_2 24 rfl rfl
theorem dksX2_word_4 : cX2_word.data.toList.drop 93 = dktX2_word_4 := dk_seg dksX2_word_3 24 rfl rfl
theorem dX2_word_0 : decode cX2_word 0 = .ok (.iconst 0, 1) := dk_3 (dk_at dksX2_word_0 0 rfl rfl)
theorem dX2_word_1 : decode cX2_word 1 = .ok (.istore_n 1, 1) := dk_60 (dk_at dksX2_word_0 1 rfl rfl)
theorem dX2_word_2 : decode cX2_word 2 = .ok (.iload_n 1, 1) := dk_27 (dk_at dksX2_word_0 2 rfl rfl)
theorem dX2_word_3 : decode cX2_word 3 = .ok (.getstatic 60, 3) := dk_178 0 60 (dk_at dksX2_word_0 3 rfl rfl)
theorem dX2_word_6 : decode cX2_word 6 = .ok (.arraylength, 1) := dk_190 (dk_at dksX2_word_0 6 rfl rfl)
theorem dX2_word_7 : decode cX2_word 7 = .ok (.if_icmp .ge 94, 3) := dk_162 0 94 (dk_at dksX2_word_0 7 rfl rfl)
theorem dX2_word_10 : decode cX2_word 10 = .ok (.getstatic 60, 3) := dk_178 0 60 (dk_at dksX2_word_0 10 rfl rfl)
theorem dX2_word_13 : decode cX2_word 13 = .ok (.iload_n 1, 1) := dk_27 (dk_at dksX2_word_0 13 rfl rfl)
theorem dX2_word_14 : decode cX2_word 14 = .ok (.aaload, 1) := dk_50 (dk_at dksX2_word_0 14 rfl rfl)
theorem dX2_word_15 : decode cX2_word 15 = .ok (.invokevirtual 64, 3) := dk_182 0 64 (dk_at dksX2_word_0 15 rfl rfl)
theorem dX2_word_18 : decode cX2_word 18 = .ok (.aload_n 0, 1) := dk_42 (dk_at dksX2_word_0 18 rfl rfl)
theorem dX2_word_19 : decode cX2_word 19 = .ok (.getfield 15, 3) := dk_180 0 15 (dk_at dksX2_word_0 19 rfl rfl)
theorem dX2_word_22 : decode cX2_word 22 = .ok (.aload_n 0, 1) := dk_42 (dk_at dksX2_word_0 22 rfl rfl)
theorem dX2_word_23 : decode cX2_word 23 = .ok (.getfield 30, 3) := dk_180 0 30 (dk_at dksX2_word_1 0 rfl rfl)
theorem dX2_word_26 : decode cX2_word 26 = .ok (.isub, 1) := dk_100 (dk_at dksX2_word_1 3 rfl rfl)
theorem dX2_word_27 : decode cX2_word 27 = .ok (.if_icmp .eq 6, 3) := dk_159 0 6 (dk_at dksX2_word_1 4 rfl rfl)
theorem dX2_word_30 : decode cX2_word 30 = .ok (.goto 65, 3) := dk_167 0 65 (dk_at dksX2_word_1 7 rfl rfl)
theorem dX2_word_33 : decode cX2_word 33 = .ok (.iconst 0, 1) := dk_3 (dk_at dksX2_word_1 10 rfl rfl)
theorem dX2_word_34 : decode cX2_word 34 = .ok (.istore_n 2, 1) := dk_61 (dk_at dksX2_word_1 11 rfl rfl)
theorem dX2_word_35 : decode cX2_word 35 = .ok (.aload_n 0, 1) := dk_42 (dk_at dksX2_word_1 12 rfl rfl)
theorem dX2_word_36 : decode cX2_word 36 = .ok (.getfield 30, 3) := dk_180 0 30 (dk_at dksX2_word_1 13 rfl rfl)
theorem dX2_word_39 : decode cX2_word 39 = .ok (.iload_n 2, 1) := dk_28 (dk_at dksX2_word_1 16 rfl rfl)
theorem dX2_word_40 : decode cX2_word 40 = .ok (.iadd, 1) := dk_96 (dk_at dksX2_word_1 17 rfl rfl)
theorem dX2_word_41 : decode cX2_word 41 = .ok (.aload_n 0, 1) := dk_42 (dk_at dksX2_word_1 18 rfl rfl)
theorem dX2_word_42 : decode cX2_word 42 = .ok (.getfield 15, 3) := dk_180 0 15 (dk_at dksX2_word_1 19 rfl rfl)
theorem dX2_word_45 : decode cX2_word 45 = .ok (.if_icmp .ge 35, 3) := dk_162 0 35 (dk_at dksX2_word_2 0 rfl rfl)
theorem dX2_word_48 : decode cX2_word 48 = .ok (.getstatic 60, 3) := dk_178 0 60 (dk_at dksX2_word_2 3 rfl rfl)
theorem dX2_word_51 : decode cX2_word 51 = .ok (.iload_n 1, 1) := dk_27 (dk_at dksX2_word_2 6 rfl rfl)
theorem dX2_word_52 : decode cX2_word 52 = .ok (.aaload, 1) := dk_50 (dk_at dksX2_word_2 7 rfl rfl)
theorem dX2_word_53 : decode cX2_word 53 = .ok (.iload_n 2, 1) := dk_28 (dk_at dksX2_word_2 8 rfl rfl)
theorem dX2_word_54 : decode cX2_word 54 = .ok (.invokevirtual 67, 3) := dk_182 0 67 (dk_at dksX2_word_2 9 rfl rfl)
theorem dX2_word_57 : decode cX2_word 57 = .ok (.aload_n 0, 1) := dk_42 (dk_at dksX2_word_2 12 rfl rfl)
theorem dX2_word_58 : decode cX2_word 58 = .ok (.getfield 3, 3) := dk_180 0 3 (dk_at dksX2_word_2 13 rfl rfl)
theorem dX2_word_61 : decode cX2_word 61 = .ok (.getfield 22, 3) := dk_180 0 22 (dk_at dksX2_word_2 16 rfl rfl)
theorem dX2_word_64 : decode cX2_word 64 = .ok (.aload_n 0, 1) := dk_42 (dk_at dksX2_word_2 19 rfl rfl)
theorem dX2_word_65 : decode cX2_word 65 = .ok (.getfield 30, 3) := dk_180 0 30 (dk_at dksX2_word_2 20 rfl rfl)
theorem dX2_word_68 : decode cX2_word 68 = .ok (.iload_n 2, 1) := dk_28 (dk_at dksX2_word_2 23 rfl rfl)
theorem dX2_word_69 : decode cX2_word 69 = .ok (.iadd, 1) := dk_96 (dk_at dksX2_word_3 0 rfl rfl)
theorem dX2_word_70 : decode cX2_word 70 = .ok (.baload, 1) := dk_51 (dk_at dksX2_word_3 1 rfl rfl)
theorem dX2_word_71 : decode cX2_word 71 = .ok (.if_icmp .ne 9, 3) := dk_160 0 9 (dk_at dksX2_word_3 2 rfl rfl)
theorem dX2_word_74 : decode cX2_word 74 = .ok (.iinc 2 1, 3) := dk_132 2 1 (dk_at dksX2_word_3 5 rfl rfl)
theorem dX2_word_77 : decode cX2_word 77 = .ok (.goto (-42), 3) := dk_167 255 214 (dk_at dksX2_word_3 8 rfl rfl)
theorem dX2_word_80 : decode cX2_word 80 = .ok (.aload_n 0, 1) := dk_42 (dk_at dksX2_word_3 11 rfl rfl)
theorem dX2_word_81 : decode cX2_word 81 = .ok (.getfield 30, 3) := dk_180 0 30 (dk_at dksX2_word_3 12 rfl rfl)
theorem dX2_word_84 : decode cX2_word 84 = .ok (.iload_n 2, 1) := dk_28 (dk_at dksX2_word_3 15 rfl rfl)
theorem dX2_word_85 : decode cX2_word 85 = .ok (.iadd, 1) := dk_96 (dk_at dksX2_word_3 16 rfl rfl)
theorem dX2_word_86 : decode cX2_word 86 = .ok (.aload_n 0, 1) := dk_42 (dk_at dksX2_word_3 17 rfl rfl)
theorem dX2_word_87 : decode cX2_word 87 = .ok (.getfield 15, 3) := dk_180 0 15 (dk_at dksX2_word_3 18 rfl rfl)
theorem dX2_word_90 : decode cX2_word 90 = .ok (.if_icmp .ne 5, 3) := dk_160 0 5 (dk_at dksX2_word_3 21 rfl rfl)
theorem dX2_word_93 : decode cX2_word 93 = .ok (.iload_n 1, 1) := dk_27 (dk_at dksX2_word_4 0 rfl rfl)
theorem dX2_word_94 : decode cX2_word 94 = .ok (.ireturn, 1) := dk_172 (dk_at dksX2_word_4 1 rfl rfl)
theorem dX2_word_95 : decode cX2_word 95 = .ok (.iinc 1 1, 3) := dk_132 1 1 (dk_at dksX2_word_4 2 rfl rfl)
theorem dX2_word_98 : decode cX2_word 98 = .ok (.goto (-96), 3) := dk_167 255 160 (dk_at dksX2_word_4 5 rfl rfl)
theorem dX2_word_101 : decode cX2_word 101 = .ok (.iconst (-1), 1) := dk_2 (dk_at dksX2_word_4 8 rfl rfl)
theorem dX2_word_102 : decode cX2_word 102 = .ok (.ireturn, 1) := dk_172 (dk_at dksX2_word_4 9 rfl rfl)
abbrev cX2_name : ByteArray := prog_11_method_6_code
def yX2_name : MethodName := ⟨RX2, "name", "()V"⟩
def dkwX2_name_2 : List UInt8 := [16, 97, 100, 4, 96, 167, 0, 4, 3, 128, 181, 0, 43, 132, 1, 1, 167, 255, 200, 177]
abbrev dktX2_name_2 : List UInt8 := dkwX2_name_2 ++ []
def dkwX2_name_1 : List UInt8 := [27, 96, 42, 180, 0, 15, 162, 0, 25, 42, 180, 0, 3, 180, 0, 22, 42, 180, 0, 30, 27, 96, 51]
abbrev dktX2_name_1 : List UInt8 := dkwX2_name_1 ++ dktX2_name_2
def dkwX2_name_0 : List UInt8 := [42, 3, 181, 0, 43, 3, 60, 27, 16, 6, 162, 0, 56, 42, 42, 180, 0, 43, 8, 120, 42, 180, 0, 30]
abbrev dktX2_name_0 : List UInt8 := dkwX2_name_0 ++ dktX2_name_1
theorem dksX2_name_0 : cX2_name.data.toList.drop 0 = dktX2_name_0 := by decide +kernel
theorem dksX2_name_1 : cX2_name.data.toList.drop 24 = dktX2_name_1 := dk_seg dksX2_name_0 24 rfl rfl
theorem dksX2_name_2 : cX2_name.data.toList.drop 47 = dktX2_name_2 := dk_seg dksX2_name_1 23 rfl rfl
theorem dX2_name_0 : decode cX2_name 0 = .ok (.aload_n 0, 1) := dk_42 (dk_at dksX2_name_0 0 rfl rfl)
theorem dX2_name_1 : decode cX2_name 1 = .ok (.iconst 0, 1) := dk_3 (dk_at dksX2_name_0 1 rfl rfl)
theorem dX2_name_2 : decode cX2_name 2 = .ok (.putfield 43, 3) := dk_181 0 43 (dk_at dksX2_name_0 2 rfl rfl)
theorem dX2_name_5 : decode cX2_name 5 = .ok (.iconst 0, 1) := dk_3 (dk_at dksX2_name_0 5 rfl rfl)
theorem dX2_name_6 : decode cX2_name 6 = .ok (.istore_n 1, 1) := dk_60 (dk_at dksX2_name_0 6 rfl rfl)
theorem dX2_name_7 : decode cX2_name 7 = .ok (.iload_n 1, 1) := dk_27 (dk_at dksX2_name_0 7 rfl rfl)
theorem dX2_name_8 : decode cX2_name 8 = .ok (.bipush 6, 2) := dk_16 6 (dk_at dksX2_name_0 8 rfl rfl)
theorem dX2_name_10 : decode cX2_name 10 = .ok (.if_icmp .ge 56, 3) := dk_162 0 56 (dk_at dksX2_name_0 10 rfl rfl)
theorem dX2_name_13 : decode cX2_name 13 = .ok (.aload_n 0, 1) := dk_42 (dk_at dksX2_name_0 13 rfl rfl)
theorem dX2_name_14 : decode cX2_name 14 = .ok (.aload_n 0, 1) := dk_42 (dk_at dksX2_name_0 14 rfl rfl)
theorem dX2_name_15 : decode cX2_name 15 = .ok (.getfield 43, 3) := dk_180 0 43 (dk_at dksX2_name_0 15 rfl rfl)
theorem dX2_name_18 : decode cX2_name 18 = .ok (.iconst 5, 1) := dk_8 (dk_at dksX2_name_0 18 rfl rfl)
theorem dX2_name_19 : decode cX2_name 19 = .ok (.ishl, 1) := dk_120 (dk_at dksX2_name_0 19 rfl rfl)
theorem dX2_name_20 : decode cX2_name 20 = .ok (.aload_n 0, 1) := dk_42 (dk_at dksX2_name_0 20 rfl rfl)
theorem dX2_name_21 : decode cX2_name 21 = .ok (.getfield 30, 3) := dk_180 0 30 (dk_at dksX2_name_0 21 rfl rfl)
theorem dX2_name_24 : decode cX2_name 24 = .ok (.iload_n 1, 1) := dk_27 (dk_at dksX2_name_1 0 rfl rfl)
theorem dX2_name_25 : decode cX2_name 25 = .ok (.iadd, 1) := dk_96 (dk_at dksX2_name_1 1 rfl rfl)
theorem dX2_name_26 : decode cX2_name 26 = .ok (.aload_n 0, 1) := dk_42 (dk_at dksX2_name_1 2 rfl rfl)
theorem dX2_name_27 : decode cX2_name 27 = .ok (.getfield 15, 3) := dk_180 0 15 (dk_at dksX2_name_1 3 rfl rfl)
theorem dX2_name_30 : decode cX2_name 30 = .ok (.if_icmp .ge 25, 3) := dk_162 0 25 (dk_at dksX2_name_1 6 rfl rfl)
theorem dX2_name_33 : decode cX2_name 33 = .ok (.aload_n 0, 1) := dk_42 (dk_at dksX2_name_1 9 rfl rfl)
theorem dX2_name_34 : decode cX2_name 34 = .ok (.getfield 3, 3) := dk_180 0 3 (dk_at dksX2_name_1 10 rfl rfl)
theorem dX2_name_37 : decode cX2_name 37 = .ok (.getfield 22, 3) := dk_180 0 22 (dk_at dksX2_name_1 13 rfl rfl)
theorem dX2_name_40 : decode cX2_name 40 = .ok (.aload_n 0, 1) := dk_42 (dk_at dksX2_name_1 16 rfl rfl)
theorem dX2_name_41 : decode cX2_name 41 = .ok (.getfield 30, 3) := dk_180 0 30 (dk_at dksX2_name_1 17 rfl rfl)
theorem dX2_name_44 : decode cX2_name 44 = .ok (.iload_n 1, 1) := dk_27 (dk_at dksX2_name_1 20 rfl rfl)
theorem dX2_name_45 : decode cX2_name 45 = .ok (.iadd, 1) := dk_96 (dk_at dksX2_name_1 21 rfl rfl)
theorem dX2_name_46 : decode cX2_name 46 = .ok (.baload, 1) := dk_51 (dk_at dksX2_name_1 22 rfl rfl)
theorem dX2_name_47 : decode cX2_name 47 = .ok (.bipush 97, 2) := dk_16 97 (dk_at dksX2_name_2 0 rfl rfl)
theorem dX2_name_49 : decode cX2_name 49 = .ok (.isub, 1) := dk_100 (dk_at dksX2_name_2 2 rfl rfl)
theorem dX2_name_50 : decode cX2_name 50 = .ok (.iconst 1, 1) := dk_4 (dk_at dksX2_name_2 3 rfl rfl)
theorem dX2_name_51 : decode cX2_name 51 = .ok (.iadd, 1) := dk_96 (dk_at dksX2_name_2 4 rfl rfl)
theorem dX2_name_52 : decode cX2_name 52 = .ok (.goto 4, 3) := dk_167 0 4 (dk_at dksX2_name_2 5 rfl rfl)
theorem dX2_name_55 : decode cX2_name 55 = .ok (.iconst 0, 1) := dk_3 (dk_at dksX2_name_2 8 rfl rfl)
theorem dX2_name_56 : decode cX2_name 56 = .ok (.ior, 1) := dk_128 (dk_at dksX2_name_2 9 rfl rfl)
theorem dX2_name_57 : decode cX2_name 57 = .ok (.putfield 43, 3) := dk_181 0 43 (dk_at dksX2_name_2 10 rfl rfl)
theorem dX2_name_60 : decode cX2_name 60 = .ok (.iinc 1 1, 3) := dk_132 1 1 (dk_at dksX2_name_2 13 rfl rfl)
theorem dX2_name_63 : decode cX2_name 63 = .ok (.goto (-56), 3) := dk_167 255 200 (dk_at dksX2_name_2 16 rfl rfl)
theorem dX2_name_66 : decode cX2_name 66 = .ok (.return_, 1) := dk_177 (dk_at dksX2_name_2 19 rfl rfl)
abbrev cX2_sign : ByteArray := prog_11_method_4_code
def yX2_sign : MethodName := ⟨RX2, "sign", "()V"⟩
def dkwX2_sign_5 : List UInt8 := [17, 1, 0, 161, 0, 13, 42, 89, 180, 0, 15, 4, 96, 181, 0, 15, 177]
abbrev dktX2_sign_5 : List UInt8 := dkwX2_sign_5 ++ []
def dkwX2_sign_4 : List UInt8 := [160, 0, 19, 42, 182, 0, 26, 16, 61, 160, 0, 10, 42, 17, 1, 1, 181, 0, 43, 42, 180, 0, 43]
abbrev dktX2_sign_4 : List UInt8 := dkwX2_sign_4 ++ dktX2_sign_5
def dkwX2_sign_3 : List UInt8 := [42, 182, 0, 26, 16, 62, 160, 0, 13, 42, 17, 1, 2, 181, 0, 43, 167, 0, 25, 27, 16, 62]
abbrev dktX2_sign_3 : List UInt8 := dkwX2_sign_3 ++ dktX2_sign_4
def dkwX2_sign_2 : List UInt8 := [182, 0, 26, 16, 61, 160, 0, 13, 42, 17, 1, 0, 181, 0, 43, 167, 0, 50, 27, 16, 60, 160, 0, 22]
abbrev dktX2_sign_2 : List UInt8 := dkwX2_sign_2 ++ dktX2_sign_3
def dkwX2_sign_1 : List UInt8 := [155, 0, 7, 6, 167, 0, 4, 8, 181, 0, 33, 42, 27, 181, 0, 43, 27, 16, 60, 160, 0, 22, 42]
abbrev dktX2_sign_1 : List UInt8 := dkwX2_sign_1 ++ dktX2_sign_2
def dkwX2_sign_0 : List UInt8 := [42, 182, 0, 26, 60, 42, 89, 180, 0, 15, 4, 96, 181, 0, 15, 42, 18, 52, 27, 182, 0, 54]
abbrev dktX2_sign_0 : List UInt8 := dkwX2_sign_0 ++ dktX2_sign_1
theorem dksX2_sign_0 : cX2_sign.data.toList.drop 0 = dktX2_sign_0 := by decide +kernel
theorem dksX2_sign_1 : cX2_sign.data.toList.drop 22 = dktX2_sign_1 := dk_seg dksX2_sign_0 22 rfl rfl
theorem dksX2_sign_2 : cX2_sign.data.toList.drop 45 = dktX2_sign_2 := dk_seg dksX2_sign_1 23 rfl rfl
theorem dksX2_sign_3 : cX2_sign.data.toList.drop 69 = dktX2_sign_3 := dk_seg dksX2_sign_2 24 rfl rfl
theorem dksX2_sign_4 : cX2_sign.data.toList.drop 91 = dktX2_sign_4 := dk_seg dksX2_sign_3 22 rfl rfl
theorem dksX2_sign_5 : cX2_sign.data.toList.drop 114 = dktX2_sign_5 := dk_seg dksX2_sign_4 23 rfl rfl
theorem dX2_sign_0 : decode cX2_sign 0 = .ok (.aload_n 0, 1) := dk_42 (dk_at dksX2_sign_0 0 rfl rfl)
theorem dX2_sign_1 : decode cX2_sign 1 = .ok (.invokevirtual 26, 3) := dk_182 0 26 (dk_at dksX2_sign_0 1 rfl rfl)
theorem dX2_sign_4 : decode cX2_sign 4 = .ok (.istore_n 1, 1) := dk_60 (dk_at dksX2_sign_0 4 rfl rfl)
theorem dX2_sign_5 : decode cX2_sign 5 = .ok (.aload_n 0, 1) := dk_42 (dk_at dksX2_sign_0 5 rfl rfl)
theorem dX2_sign_6 : decode cX2_sign 6 = .ok (.dup, 1) := dk_89 (dk_at dksX2_sign_0 6 rfl rfl)
theorem dX2_sign_7 : decode cX2_sign 7 = .ok (.getfield 15, 3) := dk_180 0 15 (dk_at dksX2_sign_0 7 rfl rfl)
theorem dX2_sign_10 : decode cX2_sign 10 = .ok (.iconst 1, 1) := dk_4 (dk_at dksX2_sign_0 10 rfl rfl)
theorem dX2_sign_11 : decode cX2_sign 11 = .ok (.iadd, 1) := dk_96 (dk_at dksX2_sign_0 11 rfl rfl)
theorem dX2_sign_12 : decode cX2_sign 12 = .ok (.putfield 15, 3) := dk_181 0 15 (dk_at dksX2_sign_0 12 rfl rfl)
theorem dX2_sign_15 : decode cX2_sign 15 = .ok (.aload_n 0, 1) := dk_42 (dk_at dksX2_sign_0 15 rfl rfl)
theorem dX2_sign_16 : decode cX2_sign 16 = .ok (.ldc 52, 2) := dk_18 52 (dk_at dksX2_sign_0 16 rfl rfl)
theorem dX2_sign_18 : decode cX2_sign 18 = .ok (.iload_n 1, 1) := dk_27 (dk_at dksX2_sign_0 18 rfl rfl)
theorem dX2_sign_19 : decode cX2_sign 19 = .ok (.invokevirtual 54, 3) := dk_182 0 54 (dk_at dksX2_sign_0 19 rfl rfl)
theorem dX2_sign_22 : decode cX2_sign 22 = .ok (.ifCond .lt 7, 3) := dk_155 0 7 (dk_at dksX2_sign_1 0 rfl rfl)
theorem dX2_sign_25 : decode cX2_sign 25 = .ok (.iconst 3, 1) := dk_6 (dk_at dksX2_sign_1 3 rfl rfl)
theorem dX2_sign_26 : decode cX2_sign 26 = .ok (.goto 4, 3) := dk_167 0 4 (dk_at dksX2_sign_1 4 rfl rfl)
theorem dX2_sign_29 : decode cX2_sign 29 = .ok (.iconst 5, 1) := dk_8 (dk_at dksX2_sign_1 7 rfl rfl)
theorem dX2_sign_30 : decode cX2_sign 30 = .ok (.putfield 33, 3) := dk_181 0 33 (dk_at dksX2_sign_1 8 rfl rfl)
theorem dX2_sign_33 : decode cX2_sign 33 = .ok (.aload_n 0, 1) := dk_42 (dk_at dksX2_sign_1 11 rfl rfl)
theorem dX2_sign_34 : decode cX2_sign 34 = .ok (.iload_n 1, 1) := dk_27 (dk_at dksX2_sign_1 12 rfl rfl)
theorem dX2_sign_35 : decode cX2_sign 35 = .ok (.putfield 43, 3) := dk_181 0 43 (dk_at dksX2_sign_1 13 rfl rfl)
theorem dX2_sign_38 : decode cX2_sign 38 = .ok (.iload_n 1, 1) := dk_27 (dk_at dksX2_sign_1 16 rfl rfl)
theorem dX2_sign_39 : decode cX2_sign 39 = .ok (.bipush 60, 2) := dk_16 60 (dk_at dksX2_sign_1 17 rfl rfl)
theorem dX2_sign_41 : decode cX2_sign 41 = .ok (.if_icmp .ne 22, 3) := dk_160 0 22 (dk_at dksX2_sign_1 19 rfl rfl)
theorem dX2_sign_44 : decode cX2_sign 44 = .ok (.aload_n 0, 1) := dk_42 (dk_at dksX2_sign_1 22 rfl rfl)
theorem dX2_sign_45 : decode cX2_sign 45 = .ok (.invokevirtual 26, 3) := dk_182 0 26 (dk_at dksX2_sign_2 0 rfl rfl)
theorem dX2_sign_48 : decode cX2_sign 48 = .ok (.bipush 61, 2) := dk_16 61 (dk_at dksX2_sign_2 3 rfl rfl)
theorem dX2_sign_50 : decode cX2_sign 50 = .ok (.if_icmp .ne 13, 3) := dk_160 0 13 (dk_at dksX2_sign_2 5 rfl rfl)
theorem dX2_sign_53 : decode cX2_sign 53 = .ok (.aload_n 0, 1) := dk_42 (dk_at dksX2_sign_2 8 rfl rfl)
theorem dX2_sign_54 : decode cX2_sign 54 = .ok (.sipush 256, 3) := dk_17 1 0 (dk_at dksX2_sign_2 9 rfl rfl)
theorem dX2_sign_57 : decode cX2_sign 57 = .ok (.putfield 43, 3) := dk_181 0 43 (dk_at dksX2_sign_2 12 rfl rfl)
theorem dX2_sign_60 : decode cX2_sign 60 = .ok (.goto 50, 3) := dk_167 0 50 (dk_at dksX2_sign_2 15 rfl rfl)
theorem dX2_sign_63 : decode cX2_sign 63 = .ok (.iload_n 1, 1) := dk_27 (dk_at dksX2_sign_2 18 rfl rfl)
theorem dX2_sign_64 : decode cX2_sign 64 = .ok (.bipush 60, 2) := dk_16 60 (dk_at dksX2_sign_2 19 rfl rfl)
theorem dX2_sign_66 : decode cX2_sign 66 = .ok (.if_icmp .ne 22, 3) := dk_160 0 22 (dk_at dksX2_sign_2 21 rfl rfl)
theorem dX2_sign_69 : decode cX2_sign 69 = .ok (.aload_n 0, 1) := dk_42 (dk_at dksX2_sign_3 0 rfl rfl)
theorem dX2_sign_70 : decode cX2_sign 70 = .ok (.invokevirtual 26, 3) := dk_182 0 26 (dk_at dksX2_sign_3 1 rfl rfl)
theorem dX2_sign_73 : decode cX2_sign 73 = .ok (.bipush 62, 2) := dk_16 62 (dk_at dksX2_sign_3 4 rfl rfl)
theorem dX2_sign_75 : decode cX2_sign 75 = .ok (.if_icmp .ne 13, 3) := dk_160 0 13 (dk_at dksX2_sign_3 6 rfl rfl)
theorem dX2_sign_78 : decode cX2_sign 78 = .ok (.aload_n 0, 1) := dk_42 (dk_at dksX2_sign_3 9 rfl rfl)
theorem dX2_sign_79 : decode cX2_sign 79 = .ok (.sipush 258, 3) := dk_17 1 2 (dk_at dksX2_sign_3 10 rfl rfl)
theorem dX2_sign_82 : decode cX2_sign 82 = .ok (.putfield 43, 3) := dk_181 0 43 (dk_at dksX2_sign_3 13 rfl rfl)
theorem dX2_sign_85 : decode cX2_sign 85 = .ok (.goto 25, 3) := dk_167 0 25 (dk_at dksX2_sign_3 16 rfl rfl)
theorem dX2_sign_88 : decode cX2_sign 88 = .ok (.iload_n 1, 1) := dk_27 (dk_at dksX2_sign_3 19 rfl rfl)
theorem dX2_sign_89 : decode cX2_sign 89 = .ok (.bipush 62, 2) := dk_16 62 (dk_at dksX2_sign_3 20 rfl rfl)
theorem dX2_sign_91 : decode cX2_sign 91 = .ok (.if_icmp .ne 19, 3) := dk_160 0 19 (dk_at dksX2_sign_4 0 rfl rfl)
theorem dX2_sign_94 : decode cX2_sign 94 = .ok (.aload_n 0, 1) := dk_42 (dk_at dksX2_sign_4 3 rfl rfl)
theorem dX2_sign_95 : decode cX2_sign 95 = .ok (.invokevirtual 26, 3) := dk_182 0 26 (dk_at dksX2_sign_4 4 rfl rfl)
theorem dX2_sign_98 : decode cX2_sign 98 = .ok (.bipush 61, 2) := dk_16 61 (dk_at dksX2_sign_4 7 rfl rfl)
theorem dX2_sign_100 : decode cX2_sign 100 = .ok (.if_icmp .ne 10, 3) := dk_160 0 10 (dk_at dksX2_sign_4 9 rfl rfl)
theorem dX2_sign_103 : decode cX2_sign 103 = .ok (.aload_n 0, 1) := dk_42 (dk_at dksX2_sign_4 12 rfl rfl)
theorem dX2_sign_104 : decode cX2_sign 104 = .ok (.sipush 257, 3) := dk_17 1 1 (dk_at dksX2_sign_4 13 rfl rfl)
theorem dX2_sign_107 : decode cX2_sign 107 = .ok (.putfield 43, 3) := dk_181 0 43 (dk_at dksX2_sign_4 16 rfl rfl)
theorem dX2_sign_110 : decode cX2_sign 110 = .ok (.aload_n 0, 1) := dk_42 (dk_at dksX2_sign_4 19 rfl rfl)
theorem dX2_sign_111 : decode cX2_sign 111 = .ok (.getfield 43, 3) := dk_180 0 43 (dk_at dksX2_sign_4 20 rfl rfl)
theorem dX2_sign_114 : decode cX2_sign 114 = .ok (.sipush 256, 3) := dk_17 1 0 (dk_at dksX2_sign_5 0 rfl rfl)
theorem dX2_sign_117 : decode cX2_sign 117 = .ok (.if_icmp .lt 13, 3) := dk_161 0 13 (dk_at dksX2_sign_5 3 rfl rfl)
theorem dX2_sign_120 : decode cX2_sign 120 = .ok (.aload_n 0, 1) := dk_42 (dk_at dksX2_sign_5 6 rfl rfl)
theorem dX2_sign_121 : decode cX2_sign 121 = .ok (.dup, 1) := dk_89 (dk_at dksX2_sign_5 7 rfl rfl)
theorem dX2_sign_122 : decode cX2_sign 122 = .ok (.getfield 15, 3) := dk_180 0 15 (dk_at dksX2_sign_5 8 rfl rfl)
theorem dX2_sign_125 : decode cX2_sign 125 = .ok (.iconst 1, 1) := dk_4 (dk_at dksX2_sign_5 11 rfl rfl)
theorem dX2_sign_126 : decode cX2_sign 126 = .ok (.iadd, 1) := dk_96 (dk_at dksX2_sign_5 12 rfl rfl)
theorem dX2_sign_127 : decode cX2_sign 127 = .ok (.putfield 15, 3) := dk_181 0 15 (dk_at dksX2_sign_5 13 rfl rfl)
theorem dX2_sign_130 : decode cX2_sign 130 = .ok (.return_, 1) := dk_177 (dk_at dksX2_sign_5 16 rfl rfl)
abbrev cX2_line : ByteArray := prog_11_method_13_code
def yX2_line : MethodName := ⟨RX2, "line", "()V"⟩
def dkwX2_line_10 : List UInt8 := [42, 180, 0, 93, 89, 180, 0, 142, 4, 96, 181, 0, 142, 177]
abbrev dktX2_line_10 : List UInt8 := dkwX2_line_10 ++ []
def dkwX2_line_9 : List UInt8 := [42, 182, 0, 134, 83, 42, 16, 59, 182, 0, 138, 154, 0, 9, 42, 4, 182, 0, 80, 191, 42, 182, 0, 84]
abbrev dktX2_line_9 : List UInt8 := dkwX2_line_9 ++ dktX2_line_10
def dkwX2_line_8 : List UInt8 := [3, 182, 0, 127, 167, 0, 25, 42, 182, 0, 131, 167, 0, 18, 42, 180, 0, 93, 180, 0, 117, 27, 8, 100]
abbrev dktX2_line_8 : List UInt8 := dkwX2_line_8 ++ dktX2_line_9
def dkwX2_line_7 : List UInt8 := [42, 182, 0, 121, 167, 0, 49, 42, 182, 0, 124, 167, 0, 42, 42, 27, 6, 160, 0, 7, 4, 167, 0, 4]
abbrev dktX2_line_7 : List UInt8 := dkwX2_line_7 ++ dktX2_line_8
def dkwX2_line_6 : List UInt8 := [170, 0, 0, 0, 71, 0, 0, 0, 0, 0, 0, 0, 4, 0, 0, 0, 33, 0, 0, 0, 40, 0, 0, 0, 47, 0, 0, 0, 47, 0, 0, 0, 64]
abbrev dktX2_line_6 : List UInt8 := dkwX2_line_6 ++ dktX2_line_7
def dkwX2_line_5 : List UInt8 := [180, 0, 93, 180, 0, 117, 27, 8, 100, 50, 198, 0, 9, 42, 6, 182, 0, 80, 191, 42, 182, 0, 84, 27]
abbrev dktX2_line_5 : List UInt8 := dkwX2_line_5 ++ dktX2_line_6
def dkwX2_line_4 : List UInt8 := [180, 0, 114, 182, 0, 104, 16, 20, 160, 0, 9, 42, 5, 182, 0, 80, 191, 27, 8, 161, 0, 23, 42]
abbrev dktX2_line_4 : List UInt8 := dkwX2_line_4 ++ dktX2_line_5
def dkwX2_line_3 : List UInt8 := [180, 0, 93, 180, 0, 111, 182, 0, 104, 16, 40, 159, 0, 23, 27, 7, 160, 0, 24, 42, 180, 0, 93]
abbrev dktX2_line_3 : List UInt8 := dkwX2_line_3 ++ dktX2_line_4
def dkwX2_line_2 : List UInt8 := [180, 0, 93, 180, 0, 108, 182, 0, 104, 8, 159, 0, 47, 27, 5, 6, 184, 0, 36, 153, 0, 18, 42]
abbrev dktX2_line_2 : List UInt8 := dkwX2_line_2 ++ dktX2_line_3
def dkwX2_line_1 : List UInt8 := [154, 0, 18, 42, 180, 0, 93, 180, 0, 100, 182, 0, 104, 16, 8, 159, 0, 66, 27, 4, 160, 0, 17, 42]
abbrev dktX2_line_1 : List UInt8 := dkwX2_line_1 ++ dktX2_line_2
def dkwX2_line_0 : List UInt8 := [42, 3, 16, 7, 182, 0, 76, 154, 0, 9, 42, 4, 182, 0, 80, 191, 42, 180, 0, 43, 60, 27]
abbrev dktX2_line_0 : List UInt8 := dkwX2_line_0 ++ dktX2_line_1
theorem dksX2_line_0 : cX2_line.data.toList.drop 0 = dktX2_line_0 := by decide +kernel
theorem dksX2_line_1 : cX2_line.data.toList.drop 22 = dktX2_line_1 := dk_seg dksX2_line_0 22 rfl rfl
theorem dksX2_line_2 : cX2_line.data.toList.drop 46 = dktX2_line_2 := dk_seg dksX2_line_1 24 rfl rfl
theorem dksX2_line_3 : cX2_line.data.toList.drop 69 = dktX2_line_3 := dk_seg dksX2_line_2 23 rfl rfl
theorem dksX2_line_4 : cX2_line.data.toList.drop 92 = dktX2_line_4 := dk_seg dksX2_line_3 23 rfl rfl
theorem dksX2_line_5 : cX2_line.data.toList.drop 115 = dktX2_line_5 := dk_seg dksX2_line_4 23 rfl rfl
theorem dksX2_line_6 : cX2_line.data.toList.drop 139 = dktX2_line_6 := dk_seg dksX2_line_5 24 rfl rfl
theorem dksX2_line_7 : cX2_line.data.toList.drop 172 = dktX2_line_7 := dk_seg dksX2_line_6 33 rfl rfl
theorem dksX2_line_8 : cX2_line.data.toList.drop 196 = dktX2_line_8 := dk_seg dksX2_line_7 24 rfl rfl
theorem dksX2_line_9 : cX2_line.data.toList.drop 220 = dktX2_line_9 := dk_seg dksX2_line_8 24 rfl rfl
theorem dksX2_line_10 : cX2_line.data.toList.drop 244 = dktX2_line_10 := dk_seg dksX2_line_9 24 rfl rfl
theorem dX2_line_0 : decode cX2_line 0 = .ok (.aload_n 0, 1) := dk_42 (dk_at dksX2_line_0 0 rfl rfl)
theorem dX2_line_1 : decode cX2_line 1 = .ok (.iconst 0, 1) := dk_3 (dk_at dksX2_line_0 1 rfl rfl)
theorem dX2_line_2 : decode cX2_line 2 = .ok (.bipush 7, 2) := dk_16 7 (dk_at dksX2_line_0 2 rfl rfl)
theorem dX2_line_4 : decode cX2_line 4 = .ok (.invokevirtual 76, 3) := dk_182 0 76 (dk_at dksX2_line_0 4 rfl rfl)
theorem dX2_line_7 : decode cX2_line 7 = .ok (.ifCond .ne 9, 3) := dk_154 0 9 (dk_at dksX2_line_0 7 rfl rfl)
theorem dX2_line_10 : decode cX2_line 10 = .ok (.aload_n 0, 1) := dk_42 (dk_at dksX2_line_0 10 rfl rfl)
theorem dX2_line_11 : decode cX2_line 11 = .ok (.iconst 1, 1) := dk_4 (dk_at dksX2_line_0 11 rfl rfl)
theorem dX2_line_12 : decode cX2_line 12 = .ok (.invokevirtual 80, 3) := dk_182 0 80 (dk_at dksX2_line_0 12 rfl rfl)
theorem dX2_line_15 : decode cX2_line 15 = .ok (.athrow, 1) := dk_191 (dk_at dksX2_line_0 15 rfl rfl)
theorem dX2_line_16 : decode cX2_line 16 = .ok (.aload_n 0, 1) := dk_42 (dk_at dksX2_line_0 16 rfl rfl)
theorem dX2_line_17 : decode cX2_line 17 = .ok (.getfield 43, 3) := dk_180 0 43 (dk_at dksX2_line_0 17 rfl rfl)
theorem dX2_line_20 : decode cX2_line 20 = .ok (.istore_n 1, 1) := dk_60 (dk_at dksX2_line_0 20 rfl rfl)
theorem dX2_line_21 : decode cX2_line 21 = .ok (.iload_n 1, 1) := dk_27 (dk_at dksX2_line_0 21 rfl rfl)
theorem dX2_line_22 : decode cX2_line 22 = .ok (.ifCond .ne 18, 3) := dk_154 0 18 (dk_at dksX2_line_1 0 rfl rfl)
theorem dX2_line_25 : decode cX2_line 25 = .ok (.aload_n 0, 1) := dk_42 (dk_at dksX2_line_1 3 rfl rfl)
theorem dX2_line_26 : decode cX2_line 26 = .ok (.getfield 93, 3) := dk_180 0 93 (dk_at dksX2_line_1 4 rfl rfl)
theorem dX2_line_29 : decode cX2_line 29 = .ok (.getfield 100, 3) := dk_180 0 100 (dk_at dksX2_line_1 7 rfl rfl)
theorem dX2_line_32 : decode cX2_line 32 = .ok (.invokevirtual 104, 3) := dk_182 0 104 (dk_at dksX2_line_1 10 rfl rfl)
theorem dX2_line_35 : decode cX2_line 35 = .ok (.bipush 8, 2) := dk_16 8 (dk_at dksX2_line_1 13 rfl rfl)
theorem dX2_line_37 : decode cX2_line 37 = .ok (.if_icmp .eq 66, 3) := dk_159 0 66 (dk_at dksX2_line_1 15 rfl rfl)
theorem dX2_line_40 : decode cX2_line 40 = .ok (.iload_n 1, 1) := dk_27 (dk_at dksX2_line_1 18 rfl rfl)
theorem dX2_line_41 : decode cX2_line 41 = .ok (.iconst 1, 1) := dk_4 (dk_at dksX2_line_1 19 rfl rfl)
theorem dX2_line_42 : decode cX2_line 42 = .ok (.if_icmp .ne 17, 3) := dk_160 0 17 (dk_at dksX2_line_1 20 rfl rfl)
theorem dX2_line_45 : decode cX2_line 45 = .ok (.aload_n 0, 1) := dk_42 (dk_at dksX2_line_1 23 rfl rfl)
theorem dX2_line_46 : decode cX2_line 46 = .ok (.getfield 93, 3) := dk_180 0 93 (dk_at dksX2_line_2 0 rfl rfl)
theorem dX2_line_49 : decode cX2_line 49 = .ok (.getfield 108, 3) := dk_180 0 108 (dk_at dksX2_line_2 3 rfl rfl)
theorem dX2_line_52 : decode cX2_line 52 = .ok (.invokevirtual 104, 3) := dk_182 0 104 (dk_at dksX2_line_2 6 rfl rfl)
theorem dX2_line_55 : decode cX2_line 55 = .ok (.iconst 5, 1) := dk_8 (dk_at dksX2_line_2 9 rfl rfl)
theorem dX2_line_56 : decode cX2_line 56 = .ok (.if_icmp .eq 47, 3) := dk_159 0 47 (dk_at dksX2_line_2 10 rfl rfl)
theorem dX2_line_59 : decode cX2_line 59 = .ok (.iload_n 1, 1) := dk_27 (dk_at dksX2_line_2 13 rfl rfl)
theorem dX2_line_60 : decode cX2_line 60 = .ok (.iconst 2, 1) := dk_5 (dk_at dksX2_line_2 14 rfl rfl)
theorem dX2_line_61 : decode cX2_line 61 = .ok (.iconst 3, 1) := dk_6 (dk_at dksX2_line_2 15 rfl rfl)
theorem dX2_line_62 : decode cX2_line 62 = .ok (.invokestatic 36, 3) := dk_184 0 36 (dk_at dksX2_line_2 16 rfl rfl)
theorem dX2_line_65 : decode cX2_line 65 = .ok (.ifCond .eq 18, 3) := dk_153 0 18 (dk_at dksX2_line_2 19 rfl rfl)
theorem dX2_line_68 : decode cX2_line 68 = .ok (.aload_n 0, 1) := dk_42 (dk_at dksX2_line_2 22 rfl rfl)
theorem dX2_line_69 : decode cX2_line 69 = .ok (.getfield 93, 3) := dk_180 0 93 (dk_at dksX2_line_3 0 rfl rfl)
theorem dX2_line_72 : decode cX2_line 72 = .ok (.getfield 111, 3) := dk_180 0 111 (dk_at dksX2_line_3 3 rfl rfl)
theorem dX2_line_75 : decode cX2_line 75 = .ok (.invokevirtual 104, 3) := dk_182 0 104 (dk_at dksX2_line_3 6 rfl rfl)
theorem dX2_line_78 : decode cX2_line 78 = .ok (.bipush 40, 2) := dk_16 40 (dk_at dksX2_line_3 9 rfl rfl)
theorem dX2_line_80 : decode cX2_line 80 = .ok (.if_icmp .eq 23, 3) := dk_159 0 23 (dk_at dksX2_line_3 11 rfl rfl)
theorem dX2_line_83 : decode cX2_line 83 = .ok (.iload_n 1, 1) := dk_27 (dk_at dksX2_line_3 14 rfl rfl)
theorem dX2_line_84 : decode cX2_line 84 = .ok (.iconst 4, 1) := dk_7 (dk_at dksX2_line_3 15 rfl rfl)
theorem dX2_line_85 : decode cX2_line 85 = .ok (.if_icmp .ne 24, 3) := dk_160 0 24 (dk_at dksX2_line_3 16 rfl rfl)
theorem dX2_line_88 : decode cX2_line 88 = .ok (.aload_n 0, 1) := dk_42 (dk_at dksX2_line_3 19 rfl rfl)
theorem dX2_line_89 : decode cX2_line 89 = .ok (.getfield 93, 3) := dk_180 0 93 (dk_at dksX2_line_3 20 rfl rfl)
theorem dX2_line_92 : decode cX2_line 92 = .ok (.getfield 114, 3) := dk_180 0 114 (dk_at dksX2_line_4 0 rfl rfl)
theorem dX2_line_95 : decode cX2_line 95 = .ok (.invokevirtual 104, 3) := dk_182 0 104 (dk_at dksX2_line_4 3 rfl rfl)
theorem dX2_line_98 : decode cX2_line 98 = .ok (.bipush 20, 2) := dk_16 20 (dk_at dksX2_line_4 6 rfl rfl)
theorem dX2_line_100 : decode cX2_line 100 = .ok (.if_icmp .ne 9, 3) := dk_160 0 9 (dk_at dksX2_line_4 8 rfl rfl)
theorem dX2_line_103 : decode cX2_line 103 = .ok (.aload_n 0, 1) := dk_42 (dk_at dksX2_line_4 11 rfl rfl)
theorem dX2_line_104 : decode cX2_line 104 = .ok (.iconst 2, 1) := dk_5 (dk_at dksX2_line_4 12 rfl rfl)
theorem dX2_line_105 : decode cX2_line 105 = .ok (.invokevirtual 80, 3) := dk_182 0 80 (dk_at dksX2_line_4 13 rfl rfl)
theorem dX2_line_108 : decode cX2_line 108 = .ok (.athrow, 1) := dk_191 (dk_at dksX2_line_4 16 rfl rfl)
theorem dX2_line_109 : decode cX2_line 109 = .ok (.iload_n 1, 1) := dk_27 (dk_at dksX2_line_4 17 rfl rfl)
theorem dX2_line_110 : decode cX2_line 110 = .ok (.iconst 5, 1) := dk_8 (dk_at dksX2_line_4 18 rfl rfl)
theorem dX2_line_111 : decode cX2_line 111 = .ok (.if_icmp .lt 23, 3) := dk_161 0 23 (dk_at dksX2_line_4 19 rfl rfl)
theorem dX2_line_114 : decode cX2_line 114 = .ok (.aload_n 0, 1) := dk_42 (dk_at dksX2_line_4 22 rfl rfl)
theorem dX2_line_115 : decode cX2_line 115 = .ok (.getfield 93, 3) := dk_180 0 93 (dk_at dksX2_line_5 0 rfl rfl)
theorem dX2_line_118 : decode cX2_line 118 = .ok (.getfield 117, 3) := dk_180 0 117 (dk_at dksX2_line_5 3 rfl rfl)
theorem dX2_line_121 : decode cX2_line 121 = .ok (.iload_n 1, 1) := dk_27 (dk_at dksX2_line_5 6 rfl rfl)
theorem dX2_line_122 : decode cX2_line 122 = .ok (.iconst 5, 1) := dk_8 (dk_at dksX2_line_5 7 rfl rfl)
theorem dX2_line_123 : decode cX2_line 123 = .ok (.isub, 1) := dk_100 (dk_at dksX2_line_5 8 rfl rfl)
theorem dX2_line_124 : decode cX2_line 124 = .ok (.aaload, 1) := dk_50 (dk_at dksX2_line_5 9 rfl rfl)
theorem dX2_line_125 : decode cX2_line 125 = .ok (.ifnull 9, 3) := dk_198 0 9 (dk_at dksX2_line_5 10 rfl rfl)
theorem dX2_line_128 : decode cX2_line 128 = .ok (.aload_n 0, 1) := dk_42 (dk_at dksX2_line_5 13 rfl rfl)
theorem dX2_line_129 : decode cX2_line 129 = .ok (.iconst 3, 1) := dk_6 (dk_at dksX2_line_5 14 rfl rfl)
theorem dX2_line_130 : decode cX2_line 130 = .ok (.invokevirtual 80, 3) := dk_182 0 80 (dk_at dksX2_line_5 15 rfl rfl)
theorem dX2_line_133 : decode cX2_line 133 = .ok (.athrow, 1) := dk_191 (dk_at dksX2_line_5 18 rfl rfl)
theorem dX2_line_134 : decode cX2_line 134 = .ok (.aload_n 0, 1) := dk_42 (dk_at dksX2_line_5 19 rfl rfl)
theorem dX2_line_135 : decode cX2_line 135 = .ok (.invokevirtual 84, 3) := dk_182 0 84 (dk_at dksX2_line_5 20 rfl rfl)
theorem dX2_line_138 : decode cX2_line 138 = .ok (.iload_n 1, 1) := dk_27 (dk_at dksX2_line_5 23 rfl rfl)
theorem dX2_line_139 : decode cX2_line 139 = .ok (.tableswitch 71 0 4 #[33, 40, 47, 47, 64], 33) := by decide +kernel
theorem dX2_line_172 : decode cX2_line 172 = .ok (.aload_n 0, 1) := dk_42 (dk_at dksX2_line_7 0 rfl rfl)
theorem dX2_line_173 : decode cX2_line 173 = .ok (.invokevirtual 121, 3) := dk_182 0 121 (dk_at dksX2_line_7 1 rfl rfl)
theorem dX2_line_176 : decode cX2_line 176 = .ok (.goto 49, 3) := dk_167 0 49 (dk_at dksX2_line_7 4 rfl rfl)
theorem dX2_line_179 : decode cX2_line 179 = .ok (.aload_n 0, 1) := dk_42 (dk_at dksX2_line_7 7 rfl rfl)
theorem dX2_line_180 : decode cX2_line 180 = .ok (.invokevirtual 124, 3) := dk_182 0 124 (dk_at dksX2_line_7 8 rfl rfl)
theorem dX2_line_183 : decode cX2_line 183 = .ok (.goto 42, 3) := dk_167 0 42 (dk_at dksX2_line_7 11 rfl rfl)
theorem dX2_line_186 : decode cX2_line 186 = .ok (.aload_n 0, 1) := dk_42 (dk_at dksX2_line_7 14 rfl rfl)
theorem dX2_line_187 : decode cX2_line 187 = .ok (.iload_n 1, 1) := dk_27 (dk_at dksX2_line_7 15 rfl rfl)
theorem dX2_line_188 : decode cX2_line 188 = .ok (.iconst 3, 1) := dk_6 (dk_at dksX2_line_7 16 rfl rfl)
theorem dX2_line_189 : decode cX2_line 189 = .ok (.if_icmp .ne 7, 3) := dk_160 0 7 (dk_at dksX2_line_7 17 rfl rfl)
theorem dX2_line_192 : decode cX2_line 192 = .ok (.iconst 1, 1) := dk_4 (dk_at dksX2_line_7 20 rfl rfl)
theorem dX2_line_193 : decode cX2_line 193 = .ok (.goto 4, 3) := dk_167 0 4 (dk_at dksX2_line_7 21 rfl rfl)
theorem dX2_line_196 : decode cX2_line 196 = .ok (.iconst 0, 1) := dk_3 (dk_at dksX2_line_8 0 rfl rfl)
theorem dX2_line_197 : decode cX2_line 197 = .ok (.invokevirtual 127, 3) := dk_182 0 127 (dk_at dksX2_line_8 1 rfl rfl)
theorem dX2_line_200 : decode cX2_line 200 = .ok (.goto 25, 3) := dk_167 0 25 (dk_at dksX2_line_8 4 rfl rfl)
theorem dX2_line_203 : decode cX2_line 203 = .ok (.aload_n 0, 1) := dk_42 (dk_at dksX2_line_8 7 rfl rfl)
theorem dX2_line_204 : decode cX2_line 204 = .ok (.invokevirtual 131, 3) := dk_182 0 131 (dk_at dksX2_line_8 8 rfl rfl)
theorem dX2_line_207 : decode cX2_line 207 = .ok (.goto 18, 3) := dk_167 0 18 (dk_at dksX2_line_8 11 rfl rfl)
theorem dX2_line_210 : decode cX2_line 210 = .ok (.aload_n 0, 1) := dk_42 (dk_at dksX2_line_8 14 rfl rfl)
theorem dX2_line_211 : decode cX2_line 211 = .ok (.getfield 93, 3) := dk_180 0 93 (dk_at dksX2_line_8 15 rfl rfl)
theorem dX2_line_214 : decode cX2_line 214 = .ok (.getfield 117, 3) := dk_180 0 117 (dk_at dksX2_line_8 18 rfl rfl)
theorem dX2_line_217 : decode cX2_line 217 = .ok (.iload_n 1, 1) := dk_27 (dk_at dksX2_line_8 21 rfl rfl)
theorem dX2_line_218 : decode cX2_line 218 = .ok (.iconst 5, 1) := dk_8 (dk_at dksX2_line_8 22 rfl rfl)
theorem dX2_line_219 : decode cX2_line 219 = .ok (.isub, 1) := dk_100 (dk_at dksX2_line_8 23 rfl rfl)
theorem dX2_line_220 : decode cX2_line 220 = .ok (.aload_n 0, 1) := dk_42 (dk_at dksX2_line_9 0 rfl rfl)
theorem dX2_line_221 : decode cX2_line 221 = .ok (.invokevirtual 134, 3) := dk_182 0 134 (dk_at dksX2_line_9 1 rfl rfl)
theorem dX2_line_224 : decode cX2_line 224 = .ok (.aastore, 1) := dk_83 (dk_at dksX2_line_9 4 rfl rfl)
theorem dX2_line_225 : decode cX2_line 225 = .ok (.aload_n 0, 1) := dk_42 (dk_at dksX2_line_9 5 rfl rfl)
theorem dX2_line_226 : decode cX2_line 226 = .ok (.bipush 59, 2) := dk_16 59 (dk_at dksX2_line_9 6 rfl rfl)
theorem dX2_line_228 : decode cX2_line 228 = .ok (.invokevirtual 138, 3) := dk_182 0 138 (dk_at dksX2_line_9 8 rfl rfl)
theorem dX2_line_231 : decode cX2_line 231 = .ok (.ifCond .ne 9, 3) := dk_154 0 9 (dk_at dksX2_line_9 11 rfl rfl)
theorem dX2_line_234 : decode cX2_line 234 = .ok (.aload_n 0, 1) := dk_42 (dk_at dksX2_line_9 14 rfl rfl)
theorem dX2_line_235 : decode cX2_line 235 = .ok (.iconst 1, 1) := dk_4 (dk_at dksX2_line_9 15 rfl rfl)
theorem dX2_line_236 : decode cX2_line 236 = .ok (.invokevirtual 80, 3) := dk_182 0 80 (dk_at dksX2_line_9 16 rfl rfl)
theorem dX2_line_239 : decode cX2_line 239 = .ok (.athrow, 1) := dk_191 (dk_at dksX2_line_9 19 rfl rfl)
theorem dX2_line_240 : decode cX2_line 240 = .ok (.aload_n 0, 1) := dk_42 (dk_at dksX2_line_9 20 rfl rfl)
theorem dX2_line_241 : decode cX2_line 241 = .ok (.invokevirtual 84, 3) := dk_182 0 84 (dk_at dksX2_line_9 21 rfl rfl)
theorem dX2_line_244 : decode cX2_line 244 = .ok (.aload_n 0, 1) := dk_42 (dk_at dksX2_line_10 0 rfl rfl)
theorem dX2_line_245 : decode cX2_line 245 = .ok (.getfield 93, 3) := dk_180 0 93 (dk_at dksX2_line_10 1 rfl rfl)
theorem dX2_line_248 : decode cX2_line 248 = .ok (.dup, 1) := dk_89 (dk_at dksX2_line_10 4 rfl rfl)
theorem dX2_line_249 : decode cX2_line 249 = .ok (.getfield 142, 3) := dk_180 0 142 (dk_at dksX2_line_10 5 rfl rfl)
theorem dX2_line_252 : decode cX2_line 252 = .ok (.iconst 1, 1) := dk_4 (dk_at dksX2_line_10 8 rfl rfl)
theorem dX2_line_253 : decode cX2_line 253 = .ok (.iadd, 1) := dk_96 (dk_at dksX2_line_10 9 rfl rfl)
theorem dX2_line_254 : decode cX2_line 254 = .ok (.putfield 142, 3) := dk_181 0 142 (dk_at dksX2_line_10 10 rfl rfl)
theorem dX2_line_257 : decode cX2_line 257 = .ok (.return_, 1) := dk_177 (dk_at dksX2_line_10 13 rfl rfl)
abbrev cX2_isWord : ByteArray := prog_11_method_8_code
def yX2_isWord : MethodName := ⟨RX2, "isWord", "(II)Z"⟩
def dkwX2_isWord_1 : List UInt8 := [172]
abbrev dktX2_isWord_1 : List UInt8 := dkwX2_isWord_1 ++ []
def dkwX2_isWord_0 : List UInt8 := [42, 180, 0, 33, 154, 0, 19, 42, 180, 0, 43, 27, 28, 184, 0, 36, 153, 0, 7, 4, 167, 0, 4, 3]
abbrev dktX2_isWord_0 : List UInt8 := dkwX2_isWord_0 ++ dktX2_isWord_1
theorem dksX2_isWord_0 : cX2_isWord.data.toList.drop 0 = dktX2_isWord_0 := by decide +kernel
theorem dksX2_isWord_1 : cX2_isWord.data.toList.drop 24 = dktX2_isWord_1 := dk_seg dksX2_isWord_0 24 rfl rfl
theorem dX2_isWord_0 : decode cX2_isWord 0 = .ok (.aload_n 0, 1) := dk_42 (dk_at dksX2_isWord_0 0 rfl rfl)
theorem dX2_isWord_1 : decode cX2_isWord 1 = .ok (.getfield 33, 3) := dk_180 0 33 (dk_at dksX2_isWord_0 1 rfl rfl)
theorem dX2_isWord_4 : decode cX2_isWord 4 = .ok (.ifCond .ne 19, 3) := dk_154 0 19 (dk_at dksX2_isWord_0 4 rfl rfl)
theorem dX2_isWord_7 : decode cX2_isWord 7 = .ok (.aload_n 0, 1) := dk_42 (dk_at dksX2_isWord_0 7 rfl rfl)
theorem dX2_isWord_8 : decode cX2_isWord 8 = .ok (.getfield 43, 3) := dk_180 0 43 (dk_at dksX2_isWord_0 8 rfl rfl)
theorem dX2_isWord_11 : decode cX2_isWord 11 = .ok (.iload_n 1, 1) := dk_27 (dk_at dksX2_isWord_0 11 rfl rfl)
theorem dX2_isWord_12 : decode cX2_isWord 12 = .ok (.iload_n 2, 1) := dk_28 (dk_at dksX2_isWord_0 12 rfl rfl)
theorem dX2_isWord_13 : decode cX2_isWord 13 = .ok (.invokestatic 36, 3) := dk_184 0 36 (dk_at dksX2_isWord_0 13 rfl rfl)
theorem dX2_isWord_16 : decode cX2_isWord 16 = .ok (.ifCond .eq 7, 3) := dk_153 0 7 (dk_at dksX2_isWord_0 16 rfl rfl)
theorem dX2_isWord_19 : decode cX2_isWord 19 = .ok (.iconst 1, 1) := dk_4 (dk_at dksX2_isWord_0 19 rfl rfl)
theorem dX2_isWord_20 : decode cX2_isWord 20 = .ok (.goto 4, 3) := dk_167 0 4 (dk_at dksX2_isWord_0 20 rfl rfl)
theorem dX2_isWord_23 : decode cX2_isWord 23 = .ok (.iconst 0, 1) := dk_3 (dk_at dksX2_isWord_0 23 rfl rfl)
theorem dX2_isWord_24 : decode cX2_isWord 24 = .ok (.ireturn, 1) := dk_172 (dk_at dksX2_isWord_1 0 rfl rfl)
abbrev cX2_wrong : ByteArray := prog_11_method_7_code
def yX2_wrong : MethodName := ⟨RX2, "wrong", "(I)LSaidSo$Fault;"⟩
def dkwX2_wrong_0 : List UInt8 := [187, 0, 71, 89, 27, 42, 180, 0, 30, 183, 0, 73, 176]
abbrev dktX2_wrong_0 : List UInt8 := dkwX2_wrong_0 ++ []
theorem dksX2_wrong_0 : cX2_wrong.data.toList.drop 0 = dktX2_wrong_0 := by decide +kernel
theorem dX2_wrong_0 : decode cX2_wrong 0 = .ok (.new 71, 3) := dk_187 0 71 (dk_at dksX2_wrong_0 0 rfl rfl)
theorem dX2_wrong_3 : decode cX2_wrong 3 = .ok (.dup, 1) := dk_89 (dk_at dksX2_wrong_0 3 rfl rfl)
theorem dX2_wrong_4 : decode cX2_wrong 4 = .ok (.iload_n 1, 1) := dk_27 (dk_at dksX2_wrong_0 4 rfl rfl)
theorem dX2_wrong_5 : decode cX2_wrong 5 = .ok (.aload_n 0, 1) := dk_42 (dk_at dksX2_wrong_0 5 rfl rfl)
theorem dX2_wrong_6 : decode cX2_wrong 6 = .ok (.getfield 30, 3) := dk_180 0 30 (dk_at dksX2_wrong_0 6 rfl rfl)
theorem dX2_wrong_9 : decode cX2_wrong 9 = .ok (.invokespecial 73, 3) := dk_183 0 73 (dk_at dksX2_wrong_0 9 rfl rfl)
theorem dX2_wrong_12 : decode cX2_wrong 12 = .ok (.areturn, 1) := dk_176 (dk_at dksX2_wrong_0 12 rfl rfl)
abbrev cX2_thing : ByteArray := prog_11_method_16_code
def yX2_thing : MethodName := ⟨RX2, "thing", "()V"⟩
def dkwX2_thing_6 : List UInt8 := [177]
abbrev dktX2_thing_6 : List UInt8 := dkwX2_thing_6 ++ []
def dkwX2_thing_5 : List UInt8 := [167, 0, 9, 45, 21, 5, 181, 0, 169, 167, 255, 169, 42, 180, 0, 93, 180, 0, 100, 45, 182, 0, 172, 87]
abbrev dktX2_thing_5 : List UInt8 := dkwX2_thing_5 ++ dktX2_thing_6
def dkwX2_thing_4 : List UInt8 := [182, 0, 84, 42, 3, 17, 0, 199, 182, 0, 153, 54, 5, 21, 4, 153, 0, 12, 45, 21, 5, 181, 0, 166]
abbrev dktX2_thing_4 : List UInt8 := dkwX2_thing_4 ++ dktX2_thing_5
def dkwX2_thing_3 : List UInt8 := [45, 180, 0, 166, 167, 0, 7, 45, 180, 0, 169, 2, 159, 0, 9, 42, 6, 182, 0, 80, 191, 42]
abbrev dktX2_thing_3 : List UInt8 := dkwX2_thing_3 ++ dktX2_thing_4
def dkwX2_thing_2 : List UInt8 := [153, 0, 82, 42, 180, 0, 43, 16, 9, 160, 0, 7, 4, 167, 0, 4, 3, 54, 4, 21, 4, 153, 0, 10]
abbrev dktX2_thing_2 : List UInt8 := dkwX2_thing_2 ++ dktX2_thing_3
def dkwX2_thing_1 : List UInt8 := [27, 28, 42, 3, 28, 4, 100, 182, 0, 153, 183, 0, 163, 78, 42, 16, 9, 16, 10, 182, 0, 76]
abbrev dktX2_thing_1 : List UInt8 := dkwX2_thing_1 ++ dktX2_thing_2
def dkwX2_thing_0 : List UInt8 := [42, 4, 182, 0, 149, 60, 42, 5, 16, 9, 182, 0, 153, 61, 42, 16, 8, 182, 0, 157, 187, 0, 161, 89]
abbrev dktX2_thing_0 : List UInt8 := dkwX2_thing_0 ++ dktX2_thing_1
theorem dksX2_thing_0 : cX2_thing.data.toList.drop 0 = dktX2_thing_0 := by decide +kernel
theorem dksX2_thing_1 : cX2_thing.data.toList.drop 24 = dktX2_thing_1 := dk_seg dksX2_thing_0 24 rfl rfl
theorem dksX2_thing_2 : cX2_thing.data.toList.drop 46 = dktX2_thing_2 := dk_seg dksX2_thing_1 22 rfl rfl
theorem dksX2_thing_3 : cX2_thing.data.toList.drop 70 = dktX2_thing_3 := dk_seg dksX2_thing_2 24 rfl rfl
theorem dksX2_thing_4 : cX2_thing.data.toList.drop 92 = dktX2_thing_4 := dk_seg dksX2_thing_3 22 rfl rfl
theorem dksX2_thing_5 : cX2_thing.data.toList.drop 116 = dktX2_thing_5 := dk_seg dksX2_thing_4 24 rfl rfl
theorem dksX2_thing_6 : cX2_thing.data.toList.drop 140 = dktX2_thing_6 := dk_seg dksX2_thing_5 24 rfl rfl
theorem dX2_thing_0 : decode cX2_thing 0 = .ok (.aload_n 0, 1) := dk_42 (dk_at dksX2_thing_0 0 rfl rfl)
theorem dX2_thing_1 : decode cX2_thing 1 = .ok (.iconst 1, 1) := dk_4 (dk_at dksX2_thing_0 1 rfl rfl)
theorem dX2_thing_2 : decode cX2_thing 2 = .ok (.invokevirtual 149, 3) := dk_182 0 149 (dk_at dksX2_thing_0 2 rfl rfl)
theorem dX2_thing_5 : decode cX2_thing 5 = .ok (.istore_n 1, 1) := dk_60 (dk_at dksX2_thing_0 5 rfl rfl)
theorem dX2_thing_6 : decode cX2_thing 6 = .ok (.aload_n 0, 1) := dk_42 (dk_at dksX2_thing_0 6 rfl rfl)
theorem dX2_thing_7 : decode cX2_thing 7 = .ok (.iconst 2, 1) := dk_5 (dk_at dksX2_thing_0 7 rfl rfl)
theorem dX2_thing_8 : decode cX2_thing 8 = .ok (.bipush 9, 2) := dk_16 9 (dk_at dksX2_thing_0 8 rfl rfl)
theorem dX2_thing_10 : decode cX2_thing 10 = .ok (.invokevirtual 153, 3) := dk_182 0 153 (dk_at dksX2_thing_0 10 rfl rfl)
theorem dX2_thing_13 : decode cX2_thing 13 = .ok (.istore_n 2, 1) := dk_61 (dk_at dksX2_thing_0 13 rfl rfl)
theorem dX2_thing_14 : decode cX2_thing 14 = .ok (.aload_n 0, 1) := dk_42 (dk_at dksX2_thing_0 14 rfl rfl)
theorem dX2_thing_15 : decode cX2_thing 15 = .ok (.bipush 8, 2) := dk_16 8 (dk_at dksX2_thing_0 15 rfl rfl)
theorem dX2_thing_17 : decode cX2_thing 17 = .ok (.invokevirtual 157, 3) := dk_182 0 157 (dk_at dksX2_thing_0 17 rfl rfl)
theorem dX2_thing_20 : decode cX2_thing 20 = .ok (.new 161, 3) := dk_187 0 161 (dk_at dksX2_thing_0 20 rfl rfl)
theorem dX2_thing_23 : decode cX2_thing 23 = .ok (.dup, 1) := dk_89 (dk_at dksX2_thing_0 23 rfl rfl)
theorem dX2_thing_24 : decode cX2_thing 24 = .ok (.iload_n 1, 1) := dk_27 (dk_at dksX2_thing_1 0 rfl rfl)
theorem dX2_thing_25 : decode cX2_thing 25 = .ok (.iload_n 2, 1) := dk_28 (dk_at dksX2_thing_1 1 rfl rfl)
theorem dX2_thing_26 : decode cX2_thing 26 = .ok (.aload_n 0, 1) := dk_42 (dk_at dksX2_thing_1 2 rfl rfl)
theorem dX2_thing_27 : decode cX2_thing 27 = .ok (.iconst 0, 1) := dk_3 (dk_at dksX2_thing_1 3 rfl rfl)
theorem dX2_thing_28 : decode cX2_thing 28 = .ok (.iload_n 2, 1) := dk_28 (dk_at dksX2_thing_1 4 rfl rfl)
theorem dX2_thing_29 : decode cX2_thing 29 = .ok (.iconst 1, 1) := dk_4 (dk_at dksX2_thing_1 5 rfl rfl)
theorem dX2_thing_30 : decode cX2_thing 30 = .ok (.isub, 1) := dk_100 (dk_at dksX2_thing_1 6 rfl rfl)
theorem dX2_thing_31 : decode cX2_thing 31 = .ok (.invokevirtual 153, 3) := dk_182 0 153 (dk_at dksX2_thing_1 7 rfl rfl)
theorem dX2_thing_34 : decode cX2_thing 34 = .ok (.invokespecial 163, 3) := dk_183 0 163 (dk_at dksX2_thing_1 10 rfl rfl)
theorem dX2_thing_37 : decode cX2_thing 37 = .ok (.astore_n 3, 1) := dk_78 (dk_at dksX2_thing_1 13 rfl rfl)
theorem dX2_thing_38 : decode cX2_thing 38 = .ok (.aload_n 0, 1) := dk_42 (dk_at dksX2_thing_1 14 rfl rfl)
theorem dX2_thing_39 : decode cX2_thing 39 = .ok (.bipush 9, 2) := dk_16 9 (dk_at dksX2_thing_1 15 rfl rfl)
theorem dX2_thing_41 : decode cX2_thing 41 = .ok (.bipush 10, 2) := dk_16 10 (dk_at dksX2_thing_1 17 rfl rfl)
theorem dX2_thing_43 : decode cX2_thing 43 = .ok (.invokevirtual 76, 3) := dk_182 0 76 (dk_at dksX2_thing_1 19 rfl rfl)
theorem dX2_thing_46 : decode cX2_thing 46 = .ok (.ifCond .eq 82, 3) := dk_153 0 82 (dk_at dksX2_thing_2 0 rfl rfl)
theorem dX2_thing_49 : decode cX2_thing 49 = .ok (.aload_n 0, 1) := dk_42 (dk_at dksX2_thing_2 3 rfl rfl)
theorem dX2_thing_50 : decode cX2_thing 50 = .ok (.getfield 43, 3) := dk_180 0 43 (dk_at dksX2_thing_2 4 rfl rfl)
theorem dX2_thing_53 : decode cX2_thing 53 = .ok (.bipush 9, 2) := dk_16 9 (dk_at dksX2_thing_2 7 rfl rfl)
theorem dX2_thing_55 : decode cX2_thing 55 = .ok (.if_icmp .ne 7, 3) := dk_160 0 7 (dk_at dksX2_thing_2 9 rfl rfl)
theorem dX2_thing_58 : decode cX2_thing 58 = .ok (.iconst 1, 1) := dk_4 (dk_at dksX2_thing_2 12 rfl rfl)
theorem dX2_thing_59 : decode cX2_thing 59 = .ok (.goto 4, 3) := dk_167 0 4 (dk_at dksX2_thing_2 13 rfl rfl)
theorem dX2_thing_62 : decode cX2_thing 62 = .ok (.iconst 0, 1) := dk_3 (dk_at dksX2_thing_2 16 rfl rfl)
theorem dX2_thing_63 : decode cX2_thing 63 = .ok (.istore 4, 2) := dk_54 4 (dk_at dksX2_thing_2 17 rfl rfl)
theorem dX2_thing_65 : decode cX2_thing 65 = .ok (.iload 4, 2) := dk_21 4 (dk_at dksX2_thing_2 19 rfl rfl)
theorem dX2_thing_67 : decode cX2_thing 67 = .ok (.ifCond .eq 10, 3) := dk_153 0 10 (dk_at dksX2_thing_2 21 rfl rfl)
theorem dX2_thing_70 : decode cX2_thing 70 = .ok (.aload_n 3, 1) := dk_45 (dk_at dksX2_thing_3 0 rfl rfl)
theorem dX2_thing_71 : decode cX2_thing 71 = .ok (.getfield 166, 3) := dk_180 0 166 (dk_at dksX2_thing_3 1 rfl rfl)
theorem dX2_thing_74 : decode cX2_thing 74 = .ok (.goto 7, 3) := dk_167 0 7 (dk_at dksX2_thing_3 4 rfl rfl)
theorem dX2_thing_77 : decode cX2_thing 77 = .ok (.aload_n 3, 1) := dk_45 (dk_at dksX2_thing_3 7 rfl rfl)
theorem dX2_thing_78 : decode cX2_thing 78 = .ok (.getfield 169, 3) := dk_180 0 169 (dk_at dksX2_thing_3 8 rfl rfl)
theorem dX2_thing_81 : decode cX2_thing 81 = .ok (.iconst (-1), 1) := dk_2 (dk_at dksX2_thing_3 11 rfl rfl)
theorem dX2_thing_82 : decode cX2_thing 82 = .ok (.if_icmp .eq 9, 3) := dk_159 0 9 (dk_at dksX2_thing_3 12 rfl rfl)
theorem dX2_thing_85 : decode cX2_thing 85 = .ok (.aload_n 0, 1) := dk_42 (dk_at dksX2_thing_3 15 rfl rfl)
theorem dX2_thing_86 : decode cX2_thing 86 = .ok (.iconst 3, 1) := dk_6 (dk_at dksX2_thing_3 16 rfl rfl)
theorem dX2_thing_87 : decode cX2_thing 87 = .ok (.invokevirtual 80, 3) := dk_182 0 80 (dk_at dksX2_thing_3 17 rfl rfl)
theorem dX2_thing_90 : decode cX2_thing 90 = .ok (.athrow, 1) := dk_191 (dk_at dksX2_thing_3 20 rfl rfl)
theorem dX2_thing_91 : decode cX2_thing 91 = .ok (.aload_n 0, 1) := dk_42 (dk_at dksX2_thing_3 21 rfl rfl)
theorem dX2_thing_92 : decode cX2_thing 92 = .ok (.invokevirtual 84, 3) := dk_182 0 84 (dk_at dksX2_thing_4 0 rfl rfl)
theorem dX2_thing_95 : decode cX2_thing 95 = .ok (.aload_n 0, 1) := dk_42 (dk_at dksX2_thing_4 3 rfl rfl)
theorem dX2_thing_96 : decode cX2_thing 96 = .ok (.iconst 0, 1) := dk_3 (dk_at dksX2_thing_4 4 rfl rfl)
theorem dX2_thing_97 : decode cX2_thing 97 = .ok (.sipush 199, 3) := dk_17 0 199 (dk_at dksX2_thing_4 5 rfl rfl)
theorem dX2_thing_100 : decode cX2_thing 100 = .ok (.invokevirtual 153, 3) := dk_182 0 153 (dk_at dksX2_thing_4 8 rfl rfl)
theorem dX2_thing_103 : decode cX2_thing 103 = .ok (.istore 5, 2) := dk_54 5 (dk_at dksX2_thing_4 11 rfl rfl)
theorem dX2_thing_105 : decode cX2_thing 105 = .ok (.iload 4, 2) := dk_21 4 (dk_at dksX2_thing_4 13 rfl rfl)
theorem dX2_thing_107 : decode cX2_thing 107 = .ok (.ifCond .eq 12, 3) := dk_153 0 12 (dk_at dksX2_thing_4 15 rfl rfl)
theorem dX2_thing_110 : decode cX2_thing 110 = .ok (.aload_n 3, 1) := dk_45 (dk_at dksX2_thing_4 18 rfl rfl)
theorem dX2_thing_111 : decode cX2_thing 111 = .ok (.iload 5, 2) := dk_21 5 (dk_at dksX2_thing_4 19 rfl rfl)
theorem dX2_thing_113 : decode cX2_thing 113 = .ok (.putfield 166, 3) := dk_181 0 166 (dk_at dksX2_thing_4 21 rfl rfl)
theorem dX2_thing_116 : decode cX2_thing 116 = .ok (.goto 9, 3) := dk_167 0 9 (dk_at dksX2_thing_5 0 rfl rfl)
theorem dX2_thing_119 : decode cX2_thing 119 = .ok (.aload_n 3, 1) := dk_45 (dk_at dksX2_thing_5 3 rfl rfl)
theorem dX2_thing_120 : decode cX2_thing 120 = .ok (.iload 5, 2) := dk_21 5 (dk_at dksX2_thing_5 4 rfl rfl)
theorem dX2_thing_122 : decode cX2_thing 122 = .ok (.putfield 169, 3) := dk_181 0 169 (dk_at dksX2_thing_5 6 rfl rfl)
theorem dX2_thing_125 : decode cX2_thing 125 = .ok (.goto (-87), 3) := dk_167 255 169 (dk_at dksX2_thing_5 9 rfl rfl)
theorem dX2_thing_128 : decode cX2_thing 128 = .ok (.aload_n 0, 1) := dk_42 (dk_at dksX2_thing_5 12 rfl rfl)
theorem dX2_thing_129 : decode cX2_thing 129 = .ok (.getfield 93, 3) := dk_180 0 93 (dk_at dksX2_thing_5 13 rfl rfl)
theorem dX2_thing_132 : decode cX2_thing 132 = .ok (.getfield 100, 3) := dk_180 0 100 (dk_at dksX2_thing_5 16 rfl rfl)
theorem dX2_thing_135 : decode cX2_thing 135 = .ok (.aload_n 3, 1) := dk_45 (dk_at dksX2_thing_5 19 rfl rfl)
theorem dX2_thing_136 : decode cX2_thing 136 = .ok (.invokevirtual 172, 3) := dk_182 0 172 (dk_at dksX2_thing_5 20 rfl rfl)
theorem dX2_thing_139 : decode cX2_thing 139 = .ok (.pop, 1) := dk_87 (dk_at dksX2_thing_5 23 rfl rfl)
theorem dX2_thing_140 : decode cX2_thing 140 = .ok (.return_, 1) := dk_177 (dk_at dksX2_thing_6 0 rfl rfl)
abbrev cX2_fresh : ByteArray := prog_11_method_14_code
def yX2_fresh : MethodName := ⟨RX2, "fresh", "(Z)I"⟩
def dkwX2_fresh_2 : List UInt8 := [42, 6, 182, 0, 80, 191, 42, 180, 0, 43, 61, 42, 182, 0, 84, 28, 172]
abbrev dktX2_fresh_2 : List UInt8 := dkwX2_fresh_2 ++ []
def dkwX2_fresh_1 : List UInt8 := [180, 0, 43, 182, 0, 145, 167, 0, 14, 42, 180, 0, 93, 42, 180, 0, 43, 182, 0, 147, 2, 159, 0, 9]
abbrev dktX2_fresh_1 : List UInt8 := dkwX2_fresh_1 ++ dktX2_fresh_2
def dkwX2_fresh_0 : List UInt8 := [42, 180, 0, 33, 4, 159, 0, 9, 42, 4, 182, 0, 80, 191, 27, 153, 0, 17, 42, 180, 0, 93, 42]
abbrev dktX2_fresh_0 : List UInt8 := dkwX2_fresh_0 ++ dktX2_fresh_1
theorem dksX2_fresh_0 : cX2_fresh.data.toList.drop 0 = dktX2_fresh_0 := by decide +kernel
theorem dksX2_fresh_1 : cX2_fresh.data.toList.drop 23 = dktX2_fresh_1 := dk_seg dksX2_fresh_0 23 rfl rfl
theorem dksX2_fresh_2 : cX2_fresh.data.toList.drop 47 = dktX2_fresh_2 := dk_seg dksX2_fresh_1 24 rfl rfl
theorem dX2_fresh_0 : decode cX2_fresh 0 = .ok (.aload_n 0, 1) := dk_42 (dk_at dksX2_fresh_0 0 rfl rfl)
theorem dX2_fresh_1 : decode cX2_fresh 1 = .ok (.getfield 33, 3) := dk_180 0 33 (dk_at dksX2_fresh_0 1 rfl rfl)
theorem dX2_fresh_4 : decode cX2_fresh 4 = .ok (.iconst 1, 1) := dk_4 (dk_at dksX2_fresh_0 4 rfl rfl)
theorem dX2_fresh_5 : decode cX2_fresh 5 = .ok (.if_icmp .eq 9, 3) := dk_159 0 9 (dk_at dksX2_fresh_0 5 rfl rfl)
theorem dX2_fresh_8 : decode cX2_fresh 8 = .ok (.aload_n 0, 1) := dk_42 (dk_at dksX2_fresh_0 8 rfl rfl)
theorem dX2_fresh_9 : decode cX2_fresh 9 = .ok (.iconst 1, 1) := dk_4 (dk_at dksX2_fresh_0 9 rfl rfl)
theorem dX2_fresh_10 : decode cX2_fresh 10 = .ok (.invokevirtual 80, 3) := dk_182 0 80 (dk_at dksX2_fresh_0 10 rfl rfl)
theorem dX2_fresh_13 : decode cX2_fresh 13 = .ok (.athrow, 1) := dk_191 (dk_at dksX2_fresh_0 13 rfl rfl)
theorem dX2_fresh_14 : decode cX2_fresh 14 = .ok (.iload_n 1, 1) := dk_27 (dk_at dksX2_fresh_0 14 rfl rfl)
theorem dX2_fresh_15 : decode cX2_fresh 15 = .ok (.ifCond .eq 17, 3) := dk_153 0 17 (dk_at dksX2_fresh_0 15 rfl rfl)
theorem dX2_fresh_18 : decode cX2_fresh 18 = .ok (.aload_n 0, 1) := dk_42 (dk_at dksX2_fresh_0 18 rfl rfl)
theorem dX2_fresh_19 : decode cX2_fresh 19 = .ok (.getfield 93, 3) := dk_180 0 93 (dk_at dksX2_fresh_0 19 rfl rfl)
theorem dX2_fresh_22 : decode cX2_fresh 22 = .ok (.aload_n 0, 1) := dk_42 (dk_at dksX2_fresh_0 22 rfl rfl)
theorem dX2_fresh_23 : decode cX2_fresh 23 = .ok (.getfield 43, 3) := dk_180 0 43 (dk_at dksX2_fresh_1 0 rfl rfl)
theorem dX2_fresh_26 : decode cX2_fresh 26 = .ok (.invokevirtual 145, 3) := dk_182 0 145 (dk_at dksX2_fresh_1 3 rfl rfl)
theorem dX2_fresh_29 : decode cX2_fresh 29 = .ok (.goto 14, 3) := dk_167 0 14 (dk_at dksX2_fresh_1 6 rfl rfl)
theorem dX2_fresh_32 : decode cX2_fresh 32 = .ok (.aload_n 0, 1) := dk_42 (dk_at dksX2_fresh_1 9 rfl rfl)
theorem dX2_fresh_33 : decode cX2_fresh 33 = .ok (.getfield 93, 3) := dk_180 0 93 (dk_at dksX2_fresh_1 10 rfl rfl)
theorem dX2_fresh_36 : decode cX2_fresh 36 = .ok (.aload_n 0, 1) := dk_42 (dk_at dksX2_fresh_1 13 rfl rfl)
theorem dX2_fresh_37 : decode cX2_fresh 37 = .ok (.getfield 43, 3) := dk_180 0 43 (dk_at dksX2_fresh_1 14 rfl rfl)
theorem dX2_fresh_40 : decode cX2_fresh 40 = .ok (.invokevirtual 147, 3) := dk_182 0 147 (dk_at dksX2_fresh_1 17 rfl rfl)
theorem dX2_fresh_43 : decode cX2_fresh 43 = .ok (.iconst (-1), 1) := dk_2 (dk_at dksX2_fresh_1 20 rfl rfl)
theorem dX2_fresh_44 : decode cX2_fresh 44 = .ok (.if_icmp .eq 9, 3) := dk_159 0 9 (dk_at dksX2_fresh_1 21 rfl rfl)
theorem dX2_fresh_47 : decode cX2_fresh 47 = .ok (.aload_n 0, 1) := dk_42 (dk_at dksX2_fresh_2 0 rfl rfl)
theorem dX2_fresh_48 : decode cX2_fresh 48 = .ok (.iconst 3, 1) := dk_6 (dk_at dksX2_fresh_2 1 rfl rfl)
theorem dX2_fresh_49 : decode cX2_fresh 49 = .ok (.invokevirtual 80, 3) := dk_182 0 80 (dk_at dksX2_fresh_2 2 rfl rfl)
theorem dX2_fresh_52 : decode cX2_fresh 52 = .ok (.athrow, 1) := dk_191 (dk_at dksX2_fresh_2 5 rfl rfl)
theorem dX2_fresh_53 : decode cX2_fresh 53 = .ok (.aload_n 0, 1) := dk_42 (dk_at dksX2_fresh_2 6 rfl rfl)
theorem dX2_fresh_54 : decode cX2_fresh 54 = .ok (.getfield 43, 3) := dk_180 0 43 (dk_at dksX2_fresh_2 7 rfl rfl)
theorem dX2_fresh_57 : decode cX2_fresh 57 = .ok (.istore_n 2, 1) := dk_61 (dk_at dksX2_fresh_2 10 rfl rfl)
theorem dX2_fresh_58 : decode cX2_fresh 58 = .ok (.aload_n 0, 1) := dk_42 (dk_at dksX2_fresh_2 11 rfl rfl)
theorem dX2_fresh_59 : decode cX2_fresh 59 = .ok (.invokevirtual 84, 3) := dk_182 0 84 (dk_at dksX2_fresh_2 12 rfl rfl)
theorem dX2_fresh_62 : decode cX2_fresh 62 = .ok (.iload_n 2, 1) := dk_28 (dk_at dksX2_fresh_2 15 rfl rfl)
theorem dX2_fresh_63 : decode cX2_fresh 63 = .ok (.ireturn, 1) := dk_172 (dk_at dksX2_fresh_2 16 rfl rfl)
abbrev cX2_number : ByteArray := prog_11_method_11_code
def yX2_number : MethodName := ⟨RX2, "number", "(II)I"⟩
def dkwX2_number_1 : List UInt8 := [154, 0, 9, 42, 5, 182, 0, 80, 191, 42, 180, 0, 43, 62, 42, 182, 0, 84, 29, 172]
abbrev dktX2_number_1 : List UInt8 := dkwX2_number_1 ++ []
def dkwX2_number_0 : List UInt8 := [42, 180, 0, 33, 5, 159, 0, 9, 42, 4, 182, 0, 80, 191, 42, 180, 0, 43, 27, 28, 184, 0, 36]
abbrev dktX2_number_0 : List UInt8 := dkwX2_number_0 ++ dktX2_number_1
theorem dksX2_number_0 : cX2_number.data.toList.drop 0 = dktX2_number_0 := by decide +kernel
theorem dksX2_number_1 : cX2_number.data.toList.drop 23 = dktX2_number_1 := dk_seg dksX2_number_0 23 rfl rfl
theorem dX2_number_0 : decode cX2_number 0 = .ok (.aload_n 0, 1) := dk_42 (dk_at dksX2_number_0 0 rfl rfl)
theorem dX2_number_1 : decode cX2_number 1 = .ok (.getfield 33, 3) := dk_180 0 33 (dk_at dksX2_number_0 1 rfl rfl)
theorem dX2_number_4 : decode cX2_number 4 = .ok (.iconst 2, 1) := dk_5 (dk_at dksX2_number_0 4 rfl rfl)
theorem dX2_number_5 : decode cX2_number 5 = .ok (.if_icmp .eq 9, 3) := dk_159 0 9 (dk_at dksX2_number_0 5 rfl rfl)
theorem dX2_number_8 : decode cX2_number 8 = .ok (.aload_n 0, 1) := dk_42 (dk_at dksX2_number_0 8 rfl rfl)
theorem dX2_number_9 : decode cX2_number 9 = .ok (.iconst 1, 1) := dk_4 (dk_at dksX2_number_0 9 rfl rfl)
theorem dX2_number_10 : decode cX2_number 10 = .ok (.invokevirtual 80, 3) := dk_182 0 80 (dk_at dksX2_number_0 10 rfl rfl)
theorem dX2_number_13 : decode cX2_number 13 = .ok (.athrow, 1) := dk_191 (dk_at dksX2_number_0 13 rfl rfl)
theorem dX2_number_14 : decode cX2_number 14 = .ok (.aload_n 0, 1) := dk_42 (dk_at dksX2_number_0 14 rfl rfl)
theorem dX2_number_15 : decode cX2_number 15 = .ok (.getfield 43, 3) := dk_180 0 43 (dk_at dksX2_number_0 15 rfl rfl)
theorem dX2_number_18 : decode cX2_number 18 = .ok (.iload_n 1, 1) := dk_27 (dk_at dksX2_number_0 18 rfl rfl)
theorem dX2_number_19 : decode cX2_number 19 = .ok (.iload_n 2, 1) := dk_28 (dk_at dksX2_number_0 19 rfl rfl)
theorem dX2_number_20 : decode cX2_number 20 = .ok (.invokestatic 36, 3) := dk_184 0 36 (dk_at dksX2_number_0 20 rfl rfl)
theorem dX2_number_23 : decode cX2_number 23 = .ok (.ifCond .ne 9, 3) := dk_154 0 9 (dk_at dksX2_number_1 0 rfl rfl)
theorem dX2_number_26 : decode cX2_number 26 = .ok (.aload_n 0, 1) := dk_42 (dk_at dksX2_number_1 3 rfl rfl)
theorem dX2_number_27 : decode cX2_number 27 = .ok (.iconst 2, 1) := dk_5 (dk_at dksX2_number_1 4 rfl rfl)
theorem dX2_number_28 : decode cX2_number 28 = .ok (.invokevirtual 80, 3) := dk_182 0 80 (dk_at dksX2_number_1 5 rfl rfl)
theorem dX2_number_31 : decode cX2_number 31 = .ok (.athrow, 1) := dk_191 (dk_at dksX2_number_1 8 rfl rfl)
theorem dX2_number_32 : decode cX2_number 32 = .ok (.aload_n 0, 1) := dk_42 (dk_at dksX2_number_1 9 rfl rfl)
theorem dX2_number_33 : decode cX2_number 33 = .ok (.getfield 43, 3) := dk_180 0 43 (dk_at dksX2_number_1 10 rfl rfl)
theorem dX2_number_36 : decode cX2_number 36 = .ok (.istore_n 3, 1) := dk_62 (dk_at dksX2_number_1 13 rfl rfl)
theorem dX2_number_37 : decode cX2_number 37 = .ok (.aload_n 0, 1) := dk_42 (dk_at dksX2_number_1 14 rfl rfl)
theorem dX2_number_38 : decode cX2_number 38 = .ok (.invokevirtual 84, 3) := dk_182 0 84 (dk_at dksX2_number_1 15 rfl rfl)
theorem dX2_number_41 : decode cX2_number 41 = .ok (.iload_n 3, 1) := dk_29 (dk_at dksX2_number_1 18 rfl rfl)
theorem dX2_number_42 : decode cX2_number 42 = .ok (.ireturn, 1) := dk_172 (dk_at dksX2_number_1 19 rfl rfl)
abbrev cX2_wants : ByteArray := prog_11_method_10_code
def yX2_wants : MethodName := ⟨RX2, "wants", "(I)V"⟩
def dkwX2_wants_0 : List UInt8 := [42, 27, 27, 182, 0, 76, 154, 0, 9, 42, 4, 182, 0, 80, 191, 42, 182, 0, 84, 177]
abbrev dktX2_wants_0 : List UInt8 := dkwX2_wants_0 ++ []
theorem dksX2_wants_0 : cX2_wants.data.toList.drop 0 = dktX2_wants_0 := by decide +kernel
theorem dX2_wants_0 : decode cX2_wants 0 = .ok (.aload_n 0, 1) := dk_42 (dk_at dksX2_wants_0 0 rfl rfl)
theorem dX2_wants_1 : decode cX2_wants 1 = .ok (.iload_n 1, 1) := dk_27 (dk_at dksX2_wants_0 1 rfl rfl)
theorem dX2_wants_2 : decode cX2_wants 2 = .ok (.iload_n 1, 1) := dk_27 (dk_at dksX2_wants_0 2 rfl rfl)
theorem dX2_wants_3 : decode cX2_wants 3 = .ok (.invokevirtual 76, 3) := dk_182 0 76 (dk_at dksX2_wants_0 3 rfl rfl)
theorem dX2_wants_6 : decode cX2_wants 6 = .ok (.ifCond .ne 9, 3) := dk_154 0 9 (dk_at dksX2_wants_0 6 rfl rfl)
theorem dX2_wants_9 : decode cX2_wants 9 = .ok (.aload_n 0, 1) := dk_42 (dk_at dksX2_wants_0 9 rfl rfl)
theorem dX2_wants_10 : decode cX2_wants 10 = .ok (.iconst 1, 1) := dk_4 (dk_at dksX2_wants_0 10 rfl rfl)
theorem dX2_wants_11 : decode cX2_wants 11 = .ok (.invokevirtual 80, 3) := dk_182 0 80 (dk_at dksX2_wants_0 11 rfl rfl)
theorem dX2_wants_14 : decode cX2_wants 14 = .ok (.athrow, 1) := dk_191 (dk_at dksX2_wants_0 14 rfl rfl)
theorem dX2_wants_15 : decode cX2_wants 15 = .ok (.aload_n 0, 1) := dk_42 (dk_at dksX2_wants_0 15 rfl rfl)
theorem dX2_wants_16 : decode cX2_wants 16 = .ok (.invokevirtual 84, 3) := dk_182 0 84 (dk_at dksX2_wants_0 16 rfl rfl)
theorem dX2_wants_19 : decode cX2_wants 19 = .ok (.return_, 1) := dk_177 (dk_at dksX2_wants_0 19 rfl rfl)
abbrev cX2_teller : ByteArray := prog_11_method_17_code
def yX2_teller : MethodName := ⟨RX2, "teller", "()V"⟩
def dkwX2_teller_4 : List UInt8 := [180, 0, 108, 25, 4, 182, 0, 172, 87, 177]
abbrev dktX2_teller_4 : List UInt8 := dkwX2_teller_4 ++ []
def dkwX2_teller_3 : List UInt8 := [182, 0, 84, 25, 4, 42, 29, 25, 4, 180, 0, 181, 182, 0, 153, 181, 0, 184, 42, 180, 0, 93]
abbrev dktX2_teller_3 : List UInt8 := dkwX2_teller_3 ++ dktX2_teller_4
def dkwX2_teller_2 : List UInt8 := [17, 0, 199, 182, 0, 153, 183, 0, 178, 58, 4, 42, 16, 13, 16, 13, 182, 0, 76, 153, 0, 22, 42]
abbrev dktX2_teller_2 : List UInt8 := dkwX2_teller_2 ++ dktX2_teller_3
def dkwX2_teller_1 : List UInt8 := [17, 0, 199, 182, 0, 153, 62, 42, 16, 12, 182, 0, 157, 187, 0, 176, 89, 27, 28, 29, 42, 29]
abbrev dktX2_teller_1 : List UInt8 := dkwX2_teller_1 ++ dktX2_teller_2
def dkwX2_teller_0 : List UInt8 := [42, 3, 182, 0, 149, 60, 42, 4, 16, 99, 182, 0, 153, 61, 42, 16, 11, 182, 0, 157, 42, 3]
abbrev dktX2_teller_0 : List UInt8 := dkwX2_teller_0 ++ dktX2_teller_1
theorem dksX2_teller_0 : cX2_teller.data.toList.drop 0 = dktX2_teller_0 := by decide +kernel
theorem dksX2_teller_1 : cX2_teller.data.toList.drop 22 = dktX2_teller_1 := dk_seg dksX2_teller_0 22 rfl rfl
theorem dksX2_teller_2 : cX2_teller.data.toList.drop 44 = dktX2_teller_2 := dk_seg dksX2_teller_1 22 rfl rfl
theorem dksX2_teller_3 : cX2_teller.data.toList.drop 67 = dktX2_teller_3 := dk_seg dksX2_teller_2 23 rfl rfl
theorem dksX2_teller_4 : cX2_teller.data.toList.drop 89 = dktX2_teller_4 := dk_seg dksX2_teller_3 22 rfl rfl
theorem dX2_teller_0 : decode cX2_teller 0 = .ok (.aload_n 0, 1) := dk_42 (dk_at dksX2_teller_0 0 rfl rfl)
theorem dX2_teller_1 : decode cX2_teller 1 = .ok (.iconst 0, 1) := dk_3 (dk_at dksX2_teller_0 1 rfl rfl)
theorem dX2_teller_2 : decode cX2_teller 2 = .ok (.invokevirtual 149, 3) := dk_182 0 149 (dk_at dksX2_teller_0 2 rfl rfl)
theorem dX2_teller_5 : decode cX2_teller 5 = .ok (.istore_n 1, 1) := dk_60 (dk_at dksX2_teller_0 5 rfl rfl)
theorem dX2_teller_6 : decode cX2_teller 6 = .ok (.aload_n 0, 1) := dk_42 (dk_at dksX2_teller_0 6 rfl rfl)
theorem dX2_teller_7 : decode cX2_teller 7 = .ok (.iconst 1, 1) := dk_4 (dk_at dksX2_teller_0 7 rfl rfl)
theorem dX2_teller_8 : decode cX2_teller 8 = .ok (.bipush 99, 2) := dk_16 99 (dk_at dksX2_teller_0 8 rfl rfl)
theorem dX2_teller_10 : decode cX2_teller 10 = .ok (.invokevirtual 153, 3) := dk_182 0 153 (dk_at dksX2_teller_0 10 rfl rfl)
theorem dX2_teller_13 : decode cX2_teller 13 = .ok (.istore_n 2, 1) := dk_61 (dk_at dksX2_teller_0 13 rfl rfl)
theorem dX2_teller_14 : decode cX2_teller 14 = .ok (.aload_n 0, 1) := dk_42 (dk_at dksX2_teller_0 14 rfl rfl)
theorem dX2_teller_15 : decode cX2_teller 15 = .ok (.bipush 11, 2) := dk_16 11 (dk_at dksX2_teller_0 15 rfl rfl)
theorem dX2_teller_17 : decode cX2_teller 17 = .ok (.invokevirtual 157, 3) := dk_182 0 157 (dk_at dksX2_teller_0 17 rfl rfl)
theorem dX2_teller_20 : decode cX2_teller 20 = .ok (.aload_n 0, 1) := dk_42 (dk_at dksX2_teller_0 20 rfl rfl)
theorem dX2_teller_21 : decode cX2_teller 21 = .ok (.iconst 0, 1) := dk_3 (dk_at dksX2_teller_0 21 rfl rfl)
theorem dX2_teller_22 : decode cX2_teller 22 = .ok (.sipush 199, 3) := dk_17 0 199 (dk_at dksX2_teller_1 0 rfl rfl)
theorem dX2_teller_25 : decode cX2_teller 25 = .ok (.invokevirtual 153, 3) := dk_182 0 153 (dk_at dksX2_teller_1 3 rfl rfl)
theorem dX2_teller_28 : decode cX2_teller 28 = .ok (.istore_n 3, 1) := dk_62 (dk_at dksX2_teller_1 6 rfl rfl)
theorem dX2_teller_29 : decode cX2_teller 29 = .ok (.aload_n 0, 1) := dk_42 (dk_at dksX2_teller_1 7 rfl rfl)
theorem dX2_teller_30 : decode cX2_teller 30 = .ok (.bipush 12, 2) := dk_16 12 (dk_at dksX2_teller_1 8 rfl rfl)
theorem dX2_teller_32 : decode cX2_teller 32 = .ok (.invokevirtual 157, 3) := dk_182 0 157 (dk_at dksX2_teller_1 10 rfl rfl)
theorem dX2_teller_35 : decode cX2_teller 35 = .ok (.new 176, 3) := dk_187 0 176 (dk_at dksX2_teller_1 13 rfl rfl)
theorem dX2_teller_38 : decode cX2_teller 38 = .ok (.dup, 1) := dk_89 (dk_at dksX2_teller_1 16 rfl rfl)
theorem dX2_teller_39 : decode cX2_teller 39 = .ok (.iload_n 1, 1) := dk_27 (dk_at dksX2_teller_1 17 rfl rfl)
theorem dX2_teller_40 : decode cX2_teller 40 = .ok (.iload_n 2, 1) := dk_28 (dk_at dksX2_teller_1 18 rfl rfl)
theorem dX2_teller_41 : decode cX2_teller 41 = .ok (.iload_n 3, 1) := dk_29 (dk_at dksX2_teller_1 19 rfl rfl)
theorem dX2_teller_42 : decode cX2_teller 42 = .ok (.aload_n 0, 1) := dk_42 (dk_at dksX2_teller_1 20 rfl rfl)
theorem dX2_teller_43 : decode cX2_teller 43 = .ok (.iload_n 3, 1) := dk_29 (dk_at dksX2_teller_1 21 rfl rfl)
theorem dX2_teller_44 : decode cX2_teller 44 = .ok (.sipush 199, 3) := dk_17 0 199 (dk_at dksX2_teller_2 0 rfl rfl)
theorem dX2_teller_47 : decode cX2_teller 47 = .ok (.invokevirtual 153, 3) := dk_182 0 153 (dk_at dksX2_teller_2 3 rfl rfl)
theorem dX2_teller_50 : decode cX2_teller 50 = .ok (.invokespecial 178, 3) := dk_183 0 178 (dk_at dksX2_teller_2 6 rfl rfl)
theorem dX2_teller_53 : decode cX2_teller 53 = .ok (.astore 4, 2) := dk_58 4 (dk_at dksX2_teller_2 9 rfl rfl)
theorem dX2_teller_55 : decode cX2_teller 55 = .ok (.aload_n 0, 1) := dk_42 (dk_at dksX2_teller_2 11 rfl rfl)
theorem dX2_teller_56 : decode cX2_teller 56 = .ok (.bipush 13, 2) := dk_16 13 (dk_at dksX2_teller_2 12 rfl rfl)
theorem dX2_teller_58 : decode cX2_teller 58 = .ok (.bipush 13, 2) := dk_16 13 (dk_at dksX2_teller_2 14 rfl rfl)
theorem dX2_teller_60 : decode cX2_teller 60 = .ok (.invokevirtual 76, 3) := dk_182 0 76 (dk_at dksX2_teller_2 16 rfl rfl)
theorem dX2_teller_63 : decode cX2_teller 63 = .ok (.ifCond .eq 22, 3) := dk_153 0 22 (dk_at dksX2_teller_2 19 rfl rfl)
theorem dX2_teller_66 : decode cX2_teller 66 = .ok (.aload_n 0, 1) := dk_42 (dk_at dksX2_teller_2 22 rfl rfl)
theorem dX2_teller_67 : decode cX2_teller 67 = .ok (.invokevirtual 84, 3) := dk_182 0 84 (dk_at dksX2_teller_3 0 rfl rfl)
theorem dX2_teller_70 : decode cX2_teller 70 = .ok (.aload 4, 2) := dk_25 4 (dk_at dksX2_teller_3 3 rfl rfl)
theorem dX2_teller_72 : decode cX2_teller 72 = .ok (.aload_n 0, 1) := dk_42 (dk_at dksX2_teller_3 5 rfl rfl)
theorem dX2_teller_73 : decode cX2_teller 73 = .ok (.iload_n 3, 1) := dk_29 (dk_at dksX2_teller_3 6 rfl rfl)
theorem dX2_teller_74 : decode cX2_teller 74 = .ok (.aload 4, 2) := dk_25 4 (dk_at dksX2_teller_3 7 rfl rfl)
theorem dX2_teller_76 : decode cX2_teller 76 = .ok (.getfield 181, 3) := dk_180 0 181 (dk_at dksX2_teller_3 9 rfl rfl)
theorem dX2_teller_79 : decode cX2_teller 79 = .ok (.invokevirtual 153, 3) := dk_182 0 153 (dk_at dksX2_teller_3 12 rfl rfl)
theorem dX2_teller_82 : decode cX2_teller 82 = .ok (.putfield 184, 3) := dk_181 0 184 (dk_at dksX2_teller_3 15 rfl rfl)
theorem dX2_teller_85 : decode cX2_teller 85 = .ok (.aload_n 0, 1) := dk_42 (dk_at dksX2_teller_3 18 rfl rfl)
theorem dX2_teller_86 : decode cX2_teller 86 = .ok (.getfield 93, 3) := dk_180 0 93 (dk_at dksX2_teller_3 19 rfl rfl)
theorem dX2_teller_89 : decode cX2_teller 89 = .ok (.getfield 108, 3) := dk_180 0 108 (dk_at dksX2_teller_4 0 rfl rfl)
theorem dX2_teller_92 : decode cX2_teller 92 = .ok (.aload 4, 2) := dk_25 4 (dk_at dksX2_teller_4 3 rfl rfl)
theorem dX2_teller_94 : decode cX2_teller 94 = .ok (.invokevirtual 172, 3) := dk_182 0 172 (dk_at dksX2_teller_4 5 rfl rfl)
theorem dX2_teller_97 : decode cX2_teller 97 = .ok (.pop, 1) := dk_87 (dk_at dksX2_teller_4 8 rfl rfl)
theorem dX2_teller_98 : decode cX2_teller 98 = .ok (.return_, 1) := dk_177 (dk_at dksX2_teller_4 9 rfl rfl)
abbrev cX2_talk : ByteArray := prog_11_method_18_code
def yX2_talk : MethodName := ⟨RX2, "talk", "(Z)V"⟩
def dkwX2_talk_7 : List UInt8 := [28, 21, 4, 21, 5, 21, 6, 183, 0, 210, 182, 0, 172, 87, 177]
abbrev dktX2_talk_7 : List UInt8 := dkwX2_talk_7 ++ []
def dkwX2_talk_6 : List UInt8 := [180, 0, 93, 28, 21, 4, 21, 5, 21, 6, 183, 0, 205, 167, 0, 21, 187, 0, 208, 89, 42, 180, 0, 93]
abbrev dktX2_talk_6 : List UInt8 := dkwX2_talk_6 ++ dktX2_talk_7
def dkwX2_talk_5 : List UInt8 := [100, 182, 0, 153, 54, 6, 42, 180, 0, 93, 180, 0, 111, 27, 153, 0, 24, 187, 0, 203, 89, 42]
abbrev dktX2_talk_5 : List UInt8 := dkwX2_talk_5 ++ dktX2_talk_6
def dkwX2_talk_4 : List UInt8 := [160, 0, 30, 42, 3, 42, 180, 0, 93, 180, 0, 100, 21, 5, 182, 0, 190, 192, 0, 161, 180, 0, 200, 4]
abbrev dktX2_talk_4 : List UInt8 := dkwX2_talk_4 ++ dktX2_talk_5
def dkwX2_talk_3 : List UInt8 := [183, 0, 73, 191, 42, 4, 182, 0, 187, 54, 5, 2, 54, 6, 27, 154, 0, 11, 42, 180, 0, 33, 5]
abbrev dktX2_talk_3 : List UInt8 := dkwX2_talk_3 ++ dktX2_talk_4
def dkwX2_talk_2 : List UInt8 := [182, 0, 153, 54, 4, 21, 4, 42, 180, 0, 93, 28, 182, 0, 197, 162, 0, 13, 187, 0, 71, 89, 8, 29]
abbrev dktX2_talk_2 : List UInt8 := dkwX2_talk_2 ++ dktX2_talk_3
def dkwX2_talk_1 : List UInt8 := [192, 0, 176, 180, 0, 194, 42, 180, 0, 93, 180, 0, 108, 28, 182, 0, 190, 192, 0, 176, 180, 0, 181]
abbrev dktX2_talk_1 : List UInt8 := dkwX2_talk_1 ++ dktX2_talk_2
def dkwX2_talk_0 : List UInt8 := [42, 3, 182, 0, 187, 61, 42, 180, 0, 30, 62, 42, 42, 180, 0, 93, 180, 0, 108, 28, 182, 0, 190]
abbrev dktX2_talk_0 : List UInt8 := dkwX2_talk_0 ++ dktX2_talk_1
theorem dksX2_talk_0 : cX2_talk.data.toList.drop 0 = dktX2_talk_0 := by decide +kernel
theorem dksX2_talk_1 : cX2_talk.data.toList.drop 23 = dktX2_talk_1 := dk_seg dksX2_talk_0 23 rfl rfl
theorem dksX2_talk_2 : cX2_talk.data.toList.drop 46 = dktX2_talk_2 := dk_seg dksX2_talk_1 23 rfl rfl
theorem dksX2_talk_3 : cX2_talk.data.toList.drop 70 = dktX2_talk_3 := dk_seg dksX2_talk_2 24 rfl rfl
theorem dksX2_talk_4 : cX2_talk.data.toList.drop 93 = dktX2_talk_4 := dk_seg dksX2_talk_3 23 rfl rfl
theorem dksX2_talk_5 : cX2_talk.data.toList.drop 117 = dktX2_talk_5 := dk_seg dksX2_talk_4 24 rfl rfl
theorem dksX2_talk_6 : cX2_talk.data.toList.drop 139 = dktX2_talk_6 := dk_seg dksX2_talk_5 22 rfl rfl
theorem dksX2_talk_7 : cX2_talk.data.toList.drop 163 = dktX2_talk_7 := dk_seg dksX2_talk_6 24 rfl rfl
theorem dX2_talk_0 : decode cX2_talk 0 = .ok (.aload_n 0, 1) := dk_42 (dk_at dksX2_talk_0 0 rfl rfl)
theorem dX2_talk_1 : decode cX2_talk 1 = .ok (.iconst 0, 1) := dk_3 (dk_at dksX2_talk_0 1 rfl rfl)
theorem dX2_talk_2 : decode cX2_talk 2 = .ok (.invokevirtual 187, 3) := dk_182 0 187 (dk_at dksX2_talk_0 2 rfl rfl)
theorem dX2_talk_5 : decode cX2_talk 5 = .ok (.istore_n 2, 1) := dk_61 (dk_at dksX2_talk_0 5 rfl rfl)
theorem dX2_talk_6 : decode cX2_talk 6 = .ok (.aload_n 0, 1) := dk_42 (dk_at dksX2_talk_0 6 rfl rfl)
theorem dX2_talk_7 : decode cX2_talk 7 = .ok (.getfield 30, 3) := dk_180 0 30 (dk_at dksX2_talk_0 7 rfl rfl)
theorem dX2_talk_10 : decode cX2_talk 10 = .ok (.istore_n 3, 1) := dk_62 (dk_at dksX2_talk_0 10 rfl rfl)
theorem dX2_talk_11 : decode cX2_talk 11 = .ok (.aload_n 0, 1) := dk_42 (dk_at dksX2_talk_0 11 rfl rfl)
theorem dX2_talk_12 : decode cX2_talk 12 = .ok (.aload_n 0, 1) := dk_42 (dk_at dksX2_talk_0 12 rfl rfl)
theorem dX2_talk_13 : decode cX2_talk 13 = .ok (.getfield 93, 3) := dk_180 0 93 (dk_at dksX2_talk_0 13 rfl rfl)
theorem dX2_talk_16 : decode cX2_talk 16 = .ok (.getfield 108, 3) := dk_180 0 108 (dk_at dksX2_talk_0 16 rfl rfl)
theorem dX2_talk_19 : decode cX2_talk 19 = .ok (.iload_n 2, 1) := dk_28 (dk_at dksX2_talk_0 19 rfl rfl)
theorem dX2_talk_20 : decode cX2_talk 20 = .ok (.invokevirtual 190, 3) := dk_182 0 190 (dk_at dksX2_talk_0 20 rfl rfl)
theorem dX2_talk_23 : decode cX2_talk 23 = .ok (.checkcast 176, 3) := dk_192 0 176 (dk_at dksX2_talk_1 0 rfl rfl)
theorem dX2_talk_26 : decode cX2_talk 26 = .ok (.getfield 194, 3) := dk_180 0 194 (dk_at dksX2_talk_1 3 rfl rfl)
theorem dX2_talk_29 : decode cX2_talk 29 = .ok (.aload_n 0, 1) := dk_42 (dk_at dksX2_talk_1 6 rfl rfl)
theorem dX2_talk_30 : decode cX2_talk 30 = .ok (.getfield 93, 3) := dk_180 0 93 (dk_at dksX2_talk_1 7 rfl rfl)
theorem dX2_talk_33 : decode cX2_talk 33 = .ok (.getfield 108, 3) := dk_180 0 108 (dk_at dksX2_talk_1 10 rfl rfl)
theorem dX2_talk_36 : decode cX2_talk 36 = .ok (.iload_n 2, 1) := dk_28 (dk_at dksX2_talk_1 13 rfl rfl)
theorem dX2_talk_37 : decode cX2_talk 37 = .ok (.invokevirtual 190, 3) := dk_182 0 190 (dk_at dksX2_talk_1 14 rfl rfl)
theorem dX2_talk_40 : decode cX2_talk 40 = .ok (.checkcast 176, 3) := dk_192 0 176 (dk_at dksX2_talk_1 17 rfl rfl)
theorem dX2_talk_43 : decode cX2_talk 43 = .ok (.getfield 181, 3) := dk_180 0 181 (dk_at dksX2_talk_1 20 rfl rfl)
theorem dX2_talk_46 : decode cX2_talk 46 = .ok (.invokevirtual 153, 3) := dk_182 0 153 (dk_at dksX2_talk_2 0 rfl rfl)
theorem dX2_talk_49 : decode cX2_talk 49 = .ok (.istore 4, 2) := dk_54 4 (dk_at dksX2_talk_2 3 rfl rfl)
theorem dX2_talk_51 : decode cX2_talk 51 = .ok (.iload 4, 2) := dk_21 4 (dk_at dksX2_talk_2 5 rfl rfl)
theorem dX2_talk_53 : decode cX2_talk 53 = .ok (.aload_n 0, 1) := dk_42 (dk_at dksX2_talk_2 7 rfl rfl)
theorem dX2_talk_54 : decode cX2_talk 54 = .ok (.getfield 93, 3) := dk_180 0 93 (dk_at dksX2_talk_2 8 rfl rfl)
theorem dX2_talk_57 : decode cX2_talk 57 = .ok (.iload_n 2, 1) := dk_28 (dk_at dksX2_talk_2 11 rfl rfl)
theorem dX2_talk_58 : decode cX2_talk 58 = .ok (.invokevirtual 197, 3) := dk_182 0 197 (dk_at dksX2_talk_2 12 rfl rfl)
theorem dX2_talk_61 : decode cX2_talk 61 = .ok (.if_icmp .ge 13, 3) := dk_162 0 13 (dk_at dksX2_talk_2 15 rfl rfl)
theorem dX2_talk_64 : decode cX2_talk 64 = .ok (.new 71, 3) := dk_187 0 71 (dk_at dksX2_talk_2 18 rfl rfl)
theorem dX2_talk_67 : decode cX2_talk 67 = .ok (.dup, 1) := dk_89 (dk_at dksX2_talk_2 21 rfl rfl)
theorem dX2_talk_68 : decode cX2_talk 68 = .ok (.iconst 5, 1) := dk_8 (dk_at dksX2_talk_2 22 rfl rfl)
theorem dX2_talk_69 : decode cX2_talk 69 = .ok (.iload_n 3, 1) := dk_29 (dk_at dksX2_talk_2 23 rfl rfl)
theorem dX2_talk_70 : decode cX2_talk 70 = .ok (.invokespecial 73, 3) := dk_183 0 73 (dk_at dksX2_talk_3 0 rfl rfl)
theorem dX2_talk_73 : decode cX2_talk 73 = .ok (.athrow, 1) := dk_191 (dk_at dksX2_talk_3 3 rfl rfl)
theorem dX2_talk_74 : decode cX2_talk 74 = .ok (.aload_n 0, 1) := dk_42 (dk_at dksX2_talk_3 4 rfl rfl)
theorem dX2_talk_75 : decode cX2_talk 75 = .ok (.iconst 1, 1) := dk_4 (dk_at dksX2_talk_3 5 rfl rfl)
theorem dX2_talk_76 : decode cX2_talk 76 = .ok (.invokevirtual 187, 3) := dk_182 0 187 (dk_at dksX2_talk_3 6 rfl rfl)
theorem dX2_talk_79 : decode cX2_talk 79 = .ok (.istore 5, 2) := dk_54 5 (dk_at dksX2_talk_3 9 rfl rfl)
theorem dX2_talk_81 : decode cX2_talk 81 = .ok (.iconst (-1), 1) := dk_2 (dk_at dksX2_talk_3 11 rfl rfl)
theorem dX2_talk_82 : decode cX2_talk 82 = .ok (.istore 6, 2) := dk_54 6 (dk_at dksX2_talk_3 12 rfl rfl)
theorem dX2_talk_84 : decode cX2_talk 84 = .ok (.iload_n 1, 1) := dk_27 (dk_at dksX2_talk_3 14 rfl rfl)
theorem dX2_talk_85 : decode cX2_talk 85 = .ok (.ifCond .ne 11, 3) := dk_154 0 11 (dk_at dksX2_talk_3 15 rfl rfl)
theorem dX2_talk_88 : decode cX2_talk 88 = .ok (.aload_n 0, 1) := dk_42 (dk_at dksX2_talk_3 18 rfl rfl)
theorem dX2_talk_89 : decode cX2_talk 89 = .ok (.getfield 33, 3) := dk_180 0 33 (dk_at dksX2_talk_3 19 rfl rfl)
theorem dX2_talk_92 : decode cX2_talk 92 = .ok (.iconst 2, 1) := dk_5 (dk_at dksX2_talk_3 22 rfl rfl)
theorem dX2_talk_93 : decode cX2_talk 93 = .ok (.if_icmp .ne 30, 3) := dk_160 0 30 (dk_at dksX2_talk_4 0 rfl rfl)
theorem dX2_talk_96 : decode cX2_talk 96 = .ok (.aload_n 0, 1) := dk_42 (dk_at dksX2_talk_4 3 rfl rfl)
theorem dX2_talk_97 : decode cX2_talk 97 = .ok (.iconst 0, 1) := dk_3 (dk_at dksX2_talk_4 4 rfl rfl)
theorem dX2_talk_98 : decode cX2_talk 98 = .ok (.aload_n 0, 1) := dk_42 (dk_at dksX2_talk_4 5 rfl rfl)
theorem dX2_talk_99 : decode cX2_talk 99 = .ok (.getfield 93, 3) := dk_180 0 93 (dk_at dksX2_talk_4 6 rfl rfl)
theorem dX2_talk_102 : decode cX2_talk 102 = .ok (.getfield 100, 3) := dk_180 0 100 (dk_at dksX2_talk_4 9 rfl rfl)
theorem dX2_talk_105 : decode cX2_talk 105 = .ok (.iload 5, 2) := dk_21 5 (dk_at dksX2_talk_4 12 rfl rfl)
theorem dX2_talk_107 : decode cX2_talk 107 = .ok (.invokevirtual 190, 3) := dk_182 0 190 (dk_at dksX2_talk_4 14 rfl rfl)
theorem dX2_talk_110 : decode cX2_talk 110 = .ok (.checkcast 161, 3) := dk_192 0 161 (dk_at dksX2_talk_4 17 rfl rfl)
theorem dX2_talk_113 : decode cX2_talk 113 = .ok (.getfield 200, 3) := dk_180 0 200 (dk_at dksX2_talk_4 20 rfl rfl)
theorem dX2_talk_116 : decode cX2_talk 116 = .ok (.iconst 1, 1) := dk_4 (dk_at dksX2_talk_4 23 rfl rfl)
theorem dX2_talk_117 : decode cX2_talk 117 = .ok (.isub, 1) := dk_100 (dk_at dksX2_talk_5 0 rfl rfl)
theorem dX2_talk_118 : decode cX2_talk 118 = .ok (.invokevirtual 153, 3) := dk_182 0 153 (dk_at dksX2_talk_5 1 rfl rfl)
theorem dX2_talk_121 : decode cX2_talk 121 = .ok (.istore 6, 2) := dk_54 6 (dk_at dksX2_talk_5 4 rfl rfl)
theorem dX2_talk_123 : decode cX2_talk 123 = .ok (.aload_n 0, 1) := dk_42 (dk_at dksX2_talk_5 6 rfl rfl)
theorem dX2_talk_124 : decode cX2_talk 124 = .ok (.getfield 93, 3) := dk_180 0 93 (dk_at dksX2_talk_5 7 rfl rfl)
theorem dX2_talk_127 : decode cX2_talk 127 = .ok (.getfield 111, 3) := dk_180 0 111 (dk_at dksX2_talk_5 10 rfl rfl)
theorem dX2_talk_130 : decode cX2_talk 130 = .ok (.iload_n 1, 1) := dk_27 (dk_at dksX2_talk_5 13 rfl rfl)
theorem dX2_talk_131 : decode cX2_talk 131 = .ok (.ifCond .eq 24, 3) := dk_153 0 24 (dk_at dksX2_talk_5 14 rfl rfl)
theorem dX2_talk_134 : decode cX2_talk 134 = .ok (.new 203, 3) := dk_187 0 203 (dk_at dksX2_talk_5 17 rfl rfl)
theorem dX2_talk_137 : decode cX2_talk 137 = .ok (.dup, 1) := dk_89 (dk_at dksX2_talk_5 20 rfl rfl)
theorem dX2_talk_138 : decode cX2_talk 138 = .ok (.aload_n 0, 1) := dk_42 (dk_at dksX2_talk_5 21 rfl rfl)
theorem dX2_talk_139 : decode cX2_talk 139 = .ok (.getfield 93, 3) := dk_180 0 93 (dk_at dksX2_talk_6 0 rfl rfl)
theorem dX2_talk_142 : decode cX2_talk 142 = .ok (.iload_n 2, 1) := dk_28 (dk_at dksX2_talk_6 3 rfl rfl)
theorem dX2_talk_143 : decode cX2_talk 143 = .ok (.iload 4, 2) := dk_21 4 (dk_at dksX2_talk_6 4 rfl rfl)
theorem dX2_talk_145 : decode cX2_talk 145 = .ok (.iload 5, 2) := dk_21 5 (dk_at dksX2_talk_6 6 rfl rfl)
theorem dX2_talk_147 : decode cX2_talk 147 = .ok (.iload 6, 2) := dk_21 6 (dk_at dksX2_talk_6 8 rfl rfl)
theorem dX2_talk_149 : decode cX2_talk 149 = .ok (.invokespecial 205, 3) := dk_183 0 205 (dk_at dksX2_talk_6 10 rfl rfl)
theorem dX2_talk_152 : decode cX2_talk 152 = .ok (.goto 21, 3) := dk_167 0 21 (dk_at dksX2_talk_6 13 rfl rfl)
theorem dX2_talk_155 : decode cX2_talk 155 = .ok (.new 208, 3) := dk_187 0 208 (dk_at dksX2_talk_6 16 rfl rfl)
theorem dX2_talk_158 : decode cX2_talk 158 = .ok (.dup, 1) := dk_89 (dk_at dksX2_talk_6 19 rfl rfl)
theorem dX2_talk_159 : decode cX2_talk 159 = .ok (.aload_n 0, 1) := dk_42 (dk_at dksX2_talk_6 20 rfl rfl)
theorem dX2_talk_160 : decode cX2_talk 160 = .ok (.getfield 93, 3) := dk_180 0 93 (dk_at dksX2_talk_6 21 rfl rfl)
theorem dX2_talk_163 : decode cX2_talk 163 = .ok (.iload_n 2, 1) := dk_28 (dk_at dksX2_talk_7 0 rfl rfl)
theorem dX2_talk_164 : decode cX2_talk 164 = .ok (.iload 4, 2) := dk_21 4 (dk_at dksX2_talk_7 1 rfl rfl)
theorem dX2_talk_166 : decode cX2_talk 166 = .ok (.iload 5, 2) := dk_21 5 (dk_at dksX2_talk_7 3 rfl rfl)
theorem dX2_talk_168 : decode cX2_talk 168 = .ok (.iload 6, 2) := dk_21 6 (dk_at dksX2_talk_7 5 rfl rfl)
theorem dX2_talk_170 : decode cX2_talk 170 = .ok (.invokespecial 210, 3) := dk_183 0 210 (dk_at dksX2_talk_7 7 rfl rfl)
theorem dX2_talk_173 : decode cX2_talk 173 = .ok (.invokevirtual 172, 3) := dk_182 0 172 (dk_at dksX2_talk_7 10 rfl rfl)
theorem dX2_talk_176 : decode cX2_talk 176 = .ok (.pop, 1) := dk_87 (dk_at dksX2_talk_7 13 rfl rfl)
theorem dX2_talk_177 : decode cX2_talk 177 = .ok (.return_, 1) := dk_177 (dk_at dksX2_talk_7 14 rfl rfl)
abbrev cX2_told : ByteArray := prog_11_method_15_code
def yX2_told : MethodName := ⟨RX2, "told", "(Z)I"⟩
def dkwX2_told_2 : List UInt8 := [160, 0, 9, 42, 7, 182, 0, 80, 191, 42, 182, 0, 84, 28, 172]
abbrev dktX2_told_2 : List UInt8 := dkwX2_told_2 ++ []
def dkwX2_told_1 : List UInt8 := [180, 0, 43, 182, 0, 145, 167, 0, 14, 42, 180, 0, 93, 42, 180, 0, 43, 182, 0, 147, 61, 28, 2]
abbrev dktX2_told_1 : List UInt8 := dkwX2_told_1 ++ dktX2_told_2
def dkwX2_told_0 : List UInt8 := [42, 180, 0, 33, 4, 159, 0, 9, 42, 4, 182, 0, 80, 191, 27, 153, 0, 17, 42, 180, 0, 93, 42]
abbrev dktX2_told_0 : List UInt8 := dkwX2_told_0 ++ dktX2_told_1
theorem dksX2_told_0 : cX2_told.data.toList.drop 0 = dktX2_told_0 := by decide +kernel
theorem dksX2_told_1 : cX2_told.data.toList.drop 23 = dktX2_told_1 := dk_seg dksX2_told_0 23 rfl rfl
theorem dksX2_told_2 : cX2_told.data.toList.drop 46 = dktX2_told_2 := dk_seg dksX2_told_1 23 rfl rfl
theorem dX2_told_0 : decode cX2_told 0 = .ok (.aload_n 0, 1) := dk_42 (dk_at dksX2_told_0 0 rfl rfl)
theorem dX2_told_1 : decode cX2_told 1 = .ok (.getfield 33, 3) := dk_180 0 33 (dk_at dksX2_told_0 1 rfl rfl)
theorem dX2_told_4 : decode cX2_told 4 = .ok (.iconst 1, 1) := dk_4 (dk_at dksX2_told_0 4 rfl rfl)
theorem dX2_told_5 : decode cX2_told 5 = .ok (.if_icmp .eq 9, 3) := dk_159 0 9 (dk_at dksX2_told_0 5 rfl rfl)
theorem dX2_told_8 : decode cX2_told 8 = .ok (.aload_n 0, 1) := dk_42 (dk_at dksX2_told_0 8 rfl rfl)
theorem dX2_told_9 : decode cX2_told 9 = .ok (.iconst 1, 1) := dk_4 (dk_at dksX2_told_0 9 rfl rfl)
theorem dX2_told_10 : decode cX2_told 10 = .ok (.invokevirtual 80, 3) := dk_182 0 80 (dk_at dksX2_told_0 10 rfl rfl)
theorem dX2_told_13 : decode cX2_told 13 = .ok (.athrow, 1) := dk_191 (dk_at dksX2_told_0 13 rfl rfl)
theorem dX2_told_14 : decode cX2_told 14 = .ok (.iload_n 1, 1) := dk_27 (dk_at dksX2_told_0 14 rfl rfl)
theorem dX2_told_15 : decode cX2_told 15 = .ok (.ifCond .eq 17, 3) := dk_153 0 17 (dk_at dksX2_told_0 15 rfl rfl)
theorem dX2_told_18 : decode cX2_told 18 = .ok (.aload_n 0, 1) := dk_42 (dk_at dksX2_told_0 18 rfl rfl)
theorem dX2_told_19 : decode cX2_told 19 = .ok (.getfield 93, 3) := dk_180 0 93 (dk_at dksX2_told_0 19 rfl rfl)
theorem dX2_told_22 : decode cX2_told 22 = .ok (.aload_n 0, 1) := dk_42 (dk_at dksX2_told_0 22 rfl rfl)
theorem dX2_told_23 : decode cX2_told 23 = .ok (.getfield 43, 3) := dk_180 0 43 (dk_at dksX2_told_1 0 rfl rfl)
theorem dX2_told_26 : decode cX2_told 26 = .ok (.invokevirtual 145, 3) := dk_182 0 145 (dk_at dksX2_told_1 3 rfl rfl)
theorem dX2_told_29 : decode cX2_told 29 = .ok (.goto 14, 3) := dk_167 0 14 (dk_at dksX2_told_1 6 rfl rfl)
theorem dX2_told_32 : decode cX2_told 32 = .ok (.aload_n 0, 1) := dk_42 (dk_at dksX2_told_1 9 rfl rfl)
theorem dX2_told_33 : decode cX2_told 33 = .ok (.getfield 93, 3) := dk_180 0 93 (dk_at dksX2_told_1 10 rfl rfl)
theorem dX2_told_36 : decode cX2_told 36 = .ok (.aload_n 0, 1) := dk_42 (dk_at dksX2_told_1 13 rfl rfl)
theorem dX2_told_37 : decode cX2_told 37 = .ok (.getfield 43, 3) := dk_180 0 43 (dk_at dksX2_told_1 14 rfl rfl)
theorem dX2_told_40 : decode cX2_told 40 = .ok (.invokevirtual 147, 3) := dk_182 0 147 (dk_at dksX2_told_1 17 rfl rfl)
theorem dX2_told_43 : decode cX2_told 43 = .ok (.istore_n 2, 1) := dk_61 (dk_at dksX2_told_1 20 rfl rfl)
theorem dX2_told_44 : decode cX2_told 44 = .ok (.iload_n 2, 1) := dk_28 (dk_at dksX2_told_1 21 rfl rfl)
theorem dX2_told_45 : decode cX2_told 45 = .ok (.iconst (-1), 1) := dk_2 (dk_at dksX2_told_1 22 rfl rfl)
theorem dX2_told_46 : decode cX2_told 46 = .ok (.if_icmp .ne 9, 3) := dk_160 0 9 (dk_at dksX2_told_2 0 rfl rfl)
theorem dX2_told_49 : decode cX2_told 49 = .ok (.aload_n 0, 1) := dk_42 (dk_at dksX2_told_2 3 rfl rfl)
theorem dX2_told_50 : decode cX2_told 50 = .ok (.iconst 4, 1) := dk_7 (dk_at dksX2_told_2 4 rfl rfl)
theorem dX2_told_51 : decode cX2_told 51 = .ok (.invokevirtual 80, 3) := dk_182 0 80 (dk_at dksX2_told_2 5 rfl rfl)
theorem dX2_told_54 : decode cX2_told 54 = .ok (.athrow, 1) := dk_191 (dk_at dksX2_told_2 8 rfl rfl)
theorem dX2_told_55 : decode cX2_told 55 = .ok (.aload_n 0, 1) := dk_42 (dk_at dksX2_told_2 9 rfl rfl)
theorem dX2_told_56 : decode cX2_told 56 = .ok (.invokevirtual 84, 3) := dk_182 0 84 (dk_at dksX2_told_2 10 rfl rfl)
theorem dX2_told_59 : decode cX2_told 59 = .ok (.iload_n 2, 1) := dk_28 (dk_at dksX2_told_2 13 rfl rfl)
theorem dX2_told_60 : decode cX2_told 60 = .ok (.ireturn, 1) := dk_172 (dk_at dksX2_told_2 14 rfl rfl)
abbrev cX2_page : ByteArray := prog_11_method_19_code
def yX2_page : MethodName := ⟨RX2, "page", "()V"⟩
def dkwX2_page_2 : List UInt8 := [182, 0, 153, 183, 0, 213, 182, 0, 172, 87, 177]
abbrev dktX2_page_2 : List UInt8 := dkwX2_page_2 ++ []
def dkwX2_page_1 : List UInt8 := [28, 42, 3, 42, 180, 0, 93, 180, 0, 100, 28, 182, 0, 190, 192, 0, 161, 180, 0, 200, 4, 100]
abbrev dktX2_page_1 : List UInt8 := dkwX2_page_1 ++ dktX2_page_2
def dkwX2_page_0 : List UInt8 := [42, 3, 182, 0, 187, 60, 42, 4, 182, 0, 187, 61, 42, 180, 0, 93, 180, 0, 114, 187, 0, 211, 89, 27]
abbrev dktX2_page_0 : List UInt8 := dkwX2_page_0 ++ dktX2_page_1
theorem dksX2_page_0 : cX2_page.data.toList.drop 0 = dktX2_page_0 := by decide +kernel
theorem dksX2_page_1 : cX2_page.data.toList.drop 24 = dktX2_page_1 := dk_seg dksX2_page_0 24 rfl rfl
theorem dksX2_page_2 : cX2_page.data.toList.drop 46 = dktX2_page_2 := dk_seg dksX2_page_1 22 rfl rfl
theorem dX2_page_0 : decode cX2_page 0 = .ok (.aload_n 0, 1) := dk_42 (dk_at dksX2_page_0 0 rfl rfl)
theorem dX2_page_1 : decode cX2_page 1 = .ok (.iconst 0, 1) := dk_3 (dk_at dksX2_page_0 1 rfl rfl)
theorem dX2_page_2 : decode cX2_page 2 = .ok (.invokevirtual 187, 3) := dk_182 0 187 (dk_at dksX2_page_0 2 rfl rfl)
theorem dX2_page_5 : decode cX2_page 5 = .ok (.istore_n 1, 1) := dk_60 (dk_at dksX2_page_0 5 rfl rfl)
theorem dX2_page_6 : decode cX2_page 6 = .ok (.aload_n 0, 1) := dk_42 (dk_at dksX2_page_0 6 rfl rfl)
theorem dX2_page_7 : decode cX2_page 7 = .ok (.iconst 1, 1) := dk_4 (dk_at dksX2_page_0 7 rfl rfl)
theorem dX2_page_8 : decode cX2_page 8 = .ok (.invokevirtual 187, 3) := dk_182 0 187 (dk_at dksX2_page_0 8 rfl rfl)
theorem dX2_page_11 : decode cX2_page 11 = .ok (.istore_n 2, 1) := dk_61 (dk_at dksX2_page_0 11 rfl rfl)
theorem dX2_page_12 : decode cX2_page 12 = .ok (.aload_n 0, 1) := dk_42 (dk_at dksX2_page_0 12 rfl rfl)
theorem dX2_page_13 : decode cX2_page 13 = .ok (.getfield 93, 3) := dk_180 0 93 (dk_at dksX2_page_0 13 rfl rfl)
theorem dX2_page_16 : decode cX2_page 16 = .ok (.getfield 114, 3) := dk_180 0 114 (dk_at dksX2_page_0 16 rfl rfl)
theorem dX2_page_19 : decode cX2_page 19 = .ok (.new 211, 3) := dk_187 0 211 (dk_at dksX2_page_0 19 rfl rfl)
theorem dX2_page_22 : decode cX2_page 22 = .ok (.dup, 1) := dk_89 (dk_at dksX2_page_0 22 rfl rfl)
theorem dX2_page_23 : decode cX2_page 23 = .ok (.iload_n 1, 1) := dk_27 (dk_at dksX2_page_0 23 rfl rfl)
theorem dX2_page_24 : decode cX2_page 24 = .ok (.iload_n 2, 1) := dk_28 (dk_at dksX2_page_1 0 rfl rfl)
theorem dX2_page_25 : decode cX2_page 25 = .ok (.aload_n 0, 1) := dk_42 (dk_at dksX2_page_1 1 rfl rfl)
theorem dX2_page_26 : decode cX2_page 26 = .ok (.iconst 0, 1) := dk_3 (dk_at dksX2_page_1 2 rfl rfl)
theorem dX2_page_27 : decode cX2_page 27 = .ok (.aload_n 0, 1) := dk_42 (dk_at dksX2_page_1 3 rfl rfl)
theorem dX2_page_28 : decode cX2_page 28 = .ok (.getfield 93, 3) := dk_180 0 93 (dk_at dksX2_page_1 4 rfl rfl)
theorem dX2_page_31 : decode cX2_page 31 = .ok (.getfield 100, 3) := dk_180 0 100 (dk_at dksX2_page_1 7 rfl rfl)
theorem dX2_page_34 : decode cX2_page 34 = .ok (.iload_n 2, 1) := dk_28 (dk_at dksX2_page_1 10 rfl rfl)
theorem dX2_page_35 : decode cX2_page 35 = .ok (.invokevirtual 190, 3) := dk_182 0 190 (dk_at dksX2_page_1 11 rfl rfl)
theorem dX2_page_38 : decode cX2_page 38 = .ok (.checkcast 161, 3) := dk_192 0 161 (dk_at dksX2_page_1 14 rfl rfl)
theorem dX2_page_41 : decode cX2_page 41 = .ok (.getfield 200, 3) := dk_180 0 200 (dk_at dksX2_page_1 17 rfl rfl)
theorem dX2_page_44 : decode cX2_page 44 = .ok (.iconst 1, 1) := dk_4 (dk_at dksX2_page_1 20 rfl rfl)
theorem dX2_page_45 : decode cX2_page 45 = .ok (.isub, 1) := dk_100 (dk_at dksX2_page_1 21 rfl rfl)
theorem dX2_page_46 : decode cX2_page 46 = .ok (.invokevirtual 153, 3) := dk_182 0 153 (dk_at dksX2_page_2 0 rfl rfl)
theorem dX2_page_49 : decode cX2_page 49 = .ok (.invokespecial 213, 3) := dk_183 0 213 (dk_at dksX2_page_2 3 rfl rfl)
theorem dX2_page_52 : decode cX2_page 52 = .ok (.invokevirtual 172, 3) := dk_182 0 172 (dk_at dksX2_page_2 6 rfl rfl)
theorem dX2_page_55 : decode cX2_page 55 = .ok (.pop, 1) := dk_87 (dk_at dksX2_page_2 9 rfl rfl)
theorem dX2_page_56 : decode cX2_page 56 = .ok (.return_, 1) := dk_177 (dk_at dksX2_page_2 10 rfl rfl)
abbrev cX2_or : ByteArray := prog_11_method_22_code
def yX2_or : MethodName := ⟨RX2, "or", "()LSaidSo$Part;"⟩
def dkwX2_or_1 : List UInt8 := [89, 28, 43, 42, 182, 0, 220, 183, 0, 228, 76, 167, 255, 226, 43, 176]
abbrev dktX2_or_1 : List UInt8 := dkwX2_or_1 ++ []
def dkwX2_or_0 : List UInt8 := [42, 182, 0, 220, 76, 42, 16, 14, 16, 14, 182, 0, 76, 153, 0, 25, 42, 182, 0, 223, 61, 187, 0, 226]
abbrev dktX2_or_0 : List UInt8 := dkwX2_or_0 ++ dktX2_or_1
theorem dksX2_or_0 : cX2_or.data.toList.drop 0 = dktX2_or_0 := by decide +kernel
theorem dksX2_or_1 : cX2_or.data.toList.drop 24 = dktX2_or_1 := dk_seg dksX2_or_0 24 rfl rfl
theorem dX2_or_0 : decode cX2_or 0 = .ok (.aload_n 0, 1) := dk_42 (dk_at dksX2_or_0 0 rfl rfl)
theorem dX2_or_1 : decode cX2_or 1 = .ok (.invokevirtual 220, 3) := dk_182 0 220 (dk_at dksX2_or_0 1 rfl rfl)
theorem dX2_or_4 : decode cX2_or 4 = .ok (.astore_n 1, 1) := dk_76 (dk_at dksX2_or_0 4 rfl rfl)
theorem dX2_or_5 : decode cX2_or 5 = .ok (.aload_n 0, 1) := dk_42 (dk_at dksX2_or_0 5 rfl rfl)
theorem dX2_or_6 : decode cX2_or 6 = .ok (.bipush 14, 2) := dk_16 14 (dk_at dksX2_or_0 6 rfl rfl)
theorem dX2_or_8 : decode cX2_or 8 = .ok (.bipush 14, 2) := dk_16 14 (dk_at dksX2_or_0 8 rfl rfl)
theorem dX2_or_10 : decode cX2_or 10 = .ok (.invokevirtual 76, 3) := dk_182 0 76 (dk_at dksX2_or_0 10 rfl rfl)
theorem dX2_or_13 : decode cX2_or 13 = .ok (.ifCond .eq 25, 3) := dk_153 0 25 (dk_at dksX2_or_0 13 rfl rfl)
theorem dX2_or_16 : decode cX2_or 16 = .ok (.aload_n 0, 1) := dk_42 (dk_at dksX2_or_0 16 rfl rfl)
theorem dX2_or_17 : decode cX2_or 17 = .ok (.invokevirtual 223, 3) := dk_182 0 223 (dk_at dksX2_or_0 17 rfl rfl)
theorem dX2_or_20 : decode cX2_or 20 = .ok (.istore_n 2, 1) := dk_61 (dk_at dksX2_or_0 20 rfl rfl)
theorem dX2_or_21 : decode cX2_or 21 = .ok (.new 226, 3) := dk_187 0 226 (dk_at dksX2_or_0 21 rfl rfl)
theorem dX2_or_24 : decode cX2_or 24 = .ok (.dup, 1) := dk_89 (dk_at dksX2_or_1 0 rfl rfl)
theorem dX2_or_25 : decode cX2_or 25 = .ok (.iload_n 2, 1) := dk_28 (dk_at dksX2_or_1 1 rfl rfl)
theorem dX2_or_26 : decode cX2_or 26 = .ok (.aload_n 1, 1) := dk_43 (dk_at dksX2_or_1 2 rfl rfl)
theorem dX2_or_27 : decode cX2_or 27 = .ok (.aload_n 0, 1) := dk_42 (dk_at dksX2_or_1 3 rfl rfl)
theorem dX2_or_28 : decode cX2_or 28 = .ok (.invokevirtual 220, 3) := dk_182 0 220 (dk_at dksX2_or_1 4 rfl rfl)
theorem dX2_or_31 : decode cX2_or 31 = .ok (.invokespecial 228, 3) := dk_183 0 228 (dk_at dksX2_or_1 7 rfl rfl)
theorem dX2_or_34 : decode cX2_or 34 = .ok (.astore_n 1, 1) := dk_76 (dk_at dksX2_or_1 10 rfl rfl)
theorem dX2_or_35 : decode cX2_or 35 = .ok (.goto (-30), 3) := dk_167 255 226 (dk_at dksX2_or_1 11 rfl rfl)
theorem dX2_or_38 : decode cX2_or 38 = .ok (.aload_n 1, 1) := dk_43 (dk_at dksX2_or_1 14 rfl rfl)
theorem dX2_or_39 : decode cX2_or 39 = .ok (.areturn, 1) := dk_176 (dk_at dksX2_or_1 15 rfl rfl)
abbrev cX2_and : ByteArray := prog_11_method_23_code
def yX2_and : MethodName := ⟨RX2, "and", "()LSaidSo$Part;"⟩
def dkwX2_and_1 : List UInt8 := [89, 28, 43, 42, 182, 0, 231, 183, 0, 228, 76, 167, 255, 226, 43, 176]
abbrev dktX2_and_1 : List UInt8 := dkwX2_and_1 ++ []
def dkwX2_and_0 : List UInt8 := [42, 182, 0, 231, 76, 42, 16, 15, 16, 15, 182, 0, 76, 153, 0, 25, 42, 182, 0, 223, 61, 187, 0, 226]
abbrev dktX2_and_0 : List UInt8 := dkwX2_and_0 ++ dktX2_and_1
theorem dksX2_and_0 : cX2_and.data.toList.drop 0 = dktX2_and_0 := by decide +kernel
theorem dksX2_and_1 : cX2_and.data.toList.drop 24 = dktX2_and_1 := dk_seg dksX2_and_0 24 rfl rfl
theorem dX2_and_0 : decode cX2_and 0 = .ok (.aload_n 0, 1) := dk_42 (dk_at dksX2_and_0 0 rfl rfl)
theorem dX2_and_1 : decode cX2_and 1 = .ok (.invokevirtual 231, 3) := dk_182 0 231 (dk_at dksX2_and_0 1 rfl rfl)
theorem dX2_and_4 : decode cX2_and 4 = .ok (.astore_n 1, 1) := dk_76 (dk_at dksX2_and_0 4 rfl rfl)
theorem dX2_and_5 : decode cX2_and 5 = .ok (.aload_n 0, 1) := dk_42 (dk_at dksX2_and_0 5 rfl rfl)
theorem dX2_and_6 : decode cX2_and 6 = .ok (.bipush 15, 2) := dk_16 15 (dk_at dksX2_and_0 6 rfl rfl)
theorem dX2_and_8 : decode cX2_and 8 = .ok (.bipush 15, 2) := dk_16 15 (dk_at dksX2_and_0 8 rfl rfl)
theorem dX2_and_10 : decode cX2_and 10 = .ok (.invokevirtual 76, 3) := dk_182 0 76 (dk_at dksX2_and_0 10 rfl rfl)
theorem dX2_and_13 : decode cX2_and 13 = .ok (.ifCond .eq 25, 3) := dk_153 0 25 (dk_at dksX2_and_0 13 rfl rfl)
theorem dX2_and_16 : decode cX2_and 16 = .ok (.aload_n 0, 1) := dk_42 (dk_at dksX2_and_0 16 rfl rfl)
theorem dX2_and_17 : decode cX2_and 17 = .ok (.invokevirtual 223, 3) := dk_182 0 223 (dk_at dksX2_and_0 17 rfl rfl)
theorem dX2_and_20 : decode cX2_and 20 = .ok (.istore_n 2, 1) := dk_61 (dk_at dksX2_and_0 20 rfl rfl)
theorem dX2_and_21 : decode cX2_and 21 = .ok (.new 226, 3) := dk_187 0 226 (dk_at dksX2_and_0 21 rfl rfl)
theorem dX2_and_24 : decode cX2_and 24 = .ok (.dup, 1) := dk_89 (dk_at dksX2_and_1 0 rfl rfl)
theorem dX2_and_25 : decode cX2_and 25 = .ok (.iload_n 2, 1) := dk_28 (dk_at dksX2_and_1 1 rfl rfl)
theorem dX2_and_26 : decode cX2_and 26 = .ok (.aload_n 1, 1) := dk_43 (dk_at dksX2_and_1 2 rfl rfl)
theorem dX2_and_27 : decode cX2_and 27 = .ok (.aload_n 0, 1) := dk_42 (dk_at dksX2_and_1 3 rfl rfl)
theorem dX2_and_28 : decode cX2_and 28 = .ok (.invokevirtual 231, 3) := dk_182 0 231 (dk_at dksX2_and_1 4 rfl rfl)
theorem dX2_and_31 : decode cX2_and 31 = .ok (.invokespecial 228, 3) := dk_183 0 228 (dk_at dksX2_and_1 7 rfl rfl)
theorem dX2_and_34 : decode cX2_and 34 = .ok (.astore_n 1, 1) := dk_76 (dk_at dksX2_and_1 10 rfl rfl)
theorem dX2_and_35 : decode cX2_and 35 = .ok (.goto (-30), 3) := dk_167 255 226 (dk_at dksX2_and_1 11 rfl rfl)
theorem dX2_and_38 : decode cX2_and 38 = .ok (.aload_n 1, 1) := dk_43 (dk_at dksX2_and_1 14 rfl rfl)
theorem dX2_and_39 : decode cX2_and 39 = .ok (.areturn, 1) := dk_176 (dk_at dksX2_and_1 15 rfl rfl)
abbrev cX2_not : ByteArray := prog_11_method_24_code
def yX2_not : MethodName := ⟨RX2, "not", "()LSaidSo$Part;"⟩
def dkwX2_not_1 : List UInt8 := [187, 0, 237, 89, 42, 182, 0, 231, 183, 0, 239, 176]
abbrev dktX2_not_1 : List UInt8 := dkwX2_not_1 ++ []
def dkwX2_not_0 : List UInt8 := [42, 16, 16, 16, 16, 182, 0, 76, 154, 0, 8, 42, 182, 0, 234, 176, 42, 182, 0, 217, 42, 182, 0, 84]
abbrev dktX2_not_0 : List UInt8 := dkwX2_not_0 ++ dktX2_not_1
theorem dksX2_not_0 : cX2_not.data.toList.drop 0 = dktX2_not_0 := by decide +kernel
theorem dksX2_not_1 : cX2_not.data.toList.drop 24 = dktX2_not_1 := dk_seg dksX2_not_0 24 rfl rfl
theorem dX2_not_0 : decode cX2_not 0 = .ok (.aload_n 0, 1) := dk_42 (dk_at dksX2_not_0 0 rfl rfl)
theorem dX2_not_1 : decode cX2_not 1 = .ok (.bipush 16, 2) := dk_16 16 (dk_at dksX2_not_0 1 rfl rfl)
theorem dX2_not_3 : decode cX2_not 3 = .ok (.bipush 16, 2) := dk_16 16 (dk_at dksX2_not_0 3 rfl rfl)
theorem dX2_not_5 : decode cX2_not 5 = .ok (.invokevirtual 76, 3) := dk_182 0 76 (dk_at dksX2_not_0 5 rfl rfl)
theorem dX2_not_8 : decode cX2_not 8 = .ok (.ifCond .ne 8, 3) := dk_154 0 8 (dk_at dksX2_not_0 8 rfl rfl)
theorem dX2_not_11 : decode cX2_not 11 = .ok (.aload_n 0, 1) := dk_42 (dk_at dksX2_not_0 11 rfl rfl)
theorem dX2_not_12 : decode cX2_not 12 = .ok (.invokevirtual 234, 3) := dk_182 0 234 (dk_at dksX2_not_0 12 rfl rfl)
theorem dX2_not_15 : decode cX2_not 15 = .ok (.areturn, 1) := dk_176 (dk_at dksX2_not_0 15 rfl rfl)
theorem dX2_not_16 : decode cX2_not 16 = .ok (.aload_n 0, 1) := dk_42 (dk_at dksX2_not_0 16 rfl rfl)
theorem dX2_not_17 : decode cX2_not 17 = .ok (.invokevirtual 217, 3) := dk_182 0 217 (dk_at dksX2_not_0 17 rfl rfl)
theorem dX2_not_20 : decode cX2_not 20 = .ok (.aload_n 0, 1) := dk_42 (dk_at dksX2_not_0 20 rfl rfl)
theorem dX2_not_21 : decode cX2_not 21 = .ok (.invokevirtual 84, 3) := dk_182 0 84 (dk_at dksX2_not_0 21 rfl rfl)
theorem dX2_not_24 : decode cX2_not 24 = .ok (.new 237, 3) := dk_187 0 237 (dk_at dksX2_not_1 0 rfl rfl)
theorem dX2_not_27 : decode cX2_not 27 = .ok (.dup, 1) := dk_89 (dk_at dksX2_not_1 3 rfl rfl)
theorem dX2_not_28 : decode cX2_not 28 = .ok (.aload_n 0, 1) := dk_42 (dk_at dksX2_not_1 4 rfl rfl)
theorem dX2_not_29 : decode cX2_not 29 = .ok (.invokevirtual 231, 3) := dk_182 0 231 (dk_at dksX2_not_1 5 rfl rfl)
theorem dX2_not_32 : decode cX2_not 32 = .ok (.invokespecial 239, 3) := dk_183 0 239 (dk_at dksX2_not_1 8 rfl rfl)
theorem dX2_not_35 : decode cX2_not 35 = .ok (.areturn, 1) := dk_176 (dk_at dksX2_not_1 11 rfl rfl)
abbrev cX2_compare : ByteArray := prog_11_method_25_code
def yX2_compare : MethodName := ⟨RX2, "compare", "()LSaidSo$Part;"⟩
def dkwX2_compare_3 : List UInt8 := [29, 43, 42, 182, 0, 242, 183, 0, 228, 176]
abbrev dktX2_compare_3 : List UInt8 := dkwX2_compare_3 ++ []
def dkwX2_compare_2 : List UInt8 := [161, 0, 7, 4, 167, 0, 4, 3, 61, 28, 154, 0, 5, 43, 176, 42, 182, 0, 223, 62, 187, 0, 226, 89]
abbrev dktX2_compare_2 : List UInt8 := dkwX2_compare_2 ++ dktX2_compare_3
def dkwX2_compare_1 : List UInt8 := [16, 61, 182, 0, 138, 154, 0, 21, 42, 180, 0, 33, 6, 160, 0, 17, 42, 180, 0, 43, 17, 1, 0]
abbrev dktX2_compare_1 : List UInt8 := dkwX2_compare_1 ++ dktX2_compare_2
def dkwX2_compare_0 : List UInt8 := [42, 182, 0, 242, 76, 42, 16, 60, 182, 0, 138, 154, 0, 39, 42, 16, 62, 182, 0, 138, 154, 0, 30, 42]
abbrev dktX2_compare_0 : List UInt8 := dkwX2_compare_0 ++ dktX2_compare_1
theorem dksX2_compare_0 : cX2_compare.data.toList.drop 0 = dktX2_compare_0 := by decide +kernel
theorem dksX2_compare_1 : cX2_compare.data.toList.drop 24 = dktX2_compare_1 := dk_seg dksX2_compare_0 24 rfl rfl
theorem dksX2_compare_2 : cX2_compare.data.toList.drop 47 = dktX2_compare_2 := dk_seg dksX2_compare_1 23 rfl rfl
theorem dksX2_compare_3 : cX2_compare.data.toList.drop 71 = dktX2_compare_3 := dk_seg dksX2_compare_2 24 rfl rfl
theorem dX2_compare_0 : decode cX2_compare 0 = .ok (.aload_n 0, 1) := dk_42 (dk_at dksX2_compare_0 0 rfl rfl)
theorem dX2_compare_1 : decode cX2_compare 1 = .ok (.invokevirtual 242, 3) := dk_182 0 242 (dk_at dksX2_compare_0 1 rfl rfl)
theorem dX2_compare_4 : decode cX2_compare 4 = .ok (.astore_n 1, 1) := dk_76 (dk_at dksX2_compare_0 4 rfl rfl)
theorem dX2_compare_5 : decode cX2_compare 5 = .ok (.aload_n 0, 1) := dk_42 (dk_at dksX2_compare_0 5 rfl rfl)
theorem dX2_compare_6 : decode cX2_compare 6 = .ok (.bipush 60, 2) := dk_16 60 (dk_at dksX2_compare_0 6 rfl rfl)
theorem dX2_compare_8 : decode cX2_compare 8 = .ok (.invokevirtual 138, 3) := dk_182 0 138 (dk_at dksX2_compare_0 8 rfl rfl)
theorem dX2_compare_11 : decode cX2_compare 11 = .ok (.ifCond .ne 39, 3) := dk_154 0 39 (dk_at dksX2_compare_0 11 rfl rfl)
theorem dX2_compare_14 : decode cX2_compare 14 = .ok (.aload_n 0, 1) := dk_42 (dk_at dksX2_compare_0 14 rfl rfl)
theorem dX2_compare_15 : decode cX2_compare 15 = .ok (.bipush 62, 2) := dk_16 62 (dk_at dksX2_compare_0 15 rfl rfl)
theorem dX2_compare_17 : decode cX2_compare 17 = .ok (.invokevirtual 138, 3) := dk_182 0 138 (dk_at dksX2_compare_0 17 rfl rfl)
theorem dX2_compare_20 : decode cX2_compare 20 = .ok (.ifCond .ne 30, 3) := dk_154 0 30 (dk_at dksX2_compare_0 20 rfl rfl)
theorem dX2_compare_23 : decode cX2_compare 23 = .ok (.aload_n 0, 1) := dk_42 (dk_at dksX2_compare_0 23 rfl rfl)
theorem dX2_compare_24 : decode cX2_compare 24 = .ok (.bipush 61, 2) := dk_16 61 (dk_at dksX2_compare_1 0 rfl rfl)
theorem dX2_compare_26 : decode cX2_compare 26 = .ok (.invokevirtual 138, 3) := dk_182 0 138 (dk_at dksX2_compare_1 2 rfl rfl)
theorem dX2_compare_29 : decode cX2_compare 29 = .ok (.ifCond .ne 21, 3) := dk_154 0 21 (dk_at dksX2_compare_1 5 rfl rfl)
theorem dX2_compare_32 : decode cX2_compare 32 = .ok (.aload_n 0, 1) := dk_42 (dk_at dksX2_compare_1 8 rfl rfl)
theorem dX2_compare_33 : decode cX2_compare 33 = .ok (.getfield 33, 3) := dk_180 0 33 (dk_at dksX2_compare_1 9 rfl rfl)
theorem dX2_compare_36 : decode cX2_compare 36 = .ok (.iconst 3, 1) := dk_6 (dk_at dksX2_compare_1 12 rfl rfl)
theorem dX2_compare_37 : decode cX2_compare 37 = .ok (.if_icmp .ne 17, 3) := dk_160 0 17 (dk_at dksX2_compare_1 13 rfl rfl)
theorem dX2_compare_40 : decode cX2_compare 40 = .ok (.aload_n 0, 1) := dk_42 (dk_at dksX2_compare_1 16 rfl rfl)
theorem dX2_compare_41 : decode cX2_compare 41 = .ok (.getfield 43, 3) := dk_180 0 43 (dk_at dksX2_compare_1 17 rfl rfl)
theorem dX2_compare_44 : decode cX2_compare 44 = .ok (.sipush 256, 3) := dk_17 1 0 (dk_at dksX2_compare_1 20 rfl rfl)
theorem dX2_compare_47 : decode cX2_compare 47 = .ok (.if_icmp .lt 7, 3) := dk_161 0 7 (dk_at dksX2_compare_2 0 rfl rfl)
theorem dX2_compare_50 : decode cX2_compare 50 = .ok (.iconst 1, 1) := dk_4 (dk_at dksX2_compare_2 3 rfl rfl)
theorem dX2_compare_51 : decode cX2_compare 51 = .ok (.goto 4, 3) := dk_167 0 4 (dk_at dksX2_compare_2 4 rfl rfl)
theorem dX2_compare_54 : decode cX2_compare 54 = .ok (.iconst 0, 1) := dk_3 (dk_at dksX2_compare_2 7 rfl rfl)
theorem dX2_compare_55 : decode cX2_compare 55 = .ok (.istore_n 2, 1) := dk_61 (dk_at dksX2_compare_2 8 rfl rfl)
theorem dX2_compare_56 : decode cX2_compare 56 = .ok (.iload_n 2, 1) := dk_28 (dk_at dksX2_compare_2 9 rfl rfl)
theorem dX2_compare_57 : decode cX2_compare 57 = .ok (.ifCond .ne 5, 3) := dk_154 0 5 (dk_at dksX2_compare_2 10 rfl rfl)
theorem dX2_compare_60 : decode cX2_compare 60 = .ok (.aload_n 1, 1) := dk_43 (dk_at dksX2_compare_2 13 rfl rfl)
theorem dX2_compare_61 : decode cX2_compare 61 = .ok (.areturn, 1) := dk_176 (dk_at dksX2_compare_2 14 rfl rfl)
theorem dX2_compare_62 : decode cX2_compare 62 = .ok (.aload_n 0, 1) := dk_42 (dk_at dksX2_compare_2 15 rfl rfl)
theorem dX2_compare_63 : decode cX2_compare 63 = .ok (.invokevirtual 223, 3) := dk_182 0 223 (dk_at dksX2_compare_2 16 rfl rfl)
theorem dX2_compare_66 : decode cX2_compare 66 = .ok (.istore_n 3, 1) := dk_62 (dk_at dksX2_compare_2 19 rfl rfl)
theorem dX2_compare_67 : decode cX2_compare 67 = .ok (.new 226, 3) := dk_187 0 226 (dk_at dksX2_compare_2 20 rfl rfl)
theorem dX2_compare_70 : decode cX2_compare 70 = .ok (.dup, 1) := dk_89 (dk_at dksX2_compare_2 23 rfl rfl)
theorem dX2_compare_71 : decode cX2_compare 71 = .ok (.iload_n 3, 1) := dk_29 (dk_at dksX2_compare_3 0 rfl rfl)
theorem dX2_compare_72 : decode cX2_compare 72 = .ok (.aload_n 1, 1) := dk_43 (dk_at dksX2_compare_3 1 rfl rfl)
theorem dX2_compare_73 : decode cX2_compare 73 = .ok (.aload_n 0, 1) := dk_42 (dk_at dksX2_compare_3 2 rfl rfl)
theorem dX2_compare_74 : decode cX2_compare 74 = .ok (.invokevirtual 242, 3) := dk_182 0 242 (dk_at dksX2_compare_3 3 rfl rfl)
theorem dX2_compare_77 : decode cX2_compare 77 = .ok (.invokespecial 228, 3) := dk_183 0 228 (dk_at dksX2_compare_3 6 rfl rfl)
theorem dX2_compare_80 : decode cX2_compare 80 = .ok (.areturn, 1) := dk_176 (dk_at dksX2_compare_3 9 rfl rfl)
abbrev cX2_sum : ByteArray := prog_11_method_26_code
def yX2_sum : MethodName := ⟨RX2, "sum", "()LSaidSo$Part;"⟩
def dkwX2_sum_1 : List UInt8 := [182, 0, 223, 61, 187, 0, 226, 89, 28, 43, 42, 182, 0, 245, 183, 0, 228, 76, 167, 255, 219, 43, 176]
abbrev dktX2_sum_1 : List UInt8 := dkwX2_sum_1 ++ []
def dkwX2_sum_0 : List UInt8 := [42, 182, 0, 245, 76, 42, 16, 43, 182, 0, 138, 154, 0, 12, 42, 16, 45, 182, 0, 138, 153, 0, 25, 42]
abbrev dktX2_sum_0 : List UInt8 := dkwX2_sum_0 ++ dktX2_sum_1
theorem dksX2_sum_0 : cX2_sum.data.toList.drop 0 = dktX2_sum_0 := by decide +kernel
theorem dksX2_sum_1 : cX2_sum.data.toList.drop 24 = dktX2_sum_1 := dk_seg dksX2_sum_0 24 rfl rfl
theorem dX2_sum_0 : decode cX2_sum 0 = .ok (.aload_n 0, 1) := dk_42 (dk_at dksX2_sum_0 0 rfl rfl)
theorem dX2_sum_1 : decode cX2_sum 1 = .ok (.invokevirtual 245, 3) := dk_182 0 245 (dk_at dksX2_sum_0 1 rfl rfl)
theorem dX2_sum_4 : decode cX2_sum 4 = .ok (.astore_n 1, 1) := dk_76 (dk_at dksX2_sum_0 4 rfl rfl)
theorem dX2_sum_5 : decode cX2_sum 5 = .ok (.aload_n 0, 1) := dk_42 (dk_at dksX2_sum_0 5 rfl rfl)
theorem dX2_sum_6 : decode cX2_sum 6 = .ok (.bipush 43, 2) := dk_16 43 (dk_at dksX2_sum_0 6 rfl rfl)
theorem dX2_sum_8 : decode cX2_sum 8 = .ok (.invokevirtual 138, 3) := dk_182 0 138 (dk_at dksX2_sum_0 8 rfl rfl)
theorem dX2_sum_11 : decode cX2_sum 11 = .ok (.ifCond .ne 12, 3) := dk_154 0 12 (dk_at dksX2_sum_0 11 rfl rfl)
theorem dX2_sum_14 : decode cX2_sum 14 = .ok (.aload_n 0, 1) := dk_42 (dk_at dksX2_sum_0 14 rfl rfl)
theorem dX2_sum_15 : decode cX2_sum 15 = .ok (.bipush 45, 2) := dk_16 45 (dk_at dksX2_sum_0 15 rfl rfl)
theorem dX2_sum_17 : decode cX2_sum 17 = .ok (.invokevirtual 138, 3) := dk_182 0 138 (dk_at dksX2_sum_0 17 rfl rfl)
theorem dX2_sum_20 : decode cX2_sum 20 = .ok (.ifCond .eq 25, 3) := dk_153 0 25 (dk_at dksX2_sum_0 20 rfl rfl)
theorem dX2_sum_23 : decode cX2_sum 23 = .ok (.aload_n 0, 1) := dk_42 (dk_at dksX2_sum_0 23 rfl rfl)
theorem dX2_sum_24 : decode cX2_sum 24 = .ok (.invokevirtual 223, 3) := dk_182 0 223 (dk_at dksX2_sum_1 0 rfl rfl)
theorem dX2_sum_27 : decode cX2_sum 27 = .ok (.istore_n 2, 1) := dk_61 (dk_at dksX2_sum_1 3 rfl rfl)
theorem dX2_sum_28 : decode cX2_sum 28 = .ok (.new 226, 3) := dk_187 0 226 (dk_at dksX2_sum_1 4 rfl rfl)
theorem dX2_sum_31 : decode cX2_sum 31 = .ok (.dup, 1) := dk_89 (dk_at dksX2_sum_1 7 rfl rfl)
theorem dX2_sum_32 : decode cX2_sum 32 = .ok (.iload_n 2, 1) := dk_28 (dk_at dksX2_sum_1 8 rfl rfl)
theorem dX2_sum_33 : decode cX2_sum 33 = .ok (.aload_n 1, 1) := dk_43 (dk_at dksX2_sum_1 9 rfl rfl)
theorem dX2_sum_34 : decode cX2_sum 34 = .ok (.aload_n 0, 1) := dk_42 (dk_at dksX2_sum_1 10 rfl rfl)
theorem dX2_sum_35 : decode cX2_sum 35 = .ok (.invokevirtual 245, 3) := dk_182 0 245 (dk_at dksX2_sum_1 11 rfl rfl)
theorem dX2_sum_38 : decode cX2_sum 38 = .ok (.invokespecial 228, 3) := dk_183 0 228 (dk_at dksX2_sum_1 14 rfl rfl)
theorem dX2_sum_41 : decode cX2_sum 41 = .ok (.astore_n 1, 1) := dk_76 (dk_at dksX2_sum_1 17 rfl rfl)
theorem dX2_sum_42 : decode cX2_sum 42 = .ok (.goto (-37), 3) := dk_167 255 219 (dk_at dksX2_sum_1 18 rfl rfl)
theorem dX2_sum_45 : decode cX2_sum 45 = .ok (.aload_n 1, 1) := dk_43 (dk_at dksX2_sum_1 21 rfl rfl)
theorem dX2_sum_46 : decode cX2_sum 46 = .ok (.areturn, 1) := dk_176 (dk_at dksX2_sum_1 22 rfl rfl)
abbrev cX2_product : ByteArray := prog_11_method_27_code
def yX2_product : MethodName := ⟨RX2, "product", "()LSaidSo$Part;"⟩
def dkwX2_product_1 : List UInt8 := [182, 0, 223, 61, 187, 0, 226, 89, 28, 43, 42, 182, 0, 248, 183, 0, 228, 76, 167, 255, 219, 43, 176]
abbrev dktX2_product_1 : List UInt8 := dkwX2_product_1 ++ []
def dkwX2_product_0 : List UInt8 := [42, 182, 0, 248, 76, 42, 16, 42, 182, 0, 138, 154, 0, 12, 42, 16, 47, 182, 0, 138, 153, 0, 25, 42]
abbrev dktX2_product_0 : List UInt8 := dkwX2_product_0 ++ dktX2_product_1
theorem dksX2_product_0 : cX2_product.data.toList.drop 0 = dktX2_product_0 := by decide +kernel
theorem dksX2_product_1 : cX2_product.data.toList.drop 24 = dktX2_product_1 := dk_seg dksX2_product_0 24 rfl rfl
theorem dX2_product_0 : decode cX2_product 0 = .ok (.aload_n 0, 1) := dk_42 (dk_at dksX2_product_0 0 rfl rfl)
theorem dX2_product_1 : decode cX2_product 1 = .ok (.invokevirtual 248, 3) := dk_182 0 248 (dk_at dksX2_product_0 1 rfl rfl)
theorem dX2_product_4 : decode cX2_product 4 = .ok (.astore_n 1, 1) := dk_76 (dk_at dksX2_product_0 4 rfl rfl)
theorem dX2_product_5 : decode cX2_product 5 = .ok (.aload_n 0, 1) := dk_42 (dk_at dksX2_product_0 5 rfl rfl)
theorem dX2_product_6 : decode cX2_product 6 = .ok (.bipush 42, 2) := dk_16 42 (dk_at dksX2_product_0 6 rfl rfl)
theorem dX2_product_8 : decode cX2_product 8 = .ok (.invokevirtual 138, 3) := dk_182 0 138 (dk_at dksX2_product_0 8 rfl rfl)
theorem dX2_product_11 : decode cX2_product 11 = .ok (.ifCond .ne 12, 3) := dk_154 0 12 (dk_at dksX2_product_0 11 rfl rfl)
theorem dX2_product_14 : decode cX2_product 14 = .ok (.aload_n 0, 1) := dk_42 (dk_at dksX2_product_0 14 rfl rfl)
theorem dX2_product_15 : decode cX2_product 15 = .ok (.bipush 47, 2) := dk_16 47 (dk_at dksX2_product_0 15 rfl rfl)
theorem dX2_product_17 : decode cX2_product 17 = .ok (.invokevirtual 138, 3) := dk_182 0 138 (dk_at dksX2_product_0 17 rfl rfl)
theorem dX2_product_20 : decode cX2_product 20 = .ok (.ifCond .eq 25, 3) := dk_153 0 25 (dk_at dksX2_product_0 20 rfl rfl)
theorem dX2_product_23 : decode cX2_product 23 = .ok (.aload_n 0, 1) := dk_42 (dk_at dksX2_product_0 23 rfl rfl)
theorem dX2_product_24 : decode cX2_product 24 = .ok (.invokevirtual 223, 3) := dk_182 0 223 (dk_at dksX2_product_1 0 rfl rfl)
theorem dX2_product_27 : decode cX2_product 27 = .ok (.istore_n 2, 1) := dk_61 (dk_at dksX2_product_1 3 rfl rfl)
theorem dX2_product_28 : decode cX2_product 28 = .ok (.new 226, 3) := dk_187 0 226 (dk_at dksX2_product_1 4 rfl rfl)
theorem dX2_product_31 : decode cX2_product 31 = .ok (.dup, 1) := dk_89 (dk_at dksX2_product_1 7 rfl rfl)
theorem dX2_product_32 : decode cX2_product 32 = .ok (.iload_n 2, 1) := dk_28 (dk_at dksX2_product_1 8 rfl rfl)
theorem dX2_product_33 : decode cX2_product 33 = .ok (.aload_n 1, 1) := dk_43 (dk_at dksX2_product_1 9 rfl rfl)
theorem dX2_product_34 : decode cX2_product 34 = .ok (.aload_n 0, 1) := dk_42 (dk_at dksX2_product_1 10 rfl rfl)
theorem dX2_product_35 : decode cX2_product 35 = .ok (.invokevirtual 248, 3) := dk_182 0 248 (dk_at dksX2_product_1 11 rfl rfl)
theorem dX2_product_38 : decode cX2_product 38 = .ok (.invokespecial 228, 3) := dk_183 0 228 (dk_at dksX2_product_1 14 rfl rfl)
theorem dX2_product_41 : decode cX2_product 41 = .ok (.astore_n 1, 1) := dk_76 (dk_at dksX2_product_1 17 rfl rfl)
theorem dX2_product_42 : decode cX2_product 42 = .ok (.goto (-37), 3) := dk_167 255 219 (dk_at dksX2_product_1 18 rfl rfl)
theorem dX2_product_45 : decode cX2_product 45 = .ok (.aload_n 1, 1) := dk_43 (dk_at dksX2_product_1 21 rfl rfl)
theorem dX2_product_46 : decode cX2_product 46 = .ok (.areturn, 1) := dk_176 (dk_at dksX2_product_1 22 rfl rfl)
abbrev cX2_one : ByteArray := prog_11_method_28_code
def yX2_one : MethodName := ⟨RX2, "one", "()LSaidSo$Part;"⟩
def dkwX2_one_6 : List UInt8 := [182, 0, 217, 187, 0, 255, 89, 42, 180, 0, 43, 16, 17, 100, 183, 1, 1, 76, 42, 182, 0, 84, 43, 176]
abbrev dktX2_one_6 : List UInt8 := dkwX2_one_6 ++ []
def dkwX2_one_5 : List UInt8 := [176, 42, 180, 0, 33, 154, 0, 12, 42, 180, 0, 43, 16, 17, 162, 0, 9, 42, 4, 182, 0, 80, 191, 42]
abbrev dktX2_one_5 : List UInt8 := dkwX2_one_5 ++ dktX2_one_6
def dkwX2_one_4 : List UInt8 := [5, 182, 0, 80, 191, 42, 182, 0, 217, 187, 0, 251, 89, 42, 3, 17, 3, 231, 182, 0, 153, 183, 0, 253]
abbrev dktX2_one_4 : List UInt8 := dkwX2_one_4 ++ dktX2_one_5
def dkwX2_one_3 : List UInt8 := [182, 0, 84, 43, 176, 42, 180, 0, 33, 5, 160, 0, 39, 42, 180, 0, 43, 17, 3, 231, 164, 0, 9, 42]
abbrev dktX2_one_3 : List UInt8 := dkwX2_one_3 ++ dktX2_one_4
def dkwX2_one_2 : List UInt8 := [182, 0, 138, 154, 0, 9, 42, 4, 182, 0, 80, 191, 42, 89, 180, 0, 87, 4, 100, 181, 0, 87, 42]
abbrev dktX2_one_2 : List UInt8 := dkwX2_one_2 ++ dktX2_one_3
def dkwX2_one_1 : List UInt8 := [42, 89, 180, 0, 87, 4, 96, 181, 0, 87, 42, 182, 0, 84, 42, 182, 0, 134, 76, 42, 16, 41]
abbrev dktX2_one_1 : List UInt8 := dkwX2_one_1 ++ dktX2_one_2
def dkwX2_one_0 : List UInt8 := [42, 16, 40, 182, 0, 138, 153, 0, 68, 42, 180, 0, 87, 16, 8, 160, 0, 9, 42, 5, 182, 0, 80, 191]
abbrev dktX2_one_0 : List UInt8 := dkwX2_one_0 ++ dktX2_one_1
theorem dksX2_one_0 : cX2_one.data.toList.drop 0 = dktX2_one_0 := by decide +kernel
theorem dksX2_one_1 : cX2_one.data.toList.drop 24 = dktX2_one_1 := dk_seg dksX2_one_0 24 rfl rfl
theorem dksX2_one_2 : cX2_one.data.toList.drop 46 = dktX2_one_2 := dk_seg dksX2_one_1 22 rfl rfl
theorem dksX2_one_3 : cX2_one.data.toList.drop 69 = dktX2_one_3 := dk_seg dksX2_one_2 23 rfl rfl
theorem dksX2_one_4 : cX2_one.data.toList.drop 93 = dktX2_one_4 := dk_seg dksX2_one_3 24 rfl rfl
theorem dksX2_one_5 : cX2_one.data.toList.drop 117 = dktX2_one_5 := dk_seg dksX2_one_4 24 rfl rfl
theorem dksX2_one_6 : cX2_one.data.toList.drop 141 = dktX2_one_6 := dk_seg dksX2_one_5 24 rfl rfl
theorem dX2_one_0 : decode cX2_one 0 = .ok (.aload_n 0, 1) := dk_42 (dk_at dksX2_one_0 0 rfl rfl)
theorem dX2_one_1 : decode cX2_one 1 = .ok (.bipush 40, 2) := dk_16 40 (dk_at dksX2_one_0 1 rfl rfl)
theorem dX2_one_3 : decode cX2_one 3 = .ok (.invokevirtual 138, 3) := dk_182 0 138 (dk_at dksX2_one_0 3 rfl rfl)
theorem dX2_one_6 : decode cX2_one 6 = .ok (.ifCond .eq 68, 3) := dk_153 0 68 (dk_at dksX2_one_0 6 rfl rfl)
theorem dX2_one_9 : decode cX2_one 9 = .ok (.aload_n 0, 1) := dk_42 (dk_at dksX2_one_0 9 rfl rfl)
theorem dX2_one_10 : decode cX2_one 10 = .ok (.getfield 87, 3) := dk_180 0 87 (dk_at dksX2_one_0 10 rfl rfl)
theorem dX2_one_13 : decode cX2_one 13 = .ok (.bipush 8, 2) := dk_16 8 (dk_at dksX2_one_0 13 rfl rfl)
theorem dX2_one_15 : decode cX2_one 15 = .ok (.if_icmp .ne 9, 3) := dk_160 0 9 (dk_at dksX2_one_0 15 rfl rfl)
theorem dX2_one_18 : decode cX2_one 18 = .ok (.aload_n 0, 1) := dk_42 (dk_at dksX2_one_0 18 rfl rfl)
theorem dX2_one_19 : decode cX2_one 19 = .ok (.iconst 2, 1) := dk_5 (dk_at dksX2_one_0 19 rfl rfl)
theorem dX2_one_20 : decode cX2_one 20 = .ok (.invokevirtual 80, 3) := dk_182 0 80 (dk_at dksX2_one_0 20 rfl rfl)
theorem dX2_one_23 : decode cX2_one 23 = .ok (.athrow, 1) := dk_191 (dk_at dksX2_one_0 23 rfl rfl)
theorem dX2_one_24 : decode cX2_one 24 = .ok (.aload_n 0, 1) := dk_42 (dk_at dksX2_one_1 0 rfl rfl)
theorem dX2_one_25 : decode cX2_one 25 = .ok (.dup, 1) := dk_89 (dk_at dksX2_one_1 1 rfl rfl)
theorem dX2_one_26 : decode cX2_one 26 = .ok (.getfield 87, 3) := dk_180 0 87 (dk_at dksX2_one_1 2 rfl rfl)
theorem dX2_one_29 : decode cX2_one 29 = .ok (.iconst 1, 1) := dk_4 (dk_at dksX2_one_1 5 rfl rfl)
theorem dX2_one_30 : decode cX2_one 30 = .ok (.iadd, 1) := dk_96 (dk_at dksX2_one_1 6 rfl rfl)
theorem dX2_one_31 : decode cX2_one 31 = .ok (.putfield 87, 3) := dk_181 0 87 (dk_at dksX2_one_1 7 rfl rfl)
theorem dX2_one_34 : decode cX2_one 34 = .ok (.aload_n 0, 1) := dk_42 (dk_at dksX2_one_1 10 rfl rfl)
theorem dX2_one_35 : decode cX2_one 35 = .ok (.invokevirtual 84, 3) := dk_182 0 84 (dk_at dksX2_one_1 11 rfl rfl)
theorem dX2_one_38 : decode cX2_one 38 = .ok (.aload_n 0, 1) := dk_42 (dk_at dksX2_one_1 14 rfl rfl)
theorem dX2_one_39 : decode cX2_one 39 = .ok (.invokevirtual 134, 3) := dk_182 0 134 (dk_at dksX2_one_1 15 rfl rfl)
theorem dX2_one_42 : decode cX2_one 42 = .ok (.astore_n 1, 1) := dk_76 (dk_at dksX2_one_1 18 rfl rfl)
theorem dX2_one_43 : decode cX2_one 43 = .ok (.aload_n 0, 1) := dk_42 (dk_at dksX2_one_1 19 rfl rfl)
theorem dX2_one_44 : decode cX2_one 44 = .ok (.bipush 41, 2) := dk_16 41 (dk_at dksX2_one_1 20 rfl rfl)
theorem dX2_one_46 : decode cX2_one 46 = .ok (.invokevirtual 138, 3) := dk_182 0 138 (dk_at dksX2_one_2 0 rfl rfl)
theorem dX2_one_49 : decode cX2_one 49 = .ok (.ifCond .ne 9, 3) := dk_154 0 9 (dk_at dksX2_one_2 3 rfl rfl)
theorem dX2_one_52 : decode cX2_one 52 = .ok (.aload_n 0, 1) := dk_42 (dk_at dksX2_one_2 6 rfl rfl)
theorem dX2_one_53 : decode cX2_one 53 = .ok (.iconst 1, 1) := dk_4 (dk_at dksX2_one_2 7 rfl rfl)
theorem dX2_one_54 : decode cX2_one 54 = .ok (.invokevirtual 80, 3) := dk_182 0 80 (dk_at dksX2_one_2 8 rfl rfl)
theorem dX2_one_57 : decode cX2_one 57 = .ok (.athrow, 1) := dk_191 (dk_at dksX2_one_2 11 rfl rfl)
theorem dX2_one_58 : decode cX2_one 58 = .ok (.aload_n 0, 1) := dk_42 (dk_at dksX2_one_2 12 rfl rfl)
theorem dX2_one_59 : decode cX2_one 59 = .ok (.dup, 1) := dk_89 (dk_at dksX2_one_2 13 rfl rfl)
theorem dX2_one_60 : decode cX2_one 60 = .ok (.getfield 87, 3) := dk_180 0 87 (dk_at dksX2_one_2 14 rfl rfl)
theorem dX2_one_63 : decode cX2_one 63 = .ok (.iconst 1, 1) := dk_4 (dk_at dksX2_one_2 17 rfl rfl)
theorem dX2_one_64 : decode cX2_one 64 = .ok (.isub, 1) := dk_100 (dk_at dksX2_one_2 18 rfl rfl)
theorem dX2_one_65 : decode cX2_one 65 = .ok (.putfield 87, 3) := dk_181 0 87 (dk_at dksX2_one_2 19 rfl rfl)
theorem dX2_one_68 : decode cX2_one 68 = .ok (.aload_n 0, 1) := dk_42 (dk_at dksX2_one_2 22 rfl rfl)
theorem dX2_one_69 : decode cX2_one 69 = .ok (.invokevirtual 84, 3) := dk_182 0 84 (dk_at dksX2_one_3 0 rfl rfl)
theorem dX2_one_72 : decode cX2_one 72 = .ok (.aload_n 1, 1) := dk_43 (dk_at dksX2_one_3 3 rfl rfl)
theorem dX2_one_73 : decode cX2_one 73 = .ok (.areturn, 1) := dk_176 (dk_at dksX2_one_3 4 rfl rfl)
theorem dX2_one_74 : decode cX2_one 74 = .ok (.aload_n 0, 1) := dk_42 (dk_at dksX2_one_3 5 rfl rfl)
theorem dX2_one_75 : decode cX2_one 75 = .ok (.getfield 33, 3) := dk_180 0 33 (dk_at dksX2_one_3 6 rfl rfl)
theorem dX2_one_78 : decode cX2_one 78 = .ok (.iconst 2, 1) := dk_5 (dk_at dksX2_one_3 9 rfl rfl)
theorem dX2_one_79 : decode cX2_one 79 = .ok (.if_icmp .ne 39, 3) := dk_160 0 39 (dk_at dksX2_one_3 10 rfl rfl)
theorem dX2_one_82 : decode cX2_one 82 = .ok (.aload_n 0, 1) := dk_42 (dk_at dksX2_one_3 13 rfl rfl)
theorem dX2_one_83 : decode cX2_one 83 = .ok (.getfield 43, 3) := dk_180 0 43 (dk_at dksX2_one_3 14 rfl rfl)
theorem dX2_one_86 : decode cX2_one 86 = .ok (.sipush 999, 3) := dk_17 3 231 (dk_at dksX2_one_3 17 rfl rfl)
theorem dX2_one_89 : decode cX2_one 89 = .ok (.if_icmp .le 9, 3) := dk_164 0 9 (dk_at dksX2_one_3 20 rfl rfl)
theorem dX2_one_92 : decode cX2_one 92 = .ok (.aload_n 0, 1) := dk_42 (dk_at dksX2_one_3 23 rfl rfl)
theorem dX2_one_93 : decode cX2_one 93 = .ok (.iconst 2, 1) := dk_5 (dk_at dksX2_one_4 0 rfl rfl)
theorem dX2_one_94 : decode cX2_one 94 = .ok (.invokevirtual 80, 3) := dk_182 0 80 (dk_at dksX2_one_4 1 rfl rfl)
theorem dX2_one_97 : decode cX2_one 97 = .ok (.athrow, 1) := dk_191 (dk_at dksX2_one_4 4 rfl rfl)
theorem dX2_one_98 : decode cX2_one 98 = .ok (.aload_n 0, 1) := dk_42 (dk_at dksX2_one_4 5 rfl rfl)
theorem dX2_one_99 : decode cX2_one 99 = .ok (.invokevirtual 217, 3) := dk_182 0 217 (dk_at dksX2_one_4 6 rfl rfl)
theorem dX2_one_102 : decode cX2_one 102 = .ok (.new 251, 3) := dk_187 0 251 (dk_at dksX2_one_4 9 rfl rfl)
theorem dX2_one_105 : decode cX2_one 105 = .ok (.dup, 1) := dk_89 (dk_at dksX2_one_4 12 rfl rfl)
theorem dX2_one_106 : decode cX2_one 106 = .ok (.aload_n 0, 1) := dk_42 (dk_at dksX2_one_4 13 rfl rfl)
theorem dX2_one_107 : decode cX2_one 107 = .ok (.iconst 0, 1) := dk_3 (dk_at dksX2_one_4 14 rfl rfl)
theorem dX2_one_108 : decode cX2_one 108 = .ok (.sipush 999, 3) := dk_17 3 231 (dk_at dksX2_one_4 15 rfl rfl)
theorem dX2_one_111 : decode cX2_one 111 = .ok (.invokevirtual 153, 3) := dk_182 0 153 (dk_at dksX2_one_4 18 rfl rfl)
theorem dX2_one_114 : decode cX2_one 114 = .ok (.invokespecial 253, 3) := dk_183 0 253 (dk_at dksX2_one_4 21 rfl rfl)
theorem dX2_one_117 : decode cX2_one 117 = .ok (.areturn, 1) := dk_176 (dk_at dksX2_one_5 0 rfl rfl)
theorem dX2_one_118 : decode cX2_one 118 = .ok (.aload_n 0, 1) := dk_42 (dk_at dksX2_one_5 1 rfl rfl)
theorem dX2_one_119 : decode cX2_one 119 = .ok (.getfield 33, 3) := dk_180 0 33 (dk_at dksX2_one_5 2 rfl rfl)
theorem dX2_one_122 : decode cX2_one 122 = .ok (.ifCond .ne 12, 3) := dk_154 0 12 (dk_at dksX2_one_5 5 rfl rfl)
theorem dX2_one_125 : decode cX2_one 125 = .ok (.aload_n 0, 1) := dk_42 (dk_at dksX2_one_5 8 rfl rfl)
theorem dX2_one_126 : decode cX2_one 126 = .ok (.getfield 43, 3) := dk_180 0 43 (dk_at dksX2_one_5 9 rfl rfl)
theorem dX2_one_129 : decode cX2_one 129 = .ok (.bipush 17, 2) := dk_16 17 (dk_at dksX2_one_5 12 rfl rfl)
theorem dX2_one_131 : decode cX2_one 131 = .ok (.if_icmp .ge 9, 3) := dk_162 0 9 (dk_at dksX2_one_5 14 rfl rfl)
theorem dX2_one_134 : decode cX2_one 134 = .ok (.aload_n 0, 1) := dk_42 (dk_at dksX2_one_5 17 rfl rfl)
theorem dX2_one_135 : decode cX2_one 135 = .ok (.iconst 1, 1) := dk_4 (dk_at dksX2_one_5 18 rfl rfl)
theorem dX2_one_136 : decode cX2_one 136 = .ok (.invokevirtual 80, 3) := dk_182 0 80 (dk_at dksX2_one_5 19 rfl rfl)
theorem dX2_one_139 : decode cX2_one 139 = .ok (.athrow, 1) := dk_191 (dk_at dksX2_one_5 22 rfl rfl)
theorem dX2_one_140 : decode cX2_one 140 = .ok (.aload_n 0, 1) := dk_42 (dk_at dksX2_one_5 23 rfl rfl)
theorem dX2_one_141 : decode cX2_one 141 = .ok (.invokevirtual 217, 3) := dk_182 0 217 (dk_at dksX2_one_6 0 rfl rfl)
theorem dX2_one_144 : decode cX2_one 144 = .ok (.new 255, 3) := dk_187 0 255 (dk_at dksX2_one_6 3 rfl rfl)
theorem dX2_one_147 : decode cX2_one 147 = .ok (.dup, 1) := dk_89 (dk_at dksX2_one_6 6 rfl rfl)
theorem dX2_one_148 : decode cX2_one 148 = .ok (.aload_n 0, 1) := dk_42 (dk_at dksX2_one_6 7 rfl rfl)
theorem dX2_one_149 : decode cX2_one 149 = .ok (.getfield 43, 3) := dk_180 0 43 (dk_at dksX2_one_6 8 rfl rfl)
theorem dX2_one_152 : decode cX2_one 152 = .ok (.bipush 17, 2) := dk_16 17 (dk_at dksX2_one_6 11 rfl rfl)
theorem dX2_one_154 : decode cX2_one 154 = .ok (.isub, 1) := dk_100 (dk_at dksX2_one_6 13 rfl rfl)
theorem dX2_one_155 : decode cX2_one 155 = .ok (.invokespecial 257, 3) := dk_183 1 1 (dk_at dksX2_one_6 14 rfl rfl)
theorem dX2_one_158 : decode cX2_one 158 = .ok (.astore_n 1, 1) := dk_76 (dk_at dksX2_one_6 17 rfl rfl)
theorem dX2_one_159 : decode cX2_one 159 = .ok (.aload_n 0, 1) := dk_42 (dk_at dksX2_one_6 18 rfl rfl)
theorem dX2_one_160 : decode cX2_one 160 = .ok (.invokevirtual 84, 3) := dk_182 0 84 (dk_at dksX2_one_6 19 rfl rfl)
theorem dX2_one_163 : decode cX2_one 163 = .ok (.aload_n 1, 1) := dk_43 (dk_at dksX2_one_6 22 rfl rfl)
theorem dX2_one_164 : decode cX2_one 164 = .ok (.areturn, 1) := dk_176 (dk_at dksX2_one_6 23 rfl rfl)
abbrev cX2_isSign : ByteArray := prog_11_method_9_code
def yX2_isSign : MethodName := ⟨RX2, "isSign", "(I)Z"⟩
def dkwX2_isSign_0 : List UInt8 := [42, 180, 0, 33, 6, 160, 0, 15, 42, 180, 0, 43, 27, 160, 0, 7, 4, 167, 0, 4, 3, 172]
abbrev dktX2_isSign_0 : List UInt8 := dkwX2_isSign_0 ++ []
theorem dksX2_isSign_0 : cX2_isSign.data.toList.drop 0 = dktX2_isSign_0 := by decide +kernel
theorem dX2_isSign_0 : decode cX2_isSign 0 = .ok (.aload_n 0, 1) := dk_42 (dk_at dksX2_isSign_0 0 rfl rfl)
theorem dX2_isSign_1 : decode cX2_isSign 1 = .ok (.getfield 33, 3) := dk_180 0 33 (dk_at dksX2_isSign_0 1 rfl rfl)
theorem dX2_isSign_4 : decode cX2_isSign 4 = .ok (.iconst 3, 1) := dk_6 (dk_at dksX2_isSign_0 4 rfl rfl)
theorem dX2_isSign_5 : decode cX2_isSign 5 = .ok (.if_icmp .ne 15, 3) := dk_160 0 15 (dk_at dksX2_isSign_0 5 rfl rfl)
theorem dX2_isSign_8 : decode cX2_isSign 8 = .ok (.aload_n 0, 1) := dk_42 (dk_at dksX2_isSign_0 8 rfl rfl)
theorem dX2_isSign_9 : decode cX2_isSign 9 = .ok (.getfield 43, 3) := dk_180 0 43 (dk_at dksX2_isSign_0 9 rfl rfl)
theorem dX2_isSign_12 : decode cX2_isSign 12 = .ok (.iload_n 1, 1) := dk_27 (dk_at dksX2_isSign_0 12 rfl rfl)
theorem dX2_isSign_13 : decode cX2_isSign 13 = .ok (.if_icmp .ne 7, 3) := dk_160 0 7 (dk_at dksX2_isSign_0 13 rfl rfl)
theorem dX2_isSign_16 : decode cX2_isSign 16 = .ok (.iconst 1, 1) := dk_4 (dk_at dksX2_isSign_0 16 rfl rfl)
theorem dX2_isSign_17 : decode cX2_isSign 17 = .ok (.goto 4, 3) := dk_167 0 4 (dk_at dksX2_isSign_0 17 rfl rfl)
theorem dX2_isSign_20 : decode cX2_isSign 20 = .ok (.iconst 0, 1) := dk_3 (dk_at dksX2_isSign_0 20 rfl rfl)
theorem dX2_isSign_21 : decode cX2_isSign 21 = .ok (.ireturn, 1) := dk_172 (dk_at dksX2_isSign_0 21 rfl rfl)
abbrev cX2_knot : ByteArray := prog_11_method_20_code
def yX2_knot : MethodName := ⟨RX2, "knot", "()V"⟩
def dkwX2_knot_1 : List UInt8 := [180, 0, 214, 4, 96, 181, 0, 214, 177]
abbrev dktX2_knot_1 : List UInt8 := dkwX2_knot_1 ++ []
def dkwX2_knot_0 : List UInt8 := [42, 180, 0, 93, 180, 0, 214, 16, 64, 160, 0, 9, 42, 5, 182, 0, 80, 191, 42, 180, 0, 93, 89]
abbrev dktX2_knot_0 : List UInt8 := dkwX2_knot_0 ++ dktX2_knot_1
theorem dksX2_knot_0 : cX2_knot.data.toList.drop 0 = dktX2_knot_0 := by decide +kernel
theorem dksX2_knot_1 : cX2_knot.data.toList.drop 23 = dktX2_knot_1 := dk_seg dksX2_knot_0 23 rfl rfl
theorem dX2_knot_0 : decode cX2_knot 0 = .ok (.aload_n 0, 1) := dk_42 (dk_at dksX2_knot_0 0 rfl rfl)
theorem dX2_knot_1 : decode cX2_knot 1 = .ok (.getfield 93, 3) := dk_180 0 93 (dk_at dksX2_knot_0 1 rfl rfl)
theorem dX2_knot_4 : decode cX2_knot 4 = .ok (.getfield 214, 3) := dk_180 0 214 (dk_at dksX2_knot_0 4 rfl rfl)
theorem dX2_knot_7 : decode cX2_knot 7 = .ok (.bipush 64, 2) := dk_16 64 (dk_at dksX2_knot_0 7 rfl rfl)
theorem dX2_knot_9 : decode cX2_knot 9 = .ok (.if_icmp .ne 9, 3) := dk_160 0 9 (dk_at dksX2_knot_0 9 rfl rfl)
theorem dX2_knot_12 : decode cX2_knot 12 = .ok (.aload_n 0, 1) := dk_42 (dk_at dksX2_knot_0 12 rfl rfl)
theorem dX2_knot_13 : decode cX2_knot 13 = .ok (.iconst 2, 1) := dk_5 (dk_at dksX2_knot_0 13 rfl rfl)
theorem dX2_knot_14 : decode cX2_knot 14 = .ok (.invokevirtual 80, 3) := dk_182 0 80 (dk_at dksX2_knot_0 14 rfl rfl)
theorem dX2_knot_17 : decode cX2_knot 17 = .ok (.athrow, 1) := dk_191 (dk_at dksX2_knot_0 17 rfl rfl)
theorem dX2_knot_18 : decode cX2_knot 18 = .ok (.aload_n 0, 1) := dk_42 (dk_at dksX2_knot_0 18 rfl rfl)
theorem dX2_knot_19 : decode cX2_knot 19 = .ok (.getfield 93, 3) := dk_180 0 93 (dk_at dksX2_knot_0 19 rfl rfl)
theorem dX2_knot_22 : decode cX2_knot 22 = .ok (.dup, 1) := dk_89 (dk_at dksX2_knot_0 22 rfl rfl)
theorem dX2_knot_23 : decode cX2_knot 23 = .ok (.getfield 214, 3) := dk_180 0 214 (dk_at dksX2_knot_1 0 rfl rfl)
theorem dX2_knot_26 : decode cX2_knot 26 = .ok (.iconst 1, 1) := dk_4 (dk_at dksX2_knot_1 3 rfl rfl)
theorem dX2_knot_27 : decode cX2_knot 27 = .ok (.iadd, 1) := dk_96 (dk_at dksX2_knot_1 4 rfl rfl)
theorem dX2_knot_28 : decode cX2_knot 28 = .ok (.putfield 214, 3) := dk_181 0 214 (dk_at dksX2_knot_1 5 rfl rfl)
theorem dX2_knot_31 : decode cX2_knot 31 = .ok (.return_, 1) := dk_177 (dk_at dksX2_knot_1 8 rfl rfl)
abbrev cX2_sign2 : ByteArray := prog_11_method_21_code
def yX2_sign2 : MethodName := ⟨RX2, "sign2", "()I"⟩
def dkwX2_sign2_0 : List UInt8 := [42, 180, 0, 43, 60, 42, 182, 0, 217, 42, 182, 0, 84, 27, 172]
abbrev dktX2_sign2_0 : List UInt8 := dkwX2_sign2_0 ++ []
theorem dksX2_sign2_0 : cX2_sign2.data.toList.drop 0 = dktX2_sign2_0 := by decide +kernel
theorem dX2_sign2_0 : decode cX2_sign2 0 = .ok (.aload_n 0, 1) := dk_42 (dk_at dksX2_sign2_0 0 rfl rfl)
theorem dX2_sign2_1 : decode cX2_sign2 1 = .ok (.getfield 43, 3) := dk_180 0 43 (dk_at dksX2_sign2_0 1 rfl rfl)
theorem dX2_sign2_4 : decode cX2_sign2 4 = .ok (.istore_n 1, 1) := dk_60 (dk_at dksX2_sign2_0 4 rfl rfl)
theorem dX2_sign2_5 : decode cX2_sign2 5 = .ok (.aload_n 0, 1) := dk_42 (dk_at dksX2_sign2_0 5 rfl rfl)
theorem dX2_sign2_6 : decode cX2_sign2 6 = .ok (.invokevirtual 217, 3) := dk_182 0 217 (dk_at dksX2_sign2_0 6 rfl rfl)
theorem dX2_sign2_9 : decode cX2_sign2 9 = .ok (.aload_n 0, 1) := dk_42 (dk_at dksX2_sign2_0 9 rfl rfl)
theorem dX2_sign2_10 : decode cX2_sign2 10 = .ok (.invokevirtual 84, 3) := dk_182 0 84 (dk_at dksX2_sign2_0 10 rfl rfl)
theorem dX2_sign2_13 : decode cX2_sign2 13 = .ok (.iload_n 1, 1) := dk_27 (dk_at dksX2_sign2_0 13 rfl rfl)
theorem dX2_sign2_14 : decode cX2_sign2 14 = .ok (.ireturn, 1) := dk_172 (dk_at dksX2_sign2_0 14 rfl rfl)
theorem q140 : (Jvm.Cond.initialized "SaidSo$Reader") ∈ lw_all := lw_g (lw_at lw_m1 2 rfl) rfl
theorem q184 : (Jvm.Cond.instantiable "SaidSo$Reader" (8 : Nat)) ∈ lw_all := lw_g (lw_at lw_m1 46 rfl) rfl
theorem q186 : (Jvm.Cond.instanceMethod ({ cls := "SaidSo$Reader", name := "<init>", desc := "(LSaidSo;)V" } : Jvm.MethodName)) ∈ lw_all := lw_g (lw_at lw_m1 48 rfl) rfl
theorem q187 : (Jvm.Cond.code ({ cls := "SaidSo$Reader", name := "<init>", desc := "(LSaidSo;)V" } : Jvm.MethodName) prog_11_method_1_code (2 : Nat) (Option.none : Option Jvm.ClassFile.FieldType)) ∈ lw_all := lw_g (lw_at lw_m1 49 rfl) rfl
theorem q188 : (Jvm.Cond.methodLink "SaidSo$Reader" (9 : Nat) ({ cls := "java/lang/Object", name := "<init>", desc := "()V" } : Jvm.MethodName)) ∈ lw_all := lw_g (lw_at lw_m1 50 rfl) rfl
theorem q189 : (Jvm.Cond.fieldLink "SaidSo$Reader" (15 : Nat) "SaidSo$Reader" "at" "I") ∈ lw_all := lw_g (lw_at lw_m1 51 rfl) rfl
theorem q190 : (Jvm.Cond.fieldLink "SaidSo$Reader" (19 : Nat) "SaidSo$Reader" "size" "I") ∈ lw_all := lw_g (lw_at lw_m1 52 rfl) rfl
theorem q191 : (Jvm.Cond.fieldLink "SaidSo$Reader" (30 : Nat) "SaidSo$Reader" "place" "I") ∈ lw_all := lw_g (lw_at lw_m1 53 rfl) rfl
theorem q192 : (Jvm.Cond.fieldLink "SaidSo$Reader" (33 : Nat) "SaidSo$Reader" "sort" "I") ∈ lw_all := lw_g (lw_at lw_m1 54 rfl) rfl
theorem q193 : (Jvm.Cond.fieldLink "SaidSo$Reader" (43 : Nat) "SaidSo$Reader" "value" "I") ∈ lw_all := lw_g (lw_at lw_m1 55 rfl) rfl
theorem q194 : (Jvm.Cond.fieldLink "SaidSo$Reader" (87 : Nat) "SaidSo$Reader" "open" "I") ∈ lw_all := lw_g (lw_at lw_m1 56 rfl) rfl
theorem q195 : (Jvm.Cond.fieldLink "SaidSo$Reader" (93 : Nat) "SaidSo$Reader" "made" "LSaidSo$Case;") ∈ lw_all := lw_g (lw_at lw_m1 57 rfl) rfl
theorem q196 : (Jvm.Cond.fieldLink "SaidSo$Reader" (3 : Nat) "SaidSo$Reader" "this$0" "LSaidSo;") ∈ lw_all := lw_g (lw_at lw_m1 58 rfl) rfl
theorem q197 : (Jvm.Cond.lays "SaidSo$Reader" "SaidSo$Reader" "at" "I") ∈ lw_all := lw_g (lw_at lw_m1 59 rfl) rfl
theorem q198 : (Jvm.Cond.soleField "SaidSo$Reader" "at") ∈ lw_all := lw_g (lw_at lw_m1 60 rfl) rfl
theorem q199 : (Jvm.Cond.lays "SaidSo$Reader" "SaidSo$Reader" "size" "I") ∈ lw_all := lw_g (lw_at lw_m1 61 rfl) rfl
theorem q200 : (Jvm.Cond.soleField "SaidSo$Reader" "size") ∈ lw_all := lw_g (lw_at lw_m1 62 rfl) rfl
theorem q201 : (Jvm.Cond.lays "SaidSo$Reader" "SaidSo$Reader" "place" "I") ∈ lw_all := lw_g (lw_at lw_m1 63 rfl) rfl
theorem q202 : (Jvm.Cond.soleField "SaidSo$Reader" "place") ∈ lw_all := lw_g (lw_at lw_m1 64 rfl) rfl
theorem q203 : (Jvm.Cond.lays "SaidSo$Reader" "SaidSo$Reader" "sort" "I") ∈ lw_all := lw_g (lw_at lw_m1 65 rfl) rfl
theorem q204 : (Jvm.Cond.soleField "SaidSo$Reader" "sort") ∈ lw_all := lw_g (lw_at lw_m1 66 rfl) rfl
theorem q205 : (Jvm.Cond.lays "SaidSo$Reader" "SaidSo$Reader" "value" "I") ∈ lw_all := lw_g (lw_at lw_m1 67 rfl) rfl
theorem q206 : (Jvm.Cond.soleField "SaidSo$Reader" "value") ∈ lw_all := lw_g (lw_at lw_m1 68 rfl) rfl
theorem q207 : (Jvm.Cond.lays "SaidSo$Reader" "SaidSo$Reader" "open" "I") ∈ lw_all := lw_g (lw_at lw_m1 69 rfl) rfl
theorem q208 : (Jvm.Cond.soleField "SaidSo$Reader" "open") ∈ lw_all := lw_g (lw_at lw_m1 70 rfl) rfl
theorem q209 : (Jvm.Cond.lays "SaidSo$Reader" "SaidSo$Reader" "made" "LSaidSo$Case;") ∈ lw_all := lw_g (lw_at lw_m1 71 rfl) rfl
theorem q210 : (Jvm.Cond.soleField "SaidSo$Reader" "made") ∈ lw_all := lw_g (lw_at lw_m1 72 rfl) rfl
theorem q211 : (Jvm.Cond.laysFinal "SaidSo$Reader" "SaidSo$Reader" "this$0" "LSaidSo;") ∈ lw_all := lw_g (lw_at lw_m1 73 rfl) rfl
theorem q212 : (Jvm.Cond.soleField "SaidSo$Reader" "this$0") ∈ lw_all := lw_g (lw_at lw_m1 74 rfl) rfl
theorem q213 : (Jvm.Cond.superclass "SaidSo$Reader" "java/lang/Object") ∈ lw_all := lw_g (lw_at lw_m1 75 rfl) rfl
theorem q254 : (Jvm.Cond.fieldLinkNest "SaidSo$Reader" (100 : Nat) "SaidSo$Case" "things" "Ljava/util/ArrayList;" "SaidSo") ∈ lw_tbl := lw_at lw_m1 116 rfl
theorem q258 : (Jvm.Cond.fieldLinkNest "SaidSo$Reader" (108 : Nat) "SaidSo$Case" "tellers" "Ljava/util/ArrayList;" "SaidSo") ∈ lw_tbl := lw_at lw_m1 120 rfl
theorem q261 : (Jvm.Cond.fieldLinkNest "SaidSo$Reader" (111 : Nat) "SaidSo$Case" "lines" "Ljava/util/ArrayList;" "SaidSo") ∈ lw_tbl := lw_at lw_m1 123 rfl
theorem q263 : (Jvm.Cond.fieldLinkNest "SaidSo$Reader" (114 : Nat) "SaidSo$Case" "pages" "Ljava/util/ArrayList;" "SaidSo") ∈ lw_tbl := lw_at lw_m1 125 rfl
theorem q266 : (Jvm.Cond.fieldLinkNest "SaidSo$Reader" (117 : Nat) "SaidSo$Case" "parts" "[LSaidSo$Part;" "SaidSo") ∈ lw_tbl := lw_at lw_m1 128 rfl
theorem q269 : (Jvm.Cond.fieldLinkNest "SaidSo$Reader" (142 : Nat) "SaidSo$Case" "many" "I" "SaidSo") ∈ lw_tbl := lw_at lw_m1 131 rfl
theorem q270 : (Jvm.Cond.fieldLinkNest "SaidSo$Reader" (214 : Nat) "SaidSo$Case" "knots" "I" "SaidSo") ∈ lw_tbl := lw_at lw_m1 132 rfl
theorem q287 : (Jvm.Cond.fieldLinkNest "SaidSo$Reader" (22 : Nat) "SaidSo" "bytes" "[B" "SaidSo") ∈ lw_tbl := lw_at lw_m1 149 rfl
theorem q371 : (Jvm.Cond.instanceMethod ({ cls := "SaidSo$Reader", name := "read", desc := "(I)LSaidSo$Case;" } : Jvm.MethodName)) ∈ lw_all := lw_g (lw_at lw_m1 233 rfl) rfl
theorem q372 : (Jvm.Cond.selects "SaidSo$Reader" ({ cls := "SaidSo$Reader", name := "read", desc := "(I)LSaidSo$Case;" } : Jvm.MethodName) ({ cls := "SaidSo$Reader", name := "read", desc := "(I)LSaidSo$Case;" } : Jvm.MethodName)) ∈ lw_all := lw_g (lw_at lw_m1 234 rfl) rfl
theorem q373 : (Jvm.Cond.code ({ cls := "SaidSo$Reader", name := "read", desc := "(I)LSaidSo$Case;" } : Jvm.MethodName) prog_11_method_12_code (2 : Nat) (Option.some (Jvm.ClassFile.FieldType.object "SaidSo$Case"))) ∈ lw_all := lw_g (lw_at lw_m1 235 rfl) rfl
theorem q374 : (Jvm.Cond.classLink "SaidSo$Reader" (90 : Nat) "SaidSo$Case") ∈ lw_all := lw_g (lw_at lw_m1 236 rfl) rfl
theorem q375 : (Jvm.Cond.methodLinkNest "SaidSo$Reader" (92 : Nat) ({ cls := "SaidSo$Case", name := "<init>", desc := "()V" } : Jvm.MethodName) "SaidSo") ∈ lw_tbl := lw_at lw_m1 237 rfl
theorem q376 : (Jvm.Cond.methodLink "SaidSo$Reader" (84 : Nat) ({ cls := "SaidSo$Reader", name := "next", desc := "()V" } : Jvm.MethodName)) ∈ lw_all := lw_g (lw_at lw_m1 238 rfl) rfl
theorem q377 : (Jvm.Cond.privateMethod ({ cls := "SaidSo$Reader", name := "next", desc := "()V" } : Jvm.MethodName)) ∈ lw_tbl := lw_at lw_m1 239 rfl
theorem q378 : (Jvm.Cond.instanceMethod ({ cls := "SaidSo$Reader", name := "next", desc := "()V" } : Jvm.MethodName)) ∈ lw_all := lw_g (lw_at lw_m2 0 rfl) rfl
theorem q379 : (Jvm.Cond.code ({ cls := "SaidSo$Reader", name := "next", desc := "()V" } : Jvm.MethodName) prog_11_method_3_code (1 : Nat) (Option.none : Option Jvm.ClassFile.FieldType)) ∈ lw_all := lw_g (lw_at lw_m2 1 rfl) rfl
theorem q380 : (Jvm.Cond.methodLink "SaidSo$Reader" (26 : Nat) ({ cls := "SaidSo$Reader", name := "here", desc := "()I" } : Jvm.MethodName)) ∈ lw_all := lw_g (lw_at lw_m2 2 rfl) rfl
theorem q381 : (Jvm.Cond.privateMethod ({ cls := "SaidSo$Reader", name := "here", desc := "()I" } : Jvm.MethodName)) ∈ lw_tbl := lw_at lw_m2 3 rfl
theorem q382 : (Jvm.Cond.instanceMethod ({ cls := "SaidSo$Reader", name := "here", desc := "()I" } : Jvm.MethodName)) ∈ lw_all := lw_g (lw_at lw_m2 4 rfl) rfl
theorem q383 : (Jvm.Cond.code ({ cls := "SaidSo$Reader", name := "here", desc := "()I" } : Jvm.MethodName) prog_11_method_2_code (1 : Nat) (Option.some Jvm.ClassFile.FieldType.int)) ∈ lw_all := lw_g (lw_at lw_m2 5 rfl) rfl
theorem q384 : (Jvm.Cond.methodLinkNest "SaidSo$Reader" (36 : Nat) ({ cls := "SaidSo", name := "in", desc := "(III)Z" } : Jvm.MethodName) "SaidSo") ∈ lw_tbl := lw_at lw_m2 6 rfl
theorem q385 : (Jvm.Cond.methodLink "SaidSo$Reader" (40 : Nat) ({ cls := "SaidSo$Reader", name := "word", desc := "()I" } : Jvm.MethodName)) ∈ lw_all := lw_g (lw_at lw_m2 7 rfl) rfl
theorem q386 : (Jvm.Cond.privateMethod ({ cls := "SaidSo$Reader", name := "word", desc := "()I" } : Jvm.MethodName)) ∈ lw_tbl := lw_at lw_m2 8 rfl
theorem q387 : (Jvm.Cond.instanceMethod ({ cls := "SaidSo$Reader", name := "word", desc := "()I" } : Jvm.MethodName)) ∈ lw_all := lw_g (lw_at lw_m2 9 rfl) rfl
theorem q388 : (Jvm.Cond.code ({ cls := "SaidSo$Reader", name := "word", desc := "()I" } : Jvm.MethodName) prog_11_method_5_code (3 : Nat) (Option.some Jvm.ClassFile.FieldType.int)) ∈ lw_all := lw_g (lw_at lw_m2 10 rfl) rfl
theorem q389 : (Jvm.Cond.fieldLinkNest "SaidSo$Reader" (60 : Nat) "SaidSo" "NAMES" "[Ljava/lang/String;" "SaidSo") ∈ lw_tbl := lw_at lw_m2 11 rfl
theorem q391 : (Jvm.Cond.methodLink "SaidSo$Reader" (64 : Nat) ({ cls := "java/lang/String", name := "length", desc := "()I" } : Jvm.MethodName)) ∈ lw_all := lw_g (lw_at lw_m2 13 rfl) rfl
theorem q401 : (Jvm.Cond.methodLink "SaidSo$Reader" (67 : Nat) ({ cls := "java/lang/String", name := "charAt", desc := "(I)C" } : Jvm.MethodName)) ∈ lw_all := lw_g (lw_at lw_m2 23 rfl) rfl
theorem q439 : (Jvm.Cond.methodLink "SaidSo$Reader" (46 : Nat) ({ cls := "SaidSo$Reader", name := "name", desc := "()V" } : Jvm.MethodName)) ∈ lw_all := lw_g (lw_at lw_m2 61 rfl) rfl
theorem q440 : (Jvm.Cond.privateMethod ({ cls := "SaidSo$Reader", name := "name", desc := "()V" } : Jvm.MethodName)) ∈ lw_tbl := lw_at lw_m2 62 rfl
theorem q441 : (Jvm.Cond.instanceMethod ({ cls := "SaidSo$Reader", name := "name", desc := "()V" } : Jvm.MethodName)) ∈ lw_all := lw_g (lw_at lw_m2 63 rfl) rfl
theorem q442 : (Jvm.Cond.code ({ cls := "SaidSo$Reader", name := "name", desc := "()V" } : Jvm.MethodName) prog_11_method_6_code (2 : Nat) (Option.none : Option Jvm.ClassFile.FieldType)) ∈ lw_all := lw_g (lw_at lw_m2 64 rfl) rfl
theorem q443 : (Jvm.Cond.methodLink "SaidSo$Reader" (49 : Nat) ({ cls := "SaidSo$Reader", name := "sign", desc := "()V" } : Jvm.MethodName)) ∈ lw_all := lw_g (lw_at lw_m2 65 rfl) rfl
theorem q444 : (Jvm.Cond.privateMethod ({ cls := "SaidSo$Reader", name := "sign", desc := "()V" } : Jvm.MethodName)) ∈ lw_tbl := lw_at lw_m2 66 rfl
theorem q445 : (Jvm.Cond.instanceMethod ({ cls := "SaidSo$Reader", name := "sign", desc := "()V" } : Jvm.MethodName)) ∈ lw_all := lw_g (lw_at lw_m2 67 rfl) rfl
theorem q446 : (Jvm.Cond.code ({ cls := "SaidSo$Reader", name := "sign", desc := "()V" } : Jvm.MethodName) prog_11_method_4_code (2 : Nat) (Option.none : Option Jvm.ClassFile.FieldType)) ∈ lw_all := lw_g (lw_at lw_m2 68 rfl) rfl
theorem q447 : (Jvm.Cond.stringRef "SaidSo$Reader" (52 : Nat) ";()+-*/<=>") ∈ lw_tbl := lw_at lw_m2 69 rfl
theorem q448 : (Jvm.Cond.methodLink "SaidSo$Reader" (54 : Nat) ({ cls := "java/lang/String", name := "indexOf", desc := "(I)I" } : Jvm.MethodName)) ∈ lw_all := lw_g (lw_at lw_m2 70 rfl) rfl
theorem q507 : (Jvm.Cond.methodLink "SaidSo$Reader" (97 : Nat) ({ cls := "SaidSo$Reader", name := "line", desc := "()V" } : Jvm.MethodName)) ∈ lw_all := lw_g (lw_at lw_m2 129 rfl) rfl
theorem q508 : (Jvm.Cond.privateMethod ({ cls := "SaidSo$Reader", name := "line", desc := "()V" } : Jvm.MethodName)) ∈ lw_tbl := lw_at lw_m2 130 rfl
theorem q509 : (Jvm.Cond.instanceMethod ({ cls := "SaidSo$Reader", name := "line", desc := "()V" } : Jvm.MethodName)) ∈ lw_all := lw_g (lw_at lw_m2 131 rfl) rfl
theorem q510 : (Jvm.Cond.code ({ cls := "SaidSo$Reader", name := "line", desc := "()V" } : Jvm.MethodName) prog_11_method_13_code (2 : Nat) (Option.none : Option Jvm.ClassFile.FieldType)) ∈ lw_all := lw_g (lw_at lw_m2 132 rfl) rfl
theorem q511 : (Jvm.Cond.methodLink "SaidSo$Reader" (76 : Nat) ({ cls := "SaidSo$Reader", name := "isWord", desc := "(II)Z" } : Jvm.MethodName)) ∈ lw_all := lw_g (lw_at lw_m2 133 rfl) rfl
theorem q512 : (Jvm.Cond.privateMethod ({ cls := "SaidSo$Reader", name := "isWord", desc := "(II)Z" } : Jvm.MethodName)) ∈ lw_tbl := lw_at lw_m2 134 rfl
theorem q513 : (Jvm.Cond.instanceMethod ({ cls := "SaidSo$Reader", name := "isWord", desc := "(II)Z" } : Jvm.MethodName)) ∈ lw_all := lw_g (lw_at lw_m2 135 rfl) rfl
theorem q514 : (Jvm.Cond.code ({ cls := "SaidSo$Reader", name := "isWord", desc := "(II)Z" } : Jvm.MethodName) prog_11_method_8_code (3 : Nat) (Option.some Jvm.ClassFile.FieldType.boolean)) ∈ lw_all := lw_g (lw_at lw_m2 136 rfl) rfl
theorem q515 : (Jvm.Cond.methodLink "SaidSo$Reader" (80 : Nat) ({ cls := "SaidSo$Reader", name := "wrong", desc := "(I)LSaidSo$Fault;" } : Jvm.MethodName)) ∈ lw_all := lw_g (lw_at lw_m2 137 rfl) rfl
theorem q516 : (Jvm.Cond.privateMethod ({ cls := "SaidSo$Reader", name := "wrong", desc := "(I)LSaidSo$Fault;" } : Jvm.MethodName)) ∈ lw_tbl := lw_at lw_m2 138 rfl
theorem q517 : (Jvm.Cond.instanceMethod ({ cls := "SaidSo$Reader", name := "wrong", desc := "(I)LSaidSo$Fault;" } : Jvm.MethodName)) ∈ lw_all := lw_g (lw_at lw_m2 139 rfl) rfl
theorem q518 : (Jvm.Cond.code ({ cls := "SaidSo$Reader", name := "wrong", desc := "(I)LSaidSo$Fault;" } : Jvm.MethodName) prog_11_method_7_code (2 : Nat) (Option.some (Jvm.ClassFile.FieldType.object "SaidSo$Fault"))) ∈ lw_all := lw_g (lw_at lw_m2 140 rfl) rfl
theorem q519 : (Jvm.Cond.classLink "SaidSo$Reader" (71 : Nat) "SaidSo$Fault") ∈ lw_all := lw_g (lw_at lw_m2 141 rfl) rfl
theorem q560 : (Jvm.Cond.methodLink "SaidSo$Reader" (73 : Nat) ({ cls := "SaidSo$Fault", name := "<init>", desc := "(II)V" } : Jvm.MethodName)) ∈ lw_all := lw_g (lw_at lw_m2 182 rfl) rfl
theorem q590 : (Jvm.Cond.methodLink "SaidSo$Reader" (104 : Nat) ({ cls := "java/util/ArrayList", name := "size", desc := "()I" } : Jvm.MethodName)) ∈ lw_all := lw_g (lw_at lw_m2 212 rfl) rfl
theorem q594 : (Jvm.Cond.methodLink "SaidSo$Reader" (121 : Nat) ({ cls := "SaidSo$Reader", name := "thing", desc := "()V" } : Jvm.MethodName)) ∈ lw_all := lw_g (lw_at lw_m2 216 rfl) rfl
theorem q595 : (Jvm.Cond.privateMethod ({ cls := "SaidSo$Reader", name := "thing", desc := "()V" } : Jvm.MethodName)) ∈ lw_tbl := lw_at lw_m2 217 rfl
theorem q596 : (Jvm.Cond.instanceMethod ({ cls := "SaidSo$Reader", name := "thing", desc := "()V" } : Jvm.MethodName)) ∈ lw_all := lw_g (lw_at lw_m2 218 rfl) rfl
theorem q597 : (Jvm.Cond.code ({ cls := "SaidSo$Reader", name := "thing", desc := "()V" } : Jvm.MethodName) prog_11_method_16_code (6 : Nat) (Option.none : Option Jvm.ClassFile.FieldType)) ∈ lw_all := lw_g (lw_at lw_m2 219 rfl) rfl
theorem q598 : (Jvm.Cond.methodLink "SaidSo$Reader" (149 : Nat) ({ cls := "SaidSo$Reader", name := "fresh", desc := "(Z)I" } : Jvm.MethodName)) ∈ lw_all := lw_g (lw_at lw_m2 220 rfl) rfl
theorem q599 : (Jvm.Cond.privateMethod ({ cls := "SaidSo$Reader", name := "fresh", desc := "(Z)I" } : Jvm.MethodName)) ∈ lw_tbl := lw_at lw_m2 221 rfl
theorem q600 : (Jvm.Cond.instanceMethod ({ cls := "SaidSo$Reader", name := "fresh", desc := "(Z)I" } : Jvm.MethodName)) ∈ lw_all := lw_g (lw_at lw_m2 222 rfl) rfl
theorem q601 : (Jvm.Cond.code ({ cls := "SaidSo$Reader", name := "fresh", desc := "(Z)I" } : Jvm.MethodName) prog_11_method_14_code (3 : Nat) (Option.some Jvm.ClassFile.FieldType.int)) ∈ lw_all := lw_g (lw_at lw_m2 223 rfl) rfl
theorem q602 : (Jvm.Cond.methodLink "SaidSo$Reader" (145 : Nat) ({ cls := "SaidSo$Case", name := "thing", desc := "(I)I" } : Jvm.MethodName)) ∈ lw_all := lw_g (lw_at lw_m2 224 rfl) rfl
theorem q620 : (Jvm.Cond.methodLink "SaidSo$Reader" (147 : Nat) ({ cls := "SaidSo$Case", name := "teller", desc := "(I)I" } : Jvm.MethodName)) ∈ lw_all := lw_g (lw_at lw_m3 2 rfl) rfl
theorem q625 : (Jvm.Cond.methodLink "SaidSo$Reader" (153 : Nat) ({ cls := "SaidSo$Reader", name := "number", desc := "(II)I" } : Jvm.MethodName)) ∈ lw_all := lw_g (lw_at lw_m3 7 rfl) rfl
theorem q626 : (Jvm.Cond.privateMethod ({ cls := "SaidSo$Reader", name := "number", desc := "(II)I" } : Jvm.MethodName)) ∈ lw_tbl := lw_at lw_m3 8 rfl
theorem q627 : (Jvm.Cond.instanceMethod ({ cls := "SaidSo$Reader", name := "number", desc := "(II)I" } : Jvm.MethodName)) ∈ lw_all := lw_g (lw_at lw_m3 9 rfl) rfl
theorem q628 : (Jvm.Cond.code ({ cls := "SaidSo$Reader", name := "number", desc := "(II)I" } : Jvm.MethodName) prog_11_method_11_code (4 : Nat) (Option.some Jvm.ClassFile.FieldType.int)) ∈ lw_all := lw_g (lw_at lw_m3 10 rfl) rfl
theorem q629 : (Jvm.Cond.methodLink "SaidSo$Reader" (157 : Nat) ({ cls := "SaidSo$Reader", name := "wants", desc := "(I)V" } : Jvm.MethodName)) ∈ lw_all := lw_g (lw_at lw_m3 11 rfl) rfl
theorem q630 : (Jvm.Cond.privateMethod ({ cls := "SaidSo$Reader", name := "wants", desc := "(I)V" } : Jvm.MethodName)) ∈ lw_tbl := lw_at lw_m3 12 rfl
theorem q631 : (Jvm.Cond.instanceMethod ({ cls := "SaidSo$Reader", name := "wants", desc := "(I)V" } : Jvm.MethodName)) ∈ lw_all := lw_g (lw_at lw_m3 13 rfl) rfl
theorem q632 : (Jvm.Cond.code ({ cls := "SaidSo$Reader", name := "wants", desc := "(I)V" } : Jvm.MethodName) prog_11_method_10_code (2 : Nat) (Option.none : Option Jvm.ClassFile.FieldType)) ∈ lw_all := lw_g (lw_at lw_m3 14 rfl) rfl
theorem q633 : (Jvm.Cond.classLink "SaidSo$Reader" (161 : Nat) "SaidSo$Thing") ∈ lw_all := lw_g (lw_at lw_m3 15 rfl) rfl
theorem q635 : (Jvm.Cond.methodLink "SaidSo$Reader" (163 : Nat) ({ cls := "SaidSo$Thing", name := "<init>", desc := "(III)V" } : Jvm.MethodName)) ∈ lw_all := lw_g (lw_at lw_m3 17 rfl) rfl
theorem q643 : (Jvm.Cond.fieldLinkNest "SaidSo$Reader" (200 : Nat) "SaidSo$Thing" "ways" "I" "SaidSo") ∈ lw_tbl := lw_at lw_m3 25 rfl
theorem q649 : (Jvm.Cond.fieldLinkNest "SaidSo$Reader" (166 : Nat) "SaidSo$Thing" "paper" "I" "SaidSo") ∈ lw_tbl := lw_at lw_m3 31 rfl
theorem q652 : (Jvm.Cond.fieldLinkNest "SaidSo$Reader" (169 : Nat) "SaidSo$Thing" "police" "I" "SaidSo") ∈ lw_tbl := lw_at lw_m3 34 rfl
theorem q664 : (Jvm.Cond.methodLink "SaidSo$Reader" (172 : Nat) ({ cls := "java/util/ArrayList", name := "add", desc := "(Ljava/lang/Object;)Z" } : Jvm.MethodName)) ∈ lw_all := lw_g (lw_at lw_m3 46 rfl) rfl
theorem q704 : (Jvm.Cond.selects "SaidSo$Reader" ({ cls := "java/lang/Object", name := "getClass", desc := "()Ljava/lang/Class;" } : Jvm.MethodName) ({ cls := "java/lang/Object", name := "getClass", desc := "()Ljava/lang/Class;" } : Jvm.MethodName)) ∈ lw_all := lw_g (lw_at lw_m3 86 rfl) rfl
theorem q726 : (Jvm.Cond.methodLink "SaidSo$Reader" (124 : Nat) ({ cls := "SaidSo$Reader", name := "teller", desc := "()V" } : Jvm.MethodName)) ∈ lw_all := lw_g (lw_at lw_m3 108 rfl) rfl
theorem q727 : (Jvm.Cond.privateMethod ({ cls := "SaidSo$Reader", name := "teller", desc := "()V" } : Jvm.MethodName)) ∈ lw_tbl := lw_at lw_m3 109 rfl
theorem q728 : (Jvm.Cond.instanceMethod ({ cls := "SaidSo$Reader", name := "teller", desc := "()V" } : Jvm.MethodName)) ∈ lw_all := lw_g (lw_at lw_m3 110 rfl) rfl
theorem q729 : (Jvm.Cond.code ({ cls := "SaidSo$Reader", name := "teller", desc := "()V" } : Jvm.MethodName) prog_11_method_17_code (5 : Nat) (Option.none : Option Jvm.ClassFile.FieldType)) ∈ lw_all := lw_g (lw_at lw_m3 111 rfl) rfl
theorem q730 : (Jvm.Cond.classLink "SaidSo$Reader" (176 : Nat) "SaidSo$Teller") ∈ lw_all := lw_g (lw_at lw_m3 112 rfl) rfl
theorem q732 : (Jvm.Cond.methodLink "SaidSo$Reader" (178 : Nat) ({ cls := "SaidSo$Teller", name := "<init>", desc := "(IIII)V" } : Jvm.MethodName)) ∈ lw_all := lw_g (lw_at lw_m3 114 rfl) rfl
theorem q744 : (Jvm.Cond.fieldLinkNest "SaidSo$Reader" (194 : Nat) "SaidSo$Teller" "begins" "I" "SaidSo") ∈ lw_tbl := lw_at lw_m3 126 rfl
theorem q747 : (Jvm.Cond.fieldLinkNest "SaidSo$Reader" (181 : Nat) "SaidSo$Teller" "ends" "I" "SaidSo") ∈ lw_tbl := lw_at lw_m3 129 rfl
theorem q750 : (Jvm.Cond.fieldLinkNest "SaidSo$Reader" (184 : Nat) "SaidSo$Teller" "tape" "I" "SaidSo") ∈ lw_tbl := lw_at lw_m3 132 rfl
theorem q762 : (Jvm.Cond.methodLink "SaidSo$Reader" (127 : Nat) ({ cls := "SaidSo$Reader", name := "talk", desc := "(Z)V" } : Jvm.MethodName)) ∈ lw_all := lw_g (lw_at lw_m3 144 rfl) rfl
theorem q763 : (Jvm.Cond.privateMethod ({ cls := "SaidSo$Reader", name := "talk", desc := "(Z)V" } : Jvm.MethodName)) ∈ lw_tbl := lw_at lw_m3 145 rfl
theorem q764 : (Jvm.Cond.instanceMethod ({ cls := "SaidSo$Reader", name := "talk", desc := "(Z)V" } : Jvm.MethodName)) ∈ lw_all := lw_g (lw_at lw_m3 146 rfl) rfl
theorem q765 : (Jvm.Cond.code ({ cls := "SaidSo$Reader", name := "talk", desc := "(Z)V" } : Jvm.MethodName) prog_11_method_18_code (7 : Nat) (Option.none : Option Jvm.ClassFile.FieldType)) ∈ lw_all := lw_g (lw_at lw_m3 147 rfl) rfl
theorem q766 : (Jvm.Cond.methodLink "SaidSo$Reader" (187 : Nat) ({ cls := "SaidSo$Reader", name := "told", desc := "(Z)I" } : Jvm.MethodName)) ∈ lw_all := lw_g (lw_at lw_m3 148 rfl) rfl
theorem q767 : (Jvm.Cond.privateMethod ({ cls := "SaidSo$Reader", name := "told", desc := "(Z)I" } : Jvm.MethodName)) ∈ lw_tbl := lw_at lw_m3 149 rfl
theorem q768 : (Jvm.Cond.instanceMethod ({ cls := "SaidSo$Reader", name := "told", desc := "(Z)I" } : Jvm.MethodName)) ∈ lw_all := lw_g (lw_at lw_m3 150 rfl) rfl
theorem q769 : (Jvm.Cond.code ({ cls := "SaidSo$Reader", name := "told", desc := "(Z)I" } : Jvm.MethodName) prog_11_method_15_code (3 : Nat) (Option.some Jvm.ClassFile.FieldType.int)) ∈ lw_all := lw_g (lw_at lw_m3 151 rfl) rfl
theorem q770 : (Jvm.Cond.methodLink "SaidSo$Reader" (190 : Nat) ({ cls := "java/util/ArrayList", name := "get", desc := "(I)Ljava/lang/Object;" } : Jvm.MethodName)) ∈ lw_all := lw_g (lw_at lw_m3 152 rfl) rfl
theorem q771 : (Jvm.Cond.methodLink "SaidSo$Reader" (197 : Nat) ({ cls := "SaidSo$Case", name := "latest", desc := "(I)I" } : Jvm.MethodName)) ∈ lw_all := lw_g (lw_at lw_m3 153 rfl) rfl
theorem q776 : (Jvm.Cond.classLink "SaidSo$Reader" (203 : Nat) "SaidSo$Word") ∈ lw_all := lw_g (lw_at lw_m3 158 rfl) rfl
theorem q778 : (Jvm.Cond.methodLink "SaidSo$Reader" (205 : Nat) ({ cls := "SaidSo$Word", name := "<init>", desc := "(LSaidSo$Case;IIII)V" } : Jvm.MethodName)) ∈ lw_all := lw_g (lw_at lw_m3 160 rfl) rfl
theorem q829 : (Jvm.Cond.classLink "SaidSo$Reader" (208 : Nat) "SaidSo$Ask") ∈ lw_all := lw_g (lw_at lw_m3 211 rfl) rfl
theorem q831 : (Jvm.Cond.methodLink "SaidSo$Reader" (210 : Nat) ({ cls := "SaidSo$Ask", name := "<init>", desc := "(LSaidSo$Case;IIII)V" } : Jvm.MethodName)) ∈ lw_all := lw_g (lw_at lw_m3 213 rfl) rfl
theorem q842 : (Jvm.Cond.methodLink "SaidSo$Reader" (131 : Nat) ({ cls := "SaidSo$Reader", name := "page", desc := "()V" } : Jvm.MethodName)) ∈ lw_all := lw_g (lw_at lw_m3 224 rfl) rfl
theorem q843 : (Jvm.Cond.privateMethod ({ cls := "SaidSo$Reader", name := "page", desc := "()V" } : Jvm.MethodName)) ∈ lw_tbl := lw_at lw_m3 225 rfl
theorem q844 : (Jvm.Cond.instanceMethod ({ cls := "SaidSo$Reader", name := "page", desc := "()V" } : Jvm.MethodName)) ∈ lw_all := lw_g (lw_at lw_m3 226 rfl) rfl
theorem q845 : (Jvm.Cond.code ({ cls := "SaidSo$Reader", name := "page", desc := "()V" } : Jvm.MethodName) prog_11_method_19_code (3 : Nat) (Option.none : Option Jvm.ClassFile.FieldType)) ∈ lw_all := lw_g (lw_at lw_m3 227 rfl) rfl
theorem q846 : (Jvm.Cond.classLink "SaidSo$Reader" (211 : Nat) "SaidSo$Page") ∈ lw_all := lw_g (lw_at lw_m3 228 rfl) rfl
theorem q848 : (Jvm.Cond.methodLink "SaidSo$Reader" (213 : Nat) ({ cls := "SaidSo$Page", name := "<init>", desc := "(III)V" } : Jvm.MethodName)) ∈ lw_all := lw_g (lw_at lw_m3 230 rfl) rfl
theorem q865 : (Jvm.Cond.methodLink "SaidSo$Reader" (134 : Nat) ({ cls := "SaidSo$Reader", name := "or", desc := "()LSaidSo$Part;" } : Jvm.MethodName)) ∈ lw_all := lw_g (lw_at lw_m4 7 rfl) rfl
theorem q866 : (Jvm.Cond.privateMethod ({ cls := "SaidSo$Reader", name := "or", desc := "()LSaidSo$Part;" } : Jvm.MethodName)) ∈ lw_tbl := lw_at lw_m4 8 rfl
theorem q867 : (Jvm.Cond.instanceMethod ({ cls := "SaidSo$Reader", name := "or", desc := "()LSaidSo$Part;" } : Jvm.MethodName)) ∈ lw_all := lw_g (lw_at lw_m4 9 rfl) rfl
theorem q868 : (Jvm.Cond.code ({ cls := "SaidSo$Reader", name := "or", desc := "()LSaidSo$Part;" } : Jvm.MethodName) prog_11_method_22_code (3 : Nat) (Option.some (Jvm.ClassFile.FieldType.object "SaidSo$Part"))) ∈ lw_all := lw_g (lw_at lw_m4 10 rfl) rfl
theorem q869 : (Jvm.Cond.methodLink "SaidSo$Reader" (220 : Nat) ({ cls := "SaidSo$Reader", name := "and", desc := "()LSaidSo$Part;" } : Jvm.MethodName)) ∈ lw_all := lw_g (lw_at lw_m4 11 rfl) rfl
theorem q870 : (Jvm.Cond.privateMethod ({ cls := "SaidSo$Reader", name := "and", desc := "()LSaidSo$Part;" } : Jvm.MethodName)) ∈ lw_tbl := lw_at lw_m4 12 rfl
theorem q871 : (Jvm.Cond.instanceMethod ({ cls := "SaidSo$Reader", name := "and", desc := "()LSaidSo$Part;" } : Jvm.MethodName)) ∈ lw_all := lw_g (lw_at lw_m4 13 rfl) rfl
theorem q872 : (Jvm.Cond.code ({ cls := "SaidSo$Reader", name := "and", desc := "()LSaidSo$Part;" } : Jvm.MethodName) prog_11_method_23_code (3 : Nat) (Option.some (Jvm.ClassFile.FieldType.object "SaidSo$Part"))) ∈ lw_all := lw_g (lw_at lw_m4 14 rfl) rfl
theorem q873 : (Jvm.Cond.methodLink "SaidSo$Reader" (231 : Nat) ({ cls := "SaidSo$Reader", name := "not", desc := "()LSaidSo$Part;" } : Jvm.MethodName)) ∈ lw_all := lw_g (lw_at lw_m4 15 rfl) rfl
theorem q874 : (Jvm.Cond.privateMethod ({ cls := "SaidSo$Reader", name := "not", desc := "()LSaidSo$Part;" } : Jvm.MethodName)) ∈ lw_tbl := lw_at lw_m4 16 rfl
theorem q875 : (Jvm.Cond.instanceMethod ({ cls := "SaidSo$Reader", name := "not", desc := "()LSaidSo$Part;" } : Jvm.MethodName)) ∈ lw_all := lw_g (lw_at lw_m4 17 rfl) rfl
theorem q876 : (Jvm.Cond.code ({ cls := "SaidSo$Reader", name := "not", desc := "()LSaidSo$Part;" } : Jvm.MethodName) prog_11_method_24_code (1 : Nat) (Option.some (Jvm.ClassFile.FieldType.object "SaidSo$Part"))) ∈ lw_all := lw_g (lw_at lw_m4 18 rfl) rfl
theorem q877 : (Jvm.Cond.methodLink "SaidSo$Reader" (234 : Nat) ({ cls := "SaidSo$Reader", name := "compare", desc := "()LSaidSo$Part;" } : Jvm.MethodName)) ∈ lw_all := lw_g (lw_at lw_m4 19 rfl) rfl
theorem q878 : (Jvm.Cond.privateMethod ({ cls := "SaidSo$Reader", name := "compare", desc := "()LSaidSo$Part;" } : Jvm.MethodName)) ∈ lw_tbl := lw_at lw_m4 20 rfl
theorem q879 : (Jvm.Cond.instanceMethod ({ cls := "SaidSo$Reader", name := "compare", desc := "()LSaidSo$Part;" } : Jvm.MethodName)) ∈ lw_all := lw_g (lw_at lw_m4 21 rfl) rfl
theorem q880 : (Jvm.Cond.code ({ cls := "SaidSo$Reader", name := "compare", desc := "()LSaidSo$Part;" } : Jvm.MethodName) prog_11_method_25_code (4 : Nat) (Option.some (Jvm.ClassFile.FieldType.object "SaidSo$Part"))) ∈ lw_all := lw_g (lw_at lw_m4 22 rfl) rfl
theorem q881 : (Jvm.Cond.methodLink "SaidSo$Reader" (242 : Nat) ({ cls := "SaidSo$Reader", name := "sum", desc := "()LSaidSo$Part;" } : Jvm.MethodName)) ∈ lw_all := lw_g (lw_at lw_m4 23 rfl) rfl
theorem q882 : (Jvm.Cond.privateMethod ({ cls := "SaidSo$Reader", name := "sum", desc := "()LSaidSo$Part;" } : Jvm.MethodName)) ∈ lw_tbl := lw_at lw_m4 24 rfl
theorem q883 : (Jvm.Cond.instanceMethod ({ cls := "SaidSo$Reader", name := "sum", desc := "()LSaidSo$Part;" } : Jvm.MethodName)) ∈ lw_all := lw_g (lw_at lw_m4 25 rfl) rfl
theorem q884 : (Jvm.Cond.code ({ cls := "SaidSo$Reader", name := "sum", desc := "()LSaidSo$Part;" } : Jvm.MethodName) prog_11_method_26_code (3 : Nat) (Option.some (Jvm.ClassFile.FieldType.object "SaidSo$Part"))) ∈ lw_all := lw_g (lw_at lw_m4 26 rfl) rfl
theorem q885 : (Jvm.Cond.methodLink "SaidSo$Reader" (245 : Nat) ({ cls := "SaidSo$Reader", name := "product", desc := "()LSaidSo$Part;" } : Jvm.MethodName)) ∈ lw_all := lw_g (lw_at lw_m4 27 rfl) rfl
theorem q886 : (Jvm.Cond.privateMethod ({ cls := "SaidSo$Reader", name := "product", desc := "()LSaidSo$Part;" } : Jvm.MethodName)) ∈ lw_tbl := lw_at lw_m4 28 rfl
theorem q887 : (Jvm.Cond.instanceMethod ({ cls := "SaidSo$Reader", name := "product", desc := "()LSaidSo$Part;" } : Jvm.MethodName)) ∈ lw_all := lw_g (lw_at lw_m4 29 rfl) rfl
theorem q888 : (Jvm.Cond.code ({ cls := "SaidSo$Reader", name := "product", desc := "()LSaidSo$Part;" } : Jvm.MethodName) prog_11_method_27_code (3 : Nat) (Option.some (Jvm.ClassFile.FieldType.object "SaidSo$Part"))) ∈ lw_all := lw_g (lw_at lw_m4 30 rfl) rfl
theorem q889 : (Jvm.Cond.methodLink "SaidSo$Reader" (248 : Nat) ({ cls := "SaidSo$Reader", name := "one", desc := "()LSaidSo$Part;" } : Jvm.MethodName)) ∈ lw_all := lw_g (lw_at lw_m4 31 rfl) rfl
theorem q890 : (Jvm.Cond.privateMethod ({ cls := "SaidSo$Reader", name := "one", desc := "()LSaidSo$Part;" } : Jvm.MethodName)) ∈ lw_tbl := lw_at lw_m4 32 rfl
theorem q891 : (Jvm.Cond.instanceMethod ({ cls := "SaidSo$Reader", name := "one", desc := "()LSaidSo$Part;" } : Jvm.MethodName)) ∈ lw_all := lw_g (lw_at lw_m4 33 rfl) rfl
theorem q892 : (Jvm.Cond.code ({ cls := "SaidSo$Reader", name := "one", desc := "()LSaidSo$Part;" } : Jvm.MethodName) prog_11_method_28_code (2 : Nat) (Option.some (Jvm.ClassFile.FieldType.object "SaidSo$Part"))) ∈ lw_all := lw_g (lw_at lw_m4 34 rfl) rfl
theorem q893 : (Jvm.Cond.methodLink "SaidSo$Reader" (138 : Nat) ({ cls := "SaidSo$Reader", name := "isSign", desc := "(I)Z" } : Jvm.MethodName)) ∈ lw_all := lw_g (lw_at lw_m4 35 rfl) rfl
theorem q894 : (Jvm.Cond.privateMethod ({ cls := "SaidSo$Reader", name := "isSign", desc := "(I)Z" } : Jvm.MethodName)) ∈ lw_tbl := lw_at lw_m4 36 rfl
theorem q895 : (Jvm.Cond.instanceMethod ({ cls := "SaidSo$Reader", name := "isSign", desc := "(I)Z" } : Jvm.MethodName)) ∈ lw_all := lw_g (lw_at lw_m4 37 rfl) rfl
theorem q896 : (Jvm.Cond.code ({ cls := "SaidSo$Reader", name := "isSign", desc := "(I)Z" } : Jvm.MethodName) prog_11_method_9_code (2 : Nat) (Option.some Jvm.ClassFile.FieldType.boolean)) ∈ lw_all := lw_g (lw_at lw_m4 38 rfl) rfl
theorem q897 : (Jvm.Cond.methodLink "SaidSo$Reader" (217 : Nat) ({ cls := "SaidSo$Reader", name := "knot", desc := "()V" } : Jvm.MethodName)) ∈ lw_all := lw_g (lw_at lw_m4 39 rfl) rfl
theorem q898 : (Jvm.Cond.privateMethod ({ cls := "SaidSo$Reader", name := "knot", desc := "()V" } : Jvm.MethodName)) ∈ lw_tbl := lw_at lw_m4 40 rfl
theorem q899 : (Jvm.Cond.instanceMethod ({ cls := "SaidSo$Reader", name := "knot", desc := "()V" } : Jvm.MethodName)) ∈ lw_all := lw_g (lw_at lw_m4 41 rfl) rfl
theorem q900 : (Jvm.Cond.code ({ cls := "SaidSo$Reader", name := "knot", desc := "()V" } : Jvm.MethodName) prog_11_method_20_code (1 : Nat) (Option.none : Option Jvm.ClassFile.FieldType)) ∈ lw_all := lw_g (lw_at lw_m4 42 rfl) rfl
theorem q901 : (Jvm.Cond.classLink "SaidSo$Reader" (251 : Nat) "SaidSo$Number") ∈ lw_all := lw_g (lw_at lw_m4 43 rfl) rfl
theorem q903 : (Jvm.Cond.methodLink "SaidSo$Reader" (253 : Nat) ({ cls := "SaidSo$Number", name := "<init>", desc := "(I)V" } : Jvm.MethodName)) ∈ lw_all := lw_g (lw_at lw_m4 45 rfl) rfl
theorem q914 : (Jvm.Cond.classLink "SaidSo$Reader" (255 : Nat) "SaidSo$Name") ∈ lw_all := lw_g (lw_at lw_m4 56 rfl) rfl
theorem q916 : (Jvm.Cond.methodLink "SaidSo$Reader" (257 : Nat) ({ cls := "SaidSo$Name", name := "<init>", desc := "(I)V" } : Jvm.MethodName)) ∈ lw_all := lw_g (lw_at lw_m4 58 rfl) rfl
theorem q924 : (Jvm.Cond.methodLink "SaidSo$Reader" (223 : Nat) ({ cls := "SaidSo$Reader", name := "sign2", desc := "()I" } : Jvm.MethodName)) ∈ lw_all := lw_g (lw_at lw_m4 66 rfl) rfl
theorem q925 : (Jvm.Cond.privateMethod ({ cls := "SaidSo$Reader", name := "sign2", desc := "()I" } : Jvm.MethodName)) ∈ lw_tbl := lw_at lw_m4 67 rfl
theorem q926 : (Jvm.Cond.instanceMethod ({ cls := "SaidSo$Reader", name := "sign2", desc := "()I" } : Jvm.MethodName)) ∈ lw_all := lw_g (lw_at lw_m4 68 rfl) rfl
theorem q927 : (Jvm.Cond.code ({ cls := "SaidSo$Reader", name := "sign2", desc := "()I" } : Jvm.MethodName) prog_11_method_21_code (2 : Nat) (Option.some Jvm.ClassFile.FieldType.int)) ∈ lw_all := lw_g (lw_at lw_m4 69 rfl) rfl
theorem q928 : (Jvm.Cond.classLink "SaidSo$Reader" (226 : Nat) "SaidSo$Two") ∈ lw_all := lw_g (lw_at lw_m4 70 rfl) rfl
theorem q930 : (Jvm.Cond.methodLink "SaidSo$Reader" (228 : Nat) ({ cls := "SaidSo$Two", name := "<init>", desc := "(ILSaidSo$Part;LSaidSo$Part;)V" } : Jvm.MethodName)) ∈ lw_all := lw_g (lw_at lw_m4 72 rfl) rfl
theorem q949 : (Jvm.Cond.classLink "SaidSo$Reader" (237 : Nat) "SaidSo$Not") ∈ lw_all := lw_g (lw_at lw_m4 91 rfl) rfl
theorem q951 : (Jvm.Cond.methodLink "SaidSo$Reader" (239 : Nat) ({ cls := "SaidSo$Not", name := "<init>", desc := "(LSaidSo$Part;)V" } : Jvm.MethodName)) ∈ lw_all := lw_g (lw_at lw_m4 93 rfl) rfl
theorem q2079 : (Jvm.Cond.castable "SaidSo$Reader" "java/lang/Object") ∈ lw_tbl := lw_at lw_m9 21 rfl
theorem in_X2 : ∀ w ∈ wsX20, w ∈ lw_all := lw_in wsX20 [197, 199, 201, 203, 205, 207, 209, 211] (by decide +kernel) (by decide +kernel)

/-! SaidSo$Case -/
set_option maxRecDepth 100000
def RX3 : String := "SaidSo$Case"
def TX3 : u_T := fun k => match k with
  | 0 => ("SaidSo$Case", "things", "Ljava/util/ArrayList;", true)
  | 1 => ("SaidSo$Case", "tellers", "Ljava/util/ArrayList;", true)
  | 2 => ("SaidSo$Case", "lines", "Ljava/util/ArrayList;", true)
  | 3 => ("SaidSo$Case", "pages", "Ljava/util/ArrayList;", true)
  | 4 => ("SaidSo$Case", "parts", "[LSaidSo$Part;", true)
  | 5 => ("SaidSo$Case", "many", "I", false)
  | _ => ("SaidSo$Case", "knots", "I", false)
def tyX3 : Nat → FieldType := fun k => match k with
  | 0 => .object "java/util/ArrayList"
  | 1 => .object "java/util/ArrayList"
  | 2 => .object "java/util/ArrayList"
  | 3 => .object "java/util/ArrayList"
  | 4 => .array (.object "SaidSo$Part")
  | 5 => .int
  | _ => .int
abbrev wsX30 : List Cond := u_ws RX3 TX3 7
theorem nmX3 : ∀ a, a < 7 → ∀ b, b < 7 → a ≠ b → (TX3 a).2.1 ≠ (TX3 b).2.1 := by decide +kernel
theorem tyX3_ok : ∀ k, k < 7 → parseFieldDescriptor (TX3 k).2.2.1 = some (tyX3 k) := by decide +kernel
abbrev cX3_init : ByteArray := prog_3_method_1_code
def yX3_init : MethodName := ⟨RX3, "<init>", "()V"⟩
def dkwX3_init_2 : List UInt8 := [16, 20, 183, 0, 11, 181, 0, 26, 42, 6, 189, 0, 29, 181, 0, 31, 177]
abbrev dktX3_init_2 : List UInt8 := dkwX3_init_2 ++ []
def dkwX3_init_1 : List UInt8 := [183, 0, 11, 181, 0, 20, 42, 187, 0, 9, 89, 16, 60, 183, 0, 11, 181, 0, 23, 42, 187, 0, 9, 89]
abbrev dktX3_init_1 : List UInt8 := dkwX3_init_1 ++ dktX3_init_2
def dkwX3_init_0 : List UInt8 := [42, 183, 0, 3, 42, 187, 0, 9, 89, 16, 8, 183, 0, 11, 181, 0, 14, 42, 187, 0, 9, 89, 8]
abbrev dktX3_init_0 : List UInt8 := dkwX3_init_0 ++ dktX3_init_1
theorem dksX3_init_0 : cX3_init.data.toList.drop 0 = dktX3_init_0 := by decide +kernel
theorem dksX3_init_1 : cX3_init.data.toList.drop 23 = dktX3_init_1 := dk_seg dksX3_init_0 23 rfl rfl
theorem dksX3_init_2 : cX3_init.data.toList.drop 47 = dktX3_init_2 := dk_seg dksX3_init_1 24 rfl rfl
theorem dX3_init_0 : decode cX3_init 0 = .ok (.aload_n 0, 1) := dk_42 (dk_at dksX3_init_0 0 rfl rfl)
theorem dX3_init_1 : decode cX3_init 1 = .ok (.invokespecial 3, 3) := dk_183 0 3 (dk_at dksX3_init_0 1 rfl rfl)
theorem dX3_init_4 : decode cX3_init 4 = .ok (.aload_n 0, 1) := dk_42 (dk_at dksX3_init_0 4 rfl rfl)
theorem dX3_init_5 : decode cX3_init 5 = .ok (.new 9, 3) := dk_187 0 9 (dk_at dksX3_init_0 5 rfl rfl)
theorem dX3_init_8 : decode cX3_init 8 = .ok (.dup, 1) := dk_89 (dk_at dksX3_init_0 8 rfl rfl)
theorem dX3_init_9 : decode cX3_init 9 = .ok (.bipush 8, 2) := dk_16 8 (dk_at dksX3_init_0 9 rfl rfl)
theorem dX3_init_11 : decode cX3_init 11 = .ok (.invokespecial 11, 3) := dk_183 0 11 (dk_at dksX3_init_0 11 rfl rfl)
theorem dX3_init_14 : decode cX3_init 14 = .ok (.putfield 14, 3) := dk_181 0 14 (dk_at dksX3_init_0 14 rfl rfl)
theorem dX3_init_17 : decode cX3_init 17 = .ok (.aload_n 0, 1) := dk_42 (dk_at dksX3_init_0 17 rfl rfl)
theorem dX3_init_18 : decode cX3_init 18 = .ok (.new 9, 3) := dk_187 0 9 (dk_at dksX3_init_0 18 rfl rfl)
theorem dX3_init_21 : decode cX3_init 21 = .ok (.dup, 1) := dk_89 (dk_at dksX3_init_0 21 rfl rfl)
theorem dX3_init_22 : decode cX3_init 22 = .ok (.iconst 5, 1) := dk_8 (dk_at dksX3_init_0 22 rfl rfl)
theorem dX3_init_23 : decode cX3_init 23 = .ok (.invokespecial 11, 3) := dk_183 0 11 (dk_at dksX3_init_1 0 rfl rfl)
theorem dX3_init_26 : decode cX3_init 26 = .ok (.putfield 20, 3) := dk_181 0 20 (dk_at dksX3_init_1 3 rfl rfl)
theorem dX3_init_29 : decode cX3_init 29 = .ok (.aload_n 0, 1) := dk_42 (dk_at dksX3_init_1 6 rfl rfl)
theorem dX3_init_30 : decode cX3_init 30 = .ok (.new 9, 3) := dk_187 0 9 (dk_at dksX3_init_1 7 rfl rfl)
theorem dX3_init_33 : decode cX3_init 33 = .ok (.dup, 1) := dk_89 (dk_at dksX3_init_1 10 rfl rfl)
theorem dX3_init_34 : decode cX3_init 34 = .ok (.bipush 60, 2) := dk_16 60 (dk_at dksX3_init_1 11 rfl rfl)
theorem dX3_init_36 : decode cX3_init 36 = .ok (.invokespecial 11, 3) := dk_183 0 11 (dk_at dksX3_init_1 13 rfl rfl)
theorem dX3_init_39 : decode cX3_init 39 = .ok (.putfield 23, 3) := dk_181 0 23 (dk_at dksX3_init_1 16 rfl rfl)
theorem dX3_init_42 : decode cX3_init 42 = .ok (.aload_n 0, 1) := dk_42 (dk_at dksX3_init_1 19 rfl rfl)
theorem dX3_init_43 : decode cX3_init 43 = .ok (.new 9, 3) := dk_187 0 9 (dk_at dksX3_init_1 20 rfl rfl)
theorem dX3_init_46 : decode cX3_init 46 = .ok (.dup, 1) := dk_89 (dk_at dksX3_init_1 23 rfl rfl)
theorem dX3_init_47 : decode cX3_init 47 = .ok (.bipush 20, 2) := dk_16 20 (dk_at dksX3_init_2 0 rfl rfl)
theorem dX3_init_49 : decode cX3_init 49 = .ok (.invokespecial 11, 3) := dk_183 0 11 (dk_at dksX3_init_2 2 rfl rfl)
theorem dX3_init_52 : decode cX3_init 52 = .ok (.putfield 26, 3) := dk_181 0 26 (dk_at dksX3_init_2 5 rfl rfl)
theorem dX3_init_55 : decode cX3_init 55 = .ok (.aload_n 0, 1) := dk_42 (dk_at dksX3_init_2 8 rfl rfl)
theorem dX3_init_56 : decode cX3_init 56 = .ok (.iconst 3, 1) := dk_6 (dk_at dksX3_init_2 9 rfl rfl)
theorem dX3_init_57 : decode cX3_init 57 = .ok (.anewarray 29, 3) := dk_189 0 29 (dk_at dksX3_init_2 10 rfl rfl)
theorem dX3_init_60 : decode cX3_init 60 = .ok (.putfield 31, 3) := dk_181 0 31 (dk_at dksX3_init_2 13 rfl rfl)
theorem dX3_init_63 : decode cX3_init 63 = .ok (.return_, 1) := dk_177 (dk_at dksX3_init_2 16 rfl rfl)
abbrev cX3_thing : ByteArray := prog_3_method_2_code
def yX3_thing : MethodName := ⟨RX3, "thing", "(I)I"⟩
def dkwX3_thing_1 : List UInt8 := [180, 0, 45, 27, 160, 0, 5, 28, 172, 132, 2, 1, 167, 255, 222, 2, 172]
abbrev dktX3_thing_1 : List UInt8 := dkwX3_thing_1 ++ []
def dkwX3_thing_0 : List UInt8 := [3, 61, 28, 42, 180, 0, 14, 182, 0, 35, 162, 0, 29, 42, 180, 0, 14, 28, 182, 0, 39, 192, 0, 43]
abbrev dktX3_thing_0 : List UInt8 := dkwX3_thing_0 ++ dktX3_thing_1
theorem dksX3_thing_0 : cX3_thing.data.toList.drop 0 = dktX3_thing_0 := by decide +kernel
theorem dksX3_thing_1 : cX3_thing.data.toList.drop 24 = dktX3_thing_1 := dk_seg dksX3_thing_0 24 rfl rfl
theorem dX3_thing_0 : decode cX3_thing 0 = .ok (.iconst 0, 1) := dk_3 (dk_at dksX3_thing_0 0 rfl rfl)
theorem dX3_thing_1 : decode cX3_thing 1 = .ok (.istore_n 2, 1) := dk_61 (dk_at dksX3_thing_0 1 rfl rfl)
theorem dX3_thing_2 : decode cX3_thing 2 = .ok (.iload_n 2, 1) := dk_28 (dk_at dksX3_thing_0 2 rfl rfl)
theorem dX3_thing_3 : decode cX3_thing 3 = .ok (.aload_n 0, 1) := dk_42 (dk_at dksX3_thing_0 3 rfl rfl)
theorem dX3_thing_4 : decode cX3_thing 4 = .ok (.getfield 14, 3) := dk_180 0 14 (dk_at dksX3_thing_0 4 rfl rfl)
theorem dX3_thing_7 : decode cX3_thing 7 = .ok (.invokevirtual 35, 3) := dk_182 0 35 (dk_at dksX3_thing_0 7 rfl rfl)
theorem dX3_thing_10 : decode cX3_thing 10 = .ok (.if_icmp .ge 29, 3) := dk_162 0 29 (dk_at dksX3_thing_0 10 rfl rfl)
theorem dX3_thing_13 : decode cX3_thing 13 = .ok (.aload_n 0, 1) := dk_42 (dk_at dksX3_thing_0 13 rfl rfl)
theorem dX3_thing_14 : decode cX3_thing 14 = .ok (.getfield 14, 3) := dk_180 0 14 (dk_at dksX3_thing_0 14 rfl rfl)
theorem dX3_thing_17 : decode cX3_thing 17 = .ok (.iload_n 2, 1) := dk_28 (dk_at dksX3_thing_0 17 rfl rfl)
theorem dX3_thing_18 : decode cX3_thing 18 = .ok (.invokevirtual 39, 3) := dk_182 0 39 (dk_at dksX3_thing_0 18 rfl rfl)
theorem dX3_thing_21 : decode cX3_thing 21 = .ok (.checkcast 43, 3) := dk_192 0 43 (dk_at dksX3_thing_0 21 rfl rfl)
theorem dX3_thing_24 : decode cX3_thing 24 = .ok (.getfield 45, 3) := dk_180 0 45 (dk_at dksX3_thing_1 0 rfl rfl)
theorem dX3_thing_27 : decode cX3_thing 27 = .ok (.iload_n 1, 1) := dk_27 (dk_at dksX3_thing_1 3 rfl rfl)
theorem dX3_thing_28 : decode cX3_thing 28 = .ok (.if_icmp .ne 5, 3) := dk_160 0 5 (dk_at dksX3_thing_1 4 rfl rfl)
theorem dX3_thing_31 : decode cX3_thing 31 = .ok (.iload_n 2, 1) := dk_28 (dk_at dksX3_thing_1 7 rfl rfl)
theorem dX3_thing_32 : decode cX3_thing 32 = .ok (.ireturn, 1) := dk_172 (dk_at dksX3_thing_1 8 rfl rfl)
theorem dX3_thing_33 : decode cX3_thing 33 = .ok (.iinc 2 1, 3) := dk_132 2 1 (dk_at dksX3_thing_1 9 rfl rfl)
theorem dX3_thing_36 : decode cX3_thing 36 = .ok (.goto (-34), 3) := dk_167 255 222 (dk_at dksX3_thing_1 12 rfl rfl)
theorem dX3_thing_39 : decode cX3_thing 39 = .ok (.iconst (-1), 1) := dk_2 (dk_at dksX3_thing_1 15 rfl rfl)
theorem dX3_thing_40 : decode cX3_thing 40 = .ok (.ireturn, 1) := dk_172 (dk_at dksX3_thing_1 16 rfl rfl)
abbrev cX3_teller : ByteArray := prog_3_method_3_code
def yX3_teller : MethodName := ⟨RX3, "teller", "(I)I"⟩
def dkwX3_teller_1 : List UInt8 := [180, 0, 51, 27, 160, 0, 5, 28, 172, 132, 2, 1, 167, 255, 222, 2, 172]
abbrev dktX3_teller_1 : List UInt8 := dkwX3_teller_1 ++ []
def dkwX3_teller_0 : List UInt8 := [3, 61, 28, 42, 180, 0, 20, 182, 0, 35, 162, 0, 29, 42, 180, 0, 20, 28, 182, 0, 39, 192, 0, 49]
abbrev dktX3_teller_0 : List UInt8 := dkwX3_teller_0 ++ dktX3_teller_1
theorem dksX3_teller_0 : cX3_teller.data.toList.drop 0 = dktX3_teller_0 := by decide +kernel
theorem dksX3_teller_1 : cX3_teller.data.toList.drop 24 = dktX3_teller_1 := dk_seg dksX3_teller_0 24 rfl rfl
theorem dX3_teller_0 : decode cX3_teller 0 = .ok (.iconst 0, 1) := dk_3 (dk_at dksX3_teller_0 0 rfl rfl)
theorem dX3_teller_1 : decode cX3_teller 1 = .ok (.istore_n 2, 1) := dk_61 (dk_at dksX3_teller_0 1 rfl rfl)
theorem dX3_teller_2 : decode cX3_teller 2 = .ok (.iload_n 2, 1) := dk_28 (dk_at dksX3_teller_0 2 rfl rfl)
theorem dX3_teller_3 : decode cX3_teller 3 = .ok (.aload_n 0, 1) := dk_42 (dk_at dksX3_teller_0 3 rfl rfl)
theorem dX3_teller_4 : decode cX3_teller 4 = .ok (.getfield 20, 3) := dk_180 0 20 (dk_at dksX3_teller_0 4 rfl rfl)
theorem dX3_teller_7 : decode cX3_teller 7 = .ok (.invokevirtual 35, 3) := dk_182 0 35 (dk_at dksX3_teller_0 7 rfl rfl)
theorem dX3_teller_10 : decode cX3_teller 10 = .ok (.if_icmp .ge 29, 3) := dk_162 0 29 (dk_at dksX3_teller_0 10 rfl rfl)
theorem dX3_teller_13 : decode cX3_teller 13 = .ok (.aload_n 0, 1) := dk_42 (dk_at dksX3_teller_0 13 rfl rfl)
theorem dX3_teller_14 : decode cX3_teller 14 = .ok (.getfield 20, 3) := dk_180 0 20 (dk_at dksX3_teller_0 14 rfl rfl)
theorem dX3_teller_17 : decode cX3_teller 17 = .ok (.iload_n 2, 1) := dk_28 (dk_at dksX3_teller_0 17 rfl rfl)
theorem dX3_teller_18 : decode cX3_teller 18 = .ok (.invokevirtual 39, 3) := dk_182 0 39 (dk_at dksX3_teller_0 18 rfl rfl)
theorem dX3_teller_21 : decode cX3_teller 21 = .ok (.checkcast 49, 3) := dk_192 0 49 (dk_at dksX3_teller_0 21 rfl rfl)
theorem dX3_teller_24 : decode cX3_teller 24 = .ok (.getfield 51, 3) := dk_180 0 51 (dk_at dksX3_teller_1 0 rfl rfl)
theorem dX3_teller_27 : decode cX3_teller 27 = .ok (.iload_n 1, 1) := dk_27 (dk_at dksX3_teller_1 3 rfl rfl)
theorem dX3_teller_28 : decode cX3_teller 28 = .ok (.if_icmp .ne 5, 3) := dk_160 0 5 (dk_at dksX3_teller_1 4 rfl rfl)
theorem dX3_teller_31 : decode cX3_teller 31 = .ok (.iload_n 2, 1) := dk_28 (dk_at dksX3_teller_1 7 rfl rfl)
theorem dX3_teller_32 : decode cX3_teller 32 = .ok (.ireturn, 1) := dk_172 (dk_at dksX3_teller_1 8 rfl rfl)
theorem dX3_teller_33 : decode cX3_teller 33 = .ok (.iinc 2 1, 3) := dk_132 2 1 (dk_at dksX3_teller_1 9 rfl rfl)
theorem dX3_teller_36 : decode cX3_teller 36 = .ok (.goto (-34), 3) := dk_167 255 222 (dk_at dksX3_teller_1 12 rfl rfl)
theorem dX3_teller_39 : decode cX3_teller 39 = .ok (.iconst (-1), 1) := dk_2 (dk_at dksX3_teller_1 15 rfl rfl)
theorem dX3_teller_40 : decode cX3_teller 40 = .ok (.ireturn, 1) := dk_172 (dk_at dksX3_teller_1 16 rfl rfl)
abbrev cX3_latest : ByteArray := prog_3_method_4_code
def yX3_latest : MethodName := ⟨RX3, "latest", "(I)I"⟩
def dkwX3_latest_2 : List UInt8 := [42, 180, 0, 23, 29, 182, 0, 39, 192, 0, 55, 180, 0, 60, 61, 132, 3, 1, 167, 255, 209, 28, 172]
abbrev dktX3_latest_2 : List UInt8 := dkwX3_latest_2 ++ []
def dkwX3_latest_1 : List UInt8 := [182, 0, 35, 162, 0, 42, 42, 180, 0, 23, 29, 182, 0, 39, 192, 0, 55, 180, 0, 57, 27, 160, 0, 18]
abbrev dktX3_latest_1 : List UInt8 := dkwX3_latest_1 ++ dktX3_latest_2
def dkwX3_latest_0 : List UInt8 := [42, 180, 0, 20, 27, 182, 0, 39, 192, 0, 49, 180, 0, 52, 61, 3, 62, 29, 42, 180, 0, 23]
abbrev dktX3_latest_0 : List UInt8 := dkwX3_latest_0 ++ dktX3_latest_1
theorem dksX3_latest_0 : cX3_latest.data.toList.drop 0 = dktX3_latest_0 := by decide +kernel
theorem dksX3_latest_1 : cX3_latest.data.toList.drop 22 = dktX3_latest_1 := dk_seg dksX3_latest_0 22 rfl rfl
theorem dksX3_latest_2 : cX3_latest.data.toList.drop 46 = dktX3_latest_2 := dk_seg dksX3_latest_1 24 rfl rfl
theorem dX3_latest_0 : decode cX3_latest 0 = .ok (.aload_n 0, 1) := dk_42 (dk_at dksX3_latest_0 0 rfl rfl)
theorem dX3_latest_1 : decode cX3_latest 1 = .ok (.getfield 20, 3) := dk_180 0 20 (dk_at dksX3_latest_0 1 rfl rfl)
theorem dX3_latest_4 : decode cX3_latest 4 = .ok (.iload_n 1, 1) := dk_27 (dk_at dksX3_latest_0 4 rfl rfl)
theorem dX3_latest_5 : decode cX3_latest 5 = .ok (.invokevirtual 39, 3) := dk_182 0 39 (dk_at dksX3_latest_0 5 rfl rfl)
theorem dX3_latest_8 : decode cX3_latest 8 = .ok (.checkcast 49, 3) := dk_192 0 49 (dk_at dksX3_latest_0 8 rfl rfl)
theorem dX3_latest_11 : decode cX3_latest 11 = .ok (.getfield 52, 3) := dk_180 0 52 (dk_at dksX3_latest_0 11 rfl rfl)
theorem dX3_latest_14 : decode cX3_latest 14 = .ok (.istore_n 2, 1) := dk_61 (dk_at dksX3_latest_0 14 rfl rfl)
theorem dX3_latest_15 : decode cX3_latest 15 = .ok (.iconst 0, 1) := dk_3 (dk_at dksX3_latest_0 15 rfl rfl)
theorem dX3_latest_16 : decode cX3_latest 16 = .ok (.istore_n 3, 1) := dk_62 (dk_at dksX3_latest_0 16 rfl rfl)
theorem dX3_latest_17 : decode cX3_latest 17 = .ok (.iload_n 3, 1) := dk_29 (dk_at dksX3_latest_0 17 rfl rfl)
theorem dX3_latest_18 : decode cX3_latest 18 = .ok (.aload_n 0, 1) := dk_42 (dk_at dksX3_latest_0 18 rfl rfl)
theorem dX3_latest_19 : decode cX3_latest 19 = .ok (.getfield 23, 3) := dk_180 0 23 (dk_at dksX3_latest_0 19 rfl rfl)
theorem dX3_latest_22 : decode cX3_latest 22 = .ok (.invokevirtual 35, 3) := dk_182 0 35 (dk_at dksX3_latest_1 0 rfl rfl)
theorem dX3_latest_25 : decode cX3_latest 25 = .ok (.if_icmp .ge 42, 3) := dk_162 0 42 (dk_at dksX3_latest_1 3 rfl rfl)
theorem dX3_latest_28 : decode cX3_latest 28 = .ok (.aload_n 0, 1) := dk_42 (dk_at dksX3_latest_1 6 rfl rfl)
theorem dX3_latest_29 : decode cX3_latest 29 = .ok (.getfield 23, 3) := dk_180 0 23 (dk_at dksX3_latest_1 7 rfl rfl)
theorem dX3_latest_32 : decode cX3_latest 32 = .ok (.iload_n 3, 1) := dk_29 (dk_at dksX3_latest_1 10 rfl rfl)
theorem dX3_latest_33 : decode cX3_latest 33 = .ok (.invokevirtual 39, 3) := dk_182 0 39 (dk_at dksX3_latest_1 11 rfl rfl)
theorem dX3_latest_36 : decode cX3_latest 36 = .ok (.checkcast 55, 3) := dk_192 0 55 (dk_at dksX3_latest_1 14 rfl rfl)
theorem dX3_latest_39 : decode cX3_latest 39 = .ok (.getfield 57, 3) := dk_180 0 57 (dk_at dksX3_latest_1 17 rfl rfl)
theorem dX3_latest_42 : decode cX3_latest 42 = .ok (.iload_n 1, 1) := dk_27 (dk_at dksX3_latest_1 20 rfl rfl)
theorem dX3_latest_43 : decode cX3_latest 43 = .ok (.if_icmp .ne 18, 3) := dk_160 0 18 (dk_at dksX3_latest_1 21 rfl rfl)
theorem dX3_latest_46 : decode cX3_latest 46 = .ok (.aload_n 0, 1) := dk_42 (dk_at dksX3_latest_2 0 rfl rfl)
theorem dX3_latest_47 : decode cX3_latest 47 = .ok (.getfield 23, 3) := dk_180 0 23 (dk_at dksX3_latest_2 1 rfl rfl)
theorem dX3_latest_50 : decode cX3_latest 50 = .ok (.iload_n 3, 1) := dk_29 (dk_at dksX3_latest_2 4 rfl rfl)
theorem dX3_latest_51 : decode cX3_latest 51 = .ok (.invokevirtual 39, 3) := dk_182 0 39 (dk_at dksX3_latest_2 5 rfl rfl)
theorem dX3_latest_54 : decode cX3_latest 54 = .ok (.checkcast 55, 3) := dk_192 0 55 (dk_at dksX3_latest_2 8 rfl rfl)
theorem dX3_latest_57 : decode cX3_latest 57 = .ok (.getfield 60, 3) := dk_180 0 60 (dk_at dksX3_latest_2 11 rfl rfl)
theorem dX3_latest_60 : decode cX3_latest 60 = .ok (.istore_n 2, 1) := dk_61 (dk_at dksX3_latest_2 14 rfl rfl)
theorem dX3_latest_61 : decode cX3_latest 61 = .ok (.iinc 3 1, 3) := dk_132 3 1 (dk_at dksX3_latest_2 15 rfl rfl)
theorem dX3_latest_64 : decode cX3_latest 64 = .ok (.goto (-47), 3) := dk_167 255 209 (dk_at dksX3_latest_2 18 rfl rfl)
theorem dX3_latest_67 : decode cX3_latest 67 = .ok (.iload_n 2, 1) := dk_28 (dk_at dksX3_latest_2 21 rfl rfl)
theorem dX3_latest_68 : decode cX3_latest 68 = .ok (.ireturn, 1) := dk_172 (dk_at dksX3_latest_2 22 rfl rfl)
theorem q141 : (Jvm.Cond.initialized "SaidSo$Case") ∈ lw_all := lw_g (lw_at lw_m1 3 rfl) rfl
theorem q216 : (Jvm.Cond.instantiable "SaidSo$Case" (7 : Nat)) ∈ lw_all := lw_g (lw_at lw_m1 78 rfl) rfl
theorem q218 : (Jvm.Cond.instanceMethod ({ cls := "SaidSo$Case", name := "<init>", desc := "()V" } : Jvm.MethodName)) ∈ lw_all := lw_g (lw_at lw_m1 80 rfl) rfl
theorem q219 : (Jvm.Cond.code ({ cls := "SaidSo$Case", name := "<init>", desc := "()V" } : Jvm.MethodName) prog_3_method_1_code (1 : Nat) (Option.none : Option Jvm.ClassFile.FieldType)) ∈ lw_all := lw_g (lw_at lw_m1 81 rfl) rfl
theorem q220 : (Jvm.Cond.methodLink "SaidSo$Case" (3 : Nat) ({ cls := "java/lang/Object", name := "<init>", desc := "()V" } : Jvm.MethodName)) ∈ lw_all := lw_g (lw_at lw_m1 82 rfl) rfl
theorem q221 : (Jvm.Cond.classLink "SaidSo$Case" (9 : Nat) "java/util/ArrayList") ∈ lw_all := lw_g (lw_at lw_m1 83 rfl) rfl
theorem q223 : (Jvm.Cond.methodLink "SaidSo$Case" (11 : Nat) ({ cls := "java/util/ArrayList", name := "<init>", desc := "(I)V" } : Jvm.MethodName)) ∈ lw_all := lw_g (lw_at lw_m1 85 rfl) rfl
theorem q249 : (Jvm.Cond.classLink "SaidSo$Case" (29 : Nat) "SaidSo$Part") ∈ lw_all := lw_g (lw_at lw_m1 111 rfl) rfl
theorem q251 : (Jvm.Cond.fieldLink "SaidSo$Case" (14 : Nat) "SaidSo$Case" "things" "Ljava/util/ArrayList;") ∈ lw_all := lw_g (lw_at lw_m1 113 rfl) rfl
theorem q256 : (Jvm.Cond.fieldLink "SaidSo$Case" (20 : Nat) "SaidSo$Case" "tellers" "Ljava/util/ArrayList;") ∈ lw_all := lw_g (lw_at lw_m1 118 rfl) rfl
theorem q259 : (Jvm.Cond.fieldLink "SaidSo$Case" (23 : Nat) "SaidSo$Case" "lines" "Ljava/util/ArrayList;") ∈ lw_all := lw_g (lw_at lw_m1 121 rfl) rfl
theorem q262 : (Jvm.Cond.fieldLink "SaidSo$Case" (26 : Nat) "SaidSo$Case" "pages" "Ljava/util/ArrayList;") ∈ lw_all := lw_g (lw_at lw_m1 124 rfl) rfl
theorem q265 : (Jvm.Cond.fieldLink "SaidSo$Case" (31 : Nat) "SaidSo$Case" "parts" "[LSaidSo$Part;") ∈ lw_all := lw_g (lw_at lw_m1 127 rfl) rfl
theorem q272 : (Jvm.Cond.laysFinal "SaidSo$Case" "SaidSo$Case" "things" "Ljava/util/ArrayList;") ∈ lw_all := lw_g (lw_at lw_m1 134 rfl) rfl
theorem q273 : (Jvm.Cond.soleField "SaidSo$Case" "things") ∈ lw_all := lw_g (lw_at lw_m1 135 rfl) rfl
theorem q274 : (Jvm.Cond.laysFinal "SaidSo$Case" "SaidSo$Case" "tellers" "Ljava/util/ArrayList;") ∈ lw_all := lw_g (lw_at lw_m1 136 rfl) rfl
theorem q275 : (Jvm.Cond.soleField "SaidSo$Case" "tellers") ∈ lw_all := lw_g (lw_at lw_m1 137 rfl) rfl
theorem q276 : (Jvm.Cond.laysFinal "SaidSo$Case" "SaidSo$Case" "lines" "Ljava/util/ArrayList;") ∈ lw_all := lw_g (lw_at lw_m1 138 rfl) rfl
theorem q277 : (Jvm.Cond.soleField "SaidSo$Case" "lines") ∈ lw_all := lw_g (lw_at lw_m1 139 rfl) rfl
theorem q278 : (Jvm.Cond.laysFinal "SaidSo$Case" "SaidSo$Case" "pages" "Ljava/util/ArrayList;") ∈ lw_all := lw_g (lw_at lw_m1 140 rfl) rfl
theorem q279 : (Jvm.Cond.soleField "SaidSo$Case" "pages") ∈ lw_all := lw_g (lw_at lw_m1 141 rfl) rfl
theorem q280 : (Jvm.Cond.laysFinal "SaidSo$Case" "SaidSo$Case" "parts" "[LSaidSo$Part;") ∈ lw_all := lw_g (lw_at lw_m1 142 rfl) rfl
theorem q281 : (Jvm.Cond.soleField "SaidSo$Case" "parts") ∈ lw_all := lw_g (lw_at lw_m1 143 rfl) rfl
theorem q282 : (Jvm.Cond.lays "SaidSo$Case" "SaidSo$Case" "many" "I") ∈ lw_all := lw_g (lw_at lw_m1 144 rfl) rfl
theorem q283 : (Jvm.Cond.soleField "SaidSo$Case" "many") ∈ lw_all := lw_g (lw_at lw_m1 145 rfl) rfl
theorem q284 : (Jvm.Cond.lays "SaidSo$Case" "SaidSo$Case" "knots" "I") ∈ lw_all := lw_g (lw_at lw_m1 146 rfl) rfl
theorem q285 : (Jvm.Cond.soleField "SaidSo$Case" "knots") ∈ lw_all := lw_g (lw_at lw_m1 147 rfl) rfl
theorem q286 : (Jvm.Cond.superclass "SaidSo$Case" "java/lang/Object") ∈ lw_all := lw_g (lw_at lw_m1 148 rfl) rfl
theorem q603 : (Jvm.Cond.instanceMethod ({ cls := "SaidSo$Case", name := "thing", desc := "(I)I" } : Jvm.MethodName)) ∈ lw_all := lw_g (lw_at lw_m2 225 rfl) rfl
theorem q604 : (Jvm.Cond.selects "SaidSo$Case" ({ cls := "SaidSo$Case", name := "thing", desc := "(I)I" } : Jvm.MethodName) ({ cls := "SaidSo$Case", name := "thing", desc := "(I)I" } : Jvm.MethodName)) ∈ lw_all := lw_g (lw_at lw_m2 226 rfl) rfl
theorem q605 : (Jvm.Cond.code ({ cls := "SaidSo$Case", name := "thing", desc := "(I)I" } : Jvm.MethodName) prog_3_method_2_code (3 : Nat) (Option.some Jvm.ClassFile.FieldType.int)) ∈ lw_all := lw_g (lw_at lw_m2 227 rfl) rfl
theorem q606 : (Jvm.Cond.methodLink "SaidSo$Case" (35 : Nat) ({ cls := "java/util/ArrayList", name := "size", desc := "()I" } : Jvm.MethodName)) ∈ lw_all := lw_g (lw_at lw_m2 228 rfl) rfl
theorem q607 : (Jvm.Cond.methodLink "SaidSo$Case" (39 : Nat) ({ cls := "java/util/ArrayList", name := "get", desc := "(I)Ljava/lang/Object;" } : Jvm.MethodName)) ∈ lw_all := lw_g (lw_at lw_m2 229 rfl) rfl
theorem q619 : (Jvm.Cond.classLink "SaidSo$Case" (43 : Nat) "SaidSo$Thing") ∈ lw_all := lw_g (lw_at lw_m3 1 rfl) rfl
theorem q621 : (Jvm.Cond.instanceMethod ({ cls := "SaidSo$Case", name := "teller", desc := "(I)I" } : Jvm.MethodName)) ∈ lw_all := lw_g (lw_at lw_m3 3 rfl) rfl
theorem q622 : (Jvm.Cond.selects "SaidSo$Case" ({ cls := "SaidSo$Case", name := "teller", desc := "(I)I" } : Jvm.MethodName) ({ cls := "SaidSo$Case", name := "teller", desc := "(I)I" } : Jvm.MethodName)) ∈ lw_all := lw_g (lw_at lw_m3 4 rfl) rfl
theorem q623 : (Jvm.Cond.code ({ cls := "SaidSo$Case", name := "teller", desc := "(I)I" } : Jvm.MethodName) prog_3_method_3_code (3 : Nat) (Option.some Jvm.ClassFile.FieldType.int)) ∈ lw_all := lw_g (lw_at lw_m3 5 rfl) rfl
theorem q624 : (Jvm.Cond.classLink "SaidSo$Case" (49 : Nat) "SaidSo$Teller") ∈ lw_all := lw_g (lw_at lw_m3 6 rfl) rfl
theorem q640 : (Jvm.Cond.fieldLinkNest "SaidSo$Case" (45 : Nat) "SaidSo$Thing" "name" "I" "SaidSo") ∈ lw_tbl := lw_at lw_m3 22 rfl
theorem q698 : (Jvm.Cond.selects "SaidSo$Case" ({ cls := "java/lang/Object", name := "getClass", desc := "()Ljava/lang/Class;" } : Jvm.MethodName) ({ cls := "java/lang/Object", name := "getClass", desc := "()Ljava/lang/Class;" } : Jvm.MethodName)) ∈ lw_all := lw_g (lw_at lw_m3 80 rfl) rfl
theorem q737 : (Jvm.Cond.fieldLinkNest "SaidSo$Case" (51 : Nat) "SaidSo$Teller" "name" "I" "SaidSo") ∈ lw_tbl := lw_at lw_m3 119 rfl
theorem q741 : (Jvm.Cond.fieldLinkNest "SaidSo$Case" (52 : Nat) "SaidSo$Teller" "begins" "I" "SaidSo") ∈ lw_tbl := lw_at lw_m3 123 rfl
theorem q772 : (Jvm.Cond.instanceMethod ({ cls := "SaidSo$Case", name := "latest", desc := "(I)I" } : Jvm.MethodName)) ∈ lw_all := lw_g (lw_at lw_m3 154 rfl) rfl
theorem q773 : (Jvm.Cond.selects "SaidSo$Case" ({ cls := "SaidSo$Case", name := "latest", desc := "(I)I" } : Jvm.MethodName) ({ cls := "SaidSo$Case", name := "latest", desc := "(I)I" } : Jvm.MethodName)) ∈ lw_all := lw_g (lw_at lw_m3 155 rfl) rfl
theorem q774 : (Jvm.Cond.code ({ cls := "SaidSo$Case", name := "latest", desc := "(I)I" } : Jvm.MethodName) prog_3_method_4_code (4 : Nat) (Option.some Jvm.ClassFile.FieldType.int)) ∈ lw_all := lw_g (lw_at lw_m3 156 rfl) rfl
theorem q775 : (Jvm.Cond.classLink "SaidSo$Case" (55 : Nat) "SaidSo$Line") ∈ lw_all := lw_g (lw_at lw_m3 157 rfl) rfl
theorem q798 : (Jvm.Cond.fieldLink "SaidSo$Case" (57 : Nat) "SaidSo$Line" "whose" "I") ∈ lw_all := lw_g (lw_at lw_m3 180 rfl) rfl
theorem q807 : (Jvm.Cond.fieldLink "SaidSo$Case" (60 : Nat) "SaidSo$Line" "hour" "I") ∈ lw_all := lw_g (lw_at lw_m3 189 rfl) rfl
theorem q2080 : (Jvm.Cond.castable "SaidSo$Case" "java/lang/Object") ∈ lw_tbl := lw_at lw_m9 22 rfl
theorem in_X3 : ∀ w ∈ wsX30, w ∈ lw_all := lw_in wsX30 [272, 274, 276, 278, 280, 282, 284] (by decide +kernel) (by decide +kernel)

/-! java/util/AbstractCollection -/
set_option maxRecDepth 100000
def RJ0 : String := "java/util/AbstractCollection"
abbrev cJ0_init : ByteArray := prog_38_method_1_code
def yJ0_init : MethodName := ⟨RJ0, "<init>", "()V"⟩
theorem dJ0_init_0 : decode cJ0_init 0 = .ok (.aload_n 0, 1) := by decide +kernel
theorem dJ0_init_1 : decode cJ0_init 1 = .ok (.invokespecial 1, 3) := by decide +kernel
theorem dJ0_init_4 : decode cJ0_init 4 = .ok (.return_, 1) := by decide +kernel
theorem q142 : (Jvm.Cond.initialized "java/util/AbstractCollection") ∈ lw_all := lw_g (lw_at lw_m1 4 rfl) rfl
theorem q230 : (Jvm.Cond.instanceMethod ({ cls := "java/util/AbstractCollection", name := "<init>", desc := "()V" } : Jvm.MethodName)) ∈ lw_all := lw_g (lw_at lw_m1 92 rfl) rfl
theorem q231 : (Jvm.Cond.code ({ cls := "java/util/AbstractCollection", name := "<init>", desc := "()V" } : Jvm.MethodName) prog_38_method_1_code (1 : Nat) (Option.none : Option Jvm.ClassFile.FieldType)) ∈ lw_all := lw_g (lw_at lw_m1 93 rfl) rfl
theorem q232 : (Jvm.Cond.methodLink "java/util/AbstractCollection" (1 : Nat) ({ cls := "java/lang/Object", name := "<init>", desc := "()V" } : Jvm.MethodName)) ∈ lw_all := lw_g (lw_at lw_m1 94 rfl) rfl

/-! java/util/AbstractList -/
set_option maxRecDepth 100000
def RJ1 : String := "java/util/AbstractList"
abbrev cJ1_init : ByteArray := prog_39_method_1_code
def yJ1_init : MethodName := ⟨RJ1, "<init>", "()V"⟩
def dkwJ1_init_0 : List UInt8 := [42, 183, 0, 1, 42, 3, 181, 0, 7, 177]
abbrev dktJ1_init_0 : List UInt8 := dkwJ1_init_0 ++ []
theorem dksJ1_init_0 : cJ1_init.data.toList.drop 0 = dktJ1_init_0 := by decide +kernel
theorem dJ1_init_0 : decode cJ1_init 0 = .ok (.aload_n 0, 1) := dk_42 (dk_at dksJ1_init_0 0 rfl rfl)
theorem dJ1_init_1 : decode cJ1_init 1 = .ok (.invokespecial 1, 3) := dk_183 0 1 (dk_at dksJ1_init_0 1 rfl rfl)
theorem dJ1_init_4 : decode cJ1_init 4 = .ok (.aload_n 0, 1) := dk_42 (dk_at dksJ1_init_0 4 rfl rfl)
theorem dJ1_init_5 : decode cJ1_init 5 = .ok (.iconst 0, 1) := dk_3 (dk_at dksJ1_init_0 5 rfl rfl)
theorem dJ1_init_6 : decode cJ1_init 6 = .ok (.putfield 7, 3) := dk_181 0 7 (dk_at dksJ1_init_0 6 rfl rfl)
theorem dJ1_init_9 : decode cJ1_init 9 = .ok (.return_, 1) := dk_177 (dk_at dksJ1_init_0 9 rfl rfl)
theorem q143 : (Jvm.Cond.initialized "java/util/AbstractList") ∈ lw_all := lw_g (lw_at lw_m1 5 rfl) rfl
theorem q227 : (Jvm.Cond.instanceMethod ({ cls := "java/util/AbstractList", name := "<init>", desc := "()V" } : Jvm.MethodName)) ∈ lw_all := lw_g (lw_at lw_m1 89 rfl) rfl
theorem q228 : (Jvm.Cond.code ({ cls := "java/util/AbstractList", name := "<init>", desc := "()V" } : Jvm.MethodName) prog_39_method_1_code (1 : Nat) (Option.none : Option Jvm.ClassFile.FieldType)) ∈ lw_all := lw_g (lw_at lw_m1 90 rfl) rfl
theorem q229 : (Jvm.Cond.methodLink "java/util/AbstractList" (1 : Nat) ({ cls := "java/util/AbstractCollection", name := "<init>", desc := "()V" } : Jvm.MethodName)) ∈ lw_all := lw_g (lw_at lw_m1 91 rfl) rfl
theorem q239 : (Jvm.Cond.fieldLink "java/util/AbstractList" (7 : Nat) "java/util/AbstractList" "modCount" "I") ∈ lw_all := lw_g (lw_at lw_m1 101 rfl) rfl
theorem q247 : (Jvm.Cond.soleField "java/util/AbstractList" "modCount") ∈ lw_all := lw_g (lw_at lw_m1 109 rfl) rfl

/-! java/util/ArrayList -/
set_option maxRecDepth 100000
def RJ2 : String := "java/util/ArrayList"
def TJ2 : u_T := fun k => match k with
  | 0 => ("java/util/AbstractList", "modCount", "I", false)
  | 1 => ("java/util/ArrayList", "elementData", "[Ljava/lang/Object;", false)
  | _ => ("java/util/ArrayList", "size", "I", false)
def tyJ2 : Nat → FieldType := fun k => match k with
  | 0 => .int
  | 1 => .array (.object "java/lang/Object")
  | _ => .int
abbrev wsJ20 : List Cond := u_ws RJ2 TJ2 3
theorem nmJ2 : ∀ a, a < 3 → ∀ b, b < 3 → a ≠ b → (TJ2 a).2.1 ≠ (TJ2 b).2.1 := by decide +kernel
theorem tyJ2_ok : ∀ k, k < 3 → parseFieldDescriptor (TJ2 k).2.2.1 = some (tyJ2 k) := by decide +kernel
abbrev cJ2_init : ByteArray := prog_40_method_1_code
def yJ2_init : MethodName := ⟨RJ2, "<init>", "(I)V"⟩
def dkwJ2_init_2 : List UInt8 := [182, 0, 25, 27, 182, 0, 29, 182, 0, 32, 183, 0, 36, 191, 177]
abbrev dktJ2_init_2 : List UInt8 := dkwJ2_init_2 ++ []
def dkwJ2_init_1 : List UInt8 := [178, 0, 15, 181, 0, 9, 167, 0, 30, 187, 0, 18, 89, 187, 0, 20, 89, 183, 0, 22, 18, 23]
abbrev dktJ2_init_1 : List UInt8 := dkwJ2_init_1 ++ dktJ2_init_2
def dkwJ2_init_0 : List UInt8 := [42, 183, 0, 1, 27, 158, 0, 14, 42, 27, 189, 0, 7, 181, 0, 9, 167, 0, 44, 27, 154, 0, 13, 42]
abbrev dktJ2_init_0 : List UInt8 := dkwJ2_init_0 ++ dktJ2_init_1
theorem dksJ2_init_0 : cJ2_init.data.toList.drop 0 = dktJ2_init_0 := by decide +kernel
theorem dksJ2_init_1 : cJ2_init.data.toList.drop 24 = dktJ2_init_1 := dk_seg dksJ2_init_0 24 rfl rfl
theorem dksJ2_init_2 : cJ2_init.data.toList.drop 46 = dktJ2_init_2 := dk_seg dksJ2_init_1 22 rfl rfl
theorem dJ2_init_0 : decode cJ2_init 0 = .ok (.aload_n 0, 1) := dk_42 (dk_at dksJ2_init_0 0 rfl rfl)
theorem dJ2_init_1 : decode cJ2_init 1 = .ok (.invokespecial 1, 3) := dk_183 0 1 (dk_at dksJ2_init_0 1 rfl rfl)
theorem dJ2_init_4 : decode cJ2_init 4 = .ok (.iload_n 1, 1) := dk_27 (dk_at dksJ2_init_0 4 rfl rfl)
theorem dJ2_init_5 : decode cJ2_init 5 = .ok (.ifCond .le 14, 3) := dk_158 0 14 (dk_at dksJ2_init_0 5 rfl rfl)
theorem dJ2_init_8 : decode cJ2_init 8 = .ok (.aload_n 0, 1) := dk_42 (dk_at dksJ2_init_0 8 rfl rfl)
theorem dJ2_init_9 : decode cJ2_init 9 = .ok (.iload_n 1, 1) := dk_27 (dk_at dksJ2_init_0 9 rfl rfl)
theorem dJ2_init_10 : decode cJ2_init 10 = .ok (.anewarray 7, 3) := dk_189 0 7 (dk_at dksJ2_init_0 10 rfl rfl)
theorem dJ2_init_13 : decode cJ2_init 13 = .ok (.putfield 9, 3) := dk_181 0 9 (dk_at dksJ2_init_0 13 rfl rfl)
theorem dJ2_init_16 : decode cJ2_init 16 = .ok (.goto 44, 3) := dk_167 0 44 (dk_at dksJ2_init_0 16 rfl rfl)
theorem dJ2_init_19 : decode cJ2_init 19 = .ok (.iload_n 1, 1) := dk_27 (dk_at dksJ2_init_0 19 rfl rfl)
theorem dJ2_init_20 : decode cJ2_init 20 = .ok (.ifCond .ne 13, 3) := dk_154 0 13 (dk_at dksJ2_init_0 20 rfl rfl)
theorem dJ2_init_23 : decode cJ2_init 23 = .ok (.aload_n 0, 1) := dk_42 (dk_at dksJ2_init_0 23 rfl rfl)
theorem dJ2_init_24 : decode cJ2_init 24 = .ok (.getstatic 15, 3) := dk_178 0 15 (dk_at dksJ2_init_1 0 rfl rfl)
theorem dJ2_init_27 : decode cJ2_init 27 = .ok (.putfield 9, 3) := dk_181 0 9 (dk_at dksJ2_init_1 3 rfl rfl)
theorem dJ2_init_30 : decode cJ2_init 30 = .ok (.goto 30, 3) := dk_167 0 30 (dk_at dksJ2_init_1 6 rfl rfl)
theorem dJ2_init_33 : decode cJ2_init 33 = .ok (.new 18, 3) := dk_187 0 18 (dk_at dksJ2_init_1 9 rfl rfl)
theorem dJ2_init_36 : decode cJ2_init 36 = .ok (.dup, 1) := dk_89 (dk_at dksJ2_init_1 12 rfl rfl)
theorem dJ2_init_37 : decode cJ2_init 37 = .ok (.new 20, 3) := dk_187 0 20 (dk_at dksJ2_init_1 13 rfl rfl)
theorem dJ2_init_40 : decode cJ2_init 40 = .ok (.dup, 1) := dk_89 (dk_at dksJ2_init_1 16 rfl rfl)
theorem dJ2_init_41 : decode cJ2_init 41 = .ok (.invokespecial 22, 3) := dk_183 0 22 (dk_at dksJ2_init_1 17 rfl rfl)
theorem dJ2_init_44 : decode cJ2_init 44 = .ok (.ldc 23, 2) := dk_18 23 (dk_at dksJ2_init_1 20 rfl rfl)
theorem dJ2_init_46 : decode cJ2_init 46 = .ok (.invokevirtual 25, 3) := dk_182 0 25 (dk_at dksJ2_init_2 0 rfl rfl)
theorem dJ2_init_49 : decode cJ2_init 49 = .ok (.iload_n 1, 1) := dk_27 (dk_at dksJ2_init_2 3 rfl rfl)
theorem dJ2_init_50 : decode cJ2_init 50 = .ok (.invokevirtual 29, 3) := dk_182 0 29 (dk_at dksJ2_init_2 4 rfl rfl)
theorem dJ2_init_53 : decode cJ2_init 53 = .ok (.invokevirtual 32, 3) := dk_182 0 32 (dk_at dksJ2_init_2 7 rfl rfl)
theorem dJ2_init_56 : decode cJ2_init 56 = .ok (.invokespecial 36, 3) := dk_183 0 36 (dk_at dksJ2_init_2 10 rfl rfl)
theorem dJ2_init_59 : decode cJ2_init 59 = .ok (.athrow, 1) := dk_191 (dk_at dksJ2_init_2 13 rfl rfl)
theorem dJ2_init_60 : decode cJ2_init 60 = .ok (.return_, 1) := dk_177 (dk_at dksJ2_init_2 14 rfl rfl)
abbrev cJ2_size : ByteArray := prog_40_method_8_code
def yJ2_size : MethodName := ⟨RJ2, "size", "()I"⟩
theorem dJ2_size_0 : decode cJ2_size 0 = .ok (.aload_n 0, 1) := by decide +kernel
theorem dJ2_size_1 : decode cJ2_size 1 = .ok (.getfield 48, 3) := by decide +kernel
theorem dJ2_size_4 : decode cJ2_size 4 = .ok (.ireturn, 1) := by decide +kernel
abbrev cJ2_get : ByteArray := prog_40_method_20_code
def yJ2_get : MethodName := ⟨RJ2, "get", "(I)Ljava/lang/Object;"⟩
def dkwJ2_get_0 : List UInt8 := [27, 42, 180, 0, 48, 184, 0, 118, 87, 42, 27, 182, 0, 123, 176]
abbrev dktJ2_get_0 : List UInt8 := dkwJ2_get_0 ++ []
theorem dksJ2_get_0 : cJ2_get.data.toList.drop 0 = dktJ2_get_0 := by decide +kernel
theorem dJ2_get_0 : decode cJ2_get 0 = .ok (.iload_n 1, 1) := dk_27 (dk_at dksJ2_get_0 0 rfl rfl)
theorem dJ2_get_1 : decode cJ2_get 1 = .ok (.aload_n 0, 1) := dk_42 (dk_at dksJ2_get_0 1 rfl rfl)
theorem dJ2_get_2 : decode cJ2_get 2 = .ok (.getfield 48, 3) := dk_180 0 48 (dk_at dksJ2_get_0 2 rfl rfl)
theorem dJ2_get_5 : decode cJ2_get 5 = .ok (.invokestatic 118, 3) := dk_184 0 118 (dk_at dksJ2_get_0 5 rfl rfl)
theorem dJ2_get_8 : decode cJ2_get 8 = .ok (.pop, 1) := dk_87 (dk_at dksJ2_get_0 8 rfl rfl)
theorem dJ2_get_9 : decode cJ2_get 9 = .ok (.aload_n 0, 1) := dk_42 (dk_at dksJ2_get_0 9 rfl rfl)
theorem dJ2_get_10 : decode cJ2_get 10 = .ok (.iload_n 1, 1) := dk_27 (dk_at dksJ2_get_0 10 rfl rfl)
theorem dJ2_get_11 : decode cJ2_get 11 = .ok (.invokevirtual 123, 3) := dk_182 0 123 (dk_at dksJ2_get_0 11 rfl rfl)
theorem dJ2_get_14 : decode cJ2_get 14 = .ok (.areturn, 1) := dk_176 (dk_at dksJ2_get_0 14 rfl rfl)
abbrev cJ2_elementData : ByteArray := prog_40_method_18_code
def yJ2_elementData : MethodName := ⟨RJ2, "elementData", "(I)Ljava/lang/Object;"⟩
def dkwJ2_elementData_0 : List UInt8 := [42, 180, 0, 9, 27, 50, 176]
abbrev dktJ2_elementData_0 : List UInt8 := dkwJ2_elementData_0 ++ []
theorem dksJ2_elementData_0 : cJ2_elementData.data.toList.drop 0 = dktJ2_elementData_0 := by decide +kernel
theorem dJ2_elementData_0 : decode cJ2_elementData 0 = .ok (.aload_n 0, 1) := dk_42 (dk_at dksJ2_elementData_0 0 rfl rfl)
theorem dJ2_elementData_1 : decode cJ2_elementData 1 = .ok (.getfield 9, 3) := dk_180 0 9 (dk_at dksJ2_elementData_0 1 rfl rfl)
theorem dJ2_elementData_4 : decode cJ2_elementData 4 = .ok (.iload_n 1, 1) := dk_27 (dk_at dksJ2_elementData_0 4 rfl rfl)
theorem dJ2_elementData_5 : decode cJ2_elementData 5 = .ok (.aaload, 1) := dk_50 (dk_at dksJ2_elementData_0 5 rfl rfl)
theorem dJ2_elementData_6 : decode cJ2_elementData 6 = .ok (.areturn, 1) := dk_176 (dk_at dksJ2_elementData_0 6 rfl rfl)
abbrev cJ2_add : ByteArray := prog_40_method_25_code
def yJ2_add : MethodName := ⟨RJ2, "add", "(Ljava/lang/Object;)Z"⟩
def dkwJ2_add_1 : List UInt8 := [172]
abbrev dktJ2_add_1 : List UInt8 := dkwJ2_add_1 ++ []
def dkwJ2_add_0 : List UInt8 := [42, 89, 180, 0, 63, 4, 96, 181, 0, 63, 42, 43, 42, 180, 0, 9, 42, 180, 0, 48, 182, 0, 131, 4]
abbrev dktJ2_add_0 : List UInt8 := dkwJ2_add_0 ++ dktJ2_add_1
theorem dksJ2_add_0 : cJ2_add.data.toList.drop 0 = dktJ2_add_0 := by decide +kernel
theorem dksJ2_add_1 : cJ2_add.data.toList.drop 24 = dktJ2_add_1 := dk_seg dksJ2_add_0 24 rfl rfl
theorem dJ2_add_0 : decode cJ2_add 0 = .ok (.aload_n 0, 1) := dk_42 (dk_at dksJ2_add_0 0 rfl rfl)
theorem dJ2_add_1 : decode cJ2_add 1 = .ok (.dup, 1) := dk_89 (dk_at dksJ2_add_0 1 rfl rfl)
theorem dJ2_add_2 : decode cJ2_add 2 = .ok (.getfield 63, 3) := dk_180 0 63 (dk_at dksJ2_add_0 2 rfl rfl)
theorem dJ2_add_5 : decode cJ2_add 5 = .ok (.iconst 1, 1) := dk_4 (dk_at dksJ2_add_0 5 rfl rfl)
theorem dJ2_add_6 : decode cJ2_add 6 = .ok (.iadd, 1) := dk_96 (dk_at dksJ2_add_0 6 rfl rfl)
theorem dJ2_add_7 : decode cJ2_add 7 = .ok (.putfield 63, 3) := dk_181 0 63 (dk_at dksJ2_add_0 7 rfl rfl)
theorem dJ2_add_10 : decode cJ2_add 10 = .ok (.aload_n 0, 1) := dk_42 (dk_at dksJ2_add_0 10 rfl rfl)
theorem dJ2_add_11 : decode cJ2_add 11 = .ok (.aload_n 1, 1) := dk_43 (dk_at dksJ2_add_0 11 rfl rfl)
theorem dJ2_add_12 : decode cJ2_add 12 = .ok (.aload_n 0, 1) := dk_42 (dk_at dksJ2_add_0 12 rfl rfl)
theorem dJ2_add_13 : decode cJ2_add 13 = .ok (.getfield 9, 3) := dk_180 0 9 (dk_at dksJ2_add_0 13 rfl rfl)
theorem dJ2_add_16 : decode cJ2_add 16 = .ok (.aload_n 0, 1) := dk_42 (dk_at dksJ2_add_0 16 rfl rfl)
theorem dJ2_add_17 : decode cJ2_add 17 = .ok (.getfield 48, 3) := dk_180 0 48 (dk_at dksJ2_add_0 17 rfl rfl)
theorem dJ2_add_20 : decode cJ2_add 20 = .ok (.invokevirtual 131, 3) := dk_182 0 131 (dk_at dksJ2_add_0 20 rfl rfl)
theorem dJ2_add_23 : decode cJ2_add 23 = .ok (.iconst 1, 1) := dk_4 (dk_at dksJ2_add_0 23 rfl rfl)
theorem dJ2_add_24 : decode cJ2_add 24 = .ok (.ireturn, 1) := dk_172 (dk_at dksJ2_add_1 0 rfl rfl)
abbrev cJ2_add_2 : ByteArray := prog_40_method_24_code
def yJ2_add_2 : MethodName := ⟨RJ2, "add", "(Ljava/lang/Object;[Ljava/lang/Object;I)V"⟩
def dkwJ2_add_2_0 : List UInt8 := [29, 44, 190, 160, 0, 8, 42, 182, 0, 129, 77, 44, 29, 43, 83, 42, 29, 4, 96, 181, 0, 48, 177]
abbrev dktJ2_add_2_0 : List UInt8 := dkwJ2_add_2_0 ++ []
theorem dksJ2_add_2_0 : cJ2_add_2.data.toList.drop 0 = dktJ2_add_2_0 := by decide +kernel
theorem dJ2_add_2_0 : decode cJ2_add_2 0 = .ok (.iload_n 3, 1) := dk_29 (dk_at dksJ2_add_2_0 0 rfl rfl)
theorem dJ2_add_2_1 : decode cJ2_add_2 1 = .ok (.aload_n 2, 1) := dk_44 (dk_at dksJ2_add_2_0 1 rfl rfl)
theorem dJ2_add_2_2 : decode cJ2_add_2 2 = .ok (.arraylength, 1) := dk_190 (dk_at dksJ2_add_2_0 2 rfl rfl)
theorem dJ2_add_2_3 : decode cJ2_add_2 3 = .ok (.if_icmp .ne 8, 3) := dk_160 0 8 (dk_at dksJ2_add_2_0 3 rfl rfl)
theorem dJ2_add_2_6 : decode cJ2_add_2 6 = .ok (.aload_n 0, 1) := dk_42 (dk_at dksJ2_add_2_0 6 rfl rfl)
theorem dJ2_add_2_7 : decode cJ2_add_2 7 = .ok (.invokevirtual 129, 3) := dk_182 0 129 (dk_at dksJ2_add_2_0 7 rfl rfl)
theorem dJ2_add_2_10 : decode cJ2_add_2 10 = .ok (.astore_n 2, 1) := dk_77 (dk_at dksJ2_add_2_0 10 rfl rfl)
theorem dJ2_add_2_11 : decode cJ2_add_2 11 = .ok (.aload_n 2, 1) := dk_44 (dk_at dksJ2_add_2_0 11 rfl rfl)
theorem dJ2_add_2_12 : decode cJ2_add_2 12 = .ok (.iload_n 3, 1) := dk_29 (dk_at dksJ2_add_2_0 12 rfl rfl)
theorem dJ2_add_2_13 : decode cJ2_add_2 13 = .ok (.aload_n 1, 1) := dk_43 (dk_at dksJ2_add_2_0 13 rfl rfl)
theorem dJ2_add_2_14 : decode cJ2_add_2 14 = .ok (.aastore, 1) := dk_83 (dk_at dksJ2_add_2_0 14 rfl rfl)
theorem dJ2_add_2_15 : decode cJ2_add_2 15 = .ok (.aload_n 0, 1) := dk_42 (dk_at dksJ2_add_2_0 15 rfl rfl)
theorem dJ2_add_2_16 : decode cJ2_add_2 16 = .ok (.iload_n 3, 1) := dk_29 (dk_at dksJ2_add_2_0 16 rfl rfl)
theorem dJ2_add_2_17 : decode cJ2_add_2 17 = .ok (.iconst 1, 1) := dk_4 (dk_at dksJ2_add_2_0 17 rfl rfl)
theorem dJ2_add_2_18 : decode cJ2_add_2 18 = .ok (.iadd, 1) := dk_96 (dk_at dksJ2_add_2_0 18 rfl rfl)
theorem dJ2_add_2_19 : decode cJ2_add_2 19 = .ok (.putfield 48, 3) := dk_181 0 48 (dk_at dksJ2_add_2_0 19 rfl rfl)
theorem dJ2_add_2_22 : decode cJ2_add_2 22 = .ok (.return_, 1) := dk_177 (dk_at dksJ2_add_2_0 22 rfl rfl)
abbrev cJ2_grow : ByteArray := prog_40_method_7_code
def yJ2_grow : MethodName := ⟨RJ2, "grow", "()[Ljava/lang/Object;"⟩
def dkwJ2_grow_0 : List UInt8 := [42, 42, 180, 0, 48, 4, 96, 182, 0, 69, 176]
abbrev dktJ2_grow_0 : List UInt8 := dkwJ2_grow_0 ++ []
theorem dksJ2_grow_0 : cJ2_grow.data.toList.drop 0 = dktJ2_grow_0 := by decide +kernel
theorem dJ2_grow_0 : decode cJ2_grow 0 = .ok (.aload_n 0, 1) := dk_42 (dk_at dksJ2_grow_0 0 rfl rfl)
theorem dJ2_grow_1 : decode cJ2_grow 1 = .ok (.aload_n 0, 1) := dk_42 (dk_at dksJ2_grow_0 1 rfl rfl)
theorem dJ2_grow_2 : decode cJ2_grow 2 = .ok (.getfield 48, 3) := dk_180 0 48 (dk_at dksJ2_grow_0 2 rfl rfl)
theorem dJ2_grow_5 : decode cJ2_grow 5 = .ok (.iconst 1, 1) := dk_4 (dk_at dksJ2_grow_0 5 rfl rfl)
theorem dJ2_grow_6 : decode cJ2_grow 6 = .ok (.iadd, 1) := dk_96 (dk_at dksJ2_grow_0 6 rfl rfl)
theorem dJ2_grow_7 : decode cJ2_grow 7 = .ok (.invokevirtual 69, 3) := dk_182 0 69 (dk_at dksJ2_grow_0 7 rfl rfl)
theorem dJ2_grow_10 : decode cJ2_grow 10 = .ok (.areturn, 1) := dk_176 (dk_at dksJ2_grow_0 10 rfl rfl)
abbrev cJ2_grow_2 : ByteArray := prog_40_method_6_code
def yJ2_grow_2 : MethodName := ⟨RJ2, "grow", "(I)[Ljava/lang/Object;"⟩
def dkwJ2_grow_2_2 : List UInt8 := [27, 184, 0, 79, 189, 0, 7, 90, 181, 0, 9, 176]
abbrev dktJ2_grow_2_2 : List UInt8 := dkwJ2_grow_2_2 ++ []
def dkwJ2_grow_2_1 : List UInt8 := [28, 4, 122, 184, 0, 73, 62, 42, 42, 180, 0, 9, 29, 184, 0, 66, 90, 181, 0, 9, 176, 42, 16, 10]
abbrev dktJ2_grow_2_1 : List UInt8 := dkwJ2_grow_2_1 ++ dktJ2_grow_2_2
def dkwJ2_grow_2_0 : List UInt8 := [42, 180, 0, 9, 190, 61, 28, 157, 0, 13, 42, 180, 0, 9, 178, 0, 39, 165, 0, 28, 28, 27, 28, 100]
abbrev dktJ2_grow_2_0 : List UInt8 := dkwJ2_grow_2_0 ++ dktJ2_grow_2_1
theorem dksJ2_grow_2_0 : cJ2_grow_2.data.toList.drop 0 = dktJ2_grow_2_0 := by decide +kernel
theorem dksJ2_grow_2_1 : cJ2_grow_2.data.toList.drop 24 = dktJ2_grow_2_1 := dk_seg dksJ2_grow_2_0 24 rfl rfl
theorem dksJ2_grow_2_2 : cJ2_grow_2.data.toList.drop 48 = dktJ2_grow_2_2 := dk_seg dksJ2_grow_2_1 24 rfl rfl
theorem dJ2_grow_2_0 : decode cJ2_grow_2 0 = .ok (.aload_n 0, 1) := dk_42 (dk_at dksJ2_grow_2_0 0 rfl rfl)
theorem dJ2_grow_2_1 : decode cJ2_grow_2 1 = .ok (.getfield 9, 3) := dk_180 0 9 (dk_at dksJ2_grow_2_0 1 rfl rfl)
theorem dJ2_grow_2_4 : decode cJ2_grow_2 4 = .ok (.arraylength, 1) := dk_190 (dk_at dksJ2_grow_2_0 4 rfl rfl)
theorem dJ2_grow_2_5 : decode cJ2_grow_2 5 = .ok (.istore_n 2, 1) := dk_61 (dk_at dksJ2_grow_2_0 5 rfl rfl)
theorem dJ2_grow_2_6 : decode cJ2_grow_2 6 = .ok (.iload_n 2, 1) := dk_28 (dk_at dksJ2_grow_2_0 6 rfl rfl)
theorem dJ2_grow_2_7 : decode cJ2_grow_2 7 = .ok (.ifCond .gt 13, 3) := dk_157 0 13 (dk_at dksJ2_grow_2_0 7 rfl rfl)
theorem dJ2_grow_2_10 : decode cJ2_grow_2 10 = .ok (.aload_n 0, 1) := dk_42 (dk_at dksJ2_grow_2_0 10 rfl rfl)
theorem dJ2_grow_2_11 : decode cJ2_grow_2 11 = .ok (.getfield 9, 3) := dk_180 0 9 (dk_at dksJ2_grow_2_0 11 rfl rfl)
theorem dJ2_grow_2_14 : decode cJ2_grow_2 14 = .ok (.getstatic 39, 3) := dk_178 0 39 (dk_at dksJ2_grow_2_0 14 rfl rfl)
theorem dJ2_grow_2_17 : decode cJ2_grow_2 17 = .ok (.if_acmp .eq 28, 3) := dk_165 0 28 (dk_at dksJ2_grow_2_0 17 rfl rfl)
theorem dJ2_grow_2_20 : decode cJ2_grow_2 20 = .ok (.iload_n 2, 1) := dk_28 (dk_at dksJ2_grow_2_0 20 rfl rfl)
theorem dJ2_grow_2_21 : decode cJ2_grow_2 21 = .ok (.iload_n 1, 1) := dk_27 (dk_at dksJ2_grow_2_0 21 rfl rfl)
theorem dJ2_grow_2_22 : decode cJ2_grow_2 22 = .ok (.iload_n 2, 1) := dk_28 (dk_at dksJ2_grow_2_0 22 rfl rfl)
theorem dJ2_grow_2_23 : decode cJ2_grow_2 23 = .ok (.isub, 1) := dk_100 (dk_at dksJ2_grow_2_0 23 rfl rfl)
theorem dJ2_grow_2_24 : decode cJ2_grow_2 24 = .ok (.iload_n 2, 1) := dk_28 (dk_at dksJ2_grow_2_1 0 rfl rfl)
theorem dJ2_grow_2_25 : decode cJ2_grow_2 25 = .ok (.iconst 1, 1) := dk_4 (dk_at dksJ2_grow_2_1 1 rfl rfl)
theorem dJ2_grow_2_26 : decode cJ2_grow_2 26 = .ok (.ishr, 1) := dk_122 (dk_at dksJ2_grow_2_1 2 rfl rfl)
theorem dJ2_grow_2_27 : decode cJ2_grow_2 27 = .ok (.invokestatic 73, 3) := dk_184 0 73 (dk_at dksJ2_grow_2_1 3 rfl rfl)
theorem dJ2_grow_2_30 : decode cJ2_grow_2 30 = .ok (.istore_n 3, 1) := dk_62 (dk_at dksJ2_grow_2_1 6 rfl rfl)
theorem dJ2_grow_2_31 : decode cJ2_grow_2 31 = .ok (.aload_n 0, 1) := dk_42 (dk_at dksJ2_grow_2_1 7 rfl rfl)
theorem dJ2_grow_2_32 : decode cJ2_grow_2 32 = .ok (.aload_n 0, 1) := dk_42 (dk_at dksJ2_grow_2_1 8 rfl rfl)
theorem dJ2_grow_2_33 : decode cJ2_grow_2 33 = .ok (.getfield 9, 3) := dk_180 0 9 (dk_at dksJ2_grow_2_1 9 rfl rfl)
theorem dJ2_grow_2_36 : decode cJ2_grow_2 36 = .ok (.iload_n 3, 1) := dk_29 (dk_at dksJ2_grow_2_1 12 rfl rfl)
theorem dJ2_grow_2_37 : decode cJ2_grow_2 37 = .ok (.invokestatic 66, 3) := dk_184 0 66 (dk_at dksJ2_grow_2_1 13 rfl rfl)
theorem dJ2_grow_2_40 : decode cJ2_grow_2 40 = .ok (.dup_x1, 1) := dk_90 (dk_at dksJ2_grow_2_1 16 rfl rfl)
theorem dJ2_grow_2_41 : decode cJ2_grow_2 41 = .ok (.putfield 9, 3) := dk_181 0 9 (dk_at dksJ2_grow_2_1 17 rfl rfl)
theorem dJ2_grow_2_44 : decode cJ2_grow_2 44 = .ok (.areturn, 1) := dk_176 (dk_at dksJ2_grow_2_1 20 rfl rfl)
theorem dJ2_grow_2_45 : decode cJ2_grow_2 45 = .ok (.aload_n 0, 1) := dk_42 (dk_at dksJ2_grow_2_1 21 rfl rfl)
theorem dJ2_grow_2_46 : decode cJ2_grow_2 46 = .ok (.bipush 10, 2) := dk_16 10 (dk_at dksJ2_grow_2_1 22 rfl rfl)
theorem dJ2_grow_2_48 : decode cJ2_grow_2 48 = .ok (.iload_n 1, 1) := dk_27 (dk_at dksJ2_grow_2_2 0 rfl rfl)
theorem dJ2_grow_2_49 : decode cJ2_grow_2 49 = .ok (.invokestatic 79, 3) := dk_184 0 79 (dk_at dksJ2_grow_2_2 1 rfl rfl)
theorem dJ2_grow_2_52 : decode cJ2_grow_2 52 = .ok (.anewarray 7, 3) := dk_189 0 7 (dk_at dksJ2_grow_2_2 4 rfl rfl)
theorem dJ2_grow_2_55 : decode cJ2_grow_2 55 = .ok (.dup_x1, 1) := dk_90 (dk_at dksJ2_grow_2_2 7 rfl rfl)
theorem dJ2_grow_2_56 : decode cJ2_grow_2 56 = .ok (.putfield 9, 3) := dk_181 0 9 (dk_at dksJ2_grow_2_2 8 rfl rfl)
theorem dJ2_grow_2_59 : decode cJ2_grow_2 59 = .ok (.areturn, 1) := dk_176 (dk_at dksJ2_grow_2_2 11 rfl rfl)
abbrev cJ2_remove : ByteArray := prog_40_method_29_code
def yJ2_remove : MethodName := ⟨RJ2, "remove", "(I)Ljava/lang/Object;"⟩
def dkwJ2_remove_1 : List UInt8 := [45, 176]
abbrev dktJ2_remove_1 : List UInt8 := dkwJ2_remove_1 ++ []
def dkwJ2_remove_0 : List UInt8 := [27, 42, 180, 0, 48, 184, 0, 118, 87, 42, 180, 0, 9, 77, 44, 27, 50, 78, 42, 44, 27, 182, 0, 144]
abbrev dktJ2_remove_0 : List UInt8 := dkwJ2_remove_0 ++ dktJ2_remove_1
theorem dksJ2_remove_0 : cJ2_remove.data.toList.drop 0 = dktJ2_remove_0 := by decide +kernel
theorem dksJ2_remove_1 : cJ2_remove.data.toList.drop 24 = dktJ2_remove_1 := dk_seg dksJ2_remove_0 24 rfl rfl
theorem dJ2_remove_0 : decode cJ2_remove 0 = .ok (.iload_n 1, 1) := dk_27 (dk_at dksJ2_remove_0 0 rfl rfl)
theorem dJ2_remove_1 : decode cJ2_remove 1 = .ok (.aload_n 0, 1) := dk_42 (dk_at dksJ2_remove_0 1 rfl rfl)
theorem dJ2_remove_2 : decode cJ2_remove 2 = .ok (.getfield 48, 3) := dk_180 0 48 (dk_at dksJ2_remove_0 2 rfl rfl)
theorem dJ2_remove_5 : decode cJ2_remove 5 = .ok (.invokestatic 118, 3) := dk_184 0 118 (dk_at dksJ2_remove_0 5 rfl rfl)
theorem dJ2_remove_8 : decode cJ2_remove 8 = .ok (.pop, 1) := dk_87 (dk_at dksJ2_remove_0 8 rfl rfl)
theorem dJ2_remove_9 : decode cJ2_remove 9 = .ok (.aload_n 0, 1) := dk_42 (dk_at dksJ2_remove_0 9 rfl rfl)
theorem dJ2_remove_10 : decode cJ2_remove 10 = .ok (.getfield 9, 3) := dk_180 0 9 (dk_at dksJ2_remove_0 10 rfl rfl)
theorem dJ2_remove_13 : decode cJ2_remove 13 = .ok (.astore_n 2, 1) := dk_77 (dk_at dksJ2_remove_0 13 rfl rfl)
theorem dJ2_remove_14 : decode cJ2_remove 14 = .ok (.aload_n 2, 1) := dk_44 (dk_at dksJ2_remove_0 14 rfl rfl)
theorem dJ2_remove_15 : decode cJ2_remove 15 = .ok (.iload_n 1, 1) := dk_27 (dk_at dksJ2_remove_0 15 rfl rfl)
theorem dJ2_remove_16 : decode cJ2_remove 16 = .ok (.aaload, 1) := dk_50 (dk_at dksJ2_remove_0 16 rfl rfl)
theorem dJ2_remove_17 : decode cJ2_remove 17 = .ok (.astore_n 3, 1) := dk_78 (dk_at dksJ2_remove_0 17 rfl rfl)
theorem dJ2_remove_18 : decode cJ2_remove 18 = .ok (.aload_n 0, 1) := dk_42 (dk_at dksJ2_remove_0 18 rfl rfl)
theorem dJ2_remove_19 : decode cJ2_remove 19 = .ok (.aload_n 2, 1) := dk_44 (dk_at dksJ2_remove_0 19 rfl rfl)
theorem dJ2_remove_20 : decode cJ2_remove 20 = .ok (.iload_n 1, 1) := dk_27 (dk_at dksJ2_remove_0 20 rfl rfl)
theorem dJ2_remove_21 : decode cJ2_remove 21 = .ok (.invokevirtual 144, 3) := dk_182 0 144 (dk_at dksJ2_remove_0 21 rfl rfl)
theorem dJ2_remove_24 : decode cJ2_remove 24 = .ok (.aload_n 3, 1) := dk_45 (dk_at dksJ2_remove_1 0 rfl rfl)
theorem dJ2_remove_25 : decode cJ2_remove 25 = .ok (.areturn, 1) := dk_176 (dk_at dksJ2_remove_1 1 rfl rfl)
abbrev cJ2_fastRemove : ByteArray := prog_40_method_39_code
def yJ2_fastRemove : MethodName := ⟨RJ2, "fastRemove", "([Ljava/lang/Object;I)V"⟩
def dkwJ2_fastRemove_1 : List UInt8 := [4, 96, 43, 28, 29, 28, 100, 184, 0, 112, 43, 42, 29, 90, 181, 0, 48, 1, 83, 177]
abbrev dktJ2_fastRemove_1 : List UInt8 := dkwJ2_fastRemove_1 ++ []
def dkwJ2_fastRemove_0 : List UInt8 := [42, 89, 180, 0, 63, 4, 96, 181, 0, 63, 42, 180, 0, 48, 4, 100, 89, 62, 28, 164, 0, 15, 43, 28]
abbrev dktJ2_fastRemove_0 : List UInt8 := dkwJ2_fastRemove_0 ++ dktJ2_fastRemove_1
theorem dksJ2_fastRemove_0 : cJ2_fastRemove.data.toList.drop 0 = dktJ2_fastRemove_0 := by decide +kernel
theorem dksJ2_fastRemove_1 : cJ2_fastRemove.data.toList.drop 24 = dktJ2_fastRemove_1 := dk_seg dksJ2_fastRemove_0 24 rfl rfl
theorem dJ2_fastRemove_0 : decode cJ2_fastRemove 0 = .ok (.aload_n 0, 1) := dk_42 (dk_at dksJ2_fastRemove_0 0 rfl rfl)
theorem dJ2_fastRemove_1 : decode cJ2_fastRemove 1 = .ok (.dup, 1) := dk_89 (dk_at dksJ2_fastRemove_0 1 rfl rfl)
theorem dJ2_fastRemove_2 : decode cJ2_fastRemove 2 = .ok (.getfield 63, 3) := dk_180 0 63 (dk_at dksJ2_fastRemove_0 2 rfl rfl)
theorem dJ2_fastRemove_5 : decode cJ2_fastRemove 5 = .ok (.iconst 1, 1) := dk_4 (dk_at dksJ2_fastRemove_0 5 rfl rfl)
theorem dJ2_fastRemove_6 : decode cJ2_fastRemove 6 = .ok (.iadd, 1) := dk_96 (dk_at dksJ2_fastRemove_0 6 rfl rfl)
theorem dJ2_fastRemove_7 : decode cJ2_fastRemove 7 = .ok (.putfield 63, 3) := dk_181 0 63 (dk_at dksJ2_fastRemove_0 7 rfl rfl)
theorem dJ2_fastRemove_10 : decode cJ2_fastRemove 10 = .ok (.aload_n 0, 1) := dk_42 (dk_at dksJ2_fastRemove_0 10 rfl rfl)
theorem dJ2_fastRemove_11 : decode cJ2_fastRemove 11 = .ok (.getfield 48, 3) := dk_180 0 48 (dk_at dksJ2_fastRemove_0 11 rfl rfl)
theorem dJ2_fastRemove_14 : decode cJ2_fastRemove 14 = .ok (.iconst 1, 1) := dk_4 (dk_at dksJ2_fastRemove_0 14 rfl rfl)
theorem dJ2_fastRemove_15 : decode cJ2_fastRemove 15 = .ok (.isub, 1) := dk_100 (dk_at dksJ2_fastRemove_0 15 rfl rfl)
theorem dJ2_fastRemove_16 : decode cJ2_fastRemove 16 = .ok (.dup, 1) := dk_89 (dk_at dksJ2_fastRemove_0 16 rfl rfl)
theorem dJ2_fastRemove_17 : decode cJ2_fastRemove 17 = .ok (.istore_n 3, 1) := dk_62 (dk_at dksJ2_fastRemove_0 17 rfl rfl)
theorem dJ2_fastRemove_18 : decode cJ2_fastRemove 18 = .ok (.iload_n 2, 1) := dk_28 (dk_at dksJ2_fastRemove_0 18 rfl rfl)
theorem dJ2_fastRemove_19 : decode cJ2_fastRemove 19 = .ok (.if_icmp .le 15, 3) := dk_164 0 15 (dk_at dksJ2_fastRemove_0 19 rfl rfl)
theorem dJ2_fastRemove_22 : decode cJ2_fastRemove 22 = .ok (.aload_n 1, 1) := dk_43 (dk_at dksJ2_fastRemove_0 22 rfl rfl)
theorem dJ2_fastRemove_23 : decode cJ2_fastRemove 23 = .ok (.iload_n 2, 1) := dk_28 (dk_at dksJ2_fastRemove_0 23 rfl rfl)
theorem dJ2_fastRemove_24 : decode cJ2_fastRemove 24 = .ok (.iconst 1, 1) := dk_4 (dk_at dksJ2_fastRemove_1 0 rfl rfl)
theorem dJ2_fastRemove_25 : decode cJ2_fastRemove 25 = .ok (.iadd, 1) := dk_96 (dk_at dksJ2_fastRemove_1 1 rfl rfl)
theorem dJ2_fastRemove_26 : decode cJ2_fastRemove 26 = .ok (.aload_n 1, 1) := dk_43 (dk_at dksJ2_fastRemove_1 2 rfl rfl)
theorem dJ2_fastRemove_27 : decode cJ2_fastRemove 27 = .ok (.iload_n 2, 1) := dk_28 (dk_at dksJ2_fastRemove_1 3 rfl rfl)
theorem dJ2_fastRemove_28 : decode cJ2_fastRemove 28 = .ok (.iload_n 3, 1) := dk_29 (dk_at dksJ2_fastRemove_1 4 rfl rfl)
theorem dJ2_fastRemove_29 : decode cJ2_fastRemove 29 = .ok (.iload_n 2, 1) := dk_28 (dk_at dksJ2_fastRemove_1 5 rfl rfl)
theorem dJ2_fastRemove_30 : decode cJ2_fastRemove 30 = .ok (.isub, 1) := dk_100 (dk_at dksJ2_fastRemove_1 6 rfl rfl)
theorem dJ2_fastRemove_31 : decode cJ2_fastRemove 31 = .ok (.invokestatic 112, 3) := dk_184 0 112 (dk_at dksJ2_fastRemove_1 7 rfl rfl)
theorem dJ2_fastRemove_34 : decode cJ2_fastRemove 34 = .ok (.aload_n 1, 1) := dk_43 (dk_at dksJ2_fastRemove_1 10 rfl rfl)
theorem dJ2_fastRemove_35 : decode cJ2_fastRemove 35 = .ok (.aload_n 0, 1) := dk_42 (dk_at dksJ2_fastRemove_1 11 rfl rfl)
theorem dJ2_fastRemove_36 : decode cJ2_fastRemove 36 = .ok (.iload_n 3, 1) := dk_29 (dk_at dksJ2_fastRemove_1 12 rfl rfl)
theorem dJ2_fastRemove_37 : decode cJ2_fastRemove 37 = .ok (.dup_x1, 1) := dk_90 (dk_at dksJ2_fastRemove_1 13 rfl rfl)
theorem dJ2_fastRemove_38 : decode cJ2_fastRemove 38 = .ok (.putfield 48, 3) := dk_181 0 48 (dk_at dksJ2_fastRemove_1 14 rfl rfl)
theorem dJ2_fastRemove_41 : decode cJ2_fastRemove 41 = .ok (.aconst_null, 1) := dk_1 (dk_at dksJ2_fastRemove_1 17 rfl rfl)
theorem dJ2_fastRemove_42 : decode cJ2_fastRemove 42 = .ok (.aastore, 1) := dk_83 (dk_at dksJ2_fastRemove_1 18 rfl rfl)
theorem dJ2_fastRemove_43 : decode cJ2_fastRemove 43 = .ok (.return_, 1) := dk_177 (dk_at dksJ2_fastRemove_1 19 rfl rfl)
theorem q144 : (Jvm.Cond.initialized "java/util/ArrayList") ∈ lw_all := lw_g (lw_at lw_m1 6 rfl) rfl
theorem q222 : (Jvm.Cond.instantiable "java/util/ArrayList" (3 : Nat)) ∈ lw_all := lw_g (lw_at lw_m1 84 rfl) rfl
theorem q224 : (Jvm.Cond.instanceMethod ({ cls := "java/util/ArrayList", name := "<init>", desc := "(I)V" } : Jvm.MethodName)) ∈ lw_all := lw_g (lw_at lw_m1 86 rfl) rfl
theorem q225 : (Jvm.Cond.code ({ cls := "java/util/ArrayList", name := "<init>", desc := "(I)V" } : Jvm.MethodName) prog_40_method_1_code (2 : Nat) (Option.none : Option Jvm.ClassFile.FieldType)) ∈ lw_all := lw_g (lw_at lw_m1 87 rfl) rfl
theorem q226 : (Jvm.Cond.methodLink "java/util/ArrayList" (1 : Nat) ({ cls := "java/util/AbstractList", name := "<init>", desc := "()V" } : Jvm.MethodName)) ∈ lw_all := lw_g (lw_at lw_m1 88 rfl) rfl
theorem q233 : (Jvm.Cond.classLink "java/util/ArrayList" (7 : Nat) "java/lang/Object") ∈ lw_all := lw_g (lw_at lw_m1 95 rfl) rfl
theorem q235 : (Jvm.Cond.fieldLink "java/util/ArrayList" (15 : Nat) "java/util/ArrayList" "EMPTY_ELEMENTDATA" "[Ljava/lang/Object;") ∈ lw_all := lw_g (lw_at lw_m1 97 rfl) rfl
theorem q236 : (Jvm.Cond.laysStatic "java/util/ArrayList" "EMPTY_ELEMENTDATA" "[Ljava/lang/Object;") ∈ lw_tbl := lw_at lw_m1 98 rfl
theorem q237 : (Jvm.Cond.fieldLink "java/util/ArrayList" (9 : Nat) "java/util/ArrayList" "elementData" "[Ljava/lang/Object;") ∈ lw_all := lw_g (lw_at lw_m1 99 rfl) rfl
theorem q238 : (Jvm.Cond.fieldLink "java/util/ArrayList" (48 : Nat) "java/util/ArrayList" "size" "I") ∈ lw_all := lw_g (lw_at lw_m1 100 rfl) rfl
theorem q240 : (Jvm.Cond.fieldLink "java/util/ArrayList" (63 : Nat) "java/util/ArrayList" "modCount" "I") ∈ lw_all := lw_g (lw_at lw_m1 102 rfl) rfl
theorem q241 : (Jvm.Cond.sameField "java/util/ArrayList" "java/util/AbstractList" "modCount" "I") ∈ lw_all := lw_g (lw_at lw_m1 103 rfl) rfl
theorem q242 : (Jvm.Cond.lays "java/util/ArrayList" "java/util/ArrayList" "elementData" "[Ljava/lang/Object;") ∈ lw_all := lw_g (lw_at lw_m1 104 rfl) rfl
theorem q243 : (Jvm.Cond.soleField "java/util/ArrayList" "elementData") ∈ lw_all := lw_g (lw_at lw_m1 105 rfl) rfl
theorem q244 : (Jvm.Cond.lays "java/util/ArrayList" "java/util/ArrayList" "size" "I") ∈ lw_all := lw_g (lw_at lw_m1 106 rfl) rfl
theorem q245 : (Jvm.Cond.soleField "java/util/ArrayList" "size") ∈ lw_all := lw_g (lw_at lw_m1 107 rfl) rfl
theorem q246 : (Jvm.Cond.lays "java/util/ArrayList" "java/util/AbstractList" "modCount" "I") ∈ lw_all := lw_g (lw_at lw_m1 108 rfl) rfl
theorem q248 : (Jvm.Cond.superclass "java/util/ArrayList" "java/util/AbstractList") ∈ lw_all := lw_g (lw_at lw_m1 110 rfl) rfl
theorem q591 : (Jvm.Cond.instanceMethod ({ cls := "java/util/ArrayList", name := "size", desc := "()I" } : Jvm.MethodName)) ∈ lw_all := lw_g (lw_at lw_m2 213 rfl) rfl
theorem q592 : (Jvm.Cond.selects "java/util/ArrayList" ({ cls := "java/util/ArrayList", name := "size", desc := "()I" } : Jvm.MethodName) ({ cls := "java/util/ArrayList", name := "size", desc := "()I" } : Jvm.MethodName)) ∈ lw_all := lw_g (lw_at lw_m2 214 rfl) rfl
theorem q593 : (Jvm.Cond.code ({ cls := "java/util/ArrayList", name := "size", desc := "()I" } : Jvm.MethodName) prog_40_method_8_code (1 : Nat) (Option.some Jvm.ClassFile.FieldType.int)) ∈ lw_all := lw_g (lw_at lw_m2 215 rfl) rfl
theorem q608 : (Jvm.Cond.instanceMethod ({ cls := "java/util/ArrayList", name := "get", desc := "(I)Ljava/lang/Object;" } : Jvm.MethodName)) ∈ lw_all := lw_g (lw_at lw_m2 230 rfl) rfl
theorem q609 : (Jvm.Cond.selects "java/util/ArrayList" ({ cls := "java/util/ArrayList", name := "get", desc := "(I)Ljava/lang/Object;" } : Jvm.MethodName) ({ cls := "java/util/ArrayList", name := "get", desc := "(I)Ljava/lang/Object;" } : Jvm.MethodName)) ∈ lw_all := lw_g (lw_at lw_m2 231 rfl) rfl
theorem q610 : (Jvm.Cond.code ({ cls := "java/util/ArrayList", name := "get", desc := "(I)Ljava/lang/Object;" } : Jvm.MethodName) prog_40_method_20_code (2 : Nat) (Option.some (Jvm.ClassFile.FieldType.object "java/lang/Object"))) ∈ lw_all := lw_g (lw_at lw_m2 232 rfl) rfl
theorem q611 : (Jvm.Cond.methodLink "java/util/ArrayList" (118 : Nat) ({ cls := "java/util/Objects", name := "checkIndex", desc := "(II)I" } : Jvm.MethodName)) ∈ lw_all := lw_g (lw_at lw_m2 233 rfl) rfl
theorem q615 : (Jvm.Cond.methodLink "java/util/ArrayList" (123 : Nat) ({ cls := "java/util/ArrayList", name := "elementData", desc := "(I)Ljava/lang/Object;" } : Jvm.MethodName)) ∈ lw_all := lw_g (lw_at lw_m2 237 rfl) rfl
theorem q616 : (Jvm.Cond.instanceMethod ({ cls := "java/util/ArrayList", name := "elementData", desc := "(I)Ljava/lang/Object;" } : Jvm.MethodName)) ∈ lw_all := lw_g (lw_at lw_m2 238 rfl) rfl
theorem q617 : (Jvm.Cond.selects "java/util/ArrayList" ({ cls := "java/util/ArrayList", name := "elementData", desc := "(I)Ljava/lang/Object;" } : Jvm.MethodName) ({ cls := "java/util/ArrayList", name := "elementData", desc := "(I)Ljava/lang/Object;" } : Jvm.MethodName)) ∈ lw_all := lw_g (lw_at lw_m2 239 rfl) rfl
theorem q618 : (Jvm.Cond.code ({ cls := "java/util/ArrayList", name := "elementData", desc := "(I)Ljava/lang/Object;" } : Jvm.MethodName) prog_40_method_18_code (2 : Nat) (Option.some (Jvm.ClassFile.FieldType.object "java/lang/Object"))) ∈ lw_all := lw_g (lw_at lw_m3 0 rfl) rfl
theorem q665 : (Jvm.Cond.instanceMethod ({ cls := "java/util/ArrayList", name := "add", desc := "(Ljava/lang/Object;)Z" } : Jvm.MethodName)) ∈ lw_all := lw_g (lw_at lw_m3 47 rfl) rfl
theorem q666 : (Jvm.Cond.selects "java/util/ArrayList" ({ cls := "java/util/ArrayList", name := "add", desc := "(Ljava/lang/Object;)Z" } : Jvm.MethodName) ({ cls := "java/util/ArrayList", name := "add", desc := "(Ljava/lang/Object;)Z" } : Jvm.MethodName)) ∈ lw_all := lw_g (lw_at lw_m3 48 rfl) rfl
theorem q667 : (Jvm.Cond.code ({ cls := "java/util/ArrayList", name := "add", desc := "(Ljava/lang/Object;)Z" } : Jvm.MethodName) prog_40_method_25_code (2 : Nat) (Option.some Jvm.ClassFile.FieldType.boolean)) ∈ lw_all := lw_g (lw_at lw_m3 49 rfl) rfl
theorem q668 : (Jvm.Cond.methodLink "java/util/ArrayList" (131 : Nat) ({ cls := "java/util/ArrayList", name := "add", desc := "(Ljava/lang/Object;[Ljava/lang/Object;I)V" } : Jvm.MethodName)) ∈ lw_all := lw_g (lw_at lw_m3 50 rfl) rfl
theorem q669 : (Jvm.Cond.privateMethod ({ cls := "java/util/ArrayList", name := "add", desc := "(Ljava/lang/Object;[Ljava/lang/Object;I)V" } : Jvm.MethodName)) ∈ lw_tbl := lw_at lw_m3 51 rfl
theorem q670 : (Jvm.Cond.instanceMethod ({ cls := "java/util/ArrayList", name := "add", desc := "(Ljava/lang/Object;[Ljava/lang/Object;I)V" } : Jvm.MethodName)) ∈ lw_all := lw_g (lw_at lw_m3 52 rfl) rfl
theorem q671 : (Jvm.Cond.code ({ cls := "java/util/ArrayList", name := "add", desc := "(Ljava/lang/Object;[Ljava/lang/Object;I)V" } : Jvm.MethodName) prog_40_method_24_code (4 : Nat) (Option.none : Option Jvm.ClassFile.FieldType)) ∈ lw_all := lw_g (lw_at lw_m3 53 rfl) rfl
theorem q672 : (Jvm.Cond.methodLink "java/util/ArrayList" (129 : Nat) ({ cls := "java/util/ArrayList", name := "grow", desc := "()[Ljava/lang/Object;" } : Jvm.MethodName)) ∈ lw_all := lw_g (lw_at lw_m3 54 rfl) rfl
theorem q673 : (Jvm.Cond.privateMethod ({ cls := "java/util/ArrayList", name := "grow", desc := "()[Ljava/lang/Object;" } : Jvm.MethodName)) ∈ lw_tbl := lw_at lw_m3 55 rfl
theorem q674 : (Jvm.Cond.instanceMethod ({ cls := "java/util/ArrayList", name := "grow", desc := "()[Ljava/lang/Object;" } : Jvm.MethodName)) ∈ lw_all := lw_g (lw_at lw_m3 56 rfl) rfl
theorem q675 : (Jvm.Cond.code ({ cls := "java/util/ArrayList", name := "grow", desc := "()[Ljava/lang/Object;" } : Jvm.MethodName) prog_40_method_7_code (1 : Nat) (Option.some (Jvm.ClassFile.FieldType.array (Jvm.ClassFile.FieldType.object "java/lang/Object")))) ∈ lw_all := lw_g (lw_at lw_m3 57 rfl) rfl
theorem q676 : (Jvm.Cond.methodLink "java/util/ArrayList" (69 : Nat) ({ cls := "java/util/ArrayList", name := "grow", desc := "(I)[Ljava/lang/Object;" } : Jvm.MethodName)) ∈ lw_all := lw_g (lw_at lw_m3 58 rfl) rfl
theorem q677 : (Jvm.Cond.privateMethod ({ cls := "java/util/ArrayList", name := "grow", desc := "(I)[Ljava/lang/Object;" } : Jvm.MethodName)) ∈ lw_tbl := lw_at lw_m3 59 rfl
theorem q678 : (Jvm.Cond.instanceMethod ({ cls := "java/util/ArrayList", name := "grow", desc := "(I)[Ljava/lang/Object;" } : Jvm.MethodName)) ∈ lw_all := lw_g (lw_at lw_m3 60 rfl) rfl
theorem q679 : (Jvm.Cond.code ({ cls := "java/util/ArrayList", name := "grow", desc := "(I)[Ljava/lang/Object;" } : Jvm.MethodName) prog_40_method_6_code (4 : Nat) (Option.some (Jvm.ClassFile.FieldType.array (Jvm.ClassFile.FieldType.object "java/lang/Object")))) ∈ lw_all := lw_g (lw_at lw_m3 61 rfl) rfl
theorem q680 : (Jvm.Cond.fieldLink "java/util/ArrayList" (39 : Nat) "java/util/ArrayList" "DEFAULTCAPACITY_EMPTY_ELEMENTDATA" "[Ljava/lang/Object;") ∈ lw_all := lw_g (lw_at lw_m3 62 rfl) rfl
theorem q681 : (Jvm.Cond.laysStatic "java/util/ArrayList" "DEFAULTCAPACITY_EMPTY_ELEMENTDATA" "[Ljava/lang/Object;") ∈ lw_tbl := lw_at lw_m3 63 rfl
theorem q682 : (Jvm.Cond.methodLink "java/util/ArrayList" (73 : Nat) ({ cls := "jdk/internal/util/ArraysSupport", name := "newLength", desc := "(III)I" } : Jvm.MethodName)) ∈ lw_all := lw_g (lw_at lw_m3 64 rfl) rfl
theorem q690 : (Jvm.Cond.methodLink "java/util/ArrayList" (66 : Nat) ({ cls := "java/util/Arrays", name := "copyOf", desc := "([Ljava/lang/Object;I)[Ljava/lang/Object;" } : Jvm.MethodName)) ∈ lw_all := lw_g (lw_at lw_m3 72 rfl) rfl
theorem q713 : (Jvm.Cond.selects "java/util/ArrayList" ({ cls := "java/lang/Object", name := "getClass", desc := "()Ljava/lang/Class;" } : Jvm.MethodName) ({ cls := "java/lang/Object", name := "getClass", desc := "()Ljava/lang/Class;" } : Jvm.MethodName)) ∈ lw_all := lw_g (lw_at lw_m3 95 rfl) rfl
theorem q725 : (Jvm.Cond.methodLink "java/util/ArrayList" (79 : Nat) ({ cls := "java/lang/Math", name := "max", desc := "(II)I" } : Jvm.MethodName)) ∈ lw_all := lw_g (lw_at lw_m3 107 rfl) rfl
theorem q1012 : (Jvm.Cond.instanceMethod ({ cls := "java/util/ArrayList", name := "remove", desc := "(I)Ljava/lang/Object;" } : Jvm.MethodName)) ∈ lw_all := lw_g (lw_at lw_m4 154 rfl) rfl
theorem q1013 : (Jvm.Cond.selects "java/util/ArrayList" ({ cls := "java/util/ArrayList", name := "remove", desc := "(I)Ljava/lang/Object;" } : Jvm.MethodName) ({ cls := "java/util/ArrayList", name := "remove", desc := "(I)Ljava/lang/Object;" } : Jvm.MethodName)) ∈ lw_all := lw_g (lw_at lw_m4 155 rfl) rfl
theorem q1014 : (Jvm.Cond.code ({ cls := "java/util/ArrayList", name := "remove", desc := "(I)Ljava/lang/Object;" } : Jvm.MethodName) prog_40_method_29_code (4 : Nat) (Option.some (Jvm.ClassFile.FieldType.object "java/lang/Object"))) ∈ lw_all := lw_g (lw_at lw_m4 156 rfl) rfl
theorem q1015 : (Jvm.Cond.methodLink "java/util/ArrayList" (144 : Nat) ({ cls := "java/util/ArrayList", name := "fastRemove", desc := "([Ljava/lang/Object;I)V" } : Jvm.MethodName)) ∈ lw_all := lw_g (lw_at lw_m4 157 rfl) rfl
theorem q1016 : (Jvm.Cond.privateMethod ({ cls := "java/util/ArrayList", name := "fastRemove", desc := "([Ljava/lang/Object;I)V" } : Jvm.MethodName)) ∈ lw_tbl := lw_at lw_m4 158 rfl
theorem q1017 : (Jvm.Cond.instanceMethod ({ cls := "java/util/ArrayList", name := "fastRemove", desc := "([Ljava/lang/Object;I)V" } : Jvm.MethodName)) ∈ lw_all := lw_g (lw_at lw_m4 159 rfl) rfl
theorem q1018 : (Jvm.Cond.code ({ cls := "java/util/ArrayList", name := "fastRemove", desc := "([Ljava/lang/Object;I)V" } : Jvm.MethodName) prog_40_method_39_code (4 : Nat) (Option.none : Option Jvm.ClassFile.FieldType)) ∈ lw_all := lw_g (lw_at lw_m4 160 rfl) rfl
theorem q1019 : (Jvm.Cond.methodLink "java/util/ArrayList" (112 : Nat) ({ cls := "java/lang/System", name := "arraycopy", desc := "(Ljava/lang/Object;ILjava/lang/Object;II)V" } : Jvm.MethodName)) ∈ lw_all := lw_g (lw_at lw_m4 161 rfl) rfl
theorem q2081 : (Jvm.Cond.castable "java/util/ArrayList" "java/lang/Object") ∈ lw_tbl := lw_at lw_m9 23 rfl
theorem in_J2 : ∀ w ∈ wsJ20, w ∈ lw_all := lw_in wsJ20 [246, 242, 244] (by decide +kernel) (by decide +kernel)

/-! java/lang/String -/
set_option maxRecDepth 100000
def RJ3 : String := "java/lang/String"
def TJ3 : u_T := fun k => match k with
  | 0 => ("java/lang/String", "value", "[B", true)
  | _ => ("java/lang/String", "coder", "B", true)
def tyJ3 : Nat → FieldType := fun k => match k with
  | 0 => .array .byte
  | _ => .byte
abbrev wsJ30 : List Cond := u_ws RJ3 TJ3 2
theorem nmJ3 : ∀ a, a < 2 → ∀ b, b < 2 → a ≠ b → (TJ3 a).2.1 ≠ (TJ3 b).2.1 := by decide +kernel
theorem tyJ3_ok : ∀ k, k < 2 → parseFieldDescriptor (TJ3 k).2.2.1 = some (tyJ3 k) := by decide +kernel
abbrev cJ3_length : ByteArray := prog_31_method_54_code
def yJ3_length : MethodName := ⟨RJ3, "length", "()I"⟩
def dkwJ3_length_0 : List UInt8 := [42, 180, 0, 9, 190, 42, 182, 1, 79, 122, 172]
abbrev dktJ3_length_0 : List UInt8 := dkwJ3_length_0 ++ []
theorem dksJ3_length_0 : cJ3_length.data.toList.drop 0 = dktJ3_length_0 := by decide +kernel
theorem dJ3_length_0 : decode cJ3_length 0 = .ok (.aload_n 0, 1) := dk_42 (dk_at dksJ3_length_0 0 rfl rfl)
theorem dJ3_length_1 : decode cJ3_length 1 = .ok (.getfield 9, 3) := dk_180 0 9 (dk_at dksJ3_length_0 1 rfl rfl)
theorem dJ3_length_4 : decode cJ3_length 4 = .ok (.arraylength, 1) := dk_190 (dk_at dksJ3_length_0 4 rfl rfl)
theorem dJ3_length_5 : decode cJ3_length 5 = .ok (.aload_n 0, 1) := dk_42 (dk_at dksJ3_length_0 5 rfl rfl)
theorem dJ3_length_6 : decode cJ3_length 6 = .ok (.invokevirtual 335, 3) := dk_182 1 79 (dk_at dksJ3_length_0 6 rfl rfl)
theorem dJ3_length_9 : decode cJ3_length 9 = .ok (.ishr, 1) := dk_122 (dk_at dksJ3_length_0 9 rfl rfl)
theorem dJ3_length_10 : decode cJ3_length 10 = .ok (.ireturn, 1) := dk_172 (dk_at dksJ3_length_0 10 rfl rfl)
abbrev cJ3_coder : ByteArray := prog_31_method_152_code
def yJ3_coder : MethodName := ⟨RJ3, "coder", "()B"⟩
def dkwJ3_coder_0 : List UInt8 := [178, 0, 38, 153, 0, 10, 42, 180, 0, 15, 167, 0, 4, 4, 172]
abbrev dktJ3_coder_0 : List UInt8 := dkwJ3_coder_0 ++ []
theorem dksJ3_coder_0 : cJ3_coder.data.toList.drop 0 = dktJ3_coder_0 := by decide +kernel
theorem dJ3_coder_0 : decode cJ3_coder 0 = .ok (.getstatic 38, 3) := dk_178 0 38 (dk_at dksJ3_coder_0 0 rfl rfl)
theorem dJ3_coder_3 : decode cJ3_coder 3 = .ok (.ifCond .eq 10, 3) := dk_153 0 10 (dk_at dksJ3_coder_0 3 rfl rfl)
theorem dJ3_coder_6 : decode cJ3_coder 6 = .ok (.aload_n 0, 1) := dk_42 (dk_at dksJ3_coder_0 6 rfl rfl)
theorem dJ3_coder_7 : decode cJ3_coder 7 = .ok (.getfield 15, 3) := dk_180 0 15 (dk_at dksJ3_coder_0 7 rfl rfl)
theorem dJ3_coder_10 : decode cJ3_coder 10 = .ok (.goto 4, 3) := dk_167 0 4 (dk_at dksJ3_coder_0 10 rfl rfl)
theorem dJ3_coder_13 : decode cJ3_coder 13 = .ok (.iconst 1, 1) := dk_4 (dk_at dksJ3_coder_0 13 rfl rfl)
theorem dJ3_coder_14 : decode cJ3_coder 14 = .ok (.ireturn, 1) := dk_172 (dk_at dksJ3_coder_0 14 rfl rfl)
abbrev cJ3_charAt : ByteArray := prog_31_method_56_code
def yJ3_charAt : MethodName := ⟨RJ3, "charAt", "(I)C"⟩
def dkwJ3_charAt_1 : List UInt8 := [172]
abbrev dktJ3_charAt_1 : List UInt8 := dkwJ3_charAt_1 ++ []
def dkwJ3_charAt_0 : List UInt8 := [42, 182, 1, 236, 153, 0, 12, 42, 180, 0, 9, 27, 184, 1, 239, 172, 42, 180, 0, 9, 27, 184, 1, 242]
abbrev dktJ3_charAt_0 : List UInt8 := dkwJ3_charAt_0 ++ dktJ3_charAt_1
theorem dksJ3_charAt_0 : cJ3_charAt.data.toList.drop 0 = dktJ3_charAt_0 := by decide +kernel
theorem dksJ3_charAt_1 : cJ3_charAt.data.toList.drop 24 = dktJ3_charAt_1 := dk_seg dksJ3_charAt_0 24 rfl rfl
theorem dJ3_charAt_0 : decode cJ3_charAt 0 = .ok (.aload_n 0, 1) := dk_42 (dk_at dksJ3_charAt_0 0 rfl rfl)
theorem dJ3_charAt_1 : decode cJ3_charAt 1 = .ok (.invokevirtual 492, 3) := dk_182 1 236 (dk_at dksJ3_charAt_0 1 rfl rfl)
theorem dJ3_charAt_4 : decode cJ3_charAt 4 = .ok (.ifCond .eq 12, 3) := dk_153 0 12 (dk_at dksJ3_charAt_0 4 rfl rfl)
theorem dJ3_charAt_7 : decode cJ3_charAt 7 = .ok (.aload_n 0, 1) := dk_42 (dk_at dksJ3_charAt_0 7 rfl rfl)
theorem dJ3_charAt_8 : decode cJ3_charAt 8 = .ok (.getfield 9, 3) := dk_180 0 9 (dk_at dksJ3_charAt_0 8 rfl rfl)
theorem dJ3_charAt_11 : decode cJ3_charAt 11 = .ok (.iload_n 1, 1) := dk_27 (dk_at dksJ3_charAt_0 11 rfl rfl)
theorem dJ3_charAt_12 : decode cJ3_charAt 12 = .ok (.invokestatic 495, 3) := dk_184 1 239 (dk_at dksJ3_charAt_0 12 rfl rfl)
theorem dJ3_charAt_15 : decode cJ3_charAt 15 = .ok (.ireturn, 1) := dk_172 (dk_at dksJ3_charAt_0 15 rfl rfl)
theorem dJ3_charAt_16 : decode cJ3_charAt 16 = .ok (.aload_n 0, 1) := dk_42 (dk_at dksJ3_charAt_0 16 rfl rfl)
theorem dJ3_charAt_17 : decode cJ3_charAt 17 = .ok (.getfield 9, 3) := dk_180 0 9 (dk_at dksJ3_charAt_0 17 rfl rfl)
theorem dJ3_charAt_20 : decode cJ3_charAt 20 = .ok (.iload_n 1, 1) := dk_27 (dk_at dksJ3_charAt_0 20 rfl rfl)
theorem dJ3_charAt_21 : decode cJ3_charAt 21 = .ok (.invokestatic 498, 3) := dk_184 1 242 (dk_at dksJ3_charAt_0 21 rfl rfl)
theorem dJ3_charAt_24 : decode cJ3_charAt 24 = .ok (.ireturn, 1) := dk_172 (dk_at dksJ3_charAt_1 0 rfl rfl)
abbrev cJ3_isLatin1 : ByteArray := prog_31_method_154_code
def yJ3_isLatin1 : MethodName := ⟨RJ3, "isLatin1", "()Z"⟩
def dkwJ3_isLatin1_0 : List UInt8 := [178, 0, 38, 153, 0, 14, 42, 180, 0, 15, 154, 0, 7, 4, 167, 0, 4, 3, 172]
abbrev dktJ3_isLatin1_0 : List UInt8 := dkwJ3_isLatin1_0 ++ []
theorem dksJ3_isLatin1_0 : cJ3_isLatin1.data.toList.drop 0 = dktJ3_isLatin1_0 := by decide +kernel
theorem dJ3_isLatin1_0 : decode cJ3_isLatin1 0 = .ok (.getstatic 38, 3) := dk_178 0 38 (dk_at dksJ3_isLatin1_0 0 rfl rfl)
theorem dJ3_isLatin1_3 : decode cJ3_isLatin1 3 = .ok (.ifCond .eq 14, 3) := dk_153 0 14 (dk_at dksJ3_isLatin1_0 3 rfl rfl)
theorem dJ3_isLatin1_6 : decode cJ3_isLatin1 6 = .ok (.aload_n 0, 1) := dk_42 (dk_at dksJ3_isLatin1_0 6 rfl rfl)
theorem dJ3_isLatin1_7 : decode cJ3_isLatin1 7 = .ok (.getfield 15, 3) := dk_180 0 15 (dk_at dksJ3_isLatin1_0 7 rfl rfl)
theorem dJ3_isLatin1_10 : decode cJ3_isLatin1 10 = .ok (.ifCond .ne 7, 3) := dk_154 0 7 (dk_at dksJ3_isLatin1_0 10 rfl rfl)
theorem dJ3_isLatin1_13 : decode cJ3_isLatin1 13 = .ok (.iconst 1, 1) := dk_4 (dk_at dksJ3_isLatin1_0 13 rfl rfl)
theorem dJ3_isLatin1_14 : decode cJ3_isLatin1 14 = .ok (.goto 4, 3) := dk_167 0 4 (dk_at dksJ3_isLatin1_0 14 rfl rfl)
theorem dJ3_isLatin1_17 : decode cJ3_isLatin1 17 = .ok (.iconst 0, 1) := dk_3 (dk_at dksJ3_isLatin1_0 17 rfl rfl)
theorem dJ3_isLatin1_18 : decode cJ3_isLatin1 18 = .ok (.ireturn, 1) := dk_172 (dk_at dksJ3_isLatin1_0 18 rfl rfl)
abbrev cJ3_checkIndex : ByteArray := prog_31_method_155_code
def yJ3_checkIndex : MethodName := ⟨RJ3, "checkIndex", "(II)V"⟩
def dkwJ3_checkIndex_0 : List UInt8 := [26, 27, 178, 4, 29, 184, 4, 35, 87, 177]
abbrev dktJ3_checkIndex_0 : List UInt8 := dkwJ3_checkIndex_0 ++ []
theorem dksJ3_checkIndex_0 : cJ3_checkIndex.data.toList.drop 0 = dktJ3_checkIndex_0 := by decide +kernel
theorem dJ3_checkIndex_0 : decode cJ3_checkIndex 0 = .ok (.iload_n 0, 1) := dk_26 (dk_at dksJ3_checkIndex_0 0 rfl rfl)
theorem dJ3_checkIndex_1 : decode cJ3_checkIndex 1 = .ok (.iload_n 1, 1) := dk_27 (dk_at dksJ3_checkIndex_0 1 rfl rfl)
theorem dJ3_checkIndex_2 : decode cJ3_checkIndex 2 = .ok (.getstatic 1053, 3) := dk_178 4 29 (dk_at dksJ3_checkIndex_0 2 rfl rfl)
theorem dJ3_checkIndex_5 : decode cJ3_checkIndex 5 = .ok (.invokestatic 1059, 3) := dk_184 4 35 (dk_at dksJ3_checkIndex_0 5 rfl rfl)
theorem dJ3_checkIndex_8 : decode cJ3_checkIndex 8 = .ok (.pop, 1) := dk_87 (dk_at dksJ3_checkIndex_0 8 rfl rfl)
theorem dJ3_checkIndex_9 : decode cJ3_checkIndex 9 = .ok (.return_, 1) := dk_177 (dk_at dksJ3_checkIndex_0 9 rfl rfl)
abbrev cJ3_indexOf : ByteArray := prog_31_method_79_code
def yJ3_indexOf : MethodName := ⟨RJ3, "indexOf", "(I)I"⟩
def dkwJ3_indexOf_0 : List UInt8 := [42, 27, 3, 182, 2, 121, 172]
abbrev dktJ3_indexOf_0 : List UInt8 := dkwJ3_indexOf_0 ++ []
theorem dksJ3_indexOf_0 : cJ3_indexOf.data.toList.drop 0 = dktJ3_indexOf_0 := by decide +kernel
theorem dJ3_indexOf_0 : decode cJ3_indexOf 0 = .ok (.aload_n 0, 1) := dk_42 (dk_at dksJ3_indexOf_0 0 rfl rfl)
theorem dJ3_indexOf_1 : decode cJ3_indexOf 1 = .ok (.iload_n 1, 1) := dk_27 (dk_at dksJ3_indexOf_0 1 rfl rfl)
theorem dJ3_indexOf_2 : decode cJ3_indexOf 2 = .ok (.iconst 0, 1) := dk_3 (dk_at dksJ3_indexOf_0 2 rfl rfl)
theorem dJ3_indexOf_3 : decode cJ3_indexOf 3 = .ok (.invokevirtual 633, 3) := dk_182 2 121 (dk_at dksJ3_indexOf_0 3 rfl rfl)
theorem dJ3_indexOf_6 : decode cJ3_indexOf 6 = .ok (.ireturn, 1) := dk_172 (dk_at dksJ3_indexOf_0 6 rfl rfl)
abbrev cJ3_indexOf_2 : ByteArray := prog_31_method_80_code
def yJ3_indexOf_2 : MethodName := ⟨RJ3, "indexOf", "(II)I"⟩
def dkwJ3_indexOf_2_1 : List UInt8 := [180, 0, 9, 27, 28, 42, 182, 1, 249, 184, 2, 128, 172]
abbrev dktJ3_indexOf_2_1 : List UInt8 := dkwJ3_indexOf_2_1 ++ []
def dkwJ3_indexOf_2_0 : List UInt8 := [42, 182, 1, 236, 153, 0, 19, 42, 180, 0, 9, 27, 28, 42, 182, 1, 249, 184, 2, 125, 167, 0, 16, 42]
abbrev dktJ3_indexOf_2_0 : List UInt8 := dkwJ3_indexOf_2_0 ++ dktJ3_indexOf_2_1
theorem dksJ3_indexOf_2_0 : cJ3_indexOf_2.data.toList.drop 0 = dktJ3_indexOf_2_0 := by decide +kernel
theorem dksJ3_indexOf_2_1 : cJ3_indexOf_2.data.toList.drop 24 = dktJ3_indexOf_2_1 := dk_seg dksJ3_indexOf_2_0 24 rfl rfl
theorem dJ3_indexOf_2_0 : decode cJ3_indexOf_2 0 = .ok (.aload_n 0, 1) := dk_42 (dk_at dksJ3_indexOf_2_0 0 rfl rfl)
theorem dJ3_indexOf_2_1 : decode cJ3_indexOf_2 1 = .ok (.invokevirtual 492, 3) := dk_182 1 236 (dk_at dksJ3_indexOf_2_0 1 rfl rfl)
theorem dJ3_indexOf_2_4 : decode cJ3_indexOf_2 4 = .ok (.ifCond .eq 19, 3) := dk_153 0 19 (dk_at dksJ3_indexOf_2_0 4 rfl rfl)
theorem dJ3_indexOf_2_7 : decode cJ3_indexOf_2 7 = .ok (.aload_n 0, 1) := dk_42 (dk_at dksJ3_indexOf_2_0 7 rfl rfl)
theorem dJ3_indexOf_2_8 : decode cJ3_indexOf_2 8 = .ok (.getfield 9, 3) := dk_180 0 9 (dk_at dksJ3_indexOf_2_0 8 rfl rfl)
theorem dJ3_indexOf_2_11 : decode cJ3_indexOf_2 11 = .ok (.iload_n 1, 1) := dk_27 (dk_at dksJ3_indexOf_2_0 11 rfl rfl)
theorem dJ3_indexOf_2_12 : decode cJ3_indexOf_2 12 = .ok (.iload_n 2, 1) := dk_28 (dk_at dksJ3_indexOf_2_0 12 rfl rfl)
theorem dJ3_indexOf_2_13 : decode cJ3_indexOf_2 13 = .ok (.aload_n 0, 1) := dk_42 (dk_at dksJ3_indexOf_2_0 13 rfl rfl)
theorem dJ3_indexOf_2_14 : decode cJ3_indexOf_2 14 = .ok (.invokevirtual 505, 3) := dk_182 1 249 (dk_at dksJ3_indexOf_2_0 14 rfl rfl)
theorem dJ3_indexOf_2_17 : decode cJ3_indexOf_2 17 = .ok (.invokestatic 637, 3) := dk_184 2 125 (dk_at dksJ3_indexOf_2_0 17 rfl rfl)
theorem dJ3_indexOf_2_20 : decode cJ3_indexOf_2 20 = .ok (.goto 16, 3) := dk_167 0 16 (dk_at dksJ3_indexOf_2_0 20 rfl rfl)
theorem dJ3_indexOf_2_23 : decode cJ3_indexOf_2 23 = .ok (.aload_n 0, 1) := dk_42 (dk_at dksJ3_indexOf_2_0 23 rfl rfl)
theorem dJ3_indexOf_2_24 : decode cJ3_indexOf_2 24 = .ok (.getfield 9, 3) := dk_180 0 9 (dk_at dksJ3_indexOf_2_1 0 rfl rfl)
theorem dJ3_indexOf_2_27 : decode cJ3_indexOf_2 27 = .ok (.iload_n 1, 1) := dk_27 (dk_at dksJ3_indexOf_2_1 3 rfl rfl)
theorem dJ3_indexOf_2_28 : decode cJ3_indexOf_2 28 = .ok (.iload_n 2, 1) := dk_28 (dk_at dksJ3_indexOf_2_1 4 rfl rfl)
theorem dJ3_indexOf_2_29 : decode cJ3_indexOf_2 29 = .ok (.aload_n 0, 1) := dk_42 (dk_at dksJ3_indexOf_2_1 5 rfl rfl)
theorem dJ3_indexOf_2_30 : decode cJ3_indexOf_2 30 = .ok (.invokevirtual 505, 3) := dk_182 1 249 (dk_at dksJ3_indexOf_2_1 6 rfl rfl)
theorem dJ3_indexOf_2_33 : decode cJ3_indexOf_2 33 = .ok (.invokestatic 640, 3) := dk_184 2 128 (dk_at dksJ3_indexOf_2_1 9 rfl rfl)
theorem dJ3_indexOf_2_36 : decode cJ3_indexOf_2 36 = .ok (.ireturn, 1) := dk_172 (dk_at dksJ3_indexOf_2_1 12 rfl rfl)
abbrev cJ3_checkBoundsBeginEnd : ByteArray := prog_31_method_158_code
def yJ3_checkBoundsBeginEnd : MethodName := ⟨RJ3, "checkBoundsBeginEnd", "(III)V"⟩
def dkwJ3_checkBoundsBeginEnd_0 : List UInt8 := [26, 27, 28, 178, 4, 29, 184, 4, 38, 87, 177]
abbrev dktJ3_checkBoundsBeginEnd_0 : List UInt8 := dkwJ3_checkBoundsBeginEnd_0 ++ []
theorem dksJ3_checkBoundsBeginEnd_0 : cJ3_checkBoundsBeginEnd.data.toList.drop 0 = dktJ3_checkBoundsBeginEnd_0 := by decide +kernel
theorem dJ3_checkBoundsBeginEnd_0 : decode cJ3_checkBoundsBeginEnd 0 = .ok (.iload_n 0, 1) := dk_26 (dk_at dksJ3_checkBoundsBeginEnd_0 0 rfl rfl)
theorem dJ3_checkBoundsBeginEnd_1 : decode cJ3_checkBoundsBeginEnd 1 = .ok (.iload_n 1, 1) := dk_27 (dk_at dksJ3_checkBoundsBeginEnd_0 1 rfl rfl)
theorem dJ3_checkBoundsBeginEnd_2 : decode cJ3_checkBoundsBeginEnd 2 = .ok (.iload_n 2, 1) := dk_28 (dk_at dksJ3_checkBoundsBeginEnd_0 2 rfl rfl)
theorem dJ3_checkBoundsBeginEnd_3 : decode cJ3_checkBoundsBeginEnd 3 = .ok (.getstatic 1053, 3) := dk_178 4 29 (dk_at dksJ3_checkBoundsBeginEnd_0 3 rfl rfl)
theorem dJ3_checkBoundsBeginEnd_6 : decode cJ3_checkBoundsBeginEnd 6 = .ok (.invokestatic 1062, 3) := dk_184 4 38 (dk_at dksJ3_checkBoundsBeginEnd_0 6 rfl rfl)
theorem dJ3_checkBoundsBeginEnd_9 : decode cJ3_checkBoundsBeginEnd 9 = .ok (.pop, 1) := dk_87 (dk_at dksJ3_checkBoundsBeginEnd_0 9 rfl rfl)
theorem dJ3_checkBoundsBeginEnd_10 : decode cJ3_checkBoundsBeginEnd 10 = .ok (.return_, 1) := dk_177 (dk_at dksJ3_checkBoundsBeginEnd_0 10 rfl rfl)
theorem q146 : (Jvm.Cond.initialized "java/lang/String") ∈ lw_all := lw_g (lw_at lw_m1 8 rfl) rfl
theorem q392 : (Jvm.Cond.instanceMethod ({ cls := "java/lang/String", name := "length", desc := "()I" } : Jvm.MethodName)) ∈ lw_all := lw_g (lw_at lw_m2 14 rfl) rfl
theorem q393 : (Jvm.Cond.selects "java/lang/String" ({ cls := "java/lang/String", name := "length", desc := "()I" } : Jvm.MethodName) ({ cls := "java/lang/String", name := "length", desc := "()I" } : Jvm.MethodName)) ∈ lw_all := lw_g (lw_at lw_m2 15 rfl) rfl
theorem q394 : (Jvm.Cond.code ({ cls := "java/lang/String", name := "length", desc := "()I" } : Jvm.MethodName) prog_31_method_54_code (1 : Nat) (Option.some Jvm.ClassFile.FieldType.int)) ∈ lw_all := lw_g (lw_at lw_m2 16 rfl) rfl
theorem q395 : (Jvm.Cond.methodLink "java/lang/String" (335 : Nat) ({ cls := "java/lang/String", name := "coder", desc := "()B" } : Jvm.MethodName)) ∈ lw_all := lw_g (lw_at lw_m2 17 rfl) rfl
theorem q396 : (Jvm.Cond.instanceMethod ({ cls := "java/lang/String", name := "coder", desc := "()B" } : Jvm.MethodName)) ∈ lw_all := lw_g (lw_at lw_m2 18 rfl) rfl
theorem q397 : (Jvm.Cond.selects "java/lang/String" ({ cls := "java/lang/String", name := "coder", desc := "()B" } : Jvm.MethodName) ({ cls := "java/lang/String", name := "coder", desc := "()B" } : Jvm.MethodName)) ∈ lw_all := lw_g (lw_at lw_m2 19 rfl) rfl
theorem q398 : (Jvm.Cond.code ({ cls := "java/lang/String", name := "coder", desc := "()B" } : Jvm.MethodName) prog_31_method_152_code (1 : Nat) (Option.some Jvm.ClassFile.FieldType.byte)) ∈ lw_all := lw_g (lw_at lw_m2 20 rfl) rfl
theorem q399 : (Jvm.Cond.fieldLink "java/lang/String" (38 : Nat) "java/lang/String" "COMPACT_STRINGS" "Z") ∈ lw_all := lw_g (lw_at lw_m2 21 rfl) rfl
theorem q400 : (Jvm.Cond.laysStatic "java/lang/String" "COMPACT_STRINGS" "Z") ∈ lw_tbl := lw_at lw_m2 22 rfl
theorem q402 : (Jvm.Cond.instanceMethod ({ cls := "java/lang/String", name := "charAt", desc := "(I)C" } : Jvm.MethodName)) ∈ lw_all := lw_g (lw_at lw_m2 24 rfl) rfl
theorem q403 : (Jvm.Cond.selects "java/lang/String" ({ cls := "java/lang/String", name := "charAt", desc := "(I)C" } : Jvm.MethodName) ({ cls := "java/lang/String", name := "charAt", desc := "(I)C" } : Jvm.MethodName)) ∈ lw_all := lw_g (lw_at lw_m2 25 rfl) rfl
theorem q404 : (Jvm.Cond.code ({ cls := "java/lang/String", name := "charAt", desc := "(I)C" } : Jvm.MethodName) prog_31_method_56_code (2 : Nat) (Option.some Jvm.ClassFile.FieldType.char)) ∈ lw_all := lw_g (lw_at lw_m2 26 rfl) rfl
theorem q405 : (Jvm.Cond.methodLink "java/lang/String" (492 : Nat) ({ cls := "java/lang/String", name := "isLatin1", desc := "()Z" } : Jvm.MethodName)) ∈ lw_all := lw_g (lw_at lw_m2 27 rfl) rfl
theorem q406 : (Jvm.Cond.instanceMethod ({ cls := "java/lang/String", name := "isLatin1", desc := "()Z" } : Jvm.MethodName)) ∈ lw_all := lw_g (lw_at lw_m2 28 rfl) rfl
theorem q407 : (Jvm.Cond.selects "java/lang/String" ({ cls := "java/lang/String", name := "isLatin1", desc := "()Z" } : Jvm.MethodName) ({ cls := "java/lang/String", name := "isLatin1", desc := "()Z" } : Jvm.MethodName)) ∈ lw_all := lw_g (lw_at lw_m2 29 rfl) rfl
theorem q408 : (Jvm.Cond.code ({ cls := "java/lang/String", name := "isLatin1", desc := "()Z" } : Jvm.MethodName) prog_31_method_154_code (1 : Nat) (Option.some Jvm.ClassFile.FieldType.boolean)) ∈ lw_all := lw_g (lw_at lw_m2 30 rfl) rfl
theorem q409 : (Jvm.Cond.methodLink "java/lang/String" (495 : Nat) ({ cls := "java/lang/StringLatin1", name := "charAt", desc := "([BI)C" } : Jvm.MethodName)) ∈ lw_all := lw_g (lw_at lw_m2 31 rfl) rfl
theorem q413 : (Jvm.Cond.static ({ cls := "java/lang/String", name := "checkIndex", desc := "(II)V" } : Jvm.MethodName)) ∈ lw_all := lw_g (lw_at lw_m2 35 rfl) rfl
theorem q414 : (Jvm.Cond.code ({ cls := "java/lang/String", name := "checkIndex", desc := "(II)V" } : Jvm.MethodName) prog_31_method_155_code (2 : Nat) (Option.none : Option Jvm.ClassFile.FieldType)) ∈ lw_all := lw_g (lw_at lw_m2 36 rfl) rfl
theorem q415 : (Jvm.Cond.fieldLink "java/lang/String" (1053 : Nat) "jdk/internal/util/Preconditions" "SIOOBE_FORMATTER" "Ljava/util/function/BiFunction;") ∈ lw_all := lw_g (lw_at lw_m2 37 rfl) rfl
theorem q417 : (Jvm.Cond.methodLink "java/lang/String" (1059 : Nat) ({ cls := "jdk/internal/util/Preconditions", name := "checkIndex", desc := "(IILjava/util/function/BiFunction;)I" } : Jvm.MethodName)) ∈ lw_all := lw_g (lw_at lw_m2 39 rfl) rfl
theorem q420 : (Jvm.Cond.methodLink "java/lang/String" (498 : Nat) ({ cls := "java/lang/StringUTF16", name := "charAt", desc := "([BI)C" } : Jvm.MethodName)) ∈ lw_all := lw_g (lw_at lw_m2 42 rfl) rfl
theorem q449 : (Jvm.Cond.instanceMethod ({ cls := "java/lang/String", name := "indexOf", desc := "(I)I" } : Jvm.MethodName)) ∈ lw_all := lw_g (lw_at lw_m2 71 rfl) rfl
theorem q450 : (Jvm.Cond.selects "java/lang/String" ({ cls := "java/lang/String", name := "indexOf", desc := "(I)I" } : Jvm.MethodName) ({ cls := "java/lang/String", name := "indexOf", desc := "(I)I" } : Jvm.MethodName)) ∈ lw_all := lw_g (lw_at lw_m2 72 rfl) rfl
theorem q451 : (Jvm.Cond.code ({ cls := "java/lang/String", name := "indexOf", desc := "(I)I" } : Jvm.MethodName) prog_31_method_79_code (2 : Nat) (Option.some Jvm.ClassFile.FieldType.int)) ∈ lw_all := lw_g (lw_at lw_m2 73 rfl) rfl
theorem q452 : (Jvm.Cond.methodLink "java/lang/String" (633 : Nat) ({ cls := "java/lang/String", name := "indexOf", desc := "(II)I" } : Jvm.MethodName)) ∈ lw_all := lw_g (lw_at lw_m2 74 rfl) rfl
theorem q453 : (Jvm.Cond.instanceMethod ({ cls := "java/lang/String", name := "indexOf", desc := "(II)I" } : Jvm.MethodName)) ∈ lw_all := lw_g (lw_at lw_m2 75 rfl) rfl
theorem q454 : (Jvm.Cond.selects "java/lang/String" ({ cls := "java/lang/String", name := "indexOf", desc := "(II)I" } : Jvm.MethodName) ({ cls := "java/lang/String", name := "indexOf", desc := "(II)I" } : Jvm.MethodName)) ∈ lw_all := lw_g (lw_at lw_m2 76 rfl) rfl
theorem q455 : (Jvm.Cond.code ({ cls := "java/lang/String", name := "indexOf", desc := "(II)I" } : Jvm.MethodName) prog_31_method_80_code (3 : Nat) (Option.some Jvm.ClassFile.FieldType.int)) ∈ lw_all := lw_g (lw_at lw_m2 77 rfl) rfl
theorem q456 : (Jvm.Cond.methodLink "java/lang/String" (505 : Nat) ({ cls := "java/lang/String", name := "length", desc := "()I" } : Jvm.MethodName)) ∈ lw_all := lw_g (lw_at lw_m2 78 rfl) rfl
theorem q457 : (Jvm.Cond.methodLink "java/lang/String" (637 : Nat) ({ cls := "java/lang/StringLatin1", name := "indexOf", desc := "([BIII)I" } : Jvm.MethodName)) ∈ lw_all := lw_g (lw_at lw_m2 79 rfl) rfl
theorem q472 : (Jvm.Cond.methodLink "java/lang/String" (640 : Nat) ({ cls := "java/lang/StringUTF16", name := "indexOf", desc := "([BIII)I" } : Jvm.MethodName)) ∈ lw_all := lw_g (lw_at lw_m2 94 rfl) rfl
theorem q485 : (Jvm.Cond.static ({ cls := "java/lang/String", name := "checkBoundsBeginEnd", desc := "(III)V" } : Jvm.MethodName)) ∈ lw_all := lw_g (lw_at lw_m2 107 rfl) rfl
theorem q486 : (Jvm.Cond.code ({ cls := "java/lang/String", name := "checkBoundsBeginEnd", desc := "(III)V" } : Jvm.MethodName) prog_31_method_158_code (3 : Nat) (Option.none : Option Jvm.ClassFile.FieldType)) ∈ lw_all := lw_g (lw_at lw_m2 108 rfl) rfl
theorem q487 : (Jvm.Cond.methodLink "java/lang/String" (1062 : Nat) ({ cls := "jdk/internal/util/Preconditions", name := "checkFromToIndex", desc := "(IIILjava/util/function/BiFunction;)I" } : Jvm.MethodName)) ∈ lw_all := lw_g (lw_at lw_m2 109 rfl) rfl
theorem q1356 : (Jvm.Cond.instantiable "java/lang/String" (4 : Nat)) ∈ lw_all := lw_g (lw_at lw_m6 18 rfl) rfl
theorem q1357 : (Jvm.Cond.laysFinal "java/lang/String" "java/lang/String" "value" "[B") ∈ lw_all := lw_g (lw_at lw_m6 19 rfl) rfl
theorem q1358 : (Jvm.Cond.soleField "java/lang/String" "value") ∈ lw_all := lw_g (lw_at lw_m6 20 rfl) rfl
theorem q1359 : (Jvm.Cond.laysFinal "java/lang/String" "java/lang/String" "coder" "B") ∈ lw_all := lw_g (lw_at lw_m6 21 rfl) rfl
theorem q1360 : (Jvm.Cond.soleField "java/lang/String" "coder") ∈ lw_all := lw_g (lw_at lw_m6 22 rfl) rfl
theorem q2077 : (Jvm.Cond.castable "java/lang/String" "java/lang/Object") ∈ lw_tbl := lw_at lw_m9 19 rfl
theorem q2112 : (Jvm.Cond.fieldLink "java/lang/String" (9 : Nat) "java/lang/String" "value" "[B") ∈ lw_all := lw_g (lw_at lw_m9 54 rfl) rfl
theorem q2113 : (Jvm.Cond.fieldLink "java/lang/String" (15 : Nat) "java/lang/String" "coder" "B") ∈ lw_all := lw_g (lw_at lw_m9 55 rfl) rfl
theorem in_J3 : ∀ w ∈ wsJ30, w ∈ lw_all := lw_in wsJ30 [1357, 1359] (by decide +kernel) (by decide +kernel)

/-! java/lang/StringLatin1 -/
set_option maxRecDepth 100000
def RJ4 : String := "java/lang/StringLatin1"
abbrev cJ4_charAt : ByteArray := prog_32_method_2_code
def yJ4_charAt : MethodName := ⟨RJ4, "charAt", "([BI)C"⟩
def dkwJ4_charAt_0 : List UInt8 := [27, 42, 190, 184, 0, 9, 42, 27, 51, 17, 0, 255, 126, 146, 172]
abbrev dktJ4_charAt_0 : List UInt8 := dkwJ4_charAt_0 ++ []
theorem dksJ4_charAt_0 : cJ4_charAt.data.toList.drop 0 = dktJ4_charAt_0 := by decide +kernel
theorem dJ4_charAt_0 : decode cJ4_charAt 0 = .ok (.iload_n 1, 1) := dk_27 (dk_at dksJ4_charAt_0 0 rfl rfl)
theorem dJ4_charAt_1 : decode cJ4_charAt 1 = .ok (.aload_n 0, 1) := dk_42 (dk_at dksJ4_charAt_0 1 rfl rfl)
theorem dJ4_charAt_2 : decode cJ4_charAt 2 = .ok (.arraylength, 1) := dk_190 (dk_at dksJ4_charAt_0 2 rfl rfl)
theorem dJ4_charAt_3 : decode cJ4_charAt 3 = .ok (.invokestatic 9, 3) := dk_184 0 9 (dk_at dksJ4_charAt_0 3 rfl rfl)
theorem dJ4_charAt_6 : decode cJ4_charAt 6 = .ok (.aload_n 0, 1) := dk_42 (dk_at dksJ4_charAt_0 6 rfl rfl)
theorem dJ4_charAt_7 : decode cJ4_charAt 7 = .ok (.iload_n 1, 1) := dk_27 (dk_at dksJ4_charAt_0 7 rfl rfl)
theorem dJ4_charAt_8 : decode cJ4_charAt 8 = .ok (.baload, 1) := dk_51 (dk_at dksJ4_charAt_0 8 rfl rfl)
theorem dJ4_charAt_9 : decode cJ4_charAt 9 = .ok (.sipush 255, 3) := dk_17 0 255 (dk_at dksJ4_charAt_0 9 rfl rfl)
theorem dJ4_charAt_12 : decode cJ4_charAt 12 = .ok (.iand, 1) := dk_126 (dk_at dksJ4_charAt_0 12 rfl rfl)
theorem dJ4_charAt_13 : decode cJ4_charAt 13 = .ok (.i2c, 1) := dk_146 (dk_at dksJ4_charAt_0 13 rfl rfl)
theorem dJ4_charAt_14 : decode cJ4_charAt 14 = .ok (.ireturn, 1) := dk_172 (dk_at dksJ4_charAt_0 14 rfl rfl)
abbrev cJ4_indexOf : ByteArray := prog_32_method_22_code
def yJ4_indexOf : MethodName := ⟨RJ4, "indexOf", "([BIII)I"⟩
def dkwJ4_indexOf_1 : List UInt8 := [161, 0, 5, 2, 172, 42, 27, 28, 29, 184, 0, 95, 172]
abbrev dktJ4_indexOf_1 : List UInt8 := dkwJ4_indexOf_1 ++ []
def dkwJ4_indexOf_0 : List UInt8 := [27, 184, 0, 88, 154, 0, 5, 2, 172, 28, 3, 184, 0, 92, 61, 29, 42, 190, 184, 0, 38, 62, 28, 29]
abbrev dktJ4_indexOf_0 : List UInt8 := dkwJ4_indexOf_0 ++ dktJ4_indexOf_1
theorem dksJ4_indexOf_0 : cJ4_indexOf.data.toList.drop 0 = dktJ4_indexOf_0 := by decide +kernel
theorem dksJ4_indexOf_1 : cJ4_indexOf.data.toList.drop 24 = dktJ4_indexOf_1 := dk_seg dksJ4_indexOf_0 24 rfl rfl
theorem dJ4_indexOf_0 : decode cJ4_indexOf 0 = .ok (.iload_n 1, 1) := dk_27 (dk_at dksJ4_indexOf_0 0 rfl rfl)
theorem dJ4_indexOf_1 : decode cJ4_indexOf 1 = .ok (.invokestatic 88, 3) := dk_184 0 88 (dk_at dksJ4_indexOf_0 1 rfl rfl)
theorem dJ4_indexOf_4 : decode cJ4_indexOf 4 = .ok (.ifCond .ne 5, 3) := dk_154 0 5 (dk_at dksJ4_indexOf_0 4 rfl rfl)
theorem dJ4_indexOf_7 : decode cJ4_indexOf 7 = .ok (.iconst (-1), 1) := dk_2 (dk_at dksJ4_indexOf_0 7 rfl rfl)
theorem dJ4_indexOf_8 : decode cJ4_indexOf 8 = .ok (.ireturn, 1) := dk_172 (dk_at dksJ4_indexOf_0 8 rfl rfl)
theorem dJ4_indexOf_9 : decode cJ4_indexOf 9 = .ok (.iload_n 2, 1) := dk_28 (dk_at dksJ4_indexOf_0 9 rfl rfl)
theorem dJ4_indexOf_10 : decode cJ4_indexOf 10 = .ok (.iconst 0, 1) := dk_3 (dk_at dksJ4_indexOf_0 10 rfl rfl)
theorem dJ4_indexOf_11 : decode cJ4_indexOf 11 = .ok (.invokestatic 92, 3) := dk_184 0 92 (dk_at dksJ4_indexOf_0 11 rfl rfl)
theorem dJ4_indexOf_14 : decode cJ4_indexOf 14 = .ok (.istore_n 2, 1) := dk_61 (dk_at dksJ4_indexOf_0 14 rfl rfl)
theorem dJ4_indexOf_15 : decode cJ4_indexOf 15 = .ok (.iload_n 3, 1) := dk_29 (dk_at dksJ4_indexOf_0 15 rfl rfl)
theorem dJ4_indexOf_16 : decode cJ4_indexOf 16 = .ok (.aload_n 0, 1) := dk_42 (dk_at dksJ4_indexOf_0 16 rfl rfl)
theorem dJ4_indexOf_17 : decode cJ4_indexOf 17 = .ok (.arraylength, 1) := dk_190 (dk_at dksJ4_indexOf_0 17 rfl rfl)
theorem dJ4_indexOf_18 : decode cJ4_indexOf 18 = .ok (.invokestatic 38, 3) := dk_184 0 38 (dk_at dksJ4_indexOf_0 18 rfl rfl)
theorem dJ4_indexOf_21 : decode cJ4_indexOf 21 = .ok (.istore_n 3, 1) := dk_62 (dk_at dksJ4_indexOf_0 21 rfl rfl)
theorem dJ4_indexOf_22 : decode cJ4_indexOf 22 = .ok (.iload_n 2, 1) := dk_28 (dk_at dksJ4_indexOf_0 22 rfl rfl)
theorem dJ4_indexOf_23 : decode cJ4_indexOf 23 = .ok (.iload_n 3, 1) := dk_29 (dk_at dksJ4_indexOf_0 23 rfl rfl)
theorem dJ4_indexOf_24 : decode cJ4_indexOf 24 = .ok (.if_icmp .lt 5, 3) := dk_161 0 5 (dk_at dksJ4_indexOf_1 0 rfl rfl)
theorem dJ4_indexOf_27 : decode cJ4_indexOf 27 = .ok (.iconst (-1), 1) := dk_2 (dk_at dksJ4_indexOf_1 3 rfl rfl)
theorem dJ4_indexOf_28 : decode cJ4_indexOf 28 = .ok (.ireturn, 1) := dk_172 (dk_at dksJ4_indexOf_1 4 rfl rfl)
theorem dJ4_indexOf_29 : decode cJ4_indexOf 29 = .ok (.aload_n 0, 1) := dk_42 (dk_at dksJ4_indexOf_1 5 rfl rfl)
theorem dJ4_indexOf_30 : decode cJ4_indexOf 30 = .ok (.iload_n 1, 1) := dk_27 (dk_at dksJ4_indexOf_1 6 rfl rfl)
theorem dJ4_indexOf_31 : decode cJ4_indexOf 31 = .ok (.iload_n 2, 1) := dk_28 (dk_at dksJ4_indexOf_1 7 rfl rfl)
theorem dJ4_indexOf_32 : decode cJ4_indexOf 32 = .ok (.iload_n 3, 1) := dk_29 (dk_at dksJ4_indexOf_1 8 rfl rfl)
theorem dJ4_indexOf_33 : decode cJ4_indexOf 33 = .ok (.invokestatic 95, 3) := dk_184 0 95 (dk_at dksJ4_indexOf_1 9 rfl rfl)
theorem dJ4_indexOf_36 : decode cJ4_indexOf 36 = .ok (.ireturn, 1) := dk_172 (dk_at dksJ4_indexOf_1 12 rfl rfl)
abbrev cJ4_canEncode : ByteArray := prog_32_method_4_code
def yJ4_canEncode : MethodName := ⟨RJ4, "canEncode", "(I)Z"⟩
def dkwJ4_canEncode_0 : List UInt8 := [26, 155, 0, 14, 26, 17, 0, 255, 163, 0, 7, 4, 167, 0, 4, 3, 172]
abbrev dktJ4_canEncode_0 : List UInt8 := dkwJ4_canEncode_0 ++ []
theorem dksJ4_canEncode_0 : cJ4_canEncode.data.toList.drop 0 = dktJ4_canEncode_0 := by decide +kernel
theorem dJ4_canEncode_0 : decode cJ4_canEncode 0 = .ok (.iload_n 0, 1) := dk_26 (dk_at dksJ4_canEncode_0 0 rfl rfl)
theorem dJ4_canEncode_1 : decode cJ4_canEncode 1 = .ok (.ifCond .lt 14, 3) := dk_155 0 14 (dk_at dksJ4_canEncode_0 1 rfl rfl)
theorem dJ4_canEncode_4 : decode cJ4_canEncode 4 = .ok (.iload_n 0, 1) := dk_26 (dk_at dksJ4_canEncode_0 4 rfl rfl)
theorem dJ4_canEncode_5 : decode cJ4_canEncode 5 = .ok (.sipush 255, 3) := dk_17 0 255 (dk_at dksJ4_canEncode_0 5 rfl rfl)
theorem dJ4_canEncode_8 : decode cJ4_canEncode 8 = .ok (.if_icmp .gt 7, 3) := dk_163 0 7 (dk_at dksJ4_canEncode_0 8 rfl rfl)
theorem dJ4_canEncode_11 : decode cJ4_canEncode 11 = .ok (.iconst 1, 1) := dk_4 (dk_at dksJ4_canEncode_0 11 rfl rfl)
theorem dJ4_canEncode_12 : decode cJ4_canEncode 12 = .ok (.goto 4, 3) := dk_167 0 4 (dk_at dksJ4_canEncode_0 12 rfl rfl)
theorem dJ4_canEncode_15 : decode cJ4_canEncode 15 = .ok (.iconst 0, 1) := dk_3 (dk_at dksJ4_canEncode_0 15 rfl rfl)
theorem dJ4_canEncode_16 : decode cJ4_canEncode 16 = .ok (.ireturn, 1) := dk_172 (dk_at dksJ4_canEncode_0 16 rfl rfl)
abbrev cJ4_indexOfChar : ByteArray := prog_32_method_23_code
def yJ4_indexOfChar : MethodName := ⟨RJ4, "indexOfChar", "([BIII)I"⟩
def dkwJ4_indexOfChar_1 : List UInt8 := [172, 132, 5, 1, 167, 255, 235, 2, 172]
abbrev dktJ4_indexOfChar_1 : List UInt8 := dkwJ4_indexOfChar_1 ++ []
def dkwJ4_indexOfChar_0 : List UInt8 := [27, 145, 54, 4, 28, 54, 5, 21, 5, 29, 162, 0, 21, 42, 21, 5, 51, 21, 4, 160, 0, 6, 21, 5]
abbrev dktJ4_indexOfChar_0 : List UInt8 := dkwJ4_indexOfChar_0 ++ dktJ4_indexOfChar_1
theorem dksJ4_indexOfChar_0 : cJ4_indexOfChar.data.toList.drop 0 = dktJ4_indexOfChar_0 := by decide +kernel
theorem dksJ4_indexOfChar_1 : cJ4_indexOfChar.data.toList.drop 24 = dktJ4_indexOfChar_1 := dk_seg dksJ4_indexOfChar_0 24 rfl rfl
theorem dJ4_indexOfChar_0 : decode cJ4_indexOfChar 0 = .ok (.iload_n 1, 1) := dk_27 (dk_at dksJ4_indexOfChar_0 0 rfl rfl)
theorem dJ4_indexOfChar_1 : decode cJ4_indexOfChar 1 = .ok (.i2b, 1) := dk_145 (dk_at dksJ4_indexOfChar_0 1 rfl rfl)
theorem dJ4_indexOfChar_2 : decode cJ4_indexOfChar 2 = .ok (.istore 4, 2) := dk_54 4 (dk_at dksJ4_indexOfChar_0 2 rfl rfl)
theorem dJ4_indexOfChar_4 : decode cJ4_indexOfChar 4 = .ok (.iload_n 2, 1) := dk_28 (dk_at dksJ4_indexOfChar_0 4 rfl rfl)
theorem dJ4_indexOfChar_5 : decode cJ4_indexOfChar 5 = .ok (.istore 5, 2) := dk_54 5 (dk_at dksJ4_indexOfChar_0 5 rfl rfl)
theorem dJ4_indexOfChar_7 : decode cJ4_indexOfChar 7 = .ok (.iload 5, 2) := dk_21 5 (dk_at dksJ4_indexOfChar_0 7 rfl rfl)
theorem dJ4_indexOfChar_9 : decode cJ4_indexOfChar 9 = .ok (.iload_n 3, 1) := dk_29 (dk_at dksJ4_indexOfChar_0 9 rfl rfl)
theorem dJ4_indexOfChar_10 : decode cJ4_indexOfChar 10 = .ok (.if_icmp .ge 21, 3) := dk_162 0 21 (dk_at dksJ4_indexOfChar_0 10 rfl rfl)
theorem dJ4_indexOfChar_13 : decode cJ4_indexOfChar 13 = .ok (.aload_n 0, 1) := dk_42 (dk_at dksJ4_indexOfChar_0 13 rfl rfl)
theorem dJ4_indexOfChar_14 : decode cJ4_indexOfChar 14 = .ok (.iload 5, 2) := dk_21 5 (dk_at dksJ4_indexOfChar_0 14 rfl rfl)
theorem dJ4_indexOfChar_16 : decode cJ4_indexOfChar 16 = .ok (.baload, 1) := dk_51 (dk_at dksJ4_indexOfChar_0 16 rfl rfl)
theorem dJ4_indexOfChar_17 : decode cJ4_indexOfChar 17 = .ok (.iload 4, 2) := dk_21 4 (dk_at dksJ4_indexOfChar_0 17 rfl rfl)
theorem dJ4_indexOfChar_19 : decode cJ4_indexOfChar 19 = .ok (.if_icmp .ne 6, 3) := dk_160 0 6 (dk_at dksJ4_indexOfChar_0 19 rfl rfl)
theorem dJ4_indexOfChar_22 : decode cJ4_indexOfChar 22 = .ok (.iload 5, 2) := dk_21 5 (dk_at dksJ4_indexOfChar_0 22 rfl rfl)
theorem dJ4_indexOfChar_24 : decode cJ4_indexOfChar 24 = .ok (.ireturn, 1) := dk_172 (dk_at dksJ4_indexOfChar_1 0 rfl rfl)
theorem dJ4_indexOfChar_25 : decode cJ4_indexOfChar 25 = .ok (.iinc 5 1, 3) := dk_132 5 1 (dk_at dksJ4_indexOfChar_1 1 rfl rfl)
theorem dJ4_indexOfChar_28 : decode cJ4_indexOfChar 28 = .ok (.goto (-21), 3) := dk_167 255 235 (dk_at dksJ4_indexOfChar_1 4 rfl rfl)
theorem dJ4_indexOfChar_31 : decode cJ4_indexOfChar 31 = .ok (.iconst (-1), 1) := dk_2 (dk_at dksJ4_indexOfChar_1 7 rfl rfl)
theorem dJ4_indexOfChar_32 : decode cJ4_indexOfChar 32 = .ok (.ireturn, 1) := dk_172 (dk_at dksJ4_indexOfChar_1 8 rfl rfl)
theorem q147 : (Jvm.Cond.initialized "java/lang/StringLatin1") ∈ lw_all := lw_g (lw_at lw_m1 9 rfl) rfl
theorem q410 : (Jvm.Cond.static ({ cls := "java/lang/StringLatin1", name := "charAt", desc := "([BI)C" } : Jvm.MethodName)) ∈ lw_all := lw_g (lw_at lw_m2 32 rfl) rfl
theorem q411 : (Jvm.Cond.code ({ cls := "java/lang/StringLatin1", name := "charAt", desc := "([BI)C" } : Jvm.MethodName) prog_32_method_2_code (2 : Nat) (Option.some Jvm.ClassFile.FieldType.char)) ∈ lw_all := lw_g (lw_at lw_m2 33 rfl) rfl
theorem q412 : (Jvm.Cond.methodLink "java/lang/StringLatin1" (9 : Nat) ({ cls := "java/lang/String", name := "checkIndex", desc := "(II)V" } : Jvm.MethodName)) ∈ lw_all := lw_g (lw_at lw_m2 34 rfl) rfl
theorem q458 : (Jvm.Cond.static ({ cls := "java/lang/StringLatin1", name := "indexOf", desc := "([BIII)I" } : Jvm.MethodName)) ∈ lw_all := lw_g (lw_at lw_m2 80 rfl) rfl
theorem q459 : (Jvm.Cond.code ({ cls := "java/lang/StringLatin1", name := "indexOf", desc := "([BIII)I" } : Jvm.MethodName) prog_32_method_22_code (4 : Nat) (Option.some Jvm.ClassFile.FieldType.int)) ∈ lw_all := lw_g (lw_at lw_m2 81 rfl) rfl
theorem q460 : (Jvm.Cond.methodLink "java/lang/StringLatin1" (88 : Nat) ({ cls := "java/lang/StringLatin1", name := "canEncode", desc := "(I)Z" } : Jvm.MethodName)) ∈ lw_all := lw_g (lw_at lw_m2 82 rfl) rfl
theorem q461 : (Jvm.Cond.static ({ cls := "java/lang/StringLatin1", name := "canEncode", desc := "(I)Z" } : Jvm.MethodName)) ∈ lw_all := lw_g (lw_at lw_m2 83 rfl) rfl
theorem q462 : (Jvm.Cond.code ({ cls := "java/lang/StringLatin1", name := "canEncode", desc := "(I)Z" } : Jvm.MethodName) prog_32_method_4_code (1 : Nat) (Option.some Jvm.ClassFile.FieldType.boolean)) ∈ lw_all := lw_g (lw_at lw_m2 84 rfl) rfl
theorem q463 : (Jvm.Cond.methodLink "java/lang/StringLatin1" (92 : Nat) ({ cls := "java/lang/Math", name := "max", desc := "(II)I" } : Jvm.MethodName)) ∈ lw_all := lw_g (lw_at lw_m2 85 rfl) rfl
theorem q466 : (Jvm.Cond.methodLink "java/lang/StringLatin1" (38 : Nat) ({ cls := "java/lang/Math", name := "min", desc := "(II)I" } : Jvm.MethodName)) ∈ lw_all := lw_g (lw_at lw_m2 88 rfl) rfl
theorem q469 : (Jvm.Cond.methodLink "java/lang/StringLatin1" (95 : Nat) ({ cls := "java/lang/StringLatin1", name := "indexOfChar", desc := "([BIII)I" } : Jvm.MethodName)) ∈ lw_all := lw_g (lw_at lw_m2 91 rfl) rfl
theorem q470 : (Jvm.Cond.static ({ cls := "java/lang/StringLatin1", name := "indexOfChar", desc := "([BIII)I" } : Jvm.MethodName)) ∈ lw_all := lw_g (lw_at lw_m2 92 rfl) rfl
theorem q471 : (Jvm.Cond.code ({ cls := "java/lang/StringLatin1", name := "indexOfChar", desc := "([BIII)I" } : Jvm.MethodName) prog_32_method_23_code (6 : Nat) (Option.some Jvm.ClassFile.FieldType.int)) ∈ lw_all := lw_g (lw_at lw_m2 93 rfl) rfl

/-! jdk/internal/util/Preconditions -/
set_option maxRecDepth 100000
def RJ5 : String := "jdk/internal/util/Preconditions"
abbrev cJ5_checkIndex : ByteArray := prog_49_method_11_code
def yJ5_checkIndex : MethodName := ⟨RJ5, "checkIndex", "(IILjava/util/function/BiFunction;)I"⟩
def dkwJ5_checkIndex_0 : List UInt8 := [26, 155, 0, 8, 26, 27, 161, 0, 10, 44, 26, 27, 184, 0, 95, 191, 26, 172]
abbrev dktJ5_checkIndex_0 : List UInt8 := dkwJ5_checkIndex_0 ++ []
theorem dksJ5_checkIndex_0 : cJ5_checkIndex.data.toList.drop 0 = dktJ5_checkIndex_0 := by decide +kernel
theorem dJ5_checkIndex_0 : decode cJ5_checkIndex 0 = .ok (.iload_n 0, 1) := dk_26 (dk_at dksJ5_checkIndex_0 0 rfl rfl)
theorem dJ5_checkIndex_1 : decode cJ5_checkIndex 1 = .ok (.ifCond .lt 8, 3) := dk_155 0 8 (dk_at dksJ5_checkIndex_0 1 rfl rfl)
theorem dJ5_checkIndex_4 : decode cJ5_checkIndex 4 = .ok (.iload_n 0, 1) := dk_26 (dk_at dksJ5_checkIndex_0 4 rfl rfl)
theorem dJ5_checkIndex_5 : decode cJ5_checkIndex 5 = .ok (.iload_n 1, 1) := dk_27 (dk_at dksJ5_checkIndex_0 5 rfl rfl)
theorem dJ5_checkIndex_6 : decode cJ5_checkIndex 6 = .ok (.if_icmp .lt 10, 3) := dk_161 0 10 (dk_at dksJ5_checkIndex_0 6 rfl rfl)
theorem dJ5_checkIndex_9 : decode cJ5_checkIndex 9 = .ok (.aload_n 2, 1) := dk_44 (dk_at dksJ5_checkIndex_0 9 rfl rfl)
theorem dJ5_checkIndex_10 : decode cJ5_checkIndex 10 = .ok (.iload_n 0, 1) := dk_26 (dk_at dksJ5_checkIndex_0 10 rfl rfl)
theorem dJ5_checkIndex_11 : decode cJ5_checkIndex 11 = .ok (.iload_n 1, 1) := dk_27 (dk_at dksJ5_checkIndex_0 11 rfl rfl)
theorem dJ5_checkIndex_12 : decode cJ5_checkIndex 12 = .ok (.invokestatic 95, 3) := dk_184 0 95 (dk_at dksJ5_checkIndex_0 12 rfl rfl)
theorem dJ5_checkIndex_15 : decode cJ5_checkIndex 15 = .ok (.athrow, 1) := dk_191 (dk_at dksJ5_checkIndex_0 15 rfl rfl)
theorem dJ5_checkIndex_16 : decode cJ5_checkIndex 16 = .ok (.iload_n 0, 1) := dk_26 (dk_at dksJ5_checkIndex_0 16 rfl rfl)
theorem dJ5_checkIndex_17 : decode cJ5_checkIndex 17 = .ok (.ireturn, 1) := dk_172 (dk_at dksJ5_checkIndex_0 17 rfl rfl)
abbrev cJ5_checkFromToIndex : ByteArray := prog_49_method_12_code
def yJ5_checkFromToIndex : MethodName := ⟨RJ5, "checkFromToIndex", "(IIILjava/util/function/BiFunction;)I"⟩
def dkwJ5_checkFromToIndex_0 : List UInt8 := [26, 155, 0, 13, 26, 27, 163, 0, 8, 27, 28, 164, 0, 11, 45, 26, 27, 28, 184, 0, 99, 191, 26, 172]
abbrev dktJ5_checkFromToIndex_0 : List UInt8 := dkwJ5_checkFromToIndex_0 ++ []
theorem dksJ5_checkFromToIndex_0 : cJ5_checkFromToIndex.data.toList.drop 0 = dktJ5_checkFromToIndex_0 := by decide +kernel
theorem dJ5_checkFromToIndex_0 : decode cJ5_checkFromToIndex 0 = .ok (.iload_n 0, 1) := dk_26 (dk_at dksJ5_checkFromToIndex_0 0 rfl rfl)
theorem dJ5_checkFromToIndex_1 : decode cJ5_checkFromToIndex 1 = .ok (.ifCond .lt 13, 3) := dk_155 0 13 (dk_at dksJ5_checkFromToIndex_0 1 rfl rfl)
theorem dJ5_checkFromToIndex_4 : decode cJ5_checkFromToIndex 4 = .ok (.iload_n 0, 1) := dk_26 (dk_at dksJ5_checkFromToIndex_0 4 rfl rfl)
theorem dJ5_checkFromToIndex_5 : decode cJ5_checkFromToIndex 5 = .ok (.iload_n 1, 1) := dk_27 (dk_at dksJ5_checkFromToIndex_0 5 rfl rfl)
theorem dJ5_checkFromToIndex_6 : decode cJ5_checkFromToIndex 6 = .ok (.if_icmp .gt 8, 3) := dk_163 0 8 (dk_at dksJ5_checkFromToIndex_0 6 rfl rfl)
theorem dJ5_checkFromToIndex_9 : decode cJ5_checkFromToIndex 9 = .ok (.iload_n 1, 1) := dk_27 (dk_at dksJ5_checkFromToIndex_0 9 rfl rfl)
theorem dJ5_checkFromToIndex_10 : decode cJ5_checkFromToIndex 10 = .ok (.iload_n 2, 1) := dk_28 (dk_at dksJ5_checkFromToIndex_0 10 rfl rfl)
theorem dJ5_checkFromToIndex_11 : decode cJ5_checkFromToIndex 11 = .ok (.if_icmp .le 11, 3) := dk_164 0 11 (dk_at dksJ5_checkFromToIndex_0 11 rfl rfl)
theorem dJ5_checkFromToIndex_14 : decode cJ5_checkFromToIndex 14 = .ok (.aload_n 3, 1) := dk_45 (dk_at dksJ5_checkFromToIndex_0 14 rfl rfl)
theorem dJ5_checkFromToIndex_15 : decode cJ5_checkFromToIndex 15 = .ok (.iload_n 0, 1) := dk_26 (dk_at dksJ5_checkFromToIndex_0 15 rfl rfl)
theorem dJ5_checkFromToIndex_16 : decode cJ5_checkFromToIndex 16 = .ok (.iload_n 1, 1) := dk_27 (dk_at dksJ5_checkFromToIndex_0 16 rfl rfl)
theorem dJ5_checkFromToIndex_17 : decode cJ5_checkFromToIndex 17 = .ok (.iload_n 2, 1) := dk_28 (dk_at dksJ5_checkFromToIndex_0 17 rfl rfl)
theorem dJ5_checkFromToIndex_18 : decode cJ5_checkFromToIndex 18 = .ok (.invokestatic 99, 3) := dk_184 0 99 (dk_at dksJ5_checkFromToIndex_0 18 rfl rfl)
theorem dJ5_checkFromToIndex_21 : decode cJ5_checkFromToIndex 21 = .ok (.athrow, 1) := dk_191 (dk_at dksJ5_checkFromToIndex_0 21 rfl rfl)
theorem dJ5_checkFromToIndex_22 : decode cJ5_checkFromToIndex 22 = .ok (.iload_n 0, 1) := dk_26 (dk_at dksJ5_checkFromToIndex_0 22 rfl rfl)
theorem dJ5_checkFromToIndex_23 : decode cJ5_checkFromToIndex 23 = .ok (.ireturn, 1) := dk_172 (dk_at dksJ5_checkFromToIndex_0 23 rfl rfl)
theorem q148 : (Jvm.Cond.initialized "jdk/internal/util/Preconditions") ∈ lw_all := lw_g (lw_at lw_m1 10 rfl) rfl
theorem q416 : (Jvm.Cond.laysStatic "jdk/internal/util/Preconditions" "SIOOBE_FORMATTER" "Ljava/util/function/BiFunction;") ∈ lw_tbl := lw_at lw_m2 38 rfl
theorem q418 : (Jvm.Cond.static ({ cls := "jdk/internal/util/Preconditions", name := "checkIndex", desc := "(IILjava/util/function/BiFunction;)I" } : Jvm.MethodName)) ∈ lw_all := lw_g (lw_at lw_m2 40 rfl) rfl
theorem q419 : (Jvm.Cond.code ({ cls := "jdk/internal/util/Preconditions", name := "checkIndex", desc := "(IILjava/util/function/BiFunction;)I" } : Jvm.MethodName) prog_49_method_11_code (3 : Nat) (Option.some Jvm.ClassFile.FieldType.int)) ∈ lw_all := lw_g (lw_at lw_m2 41 rfl) rfl
theorem q488 : (Jvm.Cond.static ({ cls := "jdk/internal/util/Preconditions", name := "checkFromToIndex", desc := "(IIILjava/util/function/BiFunction;)I" } : Jvm.MethodName)) ∈ lw_all := lw_g (lw_at lw_m2 110 rfl) rfl
theorem q489 : (Jvm.Cond.code ({ cls := "jdk/internal/util/Preconditions", name := "checkFromToIndex", desc := "(IIILjava/util/function/BiFunction;)I" } : Jvm.MethodName) prog_49_method_12_code (4 : Nat) (Option.some Jvm.ClassFile.FieldType.int)) ∈ lw_all := lw_g (lw_at lw_m2 111 rfl) rfl

/-! java/lang/StringUTF16 -/
set_option maxRecDepth 100000
def RJ6 : String := "java/lang/StringUTF16"
abbrev cJ6_charAt : ByteArray := prog_33_method_83_code
def yJ6_charAt : MethodName := ⟨RJ6, "charAt", "([BI)C"⟩
def dkwJ6_charAt_0 : List UInt8 := [27, 42, 184, 0, 67, 42, 27, 184, 0, 71, 172]
abbrev dktJ6_charAt_0 : List UInt8 := dkwJ6_charAt_0 ++ []
theorem dksJ6_charAt_0 : cJ6_charAt.data.toList.drop 0 = dktJ6_charAt_0 := by decide +kernel
theorem dJ6_charAt_0 : decode cJ6_charAt 0 = .ok (.iload_n 1, 1) := dk_27 (dk_at dksJ6_charAt_0 0 rfl rfl)
theorem dJ6_charAt_1 : decode cJ6_charAt 1 = .ok (.aload_n 0, 1) := dk_42 (dk_at dksJ6_charAt_0 1 rfl rfl)
theorem dJ6_charAt_2 : decode cJ6_charAt 2 = .ok (.invokestatic 67, 3) := dk_184 0 67 (dk_at dksJ6_charAt_0 2 rfl rfl)
theorem dJ6_charAt_5 : decode cJ6_charAt 5 = .ok (.aload_n 0, 1) := dk_42 (dk_at dksJ6_charAt_0 5 rfl rfl)
theorem dJ6_charAt_6 : decode cJ6_charAt 6 = .ok (.iload_n 1, 1) := dk_27 (dk_at dksJ6_charAt_0 6 rfl rfl)
theorem dJ6_charAt_7 : decode cJ6_charAt 7 = .ok (.invokestatic 71, 3) := dk_184 0 71 (dk_at dksJ6_charAt_0 7 rfl rfl)
theorem dJ6_charAt_10 : decode cJ6_charAt 10 = .ok (.ireturn, 1) := dk_172 (dk_at dksJ6_charAt_0 10 rfl rfl)
abbrev cJ6_checkIndex : ByteArray := prog_33_method_91_code
def yJ6_checkIndex : MethodName := ⟨RJ6, "checkIndex", "(I[B)V"⟩
def dkwJ6_checkIndex_0 : List UInt8 := [26, 43, 184, 0, 48, 184, 1, 158, 177]
abbrev dktJ6_checkIndex_0 : List UInt8 := dkwJ6_checkIndex_0 ++ []
theorem dksJ6_checkIndex_0 : cJ6_checkIndex.data.toList.drop 0 = dktJ6_checkIndex_0 := by decide +kernel
theorem dJ6_checkIndex_0 : decode cJ6_checkIndex 0 = .ok (.iload_n 0, 1) := dk_26 (dk_at dksJ6_checkIndex_0 0 rfl rfl)
theorem dJ6_checkIndex_1 : decode cJ6_checkIndex 1 = .ok (.aload_n 1, 1) := dk_43 (dk_at dksJ6_checkIndex_0 1 rfl rfl)
theorem dJ6_checkIndex_2 : decode cJ6_checkIndex 2 = .ok (.invokestatic 48, 3) := dk_184 0 48 (dk_at dksJ6_checkIndex_0 2 rfl rfl)
theorem dJ6_checkIndex_5 : decode cJ6_checkIndex 5 = .ok (.invokestatic 414, 3) := dk_184 1 158 (dk_at dksJ6_checkIndex_0 5 rfl rfl)
theorem dJ6_checkIndex_8 : decode cJ6_checkIndex 8 = .ok (.return_, 1) := dk_177 (dk_at dksJ6_checkIndex_0 8 rfl rfl)
abbrev cJ6_length : ByteArray := prog_33_method_6_code
def yJ6_length : MethodName := ⟨RJ6, "length", "([B)I"⟩
def dkwJ6_length_0 : List UInt8 := [42, 190, 4, 122, 172]
abbrev dktJ6_length_0 : List UInt8 := dkwJ6_length_0 ++ []
theorem dksJ6_length_0 : cJ6_length.data.toList.drop 0 = dktJ6_length_0 := by decide +kernel
theorem dJ6_length_0 : decode cJ6_length 0 = .ok (.aload_n 0, 1) := dk_42 (dk_at dksJ6_length_0 0 rfl rfl)
theorem dJ6_length_1 : decode cJ6_length 1 = .ok (.arraylength, 1) := dk_190 (dk_at dksJ6_length_0 1 rfl rfl)
theorem dJ6_length_2 : decode cJ6_length 2 = .ok (.iconst 1, 1) := dk_4 (dk_at dksJ6_length_0 2 rfl rfl)
theorem dJ6_length_3 : decode cJ6_length 3 = .ok (.ishr, 1) := dk_122 (dk_at dksJ6_length_0 3 rfl rfl)
theorem dJ6_length_4 : decode cJ6_length 4 = .ok (.ireturn, 1) := dk_172 (dk_at dksJ6_length_0 4 rfl rfl)
abbrev cJ6_getChar : ByteArray := prog_33_method_5_code
def yJ6_getChar : MethodName := ⟨RJ6, "getChar", "([BI)C"⟩
def dkwJ6_getChar_2 : List UInt8 := [51, 17, 0, 255, 126, 178, 0, 63, 120, 128, 146, 172]
abbrev dktJ6_getChar_2 : List UInt8 := dkwJ6_getChar_2 ++ []
def dkwJ6_getChar_1 : List UInt8 := [183, 0, 56, 191, 27, 4, 120, 60, 42, 27, 132, 1, 1, 51, 17, 0, 255, 126, 178, 0, 59, 120, 42, 27]
abbrev dktJ6_getChar_1 : List UInt8 := dkwJ6_getChar_1 ++ dktJ6_getChar_2
def dkwJ6_getChar_0 : List UInt8 := [178, 0, 44, 154, 0, 25, 27, 155, 0, 11, 27, 42, 184, 0, 48, 161, 0, 13, 187, 0, 52, 89, 18, 54]
abbrev dktJ6_getChar_0 : List UInt8 := dkwJ6_getChar_0 ++ dktJ6_getChar_1
theorem dksJ6_getChar_0 : cJ6_getChar.data.toList.drop 0 = dktJ6_getChar_0 := by decide +kernel
theorem dksJ6_getChar_1 : cJ6_getChar.data.toList.drop 24 = dktJ6_getChar_1 := dk_seg dksJ6_getChar_0 24 rfl rfl
theorem dksJ6_getChar_2 : cJ6_getChar.data.toList.drop 48 = dktJ6_getChar_2 := dk_seg dksJ6_getChar_1 24 rfl rfl
theorem dJ6_getChar_0 : decode cJ6_getChar 0 = .ok (.getstatic 44, 3) := dk_178 0 44 (dk_at dksJ6_getChar_0 0 rfl rfl)
theorem dJ6_getChar_3 : decode cJ6_getChar 3 = .ok (.ifCond .ne 25, 3) := dk_154 0 25 (dk_at dksJ6_getChar_0 3 rfl rfl)
theorem dJ6_getChar_6 : decode cJ6_getChar 6 = .ok (.iload_n 1, 1) := dk_27 (dk_at dksJ6_getChar_0 6 rfl rfl)
theorem dJ6_getChar_7 : decode cJ6_getChar 7 = .ok (.ifCond .lt 11, 3) := dk_155 0 11 (dk_at dksJ6_getChar_0 7 rfl rfl)
theorem dJ6_getChar_10 : decode cJ6_getChar 10 = .ok (.iload_n 1, 1) := dk_27 (dk_at dksJ6_getChar_0 10 rfl rfl)
theorem dJ6_getChar_11 : decode cJ6_getChar 11 = .ok (.aload_n 0, 1) := dk_42 (dk_at dksJ6_getChar_0 11 rfl rfl)
theorem dJ6_getChar_12 : decode cJ6_getChar 12 = .ok (.invokestatic 48, 3) := dk_184 0 48 (dk_at dksJ6_getChar_0 12 rfl rfl)
theorem dJ6_getChar_15 : decode cJ6_getChar 15 = .ok (.if_icmp .lt 13, 3) := dk_161 0 13 (dk_at dksJ6_getChar_0 15 rfl rfl)
theorem dJ6_getChar_18 : decode cJ6_getChar 18 = .ok (.new 52, 3) := dk_187 0 52 (dk_at dksJ6_getChar_0 18 rfl rfl)
theorem dJ6_getChar_21 : decode cJ6_getChar 21 = .ok (.dup, 1) := dk_89 (dk_at dksJ6_getChar_0 21 rfl rfl)
theorem dJ6_getChar_22 : decode cJ6_getChar 22 = .ok (.ldc 54, 2) := dk_18 54 (dk_at dksJ6_getChar_0 22 rfl rfl)
theorem dJ6_getChar_24 : decode cJ6_getChar 24 = .ok (.invokespecial 56, 3) := dk_183 0 56 (dk_at dksJ6_getChar_1 0 rfl rfl)
theorem dJ6_getChar_27 : decode cJ6_getChar 27 = .ok (.athrow, 1) := dk_191 (dk_at dksJ6_getChar_1 3 rfl rfl)
theorem dJ6_getChar_28 : decode cJ6_getChar 28 = .ok (.iload_n 1, 1) := dk_27 (dk_at dksJ6_getChar_1 4 rfl rfl)
theorem dJ6_getChar_29 : decode cJ6_getChar 29 = .ok (.iconst 1, 1) := dk_4 (dk_at dksJ6_getChar_1 5 rfl rfl)
theorem dJ6_getChar_30 : decode cJ6_getChar 30 = .ok (.ishl, 1) := dk_120 (dk_at dksJ6_getChar_1 6 rfl rfl)
theorem dJ6_getChar_31 : decode cJ6_getChar 31 = .ok (.istore_n 1, 1) := dk_60 (dk_at dksJ6_getChar_1 7 rfl rfl)
theorem dJ6_getChar_32 : decode cJ6_getChar 32 = .ok (.aload_n 0, 1) := dk_42 (dk_at dksJ6_getChar_1 8 rfl rfl)
theorem dJ6_getChar_33 : decode cJ6_getChar 33 = .ok (.iload_n 1, 1) := dk_27 (dk_at dksJ6_getChar_1 9 rfl rfl)
theorem dJ6_getChar_34 : decode cJ6_getChar 34 = .ok (.iinc 1 1, 3) := dk_132 1 1 (dk_at dksJ6_getChar_1 10 rfl rfl)
theorem dJ6_getChar_37 : decode cJ6_getChar 37 = .ok (.baload, 1) := dk_51 (dk_at dksJ6_getChar_1 13 rfl rfl)
theorem dJ6_getChar_38 : decode cJ6_getChar 38 = .ok (.sipush 255, 3) := dk_17 0 255 (dk_at dksJ6_getChar_1 14 rfl rfl)
theorem dJ6_getChar_41 : decode cJ6_getChar 41 = .ok (.iand, 1) := dk_126 (dk_at dksJ6_getChar_1 17 rfl rfl)
theorem dJ6_getChar_42 : decode cJ6_getChar 42 = .ok (.getstatic 59, 3) := dk_178 0 59 (dk_at dksJ6_getChar_1 18 rfl rfl)
theorem dJ6_getChar_45 : decode cJ6_getChar 45 = .ok (.ishl, 1) := dk_120 (dk_at dksJ6_getChar_1 21 rfl rfl)
theorem dJ6_getChar_46 : decode cJ6_getChar 46 = .ok (.aload_n 0, 1) := dk_42 (dk_at dksJ6_getChar_1 22 rfl rfl)
theorem dJ6_getChar_47 : decode cJ6_getChar 47 = .ok (.iload_n 1, 1) := dk_27 (dk_at dksJ6_getChar_1 23 rfl rfl)
theorem dJ6_getChar_48 : decode cJ6_getChar 48 = .ok (.baload, 1) := dk_51 (dk_at dksJ6_getChar_2 0 rfl rfl)
theorem dJ6_getChar_49 : decode cJ6_getChar 49 = .ok (.sipush 255, 3) := dk_17 0 255 (dk_at dksJ6_getChar_2 1 rfl rfl)
theorem dJ6_getChar_52 : decode cJ6_getChar 52 = .ok (.iand, 1) := dk_126 (dk_at dksJ6_getChar_2 4 rfl rfl)
theorem dJ6_getChar_53 : decode cJ6_getChar 53 = .ok (.getstatic 63, 3) := dk_178 0 63 (dk_at dksJ6_getChar_2 5 rfl rfl)
theorem dJ6_getChar_56 : decode cJ6_getChar 56 = .ok (.ishl, 1) := dk_120 (dk_at dksJ6_getChar_2 8 rfl rfl)
theorem dJ6_getChar_57 : decode cJ6_getChar 57 = .ok (.ior, 1) := dk_128 (dk_at dksJ6_getChar_2 9 rfl rfl)
theorem dJ6_getChar_58 : decode cJ6_getChar 58 = .ok (.i2c, 1) := dk_146 (dk_at dksJ6_getChar_2 10 rfl rfl)
theorem dJ6_getChar_59 : decode cJ6_getChar 59 = .ok (.ireturn, 1) := dk_172 (dk_at dksJ6_getChar_2 11 rfl rfl)
abbrev cJ6_indexOf : ByteArray := prog_33_method_40_code
def yJ6_indexOf : MethodName := ⟨RJ6, "indexOf", "([BIII)I"⟩
def dkwJ6_indexOf_1 : List UInt8 := [18, 227, 162, 0, 11, 42, 27, 28, 29, 184, 0, 228, 172, 42, 27, 28, 29, 184, 0, 232, 172]
abbrev dktJ6_indexOf_1 : List UInt8 := dkwJ6_indexOf_1 ++ []
def dkwJ6_indexOf_0 : List UInt8 := [28, 3, 184, 0, 224, 61, 29, 42, 190, 4, 122, 184, 0, 183, 62, 28, 29, 161, 0, 5, 2, 172, 27]
abbrev dktJ6_indexOf_0 : List UInt8 := dkwJ6_indexOf_0 ++ dktJ6_indexOf_1
theorem dksJ6_indexOf_0 : cJ6_indexOf.data.toList.drop 0 = dktJ6_indexOf_0 := by decide +kernel
theorem dksJ6_indexOf_1 : cJ6_indexOf.data.toList.drop 23 = dktJ6_indexOf_1 := dk_seg dksJ6_indexOf_0 23 rfl rfl
theorem dJ6_indexOf_0 : decode cJ6_indexOf 0 = .ok (.iload_n 2, 1) := dk_28 (dk_at dksJ6_indexOf_0 0 rfl rfl)
theorem dJ6_indexOf_1 : decode cJ6_indexOf 1 = .ok (.iconst 0, 1) := dk_3 (dk_at dksJ6_indexOf_0 1 rfl rfl)
theorem dJ6_indexOf_2 : decode cJ6_indexOf 2 = .ok (.invokestatic 224, 3) := dk_184 0 224 (dk_at dksJ6_indexOf_0 2 rfl rfl)
theorem dJ6_indexOf_5 : decode cJ6_indexOf 5 = .ok (.istore_n 2, 1) := dk_61 (dk_at dksJ6_indexOf_0 5 rfl rfl)
theorem dJ6_indexOf_6 : decode cJ6_indexOf 6 = .ok (.iload_n 3, 1) := dk_29 (dk_at dksJ6_indexOf_0 6 rfl rfl)
theorem dJ6_indexOf_7 : decode cJ6_indexOf 7 = .ok (.aload_n 0, 1) := dk_42 (dk_at dksJ6_indexOf_0 7 rfl rfl)
theorem dJ6_indexOf_8 : decode cJ6_indexOf 8 = .ok (.arraylength, 1) := dk_190 (dk_at dksJ6_indexOf_0 8 rfl rfl)
theorem dJ6_indexOf_9 : decode cJ6_indexOf 9 = .ok (.iconst 1, 1) := dk_4 (dk_at dksJ6_indexOf_0 9 rfl rfl)
theorem dJ6_indexOf_10 : decode cJ6_indexOf 10 = .ok (.ishr, 1) := dk_122 (dk_at dksJ6_indexOf_0 10 rfl rfl)
theorem dJ6_indexOf_11 : decode cJ6_indexOf 11 = .ok (.invokestatic 183, 3) := dk_184 0 183 (dk_at dksJ6_indexOf_0 11 rfl rfl)
theorem dJ6_indexOf_14 : decode cJ6_indexOf 14 = .ok (.istore_n 3, 1) := dk_62 (dk_at dksJ6_indexOf_0 14 rfl rfl)
theorem dJ6_indexOf_15 : decode cJ6_indexOf 15 = .ok (.iload_n 2, 1) := dk_28 (dk_at dksJ6_indexOf_0 15 rfl rfl)
theorem dJ6_indexOf_16 : decode cJ6_indexOf 16 = .ok (.iload_n 3, 1) := dk_29 (dk_at dksJ6_indexOf_0 16 rfl rfl)
theorem dJ6_indexOf_17 : decode cJ6_indexOf 17 = .ok (.if_icmp .lt 5, 3) := dk_161 0 5 (dk_at dksJ6_indexOf_0 17 rfl rfl)
theorem dJ6_indexOf_20 : decode cJ6_indexOf 20 = .ok (.iconst (-1), 1) := dk_2 (dk_at dksJ6_indexOf_0 20 rfl rfl)
theorem dJ6_indexOf_21 : decode cJ6_indexOf 21 = .ok (.ireturn, 1) := dk_172 (dk_at dksJ6_indexOf_0 21 rfl rfl)
theorem dJ6_indexOf_22 : decode cJ6_indexOf 22 = .ok (.iload_n 1, 1) := dk_27 (dk_at dksJ6_indexOf_0 22 rfl rfl)
theorem dJ6_indexOf_23 : decode cJ6_indexOf 23 = .ok (.ldc 227, 2) := dk_18 227 (dk_at dksJ6_indexOf_1 0 rfl rfl)
theorem dJ6_indexOf_25 : decode cJ6_indexOf 25 = .ok (.if_icmp .ge 11, 3) := dk_162 0 11 (dk_at dksJ6_indexOf_1 2 rfl rfl)
theorem dJ6_indexOf_28 : decode cJ6_indexOf 28 = .ok (.aload_n 0, 1) := dk_42 (dk_at dksJ6_indexOf_1 5 rfl rfl)
theorem dJ6_indexOf_29 : decode cJ6_indexOf 29 = .ok (.iload_n 1, 1) := dk_27 (dk_at dksJ6_indexOf_1 6 rfl rfl)
theorem dJ6_indexOf_30 : decode cJ6_indexOf 30 = .ok (.iload_n 2, 1) := dk_28 (dk_at dksJ6_indexOf_1 7 rfl rfl)
theorem dJ6_indexOf_31 : decode cJ6_indexOf 31 = .ok (.iload_n 3, 1) := dk_29 (dk_at dksJ6_indexOf_1 8 rfl rfl)
theorem dJ6_indexOf_32 : decode cJ6_indexOf 32 = .ok (.invokestatic 228, 3) := dk_184 0 228 (dk_at dksJ6_indexOf_1 9 rfl rfl)
theorem dJ6_indexOf_35 : decode cJ6_indexOf 35 = .ok (.ireturn, 1) := dk_172 (dk_at dksJ6_indexOf_1 12 rfl rfl)
theorem dJ6_indexOf_36 : decode cJ6_indexOf 36 = .ok (.aload_n 0, 1) := dk_42 (dk_at dksJ6_indexOf_1 13 rfl rfl)
theorem dJ6_indexOf_37 : decode cJ6_indexOf 37 = .ok (.iload_n 1, 1) := dk_27 (dk_at dksJ6_indexOf_1 14 rfl rfl)
theorem dJ6_indexOf_38 : decode cJ6_indexOf 38 = .ok (.iload_n 2, 1) := dk_28 (dk_at dksJ6_indexOf_1 15 rfl rfl)
theorem dJ6_indexOf_39 : decode cJ6_indexOf 39 = .ok (.iload_n 3, 1) := dk_29 (dk_at dksJ6_indexOf_1 16 rfl rfl)
theorem dJ6_indexOf_40 : decode cJ6_indexOf 40 = .ok (.invokestatic 232, 3) := dk_184 0 232 (dk_at dksJ6_indexOf_1 17 rfl rfl)
theorem dJ6_indexOf_43 : decode cJ6_indexOf 43 = .ok (.ireturn, 1) := dk_172 (dk_at dksJ6_indexOf_1 20 rfl rfl)
abbrev cJ6_indexOfChar : ByteArray := prog_33_method_47_code
def yJ6_indexOfChar : MethodName := ⟨RJ6, "indexOfChar", "([BIII)I"⟩
def dkwJ6_indexOfChar_0 : List UInt8 := [28, 29, 42, 184, 0, 96, 42, 27, 28, 29, 184, 0, 244, 172]
abbrev dktJ6_indexOfChar_0 : List UInt8 := dkwJ6_indexOfChar_0 ++ []
theorem dksJ6_indexOfChar_0 : cJ6_indexOfChar.data.toList.drop 0 = dktJ6_indexOfChar_0 := by decide +kernel
theorem dJ6_indexOfChar_0 : decode cJ6_indexOfChar 0 = .ok (.iload_n 2, 1) := dk_28 (dk_at dksJ6_indexOfChar_0 0 rfl rfl)
theorem dJ6_indexOfChar_1 : decode cJ6_indexOfChar 1 = .ok (.iload_n 3, 1) := dk_29 (dk_at dksJ6_indexOfChar_0 1 rfl rfl)
theorem dJ6_indexOfChar_2 : decode cJ6_indexOfChar 2 = .ok (.aload_n 0, 1) := dk_42 (dk_at dksJ6_indexOfChar_0 2 rfl rfl)
theorem dJ6_indexOfChar_3 : decode cJ6_indexOfChar 3 = .ok (.invokestatic 96, 3) := dk_184 0 96 (dk_at dksJ6_indexOfChar_0 3 rfl rfl)
theorem dJ6_indexOfChar_6 : decode cJ6_indexOfChar 6 = .ok (.aload_n 0, 1) := dk_42 (dk_at dksJ6_indexOfChar_0 6 rfl rfl)
theorem dJ6_indexOfChar_7 : decode cJ6_indexOfChar 7 = .ok (.iload_n 1, 1) := dk_27 (dk_at dksJ6_indexOfChar_0 7 rfl rfl)
theorem dJ6_indexOfChar_8 : decode cJ6_indexOfChar 8 = .ok (.iload_n 2, 1) := dk_28 (dk_at dksJ6_indexOfChar_0 8 rfl rfl)
theorem dJ6_indexOfChar_9 : decode cJ6_indexOfChar 9 = .ok (.iload_n 3, 1) := dk_29 (dk_at dksJ6_indexOfChar_0 9 rfl rfl)
theorem dJ6_indexOfChar_10 : decode cJ6_indexOfChar 10 = .ok (.invokestatic 244, 3) := dk_184 0 244 (dk_at dksJ6_indexOfChar_0 10 rfl rfl)
theorem dJ6_indexOfChar_13 : decode cJ6_indexOfChar 13 = .ok (.ireturn, 1) := dk_172 (dk_at dksJ6_indexOfChar_0 13 rfl rfl)
abbrev cJ6_checkBoundsBeginEnd : ByteArray := prog_33_method_93_code
def yJ6_checkBoundsBeginEnd : MethodName := ⟨RJ6, "checkBoundsBeginEnd", "(II[B)V"⟩
def dkwJ6_checkBoundsBeginEnd_0 : List UInt8 := [26, 27, 44, 184, 0, 48, 184, 0, 241, 177]
abbrev dktJ6_checkBoundsBeginEnd_0 : List UInt8 := dkwJ6_checkBoundsBeginEnd_0 ++ []
theorem dksJ6_checkBoundsBeginEnd_0 : cJ6_checkBoundsBeginEnd.data.toList.drop 0 = dktJ6_checkBoundsBeginEnd_0 := by decide +kernel
theorem dJ6_checkBoundsBeginEnd_0 : decode cJ6_checkBoundsBeginEnd 0 = .ok (.iload_n 0, 1) := dk_26 (dk_at dksJ6_checkBoundsBeginEnd_0 0 rfl rfl)
theorem dJ6_checkBoundsBeginEnd_1 : decode cJ6_checkBoundsBeginEnd 1 = .ok (.iload_n 1, 1) := dk_27 (dk_at dksJ6_checkBoundsBeginEnd_0 1 rfl rfl)
theorem dJ6_checkBoundsBeginEnd_2 : decode cJ6_checkBoundsBeginEnd 2 = .ok (.aload_n 2, 1) := dk_44 (dk_at dksJ6_checkBoundsBeginEnd_0 2 rfl rfl)
theorem dJ6_checkBoundsBeginEnd_3 : decode cJ6_checkBoundsBeginEnd 3 = .ok (.invokestatic 48, 3) := dk_184 0 48 (dk_at dksJ6_checkBoundsBeginEnd_0 3 rfl rfl)
theorem dJ6_checkBoundsBeginEnd_6 : decode cJ6_checkBoundsBeginEnd 6 = .ok (.invokestatic 241, 3) := dk_184 0 241 (dk_at dksJ6_checkBoundsBeginEnd_0 6 rfl rfl)
theorem dJ6_checkBoundsBeginEnd_9 : decode cJ6_checkBoundsBeginEnd 9 = .ok (.return_, 1) := dk_177 (dk_at dksJ6_checkBoundsBeginEnd_0 9 rfl rfl)
abbrev cJ6_indexOfCharUnsafe : ByteArray := prog_33_method_48_code
def yJ6_indexOfCharUnsafe : MethodName := ⟨RJ6, "indexOfCharUnsafe", "([BIII)I"⟩
def dkwJ6_indexOfCharUnsafe_1 : List UInt8 := [132, 4, 1, 167, 255, 234, 2, 172]
abbrev dktJ6_indexOfCharUnsafe_1 : List UInt8 := dkwJ6_indexOfCharUnsafe_1 ++ []
def dkwJ6_indexOfCharUnsafe_0 : List UInt8 := [28, 54, 4, 21, 4, 29, 162, 0, 22, 42, 21, 4, 184, 0, 71, 27, 160, 0, 6, 21, 4, 172]
abbrev dktJ6_indexOfCharUnsafe_0 : List UInt8 := dkwJ6_indexOfCharUnsafe_0 ++ dktJ6_indexOfCharUnsafe_1
theorem dksJ6_indexOfCharUnsafe_0 : cJ6_indexOfCharUnsafe.data.toList.drop 0 = dktJ6_indexOfCharUnsafe_0 := by decide +kernel
theorem dksJ6_indexOfCharUnsafe_1 : cJ6_indexOfCharUnsafe.data.toList.drop 22 = dktJ6_indexOfCharUnsafe_1 := dk_seg dksJ6_indexOfCharUnsafe_0 22 rfl rfl
theorem dJ6_indexOfCharUnsafe_0 : decode cJ6_indexOfCharUnsafe 0 = .ok (.iload_n 2, 1) := dk_28 (dk_at dksJ6_indexOfCharUnsafe_0 0 rfl rfl)
theorem dJ6_indexOfCharUnsafe_1 : decode cJ6_indexOfCharUnsafe 1 = .ok (.istore 4, 2) := dk_54 4 (dk_at dksJ6_indexOfCharUnsafe_0 1 rfl rfl)
theorem dJ6_indexOfCharUnsafe_3 : decode cJ6_indexOfCharUnsafe 3 = .ok (.iload 4, 2) := dk_21 4 (dk_at dksJ6_indexOfCharUnsafe_0 3 rfl rfl)
theorem dJ6_indexOfCharUnsafe_5 : decode cJ6_indexOfCharUnsafe 5 = .ok (.iload_n 3, 1) := dk_29 (dk_at dksJ6_indexOfCharUnsafe_0 5 rfl rfl)
theorem dJ6_indexOfCharUnsafe_6 : decode cJ6_indexOfCharUnsafe 6 = .ok (.if_icmp .ge 22, 3) := dk_162 0 22 (dk_at dksJ6_indexOfCharUnsafe_0 6 rfl rfl)
theorem dJ6_indexOfCharUnsafe_9 : decode cJ6_indexOfCharUnsafe 9 = .ok (.aload_n 0, 1) := dk_42 (dk_at dksJ6_indexOfCharUnsafe_0 9 rfl rfl)
theorem dJ6_indexOfCharUnsafe_10 : decode cJ6_indexOfCharUnsafe 10 = .ok (.iload 4, 2) := dk_21 4 (dk_at dksJ6_indexOfCharUnsafe_0 10 rfl rfl)
theorem dJ6_indexOfCharUnsafe_12 : decode cJ6_indexOfCharUnsafe 12 = .ok (.invokestatic 71, 3) := dk_184 0 71 (dk_at dksJ6_indexOfCharUnsafe_0 12 rfl rfl)
theorem dJ6_indexOfCharUnsafe_15 : decode cJ6_indexOfCharUnsafe 15 = .ok (.iload_n 1, 1) := dk_27 (dk_at dksJ6_indexOfCharUnsafe_0 15 rfl rfl)
theorem dJ6_indexOfCharUnsafe_16 : decode cJ6_indexOfCharUnsafe 16 = .ok (.if_icmp .ne 6, 3) := dk_160 0 6 (dk_at dksJ6_indexOfCharUnsafe_0 16 rfl rfl)
theorem dJ6_indexOfCharUnsafe_19 : decode cJ6_indexOfCharUnsafe 19 = .ok (.iload 4, 2) := dk_21 4 (dk_at dksJ6_indexOfCharUnsafe_0 19 rfl rfl)
theorem dJ6_indexOfCharUnsafe_21 : decode cJ6_indexOfCharUnsafe 21 = .ok (.ireturn, 1) := dk_172 (dk_at dksJ6_indexOfCharUnsafe_0 21 rfl rfl)
theorem dJ6_indexOfCharUnsafe_22 : decode cJ6_indexOfCharUnsafe 22 = .ok (.iinc 4 1, 3) := dk_132 4 1 (dk_at dksJ6_indexOfCharUnsafe_1 0 rfl rfl)
theorem dJ6_indexOfCharUnsafe_25 : decode cJ6_indexOfCharUnsafe 25 = .ok (.goto (-22), 3) := dk_167 255 234 (dk_at dksJ6_indexOfCharUnsafe_1 3 rfl rfl)
theorem dJ6_indexOfCharUnsafe_28 : decode cJ6_indexOfCharUnsafe 28 = .ok (.iconst (-1), 1) := dk_2 (dk_at dksJ6_indexOfCharUnsafe_1 6 rfl rfl)
theorem dJ6_indexOfCharUnsafe_29 : decode cJ6_indexOfCharUnsafe 29 = .ok (.ireturn, 1) := dk_172 (dk_at dksJ6_indexOfCharUnsafe_1 7 rfl rfl)
abbrev cJ6_indexOfSupplementary : ByteArray := prog_33_method_49_code
def yJ6_indexOfSupplementary : MethodName := ⟨RJ6, "indexOfSupplementary", "([BIII)I"⟩
def dkwJ6_indexOfSupplementary_3 : List UInt8 := [167, 255, 218, 2, 172]
abbrev dktJ6_indexOfSupplementary_3 : List UInt8 := dkwJ6_indexOfSupplementary_3 ++ []
def dkwJ6_indexOfSupplementary_2 : List UInt8 := [160, 0, 19, 42, 21, 6, 4, 96, 184, 0, 71, 21, 5, 160, 0, 6, 21, 6, 172, 132, 6, 1]
abbrev dktJ6_indexOfSupplementary_2 : List UInt8 := dkwJ6_indexOfSupplementary_2 ++ dktJ6_indexOfSupplementary_3
def dkwJ6_indexOfSupplementary_1 : List UInt8 := [184, 0, 96, 28, 54, 6, 21, 6, 29, 4, 100, 162, 0, 36, 42, 21, 6, 184, 0, 71, 21, 4]
abbrev dktJ6_indexOfSupplementary_1 : List UInt8 := dkwJ6_indexOfSupplementary_1 ++ dktJ6_indexOfSupplementary_2
def dkwJ6_indexOfSupplementary_0 : List UInt8 := [27, 184, 0, 164, 153, 0, 65, 27, 184, 0, 157, 54, 4, 27, 184, 0, 161, 54, 5, 28, 29, 42]
abbrev dktJ6_indexOfSupplementary_0 : List UInt8 := dkwJ6_indexOfSupplementary_0 ++ dktJ6_indexOfSupplementary_1
theorem dksJ6_indexOfSupplementary_0 : cJ6_indexOfSupplementary.data.toList.drop 0 = dktJ6_indexOfSupplementary_0 := by decide +kernel
theorem dksJ6_indexOfSupplementary_1 : cJ6_indexOfSupplementary.data.toList.drop 22 = dktJ6_indexOfSupplementary_1 := dk_seg dksJ6_indexOfSupplementary_0 22 rfl rfl
theorem dksJ6_indexOfSupplementary_2 : cJ6_indexOfSupplementary.data.toList.drop 44 = dktJ6_indexOfSupplementary_2 := dk_seg dksJ6_indexOfSupplementary_1 22 rfl rfl
theorem dksJ6_indexOfSupplementary_3 : cJ6_indexOfSupplementary.data.toList.drop 66 = dktJ6_indexOfSupplementary_3 := dk_seg dksJ6_indexOfSupplementary_2 22 rfl rfl
theorem dJ6_indexOfSupplementary_0 : decode cJ6_indexOfSupplementary 0 = .ok (.iload_n 1, 1) := dk_27 (dk_at dksJ6_indexOfSupplementary_0 0 rfl rfl)
theorem dJ6_indexOfSupplementary_1 : decode cJ6_indexOfSupplementary 1 = .ok (.invokestatic 164, 3) := dk_184 0 164 (dk_at dksJ6_indexOfSupplementary_0 1 rfl rfl)
theorem dJ6_indexOfSupplementary_4 : decode cJ6_indexOfSupplementary 4 = .ok (.ifCond .eq 65, 3) := dk_153 0 65 (dk_at dksJ6_indexOfSupplementary_0 4 rfl rfl)
theorem dJ6_indexOfSupplementary_7 : decode cJ6_indexOfSupplementary 7 = .ok (.iload_n 1, 1) := dk_27 (dk_at dksJ6_indexOfSupplementary_0 7 rfl rfl)
theorem dJ6_indexOfSupplementary_8 : decode cJ6_indexOfSupplementary 8 = .ok (.invokestatic 157, 3) := dk_184 0 157 (dk_at dksJ6_indexOfSupplementary_0 8 rfl rfl)
theorem dJ6_indexOfSupplementary_11 : decode cJ6_indexOfSupplementary 11 = .ok (.istore 4, 2) := dk_54 4 (dk_at dksJ6_indexOfSupplementary_0 11 rfl rfl)
theorem dJ6_indexOfSupplementary_13 : decode cJ6_indexOfSupplementary 13 = .ok (.iload_n 1, 1) := dk_27 (dk_at dksJ6_indexOfSupplementary_0 13 rfl rfl)
theorem dJ6_indexOfSupplementary_14 : decode cJ6_indexOfSupplementary 14 = .ok (.invokestatic 161, 3) := dk_184 0 161 (dk_at dksJ6_indexOfSupplementary_0 14 rfl rfl)
theorem dJ6_indexOfSupplementary_17 : decode cJ6_indexOfSupplementary 17 = .ok (.istore 5, 2) := dk_54 5 (dk_at dksJ6_indexOfSupplementary_0 17 rfl rfl)
theorem dJ6_indexOfSupplementary_19 : decode cJ6_indexOfSupplementary 19 = .ok (.iload_n 2, 1) := dk_28 (dk_at dksJ6_indexOfSupplementary_0 19 rfl rfl)
theorem dJ6_indexOfSupplementary_20 : decode cJ6_indexOfSupplementary 20 = .ok (.iload_n 3, 1) := dk_29 (dk_at dksJ6_indexOfSupplementary_0 20 rfl rfl)
theorem dJ6_indexOfSupplementary_21 : decode cJ6_indexOfSupplementary 21 = .ok (.aload_n 0, 1) := dk_42 (dk_at dksJ6_indexOfSupplementary_0 21 rfl rfl)
theorem dJ6_indexOfSupplementary_22 : decode cJ6_indexOfSupplementary 22 = .ok (.invokestatic 96, 3) := dk_184 0 96 (dk_at dksJ6_indexOfSupplementary_1 0 rfl rfl)
theorem dJ6_indexOfSupplementary_25 : decode cJ6_indexOfSupplementary 25 = .ok (.iload_n 2, 1) := dk_28 (dk_at dksJ6_indexOfSupplementary_1 3 rfl rfl)
theorem dJ6_indexOfSupplementary_26 : decode cJ6_indexOfSupplementary 26 = .ok (.istore 6, 2) := dk_54 6 (dk_at dksJ6_indexOfSupplementary_1 4 rfl rfl)
theorem dJ6_indexOfSupplementary_28 : decode cJ6_indexOfSupplementary 28 = .ok (.iload 6, 2) := dk_21 6 (dk_at dksJ6_indexOfSupplementary_1 6 rfl rfl)
theorem dJ6_indexOfSupplementary_30 : decode cJ6_indexOfSupplementary 30 = .ok (.iload_n 3, 1) := dk_29 (dk_at dksJ6_indexOfSupplementary_1 8 rfl rfl)
theorem dJ6_indexOfSupplementary_31 : decode cJ6_indexOfSupplementary 31 = .ok (.iconst 1, 1) := dk_4 (dk_at dksJ6_indexOfSupplementary_1 9 rfl rfl)
theorem dJ6_indexOfSupplementary_32 : decode cJ6_indexOfSupplementary 32 = .ok (.isub, 1) := dk_100 (dk_at dksJ6_indexOfSupplementary_1 10 rfl rfl)
theorem dJ6_indexOfSupplementary_33 : decode cJ6_indexOfSupplementary 33 = .ok (.if_icmp .ge 36, 3) := dk_162 0 36 (dk_at dksJ6_indexOfSupplementary_1 11 rfl rfl)
theorem dJ6_indexOfSupplementary_36 : decode cJ6_indexOfSupplementary 36 = .ok (.aload_n 0, 1) := dk_42 (dk_at dksJ6_indexOfSupplementary_1 14 rfl rfl)
theorem dJ6_indexOfSupplementary_37 : decode cJ6_indexOfSupplementary 37 = .ok (.iload 6, 2) := dk_21 6 (dk_at dksJ6_indexOfSupplementary_1 15 rfl rfl)
theorem dJ6_indexOfSupplementary_39 : decode cJ6_indexOfSupplementary 39 = .ok (.invokestatic 71, 3) := dk_184 0 71 (dk_at dksJ6_indexOfSupplementary_1 17 rfl rfl)
theorem dJ6_indexOfSupplementary_42 : decode cJ6_indexOfSupplementary 42 = .ok (.iload 4, 2) := dk_21 4 (dk_at dksJ6_indexOfSupplementary_1 20 rfl rfl)
theorem dJ6_indexOfSupplementary_44 : decode cJ6_indexOfSupplementary 44 = .ok (.if_icmp .ne 19, 3) := dk_160 0 19 (dk_at dksJ6_indexOfSupplementary_2 0 rfl rfl)
theorem dJ6_indexOfSupplementary_47 : decode cJ6_indexOfSupplementary 47 = .ok (.aload_n 0, 1) := dk_42 (dk_at dksJ6_indexOfSupplementary_2 3 rfl rfl)
theorem dJ6_indexOfSupplementary_48 : decode cJ6_indexOfSupplementary 48 = .ok (.iload 6, 2) := dk_21 6 (dk_at dksJ6_indexOfSupplementary_2 4 rfl rfl)
theorem dJ6_indexOfSupplementary_50 : decode cJ6_indexOfSupplementary 50 = .ok (.iconst 1, 1) := dk_4 (dk_at dksJ6_indexOfSupplementary_2 6 rfl rfl)
theorem dJ6_indexOfSupplementary_51 : decode cJ6_indexOfSupplementary 51 = .ok (.iadd, 1) := dk_96 (dk_at dksJ6_indexOfSupplementary_2 7 rfl rfl)
theorem dJ6_indexOfSupplementary_52 : decode cJ6_indexOfSupplementary 52 = .ok (.invokestatic 71, 3) := dk_184 0 71 (dk_at dksJ6_indexOfSupplementary_2 8 rfl rfl)
theorem dJ6_indexOfSupplementary_55 : decode cJ6_indexOfSupplementary 55 = .ok (.iload 5, 2) := dk_21 5 (dk_at dksJ6_indexOfSupplementary_2 11 rfl rfl)
theorem dJ6_indexOfSupplementary_57 : decode cJ6_indexOfSupplementary 57 = .ok (.if_icmp .ne 6, 3) := dk_160 0 6 (dk_at dksJ6_indexOfSupplementary_2 13 rfl rfl)
theorem dJ6_indexOfSupplementary_60 : decode cJ6_indexOfSupplementary 60 = .ok (.iload 6, 2) := dk_21 6 (dk_at dksJ6_indexOfSupplementary_2 16 rfl rfl)
theorem dJ6_indexOfSupplementary_62 : decode cJ6_indexOfSupplementary 62 = .ok (.ireturn, 1) := dk_172 (dk_at dksJ6_indexOfSupplementary_2 18 rfl rfl)
theorem dJ6_indexOfSupplementary_63 : decode cJ6_indexOfSupplementary 63 = .ok (.iinc 6 1, 3) := dk_132 6 1 (dk_at dksJ6_indexOfSupplementary_2 19 rfl rfl)
theorem dJ6_indexOfSupplementary_66 : decode cJ6_indexOfSupplementary 66 = .ok (.goto (-38), 3) := dk_167 255 218 (dk_at dksJ6_indexOfSupplementary_3 0 rfl rfl)
theorem dJ6_indexOfSupplementary_69 : decode cJ6_indexOfSupplementary 69 = .ok (.iconst (-1), 1) := dk_2 (dk_at dksJ6_indexOfSupplementary_3 3 rfl rfl)
theorem dJ6_indexOfSupplementary_70 : decode cJ6_indexOfSupplementary 70 = .ok (.ireturn, 1) := dk_172 (dk_at dksJ6_indexOfSupplementary_3 4 rfl rfl)
theorem q149 : (Jvm.Cond.initialized "java/lang/StringUTF16") ∈ lw_all := lw_g (lw_at lw_m1 11 rfl) rfl
theorem q421 : (Jvm.Cond.static ({ cls := "java/lang/StringUTF16", name := "charAt", desc := "([BI)C" } : Jvm.MethodName)) ∈ lw_all := lw_g (lw_at lw_m2 43 rfl) rfl
theorem q422 : (Jvm.Cond.code ({ cls := "java/lang/StringUTF16", name := "charAt", desc := "([BI)C" } : Jvm.MethodName) prog_33_method_83_code (2 : Nat) (Option.some Jvm.ClassFile.FieldType.char)) ∈ lw_all := lw_g (lw_at lw_m2 44 rfl) rfl
theorem q423 : (Jvm.Cond.methodLink "java/lang/StringUTF16" (67 : Nat) ({ cls := "java/lang/StringUTF16", name := "checkIndex", desc := "(I[B)V" } : Jvm.MethodName)) ∈ lw_all := lw_g (lw_at lw_m2 45 rfl) rfl
theorem q424 : (Jvm.Cond.static ({ cls := "java/lang/StringUTF16", name := "checkIndex", desc := "(I[B)V" } : Jvm.MethodName)) ∈ lw_all := lw_g (lw_at lw_m2 46 rfl) rfl
theorem q425 : (Jvm.Cond.code ({ cls := "java/lang/StringUTF16", name := "checkIndex", desc := "(I[B)V" } : Jvm.MethodName) prog_33_method_91_code (2 : Nat) (Option.none : Option Jvm.ClassFile.FieldType)) ∈ lw_all := lw_g (lw_at lw_m2 47 rfl) rfl
theorem q426 : (Jvm.Cond.methodLink "java/lang/StringUTF16" (48 : Nat) ({ cls := "java/lang/StringUTF16", name := "length", desc := "([B)I" } : Jvm.MethodName)) ∈ lw_all := lw_g (lw_at lw_m2 48 rfl) rfl
theorem q427 : (Jvm.Cond.static ({ cls := "java/lang/StringUTF16", name := "length", desc := "([B)I" } : Jvm.MethodName)) ∈ lw_all := lw_g (lw_at lw_m2 49 rfl) rfl
theorem q428 : (Jvm.Cond.code ({ cls := "java/lang/StringUTF16", name := "length", desc := "([B)I" } : Jvm.MethodName) prog_33_method_6_code (1 : Nat) (Option.some Jvm.ClassFile.FieldType.int)) ∈ lw_all := lw_g (lw_at lw_m2 50 rfl) rfl
theorem q429 : (Jvm.Cond.methodLink "java/lang/StringUTF16" (414 : Nat) ({ cls := "java/lang/String", name := "checkIndex", desc := "(II)V" } : Jvm.MethodName)) ∈ lw_all := lw_g (lw_at lw_m2 51 rfl) rfl
theorem q430 : (Jvm.Cond.methodLink "java/lang/StringUTF16" (71 : Nat) ({ cls := "java/lang/StringUTF16", name := "getChar", desc := "([BI)C" } : Jvm.MethodName)) ∈ lw_all := lw_g (lw_at lw_m2 52 rfl) rfl
theorem q431 : (Jvm.Cond.static ({ cls := "java/lang/StringUTF16", name := "getChar", desc := "([BI)C" } : Jvm.MethodName)) ∈ lw_all := lw_g (lw_at lw_m2 53 rfl) rfl
theorem q432 : (Jvm.Cond.code ({ cls := "java/lang/StringUTF16", name := "getChar", desc := "([BI)C" } : Jvm.MethodName) prog_33_method_5_code (2 : Nat) (Option.some Jvm.ClassFile.FieldType.char)) ∈ lw_all := lw_g (lw_at lw_m2 54 rfl) rfl
theorem q433 : (Jvm.Cond.fieldLink "java/lang/StringUTF16" (44 : Nat) "java/lang/StringUTF16" "$assertionsDisabled" "Z") ∈ lw_all := lw_g (lw_at lw_m2 55 rfl) rfl
theorem q434 : (Jvm.Cond.laysStatic "java/lang/StringUTF16" "$assertionsDisabled" "Z") ∈ lw_tbl := lw_at lw_m2 56 rfl
theorem q435 : (Jvm.Cond.fieldLink "java/lang/StringUTF16" (59 : Nat) "java/lang/StringUTF16" "HI_BYTE_SHIFT" "I") ∈ lw_all := lw_g (lw_at lw_m2 57 rfl) rfl
theorem q436 : (Jvm.Cond.laysStatic "java/lang/StringUTF16" "HI_BYTE_SHIFT" "I") ∈ lw_tbl := lw_at lw_m2 58 rfl
theorem q437 : (Jvm.Cond.fieldLink "java/lang/StringUTF16" (63 : Nat) "java/lang/StringUTF16" "LO_BYTE_SHIFT" "I") ∈ lw_all := lw_g (lw_at lw_m2 59 rfl) rfl
theorem q438 : (Jvm.Cond.laysStatic "java/lang/StringUTF16" "LO_BYTE_SHIFT" "I") ∈ lw_tbl := lw_at lw_m2 60 rfl
theorem q473 : (Jvm.Cond.static ({ cls := "java/lang/StringUTF16", name := "indexOf", desc := "([BIII)I" } : Jvm.MethodName)) ∈ lw_all := lw_g (lw_at lw_m2 95 rfl) rfl
theorem q474 : (Jvm.Cond.code ({ cls := "java/lang/StringUTF16", name := "indexOf", desc := "([BIII)I" } : Jvm.MethodName) prog_33_method_40_code (4 : Nat) (Option.some Jvm.ClassFile.FieldType.int)) ∈ lw_all := lw_g (lw_at lw_m2 96 rfl) rfl
theorem q475 : (Jvm.Cond.methodLink "java/lang/StringUTF16" (224 : Nat) ({ cls := "java/lang/Math", name := "max", desc := "(II)I" } : Jvm.MethodName)) ∈ lw_all := lw_g (lw_at lw_m2 97 rfl) rfl
theorem q476 : (Jvm.Cond.methodLink "java/lang/StringUTF16" (183 : Nat) ({ cls := "java/lang/Math", name := "min", desc := "(II)I" } : Jvm.MethodName)) ∈ lw_all := lw_g (lw_at lw_m2 98 rfl) rfl
theorem q477 : (Jvm.Cond.constant "java/lang/StringUTF16" (227 : Nat) (65536 : Int32)) ∈ lw_all := lw_g (lw_at lw_m2 99 rfl) rfl
theorem q478 : (Jvm.Cond.methodLink "java/lang/StringUTF16" (228 : Nat) ({ cls := "java/lang/StringUTF16", name := "indexOfChar", desc := "([BIII)I" } : Jvm.MethodName)) ∈ lw_all := lw_g (lw_at lw_m2 100 rfl) rfl
theorem q479 : (Jvm.Cond.static ({ cls := "java/lang/StringUTF16", name := "indexOfChar", desc := "([BIII)I" } : Jvm.MethodName)) ∈ lw_all := lw_g (lw_at lw_m2 101 rfl) rfl
theorem q480 : (Jvm.Cond.code ({ cls := "java/lang/StringUTF16", name := "indexOfChar", desc := "([BIII)I" } : Jvm.MethodName) prog_33_method_47_code (4 : Nat) (Option.some Jvm.ClassFile.FieldType.int)) ∈ lw_all := lw_g (lw_at lw_m2 102 rfl) rfl
theorem q481 : (Jvm.Cond.methodLink "java/lang/StringUTF16" (96 : Nat) ({ cls := "java/lang/StringUTF16", name := "checkBoundsBeginEnd", desc := "(II[B)V" } : Jvm.MethodName)) ∈ lw_all := lw_g (lw_at lw_m2 103 rfl) rfl
theorem q482 : (Jvm.Cond.static ({ cls := "java/lang/StringUTF16", name := "checkBoundsBeginEnd", desc := "(II[B)V" } : Jvm.MethodName)) ∈ lw_all := lw_g (lw_at lw_m2 104 rfl) rfl
theorem q483 : (Jvm.Cond.code ({ cls := "java/lang/StringUTF16", name := "checkBoundsBeginEnd", desc := "(II[B)V" } : Jvm.MethodName) prog_33_method_93_code (3 : Nat) (Option.none : Option Jvm.ClassFile.FieldType)) ∈ lw_all := lw_g (lw_at lw_m2 105 rfl) rfl
theorem q484 : (Jvm.Cond.methodLink "java/lang/StringUTF16" (241 : Nat) ({ cls := "java/lang/String", name := "checkBoundsBeginEnd", desc := "(III)V" } : Jvm.MethodName)) ∈ lw_all := lw_g (lw_at lw_m2 106 rfl) rfl
theorem q490 : (Jvm.Cond.methodLink "java/lang/StringUTF16" (244 : Nat) ({ cls := "java/lang/StringUTF16", name := "indexOfCharUnsafe", desc := "([BIII)I" } : Jvm.MethodName)) ∈ lw_all := lw_g (lw_at lw_m2 112 rfl) rfl
theorem q491 : (Jvm.Cond.static ({ cls := "java/lang/StringUTF16", name := "indexOfCharUnsafe", desc := "([BIII)I" } : Jvm.MethodName)) ∈ lw_all := lw_g (lw_at lw_m2 113 rfl) rfl
theorem q492 : (Jvm.Cond.code ({ cls := "java/lang/StringUTF16", name := "indexOfCharUnsafe", desc := "([BIII)I" } : Jvm.MethodName) prog_33_method_48_code (5 : Nat) (Option.some Jvm.ClassFile.FieldType.int)) ∈ lw_all := lw_g (lw_at lw_m2 114 rfl) rfl
theorem q493 : (Jvm.Cond.methodLink "java/lang/StringUTF16" (232 : Nat) ({ cls := "java/lang/StringUTF16", name := "indexOfSupplementary", desc := "([BIII)I" } : Jvm.MethodName)) ∈ lw_all := lw_g (lw_at lw_m2 115 rfl) rfl
theorem q494 : (Jvm.Cond.static ({ cls := "java/lang/StringUTF16", name := "indexOfSupplementary", desc := "([BIII)I" } : Jvm.MethodName)) ∈ lw_all := lw_g (lw_at lw_m2 116 rfl) rfl
theorem q495 : (Jvm.Cond.code ({ cls := "java/lang/StringUTF16", name := "indexOfSupplementary", desc := "([BIII)I" } : Jvm.MethodName) prog_33_method_49_code (7 : Nat) (Option.some Jvm.ClassFile.FieldType.int)) ∈ lw_all := lw_g (lw_at lw_m2 117 rfl) rfl
theorem q496 : (Jvm.Cond.methodLink "java/lang/StringUTF16" (164 : Nat) ({ cls := "java/lang/Character", name := "isValidCodePoint", desc := "(I)Z" } : Jvm.MethodName)) ∈ lw_all := lw_g (lw_at lw_m2 118 rfl) rfl
theorem q499 : (Jvm.Cond.methodLink "java/lang/StringUTF16" (157 : Nat) ({ cls := "java/lang/Character", name := "highSurrogate", desc := "(I)C" } : Jvm.MethodName)) ∈ lw_all := lw_g (lw_at lw_m2 121 rfl) rfl
theorem q503 : (Jvm.Cond.methodLink "java/lang/StringUTF16" (161 : Nat) ({ cls := "java/lang/Character", name := "lowSurrogate", desc := "(I)C" } : Jvm.MethodName)) ∈ lw_all := lw_g (lw_at lw_m2 125 rfl) rfl

/-! java/lang/Math -/
set_option maxRecDepth 100000
def RJ7 : String := "java/lang/Math"
abbrev cJ7_max : ByteArray := prog_29_method_65_code
def yJ7_max : MethodName := ⟨RJ7, "max", "(II)I"⟩
def dkwJ7_max_0 : List UInt8 := [26, 27, 161, 0, 7, 26, 167, 0, 4, 27, 172]
abbrev dktJ7_max_0 : List UInt8 := dkwJ7_max_0 ++ []
theorem dksJ7_max_0 : cJ7_max.data.toList.drop 0 = dktJ7_max_0 := by decide +kernel
theorem dJ7_max_0 : decode cJ7_max 0 = .ok (.iload_n 0, 1) := dk_26 (dk_at dksJ7_max_0 0 rfl rfl)
theorem dJ7_max_1 : decode cJ7_max 1 = .ok (.iload_n 1, 1) := dk_27 (dk_at dksJ7_max_0 1 rfl rfl)
theorem dJ7_max_2 : decode cJ7_max 2 = .ok (.if_icmp .lt 7, 3) := dk_161 0 7 (dk_at dksJ7_max_0 2 rfl rfl)
theorem dJ7_max_5 : decode cJ7_max 5 = .ok (.iload_n 0, 1) := dk_26 (dk_at dksJ7_max_0 5 rfl rfl)
theorem dJ7_max_6 : decode cJ7_max 6 = .ok (.goto 4, 3) := dk_167 0 4 (dk_at dksJ7_max_0 6 rfl rfl)
theorem dJ7_max_9 : decode cJ7_max 9 = .ok (.iload_n 1, 1) := dk_27 (dk_at dksJ7_max_0 9 rfl rfl)
theorem dJ7_max_10 : decode cJ7_max 10 = .ok (.ireturn, 1) := dk_172 (dk_at dksJ7_max_0 10 rfl rfl)
abbrev cJ7_min : ByteArray := prog_29_method_69_code
def yJ7_min : MethodName := ⟨RJ7, "min", "(II)I"⟩
def dkwJ7_min_0 : List UInt8 := [26, 27, 163, 0, 7, 26, 167, 0, 4, 27, 172]
abbrev dktJ7_min_0 : List UInt8 := dkwJ7_min_0 ++ []
theorem dksJ7_min_0 : cJ7_min.data.toList.drop 0 = dktJ7_min_0 := by decide +kernel
theorem dJ7_min_0 : decode cJ7_min 0 = .ok (.iload_n 0, 1) := dk_26 (dk_at dksJ7_min_0 0 rfl rfl)
theorem dJ7_min_1 : decode cJ7_min 1 = .ok (.iload_n 1, 1) := dk_27 (dk_at dksJ7_min_0 1 rfl rfl)
theorem dJ7_min_2 : decode cJ7_min 2 = .ok (.if_icmp .gt 7, 3) := dk_163 0 7 (dk_at dksJ7_min_0 2 rfl rfl)
theorem dJ7_min_5 : decode cJ7_min 5 = .ok (.iload_n 0, 1) := dk_26 (dk_at dksJ7_min_0 5 rfl rfl)
theorem dJ7_min_6 : decode cJ7_min 6 = .ok (.goto 4, 3) := dk_167 0 4 (dk_at dksJ7_min_0 6 rfl rfl)
theorem dJ7_min_9 : decode cJ7_min 9 = .ok (.iload_n 1, 1) := dk_27 (dk_at dksJ7_min_0 9 rfl rfl)
theorem dJ7_min_10 : decode cJ7_min 10 = .ok (.ireturn, 1) := dk_172 (dk_at dksJ7_min_0 10 rfl rfl)
abbrev cJ7_abs : ByteArray := prog_29_method_61_code
def yJ7_abs : MethodName := ⟨RJ7, "abs", "(J)J"⟩
def dkwJ7_abs_0 : List UInt8 := [30, 9, 148, 156, 0, 8, 30, 117, 167, 0, 4, 30, 173]
abbrev dktJ7_abs_0 : List UInt8 := dkwJ7_abs_0 ++ []
theorem dksJ7_abs_0 : cJ7_abs.data.toList.drop 0 = dktJ7_abs_0 := by decide +kernel
theorem dJ7_abs_0 : decode cJ7_abs 0 = .ok (.lload_n 0, 1) := dk_30 (dk_at dksJ7_abs_0 0 rfl rfl)
theorem dJ7_abs_1 : decode cJ7_abs 1 = .ok (.lconst 0, 1) := dk_9 (dk_at dksJ7_abs_0 1 rfl rfl)
theorem dJ7_abs_2 : decode cJ7_abs 2 = .ok (.lcmp, 1) := dk_148 (dk_at dksJ7_abs_0 2 rfl rfl)
theorem dJ7_abs_3 : decode cJ7_abs 3 = .ok (.ifCond .ge 8, 3) := dk_156 0 8 (dk_at dksJ7_abs_0 3 rfl rfl)
theorem dJ7_abs_6 : decode cJ7_abs 6 = .ok (.lload_n 0, 1) := dk_30 (dk_at dksJ7_abs_0 6 rfl rfl)
theorem dJ7_abs_7 : decode cJ7_abs 7 = .ok (.lneg, 1) := dk_117 (dk_at dksJ7_abs_0 7 rfl rfl)
theorem dJ7_abs_8 : decode cJ7_abs 8 = .ok (.goto 4, 3) := dk_167 0 4 (dk_at dksJ7_abs_0 8 rfl rfl)
theorem dJ7_abs_11 : decode cJ7_abs 11 = .ok (.lload_n 0, 1) := dk_30 (dk_at dksJ7_abs_0 11 rfl rfl)
theorem dJ7_abs_12 : decode cJ7_abs 12 = .ok (.lreturn, 1) := dk_173 (dk_at dksJ7_abs_0 12 rfl rfl)
abbrev cJ7_min_2 : ByteArray := prog_29_method_70_code
def yJ7_min_2 : MethodName := ⟨RJ7, "min", "(JJ)J"⟩
def dkwJ7_min_2_0 : List UInt8 := [30, 32, 148, 157, 0, 7, 30, 167, 0, 4, 32, 173]
abbrev dktJ7_min_2_0 : List UInt8 := dkwJ7_min_2_0 ++ []
theorem dksJ7_min_2_0 : cJ7_min_2.data.toList.drop 0 = dktJ7_min_2_0 := by decide +kernel
theorem dJ7_min_2_0 : decode cJ7_min_2 0 = .ok (.lload_n 0, 1) := dk_30 (dk_at dksJ7_min_2_0 0 rfl rfl)
theorem dJ7_min_2_1 : decode cJ7_min_2 1 = .ok (.lload_n 2, 1) := dk_32 (dk_at dksJ7_min_2_0 1 rfl rfl)
theorem dJ7_min_2_2 : decode cJ7_min_2 2 = .ok (.lcmp, 1) := dk_148 (dk_at dksJ7_min_2_0 2 rfl rfl)
theorem dJ7_min_2_3 : decode cJ7_min_2 3 = .ok (.ifCond .gt 7, 3) := dk_157 0 7 (dk_at dksJ7_min_2_0 3 rfl rfl)
theorem dJ7_min_2_6 : decode cJ7_min_2 6 = .ok (.lload_n 0, 1) := dk_30 (dk_at dksJ7_min_2_0 6 rfl rfl)
theorem dJ7_min_2_7 : decode cJ7_min_2 7 = .ok (.goto 4, 3) := dk_167 0 4 (dk_at dksJ7_min_2_0 7 rfl rfl)
theorem dJ7_min_2_10 : decode cJ7_min_2 10 = .ok (.lload_n 2, 1) := dk_32 (dk_at dksJ7_min_2_0 10 rfl rfl)
theorem dJ7_min_2_11 : decode cJ7_min_2 11 = .ok (.lreturn, 1) := dk_173 (dk_at dksJ7_min_2_0 11 rfl rfl)
abbrev cJ7_max_2 : ByteArray := prog_29_method_66_code
def yJ7_max_2 : MethodName := ⟨RJ7, "max", "(JJ)J"⟩
def dkwJ7_max_2_0 : List UInt8 := [30, 32, 148, 155, 0, 7, 30, 167, 0, 4, 32, 173]
abbrev dktJ7_max_2_0 : List UInt8 := dkwJ7_max_2_0 ++ []
theorem dksJ7_max_2_0 : cJ7_max_2.data.toList.drop 0 = dktJ7_max_2_0 := by decide +kernel
theorem dJ7_max_2_0 : decode cJ7_max_2 0 = .ok (.lload_n 0, 1) := dk_30 (dk_at dksJ7_max_2_0 0 rfl rfl)
theorem dJ7_max_2_1 : decode cJ7_max_2 1 = .ok (.lload_n 2, 1) := dk_32 (dk_at dksJ7_max_2_0 1 rfl rfl)
theorem dJ7_max_2_2 : decode cJ7_max_2 2 = .ok (.lcmp, 1) := dk_148 (dk_at dksJ7_max_2_0 2 rfl rfl)
theorem dJ7_max_2_3 : decode cJ7_max_2 3 = .ok (.ifCond .lt 7, 3) := dk_155 0 7 (dk_at dksJ7_max_2_0 3 rfl rfl)
theorem dJ7_max_2_6 : decode cJ7_max_2 6 = .ok (.lload_n 0, 1) := dk_30 (dk_at dksJ7_max_2_0 6 rfl rfl)
theorem dJ7_max_2_7 : decode cJ7_max_2 7 = .ok (.goto 4, 3) := dk_167 0 4 (dk_at dksJ7_max_2_0 7 rfl rfl)
theorem dJ7_max_2_10 : decode cJ7_max_2 10 = .ok (.lload_n 2, 1) := dk_32 (dk_at dksJ7_max_2_0 10 rfl rfl)
theorem dJ7_max_2_11 : decode cJ7_max_2 11 = .ok (.lreturn, 1) := dk_173 (dk_at dksJ7_max_2_0 11 rfl rfl)
theorem q150 : (Jvm.Cond.initialized "java/lang/Math") ∈ lw_all := lw_g (lw_at lw_m1 12 rfl) rfl
theorem q464 : (Jvm.Cond.static ({ cls := "java/lang/Math", name := "max", desc := "(II)I" } : Jvm.MethodName)) ∈ lw_all := lw_g (lw_at lw_m2 86 rfl) rfl
theorem q465 : (Jvm.Cond.code ({ cls := "java/lang/Math", name := "max", desc := "(II)I" } : Jvm.MethodName) prog_29_method_65_code (2 : Nat) (Option.some Jvm.ClassFile.FieldType.int)) ∈ lw_all := lw_g (lw_at lw_m2 87 rfl) rfl
theorem q467 : (Jvm.Cond.static ({ cls := "java/lang/Math", name := "min", desc := "(II)I" } : Jvm.MethodName)) ∈ lw_all := lw_g (lw_at lw_m2 89 rfl) rfl
theorem q468 : (Jvm.Cond.code ({ cls := "java/lang/Math", name := "min", desc := "(II)I" } : Jvm.MethodName) prog_29_method_69_code (2 : Nat) (Option.some Jvm.ClassFile.FieldType.int)) ∈ lw_all := lw_g (lw_at lw_m2 90 rfl) rfl
theorem q1254 : (Jvm.Cond.static ({ cls := "java/lang/Math", name := "abs", desc := "(J)J" } : Jvm.MethodName)) ∈ lw_all := lw_g (lw_at lw_m5 156 rfl) rfl
theorem q1255 : (Jvm.Cond.code ({ cls := "java/lang/Math", name := "abs", desc := "(J)J" } : Jvm.MethodName) prog_29_method_61_code (2 : Nat) (Option.some Jvm.ClassFile.FieldType.long)) ∈ lw_all := lw_g (lw_at lw_m5 157 rfl) rfl
theorem q1264 : (Jvm.Cond.static ({ cls := "java/lang/Math", name := "min", desc := "(JJ)J" } : Jvm.MethodName)) ∈ lw_all := lw_g (lw_at lw_m5 166 rfl) rfl
theorem q1265 : (Jvm.Cond.code ({ cls := "java/lang/Math", name := "min", desc := "(JJ)J" } : Jvm.MethodName) prog_29_method_70_code (4 : Nat) (Option.some Jvm.ClassFile.FieldType.long)) ∈ lw_all := lw_g (lw_at lw_m5 167 rfl) rfl
theorem q1267 : (Jvm.Cond.static ({ cls := "java/lang/Math", name := "max", desc := "(JJ)J" } : Jvm.MethodName)) ∈ lw_all := lw_g (lw_at lw_m5 169 rfl) rfl
theorem q1268 : (Jvm.Cond.code ({ cls := "java/lang/Math", name := "max", desc := "(JJ)J" } : Jvm.MethodName) prog_29_method_66_code (4 : Nat) (Option.some Jvm.ClassFile.FieldType.long)) ∈ lw_all := lw_g (lw_at lw_m5 170 rfl) rfl

/-! java/lang/Character -/
set_option maxRecDepth 100000
def RJ8 : String := "java/lang/Character"
abbrev cJ8_isValidCodePoint : ByteArray := prog_22_method_11_code
def yJ8_isValidCodePoint : MethodName := ⟨RJ8, "isValidCodePoint", "(I)Z"⟩
def dkwJ8_isValidCodePoint_0 : List UInt8 := [26, 16, 16, 124, 60, 27, 16, 17, 162, 0, 7, 4, 167, 0, 4, 3, 172]
abbrev dktJ8_isValidCodePoint_0 : List UInt8 := dkwJ8_isValidCodePoint_0 ++ []
theorem dksJ8_isValidCodePoint_0 : cJ8_isValidCodePoint.data.toList.drop 0 = dktJ8_isValidCodePoint_0 := by decide +kernel
theorem dJ8_isValidCodePoint_0 : decode cJ8_isValidCodePoint 0 = .ok (.iload_n 0, 1) := dk_26 (dk_at dksJ8_isValidCodePoint_0 0 rfl rfl)
theorem dJ8_isValidCodePoint_1 : decode cJ8_isValidCodePoint 1 = .ok (.bipush 16, 2) := dk_16 16 (dk_at dksJ8_isValidCodePoint_0 1 rfl rfl)
theorem dJ8_isValidCodePoint_3 : decode cJ8_isValidCodePoint 3 = .ok (.iushr, 1) := dk_124 (dk_at dksJ8_isValidCodePoint_0 3 rfl rfl)
theorem dJ8_isValidCodePoint_4 : decode cJ8_isValidCodePoint 4 = .ok (.istore_n 1, 1) := dk_60 (dk_at dksJ8_isValidCodePoint_0 4 rfl rfl)
theorem dJ8_isValidCodePoint_5 : decode cJ8_isValidCodePoint 5 = .ok (.iload_n 1, 1) := dk_27 (dk_at dksJ8_isValidCodePoint_0 5 rfl rfl)
theorem dJ8_isValidCodePoint_6 : decode cJ8_isValidCodePoint 6 = .ok (.bipush 17, 2) := dk_16 17 (dk_at dksJ8_isValidCodePoint_0 6 rfl rfl)
theorem dJ8_isValidCodePoint_8 : decode cJ8_isValidCodePoint 8 = .ok (.if_icmp .ge 7, 3) := dk_162 0 7 (dk_at dksJ8_isValidCodePoint_0 8 rfl rfl)
theorem dJ8_isValidCodePoint_11 : decode cJ8_isValidCodePoint 11 = .ok (.iconst 1, 1) := dk_4 (dk_at dksJ8_isValidCodePoint_0 11 rfl rfl)
theorem dJ8_isValidCodePoint_12 : decode cJ8_isValidCodePoint 12 = .ok (.goto 4, 3) := dk_167 0 4 (dk_at dksJ8_isValidCodePoint_0 12 rfl rfl)
theorem dJ8_isValidCodePoint_15 : decode cJ8_isValidCodePoint 15 = .ok (.iconst 0, 1) := dk_3 (dk_at dksJ8_isValidCodePoint_0 15 rfl rfl)
theorem dJ8_isValidCodePoint_16 : decode cJ8_isValidCodePoint 16 = .ok (.ireturn, 1) := dk_172 (dk_at dksJ8_isValidCodePoint_0 16 rfl rfl)
abbrev cJ8_highSurrogate : ByteArray := prog_22_method_28_code
def yJ8_highSurrogate : MethodName := ⟨RJ8, "highSurrogate", "(I)C"⟩
def dkwJ8_highSurrogate_0 : List UInt8 := [26, 16, 10, 124, 18, 110, 96, 146, 172]
abbrev dktJ8_highSurrogate_0 : List UInt8 := dkwJ8_highSurrogate_0 ++ []
theorem dksJ8_highSurrogate_0 : cJ8_highSurrogate.data.toList.drop 0 = dktJ8_highSurrogate_0 := by decide +kernel
theorem dJ8_highSurrogate_0 : decode cJ8_highSurrogate 0 = .ok (.iload_n 0, 1) := dk_26 (dk_at dksJ8_highSurrogate_0 0 rfl rfl)
theorem dJ8_highSurrogate_1 : decode cJ8_highSurrogate 1 = .ok (.bipush 10, 2) := dk_16 10 (dk_at dksJ8_highSurrogate_0 1 rfl rfl)
theorem dJ8_highSurrogate_3 : decode cJ8_highSurrogate 3 = .ok (.iushr, 1) := dk_124 (dk_at dksJ8_highSurrogate_0 3 rfl rfl)
theorem dJ8_highSurrogate_4 : decode cJ8_highSurrogate 4 = .ok (.ldc 110, 2) := dk_18 110 (dk_at dksJ8_highSurrogate_0 4 rfl rfl)
theorem dJ8_highSurrogate_6 : decode cJ8_highSurrogate 6 = .ok (.iadd, 1) := dk_96 (dk_at dksJ8_highSurrogate_0 6 rfl rfl)
theorem dJ8_highSurrogate_7 : decode cJ8_highSurrogate 7 = .ok (.i2c, 1) := dk_146 (dk_at dksJ8_highSurrogate_0 7 rfl rfl)
theorem dJ8_highSurrogate_8 : decode cJ8_highSurrogate 8 = .ok (.ireturn, 1) := dk_172 (dk_at dksJ8_highSurrogate_0 8 rfl rfl)
abbrev cJ8_lowSurrogate : ByteArray := prog_22_method_29_code
def yJ8_lowSurrogate : MethodName := ⟨RJ8, "lowSurrogate", "(I)C"⟩
def dkwJ8_lowSurrogate_0 : List UInt8 := [26, 17, 3, 255, 126, 18, 76, 96, 146, 172]
abbrev dktJ8_lowSurrogate_0 : List UInt8 := dkwJ8_lowSurrogate_0 ++ []
theorem dksJ8_lowSurrogate_0 : cJ8_lowSurrogate.data.toList.drop 0 = dktJ8_lowSurrogate_0 := by decide +kernel
theorem dJ8_lowSurrogate_0 : decode cJ8_lowSurrogate 0 = .ok (.iload_n 0, 1) := dk_26 (dk_at dksJ8_lowSurrogate_0 0 rfl rfl)
theorem dJ8_lowSurrogate_1 : decode cJ8_lowSurrogate 1 = .ok (.sipush 1023, 3) := dk_17 3 255 (dk_at dksJ8_lowSurrogate_0 1 rfl rfl)
theorem dJ8_lowSurrogate_4 : decode cJ8_lowSurrogate 4 = .ok (.iand, 1) := dk_126 (dk_at dksJ8_lowSurrogate_0 4 rfl rfl)
theorem dJ8_lowSurrogate_5 : decode cJ8_lowSurrogate 5 = .ok (.ldc 76, 2) := dk_18 76 (dk_at dksJ8_lowSurrogate_0 5 rfl rfl)
theorem dJ8_lowSurrogate_7 : decode cJ8_lowSurrogate 7 = .ok (.iadd, 1) := dk_96 (dk_at dksJ8_lowSurrogate_0 7 rfl rfl)
theorem dJ8_lowSurrogate_8 : decode cJ8_lowSurrogate 8 = .ok (.i2c, 1) := dk_146 (dk_at dksJ8_lowSurrogate_0 8 rfl rfl)
theorem dJ8_lowSurrogate_9 : decode cJ8_lowSurrogate 9 = .ok (.ireturn, 1) := dk_172 (dk_at dksJ8_lowSurrogate_0 9 rfl rfl)
theorem q151 : (Jvm.Cond.initialized "java/lang/Character") ∈ lw_all := lw_g (lw_at lw_m1 13 rfl) rfl
theorem q497 : (Jvm.Cond.static ({ cls := "java/lang/Character", name := "isValidCodePoint", desc := "(I)Z" } : Jvm.MethodName)) ∈ lw_all := lw_g (lw_at lw_m2 119 rfl) rfl
theorem q498 : (Jvm.Cond.code ({ cls := "java/lang/Character", name := "isValidCodePoint", desc := "(I)Z" } : Jvm.MethodName) prog_22_method_11_code (2 : Nat) (Option.some Jvm.ClassFile.FieldType.boolean)) ∈ lw_all := lw_g (lw_at lw_m2 120 rfl) rfl
theorem q500 : (Jvm.Cond.static ({ cls := "java/lang/Character", name := "highSurrogate", desc := "(I)C" } : Jvm.MethodName)) ∈ lw_all := lw_g (lw_at lw_m2 122 rfl) rfl
theorem q501 : (Jvm.Cond.code ({ cls := "java/lang/Character", name := "highSurrogate", desc := "(I)C" } : Jvm.MethodName) prog_22_method_28_code (1 : Nat) (Option.some Jvm.ClassFile.FieldType.char)) ∈ lw_all := lw_g (lw_at lw_m2 123 rfl) rfl
theorem q502 : (Jvm.Cond.constant "java/lang/Character" (110 : Nat) (55232 : Int32)) ∈ lw_all := lw_g (lw_at lw_m2 124 rfl) rfl
theorem q504 : (Jvm.Cond.static ({ cls := "java/lang/Character", name := "lowSurrogate", desc := "(I)C" } : Jvm.MethodName)) ∈ lw_all := lw_g (lw_at lw_m2 126 rfl) rfl
theorem q505 : (Jvm.Cond.code ({ cls := "java/lang/Character", name := "lowSurrogate", desc := "(I)C" } : Jvm.MethodName) prog_22_method_29_code (1 : Nat) (Option.some Jvm.ClassFile.FieldType.char)) ∈ lw_all := lw_g (lw_at lw_m2 127 rfl) rfl
theorem q506 : (Jvm.Cond.constant "java/lang/Character" (76 : Nat) (56320 : Int32)) ∈ lw_all := lw_g (lw_at lw_m2 128 rfl) rfl

/-! java/lang/Throwable -/
set_option maxRecDepth 100000
def RJ9 : String := "java/lang/Throwable"
def TJ9 : u_T := fun k => match k with
  | 0 => ("java/lang/Throwable", "cause", "Ljava/lang/Throwable;", false)
  | 1 => ("java/lang/Throwable", "stackTrace", "[Ljava/lang/StackTraceElement;", false)
  | 2 => ("java/lang/Throwable", "suppressedExceptions", "Ljava/util/List;", false)
  | 3 => ("java/lang/Throwable", "detailMessage", "Ljava/lang/String;", false)
  | _ => ("java/lang/Throwable", "backtrace", "Ljava/lang/Object;", false)
def tyJ9 : Nat → FieldType := fun k => match k with
  | 0 => .object "java/lang/Throwable"
  | 1 => .array (.object "java/lang/StackTraceElement")
  | 2 => .object "java/util/List"
  | 3 => .object "java/lang/String"
  | _ => .object "java/lang/Object"
abbrev wsJ90 : List Cond := u_ws RJ9 TJ9 5
theorem nmJ9 : ∀ a, a < 5 → ∀ b, b < 5 → a ≠ b → (TJ9 a).2.1 ≠ (TJ9 b).2.1 := by decide +kernel
theorem tyJ9_ok : ∀ k, k < 5 → parseFieldDescriptor (TJ9 k).2.2.1 = some (tyJ9 k) := by decide +kernel
abbrev cJ9_init : ByteArray := prog_35_method_1_code
def yJ9_init : MethodName := ⟨RJ9, "<init>", "()V"⟩
def dkwJ9_init_1 : List UInt8 := [182, 0, 27, 87, 177]
abbrev dktJ9_init_1 : List UInt8 := dkwJ9_init_1 ++ []
def dkwJ9_init_0 : List UInt8 := [42, 183, 0, 1, 42, 42, 181, 0, 7, 42, 178, 0, 13, 181, 0, 17, 42, 178, 0, 20, 181, 0, 24, 42]
abbrev dktJ9_init_0 : List UInt8 := dkwJ9_init_0 ++ dktJ9_init_1
theorem dksJ9_init_0 : cJ9_init.data.toList.drop 0 = dktJ9_init_0 := by decide +kernel
theorem dksJ9_init_1 : cJ9_init.data.toList.drop 24 = dktJ9_init_1 := dk_seg dksJ9_init_0 24 rfl rfl
theorem dJ9_init_0 : decode cJ9_init 0 = .ok (.aload_n 0, 1) := dk_42 (dk_at dksJ9_init_0 0 rfl rfl)
theorem dJ9_init_1 : decode cJ9_init 1 = .ok (.invokespecial 1, 3) := dk_183 0 1 (dk_at dksJ9_init_0 1 rfl rfl)
theorem dJ9_init_4 : decode cJ9_init 4 = .ok (.aload_n 0, 1) := dk_42 (dk_at dksJ9_init_0 4 rfl rfl)
theorem dJ9_init_5 : decode cJ9_init 5 = .ok (.aload_n 0, 1) := dk_42 (dk_at dksJ9_init_0 5 rfl rfl)
theorem dJ9_init_6 : decode cJ9_init 6 = .ok (.putfield 7, 3) := dk_181 0 7 (dk_at dksJ9_init_0 6 rfl rfl)
theorem dJ9_init_9 : decode cJ9_init 9 = .ok (.aload_n 0, 1) := dk_42 (dk_at dksJ9_init_0 9 rfl rfl)
theorem dJ9_init_10 : decode cJ9_init 10 = .ok (.getstatic 13, 3) := dk_178 0 13 (dk_at dksJ9_init_0 10 rfl rfl)
theorem dJ9_init_13 : decode cJ9_init 13 = .ok (.putfield 17, 3) := dk_181 0 17 (dk_at dksJ9_init_0 13 rfl rfl)
theorem dJ9_init_16 : decode cJ9_init 16 = .ok (.aload_n 0, 1) := dk_42 (dk_at dksJ9_init_0 16 rfl rfl)
theorem dJ9_init_17 : decode cJ9_init 17 = .ok (.getstatic 20, 3) := dk_178 0 20 (dk_at dksJ9_init_0 17 rfl rfl)
theorem dJ9_init_20 : decode cJ9_init 20 = .ok (.putfield 24, 3) := dk_181 0 24 (dk_at dksJ9_init_0 20 rfl rfl)
theorem dJ9_init_23 : decode cJ9_init 23 = .ok (.aload_n 0, 1) := dk_42 (dk_at dksJ9_init_0 23 rfl rfl)
theorem dJ9_init_24 : decode cJ9_init 24 = .ok (.invokevirtual 27, 3) := dk_182 0 27 (dk_at dksJ9_init_1 0 rfl rfl)
theorem dJ9_init_27 : decode cJ9_init 27 = .ok (.pop, 1) := dk_87 (dk_at dksJ9_init_1 3 rfl rfl)
theorem dJ9_init_28 : decode cJ9_init 28 = .ok (.return_, 1) := dk_177 (dk_at dksJ9_init_1 4 rfl rfl)
abbrev cJ9_init_2 : ByteArray := prog_35_method_5_code
def yJ9_init_2 : MethodName := ⟨RJ9, "<init>", "(Ljava/lang/String;Ljava/lang/Throwable;ZZ)V"⟩
def dkwJ9_init_2_2 : List UInt8 := [44, 181, 0, 7, 29, 154, 0, 8, 42, 1, 181, 0, 24, 177]
abbrev dktJ9_init_2_2 : List UInt8 := dkwJ9_init_2_2 ++ []
def dkwJ9_init_2_1 : List UInt8 := [21, 4, 153, 0, 11, 42, 182, 0, 27, 87, 167, 0, 8, 42, 1, 181, 0, 17, 42, 43, 181, 0, 31, 42]
abbrev dktJ9_init_2_1 : List UInt8 := dkwJ9_init_2_1 ++ dktJ9_init_2_2
def dkwJ9_init_2_0 : List UInt8 := [42, 183, 0, 1, 42, 42, 181, 0, 7, 42, 178, 0, 13, 181, 0, 17, 42, 178, 0, 20, 181, 0, 24]
abbrev dktJ9_init_2_0 : List UInt8 := dkwJ9_init_2_0 ++ dktJ9_init_2_1
theorem dksJ9_init_2_0 : cJ9_init_2.data.toList.drop 0 = dktJ9_init_2_0 := by decide +kernel
theorem dksJ9_init_2_1 : cJ9_init_2.data.toList.drop 23 = dktJ9_init_2_1 := dk_seg dksJ9_init_2_0 23 rfl rfl
theorem dksJ9_init_2_2 : cJ9_init_2.data.toList.drop 47 = dktJ9_init_2_2 := dk_seg dksJ9_init_2_1 24 rfl rfl
theorem dJ9_init_2_0 : decode cJ9_init_2 0 = .ok (.aload_n 0, 1) := dk_42 (dk_at dksJ9_init_2_0 0 rfl rfl)
theorem dJ9_init_2_1 : decode cJ9_init_2 1 = .ok (.invokespecial 1, 3) := dk_183 0 1 (dk_at dksJ9_init_2_0 1 rfl rfl)
theorem dJ9_init_2_4 : decode cJ9_init_2 4 = .ok (.aload_n 0, 1) := dk_42 (dk_at dksJ9_init_2_0 4 rfl rfl)
theorem dJ9_init_2_5 : decode cJ9_init_2 5 = .ok (.aload_n 0, 1) := dk_42 (dk_at dksJ9_init_2_0 5 rfl rfl)
theorem dJ9_init_2_6 : decode cJ9_init_2 6 = .ok (.putfield 7, 3) := dk_181 0 7 (dk_at dksJ9_init_2_0 6 rfl rfl)
theorem dJ9_init_2_9 : decode cJ9_init_2 9 = .ok (.aload_n 0, 1) := dk_42 (dk_at dksJ9_init_2_0 9 rfl rfl)
theorem dJ9_init_2_10 : decode cJ9_init_2 10 = .ok (.getstatic 13, 3) := dk_178 0 13 (dk_at dksJ9_init_2_0 10 rfl rfl)
theorem dJ9_init_2_13 : decode cJ9_init_2 13 = .ok (.putfield 17, 3) := dk_181 0 17 (dk_at dksJ9_init_2_0 13 rfl rfl)
theorem dJ9_init_2_16 : decode cJ9_init_2 16 = .ok (.aload_n 0, 1) := dk_42 (dk_at dksJ9_init_2_0 16 rfl rfl)
theorem dJ9_init_2_17 : decode cJ9_init_2 17 = .ok (.getstatic 20, 3) := dk_178 0 20 (dk_at dksJ9_init_2_0 17 rfl rfl)
theorem dJ9_init_2_20 : decode cJ9_init_2 20 = .ok (.putfield 24, 3) := dk_181 0 24 (dk_at dksJ9_init_2_0 20 rfl rfl)
theorem dJ9_init_2_23 : decode cJ9_init_2 23 = .ok (.iload 4, 2) := dk_21 4 (dk_at dksJ9_init_2_1 0 rfl rfl)
theorem dJ9_init_2_25 : decode cJ9_init_2 25 = .ok (.ifCond .eq 11, 3) := dk_153 0 11 (dk_at dksJ9_init_2_1 2 rfl rfl)
theorem dJ9_init_2_28 : decode cJ9_init_2 28 = .ok (.aload_n 0, 1) := dk_42 (dk_at dksJ9_init_2_1 5 rfl rfl)
theorem dJ9_init_2_29 : decode cJ9_init_2 29 = .ok (.invokevirtual 27, 3) := dk_182 0 27 (dk_at dksJ9_init_2_1 6 rfl rfl)
theorem dJ9_init_2_32 : decode cJ9_init_2 32 = .ok (.pop, 1) := dk_87 (dk_at dksJ9_init_2_1 9 rfl rfl)
theorem dJ9_init_2_33 : decode cJ9_init_2 33 = .ok (.goto 8, 3) := dk_167 0 8 (dk_at dksJ9_init_2_1 10 rfl rfl)
theorem dJ9_init_2_36 : decode cJ9_init_2 36 = .ok (.aload_n 0, 1) := dk_42 (dk_at dksJ9_init_2_1 13 rfl rfl)
theorem dJ9_init_2_37 : decode cJ9_init_2 37 = .ok (.aconst_null, 1) := dk_1 (dk_at dksJ9_init_2_1 14 rfl rfl)
theorem dJ9_init_2_38 : decode cJ9_init_2 38 = .ok (.putfield 17, 3) := dk_181 0 17 (dk_at dksJ9_init_2_1 15 rfl rfl)
theorem dJ9_init_2_41 : decode cJ9_init_2 41 = .ok (.aload_n 0, 1) := dk_42 (dk_at dksJ9_init_2_1 18 rfl rfl)
theorem dJ9_init_2_42 : decode cJ9_init_2 42 = .ok (.aload_n 1, 1) := dk_43 (dk_at dksJ9_init_2_1 19 rfl rfl)
theorem dJ9_init_2_43 : decode cJ9_init_2 43 = .ok (.putfield 31, 3) := dk_181 0 31 (dk_at dksJ9_init_2_1 20 rfl rfl)
theorem dJ9_init_2_46 : decode cJ9_init_2 46 = .ok (.aload_n 0, 1) := dk_42 (dk_at dksJ9_init_2_1 23 rfl rfl)
theorem dJ9_init_2_47 : decode cJ9_init_2 47 = .ok (.aload_n 2, 1) := dk_44 (dk_at dksJ9_init_2_2 0 rfl rfl)
theorem dJ9_init_2_48 : decode cJ9_init_2 48 = .ok (.putfield 7, 3) := dk_181 0 7 (dk_at dksJ9_init_2_2 1 rfl rfl)
theorem dJ9_init_2_51 : decode cJ9_init_2 51 = .ok (.iload_n 3, 1) := dk_29 (dk_at dksJ9_init_2_2 4 rfl rfl)
theorem dJ9_init_2_52 : decode cJ9_init_2 52 = .ok (.ifCond .ne 8, 3) := dk_154 0 8 (dk_at dksJ9_init_2_2 5 rfl rfl)
theorem dJ9_init_2_55 : decode cJ9_init_2 55 = .ok (.aload_n 0, 1) := dk_42 (dk_at dksJ9_init_2_2 8 rfl rfl)
theorem dJ9_init_2_56 : decode cJ9_init_2 56 = .ok (.aconst_null, 1) := dk_1 (dk_at dksJ9_init_2_2 9 rfl rfl)
theorem dJ9_init_2_57 : decode cJ9_init_2 57 = .ok (.putfield 24, 3) := dk_181 0 24 (dk_at dksJ9_init_2_2 10 rfl rfl)
theorem dJ9_init_2_60 : decode cJ9_init_2 60 = .ok (.return_, 1) := dk_177 (dk_at dksJ9_init_2_2 13 rfl rfl)
abbrev cJ9_init_3 : ByteArray := prog_35_method_2_code
def yJ9_init_3 : MethodName := ⟨RJ9, "<init>", "(Ljava/lang/String;)V"⟩
def dkwJ9_init_3_1 : List UInt8 := [182, 0, 27, 87, 42, 43, 181, 0, 31, 177]
abbrev dktJ9_init_3_1 : List UInt8 := dkwJ9_init_3_1 ++ []
def dkwJ9_init_3_0 : List UInt8 := [42, 183, 0, 1, 42, 42, 181, 0, 7, 42, 178, 0, 13, 181, 0, 17, 42, 178, 0, 20, 181, 0, 24, 42]
abbrev dktJ9_init_3_0 : List UInt8 := dkwJ9_init_3_0 ++ dktJ9_init_3_1
theorem dksJ9_init_3_0 : cJ9_init_3.data.toList.drop 0 = dktJ9_init_3_0 := by decide +kernel
theorem dksJ9_init_3_1 : cJ9_init_3.data.toList.drop 24 = dktJ9_init_3_1 := dk_seg dksJ9_init_3_0 24 rfl rfl
theorem dJ9_init_3_0 : decode cJ9_init_3 0 = .ok (.aload_n 0, 1) := dk_42 (dk_at dksJ9_init_3_0 0 rfl rfl)
theorem dJ9_init_3_1 : decode cJ9_init_3 1 = .ok (.invokespecial 1, 3) := dk_183 0 1 (dk_at dksJ9_init_3_0 1 rfl rfl)
theorem dJ9_init_3_4 : decode cJ9_init_3 4 = .ok (.aload_n 0, 1) := dk_42 (dk_at dksJ9_init_3_0 4 rfl rfl)
theorem dJ9_init_3_5 : decode cJ9_init_3 5 = .ok (.aload_n 0, 1) := dk_42 (dk_at dksJ9_init_3_0 5 rfl rfl)
theorem dJ9_init_3_6 : decode cJ9_init_3 6 = .ok (.putfield 7, 3) := dk_181 0 7 (dk_at dksJ9_init_3_0 6 rfl rfl)
theorem dJ9_init_3_9 : decode cJ9_init_3 9 = .ok (.aload_n 0, 1) := dk_42 (dk_at dksJ9_init_3_0 9 rfl rfl)
theorem dJ9_init_3_10 : decode cJ9_init_3 10 = .ok (.getstatic 13, 3) := dk_178 0 13 (dk_at dksJ9_init_3_0 10 rfl rfl)
theorem dJ9_init_3_13 : decode cJ9_init_3 13 = .ok (.putfield 17, 3) := dk_181 0 17 (dk_at dksJ9_init_3_0 13 rfl rfl)
theorem dJ9_init_3_16 : decode cJ9_init_3 16 = .ok (.aload_n 0, 1) := dk_42 (dk_at dksJ9_init_3_0 16 rfl rfl)
theorem dJ9_init_3_17 : decode cJ9_init_3 17 = .ok (.getstatic 20, 3) := dk_178 0 20 (dk_at dksJ9_init_3_0 17 rfl rfl)
theorem dJ9_init_3_20 : decode cJ9_init_3 20 = .ok (.putfield 24, 3) := dk_181 0 24 (dk_at dksJ9_init_3_0 20 rfl rfl)
theorem dJ9_init_3_23 : decode cJ9_init_3 23 = .ok (.aload_n 0, 1) := dk_42 (dk_at dksJ9_init_3_0 23 rfl rfl)
theorem dJ9_init_3_24 : decode cJ9_init_3 24 = .ok (.invokevirtual 27, 3) := dk_182 0 27 (dk_at dksJ9_init_3_1 0 rfl rfl)
theorem dJ9_init_3_27 : decode cJ9_init_3 27 = .ok (.pop, 1) := dk_87 (dk_at dksJ9_init_3_1 3 rfl rfl)
theorem dJ9_init_3_28 : decode cJ9_init_3 28 = .ok (.aload_n 0, 1) := dk_42 (dk_at dksJ9_init_3_1 4 rfl rfl)
theorem dJ9_init_3_29 : decode cJ9_init_3 29 = .ok (.aload_n 1, 1) := dk_43 (dk_at dksJ9_init_3_1 5 rfl rfl)
theorem dJ9_init_3_30 : decode cJ9_init_3 30 = .ok (.putfield 31, 3) := dk_181 0 31 (dk_at dksJ9_init_3_1 6 rfl rfl)
theorem dJ9_init_3_33 : decode cJ9_init_3 33 = .ok (.return_, 1) := dk_177 (dk_at dksJ9_init_3_1 9 rfl rfl)
theorem q152 : (Jvm.Cond.initialized "java/lang/Throwable") ∈ lw_all := lw_g (lw_at lw_m1 14 rfl) rfl
theorem q524 : (Jvm.Cond.declares ({ cls := "java/lang/Throwable", name := "<init>", desc := "()V" } : Jvm.MethodName)) ∈ lw_tbl := lw_at lw_m2 146 rfl
theorem q525 : (Jvm.Cond.declares ({ cls := "java/lang/Throwable", name := "<init>", desc := "(Ljava/lang/String;)V" } : Jvm.MethodName)) ∈ lw_tbl := lw_at lw_m2 147 rfl
theorem q529 : (Jvm.Cond.lays "java/lang/Throwable" "java/lang/Throwable" "cause" "Ljava/lang/Throwable;") ∈ lw_all := lw_g (lw_at lw_m2 151 rfl) rfl
theorem q531 : (Jvm.Cond.lays "java/lang/Throwable" "java/lang/Throwable" "stackTrace" "[Ljava/lang/StackTraceElement;") ∈ lw_all := lw_g (lw_at lw_m2 153 rfl) rfl
theorem q533 : (Jvm.Cond.lays "java/lang/Throwable" "java/lang/Throwable" "suppressedExceptions" "Ljava/util/List;") ∈ lw_all := lw_g (lw_at lw_m2 155 rfl) rfl
theorem q535 : (Jvm.Cond.lays "java/lang/Throwable" "java/lang/Throwable" "detailMessage" "Ljava/lang/String;") ∈ lw_all := lw_g (lw_at lw_m2 157 rfl) rfl
theorem q537 : (Jvm.Cond.lays "java/lang/Throwable" "java/lang/Throwable" "backtrace" "Ljava/lang/Object;") ∈ lw_all := lw_g (lw_at lw_m2 159 rfl) rfl
theorem q538 : (Jvm.Cond.fieldLink "java/lang/Throwable" (198 : Nat) "java/lang/Throwable" "backtrace" "Ljava/lang/Object;") ∈ lw_all := lw_g (lw_at lw_m2 160 rfl) rfl
theorem q539 : (Jvm.Cond.superclass "java/lang/Throwable" "java/lang/Object") ∈ lw_all := lw_g (lw_at lw_m2 161 rfl) rfl
theorem q540 : (Jvm.Cond.instanceMethod ({ cls := "java/lang/Throwable", name := "<init>", desc := "()V" } : Jvm.MethodName)) ∈ lw_all := lw_g (lw_at lw_m2 162 rfl) rfl
theorem q541 : (Jvm.Cond.code ({ cls := "java/lang/Throwable", name := "<init>", desc := "()V" } : Jvm.MethodName) prog_35_method_1_code (1 : Nat) (Option.none : Option Jvm.ClassFile.FieldType)) ∈ lw_all := lw_g (lw_at lw_m2 163 rfl) rfl
theorem q542 : (Jvm.Cond.methodLink "java/lang/Throwable" (1 : Nat) ({ cls := "java/lang/Object", name := "<init>", desc := "()V" } : Jvm.MethodName)) ∈ lw_all := lw_g (lw_at lw_m2 164 rfl) rfl
theorem q543 : (Jvm.Cond.fieldLink "java/lang/Throwable" (13 : Nat) "java/lang/Throwable" "UNASSIGNED_STACK" "[Ljava/lang/StackTraceElement;") ∈ lw_all := lw_g (lw_at lw_m2 165 rfl) rfl
theorem q544 : (Jvm.Cond.laysStatic "java/lang/Throwable" "UNASSIGNED_STACK" "[Ljava/lang/StackTraceElement;") ∈ lw_tbl := lw_at lw_m2 166 rfl
theorem q545 : (Jvm.Cond.fieldLink "java/lang/Throwable" (20 : Nat) "java/lang/Throwable" "SUPPRESSED_SENTINEL" "Ljava/util/List;") ∈ lw_all := lw_g (lw_at lw_m2 167 rfl) rfl
theorem q546 : (Jvm.Cond.laysStatic "java/lang/Throwable" "SUPPRESSED_SENTINEL" "Ljava/util/List;") ∈ lw_tbl := lw_at lw_m2 168 rfl
theorem q547 : (Jvm.Cond.methodLink "java/lang/Throwable" (27 : Nat) ({ cls := "java/lang/Throwable", name := "fillInStackTrace", desc := "()Ljava/lang/Throwable;" } : Jvm.MethodName)) ∈ lw_all := lw_g (lw_at lw_m2 169 rfl) rfl
theorem q548 : (Jvm.Cond.instanceMethod ({ cls := "java/lang/Throwable", name := "fillInStackTrace", desc := "()Ljava/lang/Throwable;" } : Jvm.MethodName)) ∈ lw_all := lw_g (lw_at lw_m2 170 rfl) rfl
theorem q549 : (Jvm.Cond.sameMethod "java/lang/Throwable" "java/lang/Throwable" "fillInStackTrace" "()Ljava/lang/Throwable;") ∈ lw_all := lw_g (lw_at lw_m2 171 rfl) rfl
theorem q554 : (Jvm.Cond.codeSync ({ cls := "java/lang/Throwable", name := "fillInStackTrace", desc := "()Ljava/lang/Throwable;" } : Jvm.MethodName) prog_35_method_18_code (1 : Nat) (Option.some (Jvm.ClassFile.FieldType.object "java/lang/Throwable"))) ∈ lw_all := lw_g (lw_at lw_m2 176 rfl) rfl
theorem q555 : (Jvm.Cond.methodLink "java/lang/Throwable" (202 : Nat) ({ cls := "java/lang/Throwable", name := "fillInStackTrace", desc := "(I)Ljava/lang/Throwable;" } : Jvm.MethodName)) ∈ lw_all := lw_g (lw_at lw_m2 177 rfl) rfl
theorem q556 : (Jvm.Cond.privateMethod ({ cls := "java/lang/Throwable", name := "fillInStackTrace", desc := "(I)Ljava/lang/Throwable;" } : Jvm.MethodName)) ∈ lw_tbl := lw_at lw_m2 178 rfl
theorem q557 : (Jvm.Cond.instanceMethod ({ cls := "java/lang/Throwable", name := "fillInStackTrace", desc := "(I)Ljava/lang/Throwable;" } : Jvm.MethodName)) ∈ lw_all := lw_g (lw_at lw_m2 179 rfl) rfl
theorem q558 : (Jvm.Cond.instantiable "java/lang/Throwable" (6 : Nat)) ∈ lw_all := lw_g (lw_at lw_m2 180 rfl) rfl
theorem q559 : (Jvm.Cond.native ({ cls := "java/lang/Throwable", name := "fillInStackTrace", desc := "(I)Ljava/lang/Throwable;" } : Jvm.MethodName)) ∈ lw_all := lw_g (lw_at lw_m2 181 rfl) rfl
theorem q567 : (Jvm.Cond.instanceMethod ({ cls := "java/lang/Throwable", name := "<init>", desc := "(Ljava/lang/String;Ljava/lang/Throwable;ZZ)V" } : Jvm.MethodName)) ∈ lw_all := lw_g (lw_at lw_m2 189 rfl) rfl
theorem q568 : (Jvm.Cond.code ({ cls := "java/lang/Throwable", name := "<init>", desc := "(Ljava/lang/String;Ljava/lang/Throwable;ZZ)V" } : Jvm.MethodName) prog_35_method_5_code (5 : Nat) (Option.none : Option Jvm.ClassFile.FieldType)) ∈ lw_all := lw_g (lw_at lw_m2 190 rfl) rfl
theorem q573 : (Jvm.Cond.fieldLink "java/lang/Throwable" (198 : Nat) "java/lang/Throwable" "backtrace" "Ljava/lang/Object;") ∈ lw_all := lw_g (lw_at lw_m2 195 rfl) rfl
theorem q574 : (Jvm.Cond.fieldLink "java/lang/Throwable" (31 : Nat) "java/lang/Throwable" "detailMessage" "Ljava/lang/String;") ∈ lw_all := lw_g (lw_at lw_m2 196 rfl) rfl
theorem q575 : (Jvm.Cond.fieldLink "java/lang/Throwable" (7 : Nat) "java/lang/Throwable" "cause" "Ljava/lang/Throwable;") ∈ lw_all := lw_g (lw_at lw_m2 197 rfl) rfl
theorem q576 : (Jvm.Cond.fieldLink "java/lang/Throwable" (17 : Nat) "java/lang/Throwable" "stackTrace" "[Ljava/lang/StackTraceElement;") ∈ lw_all := lw_g (lw_at lw_m2 198 rfl) rfl
theorem q577 : (Jvm.Cond.fieldLink "java/lang/Throwable" (24 : Nat) "java/lang/Throwable" "suppressedExceptions" "Ljava/util/List;") ∈ lw_all := lw_g (lw_at lw_m2 199 rfl) rfl
theorem q582 : (Jvm.Cond.soleField "java/lang/Throwable" "backtrace") ∈ lw_all := lw_g (lw_at lw_m2 204 rfl) rfl
theorem q583 : (Jvm.Cond.soleField "java/lang/Throwable" "detailMessage") ∈ lw_all := lw_g (lw_at lw_m2 205 rfl) rfl
theorem q584 : (Jvm.Cond.soleField "java/lang/Throwable" "cause") ∈ lw_all := lw_g (lw_at lw_m2 206 rfl) rfl
theorem q585 : (Jvm.Cond.soleField "java/lang/Throwable" "stackTrace") ∈ lw_all := lw_g (lw_at lw_m2 207 rfl) rfl
theorem q587 : (Jvm.Cond.soleField "java/lang/Throwable" "depth") ∈ lw_all := lw_g (lw_at lw_m2 209 rfl) rfl
theorem q588 : (Jvm.Cond.soleField "java/lang/Throwable" "suppressedExceptions") ∈ lw_all := lw_g (lw_at lw_m2 210 rfl) rfl
theorem q1341 : (Jvm.Cond.instanceMethod ({ cls := "java/lang/Throwable", name := "<init>", desc := "(Ljava/lang/String;)V" } : Jvm.MethodName)) ∈ lw_all := lw_g (lw_at lw_m6 3 rfl) rfl
theorem q1342 : (Jvm.Cond.code ({ cls := "java/lang/Throwable", name := "<init>", desc := "(Ljava/lang/String;)V" } : Jvm.MethodName) prog_35_method_2_code (2 : Nat) (Option.none : Option Jvm.ClassFile.FieldType)) ∈ lw_all := lw_g (lw_at lw_m6 4 rfl) rfl
theorem q2070 : (Jvm.Cond.sameMethod "java/lang/Throwable" "java/lang/Throwable" "fillInStackTrace" "(I)Ljava/lang/Throwable;") ∈ lw_all := lw_g (lw_at lw_m9 12 rfl) rfl
theorem q2097 : (Jvm.Cond.castable "java/lang/Throwable" "java/lang/Object") ∈ lw_tbl := lw_at lw_m9 39 rfl
theorem in_J9 : ∀ w ∈ wsJ90, w ∈ lw_all := lw_in wsJ90 [529, 531, 533, 535, 537] (by decide +kernel) (by decide +kernel)

/-! java/lang/Exception -/
set_option maxRecDepth 100000
def RJ10 : String := "java/lang/Exception"
abbrev cJ10_init : ByteArray := prog_25_method_5_code
def yJ10_init : MethodName := ⟨RJ10, "<init>", "(Ljava/lang/String;Ljava/lang/Throwable;ZZ)V"⟩
def dkwJ10_init_0 : List UInt8 := [42, 43, 44, 29, 21, 4, 183, 0, 16, 177]
abbrev dktJ10_init_0 : List UInt8 := dkwJ10_init_0 ++ []
theorem dksJ10_init_0 : cJ10_init.data.toList.drop 0 = dktJ10_init_0 := by decide +kernel
theorem dJ10_init_0 : decode cJ10_init 0 = .ok (.aload_n 0, 1) := dk_42 (dk_at dksJ10_init_0 0 rfl rfl)
theorem dJ10_init_1 : decode cJ10_init 1 = .ok (.aload_n 1, 1) := dk_43 (dk_at dksJ10_init_0 1 rfl rfl)
theorem dJ10_init_2 : decode cJ10_init 2 = .ok (.aload_n 2, 1) := dk_44 (dk_at dksJ10_init_0 2 rfl rfl)
theorem dJ10_init_3 : decode cJ10_init 3 = .ok (.iload_n 3, 1) := dk_29 (dk_at dksJ10_init_0 3 rfl rfl)
theorem dJ10_init_4 : decode cJ10_init 4 = .ok (.iload 4, 2) := dk_21 4 (dk_at dksJ10_init_0 4 rfl rfl)
theorem dJ10_init_6 : decode cJ10_init 6 = .ok (.invokespecial 16, 3) := dk_183 0 16 (dk_at dksJ10_init_0 6 rfl rfl)
theorem dJ10_init_9 : decode cJ10_init 9 = .ok (.return_, 1) := dk_177 (dk_at dksJ10_init_0 9 rfl rfl)
abbrev cJ10_init_2 : ByteArray := prog_25_method_2_code
def yJ10_init_2 : MethodName := ⟨RJ10, "<init>", "(Ljava/lang/String;)V"⟩
def dkwJ10_init_2_0 : List UInt8 := [42, 43, 183, 0, 7, 177]
abbrev dktJ10_init_2_0 : List UInt8 := dkwJ10_init_2_0 ++ []
theorem dksJ10_init_2_0 : cJ10_init_2.data.toList.drop 0 = dktJ10_init_2_0 := by decide +kernel
theorem dJ10_init_2_0 : decode cJ10_init_2 0 = .ok (.aload_n 0, 1) := dk_42 (dk_at dksJ10_init_2_0 0 rfl rfl)
theorem dJ10_init_2_1 : decode cJ10_init_2 1 = .ok (.aload_n 1, 1) := dk_43 (dk_at dksJ10_init_2_0 1 rfl rfl)
theorem dJ10_init_2_2 : decode cJ10_init_2 2 = .ok (.invokespecial 7, 3) := dk_183 0 7 (dk_at dksJ10_init_2_0 2 rfl rfl)
theorem dJ10_init_2_5 : decode cJ10_init_2 5 = .ok (.return_, 1) := dk_177 (dk_at dksJ10_init_2_0 5 rfl rfl)
abbrev cJ10_init_3 : ByteArray := prog_25_method_1_code
def yJ10_init_3 : MethodName := ⟨RJ10, "<init>", "()V"⟩
theorem dJ10_init_3_0 : decode cJ10_init_3 0 = .ok (.aload_n 0, 1) := by decide +kernel
theorem dJ10_init_3_1 : decode cJ10_init_3 1 = .ok (.invokespecial 1, 3) := by decide +kernel
theorem dJ10_init_3_4 : decode cJ10_init_3 4 = .ok (.return_, 1) := by decide +kernel
theorem q153 : (Jvm.Cond.initialized "java/lang/Exception") ∈ lw_all := lw_g (lw_at lw_m1 15 rfl) rfl
theorem q522 : (Jvm.Cond.declares ({ cls := "java/lang/Exception", name := "<init>", desc := "()V" } : Jvm.MethodName)) ∈ lw_tbl := lw_at lw_m2 144 rfl
theorem q523 : (Jvm.Cond.declares ({ cls := "java/lang/Exception", name := "<init>", desc := "(Ljava/lang/String;)V" } : Jvm.MethodName)) ∈ lw_tbl := lw_at lw_m2 145 rfl
theorem q564 : (Jvm.Cond.instanceMethod ({ cls := "java/lang/Exception", name := "<init>", desc := "(Ljava/lang/String;Ljava/lang/Throwable;ZZ)V" } : Jvm.MethodName)) ∈ lw_all := lw_g (lw_at lw_m2 186 rfl) rfl
theorem q565 : (Jvm.Cond.code ({ cls := "java/lang/Exception", name := "<init>", desc := "(Ljava/lang/String;Ljava/lang/Throwable;ZZ)V" } : Jvm.MethodName) prog_25_method_5_code (5 : Nat) (Option.none : Option Jvm.ClassFile.FieldType)) ∈ lw_all := lw_g (lw_at lw_m2 187 rfl) rfl
theorem q566 : (Jvm.Cond.methodLink "java/lang/Exception" (16 : Nat) ({ cls := "java/lang/Throwable", name := "<init>", desc := "(Ljava/lang/String;Ljava/lang/Throwable;ZZ)V" } : Jvm.MethodName)) ∈ lw_all := lw_g (lw_at lw_m2 188 rfl) rfl
theorem q1338 : (Jvm.Cond.instanceMethod ({ cls := "java/lang/Exception", name := "<init>", desc := "(Ljava/lang/String;)V" } : Jvm.MethodName)) ∈ lw_all := lw_g (lw_at lw_m6 0 rfl) rfl
theorem q1339 : (Jvm.Cond.code ({ cls := "java/lang/Exception", name := "<init>", desc := "(Ljava/lang/String;)V" } : Jvm.MethodName) prog_25_method_2_code (2 : Nat) (Option.none : Option Jvm.ClassFile.FieldType)) ∈ lw_all := lw_g (lw_at lw_m6 1 rfl) rfl
theorem q1340 : (Jvm.Cond.methodLink "java/lang/Exception" (7 : Nat) ({ cls := "java/lang/Throwable", name := "<init>", desc := "(Ljava/lang/String;)V" } : Jvm.MethodName)) ∈ lw_all := lw_g (lw_at lw_m6 2 rfl) rfl
theorem q1382 : (Jvm.Cond.instanceMethod ({ cls := "java/lang/Exception", name := "<init>", desc := "()V" } : Jvm.MethodName)) ∈ lw_all := lw_g (lw_at lw_m6 44 rfl) rfl
theorem q1383 : (Jvm.Cond.code ({ cls := "java/lang/Exception", name := "<init>", desc := "()V" } : Jvm.MethodName) prog_25_method_1_code (1 : Nat) (Option.none : Option Jvm.ClassFile.FieldType)) ∈ lw_all := lw_g (lw_at lw_m6 45 rfl) rfl
theorem q1384 : (Jvm.Cond.methodLink "java/lang/Exception" (1 : Nat) ({ cls := "java/lang/Throwable", name := "<init>", desc := "()V" } : Jvm.MethodName)) ∈ lw_all := lw_g (lw_at lw_m6 46 rfl) rfl

/-! SaidSo$Fault -/
set_option maxRecDepth 100000
def RX5 : String := "SaidSo$Fault"
def TX5 : u_T := fun k => match k with
  | 0 => ("java/lang/Throwable", "cause", "Ljava/lang/Throwable;", false)
  | 1 => ("java/lang/Throwable", "stackTrace", "[Ljava/lang/StackTraceElement;", false)
  | 2 => ("java/lang/Throwable", "suppressedExceptions", "Ljava/util/List;", false)
  | 3 => ("java/lang/Throwable", "detailMessage", "Ljava/lang/String;", false)
  | 4 => ("java/lang/Throwable", "backtrace", "Ljava/lang/Object;", false)
  | 5 => ("java/lang/Throwable", "depth", "I", false)
  | 6 => ("SaidSo$Fault", "kind", "I", true)
  | _ => ("SaidSo$Fault", "place", "I", true)
def tyX5 : Nat → FieldType := fun k => match k with
  | 0 => .object "java/lang/Throwable"
  | 1 => .array (.object "java/lang/StackTraceElement")
  | 2 => .object "java/util/List"
  | 3 => .object "java/lang/String"
  | 4 => .object "java/lang/Object"
  | 5 => .int
  | 6 => .int
  | _ => .int
abbrev wsX50 : List Cond := u_ws RX5 TX5 8
theorem nmX5 : ∀ a, a < 8 → ∀ b, b < 8 → a ≠ b → (TX5 a).2.1 ≠ (TX5 b).2.1 := by decide +kernel
theorem tyX5_ok : ∀ k, k < 8 → parseFieldDescriptor (TX5 k).2.2.1 = some (tyX5 k) := by decide +kernel
abbrev cX5_init : ByteArray := prog_4_method_1_code
def yX5_init : MethodName := ⟨RX5, "<init>", "(II)V"⟩
def dkwX5_init_0 : List UInt8 := [42, 1, 1, 3, 3, 183, 0, 1, 42, 27, 181, 0, 7, 42, 28, 181, 0, 13, 177]
abbrev dktX5_init_0 : List UInt8 := dkwX5_init_0 ++ []
theorem dksX5_init_0 : cX5_init.data.toList.drop 0 = dktX5_init_0 := by decide +kernel
theorem dX5_init_0 : decode cX5_init 0 = .ok (.aload_n 0, 1) := dk_42 (dk_at dksX5_init_0 0 rfl rfl)
theorem dX5_init_1 : decode cX5_init 1 = .ok (.aconst_null, 1) := dk_1 (dk_at dksX5_init_0 1 rfl rfl)
theorem dX5_init_2 : decode cX5_init 2 = .ok (.aconst_null, 1) := dk_1 (dk_at dksX5_init_0 2 rfl rfl)
theorem dX5_init_3 : decode cX5_init 3 = .ok (.iconst 0, 1) := dk_3 (dk_at dksX5_init_0 3 rfl rfl)
theorem dX5_init_4 : decode cX5_init 4 = .ok (.iconst 0, 1) := dk_3 (dk_at dksX5_init_0 4 rfl rfl)
theorem dX5_init_5 : decode cX5_init 5 = .ok (.invokespecial 1, 3) := dk_183 0 1 (dk_at dksX5_init_0 5 rfl rfl)
theorem dX5_init_8 : decode cX5_init 8 = .ok (.aload_n 0, 1) := dk_42 (dk_at dksX5_init_0 8 rfl rfl)
theorem dX5_init_9 : decode cX5_init 9 = .ok (.iload_n 1, 1) := dk_27 (dk_at dksX5_init_0 9 rfl rfl)
theorem dX5_init_10 : decode cX5_init 10 = .ok (.putfield 7, 3) := dk_181 0 7 (dk_at dksX5_init_0 10 rfl rfl)
theorem dX5_init_13 : decode cX5_init 13 = .ok (.aload_n 0, 1) := dk_42 (dk_at dksX5_init_0 13 rfl rfl)
theorem dX5_init_14 : decode cX5_init 14 = .ok (.iload_n 2, 1) := dk_28 (dk_at dksX5_init_0 14 rfl rfl)
theorem dX5_init_15 : decode cX5_init 15 = .ok (.putfield 13, 3) := dk_181 0 13 (dk_at dksX5_init_0 15 rfl rfl)
theorem dX5_init_18 : decode cX5_init 18 = .ok (.return_, 1) := dk_177 (dk_at dksX5_init_0 18 rfl rfl)
theorem q154 : (Jvm.Cond.initialized "SaidSo$Fault") ∈ lw_all := lw_g (lw_at lw_m1 16 rfl) rfl
theorem q520 : (Jvm.Cond.instantiable "SaidSo$Fault" (8 : Nat)) ∈ lw_all := lw_g (lw_at lw_m2 142 rfl) rfl
theorem q521 : (Jvm.Cond.castable "SaidSo$Fault" "SaidSo$Fault") ∈ lw_tbl := lw_at lw_m2 143 rfl
theorem q526 : (Jvm.Cond.selects "SaidSo$Fault" ({ cls := "java/lang/Throwable", name := "fillInStackTrace", desc := "(I)Ljava/lang/Throwable;" } : Jvm.MethodName) ({ cls := "java/lang/Throwable", name := "fillInStackTrace", desc := "(I)Ljava/lang/Throwable;" } : Jvm.MethodName)) ∈ lw_all := lw_g (lw_at lw_m2 148 rfl) rfl
theorem q527 : (Jvm.Cond.selects "SaidSo$Fault" ({ cls := "java/lang/Throwable", name := "fillInStackTrace", desc := "()Ljava/lang/Throwable;" } : Jvm.MethodName) ({ cls := "java/lang/Throwable", name := "fillInStackTrace", desc := "()Ljava/lang/Throwable;" } : Jvm.MethodName)) ∈ lw_all := lw_g (lw_at lw_m2 149 rfl) rfl
theorem q528 : (Jvm.Cond.lays "SaidSo$Fault" "java/lang/Throwable" "cause" "Ljava/lang/Throwable;") ∈ lw_all := lw_g (lw_at lw_m2 150 rfl) rfl
theorem q530 : (Jvm.Cond.lays "SaidSo$Fault" "java/lang/Throwable" "stackTrace" "[Ljava/lang/StackTraceElement;") ∈ lw_all := lw_g (lw_at lw_m2 152 rfl) rfl
theorem q532 : (Jvm.Cond.lays "SaidSo$Fault" "java/lang/Throwable" "suppressedExceptions" "Ljava/util/List;") ∈ lw_all := lw_g (lw_at lw_m2 154 rfl) rfl
theorem q534 : (Jvm.Cond.lays "SaidSo$Fault" "java/lang/Throwable" "detailMessage" "Ljava/lang/String;") ∈ lw_all := lw_g (lw_at lw_m2 156 rfl) rfl
theorem q536 : (Jvm.Cond.lays "SaidSo$Fault" "java/lang/Throwable" "backtrace" "Ljava/lang/Object;") ∈ lw_all := lw_g (lw_at lw_m2 158 rfl) rfl
theorem q561 : (Jvm.Cond.instanceMethod ({ cls := "SaidSo$Fault", name := "<init>", desc := "(II)V" } : Jvm.MethodName)) ∈ lw_all := lw_g (lw_at lw_m2 183 rfl) rfl
theorem q562 : (Jvm.Cond.code ({ cls := "SaidSo$Fault", name := "<init>", desc := "(II)V" } : Jvm.MethodName) prog_4_method_1_code (3 : Nat) (Option.none : Option Jvm.ClassFile.FieldType)) ∈ lw_all := lw_g (lw_at lw_m2 184 rfl) rfl
theorem q563 : (Jvm.Cond.methodLink "SaidSo$Fault" (1 : Nat) ({ cls := "java/lang/Exception", name := "<init>", desc := "(Ljava/lang/String;Ljava/lang/Throwable;ZZ)V" } : Jvm.MethodName)) ∈ lw_all := lw_g (lw_at lw_m2 185 rfl) rfl
theorem q569 : (Jvm.Cond.fieldLink "SaidSo$Fault" (7 : Nat) "SaidSo$Fault" "kind" "I") ∈ lw_all := lw_g (lw_at lw_m2 191 rfl) rfl
theorem q571 : (Jvm.Cond.fieldLink "SaidSo$Fault" (13 : Nat) "SaidSo$Fault" "place" "I") ∈ lw_all := lw_g (lw_at lw_m2 193 rfl) rfl
theorem q578 : (Jvm.Cond.laysFinal "SaidSo$Fault" "SaidSo$Fault" "kind" "I") ∈ lw_all := lw_g (lw_at lw_m2 200 rfl) rfl
theorem q579 : (Jvm.Cond.soleField "SaidSo$Fault" "kind") ∈ lw_all := lw_g (lw_at lw_m2 201 rfl) rfl
theorem q580 : (Jvm.Cond.laysFinal "SaidSo$Fault" "SaidSo$Fault" "place" "I") ∈ lw_all := lw_g (lw_at lw_m2 202 rfl) rfl
theorem q581 : (Jvm.Cond.soleField "SaidSo$Fault" "place") ∈ lw_all := lw_g (lw_at lw_m2 203 rfl) rfl
theorem q586 : (Jvm.Cond.lays "SaidSo$Fault" "java/lang/Throwable" "depth" "I") ∈ lw_all := lw_g (lw_at lw_m2 208 rfl) rfl
theorem q589 : (Jvm.Cond.superclass "SaidSo$Fault" "java/lang/Exception") ∈ lw_all := lw_g (lw_at lw_m2 211 rfl) rfl
theorem q699 : (Jvm.Cond.selects "SaidSo$Fault" ({ cls := "java/lang/Object", name := "getClass", desc := "()Ljava/lang/Class;" } : Jvm.MethodName) ({ cls := "java/lang/Object", name := "getClass", desc := "()Ljava/lang/Class;" } : Jvm.MethodName)) ∈ lw_all := lw_g (lw_at lw_m3 81 rfl) rfl
theorem q2083 : (Jvm.Cond.castable "SaidSo$Fault" "java/lang/Object") ∈ lw_tbl := lw_at lw_m9 25 rfl
theorem in_X5 : ∀ w ∈ wsX50, w ∈ lw_all := lw_in wsX50 [528, 530, 532, 534, 536, 586, 578, 580] (by decide +kernel) (by decide +kernel)

/-! java/util/Objects -/
set_option maxRecDepth 100000
def RJ11 : String := "java/util/Objects"
abbrev cJ11_checkIndex : ByteArray := prog_45_method_17_code
def yJ11_checkIndex : MethodName := ⟨RJ11, "checkIndex", "(II)I"⟩
def dkwJ11_checkIndex_0 : List UInt8 := [26, 27, 1, 184, 0, 105, 172]
abbrev dktJ11_checkIndex_0 : List UInt8 := dkwJ11_checkIndex_0 ++ []
theorem dksJ11_checkIndex_0 : cJ11_checkIndex.data.toList.drop 0 = dktJ11_checkIndex_0 := by decide +kernel
theorem dJ11_checkIndex_0 : decode cJ11_checkIndex 0 = .ok (.iload_n 0, 1) := dk_26 (dk_at dksJ11_checkIndex_0 0 rfl rfl)
theorem dJ11_checkIndex_1 : decode cJ11_checkIndex 1 = .ok (.iload_n 1, 1) := dk_27 (dk_at dksJ11_checkIndex_0 1 rfl rfl)
theorem dJ11_checkIndex_2 : decode cJ11_checkIndex 2 = .ok (.aconst_null, 1) := dk_1 (dk_at dksJ11_checkIndex_0 2 rfl rfl)
theorem dJ11_checkIndex_3 : decode cJ11_checkIndex 3 = .ok (.invokestatic 105, 3) := dk_184 0 105 (dk_at dksJ11_checkIndex_0 3 rfl rfl)
theorem dJ11_checkIndex_6 : decode cJ11_checkIndex 6 = .ok (.ireturn, 1) := dk_172 (dk_at dksJ11_checkIndex_0 6 rfl rfl)
theorem q155 : (Jvm.Cond.initialized "java/util/Objects") ∈ lw_all := lw_g (lw_at lw_m1 17 rfl) rfl
theorem q612 : (Jvm.Cond.static ({ cls := "java/util/Objects", name := "checkIndex", desc := "(II)I" } : Jvm.MethodName)) ∈ lw_all := lw_g (lw_at lw_m2 234 rfl) rfl
theorem q613 : (Jvm.Cond.code ({ cls := "java/util/Objects", name := "checkIndex", desc := "(II)I" } : Jvm.MethodName) prog_45_method_17_code (2 : Nat) (Option.some Jvm.ClassFile.FieldType.int)) ∈ lw_all := lw_g (lw_at lw_m2 235 rfl) rfl
theorem q614 : (Jvm.Cond.methodLink "java/util/Objects" (105 : Nat) ({ cls := "jdk/internal/util/Preconditions", name := "checkIndex", desc := "(IILjava/util/function/BiFunction;)I" } : Jvm.MethodName)) ∈ lw_all := lw_g (lw_at lw_m2 236 rfl) rfl

/-! SaidSo$Thing -/
set_option maxRecDepth 100000
def RX6 : String := "SaidSo$Thing"
def TX6 : u_T := fun k => match k with
  | 0 => ("SaidSo$Thing", "name", "I", true)
  | 1 => ("SaidSo$Thing", "ways", "I", true)
  | 2 => ("SaidSo$Thing", "is", "I", true)
  | 3 => ("SaidSo$Thing", "paper", "I", false)
  | _ => ("SaidSo$Thing", "police", "I", false)
def tyX6 : Nat → FieldType := fun k => match k with
  | 0 => .int
  | 1 => .int
  | 2 => .int
  | 3 => .int
  | _ => .int
abbrev wsX60 : List Cond := u_ws RX6 TX6 5
theorem nmX6 : ∀ a, a < 5 → ∀ b, b < 5 → a ≠ b → (TX6 a).2.1 ≠ (TX6 b).2.1 := by decide +kernel
theorem tyX6_ok : ∀ k, k < 5 → parseFieldDescriptor (TX6 k).2.2.1 = some (tyX6 k) := by decide +kernel
abbrev cX6_init : ByteArray := prog_13_method_1_code
def yX6_init : MethodName := ⟨RX6, "<init>", "(III)V"⟩
def dkwX6_init_1 : List UInt8 := [42, 29, 181, 0, 24, 177]
abbrev dktX6_init_1 : List UInt8 := dkwX6_init_1 ++ []
def dkwX6_init_0 : List UInt8 := [42, 183, 0, 3, 42, 2, 181, 0, 9, 42, 2, 181, 0, 15, 42, 27, 181, 0, 18, 42, 28, 181, 0, 21]
abbrev dktX6_init_0 : List UInt8 := dkwX6_init_0 ++ dktX6_init_1
theorem dksX6_init_0 : cX6_init.data.toList.drop 0 = dktX6_init_0 := by decide +kernel
theorem dksX6_init_1 : cX6_init.data.toList.drop 24 = dktX6_init_1 := dk_seg dksX6_init_0 24 rfl rfl
theorem dX6_init_0 : decode cX6_init 0 = .ok (.aload_n 0, 1) := dk_42 (dk_at dksX6_init_0 0 rfl rfl)
theorem dX6_init_1 : decode cX6_init 1 = .ok (.invokespecial 3, 3) := dk_183 0 3 (dk_at dksX6_init_0 1 rfl rfl)
theorem dX6_init_4 : decode cX6_init 4 = .ok (.aload_n 0, 1) := dk_42 (dk_at dksX6_init_0 4 rfl rfl)
theorem dX6_init_5 : decode cX6_init 5 = .ok (.iconst (-1), 1) := dk_2 (dk_at dksX6_init_0 5 rfl rfl)
theorem dX6_init_6 : decode cX6_init 6 = .ok (.putfield 9, 3) := dk_181 0 9 (dk_at dksX6_init_0 6 rfl rfl)
theorem dX6_init_9 : decode cX6_init 9 = .ok (.aload_n 0, 1) := dk_42 (dk_at dksX6_init_0 9 rfl rfl)
theorem dX6_init_10 : decode cX6_init 10 = .ok (.iconst (-1), 1) := dk_2 (dk_at dksX6_init_0 10 rfl rfl)
theorem dX6_init_11 : decode cX6_init 11 = .ok (.putfield 15, 3) := dk_181 0 15 (dk_at dksX6_init_0 11 rfl rfl)
theorem dX6_init_14 : decode cX6_init 14 = .ok (.aload_n 0, 1) := dk_42 (dk_at dksX6_init_0 14 rfl rfl)
theorem dX6_init_15 : decode cX6_init 15 = .ok (.iload_n 1, 1) := dk_27 (dk_at dksX6_init_0 15 rfl rfl)
theorem dX6_init_16 : decode cX6_init 16 = .ok (.putfield 18, 3) := dk_181 0 18 (dk_at dksX6_init_0 16 rfl rfl)
theorem dX6_init_19 : decode cX6_init 19 = .ok (.aload_n 0, 1) := dk_42 (dk_at dksX6_init_0 19 rfl rfl)
theorem dX6_init_20 : decode cX6_init 20 = .ok (.iload_n 2, 1) := dk_28 (dk_at dksX6_init_0 20 rfl rfl)
theorem dX6_init_21 : decode cX6_init 21 = .ok (.putfield 21, 3) := dk_181 0 21 (dk_at dksX6_init_0 21 rfl rfl)
theorem dX6_init_24 : decode cX6_init 24 = .ok (.aload_n 0, 1) := dk_42 (dk_at dksX6_init_1 0 rfl rfl)
theorem dX6_init_25 : decode cX6_init 25 = .ok (.iload_n 3, 1) := dk_29 (dk_at dksX6_init_1 1 rfl rfl)
theorem dX6_init_26 : decode cX6_init 26 = .ok (.putfield 24, 3) := dk_181 0 24 (dk_at dksX6_init_1 2 rfl rfl)
theorem dX6_init_29 : decode cX6_init 29 = .ok (.return_, 1) := dk_177 (dk_at dksX6_init_1 5 rfl rfl)
abbrev cX6_isPublic : ByteArray := prog_13_method_2_code
def yX6_isPublic : MethodName := ⟨RX6, "isPublic", "(I)Z"⟩
def dkwX6_isPublic_0 : List UInt8 := [42, 180, 0, 9, 2, 159, 0, 15, 42, 180, 0, 9, 27, 163, 0, 7, 4, 167, 0, 4, 3, 172]
abbrev dktX6_isPublic_0 : List UInt8 := dkwX6_isPublic_0 ++ []
theorem dksX6_isPublic_0 : cX6_isPublic.data.toList.drop 0 = dktX6_isPublic_0 := by decide +kernel
theorem dX6_isPublic_0 : decode cX6_isPublic 0 = .ok (.aload_n 0, 1) := dk_42 (dk_at dksX6_isPublic_0 0 rfl rfl)
theorem dX6_isPublic_1 : decode cX6_isPublic 1 = .ok (.getfield 9, 3) := dk_180 0 9 (dk_at dksX6_isPublic_0 1 rfl rfl)
theorem dX6_isPublic_4 : decode cX6_isPublic 4 = .ok (.iconst (-1), 1) := dk_2 (dk_at dksX6_isPublic_0 4 rfl rfl)
theorem dX6_isPublic_5 : decode cX6_isPublic 5 = .ok (.if_icmp .eq 15, 3) := dk_159 0 15 (dk_at dksX6_isPublic_0 5 rfl rfl)
theorem dX6_isPublic_8 : decode cX6_isPublic 8 = .ok (.aload_n 0, 1) := dk_42 (dk_at dksX6_isPublic_0 8 rfl rfl)
theorem dX6_isPublic_9 : decode cX6_isPublic 9 = .ok (.getfield 9, 3) := dk_180 0 9 (dk_at dksX6_isPublic_0 9 rfl rfl)
theorem dX6_isPublic_12 : decode cX6_isPublic 12 = .ok (.iload_n 1, 1) := dk_27 (dk_at dksX6_isPublic_0 12 rfl rfl)
theorem dX6_isPublic_13 : decode cX6_isPublic 13 = .ok (.if_icmp .gt 7, 3) := dk_163 0 7 (dk_at dksX6_isPublic_0 13 rfl rfl)
theorem dX6_isPublic_16 : decode cX6_isPublic 16 = .ok (.iconst 1, 1) := dk_4 (dk_at dksX6_isPublic_0 16 rfl rfl)
theorem dX6_isPublic_17 : decode cX6_isPublic 17 = .ok (.goto 4, 3) := dk_167 0 4 (dk_at dksX6_isPublic_0 17 rfl rfl)
theorem dX6_isPublic_20 : decode cX6_isPublic 20 = .ok (.iconst 0, 1) := dk_3 (dk_at dksX6_isPublic_0 20 rfl rfl)
theorem dX6_isPublic_21 : decode cX6_isPublic 21 = .ok (.ireturn, 1) := dk_172 (dk_at dksX6_isPublic_0 21 rfl rfl)
abbrev cX6_isPolice : ByteArray := prog_13_method_3_code
def yX6_isPolice : MethodName := ⟨RX6, "isPolice", "(I)Z"⟩
def dkwX6_isPolice_0 : List UInt8 := [42, 180, 0, 15, 2, 159, 0, 15, 42, 180, 0, 15, 27, 163, 0, 7, 4, 167, 0, 4, 3, 172]
abbrev dktX6_isPolice_0 : List UInt8 := dkwX6_isPolice_0 ++ []
theorem dksX6_isPolice_0 : cX6_isPolice.data.toList.drop 0 = dktX6_isPolice_0 := by decide +kernel
theorem dX6_isPolice_0 : decode cX6_isPolice 0 = .ok (.aload_n 0, 1) := dk_42 (dk_at dksX6_isPolice_0 0 rfl rfl)
theorem dX6_isPolice_1 : decode cX6_isPolice 1 = .ok (.getfield 15, 3) := dk_180 0 15 (dk_at dksX6_isPolice_0 1 rfl rfl)
theorem dX6_isPolice_4 : decode cX6_isPolice 4 = .ok (.iconst (-1), 1) := dk_2 (dk_at dksX6_isPolice_0 4 rfl rfl)
theorem dX6_isPolice_5 : decode cX6_isPolice 5 = .ok (.if_icmp .eq 15, 3) := dk_159 0 15 (dk_at dksX6_isPolice_0 5 rfl rfl)
theorem dX6_isPolice_8 : decode cX6_isPolice 8 = .ok (.aload_n 0, 1) := dk_42 (dk_at dksX6_isPolice_0 8 rfl rfl)
theorem dX6_isPolice_9 : decode cX6_isPolice 9 = .ok (.getfield 15, 3) := dk_180 0 15 (dk_at dksX6_isPolice_0 9 rfl rfl)
theorem dX6_isPolice_12 : decode cX6_isPolice 12 = .ok (.iload_n 1, 1) := dk_27 (dk_at dksX6_isPolice_0 12 rfl rfl)
theorem dX6_isPolice_13 : decode cX6_isPolice 13 = .ok (.if_icmp .gt 7, 3) := dk_163 0 7 (dk_at dksX6_isPolice_0 13 rfl rfl)
theorem dX6_isPolice_16 : decode cX6_isPolice 16 = .ok (.iconst 1, 1) := dk_4 (dk_at dksX6_isPolice_0 16 rfl rfl)
theorem dX6_isPolice_17 : decode cX6_isPolice 17 = .ok (.goto 4, 3) := dk_167 0 4 (dk_at dksX6_isPolice_0 17 rfl rfl)
theorem dX6_isPolice_20 : decode cX6_isPolice 20 = .ok (.iconst 0, 1) := dk_3 (dk_at dksX6_isPolice_0 20 rfl rfl)
theorem dX6_isPolice_21 : decode cX6_isPolice 21 = .ok (.ireturn, 1) := dk_172 (dk_at dksX6_isPolice_0 21 rfl rfl)
theorem q156 : (Jvm.Cond.initialized "SaidSo$Thing") ∈ lw_all := lw_g (lw_at lw_m1 18 rfl) rfl
theorem q634 : (Jvm.Cond.instantiable "SaidSo$Thing" (5 : Nat)) ∈ lw_all := lw_g (lw_at lw_m3 16 rfl) rfl
theorem q636 : (Jvm.Cond.instanceMethod ({ cls := "SaidSo$Thing", name := "<init>", desc := "(III)V" } : Jvm.MethodName)) ∈ lw_all := lw_g (lw_at lw_m3 18 rfl) rfl
theorem q637 : (Jvm.Cond.code ({ cls := "SaidSo$Thing", name := "<init>", desc := "(III)V" } : Jvm.MethodName) prog_13_method_1_code (4 : Nat) (Option.none : Option Jvm.ClassFile.FieldType)) ∈ lw_all := lw_g (lw_at lw_m3 19 rfl) rfl
theorem q638 : (Jvm.Cond.methodLink "SaidSo$Thing" (3 : Nat) ({ cls := "java/lang/Object", name := "<init>", desc := "()V" } : Jvm.MethodName)) ∈ lw_all := lw_g (lw_at lw_m3 20 rfl) rfl
theorem q639 : (Jvm.Cond.fieldLink "SaidSo$Thing" (18 : Nat) "SaidSo$Thing" "name" "I") ∈ lw_all := lw_g (lw_at lw_m3 21 rfl) rfl
theorem q641 : (Jvm.Cond.fieldLink "SaidSo$Thing" (21 : Nat) "SaidSo$Thing" "ways" "I") ∈ lw_all := lw_g (lw_at lw_m3 23 rfl) rfl
theorem q644 : (Jvm.Cond.fieldLink "SaidSo$Thing" (24 : Nat) "SaidSo$Thing" "is" "I") ∈ lw_all := lw_g (lw_at lw_m3 26 rfl) rfl
theorem q647 : (Jvm.Cond.fieldLink "SaidSo$Thing" (9 : Nat) "SaidSo$Thing" "paper" "I") ∈ lw_all := lw_g (lw_at lw_m3 29 rfl) rfl
theorem q650 : (Jvm.Cond.fieldLink "SaidSo$Thing" (15 : Nat) "SaidSo$Thing" "police" "I") ∈ lw_all := lw_g (lw_at lw_m3 32 rfl) rfl
theorem q653 : (Jvm.Cond.laysFinal "SaidSo$Thing" "SaidSo$Thing" "name" "I") ∈ lw_all := lw_g (lw_at lw_m3 35 rfl) rfl
theorem q654 : (Jvm.Cond.soleField "SaidSo$Thing" "name") ∈ lw_all := lw_g (lw_at lw_m3 36 rfl) rfl
theorem q655 : (Jvm.Cond.laysFinal "SaidSo$Thing" "SaidSo$Thing" "ways" "I") ∈ lw_all := lw_g (lw_at lw_m3 37 rfl) rfl
theorem q656 : (Jvm.Cond.soleField "SaidSo$Thing" "ways") ∈ lw_all := lw_g (lw_at lw_m3 38 rfl) rfl
theorem q657 : (Jvm.Cond.laysFinal "SaidSo$Thing" "SaidSo$Thing" "is" "I") ∈ lw_all := lw_g (lw_at lw_m3 39 rfl) rfl
theorem q658 : (Jvm.Cond.soleField "SaidSo$Thing" "is") ∈ lw_all := lw_g (lw_at lw_m3 40 rfl) rfl
theorem q659 : (Jvm.Cond.lays "SaidSo$Thing" "SaidSo$Thing" "paper" "I") ∈ lw_all := lw_g (lw_at lw_m3 41 rfl) rfl
theorem q660 : (Jvm.Cond.soleField "SaidSo$Thing" "paper") ∈ lw_all := lw_g (lw_at lw_m3 42 rfl) rfl
theorem q661 : (Jvm.Cond.lays "SaidSo$Thing" "SaidSo$Thing" "police" "I") ∈ lw_all := lw_g (lw_at lw_m3 43 rfl) rfl
theorem q662 : (Jvm.Cond.soleField "SaidSo$Thing" "police") ∈ lw_all := lw_g (lw_at lw_m3 44 rfl) rfl
theorem q663 : (Jvm.Cond.superclass "SaidSo$Thing" "java/lang/Object") ∈ lw_all := lw_g (lw_at lw_m3 45 rfl) rfl
theorem q706 : (Jvm.Cond.selects "SaidSo$Thing" ({ cls := "java/lang/Object", name := "getClass", desc := "()Ljava/lang/Class;" } : Jvm.MethodName) ({ cls := "java/lang/Object", name := "getClass", desc := "()Ljava/lang/Class;" } : Jvm.MethodName)) ∈ lw_all := lw_g (lw_at lw_m3 88 rfl) rfl
theorem q1082 : (Jvm.Cond.instanceMethod ({ cls := "SaidSo$Thing", name := "isPublic", desc := "(I)Z" } : Jvm.MethodName)) ∈ lw_all := lw_g (lw_at lw_m4 224 rfl) rfl
theorem q1083 : (Jvm.Cond.selects "SaidSo$Thing" ({ cls := "SaidSo$Thing", name := "isPublic", desc := "(I)Z" } : Jvm.MethodName) ({ cls := "SaidSo$Thing", name := "isPublic", desc := "(I)Z" } : Jvm.MethodName)) ∈ lw_all := lw_g (lw_at lw_m4 225 rfl) rfl
theorem q1084 : (Jvm.Cond.code ({ cls := "SaidSo$Thing", name := "isPublic", desc := "(I)Z" } : Jvm.MethodName) prog_13_method_2_code (2 : Nat) (Option.some Jvm.ClassFile.FieldType.boolean)) ∈ lw_all := lw_g (lw_at lw_m4 226 rfl) rfl
theorem q1095 : (Jvm.Cond.instanceMethod ({ cls := "SaidSo$Thing", name := "isPolice", desc := "(I)Z" } : Jvm.MethodName)) ∈ lw_all := lw_g (lw_at lw_m4 237 rfl) rfl
theorem q1096 : (Jvm.Cond.selects "SaidSo$Thing" ({ cls := "SaidSo$Thing", name := "isPolice", desc := "(I)Z" } : Jvm.MethodName) ({ cls := "SaidSo$Thing", name := "isPolice", desc := "(I)Z" } : Jvm.MethodName)) ∈ lw_all := lw_g (lw_at lw_m4 238 rfl) rfl
theorem q1097 : (Jvm.Cond.code ({ cls := "SaidSo$Thing", name := "isPolice", desc := "(I)Z" } : Jvm.MethodName) prog_13_method_3_code (2 : Nat) (Option.some Jvm.ClassFile.FieldType.boolean)) ∈ lw_all := lw_g (lw_at lw_m4 239 rfl) rfl
theorem q2084 : (Jvm.Cond.castable "SaidSo$Thing" "java/lang/Object") ∈ lw_tbl := lw_at lw_m9 26 rfl
theorem in_X6 : ∀ w ∈ wsX60, w ∈ lw_all := lw_in wsX60 [653, 655, 657, 659, 661] (by decide +kernel) (by decide +kernel)

/-! jdk/internal/util/ArraysSupport -/
set_option maxRecDepth 100000
def RJ12 : String := "jdk/internal/util/ArraysSupport"
abbrev cJ12_newLength : ByteArray := prog_48_method_27_code
def yJ12_newLength : MethodName := ⟨RJ12, "newLength", "(III)I"⟩
def dkwJ12_newLength_1 : List UInt8 := [184, 0, 201, 172]
abbrev dktJ12_newLength_1 : List UInt8 := dkwJ12_newLength_1 ++ []
def dkwJ12_newLength_0 : List UInt8 := [26, 27, 28, 184, 0, 194, 96, 62, 3, 29, 162, 0, 11, 29, 18, 200, 163, 0, 5, 29, 172, 26, 27]
abbrev dktJ12_newLength_0 : List UInt8 := dkwJ12_newLength_0 ++ dktJ12_newLength_1
theorem dksJ12_newLength_0 : cJ12_newLength.data.toList.drop 0 = dktJ12_newLength_0 := by decide +kernel
theorem dksJ12_newLength_1 : cJ12_newLength.data.toList.drop 23 = dktJ12_newLength_1 := dk_seg dksJ12_newLength_0 23 rfl rfl
theorem dJ12_newLength_0 : decode cJ12_newLength 0 = .ok (.iload_n 0, 1) := dk_26 (dk_at dksJ12_newLength_0 0 rfl rfl)
theorem dJ12_newLength_1 : decode cJ12_newLength 1 = .ok (.iload_n 1, 1) := dk_27 (dk_at dksJ12_newLength_0 1 rfl rfl)
theorem dJ12_newLength_2 : decode cJ12_newLength 2 = .ok (.iload_n 2, 1) := dk_28 (dk_at dksJ12_newLength_0 2 rfl rfl)
theorem dJ12_newLength_3 : decode cJ12_newLength 3 = .ok (.invokestatic 194, 3) := dk_184 0 194 (dk_at dksJ12_newLength_0 3 rfl rfl)
theorem dJ12_newLength_6 : decode cJ12_newLength 6 = .ok (.iadd, 1) := dk_96 (dk_at dksJ12_newLength_0 6 rfl rfl)
theorem dJ12_newLength_7 : decode cJ12_newLength 7 = .ok (.istore_n 3, 1) := dk_62 (dk_at dksJ12_newLength_0 7 rfl rfl)
theorem dJ12_newLength_8 : decode cJ12_newLength 8 = .ok (.iconst 0, 1) := dk_3 (dk_at dksJ12_newLength_0 8 rfl rfl)
theorem dJ12_newLength_9 : decode cJ12_newLength 9 = .ok (.iload_n 3, 1) := dk_29 (dk_at dksJ12_newLength_0 9 rfl rfl)
theorem dJ12_newLength_10 : decode cJ12_newLength 10 = .ok (.if_icmp .ge 11, 3) := dk_162 0 11 (dk_at dksJ12_newLength_0 10 rfl rfl)
theorem dJ12_newLength_13 : decode cJ12_newLength 13 = .ok (.iload_n 3, 1) := dk_29 (dk_at dksJ12_newLength_0 13 rfl rfl)
theorem dJ12_newLength_14 : decode cJ12_newLength 14 = .ok (.ldc 200, 2) := dk_18 200 (dk_at dksJ12_newLength_0 14 rfl rfl)
theorem dJ12_newLength_16 : decode cJ12_newLength 16 = .ok (.if_icmp .gt 5, 3) := dk_163 0 5 (dk_at dksJ12_newLength_0 16 rfl rfl)
theorem dJ12_newLength_19 : decode cJ12_newLength 19 = .ok (.iload_n 3, 1) := dk_29 (dk_at dksJ12_newLength_0 19 rfl rfl)
theorem dJ12_newLength_20 : decode cJ12_newLength 20 = .ok (.ireturn, 1) := dk_172 (dk_at dksJ12_newLength_0 20 rfl rfl)
theorem dJ12_newLength_21 : decode cJ12_newLength 21 = .ok (.iload_n 0, 1) := dk_26 (dk_at dksJ12_newLength_0 21 rfl rfl)
theorem dJ12_newLength_22 : decode cJ12_newLength 22 = .ok (.iload_n 1, 1) := dk_27 (dk_at dksJ12_newLength_0 22 rfl rfl)
theorem dJ12_newLength_23 : decode cJ12_newLength 23 = .ok (.invokestatic 201, 3) := dk_184 0 201 (dk_at dksJ12_newLength_1 0 rfl rfl)
theorem dJ12_newLength_26 : decode cJ12_newLength 26 = .ok (.ireturn, 1) := dk_172 (dk_at dksJ12_newLength_1 3 rfl rfl)
abbrev cJ12_hugeLength : ByteArray := prog_48_method_28_code
def yJ12_hugeLength : MethodName := ⟨RJ12, "hugeLength", "(II)I"⟩
def dkwJ12_hugeLength_2 : List UInt8 := [191, 28, 18, 200, 163, 0, 6, 18, 200, 172, 28, 172]
abbrev dktJ12_hugeLength_2 : List UInt8 := dkwJ12_hugeLength_2 ++ []
def dkwJ12_hugeLength_1 : List UInt8 := [26, 182, 0, 98, 18, 208, 182, 0, 94, 27, 182, 0, 98, 18, 210, 182, 0, 94, 182, 0, 101, 183, 0, 212]
abbrev dktJ12_hugeLength_1 : List UInt8 := dkwJ12_hugeLength_1 ++ dktJ12_hugeLength_2
def dkwJ12_hugeLength_0 : List UInt8 := [26, 27, 96, 61, 28, 156, 0, 44, 187, 0, 204, 89, 187, 0, 89, 89, 183, 0, 91, 18, 206, 182, 0, 94]
abbrev dktJ12_hugeLength_0 : List UInt8 := dkwJ12_hugeLength_0 ++ dktJ12_hugeLength_1
theorem dksJ12_hugeLength_0 : cJ12_hugeLength.data.toList.drop 0 = dktJ12_hugeLength_0 := by decide +kernel
theorem dksJ12_hugeLength_1 : cJ12_hugeLength.data.toList.drop 24 = dktJ12_hugeLength_1 := dk_seg dksJ12_hugeLength_0 24 rfl rfl
theorem dksJ12_hugeLength_2 : cJ12_hugeLength.data.toList.drop 48 = dktJ12_hugeLength_2 := dk_seg dksJ12_hugeLength_1 24 rfl rfl
theorem dJ12_hugeLength_0 : decode cJ12_hugeLength 0 = .ok (.iload_n 0, 1) := dk_26 (dk_at dksJ12_hugeLength_0 0 rfl rfl)
theorem dJ12_hugeLength_1 : decode cJ12_hugeLength 1 = .ok (.iload_n 1, 1) := dk_27 (dk_at dksJ12_hugeLength_0 1 rfl rfl)
theorem dJ12_hugeLength_2 : decode cJ12_hugeLength 2 = .ok (.iadd, 1) := dk_96 (dk_at dksJ12_hugeLength_0 2 rfl rfl)
theorem dJ12_hugeLength_3 : decode cJ12_hugeLength 3 = .ok (.istore_n 2, 1) := dk_61 (dk_at dksJ12_hugeLength_0 3 rfl rfl)
theorem dJ12_hugeLength_4 : decode cJ12_hugeLength 4 = .ok (.iload_n 2, 1) := dk_28 (dk_at dksJ12_hugeLength_0 4 rfl rfl)
theorem dJ12_hugeLength_5 : decode cJ12_hugeLength 5 = .ok (.ifCond .ge 44, 3) := dk_156 0 44 (dk_at dksJ12_hugeLength_0 5 rfl rfl)
theorem dJ12_hugeLength_8 : decode cJ12_hugeLength 8 = .ok (.new 204, 3) := dk_187 0 204 (dk_at dksJ12_hugeLength_0 8 rfl rfl)
theorem dJ12_hugeLength_11 : decode cJ12_hugeLength 11 = .ok (.dup, 1) := dk_89 (dk_at dksJ12_hugeLength_0 11 rfl rfl)
theorem dJ12_hugeLength_12 : decode cJ12_hugeLength 12 = .ok (.new 89, 3) := dk_187 0 89 (dk_at dksJ12_hugeLength_0 12 rfl rfl)
theorem dJ12_hugeLength_15 : decode cJ12_hugeLength 15 = .ok (.dup, 1) := dk_89 (dk_at dksJ12_hugeLength_0 15 rfl rfl)
theorem dJ12_hugeLength_16 : decode cJ12_hugeLength 16 = .ok (.invokespecial 91, 3) := dk_183 0 91 (dk_at dksJ12_hugeLength_0 16 rfl rfl)
theorem dJ12_hugeLength_19 : decode cJ12_hugeLength 19 = .ok (.ldc 206, 2) := dk_18 206 (dk_at dksJ12_hugeLength_0 19 rfl rfl)
theorem dJ12_hugeLength_21 : decode cJ12_hugeLength 21 = .ok (.invokevirtual 94, 3) := dk_182 0 94 (dk_at dksJ12_hugeLength_0 21 rfl rfl)
theorem dJ12_hugeLength_24 : decode cJ12_hugeLength 24 = .ok (.iload_n 0, 1) := dk_26 (dk_at dksJ12_hugeLength_1 0 rfl rfl)
theorem dJ12_hugeLength_25 : decode cJ12_hugeLength 25 = .ok (.invokevirtual 98, 3) := dk_182 0 98 (dk_at dksJ12_hugeLength_1 1 rfl rfl)
theorem dJ12_hugeLength_28 : decode cJ12_hugeLength 28 = .ok (.ldc 208, 2) := dk_18 208 (dk_at dksJ12_hugeLength_1 4 rfl rfl)
theorem dJ12_hugeLength_30 : decode cJ12_hugeLength 30 = .ok (.invokevirtual 94, 3) := dk_182 0 94 (dk_at dksJ12_hugeLength_1 6 rfl rfl)
theorem dJ12_hugeLength_33 : decode cJ12_hugeLength 33 = .ok (.iload_n 1, 1) := dk_27 (dk_at dksJ12_hugeLength_1 9 rfl rfl)
theorem dJ12_hugeLength_34 : decode cJ12_hugeLength 34 = .ok (.invokevirtual 98, 3) := dk_182 0 98 (dk_at dksJ12_hugeLength_1 10 rfl rfl)
theorem dJ12_hugeLength_37 : decode cJ12_hugeLength 37 = .ok (.ldc 210, 2) := dk_18 210 (dk_at dksJ12_hugeLength_1 13 rfl rfl)
theorem dJ12_hugeLength_39 : decode cJ12_hugeLength 39 = .ok (.invokevirtual 94, 3) := dk_182 0 94 (dk_at dksJ12_hugeLength_1 15 rfl rfl)
theorem dJ12_hugeLength_42 : decode cJ12_hugeLength 42 = .ok (.invokevirtual 101, 3) := dk_182 0 101 (dk_at dksJ12_hugeLength_1 18 rfl rfl)
theorem dJ12_hugeLength_45 : decode cJ12_hugeLength 45 = .ok (.invokespecial 212, 3) := dk_183 0 212 (dk_at dksJ12_hugeLength_1 21 rfl rfl)
theorem dJ12_hugeLength_48 : decode cJ12_hugeLength 48 = .ok (.athrow, 1) := dk_191 (dk_at dksJ12_hugeLength_2 0 rfl rfl)
theorem dJ12_hugeLength_49 : decode cJ12_hugeLength 49 = .ok (.iload_n 2, 1) := dk_28 (dk_at dksJ12_hugeLength_2 1 rfl rfl)
theorem dJ12_hugeLength_50 : decode cJ12_hugeLength 50 = .ok (.ldc 200, 2) := dk_18 200 (dk_at dksJ12_hugeLength_2 2 rfl rfl)
theorem dJ12_hugeLength_52 : decode cJ12_hugeLength 52 = .ok (.if_icmp .gt 6, 3) := dk_163 0 6 (dk_at dksJ12_hugeLength_2 4 rfl rfl)
theorem dJ12_hugeLength_55 : decode cJ12_hugeLength 55 = .ok (.ldc 200, 2) := dk_18 200 (dk_at dksJ12_hugeLength_2 7 rfl rfl)
theorem dJ12_hugeLength_57 : decode cJ12_hugeLength 57 = .ok (.ireturn, 1) := dk_172 (dk_at dksJ12_hugeLength_2 9 rfl rfl)
theorem dJ12_hugeLength_58 : decode cJ12_hugeLength 58 = .ok (.iload_n 2, 1) := dk_28 (dk_at dksJ12_hugeLength_2 10 rfl rfl)
theorem dJ12_hugeLength_59 : decode cJ12_hugeLength 59 = .ok (.ireturn, 1) := dk_172 (dk_at dksJ12_hugeLength_2 11 rfl rfl)
theorem q157 : (Jvm.Cond.initialized "jdk/internal/util/ArraysSupport") ∈ lw_all := lw_g (lw_at lw_m1 19 rfl) rfl
theorem q683 : (Jvm.Cond.static ({ cls := "jdk/internal/util/ArraysSupport", name := "newLength", desc := "(III)I" } : Jvm.MethodName)) ∈ lw_all := lw_g (lw_at lw_m3 65 rfl) rfl
theorem q684 : (Jvm.Cond.code ({ cls := "jdk/internal/util/ArraysSupport", name := "newLength", desc := "(III)I" } : Jvm.MethodName) prog_48_method_27_code (4 : Nat) (Option.some Jvm.ClassFile.FieldType.int)) ∈ lw_all := lw_g (lw_at lw_m3 66 rfl) rfl
theorem q685 : (Jvm.Cond.methodLink "jdk/internal/util/ArraysSupport" (194 : Nat) ({ cls := "java/lang/Math", name := "max", desc := "(II)I" } : Jvm.MethodName)) ∈ lw_all := lw_g (lw_at lw_m3 67 rfl) rfl
theorem q686 : (Jvm.Cond.constant "jdk/internal/util/ArraysSupport" (200 : Nat) (2147483639 : Int32)) ∈ lw_all := lw_g (lw_at lw_m3 68 rfl) rfl
theorem q687 : (Jvm.Cond.methodLink "jdk/internal/util/ArraysSupport" (201 : Nat) ({ cls := "jdk/internal/util/ArraysSupport", name := "hugeLength", desc := "(II)I" } : Jvm.MethodName)) ∈ lw_all := lw_g (lw_at lw_m3 69 rfl) rfl
theorem q688 : (Jvm.Cond.static ({ cls := "jdk/internal/util/ArraysSupport", name := "hugeLength", desc := "(II)I" } : Jvm.MethodName)) ∈ lw_all := lw_g (lw_at lw_m3 70 rfl) rfl
theorem q689 : (Jvm.Cond.code ({ cls := "jdk/internal/util/ArraysSupport", name := "hugeLength", desc := "(II)I" } : Jvm.MethodName) prog_48_method_28_code (3 : Nat) (Option.some Jvm.ClassFile.FieldType.int)) ∈ lw_all := lw_g (lw_at lw_m3 71 rfl) rfl

/-! java/util/Arrays -/
set_option maxRecDepth 100000
def RJ13 : String := "java/util/Arrays"
abbrev cJ13_copyOf : ByteArray := prog_41_method_119_code
def yJ13_copyOf : MethodName := ⟨RJ13, "copyOf", "([Ljava/lang/Object;I)[Ljava/lang/Object;"⟩
def dkwJ13_copyOf_0 : List UInt8 := [42, 27, 42, 182, 0, 86, 184, 1, 44, 176]
abbrev dktJ13_copyOf_0 : List UInt8 := dkwJ13_copyOf_0 ++ []
theorem dksJ13_copyOf_0 : cJ13_copyOf.data.toList.drop 0 = dktJ13_copyOf_0 := by decide +kernel
theorem dJ13_copyOf_0 : decode cJ13_copyOf 0 = .ok (.aload_n 0, 1) := dk_42 (dk_at dksJ13_copyOf_0 0 rfl rfl)
theorem dJ13_copyOf_1 : decode cJ13_copyOf 1 = .ok (.iload_n 1, 1) := dk_27 (dk_at dksJ13_copyOf_0 1 rfl rfl)
theorem dJ13_copyOf_2 : decode cJ13_copyOf 2 = .ok (.aload_n 0, 1) := dk_42 (dk_at dksJ13_copyOf_0 2 rfl rfl)
theorem dJ13_copyOf_3 : decode cJ13_copyOf 3 = .ok (.invokevirtual 86, 3) := dk_182 0 86 (dk_at dksJ13_copyOf_0 3 rfl rfl)
theorem dJ13_copyOf_6 : decode cJ13_copyOf 6 = .ok (.invokestatic 300, 3) := dk_184 1 44 (dk_at dksJ13_copyOf_0 6 rfl rfl)
theorem dJ13_copyOf_9 : decode cJ13_copyOf 9 = .ok (.areturn, 1) := dk_176 (dk_at dksJ13_copyOf_0 9 rfl rfl)
abbrev cJ13_copyOf_2 : ByteArray := prog_41_method_120_code
def yJ13_copyOf_2 : MethodName := ⟨RJ13, "copyOf", "([Ljava/lang/Object;ILjava/lang/Class;)[Ljava/lang/Object;"⟩
def dkwJ13_copyOf_2_1 : List UInt8 := [78, 42, 3, 45, 3, 42, 190, 27, 184, 1, 48, 184, 0, 150, 45, 176]
abbrev dktJ13_copyOf_2_1 : List UInt8 := dkwJ13_copyOf_2_1 ++ []
def dkwJ13_copyOf_2_0 : List UInt8 := [44, 18, 110, 166, 0, 10, 27, 189, 0, 2, 167, 0, 14, 44, 182, 0, 90, 27, 184, 0, 95, 192, 0, 110]
abbrev dktJ13_copyOf_2_0 : List UInt8 := dkwJ13_copyOf_2_0 ++ dktJ13_copyOf_2_1
theorem dksJ13_copyOf_2_0 : cJ13_copyOf_2.data.toList.drop 0 = dktJ13_copyOf_2_0 := by decide +kernel
theorem dksJ13_copyOf_2_1 : cJ13_copyOf_2.data.toList.drop 24 = dktJ13_copyOf_2_1 := dk_seg dksJ13_copyOf_2_0 24 rfl rfl
theorem dJ13_copyOf_2_0 : decode cJ13_copyOf_2 0 = .ok (.aload_n 2, 1) := dk_44 (dk_at dksJ13_copyOf_2_0 0 rfl rfl)
theorem dJ13_copyOf_2_1 : decode cJ13_copyOf_2 1 = .ok (.ldc 110, 2) := dk_18 110 (dk_at dksJ13_copyOf_2_0 1 rfl rfl)
theorem dJ13_copyOf_2_3 : decode cJ13_copyOf_2 3 = .ok (.if_acmp .ne 10, 3) := dk_166 0 10 (dk_at dksJ13_copyOf_2_0 3 rfl rfl)
theorem dJ13_copyOf_2_6 : decode cJ13_copyOf_2 6 = .ok (.iload_n 1, 1) := dk_27 (dk_at dksJ13_copyOf_2_0 6 rfl rfl)
theorem dJ13_copyOf_2_7 : decode cJ13_copyOf_2 7 = .ok (.anewarray 2, 3) := dk_189 0 2 (dk_at dksJ13_copyOf_2_0 7 rfl rfl)
theorem dJ13_copyOf_2_10 : decode cJ13_copyOf_2 10 = .ok (.goto 14, 3) := dk_167 0 14 (dk_at dksJ13_copyOf_2_0 10 rfl rfl)
theorem dJ13_copyOf_2_13 : decode cJ13_copyOf_2 13 = .ok (.aload_n 2, 1) := dk_44 (dk_at dksJ13_copyOf_2_0 13 rfl rfl)
theorem dJ13_copyOf_2_14 : decode cJ13_copyOf_2 14 = .ok (.invokevirtual 90, 3) := dk_182 0 90 (dk_at dksJ13_copyOf_2_0 14 rfl rfl)
theorem dJ13_copyOf_2_17 : decode cJ13_copyOf_2 17 = .ok (.iload_n 1, 1) := dk_27 (dk_at dksJ13_copyOf_2_0 17 rfl rfl)
theorem dJ13_copyOf_2_18 : decode cJ13_copyOf_2 18 = .ok (.invokestatic 95, 3) := dk_184 0 95 (dk_at dksJ13_copyOf_2_0 18 rfl rfl)
theorem dJ13_copyOf_2_21 : decode cJ13_copyOf_2 21 = .ok (.checkcast 110, 3) := dk_192 0 110 (dk_at dksJ13_copyOf_2_0 21 rfl rfl)
theorem dJ13_copyOf_2_24 : decode cJ13_copyOf_2 24 = .ok (.astore_n 3, 1) := dk_78 (dk_at dksJ13_copyOf_2_1 0 rfl rfl)
theorem dJ13_copyOf_2_25 : decode cJ13_copyOf_2 25 = .ok (.aload_n 0, 1) := dk_42 (dk_at dksJ13_copyOf_2_1 1 rfl rfl)
theorem dJ13_copyOf_2_26 : decode cJ13_copyOf_2 26 = .ok (.iconst 0, 1) := dk_3 (dk_at dksJ13_copyOf_2_1 2 rfl rfl)
theorem dJ13_copyOf_2_27 : decode cJ13_copyOf_2 27 = .ok (.aload_n 3, 1) := dk_45 (dk_at dksJ13_copyOf_2_1 3 rfl rfl)
theorem dJ13_copyOf_2_28 : decode cJ13_copyOf_2 28 = .ok (.iconst 0, 1) := dk_3 (dk_at dksJ13_copyOf_2_1 4 rfl rfl)
theorem dJ13_copyOf_2_29 : decode cJ13_copyOf_2 29 = .ok (.aload_n 0, 1) := dk_42 (dk_at dksJ13_copyOf_2_1 5 rfl rfl)
theorem dJ13_copyOf_2_30 : decode cJ13_copyOf_2 30 = .ok (.arraylength, 1) := dk_190 (dk_at dksJ13_copyOf_2_1 6 rfl rfl)
theorem dJ13_copyOf_2_31 : decode cJ13_copyOf_2 31 = .ok (.iload_n 1, 1) := dk_27 (dk_at dksJ13_copyOf_2_1 7 rfl rfl)
theorem dJ13_copyOf_2_32 : decode cJ13_copyOf_2 32 = .ok (.invokestatic 304, 3) := dk_184 1 48 (dk_at dksJ13_copyOf_2_1 8 rfl rfl)
theorem dJ13_copyOf_2_35 : decode cJ13_copyOf_2 35 = .ok (.invokestatic 150, 3) := dk_184 0 150 (dk_at dksJ13_copyOf_2_1 11 rfl rfl)
theorem dJ13_copyOf_2_38 : decode cJ13_copyOf_2 38 = .ok (.aload_n 3, 1) := dk_45 (dk_at dksJ13_copyOf_2_1 14 rfl rfl)
theorem dJ13_copyOf_2_39 : decode cJ13_copyOf_2 39 = .ok (.areturn, 1) := dk_176 (dk_at dksJ13_copyOf_2_1 15 rfl rfl)
theorem q158 : (Jvm.Cond.initialized "java/util/Arrays") ∈ lw_all := lw_g (lw_at lw_m1 20 rfl) rfl
theorem q691 : (Jvm.Cond.static ({ cls := "java/util/Arrays", name := "copyOf", desc := "([Ljava/lang/Object;I)[Ljava/lang/Object;" } : Jvm.MethodName)) ∈ lw_all := lw_g (lw_at lw_m3 73 rfl) rfl
theorem q692 : (Jvm.Cond.code ({ cls := "java/util/Arrays", name := "copyOf", desc := "([Ljava/lang/Object;I)[Ljava/lang/Object;" } : Jvm.MethodName) prog_41_method_119_code (2 : Nat) (Option.some (Jvm.ClassFile.FieldType.array (Jvm.ClassFile.FieldType.object "java/lang/Object")))) ∈ lw_all := lw_g (lw_at lw_m3 74 rfl) rfl
theorem q693 : (Jvm.Cond.methodLink "java/util/Arrays" (86 : Nat) ({ cls := "java/lang/Object", name := "getClass", desc := "()Ljava/lang/Class;" } : Jvm.MethodName)) ∈ lw_all := lw_g (lw_at lw_m3 75 rfl) rfl
theorem q716 : (Jvm.Cond.methodLink "java/util/Arrays" (300 : Nat) ({ cls := "java/util/Arrays", name := "copyOf", desc := "([Ljava/lang/Object;ILjava/lang/Class;)[Ljava/lang/Object;" } : Jvm.MethodName)) ∈ lw_all := lw_g (lw_at lw_m3 98 rfl) rfl
theorem q717 : (Jvm.Cond.static ({ cls := "java/util/Arrays", name := "copyOf", desc := "([Ljava/lang/Object;ILjava/lang/Class;)[Ljava/lang/Object;" } : Jvm.MethodName)) ∈ lw_all := lw_g (lw_at lw_m3 99 rfl) rfl
theorem q718 : (Jvm.Cond.code ({ cls := "java/util/Arrays", name := "copyOf", desc := "([Ljava/lang/Object;ILjava/lang/Class;)[Ljava/lang/Object;" } : Jvm.MethodName) prog_41_method_120_code (4 : Nat) (Option.some (Jvm.ClassFile.FieldType.array (Jvm.ClassFile.FieldType.object "java/lang/Object")))) ∈ lw_all := lw_g (lw_at lw_m3 100 rfl) rfl
theorem q719 : (Jvm.Cond.classLink "java/util/Arrays" (110 : Nat) "[Ljava/lang/Object;") ∈ lw_all := lw_g (lw_at lw_m3 101 rfl) rfl
theorem q720 : (Jvm.Cond.classLink "java/util/Arrays" (2 : Nat) "java/lang/Object") ∈ lw_all := lw_g (lw_at lw_m3 102 rfl) rfl
theorem q721 : (Jvm.Cond.methodLink "java/util/Arrays" (304 : Nat) ({ cls := "java/lang/Math", name := "min", desc := "(II)I" } : Jvm.MethodName)) ∈ lw_all := lw_g (lw_at lw_m3 103 rfl) rfl
theorem q722 : (Jvm.Cond.methodLink "java/util/Arrays" (150 : Nat) ({ cls := "java/lang/System", name := "arraycopy", desc := "(Ljava/lang/Object;ILjava/lang/Object;II)V" } : Jvm.MethodName)) ∈ lw_all := lw_g (lw_at lw_m3 104 rfl) rfl

/-! SaidSo$Teller -/
set_option maxRecDepth 100000
def RX7 : String := "SaidSo$Teller"
def TX7 : u_T := fun k => match k with
  | 0 => ("SaidSo$Teller", "name", "I", true)
  | 1 => ("SaidSo$Teller", "age", "I", true)
  | 2 => ("SaidSo$Teller", "begins", "I", true)
  | 3 => ("SaidSo$Teller", "ends", "I", true)
  | _ => ("SaidSo$Teller", "tape", "I", false)
def tyX7 : Nat → FieldType := fun k => match k with
  | 0 => .int
  | 1 => .int
  | 2 => .int
  | 3 => .int
  | _ => .int
abbrev wsX70 : List Cond := u_ws RX7 TX7 5
theorem nmX7 : ∀ a, a < 5 → ∀ b, b < 5 → a ≠ b → (TX7 a).2.1 ≠ (TX7 b).2.1 := by decide +kernel
theorem tyX7_ok : ∀ k, k < 5 → parseFieldDescriptor (TX7 k).2.2.1 = some (tyX7 k) := by decide +kernel
abbrev cX7_init : ByteArray := prog_12_method_1_code
def yX7_init : MethodName := ⟨RX7, "<init>", "(IIII)V"⟩
def dkwX7_init_1 : List UInt8 := [42, 21, 4, 181, 0, 24, 177]
abbrev dktX7_init_1 : List UInt8 := dkwX7_init_1 ++ []
def dkwX7_init_0 : List UInt8 := [42, 183, 0, 3, 42, 2, 181, 0, 9, 42, 27, 181, 0, 15, 42, 28, 181, 0, 18, 42, 29, 181, 0, 21]
abbrev dktX7_init_0 : List UInt8 := dkwX7_init_0 ++ dktX7_init_1
theorem dksX7_init_0 : cX7_init.data.toList.drop 0 = dktX7_init_0 := by decide +kernel
theorem dksX7_init_1 : cX7_init.data.toList.drop 24 = dktX7_init_1 := dk_seg dksX7_init_0 24 rfl rfl
theorem dX7_init_0 : decode cX7_init 0 = .ok (.aload_n 0, 1) := dk_42 (dk_at dksX7_init_0 0 rfl rfl)
theorem dX7_init_1 : decode cX7_init 1 = .ok (.invokespecial 3, 3) := dk_183 0 3 (dk_at dksX7_init_0 1 rfl rfl)
theorem dX7_init_4 : decode cX7_init 4 = .ok (.aload_n 0, 1) := dk_42 (dk_at dksX7_init_0 4 rfl rfl)
theorem dX7_init_5 : decode cX7_init 5 = .ok (.iconst (-1), 1) := dk_2 (dk_at dksX7_init_0 5 rfl rfl)
theorem dX7_init_6 : decode cX7_init 6 = .ok (.putfield 9, 3) := dk_181 0 9 (dk_at dksX7_init_0 6 rfl rfl)
theorem dX7_init_9 : decode cX7_init 9 = .ok (.aload_n 0, 1) := dk_42 (dk_at dksX7_init_0 9 rfl rfl)
theorem dX7_init_10 : decode cX7_init 10 = .ok (.iload_n 1, 1) := dk_27 (dk_at dksX7_init_0 10 rfl rfl)
theorem dX7_init_11 : decode cX7_init 11 = .ok (.putfield 15, 3) := dk_181 0 15 (dk_at dksX7_init_0 11 rfl rfl)
theorem dX7_init_14 : decode cX7_init 14 = .ok (.aload_n 0, 1) := dk_42 (dk_at dksX7_init_0 14 rfl rfl)
theorem dX7_init_15 : decode cX7_init 15 = .ok (.iload_n 2, 1) := dk_28 (dk_at dksX7_init_0 15 rfl rfl)
theorem dX7_init_16 : decode cX7_init 16 = .ok (.putfield 18, 3) := dk_181 0 18 (dk_at dksX7_init_0 16 rfl rfl)
theorem dX7_init_19 : decode cX7_init 19 = .ok (.aload_n 0, 1) := dk_42 (dk_at dksX7_init_0 19 rfl rfl)
theorem dX7_init_20 : decode cX7_init 20 = .ok (.iload_n 3, 1) := dk_29 (dk_at dksX7_init_0 20 rfl rfl)
theorem dX7_init_21 : decode cX7_init 21 = .ok (.putfield 21, 3) := dk_181 0 21 (dk_at dksX7_init_0 21 rfl rfl)
theorem dX7_init_24 : decode cX7_init 24 = .ok (.aload_n 0, 1) := dk_42 (dk_at dksX7_init_1 0 rfl rfl)
theorem dX7_init_25 : decode cX7_init 25 = .ok (.iload 4, 2) := dk_21 4 (dk_at dksX7_init_1 1 rfl rfl)
theorem dX7_init_27 : decode cX7_init 27 = .ok (.putfield 24, 3) := dk_181 0 24 (dk_at dksX7_init_1 3 rfl rfl)
theorem dX7_init_30 : decode cX7_init 30 = .ok (.return_, 1) := dk_177 (dk_at dksX7_init_1 6 rfl rfl)
abbrev cX7_isTaped : ByteArray := prog_12_method_2_code
def yX7_isTaped : MethodName := ⟨RX7, "isTaped", "(I)Z"⟩
def dkwX7_isTaped_0 : List UInt8 := [42, 180, 0, 9, 2, 159, 0, 15, 27, 42, 180, 0, 9, 161, 0, 7, 4, 167, 0, 4, 3, 172]
abbrev dktX7_isTaped_0 : List UInt8 := dkwX7_isTaped_0 ++ []
theorem dksX7_isTaped_0 : cX7_isTaped.data.toList.drop 0 = dktX7_isTaped_0 := by decide +kernel
theorem dX7_isTaped_0 : decode cX7_isTaped 0 = .ok (.aload_n 0, 1) := dk_42 (dk_at dksX7_isTaped_0 0 rfl rfl)
theorem dX7_isTaped_1 : decode cX7_isTaped 1 = .ok (.getfield 9, 3) := dk_180 0 9 (dk_at dksX7_isTaped_0 1 rfl rfl)
theorem dX7_isTaped_4 : decode cX7_isTaped 4 = .ok (.iconst (-1), 1) := dk_2 (dk_at dksX7_isTaped_0 4 rfl rfl)
theorem dX7_isTaped_5 : decode cX7_isTaped 5 = .ok (.if_icmp .eq 15, 3) := dk_159 0 15 (dk_at dksX7_isTaped_0 5 rfl rfl)
theorem dX7_isTaped_8 : decode cX7_isTaped 8 = .ok (.iload_n 1, 1) := dk_27 (dk_at dksX7_isTaped_0 8 rfl rfl)
theorem dX7_isTaped_9 : decode cX7_isTaped 9 = .ok (.aload_n 0, 1) := dk_42 (dk_at dksX7_isTaped_0 9 rfl rfl)
theorem dX7_isTaped_10 : decode cX7_isTaped 10 = .ok (.getfield 9, 3) := dk_180 0 9 (dk_at dksX7_isTaped_0 10 rfl rfl)
theorem dX7_isTaped_13 : decode cX7_isTaped 13 = .ok (.if_icmp .lt 7, 3) := dk_161 0 7 (dk_at dksX7_isTaped_0 13 rfl rfl)
theorem dX7_isTaped_16 : decode cX7_isTaped 16 = .ok (.iconst 1, 1) := dk_4 (dk_at dksX7_isTaped_0 16 rfl rfl)
theorem dX7_isTaped_17 : decode cX7_isTaped 17 = .ok (.goto 4, 3) := dk_167 0 4 (dk_at dksX7_isTaped_0 17 rfl rfl)
theorem dX7_isTaped_20 : decode cX7_isTaped 20 = .ok (.iconst 0, 1) := dk_3 (dk_at dksX7_isTaped_0 20 rfl rfl)
theorem dX7_isTaped_21 : decode cX7_isTaped 21 = .ok (.ireturn, 1) := dk_172 (dk_at dksX7_isTaped_0 21 rfl rfl)
abbrev cX7_lastOff : ByteArray := prog_12_method_3_code
def yX7_lastOff : MethodName := ⟨RX7, "lastOff", "(I)I"⟩
def dkwX7_lastOff_0 : List UInt8 := [42, 180, 0, 9, 2, 160, 0, 7, 27, 167, 0, 13, 27, 42, 180, 0, 9, 4, 100, 184, 0, 27, 172]
abbrev dktX7_lastOff_0 : List UInt8 := dkwX7_lastOff_0 ++ []
theorem dksX7_lastOff_0 : cX7_lastOff.data.toList.drop 0 = dktX7_lastOff_0 := by decide +kernel
theorem dX7_lastOff_0 : decode cX7_lastOff 0 = .ok (.aload_n 0, 1) := dk_42 (dk_at dksX7_lastOff_0 0 rfl rfl)
theorem dX7_lastOff_1 : decode cX7_lastOff 1 = .ok (.getfield 9, 3) := dk_180 0 9 (dk_at dksX7_lastOff_0 1 rfl rfl)
theorem dX7_lastOff_4 : decode cX7_lastOff 4 = .ok (.iconst (-1), 1) := dk_2 (dk_at dksX7_lastOff_0 4 rfl rfl)
theorem dX7_lastOff_5 : decode cX7_lastOff 5 = .ok (.if_icmp .ne 7, 3) := dk_160 0 7 (dk_at dksX7_lastOff_0 5 rfl rfl)
theorem dX7_lastOff_8 : decode cX7_lastOff 8 = .ok (.iload_n 1, 1) := dk_27 (dk_at dksX7_lastOff_0 8 rfl rfl)
theorem dX7_lastOff_9 : decode cX7_lastOff 9 = .ok (.goto 13, 3) := dk_167 0 13 (dk_at dksX7_lastOff_0 9 rfl rfl)
theorem dX7_lastOff_12 : decode cX7_lastOff 12 = .ok (.iload_n 1, 1) := dk_27 (dk_at dksX7_lastOff_0 12 rfl rfl)
theorem dX7_lastOff_13 : decode cX7_lastOff 13 = .ok (.aload_n 0, 1) := dk_42 (dk_at dksX7_lastOff_0 13 rfl rfl)
theorem dX7_lastOff_14 : decode cX7_lastOff 14 = .ok (.getfield 9, 3) := dk_180 0 9 (dk_at dksX7_lastOff_0 14 rfl rfl)
theorem dX7_lastOff_17 : decode cX7_lastOff 17 = .ok (.iconst 1, 1) := dk_4 (dk_at dksX7_lastOff_0 17 rfl rfl)
theorem dX7_lastOff_18 : decode cX7_lastOff 18 = .ok (.isub, 1) := dk_100 (dk_at dksX7_lastOff_0 18 rfl rfl)
theorem dX7_lastOff_19 : decode cX7_lastOff 19 = .ok (.invokestatic 27, 3) := dk_184 0 27 (dk_at dksX7_lastOff_0 19 rfl rfl)
theorem dX7_lastOff_22 : decode cX7_lastOff 22 = .ok (.ireturn, 1) := dk_172 (dk_at dksX7_lastOff_0 22 rfl rfl)
abbrev cX7_off : ByteArray := prog_12_method_4_code
def yX7_off : MethodName := ⟨RX7, "off", "(I)I"⟩
def dkwX7_off_0 : List UInt8 := [3, 42, 27, 182, 0, 33, 42, 180, 0, 21, 100, 4, 96, 184, 0, 37, 172]
abbrev dktX7_off_0 : List UInt8 := dkwX7_off_0 ++ []
theorem dksX7_off_0 : cX7_off.data.toList.drop 0 = dktX7_off_0 := by decide +kernel
theorem dX7_off_0 : decode cX7_off 0 = .ok (.iconst 0, 1) := dk_3 (dk_at dksX7_off_0 0 rfl rfl)
theorem dX7_off_1 : decode cX7_off 1 = .ok (.aload_n 0, 1) := dk_42 (dk_at dksX7_off_0 1 rfl rfl)
theorem dX7_off_2 : decode cX7_off 2 = .ok (.iload_n 1, 1) := dk_27 (dk_at dksX7_off_0 2 rfl rfl)
theorem dX7_off_3 : decode cX7_off 3 = .ok (.invokevirtual 33, 3) := dk_182 0 33 (dk_at dksX7_off_0 3 rfl rfl)
theorem dX7_off_6 : decode cX7_off 6 = .ok (.aload_n 0, 1) := dk_42 (dk_at dksX7_off_0 6 rfl rfl)
theorem dX7_off_7 : decode cX7_off 7 = .ok (.getfield 21, 3) := dk_180 0 21 (dk_at dksX7_off_0 7 rfl rfl)
theorem dX7_off_10 : decode cX7_off 10 = .ok (.isub, 1) := dk_100 (dk_at dksX7_off_0 10 rfl rfl)
theorem dX7_off_11 : decode cX7_off 11 = .ok (.iconst 1, 1) := dk_4 (dk_at dksX7_off_0 11 rfl rfl)
theorem dX7_off_12 : decode cX7_off 12 = .ok (.iadd, 1) := dk_96 (dk_at dksX7_off_0 12 rfl rfl)
theorem dX7_off_13 : decode cX7_off 13 = .ok (.invokestatic 37, 3) := dk_184 0 37 (dk_at dksX7_off_0 13 rfl rfl)
theorem dX7_off_16 : decode cX7_off 16 = .ok (.ireturn, 1) := dk_172 (dk_at dksX7_off_0 16 rfl rfl)
theorem q160 : (Jvm.Cond.initialized "SaidSo$Teller") ∈ lw_all := lw_g (lw_at lw_m1 22 rfl) rfl
theorem q705 : (Jvm.Cond.selects "SaidSo$Teller" ({ cls := "java/lang/Object", name := "getClass", desc := "()Ljava/lang/Class;" } : Jvm.MethodName) ({ cls := "java/lang/Object", name := "getClass", desc := "()Ljava/lang/Class;" } : Jvm.MethodName)) ∈ lw_all := lw_g (lw_at lw_m3 87 rfl) rfl
theorem q731 : (Jvm.Cond.instantiable "SaidSo$Teller" (5 : Nat)) ∈ lw_all := lw_g (lw_at lw_m3 113 rfl) rfl
theorem q733 : (Jvm.Cond.instanceMethod ({ cls := "SaidSo$Teller", name := "<init>", desc := "(IIII)V" } : Jvm.MethodName)) ∈ lw_all := lw_g (lw_at lw_m3 115 rfl) rfl
theorem q734 : (Jvm.Cond.code ({ cls := "SaidSo$Teller", name := "<init>", desc := "(IIII)V" } : Jvm.MethodName) prog_12_method_1_code (5 : Nat) (Option.none : Option Jvm.ClassFile.FieldType)) ∈ lw_all := lw_g (lw_at lw_m3 116 rfl) rfl
theorem q735 : (Jvm.Cond.methodLink "SaidSo$Teller" (3 : Nat) ({ cls := "java/lang/Object", name := "<init>", desc := "()V" } : Jvm.MethodName)) ∈ lw_all := lw_g (lw_at lw_m3 117 rfl) rfl
theorem q736 : (Jvm.Cond.fieldLink "SaidSo$Teller" (15 : Nat) "SaidSo$Teller" "name" "I") ∈ lw_all := lw_g (lw_at lw_m3 118 rfl) rfl
theorem q738 : (Jvm.Cond.fieldLink "SaidSo$Teller" (18 : Nat) "SaidSo$Teller" "age" "I") ∈ lw_all := lw_g (lw_at lw_m3 120 rfl) rfl
theorem q740 : (Jvm.Cond.fieldLink "SaidSo$Teller" (21 : Nat) "SaidSo$Teller" "begins" "I") ∈ lw_all := lw_g (lw_at lw_m3 122 rfl) rfl
theorem q745 : (Jvm.Cond.fieldLink "SaidSo$Teller" (24 : Nat) "SaidSo$Teller" "ends" "I") ∈ lw_all := lw_g (lw_at lw_m3 127 rfl) rfl
theorem q748 : (Jvm.Cond.fieldLink "SaidSo$Teller" (9 : Nat) "SaidSo$Teller" "tape" "I") ∈ lw_all := lw_g (lw_at lw_m3 130 rfl) rfl
theorem q751 : (Jvm.Cond.laysFinal "SaidSo$Teller" "SaidSo$Teller" "name" "I") ∈ lw_all := lw_g (lw_at lw_m3 133 rfl) rfl
theorem q752 : (Jvm.Cond.soleField "SaidSo$Teller" "name") ∈ lw_all := lw_g (lw_at lw_m3 134 rfl) rfl
theorem q753 : (Jvm.Cond.laysFinal "SaidSo$Teller" "SaidSo$Teller" "age" "I") ∈ lw_all := lw_g (lw_at lw_m3 135 rfl) rfl
theorem q754 : (Jvm.Cond.soleField "SaidSo$Teller" "age") ∈ lw_all := lw_g (lw_at lw_m3 136 rfl) rfl
theorem q755 : (Jvm.Cond.laysFinal "SaidSo$Teller" "SaidSo$Teller" "begins" "I") ∈ lw_all := lw_g (lw_at lw_m3 137 rfl) rfl
theorem q756 : (Jvm.Cond.soleField "SaidSo$Teller" "begins") ∈ lw_all := lw_g (lw_at lw_m3 138 rfl) rfl
theorem q757 : (Jvm.Cond.laysFinal "SaidSo$Teller" "SaidSo$Teller" "ends" "I") ∈ lw_all := lw_g (lw_at lw_m3 139 rfl) rfl
theorem q758 : (Jvm.Cond.soleField "SaidSo$Teller" "ends") ∈ lw_all := lw_g (lw_at lw_m3 140 rfl) rfl
theorem q759 : (Jvm.Cond.lays "SaidSo$Teller" "SaidSo$Teller" "tape" "I") ∈ lw_all := lw_g (lw_at lw_m3 141 rfl) rfl
theorem q760 : (Jvm.Cond.soleField "SaidSo$Teller" "tape") ∈ lw_all := lw_g (lw_at lw_m3 142 rfl) rfl
theorem q761 : (Jvm.Cond.superclass "SaidSo$Teller" "java/lang/Object") ∈ lw_all := lw_g (lw_at lw_m3 143 rfl) rfl
theorem q1061 : (Jvm.Cond.instanceMethod ({ cls := "SaidSo$Teller", name := "isTaped", desc := "(I)Z" } : Jvm.MethodName)) ∈ lw_all := lw_g (lw_at lw_m4 203 rfl) rfl
theorem q1062 : (Jvm.Cond.selects "SaidSo$Teller" ({ cls := "SaidSo$Teller", name := "isTaped", desc := "(I)Z" } : Jvm.MethodName) ({ cls := "SaidSo$Teller", name := "isTaped", desc := "(I)Z" } : Jvm.MethodName)) ∈ lw_all := lw_g (lw_at lw_m4 204 rfl) rfl
theorem q1063 : (Jvm.Cond.code ({ cls := "SaidSo$Teller", name := "isTaped", desc := "(I)Z" } : Jvm.MethodName) prog_12_method_2_code (2 : Nat) (Option.some Jvm.ClassFile.FieldType.boolean)) ∈ lw_all := lw_g (lw_at lw_m4 205 rfl) rfl
theorem q1090 : (Jvm.Cond.instanceMethod ({ cls := "SaidSo$Teller", name := "lastOff", desc := "(I)I" } : Jvm.MethodName)) ∈ lw_all := lw_g (lw_at lw_m4 232 rfl) rfl
theorem q1091 : (Jvm.Cond.selects "SaidSo$Teller" ({ cls := "SaidSo$Teller", name := "lastOff", desc := "(I)I" } : Jvm.MethodName) ({ cls := "SaidSo$Teller", name := "lastOff", desc := "(I)I" } : Jvm.MethodName)) ∈ lw_all := lw_g (lw_at lw_m4 233 rfl) rfl
theorem q1092 : (Jvm.Cond.code ({ cls := "SaidSo$Teller", name := "lastOff", desc := "(I)I" } : Jvm.MethodName) prog_12_method_3_code (2 : Nat) (Option.some Jvm.ClassFile.FieldType.int)) ∈ lw_all := lw_g (lw_at lw_m4 234 rfl) rfl
theorem q1093 : (Jvm.Cond.methodLink "SaidSo$Teller" (27 : Nat) ({ cls := "java/lang/Math", name := "min", desc := "(II)I" } : Jvm.MethodName)) ∈ lw_all := lw_g (lw_at lw_m4 235 rfl) rfl
theorem q1218 : (Jvm.Cond.instanceMethod ({ cls := "SaidSo$Teller", name := "off", desc := "(I)I" } : Jvm.MethodName)) ∈ lw_all := lw_g (lw_at lw_m5 120 rfl) rfl
theorem q1219 : (Jvm.Cond.selects "SaidSo$Teller" ({ cls := "SaidSo$Teller", name := "off", desc := "(I)I" } : Jvm.MethodName) ({ cls := "SaidSo$Teller", name := "off", desc := "(I)I" } : Jvm.MethodName)) ∈ lw_all := lw_g (lw_at lw_m5 121 rfl) rfl
theorem q1220 : (Jvm.Cond.code ({ cls := "SaidSo$Teller", name := "off", desc := "(I)I" } : Jvm.MethodName) prog_12_method_4_code (2 : Nat) (Option.some Jvm.ClassFile.FieldType.int)) ∈ lw_all := lw_g (lw_at lw_m5 122 rfl) rfl
theorem q1221 : (Jvm.Cond.methodLink "SaidSo$Teller" (33 : Nat) ({ cls := "SaidSo$Teller", name := "lastOff", desc := "(I)I" } : Jvm.MethodName)) ∈ lw_all := lw_g (lw_at lw_m5 123 rfl) rfl
theorem q1222 : (Jvm.Cond.methodLink "SaidSo$Teller" (37 : Nat) ({ cls := "java/lang/Math", name := "max", desc := "(II)I" } : Jvm.MethodName)) ∈ lw_all := lw_g (lw_at lw_m5 124 rfl) rfl
theorem q2085 : (Jvm.Cond.castable "SaidSo$Teller" "java/lang/Object") ∈ lw_tbl := lw_at lw_m9 27 rfl
theorem in_X7 : ∀ w ∈ wsX70, w ∈ lw_all := lw_in wsX70 [751, 753, 755, 757, 759] (by decide +kernel) (by decide +kernel)

/-! SaidSo$Line -/
set_option maxRecDepth 100000
def RX8 : String := "SaidSo$Line"
abbrev cX8_init : ByteArray := prog_5_method_1_code
def yX8_init : MethodName := ⟨RX8, "<init>", "(LSaidSo$Case;IIII)V"⟩
def dkwX8_init_2 : List UInt8 := [181, 0, 43, 42, 21, 5, 181, 0, 46, 177]
abbrev dktX8_init_2 : List UInt8 := dkwX8_init_2 ++ []
def dkwX8_init_1 : List UInt8 := [192, 0, 28, 181, 0, 30, 42, 43, 180, 0, 34, 21, 4, 182, 0, 22, 192, 0, 37, 181, 0, 39, 42, 29]
abbrev dktX8_init_1 : List UInt8 := dkwX8_init_1 ++ dktX8_init_2
def dkwX8_init_0 : List UInt8 := [42, 183, 0, 1, 42, 28, 181, 0, 7, 42, 21, 4, 181, 0, 13, 42, 43, 180, 0, 16, 28, 182, 0, 22]
abbrev dktX8_init_0 : List UInt8 := dkwX8_init_0 ++ dktX8_init_1
theorem dksX8_init_0 : cX8_init.data.toList.drop 0 = dktX8_init_0 := by decide +kernel
theorem dksX8_init_1 : cX8_init.data.toList.drop 24 = dktX8_init_1 := dk_seg dksX8_init_0 24 rfl rfl
theorem dksX8_init_2 : cX8_init.data.toList.drop 48 = dktX8_init_2 := dk_seg dksX8_init_1 24 rfl rfl
theorem dX8_init_0 : decode cX8_init 0 = .ok (.aload_n 0, 1) := dk_42 (dk_at dksX8_init_0 0 rfl rfl)
theorem dX8_init_1 : decode cX8_init 1 = .ok (.invokespecial 1, 3) := dk_183 0 1 (dk_at dksX8_init_0 1 rfl rfl)
theorem dX8_init_4 : decode cX8_init 4 = .ok (.aload_n 0, 1) := dk_42 (dk_at dksX8_init_0 4 rfl rfl)
theorem dX8_init_5 : decode cX8_init 5 = .ok (.iload_n 2, 1) := dk_28 (dk_at dksX8_init_0 5 rfl rfl)
theorem dX8_init_6 : decode cX8_init 6 = .ok (.putfield 7, 3) := dk_181 0 7 (dk_at dksX8_init_0 6 rfl rfl)
theorem dX8_init_9 : decode cX8_init 9 = .ok (.aload_n 0, 1) := dk_42 (dk_at dksX8_init_0 9 rfl rfl)
theorem dX8_init_10 : decode cX8_init 10 = .ok (.iload 4, 2) := dk_21 4 (dk_at dksX8_init_0 10 rfl rfl)
theorem dX8_init_12 : decode cX8_init 12 = .ok (.putfield 13, 3) := dk_181 0 13 (dk_at dksX8_init_0 12 rfl rfl)
theorem dX8_init_15 : decode cX8_init 15 = .ok (.aload_n 0, 1) := dk_42 (dk_at dksX8_init_0 15 rfl rfl)
theorem dX8_init_16 : decode cX8_init 16 = .ok (.aload_n 1, 1) := dk_43 (dk_at dksX8_init_0 16 rfl rfl)
theorem dX8_init_17 : decode cX8_init 17 = .ok (.getfield 16, 3) := dk_180 0 16 (dk_at dksX8_init_0 17 rfl rfl)
theorem dX8_init_20 : decode cX8_init 20 = .ok (.iload_n 2, 1) := dk_28 (dk_at dksX8_init_0 20 rfl rfl)
theorem dX8_init_21 : decode cX8_init 21 = .ok (.invokevirtual 22, 3) := dk_182 0 22 (dk_at dksX8_init_0 21 rfl rfl)
theorem dX8_init_24 : decode cX8_init 24 = .ok (.checkcast 28, 3) := dk_192 0 28 (dk_at dksX8_init_1 0 rfl rfl)
theorem dX8_init_27 : decode cX8_init 27 = .ok (.putfield 30, 3) := dk_181 0 30 (dk_at dksX8_init_1 3 rfl rfl)
theorem dX8_init_30 : decode cX8_init 30 = .ok (.aload_n 0, 1) := dk_42 (dk_at dksX8_init_1 6 rfl rfl)
theorem dX8_init_31 : decode cX8_init 31 = .ok (.aload_n 1, 1) := dk_43 (dk_at dksX8_init_1 7 rfl rfl)
theorem dX8_init_32 : decode cX8_init 32 = .ok (.getfield 34, 3) := dk_180 0 34 (dk_at dksX8_init_1 8 rfl rfl)
theorem dX8_init_35 : decode cX8_init 35 = .ok (.iload 4, 2) := dk_21 4 (dk_at dksX8_init_1 11 rfl rfl)
theorem dX8_init_37 : decode cX8_init 37 = .ok (.invokevirtual 22, 3) := dk_182 0 22 (dk_at dksX8_init_1 13 rfl rfl)
theorem dX8_init_40 : decode cX8_init 40 = .ok (.checkcast 37, 3) := dk_192 0 37 (dk_at dksX8_init_1 16 rfl rfl)
theorem dX8_init_43 : decode cX8_init 43 = .ok (.putfield 39, 3) := dk_181 0 39 (dk_at dksX8_init_1 19 rfl rfl)
theorem dX8_init_46 : decode cX8_init 46 = .ok (.aload_n 0, 1) := dk_42 (dk_at dksX8_init_1 22 rfl rfl)
theorem dX8_init_47 : decode cX8_init 47 = .ok (.iload_n 3, 1) := dk_29 (dk_at dksX8_init_1 23 rfl rfl)
theorem dX8_init_48 : decode cX8_init 48 = .ok (.putfield 43, 3) := dk_181 0 43 (dk_at dksX8_init_2 0 rfl rfl)
theorem dX8_init_51 : decode cX8_init 51 = .ok (.aload_n 0, 1) := dk_42 (dk_at dksX8_init_2 3 rfl rfl)
theorem dX8_init_52 : decode cX8_init 52 = .ok (.iload 5, 2) := dk_21 5 (dk_at dksX8_init_2 4 rfl rfl)
theorem dX8_init_54 : decode cX8_init 54 = .ok (.putfield 46, 3) := dk_181 0 46 (dk_at dksX8_init_2 6 rfl rfl)
theorem dX8_init_57 : decode cX8_init 57 = .ok (.return_, 1) := dk_177 (dk_at dksX8_init_2 9 rfl rfl)
abbrev cX8_isWord : ByteArray := prog_5_method_2_code
def yX8_isWord : MethodName := ⟨RX8, "isWord", "()Z"⟩
theorem dX8_isWord_0 : decode cX8_isWord 0 = .ok (.iconst 0, 1) := by decide +kernel
theorem dX8_isWord_1 : decode cX8_isWord 1 = .ok (.ireturn, 1) := by decide +kernel
abbrev cX8_isPut : ByteArray := prog_5_method_3_code
def yX8_isPut : MethodName := ⟨RX8, "isPut", "()Z"⟩
theorem dX8_isPut_0 : decode cX8_isPut 0 = .ok (.iconst 0, 1) := by decide +kernel
theorem dX8_isPut_1 : decode cX8_isPut 1 = .ok (.ireturn, 1) := by decide +kernel
theorem q161 : (Jvm.Cond.initialized "SaidSo$Line") ∈ lw_all := lw_g (lw_at lw_m1 23 rfl) rfl
theorem q252 : (Jvm.Cond.fieldLinkNest "SaidSo$Line" (34 : Nat) "SaidSo$Case" "things" "Ljava/util/ArrayList;" "SaidSo") ∈ lw_tbl := lw_at lw_m1 114 rfl
theorem q255 : (Jvm.Cond.fieldLinkNest "SaidSo$Line" (16 : Nat) "SaidSo$Case" "tellers" "Ljava/util/ArrayList;" "SaidSo") ∈ lw_tbl := lw_at lw_m1 117 rfl
theorem q782 : (Jvm.Cond.instanceMethod ({ cls := "SaidSo$Line", name := "<init>", desc := "(LSaidSo$Case;IIII)V" } : Jvm.MethodName)) ∈ lw_all := lw_g (lw_at lw_m3 164 rfl) rfl
theorem q783 : (Jvm.Cond.code ({ cls := "SaidSo$Line", name := "<init>", desc := "(LSaidSo$Case;IIII)V" } : Jvm.MethodName) prog_5_method_1_code (6 : Nat) (Option.none : Option Jvm.ClassFile.FieldType)) ∈ lw_all := lw_g (lw_at lw_m3 165 rfl) rfl
theorem q784 : (Jvm.Cond.methodLink "SaidSo$Line" (1 : Nat) ({ cls := "java/lang/Object", name := "<init>", desc := "()V" } : Jvm.MethodName)) ∈ lw_all := lw_g (lw_at lw_m3 166 rfl) rfl
theorem q785 : (Jvm.Cond.methodLink "SaidSo$Line" (22 : Nat) ({ cls := "java/util/ArrayList", name := "get", desc := "(I)Ljava/lang/Object;" } : Jvm.MethodName)) ∈ lw_all := lw_g (lw_at lw_m3 167 rfl) rfl
theorem q786 : (Jvm.Cond.classLink "SaidSo$Line" (28 : Nat) "SaidSo$Teller") ∈ lw_all := lw_g (lw_at lw_m3 168 rfl) rfl
theorem q787 : (Jvm.Cond.classLink "SaidSo$Line" (37 : Nat) "SaidSo$Thing") ∈ lw_all := lw_g (lw_at lw_m3 169 rfl) rfl
theorem q788 : (Jvm.Cond.fieldLink "SaidSo$Line" (30 : Nat) "SaidSo$Line" "teller" "LSaidSo$Teller;") ∈ lw_all := lw_g (lw_at lw_m3 170 rfl) rfl
theorem q792 : (Jvm.Cond.fieldLink "SaidSo$Line" (39 : Nat) "SaidSo$Line" "thing" "LSaidSo$Thing;") ∈ lw_all := lw_g (lw_at lw_m3 174 rfl) rfl
theorem q797 : (Jvm.Cond.fieldLink "SaidSo$Line" (7 : Nat) "SaidSo$Line" "whose" "I") ∈ lw_all := lw_g (lw_at lw_m3 179 rfl) rfl
theorem q800 : (Jvm.Cond.fieldLink "SaidSo$Line" (13 : Nat) "SaidSo$Line" "what" "I") ∈ lw_all := lw_g (lw_at lw_m3 182 rfl) rfl
theorem q804 : (Jvm.Cond.fieldLink "SaidSo$Line" (43 : Nat) "SaidSo$Line" "hour" "I") ∈ lw_all := lw_g (lw_at lw_m3 186 rfl) rfl
theorem q809 : (Jvm.Cond.fieldLink "SaidSo$Line" (46 : Nat) "SaidSo$Line" "value" "I") ∈ lw_all := lw_g (lw_at lw_m3 191 rfl) rfl
theorem q817 : (Jvm.Cond.soleField "SaidSo$Line" "teller") ∈ lw_all := lw_g (lw_at lw_m3 199 rfl) rfl
theorem q819 : (Jvm.Cond.soleField "SaidSo$Line" "thing") ∈ lw_all := lw_g (lw_at lw_m3 201 rfl) rfl
theorem q821 : (Jvm.Cond.soleField "SaidSo$Line" "whose") ∈ lw_all := lw_g (lw_at lw_m3 203 rfl) rfl
theorem q823 : (Jvm.Cond.soleField "SaidSo$Line" "what") ∈ lw_all := lw_g (lw_at lw_m3 205 rfl) rfl
theorem q825 : (Jvm.Cond.soleField "SaidSo$Line" "hour") ∈ lw_all := lw_g (lw_at lw_m3 207 rfl) rfl
theorem q827 : (Jvm.Cond.soleField "SaidSo$Line" "value") ∈ lw_all := lw_g (lw_at lw_m3 209 rfl) rfl
theorem q985 : (Jvm.Cond.instanceMethod ({ cls := "SaidSo$Line", name := "isWord", desc := "()Z" } : Jvm.MethodName)) ∈ lw_all := lw_g (lw_at lw_m4 127 rfl) rfl
theorem q986 : (Jvm.Cond.sameMethod "SaidSo$Line" "SaidSo$Line" "isWord" "()Z") ∈ lw_all := lw_g (lw_at lw_m4 128 rfl) rfl
theorem q991 : (Jvm.Cond.code ({ cls := "SaidSo$Line", name := "isWord", desc := "()Z" } : Jvm.MethodName) prog_5_method_2_code (1 : Nat) (Option.some Jvm.ClassFile.FieldType.boolean)) ∈ lw_all := lw_g (lw_at lw_m4 133 rfl) rfl
theorem q1069 : (Jvm.Cond.instanceMethod ({ cls := "SaidSo$Line", name := "isPut", desc := "()Z" } : Jvm.MethodName)) ∈ lw_all := lw_g (lw_at lw_m4 211 rfl) rfl
theorem q1070 : (Jvm.Cond.sameMethod "SaidSo$Line" "SaidSo$Line" "isPut" "()Z") ∈ lw_all := lw_g (lw_at lw_m4 212 rfl) rfl
theorem q1075 : (Jvm.Cond.code ({ cls := "SaidSo$Line", name := "isPut", desc := "()Z" } : Jvm.MethodName) prog_5_method_3_code (1 : Nat) (Option.some Jvm.ClassFile.FieldType.boolean)) ∈ lw_all := lw_g (lw_at lw_m4 217 rfl) rfl

/-! SaidSo$Word -/
set_option maxRecDepth 100000
def RX9 : String := "SaidSo$Word"
def TX9 : u_T := fun k => match k with
  | 0 => ("SaidSo$Line", "teller", "LSaidSo$Teller;", true)
  | 1 => ("SaidSo$Line", "thing", "LSaidSo$Thing;", true)
  | 2 => ("SaidSo$Line", "whose", "I", true)
  | 3 => ("SaidSo$Line", "what", "I", true)
  | 4 => ("SaidSo$Line", "hour", "I", true)
  | _ => ("SaidSo$Line", "value", "I", true)
def tyX9 : Nat → FieldType := fun k => match k with
  | 0 => .object "SaidSo$Teller"
  | 1 => .object "SaidSo$Thing"
  | 2 => .int
  | 3 => .int
  | 4 => .int
  | _ => .int
abbrev wsX90 : List Cond := u_ws RX9 TX9 6
theorem nmX9 : ∀ a, a < 6 → ∀ b, b < 6 → a ≠ b → (TX9 a).2.1 ≠ (TX9 b).2.1 := by decide +kernel
theorem tyX9_ok : ∀ k, k < 6 → parseFieldDescriptor (TX9 k).2.2.1 = some (tyX9 k) := by decide +kernel
abbrev cX9_init : ByteArray := prog_16_method_1_code
def yX9_init : MethodName := ⟨RX9, "<init>", "(LSaidSo$Case;IIII)V"⟩
def dkwX9_init_0 : List UInt8 := [42, 43, 28, 29, 21, 4, 21, 5, 183, 0, 1, 177]
abbrev dktX9_init_0 : List UInt8 := dkwX9_init_0 ++ []
theorem dksX9_init_0 : cX9_init.data.toList.drop 0 = dktX9_init_0 := by decide +kernel
theorem dX9_init_0 : decode cX9_init 0 = .ok (.aload_n 0, 1) := dk_42 (dk_at dksX9_init_0 0 rfl rfl)
theorem dX9_init_1 : decode cX9_init 1 = .ok (.aload_n 1, 1) := dk_43 (dk_at dksX9_init_0 1 rfl rfl)
theorem dX9_init_2 : decode cX9_init 2 = .ok (.iload_n 2, 1) := dk_28 (dk_at dksX9_init_0 2 rfl rfl)
theorem dX9_init_3 : decode cX9_init 3 = .ok (.iload_n 3, 1) := dk_29 (dk_at dksX9_init_0 3 rfl rfl)
theorem dX9_init_4 : decode cX9_init 4 = .ok (.iload 4, 2) := dk_21 4 (dk_at dksX9_init_0 4 rfl rfl)
theorem dX9_init_6 : decode cX9_init 6 = .ok (.iload 5, 2) := dk_21 5 (dk_at dksX9_init_0 6 rfl rfl)
theorem dX9_init_8 : decode cX9_init 8 = .ok (.invokespecial 1, 3) := dk_183 0 1 (dk_at dksX9_init_0 8 rfl rfl)
theorem dX9_init_11 : decode cX9_init 11 = .ok (.return_, 1) := dk_177 (dk_at dksX9_init_0 11 rfl rfl)
abbrev cX9_isWord : ByteArray := prog_16_method_2_code
def yX9_isWord : MethodName := ⟨RX9, "isWord", "()Z"⟩
theorem dX9_isWord_0 : decode cX9_isWord 0 = .ok (.iconst 1, 1) := by decide +kernel
theorem dX9_isWord_1 : decode cX9_isWord 1 = .ok (.ireturn, 1) := by decide +kernel
abbrev cX9_isRight : ByteArray := prog_16_method_3_code
def yX9_isRight : MethodName := ⟨RX9, "isRight", "()Z"⟩
def dkwX9_isRight_0 : List UInt8 := [42, 180, 0, 7, 42, 180, 0, 13, 180, 0, 17, 160, 0, 7, 4, 167, 0, 4, 3, 172]
abbrev dktX9_isRight_0 : List UInt8 := dkwX9_isRight_0 ++ []
theorem dksX9_isRight_0 : cX9_isRight.data.toList.drop 0 = dktX9_isRight_0 := by decide +kernel
theorem dX9_isRight_0 : decode cX9_isRight 0 = .ok (.aload_n 0, 1) := dk_42 (dk_at dksX9_isRight_0 0 rfl rfl)
theorem dX9_isRight_1 : decode cX9_isRight 1 = .ok (.getfield 7, 3) := dk_180 0 7 (dk_at dksX9_isRight_0 1 rfl rfl)
theorem dX9_isRight_4 : decode cX9_isRight 4 = .ok (.aload_n 0, 1) := dk_42 (dk_at dksX9_isRight_0 4 rfl rfl)
theorem dX9_isRight_5 : decode cX9_isRight 5 = .ok (.getfield 13, 3) := dk_180 0 13 (dk_at dksX9_isRight_0 5 rfl rfl)
theorem dX9_isRight_8 : decode cX9_isRight 8 = .ok (.getfield 17, 3) := dk_180 0 17 (dk_at dksX9_isRight_0 8 rfl rfl)
theorem dX9_isRight_11 : decode cX9_isRight 11 = .ok (.if_icmp .ne 7, 3) := dk_160 0 7 (dk_at dksX9_isRight_0 11 rfl rfl)
theorem dX9_isRight_14 : decode cX9_isRight 14 = .ok (.iconst 1, 1) := dk_4 (dk_at dksX9_isRight_0 14 rfl rfl)
theorem dX9_isRight_15 : decode cX9_isRight 15 = .ok (.goto 4, 3) := dk_167 0 4 (dk_at dksX9_isRight_0 15 rfl rfl)
theorem dX9_isRight_18 : decode cX9_isRight 18 = .ok (.iconst 0, 1) := dk_3 (dk_at dksX9_isRight_0 18 rfl rfl)
theorem dX9_isRight_19 : decode cX9_isRight 19 = .ok (.ireturn, 1) := dk_172 (dk_at dksX9_isRight_0 19 rfl rfl)
abbrev cX9_isPublic : ByteArray := prog_16_method_4_code
def yX9_isPublic : MethodName := ⟨RX9, "isPublic", "()Z"⟩
def dkwX9_isPublic_1 : List UInt8 := [167, 0, 4, 3, 172]
abbrev dktX9_isPublic_1 : List UInt8 := dkwX9_isPublic_1 ++ []
def dkwX9_isPublic_0 : List UInt8 := [42, 182, 0, 22, 153, 0, 21, 42, 180, 0, 13, 42, 180, 0, 26, 182, 0, 29, 153, 0, 7, 4]
abbrev dktX9_isPublic_0 : List UInt8 := dkwX9_isPublic_0 ++ dktX9_isPublic_1
theorem dksX9_isPublic_0 : cX9_isPublic.data.toList.drop 0 = dktX9_isPublic_0 := by decide +kernel
theorem dksX9_isPublic_1 : cX9_isPublic.data.toList.drop 22 = dktX9_isPublic_1 := dk_seg dksX9_isPublic_0 22 rfl rfl
theorem dX9_isPublic_0 : decode cX9_isPublic 0 = .ok (.aload_n 0, 1) := dk_42 (dk_at dksX9_isPublic_0 0 rfl rfl)
theorem dX9_isPublic_1 : decode cX9_isPublic 1 = .ok (.invokevirtual 22, 3) := dk_182 0 22 (dk_at dksX9_isPublic_0 1 rfl rfl)
theorem dX9_isPublic_4 : decode cX9_isPublic 4 = .ok (.ifCond .eq 21, 3) := dk_153 0 21 (dk_at dksX9_isPublic_0 4 rfl rfl)
theorem dX9_isPublic_7 : decode cX9_isPublic 7 = .ok (.aload_n 0, 1) := dk_42 (dk_at dksX9_isPublic_0 7 rfl rfl)
theorem dX9_isPublic_8 : decode cX9_isPublic 8 = .ok (.getfield 13, 3) := dk_180 0 13 (dk_at dksX9_isPublic_0 8 rfl rfl)
theorem dX9_isPublic_11 : decode cX9_isPublic 11 = .ok (.aload_n 0, 1) := dk_42 (dk_at dksX9_isPublic_0 11 rfl rfl)
theorem dX9_isPublic_12 : decode cX9_isPublic 12 = .ok (.getfield 26, 3) := dk_180 0 26 (dk_at dksX9_isPublic_0 12 rfl rfl)
theorem dX9_isPublic_15 : decode cX9_isPublic 15 = .ok (.invokevirtual 29, 3) := dk_182 0 29 (dk_at dksX9_isPublic_0 15 rfl rfl)
theorem dX9_isPublic_18 : decode cX9_isPublic 18 = .ok (.ifCond .eq 7, 3) := dk_153 0 7 (dk_at dksX9_isPublic_0 18 rfl rfl)
theorem dX9_isPublic_21 : decode cX9_isPublic 21 = .ok (.iconst 1, 1) := dk_4 (dk_at dksX9_isPublic_0 21 rfl rfl)
theorem dX9_isPublic_22 : decode cX9_isPublic 22 = .ok (.goto 4, 3) := dk_167 0 4 (dk_at dksX9_isPublic_1 0 rfl rfl)
theorem dX9_isPublic_25 : decode cX9_isPublic 25 = .ok (.iconst 0, 1) := dk_3 (dk_at dksX9_isPublic_1 3 rfl rfl)
theorem dX9_isPublic_26 : decode cX9_isPublic 26 = .ok (.ireturn, 1) := dk_172 (dk_at dksX9_isPublic_1 4 rfl rfl)
abbrev cX9_isOff : ByteArray := prog_16_method_5_code
def yX9_isOff : MethodName := ⟨RX9, "isOff", "()Z"⟩
def dkwX9_isOff_2 : List UInt8 := [153, 0, 7, 4, 167, 0, 4, 3, 172]
abbrev dktX9_isOff_2 : List UInt8 := dkwX9_isOff_2 ++ []
def dkwX9_isOff_1 : List UInt8 := [180, 0, 43, 161, 0, 28, 42, 180, 0, 13, 42, 180, 0, 33, 42, 180, 0, 26, 182, 0, 37, 182, 0, 46]
abbrev dktX9_isOff_1 : List UInt8 := dkwX9_isOff_1 ++ dktX9_isOff_2
def dkwX9_isOff_0 : List UInt8 := [42, 182, 0, 22, 153, 0, 49, 42, 180, 0, 33, 42, 180, 0, 26, 182, 0, 37, 42, 180, 0, 33]
abbrev dktX9_isOff_0 : List UInt8 := dkwX9_isOff_0 ++ dktX9_isOff_1
theorem dksX9_isOff_0 : cX9_isOff.data.toList.drop 0 = dktX9_isOff_0 := by decide +kernel
theorem dksX9_isOff_1 : cX9_isOff.data.toList.drop 22 = dktX9_isOff_1 := dk_seg dksX9_isOff_0 22 rfl rfl
theorem dksX9_isOff_2 : cX9_isOff.data.toList.drop 46 = dktX9_isOff_2 := dk_seg dksX9_isOff_1 24 rfl rfl
theorem dX9_isOff_0 : decode cX9_isOff 0 = .ok (.aload_n 0, 1) := dk_42 (dk_at dksX9_isOff_0 0 rfl rfl)
theorem dX9_isOff_1 : decode cX9_isOff 1 = .ok (.invokevirtual 22, 3) := dk_182 0 22 (dk_at dksX9_isOff_0 1 rfl rfl)
theorem dX9_isOff_4 : decode cX9_isOff 4 = .ok (.ifCond .eq 49, 3) := dk_153 0 49 (dk_at dksX9_isOff_0 4 rfl rfl)
theorem dX9_isOff_7 : decode cX9_isOff 7 = .ok (.aload_n 0, 1) := dk_42 (dk_at dksX9_isOff_0 7 rfl rfl)
theorem dX9_isOff_8 : decode cX9_isOff 8 = .ok (.getfield 33, 3) := dk_180 0 33 (dk_at dksX9_isOff_0 8 rfl rfl)
theorem dX9_isOff_11 : decode cX9_isOff 11 = .ok (.aload_n 0, 1) := dk_42 (dk_at dksX9_isOff_0 11 rfl rfl)
theorem dX9_isOff_12 : decode cX9_isOff 12 = .ok (.getfield 26, 3) := dk_180 0 26 (dk_at dksX9_isOff_0 12 rfl rfl)
theorem dX9_isOff_15 : decode cX9_isOff 15 = .ok (.invokevirtual 37, 3) := dk_182 0 37 (dk_at dksX9_isOff_0 15 rfl rfl)
theorem dX9_isOff_18 : decode cX9_isOff 18 = .ok (.aload_n 0, 1) := dk_42 (dk_at dksX9_isOff_0 18 rfl rfl)
theorem dX9_isOff_19 : decode cX9_isOff 19 = .ok (.getfield 33, 3) := dk_180 0 33 (dk_at dksX9_isOff_0 19 rfl rfl)
theorem dX9_isOff_22 : decode cX9_isOff 22 = .ok (.getfield 43, 3) := dk_180 0 43 (dk_at dksX9_isOff_1 0 rfl rfl)
theorem dX9_isOff_25 : decode cX9_isOff 25 = .ok (.if_icmp .lt 28, 3) := dk_161 0 28 (dk_at dksX9_isOff_1 3 rfl rfl)
theorem dX9_isOff_28 : decode cX9_isOff 28 = .ok (.aload_n 0, 1) := dk_42 (dk_at dksX9_isOff_1 6 rfl rfl)
theorem dX9_isOff_29 : decode cX9_isOff 29 = .ok (.getfield 13, 3) := dk_180 0 13 (dk_at dksX9_isOff_1 7 rfl rfl)
theorem dX9_isOff_32 : decode cX9_isOff 32 = .ok (.aload_n 0, 1) := dk_42 (dk_at dksX9_isOff_1 10 rfl rfl)
theorem dX9_isOff_33 : decode cX9_isOff 33 = .ok (.getfield 33, 3) := dk_180 0 33 (dk_at dksX9_isOff_1 11 rfl rfl)
theorem dX9_isOff_36 : decode cX9_isOff 36 = .ok (.aload_n 0, 1) := dk_42 (dk_at dksX9_isOff_1 14 rfl rfl)
theorem dX9_isOff_37 : decode cX9_isOff 37 = .ok (.getfield 26, 3) := dk_180 0 26 (dk_at dksX9_isOff_1 15 rfl rfl)
theorem dX9_isOff_40 : decode cX9_isOff 40 = .ok (.invokevirtual 37, 3) := dk_182 0 37 (dk_at dksX9_isOff_1 18 rfl rfl)
theorem dX9_isOff_43 : decode cX9_isOff 43 = .ok (.invokevirtual 46, 3) := dk_182 0 46 (dk_at dksX9_isOff_1 21 rfl rfl)
theorem dX9_isOff_46 : decode cX9_isOff 46 = .ok (.ifCond .eq 7, 3) := dk_153 0 7 (dk_at dksX9_isOff_2 0 rfl rfl)
theorem dX9_isOff_49 : decode cX9_isOff 49 = .ok (.iconst 1, 1) := dk_4 (dk_at dksX9_isOff_2 3 rfl rfl)
theorem dX9_isOff_50 : decode cX9_isOff 50 = .ok (.goto 4, 3) := dk_167 0 4 (dk_at dksX9_isOff_2 4 rfl rfl)
theorem dX9_isOff_53 : decode cX9_isOff 53 = .ok (.iconst 0, 1) := dk_3 (dk_at dksX9_isOff_2 7 rfl rfl)
theorem dX9_isOff_54 : decode cX9_isOff 54 = .ok (.ireturn, 1) := dk_172 (dk_at dksX9_isOff_2 8 rfl rfl)
abbrev cX9_isNew : ByteArray := prog_16_method_6_code
def yX9_isNew : MethodName := ⟨RX9, "isNew", "()Z"⟩
def dkwX9_isNew_1 : List UInt8 := [180, 0, 13, 42, 180, 0, 26, 182, 0, 29, 154, 0, 7, 4, 167, 0, 4, 3, 172]
abbrev dktX9_isNew_1 : List UInt8 := dkwX9_isNew_1 ++ []
def dkwX9_isNew_0 : List UInt8 := [42, 182, 0, 22, 153, 0, 35, 42, 180, 0, 13, 42, 180, 0, 26, 182, 0, 46, 154, 0, 21, 42]
abbrev dktX9_isNew_0 : List UInt8 := dkwX9_isNew_0 ++ dktX9_isNew_1
theorem dksX9_isNew_0 : cX9_isNew.data.toList.drop 0 = dktX9_isNew_0 := by decide +kernel
theorem dksX9_isNew_1 : cX9_isNew.data.toList.drop 22 = dktX9_isNew_1 := dk_seg dksX9_isNew_0 22 rfl rfl
theorem dX9_isNew_0 : decode cX9_isNew 0 = .ok (.aload_n 0, 1) := dk_42 (dk_at dksX9_isNew_0 0 rfl rfl)
theorem dX9_isNew_1 : decode cX9_isNew 1 = .ok (.invokevirtual 22, 3) := dk_182 0 22 (dk_at dksX9_isNew_0 1 rfl rfl)
theorem dX9_isNew_4 : decode cX9_isNew 4 = .ok (.ifCond .eq 35, 3) := dk_153 0 35 (dk_at dksX9_isNew_0 4 rfl rfl)
theorem dX9_isNew_7 : decode cX9_isNew 7 = .ok (.aload_n 0, 1) := dk_42 (dk_at dksX9_isNew_0 7 rfl rfl)
theorem dX9_isNew_8 : decode cX9_isNew 8 = .ok (.getfield 13, 3) := dk_180 0 13 (dk_at dksX9_isNew_0 8 rfl rfl)
theorem dX9_isNew_11 : decode cX9_isNew 11 = .ok (.aload_n 0, 1) := dk_42 (dk_at dksX9_isNew_0 11 rfl rfl)
theorem dX9_isNew_12 : decode cX9_isNew 12 = .ok (.getfield 26, 3) := dk_180 0 26 (dk_at dksX9_isNew_0 12 rfl rfl)
theorem dX9_isNew_15 : decode cX9_isNew 15 = .ok (.invokevirtual 46, 3) := dk_182 0 46 (dk_at dksX9_isNew_0 15 rfl rfl)
theorem dX9_isNew_18 : decode cX9_isNew 18 = .ok (.ifCond .ne 21, 3) := dk_154 0 21 (dk_at dksX9_isNew_0 18 rfl rfl)
theorem dX9_isNew_21 : decode cX9_isNew 21 = .ok (.aload_n 0, 1) := dk_42 (dk_at dksX9_isNew_0 21 rfl rfl)
theorem dX9_isNew_22 : decode cX9_isNew 22 = .ok (.getfield 13, 3) := dk_180 0 13 (dk_at dksX9_isNew_1 0 rfl rfl)
theorem dX9_isNew_25 : decode cX9_isNew 25 = .ok (.aload_n 0, 1) := dk_42 (dk_at dksX9_isNew_1 3 rfl rfl)
theorem dX9_isNew_26 : decode cX9_isNew 26 = .ok (.getfield 26, 3) := dk_180 0 26 (dk_at dksX9_isNew_1 4 rfl rfl)
theorem dX9_isNew_29 : decode cX9_isNew 29 = .ok (.invokevirtual 29, 3) := dk_182 0 29 (dk_at dksX9_isNew_1 7 rfl rfl)
theorem dX9_isNew_32 : decode cX9_isNew 32 = .ok (.ifCond .ne 7, 3) := dk_154 0 7 (dk_at dksX9_isNew_1 10 rfl rfl)
theorem dX9_isNew_35 : decode cX9_isNew 35 = .ok (.iconst 1, 1) := dk_4 (dk_at dksX9_isNew_1 13 rfl rfl)
theorem dX9_isNew_36 : decode cX9_isNew 36 = .ok (.goto 4, 3) := dk_167 0 4 (dk_at dksX9_isNew_1 14 rfl rfl)
theorem dX9_isNew_39 : decode cX9_isNew 39 = .ok (.iconst 0, 1) := dk_3 (dk_at dksX9_isNew_1 17 rfl rfl)
theorem dX9_isNew_40 : decode cX9_isNew 40 = .ok (.ireturn, 1) := dk_172 (dk_at dksX9_isNew_1 18 rfl rfl)
theorem q162 : (Jvm.Cond.initialized "SaidSo$Word") ∈ lw_all := lw_g (lw_at lw_m1 24 rfl) rfl
theorem q645 : (Jvm.Cond.fieldLinkNest "SaidSo$Word" (17 : Nat) "SaidSo$Thing" "is" "I" "SaidSo") ∈ lw_tbl := lw_at lw_m3 27 rfl
theorem q709 : (Jvm.Cond.selects "SaidSo$Word" ({ cls := "java/lang/Object", name := "getClass", desc := "()Ljava/lang/Class;" } : Jvm.MethodName) ({ cls := "java/lang/Object", name := "getClass", desc := "()Ljava/lang/Class;" } : Jvm.MethodName)) ∈ lw_all := lw_g (lw_at lw_m3 91 rfl) rfl
theorem q742 : (Jvm.Cond.fieldLinkNest "SaidSo$Word" (43 : Nat) "SaidSo$Teller" "begins" "I" "SaidSo") ∈ lw_tbl := lw_at lw_m3 124 rfl
theorem q777 : (Jvm.Cond.instantiable "SaidSo$Word" (6 : Nat)) ∈ lw_all := lw_g (lw_at lw_m3 159 rfl) rfl
theorem q779 : (Jvm.Cond.instanceMethod ({ cls := "SaidSo$Word", name := "<init>", desc := "(LSaidSo$Case;IIII)V" } : Jvm.MethodName)) ∈ lw_all := lw_g (lw_at lw_m3 161 rfl) rfl
theorem q780 : (Jvm.Cond.code ({ cls := "SaidSo$Word", name := "<init>", desc := "(LSaidSo$Case;IIII)V" } : Jvm.MethodName) prog_16_method_1_code (6 : Nat) (Option.none : Option Jvm.ClassFile.FieldType)) ∈ lw_all := lw_g (lw_at lw_m3 162 rfl) rfl
theorem q781 : (Jvm.Cond.methodLink "SaidSo$Word" (1 : Nat) ({ cls := "SaidSo$Line", name := "<init>", desc := "(LSaidSo$Case;IIII)V" } : Jvm.MethodName)) ∈ lw_all := lw_g (lw_at lw_m3 163 rfl) rfl
theorem q789 : (Jvm.Cond.fieldLink "SaidSo$Word" (33 : Nat) "SaidSo$Word" "teller" "LSaidSo$Teller;") ∈ lw_all := lw_g (lw_at lw_m3 171 rfl) rfl
theorem q790 : (Jvm.Cond.sameField "SaidSo$Word" "SaidSo$Line" "teller" "LSaidSo$Teller;") ∈ lw_all := lw_g (lw_at lw_m3 172 rfl) rfl
theorem q793 : (Jvm.Cond.fieldLink "SaidSo$Word" (13 : Nat) "SaidSo$Word" "thing" "LSaidSo$Thing;") ∈ lw_all := lw_g (lw_at lw_m3 175 rfl) rfl
theorem q794 : (Jvm.Cond.sameField "SaidSo$Word" "SaidSo$Line" "thing" "LSaidSo$Thing;") ∈ lw_all := lw_g (lw_at lw_m3 176 rfl) rfl
theorem q803 : (Jvm.Cond.sameField "SaidSo$Word" "SaidSo$Line" "what" "I") ∈ lw_all := lw_g (lw_at lw_m3 185 rfl) rfl
theorem q805 : (Jvm.Cond.fieldLink "SaidSo$Word" (26 : Nat) "SaidSo$Word" "hour" "I") ∈ lw_all := lw_g (lw_at lw_m3 187 rfl) rfl
theorem q806 : (Jvm.Cond.sameField "SaidSo$Word" "SaidSo$Line" "hour" "I") ∈ lw_all := lw_g (lw_at lw_m3 188 rfl) rfl
theorem q812 : (Jvm.Cond.fieldLink "SaidSo$Word" (7 : Nat) "SaidSo$Word" "value" "I") ∈ lw_all := lw_g (lw_at lw_m3 194 rfl) rfl
theorem q813 : (Jvm.Cond.sameField "SaidSo$Word" "SaidSo$Line" "value" "I") ∈ lw_all := lw_g (lw_at lw_m3 195 rfl) rfl
theorem q816 : (Jvm.Cond.laysFinal "SaidSo$Word" "SaidSo$Line" "teller" "LSaidSo$Teller;") ∈ lw_all := lw_g (lw_at lw_m3 198 rfl) rfl
theorem q818 : (Jvm.Cond.laysFinal "SaidSo$Word" "SaidSo$Line" "thing" "LSaidSo$Thing;") ∈ lw_all := lw_g (lw_at lw_m3 200 rfl) rfl
theorem q820 : (Jvm.Cond.laysFinal "SaidSo$Word" "SaidSo$Line" "whose" "I") ∈ lw_all := lw_g (lw_at lw_m3 202 rfl) rfl
theorem q822 : (Jvm.Cond.laysFinal "SaidSo$Word" "SaidSo$Line" "what" "I") ∈ lw_all := lw_g (lw_at lw_m3 204 rfl) rfl
theorem q824 : (Jvm.Cond.laysFinal "SaidSo$Word" "SaidSo$Line" "hour" "I") ∈ lw_all := lw_g (lw_at lw_m3 206 rfl) rfl
theorem q826 : (Jvm.Cond.laysFinal "SaidSo$Word" "SaidSo$Line" "value" "I") ∈ lw_all := lw_g (lw_at lw_m3 208 rfl) rfl
theorem q828 : (Jvm.Cond.superclass "SaidSo$Word" "SaidSo$Line") ∈ lw_all := lw_g (lw_at lw_m3 210 rfl) rfl
theorem q988 : (Jvm.Cond.selects "SaidSo$Word" ({ cls := "SaidSo$Line", name := "isWord", desc := "()Z" } : Jvm.MethodName) ({ cls := "SaidSo$Word", name := "isWord", desc := "()Z" } : Jvm.MethodName)) ∈ lw_all := lw_g (lw_at lw_m4 130 rfl) rfl
theorem q989 : (Jvm.Cond.instanceMethod ({ cls := "SaidSo$Word", name := "isWord", desc := "()Z" } : Jvm.MethodName)) ∈ lw_all := lw_g (lw_at lw_m4 131 rfl) rfl
theorem q990 : (Jvm.Cond.code ({ cls := "SaidSo$Word", name := "isWord", desc := "()Z" } : Jvm.MethodName) prog_16_method_2_code (1 : Nat) (Option.some Jvm.ClassFile.FieldType.boolean)) ∈ lw_all := lw_g (lw_at lw_m4 132 rfl) rfl
theorem q1041 : (Jvm.Cond.instanceMethod ({ cls := "SaidSo$Word", name := "isRight", desc := "()Z" } : Jvm.MethodName)) ∈ lw_all := lw_g (lw_at lw_m4 183 rfl) rfl
theorem q1042 : (Jvm.Cond.selects "SaidSo$Word" ({ cls := "SaidSo$Word", name := "isRight", desc := "()Z" } : Jvm.MethodName) ({ cls := "SaidSo$Word", name := "isRight", desc := "()Z" } : Jvm.MethodName)) ∈ lw_all := lw_g (lw_at lw_m4 184 rfl) rfl
theorem q1043 : (Jvm.Cond.code ({ cls := "SaidSo$Word", name := "isRight", desc := "()Z" } : Jvm.MethodName) prog_16_method_3_code (1 : Nat) (Option.some Jvm.ClassFile.FieldType.boolean)) ∈ lw_all := lw_g (lw_at lw_m4 185 rfl) rfl
theorem q1074 : (Jvm.Cond.selects "SaidSo$Word" ({ cls := "SaidSo$Line", name := "isPut", desc := "()Z" } : Jvm.MethodName) ({ cls := "SaidSo$Line", name := "isPut", desc := "()Z" } : Jvm.MethodName)) ∈ lw_all := lw_g (lw_at lw_m4 216 rfl) rfl
theorem q1077 : (Jvm.Cond.instanceMethod ({ cls := "SaidSo$Word", name := "isPublic", desc := "()Z" } : Jvm.MethodName)) ∈ lw_all := lw_g (lw_at lw_m4 219 rfl) rfl
theorem q1078 : (Jvm.Cond.selects "SaidSo$Word" ({ cls := "SaidSo$Word", name := "isPublic", desc := "()Z" } : Jvm.MethodName) ({ cls := "SaidSo$Word", name := "isPublic", desc := "()Z" } : Jvm.MethodName)) ∈ lw_all := lw_g (lw_at lw_m4 220 rfl) rfl
theorem q1079 : (Jvm.Cond.code ({ cls := "SaidSo$Word", name := "isPublic", desc := "()Z" } : Jvm.MethodName) prog_16_method_4_code (1 : Nat) (Option.some Jvm.ClassFile.FieldType.boolean)) ∈ lw_all := lw_g (lw_at lw_m4 221 rfl) rfl
theorem q1080 : (Jvm.Cond.methodLink "SaidSo$Word" (22 : Nat) ({ cls := "SaidSo$Word", name := "isRight", desc := "()Z" } : Jvm.MethodName)) ∈ lw_all := lw_g (lw_at lw_m4 222 rfl) rfl
theorem q1081 : (Jvm.Cond.methodLink "SaidSo$Word" (29 : Nat) ({ cls := "SaidSo$Thing", name := "isPublic", desc := "(I)Z" } : Jvm.MethodName)) ∈ lw_all := lw_g (lw_at lw_m4 223 rfl) rfl
theorem q1086 : (Jvm.Cond.instanceMethod ({ cls := "SaidSo$Word", name := "isOff", desc := "()Z" } : Jvm.MethodName)) ∈ lw_all := lw_g (lw_at lw_m4 228 rfl) rfl
theorem q1087 : (Jvm.Cond.selects "SaidSo$Word" ({ cls := "SaidSo$Word", name := "isOff", desc := "()Z" } : Jvm.MethodName) ({ cls := "SaidSo$Word", name := "isOff", desc := "()Z" } : Jvm.MethodName)) ∈ lw_all := lw_g (lw_at lw_m4 229 rfl) rfl
theorem q1088 : (Jvm.Cond.code ({ cls := "SaidSo$Word", name := "isOff", desc := "()Z" } : Jvm.MethodName) prog_16_method_5_code (1 : Nat) (Option.some Jvm.ClassFile.FieldType.boolean)) ∈ lw_all := lw_g (lw_at lw_m4 230 rfl) rfl
theorem q1089 : (Jvm.Cond.methodLink "SaidSo$Word" (37 : Nat) ({ cls := "SaidSo$Teller", name := "lastOff", desc := "(I)I" } : Jvm.MethodName)) ∈ lw_all := lw_g (lw_at lw_m4 231 rfl) rfl
theorem q1094 : (Jvm.Cond.methodLink "SaidSo$Word" (46 : Nat) ({ cls := "SaidSo$Thing", name := "isPolice", desc := "(I)Z" } : Jvm.MethodName)) ∈ lw_all := lw_g (lw_at lw_m4 236 rfl) rfl
theorem q1099 : (Jvm.Cond.instanceMethod ({ cls := "SaidSo$Word", name := "isNew", desc := "()Z" } : Jvm.MethodName)) ∈ lw_all := lw_g (lw_at lw_m5 1 rfl) rfl
theorem q1100 : (Jvm.Cond.selects "SaidSo$Word" ({ cls := "SaidSo$Word", name := "isNew", desc := "()Z" } : Jvm.MethodName) ({ cls := "SaidSo$Word", name := "isNew", desc := "()Z" } : Jvm.MethodName)) ∈ lw_all := lw_g (lw_at lw_m5 2 rfl) rfl
theorem q1101 : (Jvm.Cond.code ({ cls := "SaidSo$Word", name := "isNew", desc := "()Z" } : Jvm.MethodName) prog_16_method_6_code (1 : Nat) (Option.some Jvm.ClassFile.FieldType.boolean)) ∈ lw_all := lw_g (lw_at lw_m5 3 rfl) rfl
theorem q2075 : (Jvm.Cond.castable "SaidSo$Word" "SaidSo$Line") ∈ lw_tbl := lw_at lw_m9 17 rfl
theorem q2086 : (Jvm.Cond.castable "SaidSo$Word" "java/lang/Object") ∈ lw_tbl := lw_at lw_m9 28 rfl
theorem in_X9 : ∀ w ∈ wsX90, w ∈ lw_all := lw_in wsX90 [816, 818, 820, 822, 824, 826] (by decide +kernel) (by decide +kernel)

/-! SaidSo$Ask -/
set_option maxRecDepth 100000
def RX10 : String := "SaidSo$Ask"
def TX10 : u_T := fun k => match k with
  | 0 => ("SaidSo$Line", "teller", "LSaidSo$Teller;", true)
  | 1 => ("SaidSo$Line", "thing", "LSaidSo$Thing;", true)
  | 2 => ("SaidSo$Line", "whose", "I", true)
  | 3 => ("SaidSo$Line", "what", "I", true)
  | 4 => ("SaidSo$Line", "hour", "I", true)
  | _ => ("SaidSo$Line", "value", "I", true)
def tyX10 : Nat → FieldType := fun k => match k with
  | 0 => .object "SaidSo$Teller"
  | 1 => .object "SaidSo$Thing"
  | 2 => .int
  | 3 => .int
  | 4 => .int
  | _ => .int
abbrev wsX100 : List Cond := u_ws RX10 TX10 6
theorem nmX10 : ∀ a, a < 6 → ∀ b, b < 6 → a ≠ b → (TX10 a).2.1 ≠ (TX10 b).2.1 := by decide +kernel
theorem tyX10_ok : ∀ k, k < 6 → parseFieldDescriptor (TX10 k).2.2.1 = some (tyX10 k) := by decide +kernel
abbrev cX10_init : ByteArray := prog_2_method_1_code
def yX10_init : MethodName := ⟨RX10, "<init>", "(LSaidSo$Case;IIII)V"⟩
def dkwX10_init_0 : List UInt8 := [42, 43, 28, 29, 21, 4, 21, 5, 183, 0, 3, 177]
abbrev dktX10_init_0 : List UInt8 := dkwX10_init_0 ++ []
theorem dksX10_init_0 : cX10_init.data.toList.drop 0 = dktX10_init_0 := by decide +kernel
theorem dX10_init_0 : decode cX10_init 0 = .ok (.aload_n 0, 1) := dk_42 (dk_at dksX10_init_0 0 rfl rfl)
theorem dX10_init_1 : decode cX10_init 1 = .ok (.aload_n 1, 1) := dk_43 (dk_at dksX10_init_0 1 rfl rfl)
theorem dX10_init_2 : decode cX10_init 2 = .ok (.iload_n 2, 1) := dk_28 (dk_at dksX10_init_0 2 rfl rfl)
theorem dX10_init_3 : decode cX10_init 3 = .ok (.iload_n 3, 1) := dk_29 (dk_at dksX10_init_0 3 rfl rfl)
theorem dX10_init_4 : decode cX10_init 4 = .ok (.iload 4, 2) := dk_21 4 (dk_at dksX10_init_0 4 rfl rfl)
theorem dX10_init_6 : decode cX10_init 6 = .ok (.iload 5, 2) := dk_21 5 (dk_at dksX10_init_0 6 rfl rfl)
theorem dX10_init_8 : decode cX10_init 8 = .ok (.invokespecial 3, 3) := dk_183 0 3 (dk_at dksX10_init_0 8 rfl rfl)
theorem dX10_init_11 : decode cX10_init 11 = .ok (.return_, 1) := dk_177 (dk_at dksX10_init_0 11 rfl rfl)
abbrev cX10_isPut : ByteArray := prog_2_method_2_code
def yX10_isPut : MethodName := ⟨RX10, "isPut", "()Z"⟩
def dkwX10_isPut_0 : List UInt8 := [42, 180, 0, 9, 2, 159, 0, 7, 4, 167, 0, 4, 3, 172]
abbrev dktX10_isPut_0 : List UInt8 := dkwX10_isPut_0 ++ []
theorem dksX10_isPut_0 : cX10_isPut.data.toList.drop 0 = dktX10_isPut_0 := by decide +kernel
theorem dX10_isPut_0 : decode cX10_isPut 0 = .ok (.aload_n 0, 1) := dk_42 (dk_at dksX10_isPut_0 0 rfl rfl)
theorem dX10_isPut_1 : decode cX10_isPut 1 = .ok (.getfield 9, 3) := dk_180 0 9 (dk_at dksX10_isPut_0 1 rfl rfl)
theorem dX10_isPut_4 : decode cX10_isPut 4 = .ok (.iconst (-1), 1) := dk_2 (dk_at dksX10_isPut_0 4 rfl rfl)
theorem dX10_isPut_5 : decode cX10_isPut 5 = .ok (.if_icmp .eq 7, 3) := dk_159 0 7 (dk_at dksX10_isPut_0 5 rfl rfl)
theorem dX10_isPut_8 : decode cX10_isPut 8 = .ok (.iconst 1, 1) := dk_4 (dk_at dksX10_isPut_0 8 rfl rfl)
theorem dX10_isPut_9 : decode cX10_isPut 9 = .ok (.goto 4, 3) := dk_167 0 4 (dk_at dksX10_isPut_0 9 rfl rfl)
theorem dX10_isPut_12 : decode cX10_isPut 12 = .ok (.iconst 0, 1) := dk_3 (dk_at dksX10_isPut_0 12 rfl rfl)
theorem dX10_isPut_13 : decode cX10_isPut 13 = .ok (.ireturn, 1) := dk_172 (dk_at dksX10_isPut_0 13 rfl rfl)
theorem q163 : (Jvm.Cond.initialized "SaidSo$Ask") ∈ lw_all := lw_g (lw_at lw_m1 25 rfl) rfl
theorem q697 : (Jvm.Cond.selects "SaidSo$Ask" ({ cls := "java/lang/Object", name := "getClass", desc := "()Ljava/lang/Class;" } : Jvm.MethodName) ({ cls := "java/lang/Object", name := "getClass", desc := "()Ljava/lang/Class;" } : Jvm.MethodName)) ∈ lw_all := lw_g (lw_at lw_m3 79 rfl) rfl
theorem q810 : (Jvm.Cond.fieldLink "SaidSo$Ask" (9 : Nat) "SaidSo$Ask" "value" "I") ∈ lw_all := lw_g (lw_at lw_m3 192 rfl) rfl
theorem q811 : (Jvm.Cond.sameField "SaidSo$Ask" "SaidSo$Line" "value" "I") ∈ lw_all := lw_g (lw_at lw_m3 193 rfl) rfl
theorem q830 : (Jvm.Cond.instantiable "SaidSo$Ask" (6 : Nat)) ∈ lw_all := lw_g (lw_at lw_m3 212 rfl) rfl
theorem q832 : (Jvm.Cond.instanceMethod ({ cls := "SaidSo$Ask", name := "<init>", desc := "(LSaidSo$Case;IIII)V" } : Jvm.MethodName)) ∈ lw_all := lw_g (lw_at lw_m3 214 rfl) rfl
theorem q833 : (Jvm.Cond.code ({ cls := "SaidSo$Ask", name := "<init>", desc := "(LSaidSo$Case;IIII)V" } : Jvm.MethodName) prog_2_method_1_code (6 : Nat) (Option.none : Option Jvm.ClassFile.FieldType)) ∈ lw_all := lw_g (lw_at lw_m3 215 rfl) rfl
theorem q834 : (Jvm.Cond.methodLink "SaidSo$Ask" (3 : Nat) ({ cls := "SaidSo$Line", name := "<init>", desc := "(LSaidSo$Case;IIII)V" } : Jvm.MethodName)) ∈ lw_all := lw_g (lw_at lw_m3 216 rfl) rfl
theorem q835 : (Jvm.Cond.laysFinal "SaidSo$Ask" "SaidSo$Line" "teller" "LSaidSo$Teller;") ∈ lw_all := lw_g (lw_at lw_m3 217 rfl) rfl
theorem q836 : (Jvm.Cond.laysFinal "SaidSo$Ask" "SaidSo$Line" "thing" "LSaidSo$Thing;") ∈ lw_all := lw_g (lw_at lw_m3 218 rfl) rfl
theorem q837 : (Jvm.Cond.laysFinal "SaidSo$Ask" "SaidSo$Line" "whose" "I") ∈ lw_all := lw_g (lw_at lw_m3 219 rfl) rfl
theorem q838 : (Jvm.Cond.laysFinal "SaidSo$Ask" "SaidSo$Line" "what" "I") ∈ lw_all := lw_g (lw_at lw_m3 220 rfl) rfl
theorem q839 : (Jvm.Cond.laysFinal "SaidSo$Ask" "SaidSo$Line" "hour" "I") ∈ lw_all := lw_g (lw_at lw_m3 221 rfl) rfl
theorem q840 : (Jvm.Cond.laysFinal "SaidSo$Ask" "SaidSo$Line" "value" "I") ∈ lw_all := lw_g (lw_at lw_m3 222 rfl) rfl
theorem q841 : (Jvm.Cond.superclass "SaidSo$Ask" "SaidSo$Line") ∈ lw_all := lw_g (lw_at lw_m3 223 rfl) rfl
theorem q987 : (Jvm.Cond.selects "SaidSo$Ask" ({ cls := "SaidSo$Line", name := "isWord", desc := "()Z" } : Jvm.MethodName) ({ cls := "SaidSo$Line", name := "isWord", desc := "()Z" } : Jvm.MethodName)) ∈ lw_all := lw_g (lw_at lw_m4 129 rfl) rfl
theorem q1071 : (Jvm.Cond.selects "SaidSo$Ask" ({ cls := "SaidSo$Line", name := "isPut", desc := "()Z" } : Jvm.MethodName) ({ cls := "SaidSo$Ask", name := "isPut", desc := "()Z" } : Jvm.MethodName)) ∈ lw_all := lw_g (lw_at lw_m4 213 rfl) rfl
theorem q1072 : (Jvm.Cond.instanceMethod ({ cls := "SaidSo$Ask", name := "isPut", desc := "()Z" } : Jvm.MethodName)) ∈ lw_all := lw_g (lw_at lw_m4 214 rfl) rfl
theorem q1073 : (Jvm.Cond.code ({ cls := "SaidSo$Ask", name := "isPut", desc := "()Z" } : Jvm.MethodName) prog_2_method_2_code (1 : Nat) (Option.some Jvm.ClassFile.FieldType.boolean)) ∈ lw_all := lw_g (lw_at lw_m4 215 rfl) rfl
theorem q2074 : (Jvm.Cond.castable "SaidSo$Ask" "SaidSo$Line") ∈ lw_tbl := lw_at lw_m9 16 rfl
theorem q2087 : (Jvm.Cond.castable "SaidSo$Ask" "java/lang/Object") ∈ lw_tbl := lw_at lw_m9 29 rfl
theorem in_X10 : ∀ w ∈ wsX100, w ∈ lw_all := lw_in wsX100 [835, 836, 837, 838, 839, 840] (by decide +kernel) (by decide +kernel)

/-! SaidSo$Page -/
set_option maxRecDepth 100000
def RX11 : String := "SaidSo$Page"
def TX11 : u_T := fun k => match k with
  | 0 => ("SaidSo$Page", "whose", "I", true)
  | 1 => ("SaidSo$Page", "what", "I", true)
  | _ => ("SaidSo$Page", "value", "I", true)
def tyX11 : Nat → FieldType := fun k => match k with
  | 0 => .int
  | 1 => .int
  | _ => .int
abbrev wsX110 : List Cond := u_ws RX11 TX11 3
theorem nmX11 : ∀ a, a < 3 → ∀ b, b < 3 → a ≠ b → (TX11 a).2.1 ≠ (TX11 b).2.1 := by decide +kernel
theorem tyX11_ok : ∀ k, k < 3 → parseFieldDescriptor (TX11 k).2.2.1 = some (tyX11 k) := by decide +kernel
abbrev cX11_init : ByteArray := prog_9_method_1_code
def yX11_init : MethodName := ⟨RX11, "<init>", "(III)V"⟩
def dkwX11_init_0 : List UInt8 := [42, 183, 0, 1, 42, 27, 181, 0, 7, 42, 28, 181, 0, 13, 42, 29, 181, 0, 16, 177]
abbrev dktX11_init_0 : List UInt8 := dkwX11_init_0 ++ []
theorem dksX11_init_0 : cX11_init.data.toList.drop 0 = dktX11_init_0 := by decide +kernel
theorem dX11_init_0 : decode cX11_init 0 = .ok (.aload_n 0, 1) := dk_42 (dk_at dksX11_init_0 0 rfl rfl)
theorem dX11_init_1 : decode cX11_init 1 = .ok (.invokespecial 1, 3) := dk_183 0 1 (dk_at dksX11_init_0 1 rfl rfl)
theorem dX11_init_4 : decode cX11_init 4 = .ok (.aload_n 0, 1) := dk_42 (dk_at dksX11_init_0 4 rfl rfl)
theorem dX11_init_5 : decode cX11_init 5 = .ok (.iload_n 1, 1) := dk_27 (dk_at dksX11_init_0 5 rfl rfl)
theorem dX11_init_6 : decode cX11_init 6 = .ok (.putfield 7, 3) := dk_181 0 7 (dk_at dksX11_init_0 6 rfl rfl)
theorem dX11_init_9 : decode cX11_init 9 = .ok (.aload_n 0, 1) := dk_42 (dk_at dksX11_init_0 9 rfl rfl)
theorem dX11_init_10 : decode cX11_init 10 = .ok (.iload_n 2, 1) := dk_28 (dk_at dksX11_init_0 10 rfl rfl)
theorem dX11_init_11 : decode cX11_init 11 = .ok (.putfield 13, 3) := dk_181 0 13 (dk_at dksX11_init_0 11 rfl rfl)
theorem dX11_init_14 : decode cX11_init 14 = .ok (.aload_n 0, 1) := dk_42 (dk_at dksX11_init_0 14 rfl rfl)
theorem dX11_init_15 : decode cX11_init 15 = .ok (.iload_n 3, 1) := dk_29 (dk_at dksX11_init_0 15 rfl rfl)
theorem dX11_init_16 : decode cX11_init 16 = .ok (.putfield 16, 3) := dk_181 0 16 (dk_at dksX11_init_0 16 rfl rfl)
theorem dX11_init_19 : decode cX11_init 19 = .ok (.return_, 1) := dk_177 (dk_at dksX11_init_0 19 rfl rfl)
theorem q164 : (Jvm.Cond.initialized "SaidSo$Page") ∈ lw_all := lw_g (lw_at lw_m1 26 rfl) rfl
theorem q703 : (Jvm.Cond.selects "SaidSo$Page" ({ cls := "java/lang/Object", name := "getClass", desc := "()Ljava/lang/Class;" } : Jvm.MethodName) ({ cls := "java/lang/Object", name := "getClass", desc := "()Ljava/lang/Class;" } : Jvm.MethodName)) ∈ lw_all := lw_g (lw_at lw_m3 85 rfl) rfl
theorem q847 : (Jvm.Cond.instantiable "SaidSo$Page" (3 : Nat)) ∈ lw_all := lw_g (lw_at lw_m3 229 rfl) rfl
theorem q849 : (Jvm.Cond.instanceMethod ({ cls := "SaidSo$Page", name := "<init>", desc := "(III)V" } : Jvm.MethodName)) ∈ lw_all := lw_g (lw_at lw_m3 231 rfl) rfl
theorem q850 : (Jvm.Cond.code ({ cls := "SaidSo$Page", name := "<init>", desc := "(III)V" } : Jvm.MethodName) prog_9_method_1_code (4 : Nat) (Option.none : Option Jvm.ClassFile.FieldType)) ∈ lw_all := lw_g (lw_at lw_m3 232 rfl) rfl
theorem q851 : (Jvm.Cond.methodLink "SaidSo$Page" (1 : Nat) ({ cls := "java/lang/Object", name := "<init>", desc := "()V" } : Jvm.MethodName)) ∈ lw_all := lw_g (lw_at lw_m3 233 rfl) rfl
theorem q852 : (Jvm.Cond.fieldLink "SaidSo$Page" (7 : Nat) "SaidSo$Page" "whose" "I") ∈ lw_all := lw_g (lw_at lw_m3 234 rfl) rfl
theorem q854 : (Jvm.Cond.fieldLink "SaidSo$Page" (13 : Nat) "SaidSo$Page" "what" "I") ∈ lw_all := lw_g (lw_at lw_m3 236 rfl) rfl
theorem q856 : (Jvm.Cond.fieldLink "SaidSo$Page" (16 : Nat) "SaidSo$Page" "value" "I") ∈ lw_all := lw_g (lw_at lw_m3 238 rfl) rfl
theorem q858 : (Jvm.Cond.laysFinal "SaidSo$Page" "SaidSo$Page" "whose" "I") ∈ lw_all := lw_g (lw_at lw_m4 0 rfl) rfl
theorem q859 : (Jvm.Cond.soleField "SaidSo$Page" "whose") ∈ lw_all := lw_g (lw_at lw_m4 1 rfl) rfl
theorem q860 : (Jvm.Cond.laysFinal "SaidSo$Page" "SaidSo$Page" "what" "I") ∈ lw_all := lw_g (lw_at lw_m4 2 rfl) rfl
theorem q861 : (Jvm.Cond.soleField "SaidSo$Page" "what") ∈ lw_all := lw_g (lw_at lw_m4 3 rfl) rfl
theorem q862 : (Jvm.Cond.laysFinal "SaidSo$Page" "SaidSo$Page" "value" "I") ∈ lw_all := lw_g (lw_at lw_m4 4 rfl) rfl
theorem q863 : (Jvm.Cond.soleField "SaidSo$Page" "value") ∈ lw_all := lw_g (lw_at lw_m4 5 rfl) rfl
theorem q864 : (Jvm.Cond.superclass "SaidSo$Page" "java/lang/Object") ∈ lw_all := lw_g (lw_at lw_m4 6 rfl) rfl
theorem q2088 : (Jvm.Cond.castable "SaidSo$Page" "java/lang/Object") ∈ lw_tbl := lw_at lw_m9 30 rfl
theorem in_X11 : ∀ w ∈ wsX110, w ∈ lw_all := lw_in wsX110 [858, 860, 862] (by decide +kernel) (by decide +kernel)

/-! SaidSo$Part -/
set_option maxRecDepth 100000
def RX12 : String := "SaidSo$Part"
abbrev cX12_init : ByteArray := prog_10_method_1_code
def yX12_init : MethodName := ⟨RX12, "<init>", "()V"⟩
theorem dX12_init_0 : decode cX12_init 0 = .ok (.aload_n 0, 1) := by decide +kernel
theorem dX12_init_1 : decode cX12_init 1 = .ok (.invokespecial 1, 3) := by decide +kernel
theorem dX12_init_4 : decode cX12_init 4 = .ok (.return_, 1) := by decide +kernel
theorem q165 : (Jvm.Cond.initialized "SaidSo$Part") ∈ lw_all := lw_g (lw_at lw_m1 27 rfl) rfl
theorem q907 : (Jvm.Cond.instanceMethod ({ cls := "SaidSo$Part", name := "<init>", desc := "()V" } : Jvm.MethodName)) ∈ lw_all := lw_g (lw_at lw_m4 49 rfl) rfl
theorem q908 : (Jvm.Cond.code ({ cls := "SaidSo$Part", name := "<init>", desc := "()V" } : Jvm.MethodName) prog_10_method_1_code (1 : Nat) (Option.none : Option Jvm.ClassFile.FieldType)) ∈ lw_all := lw_g (lw_at lw_m4 50 rfl) rfl
theorem q909 : (Jvm.Cond.methodLink "SaidSo$Part" (1 : Nat) ({ cls := "java/lang/Object", name := "<init>", desc := "()V" } : Jvm.MethodName)) ∈ lw_all := lw_g (lw_at lw_m4 51 rfl) rfl
theorem q1229 : (Jvm.Cond.declares ({ cls := "SaidSo$Part", name := "of", desc := "([J)J" } : Jvm.MethodName)) ∈ lw_tbl := lw_at lw_m5 131 rfl
theorem q1230 : (Jvm.Cond.sameMethod "SaidSo$Part" "SaidSo$Part" "of" "([J)J") ∈ lw_all := lw_g (lw_at lw_m5 132 rfl) rfl
theorem q2076 : (Jvm.Cond.castable "SaidSo$Part" "java/lang/Object") ∈ lw_tbl := lw_at lw_m9 18 rfl

/-! SaidSo$Number -/
set_option maxRecDepth 100000
def RX13 : String := "SaidSo$Number"
def TX13 : u_T := fun k => match k with
  | _ => ("SaidSo$Number", "n", "I", true)
def tyX13 : Nat → FieldType := fun k => match k with
  | _ => .int
abbrev wsX130 : List Cond := u_ws RX13 TX13 1
theorem nmX13 : ∀ a, a < 1 → ∀ b, b < 1 → a ≠ b → (TX13 a).2.1 ≠ (TX13 b).2.1 := by decide +kernel
theorem tyX13_ok : ∀ k, k < 1 → parseFieldDescriptor (TX13 k).2.2.1 = some (tyX13 k) := by decide +kernel
abbrev cX13_init : ByteArray := prog_8_method_1_code
def yX13_init : MethodName := ⟨RX13, "<init>", "(I)V"⟩
def dkwX13_init_0 : List UInt8 := [42, 183, 0, 1, 42, 27, 181, 0, 7, 177]
abbrev dktX13_init_0 : List UInt8 := dkwX13_init_0 ++ []
theorem dksX13_init_0 : cX13_init.data.toList.drop 0 = dktX13_init_0 := by decide +kernel
theorem dX13_init_0 : decode cX13_init 0 = .ok (.aload_n 0, 1) := dk_42 (dk_at dksX13_init_0 0 rfl rfl)
theorem dX13_init_1 : decode cX13_init 1 = .ok (.invokespecial 1, 3) := dk_183 0 1 (dk_at dksX13_init_0 1 rfl rfl)
theorem dX13_init_4 : decode cX13_init 4 = .ok (.aload_n 0, 1) := dk_42 (dk_at dksX13_init_0 4 rfl rfl)
theorem dX13_init_5 : decode cX13_init 5 = .ok (.iload_n 1, 1) := dk_27 (dk_at dksX13_init_0 5 rfl rfl)
theorem dX13_init_6 : decode cX13_init 6 = .ok (.putfield 7, 3) := dk_181 0 7 (dk_at dksX13_init_0 6 rfl rfl)
theorem dX13_init_9 : decode cX13_init 9 = .ok (.return_, 1) := dk_177 (dk_at dksX13_init_0 9 rfl rfl)
abbrev cX13_of : ByteArray := prog_8_method_2_code
def yX13_of : MethodName := ⟨RX13, "of", "([J)J"⟩
def dkwX13_of_0 : List UInt8 := [42, 180, 0, 7, 133, 173]
abbrev dktX13_of_0 : List UInt8 := dkwX13_of_0 ++ []
theorem dksX13_of_0 : cX13_of.data.toList.drop 0 = dktX13_of_0 := by decide +kernel
theorem dX13_of_0 : decode cX13_of 0 = .ok (.aload_n 0, 1) := dk_42 (dk_at dksX13_of_0 0 rfl rfl)
theorem dX13_of_1 : decode cX13_of 1 = .ok (.getfield 7, 3) := dk_180 0 7 (dk_at dksX13_of_0 1 rfl rfl)
theorem dX13_of_4 : decode cX13_of 4 = .ok (.i2l, 1) := dk_133 (dk_at dksX13_of_0 4 rfl rfl)
theorem dX13_of_5 : decode cX13_of 5 = .ok (.lreturn, 1) := dk_173 (dk_at dksX13_of_0 5 rfl rfl)
theorem q166 : (Jvm.Cond.initialized "SaidSo$Number") ∈ lw_all := lw_g (lw_at lw_m1 28 rfl) rfl
theorem q702 : (Jvm.Cond.selects "SaidSo$Number" ({ cls := "java/lang/Object", name := "getClass", desc := "()Ljava/lang/Class;" } : Jvm.MethodName) ({ cls := "java/lang/Object", name := "getClass", desc := "()Ljava/lang/Class;" } : Jvm.MethodName)) ∈ lw_all := lw_g (lw_at lw_m3 84 rfl) rfl
theorem q902 : (Jvm.Cond.instantiable "SaidSo$Number" (1 : Nat)) ∈ lw_all := lw_g (lw_at lw_m4 44 rfl) rfl
theorem q904 : (Jvm.Cond.instanceMethod ({ cls := "SaidSo$Number", name := "<init>", desc := "(I)V" } : Jvm.MethodName)) ∈ lw_all := lw_g (lw_at lw_m4 46 rfl) rfl
theorem q905 : (Jvm.Cond.code ({ cls := "SaidSo$Number", name := "<init>", desc := "(I)V" } : Jvm.MethodName) prog_8_method_1_code (2 : Nat) (Option.none : Option Jvm.ClassFile.FieldType)) ∈ lw_all := lw_g (lw_at lw_m4 47 rfl) rfl
theorem q906 : (Jvm.Cond.methodLinkNest "SaidSo$Number" (1 : Nat) ({ cls := "SaidSo$Part", name := "<init>", desc := "()V" } : Jvm.MethodName) "SaidSo") ∈ lw_tbl := lw_at lw_m4 48 rfl
theorem q910 : (Jvm.Cond.fieldLink "SaidSo$Number" (7 : Nat) "SaidSo$Number" "n" "I") ∈ lw_all := lw_g (lw_at lw_m4 52 rfl) rfl
theorem q911 : (Jvm.Cond.laysFinal "SaidSo$Number" "SaidSo$Number" "n" "I") ∈ lw_all := lw_g (lw_at lw_m4 53 rfl) rfl
theorem q912 : (Jvm.Cond.soleField "SaidSo$Number" "n") ∈ lw_all := lw_g (lw_at lw_m4 54 rfl) rfl
theorem q913 : (Jvm.Cond.superclass "SaidSo$Number" "SaidSo$Part") ∈ lw_all := lw_g (lw_at lw_m4 55 rfl) rfl
theorem q1238 : (Jvm.Cond.instanceMethod ({ cls := "SaidSo$Number", name := "of", desc := "([J)J" } : Jvm.MethodName)) ∈ lw_all := lw_g (lw_at lw_m5 140 rfl) rfl
theorem q1239 : (Jvm.Cond.code ({ cls := "SaidSo$Number", name := "of", desc := "([J)J" } : Jvm.MethodName) prog_8_method_2_code (2 : Nat) (Option.some Jvm.ClassFile.FieldType.long)) ∈ lw_all := lw_g (lw_at lw_m5 141 rfl) rfl
theorem q1261 : (Jvm.Cond.selects "SaidSo$Number" ({ cls := "SaidSo$Part", name := "of", desc := "([J)J" } : Jvm.MethodName) ({ cls := "SaidSo$Number", name := "of", desc := "([J)J" } : Jvm.MethodName)) ∈ lw_all := lw_g (lw_at lw_m5 163 rfl) rfl
theorem q2089 : (Jvm.Cond.castable "SaidSo$Number" "java/lang/Object") ∈ lw_tbl := lw_at lw_m9 31 rfl
theorem q2098 : (Jvm.Cond.castable "SaidSo$Number" "SaidSo$Part") ∈ lw_tbl := lw_at lw_m9 40 rfl
theorem in_X13 : ∀ w ∈ wsX130, w ∈ lw_all := lw_in wsX130 [911] (by decide +kernel) (by decide +kernel)

/-! SaidSo$Name -/
set_option maxRecDepth 100000
def RX14 : String := "SaidSo$Name"
def TX14 : u_T := fun k => match k with
  | _ => ("SaidSo$Name", "which", "I", true)
def tyX14 : Nat → FieldType := fun k => match k with
  | _ => .int
abbrev wsX140 : List Cond := u_ws RX14 TX14 1
theorem nmX14 : ∀ a, a < 1 → ∀ b, b < 1 → a ≠ b → (TX14 a).2.1 ≠ (TX14 b).2.1 := by decide +kernel
theorem tyX14_ok : ∀ k, k < 1 → parseFieldDescriptor (TX14 k).2.2.1 = some (tyX14 k) := by decide +kernel
abbrev cX14_init : ByteArray := prog_6_method_1_code
def yX14_init : MethodName := ⟨RX14, "<init>", "(I)V"⟩
def dkwX14_init_0 : List UInt8 := [42, 183, 0, 1, 42, 27, 181, 0, 7, 177]
abbrev dktX14_init_0 : List UInt8 := dkwX14_init_0 ++ []
theorem dksX14_init_0 : cX14_init.data.toList.drop 0 = dktX14_init_0 := by decide +kernel
theorem dX14_init_0 : decode cX14_init 0 = .ok (.aload_n 0, 1) := dk_42 (dk_at dksX14_init_0 0 rfl rfl)
theorem dX14_init_1 : decode cX14_init 1 = .ok (.invokespecial 1, 3) := dk_183 0 1 (dk_at dksX14_init_0 1 rfl rfl)
theorem dX14_init_4 : decode cX14_init 4 = .ok (.aload_n 0, 1) := dk_42 (dk_at dksX14_init_0 4 rfl rfl)
theorem dX14_init_5 : decode cX14_init 5 = .ok (.iload_n 1, 1) := dk_27 (dk_at dksX14_init_0 5 rfl rfl)
theorem dX14_init_6 : decode cX14_init 6 = .ok (.putfield 7, 3) := dk_181 0 7 (dk_at dksX14_init_0 6 rfl rfl)
theorem dX14_init_9 : decode cX14_init 9 = .ok (.return_, 1) := dk_177 (dk_at dksX14_init_0 9 rfl rfl)
abbrev cX14_of : ByteArray := prog_6_method_2_code
def yX14_of : MethodName := ⟨RX14, "of", "([J)J"⟩
def dkwX14_of_0 : List UInt8 := [43, 42, 180, 0, 7, 47, 173]
abbrev dktX14_of_0 : List UInt8 := dkwX14_of_0 ++ []
theorem dksX14_of_0 : cX14_of.data.toList.drop 0 = dktX14_of_0 := by decide +kernel
theorem dX14_of_0 : decode cX14_of 0 = .ok (.aload_n 1, 1) := dk_43 (dk_at dksX14_of_0 0 rfl rfl)
theorem dX14_of_1 : decode cX14_of 1 = .ok (.aload_n 0, 1) := dk_42 (dk_at dksX14_of_0 1 rfl rfl)
theorem dX14_of_2 : decode cX14_of 2 = .ok (.getfield 7, 3) := dk_180 0 7 (dk_at dksX14_of_0 2 rfl rfl)
theorem dX14_of_5 : decode cX14_of 5 = .ok (.laload, 1) := dk_47 (dk_at dksX14_of_0 5 rfl rfl)
theorem dX14_of_6 : decode cX14_of 6 = .ok (.lreturn, 1) := dk_173 (dk_at dksX14_of_0 6 rfl rfl)
theorem q167 : (Jvm.Cond.initialized "SaidSo$Name") ∈ lw_all := lw_g (lw_at lw_m1 29 rfl) rfl
theorem q700 : (Jvm.Cond.selects "SaidSo$Name" ({ cls := "java/lang/Object", name := "getClass", desc := "()Ljava/lang/Class;" } : Jvm.MethodName) ({ cls := "java/lang/Object", name := "getClass", desc := "()Ljava/lang/Class;" } : Jvm.MethodName)) ∈ lw_all := lw_g (lw_at lw_m3 82 rfl) rfl
theorem q915 : (Jvm.Cond.instantiable "SaidSo$Name" (1 : Nat)) ∈ lw_all := lw_g (lw_at lw_m4 57 rfl) rfl
theorem q917 : (Jvm.Cond.instanceMethod ({ cls := "SaidSo$Name", name := "<init>", desc := "(I)V" } : Jvm.MethodName)) ∈ lw_all := lw_g (lw_at lw_m4 59 rfl) rfl
theorem q918 : (Jvm.Cond.code ({ cls := "SaidSo$Name", name := "<init>", desc := "(I)V" } : Jvm.MethodName) prog_6_method_1_code (2 : Nat) (Option.none : Option Jvm.ClassFile.FieldType)) ∈ lw_all := lw_g (lw_at lw_m4 60 rfl) rfl
theorem q919 : (Jvm.Cond.methodLinkNest "SaidSo$Name" (1 : Nat) ({ cls := "SaidSo$Part", name := "<init>", desc := "()V" } : Jvm.MethodName) "SaidSo") ∈ lw_tbl := lw_at lw_m4 61 rfl
theorem q920 : (Jvm.Cond.fieldLink "SaidSo$Name" (7 : Nat) "SaidSo$Name" "which" "I") ∈ lw_all := lw_g (lw_at lw_m4 62 rfl) rfl
theorem q921 : (Jvm.Cond.laysFinal "SaidSo$Name" "SaidSo$Name" "which" "I") ∈ lw_all := lw_g (lw_at lw_m4 63 rfl) rfl
theorem q922 : (Jvm.Cond.soleField "SaidSo$Name" "which") ∈ lw_all := lw_g (lw_at lw_m4 64 rfl) rfl
theorem q923 : (Jvm.Cond.superclass "SaidSo$Name" "SaidSo$Part") ∈ lw_all := lw_g (lw_at lw_m4 65 rfl) rfl
theorem q1231 : (Jvm.Cond.selects "SaidSo$Name" ({ cls := "SaidSo$Part", name := "of", desc := "([J)J" } : Jvm.MethodName) ({ cls := "SaidSo$Name", name := "of", desc := "([J)J" } : Jvm.MethodName)) ∈ lw_all := lw_g (lw_at lw_m5 133 rfl) rfl
theorem q1232 : (Jvm.Cond.instanceMethod ({ cls := "SaidSo$Name", name := "of", desc := "([J)J" } : Jvm.MethodName)) ∈ lw_all := lw_g (lw_at lw_m5 134 rfl) rfl
theorem q1233 : (Jvm.Cond.code ({ cls := "SaidSo$Name", name := "of", desc := "([J)J" } : Jvm.MethodName) prog_6_method_2_code (2 : Nat) (Option.some Jvm.ClassFile.FieldType.long)) ∈ lw_all := lw_g (lw_at lw_m5 135 rfl) rfl
theorem q2090 : (Jvm.Cond.castable "SaidSo$Name" "java/lang/Object") ∈ lw_tbl := lw_at lw_m9 32 rfl
theorem q2099 : (Jvm.Cond.castable "SaidSo$Name" "SaidSo$Part") ∈ lw_tbl := lw_at lw_m9 41 rfl
theorem in_X14 : ∀ w ∈ wsX140, w ∈ lw_all := lw_in wsX140 [921] (by decide +kernel) (by decide +kernel)

/-! SaidSo$Not -/
set_option maxRecDepth 100000
def RX15 : String := "SaidSo$Not"
def TX15 : u_T := fun k => match k with
  | _ => ("SaidSo$Not", "a", "LSaidSo$Part;", true)
def tyX15 : Nat → FieldType := fun k => match k with
  | _ => .object "SaidSo$Part"
abbrev wsX150 : List Cond := u_ws RX15 TX15 1
theorem nmX15 : ∀ a, a < 1 → ∀ b, b < 1 → a ≠ b → (TX15 a).2.1 ≠ (TX15 b).2.1 := by decide +kernel
theorem tyX15_ok : ∀ k, k < 1 → parseFieldDescriptor (TX15 k).2.2.1 = some (tyX15 k) := by decide +kernel
abbrev cX15_init : ByteArray := prog_7_method_1_code
def yX15_init : MethodName := ⟨RX15, "<init>", "(LSaidSo$Part;)V"⟩
def dkwX15_init_0 : List UInt8 := [42, 183, 0, 1, 42, 43, 181, 0, 7, 177]
abbrev dktX15_init_0 : List UInt8 := dkwX15_init_0 ++ []
theorem dksX15_init_0 : cX15_init.data.toList.drop 0 = dktX15_init_0 := by decide +kernel
theorem dX15_init_0 : decode cX15_init 0 = .ok (.aload_n 0, 1) := dk_42 (dk_at dksX15_init_0 0 rfl rfl)
theorem dX15_init_1 : decode cX15_init 1 = .ok (.invokespecial 1, 3) := dk_183 0 1 (dk_at dksX15_init_0 1 rfl rfl)
theorem dX15_init_4 : decode cX15_init 4 = .ok (.aload_n 0, 1) := dk_42 (dk_at dksX15_init_0 4 rfl rfl)
theorem dX15_init_5 : decode cX15_init 5 = .ok (.aload_n 1, 1) := dk_43 (dk_at dksX15_init_0 5 rfl rfl)
theorem dX15_init_6 : decode cX15_init 6 = .ok (.putfield 7, 3) := dk_181 0 7 (dk_at dksX15_init_0 6 rfl rfl)
theorem dX15_init_9 : decode cX15_init 9 = .ok (.return_, 1) := dk_177 (dk_at dksX15_init_0 9 rfl rfl)
abbrev cX15_of : ByteArray := prog_7_method_2_code
def yX15_of : MethodName := ⟨RX15, "of", "([J)J"⟩
def dkwX15_of_0 : List UInt8 := [42, 180, 0, 7, 43, 182, 0, 13, 9, 148, 154, 0, 7, 10, 167, 0, 4, 9, 173]
abbrev dktX15_of_0 : List UInt8 := dkwX15_of_0 ++ []
theorem dksX15_of_0 : cX15_of.data.toList.drop 0 = dktX15_of_0 := by decide +kernel
theorem dX15_of_0 : decode cX15_of 0 = .ok (.aload_n 0, 1) := dk_42 (dk_at dksX15_of_0 0 rfl rfl)
theorem dX15_of_1 : decode cX15_of 1 = .ok (.getfield 7, 3) := dk_180 0 7 (dk_at dksX15_of_0 1 rfl rfl)
theorem dX15_of_4 : decode cX15_of 4 = .ok (.aload_n 1, 1) := dk_43 (dk_at dksX15_of_0 4 rfl rfl)
theorem dX15_of_5 : decode cX15_of 5 = .ok (.invokevirtual 13, 3) := dk_182 0 13 (dk_at dksX15_of_0 5 rfl rfl)
theorem dX15_of_8 : decode cX15_of 8 = .ok (.lconst 0, 1) := dk_9 (dk_at dksX15_of_0 8 rfl rfl)
theorem dX15_of_9 : decode cX15_of 9 = .ok (.lcmp, 1) := dk_148 (dk_at dksX15_of_0 9 rfl rfl)
theorem dX15_of_10 : decode cX15_of 10 = .ok (.ifCond .ne 7, 3) := dk_154 0 7 (dk_at dksX15_of_0 10 rfl rfl)
theorem dX15_of_13 : decode cX15_of 13 = .ok (.lconst 1, 1) := dk_10 (dk_at dksX15_of_0 13 rfl rfl)
theorem dX15_of_14 : decode cX15_of 14 = .ok (.goto 4, 3) := dk_167 0 4 (dk_at dksX15_of_0 14 rfl rfl)
theorem dX15_of_17 : decode cX15_of 17 = .ok (.lconst 0, 1) := dk_9 (dk_at dksX15_of_0 17 rfl rfl)
theorem dX15_of_18 : decode cX15_of 18 = .ok (.lreturn, 1) := dk_173 (dk_at dksX15_of_0 18 rfl rfl)
theorem q168 : (Jvm.Cond.initialized "SaidSo$Not") ∈ lw_all := lw_g (lw_at lw_m1 30 rfl) rfl
theorem q701 : (Jvm.Cond.selects "SaidSo$Not" ({ cls := "java/lang/Object", name := "getClass", desc := "()Ljava/lang/Class;" } : Jvm.MethodName) ({ cls := "java/lang/Object", name := "getClass", desc := "()Ljava/lang/Class;" } : Jvm.MethodName)) ∈ lw_all := lw_g (lw_at lw_m3 83 rfl) rfl
theorem q934 : (Jvm.Cond.instanceMethod ({ cls := "SaidSo$Not", name := "<init>", desc := "(LSaidSo$Part;)V" } : Jvm.MethodName)) ∈ lw_all := lw_g (lw_at lw_m4 76 rfl) rfl
theorem q935 : (Jvm.Cond.code ({ cls := "SaidSo$Not", name := "<init>", desc := "(LSaidSo$Part;)V" } : Jvm.MethodName) prog_7_method_1_code (2 : Nat) (Option.none : Option Jvm.ClassFile.FieldType)) ∈ lw_all := lw_g (lw_at lw_m4 77 rfl) rfl
theorem q936 : (Jvm.Cond.methodLinkNest "SaidSo$Not" (1 : Nat) ({ cls := "SaidSo$Part", name := "<init>", desc := "()V" } : Jvm.MethodName) "SaidSo") ∈ lw_tbl := lw_at lw_m4 78 rfl
theorem q939 : (Jvm.Cond.fieldLink "SaidSo$Not" (7 : Nat) "SaidSo$Not" "a" "LSaidSo$Part;") ∈ lw_all := lw_g (lw_at lw_m4 81 rfl) rfl
theorem q947 : (Jvm.Cond.soleField "SaidSo$Not" "a") ∈ lw_all := lw_g (lw_at lw_m4 89 rfl) rfl
theorem q950 : (Jvm.Cond.instantiable "SaidSo$Not" (1 : Nat)) ∈ lw_all := lw_g (lw_at lw_m4 92 rfl) rfl
theorem q952 : (Jvm.Cond.laysFinal "SaidSo$Not" "SaidSo$Not" "a" "LSaidSo$Part;") ∈ lw_all := lw_g (lw_at lw_m4 94 rfl) rfl
theorem q953 : (Jvm.Cond.superclass "SaidSo$Not" "SaidSo$Part") ∈ lw_all := lw_g (lw_at lw_m4 95 rfl) rfl
theorem q1234 : (Jvm.Cond.selects "SaidSo$Not" ({ cls := "SaidSo$Part", name := "of", desc := "([J)J" } : Jvm.MethodName) ({ cls := "SaidSo$Not", name := "of", desc := "([J)J" } : Jvm.MethodName)) ∈ lw_all := lw_g (lw_at lw_m5 136 rfl) rfl
theorem q1235 : (Jvm.Cond.instanceMethod ({ cls := "SaidSo$Not", name := "of", desc := "([J)J" } : Jvm.MethodName)) ∈ lw_all := lw_g (lw_at lw_m5 137 rfl) rfl
theorem q1236 : (Jvm.Cond.code ({ cls := "SaidSo$Not", name := "of", desc := "([J)J" } : Jvm.MethodName) prog_7_method_2_code (2 : Nat) (Option.some Jvm.ClassFile.FieldType.long)) ∈ lw_all := lw_g (lw_at lw_m5 138 rfl) rfl
theorem q1237 : (Jvm.Cond.methodLink "SaidSo$Not" (13 : Nat) ({ cls := "SaidSo$Part", name := "of", desc := "([J)J" } : Jvm.MethodName)) ∈ lw_all := lw_g (lw_at lw_m5 139 rfl) rfl
theorem q2092 : (Jvm.Cond.castable "SaidSo$Not" "java/lang/Object") ∈ lw_tbl := lw_at lw_m9 34 rfl
theorem q2101 : (Jvm.Cond.castable "SaidSo$Not" "SaidSo$Part") ∈ lw_tbl := lw_at lw_m9 43 rfl
theorem in_X15 : ∀ w ∈ wsX150, w ∈ lw_all := lw_in wsX150 [952] (by decide +kernel) (by decide +kernel)

/-! SaidSo$Two -/
set_option maxRecDepth 100000
def RX16 : String := "SaidSo$Two"
def TX16 : u_T := fun k => match k with
  | 0 => ("SaidSo$Not", "a", "LSaidSo$Part;", true)
  | 1 => ("SaidSo$Two", "sign", "I", true)
  | _ => ("SaidSo$Two", "b", "LSaidSo$Part;", true)
def tyX16 : Nat → FieldType := fun k => match k with
  | 0 => .object "SaidSo$Part"
  | 1 => .int
  | _ => .object "SaidSo$Part"
abbrev wsX160 : List Cond := u_ws RX16 TX16 3
theorem nmX16 : ∀ a, a < 3 → ∀ b, b < 3 → a ≠ b → (TX16 a).2.1 ≠ (TX16 b).2.1 := by decide +kernel
theorem tyX16_ok : ∀ k, k < 3 → parseFieldDescriptor (TX16 k).2.2.1 = some (tyX16 k) := by decide +kernel
abbrev cX16_init : ByteArray := prog_15_method_1_code
def yX16_init : MethodName := ⟨RX16, "<init>", "(ILSaidSo$Part;LSaidSo$Part;)V"⟩
def dkwX16_init_0 : List UInt8 := [42, 44, 183, 0, 3, 42, 27, 181, 0, 9, 42, 45, 181, 0, 15, 177]
abbrev dktX16_init_0 : List UInt8 := dkwX16_init_0 ++ []
theorem dksX16_init_0 : cX16_init.data.toList.drop 0 = dktX16_init_0 := by decide +kernel
theorem dX16_init_0 : decode cX16_init 0 = .ok (.aload_n 0, 1) := dk_42 (dk_at dksX16_init_0 0 rfl rfl)
theorem dX16_init_1 : decode cX16_init 1 = .ok (.aload_n 2, 1) := dk_44 (dk_at dksX16_init_0 1 rfl rfl)
theorem dX16_init_2 : decode cX16_init 2 = .ok (.invokespecial 3, 3) := dk_183 0 3 (dk_at dksX16_init_0 2 rfl rfl)
theorem dX16_init_5 : decode cX16_init 5 = .ok (.aload_n 0, 1) := dk_42 (dk_at dksX16_init_0 5 rfl rfl)
theorem dX16_init_6 : decode cX16_init 6 = .ok (.iload_n 1, 1) := dk_27 (dk_at dksX16_init_0 6 rfl rfl)
theorem dX16_init_7 : decode cX16_init 7 = .ok (.putfield 9, 3) := dk_181 0 9 (dk_at dksX16_init_0 7 rfl rfl)
theorem dX16_init_10 : decode cX16_init 10 = .ok (.aload_n 0, 1) := dk_42 (dk_at dksX16_init_0 10 rfl rfl)
theorem dX16_init_11 : decode cX16_init 11 = .ok (.aload_n 3, 1) := dk_45 (dk_at dksX16_init_0 11 rfl rfl)
theorem dX16_init_12 : decode cX16_init 12 = .ok (.putfield 15, 3) := dk_181 0 15 (dk_at dksX16_init_0 12 rfl rfl)
theorem dX16_init_15 : decode cX16_init 15 = .ok (.return_, 1) := dk_177 (dk_at dksX16_init_0 15 rfl rfl)
abbrev cX16_of : ByteArray := prog_15_method_3_code
def yX16_of : MethodName := ⟨RX16, "of", "([J)J"⟩
def dkwX16_of_9 : List UInt8 := [153, 0, 7, 4, 167, 0, 4, 3, 184, 0, 40, 173]
abbrev dktX16_of_9 : List UInt8 := dkwX16_of_9 ++ []
def dkwX16_of_8 : List UInt8 := [9, 148, 153, 0, 7, 4, 167, 0, 4, 3, 184, 0, 40, 173, 32, 9, 148, 154, 0, 10, 22, 4, 9, 148]
abbrev dktX16_of_8 : List UInt8 := dkwX16_of_8 ++ dktX16_of_9
def dkwX16_of_7 : List UInt8 := [32, 22, 4, 148, 153, 0, 7, 4, 167, 0, 4, 3, 184, 0, 40, 173, 32, 9, 148, 153, 0, 14, 22, 4]
abbrev dktX16_of_7 : List UInt8 := dkwX16_of_7 ++ dktX16_of_8
def dkwX16_of_6 : List UInt8 := [167, 0, 4, 3, 184, 0, 40, 173, 32, 22, 4, 148, 155, 0, 7, 4, 167, 0, 4, 3, 184, 0, 40, 173]
abbrev dktX16_of_6 : List UInt8 := dkwX16_of_6 ++ dktX16_of_7
def dkwX16_of_5 : List UInt8 := [32, 22, 4, 148, 154, 0, 7, 4, 167, 0, 4, 3, 184, 0, 40, 173, 32, 22, 4, 148, 157, 0, 7, 4]
abbrev dktX16_of_5 : List UInt8 := dkwX16_of_5 ++ dktX16_of_6
def dkwX16_of_4 : List UInt8 := [167, 0, 4, 3, 184, 0, 40, 173, 32, 22, 4, 148, 158, 0, 7, 4, 167, 0, 4, 3, 184, 0, 40, 173]
abbrev dktX16_of_4 : List UInt8 := dkwX16_of_4 ++ dktX16_of_5
def dkwX16_of_3 : List UInt8 := [22, 4, 9, 148, 154, 0, 7, 178, 0, 36, 191, 32, 22, 4, 109, 173, 32, 22, 4, 148, 156, 0, 7, 4]
abbrev dktX16_of_3 : List UInt8 := dkwX16_of_3 ++ dktX16_of_4
def dkwX16_of_2 : List UInt8 := [32, 22, 4, 97, 184, 0, 28, 173, 32, 22, 4, 101, 184, 0, 28, 173, 32, 22, 4, 184, 0, 32, 173]
abbrev dktX16_of_2 : List UInt8 := dkwX16_of_2 ++ dktX16_of_3
def dkwX16_of_1 : List UInt8 := [171, 0, 0, 0, 254, 0, 0, 0, 11, 0, 0, 0, 15, 0, 0, 0, 232, 0, 0, 0, 42, 0, 0, 0, 113, 0, 0, 0, 43, 0, 0, 0, 97, 0, 0, 0, 45, 0, 0, 0, 105, 0, 0, 0, 47, 0, 0, 0, 120, 0, 0, 0, 60, 0, 0, 0, 136, 0, 0, 0, 61, 0, 0, 0, 168, 0, 0, 0, 62, 0, 0, 0, 152, 0, 0, 1, 0, 0, 0, 0, 184, 0, 0, 1, 1, 0, 0, 0, 200, 0, 0, 1, 2, 0, 0, 0, 216]
abbrev dktX16_of_1 : List UInt8 := dkwX16_of_1 ++ dktX16_of_2
def dkwX16_of_0 : List UInt8 := [42, 180, 0, 19, 43, 182, 0, 22, 65, 42, 180, 0, 15, 43, 182, 0, 22, 55, 4, 42, 180, 0, 9]
abbrev dktX16_of_0 : List UInt8 := dkwX16_of_0 ++ dktX16_of_1
theorem dksX16_of_0 : cX16_of.data.toList.drop 0 = dktX16_of_0 := by decide +kernel
theorem dksX16_of_1 : cX16_of.data.toList.drop 23 = dktX16_of_1 := dk_seg dksX16_of_0 23 rfl rfl
theorem dksX16_of_2 : cX16_of.data.toList.drop 120 = dktX16_of_2 := dk_seg dksX16_of_1 97 rfl rfl
theorem dksX16_of_3 : cX16_of.data.toList.drop 143 = dktX16_of_3 := dk_seg dksX16_of_2 23 rfl rfl
theorem dksX16_of_4 : cX16_of.data.toList.drop 167 = dktX16_of_4 := dk_seg dksX16_of_3 24 rfl rfl
theorem dksX16_of_5 : cX16_of.data.toList.drop 191 = dktX16_of_5 := dk_seg dksX16_of_4 24 rfl rfl
theorem dksX16_of_6 : cX16_of.data.toList.drop 215 = dktX16_of_6 := dk_seg dksX16_of_5 24 rfl rfl
theorem dksX16_of_7 : cX16_of.data.toList.drop 239 = dktX16_of_7 := dk_seg dksX16_of_6 24 rfl rfl
theorem dksX16_of_8 : cX16_of.data.toList.drop 263 = dktX16_of_8 := dk_seg dksX16_of_7 24 rfl rfl
theorem dksX16_of_9 : cX16_of.data.toList.drop 287 = dktX16_of_9 := dk_seg dksX16_of_8 24 rfl rfl
theorem dX16_of_0 : decode cX16_of 0 = .ok (.aload_n 0, 1) := dk_42 (dk_at dksX16_of_0 0 rfl rfl)
theorem dX16_of_1 : decode cX16_of 1 = .ok (.getfield 19, 3) := dk_180 0 19 (dk_at dksX16_of_0 1 rfl rfl)
theorem dX16_of_4 : decode cX16_of 4 = .ok (.aload_n 1, 1) := dk_43 (dk_at dksX16_of_0 4 rfl rfl)
theorem dX16_of_5 : decode cX16_of 5 = .ok (.invokevirtual 22, 3) := dk_182 0 22 (dk_at dksX16_of_0 5 rfl rfl)
theorem dX16_of_8 : decode cX16_of 8 = .ok (.lstore_n 2, 1) := dk_65 (dk_at dksX16_of_0 8 rfl rfl)
theorem dX16_of_9 : decode cX16_of 9 = .ok (.aload_n 0, 1) := dk_42 (dk_at dksX16_of_0 9 rfl rfl)
theorem dX16_of_10 : decode cX16_of 10 = .ok (.getfield 15, 3) := dk_180 0 15 (dk_at dksX16_of_0 10 rfl rfl)
theorem dX16_of_13 : decode cX16_of 13 = .ok (.aload_n 1, 1) := dk_43 (dk_at dksX16_of_0 13 rfl rfl)
theorem dX16_of_14 : decode cX16_of 14 = .ok (.invokevirtual 22, 3) := dk_182 0 22 (dk_at dksX16_of_0 14 rfl rfl)
theorem dX16_of_17 : decode cX16_of 17 = .ok (.lstore 4, 2) := dk_55 4 (dk_at dksX16_of_0 17 rfl rfl)
theorem dX16_of_19 : decode cX16_of 19 = .ok (.aload_n 0, 1) := dk_42 (dk_at dksX16_of_0 19 rfl rfl)
theorem dX16_of_20 : decode cX16_of 20 = .ok (.getfield 9, 3) := dk_180 0 9 (dk_at dksX16_of_0 20 rfl rfl)
theorem dX16_of_23 : decode cX16_of 23 = .ok (.lookupswitch 254 #[(15, 232), (42, 113), (43, 97), (45, 105), (47, 120), (60, 136), (61, 168), (62, 152), (256, 184), (257, 200), (258, 216)], 97) := by decide +kernel
theorem dX16_of_120 : decode cX16_of 120 = .ok (.lload_n 2, 1) := dk_32 (dk_at dksX16_of_2 0 rfl rfl)
theorem dX16_of_121 : decode cX16_of 121 = .ok (.lload 4, 2) := dk_22 4 (dk_at dksX16_of_2 1 rfl rfl)
theorem dX16_of_123 : decode cX16_of 123 = .ok (.ladd, 1) := dk_97 (dk_at dksX16_of_2 3 rfl rfl)
theorem dX16_of_124 : decode cX16_of 124 = .ok (.invokestatic 28, 3) := dk_184 0 28 (dk_at dksX16_of_2 4 rfl rfl)
theorem dX16_of_127 : decode cX16_of 127 = .ok (.lreturn, 1) := dk_173 (dk_at dksX16_of_2 7 rfl rfl)
theorem dX16_of_128 : decode cX16_of 128 = .ok (.lload_n 2, 1) := dk_32 (dk_at dksX16_of_2 8 rfl rfl)
theorem dX16_of_129 : decode cX16_of 129 = .ok (.lload 4, 2) := dk_22 4 (dk_at dksX16_of_2 9 rfl rfl)
theorem dX16_of_131 : decode cX16_of 131 = .ok (.lsub, 1) := dk_101 (dk_at dksX16_of_2 11 rfl rfl)
theorem dX16_of_132 : decode cX16_of 132 = .ok (.invokestatic 28, 3) := dk_184 0 28 (dk_at dksX16_of_2 12 rfl rfl)
theorem dX16_of_135 : decode cX16_of 135 = .ok (.lreturn, 1) := dk_173 (dk_at dksX16_of_2 15 rfl rfl)
theorem dX16_of_136 : decode cX16_of 136 = .ok (.lload_n 2, 1) := dk_32 (dk_at dksX16_of_2 16 rfl rfl)
theorem dX16_of_137 : decode cX16_of 137 = .ok (.lload 4, 2) := dk_22 4 (dk_at dksX16_of_2 17 rfl rfl)
theorem dX16_of_139 : decode cX16_of 139 = .ok (.invokestatic 32, 3) := dk_184 0 32 (dk_at dksX16_of_2 19 rfl rfl)
theorem dX16_of_142 : decode cX16_of 142 = .ok (.lreturn, 1) := dk_173 (dk_at dksX16_of_2 22 rfl rfl)
theorem dX16_of_143 : decode cX16_of 143 = .ok (.lload 4, 2) := dk_22 4 (dk_at dksX16_of_3 0 rfl rfl)
theorem dX16_of_145 : decode cX16_of 145 = .ok (.lconst 0, 1) := dk_9 (dk_at dksX16_of_3 2 rfl rfl)
theorem dX16_of_146 : decode cX16_of 146 = .ok (.lcmp, 1) := dk_148 (dk_at dksX16_of_3 3 rfl rfl)
theorem dX16_of_147 : decode cX16_of 147 = .ok (.ifCond .ne 7, 3) := dk_154 0 7 (dk_at dksX16_of_3 4 rfl rfl)
theorem dX16_of_150 : decode cX16_of 150 = .ok (.getstatic 36, 3) := dk_178 0 36 (dk_at dksX16_of_3 7 rfl rfl)
theorem dX16_of_153 : decode cX16_of 153 = .ok (.athrow, 1) := dk_191 (dk_at dksX16_of_3 10 rfl rfl)
theorem dX16_of_154 : decode cX16_of 154 = .ok (.lload_n 2, 1) := dk_32 (dk_at dksX16_of_3 11 rfl rfl)
theorem dX16_of_155 : decode cX16_of 155 = .ok (.lload 4, 2) := dk_22 4 (dk_at dksX16_of_3 12 rfl rfl)
theorem dX16_of_157 : decode cX16_of 157 = .ok (.ldiv, 1) := dk_109 (dk_at dksX16_of_3 14 rfl rfl)
theorem dX16_of_158 : decode cX16_of 158 = .ok (.lreturn, 1) := dk_173 (dk_at dksX16_of_3 15 rfl rfl)
theorem dX16_of_159 : decode cX16_of 159 = .ok (.lload_n 2, 1) := dk_32 (dk_at dksX16_of_3 16 rfl rfl)
theorem dX16_of_160 : decode cX16_of 160 = .ok (.lload 4, 2) := dk_22 4 (dk_at dksX16_of_3 17 rfl rfl)
theorem dX16_of_162 : decode cX16_of 162 = .ok (.lcmp, 1) := dk_148 (dk_at dksX16_of_3 19 rfl rfl)
theorem dX16_of_163 : decode cX16_of 163 = .ok (.ifCond .ge 7, 3) := dk_156 0 7 (dk_at dksX16_of_3 20 rfl rfl)
theorem dX16_of_166 : decode cX16_of 166 = .ok (.iconst 1, 1) := dk_4 (dk_at dksX16_of_3 23 rfl rfl)
theorem dX16_of_167 : decode cX16_of 167 = .ok (.goto 4, 3) := dk_167 0 4 (dk_at dksX16_of_4 0 rfl rfl)
theorem dX16_of_170 : decode cX16_of 170 = .ok (.iconst 0, 1) := dk_3 (dk_at dksX16_of_4 3 rfl rfl)
theorem dX16_of_171 : decode cX16_of 171 = .ok (.invokestatic 40, 3) := dk_184 0 40 (dk_at dksX16_of_4 4 rfl rfl)
theorem dX16_of_174 : decode cX16_of 174 = .ok (.lreturn, 1) := dk_173 (dk_at dksX16_of_4 7 rfl rfl)
theorem dX16_of_175 : decode cX16_of 175 = .ok (.lload_n 2, 1) := dk_32 (dk_at dksX16_of_4 8 rfl rfl)
theorem dX16_of_176 : decode cX16_of 176 = .ok (.lload 4, 2) := dk_22 4 (dk_at dksX16_of_4 9 rfl rfl)
theorem dX16_of_178 : decode cX16_of 178 = .ok (.lcmp, 1) := dk_148 (dk_at dksX16_of_4 11 rfl rfl)
theorem dX16_of_179 : decode cX16_of 179 = .ok (.ifCond .le 7, 3) := dk_158 0 7 (dk_at dksX16_of_4 12 rfl rfl)
theorem dX16_of_182 : decode cX16_of 182 = .ok (.iconst 1, 1) := dk_4 (dk_at dksX16_of_4 15 rfl rfl)
theorem dX16_of_183 : decode cX16_of 183 = .ok (.goto 4, 3) := dk_167 0 4 (dk_at dksX16_of_4 16 rfl rfl)
theorem dX16_of_186 : decode cX16_of 186 = .ok (.iconst 0, 1) := dk_3 (dk_at dksX16_of_4 19 rfl rfl)
theorem dX16_of_187 : decode cX16_of 187 = .ok (.invokestatic 40, 3) := dk_184 0 40 (dk_at dksX16_of_4 20 rfl rfl)
theorem dX16_of_190 : decode cX16_of 190 = .ok (.lreturn, 1) := dk_173 (dk_at dksX16_of_4 23 rfl rfl)
theorem dX16_of_191 : decode cX16_of 191 = .ok (.lload_n 2, 1) := dk_32 (dk_at dksX16_of_5 0 rfl rfl)
theorem dX16_of_192 : decode cX16_of 192 = .ok (.lload 4, 2) := dk_22 4 (dk_at dksX16_of_5 1 rfl rfl)
theorem dX16_of_194 : decode cX16_of 194 = .ok (.lcmp, 1) := dk_148 (dk_at dksX16_of_5 3 rfl rfl)
theorem dX16_of_195 : decode cX16_of 195 = .ok (.ifCond .ne 7, 3) := dk_154 0 7 (dk_at dksX16_of_5 4 rfl rfl)
theorem dX16_of_198 : decode cX16_of 198 = .ok (.iconst 1, 1) := dk_4 (dk_at dksX16_of_5 7 rfl rfl)
theorem dX16_of_199 : decode cX16_of 199 = .ok (.goto 4, 3) := dk_167 0 4 (dk_at dksX16_of_5 8 rfl rfl)
theorem dX16_of_202 : decode cX16_of 202 = .ok (.iconst 0, 1) := dk_3 (dk_at dksX16_of_5 11 rfl rfl)
theorem dX16_of_203 : decode cX16_of 203 = .ok (.invokestatic 40, 3) := dk_184 0 40 (dk_at dksX16_of_5 12 rfl rfl)
theorem dX16_of_206 : decode cX16_of 206 = .ok (.lreturn, 1) := dk_173 (dk_at dksX16_of_5 15 rfl rfl)
theorem dX16_of_207 : decode cX16_of 207 = .ok (.lload_n 2, 1) := dk_32 (dk_at dksX16_of_5 16 rfl rfl)
theorem dX16_of_208 : decode cX16_of 208 = .ok (.lload 4, 2) := dk_22 4 (dk_at dksX16_of_5 17 rfl rfl)
theorem dX16_of_210 : decode cX16_of 210 = .ok (.lcmp, 1) := dk_148 (dk_at dksX16_of_5 19 rfl rfl)
theorem dX16_of_211 : decode cX16_of 211 = .ok (.ifCond .gt 7, 3) := dk_157 0 7 (dk_at dksX16_of_5 20 rfl rfl)
theorem dX16_of_214 : decode cX16_of 214 = .ok (.iconst 1, 1) := dk_4 (dk_at dksX16_of_5 23 rfl rfl)
theorem dX16_of_215 : decode cX16_of 215 = .ok (.goto 4, 3) := dk_167 0 4 (dk_at dksX16_of_6 0 rfl rfl)
theorem dX16_of_218 : decode cX16_of 218 = .ok (.iconst 0, 1) := dk_3 (dk_at dksX16_of_6 3 rfl rfl)
theorem dX16_of_219 : decode cX16_of 219 = .ok (.invokestatic 40, 3) := dk_184 0 40 (dk_at dksX16_of_6 4 rfl rfl)
theorem dX16_of_222 : decode cX16_of 222 = .ok (.lreturn, 1) := dk_173 (dk_at dksX16_of_6 7 rfl rfl)
theorem dX16_of_223 : decode cX16_of 223 = .ok (.lload_n 2, 1) := dk_32 (dk_at dksX16_of_6 8 rfl rfl)
theorem dX16_of_224 : decode cX16_of 224 = .ok (.lload 4, 2) := dk_22 4 (dk_at dksX16_of_6 9 rfl rfl)
theorem dX16_of_226 : decode cX16_of 226 = .ok (.lcmp, 1) := dk_148 (dk_at dksX16_of_6 11 rfl rfl)
theorem dX16_of_227 : decode cX16_of 227 = .ok (.ifCond .lt 7, 3) := dk_155 0 7 (dk_at dksX16_of_6 12 rfl rfl)
theorem dX16_of_230 : decode cX16_of 230 = .ok (.iconst 1, 1) := dk_4 (dk_at dksX16_of_6 15 rfl rfl)
theorem dX16_of_231 : decode cX16_of 231 = .ok (.goto 4, 3) := dk_167 0 4 (dk_at dksX16_of_6 16 rfl rfl)
theorem dX16_of_234 : decode cX16_of 234 = .ok (.iconst 0, 1) := dk_3 (dk_at dksX16_of_6 19 rfl rfl)
theorem dX16_of_235 : decode cX16_of 235 = .ok (.invokestatic 40, 3) := dk_184 0 40 (dk_at dksX16_of_6 20 rfl rfl)
theorem dX16_of_238 : decode cX16_of 238 = .ok (.lreturn, 1) := dk_173 (dk_at dksX16_of_6 23 rfl rfl)
theorem dX16_of_239 : decode cX16_of 239 = .ok (.lload_n 2, 1) := dk_32 (dk_at dksX16_of_7 0 rfl rfl)
theorem dX16_of_240 : decode cX16_of 240 = .ok (.lload 4, 2) := dk_22 4 (dk_at dksX16_of_7 1 rfl rfl)
theorem dX16_of_242 : decode cX16_of 242 = .ok (.lcmp, 1) := dk_148 (dk_at dksX16_of_7 3 rfl rfl)
theorem dX16_of_243 : decode cX16_of 243 = .ok (.ifCond .eq 7, 3) := dk_153 0 7 (dk_at dksX16_of_7 4 rfl rfl)
theorem dX16_of_246 : decode cX16_of 246 = .ok (.iconst 1, 1) := dk_4 (dk_at dksX16_of_7 7 rfl rfl)
theorem dX16_of_247 : decode cX16_of 247 = .ok (.goto 4, 3) := dk_167 0 4 (dk_at dksX16_of_7 8 rfl rfl)
theorem dX16_of_250 : decode cX16_of 250 = .ok (.iconst 0, 1) := dk_3 (dk_at dksX16_of_7 11 rfl rfl)
theorem dX16_of_251 : decode cX16_of 251 = .ok (.invokestatic 40, 3) := dk_184 0 40 (dk_at dksX16_of_7 12 rfl rfl)
theorem dX16_of_254 : decode cX16_of 254 = .ok (.lreturn, 1) := dk_173 (dk_at dksX16_of_7 15 rfl rfl)
theorem dX16_of_255 : decode cX16_of 255 = .ok (.lload_n 2, 1) := dk_32 (dk_at dksX16_of_7 16 rfl rfl)
theorem dX16_of_256 : decode cX16_of 256 = .ok (.lconst 0, 1) := dk_9 (dk_at dksX16_of_7 17 rfl rfl)
theorem dX16_of_257 : decode cX16_of 257 = .ok (.lcmp, 1) := dk_148 (dk_at dksX16_of_7 18 rfl rfl)
theorem dX16_of_258 : decode cX16_of 258 = .ok (.ifCond .eq 14, 3) := dk_153 0 14 (dk_at dksX16_of_7 19 rfl rfl)
theorem dX16_of_261 : decode cX16_of 261 = .ok (.lload 4, 2) := dk_22 4 (dk_at dksX16_of_7 22 rfl rfl)
theorem dX16_of_263 : decode cX16_of 263 = .ok (.lconst 0, 1) := dk_9 (dk_at dksX16_of_8 0 rfl rfl)
theorem dX16_of_264 : decode cX16_of 264 = .ok (.lcmp, 1) := dk_148 (dk_at dksX16_of_8 1 rfl rfl)
theorem dX16_of_265 : decode cX16_of 265 = .ok (.ifCond .eq 7, 3) := dk_153 0 7 (dk_at dksX16_of_8 2 rfl rfl)
theorem dX16_of_268 : decode cX16_of 268 = .ok (.iconst 1, 1) := dk_4 (dk_at dksX16_of_8 5 rfl rfl)
theorem dX16_of_269 : decode cX16_of 269 = .ok (.goto 4, 3) := dk_167 0 4 (dk_at dksX16_of_8 6 rfl rfl)
theorem dX16_of_272 : decode cX16_of 272 = .ok (.iconst 0, 1) := dk_3 (dk_at dksX16_of_8 9 rfl rfl)
theorem dX16_of_273 : decode cX16_of 273 = .ok (.invokestatic 40, 3) := dk_184 0 40 (dk_at dksX16_of_8 10 rfl rfl)
theorem dX16_of_276 : decode cX16_of 276 = .ok (.lreturn, 1) := dk_173 (dk_at dksX16_of_8 13 rfl rfl)
theorem dX16_of_277 : decode cX16_of 277 = .ok (.lload_n 2, 1) := dk_32 (dk_at dksX16_of_8 14 rfl rfl)
theorem dX16_of_278 : decode cX16_of 278 = .ok (.lconst 0, 1) := dk_9 (dk_at dksX16_of_8 15 rfl rfl)
theorem dX16_of_279 : decode cX16_of 279 = .ok (.lcmp, 1) := dk_148 (dk_at dksX16_of_8 16 rfl rfl)
theorem dX16_of_280 : decode cX16_of 280 = .ok (.ifCond .ne 10, 3) := dk_154 0 10 (dk_at dksX16_of_8 17 rfl rfl)
theorem dX16_of_283 : decode cX16_of 283 = .ok (.lload 4, 2) := dk_22 4 (dk_at dksX16_of_8 20 rfl rfl)
theorem dX16_of_285 : decode cX16_of 285 = .ok (.lconst 0, 1) := dk_9 (dk_at dksX16_of_8 22 rfl rfl)
theorem dX16_of_286 : decode cX16_of 286 = .ok (.lcmp, 1) := dk_148 (dk_at dksX16_of_8 23 rfl rfl)
theorem dX16_of_287 : decode cX16_of 287 = .ok (.ifCond .eq 7, 3) := dk_153 0 7 (dk_at dksX16_of_9 0 rfl rfl)
theorem dX16_of_290 : decode cX16_of 290 = .ok (.iconst 1, 1) := dk_4 (dk_at dksX16_of_9 3 rfl rfl)
theorem dX16_of_291 : decode cX16_of 291 = .ok (.goto 4, 3) := dk_167 0 4 (dk_at dksX16_of_9 4 rfl rfl)
theorem dX16_of_294 : decode cX16_of 294 = .ok (.iconst 0, 1) := dk_3 (dk_at dksX16_of_9 7 rfl rfl)
theorem dX16_of_295 : decode cX16_of 295 = .ok (.invokestatic 40, 3) := dk_184 0 40 (dk_at dksX16_of_9 8 rfl rfl)
theorem dX16_of_298 : decode cX16_of 298 = .ok (.lreturn, 1) := dk_173 (dk_at dksX16_of_9 11 rfl rfl)
abbrev cX16_times : ByteArray := prog_15_method_4_code
def yX16_times : MethodName := ⟨RX16, "times", "(JJ)J"⟩
def dkwX16_times_1 : List UInt8 := [178, 0, 36, 191, 30, 32, 105, 173]
abbrev dktX16_times_1 : List UInt8 := dkwX16_times_1 ++ []
def dkwX16_times_0 : List UInt8 := [30, 9, 148, 153, 0, 23, 32, 184, 0, 44, 20, 0, 49, 30, 184, 0, 44, 109, 148, 158, 0, 7]
abbrev dktX16_times_0 : List UInt8 := dkwX16_times_0 ++ dktX16_times_1
theorem dksX16_times_0 : cX16_times.data.toList.drop 0 = dktX16_times_0 := by decide +kernel
theorem dksX16_times_1 : cX16_times.data.toList.drop 22 = dktX16_times_1 := dk_seg dksX16_times_0 22 rfl rfl
theorem dX16_times_0 : decode cX16_times 0 = .ok (.lload_n 0, 1) := dk_30 (dk_at dksX16_times_0 0 rfl rfl)
theorem dX16_times_1 : decode cX16_times 1 = .ok (.lconst 0, 1) := dk_9 (dk_at dksX16_times_0 1 rfl rfl)
theorem dX16_times_2 : decode cX16_times 2 = .ok (.lcmp, 1) := dk_148 (dk_at dksX16_times_0 2 rfl rfl)
theorem dX16_times_3 : decode cX16_times 3 = .ok (.ifCond .eq 23, 3) := dk_153 0 23 (dk_at dksX16_times_0 3 rfl rfl)
theorem dX16_times_6 : decode cX16_times 6 = .ok (.lload_n 2, 1) := dk_32 (dk_at dksX16_times_0 6 rfl rfl)
theorem dX16_times_7 : decode cX16_times 7 = .ok (.invokestatic 44, 3) := dk_184 0 44 (dk_at dksX16_times_0 7 rfl rfl)
theorem dX16_times_10 : decode cX16_times 10 = .ok (.ldc2_w 49, 3) := dk_20 0 49 (dk_at dksX16_times_0 10 rfl rfl)
theorem dX16_times_13 : decode cX16_times 13 = .ok (.lload_n 0, 1) := dk_30 (dk_at dksX16_times_0 13 rfl rfl)
theorem dX16_times_14 : decode cX16_times 14 = .ok (.invokestatic 44, 3) := dk_184 0 44 (dk_at dksX16_times_0 14 rfl rfl)
theorem dX16_times_17 : decode cX16_times 17 = .ok (.ldiv, 1) := dk_109 (dk_at dksX16_times_0 17 rfl rfl)
theorem dX16_times_18 : decode cX16_times 18 = .ok (.lcmp, 1) := dk_148 (dk_at dksX16_times_0 18 rfl rfl)
theorem dX16_times_19 : decode cX16_times 19 = .ok (.ifCond .le 7, 3) := dk_158 0 7 (dk_at dksX16_times_0 19 rfl rfl)
theorem dX16_times_22 : decode cX16_times 22 = .ok (.getstatic 36, 3) := dk_178 0 36 (dk_at dksX16_times_1 0 rfl rfl)
theorem dX16_times_25 : decode cX16_times 25 = .ok (.athrow, 1) := dk_191 (dk_at dksX16_times_1 3 rfl rfl)
theorem dX16_times_26 : decode cX16_times 26 = .ok (.lload_n 0, 1) := dk_30 (dk_at dksX16_times_1 4 rfl rfl)
theorem dX16_times_27 : decode cX16_times 27 = .ok (.lload_n 2, 1) := dk_32 (dk_at dksX16_times_1 5 rfl rfl)
theorem dX16_times_28 : decode cX16_times 28 = .ok (.lmul, 1) := dk_105 (dk_at dksX16_times_1 6 rfl rfl)
theorem dX16_times_29 : decode cX16_times 29 = .ok (.lreturn, 1) := dk_173 (dk_at dksX16_times_1 7 rfl rfl)
abbrev cX16_is : ByteArray := prog_15_method_2_code
def yX16_is : MethodName := ⟨RX16, "is", "(Z)J"⟩
def dkwX16_is_0 : List UInt8 := [26, 153, 0, 7, 10, 167, 0, 4, 9, 173]
abbrev dktX16_is_0 : List UInt8 := dkwX16_is_0 ++ []
theorem dksX16_is_0 : cX16_is.data.toList.drop 0 = dktX16_is_0 := by decide +kernel
theorem dX16_is_0 : decode cX16_is 0 = .ok (.iload_n 0, 1) := dk_26 (dk_at dksX16_is_0 0 rfl rfl)
theorem dX16_is_1 : decode cX16_is 1 = .ok (.ifCond .eq 7, 3) := dk_153 0 7 (dk_at dksX16_is_0 1 rfl rfl)
theorem dX16_is_4 : decode cX16_is 4 = .ok (.lconst 1, 1) := dk_10 (dk_at dksX16_is_0 4 rfl rfl)
theorem dX16_is_5 : decode cX16_is 5 = .ok (.goto 4, 3) := dk_167 0 4 (dk_at dksX16_is_0 5 rfl rfl)
theorem dX16_is_8 : decode cX16_is 8 = .ok (.lconst 0, 1) := dk_9 (dk_at dksX16_is_0 8 rfl rfl)
theorem dX16_is_9 : decode cX16_is 9 = .ok (.lreturn, 1) := dk_173 (dk_at dksX16_is_0 9 rfl rfl)
theorem q169 : (Jvm.Cond.initialized "SaidSo$Two") ∈ lw_all := lw_g (lw_at lw_m1 31 rfl) rfl
theorem q708 : (Jvm.Cond.selects "SaidSo$Two" ({ cls := "java/lang/Object", name := "getClass", desc := "()Ljava/lang/Class;" } : Jvm.MethodName) ({ cls := "java/lang/Object", name := "getClass", desc := "()Ljava/lang/Class;" } : Jvm.MethodName)) ∈ lw_all := lw_g (lw_at lw_m3 90 rfl) rfl
theorem q929 : (Jvm.Cond.instantiable "SaidSo$Two" (3 : Nat)) ∈ lw_all := lw_g (lw_at lw_m4 71 rfl) rfl
theorem q931 : (Jvm.Cond.instanceMethod ({ cls := "SaidSo$Two", name := "<init>", desc := "(ILSaidSo$Part;LSaidSo$Part;)V" } : Jvm.MethodName)) ∈ lw_all := lw_g (lw_at lw_m4 73 rfl) rfl
theorem q932 : (Jvm.Cond.code ({ cls := "SaidSo$Two", name := "<init>", desc := "(ILSaidSo$Part;LSaidSo$Part;)V" } : Jvm.MethodName) prog_15_method_1_code (4 : Nat) (Option.none : Option Jvm.ClassFile.FieldType)) ∈ lw_all := lw_g (lw_at lw_m4 74 rfl) rfl
theorem q933 : (Jvm.Cond.methodLink "SaidSo$Two" (3 : Nat) ({ cls := "SaidSo$Not", name := "<init>", desc := "(LSaidSo$Part;)V" } : Jvm.MethodName)) ∈ lw_all := lw_g (lw_at lw_m4 75 rfl) rfl
theorem q937 : (Jvm.Cond.fieldLink "SaidSo$Two" (9 : Nat) "SaidSo$Two" "sign" "I") ∈ lw_all := lw_g (lw_at lw_m4 79 rfl) rfl
theorem q938 : (Jvm.Cond.fieldLink "SaidSo$Two" (15 : Nat) "SaidSo$Two" "b" "LSaidSo$Part;") ∈ lw_all := lw_g (lw_at lw_m4 80 rfl) rfl
theorem q940 : (Jvm.Cond.fieldLink "SaidSo$Two" (19 : Nat) "SaidSo$Two" "a" "LSaidSo$Part;") ∈ lw_all := lw_g (lw_at lw_m4 82 rfl) rfl
theorem q941 : (Jvm.Cond.sameField "SaidSo$Two" "SaidSo$Not" "a" "LSaidSo$Part;") ∈ lw_all := lw_g (lw_at lw_m4 83 rfl) rfl
theorem q942 : (Jvm.Cond.laysFinal "SaidSo$Two" "SaidSo$Two" "sign" "I") ∈ lw_all := lw_g (lw_at lw_m4 84 rfl) rfl
theorem q943 : (Jvm.Cond.soleField "SaidSo$Two" "sign") ∈ lw_all := lw_g (lw_at lw_m4 85 rfl) rfl
theorem q944 : (Jvm.Cond.laysFinal "SaidSo$Two" "SaidSo$Two" "b" "LSaidSo$Part;") ∈ lw_all := lw_g (lw_at lw_m4 86 rfl) rfl
theorem q945 : (Jvm.Cond.soleField "SaidSo$Two" "b") ∈ lw_all := lw_g (lw_at lw_m4 87 rfl) rfl
theorem q946 : (Jvm.Cond.laysFinal "SaidSo$Two" "SaidSo$Not" "a" "LSaidSo$Part;") ∈ lw_all := lw_g (lw_at lw_m4 88 rfl) rfl
theorem q948 : (Jvm.Cond.superclass "SaidSo$Two" "SaidSo$Not") ∈ lw_all := lw_g (lw_at lw_m4 90 rfl) rfl
theorem q1240 : (Jvm.Cond.instanceMethod ({ cls := "SaidSo$Two", name := "of", desc := "([J)J" } : Jvm.MethodName)) ∈ lw_all := lw_g (lw_at lw_m5 142 rfl) rfl
theorem q1241 : (Jvm.Cond.code ({ cls := "SaidSo$Two", name := "of", desc := "([J)J" } : Jvm.MethodName) prog_15_method_3_code (6 : Nat) (Option.some Jvm.ClassFile.FieldType.long)) ∈ lw_all := lw_g (lw_at lw_m5 143 rfl) rfl
theorem q1242 : (Jvm.Cond.methodLink "SaidSo$Two" (22 : Nat) ({ cls := "SaidSo$Part", name := "of", desc := "([J)J" } : Jvm.MethodName)) ∈ lw_all := lw_g (lw_at lw_m5 144 rfl) rfl
theorem q1243 : (Jvm.Cond.methodLinkNest "SaidSo$Two" (28 : Nat) ({ cls := "SaidSo", name := "sure", desc := "(J)J" } : Jvm.MethodName) "SaidSo") ∈ lw_tbl := lw_at lw_m5 145 rfl
theorem q1250 : (Jvm.Cond.methodLink "SaidSo$Two" (32 : Nat) ({ cls := "SaidSo$Two", name := "times", desc := "(JJ)J" } : Jvm.MethodName)) ∈ lw_all := lw_g (lw_at lw_m5 152 rfl) rfl
theorem q1251 : (Jvm.Cond.static ({ cls := "SaidSo$Two", name := "times", desc := "(JJ)J" } : Jvm.MethodName)) ∈ lw_all := lw_g (lw_at lw_m5 153 rfl) rfl
theorem q1252 : (Jvm.Cond.code ({ cls := "SaidSo$Two", name := "times", desc := "(JJ)J" } : Jvm.MethodName) prog_15_method_4_code (4 : Nat) (Option.some Jvm.ClassFile.FieldType.long)) ∈ lw_all := lw_g (lw_at lw_m5 154 rfl) rfl
theorem q1253 : (Jvm.Cond.methodLink "SaidSo$Two" (44 : Nat) ({ cls := "java/lang/Math", name := "abs", desc := "(J)J" } : Jvm.MethodName)) ∈ lw_all := lw_g (lw_at lw_m5 155 rfl) rfl
theorem q1256 : (Jvm.Cond.constantLong "SaidSo$Two" (49 : Nat) (1000000000000 : Int64)) ∈ lw_all := lw_g (lw_at lw_m5 158 rfl) rfl
theorem q1257 : (Jvm.Cond.fieldLinkNest "SaidSo$Two" (36 : Nat) "SaidSo" "TROUBLE" "LSaidSo$Trouble;" "SaidSo") ∈ lw_tbl := lw_at lw_m5 159 rfl
theorem q1258 : (Jvm.Cond.methodLink "SaidSo$Two" (40 : Nat) ({ cls := "SaidSo$Two", name := "is", desc := "(Z)J" } : Jvm.MethodName)) ∈ lw_all := lw_g (lw_at lw_m5 160 rfl) rfl
theorem q1259 : (Jvm.Cond.static ({ cls := "SaidSo$Two", name := "is", desc := "(Z)J" } : Jvm.MethodName)) ∈ lw_all := lw_g (lw_at lw_m5 161 rfl) rfl
theorem q1260 : (Jvm.Cond.code ({ cls := "SaidSo$Two", name := "is", desc := "(Z)J" } : Jvm.MethodName) prog_15_method_2_code (1 : Nat) (Option.some Jvm.ClassFile.FieldType.long)) ∈ lw_all := lw_g (lw_at lw_m5 162 rfl) rfl
theorem q1262 : (Jvm.Cond.selects "SaidSo$Two" ({ cls := "SaidSo$Part", name := "of", desc := "([J)J" } : Jvm.MethodName) ({ cls := "SaidSo$Two", name := "of", desc := "([J)J" } : Jvm.MethodName)) ∈ lw_all := lw_g (lw_at lw_m5 164 rfl) rfl
theorem q2091 : (Jvm.Cond.castable "SaidSo$Two" "java/lang/Object") ∈ lw_tbl := lw_at lw_m9 33 rfl
theorem q2100 : (Jvm.Cond.castable "SaidSo$Two" "SaidSo$Part") ∈ lw_tbl := lw_at lw_m9 42 rfl
theorem in_X16 : ∀ w ∈ wsX160, w ∈ lw_all := lw_in wsX160 [946, 942, 944] (by decide +kernel) (by decide +kernel)

/-! java/lang/RuntimeException -/
set_option maxRecDepth 100000
def RJ14 : String := "java/lang/RuntimeException"
abbrev cJ14_init : ByteArray := prog_30_method_2_code
def yJ14_init : MethodName := ⟨RJ14, "<init>", "(Ljava/lang/String;)V"⟩
def dkwJ14_init_0 : List UInt8 := [42, 43, 183, 0, 7, 177]
abbrev dktJ14_init_0 : List UInt8 := dkwJ14_init_0 ++ []
theorem dksJ14_init_0 : cJ14_init.data.toList.drop 0 = dktJ14_init_0 := by decide +kernel
theorem dJ14_init_0 : decode cJ14_init 0 = .ok (.aload_n 0, 1) := dk_42 (dk_at dksJ14_init_0 0 rfl rfl)
theorem dJ14_init_1 : decode cJ14_init 1 = .ok (.aload_n 1, 1) := dk_43 (dk_at dksJ14_init_0 1 rfl rfl)
theorem dJ14_init_2 : decode cJ14_init 2 = .ok (.invokespecial 7, 3) := dk_183 0 7 (dk_at dksJ14_init_0 2 rfl rfl)
theorem dJ14_init_5 : decode cJ14_init 5 = .ok (.return_, 1) := dk_177 (dk_at dksJ14_init_0 5 rfl rfl)
abbrev cJ14_init_2 : ByteArray := prog_30_method_1_code
def yJ14_init_2 : MethodName := ⟨RJ14, "<init>", "()V"⟩
theorem dJ14_init_2_0 : decode cJ14_init_2 0 = .ok (.aload_n 0, 1) := by decide +kernel
theorem dJ14_init_2_1 : decode cJ14_init_2 1 = .ok (.invokespecial 1, 3) := by decide +kernel
theorem dJ14_init_2_4 : decode cJ14_init_2 4 = .ok (.return_, 1) := by decide +kernel
theorem q170 : (Jvm.Cond.initialized "java/lang/RuntimeException") ∈ lw_all := lw_g (lw_at lw_m1 32 rfl) rfl
theorem q1335 : (Jvm.Cond.instanceMethod ({ cls := "java/lang/RuntimeException", name := "<init>", desc := "(Ljava/lang/String;)V" } : Jvm.MethodName)) ∈ lw_all := lw_g (lw_at lw_m5 237 rfl) rfl
theorem q1336 : (Jvm.Cond.code ({ cls := "java/lang/RuntimeException", name := "<init>", desc := "(Ljava/lang/String;)V" } : Jvm.MethodName) prog_30_method_2_code (2 : Nat) (Option.none : Option Jvm.ClassFile.FieldType)) ∈ lw_all := lw_g (lw_at lw_m5 238 rfl) rfl
theorem q1337 : (Jvm.Cond.methodLink "java/lang/RuntimeException" (7 : Nat) ({ cls := "java/lang/Exception", name := "<init>", desc := "(Ljava/lang/String;)V" } : Jvm.MethodName)) ∈ lw_all := lw_g (lw_at lw_m5 239 rfl) rfl
theorem q1353 : (Jvm.Cond.declares ({ cls := "java/lang/RuntimeException", name := "<init>", desc := "()V" } : Jvm.MethodName)) ∈ lw_tbl := lw_at lw_m6 15 rfl
theorem q1354 : (Jvm.Cond.declares ({ cls := "java/lang/RuntimeException", name := "<init>", desc := "(Ljava/lang/String;)V" } : Jvm.MethodName)) ∈ lw_tbl := lw_at lw_m6 16 rfl
theorem q1379 : (Jvm.Cond.instanceMethod ({ cls := "java/lang/RuntimeException", name := "<init>", desc := "()V" } : Jvm.MethodName)) ∈ lw_all := lw_g (lw_at lw_m6 41 rfl) rfl
theorem q1380 : (Jvm.Cond.code ({ cls := "java/lang/RuntimeException", name := "<init>", desc := "()V" } : Jvm.MethodName) prog_30_method_1_code (1 : Nat) (Option.none : Option Jvm.ClassFile.FieldType)) ∈ lw_all := lw_g (lw_at lw_m6 42 rfl) rfl
theorem q1381 : (Jvm.Cond.methodLink "java/lang/RuntimeException" (1 : Nat) ({ cls := "java/lang/Exception", name := "<init>", desc := "()V" } : Jvm.MethodName)) ∈ lw_all := lw_g (lw_at lw_m6 43 rfl) rfl

/-! java/lang/IndexOutOfBoundsException -/
set_option maxRecDepth 100000
def RJ15 : String := "java/lang/IndexOutOfBoundsException"
def TJ15 : u_T := fun k => match k with
  | 0 => ("java/lang/Throwable", "cause", "Ljava/lang/Throwable;", false)
  | 1 => ("java/lang/Throwable", "stackTrace", "[Ljava/lang/StackTraceElement;", false)
  | 2 => ("java/lang/Throwable", "suppressedExceptions", "Ljava/util/List;", false)
  | 3 => ("java/lang/Throwable", "detailMessage", "Ljava/lang/String;", false)
  | 4 => ("java/lang/Throwable", "backtrace", "Ljava/lang/Object;", false)
  | _ => ("java/lang/Throwable", "depth", "I", false)
def tyJ15 : Nat → FieldType := fun k => match k with
  | 0 => .object "java/lang/Throwable"
  | 1 => .array (.object "java/lang/StackTraceElement")
  | 2 => .object "java/util/List"
  | 3 => .object "java/lang/String"
  | 4 => .object "java/lang/Object"
  | _ => .int
abbrev wsJ150 : List Cond := u_ws RJ15 TJ15 6
theorem nmJ15 : ∀ a, a < 6 → ∀ b, b < 6 → a ≠ b → (TJ15 a).2.1 ≠ (TJ15 b).2.1 := by decide +kernel
theorem tyJ15_ok : ∀ k, k < 6 → parseFieldDescriptor (TJ15 k).2.2.1 = some (tyJ15 k) := by decide +kernel
abbrev cJ15_init : ByteArray := prog_26_method_2_code
def yJ15_init : MethodName := ⟨RJ15, "<init>", "(Ljava/lang/String;)V"⟩
def dkwJ15_init_0 : List UInt8 := [42, 43, 183, 0, 7, 177]
abbrev dktJ15_init_0 : List UInt8 := dkwJ15_init_0 ++ []
theorem dksJ15_init_0 : cJ15_init.data.toList.drop 0 = dktJ15_init_0 := by decide +kernel
theorem dJ15_init_0 : decode cJ15_init 0 = .ok (.aload_n 0, 1) := dk_42 (dk_at dksJ15_init_0 0 rfl rfl)
theorem dJ15_init_1 : decode cJ15_init 1 = .ok (.aload_n 1, 1) := dk_43 (dk_at dksJ15_init_0 1 rfl rfl)
theorem dJ15_init_2 : decode cJ15_init 2 = .ok (.invokespecial 7, 3) := dk_183 0 7 (dk_at dksJ15_init_0 2 rfl rfl)
theorem dJ15_init_5 : decode cJ15_init 5 = .ok (.return_, 1) := dk_177 (dk_at dksJ15_init_0 5 rfl rfl)
abbrev cJ15_init_2 : ByteArray := prog_26_method_1_code
def yJ15_init_2 : MethodName := ⟨RJ15, "<init>", "()V"⟩
theorem dJ15_init_2_0 : decode cJ15_init_2 0 = .ok (.aload_n 0, 1) := by decide +kernel
theorem dJ15_init_2_1 : decode cJ15_init_2 1 = .ok (.invokespecial 1, 3) := by decide +kernel
theorem dJ15_init_2_4 : decode cJ15_init_2 4 = .ok (.return_, 1) := by decide +kernel
theorem q171 : (Jvm.Cond.initialized "java/lang/IndexOutOfBoundsException") ∈ lw_all := lw_g (lw_at lw_m1 33 rfl) rfl
theorem q552 : (Jvm.Cond.selects "java/lang/IndexOutOfBoundsException" ({ cls := "java/lang/Throwable", name := "fillInStackTrace", desc := "()Ljava/lang/Throwable;" } : Jvm.MethodName) ({ cls := "java/lang/Throwable", name := "fillInStackTrace", desc := "()Ljava/lang/Throwable;" } : Jvm.MethodName)) ∈ lw_all := lw_g (lw_at lw_m2 174 rfl) rfl
theorem q712 : (Jvm.Cond.selects "java/lang/IndexOutOfBoundsException" ({ cls := "java/lang/Object", name := "getClass", desc := "()Ljava/lang/Class;" } : Jvm.MethodName) ({ cls := "java/lang/Object", name := "getClass", desc := "()Ljava/lang/Class;" } : Jvm.MethodName)) ∈ lw_all := lw_g (lw_at lw_m3 94 rfl) rfl
theorem q1332 : (Jvm.Cond.instanceMethod ({ cls := "java/lang/IndexOutOfBoundsException", name := "<init>", desc := "(Ljava/lang/String;)V" } : Jvm.MethodName)) ∈ lw_all := lw_g (lw_at lw_m5 234 rfl) rfl
theorem q1333 : (Jvm.Cond.code ({ cls := "java/lang/IndexOutOfBoundsException", name := "<init>", desc := "(Ljava/lang/String;)V" } : Jvm.MethodName) prog_26_method_2_code (2 : Nat) (Option.none : Option Jvm.ClassFile.FieldType)) ∈ lw_all := lw_g (lw_at lw_m5 235 rfl) rfl
theorem q1334 : (Jvm.Cond.methodLink "java/lang/IndexOutOfBoundsException" (7 : Nat) ({ cls := "java/lang/RuntimeException", name := "<init>", desc := "(Ljava/lang/String;)V" } : Jvm.MethodName)) ∈ lw_all := lw_g (lw_at lw_m5 236 rfl) rfl
theorem q1351 : (Jvm.Cond.declares ({ cls := "java/lang/IndexOutOfBoundsException", name := "<init>", desc := "()V" } : Jvm.MethodName)) ∈ lw_tbl := lw_at lw_m6 13 rfl
theorem q1352 : (Jvm.Cond.declares ({ cls := "java/lang/IndexOutOfBoundsException", name := "<init>", desc := "(Ljava/lang/String;)V" } : Jvm.MethodName)) ∈ lw_tbl := lw_at lw_m6 14 rfl
theorem q1367 : (Jvm.Cond.instantiable "java/lang/IndexOutOfBoundsException" (6 : Nat)) ∈ lw_all := lw_g (lw_at lw_m6 29 rfl) rfl
theorem q1368 : (Jvm.Cond.castable "java/lang/IndexOutOfBoundsException" "java/lang/IndexOutOfBoundsException") ∈ lw_tbl := lw_at lw_m6 30 rfl
theorem q1369 : (Jvm.Cond.selects "java/lang/IndexOutOfBoundsException" ({ cls := "java/lang/Throwable", name := "fillInStackTrace", desc := "(I)Ljava/lang/Throwable;" } : Jvm.MethodName) ({ cls := "java/lang/Throwable", name := "fillInStackTrace", desc := "(I)Ljava/lang/Throwable;" } : Jvm.MethodName)) ∈ lw_all := lw_g (lw_at lw_m6 31 rfl) rfl
theorem q1370 : (Jvm.Cond.lays "java/lang/IndexOutOfBoundsException" "java/lang/Throwable" "cause" "Ljava/lang/Throwable;") ∈ lw_all := lw_g (lw_at lw_m6 32 rfl) rfl
theorem q1371 : (Jvm.Cond.lays "java/lang/IndexOutOfBoundsException" "java/lang/Throwable" "stackTrace" "[Ljava/lang/StackTraceElement;") ∈ lw_all := lw_g (lw_at lw_m6 33 rfl) rfl
theorem q1372 : (Jvm.Cond.lays "java/lang/IndexOutOfBoundsException" "java/lang/Throwable" "suppressedExceptions" "Ljava/util/List;") ∈ lw_all := lw_g (lw_at lw_m6 34 rfl) rfl
theorem q1373 : (Jvm.Cond.lays "java/lang/IndexOutOfBoundsException" "java/lang/Throwable" "detailMessage" "Ljava/lang/String;") ∈ lw_all := lw_g (lw_at lw_m6 35 rfl) rfl
theorem q1374 : (Jvm.Cond.lays "java/lang/IndexOutOfBoundsException" "java/lang/Throwable" "backtrace" "Ljava/lang/Object;") ∈ lw_all := lw_g (lw_at lw_m6 36 rfl) rfl
theorem q1376 : (Jvm.Cond.instanceMethod ({ cls := "java/lang/IndexOutOfBoundsException", name := "<init>", desc := "()V" } : Jvm.MethodName)) ∈ lw_all := lw_g (lw_at lw_m6 38 rfl) rfl
theorem q1377 : (Jvm.Cond.code ({ cls := "java/lang/IndexOutOfBoundsException", name := "<init>", desc := "()V" } : Jvm.MethodName) prog_26_method_1_code (1 : Nat) (Option.none : Option Jvm.ClassFile.FieldType)) ∈ lw_all := lw_g (lw_at lw_m6 39 rfl) rfl
theorem q1378 : (Jvm.Cond.methodLink "java/lang/IndexOutOfBoundsException" (1 : Nat) ({ cls := "java/lang/RuntimeException", name := "<init>", desc := "()V" } : Jvm.MethodName)) ∈ lw_all := lw_g (lw_at lw_m6 40 rfl) rfl
theorem q1385 : (Jvm.Cond.lays "java/lang/IndexOutOfBoundsException" "java/lang/Throwable" "depth" "I") ∈ lw_all := lw_g (lw_at lw_m6 47 rfl) rfl
theorem q1386 : (Jvm.Cond.superclass "java/lang/IndexOutOfBoundsException" "java/lang/RuntimeException") ∈ lw_all := lw_g (lw_at lw_m6 48 rfl) rfl
theorem q2094 : (Jvm.Cond.castable "java/lang/IndexOutOfBoundsException" "java/lang/Object") ∈ lw_tbl := lw_at lw_m9 36 rfl
theorem in_J15 : ∀ w ∈ wsJ150, w ∈ lw_all := lw_in wsJ150 [1370, 1371, 1372, 1373, 1374, 1385] (by decide +kernel) (by decide +kernel)

/-! java/lang/ArrayIndexOutOfBoundsException -/
set_option maxRecDepth 100000
def RJ16 : String := "java/lang/ArrayIndexOutOfBoundsException"
def TJ16 : u_T := fun k => match k with
  | 0 => ("java/lang/Throwable", "backtrace", "Ljava/lang/Object;", false)
  | 1 => ("java/lang/Throwable", "detailMessage", "Ljava/lang/String;", false)
  | 2 => ("java/lang/Throwable", "cause", "Ljava/lang/Throwable;", false)
  | 3 => ("java/lang/Throwable", "stackTrace", "[Ljava/lang/StackTraceElement;", false)
  | 4 => ("java/lang/Throwable", "depth", "I", false)
  | _ => ("java/lang/Throwable", "suppressedExceptions", "Ljava/util/List;", false)
def tyJ16 : Nat → FieldType := fun k => match k with
  | 0 => .object "java/lang/Object"
  | 1 => .object "java/lang/String"
  | 2 => .object "java/lang/Throwable"
  | 3 => .array (.object "java/lang/StackTraceElement")
  | 4 => .int
  | _ => .object "java/util/List"
abbrev wsJ160 : List Cond := u_ws RJ16 TJ16 6
theorem nmJ16 : ∀ a, a < 6 → ∀ b, b < 6 → a ≠ b → (TJ16 a).2.1 ≠ (TJ16 b).2.1 := by decide +kernel
theorem tyJ16_ok : ∀ k, k < 6 → parseFieldDescriptor (TJ16 k).2.2.1 = some (tyJ16 k) := by decide +kernel
abbrev cJ16_init : ByteArray := prog_20_method_2_code
def yJ16_init : MethodName := ⟨RJ16, "<init>", "(Ljava/lang/String;)V"⟩
def dkwJ16_init_0 : List UInt8 := [42, 43, 183, 0, 7, 177]
abbrev dktJ16_init_0 : List UInt8 := dkwJ16_init_0 ++ []
theorem dksJ16_init_0 : cJ16_init.data.toList.drop 0 = dktJ16_init_0 := by decide +kernel
theorem dJ16_init_0 : decode cJ16_init 0 = .ok (.aload_n 0, 1) := dk_42 (dk_at dksJ16_init_0 0 rfl rfl)
theorem dJ16_init_1 : decode cJ16_init 1 = .ok (.aload_n 1, 1) := dk_43 (dk_at dksJ16_init_0 1 rfl rfl)
theorem dJ16_init_2 : decode cJ16_init 2 = .ok (.invokespecial 7, 3) := dk_183 0 7 (dk_at dksJ16_init_0 2 rfl rfl)
theorem dJ16_init_5 : decode cJ16_init 5 = .ok (.return_, 1) := dk_177 (dk_at dksJ16_init_0 5 rfl rfl)
theorem q172 : (Jvm.Cond.initialized "java/lang/ArrayIndexOutOfBoundsException") ∈ lw_all := lw_g (lw_at lw_m1 34 rfl) rfl
theorem q551 : (Jvm.Cond.selects "java/lang/ArrayIndexOutOfBoundsException" ({ cls := "java/lang/Throwable", name := "fillInStackTrace", desc := "()Ljava/lang/Throwable;" } : Jvm.MethodName) ({ cls := "java/lang/Throwable", name := "fillInStackTrace", desc := "()Ljava/lang/Throwable;" } : Jvm.MethodName)) ∈ lw_all := lw_g (lw_at lw_m2 173 rfl) rfl
theorem q711 : (Jvm.Cond.selects "java/lang/ArrayIndexOutOfBoundsException" ({ cls := "java/lang/Object", name := "getClass", desc := "()Ljava/lang/Class;" } : Jvm.MethodName) ({ cls := "java/lang/Object", name := "getClass", desc := "()Ljava/lang/Class;" } : Jvm.MethodName)) ∈ lw_all := lw_g (lw_at lw_m3 93 rfl) rfl
theorem q1328 : (Jvm.Cond.instantiable "java/lang/ArrayIndexOutOfBoundsException" (6 : Nat)) ∈ lw_all := lw_g (lw_at lw_m5 230 rfl) rfl
theorem q1329 : (Jvm.Cond.instanceMethod ({ cls := "java/lang/ArrayIndexOutOfBoundsException", name := "<init>", desc := "(Ljava/lang/String;)V" } : Jvm.MethodName)) ∈ lw_all := lw_g (lw_at lw_m5 231 rfl) rfl
theorem q1330 : (Jvm.Cond.code ({ cls := "java/lang/ArrayIndexOutOfBoundsException", name := "<init>", desc := "(Ljava/lang/String;)V" } : Jvm.MethodName) prog_20_method_2_code (2 : Nat) (Option.none : Option Jvm.ClassFile.FieldType)) ∈ lw_all := lw_g (lw_at lw_m5 232 rfl) rfl
theorem q1331 : (Jvm.Cond.methodLink "java/lang/ArrayIndexOutOfBoundsException" (7 : Nat) ({ cls := "java/lang/IndexOutOfBoundsException", name := "<init>", desc := "(Ljava/lang/String;)V" } : Jvm.MethodName)) ∈ lw_all := lw_g (lw_at lw_m5 233 rfl) rfl
theorem q1343 : (Jvm.Cond.lays "java/lang/ArrayIndexOutOfBoundsException" "java/lang/Throwable" "backtrace" "Ljava/lang/Object;") ∈ lw_all := lw_g (lw_at lw_m6 5 rfl) rfl
theorem q1344 : (Jvm.Cond.lays "java/lang/ArrayIndexOutOfBoundsException" "java/lang/Throwable" "detailMessage" "Ljava/lang/String;") ∈ lw_all := lw_g (lw_at lw_m6 6 rfl) rfl
theorem q1345 : (Jvm.Cond.lays "java/lang/ArrayIndexOutOfBoundsException" "java/lang/Throwable" "cause" "Ljava/lang/Throwable;") ∈ lw_all := lw_g (lw_at lw_m6 7 rfl) rfl
theorem q1346 : (Jvm.Cond.lays "java/lang/ArrayIndexOutOfBoundsException" "java/lang/Throwable" "stackTrace" "[Ljava/lang/StackTraceElement;") ∈ lw_all := lw_g (lw_at lw_m6 8 rfl) rfl
theorem q1347 : (Jvm.Cond.lays "java/lang/ArrayIndexOutOfBoundsException" "java/lang/Throwable" "depth" "I") ∈ lw_all := lw_g (lw_at lw_m6 9 rfl) rfl
theorem q1348 : (Jvm.Cond.lays "java/lang/ArrayIndexOutOfBoundsException" "java/lang/Throwable" "suppressedExceptions" "Ljava/util/List;") ∈ lw_all := lw_g (lw_at lw_m6 10 rfl) rfl
theorem q1349 : (Jvm.Cond.superclass "java/lang/ArrayIndexOutOfBoundsException" "java/lang/IndexOutOfBoundsException") ∈ lw_all := lw_g (lw_at lw_m6 11 rfl) rfl
theorem q1350 : (Jvm.Cond.castable "java/lang/ArrayIndexOutOfBoundsException" "java/lang/ArrayIndexOutOfBoundsException") ∈ lw_tbl := lw_at lw_m6 12 rfl
theorem q1355 : (Jvm.Cond.selects "java/lang/ArrayIndexOutOfBoundsException" ({ cls := "java/lang/Throwable", name := "fillInStackTrace", desc := "(I)Ljava/lang/Throwable;" } : Jvm.MethodName) ({ cls := "java/lang/Throwable", name := "fillInStackTrace", desc := "(I)Ljava/lang/Throwable;" } : Jvm.MethodName)) ∈ lw_all := lw_g (lw_at lw_m6 17 rfl) rfl
theorem q2073 : (Jvm.Cond.castable "java/lang/ArrayIndexOutOfBoundsException" "java/lang/IndexOutOfBoundsException") ∈ lw_tbl := lw_at lw_m9 15 rfl
theorem q2093 : (Jvm.Cond.castable "java/lang/ArrayIndexOutOfBoundsException" "java/lang/Object") ∈ lw_tbl := lw_at lw_m9 35 rfl
theorem in_J16 : ∀ w ∈ wsJ160, w ∈ lw_all := lw_in wsJ160 [1343, 1344, 1345, 1346, 1347, 1348] (by decide +kernel) (by decide +kernel)

/-! java/util/NoSuchElementException -/
set_option maxRecDepth 100000
def RJ17 : String := "java/util/NoSuchElementException"
def TJ17 : u_T := fun k => match k with
  | 0 => ("java/lang/Throwable", "cause", "Ljava/lang/Throwable;", false)
  | 1 => ("java/lang/Throwable", "stackTrace", "[Ljava/lang/StackTraceElement;", false)
  | 2 => ("java/lang/Throwable", "suppressedExceptions", "Ljava/util/List;", false)
  | 3 => ("java/lang/Throwable", "detailMessage", "Ljava/lang/String;", false)
  | 4 => ("java/lang/Throwable", "backtrace", "Ljava/lang/Object;", false)
  | _ => ("java/lang/Throwable", "depth", "I", false)
def tyJ17 : Nat → FieldType := fun k => match k with
  | 0 => .object "java/lang/Throwable"
  | 1 => .array (.object "java/lang/StackTraceElement")
  | 2 => .object "java/util/List"
  | 3 => .object "java/lang/String"
  | 4 => .object "java/lang/Object"
  | _ => .int
abbrev wsJ170 : List Cond := u_ws RJ17 TJ17 6
theorem nmJ17 : ∀ a, a < 6 → ∀ b, b < 6 → a ≠ b → (TJ17 a).2.1 ≠ (TJ17 b).2.1 := by decide +kernel
theorem tyJ17_ok : ∀ k, k < 6 → parseFieldDescriptor (TJ17 k).2.2.1 = some (tyJ17 k) := by decide +kernel
abbrev cJ17_init : ByteArray := prog_44_method_1_code
def yJ17_init : MethodName := ⟨RJ17, "<init>", "()V"⟩
theorem dJ17_init_0 : decode cJ17_init 0 = .ok (.aload_n 0, 1) := by decide +kernel
theorem dJ17_init_1 : decode cJ17_init 1 = .ok (.invokespecial 1, 3) := by decide +kernel
theorem dJ17_init_4 : decode cJ17_init 4 = .ok (.return_, 1) := by decide +kernel
theorem q173 : (Jvm.Cond.initialized "java/util/NoSuchElementException") ∈ lw_all := lw_g (lw_at lw_m1 35 rfl) rfl
theorem q553 : (Jvm.Cond.selects "java/util/NoSuchElementException" ({ cls := "java/lang/Throwable", name := "fillInStackTrace", desc := "()Ljava/lang/Throwable;" } : Jvm.MethodName) ({ cls := "java/lang/Throwable", name := "fillInStackTrace", desc := "()Ljava/lang/Throwable;" } : Jvm.MethodName)) ∈ lw_all := lw_g (lw_at lw_m2 175 rfl) rfl
theorem q714 : (Jvm.Cond.selects "java/util/NoSuchElementException" ({ cls := "java/lang/Object", name := "getClass", desc := "()Ljava/lang/Class;" } : Jvm.MethodName) ({ cls := "java/lang/Object", name := "getClass", desc := "()Ljava/lang/Class;" } : Jvm.MethodName)) ∈ lw_all := lw_g (lw_at lw_m3 96 rfl) rfl
theorem q1388 : (Jvm.Cond.instantiable "java/util/NoSuchElementException" (6 : Nat)) ∈ lw_all := lw_g (lw_at lw_m6 50 rfl) rfl
theorem q1389 : (Jvm.Cond.castable "java/util/NoSuchElementException" "java/util/NoSuchElementException") ∈ lw_tbl := lw_at lw_m6 51 rfl
theorem q1390 : (Jvm.Cond.selects "java/util/NoSuchElementException" ({ cls := "java/lang/Throwable", name := "fillInStackTrace", desc := "(I)Ljava/lang/Throwable;" } : Jvm.MethodName) ({ cls := "java/lang/Throwable", name := "fillInStackTrace", desc := "(I)Ljava/lang/Throwable;" } : Jvm.MethodName)) ∈ lw_all := lw_g (lw_at lw_m6 52 rfl) rfl
theorem q1391 : (Jvm.Cond.lays "java/util/NoSuchElementException" "java/lang/Throwable" "cause" "Ljava/lang/Throwable;") ∈ lw_all := lw_g (lw_at lw_m6 53 rfl) rfl
theorem q1392 : (Jvm.Cond.lays "java/util/NoSuchElementException" "java/lang/Throwable" "stackTrace" "[Ljava/lang/StackTraceElement;") ∈ lw_all := lw_g (lw_at lw_m6 54 rfl) rfl
theorem q1393 : (Jvm.Cond.lays "java/util/NoSuchElementException" "java/lang/Throwable" "suppressedExceptions" "Ljava/util/List;") ∈ lw_all := lw_g (lw_at lw_m6 55 rfl) rfl
theorem q1394 : (Jvm.Cond.lays "java/util/NoSuchElementException" "java/lang/Throwable" "detailMessage" "Ljava/lang/String;") ∈ lw_all := lw_g (lw_at lw_m6 56 rfl) rfl
theorem q1395 : (Jvm.Cond.lays "java/util/NoSuchElementException" "java/lang/Throwable" "backtrace" "Ljava/lang/Object;") ∈ lw_all := lw_g (lw_at lw_m6 57 rfl) rfl
theorem q1397 : (Jvm.Cond.instanceMethod ({ cls := "java/util/NoSuchElementException", name := "<init>", desc := "()V" } : Jvm.MethodName)) ∈ lw_all := lw_g (lw_at lw_m6 59 rfl) rfl
theorem q1398 : (Jvm.Cond.code ({ cls := "java/util/NoSuchElementException", name := "<init>", desc := "()V" } : Jvm.MethodName) prog_44_method_1_code (1 : Nat) (Option.none : Option Jvm.ClassFile.FieldType)) ∈ lw_all := lw_g (lw_at lw_m6 60 rfl) rfl
theorem q1399 : (Jvm.Cond.methodLink "java/util/NoSuchElementException" (1 : Nat) ({ cls := "java/lang/RuntimeException", name := "<init>", desc := "()V" } : Jvm.MethodName)) ∈ lw_all := lw_g (lw_at lw_m6 61 rfl) rfl
theorem q1400 : (Jvm.Cond.lays "java/util/NoSuchElementException" "java/lang/Throwable" "depth" "I") ∈ lw_all := lw_g (lw_at lw_m6 62 rfl) rfl
theorem q1401 : (Jvm.Cond.superclass "java/util/NoSuchElementException" "java/lang/RuntimeException") ∈ lw_all := lw_g (lw_at lw_m6 63 rfl) rfl
theorem q2095 : (Jvm.Cond.castable "java/util/NoSuchElementException" "java/lang/Object") ∈ lw_tbl := lw_at lw_m9 37 rfl
theorem in_J17 : ∀ w ∈ wsJ170, w ∈ lw_all := lw_in wsJ170 [1391, 1392, 1393, 1394, 1395, 1400] (by decide +kernel) (by decide +kernel)

/-! java/lang/Integer -/
set_option maxRecDepth 100000
def RJ18 : String := "java/lang/Integer"
abbrev cJ18_bitCount : ByteArray := prog_27_method_49_code
def yJ18_bitCount : MethodName := ⟨RJ18, "bitCount", "(I)I"⟩
def dkwJ18_bitCount_2 : List UInt8 := [26, 16, 63, 126, 172]
abbrev dktJ18_bitCount_2 : List UInt8 := dkwJ18_bitCount_2 ++ []
def dkwJ18_bitCount_1 : List UInt8 := [26, 26, 7, 124, 96, 19, 1, 11, 126, 59, 26, 26, 16, 8, 124, 96, 59, 26, 26, 16, 16, 124, 96, 59]
abbrev dktJ18_bitCount_1 : List UInt8 := dkwJ18_bitCount_1 ++ dktJ18_bitCount_2
def dkwJ18_bitCount_0 : List UInt8 := [26, 26, 4, 124, 19, 1, 9, 126, 100, 59, 26, 19, 1, 10, 126, 26, 5, 124, 19, 1, 10, 126, 96, 59]
abbrev dktJ18_bitCount_0 : List UInt8 := dkwJ18_bitCount_0 ++ dktJ18_bitCount_1
theorem dksJ18_bitCount_0 : cJ18_bitCount.data.toList.drop 0 = dktJ18_bitCount_0 := by decide +kernel
theorem dksJ18_bitCount_1 : cJ18_bitCount.data.toList.drop 24 = dktJ18_bitCount_1 := dk_seg dksJ18_bitCount_0 24 rfl rfl
theorem dksJ18_bitCount_2 : cJ18_bitCount.data.toList.drop 48 = dktJ18_bitCount_2 := dk_seg dksJ18_bitCount_1 24 rfl rfl
theorem dJ18_bitCount_0 : decode cJ18_bitCount 0 = .ok (.iload_n 0, 1) := dk_26 (dk_at dksJ18_bitCount_0 0 rfl rfl)
theorem dJ18_bitCount_1 : decode cJ18_bitCount 1 = .ok (.iload_n 0, 1) := dk_26 (dk_at dksJ18_bitCount_0 1 rfl rfl)
theorem dJ18_bitCount_2 : decode cJ18_bitCount 2 = .ok (.iconst 1, 1) := dk_4 (dk_at dksJ18_bitCount_0 2 rfl rfl)
theorem dJ18_bitCount_3 : decode cJ18_bitCount 3 = .ok (.iushr, 1) := dk_124 (dk_at dksJ18_bitCount_0 3 rfl rfl)
theorem dJ18_bitCount_4 : decode cJ18_bitCount 4 = .ok (.ldc_w 265, 3) := dk_19 1 9 (dk_at dksJ18_bitCount_0 4 rfl rfl)
theorem dJ18_bitCount_7 : decode cJ18_bitCount 7 = .ok (.iand, 1) := dk_126 (dk_at dksJ18_bitCount_0 7 rfl rfl)
theorem dJ18_bitCount_8 : decode cJ18_bitCount 8 = .ok (.isub, 1) := dk_100 (dk_at dksJ18_bitCount_0 8 rfl rfl)
theorem dJ18_bitCount_9 : decode cJ18_bitCount 9 = .ok (.istore_n 0, 1) := dk_59 (dk_at dksJ18_bitCount_0 9 rfl rfl)
theorem dJ18_bitCount_10 : decode cJ18_bitCount 10 = .ok (.iload_n 0, 1) := dk_26 (dk_at dksJ18_bitCount_0 10 rfl rfl)
theorem dJ18_bitCount_11 : decode cJ18_bitCount 11 = .ok (.ldc_w 266, 3) := dk_19 1 10 (dk_at dksJ18_bitCount_0 11 rfl rfl)
theorem dJ18_bitCount_14 : decode cJ18_bitCount 14 = .ok (.iand, 1) := dk_126 (dk_at dksJ18_bitCount_0 14 rfl rfl)
theorem dJ18_bitCount_15 : decode cJ18_bitCount 15 = .ok (.iload_n 0, 1) := dk_26 (dk_at dksJ18_bitCount_0 15 rfl rfl)
theorem dJ18_bitCount_16 : decode cJ18_bitCount 16 = .ok (.iconst 2, 1) := dk_5 (dk_at dksJ18_bitCount_0 16 rfl rfl)
theorem dJ18_bitCount_17 : decode cJ18_bitCount 17 = .ok (.iushr, 1) := dk_124 (dk_at dksJ18_bitCount_0 17 rfl rfl)
theorem dJ18_bitCount_18 : decode cJ18_bitCount 18 = .ok (.ldc_w 266, 3) := dk_19 1 10 (dk_at dksJ18_bitCount_0 18 rfl rfl)
theorem dJ18_bitCount_21 : decode cJ18_bitCount 21 = .ok (.iand, 1) := dk_126 (dk_at dksJ18_bitCount_0 21 rfl rfl)
theorem dJ18_bitCount_22 : decode cJ18_bitCount 22 = .ok (.iadd, 1) := dk_96 (dk_at dksJ18_bitCount_0 22 rfl rfl)
theorem dJ18_bitCount_23 : decode cJ18_bitCount 23 = .ok (.istore_n 0, 1) := dk_59 (dk_at dksJ18_bitCount_0 23 rfl rfl)
theorem dJ18_bitCount_24 : decode cJ18_bitCount 24 = .ok (.iload_n 0, 1) := dk_26 (dk_at dksJ18_bitCount_1 0 rfl rfl)
theorem dJ18_bitCount_25 : decode cJ18_bitCount 25 = .ok (.iload_n 0, 1) := dk_26 (dk_at dksJ18_bitCount_1 1 rfl rfl)
theorem dJ18_bitCount_26 : decode cJ18_bitCount 26 = .ok (.iconst 4, 1) := dk_7 (dk_at dksJ18_bitCount_1 2 rfl rfl)
theorem dJ18_bitCount_27 : decode cJ18_bitCount 27 = .ok (.iushr, 1) := dk_124 (dk_at dksJ18_bitCount_1 3 rfl rfl)
theorem dJ18_bitCount_28 : decode cJ18_bitCount 28 = .ok (.iadd, 1) := dk_96 (dk_at dksJ18_bitCount_1 4 rfl rfl)
theorem dJ18_bitCount_29 : decode cJ18_bitCount 29 = .ok (.ldc_w 267, 3) := dk_19 1 11 (dk_at dksJ18_bitCount_1 5 rfl rfl)
theorem dJ18_bitCount_32 : decode cJ18_bitCount 32 = .ok (.iand, 1) := dk_126 (dk_at dksJ18_bitCount_1 8 rfl rfl)
theorem dJ18_bitCount_33 : decode cJ18_bitCount 33 = .ok (.istore_n 0, 1) := dk_59 (dk_at dksJ18_bitCount_1 9 rfl rfl)
theorem dJ18_bitCount_34 : decode cJ18_bitCount 34 = .ok (.iload_n 0, 1) := dk_26 (dk_at dksJ18_bitCount_1 10 rfl rfl)
theorem dJ18_bitCount_35 : decode cJ18_bitCount 35 = .ok (.iload_n 0, 1) := dk_26 (dk_at dksJ18_bitCount_1 11 rfl rfl)
theorem dJ18_bitCount_36 : decode cJ18_bitCount 36 = .ok (.bipush 8, 2) := dk_16 8 (dk_at dksJ18_bitCount_1 12 rfl rfl)
theorem dJ18_bitCount_38 : decode cJ18_bitCount 38 = .ok (.iushr, 1) := dk_124 (dk_at dksJ18_bitCount_1 14 rfl rfl)
theorem dJ18_bitCount_39 : decode cJ18_bitCount 39 = .ok (.iadd, 1) := dk_96 (dk_at dksJ18_bitCount_1 15 rfl rfl)
theorem dJ18_bitCount_40 : decode cJ18_bitCount 40 = .ok (.istore_n 0, 1) := dk_59 (dk_at dksJ18_bitCount_1 16 rfl rfl)
theorem dJ18_bitCount_41 : decode cJ18_bitCount 41 = .ok (.iload_n 0, 1) := dk_26 (dk_at dksJ18_bitCount_1 17 rfl rfl)
theorem dJ18_bitCount_42 : decode cJ18_bitCount 42 = .ok (.iload_n 0, 1) := dk_26 (dk_at dksJ18_bitCount_1 18 rfl rfl)
theorem dJ18_bitCount_43 : decode cJ18_bitCount 43 = .ok (.bipush 16, 2) := dk_16 16 (dk_at dksJ18_bitCount_1 19 rfl rfl)
theorem dJ18_bitCount_45 : decode cJ18_bitCount 45 = .ok (.iushr, 1) := dk_124 (dk_at dksJ18_bitCount_1 21 rfl rfl)
theorem dJ18_bitCount_46 : decode cJ18_bitCount 46 = .ok (.iadd, 1) := dk_96 (dk_at dksJ18_bitCount_1 22 rfl rfl)
theorem dJ18_bitCount_47 : decode cJ18_bitCount 47 = .ok (.istore_n 0, 1) := dk_59 (dk_at dksJ18_bitCount_1 23 rfl rfl)
theorem dJ18_bitCount_48 : decode cJ18_bitCount 48 = .ok (.iload_n 0, 1) := dk_26 (dk_at dksJ18_bitCount_2 0 rfl rfl)
theorem dJ18_bitCount_49 : decode cJ18_bitCount 49 = .ok (.bipush 63, 2) := dk_16 63 (dk_at dksJ18_bitCount_2 1 rfl rfl)
theorem dJ18_bitCount_51 : decode cJ18_bitCount 51 = .ok (.iand, 1) := dk_126 (dk_at dksJ18_bitCount_2 3 rfl rfl)
theorem dJ18_bitCount_52 : decode cJ18_bitCount 52 = .ok (.ireturn, 1) := dk_172 (dk_at dksJ18_bitCount_2 4 rfl rfl)
theorem q174 : (Jvm.Cond.initialized "java/lang/Integer") ∈ lw_all := lw_g (lw_at lw_m1 36 rfl) rfl
theorem q1190 : (Jvm.Cond.static ({ cls := "java/lang/Integer", name := "bitCount", desc := "(I)I" } : Jvm.MethodName)) ∈ lw_all := lw_g (lw_at lw_m5 92 rfl) rfl
theorem q1191 : (Jvm.Cond.code ({ cls := "java/lang/Integer", name := "bitCount", desc := "(I)I" } : Jvm.MethodName) prog_27_method_49_code (1 : Nat) (Option.some Jvm.ClassFile.FieldType.int)) ∈ lw_all := lw_g (lw_at lw_m5 93 rfl) rfl
theorem q1192 : (Jvm.Cond.constant "java/lang/Integer" (265 : Nat) (1431655765 : Int32)) ∈ lw_all := lw_g (lw_at lw_m5 94 rfl) rfl
theorem q1193 : (Jvm.Cond.constant "java/lang/Integer" (266 : Nat) (858993459 : Int32)) ∈ lw_all := lw_g (lw_at lw_m5 95 rfl) rfl
theorem q1194 : (Jvm.Cond.constant "java/lang/Integer" (267 : Nat) (252645135 : Int32)) ∈ lw_all := lw_g (lw_at lw_m5 96 rfl) rfl

/-! java/lang/Object -/
set_option maxRecDepth 100000
def RJ19 : String := "java/lang/Object"
abbrev cJ19_init : ByteArray := object_method_1_code
def yJ19_init : MethodName := ⟨RJ19, "<init>", "()V"⟩
theorem dJ19_init_0 : decode cJ19_init 0 = .ok (.return_, 1) := by decide +kernel
theorem q181 : (Jvm.Cond.instanceMethod ({ cls := "java/lang/Object", name := "<init>", desc := "()V" } : Jvm.MethodName)) ∈ lw_all := lw_g (lw_at lw_m1 43 rfl) rfl
theorem q182 : (Jvm.Cond.code ({ cls := "java/lang/Object", name := "<init>", desc := "()V" } : Jvm.MethodName) object_method_1_code (1 : Nat) (Option.none : Option Jvm.ClassFile.FieldType)) ∈ lw_all := lw_g (lw_at lw_m1 44 rfl) rfl
theorem q694 : (Jvm.Cond.instanceMethod ({ cls := "java/lang/Object", name := "getClass", desc := "()Ljava/lang/Class;" } : Jvm.MethodName)) ∈ lw_all := lw_g (lw_at lw_m3 76 rfl) rfl
theorem q695 : (Jvm.Cond.sameMethod "java/lang/Object" "java/lang/Object" "getClass" "()Ljava/lang/Class;") ∈ lw_all := lw_g (lw_at lw_m3 77 rfl) rfl
theorem q715 : (Jvm.Cond.native ({ cls := "java/lang/Object", name := "getClass", desc := "()Ljava/lang/Class;" } : Jvm.MethodName)) ∈ lw_all := lw_g (lw_at lw_m3 97 rfl) rfl
theorem q2071 : (Jvm.Cond.initialized "java/lang/Object") ∈ lw_all := lw_g (lw_at lw_m9 13 rfl) rfl
theorem q2104 : (Jvm.Cond.declares ({ cls := "java/lang/Object", name := "getClass", desc := "()Ljava/lang/Class;" } : Jvm.MethodName)) ∈ lw_tbl := lw_at lw_m9 46 rfl

theorem q214 : (Jvm.Cond.arrayClass Jvm.ClassFile.FieldType.byte) ∈ lw_all := lw_g (lw_at lw_m1 76 rfl) rfl
set_option maxRecDepth 100000
theorem q234 : (Jvm.Cond.arrayOver (Jvm.ClassFile.FieldType.object "java/lang/Object")) ∈ lw_tbl := lw_at lw_m1 96 rfl
theorem q250 : (Jvm.Cond.arrayOver (Jvm.ClassFile.FieldType.object "SaidSo$Part")) ∈ lw_tbl := lw_at lw_m1 112 rfl
theorem q352 : (Jvm.Cond.arrayClass Jvm.ClassFile.FieldType.long) ∈ lw_all := lw_g (lw_at lw_m1 214 rfl) rfl
theorem q353 : (Jvm.Cond.arrayClass Jvm.ClassFile.FieldType.int) ∈ lw_all := lw_g (lw_at lw_m1 215 rfl) rfl
theorem q1619 : (Jvm.Cond.arrayClass Jvm.ClassFile.FieldType.boolean) ∈ lw_all := lw_g (lw_at lw_m7 41 rfl) rfl
theorem q2141 : (Jvm.Cond.arrayOver (Jvm.ClassFile.FieldType.object "java/lang/String")) ∈ lw_tbl := lw_at lw_m9 83 rfl

theorem q159 : (Jvm.Cond.initialized "java/lang/System") ∈ lw_all := lw_g (lw_at lw_m1 21 rfl) rfl
set_option maxRecDepth 100000
theorem q723 : (Jvm.Cond.static ({ cls := "java/lang/System", name := "arraycopy", desc := "(Ljava/lang/Object;ILjava/lang/Object;II)V" } : Jvm.MethodName)) ∈ lw_all := lw_g (lw_at lw_m3 105 rfl) rfl
theorem q724 : (Jvm.Cond.native ({ cls := "java/lang/System", name := "arraycopy", desc := "(Ljava/lang/Object;ILjava/lang/Object;II)V" } : Jvm.MethodName)) ∈ lw_all := lw_g (lw_at lw_m3 106 rfl) rfl

theorem q550 : (Jvm.Cond.selects "SaidSo$Trouble" ({ cls := "java/lang/Throwable", name := "fillInStackTrace", desc := "()Ljava/lang/Throwable;" } : Jvm.MethodName) ({ cls := "java/lang/Throwable", name := "fillInStackTrace", desc := "()Ljava/lang/Throwable;" } : Jvm.MethodName)) ∈ lw_all := lw_g (lw_at lw_m2 172 rfl) rfl
set_option maxRecDepth 100000
theorem q707 : (Jvm.Cond.selects "SaidSo$Trouble" ({ cls := "java/lang/Object", name := "getClass", desc := "()Ljava/lang/Class;" } : Jvm.MethodName) ({ cls := "java/lang/Object", name := "getClass", desc := "()Ljava/lang/Class;" } : Jvm.MethodName)) ∈ lw_all := lw_g (lw_at lw_m3 89 rfl) rfl
theorem q2072 : (Jvm.Cond.castable "SaidSo$Trouble" "SaidSo$Trouble") ∈ lw_tbl := lw_at lw_m9 14 rfl
theorem q2096 : (Jvm.Cond.castable "SaidSo$Trouble" "java/lang/Object") ∈ lw_tbl := lw_at lw_m9 38 rfl

theorem q2102 : (Jvm.Cond.sameMethod "[Ljava/lang/Object;" "java/lang/Object" "getClass" "()Ljava/lang/Class;") ∈ lw_all := lw_g (lw_at lw_m9 44 rfl) rfl
set_option maxRecDepth 100000
theorem q2103 : (Jvm.Cond.selects "[Ljava/lang/Object;" ({ cls := "java/lang/Object", name := "getClass", desc := "()Ljava/lang/Class;" } : Jvm.MethodName) ({ cls := "java/lang/Object", name := "getClass", desc := "()Ljava/lang/Class;" } : Jvm.MethodName)) ∈ lw_all := lw_g (lw_at lw_m9 45 rfl) rfl
theorem q2106 : (Jvm.Cond.castable "[Ljava/lang/Object;" "java/lang/Object") ∈ lw_tbl := lw_at lw_m9 48 rfl

theorem q2105 : (Jvm.Cond.castable "[B" "java/lang/Object") ∈ lw_tbl := lw_at lw_m9 47 rfl
set_option maxRecDepth 100000

theorem q2107 : (Jvm.Cond.castable "[LSaidSo$Part;" "java/lang/Object") ∈ lw_tbl := lw_at lw_m9 49 rfl
set_option maxRecDepth 100000

theorem q2108 : (Jvm.Cond.castable "[J" "java/lang/Object") ∈ lw_tbl := lw_at lw_m9 50 rfl
set_option maxRecDepth 100000

theorem q2109 : (Jvm.Cond.castable "[I" "java/lang/Object") ∈ lw_tbl := lw_at lw_m9 51 rfl
set_option maxRecDepth 100000

theorem q2110 : (Jvm.Cond.castable "[Z" "java/lang/Object") ∈ lw_tbl := lw_at lw_m9 52 rfl
set_option maxRecDepth 100000

theorem q2111 : (Jvm.Cond.castable "[Ljava/lang/String;" "java/lang/Object") ∈ lw_tbl := lw_at lw_m9 53 rfl
set_option maxRecDepth 100000
