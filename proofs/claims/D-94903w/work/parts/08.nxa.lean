/-! RugReaderLaw -/
set_option maxRecDepth 100000
def RX0 : String := "RugReaderLaw"
abbrev cX0_person : ByteArray := method_3_code
def yX0_person : MethodName := ⟨RX0, "person", "(LRugReader;II[J)I"⟩
def dkwX0_person_0 : List UInt8 := [45, 3, 42, 27, 28, 182, 0, 7, 133, 80, 167, 0, 7, 58, 4, 4, 172, 3, 172]
abbrev dktX0_person_0 : List UInt8 := dkwX0_person_0 ++ []
theorem dksX0_person_0 : cX0_person.data.toList.drop 0 = dktX0_person_0 := by decide +kernel
theorem dX0_person_0 : decode cX0_person 0 = .ok (.aload_n 3, 1) := dk_45 (dk_at dksX0_person_0 0 rfl rfl)
theorem dX0_person_1 : decode cX0_person 1 = .ok (.iconst 0, 1) := dk_3 (dk_at dksX0_person_0 1 rfl rfl)
theorem dX0_person_2 : decode cX0_person 2 = .ok (.aload_n 0, 1) := dk_42 (dk_at dksX0_person_0 2 rfl rfl)
theorem dX0_person_3 : decode cX0_person 3 = .ok (.iload_n 1, 1) := dk_27 (dk_at dksX0_person_0 3 rfl rfl)
theorem dX0_person_4 : decode cX0_person 4 = .ok (.iload_n 2, 1) := dk_28 (dk_at dksX0_person_0 4 rfl rfl)
theorem dX0_person_5 : decode cX0_person 5 = .ok (.invokevirtual 7, 3) := dk_182 0 7 (dk_at dksX0_person_0 5 rfl rfl)
theorem dX0_person_8 : decode cX0_person 8 = .ok (.i2l, 1) := dk_133 (dk_at dksX0_person_0 8 rfl rfl)
theorem dX0_person_9 : decode cX0_person 9 = .ok (.lastore, 1) := dk_80 (dk_at dksX0_person_0 9 rfl rfl)
theorem dX0_person_10 : decode cX0_person 10 = .ok (.goto 7, 3) := dk_167 0 7 (dk_at dksX0_person_0 10 rfl rfl)
theorem dX0_person_13 : decode cX0_person 13 = .ok (.astore 4, 2) := dk_58 4 (dk_at dksX0_person_0 13 rfl rfl)
theorem dX0_person_15 : decode cX0_person 15 = .ok (.iconst 1, 1) := dk_4 (dk_at dksX0_person_0 15 rfl rfl)
theorem dX0_person_16 : decode cX0_person 16 = .ok (.ireturn, 1) := dk_172 (dk_at dksX0_person_0 16 rfl rfl)
theorem dX0_person_17 : decode cX0_person 17 = .ok (.iconst 0, 1) := dk_3 (dk_at dksX0_person_0 17 rfl rfl)
theorem dX0_person_18 : decode cX0_person 18 = .ok (.ireturn, 1) := dk_172 (dk_at dksX0_person_0 18 rfl rfl)
abbrev cX0_tuft : ByteArray := method_4_code
def yX0_tuft : MethodName := ⟨RX0, "tuft", "(LRugReader;II[J)I"⟩
def dkwX0_tuft_0 : List UInt8 := [45, 3, 42, 27, 28, 182, 0, 15, 133, 80, 167, 0, 7, 58, 4, 4, 172, 3, 172]
abbrev dktX0_tuft_0 : List UInt8 := dkwX0_tuft_0 ++ []
theorem dksX0_tuft_0 : cX0_tuft.data.toList.drop 0 = dktX0_tuft_0 := by decide +kernel
theorem dX0_tuft_0 : decode cX0_tuft 0 = .ok (.aload_n 3, 1) := dk_45 (dk_at dksX0_tuft_0 0 rfl rfl)
theorem dX0_tuft_1 : decode cX0_tuft 1 = .ok (.iconst 0, 1) := dk_3 (dk_at dksX0_tuft_0 1 rfl rfl)
theorem dX0_tuft_2 : decode cX0_tuft 2 = .ok (.aload_n 0, 1) := dk_42 (dk_at dksX0_tuft_0 2 rfl rfl)
theorem dX0_tuft_3 : decode cX0_tuft 3 = .ok (.iload_n 1, 1) := dk_27 (dk_at dksX0_tuft_0 3 rfl rfl)
theorem dX0_tuft_4 : decode cX0_tuft 4 = .ok (.iload_n 2, 1) := dk_28 (dk_at dksX0_tuft_0 4 rfl rfl)
theorem dX0_tuft_5 : decode cX0_tuft 5 = .ok (.invokevirtual 15, 3) := dk_182 0 15 (dk_at dksX0_tuft_0 5 rfl rfl)
theorem dX0_tuft_8 : decode cX0_tuft 8 = .ok (.i2l, 1) := dk_133 (dk_at dksX0_tuft_0 8 rfl rfl)
theorem dX0_tuft_9 : decode cX0_tuft 9 = .ok (.lastore, 1) := dk_80 (dk_at dksX0_tuft_0 9 rfl rfl)
theorem dX0_tuft_10 : decode cX0_tuft 10 = .ok (.goto 7, 3) := dk_167 0 7 (dk_at dksX0_tuft_0 10 rfl rfl)
theorem dX0_tuft_13 : decode cX0_tuft 13 = .ok (.astore 4, 2) := dk_58 4 (dk_at dksX0_tuft_0 13 rfl rfl)
theorem dX0_tuft_15 : decode cX0_tuft 15 = .ok (.iconst 1, 1) := dk_4 (dk_at dksX0_tuft_0 15 rfl rfl)
theorem dX0_tuft_16 : decode cX0_tuft 16 = .ok (.ireturn, 1) := dk_172 (dk_at dksX0_tuft_0 16 rfl rfl)
theorem dX0_tuft_17 : decode cX0_tuft 17 = .ok (.iconst 0, 1) := dk_3 (dk_at dksX0_tuft_0 17 rfl rfl)
theorem dX0_tuft_18 : decode cX0_tuft 18 = .ok (.ireturn, 1) := dk_172 (dk_at dksX0_tuft_0 18 rfl rfl)
theorem q102 : (Jvm.Cond.initialized "RugReaderLaw") ∈ lw_all := lw_g (lw_at lw_m1 0 rfl) rfl
theorem q142 : (Jvm.Cond.classLink "RugReaderLaw" (8 : Nat) "RugReader") ∈ lw_all := lw_g (lw_at lw_m1 40 rfl) rfl
theorem q144 : (Jvm.Cond.methodLink "RugReaderLaw" (18 : Nat) ({ cls := "RugReader", name := "<init>", desc := "()V" } : Jvm.MethodName)) ∈ lw_all := lw_g (lw_at lw_m1 42 rfl) rfl
theorem q421 : (Jvm.Cond.methodLink "RugReaderLaw" (22 : Nat) ({ cls := "RugReader", name := "feed", desc := "(IIIII)I" } : Jvm.MethodName)) ∈ lw_all := lw_g (lw_at lw_m2 79 rfl) rfl
theorem q429 : (Jvm.Cond.methodLink "RugReaderLaw" (27 : Nat) ({ cls := "RugReader", name := "end", desc := "(I)Z" } : Jvm.MethodName)) ∈ lw_all := lw_g (lw_at lw_m2 87 rfl) rfl
theorem q433 : (Jvm.Cond.methodLink "RugReaderLaw" (32 : Nat) ({ cls := "RugReader", name := "house", desc := "()I" } : Jvm.MethodName)) ∈ lw_all := lw_g (lw_at lw_m2 91 rfl) rfl
theorem q1137 : (Jvm.Cond.methodLink "RugReaderLaw" (37 : Nat) ({ cls := "RugReader", name := "fault", desc := "()I" } : Jvm.MethodName)) ∈ lw_all := lw_g (lw_at lw_m5 75 rfl) rfl
theorem q1141 : (Jvm.Cond.methodLink "RugReaderLaw" (53 : Nat) ({ cls := "RugReader", name := "way", desc := "(II)I" } : Jvm.MethodName)) ∈ lw_all := lw_g (lw_at lw_m5 79 rfl) rfl
theorem q1153 : (Jvm.Cond.methodLink "RugReaderLaw" (57 : Nat) ({ cls := "RugReader", name := "goes", desc := "(III)I" } : Jvm.MethodName)) ∈ lw_all := lw_g (lw_at lw_m5 91 rfl) rfl
theorem q1184 : (Jvm.Cond.methodLink "RugReaderLaw" (62 : Nat) ({ cls := "RugReader", name := "days", desc := "(I)I" } : Jvm.MethodName)) ∈ lw_all := lw_g (lw_at lw_m5 122 rfl) rfl
theorem q1196 : (Jvm.Cond.methodLink "RugReaderLaw" (67 : Nat) ({ cls := "RugReader", name := "beat", desc := "(II)I" } : Jvm.MethodName)) ∈ lw_all := lw_g (lw_at lw_m5 134 rfl) rfl
theorem q1207 : (Jvm.Cond.methodLink "RugReaderLaw" (71 : Nat) ({ cls := "RugReader", name := "undo", desc := "()I" } : Jvm.MethodName)) ∈ lw_all := lw_g (lw_at lw_m5 145 rfl) rfl
theorem q1211 : (Jvm.Cond.methodLink "RugReaderLaw" (75 : Nat) ({ cls := "RugReader", name := "hidden", desc := "(I)I" } : Jvm.MethodName)) ∈ lw_all := lw_g (lw_at lw_m5 149 rfl) rfl
theorem q1228 : (Jvm.Cond.methodLink "RugReaderLaw" (79 : Nat) ({ cls := "RugReader", name := "missing", desc := "(I)I" } : Jvm.MethodName)) ∈ lw_all := lw_g (lw_at lw_m5 166 rfl) rfl
theorem q1232 : (Jvm.Cond.methodLink "RugReaderLaw" (83 : Nat) ({ cls := "RugReader", name := "soles", desc := "(I)I" } : Jvm.MethodName)) ∈ lw_all := lw_g (lw_at lw_m5 170 rfl) rfl
theorem q1236 : (Jvm.Cond.methodLink "RugReaderLaw" (87 : Nat) ({ cls := "RugReader", name := "deepest", desc := "()I" } : Jvm.MethodName)) ∈ lw_all := lw_g (lw_at lw_m5 174 rfl) rfl
theorem q1241 : (Jvm.Cond.methodLink "RugReaderLaw" (91 : Nat) ({ cls := "RugReader", name := "who", desc := "(I)I" } : Jvm.MethodName)) ∈ lw_all := lw_g (lw_at lw_m5 179 rfl) rfl
theorem q1250 : (Jvm.Cond.methodLink "RugReaderLaw" (95 : Nat) ({ cls := "RugReader", name := "age", desc := "(II)I" } : Jvm.MethodName)) ∈ lw_all := lw_g (lw_at lw_m5 188 rfl) rfl
theorem q1254 : (Jvm.Cond.methodLink "RugReaderLaw" (99 : Nat) ({ cls := "RugReader", name := "readings", desc := "()I" } : Jvm.MethodName)) ∈ lw_all := lw_g (lw_at lw_m5 192 rfl) rfl
theorem q1285 : (Jvm.Cond.methodLink "RugReaderLaw" (103 : Nat) ({ cls := "RugReader", name := "read", desc := "(II)I" } : Jvm.MethodName)) ∈ lw_all := lw_g (lw_at lw_m5 223 rfl) rfl
theorem q1289 : (Jvm.Cond.methodLink "RugReaderLaw" (107 : Nat) ({ cls := "RugReader", name := "fewest", desc := "()I" } : Jvm.MethodName)) ∈ lw_all := lw_g (lw_at lw_m5 227 rfl) rfl
theorem q1293 : (Jvm.Cond.methodLink "RugReaderLaw" (111 : Nat) ({ cls := "RugReader", name := "sign", desc := "(III)I" } : Jvm.MethodName)) ∈ lw_all := lw_g (lw_at lw_m5 231 rfl) rfl
theorem q1315 : (Jvm.Cond.methodLink "RugReaderLaw" (115 : Nat) ({ cls := "RugReader", name := "steps", desc := "(III)I" } : Jvm.MethodName)) ∈ lw_all := lw_g (lw_at lw_m6 13 rfl) rfl
theorem q1319 : (Jvm.Cond.methodLink "RugReaderLaw" (119 : Nat) ({ cls := "RugReader", name := "walk", desc := "()I" } : Jvm.MethodName)) ∈ lw_all := lw_g (lw_at lw_m6 17 rfl) rfl
theorem q1409 : (Jvm.Cond.methodLink "RugReaderLaw" (123 : Nat) ({ cls := "RugReader", name := "walked", desc := "(I)I" } : Jvm.MethodName)) ∈ lw_all := lw_g (lw_at lw_m6 107 rfl) rfl
theorem q1413 : (Jvm.Cond.methodLink "RugReaderLaw" (127 : Nat) ({ cls := "RugReader", name := "seen", desc := "(II)I" } : Jvm.MethodName)) ∈ lw_all := lw_g (lw_at lw_m6 111 rfl) rfl
theorem q1443 : (Jvm.Cond.methodLink "RugReaderLaw" (131 : Nat) ({ cls := "RugReader", name := "lay", desc := "(I)I" } : Jvm.MethodName)) ∈ lw_all := lw_g (lw_at lw_m6 141 rfl) rfl
theorem q1447 : (Jvm.Cond.methodLink "RugReaderLaw" (139 : Nat) ({ cls := "RugReader", name := "ways", desc := "(I)I" } : Jvm.MethodName)) ∈ lw_all := lw_g (lw_at lw_m6 145 rfl) rfl
theorem q1460 : (Jvm.Cond.methodLink "RugReaderLaw" (135 : Nat) ({ cls := "RugReader", name := "spot", desc := "()I" } : Jvm.MethodName)) ∈ lw_all := lw_g (lw_at lw_m6 158 rfl) rfl
theorem q1464 : (Jvm.Cond.methodLink "RugReaderLaw" (143 : Nat) ({ cls := "RugReader", name := "both", desc := "(II)I" } : Jvm.MethodName)) ∈ lw_all := lw_g (lw_at lw_m6 162 rfl) rfl
theorem q1468 : (Jvm.Cond.methodLink "RugReaderLaw" (147 : Nat) ({ cls := "RugReader", name := "years", desc := "(III)I" } : Jvm.MethodName)) ∈ lw_all := lw_g (lw_at lw_m6 166 rfl) rfl
theorem q1481 : (Jvm.Cond.methodLink "RugReaderLaw" (151 : Nat) ({ cls := "RugReader", name := "rarest", desc := "()I" } : Jvm.MethodName)) ∈ lw_all := lw_g (lw_at lw_m6 179 rfl) rfl
theorem q1485 : (Jvm.Cond.methodLink "RugReaderLaw" (155 : Nat) ({ cls := "RugReader", name := "sentence", desc := "()I" } : Jvm.MethodName)) ∈ lw_all := lw_g (lw_at lw_m6 183 rfl) rfl
theorem q1627 : (Jvm.Cond.methodLink "RugReaderLaw" (159 : Nat) ({ cls := "RugReader", name := "said", desc := "(I)I" } : Jvm.MethodName)) ∈ lw_all := lw_g (lw_at lw_m7 85 rfl) rfl
theorem q1672 : (Jvm.Cond.methodLink "RugReaderLaw" (163 : Nat) ({ cls := "RugReader", name := "image", desc := "(I)Z" } : Jvm.MethodName)) ∈ lw_all := lw_g (lw_at lw_m7 130 rfl) rfl
theorem q1676 : (Jvm.Cond.methodLink "RugReaderLaw" (167 : Nat) ({ cls := "RugReader", name := "restore", desc := "(I)Z" } : Jvm.MethodName)) ∈ lw_all := lw_g (lw_at lw_m7 134 rfl) rfl
theorem q1680 : (Jvm.Cond.methodLink "RugReaderLaw" (171 : Nat) ({ cls := "RugReader", name := "count", desc := "(I)I" } : Jvm.MethodName)) ∈ lw_all := lw_g (lw_at lw_m7 138 rfl) rfl
theorem q1684 : (Jvm.Cond.methodLink "RugReaderLaw" (41 : Nat) ({ cls := "RugReaderLaw", name := "person", desc := "(LRugReader;II[J)I" } : Jvm.MethodName)) ∈ lw_all := lw_g (lw_at lw_m7 142 rfl) rfl
theorem q1685 : (Jvm.Cond.static ({ cls := "RugReaderLaw", name := "person", desc := "(LRugReader;II[J)I" } : Jvm.MethodName)) ∈ lw_all := lw_g (lw_at lw_m7 143 rfl) rfl
theorem q1686 : (Jvm.Cond.codeWith ({ cls := "RugReaderLaw", name := "person", desc := "(LRugReader;II[J)I" } : Jvm.MethodName) method_3_code (5 : Nat) (Option.some Jvm.ClassFile.FieldType.int) [((0 : Nat), (10 : Nat), (13 : Nat), (13 : Nat))]) ∈ lw_all := lw_g (lw_at lw_m7 144 rfl) rfl
theorem q1687 : (Jvm.Cond.classLink "RugReaderLaw" (13 : Nat) "java/util/NoSuchElementException") ∈ lw_all := lw_g (lw_at lw_m7 145 rfl) rfl
theorem q1688 : (Jvm.Cond.methodLink "RugReaderLaw" (7 : Nat) ({ cls := "RugReader", name := "person", desc := "(II)I" } : Jvm.MethodName)) ∈ lw_all := lw_g (lw_at lw_m7 146 rfl) rfl
theorem q1717 : (Jvm.Cond.methodLink "RugReaderLaw" (50 : Nat) ({ cls := "RugReaderLaw", name := "tuft", desc := "(LRugReader;II[J)I" } : Jvm.MethodName)) ∈ lw_all := lw_g (lw_at lw_m7 175 rfl) rfl
theorem q1718 : (Jvm.Cond.static ({ cls := "RugReaderLaw", name := "tuft", desc := "(LRugReader;II[J)I" } : Jvm.MethodName)) ∈ lw_all := lw_g (lw_at lw_m7 176 rfl) rfl
theorem q1719 : (Jvm.Cond.codeWith ({ cls := "RugReaderLaw", name := "tuft", desc := "(LRugReader;II[J)I" } : Jvm.MethodName) method_4_code (5 : Nat) (Option.some Jvm.ClassFile.FieldType.int) [((0 : Nat), (10 : Nat), (13 : Nat), (13 : Nat))]) ∈ lw_all := lw_g (lw_at lw_m7 177 rfl) rfl
theorem q1720 : (Jvm.Cond.methodLink "RugReaderLaw" (15 : Nat) ({ cls := "RugReader", name := "tuft", desc := "(II)I" } : Jvm.MethodName)) ∈ lw_all := lw_g (lw_at lw_m7 178 rfl) rfl
theorem q1725 : (Jvm.Cond.methodLink "RugReaderLaw" (47 : Nat) ({ cls := "RugReaderModel", name := "thrown", desc := "()I" } : Jvm.MethodName)) ∈ lw_all := lw_g (lw_at lw_m7 183 rfl) rfl
theorem q1729 : (Jvm.Cond.methodLink "RugReaderLaw" (26 : Nat) ({ cls := "RugReaderModel", name := "feed", desc := "(IIIII)I" } : Jvm.MethodName)) ∈ lw_all := lw_g (lw_at lw_m7 187 rfl) rfl
theorem q1738 : (Jvm.Cond.methodLink "RugReaderLaw" (31 : Nat) ({ cls := "RugReaderModel", name := "end", desc := "(I)Z" } : Jvm.MethodName)) ∈ lw_all := lw_g (lw_at lw_m7 196 rfl) rfl
theorem q1742 : (Jvm.Cond.classLink "RugReaderLaw" (19 : Nat) "RugReaderModel") ∈ lw_all := lw_g (lw_at lw_m7 200 rfl) rfl
theorem q1743 : (Jvm.Cond.methodLink "RugReaderLaw" (21 : Nat) ({ cls := "RugReaderModel", name := "<init>", desc := "()V" } : Jvm.MethodName)) ∈ lw_all := lw_g (lw_at lw_m7 201 rfl) rfl
theorem q1935 : (Jvm.Cond.methodLink "RugReaderLaw" (36 : Nat) ({ cls := "RugReaderModel", name := "house", desc := "()I" } : Jvm.MethodName)) ∈ lw_all := lw_g (lw_at lw_m8 153 rfl) rfl
theorem q2011 : (Jvm.Cond.methodLink "RugReaderLaw" (40 : Nat) ({ cls := "RugReaderModel", name := "fault", desc := "()I" } : Jvm.MethodName)) ∈ lw_all := lw_g (lw_at lw_m8 229 rfl) rfl
theorem q2015 : (Jvm.Cond.methodLink "RugReaderLaw" (46 : Nat) ({ cls := "RugReaderModel", name := "person", desc := "(II)I" } : Jvm.MethodName)) ∈ lw_all := lw_g (lw_at lw_m8 233 rfl) rfl
theorem q2035 : (Jvm.Cond.methodLink "RugReaderLaw" (52 : Nat) ({ cls := "RugReaderModel", name := "tuft", desc := "(II)I" } : Jvm.MethodName)) ∈ lw_all := lw_g (lw_at lw_m9 13 rfl) rfl
theorem q2055 : (Jvm.Cond.methodLink "RugReaderLaw" (56 : Nat) ({ cls := "RugReaderModel", name := "way", desc := "(II)I" } : Jvm.MethodName)) ∈ lw_all := lw_g (lw_at lw_m9 33 rfl) rfl
theorem q2063 : (Jvm.Cond.methodLink "RugReaderLaw" (74 : Nat) ({ cls := "RugReaderModel", name := "undo", desc := "()I" } : Jvm.MethodName)) ∈ lw_all := lw_g (lw_at lw_m9 41 rfl) rfl
theorem q2067 : (Jvm.Cond.methodLink "RugReaderLaw" (61 : Nat) ({ cls := "RugReaderModel", name := "goes", desc := "(III)I" } : Jvm.MethodName)) ∈ lw_all := lw_g (lw_at lw_m9 45 rfl) rfl
theorem q2083 : (Jvm.Cond.methodLink "RugReaderLaw" (66 : Nat) ({ cls := "RugReaderModel", name := "days", desc := "(I)I" } : Jvm.MethodName)) ∈ lw_all := lw_g (lw_at lw_m9 61 rfl) rfl
theorem q2099 : (Jvm.Cond.methodLink "RugReaderLaw" (70 : Nat) ({ cls := "RugReaderModel", name := "beat", desc := "(II)I" } : Jvm.MethodName)) ∈ lw_all := lw_g (lw_at lw_m9 77 rfl) rfl
theorem q2107 : (Jvm.Cond.methodLink "RugReaderLaw" (78 : Nat) ({ cls := "RugReaderModel", name := "hidden", desc := "(I)I" } : Jvm.MethodName)) ∈ lw_all := lw_g (lw_at lw_m9 85 rfl) rfl
theorem q2115 : (Jvm.Cond.methodLink "RugReaderLaw" (82 : Nat) ({ cls := "RugReaderModel", name := "missing", desc := "(I)I" } : Jvm.MethodName)) ∈ lw_all := lw_g (lw_at lw_m9 93 rfl) rfl
theorem q2119 : (Jvm.Cond.methodLink "RugReaderLaw" (86 : Nat) ({ cls := "RugReaderModel", name := "soles", desc := "(I)I" } : Jvm.MethodName)) ∈ lw_all := lw_g (lw_at lw_m9 97 rfl) rfl
theorem q2123 : (Jvm.Cond.methodLink "RugReaderLaw" (90 : Nat) ({ cls := "RugReaderModel", name := "deepest", desc := "()I" } : Jvm.MethodName)) ∈ lw_all := lw_g (lw_at lw_m9 101 rfl) rfl
theorem q2127 : (Jvm.Cond.methodLink "RugReaderLaw" (94 : Nat) ({ cls := "RugReaderModel", name := "who", desc := "(I)I" } : Jvm.MethodName)) ∈ lw_all := lw_g (lw_at lw_m9 105 rfl) rfl
theorem q2135 : (Jvm.Cond.methodLink "RugReaderLaw" (98 : Nat) ({ cls := "RugReaderModel", name := "age", desc := "(II)I" } : Jvm.MethodName)) ∈ lw_all := lw_g (lw_at lw_m9 113 rfl) rfl
theorem q2139 : (Jvm.Cond.methodLink "RugReaderLaw" (102 : Nat) ({ cls := "RugReaderModel", name := "readings", desc := "()I" } : Jvm.MethodName)) ∈ lw_all := lw_g (lw_at lw_m9 117 rfl) rfl
theorem q2159 : (Jvm.Cond.methodLink "RugReaderLaw" (106 : Nat) ({ cls := "RugReaderModel", name := "read", desc := "(II)I" } : Jvm.MethodName)) ∈ lw_all := lw_g (lw_at lw_m9 137 rfl) rfl
theorem q2163 : (Jvm.Cond.methodLink "RugReaderLaw" (110 : Nat) ({ cls := "RugReaderModel", name := "fewest", desc := "()I" } : Jvm.MethodName)) ∈ lw_all := lw_g (lw_at lw_m9 141 rfl) rfl
theorem q2167 : (Jvm.Cond.methodLink "RugReaderLaw" (114 : Nat) ({ cls := "RugReaderModel", name := "sign", desc := "(III)I" } : Jvm.MethodName)) ∈ lw_all := lw_g (lw_at lw_m9 145 rfl) rfl
theorem q2184 : (Jvm.Cond.methodLink "RugReaderLaw" (118 : Nat) ({ cls := "RugReaderModel", name := "steps", desc := "(III)I" } : Jvm.MethodName)) ∈ lw_all := lw_g (lw_at lw_m9 162 rfl) rfl
theorem q2188 : (Jvm.Cond.methodLink "RugReaderLaw" (122 : Nat) ({ cls := "RugReaderModel", name := "walk", desc := "()I" } : Jvm.MethodName)) ∈ lw_all := lw_g (lw_at lw_m9 166 rfl) rfl
theorem q2196 : (Jvm.Cond.methodLink "RugReaderLaw" (126 : Nat) ({ cls := "RugReaderModel", name := "walked", desc := "(I)I" } : Jvm.MethodName)) ∈ lw_all := lw_g (lw_at lw_m9 174 rfl) rfl
theorem q2200 : (Jvm.Cond.methodLink "RugReaderLaw" (130 : Nat) ({ cls := "RugReaderModel", name := "seen", desc := "(II)I" } : Jvm.MethodName)) ∈ lw_all := lw_g (lw_at lw_m9 178 rfl) rfl
theorem q2224 : (Jvm.Cond.methodLink "RugReaderLaw" (134 : Nat) ({ cls := "RugReaderModel", name := "lay", desc := "(I)I" } : Jvm.MethodName)) ∈ lw_all := lw_g (lw_at lw_m9 202 rfl) rfl
theorem q2228 : (Jvm.Cond.methodLink "RugReaderLaw" (138 : Nat) ({ cls := "RugReaderModel", name := "spot", desc := "()I" } : Jvm.MethodName)) ∈ lw_all := lw_g (lw_at lw_m9 206 rfl) rfl
theorem q2239 : (Jvm.Cond.methodLink "RugReaderLaw" (142 : Nat) ({ cls := "RugReaderModel", name := "ways", desc := "(I)I" } : Jvm.MethodName)) ∈ lw_all := lw_g (lw_at lw_m9 217 rfl) rfl
theorem q2243 : (Jvm.Cond.methodLink "RugReaderLaw" (146 : Nat) ({ cls := "RugReaderModel", name := "both", desc := "(II)I" } : Jvm.MethodName)) ∈ lw_all := lw_g (lw_at lw_m9 221 rfl) rfl
theorem q2250 : (Jvm.Cond.methodLink "RugReaderLaw" (150 : Nat) ({ cls := "RugReaderModel", name := "years", desc := "(III)I" } : Jvm.MethodName)) ∈ lw_all := lw_g (lw_at lw_m9 228 rfl) rfl
theorem q2259 : (Jvm.Cond.methodLink "RugReaderLaw" (154 : Nat) ({ cls := "RugReaderModel", name := "rarest", desc := "()I" } : Jvm.MethodName)) ∈ lw_all := lw_g (lw_at lw_m9 237 rfl) rfl
theorem q2263 : (Jvm.Cond.methodLink "RugReaderLaw" (158 : Nat) ({ cls := "RugReaderModel", name := "sentence", desc := "()I" } : Jvm.MethodName)) ∈ lw_all := lw_g (lw_at lw_m10 1 rfl) rfl
theorem q2291 : (Jvm.Cond.methodLink "RugReaderLaw" (162 : Nat) ({ cls := "RugReaderModel", name := "said", desc := "(I)I" } : Jvm.MethodName)) ∈ lw_all := lw_g (lw_at lw_m10 29 rfl) rfl
theorem q2308 : (Jvm.Cond.methodLink "RugReaderLaw" (166 : Nat) ({ cls := "RugReaderModel", name := "image", desc := "(I)Z" } : Jvm.MethodName)) ∈ lw_all := lw_g (lw_at lw_m10 46 rfl) rfl
theorem q2312 : (Jvm.Cond.methodLink "RugReaderLaw" (170 : Nat) ({ cls := "RugReaderModel", name := "restore", desc := "(I)Z" } : Jvm.MethodName)) ∈ lw_all := lw_g (lw_at lw_m10 50 rfl) rfl
theorem q2316 : (Jvm.Cond.methodLink "RugReaderLaw" (174 : Nat) ({ cls := "RugReaderModel", name := "count", desc := "(I)I" } : Jvm.MethodName)) ∈ lw_all := lw_g (lw_at lw_m10 54 rfl) rfl
/-! RugReader -/
set_option maxRecDepth 100000
def RX1 : String := "RugReader"
def TX1 : u_T := fun k => match k with
  | 0 => ("RugReader", "tape", "[B", true)
  | 1 => ("RugReader", "taped", "I", false)
  | 2 => ("RugReader", "fault", "I", false)
  | 3 => ("RugReader", "house", "LRugReader$House;", false)
  | 4 => ("RugReader", "now", "LRugReader$Rug;", true)
  | 5 => ("RugReader", "sentence", "LRugReader$Cond;", false)
  | 6 => ("RugReader", "before", "[LRugReader$Rug;", true)
  | 7 => ("RugReader", "befores", "I", false)
  | 8 => ("RugReader", "toldTuft", "[I", true)
  | 9 => ("RugReader", "toldDepth", "[I", true)
  | 10 => ("RugReader", "toldSole", "[I", true)
  | 11 => ("RugReader", "walker", "[I", true)
  | 12 => ("RugReader", "firstWalker", "[I", true)
  | 13 => ("RugReader", "sureWalker", "[I", true)
  | 14 => ("RugReader", "over", "[[I", true)
  | 15 => ("RugReader", "toldMany", "I", false)
  | 16 => ("RugReader", "fewestMany", "I", false)
  | 17 => ("RugReader", "readWays", "I", false)
  | 18 => ("RugReader", "found", "I", false)
  | 19 => ("RugReader", "cost", "[I", true)
  | 20 => ("RugReader", "done", "[Z", true)
  | 21 => ("RugReader", "walked", "[I", true)
  | 22 => ("RugReader", "cut", "[Z", true)
  | 23 => ("RugReader", "through", "[Z", true)
  | 24 => ("RugReader", "flows", "[[Z", true)
  | 25 => ("RugReader", "behind", "[I", true)
  | 26 => ("RugReader", "queue", "[I", true)
  | 27 => ("RugReader", "queued", "I", false)
  | 28 => ("RugReader", "laid", "[I", true)
  | 29 => ("RugReader", "laidMany", "I", false)
  | 30 => ("RugReader", "seed", "I", false)
  | _ => ("RugReader", "kept", "[LRugReader$Kept;", true)
def tyX1 : Nat → FieldType := fun k => match k with
  | 0 => .array .byte
  | 1 => .int
  | 2 => .int
  | 3 => .object "RugReader$House"
  | 4 => .object "RugReader$Rug"
  | 5 => .object "RugReader$Cond"
  | 6 => .array (.object "RugReader$Rug")
  | 7 => .int
  | 8 => .array .int
  | 9 => .array .int
  | 10 => .array .int
  | 11 => .array .int
  | 12 => .array .int
  | 13 => .array .int
  | 14 => .array (.array .int)
  | 15 => .int
  | 16 => .int
  | 17 => .int
  | 18 => .int
  | 19 => .array .int
  | 20 => .array .boolean
  | 21 => .array .int
  | 22 => .array .boolean
  | 23 => .array .boolean
  | 24 => .array (.array .boolean)
  | 25 => .array .int
  | 26 => .array .int
  | 27 => .int
  | 28 => .array .int
  | 29 => .int
  | 30 => .int
  | _ => .array (.object "RugReader$Kept")
abbrev wsX10 : List Cond := u_ws RX1 TX1 32
set_option maxRecDepth 100000 in
theorem nmX1 : ∀ a, a < 32 → ∀ b, b < 32 → a ≠ b → (TX1 a).2.1 ≠ (TX1 b).2.1 := by decide +kernel
set_option maxRecDepth 100000 in
theorem tyX1_ok : ∀ k, k < 32 → parseFieldDescriptor (TX1 k).2.2.1 = some (tyX1 k) := by decide +kernel
abbrev cX1_init : ByteArray := prog_1_method_4_code
def yX1_init : MethodName := ⟨RX1, "<init>", "()V"⟩
def dkwX1_init_11 : List UInt8 := [132, 1, 1, 167, 255, 234, 177]
abbrev dktX1_init_11 : List UInt8 := dkwX1_init_11 ++ []
def dkwX1_init_10 : List UInt8 := [181, 0, 99, 3, 60, 27, 16, 6, 162, 0, 22, 42, 180, 0, 34, 27, 187, 0, 23, 89, 183, 0, 25, 83]
abbrev dktX1_init_10 : List UInt8 := dkwX1_init_10 ++ dktX1_init_11
def dkwX1_init_9 : List UInt8 := [189, 0, 96, 89, 3, 187, 0, 96, 89, 183, 0, 98, 83, 89, 4, 187, 0, 96, 89, 183, 0, 98, 83]
abbrev dktX1_init_9 : List UInt8 := dkwX1_init_9 ++ dktX1_init_10
def dkwX1_init_8 : List UInt8 := [188, 10, 181, 0, 87, 42, 17, 1, 32, 188, 10, 181, 0, 90, 42, 7, 188, 10, 181, 0, 93, 42, 5]
abbrev dktX1_init_8 : List UInt8 := dkwX1_init_8 ++ dktX1_init_9
def dkwX1_init_7 : List UInt8 := [17, 0, 144, 188, 4, 181, 0, 79, 42, 17, 0, 144, 7, 197, 0, 82, 2, 181, 0, 84, 42, 17, 1, 32]
abbrev dktX1_init_7 : List UInt8 := dkwX1_init_7 ++ dktX1_init_8
def dkwX1_init_6 : List UInt8 := [2, 79, 89, 5, 2, 79, 89, 6, 2, 79, 181, 0, 73, 42, 17, 0, 144, 188, 4, 181, 0, 76, 42]
abbrev dktX1_init_6 : List UInt8 := dkwX1_init_6 ++ dktX1_init_7
def dkwX1_init_5 : List UInt8 := [188, 10, 181, 0, 66, 42, 17, 0, 144, 188, 4, 181, 0, 69, 42, 7, 188, 10, 89, 3, 2, 79, 89, 4]
abbrev dktX1_init_5 : List UInt8 := dkwX1_init_5 ++ dktX1_init_6
def dkwX1_init_4 : List UInt8 := [181, 0, 54, 42, 16, 6, 16, 8, 197, 0, 57, 2, 181, 0, 59, 42, 2, 181, 0, 62, 42, 17, 0, 144]
abbrev dktX1_init_4 : List UInt8 := dkwX1_init_4 ++ dktX1_init_5
def dkwX1_init_3 : List UInt8 := [181, 0, 45, 42, 16, 6, 188, 10, 181, 0, 48, 42, 16, 6, 188, 10, 181, 0, 51, 42, 16, 6, 188, 10]
abbrev dktX1_init_3 : List UInt8 := dkwX1_init_3 ++ dktX1_init_4
def dkwX1_init_2 : List UInt8 := [181, 0, 34, 42, 16, 8, 188, 10, 181, 0, 38, 42, 16, 8, 188, 10, 181, 0, 42, 42, 16, 8, 188, 10]
abbrev dktX1_init_2 : List UInt8 := dkwX1_init_2 ++ dktX1_init_3
def dkwX1_init_1 : List UInt8 := [42, 187, 0, 23, 89, 183, 0, 25, 42, 180, 0, 19, 182, 0, 26, 181, 0, 30, 42, 16, 6, 189, 0, 23]
abbrev dktX1_init_1 : List UInt8 := dkwX1_init_1 ++ dktX1_init_2
def dkwX1_init_0 : List UInt8 := [42, 183, 0, 9, 42, 17, 3, 172, 188, 8, 181, 0, 12, 42, 187, 0, 16, 89, 183, 0, 18, 181, 0, 19]
abbrev dktX1_init_0 : List UInt8 := dkwX1_init_0 ++ dktX1_init_1
theorem dksX1_init_0 : cX1_init.data.toList.drop 0 = dktX1_init_0 := by decide +kernel
theorem dksX1_init_1 : cX1_init.data.toList.drop 24 = dktX1_init_1 := dk_seg dksX1_init_0 24 rfl rfl
theorem dksX1_init_2 : cX1_init.data.toList.drop 48 = dktX1_init_2 := dk_seg dksX1_init_1 24 rfl rfl
theorem dksX1_init_3 : cX1_init.data.toList.drop 72 = dktX1_init_3 := dk_seg dksX1_init_2 24 rfl rfl
theorem dksX1_init_4 : cX1_init.data.toList.drop 96 = dktX1_init_4 := dk_seg dksX1_init_3 24 rfl rfl
theorem dksX1_init_5 : cX1_init.data.toList.drop 120 = dktX1_init_5 := dk_seg dksX1_init_4 24 rfl rfl
theorem dksX1_init_6 : cX1_init.data.toList.drop 144 = dktX1_init_6 := dk_seg dksX1_init_5 24 rfl rfl
theorem dksX1_init_7 : cX1_init.data.toList.drop 167 = dktX1_init_7 := dk_seg dksX1_init_6 23 rfl rfl
theorem dksX1_init_8 : cX1_init.data.toList.drop 191 = dktX1_init_8 := dk_seg dksX1_init_7 24 rfl rfl
theorem dksX1_init_9 : cX1_init.data.toList.drop 214 = dktX1_init_9 := dk_seg dksX1_init_8 23 rfl rfl
theorem dksX1_init_10 : cX1_init.data.toList.drop 237 = dktX1_init_10 := dk_seg dksX1_init_9 23 rfl rfl
theorem dksX1_init_11 : cX1_init.data.toList.drop 261 = dktX1_init_11 := dk_seg dksX1_init_10 24 rfl rfl
theorem dX1_init_0 : decode cX1_init 0 = .ok (.aload_n 0, 1) := dk_42 (dk_at dksX1_init_0 0 rfl rfl)
theorem dX1_init_1 : decode cX1_init 1 = .ok (.invokespecial 9, 3) := dk_183 0 9 (dk_at dksX1_init_0 1 rfl rfl)
theorem dX1_init_4 : decode cX1_init 4 = .ok (.aload_n 0, 1) := dk_42 (dk_at dksX1_init_0 4 rfl rfl)
theorem dX1_init_5 : decode cX1_init 5 = .ok (.sipush 940, 3) := dk_17 3 172 (dk_at dksX1_init_0 5 rfl rfl)
theorem dX1_init_8 : decode cX1_init 8 = .ok (.newarray .byte, 2) := dk_188_8 (dk_at dksX1_init_0 8 rfl rfl)
theorem dX1_init_10 : decode cX1_init 10 = .ok (.putfield 12, 3) := dk_181 0 12 (dk_at dksX1_init_0 10 rfl rfl)
theorem dX1_init_13 : decode cX1_init 13 = .ok (.aload_n 0, 1) := dk_42 (dk_at dksX1_init_0 13 rfl rfl)
theorem dX1_init_14 : decode cX1_init 14 = .ok (.new 16, 3) := dk_187 0 16 (dk_at dksX1_init_0 14 rfl rfl)
theorem dX1_init_17 : decode cX1_init 17 = .ok (.dup, 1) := dk_89 (dk_at dksX1_init_0 17 rfl rfl)
theorem dX1_init_18 : decode cX1_init 18 = .ok (.invokespecial 18, 3) := dk_183 0 18 (dk_at dksX1_init_0 18 rfl rfl)
theorem dX1_init_21 : decode cX1_init 21 = .ok (.putfield 19, 3) := dk_181 0 19 (dk_at dksX1_init_0 21 rfl rfl)
theorem dX1_init_24 : decode cX1_init 24 = .ok (.aload_n 0, 1) := dk_42 (dk_at dksX1_init_1 0 rfl rfl)
theorem dX1_init_25 : decode cX1_init 25 = .ok (.new 23, 3) := dk_187 0 23 (dk_at dksX1_init_1 1 rfl rfl)
theorem dX1_init_28 : decode cX1_init 28 = .ok (.dup, 1) := dk_89 (dk_at dksX1_init_1 4 rfl rfl)
theorem dX1_init_29 : decode cX1_init 29 = .ok (.invokespecial 25, 3) := dk_183 0 25 (dk_at dksX1_init_1 5 rfl rfl)
theorem dX1_init_32 : decode cX1_init 32 = .ok (.aload_n 0, 1) := dk_42 (dk_at dksX1_init_1 8 rfl rfl)
theorem dX1_init_33 : decode cX1_init 33 = .ok (.getfield 19, 3) := dk_180 0 19 (dk_at dksX1_init_1 9 rfl rfl)
theorem dX1_init_36 : decode cX1_init 36 = .ok (.invokevirtual 26, 3) := dk_182 0 26 (dk_at dksX1_init_1 12 rfl rfl)
theorem dX1_init_39 : decode cX1_init 39 = .ok (.putfield 30, 3) := dk_181 0 30 (dk_at dksX1_init_1 15 rfl rfl)
theorem dX1_init_42 : decode cX1_init 42 = .ok (.aload_n 0, 1) := dk_42 (dk_at dksX1_init_1 18 rfl rfl)
theorem dX1_init_43 : decode cX1_init 43 = .ok (.bipush 6, 2) := dk_16 6 (dk_at dksX1_init_1 19 rfl rfl)
theorem dX1_init_45 : decode cX1_init 45 = .ok (.anewarray 23, 3) := dk_189 0 23 (dk_at dksX1_init_1 21 rfl rfl)
theorem dX1_init_48 : decode cX1_init 48 = .ok (.putfield 34, 3) := dk_181 0 34 (dk_at dksX1_init_2 0 rfl rfl)
theorem dX1_init_51 : decode cX1_init 51 = .ok (.aload_n 0, 1) := dk_42 (dk_at dksX1_init_2 3 rfl rfl)
theorem dX1_init_52 : decode cX1_init 52 = .ok (.bipush 8, 2) := dk_16 8 (dk_at dksX1_init_2 4 rfl rfl)
theorem dX1_init_54 : decode cX1_init 54 = .ok (.newarray .int, 2) := dk_188_10 (dk_at dksX1_init_2 6 rfl rfl)
theorem dX1_init_56 : decode cX1_init 56 = .ok (.putfield 38, 3) := dk_181 0 38 (dk_at dksX1_init_2 8 rfl rfl)
theorem dX1_init_59 : decode cX1_init 59 = .ok (.aload_n 0, 1) := dk_42 (dk_at dksX1_init_2 11 rfl rfl)
theorem dX1_init_60 : decode cX1_init 60 = .ok (.bipush 8, 2) := dk_16 8 (dk_at dksX1_init_2 12 rfl rfl)
theorem dX1_init_62 : decode cX1_init 62 = .ok (.newarray .int, 2) := dk_188_10 (dk_at dksX1_init_2 14 rfl rfl)
theorem dX1_init_64 : decode cX1_init 64 = .ok (.putfield 42, 3) := dk_181 0 42 (dk_at dksX1_init_2 16 rfl rfl)
theorem dX1_init_67 : decode cX1_init 67 = .ok (.aload_n 0, 1) := dk_42 (dk_at dksX1_init_2 19 rfl rfl)
theorem dX1_init_68 : decode cX1_init 68 = .ok (.bipush 8, 2) := dk_16 8 (dk_at dksX1_init_2 20 rfl rfl)
theorem dX1_init_70 : decode cX1_init 70 = .ok (.newarray .int, 2) := dk_188_10 (dk_at dksX1_init_2 22 rfl rfl)
theorem dX1_init_72 : decode cX1_init 72 = .ok (.putfield 45, 3) := dk_181 0 45 (dk_at dksX1_init_3 0 rfl rfl)
theorem dX1_init_75 : decode cX1_init 75 = .ok (.aload_n 0, 1) := dk_42 (dk_at dksX1_init_3 3 rfl rfl)
theorem dX1_init_76 : decode cX1_init 76 = .ok (.bipush 6, 2) := dk_16 6 (dk_at dksX1_init_3 4 rfl rfl)
theorem dX1_init_78 : decode cX1_init 78 = .ok (.newarray .int, 2) := dk_188_10 (dk_at dksX1_init_3 6 rfl rfl)
theorem dX1_init_80 : decode cX1_init 80 = .ok (.putfield 48, 3) := dk_181 0 48 (dk_at dksX1_init_3 8 rfl rfl)
theorem dX1_init_83 : decode cX1_init 83 = .ok (.aload_n 0, 1) := dk_42 (dk_at dksX1_init_3 11 rfl rfl)
theorem dX1_init_84 : decode cX1_init 84 = .ok (.bipush 6, 2) := dk_16 6 (dk_at dksX1_init_3 12 rfl rfl)
theorem dX1_init_86 : decode cX1_init 86 = .ok (.newarray .int, 2) := dk_188_10 (dk_at dksX1_init_3 14 rfl rfl)
theorem dX1_init_88 : decode cX1_init 88 = .ok (.putfield 51, 3) := dk_181 0 51 (dk_at dksX1_init_3 16 rfl rfl)
theorem dX1_init_91 : decode cX1_init 91 = .ok (.aload_n 0, 1) := dk_42 (dk_at dksX1_init_3 19 rfl rfl)
theorem dX1_init_92 : decode cX1_init 92 = .ok (.bipush 6, 2) := dk_16 6 (dk_at dksX1_init_3 20 rfl rfl)
theorem dX1_init_94 : decode cX1_init 94 = .ok (.newarray .int, 2) := dk_188_10 (dk_at dksX1_init_3 22 rfl rfl)
theorem dX1_init_96 : decode cX1_init 96 = .ok (.putfield 54, 3) := dk_181 0 54 (dk_at dksX1_init_4 0 rfl rfl)
theorem dX1_init_99 : decode cX1_init 99 = .ok (.aload_n 0, 1) := dk_42 (dk_at dksX1_init_4 3 rfl rfl)
theorem dX1_init_100 : decode cX1_init 100 = .ok (.bipush 6, 2) := dk_16 6 (dk_at dksX1_init_4 4 rfl rfl)
theorem dX1_init_102 : decode cX1_init 102 = .ok (.bipush 8, 2) := dk_16 8 (dk_at dksX1_init_4 6 rfl rfl)
theorem dX1_init_104 : decode cX1_init 104 = .ok (.multianewarray 57 2, 4) := by decide +kernel
theorem dX1_init_108 : decode cX1_init 108 = .ok (.putfield 59, 3) := dk_181 0 59 (dk_at dksX1_init_4 12 rfl rfl)
theorem dX1_init_111 : decode cX1_init 111 = .ok (.aload_n 0, 1) := dk_42 (dk_at dksX1_init_4 15 rfl rfl)
theorem dX1_init_112 : decode cX1_init 112 = .ok (.iconst (-1), 1) := dk_2 (dk_at dksX1_init_4 16 rfl rfl)
theorem dX1_init_113 : decode cX1_init 113 = .ok (.putfield 62, 3) := dk_181 0 62 (dk_at dksX1_init_4 17 rfl rfl)
theorem dX1_init_116 : decode cX1_init 116 = .ok (.aload_n 0, 1) := dk_42 (dk_at dksX1_init_4 20 rfl rfl)
theorem dX1_init_117 : decode cX1_init 117 = .ok (.sipush 144, 3) := dk_17 0 144 (dk_at dksX1_init_4 21 rfl rfl)
theorem dX1_init_120 : decode cX1_init 120 = .ok (.newarray .int, 2) := dk_188_10 (dk_at dksX1_init_5 0 rfl rfl)
theorem dX1_init_122 : decode cX1_init 122 = .ok (.putfield 66, 3) := dk_181 0 66 (dk_at dksX1_init_5 2 rfl rfl)
theorem dX1_init_125 : decode cX1_init 125 = .ok (.aload_n 0, 1) := dk_42 (dk_at dksX1_init_5 5 rfl rfl)
theorem dX1_init_126 : decode cX1_init 126 = .ok (.sipush 144, 3) := dk_17 0 144 (dk_at dksX1_init_5 6 rfl rfl)
theorem dX1_init_129 : decode cX1_init 129 = .ok (.newarray .boolean, 2) := dk_188_4 (dk_at dksX1_init_5 9 rfl rfl)
theorem dX1_init_131 : decode cX1_init 131 = .ok (.putfield 69, 3) := dk_181 0 69 (dk_at dksX1_init_5 11 rfl rfl)
theorem dX1_init_134 : decode cX1_init 134 = .ok (.aload_n 0, 1) := dk_42 (dk_at dksX1_init_5 14 rfl rfl)
theorem dX1_init_135 : decode cX1_init 135 = .ok (.iconst 4, 1) := dk_7 (dk_at dksX1_init_5 15 rfl rfl)
theorem dX1_init_136 : decode cX1_init 136 = .ok (.newarray .int, 2) := dk_188_10 (dk_at dksX1_init_5 16 rfl rfl)
theorem dX1_init_138 : decode cX1_init 138 = .ok (.dup, 1) := dk_89 (dk_at dksX1_init_5 18 rfl rfl)
theorem dX1_init_139 : decode cX1_init 139 = .ok (.iconst 0, 1) := dk_3 (dk_at dksX1_init_5 19 rfl rfl)
theorem dX1_init_140 : decode cX1_init 140 = .ok (.iconst (-1), 1) := dk_2 (dk_at dksX1_init_5 20 rfl rfl)
theorem dX1_init_141 : decode cX1_init 141 = .ok (.iastore, 1) := dk_79 (dk_at dksX1_init_5 21 rfl rfl)
theorem dX1_init_142 : decode cX1_init 142 = .ok (.dup, 1) := dk_89 (dk_at dksX1_init_5 22 rfl rfl)
theorem dX1_init_143 : decode cX1_init 143 = .ok (.iconst 1, 1) := dk_4 (dk_at dksX1_init_5 23 rfl rfl)
theorem dX1_init_144 : decode cX1_init 144 = .ok (.iconst (-1), 1) := dk_2 (dk_at dksX1_init_6 0 rfl rfl)
theorem dX1_init_145 : decode cX1_init 145 = .ok (.iastore, 1) := dk_79 (dk_at dksX1_init_6 1 rfl rfl)
theorem dX1_init_146 : decode cX1_init 146 = .ok (.dup, 1) := dk_89 (dk_at dksX1_init_6 2 rfl rfl)
theorem dX1_init_147 : decode cX1_init 147 = .ok (.iconst 2, 1) := dk_5 (dk_at dksX1_init_6 3 rfl rfl)
theorem dX1_init_148 : decode cX1_init 148 = .ok (.iconst (-1), 1) := dk_2 (dk_at dksX1_init_6 4 rfl rfl)
theorem dX1_init_149 : decode cX1_init 149 = .ok (.iastore, 1) := dk_79 (dk_at dksX1_init_6 5 rfl rfl)
theorem dX1_init_150 : decode cX1_init 150 = .ok (.dup, 1) := dk_89 (dk_at dksX1_init_6 6 rfl rfl)
theorem dX1_init_151 : decode cX1_init 151 = .ok (.iconst 3, 1) := dk_6 (dk_at dksX1_init_6 7 rfl rfl)
theorem dX1_init_152 : decode cX1_init 152 = .ok (.iconst (-1), 1) := dk_2 (dk_at dksX1_init_6 8 rfl rfl)
theorem dX1_init_153 : decode cX1_init 153 = .ok (.iastore, 1) := dk_79 (dk_at dksX1_init_6 9 rfl rfl)
theorem dX1_init_154 : decode cX1_init 154 = .ok (.putfield 73, 3) := dk_181 0 73 (dk_at dksX1_init_6 10 rfl rfl)
theorem dX1_init_157 : decode cX1_init 157 = .ok (.aload_n 0, 1) := dk_42 (dk_at dksX1_init_6 13 rfl rfl)
theorem dX1_init_158 : decode cX1_init 158 = .ok (.sipush 144, 3) := dk_17 0 144 (dk_at dksX1_init_6 14 rfl rfl)
theorem dX1_init_161 : decode cX1_init 161 = .ok (.newarray .boolean, 2) := dk_188_4 (dk_at dksX1_init_6 17 rfl rfl)
theorem dX1_init_163 : decode cX1_init 163 = .ok (.putfield 76, 3) := dk_181 0 76 (dk_at dksX1_init_6 19 rfl rfl)
theorem dX1_init_166 : decode cX1_init 166 = .ok (.aload_n 0, 1) := dk_42 (dk_at dksX1_init_6 22 rfl rfl)
theorem dX1_init_167 : decode cX1_init 167 = .ok (.sipush 144, 3) := dk_17 0 144 (dk_at dksX1_init_7 0 rfl rfl)
theorem dX1_init_170 : decode cX1_init 170 = .ok (.newarray .boolean, 2) := dk_188_4 (dk_at dksX1_init_7 3 rfl rfl)
theorem dX1_init_172 : decode cX1_init 172 = .ok (.putfield 79, 3) := dk_181 0 79 (dk_at dksX1_init_7 5 rfl rfl)
theorem dX1_init_175 : decode cX1_init 175 = .ok (.aload_n 0, 1) := dk_42 (dk_at dksX1_init_7 8 rfl rfl)
theorem dX1_init_176 : decode cX1_init 176 = .ok (.sipush 144, 3) := dk_17 0 144 (dk_at dksX1_init_7 9 rfl rfl)
theorem dX1_init_179 : decode cX1_init 179 = .ok (.iconst 4, 1) := dk_7 (dk_at dksX1_init_7 12 rfl rfl)
theorem dX1_init_180 : decode cX1_init 180 = .ok (.multianewarray 82 2, 4) := by decide +kernel
theorem dX1_init_184 : decode cX1_init 184 = .ok (.putfield 84, 3) := dk_181 0 84 (dk_at dksX1_init_7 17 rfl rfl)
theorem dX1_init_187 : decode cX1_init 187 = .ok (.aload_n 0, 1) := dk_42 (dk_at dksX1_init_7 20 rfl rfl)
theorem dX1_init_188 : decode cX1_init 188 = .ok (.sipush 288, 3) := dk_17 1 32 (dk_at dksX1_init_7 21 rfl rfl)
theorem dX1_init_191 : decode cX1_init 191 = .ok (.newarray .int, 2) := dk_188_10 (dk_at dksX1_init_8 0 rfl rfl)
theorem dX1_init_193 : decode cX1_init 193 = .ok (.putfield 87, 3) := dk_181 0 87 (dk_at dksX1_init_8 2 rfl rfl)
theorem dX1_init_196 : decode cX1_init 196 = .ok (.aload_n 0, 1) := dk_42 (dk_at dksX1_init_8 5 rfl rfl)
theorem dX1_init_197 : decode cX1_init 197 = .ok (.sipush 288, 3) := dk_17 1 32 (dk_at dksX1_init_8 6 rfl rfl)
theorem dX1_init_200 : decode cX1_init 200 = .ok (.newarray .int, 2) := dk_188_10 (dk_at dksX1_init_8 9 rfl rfl)
theorem dX1_init_202 : decode cX1_init 202 = .ok (.putfield 90, 3) := dk_181 0 90 (dk_at dksX1_init_8 11 rfl rfl)
theorem dX1_init_205 : decode cX1_init 205 = .ok (.aload_n 0, 1) := dk_42 (dk_at dksX1_init_8 14 rfl rfl)
theorem dX1_init_206 : decode cX1_init 206 = .ok (.iconst 4, 1) := dk_7 (dk_at dksX1_init_8 15 rfl rfl)
theorem dX1_init_207 : decode cX1_init 207 = .ok (.newarray .int, 2) := dk_188_10 (dk_at dksX1_init_8 16 rfl rfl)
theorem dX1_init_209 : decode cX1_init 209 = .ok (.putfield 93, 3) := dk_181 0 93 (dk_at dksX1_init_8 18 rfl rfl)
theorem dX1_init_212 : decode cX1_init 212 = .ok (.aload_n 0, 1) := dk_42 (dk_at dksX1_init_8 21 rfl rfl)
theorem dX1_init_213 : decode cX1_init 213 = .ok (.iconst 2, 1) := dk_5 (dk_at dksX1_init_8 22 rfl rfl)
theorem dX1_init_214 : decode cX1_init 214 = .ok (.anewarray 96, 3) := dk_189 0 96 (dk_at dksX1_init_9 0 rfl rfl)
theorem dX1_init_217 : decode cX1_init 217 = .ok (.dup, 1) := dk_89 (dk_at dksX1_init_9 3 rfl rfl)
theorem dX1_init_218 : decode cX1_init 218 = .ok (.iconst 0, 1) := dk_3 (dk_at dksX1_init_9 4 rfl rfl)
theorem dX1_init_219 : decode cX1_init 219 = .ok (.new 96, 3) := dk_187 0 96 (dk_at dksX1_init_9 5 rfl rfl)
theorem dX1_init_222 : decode cX1_init 222 = .ok (.dup, 1) := dk_89 (dk_at dksX1_init_9 8 rfl rfl)
theorem dX1_init_223 : decode cX1_init 223 = .ok (.invokespecial 98, 3) := dk_183 0 98 (dk_at dksX1_init_9 9 rfl rfl)
theorem dX1_init_226 : decode cX1_init 226 = .ok (.aastore, 1) := dk_83 (dk_at dksX1_init_9 12 rfl rfl)
theorem dX1_init_227 : decode cX1_init 227 = .ok (.dup, 1) := dk_89 (dk_at dksX1_init_9 13 rfl rfl)
theorem dX1_init_228 : decode cX1_init 228 = .ok (.iconst 1, 1) := dk_4 (dk_at dksX1_init_9 14 rfl rfl)
theorem dX1_init_229 : decode cX1_init 229 = .ok (.new 96, 3) := dk_187 0 96 (dk_at dksX1_init_9 15 rfl rfl)
theorem dX1_init_232 : decode cX1_init 232 = .ok (.dup, 1) := dk_89 (dk_at dksX1_init_9 18 rfl rfl)
theorem dX1_init_233 : decode cX1_init 233 = .ok (.invokespecial 98, 3) := dk_183 0 98 (dk_at dksX1_init_9 19 rfl rfl)
theorem dX1_init_236 : decode cX1_init 236 = .ok (.aastore, 1) := dk_83 (dk_at dksX1_init_9 22 rfl rfl)
theorem dX1_init_237 : decode cX1_init 237 = .ok (.putfield 99, 3) := dk_181 0 99 (dk_at dksX1_init_10 0 rfl rfl)
theorem dX1_init_240 : decode cX1_init 240 = .ok (.iconst 0, 1) := dk_3 (dk_at dksX1_init_10 3 rfl rfl)
theorem dX1_init_241 : decode cX1_init 241 = .ok (.istore_n 1, 1) := dk_60 (dk_at dksX1_init_10 4 rfl rfl)
theorem dX1_init_242 : decode cX1_init 242 = .ok (.iload_n 1, 1) := dk_27 (dk_at dksX1_init_10 5 rfl rfl)
theorem dX1_init_243 : decode cX1_init 243 = .ok (.bipush 6, 2) := dk_16 6 (dk_at dksX1_init_10 6 rfl rfl)
theorem dX1_init_245 : decode cX1_init 245 = .ok (.if_icmp .ge 22, 3) := dk_162 0 22 (dk_at dksX1_init_10 8 rfl rfl)
theorem dX1_init_248 : decode cX1_init 248 = .ok (.aload_n 0, 1) := dk_42 (dk_at dksX1_init_10 11 rfl rfl)
theorem dX1_init_249 : decode cX1_init 249 = .ok (.getfield 34, 3) := dk_180 0 34 (dk_at dksX1_init_10 12 rfl rfl)
theorem dX1_init_252 : decode cX1_init 252 = .ok (.iload_n 1, 1) := dk_27 (dk_at dksX1_init_10 15 rfl rfl)
theorem dX1_init_253 : decode cX1_init 253 = .ok (.new 23, 3) := dk_187 0 23 (dk_at dksX1_init_10 16 rfl rfl)
theorem dX1_init_256 : decode cX1_init 256 = .ok (.dup, 1) := dk_89 (dk_at dksX1_init_10 19 rfl rfl)
theorem dX1_init_257 : decode cX1_init 257 = .ok (.invokespecial 25, 3) := dk_183 0 25 (dk_at dksX1_init_10 20 rfl rfl)
theorem dX1_init_260 : decode cX1_init 260 = .ok (.aastore, 1) := dk_83 (dk_at dksX1_init_10 23 rfl rfl)
theorem dX1_init_261 : decode cX1_init 261 = .ok (.iinc 1 1, 3) := dk_132 1 1 (dk_at dksX1_init_11 0 rfl rfl)
theorem dX1_init_264 : decode cX1_init 264 = .ok (.goto (-22), 3) := dk_167 255 234 (dk_at dksX1_init_11 3 rfl rfl)
theorem dX1_init_267 : decode cX1_init 267 = .ok (.return_, 1) := dk_177 (dk_at dksX1_init_11 6 rfl rfl)
abbrev cX1_feed : ByteArray := prog_1_method_6_code
def yX1_feed : MethodName := ⟨RX1, "feed", "(IIIII)I"⟩
def dkwX1_feed_2 : List UInt8 := [172]
abbrev dktX1_feed_2 : List UInt8 := dkwX1_feed_2 ++ []
def dkwX1_feed_1 : List UInt8 := [182, 0, 106, 42, 29, 182, 0, 106, 42, 21, 4, 182, 0, 106, 42, 21, 5, 182, 0, 106, 42, 180, 0, 103]
abbrev dktX1_feed_1 : List UInt8 := dkwX1_feed_1 ++ dktX1_feed_2
def dkwX1_feed_0 : List UInt8 := [42, 180, 0, 103, 16, 20, 96, 17, 3, 172, 164, 0, 5, 2, 172, 42, 27, 182, 0, 106, 42, 28]
abbrev dktX1_feed_0 : List UInt8 := dkwX1_feed_0 ++ dktX1_feed_1
theorem dksX1_feed_0 : cX1_feed.data.toList.drop 0 = dktX1_feed_0 := by decide +kernel
theorem dksX1_feed_1 : cX1_feed.data.toList.drop 22 = dktX1_feed_1 := dk_seg dksX1_feed_0 22 rfl rfl
theorem dksX1_feed_2 : cX1_feed.data.toList.drop 46 = dktX1_feed_2 := dk_seg dksX1_feed_1 24 rfl rfl
theorem dX1_feed_0 : decode cX1_feed 0 = .ok (.aload_n 0, 1) := dk_42 (dk_at dksX1_feed_0 0 rfl rfl)
theorem dX1_feed_1 : decode cX1_feed 1 = .ok (.getfield 103, 3) := dk_180 0 103 (dk_at dksX1_feed_0 1 rfl rfl)
theorem dX1_feed_4 : decode cX1_feed 4 = .ok (.bipush 20, 2) := dk_16 20 (dk_at dksX1_feed_0 4 rfl rfl)
theorem dX1_feed_6 : decode cX1_feed 6 = .ok (.iadd, 1) := dk_96 (dk_at dksX1_feed_0 6 rfl rfl)
theorem dX1_feed_7 : decode cX1_feed 7 = .ok (.sipush 940, 3) := dk_17 3 172 (dk_at dksX1_feed_0 7 rfl rfl)
theorem dX1_feed_10 : decode cX1_feed 10 = .ok (.if_icmp .le 5, 3) := dk_164 0 5 (dk_at dksX1_feed_0 10 rfl rfl)
theorem dX1_feed_13 : decode cX1_feed 13 = .ok (.iconst (-1), 1) := dk_2 (dk_at dksX1_feed_0 13 rfl rfl)
theorem dX1_feed_14 : decode cX1_feed 14 = .ok (.ireturn, 1) := dk_172 (dk_at dksX1_feed_0 14 rfl rfl)
theorem dX1_feed_15 : decode cX1_feed 15 = .ok (.aload_n 0, 1) := dk_42 (dk_at dksX1_feed_0 15 rfl rfl)
theorem dX1_feed_16 : decode cX1_feed 16 = .ok (.iload_n 1, 1) := dk_27 (dk_at dksX1_feed_0 16 rfl rfl)
theorem dX1_feed_17 : decode cX1_feed 17 = .ok (.invokevirtual 106, 3) := dk_182 0 106 (dk_at dksX1_feed_0 17 rfl rfl)
theorem dX1_feed_20 : decode cX1_feed 20 = .ok (.aload_n 0, 1) := dk_42 (dk_at dksX1_feed_0 20 rfl rfl)
theorem dX1_feed_21 : decode cX1_feed 21 = .ok (.iload_n 2, 1) := dk_28 (dk_at dksX1_feed_0 21 rfl rfl)
theorem dX1_feed_22 : decode cX1_feed 22 = .ok (.invokevirtual 106, 3) := dk_182 0 106 (dk_at dksX1_feed_1 0 rfl rfl)
theorem dX1_feed_25 : decode cX1_feed 25 = .ok (.aload_n 0, 1) := dk_42 (dk_at dksX1_feed_1 3 rfl rfl)
theorem dX1_feed_26 : decode cX1_feed 26 = .ok (.iload_n 3, 1) := dk_29 (dk_at dksX1_feed_1 4 rfl rfl)
theorem dX1_feed_27 : decode cX1_feed 27 = .ok (.invokevirtual 106, 3) := dk_182 0 106 (dk_at dksX1_feed_1 5 rfl rfl)
theorem dX1_feed_30 : decode cX1_feed 30 = .ok (.aload_n 0, 1) := dk_42 (dk_at dksX1_feed_1 8 rfl rfl)
theorem dX1_feed_31 : decode cX1_feed 31 = .ok (.iload 4, 2) := dk_21 4 (dk_at dksX1_feed_1 9 rfl rfl)
theorem dX1_feed_33 : decode cX1_feed 33 = .ok (.invokevirtual 106, 3) := dk_182 0 106 (dk_at dksX1_feed_1 11 rfl rfl)
theorem dX1_feed_36 : decode cX1_feed 36 = .ok (.aload_n 0, 1) := dk_42 (dk_at dksX1_feed_1 14 rfl rfl)
theorem dX1_feed_37 : decode cX1_feed 37 = .ok (.iload 5, 2) := dk_21 5 (dk_at dksX1_feed_1 15 rfl rfl)
theorem dX1_feed_39 : decode cX1_feed 39 = .ok (.invokevirtual 106, 3) := dk_182 0 106 (dk_at dksX1_feed_1 17 rfl rfl)
theorem dX1_feed_42 : decode cX1_feed 42 = .ok (.aload_n 0, 1) := dk_42 (dk_at dksX1_feed_1 20 rfl rfl)
theorem dX1_feed_43 : decode cX1_feed 43 = .ok (.getfield 103, 3) := dk_180 0 103 (dk_at dksX1_feed_1 21 rfl rfl)
theorem dX1_feed_46 : decode cX1_feed 46 = .ok (.ireturn, 1) := dk_172 (dk_at dksX1_feed_2 0 rfl rfl)
abbrev cX1_come : ByteArray := prog_1_method_5_code
def yX1_come : MethodName := ⟨RX1, "come", "(I)V"⟩
def dkwX1_come_1 : List UInt8 := [180, 0, 103, 4, 96, 181, 0, 103, 132, 2, 248, 167, 255, 226, 177]
abbrev dktX1_come_1 : List UInt8 := dkwX1_come_1 ++ []
def dkwX1_come_0 : List UInt8 := [16, 24, 61, 28, 155, 0, 32, 42, 180, 0, 12, 42, 180, 0, 103, 27, 28, 122, 145, 84, 42, 89]
abbrev dktX1_come_0 : List UInt8 := dkwX1_come_0 ++ dktX1_come_1
theorem dksX1_come_0 : cX1_come.data.toList.drop 0 = dktX1_come_0 := by decide +kernel
theorem dksX1_come_1 : cX1_come.data.toList.drop 22 = dktX1_come_1 := dk_seg dksX1_come_0 22 rfl rfl
theorem dX1_come_0 : decode cX1_come 0 = .ok (.bipush 24, 2) := dk_16 24 (dk_at dksX1_come_0 0 rfl rfl)
theorem dX1_come_2 : decode cX1_come 2 = .ok (.istore_n 2, 1) := dk_61 (dk_at dksX1_come_0 2 rfl rfl)
theorem dX1_come_3 : decode cX1_come 3 = .ok (.iload_n 2, 1) := dk_28 (dk_at dksX1_come_0 3 rfl rfl)
theorem dX1_come_4 : decode cX1_come 4 = .ok (.ifCond .lt 32, 3) := dk_155 0 32 (dk_at dksX1_come_0 4 rfl rfl)
theorem dX1_come_7 : decode cX1_come 7 = .ok (.aload_n 0, 1) := dk_42 (dk_at dksX1_come_0 7 rfl rfl)
theorem dX1_come_8 : decode cX1_come 8 = .ok (.getfield 12, 3) := dk_180 0 12 (dk_at dksX1_come_0 8 rfl rfl)
theorem dX1_come_11 : decode cX1_come 11 = .ok (.aload_n 0, 1) := dk_42 (dk_at dksX1_come_0 11 rfl rfl)
theorem dX1_come_12 : decode cX1_come 12 = .ok (.getfield 103, 3) := dk_180 0 103 (dk_at dksX1_come_0 12 rfl rfl)
theorem dX1_come_15 : decode cX1_come 15 = .ok (.iload_n 1, 1) := dk_27 (dk_at dksX1_come_0 15 rfl rfl)
theorem dX1_come_16 : decode cX1_come 16 = .ok (.iload_n 2, 1) := dk_28 (dk_at dksX1_come_0 16 rfl rfl)
theorem dX1_come_17 : decode cX1_come 17 = .ok (.ishr, 1) := dk_122 (dk_at dksX1_come_0 17 rfl rfl)
theorem dX1_come_18 : decode cX1_come 18 = .ok (.i2b, 1) := dk_145 (dk_at dksX1_come_0 18 rfl rfl)
theorem dX1_come_19 : decode cX1_come 19 = .ok (.bastore, 1) := dk_84 (dk_at dksX1_come_0 19 rfl rfl)
theorem dX1_come_20 : decode cX1_come 20 = .ok (.aload_n 0, 1) := dk_42 (dk_at dksX1_come_0 20 rfl rfl)
theorem dX1_come_21 : decode cX1_come 21 = .ok (.dup, 1) := dk_89 (dk_at dksX1_come_0 21 rfl rfl)
theorem dX1_come_22 : decode cX1_come 22 = .ok (.getfield 103, 3) := dk_180 0 103 (dk_at dksX1_come_1 0 rfl rfl)
theorem dX1_come_25 : decode cX1_come 25 = .ok (.iconst 1, 1) := dk_4 (dk_at dksX1_come_1 3 rfl rfl)
theorem dX1_come_26 : decode cX1_come 26 = .ok (.iadd, 1) := dk_96 (dk_at dksX1_come_1 4 rfl rfl)
theorem dX1_come_27 : decode cX1_come 27 = .ok (.putfield 103, 3) := dk_181 0 103 (dk_at dksX1_come_1 5 rfl rfl)
theorem dX1_come_30 : decode cX1_come 30 = .ok (.iinc 2 (-8), 3) := dk_132 2 248 (dk_at dksX1_come_1 8 rfl rfl)
theorem dX1_come_33 : decode cX1_come 33 = .ok (.goto (-30), 3) := dk_167 255 226 (dk_at dksX1_come_1 11 rfl rfl)
theorem dX1_come_36 : decode cX1_come 36 = .ok (.return_, 1) := dk_177 (dk_at dksX1_come_1 14 rfl rfl)
abbrev cX1_end : ByteArray := prog_1_method_7_code
def yX1_end : MethodName := ⟨RX1, "end", "(I)Z"⟩
def dkwX1_end_0 : List UInt8 := [27, 155, 0, 11, 27, 42, 180, 0, 103, 164, 0, 5, 3, 172, 42, 27, 181, 0, 103, 4, 172]
abbrev dktX1_end_0 : List UInt8 := dkwX1_end_0 ++ []
theorem dksX1_end_0 : cX1_end.data.toList.drop 0 = dktX1_end_0 := by decide +kernel
theorem dX1_end_0 : decode cX1_end 0 = .ok (.iload_n 1, 1) := dk_27 (dk_at dksX1_end_0 0 rfl rfl)
theorem dX1_end_1 : decode cX1_end 1 = .ok (.ifCond .lt 11, 3) := dk_155 0 11 (dk_at dksX1_end_0 1 rfl rfl)
theorem dX1_end_4 : decode cX1_end 4 = .ok (.iload_n 1, 1) := dk_27 (dk_at dksX1_end_0 4 rfl rfl)
theorem dX1_end_5 : decode cX1_end 5 = .ok (.aload_n 0, 1) := dk_42 (dk_at dksX1_end_0 5 rfl rfl)
theorem dX1_end_6 : decode cX1_end 6 = .ok (.getfield 103, 3) := dk_180 0 103 (dk_at dksX1_end_0 6 rfl rfl)
theorem dX1_end_9 : decode cX1_end 9 = .ok (.if_icmp .le 5, 3) := dk_164 0 5 (dk_at dksX1_end_0 9 rfl rfl)
theorem dX1_end_12 : decode cX1_end 12 = .ok (.iconst 0, 1) := dk_3 (dk_at dksX1_end_0 12 rfl rfl)
theorem dX1_end_13 : decode cX1_end 13 = .ok (.ireturn, 1) := dk_172 (dk_at dksX1_end_0 13 rfl rfl)
theorem dX1_end_14 : decode cX1_end 14 = .ok (.aload_n 0, 1) := dk_42 (dk_at dksX1_end_0 14 rfl rfl)
theorem dX1_end_15 : decode cX1_end 15 = .ok (.iload_n 1, 1) := dk_27 (dk_at dksX1_end_0 15 rfl rfl)
theorem dX1_end_16 : decode cX1_end 16 = .ok (.putfield 103, 3) := dk_181 0 103 (dk_at dksX1_end_0 16 rfl rfl)
theorem dX1_end_19 : decode cX1_end 19 = .ok (.iconst 1, 1) := dk_4 (dk_at dksX1_end_0 19 rfl rfl)
theorem dX1_end_20 : decode cX1_end 20 = .ok (.ireturn, 1) := dk_172 (dk_at dksX1_end_0 20 rfl rfl)
abbrev cX1_house : ByteArray := prog_1_method_10_code
def yX1_house : MethodName := ⟨RX1, "house", "()I"⟩
def dkwX1_house_3 : List UInt8 := [180, 0, 141, 100, 172]
abbrev dktX1_house_3 : List UInt8 := dkwX1_house_3 ++ []
def dkwX1_house_2 : List UInt8 := [3, 181, 0, 130, 42, 180, 0, 19, 180, 0, 133, 172, 77, 42, 44, 180, 0, 138, 181, 0, 114, 2, 44]
abbrev dktX1_house_2 : List UInt8 := dkwX1_house_2 ++ dktX1_house_3
def dkwX1_house_1 : List UInt8 := [182, 0, 122, 181, 0, 19, 42, 180, 0, 30, 42, 180, 0, 19, 182, 0, 26, 87, 42, 1, 181, 0, 126, 42]
abbrev dktX1_house_1 : List UInt8 := dkwX1_house_1 ++ dktX1_house_2
def dkwX1_house_0 : List UInt8 := [42, 182, 0, 110, 60, 42, 3, 181, 0, 114, 42, 187, 0, 117, 89, 42, 180, 0, 12, 27, 183, 0, 119]
abbrev dktX1_house_0 : List UInt8 := dkwX1_house_0 ++ dktX1_house_1
theorem dksX1_house_0 : cX1_house.data.toList.drop 0 = dktX1_house_0 := by decide +kernel
theorem dksX1_house_1 : cX1_house.data.toList.drop 23 = dktX1_house_1 := dk_seg dksX1_house_0 23 rfl rfl
theorem dksX1_house_2 : cX1_house.data.toList.drop 47 = dktX1_house_2 := dk_seg dksX1_house_1 24 rfl rfl
theorem dksX1_house_3 : cX1_house.data.toList.drop 70 = dktX1_house_3 := dk_seg dksX1_house_2 23 rfl rfl
theorem dX1_house_0 : decode cX1_house 0 = .ok (.aload_n 0, 1) := dk_42 (dk_at dksX1_house_0 0 rfl rfl)
theorem dX1_house_1 : decode cX1_house 1 = .ok (.invokevirtual 110, 3) := dk_182 0 110 (dk_at dksX1_house_0 1 rfl rfl)
theorem dX1_house_4 : decode cX1_house 4 = .ok (.istore_n 1, 1) := dk_60 (dk_at dksX1_house_0 4 rfl rfl)
theorem dX1_house_5 : decode cX1_house 5 = .ok (.aload_n 0, 1) := dk_42 (dk_at dksX1_house_0 5 rfl rfl)
theorem dX1_house_6 : decode cX1_house 6 = .ok (.iconst 0, 1) := dk_3 (dk_at dksX1_house_0 6 rfl rfl)
theorem dX1_house_7 : decode cX1_house 7 = .ok (.putfield 114, 3) := dk_181 0 114 (dk_at dksX1_house_0 7 rfl rfl)
theorem dX1_house_10 : decode cX1_house 10 = .ok (.aload_n 0, 1) := dk_42 (dk_at dksX1_house_0 10 rfl rfl)
theorem dX1_house_11 : decode cX1_house 11 = .ok (.new 117, 3) := dk_187 0 117 (dk_at dksX1_house_0 11 rfl rfl)
theorem dX1_house_14 : decode cX1_house 14 = .ok (.dup, 1) := dk_89 (dk_at dksX1_house_0 14 rfl rfl)
theorem dX1_house_15 : decode cX1_house 15 = .ok (.aload_n 0, 1) := dk_42 (dk_at dksX1_house_0 15 rfl rfl)
theorem dX1_house_16 : decode cX1_house 16 = .ok (.getfield 12, 3) := dk_180 0 12 (dk_at dksX1_house_0 16 rfl rfl)
theorem dX1_house_19 : decode cX1_house 19 = .ok (.iload_n 1, 1) := dk_27 (dk_at dksX1_house_0 19 rfl rfl)
theorem dX1_house_20 : decode cX1_house 20 = .ok (.invokespecial 119, 3) := dk_183 0 119 (dk_at dksX1_house_0 20 rfl rfl)
theorem dX1_house_23 : decode cX1_house 23 = .ok (.invokevirtual 122, 3) := dk_182 0 122 (dk_at dksX1_house_1 0 rfl rfl)
theorem dX1_house_26 : decode cX1_house 26 = .ok (.putfield 19, 3) := dk_181 0 19 (dk_at dksX1_house_1 3 rfl rfl)
theorem dX1_house_29 : decode cX1_house 29 = .ok (.aload_n 0, 1) := dk_42 (dk_at dksX1_house_1 6 rfl rfl)
theorem dX1_house_30 : decode cX1_house 30 = .ok (.getfield 30, 3) := dk_180 0 30 (dk_at dksX1_house_1 7 rfl rfl)
theorem dX1_house_33 : decode cX1_house 33 = .ok (.aload_n 0, 1) := dk_42 (dk_at dksX1_house_1 10 rfl rfl)
theorem dX1_house_34 : decode cX1_house 34 = .ok (.getfield 19, 3) := dk_180 0 19 (dk_at dksX1_house_1 11 rfl rfl)
theorem dX1_house_37 : decode cX1_house 37 = .ok (.invokevirtual 26, 3) := dk_182 0 26 (dk_at dksX1_house_1 14 rfl rfl)
theorem dX1_house_40 : decode cX1_house 40 = .ok (.pop, 1) := dk_87 (dk_at dksX1_house_1 17 rfl rfl)
theorem dX1_house_41 : decode cX1_house 41 = .ok (.aload_n 0, 1) := dk_42 (dk_at dksX1_house_1 18 rfl rfl)
theorem dX1_house_42 : decode cX1_house 42 = .ok (.aconst_null, 1) := dk_1 (dk_at dksX1_house_1 19 rfl rfl)
theorem dX1_house_43 : decode cX1_house 43 = .ok (.putfield 126, 3) := dk_181 0 126 (dk_at dksX1_house_1 20 rfl rfl)
theorem dX1_house_46 : decode cX1_house 46 = .ok (.aload_n 0, 1) := dk_42 (dk_at dksX1_house_1 23 rfl rfl)
theorem dX1_house_47 : decode cX1_house 47 = .ok (.iconst 0, 1) := dk_3 (dk_at dksX1_house_2 0 rfl rfl)
theorem dX1_house_48 : decode cX1_house 48 = .ok (.putfield 130, 3) := dk_181 0 130 (dk_at dksX1_house_2 1 rfl rfl)
theorem dX1_house_51 : decode cX1_house 51 = .ok (.aload_n 0, 1) := dk_42 (dk_at dksX1_house_2 4 rfl rfl)
theorem dX1_house_52 : decode cX1_house 52 = .ok (.getfield 19, 3) := dk_180 0 19 (dk_at dksX1_house_2 5 rfl rfl)
theorem dX1_house_55 : decode cX1_house 55 = .ok (.getfield 133, 3) := dk_180 0 133 (dk_at dksX1_house_2 8 rfl rfl)
theorem dX1_house_58 : decode cX1_house 58 = .ok (.ireturn, 1) := dk_172 (dk_at dksX1_house_2 11 rfl rfl)
theorem dX1_house_59 : decode cX1_house 59 = .ok (.astore_n 2, 1) := dk_77 (dk_at dksX1_house_2 12 rfl rfl)
theorem dX1_house_60 : decode cX1_house 60 = .ok (.aload_n 0, 1) := dk_42 (dk_at dksX1_house_2 13 rfl rfl)
theorem dX1_house_61 : decode cX1_house 61 = .ok (.aload_n 2, 1) := dk_44 (dk_at dksX1_house_2 14 rfl rfl)
theorem dX1_house_62 : decode cX1_house 62 = .ok (.getfield 138, 3) := dk_180 0 138 (dk_at dksX1_house_2 15 rfl rfl)
theorem dX1_house_65 : decode cX1_house 65 = .ok (.putfield 114, 3) := dk_181 0 114 (dk_at dksX1_house_2 18 rfl rfl)
theorem dX1_house_68 : decode cX1_house 68 = .ok (.iconst (-1), 1) := dk_2 (dk_at dksX1_house_2 21 rfl rfl)
theorem dX1_house_69 : decode cX1_house 69 = .ok (.aload_n 2, 1) := dk_44 (dk_at dksX1_house_2 22 rfl rfl)
theorem dX1_house_70 : decode cX1_house 70 = .ok (.getfield 141, 3) := dk_180 0 141 (dk_at dksX1_house_3 0 rfl rfl)
theorem dX1_house_73 : decode cX1_house 73 = .ok (.isub, 1) := dk_100 (dk_at dksX1_house_3 3 rfl rfl)
theorem dX1_house_74 : decode cX1_house 74 = .ok (.ireturn, 1) := dk_172 (dk_at dksX1_house_3 4 rfl rfl)
abbrev cX1_take : ByteArray := prog_1_method_8_code
def yX1_take : MethodName := ⟨RX1, "take", "()I"⟩
def dkwX1_take_0 : List UInt8 := [42, 180, 0, 103, 60, 42, 3, 181, 0, 103, 27, 172]
abbrev dktX1_take_0 : List UInt8 := dkwX1_take_0 ++ []
theorem dksX1_take_0 : cX1_take.data.toList.drop 0 = dktX1_take_0 := by decide +kernel
theorem dX1_take_0 : decode cX1_take 0 = .ok (.aload_n 0, 1) := dk_42 (dk_at dksX1_take_0 0 rfl rfl)
theorem dX1_take_1 : decode cX1_take 1 = .ok (.getfield 103, 3) := dk_180 0 103 (dk_at dksX1_take_0 1 rfl rfl)
theorem dX1_take_4 : decode cX1_take 4 = .ok (.istore_n 1, 1) := dk_60 (dk_at dksX1_take_0 4 rfl rfl)
theorem dX1_take_5 : decode cX1_take 5 = .ok (.aload_n 0, 1) := dk_42 (dk_at dksX1_take_0 5 rfl rfl)
theorem dX1_take_6 : decode cX1_take 6 = .ok (.iconst 0, 1) := dk_3 (dk_at dksX1_take_0 6 rfl rfl)
theorem dX1_take_7 : decode cX1_take 7 = .ok (.putfield 103, 3) := dk_181 0 103 (dk_at dksX1_take_0 7 rfl rfl)
theorem dX1_take_10 : decode cX1_take 10 = .ok (.iload_n 1, 1) := dk_27 (dk_at dksX1_take_0 10 rfl rfl)
theorem dX1_take_11 : decode cX1_take 11 = .ok (.ireturn, 1) := dk_172 (dk_at dksX1_take_0 11 rfl rfl)
abbrev cX1_isOf : ByteArray := prog_1_method_2_code
def yX1_isOf : MethodName := ⟨RX1, "isOf", "(II)Z"⟩
def dkwX1_isOf_0 : List UInt8 := [26, 27, 122, 4, 126, 4, 160, 0, 7, 4, 167, 0, 4, 3, 172]
abbrev dktX1_isOf_0 : List UInt8 := dkwX1_isOf_0 ++ []
theorem dksX1_isOf_0 : cX1_isOf.data.toList.drop 0 = dktX1_isOf_0 := by decide +kernel
theorem dX1_isOf_0 : decode cX1_isOf 0 = .ok (.iload_n 0, 1) := dk_26 (dk_at dksX1_isOf_0 0 rfl rfl)
theorem dX1_isOf_1 : decode cX1_isOf 1 = .ok (.iload_n 1, 1) := dk_27 (dk_at dksX1_isOf_0 1 rfl rfl)
theorem dX1_isOf_2 : decode cX1_isOf 2 = .ok (.ishr, 1) := dk_122 (dk_at dksX1_isOf_0 2 rfl rfl)
theorem dX1_isOf_3 : decode cX1_isOf 3 = .ok (.iconst 1, 1) := dk_4 (dk_at dksX1_isOf_0 3 rfl rfl)
theorem dX1_isOf_4 : decode cX1_isOf 4 = .ok (.iand, 1) := dk_126 (dk_at dksX1_isOf_0 4 rfl rfl)
theorem dX1_isOf_5 : decode cX1_isOf 5 = .ok (.iconst 1, 1) := dk_4 (dk_at dksX1_isOf_0 5 rfl rfl)
theorem dX1_isOf_6 : decode cX1_isOf 6 = .ok (.if_icmp .ne 7, 3) := dk_160 0 7 (dk_at dksX1_isOf_0 6 rfl rfl)
theorem dX1_isOf_9 : decode cX1_isOf 9 = .ok (.iconst 1, 1) := dk_4 (dk_at dksX1_isOf_0 9 rfl rfl)
theorem dX1_isOf_10 : decode cX1_isOf 10 = .ok (.goto 4, 3) := dk_167 0 4 (dk_at dksX1_isOf_0 10 rfl rfl)
theorem dX1_isOf_13 : decode cX1_isOf 13 = .ok (.iconst 0, 1) := dk_3 (dk_at dksX1_isOf_0 13 rfl rfl)
theorem dX1_isOf_14 : decode cX1_isOf 14 = .ok (.ireturn, 1) := dk_172 (dk_at dksX1_isOf_0 14 rfl rfl)
abbrev cX1_isIn : ByteArray := prog_1_method_1_code
def yX1_isIn : MethodName := ⟨RX1, "isIn", "(III)Z"⟩
def dkwX1_isIn_0 : List UInt8 := [26, 27, 161, 0, 12, 26, 28, 163, 0, 7, 4, 167, 0, 4, 3, 172]
abbrev dktX1_isIn_0 : List UInt8 := dkwX1_isIn_0 ++ []
theorem dksX1_isIn_0 : cX1_isIn.data.toList.drop 0 = dktX1_isIn_0 := by decide +kernel
theorem dX1_isIn_0 : decode cX1_isIn 0 = .ok (.iload_n 0, 1) := dk_26 (dk_at dksX1_isIn_0 0 rfl rfl)
theorem dX1_isIn_1 : decode cX1_isIn 1 = .ok (.iload_n 1, 1) := dk_27 (dk_at dksX1_isIn_0 1 rfl rfl)
theorem dX1_isIn_2 : decode cX1_isIn 2 = .ok (.if_icmp .lt 12, 3) := dk_161 0 12 (dk_at dksX1_isIn_0 2 rfl rfl)
theorem dX1_isIn_5 : decode cX1_isIn 5 = .ok (.iload_n 0, 1) := dk_26 (dk_at dksX1_isIn_0 5 rfl rfl)
theorem dX1_isIn_6 : decode cX1_isIn 6 = .ok (.iload_n 2, 1) := dk_28 (dk_at dksX1_isIn_0 6 rfl rfl)
theorem dX1_isIn_7 : decode cX1_isIn 7 = .ok (.if_icmp .gt 7, 3) := dk_163 0 7 (dk_at dksX1_isIn_0 7 rfl rfl)
theorem dX1_isIn_10 : decode cX1_isIn 10 = .ok (.iconst 1, 1) := dk_4 (dk_at dksX1_isIn_0 10 rfl rfl)
theorem dX1_isIn_11 : decode cX1_isIn 11 = .ok (.goto 4, 3) := dk_167 0 4 (dk_at dksX1_isIn_0 11 rfl rfl)
theorem dX1_isIn_14 : decode cX1_isIn 14 = .ok (.iconst 0, 1) := dk_3 (dk_at dksX1_isIn_0 14 rfl rfl)
theorem dX1_isIn_15 : decode cX1_isIn 15 = .ok (.ireturn, 1) := dk_172 (dk_at dksX1_isIn_0 15 rfl rfl)
abbrev cX1_fault : ByteArray := prog_1_method_11_code
def yX1_fault : MethodName := ⟨RX1, "fault", "()I"⟩
theorem dX1_fault_0 : decode cX1_fault 0 = .ok (.aload_n 0, 1) := by decide +kernel
theorem dX1_fault_1 : decode cX1_fault 1 = .ok (.getfield 114, 3) := by decide +kernel
theorem dX1_fault_4 : decode cX1_fault 4 = .ok (.ireturn, 1) := by decide +kernel
abbrev cX1_way : ByteArray := prog_1_method_16_code
def yX1_way : MethodName := ⟨RX1, "way", "(II)I"⟩
def dkwX1_way_2 : List UInt8 := [180, 0, 228, 28, 46, 167, 0, 4, 2, 172]
abbrev dktX1_way_2 : List UInt8 := dkwX1_way_2 ++ []
def dkwX1_way_1 : List UInt8 := [180, 0, 225, 184, 0, 153, 153, 0, 25, 42, 180, 0, 19, 180, 0, 157, 27, 182, 0, 168, 192, 0, 223]
abbrev dktX1_way_1 : List UInt8 := dkwX1_way_1 ++ dktX1_way_2
def dkwX1_way_0 : List UInt8 := [42, 27, 182, 0, 220, 153, 0, 50, 28, 3, 42, 180, 0, 19, 180, 0, 157, 27, 182, 0, 168, 192, 0, 223]
abbrev dktX1_way_0 : List UInt8 := dkwX1_way_0 ++ dktX1_way_1
theorem dksX1_way_0 : cX1_way.data.toList.drop 0 = dktX1_way_0 := by decide +kernel
theorem dksX1_way_1 : cX1_way.data.toList.drop 24 = dktX1_way_1 := dk_seg dksX1_way_0 24 rfl rfl
theorem dksX1_way_2 : cX1_way.data.toList.drop 47 = dktX1_way_2 := dk_seg dksX1_way_1 23 rfl rfl
theorem dX1_way_0 : decode cX1_way 0 = .ok (.aload_n 0, 1) := dk_42 (dk_at dksX1_way_0 0 rfl rfl)
theorem dX1_way_1 : decode cX1_way 1 = .ok (.iload_n 1, 1) := dk_27 (dk_at dksX1_way_0 1 rfl rfl)
theorem dX1_way_2 : decode cX1_way 2 = .ok (.invokevirtual 220, 3) := dk_182 0 220 (dk_at dksX1_way_0 2 rfl rfl)
theorem dX1_way_5 : decode cX1_way 5 = .ok (.ifCond .eq 50, 3) := dk_153 0 50 (dk_at dksX1_way_0 5 rfl rfl)
theorem dX1_way_8 : decode cX1_way 8 = .ok (.iload_n 2, 1) := dk_28 (dk_at dksX1_way_0 8 rfl rfl)
theorem dX1_way_9 : decode cX1_way 9 = .ok (.iconst 0, 1) := dk_3 (dk_at dksX1_way_0 9 rfl rfl)
theorem dX1_way_10 : decode cX1_way 10 = .ok (.aload_n 0, 1) := dk_42 (dk_at dksX1_way_0 10 rfl rfl)
theorem dX1_way_11 : decode cX1_way 11 = .ok (.getfield 19, 3) := dk_180 0 19 (dk_at dksX1_way_0 11 rfl rfl)
theorem dX1_way_14 : decode cX1_way 14 = .ok (.getfield 157, 3) := dk_180 0 157 (dk_at dksX1_way_0 14 rfl rfl)
theorem dX1_way_17 : decode cX1_way 17 = .ok (.iload_n 1, 1) := dk_27 (dk_at dksX1_way_0 17 rfl rfl)
theorem dX1_way_18 : decode cX1_way 18 = .ok (.invokevirtual 168, 3) := dk_182 0 168 (dk_at dksX1_way_0 18 rfl rfl)
theorem dX1_way_21 : decode cX1_way 21 = .ok (.checkcast 223, 3) := dk_192 0 223 (dk_at dksX1_way_0 21 rfl rfl)
theorem dX1_way_24 : decode cX1_way 24 = .ok (.getfield 225, 3) := dk_180 0 225 (dk_at dksX1_way_1 0 rfl rfl)
theorem dX1_way_27 : decode cX1_way 27 = .ok (.invokestatic 153, 3) := dk_184 0 153 (dk_at dksX1_way_1 3 rfl rfl)
theorem dX1_way_30 : decode cX1_way 30 = .ok (.ifCond .eq 25, 3) := dk_153 0 25 (dk_at dksX1_way_1 6 rfl rfl)
theorem dX1_way_33 : decode cX1_way 33 = .ok (.aload_n 0, 1) := dk_42 (dk_at dksX1_way_1 9 rfl rfl)
theorem dX1_way_34 : decode cX1_way 34 = .ok (.getfield 19, 3) := dk_180 0 19 (dk_at dksX1_way_1 10 rfl rfl)
theorem dX1_way_37 : decode cX1_way 37 = .ok (.getfield 157, 3) := dk_180 0 157 (dk_at dksX1_way_1 13 rfl rfl)
theorem dX1_way_40 : decode cX1_way 40 = .ok (.iload_n 1, 1) := dk_27 (dk_at dksX1_way_1 16 rfl rfl)
theorem dX1_way_41 : decode cX1_way 41 = .ok (.invokevirtual 168, 3) := dk_182 0 168 (dk_at dksX1_way_1 17 rfl rfl)
theorem dX1_way_44 : decode cX1_way 44 = .ok (.checkcast 223, 3) := dk_192 0 223 (dk_at dksX1_way_1 20 rfl rfl)
theorem dX1_way_47 : decode cX1_way 47 = .ok (.getfield 228, 3) := dk_180 0 228 (dk_at dksX1_way_2 0 rfl rfl)
theorem dX1_way_50 : decode cX1_way 50 = .ok (.iload_n 2, 1) := dk_28 (dk_at dksX1_way_2 3 rfl rfl)
theorem dX1_way_51 : decode cX1_way 51 = .ok (.iaload, 1) := dk_46 (dk_at dksX1_way_2 4 rfl rfl)
theorem dX1_way_52 : decode cX1_way 52 = .ok (.goto 4, 3) := dk_167 0 4 (dk_at dksX1_way_2 5 rfl rfl)
theorem dX1_way_55 : decode cX1_way 55 = .ok (.iconst (-1), 1) := dk_2 (dk_at dksX1_way_2 8 rfl rfl)
theorem dX1_way_56 : decode cX1_way 56 = .ok (.ireturn, 1) := dk_172 (dk_at dksX1_way_2 9 rfl rfl)
abbrev cX1_isWay : ByteArray := prog_1_method_13_code
def yX1_isWay : MethodName := ⟨RX1, "isWay", "(I)Z"⟩
def dkwX1_isWay_0 : List UInt8 := [27, 3, 42, 180, 0, 19, 180, 0, 157, 182, 0, 148, 4, 100, 184, 0, 153, 172]
abbrev dktX1_isWay_0 : List UInt8 := dkwX1_isWay_0 ++ []
theorem dksX1_isWay_0 : cX1_isWay.data.toList.drop 0 = dktX1_isWay_0 := by decide +kernel
theorem dX1_isWay_0 : decode cX1_isWay 0 = .ok (.iload_n 1, 1) := dk_27 (dk_at dksX1_isWay_0 0 rfl rfl)
theorem dX1_isWay_1 : decode cX1_isWay 1 = .ok (.iconst 0, 1) := dk_3 (dk_at dksX1_isWay_0 1 rfl rfl)
theorem dX1_isWay_2 : decode cX1_isWay 2 = .ok (.aload_n 0, 1) := dk_42 (dk_at dksX1_isWay_0 2 rfl rfl)
theorem dX1_isWay_3 : decode cX1_isWay 3 = .ok (.getfield 19, 3) := dk_180 0 19 (dk_at dksX1_isWay_0 3 rfl rfl)
theorem dX1_isWay_6 : decode cX1_isWay 6 = .ok (.getfield 157, 3) := dk_180 0 157 (dk_at dksX1_isWay_0 6 rfl rfl)
theorem dX1_isWay_9 : decode cX1_isWay 9 = .ok (.invokevirtual 148, 3) := dk_182 0 148 (dk_at dksX1_isWay_0 9 rfl rfl)
theorem dX1_isWay_12 : decode cX1_isWay 12 = .ok (.iconst 1, 1) := dk_4 (dk_at dksX1_isWay_0 12 rfl rfl)
theorem dX1_isWay_13 : decode cX1_isWay 13 = .ok (.isub, 1) := dk_100 (dk_at dksX1_isWay_0 13 rfl rfl)
theorem dX1_isWay_14 : decode cX1_isWay 14 = .ok (.invokestatic 153, 3) := dk_184 0 153 (dk_at dksX1_isWay_0 14 rfl rfl)
theorem dX1_isWay_17 : decode cX1_isWay 17 = .ok (.ireturn, 1) := dk_172 (dk_at dksX1_isWay_0 17 rfl rfl)
abbrev cX1_goes : ByteArray := prog_1_method_18_code
def yX1_goes : MethodName := ⟨RX1, "goes", "(III)I"⟩
def dkwX1_goes_1 : List UInt8 := [2, 172, 42, 182, 0, 235, 42, 180, 0, 30, 27, 28, 29, 182, 0, 238, 172]
abbrev dktX1_goes_1 : List UInt8 := dkwX1_goes_1 ++ []
def dkwX1_goes_0 : List UInt8 := [42, 27, 182, 0, 160, 153, 0, 19, 42, 28, 182, 0, 220, 153, 0, 11, 42, 29, 182, 0, 160, 154, 0, 5]
abbrev dktX1_goes_0 : List UInt8 := dkwX1_goes_0 ++ dktX1_goes_1
theorem dksX1_goes_0 : cX1_goes.data.toList.drop 0 = dktX1_goes_0 := by decide +kernel
theorem dksX1_goes_1 : cX1_goes.data.toList.drop 24 = dktX1_goes_1 := dk_seg dksX1_goes_0 24 rfl rfl
theorem dX1_goes_0 : decode cX1_goes 0 = .ok (.aload_n 0, 1) := dk_42 (dk_at dksX1_goes_0 0 rfl rfl)
theorem dX1_goes_1 : decode cX1_goes 1 = .ok (.iload_n 1, 1) := dk_27 (dk_at dksX1_goes_0 1 rfl rfl)
theorem dX1_goes_2 : decode cX1_goes 2 = .ok (.invokevirtual 160, 3) := dk_182 0 160 (dk_at dksX1_goes_0 2 rfl rfl)
theorem dX1_goes_5 : decode cX1_goes 5 = .ok (.ifCond .eq 19, 3) := dk_153 0 19 (dk_at dksX1_goes_0 5 rfl rfl)
theorem dX1_goes_8 : decode cX1_goes 8 = .ok (.aload_n 0, 1) := dk_42 (dk_at dksX1_goes_0 8 rfl rfl)
theorem dX1_goes_9 : decode cX1_goes 9 = .ok (.iload_n 2, 1) := dk_28 (dk_at dksX1_goes_0 9 rfl rfl)
theorem dX1_goes_10 : decode cX1_goes 10 = .ok (.invokevirtual 220, 3) := dk_182 0 220 (dk_at dksX1_goes_0 10 rfl rfl)
theorem dX1_goes_13 : decode cX1_goes 13 = .ok (.ifCond .eq 11, 3) := dk_153 0 11 (dk_at dksX1_goes_0 13 rfl rfl)
theorem dX1_goes_16 : decode cX1_goes 16 = .ok (.aload_n 0, 1) := dk_42 (dk_at dksX1_goes_0 16 rfl rfl)
theorem dX1_goes_17 : decode cX1_goes 17 = .ok (.iload_n 3, 1) := dk_29 (dk_at dksX1_goes_0 17 rfl rfl)
theorem dX1_goes_18 : decode cX1_goes 18 = .ok (.invokevirtual 160, 3) := dk_182 0 160 (dk_at dksX1_goes_0 18 rfl rfl)
theorem dX1_goes_21 : decode cX1_goes 21 = .ok (.ifCond .ne 5, 3) := dk_154 0 5 (dk_at dksX1_goes_0 21 rfl rfl)
theorem dX1_goes_24 : decode cX1_goes 24 = .ok (.iconst (-1), 1) := dk_2 (dk_at dksX1_goes_1 0 rfl rfl)
theorem dX1_goes_25 : decode cX1_goes 25 = .ok (.ireturn, 1) := dk_172 (dk_at dksX1_goes_1 1 rfl rfl)
theorem dX1_goes_26 : decode cX1_goes 26 = .ok (.aload_n 0, 1) := dk_42 (dk_at dksX1_goes_1 2 rfl rfl)
theorem dX1_goes_27 : decode cX1_goes 27 = .ok (.invokevirtual 235, 3) := dk_182 0 235 (dk_at dksX1_goes_1 3 rfl rfl)
theorem dX1_goes_30 : decode cX1_goes 30 = .ok (.aload_n 0, 1) := dk_42 (dk_at dksX1_goes_1 6 rfl rfl)
theorem dX1_goes_31 : decode cX1_goes 31 = .ok (.getfield 30, 3) := dk_180 0 30 (dk_at dksX1_goes_1 7 rfl rfl)
theorem dX1_goes_34 : decode cX1_goes 34 = .ok (.iload_n 1, 1) := dk_27 (dk_at dksX1_goes_1 10 rfl rfl)
theorem dX1_goes_35 : decode cX1_goes 35 = .ok (.iload_n 2, 1) := dk_28 (dk_at dksX1_goes_1 11 rfl rfl)
theorem dX1_goes_36 : decode cX1_goes 36 = .ok (.iload_n 3, 1) := dk_29 (dk_at dksX1_goes_1 12 rfl rfl)
theorem dX1_goes_37 : decode cX1_goes 37 = .ok (.invokevirtual 238, 3) := dk_182 0 238 (dk_at dksX1_goes_1 13 rfl rfl)
theorem dX1_goes_40 : decode cX1_goes 40 = .ok (.ireturn, 1) := dk_172 (dk_at dksX1_goes_1 16 rfl rfl)
abbrev cX1_isPerson : ByteArray := prog_1_method_12_code
def yX1_isPerson : MethodName := ⟨RX1, "isPerson", "(I)Z"⟩
def dkwX1_isPerson_0 : List UInt8 := [27, 3, 42, 180, 0, 19, 180, 0, 144, 182, 0, 148, 4, 100, 184, 0, 153, 172]
abbrev dktX1_isPerson_0 : List UInt8 := dkwX1_isPerson_0 ++ []
theorem dksX1_isPerson_0 : cX1_isPerson.data.toList.drop 0 = dktX1_isPerson_0 := by decide +kernel
theorem dX1_isPerson_0 : decode cX1_isPerson 0 = .ok (.iload_n 1, 1) := dk_27 (dk_at dksX1_isPerson_0 0 rfl rfl)
theorem dX1_isPerson_1 : decode cX1_isPerson 1 = .ok (.iconst 0, 1) := dk_3 (dk_at dksX1_isPerson_0 1 rfl rfl)
theorem dX1_isPerson_2 : decode cX1_isPerson 2 = .ok (.aload_n 0, 1) := dk_42 (dk_at dksX1_isPerson_0 2 rfl rfl)
theorem dX1_isPerson_3 : decode cX1_isPerson 3 = .ok (.getfield 19, 3) := dk_180 0 19 (dk_at dksX1_isPerson_0 3 rfl rfl)
theorem dX1_isPerson_6 : decode cX1_isPerson 6 = .ok (.getfield 144, 3) := dk_180 0 144 (dk_at dksX1_isPerson_0 6 rfl rfl)
theorem dX1_isPerson_9 : decode cX1_isPerson 9 = .ok (.invokevirtual 148, 3) := dk_182 0 148 (dk_at dksX1_isPerson_0 9 rfl rfl)
theorem dX1_isPerson_12 : decode cX1_isPerson 12 = .ok (.iconst 1, 1) := dk_4 (dk_at dksX1_isPerson_0 12 rfl rfl)
theorem dX1_isPerson_13 : decode cX1_isPerson 13 = .ok (.isub, 1) := dk_100 (dk_at dksX1_isPerson_0 13 rfl rfl)
theorem dX1_isPerson_14 : decode cX1_isPerson 14 = .ok (.invokestatic 153, 3) := dk_184 0 153 (dk_at dksX1_isPerson_0 14 rfl rfl)
theorem dX1_isPerson_17 : decode cX1_isPerson 17 = .ok (.ireturn, 1) := dk_172 (dk_at dksX1_isPerson_0 17 rfl rfl)
abbrev cX1_snap : ByteArray := prog_1_method_17_code
def yX1_snap : MethodName := ⟨RX1, "snap", "()V"⟩
def dkwX1_snap_3 : List UInt8 := [180, 0, 30, 182, 0, 231, 87, 42, 89, 180, 0, 130, 4, 96, 181, 0, 130, 177]
abbrev dktX1_snap_3 : List UInt8 := dkwX1_snap_3 ++ []
def dkwX1_snap_2 : List UInt8 := [8, 43, 83, 42, 89, 180, 0, 130, 4, 100, 181, 0, 130, 42, 180, 0, 34, 42, 180, 0, 130, 50, 42]
abbrev dktX1_snap_2 : List UInt8 := dkwX1_snap_2 ++ dktX1_snap_3
def dkwX1_snap_1 : List UInt8 := [42, 180, 0, 34, 28, 4, 100, 42, 180, 0, 34, 28, 50, 83, 132, 2, 1, 167, 255, 233, 42, 180, 0, 34]
abbrev dktX1_snap_1 : List UInt8 := dkwX1_snap_1 ++ dktX1_snap_2
def dkwX1_snap_0 : List UInt8 := [42, 180, 0, 130, 16, 6, 160, 0, 55, 42, 180, 0, 34, 3, 50, 76, 4, 61, 28, 16, 6, 162, 0, 23]
abbrev dktX1_snap_0 : List UInt8 := dkwX1_snap_0 ++ dktX1_snap_1
theorem dksX1_snap_0 : cX1_snap.data.toList.drop 0 = dktX1_snap_0 := by decide +kernel
theorem dksX1_snap_1 : cX1_snap.data.toList.drop 24 = dktX1_snap_1 := dk_seg dksX1_snap_0 24 rfl rfl
theorem dksX1_snap_2 : cX1_snap.data.toList.drop 48 = dktX1_snap_2 := dk_seg dksX1_snap_1 24 rfl rfl
theorem dksX1_snap_3 : cX1_snap.data.toList.drop 71 = dktX1_snap_3 := dk_seg dksX1_snap_2 23 rfl rfl
theorem dX1_snap_0 : decode cX1_snap 0 = .ok (.aload_n 0, 1) := dk_42 (dk_at dksX1_snap_0 0 rfl rfl)
theorem dX1_snap_1 : decode cX1_snap 1 = .ok (.getfield 130, 3) := dk_180 0 130 (dk_at dksX1_snap_0 1 rfl rfl)
theorem dX1_snap_4 : decode cX1_snap 4 = .ok (.bipush 6, 2) := dk_16 6 (dk_at dksX1_snap_0 4 rfl rfl)
theorem dX1_snap_6 : decode cX1_snap 6 = .ok (.if_icmp .ne 55, 3) := dk_160 0 55 (dk_at dksX1_snap_0 6 rfl rfl)
theorem dX1_snap_9 : decode cX1_snap 9 = .ok (.aload_n 0, 1) := dk_42 (dk_at dksX1_snap_0 9 rfl rfl)
theorem dX1_snap_10 : decode cX1_snap 10 = .ok (.getfield 34, 3) := dk_180 0 34 (dk_at dksX1_snap_0 10 rfl rfl)
theorem dX1_snap_13 : decode cX1_snap 13 = .ok (.iconst 0, 1) := dk_3 (dk_at dksX1_snap_0 13 rfl rfl)
theorem dX1_snap_14 : decode cX1_snap 14 = .ok (.aaload, 1) := dk_50 (dk_at dksX1_snap_0 14 rfl rfl)
theorem dX1_snap_15 : decode cX1_snap 15 = .ok (.astore_n 1, 1) := dk_76 (dk_at dksX1_snap_0 15 rfl rfl)
theorem dX1_snap_16 : decode cX1_snap 16 = .ok (.iconst 1, 1) := dk_4 (dk_at dksX1_snap_0 16 rfl rfl)
theorem dX1_snap_17 : decode cX1_snap 17 = .ok (.istore_n 2, 1) := dk_61 (dk_at dksX1_snap_0 17 rfl rfl)
theorem dX1_snap_18 : decode cX1_snap 18 = .ok (.iload_n 2, 1) := dk_28 (dk_at dksX1_snap_0 18 rfl rfl)
theorem dX1_snap_19 : decode cX1_snap 19 = .ok (.bipush 6, 2) := dk_16 6 (dk_at dksX1_snap_0 19 rfl rfl)
theorem dX1_snap_21 : decode cX1_snap 21 = .ok (.if_icmp .ge 23, 3) := dk_162 0 23 (dk_at dksX1_snap_0 21 rfl rfl)
theorem dX1_snap_24 : decode cX1_snap 24 = .ok (.aload_n 0, 1) := dk_42 (dk_at dksX1_snap_1 0 rfl rfl)
theorem dX1_snap_25 : decode cX1_snap 25 = .ok (.getfield 34, 3) := dk_180 0 34 (dk_at dksX1_snap_1 1 rfl rfl)
theorem dX1_snap_28 : decode cX1_snap 28 = .ok (.iload_n 2, 1) := dk_28 (dk_at dksX1_snap_1 4 rfl rfl)
theorem dX1_snap_29 : decode cX1_snap 29 = .ok (.iconst 1, 1) := dk_4 (dk_at dksX1_snap_1 5 rfl rfl)
theorem dX1_snap_30 : decode cX1_snap 30 = .ok (.isub, 1) := dk_100 (dk_at dksX1_snap_1 6 rfl rfl)
theorem dX1_snap_31 : decode cX1_snap 31 = .ok (.aload_n 0, 1) := dk_42 (dk_at dksX1_snap_1 7 rfl rfl)
theorem dX1_snap_32 : decode cX1_snap 32 = .ok (.getfield 34, 3) := dk_180 0 34 (dk_at dksX1_snap_1 8 rfl rfl)
theorem dX1_snap_35 : decode cX1_snap 35 = .ok (.iload_n 2, 1) := dk_28 (dk_at dksX1_snap_1 11 rfl rfl)
theorem dX1_snap_36 : decode cX1_snap 36 = .ok (.aaload, 1) := dk_50 (dk_at dksX1_snap_1 12 rfl rfl)
theorem dX1_snap_37 : decode cX1_snap 37 = .ok (.aastore, 1) := dk_83 (dk_at dksX1_snap_1 13 rfl rfl)
theorem dX1_snap_38 : decode cX1_snap 38 = .ok (.iinc 2 1, 3) := dk_132 2 1 (dk_at dksX1_snap_1 14 rfl rfl)
theorem dX1_snap_41 : decode cX1_snap 41 = .ok (.goto (-23), 3) := dk_167 255 233 (dk_at dksX1_snap_1 17 rfl rfl)
theorem dX1_snap_44 : decode cX1_snap 44 = .ok (.aload_n 0, 1) := dk_42 (dk_at dksX1_snap_1 20 rfl rfl)
theorem dX1_snap_45 : decode cX1_snap 45 = .ok (.getfield 34, 3) := dk_180 0 34 (dk_at dksX1_snap_1 21 rfl rfl)
theorem dX1_snap_48 : decode cX1_snap 48 = .ok (.iconst 5, 1) := dk_8 (dk_at dksX1_snap_2 0 rfl rfl)
theorem dX1_snap_49 : decode cX1_snap 49 = .ok (.aload_n 1, 1) := dk_43 (dk_at dksX1_snap_2 1 rfl rfl)
theorem dX1_snap_50 : decode cX1_snap 50 = .ok (.aastore, 1) := dk_83 (dk_at dksX1_snap_2 2 rfl rfl)
theorem dX1_snap_51 : decode cX1_snap 51 = .ok (.aload_n 0, 1) := dk_42 (dk_at dksX1_snap_2 3 rfl rfl)
theorem dX1_snap_52 : decode cX1_snap 52 = .ok (.dup, 1) := dk_89 (dk_at dksX1_snap_2 4 rfl rfl)
theorem dX1_snap_53 : decode cX1_snap 53 = .ok (.getfield 130, 3) := dk_180 0 130 (dk_at dksX1_snap_2 5 rfl rfl)
theorem dX1_snap_56 : decode cX1_snap 56 = .ok (.iconst 1, 1) := dk_4 (dk_at dksX1_snap_2 8 rfl rfl)
theorem dX1_snap_57 : decode cX1_snap 57 = .ok (.isub, 1) := dk_100 (dk_at dksX1_snap_2 9 rfl rfl)
theorem dX1_snap_58 : decode cX1_snap 58 = .ok (.putfield 130, 3) := dk_181 0 130 (dk_at dksX1_snap_2 10 rfl rfl)
theorem dX1_snap_61 : decode cX1_snap 61 = .ok (.aload_n 0, 1) := dk_42 (dk_at dksX1_snap_2 13 rfl rfl)
theorem dX1_snap_62 : decode cX1_snap 62 = .ok (.getfield 34, 3) := dk_180 0 34 (dk_at dksX1_snap_2 14 rfl rfl)
theorem dX1_snap_65 : decode cX1_snap 65 = .ok (.aload_n 0, 1) := dk_42 (dk_at dksX1_snap_2 17 rfl rfl)
theorem dX1_snap_66 : decode cX1_snap 66 = .ok (.getfield 130, 3) := dk_180 0 130 (dk_at dksX1_snap_2 18 rfl rfl)
theorem dX1_snap_69 : decode cX1_snap 69 = .ok (.aaload, 1) := dk_50 (dk_at dksX1_snap_2 21 rfl rfl)
theorem dX1_snap_70 : decode cX1_snap 70 = .ok (.aload_n 0, 1) := dk_42 (dk_at dksX1_snap_2 22 rfl rfl)
theorem dX1_snap_71 : decode cX1_snap 71 = .ok (.getfield 30, 3) := dk_180 0 30 (dk_at dksX1_snap_3 0 rfl rfl)
theorem dX1_snap_74 : decode cX1_snap 74 = .ok (.invokevirtual 231, 3) := dk_182 0 231 (dk_at dksX1_snap_3 3 rfl rfl)
theorem dX1_snap_77 : decode cX1_snap 77 = .ok (.pop, 1) := dk_87 (dk_at dksX1_snap_3 6 rfl rfl)
theorem dX1_snap_78 : decode cX1_snap 78 = .ok (.aload_n 0, 1) := dk_42 (dk_at dksX1_snap_3 7 rfl rfl)
theorem dX1_snap_79 : decode cX1_snap 79 = .ok (.dup, 1) := dk_89 (dk_at dksX1_snap_3 8 rfl rfl)
theorem dX1_snap_80 : decode cX1_snap 80 = .ok (.getfield 130, 3) := dk_180 0 130 (dk_at dksX1_snap_3 9 rfl rfl)
theorem dX1_snap_83 : decode cX1_snap 83 = .ok (.iconst 1, 1) := dk_4 (dk_at dksX1_snap_3 12 rfl rfl)
theorem dX1_snap_84 : decode cX1_snap 84 = .ok (.iadd, 1) := dk_96 (dk_at dksX1_snap_3 13 rfl rfl)
theorem dX1_snap_85 : decode cX1_snap 85 = .ok (.putfield 130, 3) := dk_181 0 130 (dk_at dksX1_snap_3 14 rfl rfl)
theorem dX1_snap_88 : decode cX1_snap 88 = .ok (.return_, 1) := dk_177 (dk_at dksX1_snap_3 17 rfl rfl)
abbrev cX1_days : ByteArray := prog_1_method_19_code
def yX1_days : MethodName := ⟨RX1, "days", "(I)I"⟩
def dkwX1_days_2 : List UInt8 := [132, 2, 1, 167, 255, 241, 42, 180, 0, 30, 180, 0, 242, 172]
abbrev dktX1_days_2 : List UInt8 := dkwX1_days_2 ++ []
def dkwX1_days_1 : List UInt8 := [164, 0, 5, 2, 172, 42, 182, 0, 235, 3, 61, 28, 27, 162, 0, 16, 42, 180, 0, 30, 182, 0, 245]
abbrev dktX1_days_1 : List UInt8 := dkwX1_days_1 ++ dktX1_days_2
def dkwX1_days_0 : List UInt8 := [27, 4, 16, 20, 184, 0, 153, 153, 0, 18, 42, 180, 0, 30, 180, 0, 242, 27, 96, 17, 3, 231]
abbrev dktX1_days_0 : List UInt8 := dkwX1_days_0 ++ dktX1_days_1
theorem dksX1_days_0 : cX1_days.data.toList.drop 0 = dktX1_days_0 := by decide +kernel
theorem dksX1_days_1 : cX1_days.data.toList.drop 22 = dktX1_days_1 := dk_seg dksX1_days_0 22 rfl rfl
theorem dksX1_days_2 : cX1_days.data.toList.drop 45 = dktX1_days_2 := dk_seg dksX1_days_1 23 rfl rfl
theorem dX1_days_0 : decode cX1_days 0 = .ok (.iload_n 1, 1) := dk_27 (dk_at dksX1_days_0 0 rfl rfl)
theorem dX1_days_1 : decode cX1_days 1 = .ok (.iconst 1, 1) := dk_4 (dk_at dksX1_days_0 1 rfl rfl)
theorem dX1_days_2 : decode cX1_days 2 = .ok (.bipush 20, 2) := dk_16 20 (dk_at dksX1_days_0 2 rfl rfl)
theorem dX1_days_4 : decode cX1_days 4 = .ok (.invokestatic 153, 3) := dk_184 0 153 (dk_at dksX1_days_0 4 rfl rfl)
theorem dX1_days_7 : decode cX1_days 7 = .ok (.ifCond .eq 18, 3) := dk_153 0 18 (dk_at dksX1_days_0 7 rfl rfl)
theorem dX1_days_10 : decode cX1_days 10 = .ok (.aload_n 0, 1) := dk_42 (dk_at dksX1_days_0 10 rfl rfl)
theorem dX1_days_11 : decode cX1_days 11 = .ok (.getfield 30, 3) := dk_180 0 30 (dk_at dksX1_days_0 11 rfl rfl)
theorem dX1_days_14 : decode cX1_days 14 = .ok (.getfield 242, 3) := dk_180 0 242 (dk_at dksX1_days_0 14 rfl rfl)
theorem dX1_days_17 : decode cX1_days 17 = .ok (.iload_n 1, 1) := dk_27 (dk_at dksX1_days_0 17 rfl rfl)
theorem dX1_days_18 : decode cX1_days 18 = .ok (.iadd, 1) := dk_96 (dk_at dksX1_days_0 18 rfl rfl)
theorem dX1_days_19 : decode cX1_days 19 = .ok (.sipush 999, 3) := dk_17 3 231 (dk_at dksX1_days_0 19 rfl rfl)
theorem dX1_days_22 : decode cX1_days 22 = .ok (.if_icmp .le 5, 3) := dk_164 0 5 (dk_at dksX1_days_1 0 rfl rfl)
theorem dX1_days_25 : decode cX1_days 25 = .ok (.iconst (-1), 1) := dk_2 (dk_at dksX1_days_1 3 rfl rfl)
theorem dX1_days_26 : decode cX1_days 26 = .ok (.ireturn, 1) := dk_172 (dk_at dksX1_days_1 4 rfl rfl)
theorem dX1_days_27 : decode cX1_days 27 = .ok (.aload_n 0, 1) := dk_42 (dk_at dksX1_days_1 5 rfl rfl)
theorem dX1_days_28 : decode cX1_days 28 = .ok (.invokevirtual 235, 3) := dk_182 0 235 (dk_at dksX1_days_1 6 rfl rfl)
theorem dX1_days_31 : decode cX1_days 31 = .ok (.iconst 0, 1) := dk_3 (dk_at dksX1_days_1 9 rfl rfl)
theorem dX1_days_32 : decode cX1_days 32 = .ok (.istore_n 2, 1) := dk_61 (dk_at dksX1_days_1 10 rfl rfl)
theorem dX1_days_33 : decode cX1_days 33 = .ok (.iload_n 2, 1) := dk_28 (dk_at dksX1_days_1 11 rfl rfl)
theorem dX1_days_34 : decode cX1_days 34 = .ok (.iload_n 1, 1) := dk_27 (dk_at dksX1_days_1 12 rfl rfl)
theorem dX1_days_35 : decode cX1_days 35 = .ok (.if_icmp .ge 16, 3) := dk_162 0 16 (dk_at dksX1_days_1 13 rfl rfl)
theorem dX1_days_38 : decode cX1_days 38 = .ok (.aload_n 0, 1) := dk_42 (dk_at dksX1_days_1 16 rfl rfl)
theorem dX1_days_39 : decode cX1_days 39 = .ok (.getfield 30, 3) := dk_180 0 30 (dk_at dksX1_days_1 17 rfl rfl)
theorem dX1_days_42 : decode cX1_days 42 = .ok (.invokevirtual 245, 3) := dk_182 0 245 (dk_at dksX1_days_1 20 rfl rfl)
theorem dX1_days_45 : decode cX1_days 45 = .ok (.iinc 2 1, 3) := dk_132 2 1 (dk_at dksX1_days_2 0 rfl rfl)
theorem dX1_days_48 : decode cX1_days 48 = .ok (.goto (-15), 3) := dk_167 255 241 (dk_at dksX1_days_2 3 rfl rfl)
theorem dX1_days_51 : decode cX1_days 51 = .ok (.aload_n 0, 1) := dk_42 (dk_at dksX1_days_2 6 rfl rfl)
theorem dX1_days_52 : decode cX1_days 52 = .ok (.getfield 30, 3) := dk_180 0 30 (dk_at dksX1_days_2 7 rfl rfl)
theorem dX1_days_55 : decode cX1_days 55 = .ok (.getfield 242, 3) := dk_180 0 242 (dk_at dksX1_days_2 10 rfl rfl)
theorem dX1_days_58 : decode cX1_days 58 = .ok (.ireturn, 1) := dk_172 (dk_at dksX1_days_2 13 rfl rfl)
abbrev cX1_beat : ByteArray := prog_1_method_20_code
def yX1_beat : MethodName := ⟨RX1, "beat", "(II)I"⟩
def dkwX1_beat_5 : List UInt8 := [104, 21, 5, 96, 182, 1, 0, 132, 5, 1, 167, 255, 199, 132, 4, 1, 167, 255, 164, 29, 172]
abbrev dktX1_beat_5 : List UInt8 := dkwX1_beat_5 ++ []
def dkwX1_beat_4 : List UInt8 := [16, 12, 21, 4, 104, 21, 5, 96, 46, 2, 159, 0, 6, 132, 3, 1, 42, 180, 0, 30, 16, 12, 21, 4]
abbrev dktX1_beat_4 : List UInt8 := dkwX1_beat_4 ++ dktX1_beat_5
def dkwX1_beat_3 : List UInt8 := [21, 5, 27, 16, 12, 112, 28, 16, 12, 112, 184, 0, 253, 163, 0, 47, 42, 180, 0, 30, 180, 0, 211]
abbrev dktX1_beat_3 : List UInt8 := dkwX1_beat_3 ++ dktX1_beat_4
def dkwX1_beat_2 : List UInt8 := [108, 28, 16, 12, 108, 184, 0, 253, 163, 0, 82, 27, 16, 12, 112, 28, 16, 12, 112, 184, 0, 248, 54, 5]
abbrev dktX1_beat_2 : List UInt8 := dkwX1_beat_2 ++ dktX1_beat_3
def dkwX1_beat_1 : List UInt8 := [42, 182, 0, 235, 3, 62, 27, 16, 12, 108, 28, 16, 12, 108, 184, 0, 248, 54, 4, 21, 4, 27, 16, 12]
abbrev dktX1_beat_1 : List UInt8 := dkwX1_beat_1 ++ dktX1_beat_2
def dkwX1_beat_0 : List UInt8 := [42, 180, 0, 19, 27, 182, 0, 193, 153, 0, 14, 42, 180, 0, 19, 28, 182, 0, 193, 154, 0, 5, 2, 172]
abbrev dktX1_beat_0 : List UInt8 := dkwX1_beat_0 ++ dktX1_beat_1
theorem dksX1_beat_0 : cX1_beat.data.toList.drop 0 = dktX1_beat_0 := by decide +kernel
theorem dksX1_beat_1 : cX1_beat.data.toList.drop 24 = dktX1_beat_1 := dk_seg dksX1_beat_0 24 rfl rfl
theorem dksX1_beat_2 : cX1_beat.data.toList.drop 48 = dktX1_beat_2 := dk_seg dksX1_beat_1 24 rfl rfl
theorem dksX1_beat_3 : cX1_beat.data.toList.drop 72 = dktX1_beat_3 := dk_seg dksX1_beat_2 24 rfl rfl
theorem dksX1_beat_4 : cX1_beat.data.toList.drop 95 = dktX1_beat_4 := dk_seg dksX1_beat_3 23 rfl rfl
theorem dksX1_beat_5 : cX1_beat.data.toList.drop 119 = dktX1_beat_5 := dk_seg dksX1_beat_4 24 rfl rfl
theorem dX1_beat_0 : decode cX1_beat 0 = .ok (.aload_n 0, 1) := dk_42 (dk_at dksX1_beat_0 0 rfl rfl)
theorem dX1_beat_1 : decode cX1_beat 1 = .ok (.getfield 19, 3) := dk_180 0 19 (dk_at dksX1_beat_0 1 rfl rfl)
theorem dX1_beat_4 : decode cX1_beat 4 = .ok (.iload_n 1, 1) := dk_27 (dk_at dksX1_beat_0 4 rfl rfl)
theorem dX1_beat_5 : decode cX1_beat 5 = .ok (.invokevirtual 193, 3) := dk_182 0 193 (dk_at dksX1_beat_0 5 rfl rfl)
theorem dX1_beat_8 : decode cX1_beat 8 = .ok (.ifCond .eq 14, 3) := dk_153 0 14 (dk_at dksX1_beat_0 8 rfl rfl)
theorem dX1_beat_11 : decode cX1_beat 11 = .ok (.aload_n 0, 1) := dk_42 (dk_at dksX1_beat_0 11 rfl rfl)
theorem dX1_beat_12 : decode cX1_beat 12 = .ok (.getfield 19, 3) := dk_180 0 19 (dk_at dksX1_beat_0 12 rfl rfl)
theorem dX1_beat_15 : decode cX1_beat 15 = .ok (.iload_n 2, 1) := dk_28 (dk_at dksX1_beat_0 15 rfl rfl)
theorem dX1_beat_16 : decode cX1_beat 16 = .ok (.invokevirtual 193, 3) := dk_182 0 193 (dk_at dksX1_beat_0 16 rfl rfl)
theorem dX1_beat_19 : decode cX1_beat 19 = .ok (.ifCond .ne 5, 3) := dk_154 0 5 (dk_at dksX1_beat_0 19 rfl rfl)
theorem dX1_beat_22 : decode cX1_beat 22 = .ok (.iconst (-1), 1) := dk_2 (dk_at dksX1_beat_0 22 rfl rfl)
theorem dX1_beat_23 : decode cX1_beat 23 = .ok (.ireturn, 1) := dk_172 (dk_at dksX1_beat_0 23 rfl rfl)
theorem dX1_beat_24 : decode cX1_beat 24 = .ok (.aload_n 0, 1) := dk_42 (dk_at dksX1_beat_1 0 rfl rfl)
theorem dX1_beat_25 : decode cX1_beat 25 = .ok (.invokevirtual 235, 3) := dk_182 0 235 (dk_at dksX1_beat_1 1 rfl rfl)
theorem dX1_beat_28 : decode cX1_beat 28 = .ok (.iconst 0, 1) := dk_3 (dk_at dksX1_beat_1 4 rfl rfl)
theorem dX1_beat_29 : decode cX1_beat 29 = .ok (.istore_n 3, 1) := dk_62 (dk_at dksX1_beat_1 5 rfl rfl)
theorem dX1_beat_30 : decode cX1_beat 30 = .ok (.iload_n 1, 1) := dk_27 (dk_at dksX1_beat_1 6 rfl rfl)
theorem dX1_beat_31 : decode cX1_beat 31 = .ok (.bipush 12, 2) := dk_16 12 (dk_at dksX1_beat_1 7 rfl rfl)
theorem dX1_beat_33 : decode cX1_beat 33 = .ok (.idiv, 1) := dk_108 (dk_at dksX1_beat_1 9 rfl rfl)
theorem dX1_beat_34 : decode cX1_beat 34 = .ok (.iload_n 2, 1) := dk_28 (dk_at dksX1_beat_1 10 rfl rfl)
theorem dX1_beat_35 : decode cX1_beat 35 = .ok (.bipush 12, 2) := dk_16 12 (dk_at dksX1_beat_1 11 rfl rfl)
theorem dX1_beat_37 : decode cX1_beat 37 = .ok (.idiv, 1) := dk_108 (dk_at dksX1_beat_1 13 rfl rfl)
theorem dX1_beat_38 : decode cX1_beat 38 = .ok (.invokestatic 248, 3) := dk_184 0 248 (dk_at dksX1_beat_1 14 rfl rfl)
theorem dX1_beat_41 : decode cX1_beat 41 = .ok (.istore 4, 2) := dk_54 4 (dk_at dksX1_beat_1 17 rfl rfl)
theorem dX1_beat_43 : decode cX1_beat 43 = .ok (.iload 4, 2) := dk_21 4 (dk_at dksX1_beat_1 19 rfl rfl)
theorem dX1_beat_45 : decode cX1_beat 45 = .ok (.iload_n 1, 1) := dk_27 (dk_at dksX1_beat_1 21 rfl rfl)
theorem dX1_beat_46 : decode cX1_beat 46 = .ok (.bipush 12, 2) := dk_16 12 (dk_at dksX1_beat_1 22 rfl rfl)
theorem dX1_beat_48 : decode cX1_beat 48 = .ok (.idiv, 1) := dk_108 (dk_at dksX1_beat_2 0 rfl rfl)
theorem dX1_beat_49 : decode cX1_beat 49 = .ok (.iload_n 2, 1) := dk_28 (dk_at dksX1_beat_2 1 rfl rfl)
theorem dX1_beat_50 : decode cX1_beat 50 = .ok (.bipush 12, 2) := dk_16 12 (dk_at dksX1_beat_2 2 rfl rfl)
theorem dX1_beat_52 : decode cX1_beat 52 = .ok (.idiv, 1) := dk_108 (dk_at dksX1_beat_2 4 rfl rfl)
theorem dX1_beat_53 : decode cX1_beat 53 = .ok (.invokestatic 253, 3) := dk_184 0 253 (dk_at dksX1_beat_2 5 rfl rfl)
theorem dX1_beat_56 : decode cX1_beat 56 = .ok (.if_icmp .gt 82, 3) := dk_163 0 82 (dk_at dksX1_beat_2 8 rfl rfl)
theorem dX1_beat_59 : decode cX1_beat 59 = .ok (.iload_n 1, 1) := dk_27 (dk_at dksX1_beat_2 11 rfl rfl)
theorem dX1_beat_60 : decode cX1_beat 60 = .ok (.bipush 12, 2) := dk_16 12 (dk_at dksX1_beat_2 12 rfl rfl)
theorem dX1_beat_62 : decode cX1_beat 62 = .ok (.irem, 1) := dk_112 (dk_at dksX1_beat_2 14 rfl rfl)
theorem dX1_beat_63 : decode cX1_beat 63 = .ok (.iload_n 2, 1) := dk_28 (dk_at dksX1_beat_2 15 rfl rfl)
theorem dX1_beat_64 : decode cX1_beat 64 = .ok (.bipush 12, 2) := dk_16 12 (dk_at dksX1_beat_2 16 rfl rfl)
theorem dX1_beat_66 : decode cX1_beat 66 = .ok (.irem, 1) := dk_112 (dk_at dksX1_beat_2 18 rfl rfl)
theorem dX1_beat_67 : decode cX1_beat 67 = .ok (.invokestatic 248, 3) := dk_184 0 248 (dk_at dksX1_beat_2 19 rfl rfl)
theorem dX1_beat_70 : decode cX1_beat 70 = .ok (.istore 5, 2) := dk_54 5 (dk_at dksX1_beat_2 22 rfl rfl)
theorem dX1_beat_72 : decode cX1_beat 72 = .ok (.iload 5, 2) := dk_21 5 (dk_at dksX1_beat_3 0 rfl rfl)
theorem dX1_beat_74 : decode cX1_beat 74 = .ok (.iload_n 1, 1) := dk_27 (dk_at dksX1_beat_3 2 rfl rfl)
theorem dX1_beat_75 : decode cX1_beat 75 = .ok (.bipush 12, 2) := dk_16 12 (dk_at dksX1_beat_3 3 rfl rfl)
theorem dX1_beat_77 : decode cX1_beat 77 = .ok (.irem, 1) := dk_112 (dk_at dksX1_beat_3 5 rfl rfl)
theorem dX1_beat_78 : decode cX1_beat 78 = .ok (.iload_n 2, 1) := dk_28 (dk_at dksX1_beat_3 6 rfl rfl)
theorem dX1_beat_79 : decode cX1_beat 79 = .ok (.bipush 12, 2) := dk_16 12 (dk_at dksX1_beat_3 7 rfl rfl)
theorem dX1_beat_81 : decode cX1_beat 81 = .ok (.irem, 1) := dk_112 (dk_at dksX1_beat_3 9 rfl rfl)
theorem dX1_beat_82 : decode cX1_beat 82 = .ok (.invokestatic 253, 3) := dk_184 0 253 (dk_at dksX1_beat_3 10 rfl rfl)
theorem dX1_beat_85 : decode cX1_beat 85 = .ok (.if_icmp .gt 47, 3) := dk_163 0 47 (dk_at dksX1_beat_3 13 rfl rfl)
theorem dX1_beat_88 : decode cX1_beat 88 = .ok (.aload_n 0, 1) := dk_42 (dk_at dksX1_beat_3 16 rfl rfl)
theorem dX1_beat_89 : decode cX1_beat 89 = .ok (.getfield 30, 3) := dk_180 0 30 (dk_at dksX1_beat_3 17 rfl rfl)
theorem dX1_beat_92 : decode cX1_beat 92 = .ok (.getfield 211, 3) := dk_180 0 211 (dk_at dksX1_beat_3 20 rfl rfl)
theorem dX1_beat_95 : decode cX1_beat 95 = .ok (.bipush 12, 2) := dk_16 12 (dk_at dksX1_beat_4 0 rfl rfl)
theorem dX1_beat_97 : decode cX1_beat 97 = .ok (.iload 4, 2) := dk_21 4 (dk_at dksX1_beat_4 2 rfl rfl)
theorem dX1_beat_99 : decode cX1_beat 99 = .ok (.imul, 1) := dk_104 (dk_at dksX1_beat_4 4 rfl rfl)
theorem dX1_beat_100 : decode cX1_beat 100 = .ok (.iload 5, 2) := dk_21 5 (dk_at dksX1_beat_4 5 rfl rfl)
theorem dX1_beat_102 : decode cX1_beat 102 = .ok (.iadd, 1) := dk_96 (dk_at dksX1_beat_4 7 rfl rfl)
theorem dX1_beat_103 : decode cX1_beat 103 = .ok (.iaload, 1) := dk_46 (dk_at dksX1_beat_4 8 rfl rfl)
theorem dX1_beat_104 : decode cX1_beat 104 = .ok (.iconst (-1), 1) := dk_2 (dk_at dksX1_beat_4 9 rfl rfl)
theorem dX1_beat_105 : decode cX1_beat 105 = .ok (.if_icmp .eq 6, 3) := dk_159 0 6 (dk_at dksX1_beat_4 10 rfl rfl)
theorem dX1_beat_108 : decode cX1_beat 108 = .ok (.iinc 3 1, 3) := dk_132 3 1 (dk_at dksX1_beat_4 13 rfl rfl)
theorem dX1_beat_111 : decode cX1_beat 111 = .ok (.aload_n 0, 1) := dk_42 (dk_at dksX1_beat_4 16 rfl rfl)
theorem dX1_beat_112 : decode cX1_beat 112 = .ok (.getfield 30, 3) := dk_180 0 30 (dk_at dksX1_beat_4 17 rfl rfl)
theorem dX1_beat_115 : decode cX1_beat 115 = .ok (.bipush 12, 2) := dk_16 12 (dk_at dksX1_beat_4 20 rfl rfl)
theorem dX1_beat_117 : decode cX1_beat 117 = .ok (.iload 4, 2) := dk_21 4 (dk_at dksX1_beat_4 22 rfl rfl)
theorem dX1_beat_119 : decode cX1_beat 119 = .ok (.imul, 1) := dk_104 (dk_at dksX1_beat_5 0 rfl rfl)
theorem dX1_beat_120 : decode cX1_beat 120 = .ok (.iload 5, 2) := dk_21 5 (dk_at dksX1_beat_5 1 rfl rfl)
theorem dX1_beat_122 : decode cX1_beat 122 = .ok (.iadd, 1) := dk_96 (dk_at dksX1_beat_5 3 rfl rfl)
theorem dX1_beat_123 : decode cX1_beat 123 = .ok (.invokevirtual 256, 3) := dk_182 1 0 (dk_at dksX1_beat_5 4 rfl rfl)
theorem dX1_beat_126 : decode cX1_beat 126 = .ok (.iinc 5 1, 3) := dk_132 5 1 (dk_at dksX1_beat_5 7 rfl rfl)
theorem dX1_beat_129 : decode cX1_beat 129 = .ok (.goto (-57), 3) := dk_167 255 199 (dk_at dksX1_beat_5 10 rfl rfl)
theorem dX1_beat_132 : decode cX1_beat 132 = .ok (.iinc 4 1, 3) := dk_132 4 1 (dk_at dksX1_beat_5 13 rfl rfl)
theorem dX1_beat_135 : decode cX1_beat 135 = .ok (.goto (-92), 3) := dk_167 255 164 (dk_at dksX1_beat_5 16 rfl rfl)
theorem dX1_beat_138 : decode cX1_beat 138 = .ok (.iload_n 3, 1) := dk_29 (dk_at dksX1_beat_5 19 rfl rfl)
theorem dX1_beat_139 : decode cX1_beat 139 = .ok (.ireturn, 1) := dk_172 (dk_at dksX1_beat_5 20 rfl rfl)
abbrev cX1_undo : ByteArray := prog_1_method_21_code
def yX1_undo : MethodName := ⟨RX1, "undo", "()I"⟩
def dkwX1_undo_1 : List UInt8 := [180, 0, 34, 42, 180, 0, 130, 50, 182, 0, 231, 87, 42, 180, 0, 130, 172]
abbrev dktX1_undo_1 : List UInt8 := dkwX1_undo_1 ++ []
def dkwX1_undo_0 : List UInt8 := [42, 180, 0, 130, 154, 0, 5, 2, 172, 42, 89, 180, 0, 130, 4, 100, 181, 0, 130, 42, 180, 0, 30, 42]
abbrev dktX1_undo_0 : List UInt8 := dkwX1_undo_0 ++ dktX1_undo_1
theorem dksX1_undo_0 : cX1_undo.data.toList.drop 0 = dktX1_undo_0 := by decide +kernel
theorem dksX1_undo_1 : cX1_undo.data.toList.drop 24 = dktX1_undo_1 := dk_seg dksX1_undo_0 24 rfl rfl
theorem dX1_undo_0 : decode cX1_undo 0 = .ok (.aload_n 0, 1) := dk_42 (dk_at dksX1_undo_0 0 rfl rfl)
theorem dX1_undo_1 : decode cX1_undo 1 = .ok (.getfield 130, 3) := dk_180 0 130 (dk_at dksX1_undo_0 1 rfl rfl)
theorem dX1_undo_4 : decode cX1_undo 4 = .ok (.ifCond .ne 5, 3) := dk_154 0 5 (dk_at dksX1_undo_0 4 rfl rfl)
theorem dX1_undo_7 : decode cX1_undo 7 = .ok (.iconst (-1), 1) := dk_2 (dk_at dksX1_undo_0 7 rfl rfl)
theorem dX1_undo_8 : decode cX1_undo 8 = .ok (.ireturn, 1) := dk_172 (dk_at dksX1_undo_0 8 rfl rfl)
theorem dX1_undo_9 : decode cX1_undo 9 = .ok (.aload_n 0, 1) := dk_42 (dk_at dksX1_undo_0 9 rfl rfl)
theorem dX1_undo_10 : decode cX1_undo 10 = .ok (.dup, 1) := dk_89 (dk_at dksX1_undo_0 10 rfl rfl)
theorem dX1_undo_11 : decode cX1_undo 11 = .ok (.getfield 130, 3) := dk_180 0 130 (dk_at dksX1_undo_0 11 rfl rfl)
theorem dX1_undo_14 : decode cX1_undo 14 = .ok (.iconst 1, 1) := dk_4 (dk_at dksX1_undo_0 14 rfl rfl)
theorem dX1_undo_15 : decode cX1_undo 15 = .ok (.isub, 1) := dk_100 (dk_at dksX1_undo_0 15 rfl rfl)
theorem dX1_undo_16 : decode cX1_undo 16 = .ok (.putfield 130, 3) := dk_181 0 130 (dk_at dksX1_undo_0 16 rfl rfl)
theorem dX1_undo_19 : decode cX1_undo 19 = .ok (.aload_n 0, 1) := dk_42 (dk_at dksX1_undo_0 19 rfl rfl)
theorem dX1_undo_20 : decode cX1_undo 20 = .ok (.getfield 30, 3) := dk_180 0 30 (dk_at dksX1_undo_0 20 rfl rfl)
theorem dX1_undo_23 : decode cX1_undo 23 = .ok (.aload_n 0, 1) := dk_42 (dk_at dksX1_undo_0 23 rfl rfl)
theorem dX1_undo_24 : decode cX1_undo 24 = .ok (.getfield 34, 3) := dk_180 0 34 (dk_at dksX1_undo_1 0 rfl rfl)
theorem dX1_undo_27 : decode cX1_undo 27 = .ok (.aload_n 0, 1) := dk_42 (dk_at dksX1_undo_1 3 rfl rfl)
theorem dX1_undo_28 : decode cX1_undo 28 = .ok (.getfield 130, 3) := dk_180 0 130 (dk_at dksX1_undo_1 4 rfl rfl)
theorem dX1_undo_31 : decode cX1_undo 31 = .ok (.aaload, 1) := dk_50 (dk_at dksX1_undo_1 7 rfl rfl)
theorem dX1_undo_32 : decode cX1_undo 32 = .ok (.invokevirtual 231, 3) := dk_182 0 231 (dk_at dksX1_undo_1 8 rfl rfl)
theorem dX1_undo_35 : decode cX1_undo 35 = .ok (.pop, 1) := dk_87 (dk_at dksX1_undo_1 11 rfl rfl)
theorem dX1_undo_36 : decode cX1_undo 36 = .ok (.aload_n 0, 1) := dk_42 (dk_at dksX1_undo_1 12 rfl rfl)
theorem dX1_undo_37 : decode cX1_undo 37 = .ok (.getfield 130, 3) := dk_180 0 130 (dk_at dksX1_undo_1 13 rfl rfl)
theorem dX1_undo_40 : decode cX1_undo 40 = .ok (.ireturn, 1) := dk_172 (dk_at dksX1_undo_1 16 rfl rfl)
abbrev cX1_hidden : ByteArray := prog_1_method_22_code
def yX1_hidden : MethodName := ⟨RX1, "hidden", "(I)I"⟩
def dkwX1_hidden_2 : List UInt8 := [28, 167, 0, 4, 2, 172]
abbrev dktX1_hidden_2 : List UInt8 := dkwX1_hidden_2 ++ []
def dkwX1_hidden_1 : List UInt8 := [167, 0, 13, 28, 27, 160, 0, 5, 29, 172, 132, 2, 1, 132, 3, 1, 167, 255, 222, 27, 2, 160, 0, 7]
abbrev dktX1_hidden_1 : List UInt8 := dkwX1_hidden_1 ++ dktX1_hidden_2
def dkwX1_hidden_0 : List UInt8 := [3, 61, 3, 62, 29, 17, 0, 144, 162, 0, 33, 42, 180, 0, 30, 29, 182, 1, 3, 154, 0, 6]
abbrev dktX1_hidden_0 : List UInt8 := dkwX1_hidden_0 ++ dktX1_hidden_1
theorem dksX1_hidden_0 : cX1_hidden.data.toList.drop 0 = dktX1_hidden_0 := by decide +kernel
theorem dksX1_hidden_1 : cX1_hidden.data.toList.drop 22 = dktX1_hidden_1 := dk_seg dksX1_hidden_0 22 rfl rfl
theorem dksX1_hidden_2 : cX1_hidden.data.toList.drop 46 = dktX1_hidden_2 := dk_seg dksX1_hidden_1 24 rfl rfl
theorem dX1_hidden_0 : decode cX1_hidden 0 = .ok (.iconst 0, 1) := dk_3 (dk_at dksX1_hidden_0 0 rfl rfl)
theorem dX1_hidden_1 : decode cX1_hidden 1 = .ok (.istore_n 2, 1) := dk_61 (dk_at dksX1_hidden_0 1 rfl rfl)
theorem dX1_hidden_2 : decode cX1_hidden 2 = .ok (.iconst 0, 1) := dk_3 (dk_at dksX1_hidden_0 2 rfl rfl)
theorem dX1_hidden_3 : decode cX1_hidden 3 = .ok (.istore_n 3, 1) := dk_62 (dk_at dksX1_hidden_0 3 rfl rfl)
theorem dX1_hidden_4 : decode cX1_hidden 4 = .ok (.iload_n 3, 1) := dk_29 (dk_at dksX1_hidden_0 4 rfl rfl)
theorem dX1_hidden_5 : decode cX1_hidden 5 = .ok (.sipush 144, 3) := dk_17 0 144 (dk_at dksX1_hidden_0 5 rfl rfl)
theorem dX1_hidden_8 : decode cX1_hidden 8 = .ok (.if_icmp .ge 33, 3) := dk_162 0 33 (dk_at dksX1_hidden_0 8 rfl rfl)
theorem dX1_hidden_11 : decode cX1_hidden 11 = .ok (.aload_n 0, 1) := dk_42 (dk_at dksX1_hidden_0 11 rfl rfl)
theorem dX1_hidden_12 : decode cX1_hidden 12 = .ok (.getfield 30, 3) := dk_180 0 30 (dk_at dksX1_hidden_0 12 rfl rfl)
theorem dX1_hidden_15 : decode cX1_hidden 15 = .ok (.iload_n 3, 1) := dk_29 (dk_at dksX1_hidden_0 15 rfl rfl)
theorem dX1_hidden_16 : decode cX1_hidden 16 = .ok (.invokevirtual 259, 3) := dk_182 1 3 (dk_at dksX1_hidden_0 16 rfl rfl)
theorem dX1_hidden_19 : decode cX1_hidden 19 = .ok (.ifCond .ne 6, 3) := dk_154 0 6 (dk_at dksX1_hidden_0 19 rfl rfl)
theorem dX1_hidden_22 : decode cX1_hidden 22 = .ok (.goto 13, 3) := dk_167 0 13 (dk_at dksX1_hidden_1 0 rfl rfl)
theorem dX1_hidden_25 : decode cX1_hidden 25 = .ok (.iload_n 2, 1) := dk_28 (dk_at dksX1_hidden_1 3 rfl rfl)
theorem dX1_hidden_26 : decode cX1_hidden 26 = .ok (.iload_n 1, 1) := dk_27 (dk_at dksX1_hidden_1 4 rfl rfl)
theorem dX1_hidden_27 : decode cX1_hidden 27 = .ok (.if_icmp .ne 5, 3) := dk_160 0 5 (dk_at dksX1_hidden_1 5 rfl rfl)
theorem dX1_hidden_30 : decode cX1_hidden 30 = .ok (.iload_n 3, 1) := dk_29 (dk_at dksX1_hidden_1 8 rfl rfl)
theorem dX1_hidden_31 : decode cX1_hidden 31 = .ok (.ireturn, 1) := dk_172 (dk_at dksX1_hidden_1 9 rfl rfl)
theorem dX1_hidden_32 : decode cX1_hidden 32 = .ok (.iinc 2 1, 3) := dk_132 2 1 (dk_at dksX1_hidden_1 10 rfl rfl)
theorem dX1_hidden_35 : decode cX1_hidden 35 = .ok (.iinc 3 1, 3) := dk_132 3 1 (dk_at dksX1_hidden_1 13 rfl rfl)
theorem dX1_hidden_38 : decode cX1_hidden 38 = .ok (.goto (-34), 3) := dk_167 255 222 (dk_at dksX1_hidden_1 16 rfl rfl)
theorem dX1_hidden_41 : decode cX1_hidden 41 = .ok (.iload_n 1, 1) := dk_27 (dk_at dksX1_hidden_1 19 rfl rfl)
theorem dX1_hidden_42 : decode cX1_hidden 42 = .ok (.iconst (-1), 1) := dk_2 (dk_at dksX1_hidden_1 20 rfl rfl)
theorem dX1_hidden_43 : decode cX1_hidden 43 = .ok (.if_icmp .ne 7, 3) := dk_160 0 7 (dk_at dksX1_hidden_1 21 rfl rfl)
theorem dX1_hidden_46 : decode cX1_hidden 46 = .ok (.iload_n 2, 1) := dk_28 (dk_at dksX1_hidden_2 0 rfl rfl)
theorem dX1_hidden_47 : decode cX1_hidden 47 = .ok (.goto 4, 3) := dk_167 0 4 (dk_at dksX1_hidden_2 1 rfl rfl)
theorem dX1_hidden_50 : decode cX1_hidden 50 = .ok (.iconst (-1), 1) := dk_2 (dk_at dksX1_hidden_2 4 rfl rfl)
theorem dX1_hidden_51 : decode cX1_hidden 51 = .ok (.ireturn, 1) := dk_172 (dk_at dksX1_hidden_2 5 rfl rfl)
abbrev cX1_missing : ByteArray := prog_1_method_23_code
def yX1_missing : MethodName := ⟨RX1, "missing", "(I)I"⟩
def dkwX1_missing_0 : List UInt8 := [42, 180, 0, 19, 27, 182, 0, 193, 153, 0, 14, 42, 180, 0, 30, 27, 182, 1, 3, 167, 0, 4, 2, 172]
abbrev dktX1_missing_0 : List UInt8 := dkwX1_missing_0 ++ []
theorem dksX1_missing_0 : cX1_missing.data.toList.drop 0 = dktX1_missing_0 := by decide +kernel
theorem dX1_missing_0 : decode cX1_missing 0 = .ok (.aload_n 0, 1) := dk_42 (dk_at dksX1_missing_0 0 rfl rfl)
theorem dX1_missing_1 : decode cX1_missing 1 = .ok (.getfield 19, 3) := dk_180 0 19 (dk_at dksX1_missing_0 1 rfl rfl)
theorem dX1_missing_4 : decode cX1_missing 4 = .ok (.iload_n 1, 1) := dk_27 (dk_at dksX1_missing_0 4 rfl rfl)
theorem dX1_missing_5 : decode cX1_missing 5 = .ok (.invokevirtual 193, 3) := dk_182 0 193 (dk_at dksX1_missing_0 5 rfl rfl)
theorem dX1_missing_8 : decode cX1_missing 8 = .ok (.ifCond .eq 14, 3) := dk_153 0 14 (dk_at dksX1_missing_0 8 rfl rfl)
theorem dX1_missing_11 : decode cX1_missing 11 = .ok (.aload_n 0, 1) := dk_42 (dk_at dksX1_missing_0 11 rfl rfl)
theorem dX1_missing_12 : decode cX1_missing 12 = .ok (.getfield 30, 3) := dk_180 0 30 (dk_at dksX1_missing_0 12 rfl rfl)
theorem dX1_missing_15 : decode cX1_missing 15 = .ok (.iload_n 1, 1) := dk_27 (dk_at dksX1_missing_0 15 rfl rfl)
theorem dX1_missing_16 : decode cX1_missing 16 = .ok (.invokevirtual 259, 3) := dk_182 1 3 (dk_at dksX1_missing_0 16 rfl rfl)
theorem dX1_missing_19 : decode cX1_missing 19 = .ok (.goto 4, 3) := dk_167 0 4 (dk_at dksX1_missing_0 19 rfl rfl)
theorem dX1_missing_22 : decode cX1_missing 22 = .ok (.iconst (-1), 1) := dk_2 (dk_at dksX1_missing_0 22 rfl rfl)
theorem dX1_missing_23 : decode cX1_missing 23 = .ok (.ireturn, 1) := dk_172 (dk_at dksX1_missing_0 23 rfl rfl)
abbrev cX1_soles : ByteArray := prog_1_method_24_code
def yX1_soles : MethodName := ⟨RX1, "soles", "(I)I"⟩
def dkwX1_soles_1 : List UInt8 := [42, 180, 0, 30, 180, 0, 206, 29, 46, 27, 160, 0, 6, 132, 2, 1, 132, 3, 1, 167, 255, 217, 28, 172]
abbrev dktX1_soles_1 : List UInt8 := dkwX1_soles_1 ++ []
def dkwX1_soles_0 : List UInt8 := [3, 61, 3, 62, 29, 17, 0, 144, 162, 0, 38, 42, 180, 0, 30, 180, 0, 211, 29, 46, 2, 159, 0, 19]
abbrev dktX1_soles_0 : List UInt8 := dkwX1_soles_0 ++ dktX1_soles_1
theorem dksX1_soles_0 : cX1_soles.data.toList.drop 0 = dktX1_soles_0 := by decide +kernel
theorem dksX1_soles_1 : cX1_soles.data.toList.drop 24 = dktX1_soles_1 := dk_seg dksX1_soles_0 24 rfl rfl
theorem dX1_soles_0 : decode cX1_soles 0 = .ok (.iconst 0, 1) := dk_3 (dk_at dksX1_soles_0 0 rfl rfl)
theorem dX1_soles_1 : decode cX1_soles 1 = .ok (.istore_n 2, 1) := dk_61 (dk_at dksX1_soles_0 1 rfl rfl)
theorem dX1_soles_2 : decode cX1_soles 2 = .ok (.iconst 0, 1) := dk_3 (dk_at dksX1_soles_0 2 rfl rfl)
theorem dX1_soles_3 : decode cX1_soles 3 = .ok (.istore_n 3, 1) := dk_62 (dk_at dksX1_soles_0 3 rfl rfl)
theorem dX1_soles_4 : decode cX1_soles 4 = .ok (.iload_n 3, 1) := dk_29 (dk_at dksX1_soles_0 4 rfl rfl)
theorem dX1_soles_5 : decode cX1_soles 5 = .ok (.sipush 144, 3) := dk_17 0 144 (dk_at dksX1_soles_0 5 rfl rfl)
theorem dX1_soles_8 : decode cX1_soles 8 = .ok (.if_icmp .ge 38, 3) := dk_162 0 38 (dk_at dksX1_soles_0 8 rfl rfl)
theorem dX1_soles_11 : decode cX1_soles 11 = .ok (.aload_n 0, 1) := dk_42 (dk_at dksX1_soles_0 11 rfl rfl)
theorem dX1_soles_12 : decode cX1_soles 12 = .ok (.getfield 30, 3) := dk_180 0 30 (dk_at dksX1_soles_0 12 rfl rfl)
theorem dX1_soles_15 : decode cX1_soles 15 = .ok (.getfield 211, 3) := dk_180 0 211 (dk_at dksX1_soles_0 15 rfl rfl)
theorem dX1_soles_18 : decode cX1_soles 18 = .ok (.iload_n 3, 1) := dk_29 (dk_at dksX1_soles_0 18 rfl rfl)
theorem dX1_soles_19 : decode cX1_soles 19 = .ok (.iaload, 1) := dk_46 (dk_at dksX1_soles_0 19 rfl rfl)
theorem dX1_soles_20 : decode cX1_soles 20 = .ok (.iconst (-1), 1) := dk_2 (dk_at dksX1_soles_0 20 rfl rfl)
theorem dX1_soles_21 : decode cX1_soles 21 = .ok (.if_icmp .eq 19, 3) := dk_159 0 19 (dk_at dksX1_soles_0 21 rfl rfl)
theorem dX1_soles_24 : decode cX1_soles 24 = .ok (.aload_n 0, 1) := dk_42 (dk_at dksX1_soles_1 0 rfl rfl)
theorem dX1_soles_25 : decode cX1_soles 25 = .ok (.getfield 30, 3) := dk_180 0 30 (dk_at dksX1_soles_1 1 rfl rfl)
theorem dX1_soles_28 : decode cX1_soles 28 = .ok (.getfield 206, 3) := dk_180 0 206 (dk_at dksX1_soles_1 4 rfl rfl)
theorem dX1_soles_31 : decode cX1_soles 31 = .ok (.iload_n 3, 1) := dk_29 (dk_at dksX1_soles_1 7 rfl rfl)
theorem dX1_soles_32 : decode cX1_soles 32 = .ok (.iaload, 1) := dk_46 (dk_at dksX1_soles_1 8 rfl rfl)
theorem dX1_soles_33 : decode cX1_soles 33 = .ok (.iload_n 1, 1) := dk_27 (dk_at dksX1_soles_1 9 rfl rfl)
theorem dX1_soles_34 : decode cX1_soles 34 = .ok (.if_icmp .ne 6, 3) := dk_160 0 6 (dk_at dksX1_soles_1 10 rfl rfl)
theorem dX1_soles_37 : decode cX1_soles 37 = .ok (.iinc 2 1, 3) := dk_132 2 1 (dk_at dksX1_soles_1 13 rfl rfl)
theorem dX1_soles_40 : decode cX1_soles 40 = .ok (.iinc 3 1, 3) := dk_132 3 1 (dk_at dksX1_soles_1 16 rfl rfl)
theorem dX1_soles_43 : decode cX1_soles 43 = .ok (.goto (-39), 3) := dk_167 255 217 (dk_at dksX1_soles_1 19 rfl rfl)
theorem dX1_soles_46 : decode cX1_soles 46 = .ok (.iload_n 2, 1) := dk_28 (dk_at dksX1_soles_1 22 rfl rfl)
theorem dX1_soles_47 : decode cX1_soles 47 = .ok (.ireturn, 1) := dk_172 (dk_at dksX1_soles_1 23 rfl rfl)
abbrev cX1_deepest : ByteArray := prog_1_method_25_code
def yX1_deepest : MethodName := ⟨RX1, "deepest", "()I"⟩
def dkwX1_deepest_2 : List UInt8 := [132, 2, 1, 167, 255, 209, 27, 172]
abbrev dktX1_deepest_2 : List UInt8 := dkwX1_deepest_2 ++ []
def dkwX1_deepest_1 : List UInt8 := [159, 0, 22, 42, 180, 0, 30, 28, 182, 0, 196, 42, 180, 0, 30, 27, 182, 0, 196, 164, 0, 5, 28, 60]
abbrev dktX1_deepest_1 : List UInt8 := dkwX1_deepest_1 ++ dktX1_deepest_2
def dkwX1_deepest_0 : List UInt8 := [2, 60, 3, 61, 28, 17, 0, 144, 162, 0, 46, 42, 180, 0, 30, 28, 182, 0, 196, 158, 0, 29, 27, 2]
abbrev dktX1_deepest_0 : List UInt8 := dkwX1_deepest_0 ++ dktX1_deepest_1
theorem dksX1_deepest_0 : cX1_deepest.data.toList.drop 0 = dktX1_deepest_0 := by decide +kernel
theorem dksX1_deepest_1 : cX1_deepest.data.toList.drop 24 = dktX1_deepest_1 := dk_seg dksX1_deepest_0 24 rfl rfl
theorem dksX1_deepest_2 : cX1_deepest.data.toList.drop 48 = dktX1_deepest_2 := dk_seg dksX1_deepest_1 24 rfl rfl
theorem dX1_deepest_0 : decode cX1_deepest 0 = .ok (.iconst (-1), 1) := dk_2 (dk_at dksX1_deepest_0 0 rfl rfl)
theorem dX1_deepest_1 : decode cX1_deepest 1 = .ok (.istore_n 1, 1) := dk_60 (dk_at dksX1_deepest_0 1 rfl rfl)
theorem dX1_deepest_2 : decode cX1_deepest 2 = .ok (.iconst 0, 1) := dk_3 (dk_at dksX1_deepest_0 2 rfl rfl)
theorem dX1_deepest_3 : decode cX1_deepest 3 = .ok (.istore_n 2, 1) := dk_61 (dk_at dksX1_deepest_0 3 rfl rfl)
theorem dX1_deepest_4 : decode cX1_deepest 4 = .ok (.iload_n 2, 1) := dk_28 (dk_at dksX1_deepest_0 4 rfl rfl)
theorem dX1_deepest_5 : decode cX1_deepest 5 = .ok (.sipush 144, 3) := dk_17 0 144 (dk_at dksX1_deepest_0 5 rfl rfl)
theorem dX1_deepest_8 : decode cX1_deepest 8 = .ok (.if_icmp .ge 46, 3) := dk_162 0 46 (dk_at dksX1_deepest_0 8 rfl rfl)
theorem dX1_deepest_11 : decode cX1_deepest 11 = .ok (.aload_n 0, 1) := dk_42 (dk_at dksX1_deepest_0 11 rfl rfl)
theorem dX1_deepest_12 : decode cX1_deepest 12 = .ok (.getfield 30, 3) := dk_180 0 30 (dk_at dksX1_deepest_0 12 rfl rfl)
theorem dX1_deepest_15 : decode cX1_deepest 15 = .ok (.iload_n 2, 1) := dk_28 (dk_at dksX1_deepest_0 15 rfl rfl)
theorem dX1_deepest_16 : decode cX1_deepest 16 = .ok (.invokevirtual 196, 3) := dk_182 0 196 (dk_at dksX1_deepest_0 16 rfl rfl)
theorem dX1_deepest_19 : decode cX1_deepest 19 = .ok (.ifCond .le 29, 3) := dk_158 0 29 (dk_at dksX1_deepest_0 19 rfl rfl)
theorem dX1_deepest_22 : decode cX1_deepest 22 = .ok (.iload_n 1, 1) := dk_27 (dk_at dksX1_deepest_0 22 rfl rfl)
theorem dX1_deepest_23 : decode cX1_deepest 23 = .ok (.iconst (-1), 1) := dk_2 (dk_at dksX1_deepest_0 23 rfl rfl)
theorem dX1_deepest_24 : decode cX1_deepest 24 = .ok (.if_icmp .eq 22, 3) := dk_159 0 22 (dk_at dksX1_deepest_1 0 rfl rfl)
theorem dX1_deepest_27 : decode cX1_deepest 27 = .ok (.aload_n 0, 1) := dk_42 (dk_at dksX1_deepest_1 3 rfl rfl)
theorem dX1_deepest_28 : decode cX1_deepest 28 = .ok (.getfield 30, 3) := dk_180 0 30 (dk_at dksX1_deepest_1 4 rfl rfl)
theorem dX1_deepest_31 : decode cX1_deepest 31 = .ok (.iload_n 2, 1) := dk_28 (dk_at dksX1_deepest_1 7 rfl rfl)
theorem dX1_deepest_32 : decode cX1_deepest 32 = .ok (.invokevirtual 196, 3) := dk_182 0 196 (dk_at dksX1_deepest_1 8 rfl rfl)
theorem dX1_deepest_35 : decode cX1_deepest 35 = .ok (.aload_n 0, 1) := dk_42 (dk_at dksX1_deepest_1 11 rfl rfl)
theorem dX1_deepest_36 : decode cX1_deepest 36 = .ok (.getfield 30, 3) := dk_180 0 30 (dk_at dksX1_deepest_1 12 rfl rfl)
theorem dX1_deepest_39 : decode cX1_deepest 39 = .ok (.iload_n 1, 1) := dk_27 (dk_at dksX1_deepest_1 15 rfl rfl)
theorem dX1_deepest_40 : decode cX1_deepest 40 = .ok (.invokevirtual 196, 3) := dk_182 0 196 (dk_at dksX1_deepest_1 16 rfl rfl)
theorem dX1_deepest_43 : decode cX1_deepest 43 = .ok (.if_icmp .le 5, 3) := dk_164 0 5 (dk_at dksX1_deepest_1 19 rfl rfl)
theorem dX1_deepest_46 : decode cX1_deepest 46 = .ok (.iload_n 2, 1) := dk_28 (dk_at dksX1_deepest_1 22 rfl rfl)
theorem dX1_deepest_47 : decode cX1_deepest 47 = .ok (.istore_n 1, 1) := dk_60 (dk_at dksX1_deepest_1 23 rfl rfl)
theorem dX1_deepest_48 : decode cX1_deepest 48 = .ok (.iinc 2 1, 3) := dk_132 2 1 (dk_at dksX1_deepest_2 0 rfl rfl)
theorem dX1_deepest_51 : decode cX1_deepest 51 = .ok (.goto (-47), 3) := dk_167 255 209 (dk_at dksX1_deepest_2 3 rfl rfl)
theorem dX1_deepest_54 : decode cX1_deepest 54 = .ok (.iload_n 1, 1) := dk_27 (dk_at dksX1_deepest_2 6 rfl rfl)
theorem dX1_deepest_55 : decode cX1_deepest 55 = .ok (.ireturn, 1) := dk_172 (dk_at dksX1_deepest_2 7 rfl rfl)
abbrev cX1_who : ByteArray := prog_1_method_27_code
def yX1_who : MethodName := ⟨RX1, "who", "(I)I"⟩
def dkwX1_who_2 : List UInt8 := [28, 172]
abbrev dktX1_who_2 : List UInt8 := dkwX1_who_2 ++ []
def dkwX1_who_1 : List UInt8 := [2, 159, 0, 9, 28, 4, 29, 120, 128, 61, 132, 3, 1, 167, 255, 223, 28, 154, 0, 7, 2, 167, 0, 4]
abbrev dktX1_who_1 : List UInt8 := dkwX1_who_1 ++ dktX1_who_2
def dkwX1_who_0 : List UInt8 := [3, 61, 3, 62, 29, 42, 180, 0, 19, 180, 0, 144, 182, 0, 148, 162, 0, 25, 42, 29, 27, 182, 1, 9]
abbrev dktX1_who_0 : List UInt8 := dkwX1_who_0 ++ dktX1_who_1
theorem dksX1_who_0 : cX1_who.data.toList.drop 0 = dktX1_who_0 := by decide +kernel
theorem dksX1_who_1 : cX1_who.data.toList.drop 24 = dktX1_who_1 := dk_seg dksX1_who_0 24 rfl rfl
theorem dksX1_who_2 : cX1_who.data.toList.drop 48 = dktX1_who_2 := dk_seg dksX1_who_1 24 rfl rfl
theorem dX1_who_0 : decode cX1_who 0 = .ok (.iconst 0, 1) := dk_3 (dk_at dksX1_who_0 0 rfl rfl)
theorem dX1_who_1 : decode cX1_who 1 = .ok (.istore_n 2, 1) := dk_61 (dk_at dksX1_who_0 1 rfl rfl)
theorem dX1_who_2 : decode cX1_who 2 = .ok (.iconst 0, 1) := dk_3 (dk_at dksX1_who_0 2 rfl rfl)
theorem dX1_who_3 : decode cX1_who 3 = .ok (.istore_n 3, 1) := dk_62 (dk_at dksX1_who_0 3 rfl rfl)
theorem dX1_who_4 : decode cX1_who 4 = .ok (.iload_n 3, 1) := dk_29 (dk_at dksX1_who_0 4 rfl rfl)
theorem dX1_who_5 : decode cX1_who 5 = .ok (.aload_n 0, 1) := dk_42 (dk_at dksX1_who_0 5 rfl rfl)
theorem dX1_who_6 : decode cX1_who 6 = .ok (.getfield 19, 3) := dk_180 0 19 (dk_at dksX1_who_0 6 rfl rfl)
theorem dX1_who_9 : decode cX1_who 9 = .ok (.getfield 144, 3) := dk_180 0 144 (dk_at dksX1_who_0 9 rfl rfl)
theorem dX1_who_12 : decode cX1_who 12 = .ok (.invokevirtual 148, 3) := dk_182 0 148 (dk_at dksX1_who_0 12 rfl rfl)
theorem dX1_who_15 : decode cX1_who 15 = .ok (.if_icmp .ge 25, 3) := dk_162 0 25 (dk_at dksX1_who_0 15 rfl rfl)
theorem dX1_who_18 : decode cX1_who 18 = .ok (.aload_n 0, 1) := dk_42 (dk_at dksX1_who_0 18 rfl rfl)
theorem dX1_who_19 : decode cX1_who 19 = .ok (.iload_n 3, 1) := dk_29 (dk_at dksX1_who_0 19 rfl rfl)
theorem dX1_who_20 : decode cX1_who 20 = .ok (.iload_n 1, 1) := dk_27 (dk_at dksX1_who_0 20 rfl rfl)
theorem dX1_who_21 : decode cX1_who 21 = .ok (.invokevirtual 265, 3) := dk_182 1 9 (dk_at dksX1_who_0 21 rfl rfl)
theorem dX1_who_24 : decode cX1_who 24 = .ok (.iconst (-1), 1) := dk_2 (dk_at dksX1_who_1 0 rfl rfl)
theorem dX1_who_25 : decode cX1_who 25 = .ok (.if_icmp .eq 9, 3) := dk_159 0 9 (dk_at dksX1_who_1 1 rfl rfl)
theorem dX1_who_28 : decode cX1_who 28 = .ok (.iload_n 2, 1) := dk_28 (dk_at dksX1_who_1 4 rfl rfl)
theorem dX1_who_29 : decode cX1_who 29 = .ok (.iconst 1, 1) := dk_4 (dk_at dksX1_who_1 5 rfl rfl)
theorem dX1_who_30 : decode cX1_who 30 = .ok (.iload_n 3, 1) := dk_29 (dk_at dksX1_who_1 6 rfl rfl)
theorem dX1_who_31 : decode cX1_who 31 = .ok (.ishl, 1) := dk_120 (dk_at dksX1_who_1 7 rfl rfl)
theorem dX1_who_32 : decode cX1_who 32 = .ok (.ior, 1) := dk_128 (dk_at dksX1_who_1 8 rfl rfl)
theorem dX1_who_33 : decode cX1_who 33 = .ok (.istore_n 2, 1) := dk_61 (dk_at dksX1_who_1 9 rfl rfl)
theorem dX1_who_34 : decode cX1_who 34 = .ok (.iinc 3 1, 3) := dk_132 3 1 (dk_at dksX1_who_1 10 rfl rfl)
theorem dX1_who_37 : decode cX1_who 37 = .ok (.goto (-33), 3) := dk_167 255 223 (dk_at dksX1_who_1 13 rfl rfl)
theorem dX1_who_40 : decode cX1_who 40 = .ok (.iload_n 2, 1) := dk_28 (dk_at dksX1_who_1 16 rfl rfl)
theorem dX1_who_41 : decode cX1_who 41 = .ok (.ifCond .ne 7, 3) := dk_154 0 7 (dk_at dksX1_who_1 17 rfl rfl)
theorem dX1_who_44 : decode cX1_who 44 = .ok (.iconst (-1), 1) := dk_2 (dk_at dksX1_who_1 20 rfl rfl)
theorem dX1_who_45 : decode cX1_who 45 = .ok (.goto 4, 3) := dk_167 0 4 (dk_at dksX1_who_1 21 rfl rfl)
theorem dX1_who_48 : decode cX1_who 48 = .ok (.iload_n 2, 1) := dk_28 (dk_at dksX1_who_2 0 rfl rfl)
theorem dX1_who_49 : decode cX1_who 49 = .ok (.ireturn, 1) := dk_172 (dk_at dksX1_who_2 1 rfl rfl)
abbrev cX1_ageOf : ByteArray := prog_1_method_26_code
def yX1_ageOf : MethodName := ⟨RX1, "ageOf", "(II)I"⟩
def dkwX1_ageOf_2 : List UInt8 := [28, 29, 108, 100, 167, 0, 4, 2, 172]
abbrev dktX1_ageOf_2 : List UInt8 := dkwX1_ageOf_2 ++ []
def dkwX1_ageOf_1 : List UInt8 := [112, 154, 0, 30, 28, 29, 108, 42, 180, 0, 19, 180, 1, 6, 163, 0, 17, 42, 180, 0, 19, 180, 1, 6]
abbrev dktX1_ageOf_1 : List UInt8 := dkwX1_ageOf_1 ++ dktX1_ageOf_2
def dkwX1_ageOf_0 : List UInt8 := [42, 180, 0, 19, 180, 0, 144, 27, 182, 0, 168, 192, 0, 172, 180, 0, 174, 62, 28, 158, 0, 36, 28, 29]
abbrev dktX1_ageOf_0 : List UInt8 := dkwX1_ageOf_0 ++ dktX1_ageOf_1
theorem dksX1_ageOf_0 : cX1_ageOf.data.toList.drop 0 = dktX1_ageOf_0 := by decide +kernel
theorem dksX1_ageOf_1 : cX1_ageOf.data.toList.drop 24 = dktX1_ageOf_1 := dk_seg dksX1_ageOf_0 24 rfl rfl
theorem dksX1_ageOf_2 : cX1_ageOf.data.toList.drop 48 = dktX1_ageOf_2 := dk_seg dksX1_ageOf_1 24 rfl rfl
theorem dX1_ageOf_0 : decode cX1_ageOf 0 = .ok (.aload_n 0, 1) := dk_42 (dk_at dksX1_ageOf_0 0 rfl rfl)
theorem dX1_ageOf_1 : decode cX1_ageOf 1 = .ok (.getfield 19, 3) := dk_180 0 19 (dk_at dksX1_ageOf_0 1 rfl rfl)
theorem dX1_ageOf_4 : decode cX1_ageOf 4 = .ok (.getfield 144, 3) := dk_180 0 144 (dk_at dksX1_ageOf_0 4 rfl rfl)
theorem dX1_ageOf_7 : decode cX1_ageOf 7 = .ok (.iload_n 1, 1) := dk_27 (dk_at dksX1_ageOf_0 7 rfl rfl)
theorem dX1_ageOf_8 : decode cX1_ageOf 8 = .ok (.invokevirtual 168, 3) := dk_182 0 168 (dk_at dksX1_ageOf_0 8 rfl rfl)
theorem dX1_ageOf_11 : decode cX1_ageOf 11 = .ok (.checkcast 172, 3) := dk_192 0 172 (dk_at dksX1_ageOf_0 11 rfl rfl)
theorem dX1_ageOf_14 : decode cX1_ageOf 14 = .ok (.getfield 174, 3) := dk_180 0 174 (dk_at dksX1_ageOf_0 14 rfl rfl)
theorem dX1_ageOf_17 : decode cX1_ageOf 17 = .ok (.istore_n 3, 1) := dk_62 (dk_at dksX1_ageOf_0 17 rfl rfl)
theorem dX1_ageOf_18 : decode cX1_ageOf 18 = .ok (.iload_n 2, 1) := dk_28 (dk_at dksX1_ageOf_0 18 rfl rfl)
theorem dX1_ageOf_19 : decode cX1_ageOf 19 = .ok (.ifCond .le 36, 3) := dk_158 0 36 (dk_at dksX1_ageOf_0 19 rfl rfl)
theorem dX1_ageOf_22 : decode cX1_ageOf 22 = .ok (.iload_n 2, 1) := dk_28 (dk_at dksX1_ageOf_0 22 rfl rfl)
theorem dX1_ageOf_23 : decode cX1_ageOf 23 = .ok (.iload_n 3, 1) := dk_29 (dk_at dksX1_ageOf_0 23 rfl rfl)
theorem dX1_ageOf_24 : decode cX1_ageOf 24 = .ok (.irem, 1) := dk_112 (dk_at dksX1_ageOf_1 0 rfl rfl)
theorem dX1_ageOf_25 : decode cX1_ageOf 25 = .ok (.ifCond .ne 30, 3) := dk_154 0 30 (dk_at dksX1_ageOf_1 1 rfl rfl)
theorem dX1_ageOf_28 : decode cX1_ageOf 28 = .ok (.iload_n 2, 1) := dk_28 (dk_at dksX1_ageOf_1 4 rfl rfl)
theorem dX1_ageOf_29 : decode cX1_ageOf 29 = .ok (.iload_n 3, 1) := dk_29 (dk_at dksX1_ageOf_1 5 rfl rfl)
theorem dX1_ageOf_30 : decode cX1_ageOf 30 = .ok (.idiv, 1) := dk_108 (dk_at dksX1_ageOf_1 6 rfl rfl)
theorem dX1_ageOf_31 : decode cX1_ageOf 31 = .ok (.aload_n 0, 1) := dk_42 (dk_at dksX1_ageOf_1 7 rfl rfl)
theorem dX1_ageOf_32 : decode cX1_ageOf 32 = .ok (.getfield 19, 3) := dk_180 0 19 (dk_at dksX1_ageOf_1 8 rfl rfl)
theorem dX1_ageOf_35 : decode cX1_ageOf 35 = .ok (.getfield 262, 3) := dk_180 1 6 (dk_at dksX1_ageOf_1 11 rfl rfl)
theorem dX1_ageOf_38 : decode cX1_ageOf 38 = .ok (.if_icmp .gt 17, 3) := dk_163 0 17 (dk_at dksX1_ageOf_1 14 rfl rfl)
theorem dX1_ageOf_41 : decode cX1_ageOf 41 = .ok (.aload_n 0, 1) := dk_42 (dk_at dksX1_ageOf_1 17 rfl rfl)
theorem dX1_ageOf_42 : decode cX1_ageOf 42 = .ok (.getfield 19, 3) := dk_180 0 19 (dk_at dksX1_ageOf_1 18 rfl rfl)
theorem dX1_ageOf_45 : decode cX1_ageOf 45 = .ok (.getfield 262, 3) := dk_180 1 6 (dk_at dksX1_ageOf_1 21 rfl rfl)
theorem dX1_ageOf_48 : decode cX1_ageOf 48 = .ok (.iload_n 2, 1) := dk_28 (dk_at dksX1_ageOf_2 0 rfl rfl)
theorem dX1_ageOf_49 : decode cX1_ageOf 49 = .ok (.iload_n 3, 1) := dk_29 (dk_at dksX1_ageOf_2 1 rfl rfl)
theorem dX1_ageOf_50 : decode cX1_ageOf 50 = .ok (.idiv, 1) := dk_108 (dk_at dksX1_ageOf_2 2 rfl rfl)
theorem dX1_ageOf_51 : decode cX1_ageOf 51 = .ok (.isub, 1) := dk_100 (dk_at dksX1_ageOf_2 3 rfl rfl)
theorem dX1_ageOf_52 : decode cX1_ageOf 52 = .ok (.goto 4, 3) := dk_167 0 4 (dk_at dksX1_ageOf_2 4 rfl rfl)
theorem dX1_ageOf_55 : decode cX1_ageOf 55 = .ok (.iconst (-1), 1) := dk_2 (dk_at dksX1_ageOf_2 7 rfl rfl)
theorem dX1_ageOf_56 : decode cX1_ageOf 56 = .ok (.ireturn, 1) := dk_172 (dk_at dksX1_ageOf_2 8 rfl rfl)
abbrev cX1_age : ByteArray := prog_1_method_28_code
def yX1_age : MethodName := ⟨RX1, "age", "(II)I"⟩
def dkwX1_age_0 : List UInt8 := [42, 27, 182, 0, 160, 153, 0, 12, 42, 27, 28, 182, 1, 9, 167, 0, 4, 2, 172]
abbrev dktX1_age_0 : List UInt8 := dkwX1_age_0 ++ []
theorem dksX1_age_0 : cX1_age.data.toList.drop 0 = dktX1_age_0 := by decide +kernel
theorem dX1_age_0 : decode cX1_age 0 = .ok (.aload_n 0, 1) := dk_42 (dk_at dksX1_age_0 0 rfl rfl)
theorem dX1_age_1 : decode cX1_age 1 = .ok (.iload_n 1, 1) := dk_27 (dk_at dksX1_age_0 1 rfl rfl)
theorem dX1_age_2 : decode cX1_age 2 = .ok (.invokevirtual 160, 3) := dk_182 0 160 (dk_at dksX1_age_0 2 rfl rfl)
theorem dX1_age_5 : decode cX1_age 5 = .ok (.ifCond .eq 12, 3) := dk_153 0 12 (dk_at dksX1_age_0 5 rfl rfl)
theorem dX1_age_8 : decode cX1_age 8 = .ok (.aload_n 0, 1) := dk_42 (dk_at dksX1_age_0 8 rfl rfl)
theorem dX1_age_9 : decode cX1_age 9 = .ok (.iload_n 1, 1) := dk_27 (dk_at dksX1_age_0 9 rfl rfl)
theorem dX1_age_10 : decode cX1_age 10 = .ok (.iload_n 2, 1) := dk_28 (dk_at dksX1_age_0 10 rfl rfl)
theorem dX1_age_11 : decode cX1_age 11 = .ok (.invokevirtual 265, 3) := dk_182 1 9 (dk_at dksX1_age_0 11 rfl rfl)
theorem dX1_age_14 : decode cX1_age 14 = .ok (.goto 4, 3) := dk_167 0 4 (dk_at dksX1_age_0 14 rfl rfl)
theorem dX1_age_17 : decode cX1_age 17 = .ok (.iconst (-1), 1) := dk_2 (dk_at dksX1_age_0 17 rfl rfl)
theorem dX1_age_18 : decode cX1_age 18 = .ok (.ireturn, 1) := dk_172 (dk_at dksX1_age_0 18 rfl rfl)
abbrev cX1_readings : ByteArray := prog_1_method_32_code
def yX1_readings : MethodName := ⟨RX1, "readings", "()I"⟩
def dkwX1_readings_4 : List UInt8 := [158, 0, 17, 42, 42, 180, 0, 19, 180, 0, 157, 182, 0, 148, 181, 1, 43, 42, 180, 1, 28, 172]
abbrev dktX1_readings_4 : List UInt8 := dkwX1_readings_4 ++ []
def dkwX1_readings_3 : List UInt8 := [167, 255, 214, 132, 1, 1, 167, 255, 192, 42, 3, 181, 1, 28, 42, 3, 182, 1, 22, 42, 180, 1, 28]
abbrev dktX1_readings_3 : List UInt8 := dkwX1_readings_3 ++ dktX1_readings_4
def dkwX1_readings_2 : List UInt8 := [180, 0, 157, 27, 182, 0, 168, 192, 0, 223, 42, 180, 0, 38, 28, 46, 182, 1, 40, 79, 132, 2, 1]
abbrev dktX1_readings_2 : List UInt8 := dkwX1_readings_2 ++ dktX1_readings_3
def dkwX1_readings_1 : List UInt8 := [162, 0, 56, 3, 61, 28, 42, 180, 1, 19, 162, 0, 40, 42, 180, 0, 59, 27, 50, 28, 42, 180, 0, 19]
abbrev dktX1_readings_1 : List UInt8 := dkwX1_readings_1 ++ dktX1_readings_2
def dkwX1_readings_0 : List UInt8 := [42, 182, 1, 36, 154, 0, 5, 2, 172, 3, 60, 27, 42, 180, 0, 19, 180, 0, 157, 182, 0, 148]
abbrev dktX1_readings_0 : List UInt8 := dkwX1_readings_0 ++ dktX1_readings_1
theorem dksX1_readings_0 : cX1_readings.data.toList.drop 0 = dktX1_readings_0 := by decide +kernel
theorem dksX1_readings_1 : cX1_readings.data.toList.drop 22 = dktX1_readings_1 := dk_seg dksX1_readings_0 22 rfl rfl
theorem dksX1_readings_2 : cX1_readings.data.toList.drop 46 = dktX1_readings_2 := dk_seg dksX1_readings_1 24 rfl rfl
theorem dksX1_readings_3 : cX1_readings.data.toList.drop 69 = dktX1_readings_3 := dk_seg dksX1_readings_2 23 rfl rfl
theorem dksX1_readings_4 : cX1_readings.data.toList.drop 92 = dktX1_readings_4 := dk_seg dksX1_readings_3 23 rfl rfl
theorem dX1_readings_0 : decode cX1_readings 0 = .ok (.aload_n 0, 1) := dk_42 (dk_at dksX1_readings_0 0 rfl rfl)
theorem dX1_readings_1 : decode cX1_readings 1 = .ok (.invokevirtual 292, 3) := dk_182 1 36 (dk_at dksX1_readings_0 1 rfl rfl)
theorem dX1_readings_4 : decode cX1_readings 4 = .ok (.ifCond .ne 5, 3) := dk_154 0 5 (dk_at dksX1_readings_0 4 rfl rfl)
theorem dX1_readings_7 : decode cX1_readings 7 = .ok (.iconst (-1), 1) := dk_2 (dk_at dksX1_readings_0 7 rfl rfl)
theorem dX1_readings_8 : decode cX1_readings 8 = .ok (.ireturn, 1) := dk_172 (dk_at dksX1_readings_0 8 rfl rfl)
theorem dX1_readings_9 : decode cX1_readings 9 = .ok (.iconst 0, 1) := dk_3 (dk_at dksX1_readings_0 9 rfl rfl)
theorem dX1_readings_10 : decode cX1_readings 10 = .ok (.istore_n 1, 1) := dk_60 (dk_at dksX1_readings_0 10 rfl rfl)
theorem dX1_readings_11 : decode cX1_readings 11 = .ok (.iload_n 1, 1) := dk_27 (dk_at dksX1_readings_0 11 rfl rfl)
theorem dX1_readings_12 : decode cX1_readings 12 = .ok (.aload_n 0, 1) := dk_42 (dk_at dksX1_readings_0 12 rfl rfl)
theorem dX1_readings_13 : decode cX1_readings 13 = .ok (.getfield 19, 3) := dk_180 0 19 (dk_at dksX1_readings_0 13 rfl rfl)
theorem dX1_readings_16 : decode cX1_readings 16 = .ok (.getfield 157, 3) := dk_180 0 157 (dk_at dksX1_readings_0 16 rfl rfl)
theorem dX1_readings_19 : decode cX1_readings 19 = .ok (.invokevirtual 148, 3) := dk_182 0 148 (dk_at dksX1_readings_0 19 rfl rfl)
theorem dX1_readings_22 : decode cX1_readings 22 = .ok (.if_icmp .ge 56, 3) := dk_162 0 56 (dk_at dksX1_readings_1 0 rfl rfl)
theorem dX1_readings_25 : decode cX1_readings 25 = .ok (.iconst 0, 1) := dk_3 (dk_at dksX1_readings_1 3 rfl rfl)
theorem dX1_readings_26 : decode cX1_readings 26 = .ok (.istore_n 2, 1) := dk_61 (dk_at dksX1_readings_1 4 rfl rfl)
theorem dX1_readings_27 : decode cX1_readings 27 = .ok (.iload_n 2, 1) := dk_28 (dk_at dksX1_readings_1 5 rfl rfl)
theorem dX1_readings_28 : decode cX1_readings 28 = .ok (.aload_n 0, 1) := dk_42 (dk_at dksX1_readings_1 6 rfl rfl)
theorem dX1_readings_29 : decode cX1_readings 29 = .ok (.getfield 275, 3) := dk_180 1 19 (dk_at dksX1_readings_1 7 rfl rfl)
theorem dX1_readings_32 : decode cX1_readings 32 = .ok (.if_icmp .ge 40, 3) := dk_162 0 40 (dk_at dksX1_readings_1 10 rfl rfl)
theorem dX1_readings_35 : decode cX1_readings 35 = .ok (.aload_n 0, 1) := dk_42 (dk_at dksX1_readings_1 13 rfl rfl)
theorem dX1_readings_36 : decode cX1_readings 36 = .ok (.getfield 59, 3) := dk_180 0 59 (dk_at dksX1_readings_1 14 rfl rfl)
theorem dX1_readings_39 : decode cX1_readings 39 = .ok (.iload_n 1, 1) := dk_27 (dk_at dksX1_readings_1 17 rfl rfl)
theorem dX1_readings_40 : decode cX1_readings 40 = .ok (.aaload, 1) := dk_50 (dk_at dksX1_readings_1 18 rfl rfl)
theorem dX1_readings_41 : decode cX1_readings 41 = .ok (.iload_n 2, 1) := dk_28 (dk_at dksX1_readings_1 19 rfl rfl)
theorem dX1_readings_42 : decode cX1_readings 42 = .ok (.aload_n 0, 1) := dk_42 (dk_at dksX1_readings_1 20 rfl rfl)
theorem dX1_readings_43 : decode cX1_readings 43 = .ok (.getfield 19, 3) := dk_180 0 19 (dk_at dksX1_readings_1 21 rfl rfl)
theorem dX1_readings_46 : decode cX1_readings 46 = .ok (.getfield 157, 3) := dk_180 0 157 (dk_at dksX1_readings_2 0 rfl rfl)
theorem dX1_readings_49 : decode cX1_readings 49 = .ok (.iload_n 1, 1) := dk_27 (dk_at dksX1_readings_2 3 rfl rfl)
theorem dX1_readings_50 : decode cX1_readings 50 = .ok (.invokevirtual 168, 3) := dk_182 0 168 (dk_at dksX1_readings_2 4 rfl rfl)
theorem dX1_readings_53 : decode cX1_readings 53 = .ok (.checkcast 223, 3) := dk_192 0 223 (dk_at dksX1_readings_2 7 rfl rfl)
theorem dX1_readings_56 : decode cX1_readings 56 = .ok (.aload_n 0, 1) := dk_42 (dk_at dksX1_readings_2 10 rfl rfl)
theorem dX1_readings_57 : decode cX1_readings 57 = .ok (.getfield 38, 3) := dk_180 0 38 (dk_at dksX1_readings_2 11 rfl rfl)
theorem dX1_readings_60 : decode cX1_readings 60 = .ok (.iload_n 2, 1) := dk_28 (dk_at dksX1_readings_2 14 rfl rfl)
theorem dX1_readings_61 : decode cX1_readings 61 = .ok (.iaload, 1) := dk_46 (dk_at dksX1_readings_2 15 rfl rfl)
theorem dX1_readings_62 : decode cX1_readings 62 = .ok (.invokevirtual 296, 3) := dk_182 1 40 (dk_at dksX1_readings_2 16 rfl rfl)
theorem dX1_readings_65 : decode cX1_readings 65 = .ok (.iastore, 1) := dk_79 (dk_at dksX1_readings_2 19 rfl rfl)
theorem dX1_readings_66 : decode cX1_readings 66 = .ok (.iinc 2 1, 3) := dk_132 2 1 (dk_at dksX1_readings_2 20 rfl rfl)
theorem dX1_readings_69 : decode cX1_readings 69 = .ok (.goto (-42), 3) := dk_167 255 214 (dk_at dksX1_readings_3 0 rfl rfl)
theorem dX1_readings_72 : decode cX1_readings 72 = .ok (.iinc 1 1, 3) := dk_132 1 1 (dk_at dksX1_readings_3 3 rfl rfl)
theorem dX1_readings_75 : decode cX1_readings 75 = .ok (.goto (-64), 3) := dk_167 255 192 (dk_at dksX1_readings_3 6 rfl rfl)
theorem dX1_readings_78 : decode cX1_readings 78 = .ok (.aload_n 0, 1) := dk_42 (dk_at dksX1_readings_3 9 rfl rfl)
theorem dX1_readings_79 : decode cX1_readings 79 = .ok (.iconst 0, 1) := dk_3 (dk_at dksX1_readings_3 10 rfl rfl)
theorem dX1_readings_80 : decode cX1_readings 80 = .ok (.putfield 284, 3) := dk_181 1 28 (dk_at dksX1_readings_3 11 rfl rfl)
theorem dX1_readings_83 : decode cX1_readings 83 = .ok (.aload_n 0, 1) := dk_42 (dk_at dksX1_readings_3 14 rfl rfl)
theorem dX1_readings_84 : decode cX1_readings 84 = .ok (.iconst 0, 1) := dk_3 (dk_at dksX1_readings_3 15 rfl rfl)
theorem dX1_readings_85 : decode cX1_readings 85 = .ok (.invokevirtual 278, 3) := dk_182 1 22 (dk_at dksX1_readings_3 16 rfl rfl)
theorem dX1_readings_88 : decode cX1_readings 88 = .ok (.aload_n 0, 1) := dk_42 (dk_at dksX1_readings_3 19 rfl rfl)
theorem dX1_readings_89 : decode cX1_readings 89 = .ok (.getfield 284, 3) := dk_180 1 28 (dk_at dksX1_readings_3 20 rfl rfl)
theorem dX1_readings_92 : decode cX1_readings 92 = .ok (.ifCond .le 17, 3) := dk_158 0 17 (dk_at dksX1_readings_4 0 rfl rfl)
theorem dX1_readings_95 : decode cX1_readings 95 = .ok (.aload_n 0, 1) := dk_42 (dk_at dksX1_readings_4 3 rfl rfl)
theorem dX1_readings_96 : decode cX1_readings 96 = .ok (.aload_n 0, 1) := dk_42 (dk_at dksX1_readings_4 4 rfl rfl)
theorem dX1_readings_97 : decode cX1_readings 97 = .ok (.getfield 19, 3) := dk_180 0 19 (dk_at dksX1_readings_4 5 rfl rfl)
theorem dX1_readings_100 : decode cX1_readings 100 = .ok (.getfield 157, 3) := dk_180 0 157 (dk_at dksX1_readings_4 8 rfl rfl)
theorem dX1_readings_103 : decode cX1_readings 103 = .ok (.invokevirtual 148, 3) := dk_182 0 148 (dk_at dksX1_readings_4 11 rfl rfl)
theorem dX1_readings_106 : decode cX1_readings 106 = .ok (.putfield 299, 3) := dk_181 1 43 (dk_at dksX1_readings_4 14 rfl rfl)
theorem dX1_readings_109 : decode cX1_readings 109 = .ok (.aload_n 0, 1) := dk_42 (dk_at dksX1_readings_4 17 rfl rfl)
theorem dX1_readings_110 : decode cX1_readings 110 = .ok (.getfield 284, 3) := dk_180 1 28 (dk_at dksX1_readings_4 18 rfl rfl)
theorem dX1_readings_113 : decode cX1_readings 113 = .ok (.ireturn, 1) := dk_172 (dk_at dksX1_readings_4 21 rfl rfl)
abbrev cX1_takeTold : ByteArray := prog_1_method_29_code
def yX1_takeTold : MethodName := ⟨RX1, "takeTold", "()Z"⟩
def dkwX1_takeTold_7 : List UInt8 := [167, 255, 189, 4, 172]
abbrev dktX1_takeTold_7 : List UInt8 := dkwX1_takeTold_7 ++ []
def dkwX1_takeTold_6 : List UInt8 := [182, 1, 12, 79, 42, 180, 0, 45, 28, 42, 7, 28, 104, 6, 96, 182, 1, 12, 79, 132, 2, 1]
abbrev dktX1_takeTold_6 : List UInt8 := dkwX1_takeTold_6 ++ dktX1_takeTold_7
def dkwX1_takeTold_5 : List UInt8 := [182, 1, 12, 104, 42, 7, 28, 104, 182, 1, 12, 96, 79, 42, 180, 0, 42, 28, 42, 7, 28, 104, 5, 96]
abbrev dktX1_takeTold_5 : List UInt8 := dkwX1_takeTold_5 ++ dktX1_takeTold_6
def dkwX1_takeTold_4 : List UInt8 := [3, 61, 28, 42, 180, 1, 19, 162, 0, 65, 42, 180, 0, 38, 28, 16, 12, 42, 7, 28, 104, 4, 96]
abbrev dktX1_takeTold_4 : List UInt8 := dkwX1_takeTold_4 ++ dktX1_takeTold_5
def dkwX1_takeTold_3 : List UInt8 := [182, 1, 12, 17, 0, 255, 159, 0, 5, 3, 172, 132, 2, 4, 167, 255, 199, 42, 27, 7, 108, 181, 1, 19]
abbrev dktX1_takeTold_3 : List UInt8 := dkwX1_takeTold_3 ++ dktX1_takeTold_4
def dkwX1_takeTold_2 : List UInt8 := [182, 1, 15, 153, 0, 28, 42, 28, 6, 96, 182, 1, 12, 16, 9, 164, 0, 18, 42, 28, 6, 96]
abbrev dktX1_takeTold_2 : List UInt8 := dkwX1_takeTold_2 ++ dktX1_takeTold_3
def dkwX1_takeTold_1 : List UInt8 := [172, 3, 61, 28, 27, 162, 0, 58, 42, 180, 0, 19, 42, 28, 182, 1, 12, 42, 28, 4, 96, 182, 1, 12]
abbrev dktX1_takeTold_1 : List UInt8 := dkwX1_takeTold_1 ++ dktX1_takeTold_2
def dkwX1_takeTold_0 : List UInt8 := [42, 182, 0, 110, 60, 27, 7, 112, 154, 0, 15, 27, 7, 108, 4, 16, 8, 184, 0, 153, 154, 0, 5, 3]
abbrev dktX1_takeTold_0 : List UInt8 := dkwX1_takeTold_0 ++ dktX1_takeTold_1
theorem dksX1_takeTold_0 : cX1_takeTold.data.toList.drop 0 = dktX1_takeTold_0 := by decide +kernel
theorem dksX1_takeTold_1 : cX1_takeTold.data.toList.drop 24 = dktX1_takeTold_1 := dk_seg dksX1_takeTold_0 24 rfl rfl
theorem dksX1_takeTold_2 : cX1_takeTold.data.toList.drop 48 = dktX1_takeTold_2 := dk_seg dksX1_takeTold_1 24 rfl rfl
theorem dksX1_takeTold_3 : cX1_takeTold.data.toList.drop 70 = dktX1_takeTold_3 := dk_seg dksX1_takeTold_2 22 rfl rfl
theorem dksX1_takeTold_4 : cX1_takeTold.data.toList.drop 94 = dktX1_takeTold_4 := dk_seg dksX1_takeTold_3 24 rfl rfl
theorem dksX1_takeTold_5 : cX1_takeTold.data.toList.drop 117 = dktX1_takeTold_5 := dk_seg dksX1_takeTold_4 23 rfl rfl
theorem dksX1_takeTold_6 : cX1_takeTold.data.toList.drop 141 = dktX1_takeTold_6 := dk_seg dksX1_takeTold_5 24 rfl rfl
theorem dksX1_takeTold_7 : cX1_takeTold.data.toList.drop 163 = dktX1_takeTold_7 := dk_seg dksX1_takeTold_6 22 rfl rfl
theorem dX1_takeTold_0 : decode cX1_takeTold 0 = .ok (.aload_n 0, 1) := dk_42 (dk_at dksX1_takeTold_0 0 rfl rfl)
theorem dX1_takeTold_1 : decode cX1_takeTold 1 = .ok (.invokevirtual 110, 3) := dk_182 0 110 (dk_at dksX1_takeTold_0 1 rfl rfl)
theorem dX1_takeTold_4 : decode cX1_takeTold 4 = .ok (.istore_n 1, 1) := dk_60 (dk_at dksX1_takeTold_0 4 rfl rfl)
theorem dX1_takeTold_5 : decode cX1_takeTold 5 = .ok (.iload_n 1, 1) := dk_27 (dk_at dksX1_takeTold_0 5 rfl rfl)
theorem dX1_takeTold_6 : decode cX1_takeTold 6 = .ok (.iconst 4, 1) := dk_7 (dk_at dksX1_takeTold_0 6 rfl rfl)
theorem dX1_takeTold_7 : decode cX1_takeTold 7 = .ok (.irem, 1) := dk_112 (dk_at dksX1_takeTold_0 7 rfl rfl)
theorem dX1_takeTold_8 : decode cX1_takeTold 8 = .ok (.ifCond .ne 15, 3) := dk_154 0 15 (dk_at dksX1_takeTold_0 8 rfl rfl)
theorem dX1_takeTold_11 : decode cX1_takeTold 11 = .ok (.iload_n 1, 1) := dk_27 (dk_at dksX1_takeTold_0 11 rfl rfl)
theorem dX1_takeTold_12 : decode cX1_takeTold 12 = .ok (.iconst 4, 1) := dk_7 (dk_at dksX1_takeTold_0 12 rfl rfl)
theorem dX1_takeTold_13 : decode cX1_takeTold 13 = .ok (.idiv, 1) := dk_108 (dk_at dksX1_takeTold_0 13 rfl rfl)
theorem dX1_takeTold_14 : decode cX1_takeTold 14 = .ok (.iconst 1, 1) := dk_4 (dk_at dksX1_takeTold_0 14 rfl rfl)
theorem dX1_takeTold_15 : decode cX1_takeTold 15 = .ok (.bipush 8, 2) := dk_16 8 (dk_at dksX1_takeTold_0 15 rfl rfl)
theorem dX1_takeTold_17 : decode cX1_takeTold 17 = .ok (.invokestatic 153, 3) := dk_184 0 153 (dk_at dksX1_takeTold_0 17 rfl rfl)
theorem dX1_takeTold_20 : decode cX1_takeTold 20 = .ok (.ifCond .ne 5, 3) := dk_154 0 5 (dk_at dksX1_takeTold_0 20 rfl rfl)
theorem dX1_takeTold_23 : decode cX1_takeTold 23 = .ok (.iconst 0, 1) := dk_3 (dk_at dksX1_takeTold_0 23 rfl rfl)
theorem dX1_takeTold_24 : decode cX1_takeTold 24 = .ok (.ireturn, 1) := dk_172 (dk_at dksX1_takeTold_1 0 rfl rfl)
theorem dX1_takeTold_25 : decode cX1_takeTold 25 = .ok (.iconst 0, 1) := dk_3 (dk_at dksX1_takeTold_1 1 rfl rfl)
theorem dX1_takeTold_26 : decode cX1_takeTold 26 = .ok (.istore_n 2, 1) := dk_61 (dk_at dksX1_takeTold_1 2 rfl rfl)
theorem dX1_takeTold_27 : decode cX1_takeTold 27 = .ok (.iload_n 2, 1) := dk_28 (dk_at dksX1_takeTold_1 3 rfl rfl)
theorem dX1_takeTold_28 : decode cX1_takeTold 28 = .ok (.iload_n 1, 1) := dk_27 (dk_at dksX1_takeTold_1 4 rfl rfl)
theorem dX1_takeTold_29 : decode cX1_takeTold 29 = .ok (.if_icmp .ge 58, 3) := dk_162 0 58 (dk_at dksX1_takeTold_1 5 rfl rfl)
theorem dX1_takeTold_32 : decode cX1_takeTold 32 = .ok (.aload_n 0, 1) := dk_42 (dk_at dksX1_takeTold_1 8 rfl rfl)
theorem dX1_takeTold_33 : decode cX1_takeTold 33 = .ok (.getfield 19, 3) := dk_180 0 19 (dk_at dksX1_takeTold_1 9 rfl rfl)
theorem dX1_takeTold_36 : decode cX1_takeTold 36 = .ok (.aload_n 0, 1) := dk_42 (dk_at dksX1_takeTold_1 12 rfl rfl)
theorem dX1_takeTold_37 : decode cX1_takeTold 37 = .ok (.iload_n 2, 1) := dk_28 (dk_at dksX1_takeTold_1 13 rfl rfl)
theorem dX1_takeTold_38 : decode cX1_takeTold 38 = .ok (.invokevirtual 268, 3) := dk_182 1 12 (dk_at dksX1_takeTold_1 14 rfl rfl)
theorem dX1_takeTold_41 : decode cX1_takeTold 41 = .ok (.aload_n 0, 1) := dk_42 (dk_at dksX1_takeTold_1 17 rfl rfl)
theorem dX1_takeTold_42 : decode cX1_takeTold 42 = .ok (.iload_n 2, 1) := dk_28 (dk_at dksX1_takeTold_1 18 rfl rfl)
theorem dX1_takeTold_43 : decode cX1_takeTold 43 = .ok (.iconst 1, 1) := dk_4 (dk_at dksX1_takeTold_1 19 rfl rfl)
theorem dX1_takeTold_44 : decode cX1_takeTold 44 = .ok (.iadd, 1) := dk_96 (dk_at dksX1_takeTold_1 20 rfl rfl)
theorem dX1_takeTold_45 : decode cX1_takeTold 45 = .ok (.invokevirtual 268, 3) := dk_182 1 12 (dk_at dksX1_takeTold_1 21 rfl rfl)
theorem dX1_takeTold_48 : decode cX1_takeTold 48 = .ok (.invokevirtual 271, 3) := dk_182 1 15 (dk_at dksX1_takeTold_2 0 rfl rfl)
theorem dX1_takeTold_51 : decode cX1_takeTold 51 = .ok (.ifCond .eq 28, 3) := dk_153 0 28 (dk_at dksX1_takeTold_2 3 rfl rfl)
theorem dX1_takeTold_54 : decode cX1_takeTold 54 = .ok (.aload_n 0, 1) := dk_42 (dk_at dksX1_takeTold_2 6 rfl rfl)
theorem dX1_takeTold_55 : decode cX1_takeTold 55 = .ok (.iload_n 2, 1) := dk_28 (dk_at dksX1_takeTold_2 7 rfl rfl)
theorem dX1_takeTold_56 : decode cX1_takeTold 56 = .ok (.iconst 3, 1) := dk_6 (dk_at dksX1_takeTold_2 8 rfl rfl)
theorem dX1_takeTold_57 : decode cX1_takeTold 57 = .ok (.iadd, 1) := dk_96 (dk_at dksX1_takeTold_2 9 rfl rfl)
theorem dX1_takeTold_58 : decode cX1_takeTold 58 = .ok (.invokevirtual 268, 3) := dk_182 1 12 (dk_at dksX1_takeTold_2 10 rfl rfl)
theorem dX1_takeTold_61 : decode cX1_takeTold 61 = .ok (.bipush 9, 2) := dk_16 9 (dk_at dksX1_takeTold_2 13 rfl rfl)
theorem dX1_takeTold_63 : decode cX1_takeTold 63 = .ok (.if_icmp .le 18, 3) := dk_164 0 18 (dk_at dksX1_takeTold_2 15 rfl rfl)
theorem dX1_takeTold_66 : decode cX1_takeTold 66 = .ok (.aload_n 0, 1) := dk_42 (dk_at dksX1_takeTold_2 18 rfl rfl)
theorem dX1_takeTold_67 : decode cX1_takeTold 67 = .ok (.iload_n 2, 1) := dk_28 (dk_at dksX1_takeTold_2 19 rfl rfl)
theorem dX1_takeTold_68 : decode cX1_takeTold 68 = .ok (.iconst 3, 1) := dk_6 (dk_at dksX1_takeTold_2 20 rfl rfl)
theorem dX1_takeTold_69 : decode cX1_takeTold 69 = .ok (.iadd, 1) := dk_96 (dk_at dksX1_takeTold_2 21 rfl rfl)
theorem dX1_takeTold_70 : decode cX1_takeTold 70 = .ok (.invokevirtual 268, 3) := dk_182 1 12 (dk_at dksX1_takeTold_3 0 rfl rfl)
theorem dX1_takeTold_73 : decode cX1_takeTold 73 = .ok (.sipush 255, 3) := dk_17 0 255 (dk_at dksX1_takeTold_3 3 rfl rfl)
theorem dX1_takeTold_76 : decode cX1_takeTold 76 = .ok (.if_icmp .eq 5, 3) := dk_159 0 5 (dk_at dksX1_takeTold_3 6 rfl rfl)
theorem dX1_takeTold_79 : decode cX1_takeTold 79 = .ok (.iconst 0, 1) := dk_3 (dk_at dksX1_takeTold_3 9 rfl rfl)
theorem dX1_takeTold_80 : decode cX1_takeTold 80 = .ok (.ireturn, 1) := dk_172 (dk_at dksX1_takeTold_3 10 rfl rfl)
theorem dX1_takeTold_81 : decode cX1_takeTold 81 = .ok (.iinc 2 4, 3) := dk_132 2 4 (dk_at dksX1_takeTold_3 11 rfl rfl)
theorem dX1_takeTold_84 : decode cX1_takeTold 84 = .ok (.goto (-57), 3) := dk_167 255 199 (dk_at dksX1_takeTold_3 14 rfl rfl)
theorem dX1_takeTold_87 : decode cX1_takeTold 87 = .ok (.aload_n 0, 1) := dk_42 (dk_at dksX1_takeTold_3 17 rfl rfl)
theorem dX1_takeTold_88 : decode cX1_takeTold 88 = .ok (.iload_n 1, 1) := dk_27 (dk_at dksX1_takeTold_3 18 rfl rfl)
theorem dX1_takeTold_89 : decode cX1_takeTold 89 = .ok (.iconst 4, 1) := dk_7 (dk_at dksX1_takeTold_3 19 rfl rfl)
theorem dX1_takeTold_90 : decode cX1_takeTold 90 = .ok (.idiv, 1) := dk_108 (dk_at dksX1_takeTold_3 20 rfl rfl)
theorem dX1_takeTold_91 : decode cX1_takeTold 91 = .ok (.putfield 275, 3) := dk_181 1 19 (dk_at dksX1_takeTold_3 21 rfl rfl)
theorem dX1_takeTold_94 : decode cX1_takeTold 94 = .ok (.iconst 0, 1) := dk_3 (dk_at dksX1_takeTold_4 0 rfl rfl)
theorem dX1_takeTold_95 : decode cX1_takeTold 95 = .ok (.istore_n 2, 1) := dk_61 (dk_at dksX1_takeTold_4 1 rfl rfl)
theorem dX1_takeTold_96 : decode cX1_takeTold 96 = .ok (.iload_n 2, 1) := dk_28 (dk_at dksX1_takeTold_4 2 rfl rfl)
theorem dX1_takeTold_97 : decode cX1_takeTold 97 = .ok (.aload_n 0, 1) := dk_42 (dk_at dksX1_takeTold_4 3 rfl rfl)
theorem dX1_takeTold_98 : decode cX1_takeTold 98 = .ok (.getfield 275, 3) := dk_180 1 19 (dk_at dksX1_takeTold_4 4 rfl rfl)
theorem dX1_takeTold_101 : decode cX1_takeTold 101 = .ok (.if_icmp .ge 65, 3) := dk_162 0 65 (dk_at dksX1_takeTold_4 7 rfl rfl)
theorem dX1_takeTold_104 : decode cX1_takeTold 104 = .ok (.aload_n 0, 1) := dk_42 (dk_at dksX1_takeTold_4 10 rfl rfl)
theorem dX1_takeTold_105 : decode cX1_takeTold 105 = .ok (.getfield 38, 3) := dk_180 0 38 (dk_at dksX1_takeTold_4 11 rfl rfl)
theorem dX1_takeTold_108 : decode cX1_takeTold 108 = .ok (.iload_n 2, 1) := dk_28 (dk_at dksX1_takeTold_4 14 rfl rfl)
theorem dX1_takeTold_109 : decode cX1_takeTold 109 = .ok (.bipush 12, 2) := dk_16 12 (dk_at dksX1_takeTold_4 15 rfl rfl)
theorem dX1_takeTold_111 : decode cX1_takeTold 111 = .ok (.aload_n 0, 1) := dk_42 (dk_at dksX1_takeTold_4 17 rfl rfl)
theorem dX1_takeTold_112 : decode cX1_takeTold 112 = .ok (.iconst 4, 1) := dk_7 (dk_at dksX1_takeTold_4 18 rfl rfl)
theorem dX1_takeTold_113 : decode cX1_takeTold 113 = .ok (.iload_n 2, 1) := dk_28 (dk_at dksX1_takeTold_4 19 rfl rfl)
theorem dX1_takeTold_114 : decode cX1_takeTold 114 = .ok (.imul, 1) := dk_104 (dk_at dksX1_takeTold_4 20 rfl rfl)
theorem dX1_takeTold_115 : decode cX1_takeTold 115 = .ok (.iconst 1, 1) := dk_4 (dk_at dksX1_takeTold_4 21 rfl rfl)
theorem dX1_takeTold_116 : decode cX1_takeTold 116 = .ok (.iadd, 1) := dk_96 (dk_at dksX1_takeTold_4 22 rfl rfl)
theorem dX1_takeTold_117 : decode cX1_takeTold 117 = .ok (.invokevirtual 268, 3) := dk_182 1 12 (dk_at dksX1_takeTold_5 0 rfl rfl)
theorem dX1_takeTold_120 : decode cX1_takeTold 120 = .ok (.imul, 1) := dk_104 (dk_at dksX1_takeTold_5 3 rfl rfl)
theorem dX1_takeTold_121 : decode cX1_takeTold 121 = .ok (.aload_n 0, 1) := dk_42 (dk_at dksX1_takeTold_5 4 rfl rfl)
theorem dX1_takeTold_122 : decode cX1_takeTold 122 = .ok (.iconst 4, 1) := dk_7 (dk_at dksX1_takeTold_5 5 rfl rfl)
theorem dX1_takeTold_123 : decode cX1_takeTold 123 = .ok (.iload_n 2, 1) := dk_28 (dk_at dksX1_takeTold_5 6 rfl rfl)
theorem dX1_takeTold_124 : decode cX1_takeTold 124 = .ok (.imul, 1) := dk_104 (dk_at dksX1_takeTold_5 7 rfl rfl)
theorem dX1_takeTold_125 : decode cX1_takeTold 125 = .ok (.invokevirtual 268, 3) := dk_182 1 12 (dk_at dksX1_takeTold_5 8 rfl rfl)
theorem dX1_takeTold_128 : decode cX1_takeTold 128 = .ok (.iadd, 1) := dk_96 (dk_at dksX1_takeTold_5 11 rfl rfl)
theorem dX1_takeTold_129 : decode cX1_takeTold 129 = .ok (.iastore, 1) := dk_79 (dk_at dksX1_takeTold_5 12 rfl rfl)
theorem dX1_takeTold_130 : decode cX1_takeTold 130 = .ok (.aload_n 0, 1) := dk_42 (dk_at dksX1_takeTold_5 13 rfl rfl)
theorem dX1_takeTold_131 : decode cX1_takeTold 131 = .ok (.getfield 42, 3) := dk_180 0 42 (dk_at dksX1_takeTold_5 14 rfl rfl)
theorem dX1_takeTold_134 : decode cX1_takeTold 134 = .ok (.iload_n 2, 1) := dk_28 (dk_at dksX1_takeTold_5 17 rfl rfl)
theorem dX1_takeTold_135 : decode cX1_takeTold 135 = .ok (.aload_n 0, 1) := dk_42 (dk_at dksX1_takeTold_5 18 rfl rfl)
theorem dX1_takeTold_136 : decode cX1_takeTold 136 = .ok (.iconst 4, 1) := dk_7 (dk_at dksX1_takeTold_5 19 rfl rfl)
theorem dX1_takeTold_137 : decode cX1_takeTold 137 = .ok (.iload_n 2, 1) := dk_28 (dk_at dksX1_takeTold_5 20 rfl rfl)
theorem dX1_takeTold_138 : decode cX1_takeTold 138 = .ok (.imul, 1) := dk_104 (dk_at dksX1_takeTold_5 21 rfl rfl)
theorem dX1_takeTold_139 : decode cX1_takeTold 139 = .ok (.iconst 2, 1) := dk_5 (dk_at dksX1_takeTold_5 22 rfl rfl)
theorem dX1_takeTold_140 : decode cX1_takeTold 140 = .ok (.iadd, 1) := dk_96 (dk_at dksX1_takeTold_5 23 rfl rfl)
theorem dX1_takeTold_141 : decode cX1_takeTold 141 = .ok (.invokevirtual 268, 3) := dk_182 1 12 (dk_at dksX1_takeTold_6 0 rfl rfl)
theorem dX1_takeTold_144 : decode cX1_takeTold 144 = .ok (.iastore, 1) := dk_79 (dk_at dksX1_takeTold_6 3 rfl rfl)
theorem dX1_takeTold_145 : decode cX1_takeTold 145 = .ok (.aload_n 0, 1) := dk_42 (dk_at dksX1_takeTold_6 4 rfl rfl)
theorem dX1_takeTold_146 : decode cX1_takeTold 146 = .ok (.getfield 45, 3) := dk_180 0 45 (dk_at dksX1_takeTold_6 5 rfl rfl)
theorem dX1_takeTold_149 : decode cX1_takeTold 149 = .ok (.iload_n 2, 1) := dk_28 (dk_at dksX1_takeTold_6 8 rfl rfl)
theorem dX1_takeTold_150 : decode cX1_takeTold 150 = .ok (.aload_n 0, 1) := dk_42 (dk_at dksX1_takeTold_6 9 rfl rfl)
theorem dX1_takeTold_151 : decode cX1_takeTold 151 = .ok (.iconst 4, 1) := dk_7 (dk_at dksX1_takeTold_6 10 rfl rfl)
theorem dX1_takeTold_152 : decode cX1_takeTold 152 = .ok (.iload_n 2, 1) := dk_28 (dk_at dksX1_takeTold_6 11 rfl rfl)
theorem dX1_takeTold_153 : decode cX1_takeTold 153 = .ok (.imul, 1) := dk_104 (dk_at dksX1_takeTold_6 12 rfl rfl)
theorem dX1_takeTold_154 : decode cX1_takeTold 154 = .ok (.iconst 3, 1) := dk_6 (dk_at dksX1_takeTold_6 13 rfl rfl)
theorem dX1_takeTold_155 : decode cX1_takeTold 155 = .ok (.iadd, 1) := dk_96 (dk_at dksX1_takeTold_6 14 rfl rfl)
theorem dX1_takeTold_156 : decode cX1_takeTold 156 = .ok (.invokevirtual 268, 3) := dk_182 1 12 (dk_at dksX1_takeTold_6 15 rfl rfl)
theorem dX1_takeTold_159 : decode cX1_takeTold 159 = .ok (.iastore, 1) := dk_79 (dk_at dksX1_takeTold_6 18 rfl rfl)
theorem dX1_takeTold_160 : decode cX1_takeTold 160 = .ok (.iinc 2 1, 3) := dk_132 2 1 (dk_at dksX1_takeTold_6 19 rfl rfl)
theorem dX1_takeTold_163 : decode cX1_takeTold 163 = .ok (.goto (-67), 3) := dk_167 255 189 (dk_at dksX1_takeTold_7 0 rfl rfl)
theorem dX1_takeTold_166 : decode cX1_takeTold 166 = .ok (.iconst 1, 1) := dk_4 (dk_at dksX1_takeTold_7 3 rfl rfl)
theorem dX1_takeTold_167 : decode cX1_takeTold 167 = .ok (.ireturn, 1) := dk_172 (dk_at dksX1_takeTold_7 4 rfl rfl)
abbrev cX1_onTape : ByteArray := prog_1_method_9_code
def yX1_onTape : MethodName := ⟨RX1, "onTape", "(I)I"⟩
def dkwX1_onTape_0 : List UInt8 := [42, 180, 0, 12, 27, 51, 17, 0, 255, 126, 172]
abbrev dktX1_onTape_0 : List UInt8 := dkwX1_onTape_0 ++ []
theorem dksX1_onTape_0 : cX1_onTape.data.toList.drop 0 = dktX1_onTape_0 := by decide +kernel
theorem dX1_onTape_0 : decode cX1_onTape 0 = .ok (.aload_n 0, 1) := dk_42 (dk_at dksX1_onTape_0 0 rfl rfl)
theorem dX1_onTape_1 : decode cX1_onTape 1 = .ok (.getfield 12, 3) := dk_180 0 12 (dk_at dksX1_onTape_0 1 rfl rfl)
theorem dX1_onTape_4 : decode cX1_onTape 4 = .ok (.iload_n 1, 1) := dk_27 (dk_at dksX1_onTape_0 4 rfl rfl)
theorem dX1_onTape_5 : decode cX1_onTape 5 = .ok (.baload, 1) := dk_51 (dk_at dksX1_onTape_0 5 rfl rfl)
theorem dX1_onTape_6 : decode cX1_onTape 6 = .ok (.sipush 255, 3) := dk_17 0 255 (dk_at dksX1_onTape_0 6 rfl rfl)
theorem dX1_onTape_9 : decode cX1_onTape 9 = .ok (.iand, 1) := dk_126 (dk_at dksX1_onTape_0 9 rfl rfl)
theorem dX1_onTape_10 : decode cX1_onTape 10 = .ok (.ireturn, 1) := dk_172 (dk_at dksX1_onTape_0 10 rfl rfl)
abbrev cX1_tryWays : ByteArray := prog_1_method_31_code
def yX1_tryWays : MethodName := ⟨RX1, "tryWays", "(I)V"⟩
def dkwX1_tryWays_9 : List UInt8 := [180, 0, 62, 28, 184, 1, 31, 184, 0, 248, 181, 0, 62, 177]
abbrev dktX1_tryWays_9 : List UInt8 := dkwX1_tryWays_9 ++ []
def dkwX1_tryWays_8 : List UInt8 := [132, 3, 1, 167, 255, 158, 42, 42, 180, 1, 28, 4, 160, 0, 10, 28, 184, 1, 31, 167, 0, 14, 42]
abbrev dktX1_tryWays_8 : List UInt8 := dkwX1_tryWays_8 ++ dktX1_tryWays_9
def dkwX1_tryWays_7 : List UInt8 := [46, 42, 180, 0, 48, 29, 46, 160, 0, 12, 42, 180, 0, 48, 29, 46, 167, 0, 5, 16, 254, 79]
abbrev dktX1_tryWays_7 : List UInt8 := dkwX1_tryWays_7 ++ dktX1_tryWays_8
def dkwX1_tryWays_6 : List UInt8 := [180, 0, 48, 29, 46, 79, 42, 180, 0, 54, 29, 42, 180, 1, 28, 4, 159, 0, 18, 42, 180, 0, 54, 29]
abbrev dktX1_tryWays_6 : List UInt8 := dkwX1_tryWays_6 ++ dktX1_tryWays_7
def dkwX1_tryWays_5 : List UInt8 := [42, 180, 0, 48, 29, 46, 120, 128, 61, 42, 180, 1, 28, 4, 160, 0, 15, 42, 180, 0, 51, 29, 42]
abbrev dktX1_tryWays_5 : List UInt8 := dkwX1_tryWays_5 ++ dktX1_tryWays_6
def dkwX1_tryWays_4 : List UInt8 := [180, 0, 19, 180, 0, 157, 182, 0, 148, 162, 0, 90, 42, 180, 0, 48, 29, 46, 2, 159, 0, 14, 28, 4]
abbrev dktX1_tryWays_4 : List UInt8 := dkwX1_tryWays_4 ++ dktX1_tryWays_5
def dkwX1_tryWays_3 : List UInt8 := [132, 2, 1, 167, 255, 236, 42, 89, 180, 1, 28, 4, 96, 181, 1, 28, 3, 61, 3, 62, 29, 42]
abbrev dktX1_tryWays_3 : List UInt8 := dkwX1_tryWays_3 ++ dktX1_tryWays_4
def dkwX1_tryWays_2 : List UInt8 := [167, 255, 225, 177, 3, 61, 28, 42, 180, 1, 19, 162, 0, 18, 42, 28, 182, 1, 25, 154, 0, 4, 177]
abbrev dktX1_tryWays_2 : List UInt8 := dkwX1_tryWays_2 ++ dktX1_tryWays_3
def dkwX1_tryWays_1 : List UInt8 := [182, 0, 148, 162, 0, 23, 42, 180, 0, 48, 27, 28, 79, 42, 27, 4, 96, 182, 1, 22, 132, 2, 1]
abbrev dktX1_tryWays_1 : List UInt8 := dkwX1_tryWays_1 ++ dktX1_tryWays_2
def dkwX1_tryWays_0 : List UInt8 := [27, 42, 180, 0, 19, 180, 0, 157, 182, 0, 148, 162, 0, 40, 2, 61, 28, 42, 180, 0, 19, 180, 0, 144]
abbrev dktX1_tryWays_0 : List UInt8 := dkwX1_tryWays_0 ++ dktX1_tryWays_1
theorem dksX1_tryWays_0 : cX1_tryWays.data.toList.drop 0 = dktX1_tryWays_0 := by decide +kernel
theorem dksX1_tryWays_1 : cX1_tryWays.data.toList.drop 24 = dktX1_tryWays_1 := dk_seg dksX1_tryWays_0 24 rfl rfl
theorem dksX1_tryWays_2 : cX1_tryWays.data.toList.drop 47 = dktX1_tryWays_2 := dk_seg dksX1_tryWays_1 23 rfl rfl
theorem dksX1_tryWays_3 : cX1_tryWays.data.toList.drop 70 = dktX1_tryWays_3 := dk_seg dksX1_tryWays_2 23 rfl rfl
theorem dksX1_tryWays_4 : cX1_tryWays.data.toList.drop 92 = dktX1_tryWays_4 := dk_seg dksX1_tryWays_3 22 rfl rfl
theorem dksX1_tryWays_5 : cX1_tryWays.data.toList.drop 116 = dktX1_tryWays_5 := dk_seg dksX1_tryWays_4 24 rfl rfl
theorem dksX1_tryWays_6 : cX1_tryWays.data.toList.drop 139 = dktX1_tryWays_6 := dk_seg dksX1_tryWays_5 23 rfl rfl
theorem dksX1_tryWays_7 : cX1_tryWays.data.toList.drop 163 = dktX1_tryWays_7 := dk_seg dksX1_tryWays_6 24 rfl rfl
theorem dksX1_tryWays_8 : cX1_tryWays.data.toList.drop 185 = dktX1_tryWays_8 := dk_seg dksX1_tryWays_7 22 rfl rfl
theorem dksX1_tryWays_9 : cX1_tryWays.data.toList.drop 208 = dktX1_tryWays_9 := dk_seg dksX1_tryWays_8 23 rfl rfl
theorem dX1_tryWays_0 : decode cX1_tryWays 0 = .ok (.iload_n 1, 1) := dk_27 (dk_at dksX1_tryWays_0 0 rfl rfl)
theorem dX1_tryWays_1 : decode cX1_tryWays 1 = .ok (.aload_n 0, 1) := dk_42 (dk_at dksX1_tryWays_0 1 rfl rfl)
theorem dX1_tryWays_2 : decode cX1_tryWays 2 = .ok (.getfield 19, 3) := dk_180 0 19 (dk_at dksX1_tryWays_0 2 rfl rfl)
theorem dX1_tryWays_5 : decode cX1_tryWays 5 = .ok (.getfield 157, 3) := dk_180 0 157 (dk_at dksX1_tryWays_0 5 rfl rfl)
theorem dX1_tryWays_8 : decode cX1_tryWays 8 = .ok (.invokevirtual 148, 3) := dk_182 0 148 (dk_at dksX1_tryWays_0 8 rfl rfl)
theorem dX1_tryWays_11 : decode cX1_tryWays 11 = .ok (.if_icmp .ge 40, 3) := dk_162 0 40 (dk_at dksX1_tryWays_0 11 rfl rfl)
theorem dX1_tryWays_14 : decode cX1_tryWays 14 = .ok (.iconst (-1), 1) := dk_2 (dk_at dksX1_tryWays_0 14 rfl rfl)
theorem dX1_tryWays_15 : decode cX1_tryWays 15 = .ok (.istore_n 2, 1) := dk_61 (dk_at dksX1_tryWays_0 15 rfl rfl)
theorem dX1_tryWays_16 : decode cX1_tryWays 16 = .ok (.iload_n 2, 1) := dk_28 (dk_at dksX1_tryWays_0 16 rfl rfl)
theorem dX1_tryWays_17 : decode cX1_tryWays 17 = .ok (.aload_n 0, 1) := dk_42 (dk_at dksX1_tryWays_0 17 rfl rfl)
theorem dX1_tryWays_18 : decode cX1_tryWays 18 = .ok (.getfield 19, 3) := dk_180 0 19 (dk_at dksX1_tryWays_0 18 rfl rfl)
theorem dX1_tryWays_21 : decode cX1_tryWays 21 = .ok (.getfield 144, 3) := dk_180 0 144 (dk_at dksX1_tryWays_0 21 rfl rfl)
theorem dX1_tryWays_24 : decode cX1_tryWays 24 = .ok (.invokevirtual 148, 3) := dk_182 0 148 (dk_at dksX1_tryWays_1 0 rfl rfl)
theorem dX1_tryWays_27 : decode cX1_tryWays 27 = .ok (.if_icmp .ge 23, 3) := dk_162 0 23 (dk_at dksX1_tryWays_1 3 rfl rfl)
theorem dX1_tryWays_30 : decode cX1_tryWays 30 = .ok (.aload_n 0, 1) := dk_42 (dk_at dksX1_tryWays_1 6 rfl rfl)
theorem dX1_tryWays_31 : decode cX1_tryWays 31 = .ok (.getfield 48, 3) := dk_180 0 48 (dk_at dksX1_tryWays_1 7 rfl rfl)
theorem dX1_tryWays_34 : decode cX1_tryWays 34 = .ok (.iload_n 1, 1) := dk_27 (dk_at dksX1_tryWays_1 10 rfl rfl)
theorem dX1_tryWays_35 : decode cX1_tryWays 35 = .ok (.iload_n 2, 1) := dk_28 (dk_at dksX1_tryWays_1 11 rfl rfl)
theorem dX1_tryWays_36 : decode cX1_tryWays 36 = .ok (.iastore, 1) := dk_79 (dk_at dksX1_tryWays_1 12 rfl rfl)
theorem dX1_tryWays_37 : decode cX1_tryWays 37 = .ok (.aload_n 0, 1) := dk_42 (dk_at dksX1_tryWays_1 13 rfl rfl)
theorem dX1_tryWays_38 : decode cX1_tryWays 38 = .ok (.iload_n 1, 1) := dk_27 (dk_at dksX1_tryWays_1 14 rfl rfl)
theorem dX1_tryWays_39 : decode cX1_tryWays 39 = .ok (.iconst 1, 1) := dk_4 (dk_at dksX1_tryWays_1 15 rfl rfl)
theorem dX1_tryWays_40 : decode cX1_tryWays 40 = .ok (.iadd, 1) := dk_96 (dk_at dksX1_tryWays_1 16 rfl rfl)
theorem dX1_tryWays_41 : decode cX1_tryWays 41 = .ok (.invokevirtual 278, 3) := dk_182 1 22 (dk_at dksX1_tryWays_1 17 rfl rfl)
theorem dX1_tryWays_44 : decode cX1_tryWays 44 = .ok (.iinc 2 1, 3) := dk_132 2 1 (dk_at dksX1_tryWays_1 20 rfl rfl)
theorem dX1_tryWays_47 : decode cX1_tryWays 47 = .ok (.goto (-31), 3) := dk_167 255 225 (dk_at dksX1_tryWays_2 0 rfl rfl)
theorem dX1_tryWays_50 : decode cX1_tryWays 50 = .ok (.return_, 1) := dk_177 (dk_at dksX1_tryWays_2 3 rfl rfl)
theorem dX1_tryWays_51 : decode cX1_tryWays 51 = .ok (.iconst 0, 1) := dk_3 (dk_at dksX1_tryWays_2 4 rfl rfl)
theorem dX1_tryWays_52 : decode cX1_tryWays 52 = .ok (.istore_n 2, 1) := dk_61 (dk_at dksX1_tryWays_2 5 rfl rfl)
theorem dX1_tryWays_53 : decode cX1_tryWays 53 = .ok (.iload_n 2, 1) := dk_28 (dk_at dksX1_tryWays_2 6 rfl rfl)
theorem dX1_tryWays_54 : decode cX1_tryWays 54 = .ok (.aload_n 0, 1) := dk_42 (dk_at dksX1_tryWays_2 7 rfl rfl)
theorem dX1_tryWays_55 : decode cX1_tryWays 55 = .ok (.getfield 275, 3) := dk_180 1 19 (dk_at dksX1_tryWays_2 8 rfl rfl)
theorem dX1_tryWays_58 : decode cX1_tryWays 58 = .ok (.if_icmp .ge 18, 3) := dk_162 0 18 (dk_at dksX1_tryWays_2 11 rfl rfl)
theorem dX1_tryWays_61 : decode cX1_tryWays 61 = .ok (.aload_n 0, 1) := dk_42 (dk_at dksX1_tryWays_2 14 rfl rfl)
theorem dX1_tryWays_62 : decode cX1_tryWays 62 = .ok (.iload_n 2, 1) := dk_28 (dk_at dksX1_tryWays_2 15 rfl rfl)
theorem dX1_tryWays_63 : decode cX1_tryWays 63 = .ok (.invokevirtual 281, 3) := dk_182 1 25 (dk_at dksX1_tryWays_2 16 rfl rfl)
theorem dX1_tryWays_66 : decode cX1_tryWays 66 = .ok (.ifCond .ne 4, 3) := dk_154 0 4 (dk_at dksX1_tryWays_2 19 rfl rfl)
theorem dX1_tryWays_69 : decode cX1_tryWays 69 = .ok (.return_, 1) := dk_177 (dk_at dksX1_tryWays_2 22 rfl rfl)
theorem dX1_tryWays_70 : decode cX1_tryWays 70 = .ok (.iinc 2 1, 3) := dk_132 2 1 (dk_at dksX1_tryWays_3 0 rfl rfl)
theorem dX1_tryWays_73 : decode cX1_tryWays 73 = .ok (.goto (-20), 3) := dk_167 255 236 (dk_at dksX1_tryWays_3 3 rfl rfl)
theorem dX1_tryWays_76 : decode cX1_tryWays 76 = .ok (.aload_n 0, 1) := dk_42 (dk_at dksX1_tryWays_3 6 rfl rfl)
theorem dX1_tryWays_77 : decode cX1_tryWays 77 = .ok (.dup, 1) := dk_89 (dk_at dksX1_tryWays_3 7 rfl rfl)
theorem dX1_tryWays_78 : decode cX1_tryWays 78 = .ok (.getfield 284, 3) := dk_180 1 28 (dk_at dksX1_tryWays_3 8 rfl rfl)
theorem dX1_tryWays_81 : decode cX1_tryWays 81 = .ok (.iconst 1, 1) := dk_4 (dk_at dksX1_tryWays_3 11 rfl rfl)
theorem dX1_tryWays_82 : decode cX1_tryWays 82 = .ok (.iadd, 1) := dk_96 (dk_at dksX1_tryWays_3 12 rfl rfl)
theorem dX1_tryWays_83 : decode cX1_tryWays 83 = .ok (.putfield 284, 3) := dk_181 1 28 (dk_at dksX1_tryWays_3 13 rfl rfl)
theorem dX1_tryWays_86 : decode cX1_tryWays 86 = .ok (.iconst 0, 1) := dk_3 (dk_at dksX1_tryWays_3 16 rfl rfl)
theorem dX1_tryWays_87 : decode cX1_tryWays 87 = .ok (.istore_n 2, 1) := dk_61 (dk_at dksX1_tryWays_3 17 rfl rfl)
theorem dX1_tryWays_88 : decode cX1_tryWays 88 = .ok (.iconst 0, 1) := dk_3 (dk_at dksX1_tryWays_3 18 rfl rfl)
theorem dX1_tryWays_89 : decode cX1_tryWays 89 = .ok (.istore_n 3, 1) := dk_62 (dk_at dksX1_tryWays_3 19 rfl rfl)
theorem dX1_tryWays_90 : decode cX1_tryWays 90 = .ok (.iload_n 3, 1) := dk_29 (dk_at dksX1_tryWays_3 20 rfl rfl)
theorem dX1_tryWays_91 : decode cX1_tryWays 91 = .ok (.aload_n 0, 1) := dk_42 (dk_at dksX1_tryWays_3 21 rfl rfl)
theorem dX1_tryWays_92 : decode cX1_tryWays 92 = .ok (.getfield 19, 3) := dk_180 0 19 (dk_at dksX1_tryWays_4 0 rfl rfl)
theorem dX1_tryWays_95 : decode cX1_tryWays 95 = .ok (.getfield 157, 3) := dk_180 0 157 (dk_at dksX1_tryWays_4 3 rfl rfl)
theorem dX1_tryWays_98 : decode cX1_tryWays 98 = .ok (.invokevirtual 148, 3) := dk_182 0 148 (dk_at dksX1_tryWays_4 6 rfl rfl)
theorem dX1_tryWays_101 : decode cX1_tryWays 101 = .ok (.if_icmp .ge 90, 3) := dk_162 0 90 (dk_at dksX1_tryWays_4 9 rfl rfl)
theorem dX1_tryWays_104 : decode cX1_tryWays 104 = .ok (.aload_n 0, 1) := dk_42 (dk_at dksX1_tryWays_4 12 rfl rfl)
theorem dX1_tryWays_105 : decode cX1_tryWays 105 = .ok (.getfield 48, 3) := dk_180 0 48 (dk_at dksX1_tryWays_4 13 rfl rfl)
theorem dX1_tryWays_108 : decode cX1_tryWays 108 = .ok (.iload_n 3, 1) := dk_29 (dk_at dksX1_tryWays_4 16 rfl rfl)
theorem dX1_tryWays_109 : decode cX1_tryWays 109 = .ok (.iaload, 1) := dk_46 (dk_at dksX1_tryWays_4 17 rfl rfl)
theorem dX1_tryWays_110 : decode cX1_tryWays 110 = .ok (.iconst (-1), 1) := dk_2 (dk_at dksX1_tryWays_4 18 rfl rfl)
theorem dX1_tryWays_111 : decode cX1_tryWays 111 = .ok (.if_icmp .eq 14, 3) := dk_159 0 14 (dk_at dksX1_tryWays_4 19 rfl rfl)
theorem dX1_tryWays_114 : decode cX1_tryWays 114 = .ok (.iload_n 2, 1) := dk_28 (dk_at dksX1_tryWays_4 22 rfl rfl)
theorem dX1_tryWays_115 : decode cX1_tryWays 115 = .ok (.iconst 1, 1) := dk_4 (dk_at dksX1_tryWays_4 23 rfl rfl)
theorem dX1_tryWays_116 : decode cX1_tryWays 116 = .ok (.aload_n 0, 1) := dk_42 (dk_at dksX1_tryWays_5 0 rfl rfl)
theorem dX1_tryWays_117 : decode cX1_tryWays 117 = .ok (.getfield 48, 3) := dk_180 0 48 (dk_at dksX1_tryWays_5 1 rfl rfl)
theorem dX1_tryWays_120 : decode cX1_tryWays 120 = .ok (.iload_n 3, 1) := dk_29 (dk_at dksX1_tryWays_5 4 rfl rfl)
theorem dX1_tryWays_121 : decode cX1_tryWays 121 = .ok (.iaload, 1) := dk_46 (dk_at dksX1_tryWays_5 5 rfl rfl)
theorem dX1_tryWays_122 : decode cX1_tryWays 122 = .ok (.ishl, 1) := dk_120 (dk_at dksX1_tryWays_5 6 rfl rfl)
theorem dX1_tryWays_123 : decode cX1_tryWays 123 = .ok (.ior, 1) := dk_128 (dk_at dksX1_tryWays_5 7 rfl rfl)
theorem dX1_tryWays_124 : decode cX1_tryWays 124 = .ok (.istore_n 2, 1) := dk_61 (dk_at dksX1_tryWays_5 8 rfl rfl)
theorem dX1_tryWays_125 : decode cX1_tryWays 125 = .ok (.aload_n 0, 1) := dk_42 (dk_at dksX1_tryWays_5 9 rfl rfl)
theorem dX1_tryWays_126 : decode cX1_tryWays 126 = .ok (.getfield 284, 3) := dk_180 1 28 (dk_at dksX1_tryWays_5 10 rfl rfl)
theorem dX1_tryWays_129 : decode cX1_tryWays 129 = .ok (.iconst 1, 1) := dk_4 (dk_at dksX1_tryWays_5 13 rfl rfl)
theorem dX1_tryWays_130 : decode cX1_tryWays 130 = .ok (.if_icmp .ne 15, 3) := dk_160 0 15 (dk_at dksX1_tryWays_5 14 rfl rfl)
theorem dX1_tryWays_133 : decode cX1_tryWays 133 = .ok (.aload_n 0, 1) := dk_42 (dk_at dksX1_tryWays_5 17 rfl rfl)
theorem dX1_tryWays_134 : decode cX1_tryWays 134 = .ok (.getfield 51, 3) := dk_180 0 51 (dk_at dksX1_tryWays_5 18 rfl rfl)
theorem dX1_tryWays_137 : decode cX1_tryWays 137 = .ok (.iload_n 3, 1) := dk_29 (dk_at dksX1_tryWays_5 21 rfl rfl)
theorem dX1_tryWays_138 : decode cX1_tryWays 138 = .ok (.aload_n 0, 1) := dk_42 (dk_at dksX1_tryWays_5 22 rfl rfl)
theorem dX1_tryWays_139 : decode cX1_tryWays 139 = .ok (.getfield 48, 3) := dk_180 0 48 (dk_at dksX1_tryWays_6 0 rfl rfl)
theorem dX1_tryWays_142 : decode cX1_tryWays 142 = .ok (.iload_n 3, 1) := dk_29 (dk_at dksX1_tryWays_6 3 rfl rfl)
theorem dX1_tryWays_143 : decode cX1_tryWays 143 = .ok (.iaload, 1) := dk_46 (dk_at dksX1_tryWays_6 4 rfl rfl)
theorem dX1_tryWays_144 : decode cX1_tryWays 144 = .ok (.iastore, 1) := dk_79 (dk_at dksX1_tryWays_6 5 rfl rfl)
theorem dX1_tryWays_145 : decode cX1_tryWays 145 = .ok (.aload_n 0, 1) := dk_42 (dk_at dksX1_tryWays_6 6 rfl rfl)
theorem dX1_tryWays_146 : decode cX1_tryWays 146 = .ok (.getfield 54, 3) := dk_180 0 54 (dk_at dksX1_tryWays_6 7 rfl rfl)
theorem dX1_tryWays_149 : decode cX1_tryWays 149 = .ok (.iload_n 3, 1) := dk_29 (dk_at dksX1_tryWays_6 10 rfl rfl)
theorem dX1_tryWays_150 : decode cX1_tryWays 150 = .ok (.aload_n 0, 1) := dk_42 (dk_at dksX1_tryWays_6 11 rfl rfl)
theorem dX1_tryWays_151 : decode cX1_tryWays 151 = .ok (.getfield 284, 3) := dk_180 1 28 (dk_at dksX1_tryWays_6 12 rfl rfl)
theorem dX1_tryWays_154 : decode cX1_tryWays 154 = .ok (.iconst 1, 1) := dk_4 (dk_at dksX1_tryWays_6 15 rfl rfl)
theorem dX1_tryWays_155 : decode cX1_tryWays 155 = .ok (.if_icmp .eq 18, 3) := dk_159 0 18 (dk_at dksX1_tryWays_6 16 rfl rfl)
theorem dX1_tryWays_158 : decode cX1_tryWays 158 = .ok (.aload_n 0, 1) := dk_42 (dk_at dksX1_tryWays_6 19 rfl rfl)
theorem dX1_tryWays_159 : decode cX1_tryWays 159 = .ok (.getfield 54, 3) := dk_180 0 54 (dk_at dksX1_tryWays_6 20 rfl rfl)
theorem dX1_tryWays_162 : decode cX1_tryWays 162 = .ok (.iload_n 3, 1) := dk_29 (dk_at dksX1_tryWays_6 23 rfl rfl)
theorem dX1_tryWays_163 : decode cX1_tryWays 163 = .ok (.iaload, 1) := dk_46 (dk_at dksX1_tryWays_7 0 rfl rfl)
theorem dX1_tryWays_164 : decode cX1_tryWays 164 = .ok (.aload_n 0, 1) := dk_42 (dk_at dksX1_tryWays_7 1 rfl rfl)
theorem dX1_tryWays_165 : decode cX1_tryWays 165 = .ok (.getfield 48, 3) := dk_180 0 48 (dk_at dksX1_tryWays_7 2 rfl rfl)
theorem dX1_tryWays_168 : decode cX1_tryWays 168 = .ok (.iload_n 3, 1) := dk_29 (dk_at dksX1_tryWays_7 5 rfl rfl)
theorem dX1_tryWays_169 : decode cX1_tryWays 169 = .ok (.iaload, 1) := dk_46 (dk_at dksX1_tryWays_7 6 rfl rfl)
theorem dX1_tryWays_170 : decode cX1_tryWays 170 = .ok (.if_icmp .ne 12, 3) := dk_160 0 12 (dk_at dksX1_tryWays_7 7 rfl rfl)
theorem dX1_tryWays_173 : decode cX1_tryWays 173 = .ok (.aload_n 0, 1) := dk_42 (dk_at dksX1_tryWays_7 10 rfl rfl)
theorem dX1_tryWays_174 : decode cX1_tryWays 174 = .ok (.getfield 48, 3) := dk_180 0 48 (dk_at dksX1_tryWays_7 11 rfl rfl)
theorem dX1_tryWays_177 : decode cX1_tryWays 177 = .ok (.iload_n 3, 1) := dk_29 (dk_at dksX1_tryWays_7 14 rfl rfl)
theorem dX1_tryWays_178 : decode cX1_tryWays 178 = .ok (.iaload, 1) := dk_46 (dk_at dksX1_tryWays_7 15 rfl rfl)
theorem dX1_tryWays_179 : decode cX1_tryWays 179 = .ok (.goto 5, 3) := dk_167 0 5 (dk_at dksX1_tryWays_7 16 rfl rfl)
theorem dX1_tryWays_182 : decode cX1_tryWays 182 = .ok (.bipush (-2), 2) := dk_16 254 (dk_at dksX1_tryWays_7 19 rfl rfl)
theorem dX1_tryWays_184 : decode cX1_tryWays 184 = .ok (.iastore, 1) := dk_79 (dk_at dksX1_tryWays_7 21 rfl rfl)
theorem dX1_tryWays_185 : decode cX1_tryWays 185 = .ok (.iinc 3 1, 3) := dk_132 3 1 (dk_at dksX1_tryWays_8 0 rfl rfl)
theorem dX1_tryWays_188 : decode cX1_tryWays 188 = .ok (.goto (-98), 3) := dk_167 255 158 (dk_at dksX1_tryWays_8 3 rfl rfl)
theorem dX1_tryWays_191 : decode cX1_tryWays 191 = .ok (.aload_n 0, 1) := dk_42 (dk_at dksX1_tryWays_8 6 rfl rfl)
theorem dX1_tryWays_192 : decode cX1_tryWays 192 = .ok (.aload_n 0, 1) := dk_42 (dk_at dksX1_tryWays_8 7 rfl rfl)
theorem dX1_tryWays_193 : decode cX1_tryWays 193 = .ok (.getfield 284, 3) := dk_180 1 28 (dk_at dksX1_tryWays_8 8 rfl rfl)
theorem dX1_tryWays_196 : decode cX1_tryWays 196 = .ok (.iconst 1, 1) := dk_4 (dk_at dksX1_tryWays_8 11 rfl rfl)
theorem dX1_tryWays_197 : decode cX1_tryWays 197 = .ok (.if_icmp .ne 10, 3) := dk_160 0 10 (dk_at dksX1_tryWays_8 12 rfl rfl)
theorem dX1_tryWays_200 : decode cX1_tryWays 200 = .ok (.iload_n 2, 1) := dk_28 (dk_at dksX1_tryWays_8 15 rfl rfl)
theorem dX1_tryWays_201 : decode cX1_tryWays 201 = .ok (.invokestatic 287, 3) := dk_184 1 31 (dk_at dksX1_tryWays_8 16 rfl rfl)
theorem dX1_tryWays_204 : decode cX1_tryWays 204 = .ok (.goto 14, 3) := dk_167 0 14 (dk_at dksX1_tryWays_8 19 rfl rfl)
theorem dX1_tryWays_207 : decode cX1_tryWays 207 = .ok (.aload_n 0, 1) := dk_42 (dk_at dksX1_tryWays_8 22 rfl rfl)
theorem dX1_tryWays_208 : decode cX1_tryWays 208 = .ok (.getfield 62, 3) := dk_180 0 62 (dk_at dksX1_tryWays_9 0 rfl rfl)
theorem dX1_tryWays_211 : decode cX1_tryWays 211 = .ok (.iload_n 2, 1) := dk_28 (dk_at dksX1_tryWays_9 3 rfl rfl)
theorem dX1_tryWays_212 : decode cX1_tryWays 212 = .ok (.invokestatic 287, 3) := dk_184 1 31 (dk_at dksX1_tryWays_9 4 rfl rfl)
theorem dX1_tryWays_215 : decode cX1_tryWays 215 = .ok (.invokestatic 248, 3) := dk_184 0 248 (dk_at dksX1_tryWays_9 7 rfl rfl)
theorem dX1_tryWays_218 : decode cX1_tryWays 218 = .ok (.putfield 62, 3) := dk_181 0 62 (dk_at dksX1_tryWays_9 10 rfl rfl)
theorem dX1_tryWays_221 : decode cX1_tryWays 221 = .ok (.return_, 1) := dk_177 (dk_at dksX1_tryWays_9 13 rfl rfl)
abbrev cX1_isSo : ByteArray := prog_1_method_30_code
def yX1_isSo : MethodName := ⟨RX1, "isSo", "(I)Z"⟩
def dkwX1_isSo_6 : List UInt8 := [160, 0, 7, 4, 167, 0, 4, 3, 172]
abbrev dktX1_isSo_6 : List UInt8 := dkwX1_isSo_6 ++ []
def dkwX1_isSo_5 : List UInt8 := [160, 0, 29, 42, 180, 0, 45, 27, 46, 17, 0, 255, 159, 0, 13, 42, 180, 0, 45, 27, 46, 29]
abbrev dktX1_isSo_5 : List UInt8 := dkwX1_isSo_5 ++ dktX1_isSo_6
def dkwX1_isSo_4 : List UInt8 := [158, 0, 9, 25, 5, 180, 0, 177, 62, 132, 4, 1, 167, 255, 158, 28, 42, 180, 0, 42, 27, 46]
abbrev dktX1_isSo_4 : List UInt8 := dkwX1_isSo_4 ++ dktX1_isSo_5
def dkwX1_isSo_3 : List UInt8 := [180, 0, 174, 104, 42, 180, 0, 19, 180, 1, 6, 104, 96, 61, 42, 180, 0, 59, 21, 4, 50, 27, 46]
abbrev dktX1_isSo_3 : List UInt8 := dkwX1_isSo_3 ++ dktX1_isSo_4
def dkwX1_isSo_2 : List UInt8 := [21, 4, 46, 182, 0, 168, 192, 0, 172, 58, 5, 28, 42, 180, 0, 59, 21, 4, 50, 27, 46, 25, 5]
abbrev dktX1_isSo_2 : List UInt8 := dkwX1_isSo_2 ++ dktX1_isSo_3
def dkwX1_isSo_1 : List UInt8 := [180, 0, 48, 21, 4, 46, 2, 160, 0, 6, 167, 0, 69, 42, 180, 0, 19, 180, 0, 144, 42, 180, 0, 48]
abbrev dktX1_isSo_1 : List UInt8 := dkwX1_isSo_1 ++ dktX1_isSo_2
def dkwX1_isSo_0 : List UInt8 := [3, 61, 2, 62, 3, 54, 4, 21, 4, 42, 180, 0, 19, 180, 0, 157, 182, 0, 148, 162, 0, 89, 42]
abbrev dktX1_isSo_0 : List UInt8 := dkwX1_isSo_0 ++ dktX1_isSo_1
theorem dksX1_isSo_0 : cX1_isSo.data.toList.drop 0 = dktX1_isSo_0 := by decide +kernel
theorem dksX1_isSo_1 : cX1_isSo.data.toList.drop 23 = dktX1_isSo_1 := dk_seg dksX1_isSo_0 23 rfl rfl
theorem dksX1_isSo_2 : cX1_isSo.data.toList.drop 47 = dktX1_isSo_2 := dk_seg dksX1_isSo_1 24 rfl rfl
theorem dksX1_isSo_3 : cX1_isSo.data.toList.drop 70 = dktX1_isSo_3 := dk_seg dksX1_isSo_2 23 rfl rfl
theorem dksX1_isSo_4 : cX1_isSo.data.toList.drop 93 = dktX1_isSo_4 := dk_seg dksX1_isSo_3 23 rfl rfl
theorem dksX1_isSo_5 : cX1_isSo.data.toList.drop 115 = dktX1_isSo_5 := dk_seg dksX1_isSo_4 22 rfl rfl
theorem dksX1_isSo_6 : cX1_isSo.data.toList.drop 137 = dktX1_isSo_6 := dk_seg dksX1_isSo_5 22 rfl rfl
theorem dX1_isSo_0 : decode cX1_isSo 0 = .ok (.iconst 0, 1) := dk_3 (dk_at dksX1_isSo_0 0 rfl rfl)
theorem dX1_isSo_1 : decode cX1_isSo 1 = .ok (.istore_n 2, 1) := dk_61 (dk_at dksX1_isSo_0 1 rfl rfl)
theorem dX1_isSo_2 : decode cX1_isSo 2 = .ok (.iconst (-1), 1) := dk_2 (dk_at dksX1_isSo_0 2 rfl rfl)
theorem dX1_isSo_3 : decode cX1_isSo 3 = .ok (.istore_n 3, 1) := dk_62 (dk_at dksX1_isSo_0 3 rfl rfl)
theorem dX1_isSo_4 : decode cX1_isSo 4 = .ok (.iconst 0, 1) := dk_3 (dk_at dksX1_isSo_0 4 rfl rfl)
theorem dX1_isSo_5 : decode cX1_isSo 5 = .ok (.istore 4, 2) := dk_54 4 (dk_at dksX1_isSo_0 5 rfl rfl)
theorem dX1_isSo_7 : decode cX1_isSo 7 = .ok (.iload 4, 2) := dk_21 4 (dk_at dksX1_isSo_0 7 rfl rfl)
theorem dX1_isSo_9 : decode cX1_isSo 9 = .ok (.aload_n 0, 1) := dk_42 (dk_at dksX1_isSo_0 9 rfl rfl)
theorem dX1_isSo_10 : decode cX1_isSo 10 = .ok (.getfield 19, 3) := dk_180 0 19 (dk_at dksX1_isSo_0 10 rfl rfl)
theorem dX1_isSo_13 : decode cX1_isSo 13 = .ok (.getfield 157, 3) := dk_180 0 157 (dk_at dksX1_isSo_0 13 rfl rfl)
theorem dX1_isSo_16 : decode cX1_isSo 16 = .ok (.invokevirtual 148, 3) := dk_182 0 148 (dk_at dksX1_isSo_0 16 rfl rfl)
theorem dX1_isSo_19 : decode cX1_isSo 19 = .ok (.if_icmp .ge 89, 3) := dk_162 0 89 (dk_at dksX1_isSo_0 19 rfl rfl)
theorem dX1_isSo_22 : decode cX1_isSo 22 = .ok (.aload_n 0, 1) := dk_42 (dk_at dksX1_isSo_0 22 rfl rfl)
theorem dX1_isSo_23 : decode cX1_isSo 23 = .ok (.getfield 48, 3) := dk_180 0 48 (dk_at dksX1_isSo_1 0 rfl rfl)
theorem dX1_isSo_26 : decode cX1_isSo 26 = .ok (.iload 4, 2) := dk_21 4 (dk_at dksX1_isSo_1 3 rfl rfl)
theorem dX1_isSo_28 : decode cX1_isSo 28 = .ok (.iaload, 1) := dk_46 (dk_at dksX1_isSo_1 5 rfl rfl)
theorem dX1_isSo_29 : decode cX1_isSo 29 = .ok (.iconst (-1), 1) := dk_2 (dk_at dksX1_isSo_1 6 rfl rfl)
theorem dX1_isSo_30 : decode cX1_isSo 30 = .ok (.if_icmp .ne 6, 3) := dk_160 0 6 (dk_at dksX1_isSo_1 7 rfl rfl)
theorem dX1_isSo_33 : decode cX1_isSo 33 = .ok (.goto 69, 3) := dk_167 0 69 (dk_at dksX1_isSo_1 10 rfl rfl)
theorem dX1_isSo_36 : decode cX1_isSo 36 = .ok (.aload_n 0, 1) := dk_42 (dk_at dksX1_isSo_1 13 rfl rfl)
theorem dX1_isSo_37 : decode cX1_isSo 37 = .ok (.getfield 19, 3) := dk_180 0 19 (dk_at dksX1_isSo_1 14 rfl rfl)
theorem dX1_isSo_40 : decode cX1_isSo 40 = .ok (.getfield 144, 3) := dk_180 0 144 (dk_at dksX1_isSo_1 17 rfl rfl)
theorem dX1_isSo_43 : decode cX1_isSo 43 = .ok (.aload_n 0, 1) := dk_42 (dk_at dksX1_isSo_1 20 rfl rfl)
theorem dX1_isSo_44 : decode cX1_isSo 44 = .ok (.getfield 48, 3) := dk_180 0 48 (dk_at dksX1_isSo_1 21 rfl rfl)
theorem dX1_isSo_47 : decode cX1_isSo 47 = .ok (.iload 4, 2) := dk_21 4 (dk_at dksX1_isSo_2 0 rfl rfl)
theorem dX1_isSo_49 : decode cX1_isSo 49 = .ok (.iaload, 1) := dk_46 (dk_at dksX1_isSo_2 2 rfl rfl)
theorem dX1_isSo_50 : decode cX1_isSo 50 = .ok (.invokevirtual 168, 3) := dk_182 0 168 (dk_at dksX1_isSo_2 3 rfl rfl)
theorem dX1_isSo_53 : decode cX1_isSo 53 = .ok (.checkcast 172, 3) := dk_192 0 172 (dk_at dksX1_isSo_2 6 rfl rfl)
theorem dX1_isSo_56 : decode cX1_isSo 56 = .ok (.astore 5, 2) := dk_58 5 (dk_at dksX1_isSo_2 9 rfl rfl)
theorem dX1_isSo_58 : decode cX1_isSo 58 = .ok (.iload_n 2, 1) := dk_28 (dk_at dksX1_isSo_2 11 rfl rfl)
theorem dX1_isSo_59 : decode cX1_isSo 59 = .ok (.aload_n 0, 1) := dk_42 (dk_at dksX1_isSo_2 12 rfl rfl)
theorem dX1_isSo_60 : decode cX1_isSo 60 = .ok (.getfield 59, 3) := dk_180 0 59 (dk_at dksX1_isSo_2 13 rfl rfl)
theorem dX1_isSo_63 : decode cX1_isSo 63 = .ok (.iload 4, 2) := dk_21 4 (dk_at dksX1_isSo_2 16 rfl rfl)
theorem dX1_isSo_65 : decode cX1_isSo 65 = .ok (.aaload, 1) := dk_50 (dk_at dksX1_isSo_2 18 rfl rfl)
theorem dX1_isSo_66 : decode cX1_isSo 66 = .ok (.iload_n 1, 1) := dk_27 (dk_at dksX1_isSo_2 19 rfl rfl)
theorem dX1_isSo_67 : decode cX1_isSo 67 = .ok (.iaload, 1) := dk_46 (dk_at dksX1_isSo_2 20 rfl rfl)
theorem dX1_isSo_68 : decode cX1_isSo 68 = .ok (.aload 5, 2) := dk_25 5 (dk_at dksX1_isSo_2 21 rfl rfl)
theorem dX1_isSo_70 : decode cX1_isSo 70 = .ok (.getfield 174, 3) := dk_180 0 174 (dk_at dksX1_isSo_3 0 rfl rfl)
theorem dX1_isSo_73 : decode cX1_isSo 73 = .ok (.imul, 1) := dk_104 (dk_at dksX1_isSo_3 3 rfl rfl)
theorem dX1_isSo_74 : decode cX1_isSo 74 = .ok (.aload_n 0, 1) := dk_42 (dk_at dksX1_isSo_3 4 rfl rfl)
theorem dX1_isSo_75 : decode cX1_isSo 75 = .ok (.getfield 19, 3) := dk_180 0 19 (dk_at dksX1_isSo_3 5 rfl rfl)
theorem dX1_isSo_78 : decode cX1_isSo 78 = .ok (.getfield 262, 3) := dk_180 1 6 (dk_at dksX1_isSo_3 8 rfl rfl)
theorem dX1_isSo_81 : decode cX1_isSo 81 = .ok (.imul, 1) := dk_104 (dk_at dksX1_isSo_3 11 rfl rfl)
theorem dX1_isSo_82 : decode cX1_isSo 82 = .ok (.iadd, 1) := dk_96 (dk_at dksX1_isSo_3 12 rfl rfl)
theorem dX1_isSo_83 : decode cX1_isSo 83 = .ok (.istore_n 2, 1) := dk_61 (dk_at dksX1_isSo_3 13 rfl rfl)
theorem dX1_isSo_84 : decode cX1_isSo 84 = .ok (.aload_n 0, 1) := dk_42 (dk_at dksX1_isSo_3 14 rfl rfl)
theorem dX1_isSo_85 : decode cX1_isSo 85 = .ok (.getfield 59, 3) := dk_180 0 59 (dk_at dksX1_isSo_3 15 rfl rfl)
theorem dX1_isSo_88 : decode cX1_isSo 88 = .ok (.iload 4, 2) := dk_21 4 (dk_at dksX1_isSo_3 18 rfl rfl)
theorem dX1_isSo_90 : decode cX1_isSo 90 = .ok (.aaload, 1) := dk_50 (dk_at dksX1_isSo_3 20 rfl rfl)
theorem dX1_isSo_91 : decode cX1_isSo 91 = .ok (.iload_n 1, 1) := dk_27 (dk_at dksX1_isSo_3 21 rfl rfl)
theorem dX1_isSo_92 : decode cX1_isSo 92 = .ok (.iaload, 1) := dk_46 (dk_at dksX1_isSo_3 22 rfl rfl)
theorem dX1_isSo_93 : decode cX1_isSo 93 = .ok (.ifCond .le 9, 3) := dk_158 0 9 (dk_at dksX1_isSo_4 0 rfl rfl)
theorem dX1_isSo_96 : decode cX1_isSo 96 = .ok (.aload 5, 2) := dk_25 5 (dk_at dksX1_isSo_4 3 rfl rfl)
theorem dX1_isSo_98 : decode cX1_isSo 98 = .ok (.getfield 177, 3) := dk_180 0 177 (dk_at dksX1_isSo_4 5 rfl rfl)
theorem dX1_isSo_101 : decode cX1_isSo 101 = .ok (.istore_n 3, 1) := dk_62 (dk_at dksX1_isSo_4 8 rfl rfl)
theorem dX1_isSo_102 : decode cX1_isSo 102 = .ok (.iinc 4 1, 3) := dk_132 4 1 (dk_at dksX1_isSo_4 9 rfl rfl)
theorem dX1_isSo_105 : decode cX1_isSo 105 = .ok (.goto (-98), 3) := dk_167 255 158 (dk_at dksX1_isSo_4 12 rfl rfl)
theorem dX1_isSo_108 : decode cX1_isSo 108 = .ok (.iload_n 2, 1) := dk_28 (dk_at dksX1_isSo_4 15 rfl rfl)
theorem dX1_isSo_109 : decode cX1_isSo 109 = .ok (.aload_n 0, 1) := dk_42 (dk_at dksX1_isSo_4 16 rfl rfl)
theorem dX1_isSo_110 : decode cX1_isSo 110 = .ok (.getfield 42, 3) := dk_180 0 42 (dk_at dksX1_isSo_4 17 rfl rfl)
theorem dX1_isSo_113 : decode cX1_isSo 113 = .ok (.iload_n 1, 1) := dk_27 (dk_at dksX1_isSo_4 20 rfl rfl)
theorem dX1_isSo_114 : decode cX1_isSo 114 = .ok (.iaload, 1) := dk_46 (dk_at dksX1_isSo_4 21 rfl rfl)
theorem dX1_isSo_115 : decode cX1_isSo 115 = .ok (.if_icmp .ne 29, 3) := dk_160 0 29 (dk_at dksX1_isSo_5 0 rfl rfl)
theorem dX1_isSo_118 : decode cX1_isSo 118 = .ok (.aload_n 0, 1) := dk_42 (dk_at dksX1_isSo_5 3 rfl rfl)
theorem dX1_isSo_119 : decode cX1_isSo 119 = .ok (.getfield 45, 3) := dk_180 0 45 (dk_at dksX1_isSo_5 4 rfl rfl)
theorem dX1_isSo_122 : decode cX1_isSo 122 = .ok (.iload_n 1, 1) := dk_27 (dk_at dksX1_isSo_5 7 rfl rfl)
theorem dX1_isSo_123 : decode cX1_isSo 123 = .ok (.iaload, 1) := dk_46 (dk_at dksX1_isSo_5 8 rfl rfl)
theorem dX1_isSo_124 : decode cX1_isSo 124 = .ok (.sipush 255, 3) := dk_17 0 255 (dk_at dksX1_isSo_5 9 rfl rfl)
theorem dX1_isSo_127 : decode cX1_isSo 127 = .ok (.if_icmp .eq 13, 3) := dk_159 0 13 (dk_at dksX1_isSo_5 12 rfl rfl)
theorem dX1_isSo_130 : decode cX1_isSo 130 = .ok (.aload_n 0, 1) := dk_42 (dk_at dksX1_isSo_5 15 rfl rfl)
theorem dX1_isSo_131 : decode cX1_isSo 131 = .ok (.getfield 45, 3) := dk_180 0 45 (dk_at dksX1_isSo_5 16 rfl rfl)
theorem dX1_isSo_134 : decode cX1_isSo 134 = .ok (.iload_n 1, 1) := dk_27 (dk_at dksX1_isSo_5 19 rfl rfl)
theorem dX1_isSo_135 : decode cX1_isSo 135 = .ok (.iaload, 1) := dk_46 (dk_at dksX1_isSo_5 20 rfl rfl)
theorem dX1_isSo_136 : decode cX1_isSo 136 = .ok (.iload_n 3, 1) := dk_29 (dk_at dksX1_isSo_5 21 rfl rfl)
theorem dX1_isSo_137 : decode cX1_isSo 137 = .ok (.if_icmp .ne 7, 3) := dk_160 0 7 (dk_at dksX1_isSo_6 0 rfl rfl)
theorem dX1_isSo_140 : decode cX1_isSo 140 = .ok (.iconst 1, 1) := dk_4 (dk_at dksX1_isSo_6 3 rfl rfl)
theorem dX1_isSo_141 : decode cX1_isSo 141 = .ok (.goto 4, 3) := dk_167 0 4 (dk_at dksX1_isSo_6 4 rfl rfl)
theorem dX1_isSo_144 : decode cX1_isSo 144 = .ok (.iconst 0, 1) := dk_3 (dk_at dksX1_isSo_6 7 rfl rfl)
theorem dX1_isSo_145 : decode cX1_isSo 145 = .ok (.ireturn, 1) := dk_172 (dk_at dksX1_isSo_6 8 rfl rfl)
abbrev cX1_read : ByteArray := prog_1_method_33_code
def yX1_read : MethodName := ⟨RX1, "read", "(II)I"⟩
def dkwX1_read_1 : List UInt8 := [16, 253, 172, 28, 154, 0, 12, 42, 180, 0, 51, 27, 46, 167, 0, 9, 42, 180, 0, 54, 27, 46, 172]
abbrev dktX1_read_1 : List UInt8 := dkwX1_read_1 ++ []
def dkwX1_read_0 : List UInt8 := [27, 3, 42, 180, 1, 43, 4, 100, 184, 0, 153, 153, 0, 12, 28, 3, 4, 184, 0, 153, 154, 0, 6]
abbrev dktX1_read_0 : List UInt8 := dkwX1_read_0 ++ dktX1_read_1
theorem dksX1_read_0 : cX1_read.data.toList.drop 0 = dktX1_read_0 := by decide +kernel
theorem dksX1_read_1 : cX1_read.data.toList.drop 23 = dktX1_read_1 := dk_seg dksX1_read_0 23 rfl rfl
theorem dX1_read_0 : decode cX1_read 0 = .ok (.iload_n 1, 1) := dk_27 (dk_at dksX1_read_0 0 rfl rfl)
theorem dX1_read_1 : decode cX1_read 1 = .ok (.iconst 0, 1) := dk_3 (dk_at dksX1_read_0 1 rfl rfl)
theorem dX1_read_2 : decode cX1_read 2 = .ok (.aload_n 0, 1) := dk_42 (dk_at dksX1_read_0 2 rfl rfl)
theorem dX1_read_3 : decode cX1_read 3 = .ok (.getfield 299, 3) := dk_180 1 43 (dk_at dksX1_read_0 3 rfl rfl)
theorem dX1_read_6 : decode cX1_read 6 = .ok (.iconst 1, 1) := dk_4 (dk_at dksX1_read_0 6 rfl rfl)
theorem dX1_read_7 : decode cX1_read 7 = .ok (.isub, 1) := dk_100 (dk_at dksX1_read_0 7 rfl rfl)
theorem dX1_read_8 : decode cX1_read 8 = .ok (.invokestatic 153, 3) := dk_184 0 153 (dk_at dksX1_read_0 8 rfl rfl)
theorem dX1_read_11 : decode cX1_read 11 = .ok (.ifCond .eq 12, 3) := dk_153 0 12 (dk_at dksX1_read_0 11 rfl rfl)
theorem dX1_read_14 : decode cX1_read 14 = .ok (.iload_n 2, 1) := dk_28 (dk_at dksX1_read_0 14 rfl rfl)
theorem dX1_read_15 : decode cX1_read 15 = .ok (.iconst 0, 1) := dk_3 (dk_at dksX1_read_0 15 rfl rfl)
theorem dX1_read_16 : decode cX1_read 16 = .ok (.iconst 1, 1) := dk_4 (dk_at dksX1_read_0 16 rfl rfl)
theorem dX1_read_17 : decode cX1_read 17 = .ok (.invokestatic 153, 3) := dk_184 0 153 (dk_at dksX1_read_0 17 rfl rfl)
theorem dX1_read_20 : decode cX1_read 20 = .ok (.ifCond .ne 6, 3) := dk_154 0 6 (dk_at dksX1_read_0 20 rfl rfl)
theorem dX1_read_23 : decode cX1_read 23 = .ok (.bipush (-3), 2) := dk_16 253 (dk_at dksX1_read_1 0 rfl rfl)
theorem dX1_read_25 : decode cX1_read 25 = .ok (.ireturn, 1) := dk_172 (dk_at dksX1_read_1 2 rfl rfl)
theorem dX1_read_26 : decode cX1_read 26 = .ok (.iload_n 2, 1) := dk_28 (dk_at dksX1_read_1 3 rfl rfl)
theorem dX1_read_27 : decode cX1_read 27 = .ok (.ifCond .ne 12, 3) := dk_154 0 12 (dk_at dksX1_read_1 4 rfl rfl)
theorem dX1_read_30 : decode cX1_read 30 = .ok (.aload_n 0, 1) := dk_42 (dk_at dksX1_read_1 7 rfl rfl)
theorem dX1_read_31 : decode cX1_read 31 = .ok (.getfield 51, 3) := dk_180 0 51 (dk_at dksX1_read_1 8 rfl rfl)
theorem dX1_read_34 : decode cX1_read 34 = .ok (.iload_n 1, 1) := dk_27 (dk_at dksX1_read_1 11 rfl rfl)
theorem dX1_read_35 : decode cX1_read 35 = .ok (.iaload, 1) := dk_46 (dk_at dksX1_read_1 12 rfl rfl)
theorem dX1_read_36 : decode cX1_read 36 = .ok (.goto 9, 3) := dk_167 0 9 (dk_at dksX1_read_1 13 rfl rfl)
theorem dX1_read_39 : decode cX1_read 39 = .ok (.aload_n 0, 1) := dk_42 (dk_at dksX1_read_1 16 rfl rfl)
theorem dX1_read_40 : decode cX1_read 40 = .ok (.getfield 54, 3) := dk_180 0 54 (dk_at dksX1_read_1 17 rfl rfl)
theorem dX1_read_43 : decode cX1_read 43 = .ok (.iload_n 1, 1) := dk_27 (dk_at dksX1_read_1 20 rfl rfl)
theorem dX1_read_44 : decode cX1_read 44 = .ok (.iaload, 1) := dk_46 (dk_at dksX1_read_1 21 rfl rfl)
theorem dX1_read_45 : decode cX1_read 45 = .ok (.ireturn, 1) := dk_172 (dk_at dksX1_read_1 22 rfl rfl)
abbrev cX1_fewest : ByteArray := prog_1_method_34_code
def yX1_fewest : MethodName := ⟨RX1, "fewest", "()I"⟩
theorem dX1_fewest_0 : decode cX1_fewest 0 = .ok (.aload_n 0, 1) := by decide +kernel
theorem dX1_fewest_1 : decode cX1_fewest 1 = .ok (.getfield 62, 3) := by decide +kernel
theorem dX1_fewest_4 : decode cX1_fewest 4 = .ok (.ireturn, 1) := by decide +kernel
abbrev cX1_sign : ByteArray := prog_1_method_38_code
def yX1_sign : MethodName := ⟨RX1, "sign", "(III)I"⟩
def dkwX1_sign_1 : List UInt8 := [108, 172]
abbrev dktX1_sign_1 : List UInt8 := dkwX1_sign_1 ++ []
def dkwX1_sign_0 : List UInt8 := [42, 27, 28, 29, 182, 1, 65, 54, 4, 21, 4, 2, 160, 0, 7, 2, 167, 0, 9, 21, 4, 17, 3, 232]
abbrev dktX1_sign_0 : List UInt8 := dkwX1_sign_0 ++ dktX1_sign_1
theorem dksX1_sign_0 : cX1_sign.data.toList.drop 0 = dktX1_sign_0 := by decide +kernel
theorem dksX1_sign_1 : cX1_sign.data.toList.drop 24 = dktX1_sign_1 := dk_seg dksX1_sign_0 24 rfl rfl
theorem dX1_sign_0 : decode cX1_sign 0 = .ok (.aload_n 0, 1) := dk_42 (dk_at dksX1_sign_0 0 rfl rfl)
theorem dX1_sign_1 : decode cX1_sign 1 = .ok (.iload_n 1, 1) := dk_27 (dk_at dksX1_sign_0 1 rfl rfl)
theorem dX1_sign_2 : decode cX1_sign 2 = .ok (.iload_n 2, 1) := dk_28 (dk_at dksX1_sign_0 2 rfl rfl)
theorem dX1_sign_3 : decode cX1_sign 3 = .ok (.iload_n 3, 1) := dk_29 (dk_at dksX1_sign_0 3 rfl rfl)
theorem dX1_sign_4 : decode cX1_sign 4 = .ok (.invokevirtual 321, 3) := dk_182 1 65 (dk_at dksX1_sign_0 4 rfl rfl)
theorem dX1_sign_7 : decode cX1_sign 7 = .ok (.istore 4, 2) := dk_54 4 (dk_at dksX1_sign_0 7 rfl rfl)
theorem dX1_sign_9 : decode cX1_sign 9 = .ok (.iload 4, 2) := dk_21 4 (dk_at dksX1_sign_0 9 rfl rfl)
theorem dX1_sign_11 : decode cX1_sign 11 = .ok (.iconst (-1), 1) := dk_2 (dk_at dksX1_sign_0 11 rfl rfl)
theorem dX1_sign_12 : decode cX1_sign 12 = .ok (.if_icmp .ne 7, 3) := dk_160 0 7 (dk_at dksX1_sign_0 12 rfl rfl)
theorem dX1_sign_15 : decode cX1_sign 15 = .ok (.iconst (-1), 1) := dk_2 (dk_at dksX1_sign_0 15 rfl rfl)
theorem dX1_sign_16 : decode cX1_sign 16 = .ok (.goto 9, 3) := dk_167 0 9 (dk_at dksX1_sign_0 16 rfl rfl)
theorem dX1_sign_19 : decode cX1_sign 19 = .ok (.iload 4, 2) := dk_21 4 (dk_at dksX1_sign_0 19 rfl rfl)
theorem dX1_sign_21 : decode cX1_sign 21 = .ok (.sipush 1000, 3) := dk_17 3 232 (dk_at dksX1_sign_0 21 rfl rfl)
theorem dX1_sign_24 : decode cX1_sign 24 = .ok (.idiv, 1) := dk_108 (dk_at dksX1_sign_1 0 rfl rfl)
theorem dX1_sign_25 : decode cX1_sign 25 = .ok (.ireturn, 1) := dk_172 (dk_at dksX1_sign_1 1 rfl rfl)
abbrev cX1_crosses : ByteArray := prog_1_method_37_code
def yX1_crosses : MethodName := ⟨RX1, "crosses", "(III)I"⟩
def dkwX1_crosses_9 : List UInt8 := [180, 0, 66, 29, 46, 167, 0, 4, 2, 172]
abbrev dktX1_crosses_9 : List UInt8 := dkwX1_crosses_9 ++ []
def dkwX1_crosses_8 : List UInt8 := [42, 182, 1, 59, 54, 4, 167, 255, 158, 42, 180, 0, 66, 29, 46, 19, 1, 46, 162, 0, 12, 42]
abbrev dktX1_crosses_8 : List UInt8 := dkwX1_crosses_8 ++ dktX1_crosses_9
def dkwX1_crosses_7 : List UInt8 := [17, 3, 232, 42, 27, 21, 6, 182, 1, 56, 104, 96, 4, 96, 184, 0, 248, 79, 132, 5, 1, 167, 255, 190]
abbrev dktX1_crosses_7 : List UInt8 := dkwX1_crosses_7 ++ dktX1_crosses_8
def dkwX1_crosses_6 : List UInt8 := [159, 0, 41, 42, 180, 0, 66, 21, 6, 42, 180, 0, 66, 21, 6, 46, 42, 180, 0, 66, 21, 4, 46]
abbrev dktX1_crosses_6 : List UInt8 := dkwX1_crosses_6 ++ dktX1_crosses_7
def dkwX1_crosses_5 : List UInt8 := [54, 5, 21, 5, 7, 162, 0, 66, 42, 180, 0, 19, 21, 4, 21, 5, 182, 1, 62, 54, 6, 21, 6, 2]
abbrev dktX1_crosses_5 : List UInt8 := dkwX1_crosses_5 ++ dktX1_crosses_6
def dkwX1_crosses_4 : List UInt8 := [54, 4, 21, 4, 2, 159, 0, 98, 21, 4, 29, 159, 0, 92, 42, 180, 0, 69, 21, 4, 4, 84, 3]
abbrev dktX1_crosses_4 : List UInt8 := dkwX1_crosses_4 ++ dktX1_crosses_5
def dkwX1_crosses_3 : List UInt8 := [3, 184, 1, 53, 42, 180, 0, 66, 28, 17, 3, 232, 42, 27, 28, 182, 1, 56, 104, 79, 42, 182, 1, 59]
abbrev dktX1_crosses_3 : List UInt8 := dkwX1_crosses_3 ++ dktX1_crosses_4
def dkwX1_crosses_2 : List UInt8 := [180, 0, 214, 29, 51, 153, 0, 5, 2, 172, 42, 180, 0, 66, 19, 1, 46, 184, 1, 47, 42, 180, 0, 69]
abbrev dktX1_crosses_2 : List UInt8 := dkwX1_crosses_2 ++ dktX1_crosses_3
def dkwX1_crosses_1 : List UInt8 := [182, 0, 193, 153, 0, 27, 42, 180, 0, 19, 180, 0, 214, 28, 51, 154, 0, 15, 42, 180, 0, 19]
abbrev dktX1_crosses_1 : List UInt8 := dkwX1_crosses_1 ++ dktX1_crosses_2
def dkwX1_crosses_0 : List UInt8 := [42, 27, 182, 0, 160, 153, 0, 49, 42, 180, 0, 19, 28, 182, 0, 193, 153, 0, 38, 42, 180, 0, 19, 29]
abbrev dktX1_crosses_0 : List UInt8 := dkwX1_crosses_0 ++ dktX1_crosses_1
theorem dksX1_crosses_0 : cX1_crosses.data.toList.drop 0 = dktX1_crosses_0 := by decide +kernel
theorem dksX1_crosses_1 : cX1_crosses.data.toList.drop 24 = dktX1_crosses_1 := dk_seg dksX1_crosses_0 24 rfl rfl
theorem dksX1_crosses_2 : cX1_crosses.data.toList.drop 46 = dktX1_crosses_2 := dk_seg dksX1_crosses_1 22 rfl rfl
theorem dksX1_crosses_3 : cX1_crosses.data.toList.drop 70 = dktX1_crosses_3 := dk_seg dksX1_crosses_2 24 rfl rfl
theorem dksX1_crosses_4 : cX1_crosses.data.toList.drop 94 = dktX1_crosses_4 := dk_seg dksX1_crosses_3 24 rfl rfl
theorem dksX1_crosses_5 : cX1_crosses.data.toList.drop 117 = dktX1_crosses_5 := dk_seg dksX1_crosses_4 23 rfl rfl
theorem dksX1_crosses_6 : cX1_crosses.data.toList.drop 141 = dktX1_crosses_6 := dk_seg dksX1_crosses_5 24 rfl rfl
theorem dksX1_crosses_7 : cX1_crosses.data.toList.drop 164 = dktX1_crosses_7 := dk_seg dksX1_crosses_6 23 rfl rfl
theorem dksX1_crosses_8 : cX1_crosses.data.toList.drop 188 = dktX1_crosses_8 := dk_seg dksX1_crosses_7 24 rfl rfl
theorem dksX1_crosses_9 : cX1_crosses.data.toList.drop 210 = dktX1_crosses_9 := dk_seg dksX1_crosses_8 22 rfl rfl
theorem dX1_crosses_0 : decode cX1_crosses 0 = .ok (.aload_n 0, 1) := dk_42 (dk_at dksX1_crosses_0 0 rfl rfl)
theorem dX1_crosses_1 : decode cX1_crosses 1 = .ok (.iload_n 1, 1) := dk_27 (dk_at dksX1_crosses_0 1 rfl rfl)
theorem dX1_crosses_2 : decode cX1_crosses 2 = .ok (.invokevirtual 160, 3) := dk_182 0 160 (dk_at dksX1_crosses_0 2 rfl rfl)
theorem dX1_crosses_5 : decode cX1_crosses 5 = .ok (.ifCond .eq 49, 3) := dk_153 0 49 (dk_at dksX1_crosses_0 5 rfl rfl)
theorem dX1_crosses_8 : decode cX1_crosses 8 = .ok (.aload_n 0, 1) := dk_42 (dk_at dksX1_crosses_0 8 rfl rfl)
theorem dX1_crosses_9 : decode cX1_crosses 9 = .ok (.getfield 19, 3) := dk_180 0 19 (dk_at dksX1_crosses_0 9 rfl rfl)
theorem dX1_crosses_12 : decode cX1_crosses 12 = .ok (.iload_n 2, 1) := dk_28 (dk_at dksX1_crosses_0 12 rfl rfl)
theorem dX1_crosses_13 : decode cX1_crosses 13 = .ok (.invokevirtual 193, 3) := dk_182 0 193 (dk_at dksX1_crosses_0 13 rfl rfl)
theorem dX1_crosses_16 : decode cX1_crosses 16 = .ok (.ifCond .eq 38, 3) := dk_153 0 38 (dk_at dksX1_crosses_0 16 rfl rfl)
theorem dX1_crosses_19 : decode cX1_crosses 19 = .ok (.aload_n 0, 1) := dk_42 (dk_at dksX1_crosses_0 19 rfl rfl)
theorem dX1_crosses_20 : decode cX1_crosses 20 = .ok (.getfield 19, 3) := dk_180 0 19 (dk_at dksX1_crosses_0 20 rfl rfl)
theorem dX1_crosses_23 : decode cX1_crosses 23 = .ok (.iload_n 3, 1) := dk_29 (dk_at dksX1_crosses_0 23 rfl rfl)
theorem dX1_crosses_24 : decode cX1_crosses 24 = .ok (.invokevirtual 193, 3) := dk_182 0 193 (dk_at dksX1_crosses_1 0 rfl rfl)
theorem dX1_crosses_27 : decode cX1_crosses 27 = .ok (.ifCond .eq 27, 3) := dk_153 0 27 (dk_at dksX1_crosses_1 3 rfl rfl)
theorem dX1_crosses_30 : decode cX1_crosses 30 = .ok (.aload_n 0, 1) := dk_42 (dk_at dksX1_crosses_1 6 rfl rfl)
theorem dX1_crosses_31 : decode cX1_crosses 31 = .ok (.getfield 19, 3) := dk_180 0 19 (dk_at dksX1_crosses_1 7 rfl rfl)
theorem dX1_crosses_34 : decode cX1_crosses 34 = .ok (.getfield 214, 3) := dk_180 0 214 (dk_at dksX1_crosses_1 10 rfl rfl)
theorem dX1_crosses_37 : decode cX1_crosses 37 = .ok (.iload_n 2, 1) := dk_28 (dk_at dksX1_crosses_1 13 rfl rfl)
theorem dX1_crosses_38 : decode cX1_crosses 38 = .ok (.baload, 1) := dk_51 (dk_at dksX1_crosses_1 14 rfl rfl)
theorem dX1_crosses_39 : decode cX1_crosses 39 = .ok (.ifCond .ne 15, 3) := dk_154 0 15 (dk_at dksX1_crosses_1 15 rfl rfl)
theorem dX1_crosses_42 : decode cX1_crosses 42 = .ok (.aload_n 0, 1) := dk_42 (dk_at dksX1_crosses_1 18 rfl rfl)
theorem dX1_crosses_43 : decode cX1_crosses 43 = .ok (.getfield 19, 3) := dk_180 0 19 (dk_at dksX1_crosses_1 19 rfl rfl)
theorem dX1_crosses_46 : decode cX1_crosses 46 = .ok (.getfield 214, 3) := dk_180 0 214 (dk_at dksX1_crosses_2 0 rfl rfl)
theorem dX1_crosses_49 : decode cX1_crosses 49 = .ok (.iload_n 3, 1) := dk_29 (dk_at dksX1_crosses_2 3 rfl rfl)
theorem dX1_crosses_50 : decode cX1_crosses 50 = .ok (.baload, 1) := dk_51 (dk_at dksX1_crosses_2 4 rfl rfl)
theorem dX1_crosses_51 : decode cX1_crosses 51 = .ok (.ifCond .eq 5, 3) := dk_153 0 5 (dk_at dksX1_crosses_2 5 rfl rfl)
theorem dX1_crosses_54 : decode cX1_crosses 54 = .ok (.iconst (-1), 1) := dk_2 (dk_at dksX1_crosses_2 8 rfl rfl)
theorem dX1_crosses_55 : decode cX1_crosses 55 = .ok (.ireturn, 1) := dk_172 (dk_at dksX1_crosses_2 9 rfl rfl)
theorem dX1_crosses_56 : decode cX1_crosses 56 = .ok (.aload_n 0, 1) := dk_42 (dk_at dksX1_crosses_2 10 rfl rfl)
theorem dX1_crosses_57 : decode cX1_crosses 57 = .ok (.getfield 66, 3) := dk_180 0 66 (dk_at dksX1_crosses_2 11 rfl rfl)
theorem dX1_crosses_60 : decode cX1_crosses 60 = .ok (.ldc_w 302, 3) := dk_19 1 46 (dk_at dksX1_crosses_2 14 rfl rfl)
theorem dX1_crosses_63 : decode cX1_crosses 63 = .ok (.invokestatic 303, 3) := dk_184 1 47 (dk_at dksX1_crosses_2 17 rfl rfl)
theorem dX1_crosses_66 : decode cX1_crosses 66 = .ok (.aload_n 0, 1) := dk_42 (dk_at dksX1_crosses_2 20 rfl rfl)
theorem dX1_crosses_67 : decode cX1_crosses 67 = .ok (.getfield 69, 3) := dk_180 0 69 (dk_at dksX1_crosses_2 21 rfl rfl)
theorem dX1_crosses_70 : decode cX1_crosses 70 = .ok (.iconst 0, 1) := dk_3 (dk_at dksX1_crosses_3 0 rfl rfl)
theorem dX1_crosses_71 : decode cX1_crosses 71 = .ok (.invokestatic 309, 3) := dk_184 1 53 (dk_at dksX1_crosses_3 1 rfl rfl)
theorem dX1_crosses_74 : decode cX1_crosses 74 = .ok (.aload_n 0, 1) := dk_42 (dk_at dksX1_crosses_3 4 rfl rfl)
theorem dX1_crosses_75 : decode cX1_crosses 75 = .ok (.getfield 66, 3) := dk_180 0 66 (dk_at dksX1_crosses_3 5 rfl rfl)
theorem dX1_crosses_78 : decode cX1_crosses 78 = .ok (.iload_n 2, 1) := dk_28 (dk_at dksX1_crosses_3 8 rfl rfl)
theorem dX1_crosses_79 : decode cX1_crosses 79 = .ok (.sipush 1000, 3) := dk_17 3 232 (dk_at dksX1_crosses_3 9 rfl rfl)
theorem dX1_crosses_82 : decode cX1_crosses 82 = .ok (.aload_n 0, 1) := dk_42 (dk_at dksX1_crosses_3 12 rfl rfl)
theorem dX1_crosses_83 : decode cX1_crosses 83 = .ok (.iload_n 1, 1) := dk_27 (dk_at dksX1_crosses_3 13 rfl rfl)
theorem dX1_crosses_84 : decode cX1_crosses 84 = .ok (.iload_n 2, 1) := dk_28 (dk_at dksX1_crosses_3 14 rfl rfl)
theorem dX1_crosses_85 : decode cX1_crosses 85 = .ok (.invokevirtual 312, 3) := dk_182 1 56 (dk_at dksX1_crosses_3 15 rfl rfl)
theorem dX1_crosses_88 : decode cX1_crosses 88 = .ok (.imul, 1) := dk_104 (dk_at dksX1_crosses_3 18 rfl rfl)
theorem dX1_crosses_89 : decode cX1_crosses 89 = .ok (.iastore, 1) := dk_79 (dk_at dksX1_crosses_3 19 rfl rfl)
theorem dX1_crosses_90 : decode cX1_crosses 90 = .ok (.aload_n 0, 1) := dk_42 (dk_at dksX1_crosses_3 20 rfl rfl)
theorem dX1_crosses_91 : decode cX1_crosses 91 = .ok (.invokevirtual 315, 3) := dk_182 1 59 (dk_at dksX1_crosses_3 21 rfl rfl)
theorem dX1_crosses_94 : decode cX1_crosses 94 = .ok (.istore 4, 2) := dk_54 4 (dk_at dksX1_crosses_4 0 rfl rfl)
theorem dX1_crosses_96 : decode cX1_crosses 96 = .ok (.iload 4, 2) := dk_21 4 (dk_at dksX1_crosses_4 2 rfl rfl)
theorem dX1_crosses_98 : decode cX1_crosses 98 = .ok (.iconst (-1), 1) := dk_2 (dk_at dksX1_crosses_4 4 rfl rfl)
theorem dX1_crosses_99 : decode cX1_crosses 99 = .ok (.if_icmp .eq 98, 3) := dk_159 0 98 (dk_at dksX1_crosses_4 5 rfl rfl)
theorem dX1_crosses_102 : decode cX1_crosses 102 = .ok (.iload 4, 2) := dk_21 4 (dk_at dksX1_crosses_4 8 rfl rfl)
theorem dX1_crosses_104 : decode cX1_crosses 104 = .ok (.iload_n 3, 1) := dk_29 (dk_at dksX1_crosses_4 10 rfl rfl)
theorem dX1_crosses_105 : decode cX1_crosses 105 = .ok (.if_icmp .eq 92, 3) := dk_159 0 92 (dk_at dksX1_crosses_4 11 rfl rfl)
theorem dX1_crosses_108 : decode cX1_crosses 108 = .ok (.aload_n 0, 1) := dk_42 (dk_at dksX1_crosses_4 14 rfl rfl)
theorem dX1_crosses_109 : decode cX1_crosses 109 = .ok (.getfield 69, 3) := dk_180 0 69 (dk_at dksX1_crosses_4 15 rfl rfl)
theorem dX1_crosses_112 : decode cX1_crosses 112 = .ok (.iload 4, 2) := dk_21 4 (dk_at dksX1_crosses_4 18 rfl rfl)
theorem dX1_crosses_114 : decode cX1_crosses 114 = .ok (.iconst 1, 1) := dk_4 (dk_at dksX1_crosses_4 20 rfl rfl)
theorem dX1_crosses_115 : decode cX1_crosses 115 = .ok (.bastore, 1) := dk_84 (dk_at dksX1_crosses_4 21 rfl rfl)
theorem dX1_crosses_116 : decode cX1_crosses 116 = .ok (.iconst 0, 1) := dk_3 (dk_at dksX1_crosses_4 22 rfl rfl)
theorem dX1_crosses_117 : decode cX1_crosses 117 = .ok (.istore 5, 2) := dk_54 5 (dk_at dksX1_crosses_5 0 rfl rfl)
theorem dX1_crosses_119 : decode cX1_crosses 119 = .ok (.iload 5, 2) := dk_21 5 (dk_at dksX1_crosses_5 2 rfl rfl)
theorem dX1_crosses_121 : decode cX1_crosses 121 = .ok (.iconst 4, 1) := dk_7 (dk_at dksX1_crosses_5 4 rfl rfl)
theorem dX1_crosses_122 : decode cX1_crosses 122 = .ok (.if_icmp .ge 66, 3) := dk_162 0 66 (dk_at dksX1_crosses_5 5 rfl rfl)
theorem dX1_crosses_125 : decode cX1_crosses 125 = .ok (.aload_n 0, 1) := dk_42 (dk_at dksX1_crosses_5 8 rfl rfl)
theorem dX1_crosses_126 : decode cX1_crosses 126 = .ok (.getfield 19, 3) := dk_180 0 19 (dk_at dksX1_crosses_5 9 rfl rfl)
theorem dX1_crosses_129 : decode cX1_crosses 129 = .ok (.iload 4, 2) := dk_21 4 (dk_at dksX1_crosses_5 12 rfl rfl)
theorem dX1_crosses_131 : decode cX1_crosses 131 = .ok (.iload 5, 2) := dk_21 5 (dk_at dksX1_crosses_5 14 rfl rfl)
theorem dX1_crosses_133 : decode cX1_crosses 133 = .ok (.invokevirtual 318, 3) := dk_182 1 62 (dk_at dksX1_crosses_5 16 rfl rfl)
theorem dX1_crosses_136 : decode cX1_crosses 136 = .ok (.istore 6, 2) := dk_54 6 (dk_at dksX1_crosses_5 19 rfl rfl)
theorem dX1_crosses_138 : decode cX1_crosses 138 = .ok (.iload 6, 2) := dk_21 6 (dk_at dksX1_crosses_5 21 rfl rfl)
theorem dX1_crosses_140 : decode cX1_crosses 140 = .ok (.iconst (-1), 1) := dk_2 (dk_at dksX1_crosses_5 23 rfl rfl)
theorem dX1_crosses_141 : decode cX1_crosses 141 = .ok (.if_icmp .eq 41, 3) := dk_159 0 41 (dk_at dksX1_crosses_6 0 rfl rfl)
theorem dX1_crosses_144 : decode cX1_crosses 144 = .ok (.aload_n 0, 1) := dk_42 (dk_at dksX1_crosses_6 3 rfl rfl)
theorem dX1_crosses_145 : decode cX1_crosses 145 = .ok (.getfield 66, 3) := dk_180 0 66 (dk_at dksX1_crosses_6 4 rfl rfl)
theorem dX1_crosses_148 : decode cX1_crosses 148 = .ok (.iload 6, 2) := dk_21 6 (dk_at dksX1_crosses_6 7 rfl rfl)
theorem dX1_crosses_150 : decode cX1_crosses 150 = .ok (.aload_n 0, 1) := dk_42 (dk_at dksX1_crosses_6 9 rfl rfl)
theorem dX1_crosses_151 : decode cX1_crosses 151 = .ok (.getfield 66, 3) := dk_180 0 66 (dk_at dksX1_crosses_6 10 rfl rfl)
theorem dX1_crosses_154 : decode cX1_crosses 154 = .ok (.iload 6, 2) := dk_21 6 (dk_at dksX1_crosses_6 13 rfl rfl)
theorem dX1_crosses_156 : decode cX1_crosses 156 = .ok (.iaload, 1) := dk_46 (dk_at dksX1_crosses_6 15 rfl rfl)
theorem dX1_crosses_157 : decode cX1_crosses 157 = .ok (.aload_n 0, 1) := dk_42 (dk_at dksX1_crosses_6 16 rfl rfl)
theorem dX1_crosses_158 : decode cX1_crosses 158 = .ok (.getfield 66, 3) := dk_180 0 66 (dk_at dksX1_crosses_6 17 rfl rfl)
theorem dX1_crosses_161 : decode cX1_crosses 161 = .ok (.iload 4, 2) := dk_21 4 (dk_at dksX1_crosses_6 20 rfl rfl)
theorem dX1_crosses_163 : decode cX1_crosses 163 = .ok (.iaload, 1) := dk_46 (dk_at dksX1_crosses_6 22 rfl rfl)
theorem dX1_crosses_164 : decode cX1_crosses 164 = .ok (.sipush 1000, 3) := dk_17 3 232 (dk_at dksX1_crosses_7 0 rfl rfl)
theorem dX1_crosses_167 : decode cX1_crosses 167 = .ok (.aload_n 0, 1) := dk_42 (dk_at dksX1_crosses_7 3 rfl rfl)
theorem dX1_crosses_168 : decode cX1_crosses 168 = .ok (.iload_n 1, 1) := dk_27 (dk_at dksX1_crosses_7 4 rfl rfl)
theorem dX1_crosses_169 : decode cX1_crosses 169 = .ok (.iload 6, 2) := dk_21 6 (dk_at dksX1_crosses_7 5 rfl rfl)
theorem dX1_crosses_171 : decode cX1_crosses 171 = .ok (.invokevirtual 312, 3) := dk_182 1 56 (dk_at dksX1_crosses_7 7 rfl rfl)
theorem dX1_crosses_174 : decode cX1_crosses 174 = .ok (.imul, 1) := dk_104 (dk_at dksX1_crosses_7 10 rfl rfl)
theorem dX1_crosses_175 : decode cX1_crosses 175 = .ok (.iadd, 1) := dk_96 (dk_at dksX1_crosses_7 11 rfl rfl)
theorem dX1_crosses_176 : decode cX1_crosses 176 = .ok (.iconst 1, 1) := dk_4 (dk_at dksX1_crosses_7 12 rfl rfl)
theorem dX1_crosses_177 : decode cX1_crosses 177 = .ok (.iadd, 1) := dk_96 (dk_at dksX1_crosses_7 13 rfl rfl)
theorem dX1_crosses_178 : decode cX1_crosses 178 = .ok (.invokestatic 248, 3) := dk_184 0 248 (dk_at dksX1_crosses_7 14 rfl rfl)
theorem dX1_crosses_181 : decode cX1_crosses 181 = .ok (.iastore, 1) := dk_79 (dk_at dksX1_crosses_7 17 rfl rfl)
theorem dX1_crosses_182 : decode cX1_crosses 182 = .ok (.iinc 5 1, 3) := dk_132 5 1 (dk_at dksX1_crosses_7 18 rfl rfl)
theorem dX1_crosses_185 : decode cX1_crosses 185 = .ok (.goto (-66), 3) := dk_167 255 190 (dk_at dksX1_crosses_7 21 rfl rfl)
theorem dX1_crosses_188 : decode cX1_crosses 188 = .ok (.aload_n 0, 1) := dk_42 (dk_at dksX1_crosses_8 0 rfl rfl)
theorem dX1_crosses_189 : decode cX1_crosses 189 = .ok (.invokevirtual 315, 3) := dk_182 1 59 (dk_at dksX1_crosses_8 1 rfl rfl)
theorem dX1_crosses_192 : decode cX1_crosses 192 = .ok (.istore 4, 2) := dk_54 4 (dk_at dksX1_crosses_8 4 rfl rfl)
theorem dX1_crosses_194 : decode cX1_crosses 194 = .ok (.goto (-98), 3) := dk_167 255 158 (dk_at dksX1_crosses_8 6 rfl rfl)
theorem dX1_crosses_197 : decode cX1_crosses 197 = .ok (.aload_n 0, 1) := dk_42 (dk_at dksX1_crosses_8 9 rfl rfl)
theorem dX1_crosses_198 : decode cX1_crosses 198 = .ok (.getfield 66, 3) := dk_180 0 66 (dk_at dksX1_crosses_8 10 rfl rfl)
theorem dX1_crosses_201 : decode cX1_crosses 201 = .ok (.iload_n 3, 1) := dk_29 (dk_at dksX1_crosses_8 13 rfl rfl)
theorem dX1_crosses_202 : decode cX1_crosses 202 = .ok (.iaload, 1) := dk_46 (dk_at dksX1_crosses_8 14 rfl rfl)
theorem dX1_crosses_203 : decode cX1_crosses 203 = .ok (.ldc_w 302, 3) := dk_19 1 46 (dk_at dksX1_crosses_8 15 rfl rfl)
theorem dX1_crosses_206 : decode cX1_crosses 206 = .ok (.if_icmp .ge 12, 3) := dk_162 0 12 (dk_at dksX1_crosses_8 18 rfl rfl)
theorem dX1_crosses_209 : decode cX1_crosses 209 = .ok (.aload_n 0, 1) := dk_42 (dk_at dksX1_crosses_8 21 rfl rfl)
theorem dX1_crosses_210 : decode cX1_crosses 210 = .ok (.getfield 66, 3) := dk_180 0 66 (dk_at dksX1_crosses_9 0 rfl rfl)
theorem dX1_crosses_213 : decode cX1_crosses 213 = .ok (.iload_n 3, 1) := dk_29 (dk_at dksX1_crosses_9 3 rfl rfl)
theorem dX1_crosses_214 : decode cX1_crosses 214 = .ok (.iaload, 1) := dk_46 (dk_at dksX1_crosses_9 4 rfl rfl)
theorem dX1_crosses_215 : decode cX1_crosses 215 = .ok (.goto 4, 3) := dk_167 0 4 (dk_at dksX1_crosses_9 5 rfl rfl)
theorem dX1_crosses_218 : decode cX1_crosses 218 = .ok (.iconst (-1), 1) := dk_2 (dk_at dksX1_crosses_9 8 rfl rfl)
theorem dX1_crosses_219 : decode cX1_crosses 219 = .ok (.ireturn, 1) := dk_172 (dk_at dksX1_crosses_9 9 rfl rfl)
abbrev cX1_signOf : ByteArray := prog_1_method_36_code
def yX1_signOf : MethodName := ⟨RX1, "signOf", "(II)I"⟩
def dkwX1_signOf_2 : List UInt8 := [180, 0, 174, 172]
abbrev dktX1_signOf_2 : List UInt8 := dkwX1_signOf_2 ++ []
def dkwX1_signOf_1 : List UInt8 := [180, 0, 177, 160, 0, 7, 3, 167, 0, 20, 42, 180, 0, 19, 180, 0, 144, 27, 182, 0, 168, 192, 0, 172]
abbrev dktX1_signOf_1 : List UInt8 := dkwX1_signOf_1 ++ dktX1_signOf_2
def dkwX1_signOf_0 : List UInt8 := [42, 180, 0, 30, 180, 0, 206, 28, 46, 42, 180, 0, 19, 180, 0, 144, 27, 182, 0, 168, 192, 0, 172]
abbrev dktX1_signOf_0 : List UInt8 := dkwX1_signOf_0 ++ dktX1_signOf_1
theorem dksX1_signOf_0 : cX1_signOf.data.toList.drop 0 = dktX1_signOf_0 := by decide +kernel
theorem dksX1_signOf_1 : cX1_signOf.data.toList.drop 23 = dktX1_signOf_1 := dk_seg dksX1_signOf_0 23 rfl rfl
theorem dksX1_signOf_2 : cX1_signOf.data.toList.drop 47 = dktX1_signOf_2 := dk_seg dksX1_signOf_1 24 rfl rfl
theorem dX1_signOf_0 : decode cX1_signOf 0 = .ok (.aload_n 0, 1) := dk_42 (dk_at dksX1_signOf_0 0 rfl rfl)
theorem dX1_signOf_1 : decode cX1_signOf 1 = .ok (.getfield 30, 3) := dk_180 0 30 (dk_at dksX1_signOf_0 1 rfl rfl)
theorem dX1_signOf_4 : decode cX1_signOf 4 = .ok (.getfield 206, 3) := dk_180 0 206 (dk_at dksX1_signOf_0 4 rfl rfl)
theorem dX1_signOf_7 : decode cX1_signOf 7 = .ok (.iload_n 2, 1) := dk_28 (dk_at dksX1_signOf_0 7 rfl rfl)
theorem dX1_signOf_8 : decode cX1_signOf 8 = .ok (.iaload, 1) := dk_46 (dk_at dksX1_signOf_0 8 rfl rfl)
theorem dX1_signOf_9 : decode cX1_signOf 9 = .ok (.aload_n 0, 1) := dk_42 (dk_at dksX1_signOf_0 9 rfl rfl)
theorem dX1_signOf_10 : decode cX1_signOf 10 = .ok (.getfield 19, 3) := dk_180 0 19 (dk_at dksX1_signOf_0 10 rfl rfl)
theorem dX1_signOf_13 : decode cX1_signOf 13 = .ok (.getfield 144, 3) := dk_180 0 144 (dk_at dksX1_signOf_0 13 rfl rfl)
theorem dX1_signOf_16 : decode cX1_signOf 16 = .ok (.iload_n 1, 1) := dk_27 (dk_at dksX1_signOf_0 16 rfl rfl)
theorem dX1_signOf_17 : decode cX1_signOf 17 = .ok (.invokevirtual 168, 3) := dk_182 0 168 (dk_at dksX1_signOf_0 17 rfl rfl)
theorem dX1_signOf_20 : decode cX1_signOf 20 = .ok (.checkcast 172, 3) := dk_192 0 172 (dk_at dksX1_signOf_0 20 rfl rfl)
theorem dX1_signOf_23 : decode cX1_signOf 23 = .ok (.getfield 177, 3) := dk_180 0 177 (dk_at dksX1_signOf_1 0 rfl rfl)
theorem dX1_signOf_26 : decode cX1_signOf 26 = .ok (.if_icmp .ne 7, 3) := dk_160 0 7 (dk_at dksX1_signOf_1 3 rfl rfl)
theorem dX1_signOf_29 : decode cX1_signOf 29 = .ok (.iconst 0, 1) := dk_3 (dk_at dksX1_signOf_1 6 rfl rfl)
theorem dX1_signOf_30 : decode cX1_signOf 30 = .ok (.goto 20, 3) := dk_167 0 20 (dk_at dksX1_signOf_1 7 rfl rfl)
theorem dX1_signOf_33 : decode cX1_signOf 33 = .ok (.aload_n 0, 1) := dk_42 (dk_at dksX1_signOf_1 10 rfl rfl)
theorem dX1_signOf_34 : decode cX1_signOf 34 = .ok (.getfield 19, 3) := dk_180 0 19 (dk_at dksX1_signOf_1 11 rfl rfl)
theorem dX1_signOf_37 : decode cX1_signOf 37 = .ok (.getfield 144, 3) := dk_180 0 144 (dk_at dksX1_signOf_1 14 rfl rfl)
theorem dX1_signOf_40 : decode cX1_signOf 40 = .ok (.iload_n 1, 1) := dk_27 (dk_at dksX1_signOf_1 17 rfl rfl)
theorem dX1_signOf_41 : decode cX1_signOf 41 = .ok (.invokevirtual 168, 3) := dk_182 0 168 (dk_at dksX1_signOf_1 18 rfl rfl)
theorem dX1_signOf_44 : decode cX1_signOf 44 = .ok (.checkcast 172, 3) := dk_192 0 172 (dk_at dksX1_signOf_1 21 rfl rfl)
theorem dX1_signOf_47 : decode cX1_signOf 47 = .ok (.getfield 174, 3) := dk_180 0 174 (dk_at dksX1_signOf_2 0 rfl rfl)
theorem dX1_signOf_50 : decode cX1_signOf 50 = .ok (.ireturn, 1) := dk_172 (dk_at dksX1_signOf_2 3 rfl rfl)
abbrev cX1_nearest : ByteArray := prog_1_method_35_code
def yX1_nearest : MethodName := ⟨RX1, "nearest", "()I"⟩
def dkwX1_nearest_2 : List UInt8 := [46, 162, 0, 5, 28, 60, 132, 2, 1, 167, 255, 203, 27, 172]
abbrev dktX1_nearest_2 : List UInt8 := dkwX1_nearest_2 ++ []
def dkwX1_nearest_1 : List UInt8 := [28, 46, 19, 1, 46, 162, 0, 25, 27, 2, 159, 0, 18, 42, 180, 0, 66, 28, 46, 42, 180, 0, 66, 27]
abbrev dktX1_nearest_1 : List UInt8 := dkwX1_nearest_1 ++ dktX1_nearest_2
def dkwX1_nearest_0 : List UInt8 := [2, 60, 3, 61, 28, 17, 0, 144, 162, 0, 52, 42, 180, 0, 69, 28, 51, 154, 0, 37, 42, 180, 0, 66]
abbrev dktX1_nearest_0 : List UInt8 := dkwX1_nearest_0 ++ dktX1_nearest_1
theorem dksX1_nearest_0 : cX1_nearest.data.toList.drop 0 = dktX1_nearest_0 := by decide +kernel
theorem dksX1_nearest_1 : cX1_nearest.data.toList.drop 24 = dktX1_nearest_1 := dk_seg dksX1_nearest_0 24 rfl rfl
theorem dksX1_nearest_2 : cX1_nearest.data.toList.drop 48 = dktX1_nearest_2 := dk_seg dksX1_nearest_1 24 rfl rfl
theorem dX1_nearest_0 : decode cX1_nearest 0 = .ok (.iconst (-1), 1) := dk_2 (dk_at dksX1_nearest_0 0 rfl rfl)
theorem dX1_nearest_1 : decode cX1_nearest 1 = .ok (.istore_n 1, 1) := dk_60 (dk_at dksX1_nearest_0 1 rfl rfl)
theorem dX1_nearest_2 : decode cX1_nearest 2 = .ok (.iconst 0, 1) := dk_3 (dk_at dksX1_nearest_0 2 rfl rfl)
theorem dX1_nearest_3 : decode cX1_nearest 3 = .ok (.istore_n 2, 1) := dk_61 (dk_at dksX1_nearest_0 3 rfl rfl)
theorem dX1_nearest_4 : decode cX1_nearest 4 = .ok (.iload_n 2, 1) := dk_28 (dk_at dksX1_nearest_0 4 rfl rfl)
theorem dX1_nearest_5 : decode cX1_nearest 5 = .ok (.sipush 144, 3) := dk_17 0 144 (dk_at dksX1_nearest_0 5 rfl rfl)
theorem dX1_nearest_8 : decode cX1_nearest 8 = .ok (.if_icmp .ge 52, 3) := dk_162 0 52 (dk_at dksX1_nearest_0 8 rfl rfl)
theorem dX1_nearest_11 : decode cX1_nearest 11 = .ok (.aload_n 0, 1) := dk_42 (dk_at dksX1_nearest_0 11 rfl rfl)
theorem dX1_nearest_12 : decode cX1_nearest 12 = .ok (.getfield 69, 3) := dk_180 0 69 (dk_at dksX1_nearest_0 12 rfl rfl)
theorem dX1_nearest_15 : decode cX1_nearest 15 = .ok (.iload_n 2, 1) := dk_28 (dk_at dksX1_nearest_0 15 rfl rfl)
theorem dX1_nearest_16 : decode cX1_nearest 16 = .ok (.baload, 1) := dk_51 (dk_at dksX1_nearest_0 16 rfl rfl)
theorem dX1_nearest_17 : decode cX1_nearest 17 = .ok (.ifCond .ne 37, 3) := dk_154 0 37 (dk_at dksX1_nearest_0 17 rfl rfl)
theorem dX1_nearest_20 : decode cX1_nearest 20 = .ok (.aload_n 0, 1) := dk_42 (dk_at dksX1_nearest_0 20 rfl rfl)
theorem dX1_nearest_21 : decode cX1_nearest 21 = .ok (.getfield 66, 3) := dk_180 0 66 (dk_at dksX1_nearest_0 21 rfl rfl)
theorem dX1_nearest_24 : decode cX1_nearest 24 = .ok (.iload_n 2, 1) := dk_28 (dk_at dksX1_nearest_1 0 rfl rfl)
theorem dX1_nearest_25 : decode cX1_nearest 25 = .ok (.iaload, 1) := dk_46 (dk_at dksX1_nearest_1 1 rfl rfl)
theorem dX1_nearest_26 : decode cX1_nearest 26 = .ok (.ldc_w 302, 3) := dk_19 1 46 (dk_at dksX1_nearest_1 2 rfl rfl)
theorem dX1_nearest_29 : decode cX1_nearest 29 = .ok (.if_icmp .ge 25, 3) := dk_162 0 25 (dk_at dksX1_nearest_1 5 rfl rfl)
theorem dX1_nearest_32 : decode cX1_nearest 32 = .ok (.iload_n 1, 1) := dk_27 (dk_at dksX1_nearest_1 8 rfl rfl)
theorem dX1_nearest_33 : decode cX1_nearest 33 = .ok (.iconst (-1), 1) := dk_2 (dk_at dksX1_nearest_1 9 rfl rfl)
theorem dX1_nearest_34 : decode cX1_nearest 34 = .ok (.if_icmp .eq 18, 3) := dk_159 0 18 (dk_at dksX1_nearest_1 10 rfl rfl)
theorem dX1_nearest_37 : decode cX1_nearest 37 = .ok (.aload_n 0, 1) := dk_42 (dk_at dksX1_nearest_1 13 rfl rfl)
theorem dX1_nearest_38 : decode cX1_nearest 38 = .ok (.getfield 66, 3) := dk_180 0 66 (dk_at dksX1_nearest_1 14 rfl rfl)
theorem dX1_nearest_41 : decode cX1_nearest 41 = .ok (.iload_n 2, 1) := dk_28 (dk_at dksX1_nearest_1 17 rfl rfl)
theorem dX1_nearest_42 : decode cX1_nearest 42 = .ok (.iaload, 1) := dk_46 (dk_at dksX1_nearest_1 18 rfl rfl)
theorem dX1_nearest_43 : decode cX1_nearest 43 = .ok (.aload_n 0, 1) := dk_42 (dk_at dksX1_nearest_1 19 rfl rfl)
theorem dX1_nearest_44 : decode cX1_nearest 44 = .ok (.getfield 66, 3) := dk_180 0 66 (dk_at dksX1_nearest_1 20 rfl rfl)
theorem dX1_nearest_47 : decode cX1_nearest 47 = .ok (.iload_n 1, 1) := dk_27 (dk_at dksX1_nearest_1 23 rfl rfl)
theorem dX1_nearest_48 : decode cX1_nearest 48 = .ok (.iaload, 1) := dk_46 (dk_at dksX1_nearest_2 0 rfl rfl)
theorem dX1_nearest_49 : decode cX1_nearest 49 = .ok (.if_icmp .ge 5, 3) := dk_162 0 5 (dk_at dksX1_nearest_2 1 rfl rfl)
theorem dX1_nearest_52 : decode cX1_nearest 52 = .ok (.iload_n 2, 1) := dk_28 (dk_at dksX1_nearest_2 4 rfl rfl)
theorem dX1_nearest_53 : decode cX1_nearest 53 = .ok (.istore_n 1, 1) := dk_60 (dk_at dksX1_nearest_2 5 rfl rfl)
theorem dX1_nearest_54 : decode cX1_nearest 54 = .ok (.iinc 2 1, 3) := dk_132 2 1 (dk_at dksX1_nearest_2 6 rfl rfl)
theorem dX1_nearest_57 : decode cX1_nearest 57 = .ok (.goto (-53), 3) := dk_167 255 203 (dk_at dksX1_nearest_2 9 rfl rfl)
theorem dX1_nearest_60 : decode cX1_nearest 60 = .ok (.iload_n 1, 1) := dk_27 (dk_at dksX1_nearest_2 12 rfl rfl)
theorem dX1_nearest_61 : decode cX1_nearest 61 = .ok (.ireturn, 1) := dk_172 (dk_at dksX1_nearest_2 13 rfl rfl)
abbrev cX1_steps : ByteArray := prog_1_method_39_code
def yX1_steps : MethodName := ⟨RX1, "steps", "(III)I"⟩
def dkwX1_steps_1 : List UInt8 := [112, 172]
abbrev dktX1_steps_1 : List UInt8 := dkwX1_steps_1 ++ []
def dkwX1_steps_0 : List UInt8 := [42, 27, 28, 29, 182, 1, 65, 54, 4, 21, 4, 2, 160, 0, 7, 2, 167, 0, 9, 21, 4, 17, 3, 232]
abbrev dktX1_steps_0 : List UInt8 := dkwX1_steps_0 ++ dktX1_steps_1
theorem dksX1_steps_0 : cX1_steps.data.toList.drop 0 = dktX1_steps_0 := by decide +kernel
theorem dksX1_steps_1 : cX1_steps.data.toList.drop 24 = dktX1_steps_1 := dk_seg dksX1_steps_0 24 rfl rfl
theorem dX1_steps_0 : decode cX1_steps 0 = .ok (.aload_n 0, 1) := dk_42 (dk_at dksX1_steps_0 0 rfl rfl)
theorem dX1_steps_1 : decode cX1_steps 1 = .ok (.iload_n 1, 1) := dk_27 (dk_at dksX1_steps_0 1 rfl rfl)
theorem dX1_steps_2 : decode cX1_steps 2 = .ok (.iload_n 2, 1) := dk_28 (dk_at dksX1_steps_0 2 rfl rfl)
theorem dX1_steps_3 : decode cX1_steps 3 = .ok (.iload_n 3, 1) := dk_29 (dk_at dksX1_steps_0 3 rfl rfl)
theorem dX1_steps_4 : decode cX1_steps 4 = .ok (.invokevirtual 321, 3) := dk_182 1 65 (dk_at dksX1_steps_0 4 rfl rfl)
theorem dX1_steps_7 : decode cX1_steps 7 = .ok (.istore 4, 2) := dk_54 4 (dk_at dksX1_steps_0 7 rfl rfl)
theorem dX1_steps_9 : decode cX1_steps 9 = .ok (.iload 4, 2) := dk_21 4 (dk_at dksX1_steps_0 9 rfl rfl)
theorem dX1_steps_11 : decode cX1_steps 11 = .ok (.iconst (-1), 1) := dk_2 (dk_at dksX1_steps_0 11 rfl rfl)
theorem dX1_steps_12 : decode cX1_steps 12 = .ok (.if_icmp .ne 7, 3) := dk_160 0 7 (dk_at dksX1_steps_0 12 rfl rfl)
theorem dX1_steps_15 : decode cX1_steps 15 = .ok (.iconst (-1), 1) := dk_2 (dk_at dksX1_steps_0 15 rfl rfl)
theorem dX1_steps_16 : decode cX1_steps 16 = .ok (.goto 9, 3) := dk_167 0 9 (dk_at dksX1_steps_0 16 rfl rfl)
theorem dX1_steps_19 : decode cX1_steps 19 = .ok (.iload 4, 2) := dk_21 4 (dk_at dksX1_steps_0 19 rfl rfl)
theorem dX1_steps_21 : decode cX1_steps 21 = .ok (.sipush 1000, 3) := dk_17 3 232 (dk_at dksX1_steps_0 21 rfl rfl)
theorem dX1_steps_24 : decode cX1_steps 24 = .ok (.irem, 1) := dk_112 (dk_at dksX1_steps_1 0 rfl rfl)
theorem dX1_steps_25 : decode cX1_steps 25 = .ok (.ireturn, 1) := dk_172 (dk_at dksX1_steps_1 1 rfl rfl)
abbrev cX1_walk : ByteArray := prog_1_method_40_code
def yX1_walk : MethodName := ⟨RX1, "walk", "()I"⟩
def dkwX1_walk_3 : List UInt8 := [44, 180, 1, 87, 172, 77, 42, 44, 180, 0, 138, 181, 0, 114, 16, 254, 44, 180, 0, 141, 100, 172]
abbrev dktX1_walk_3 : List UInt8 := dkwX1_walk_3 ++ []
def dkwX1_walk_2 : List UInt8 := [180, 1, 79, 79, 42, 180, 0, 73, 5, 44, 180, 1, 82, 79, 42, 180, 0, 73, 6, 44, 180, 1, 85, 79]
abbrev dktX1_walk_2 : List UInt8 := dkwX1_walk_2 ++ dktX1_walk_3
def dkwX1_walk_1 : List UInt8 := [183, 1, 70, 182, 1, 73, 77, 42, 180, 0, 73, 3, 44, 180, 1, 76, 79, 42, 180, 0, 73, 4, 44]
abbrev dktX1_walk_1 : List UInt8 := dkwX1_walk_1 ++ dktX1_walk_2
def dkwX1_walk_0 : List UInt8 := [42, 182, 0, 110, 60, 42, 3, 181, 0, 114, 187, 1, 68, 89, 42, 180, 0, 12, 27, 42, 180, 0, 19]
abbrev dktX1_walk_0 : List UInt8 := dkwX1_walk_0 ++ dktX1_walk_1
theorem dksX1_walk_0 : cX1_walk.data.toList.drop 0 = dktX1_walk_0 := by decide +kernel
theorem dksX1_walk_1 : cX1_walk.data.toList.drop 23 = dktX1_walk_1 := dk_seg dksX1_walk_0 23 rfl rfl
theorem dksX1_walk_2 : cX1_walk.data.toList.drop 46 = dktX1_walk_2 := dk_seg dksX1_walk_1 23 rfl rfl
theorem dksX1_walk_3 : cX1_walk.data.toList.drop 70 = dktX1_walk_3 := dk_seg dksX1_walk_2 24 rfl rfl
theorem dX1_walk_0 : decode cX1_walk 0 = .ok (.aload_n 0, 1) := dk_42 (dk_at dksX1_walk_0 0 rfl rfl)
theorem dX1_walk_1 : decode cX1_walk 1 = .ok (.invokevirtual 110, 3) := dk_182 0 110 (dk_at dksX1_walk_0 1 rfl rfl)
theorem dX1_walk_4 : decode cX1_walk 4 = .ok (.istore_n 1, 1) := dk_60 (dk_at dksX1_walk_0 4 rfl rfl)
theorem dX1_walk_5 : decode cX1_walk 5 = .ok (.aload_n 0, 1) := dk_42 (dk_at dksX1_walk_0 5 rfl rfl)
theorem dX1_walk_6 : decode cX1_walk 6 = .ok (.iconst 0, 1) := dk_3 (dk_at dksX1_walk_0 6 rfl rfl)
theorem dX1_walk_7 : decode cX1_walk 7 = .ok (.putfield 114, 3) := dk_181 0 114 (dk_at dksX1_walk_0 7 rfl rfl)
theorem dX1_walk_10 : decode cX1_walk 10 = .ok (.new 324, 3) := dk_187 1 68 (dk_at dksX1_walk_0 10 rfl rfl)
theorem dX1_walk_13 : decode cX1_walk 13 = .ok (.dup, 1) := dk_89 (dk_at dksX1_walk_0 13 rfl rfl)
theorem dX1_walk_14 : decode cX1_walk 14 = .ok (.aload_n 0, 1) := dk_42 (dk_at dksX1_walk_0 14 rfl rfl)
theorem dX1_walk_15 : decode cX1_walk 15 = .ok (.getfield 12, 3) := dk_180 0 12 (dk_at dksX1_walk_0 15 rfl rfl)
theorem dX1_walk_18 : decode cX1_walk 18 = .ok (.iload_n 1, 1) := dk_27 (dk_at dksX1_walk_0 18 rfl rfl)
theorem dX1_walk_19 : decode cX1_walk 19 = .ok (.aload_n 0, 1) := dk_42 (dk_at dksX1_walk_0 19 rfl rfl)
theorem dX1_walk_20 : decode cX1_walk 20 = .ok (.getfield 19, 3) := dk_180 0 19 (dk_at dksX1_walk_0 20 rfl rfl)
theorem dX1_walk_23 : decode cX1_walk 23 = .ok (.invokespecial 326, 3) := dk_183 1 70 (dk_at dksX1_walk_1 0 rfl rfl)
theorem dX1_walk_26 : decode cX1_walk 26 = .ok (.invokevirtual 329, 3) := dk_182 1 73 (dk_at dksX1_walk_1 3 rfl rfl)
theorem dX1_walk_29 : decode cX1_walk 29 = .ok (.astore_n 2, 1) := dk_77 (dk_at dksX1_walk_1 6 rfl rfl)
theorem dX1_walk_30 : decode cX1_walk 30 = .ok (.aload_n 0, 1) := dk_42 (dk_at dksX1_walk_1 7 rfl rfl)
theorem dX1_walk_31 : decode cX1_walk 31 = .ok (.getfield 73, 3) := dk_180 0 73 (dk_at dksX1_walk_1 8 rfl rfl)
theorem dX1_walk_34 : decode cX1_walk 34 = .ok (.iconst 0, 1) := dk_3 (dk_at dksX1_walk_1 11 rfl rfl)
theorem dX1_walk_35 : decode cX1_walk 35 = .ok (.aload_n 2, 1) := dk_44 (dk_at dksX1_walk_1 12 rfl rfl)
theorem dX1_walk_36 : decode cX1_walk 36 = .ok (.getfield 332, 3) := dk_180 1 76 (dk_at dksX1_walk_1 13 rfl rfl)
theorem dX1_walk_39 : decode cX1_walk 39 = .ok (.iastore, 1) := dk_79 (dk_at dksX1_walk_1 16 rfl rfl)
theorem dX1_walk_40 : decode cX1_walk 40 = .ok (.aload_n 0, 1) := dk_42 (dk_at dksX1_walk_1 17 rfl rfl)
theorem dX1_walk_41 : decode cX1_walk 41 = .ok (.getfield 73, 3) := dk_180 0 73 (dk_at dksX1_walk_1 18 rfl rfl)
theorem dX1_walk_44 : decode cX1_walk 44 = .ok (.iconst 1, 1) := dk_4 (dk_at dksX1_walk_1 21 rfl rfl)
theorem dX1_walk_45 : decode cX1_walk 45 = .ok (.aload_n 2, 1) := dk_44 (dk_at dksX1_walk_1 22 rfl rfl)
theorem dX1_walk_46 : decode cX1_walk 46 = .ok (.getfield 335, 3) := dk_180 1 79 (dk_at dksX1_walk_2 0 rfl rfl)
theorem dX1_walk_49 : decode cX1_walk 49 = .ok (.iastore, 1) := dk_79 (dk_at dksX1_walk_2 3 rfl rfl)
theorem dX1_walk_50 : decode cX1_walk 50 = .ok (.aload_n 0, 1) := dk_42 (dk_at dksX1_walk_2 4 rfl rfl)
theorem dX1_walk_51 : decode cX1_walk 51 = .ok (.getfield 73, 3) := dk_180 0 73 (dk_at dksX1_walk_2 5 rfl rfl)
theorem dX1_walk_54 : decode cX1_walk 54 = .ok (.iconst 2, 1) := dk_5 (dk_at dksX1_walk_2 8 rfl rfl)
theorem dX1_walk_55 : decode cX1_walk 55 = .ok (.aload_n 2, 1) := dk_44 (dk_at dksX1_walk_2 9 rfl rfl)
theorem dX1_walk_56 : decode cX1_walk 56 = .ok (.getfield 338, 3) := dk_180 1 82 (dk_at dksX1_walk_2 10 rfl rfl)
theorem dX1_walk_59 : decode cX1_walk 59 = .ok (.iastore, 1) := dk_79 (dk_at dksX1_walk_2 13 rfl rfl)
theorem dX1_walk_60 : decode cX1_walk 60 = .ok (.aload_n 0, 1) := dk_42 (dk_at dksX1_walk_2 14 rfl rfl)
theorem dX1_walk_61 : decode cX1_walk 61 = .ok (.getfield 73, 3) := dk_180 0 73 (dk_at dksX1_walk_2 15 rfl rfl)
theorem dX1_walk_64 : decode cX1_walk 64 = .ok (.iconst 3, 1) := dk_6 (dk_at dksX1_walk_2 18 rfl rfl)
theorem dX1_walk_65 : decode cX1_walk 65 = .ok (.aload_n 2, 1) := dk_44 (dk_at dksX1_walk_2 19 rfl rfl)
theorem dX1_walk_66 : decode cX1_walk 66 = .ok (.getfield 341, 3) := dk_180 1 85 (dk_at dksX1_walk_2 20 rfl rfl)
theorem dX1_walk_69 : decode cX1_walk 69 = .ok (.iastore, 1) := dk_79 (dk_at dksX1_walk_2 23 rfl rfl)
theorem dX1_walk_70 : decode cX1_walk 70 = .ok (.aload_n 2, 1) := dk_44 (dk_at dksX1_walk_3 0 rfl rfl)
theorem dX1_walk_71 : decode cX1_walk 71 = .ok (.getfield 343, 3) := dk_180 1 87 (dk_at dksX1_walk_3 1 rfl rfl)
theorem dX1_walk_74 : decode cX1_walk 74 = .ok (.ireturn, 1) := dk_172 (dk_at dksX1_walk_3 4 rfl rfl)
theorem dX1_walk_75 : decode cX1_walk 75 = .ok (.astore_n 2, 1) := dk_77 (dk_at dksX1_walk_3 5 rfl rfl)
theorem dX1_walk_76 : decode cX1_walk 76 = .ok (.aload_n 0, 1) := dk_42 (dk_at dksX1_walk_3 6 rfl rfl)
theorem dX1_walk_77 : decode cX1_walk 77 = .ok (.aload_n 2, 1) := dk_44 (dk_at dksX1_walk_3 7 rfl rfl)
theorem dX1_walk_78 : decode cX1_walk 78 = .ok (.getfield 138, 3) := dk_180 0 138 (dk_at dksX1_walk_3 8 rfl rfl)
theorem dX1_walk_81 : decode cX1_walk 81 = .ok (.putfield 114, 3) := dk_181 0 114 (dk_at dksX1_walk_3 11 rfl rfl)
theorem dX1_walk_84 : decode cX1_walk 84 = .ok (.bipush (-2), 2) := dk_16 254 (dk_at dksX1_walk_3 14 rfl rfl)
theorem dX1_walk_86 : decode cX1_walk 86 = .ok (.aload_n 2, 1) := dk_44 (dk_at dksX1_walk_3 16 rfl rfl)
theorem dX1_walk_87 : decode cX1_walk 87 = .ok (.getfield 141, 3) := dk_180 0 141 (dk_at dksX1_walk_3 17 rfl rfl)
theorem dX1_walk_90 : decode cX1_walk 90 = .ok (.isub, 1) := dk_100 (dk_at dksX1_walk_3 20 rfl rfl)
theorem dX1_walk_91 : decode cX1_walk 91 = .ok (.ireturn, 1) := dk_172 (dk_at dksX1_walk_3 21 rfl rfl)
abbrev cX1_walked : ByteArray := prog_1_method_41_code
def yX1_walked : MethodName := ⟨RX1, "walked", "(I)I"⟩
def dkwX1_walked_0 : List UInt8 := [27, 3, 6, 184, 0, 153, 153, 0, 12, 42, 180, 0, 73, 27, 46, 167, 0, 4, 2, 172]
abbrev dktX1_walked_0 : List UInt8 := dkwX1_walked_0 ++ []
theorem dksX1_walked_0 : cX1_walked.data.toList.drop 0 = dktX1_walked_0 := by decide +kernel
theorem dX1_walked_0 : decode cX1_walked 0 = .ok (.iload_n 1, 1) := dk_27 (dk_at dksX1_walked_0 0 rfl rfl)
theorem dX1_walked_1 : decode cX1_walked 1 = .ok (.iconst 0, 1) := dk_3 (dk_at dksX1_walked_0 1 rfl rfl)
theorem dX1_walked_2 : decode cX1_walked 2 = .ok (.iconst 3, 1) := dk_6 (dk_at dksX1_walked_0 2 rfl rfl)
theorem dX1_walked_3 : decode cX1_walked 3 = .ok (.invokestatic 153, 3) := dk_184 0 153 (dk_at dksX1_walked_0 3 rfl rfl)
theorem dX1_walked_6 : decode cX1_walked 6 = .ok (.ifCond .eq 12, 3) := dk_153 0 12 (dk_at dksX1_walked_0 6 rfl rfl)
theorem dX1_walked_9 : decode cX1_walked 9 = .ok (.aload_n 0, 1) := dk_42 (dk_at dksX1_walked_0 9 rfl rfl)
theorem dX1_walked_10 : decode cX1_walked 10 = .ok (.getfield 73, 3) := dk_180 0 73 (dk_at dksX1_walked_0 10 rfl rfl)
theorem dX1_walked_13 : decode cX1_walked 13 = .ok (.iload_n 1, 1) := dk_27 (dk_at dksX1_walked_0 13 rfl rfl)
theorem dX1_walked_14 : decode cX1_walked 14 = .ok (.iaload, 1) := dk_46 (dk_at dksX1_walked_0 14 rfl rfl)
theorem dX1_walked_15 : decode cX1_walked 15 = .ok (.goto 4, 3) := dk_167 0 4 (dk_at dksX1_walked_0 15 rfl rfl)
theorem dX1_walked_18 : decode cX1_walked 18 = .ok (.iconst (-1), 1) := dk_2 (dk_at dksX1_walked_0 18 rfl rfl)
theorem dX1_walked_19 : decode cX1_walked 19 = .ok (.ireturn, 1) := dk_172 (dk_at dksX1_walked_0 19 rfl rfl)
abbrev cX1_seen : ByteArray := prog_1_method_47_code
def yX1_seen : MethodName := ⟨RX1, "seen", "(II)I"⟩
def dkwX1_seen_11 : List UInt8 := [180, 1, 118, 172]
abbrev dktX1_seen_11 : List UInt8 := dkwX1_seen_11 ++ []
def dkwX1_seen_10 : List UInt8 := [4, 96, 181, 1, 118, 167, 0, 11, 42, 180, 0, 76, 21, 6, 3, 84, 132, 6, 1, 167, 255, 144, 42]
abbrev dktX1_seen_10 : List UInt8 := dkwX1_seen_10 ++ dktX1_seen_11
def dkwX1_seen_9 : List UInt8 := [21, 5, 162, 0, 30, 132, 5, 255, 42, 180, 0, 93, 42, 180, 1, 118, 21, 6, 79, 42, 89, 180, 1, 118]
abbrev dktX1_seen_9 : List UInt8 := dkwX1_seen_9 ++ dktX1_seen_10
def dkwX1_seen_8 : List UInt8 := [21, 4, 160, 0, 6, 167, 0, 58, 42, 180, 0, 76, 21, 6, 4, 84, 42, 29, 21, 4, 182, 1, 115]
abbrev dktX1_seen_8 : List UInt8 := dkwX1_seen_8 ++ dktX1_seen_9
def dkwX1_seen_7 : List UInt8 := [153, 0, 87, 42, 180, 0, 19, 180, 0, 214, 21, 6, 51, 154, 0, 74, 21, 6, 29, 159, 0, 68, 21, 6]
abbrev dktX1_seen_7 : List UInt8 := dkwX1_seen_7 ++ dktX1_seen_8
def dkwX1_seen_6 : List UInt8 := [21, 6, 17, 0, 144, 162, 0, 110, 21, 5, 158, 0, 105, 42, 180, 0, 19, 21, 6, 182, 0, 193]
abbrev dktX1_seen_6 : List UInt8 := dkwX1_seen_6 ++ dktX1_seen_7
def dkwX1_seen_5 : List UInt8 := [180, 0, 76, 3, 184, 1, 53, 42, 29, 21, 4, 182, 1, 115, 54, 5, 42, 3, 181, 1, 118, 3, 54, 6]
abbrev dktX1_seen_5 : List UInt8 := dkwX1_seen_5 ++ dktX1_seen_6
def dkwX1_seen_4 : List UInt8 := [42, 180, 0, 19, 29, 21, 5, 182, 1, 103, 21, 4, 160, 0, 5, 2, 172, 132, 5, 1, 167, 255, 230, 42]
abbrev dktX1_seen_4 : List UInt8 := dkwX1_seen_4 ++ dktX1_seen_5
def dkwX1_seen_3 : List UInt8 := [180, 1, 109, 28, 182, 0, 168, 192, 1, 32, 182, 1, 112, 54, 4, 3, 54, 5, 21, 5, 7, 162, 0, 26]
abbrev dktX1_seen_3 : List UInt8 := dkwX1_seen_3 ++ dktX1_seen_4
def dkwX1_seen_2 : List UInt8 := [42, 180, 0, 19, 180, 1, 109, 27, 182, 0, 168, 192, 1, 32, 182, 1, 112, 62, 42, 180, 0, 19]
abbrev dktX1_seen_2 : List UInt8 := dkwX1_seen_2 ++ dktX1_seen_3
def dkwX1_seen_1 : List UInt8 := [180, 0, 19, 180, 1, 109, 182, 0, 148, 4, 100, 184, 0, 153, 153, 0, 8, 27, 28, 160, 0, 5, 2, 172]
abbrev dktX1_seen_1 : List UInt8 := dkwX1_seen_1 ++ dktX1_seen_2
def dkwX1_seen_0 : List UInt8 := [27, 3, 42, 180, 0, 19, 180, 1, 109, 182, 0, 148, 4, 100, 184, 0, 153, 153, 0, 28, 28, 3, 42]
abbrev dktX1_seen_0 : List UInt8 := dkwX1_seen_0 ++ dktX1_seen_1
theorem dksX1_seen_0 : cX1_seen.data.toList.drop 0 = dktX1_seen_0 := by decide +kernel
theorem dksX1_seen_1 : cX1_seen.data.toList.drop 23 = dktX1_seen_1 := dk_seg dksX1_seen_0 23 rfl rfl
theorem dksX1_seen_2 : cX1_seen.data.toList.drop 47 = dktX1_seen_2 := dk_seg dksX1_seen_1 24 rfl rfl
theorem dksX1_seen_3 : cX1_seen.data.toList.drop 69 = dktX1_seen_3 := dk_seg dksX1_seen_2 22 rfl rfl
theorem dksX1_seen_4 : cX1_seen.data.toList.drop 93 = dktX1_seen_4 := dk_seg dksX1_seen_3 24 rfl rfl
theorem dksX1_seen_5 : cX1_seen.data.toList.drop 117 = dktX1_seen_5 := dk_seg dksX1_seen_4 24 rfl rfl
theorem dksX1_seen_6 : cX1_seen.data.toList.drop 141 = dktX1_seen_6 := dk_seg dksX1_seen_5 24 rfl rfl
theorem dksX1_seen_7 : cX1_seen.data.toList.drop 163 = dktX1_seen_7 := dk_seg dksX1_seen_6 22 rfl rfl
theorem dksX1_seen_8 : cX1_seen.data.toList.drop 187 = dktX1_seen_8 := dk_seg dksX1_seen_7 24 rfl rfl
theorem dksX1_seen_9 : cX1_seen.data.toList.drop 210 = dktX1_seen_9 := dk_seg dksX1_seen_8 23 rfl rfl
theorem dksX1_seen_10 : cX1_seen.data.toList.drop 234 = dktX1_seen_10 := dk_seg dksX1_seen_9 24 rfl rfl
theorem dksX1_seen_11 : cX1_seen.data.toList.drop 257 = dktX1_seen_11 := dk_seg dksX1_seen_10 23 rfl rfl
theorem dX1_seen_0 : decode cX1_seen 0 = .ok (.iload_n 1, 1) := dk_27 (dk_at dksX1_seen_0 0 rfl rfl)
theorem dX1_seen_1 : decode cX1_seen 1 = .ok (.iconst 0, 1) := dk_3 (dk_at dksX1_seen_0 1 rfl rfl)
theorem dX1_seen_2 : decode cX1_seen 2 = .ok (.aload_n 0, 1) := dk_42 (dk_at dksX1_seen_0 2 rfl rfl)
theorem dX1_seen_3 : decode cX1_seen 3 = .ok (.getfield 19, 3) := dk_180 0 19 (dk_at dksX1_seen_0 3 rfl rfl)
theorem dX1_seen_6 : decode cX1_seen 6 = .ok (.getfield 365, 3) := dk_180 1 109 (dk_at dksX1_seen_0 6 rfl rfl)
theorem dX1_seen_9 : decode cX1_seen 9 = .ok (.invokevirtual 148, 3) := dk_182 0 148 (dk_at dksX1_seen_0 9 rfl rfl)
theorem dX1_seen_12 : decode cX1_seen 12 = .ok (.iconst 1, 1) := dk_4 (dk_at dksX1_seen_0 12 rfl rfl)
theorem dX1_seen_13 : decode cX1_seen 13 = .ok (.isub, 1) := dk_100 (dk_at dksX1_seen_0 13 rfl rfl)
theorem dX1_seen_14 : decode cX1_seen 14 = .ok (.invokestatic 153, 3) := dk_184 0 153 (dk_at dksX1_seen_0 14 rfl rfl)
theorem dX1_seen_17 : decode cX1_seen 17 = .ok (.ifCond .eq 28, 3) := dk_153 0 28 (dk_at dksX1_seen_0 17 rfl rfl)
theorem dX1_seen_20 : decode cX1_seen 20 = .ok (.iload_n 2, 1) := dk_28 (dk_at dksX1_seen_0 20 rfl rfl)
theorem dX1_seen_21 : decode cX1_seen 21 = .ok (.iconst 0, 1) := dk_3 (dk_at dksX1_seen_0 21 rfl rfl)
theorem dX1_seen_22 : decode cX1_seen 22 = .ok (.aload_n 0, 1) := dk_42 (dk_at dksX1_seen_0 22 rfl rfl)
theorem dX1_seen_23 : decode cX1_seen 23 = .ok (.getfield 19, 3) := dk_180 0 19 (dk_at dksX1_seen_1 0 rfl rfl)
theorem dX1_seen_26 : decode cX1_seen 26 = .ok (.getfield 365, 3) := dk_180 1 109 (dk_at dksX1_seen_1 3 rfl rfl)
theorem dX1_seen_29 : decode cX1_seen 29 = .ok (.invokevirtual 148, 3) := dk_182 0 148 (dk_at dksX1_seen_1 6 rfl rfl)
theorem dX1_seen_32 : decode cX1_seen 32 = .ok (.iconst 1, 1) := dk_4 (dk_at dksX1_seen_1 9 rfl rfl)
theorem dX1_seen_33 : decode cX1_seen 33 = .ok (.isub, 1) := dk_100 (dk_at dksX1_seen_1 10 rfl rfl)
theorem dX1_seen_34 : decode cX1_seen 34 = .ok (.invokestatic 153, 3) := dk_184 0 153 (dk_at dksX1_seen_1 11 rfl rfl)
theorem dX1_seen_37 : decode cX1_seen 37 = .ok (.ifCond .eq 8, 3) := dk_153 0 8 (dk_at dksX1_seen_1 14 rfl rfl)
theorem dX1_seen_40 : decode cX1_seen 40 = .ok (.iload_n 1, 1) := dk_27 (dk_at dksX1_seen_1 17 rfl rfl)
theorem dX1_seen_41 : decode cX1_seen 41 = .ok (.iload_n 2, 1) := dk_28 (dk_at dksX1_seen_1 18 rfl rfl)
theorem dX1_seen_42 : decode cX1_seen 42 = .ok (.if_icmp .ne 5, 3) := dk_160 0 5 (dk_at dksX1_seen_1 19 rfl rfl)
theorem dX1_seen_45 : decode cX1_seen 45 = .ok (.iconst (-1), 1) := dk_2 (dk_at dksX1_seen_1 22 rfl rfl)
theorem dX1_seen_46 : decode cX1_seen 46 = .ok (.ireturn, 1) := dk_172 (dk_at dksX1_seen_1 23 rfl rfl)
theorem dX1_seen_47 : decode cX1_seen 47 = .ok (.aload_n 0, 1) := dk_42 (dk_at dksX1_seen_2 0 rfl rfl)
theorem dX1_seen_48 : decode cX1_seen 48 = .ok (.getfield 19, 3) := dk_180 0 19 (dk_at dksX1_seen_2 1 rfl rfl)
theorem dX1_seen_51 : decode cX1_seen 51 = .ok (.getfield 365, 3) := dk_180 1 109 (dk_at dksX1_seen_2 4 rfl rfl)
theorem dX1_seen_54 : decode cX1_seen 54 = .ok (.iload_n 1, 1) := dk_27 (dk_at dksX1_seen_2 7 rfl rfl)
theorem dX1_seen_55 : decode cX1_seen 55 = .ok (.invokevirtual 168, 3) := dk_182 0 168 (dk_at dksX1_seen_2 8 rfl rfl)
theorem dX1_seen_58 : decode cX1_seen 58 = .ok (.checkcast 288, 3) := dk_192 1 32 (dk_at dksX1_seen_2 11 rfl rfl)
theorem dX1_seen_61 : decode cX1_seen 61 = .ok (.invokevirtual 368, 3) := dk_182 1 112 (dk_at dksX1_seen_2 14 rfl rfl)
theorem dX1_seen_64 : decode cX1_seen 64 = .ok (.istore_n 3, 1) := dk_62 (dk_at dksX1_seen_2 17 rfl rfl)
theorem dX1_seen_65 : decode cX1_seen 65 = .ok (.aload_n 0, 1) := dk_42 (dk_at dksX1_seen_2 18 rfl rfl)
theorem dX1_seen_66 : decode cX1_seen 66 = .ok (.getfield 19, 3) := dk_180 0 19 (dk_at dksX1_seen_2 19 rfl rfl)
theorem dX1_seen_69 : decode cX1_seen 69 = .ok (.getfield 365, 3) := dk_180 1 109 (dk_at dksX1_seen_3 0 rfl rfl)
theorem dX1_seen_72 : decode cX1_seen 72 = .ok (.iload_n 2, 1) := dk_28 (dk_at dksX1_seen_3 3 rfl rfl)
theorem dX1_seen_73 : decode cX1_seen 73 = .ok (.invokevirtual 168, 3) := dk_182 0 168 (dk_at dksX1_seen_3 4 rfl rfl)
theorem dX1_seen_76 : decode cX1_seen 76 = .ok (.checkcast 288, 3) := dk_192 1 32 (dk_at dksX1_seen_3 7 rfl rfl)
theorem dX1_seen_79 : decode cX1_seen 79 = .ok (.invokevirtual 368, 3) := dk_182 1 112 (dk_at dksX1_seen_3 10 rfl rfl)
theorem dX1_seen_82 : decode cX1_seen 82 = .ok (.istore 4, 2) := dk_54 4 (dk_at dksX1_seen_3 13 rfl rfl)
theorem dX1_seen_84 : decode cX1_seen 84 = .ok (.iconst 0, 1) := dk_3 (dk_at dksX1_seen_3 15 rfl rfl)
theorem dX1_seen_85 : decode cX1_seen 85 = .ok (.istore 5, 2) := dk_54 5 (dk_at dksX1_seen_3 16 rfl rfl)
theorem dX1_seen_87 : decode cX1_seen 87 = .ok (.iload 5, 2) := dk_21 5 (dk_at dksX1_seen_3 18 rfl rfl)
theorem dX1_seen_89 : decode cX1_seen 89 = .ok (.iconst 4, 1) := dk_7 (dk_at dksX1_seen_3 20 rfl rfl)
theorem dX1_seen_90 : decode cX1_seen 90 = .ok (.if_icmp .ge 26, 3) := dk_162 0 26 (dk_at dksX1_seen_3 21 rfl rfl)
theorem dX1_seen_93 : decode cX1_seen 93 = .ok (.aload_n 0, 1) := dk_42 (dk_at dksX1_seen_4 0 rfl rfl)
theorem dX1_seen_94 : decode cX1_seen 94 = .ok (.getfield 19, 3) := dk_180 0 19 (dk_at dksX1_seen_4 1 rfl rfl)
theorem dX1_seen_97 : decode cX1_seen 97 = .ok (.iload_n 3, 1) := dk_29 (dk_at dksX1_seen_4 4 rfl rfl)
theorem dX1_seen_98 : decode cX1_seen 98 = .ok (.iload 5, 2) := dk_21 5 (dk_at dksX1_seen_4 5 rfl rfl)
theorem dX1_seen_100 : decode cX1_seen 100 = .ok (.invokevirtual 359, 3) := dk_182 1 103 (dk_at dksX1_seen_4 7 rfl rfl)
theorem dX1_seen_103 : decode cX1_seen 103 = .ok (.iload 4, 2) := dk_21 4 (dk_at dksX1_seen_4 10 rfl rfl)
theorem dX1_seen_105 : decode cX1_seen 105 = .ok (.if_icmp .ne 5, 3) := dk_160 0 5 (dk_at dksX1_seen_4 12 rfl rfl)
theorem dX1_seen_108 : decode cX1_seen 108 = .ok (.iconst (-1), 1) := dk_2 (dk_at dksX1_seen_4 15 rfl rfl)
theorem dX1_seen_109 : decode cX1_seen 109 = .ok (.ireturn, 1) := dk_172 (dk_at dksX1_seen_4 16 rfl rfl)
theorem dX1_seen_110 : decode cX1_seen 110 = .ok (.iinc 5 1, 3) := dk_132 5 1 (dk_at dksX1_seen_4 17 rfl rfl)
theorem dX1_seen_113 : decode cX1_seen 113 = .ok (.goto (-26), 3) := dk_167 255 230 (dk_at dksX1_seen_4 20 rfl rfl)
theorem dX1_seen_116 : decode cX1_seen 116 = .ok (.aload_n 0, 1) := dk_42 (dk_at dksX1_seen_4 23 rfl rfl)
theorem dX1_seen_117 : decode cX1_seen 117 = .ok (.getfield 76, 3) := dk_180 0 76 (dk_at dksX1_seen_5 0 rfl rfl)
theorem dX1_seen_120 : decode cX1_seen 120 = .ok (.iconst 0, 1) := dk_3 (dk_at dksX1_seen_5 3 rfl rfl)
theorem dX1_seen_121 : decode cX1_seen 121 = .ok (.invokestatic 309, 3) := dk_184 1 53 (dk_at dksX1_seen_5 4 rfl rfl)
theorem dX1_seen_124 : decode cX1_seen 124 = .ok (.aload_n 0, 1) := dk_42 (dk_at dksX1_seen_5 7 rfl rfl)
theorem dX1_seen_125 : decode cX1_seen 125 = .ok (.iload_n 3, 1) := dk_29 (dk_at dksX1_seen_5 8 rfl rfl)
theorem dX1_seen_126 : decode cX1_seen 126 = .ok (.iload 4, 2) := dk_21 4 (dk_at dksX1_seen_5 9 rfl rfl)
theorem dX1_seen_128 : decode cX1_seen 128 = .ok (.invokevirtual 371, 3) := dk_182 1 115 (dk_at dksX1_seen_5 11 rfl rfl)
theorem dX1_seen_131 : decode cX1_seen 131 = .ok (.istore 5, 2) := dk_54 5 (dk_at dksX1_seen_5 14 rfl rfl)
theorem dX1_seen_133 : decode cX1_seen 133 = .ok (.aload_n 0, 1) := dk_42 (dk_at dksX1_seen_5 16 rfl rfl)
theorem dX1_seen_134 : decode cX1_seen 134 = .ok (.iconst 0, 1) := dk_3 (dk_at dksX1_seen_5 17 rfl rfl)
theorem dX1_seen_135 : decode cX1_seen 135 = .ok (.putfield 374, 3) := dk_181 1 118 (dk_at dksX1_seen_5 18 rfl rfl)
theorem dX1_seen_138 : decode cX1_seen 138 = .ok (.iconst 0, 1) := dk_3 (dk_at dksX1_seen_5 21 rfl rfl)
theorem dX1_seen_139 : decode cX1_seen 139 = .ok (.istore 6, 2) := dk_54 6 (dk_at dksX1_seen_5 22 rfl rfl)
theorem dX1_seen_141 : decode cX1_seen 141 = .ok (.iload 6, 2) := dk_21 6 (dk_at dksX1_seen_6 0 rfl rfl)
theorem dX1_seen_143 : decode cX1_seen 143 = .ok (.sipush 144, 3) := dk_17 0 144 (dk_at dksX1_seen_6 2 rfl rfl)
theorem dX1_seen_146 : decode cX1_seen 146 = .ok (.if_icmp .ge 110, 3) := dk_162 0 110 (dk_at dksX1_seen_6 5 rfl rfl)
theorem dX1_seen_149 : decode cX1_seen 149 = .ok (.iload 5, 2) := dk_21 5 (dk_at dksX1_seen_6 8 rfl rfl)
theorem dX1_seen_151 : decode cX1_seen 151 = .ok (.ifCond .le 105, 3) := dk_158 0 105 (dk_at dksX1_seen_6 10 rfl rfl)
theorem dX1_seen_154 : decode cX1_seen 154 = .ok (.aload_n 0, 1) := dk_42 (dk_at dksX1_seen_6 13 rfl rfl)
theorem dX1_seen_155 : decode cX1_seen 155 = .ok (.getfield 19, 3) := dk_180 0 19 (dk_at dksX1_seen_6 14 rfl rfl)
theorem dX1_seen_158 : decode cX1_seen 158 = .ok (.iload 6, 2) := dk_21 6 (dk_at dksX1_seen_6 17 rfl rfl)
theorem dX1_seen_160 : decode cX1_seen 160 = .ok (.invokevirtual 193, 3) := dk_182 0 193 (dk_at dksX1_seen_6 19 rfl rfl)
theorem dX1_seen_163 : decode cX1_seen 163 = .ok (.ifCond .eq 87, 3) := dk_153 0 87 (dk_at dksX1_seen_7 0 rfl rfl)
theorem dX1_seen_166 : decode cX1_seen 166 = .ok (.aload_n 0, 1) := dk_42 (dk_at dksX1_seen_7 3 rfl rfl)
theorem dX1_seen_167 : decode cX1_seen 167 = .ok (.getfield 19, 3) := dk_180 0 19 (dk_at dksX1_seen_7 4 rfl rfl)
theorem dX1_seen_170 : decode cX1_seen 170 = .ok (.getfield 214, 3) := dk_180 0 214 (dk_at dksX1_seen_7 7 rfl rfl)
theorem dX1_seen_173 : decode cX1_seen 173 = .ok (.iload 6, 2) := dk_21 6 (dk_at dksX1_seen_7 10 rfl rfl)
theorem dX1_seen_175 : decode cX1_seen 175 = .ok (.baload, 1) := dk_51 (dk_at dksX1_seen_7 12 rfl rfl)
theorem dX1_seen_176 : decode cX1_seen 176 = .ok (.ifCond .ne 74, 3) := dk_154 0 74 (dk_at dksX1_seen_7 13 rfl rfl)
theorem dX1_seen_179 : decode cX1_seen 179 = .ok (.iload 6, 2) := dk_21 6 (dk_at dksX1_seen_7 16 rfl rfl)
theorem dX1_seen_181 : decode cX1_seen 181 = .ok (.iload_n 3, 1) := dk_29 (dk_at dksX1_seen_7 18 rfl rfl)
theorem dX1_seen_182 : decode cX1_seen 182 = .ok (.if_icmp .eq 68, 3) := dk_159 0 68 (dk_at dksX1_seen_7 19 rfl rfl)
theorem dX1_seen_185 : decode cX1_seen 185 = .ok (.iload 6, 2) := dk_21 6 (dk_at dksX1_seen_7 22 rfl rfl)
theorem dX1_seen_187 : decode cX1_seen 187 = .ok (.iload 4, 2) := dk_21 4 (dk_at dksX1_seen_8 0 rfl rfl)
theorem dX1_seen_189 : decode cX1_seen 189 = .ok (.if_icmp .ne 6, 3) := dk_160 0 6 (dk_at dksX1_seen_8 2 rfl rfl)
theorem dX1_seen_192 : decode cX1_seen 192 = .ok (.goto 58, 3) := dk_167 0 58 (dk_at dksX1_seen_8 5 rfl rfl)
theorem dX1_seen_195 : decode cX1_seen 195 = .ok (.aload_n 0, 1) := dk_42 (dk_at dksX1_seen_8 8 rfl rfl)
theorem dX1_seen_196 : decode cX1_seen 196 = .ok (.getfield 76, 3) := dk_180 0 76 (dk_at dksX1_seen_8 9 rfl rfl)
theorem dX1_seen_199 : decode cX1_seen 199 = .ok (.iload 6, 2) := dk_21 6 (dk_at dksX1_seen_8 12 rfl rfl)
theorem dX1_seen_201 : decode cX1_seen 201 = .ok (.iconst 1, 1) := dk_4 (dk_at dksX1_seen_8 14 rfl rfl)
theorem dX1_seen_202 : decode cX1_seen 202 = .ok (.bastore, 1) := dk_84 (dk_at dksX1_seen_8 15 rfl rfl)
theorem dX1_seen_203 : decode cX1_seen 203 = .ok (.aload_n 0, 1) := dk_42 (dk_at dksX1_seen_8 16 rfl rfl)
theorem dX1_seen_204 : decode cX1_seen 204 = .ok (.iload_n 3, 1) := dk_29 (dk_at dksX1_seen_8 17 rfl rfl)
theorem dX1_seen_205 : decode cX1_seen 205 = .ok (.iload 4, 2) := dk_21 4 (dk_at dksX1_seen_8 18 rfl rfl)
theorem dX1_seen_207 : decode cX1_seen 207 = .ok (.invokevirtual 371, 3) := dk_182 1 115 (dk_at dksX1_seen_8 20 rfl rfl)
theorem dX1_seen_210 : decode cX1_seen 210 = .ok (.iload 5, 2) := dk_21 5 (dk_at dksX1_seen_9 0 rfl rfl)
theorem dX1_seen_212 : decode cX1_seen 212 = .ok (.if_icmp .ge 30, 3) := dk_162 0 30 (dk_at dksX1_seen_9 2 rfl rfl)
theorem dX1_seen_215 : decode cX1_seen 215 = .ok (.iinc 5 (-1), 3) := dk_132 5 255 (dk_at dksX1_seen_9 5 rfl rfl)
theorem dX1_seen_218 : decode cX1_seen 218 = .ok (.aload_n 0, 1) := dk_42 (dk_at dksX1_seen_9 8 rfl rfl)
theorem dX1_seen_219 : decode cX1_seen 219 = .ok (.getfield 93, 3) := dk_180 0 93 (dk_at dksX1_seen_9 9 rfl rfl)
theorem dX1_seen_222 : decode cX1_seen 222 = .ok (.aload_n 0, 1) := dk_42 (dk_at dksX1_seen_9 12 rfl rfl)
theorem dX1_seen_223 : decode cX1_seen 223 = .ok (.getfield 374, 3) := dk_180 1 118 (dk_at dksX1_seen_9 13 rfl rfl)
theorem dX1_seen_226 : decode cX1_seen 226 = .ok (.iload 6, 2) := dk_21 6 (dk_at dksX1_seen_9 16 rfl rfl)
theorem dX1_seen_228 : decode cX1_seen 228 = .ok (.iastore, 1) := dk_79 (dk_at dksX1_seen_9 18 rfl rfl)
theorem dX1_seen_229 : decode cX1_seen 229 = .ok (.aload_n 0, 1) := dk_42 (dk_at dksX1_seen_9 19 rfl rfl)
theorem dX1_seen_230 : decode cX1_seen 230 = .ok (.dup, 1) := dk_89 (dk_at dksX1_seen_9 20 rfl rfl)
theorem dX1_seen_231 : decode cX1_seen 231 = .ok (.getfield 374, 3) := dk_180 1 118 (dk_at dksX1_seen_9 21 rfl rfl)
theorem dX1_seen_234 : decode cX1_seen 234 = .ok (.iconst 1, 1) := dk_4 (dk_at dksX1_seen_10 0 rfl rfl)
theorem dX1_seen_235 : decode cX1_seen 235 = .ok (.iadd, 1) := dk_96 (dk_at dksX1_seen_10 1 rfl rfl)
theorem dX1_seen_236 : decode cX1_seen 236 = .ok (.putfield 374, 3) := dk_181 1 118 (dk_at dksX1_seen_10 2 rfl rfl)
theorem dX1_seen_239 : decode cX1_seen 239 = .ok (.goto 11, 3) := dk_167 0 11 (dk_at dksX1_seen_10 5 rfl rfl)
theorem dX1_seen_242 : decode cX1_seen 242 = .ok (.aload_n 0, 1) := dk_42 (dk_at dksX1_seen_10 8 rfl rfl)
theorem dX1_seen_243 : decode cX1_seen 243 = .ok (.getfield 76, 3) := dk_180 0 76 (dk_at dksX1_seen_10 9 rfl rfl)
theorem dX1_seen_246 : decode cX1_seen 246 = .ok (.iload 6, 2) := dk_21 6 (dk_at dksX1_seen_10 12 rfl rfl)
theorem dX1_seen_248 : decode cX1_seen 248 = .ok (.iconst 0, 1) := dk_3 (dk_at dksX1_seen_10 14 rfl rfl)
theorem dX1_seen_249 : decode cX1_seen 249 = .ok (.bastore, 1) := dk_84 (dk_at dksX1_seen_10 15 rfl rfl)
theorem dX1_seen_250 : decode cX1_seen 250 = .ok (.iinc 6 1, 3) := dk_132 6 1 (dk_at dksX1_seen_10 16 rfl rfl)
theorem dX1_seen_253 : decode cX1_seen 253 = .ok (.goto (-112), 3) := dk_167 255 144 (dk_at dksX1_seen_10 19 rfl rfl)
theorem dX1_seen_256 : decode cX1_seen 256 = .ok (.aload_n 0, 1) := dk_42 (dk_at dksX1_seen_10 22 rfl rfl)
theorem dX1_seen_257 : decode cX1_seen 257 = .ok (.getfield 374, 3) := dk_180 1 118 (dk_at dksX1_seen_11 0 rfl rfl)
theorem dX1_seen_260 : decode cX1_seen 260 = .ok (.ireturn, 1) := dk_172 (dk_at dksX1_seen_11 3 rfl rfl)
abbrev cX1_rows : ByteArray := prog_1_method_46_code
def yX1_rows : MethodName := ⟨RX1, "rows", "(II)I"⟩
def dkwX1_rows_2 : List UInt8 := [27, 28, 182, 1, 106, 153, 0, 9, 132, 3, 1, 167, 255, 232, 29, 172]
abbrev dktX1_rows_2 : List UInt8 := dkwX1_rows_2 ++ []
def dkwX1_rows_1 : List UInt8 := [184, 1, 53, 132, 3, 1, 167, 255, 236, 3, 62, 42, 180, 0, 19, 180, 0, 214, 27, 51, 154, 0, 18, 42]
abbrev dktX1_rows_1 : List UInt8 := dkwX1_rows_1 ++ dktX1_rows_2
def dkwX1_rows_0 : List UInt8 := [42, 180, 0, 79, 3, 184, 1, 53, 3, 62, 29, 17, 0, 144, 162, 0, 19, 42, 180, 0, 84, 29, 50, 3]
abbrev dktX1_rows_0 : List UInt8 := dkwX1_rows_0 ++ dktX1_rows_1
theorem dksX1_rows_0 : cX1_rows.data.toList.drop 0 = dktX1_rows_0 := by decide +kernel
theorem dksX1_rows_1 : cX1_rows.data.toList.drop 24 = dktX1_rows_1 := dk_seg dksX1_rows_0 24 rfl rfl
theorem dksX1_rows_2 : cX1_rows.data.toList.drop 48 = dktX1_rows_2 := dk_seg dksX1_rows_1 24 rfl rfl
theorem dX1_rows_0 : decode cX1_rows 0 = .ok (.aload_n 0, 1) := dk_42 (dk_at dksX1_rows_0 0 rfl rfl)
theorem dX1_rows_1 : decode cX1_rows 1 = .ok (.getfield 79, 3) := dk_180 0 79 (dk_at dksX1_rows_0 1 rfl rfl)
theorem dX1_rows_4 : decode cX1_rows 4 = .ok (.iconst 0, 1) := dk_3 (dk_at dksX1_rows_0 4 rfl rfl)
theorem dX1_rows_5 : decode cX1_rows 5 = .ok (.invokestatic 309, 3) := dk_184 1 53 (dk_at dksX1_rows_0 5 rfl rfl)
theorem dX1_rows_8 : decode cX1_rows 8 = .ok (.iconst 0, 1) := dk_3 (dk_at dksX1_rows_0 8 rfl rfl)
theorem dX1_rows_9 : decode cX1_rows 9 = .ok (.istore_n 3, 1) := dk_62 (dk_at dksX1_rows_0 9 rfl rfl)
theorem dX1_rows_10 : decode cX1_rows 10 = .ok (.iload_n 3, 1) := dk_29 (dk_at dksX1_rows_0 10 rfl rfl)
theorem dX1_rows_11 : decode cX1_rows 11 = .ok (.sipush 144, 3) := dk_17 0 144 (dk_at dksX1_rows_0 11 rfl rfl)
theorem dX1_rows_14 : decode cX1_rows 14 = .ok (.if_icmp .ge 19, 3) := dk_162 0 19 (dk_at dksX1_rows_0 14 rfl rfl)
theorem dX1_rows_17 : decode cX1_rows 17 = .ok (.aload_n 0, 1) := dk_42 (dk_at dksX1_rows_0 17 rfl rfl)
theorem dX1_rows_18 : decode cX1_rows 18 = .ok (.getfield 84, 3) := dk_180 0 84 (dk_at dksX1_rows_0 18 rfl rfl)
theorem dX1_rows_21 : decode cX1_rows 21 = .ok (.iload_n 3, 1) := dk_29 (dk_at dksX1_rows_0 21 rfl rfl)
theorem dX1_rows_22 : decode cX1_rows 22 = .ok (.aaload, 1) := dk_50 (dk_at dksX1_rows_0 22 rfl rfl)
theorem dX1_rows_23 : decode cX1_rows 23 = .ok (.iconst 0, 1) := dk_3 (dk_at dksX1_rows_0 23 rfl rfl)
theorem dX1_rows_24 : decode cX1_rows 24 = .ok (.invokestatic 309, 3) := dk_184 1 53 (dk_at dksX1_rows_1 0 rfl rfl)
theorem dX1_rows_27 : decode cX1_rows 27 = .ok (.iinc 3 1, 3) := dk_132 3 1 (dk_at dksX1_rows_1 3 rfl rfl)
theorem dX1_rows_30 : decode cX1_rows 30 = .ok (.goto (-20), 3) := dk_167 255 236 (dk_at dksX1_rows_1 6 rfl rfl)
theorem dX1_rows_33 : decode cX1_rows 33 = .ok (.iconst 0, 1) := dk_3 (dk_at dksX1_rows_1 9 rfl rfl)
theorem dX1_rows_34 : decode cX1_rows 34 = .ok (.istore_n 3, 1) := dk_62 (dk_at dksX1_rows_1 10 rfl rfl)
theorem dX1_rows_35 : decode cX1_rows 35 = .ok (.aload_n 0, 1) := dk_42 (dk_at dksX1_rows_1 11 rfl rfl)
theorem dX1_rows_36 : decode cX1_rows 36 = .ok (.getfield 19, 3) := dk_180 0 19 (dk_at dksX1_rows_1 12 rfl rfl)
theorem dX1_rows_39 : decode cX1_rows 39 = .ok (.getfield 214, 3) := dk_180 0 214 (dk_at dksX1_rows_1 15 rfl rfl)
theorem dX1_rows_42 : decode cX1_rows 42 = .ok (.iload_n 1, 1) := dk_27 (dk_at dksX1_rows_1 18 rfl rfl)
theorem dX1_rows_43 : decode cX1_rows 43 = .ok (.baload, 1) := dk_51 (dk_at dksX1_rows_1 19 rfl rfl)
theorem dX1_rows_44 : decode cX1_rows 44 = .ok (.ifCond .ne 18, 3) := dk_154 0 18 (dk_at dksX1_rows_1 20 rfl rfl)
theorem dX1_rows_47 : decode cX1_rows 47 = .ok (.aload_n 0, 1) := dk_42 (dk_at dksX1_rows_1 23 rfl rfl)
theorem dX1_rows_48 : decode cX1_rows 48 = .ok (.iload_n 1, 1) := dk_27 (dk_at dksX1_rows_2 0 rfl rfl)
theorem dX1_rows_49 : decode cX1_rows 49 = .ok (.iload_n 2, 1) := dk_28 (dk_at dksX1_rows_2 1 rfl rfl)
theorem dX1_rows_50 : decode cX1_rows 50 = .ok (.invokevirtual 362, 3) := dk_182 1 106 (dk_at dksX1_rows_2 2 rfl rfl)
theorem dX1_rows_53 : decode cX1_rows 53 = .ok (.ifCond .eq 9, 3) := dk_153 0 9 (dk_at dksX1_rows_2 5 rfl rfl)
theorem dX1_rows_56 : decode cX1_rows 56 = .ok (.iinc 3 1, 3) := dk_132 3 1 (dk_at dksX1_rows_2 8 rfl rfl)
theorem dX1_rows_59 : decode cX1_rows 59 = .ok (.goto (-24), 3) := dk_167 255 232 (dk_at dksX1_rows_2 11 rfl rfl)
theorem dX1_rows_62 : decode cX1_rows 62 = .ok (.iload_n 3, 1) := dk_29 (dk_at dksX1_rows_2 14 rfl rfl)
theorem dX1_rows_63 : decode cX1_rows 63 = .ok (.ireturn, 1) := dk_172 (dk_at dksX1_rows_2 15 rfl rfl)
abbrev cX1_isMore : ByteArray := prog_1_method_43_code
def yX1_isMore : MethodName := ⟨RX1, "isMore", "(II)Z"⟩
def dkwX1_isMore_8 : List UInt8 := [21, 5, 104, 21, 4, 182, 1, 93, 132, 3, 1, 167, 255, 87, 3, 172]
abbrev dktX1_isMore_8 : List UInt8 := dkwX1_isMore_8 ++ []
def dkwX1_isMore_7 : List UInt8 := [21, 4, 182, 1, 93, 132, 6, 1, 167, 255, 156, 42, 180, 0, 79, 21, 5, 51, 153, 0, 13, 42, 5]
abbrev dktX1_isMore_7 : List UInt8 := dkwX1_isMore_7 ++ dktX1_isMore_8
def dkwX1_isMore_6 : List UInt8 := [50, 21, 6, 4, 84, 42, 21, 4, 5, 27, 104, 4, 96, 182, 1, 100, 4, 172, 42, 5, 21, 7, 104]
abbrev dktX1_isMore_6 : List UInt8 := dkwX1_isMore_6 ++ dktX1_isMore_7
def dkwX1_isMore_5 : List UInt8 := [21, 5, 50, 21, 6, 51, 153, 0, 6, 167, 0, 43, 21, 7, 28, 160, 0, 27, 42, 180, 0, 84, 21, 5]
abbrev dktX1_isMore_5 : List UInt8 := dkwX1_isMore_5 ++ dktX1_isMore_6
def dkwX1_isMore_4 : List UInt8 := [159, 0, 75, 42, 180, 0, 76, 21, 7, 51, 154, 0, 65, 21, 7, 27, 159, 0, 59, 42, 180, 0, 84]
abbrev dktX1_isMore_4 : List UInt8 := dkwX1_isMore_4 ++ dktX1_isMore_5
def dkwX1_isMore_3 : List UInt8 := [21, 6, 7, 162, 0, 100, 42, 180, 0, 19, 21, 5, 21, 6, 182, 1, 62, 54, 7, 21, 7, 2]
abbrev dktX1_isMore_3 : List UInt8 := dkwX1_isMore_3 ++ dktX1_isMore_4
def dkwX1_isMore_2 : List UInt8 := [108, 54, 5, 21, 4, 5, 112, 154, 0, 14, 42, 21, 5, 21, 4, 182, 1, 97, 167, 0, 129, 3, 54, 6]
abbrev dktX1_isMore_2 : List UInt8 := dkwX1_isMore_2 ++ dktX1_isMore_3
def dkwX1_isMore_1 : List UInt8 := [182, 1, 93, 3, 62, 29, 42, 180, 1, 90, 162, 0, 167, 42, 180, 0, 90, 29, 46, 54, 4, 21, 4, 5]
abbrev dktX1_isMore_1 : List UInt8 := dkwX1_isMore_1 ++ dktX1_isMore_2
def dkwX1_isMore_0 : List UInt8 := [42, 180, 0, 87, 2, 184, 1, 47, 42, 3, 181, 1, 90, 42, 5, 27, 104, 4, 96, 5, 27, 104, 4, 96]
abbrev dktX1_isMore_0 : List UInt8 := dkwX1_isMore_0 ++ dktX1_isMore_1
theorem dksX1_isMore_0 : cX1_isMore.data.toList.drop 0 = dktX1_isMore_0 := by decide +kernel
theorem dksX1_isMore_1 : cX1_isMore.data.toList.drop 24 = dktX1_isMore_1 := dk_seg dksX1_isMore_0 24 rfl rfl
theorem dksX1_isMore_2 : cX1_isMore.data.toList.drop 48 = dktX1_isMore_2 := dk_seg dksX1_isMore_1 24 rfl rfl
theorem dksX1_isMore_3 : cX1_isMore.data.toList.drop 72 = dktX1_isMore_3 := dk_seg dksX1_isMore_2 24 rfl rfl
theorem dksX1_isMore_4 : cX1_isMore.data.toList.drop 94 = dktX1_isMore_4 := dk_seg dksX1_isMore_3 22 rfl rfl
theorem dksX1_isMore_5 : cX1_isMore.data.toList.drop 117 = dktX1_isMore_5 := dk_seg dksX1_isMore_4 23 rfl rfl
theorem dksX1_isMore_6 : cX1_isMore.data.toList.drop 141 = dktX1_isMore_6 := dk_seg dksX1_isMore_5 24 rfl rfl
theorem dksX1_isMore_7 : cX1_isMore.data.toList.drop 164 = dktX1_isMore_7 := dk_seg dksX1_isMore_6 23 rfl rfl
theorem dksX1_isMore_8 : cX1_isMore.data.toList.drop 187 = dktX1_isMore_8 := dk_seg dksX1_isMore_7 23 rfl rfl
theorem dX1_isMore_0 : decode cX1_isMore 0 = .ok (.aload_n 0, 1) := dk_42 (dk_at dksX1_isMore_0 0 rfl rfl)
theorem dX1_isMore_1 : decode cX1_isMore 1 = .ok (.getfield 87, 3) := dk_180 0 87 (dk_at dksX1_isMore_0 1 rfl rfl)
theorem dX1_isMore_4 : decode cX1_isMore 4 = .ok (.iconst (-1), 1) := dk_2 (dk_at dksX1_isMore_0 4 rfl rfl)
theorem dX1_isMore_5 : decode cX1_isMore 5 = .ok (.invokestatic 303, 3) := dk_184 1 47 (dk_at dksX1_isMore_0 5 rfl rfl)
theorem dX1_isMore_8 : decode cX1_isMore 8 = .ok (.aload_n 0, 1) := dk_42 (dk_at dksX1_isMore_0 8 rfl rfl)
theorem dX1_isMore_9 : decode cX1_isMore 9 = .ok (.iconst 0, 1) := dk_3 (dk_at dksX1_isMore_0 9 rfl rfl)
theorem dX1_isMore_10 : decode cX1_isMore 10 = .ok (.putfield 346, 3) := dk_181 1 90 (dk_at dksX1_isMore_0 10 rfl rfl)
theorem dX1_isMore_13 : decode cX1_isMore 13 = .ok (.aload_n 0, 1) := dk_42 (dk_at dksX1_isMore_0 13 rfl rfl)
theorem dX1_isMore_14 : decode cX1_isMore 14 = .ok (.iconst 2, 1) := dk_5 (dk_at dksX1_isMore_0 14 rfl rfl)
theorem dX1_isMore_15 : decode cX1_isMore 15 = .ok (.iload_n 1, 1) := dk_27 (dk_at dksX1_isMore_0 15 rfl rfl)
theorem dX1_isMore_16 : decode cX1_isMore 16 = .ok (.imul, 1) := dk_104 (dk_at dksX1_isMore_0 16 rfl rfl)
theorem dX1_isMore_17 : decode cX1_isMore 17 = .ok (.iconst 1, 1) := dk_4 (dk_at dksX1_isMore_0 17 rfl rfl)
theorem dX1_isMore_18 : decode cX1_isMore 18 = .ok (.iadd, 1) := dk_96 (dk_at dksX1_isMore_0 18 rfl rfl)
theorem dX1_isMore_19 : decode cX1_isMore 19 = .ok (.iconst 2, 1) := dk_5 (dk_at dksX1_isMore_0 19 rfl rfl)
theorem dX1_isMore_20 : decode cX1_isMore 20 = .ok (.iload_n 1, 1) := dk_27 (dk_at dksX1_isMore_0 20 rfl rfl)
theorem dX1_isMore_21 : decode cX1_isMore 21 = .ok (.imul, 1) := dk_104 (dk_at dksX1_isMore_0 21 rfl rfl)
theorem dX1_isMore_22 : decode cX1_isMore 22 = .ok (.iconst 1, 1) := dk_4 (dk_at dksX1_isMore_0 22 rfl rfl)
theorem dX1_isMore_23 : decode cX1_isMore 23 = .ok (.iadd, 1) := dk_96 (dk_at dksX1_isMore_0 23 rfl rfl)
theorem dX1_isMore_24 : decode cX1_isMore 24 = .ok (.invokevirtual 349, 3) := dk_182 1 93 (dk_at dksX1_isMore_1 0 rfl rfl)
theorem dX1_isMore_27 : decode cX1_isMore 27 = .ok (.iconst 0, 1) := dk_3 (dk_at dksX1_isMore_1 3 rfl rfl)
theorem dX1_isMore_28 : decode cX1_isMore 28 = .ok (.istore_n 3, 1) := dk_62 (dk_at dksX1_isMore_1 4 rfl rfl)
theorem dX1_isMore_29 : decode cX1_isMore 29 = .ok (.iload_n 3, 1) := dk_29 (dk_at dksX1_isMore_1 5 rfl rfl)
theorem dX1_isMore_30 : decode cX1_isMore 30 = .ok (.aload_n 0, 1) := dk_42 (dk_at dksX1_isMore_1 6 rfl rfl)
theorem dX1_isMore_31 : decode cX1_isMore 31 = .ok (.getfield 346, 3) := dk_180 1 90 (dk_at dksX1_isMore_1 7 rfl rfl)
theorem dX1_isMore_34 : decode cX1_isMore 34 = .ok (.if_icmp .ge 167, 3) := dk_162 0 167 (dk_at dksX1_isMore_1 10 rfl rfl)
theorem dX1_isMore_37 : decode cX1_isMore 37 = .ok (.aload_n 0, 1) := dk_42 (dk_at dksX1_isMore_1 13 rfl rfl)
theorem dX1_isMore_38 : decode cX1_isMore 38 = .ok (.getfield 90, 3) := dk_180 0 90 (dk_at dksX1_isMore_1 14 rfl rfl)
theorem dX1_isMore_41 : decode cX1_isMore 41 = .ok (.iload_n 3, 1) := dk_29 (dk_at dksX1_isMore_1 17 rfl rfl)
theorem dX1_isMore_42 : decode cX1_isMore 42 = .ok (.iaload, 1) := dk_46 (dk_at dksX1_isMore_1 18 rfl rfl)
theorem dX1_isMore_43 : decode cX1_isMore 43 = .ok (.istore 4, 2) := dk_54 4 (dk_at dksX1_isMore_1 19 rfl rfl)
theorem dX1_isMore_45 : decode cX1_isMore 45 = .ok (.iload 4, 2) := dk_21 4 (dk_at dksX1_isMore_1 21 rfl rfl)
theorem dX1_isMore_47 : decode cX1_isMore 47 = .ok (.iconst 2, 1) := dk_5 (dk_at dksX1_isMore_1 23 rfl rfl)
theorem dX1_isMore_48 : decode cX1_isMore 48 = .ok (.idiv, 1) := dk_108 (dk_at dksX1_isMore_2 0 rfl rfl)
theorem dX1_isMore_49 : decode cX1_isMore 49 = .ok (.istore 5, 2) := dk_54 5 (dk_at dksX1_isMore_2 1 rfl rfl)
theorem dX1_isMore_51 : decode cX1_isMore 51 = .ok (.iload 4, 2) := dk_21 4 (dk_at dksX1_isMore_2 3 rfl rfl)
theorem dX1_isMore_53 : decode cX1_isMore 53 = .ok (.iconst 2, 1) := dk_5 (dk_at dksX1_isMore_2 5 rfl rfl)
theorem dX1_isMore_54 : decode cX1_isMore 54 = .ok (.irem, 1) := dk_112 (dk_at dksX1_isMore_2 6 rfl rfl)
theorem dX1_isMore_55 : decode cX1_isMore 55 = .ok (.ifCond .ne 14, 3) := dk_154 0 14 (dk_at dksX1_isMore_2 7 rfl rfl)
theorem dX1_isMore_58 : decode cX1_isMore 58 = .ok (.aload_n 0, 1) := dk_42 (dk_at dksX1_isMore_2 10 rfl rfl)
theorem dX1_isMore_59 : decode cX1_isMore 59 = .ok (.iload 5, 2) := dk_21 5 (dk_at dksX1_isMore_2 11 rfl rfl)
theorem dX1_isMore_61 : decode cX1_isMore 61 = .ok (.iload 4, 2) := dk_21 4 (dk_at dksX1_isMore_2 13 rfl rfl)
theorem dX1_isMore_63 : decode cX1_isMore 63 = .ok (.invokevirtual 353, 3) := dk_182 1 97 (dk_at dksX1_isMore_2 15 rfl rfl)
theorem dX1_isMore_66 : decode cX1_isMore 66 = .ok (.goto 129, 3) := dk_167 0 129 (dk_at dksX1_isMore_2 18 rfl rfl)
theorem dX1_isMore_69 : decode cX1_isMore 69 = .ok (.iconst 0, 1) := dk_3 (dk_at dksX1_isMore_2 21 rfl rfl)
theorem dX1_isMore_70 : decode cX1_isMore 70 = .ok (.istore 6, 2) := dk_54 6 (dk_at dksX1_isMore_2 22 rfl rfl)
theorem dX1_isMore_72 : decode cX1_isMore 72 = .ok (.iload 6, 2) := dk_21 6 (dk_at dksX1_isMore_3 0 rfl rfl)
theorem dX1_isMore_74 : decode cX1_isMore 74 = .ok (.iconst 4, 1) := dk_7 (dk_at dksX1_isMore_3 2 rfl rfl)
theorem dX1_isMore_75 : decode cX1_isMore 75 = .ok (.if_icmp .ge 100, 3) := dk_162 0 100 (dk_at dksX1_isMore_3 3 rfl rfl)
theorem dX1_isMore_78 : decode cX1_isMore 78 = .ok (.aload_n 0, 1) := dk_42 (dk_at dksX1_isMore_3 6 rfl rfl)
theorem dX1_isMore_79 : decode cX1_isMore 79 = .ok (.getfield 19, 3) := dk_180 0 19 (dk_at dksX1_isMore_3 7 rfl rfl)
theorem dX1_isMore_82 : decode cX1_isMore 82 = .ok (.iload 5, 2) := dk_21 5 (dk_at dksX1_isMore_3 10 rfl rfl)
theorem dX1_isMore_84 : decode cX1_isMore 84 = .ok (.iload 6, 2) := dk_21 6 (dk_at dksX1_isMore_3 12 rfl rfl)
theorem dX1_isMore_86 : decode cX1_isMore 86 = .ok (.invokevirtual 318, 3) := dk_182 1 62 (dk_at dksX1_isMore_3 14 rfl rfl)
theorem dX1_isMore_89 : decode cX1_isMore 89 = .ok (.istore 7, 2) := dk_54 7 (dk_at dksX1_isMore_3 17 rfl rfl)
theorem dX1_isMore_91 : decode cX1_isMore 91 = .ok (.iload 7, 2) := dk_21 7 (dk_at dksX1_isMore_3 19 rfl rfl)
theorem dX1_isMore_93 : decode cX1_isMore 93 = .ok (.iconst (-1), 1) := dk_2 (dk_at dksX1_isMore_3 21 rfl rfl)
theorem dX1_isMore_94 : decode cX1_isMore 94 = .ok (.if_icmp .eq 75, 3) := dk_159 0 75 (dk_at dksX1_isMore_4 0 rfl rfl)
theorem dX1_isMore_97 : decode cX1_isMore 97 = .ok (.aload_n 0, 1) := dk_42 (dk_at dksX1_isMore_4 3 rfl rfl)
theorem dX1_isMore_98 : decode cX1_isMore 98 = .ok (.getfield 76, 3) := dk_180 0 76 (dk_at dksX1_isMore_4 4 rfl rfl)
theorem dX1_isMore_101 : decode cX1_isMore 101 = .ok (.iload 7, 2) := dk_21 7 (dk_at dksX1_isMore_4 7 rfl rfl)
theorem dX1_isMore_103 : decode cX1_isMore 103 = .ok (.baload, 1) := dk_51 (dk_at dksX1_isMore_4 9 rfl rfl)
theorem dX1_isMore_104 : decode cX1_isMore 104 = .ok (.ifCond .ne 65, 3) := dk_154 0 65 (dk_at dksX1_isMore_4 10 rfl rfl)
theorem dX1_isMore_107 : decode cX1_isMore 107 = .ok (.iload 7, 2) := dk_21 7 (dk_at dksX1_isMore_4 13 rfl rfl)
theorem dX1_isMore_109 : decode cX1_isMore 109 = .ok (.iload_n 1, 1) := dk_27 (dk_at dksX1_isMore_4 15 rfl rfl)
theorem dX1_isMore_110 : decode cX1_isMore 110 = .ok (.if_icmp .eq 59, 3) := dk_159 0 59 (dk_at dksX1_isMore_4 16 rfl rfl)
theorem dX1_isMore_113 : decode cX1_isMore 113 = .ok (.aload_n 0, 1) := dk_42 (dk_at dksX1_isMore_4 19 rfl rfl)
theorem dX1_isMore_114 : decode cX1_isMore 114 = .ok (.getfield 84, 3) := dk_180 0 84 (dk_at dksX1_isMore_4 20 rfl rfl)
theorem dX1_isMore_117 : decode cX1_isMore 117 = .ok (.iload 5, 2) := dk_21 5 (dk_at dksX1_isMore_5 0 rfl rfl)
theorem dX1_isMore_119 : decode cX1_isMore 119 = .ok (.aaload, 1) := dk_50 (dk_at dksX1_isMore_5 2 rfl rfl)
theorem dX1_isMore_120 : decode cX1_isMore 120 = .ok (.iload 6, 2) := dk_21 6 (dk_at dksX1_isMore_5 3 rfl rfl)
theorem dX1_isMore_122 : decode cX1_isMore 122 = .ok (.baload, 1) := dk_51 (dk_at dksX1_isMore_5 5 rfl rfl)
theorem dX1_isMore_123 : decode cX1_isMore 123 = .ok (.ifCond .eq 6, 3) := dk_153 0 6 (dk_at dksX1_isMore_5 6 rfl rfl)
theorem dX1_isMore_126 : decode cX1_isMore 126 = .ok (.goto 43, 3) := dk_167 0 43 (dk_at dksX1_isMore_5 9 rfl rfl)
theorem dX1_isMore_129 : decode cX1_isMore 129 = .ok (.iload 7, 2) := dk_21 7 (dk_at dksX1_isMore_5 12 rfl rfl)
theorem dX1_isMore_131 : decode cX1_isMore 131 = .ok (.iload_n 2, 1) := dk_28 (dk_at dksX1_isMore_5 14 rfl rfl)
theorem dX1_isMore_132 : decode cX1_isMore 132 = .ok (.if_icmp .ne 27, 3) := dk_160 0 27 (dk_at dksX1_isMore_5 15 rfl rfl)
theorem dX1_isMore_135 : decode cX1_isMore 135 = .ok (.aload_n 0, 1) := dk_42 (dk_at dksX1_isMore_5 18 rfl rfl)
theorem dX1_isMore_136 : decode cX1_isMore 136 = .ok (.getfield 84, 3) := dk_180 0 84 (dk_at dksX1_isMore_5 19 rfl rfl)
theorem dX1_isMore_139 : decode cX1_isMore 139 = .ok (.iload 5, 2) := dk_21 5 (dk_at dksX1_isMore_5 22 rfl rfl)
theorem dX1_isMore_141 : decode cX1_isMore 141 = .ok (.aaload, 1) := dk_50 (dk_at dksX1_isMore_6 0 rfl rfl)
theorem dX1_isMore_142 : decode cX1_isMore 142 = .ok (.iload 6, 2) := dk_21 6 (dk_at dksX1_isMore_6 1 rfl rfl)
theorem dX1_isMore_144 : decode cX1_isMore 144 = .ok (.iconst 1, 1) := dk_4 (dk_at dksX1_isMore_6 3 rfl rfl)
theorem dX1_isMore_145 : decode cX1_isMore 145 = .ok (.bastore, 1) := dk_84 (dk_at dksX1_isMore_6 4 rfl rfl)
theorem dX1_isMore_146 : decode cX1_isMore 146 = .ok (.aload_n 0, 1) := dk_42 (dk_at dksX1_isMore_6 5 rfl rfl)
theorem dX1_isMore_147 : decode cX1_isMore 147 = .ok (.iload 4, 2) := dk_21 4 (dk_at dksX1_isMore_6 6 rfl rfl)
theorem dX1_isMore_149 : decode cX1_isMore 149 = .ok (.iconst 2, 1) := dk_5 (dk_at dksX1_isMore_6 8 rfl rfl)
theorem dX1_isMore_150 : decode cX1_isMore 150 = .ok (.iload_n 1, 1) := dk_27 (dk_at dksX1_isMore_6 9 rfl rfl)
theorem dX1_isMore_151 : decode cX1_isMore 151 = .ok (.imul, 1) := dk_104 (dk_at dksX1_isMore_6 10 rfl rfl)
theorem dX1_isMore_152 : decode cX1_isMore 152 = .ok (.iconst 1, 1) := dk_4 (dk_at dksX1_isMore_6 11 rfl rfl)
theorem dX1_isMore_153 : decode cX1_isMore 153 = .ok (.iadd, 1) := dk_96 (dk_at dksX1_isMore_6 12 rfl rfl)
theorem dX1_isMore_154 : decode cX1_isMore 154 = .ok (.invokevirtual 356, 3) := dk_182 1 100 (dk_at dksX1_isMore_6 13 rfl rfl)
theorem dX1_isMore_157 : decode cX1_isMore 157 = .ok (.iconst 1, 1) := dk_4 (dk_at dksX1_isMore_6 16 rfl rfl)
theorem dX1_isMore_158 : decode cX1_isMore 158 = .ok (.ireturn, 1) := dk_172 (dk_at dksX1_isMore_6 17 rfl rfl)
theorem dX1_isMore_159 : decode cX1_isMore 159 = .ok (.aload_n 0, 1) := dk_42 (dk_at dksX1_isMore_6 18 rfl rfl)
theorem dX1_isMore_160 : decode cX1_isMore 160 = .ok (.iconst 2, 1) := dk_5 (dk_at dksX1_isMore_6 19 rfl rfl)
theorem dX1_isMore_161 : decode cX1_isMore 161 = .ok (.iload 7, 2) := dk_21 7 (dk_at dksX1_isMore_6 20 rfl rfl)
theorem dX1_isMore_163 : decode cX1_isMore 163 = .ok (.imul, 1) := dk_104 (dk_at dksX1_isMore_6 22 rfl rfl)
theorem dX1_isMore_164 : decode cX1_isMore 164 = .ok (.iload 4, 2) := dk_21 4 (dk_at dksX1_isMore_7 0 rfl rfl)
theorem dX1_isMore_166 : decode cX1_isMore 166 = .ok (.invokevirtual 349, 3) := dk_182 1 93 (dk_at dksX1_isMore_7 2 rfl rfl)
theorem dX1_isMore_169 : decode cX1_isMore 169 = .ok (.iinc 6 1, 3) := dk_132 6 1 (dk_at dksX1_isMore_7 5 rfl rfl)
theorem dX1_isMore_172 : decode cX1_isMore 172 = .ok (.goto (-100), 3) := dk_167 255 156 (dk_at dksX1_isMore_7 8 rfl rfl)
theorem dX1_isMore_175 : decode cX1_isMore 175 = .ok (.aload_n 0, 1) := dk_42 (dk_at dksX1_isMore_7 11 rfl rfl)
theorem dX1_isMore_176 : decode cX1_isMore 176 = .ok (.getfield 79, 3) := dk_180 0 79 (dk_at dksX1_isMore_7 12 rfl rfl)
theorem dX1_isMore_179 : decode cX1_isMore 179 = .ok (.iload 5, 2) := dk_21 5 (dk_at dksX1_isMore_7 15 rfl rfl)
theorem dX1_isMore_181 : decode cX1_isMore 181 = .ok (.baload, 1) := dk_51 (dk_at dksX1_isMore_7 17 rfl rfl)
theorem dX1_isMore_182 : decode cX1_isMore 182 = .ok (.ifCond .eq 13, 3) := dk_153 0 13 (dk_at dksX1_isMore_7 18 rfl rfl)
theorem dX1_isMore_185 : decode cX1_isMore 185 = .ok (.aload_n 0, 1) := dk_42 (dk_at dksX1_isMore_7 21 rfl rfl)
theorem dX1_isMore_186 : decode cX1_isMore 186 = .ok (.iconst 2, 1) := dk_5 (dk_at dksX1_isMore_7 22 rfl rfl)
theorem dX1_isMore_187 : decode cX1_isMore 187 = .ok (.iload 5, 2) := dk_21 5 (dk_at dksX1_isMore_8 0 rfl rfl)
theorem dX1_isMore_189 : decode cX1_isMore 189 = .ok (.imul, 1) := dk_104 (dk_at dksX1_isMore_8 2 rfl rfl)
theorem dX1_isMore_190 : decode cX1_isMore 190 = .ok (.iload 4, 2) := dk_21 4 (dk_at dksX1_isMore_8 3 rfl rfl)
theorem dX1_isMore_192 : decode cX1_isMore 192 = .ok (.invokevirtual 349, 3) := dk_182 1 93 (dk_at dksX1_isMore_8 5 rfl rfl)
theorem dX1_isMore_195 : decode cX1_isMore 195 = .ok (.iinc 3 1, 3) := dk_132 3 1 (dk_at dksX1_isMore_8 8 rfl rfl)
theorem dX1_isMore_198 : decode cX1_isMore 198 = .ok (.goto (-169), 3) := dk_167 255 87 (dk_at dksX1_isMore_8 11 rfl rfl)
theorem dX1_isMore_201 : decode cX1_isMore 201 = .ok (.iconst 0, 1) := dk_3 (dk_at dksX1_isMore_8 14 rfl rfl)
theorem dX1_isMore_202 : decode cX1_isMore 202 = .ok (.ireturn, 1) := dk_172 (dk_at dksX1_isMore_8 15 rfl rfl)
abbrev cX1_look : ByteArray := prog_1_method_42_code
def yX1_look : MethodName := ⟨RX1, "look", "(II)V"⟩
def dkwX1_look_1 : List UInt8 := [180, 1, 90, 27, 79, 42, 89, 180, 1, 90, 4, 96, 181, 1, 90, 177]
abbrev dktX1_look_1 : List UInt8 := dkwX1_look_1 ++ []
def dkwX1_look_0 : List UInt8 := [42, 180, 0, 87, 27, 46, 2, 159, 0, 4, 177, 42, 180, 0, 87, 27, 28, 79, 42, 180, 0, 90, 42]
abbrev dktX1_look_0 : List UInt8 := dkwX1_look_0 ++ dktX1_look_1
theorem dksX1_look_0 : cX1_look.data.toList.drop 0 = dktX1_look_0 := by decide +kernel
theorem dksX1_look_1 : cX1_look.data.toList.drop 23 = dktX1_look_1 := dk_seg dksX1_look_0 23 rfl rfl
theorem dX1_look_0 : decode cX1_look 0 = .ok (.aload_n 0, 1) := dk_42 (dk_at dksX1_look_0 0 rfl rfl)
theorem dX1_look_1 : decode cX1_look 1 = .ok (.getfield 87, 3) := dk_180 0 87 (dk_at dksX1_look_0 1 rfl rfl)
theorem dX1_look_4 : decode cX1_look 4 = .ok (.iload_n 1, 1) := dk_27 (dk_at dksX1_look_0 4 rfl rfl)
theorem dX1_look_5 : decode cX1_look 5 = .ok (.iaload, 1) := dk_46 (dk_at dksX1_look_0 5 rfl rfl)
theorem dX1_look_6 : decode cX1_look 6 = .ok (.iconst (-1), 1) := dk_2 (dk_at dksX1_look_0 6 rfl rfl)
theorem dX1_look_7 : decode cX1_look 7 = .ok (.if_icmp .eq 4, 3) := dk_159 0 4 (dk_at dksX1_look_0 7 rfl rfl)
theorem dX1_look_10 : decode cX1_look 10 = .ok (.return_, 1) := dk_177 (dk_at dksX1_look_0 10 rfl rfl)
theorem dX1_look_11 : decode cX1_look 11 = .ok (.aload_n 0, 1) := dk_42 (dk_at dksX1_look_0 11 rfl rfl)
theorem dX1_look_12 : decode cX1_look 12 = .ok (.getfield 87, 3) := dk_180 0 87 (dk_at dksX1_look_0 12 rfl rfl)
theorem dX1_look_15 : decode cX1_look 15 = .ok (.iload_n 1, 1) := dk_27 (dk_at dksX1_look_0 15 rfl rfl)
theorem dX1_look_16 : decode cX1_look 16 = .ok (.iload_n 2, 1) := dk_28 (dk_at dksX1_look_0 16 rfl rfl)
theorem dX1_look_17 : decode cX1_look 17 = .ok (.iastore, 1) := dk_79 (dk_at dksX1_look_0 17 rfl rfl)
theorem dX1_look_18 : decode cX1_look 18 = .ok (.aload_n 0, 1) := dk_42 (dk_at dksX1_look_0 18 rfl rfl)
theorem dX1_look_19 : decode cX1_look 19 = .ok (.getfield 90, 3) := dk_180 0 90 (dk_at dksX1_look_0 19 rfl rfl)
theorem dX1_look_22 : decode cX1_look 22 = .ok (.aload_n 0, 1) := dk_42 (dk_at dksX1_look_0 22 rfl rfl)
theorem dX1_look_23 : decode cX1_look 23 = .ok (.getfield 346, 3) := dk_180 1 90 (dk_at dksX1_look_1 0 rfl rfl)
theorem dX1_look_26 : decode cX1_look 26 = .ok (.iload_n 1, 1) := dk_27 (dk_at dksX1_look_1 3 rfl rfl)
theorem dX1_look_27 : decode cX1_look 27 = .ok (.iastore, 1) := dk_79 (dk_at dksX1_look_1 4 rfl rfl)
theorem dX1_look_28 : decode cX1_look 28 = .ok (.aload_n 0, 1) := dk_42 (dk_at dksX1_look_1 5 rfl rfl)
theorem dX1_look_29 : decode cX1_look 29 = .ok (.dup, 1) := dk_89 (dk_at dksX1_look_1 6 rfl rfl)
theorem dX1_look_30 : decode cX1_look 30 = .ok (.getfield 346, 3) := dk_180 1 90 (dk_at dksX1_look_1 7 rfl rfl)
theorem dX1_look_33 : decode cX1_look 33 = .ok (.iconst 1, 1) := dk_4 (dk_at dksX1_look_1 10 rfl rfl)
theorem dX1_look_34 : decode cX1_look 34 = .ok (.iadd, 1) := dk_96 (dk_at dksX1_look_1 11 rfl rfl)
theorem dX1_look_35 : decode cX1_look 35 = .ok (.putfield 346, 3) := dk_181 1 90 (dk_at dksX1_look_1 12 rfl rfl)
theorem dX1_look_38 : decode cX1_look 38 = .ok (.return_, 1) := dk_177 (dk_at dksX1_look_1 15 rfl rfl)
abbrev cX1_entered : ByteArray := prog_1_method_44_code
def yX1_entered : MethodName := ⟨RX1, "entered", "(II)V"⟩
def dkwX1_entered_3 : List UInt8 := [167, 255, 204, 177]
abbrev dktX1_entered_3 : List UInt8 := dkwX1_entered_3 ++ []
def dkwX1_entered_2 : List UInt8 := [29, 5, 96, 7, 112, 51, 153, 0, 14, 42, 5, 21, 4, 104, 4, 96, 28, 182, 1, 93, 132, 3, 1]
abbrev dktX1_entered_2 : List UInt8 := dkwX1_entered_2 ++ dktX1_entered_3
def dkwX1_entered_1 : List UInt8 := [42, 180, 0, 19, 27, 29, 182, 1, 103, 54, 4, 21, 4, 2, 159, 0, 30, 42, 180, 0, 84, 21, 4, 50]
abbrev dktX1_entered_1 : List UInt8 := dkwX1_entered_1 ++ dktX1_entered_2
def dkwX1_entered_0 : List UInt8 := [42, 180, 0, 79, 27, 51, 154, 0, 11, 42, 28, 4, 96, 28, 182, 1, 93, 3, 62, 29, 7, 162, 0, 53]
abbrev dktX1_entered_0 : List UInt8 := dkwX1_entered_0 ++ dktX1_entered_1
theorem dksX1_entered_0 : cX1_entered.data.toList.drop 0 = dktX1_entered_0 := by decide +kernel
theorem dksX1_entered_1 : cX1_entered.data.toList.drop 24 = dktX1_entered_1 := dk_seg dksX1_entered_0 24 rfl rfl
theorem dksX1_entered_2 : cX1_entered.data.toList.drop 48 = dktX1_entered_2 := dk_seg dksX1_entered_1 24 rfl rfl
theorem dksX1_entered_3 : cX1_entered.data.toList.drop 71 = dktX1_entered_3 := dk_seg dksX1_entered_2 23 rfl rfl
theorem dX1_entered_0 : decode cX1_entered 0 = .ok (.aload_n 0, 1) := dk_42 (dk_at dksX1_entered_0 0 rfl rfl)
theorem dX1_entered_1 : decode cX1_entered 1 = .ok (.getfield 79, 3) := dk_180 0 79 (dk_at dksX1_entered_0 1 rfl rfl)
theorem dX1_entered_4 : decode cX1_entered 4 = .ok (.iload_n 1, 1) := dk_27 (dk_at dksX1_entered_0 4 rfl rfl)
theorem dX1_entered_5 : decode cX1_entered 5 = .ok (.baload, 1) := dk_51 (dk_at dksX1_entered_0 5 rfl rfl)
theorem dX1_entered_6 : decode cX1_entered 6 = .ok (.ifCond .ne 11, 3) := dk_154 0 11 (dk_at dksX1_entered_0 6 rfl rfl)
theorem dX1_entered_9 : decode cX1_entered 9 = .ok (.aload_n 0, 1) := dk_42 (dk_at dksX1_entered_0 9 rfl rfl)
theorem dX1_entered_10 : decode cX1_entered 10 = .ok (.iload_n 2, 1) := dk_28 (dk_at dksX1_entered_0 10 rfl rfl)
theorem dX1_entered_11 : decode cX1_entered 11 = .ok (.iconst 1, 1) := dk_4 (dk_at dksX1_entered_0 11 rfl rfl)
theorem dX1_entered_12 : decode cX1_entered 12 = .ok (.iadd, 1) := dk_96 (dk_at dksX1_entered_0 12 rfl rfl)
theorem dX1_entered_13 : decode cX1_entered 13 = .ok (.iload_n 2, 1) := dk_28 (dk_at dksX1_entered_0 13 rfl rfl)
theorem dX1_entered_14 : decode cX1_entered 14 = .ok (.invokevirtual 349, 3) := dk_182 1 93 (dk_at dksX1_entered_0 14 rfl rfl)
theorem dX1_entered_17 : decode cX1_entered 17 = .ok (.iconst 0, 1) := dk_3 (dk_at dksX1_entered_0 17 rfl rfl)
theorem dX1_entered_18 : decode cX1_entered 18 = .ok (.istore_n 3, 1) := dk_62 (dk_at dksX1_entered_0 18 rfl rfl)
theorem dX1_entered_19 : decode cX1_entered 19 = .ok (.iload_n 3, 1) := dk_29 (dk_at dksX1_entered_0 19 rfl rfl)
theorem dX1_entered_20 : decode cX1_entered 20 = .ok (.iconst 4, 1) := dk_7 (dk_at dksX1_entered_0 20 rfl rfl)
theorem dX1_entered_21 : decode cX1_entered 21 = .ok (.if_icmp .ge 53, 3) := dk_162 0 53 (dk_at dksX1_entered_0 21 rfl rfl)
theorem dX1_entered_24 : decode cX1_entered 24 = .ok (.aload_n 0, 1) := dk_42 (dk_at dksX1_entered_1 0 rfl rfl)
theorem dX1_entered_25 : decode cX1_entered 25 = .ok (.getfield 19, 3) := dk_180 0 19 (dk_at dksX1_entered_1 1 rfl rfl)
theorem dX1_entered_28 : decode cX1_entered 28 = .ok (.iload_n 1, 1) := dk_27 (dk_at dksX1_entered_1 4 rfl rfl)
theorem dX1_entered_29 : decode cX1_entered 29 = .ok (.iload_n 3, 1) := dk_29 (dk_at dksX1_entered_1 5 rfl rfl)
theorem dX1_entered_30 : decode cX1_entered 30 = .ok (.invokevirtual 359, 3) := dk_182 1 103 (dk_at dksX1_entered_1 6 rfl rfl)
theorem dX1_entered_33 : decode cX1_entered 33 = .ok (.istore 4, 2) := dk_54 4 (dk_at dksX1_entered_1 9 rfl rfl)
theorem dX1_entered_35 : decode cX1_entered 35 = .ok (.iload 4, 2) := dk_21 4 (dk_at dksX1_entered_1 11 rfl rfl)
theorem dX1_entered_37 : decode cX1_entered 37 = .ok (.iconst (-1), 1) := dk_2 (dk_at dksX1_entered_1 13 rfl rfl)
theorem dX1_entered_38 : decode cX1_entered 38 = .ok (.if_icmp .eq 30, 3) := dk_159 0 30 (dk_at dksX1_entered_1 14 rfl rfl)
theorem dX1_entered_41 : decode cX1_entered 41 = .ok (.aload_n 0, 1) := dk_42 (dk_at dksX1_entered_1 17 rfl rfl)
theorem dX1_entered_42 : decode cX1_entered 42 = .ok (.getfield 84, 3) := dk_180 0 84 (dk_at dksX1_entered_1 18 rfl rfl)
theorem dX1_entered_45 : decode cX1_entered 45 = .ok (.iload 4, 2) := dk_21 4 (dk_at dksX1_entered_1 21 rfl rfl)
theorem dX1_entered_47 : decode cX1_entered 47 = .ok (.aaload, 1) := dk_50 (dk_at dksX1_entered_1 23 rfl rfl)
theorem dX1_entered_48 : decode cX1_entered 48 = .ok (.iload_n 3, 1) := dk_29 (dk_at dksX1_entered_2 0 rfl rfl)
theorem dX1_entered_49 : decode cX1_entered 49 = .ok (.iconst 2, 1) := dk_5 (dk_at dksX1_entered_2 1 rfl rfl)
theorem dX1_entered_50 : decode cX1_entered 50 = .ok (.iadd, 1) := dk_96 (dk_at dksX1_entered_2 2 rfl rfl)
theorem dX1_entered_51 : decode cX1_entered 51 = .ok (.iconst 4, 1) := dk_7 (dk_at dksX1_entered_2 3 rfl rfl)
theorem dX1_entered_52 : decode cX1_entered 52 = .ok (.irem, 1) := dk_112 (dk_at dksX1_entered_2 4 rfl rfl)
theorem dX1_entered_53 : decode cX1_entered 53 = .ok (.baload, 1) := dk_51 (dk_at dksX1_entered_2 5 rfl rfl)
theorem dX1_entered_54 : decode cX1_entered 54 = .ok (.ifCond .eq 14, 3) := dk_153 0 14 (dk_at dksX1_entered_2 6 rfl rfl)
theorem dX1_entered_57 : decode cX1_entered 57 = .ok (.aload_n 0, 1) := dk_42 (dk_at dksX1_entered_2 9 rfl rfl)
theorem dX1_entered_58 : decode cX1_entered 58 = .ok (.iconst 2, 1) := dk_5 (dk_at dksX1_entered_2 10 rfl rfl)
theorem dX1_entered_59 : decode cX1_entered 59 = .ok (.iload 4, 2) := dk_21 4 (dk_at dksX1_entered_2 11 rfl rfl)
theorem dX1_entered_61 : decode cX1_entered 61 = .ok (.imul, 1) := dk_104 (dk_at dksX1_entered_2 13 rfl rfl)
theorem dX1_entered_62 : decode cX1_entered 62 = .ok (.iconst 1, 1) := dk_4 (dk_at dksX1_entered_2 14 rfl rfl)
theorem dX1_entered_63 : decode cX1_entered 63 = .ok (.iadd, 1) := dk_96 (dk_at dksX1_entered_2 15 rfl rfl)
theorem dX1_entered_64 : decode cX1_entered 64 = .ok (.iload_n 2, 1) := dk_28 (dk_at dksX1_entered_2 16 rfl rfl)
theorem dX1_entered_65 : decode cX1_entered 65 = .ok (.invokevirtual 349, 3) := dk_182 1 93 (dk_at dksX1_entered_2 17 rfl rfl)
theorem dX1_entered_68 : decode cX1_entered 68 = .ok (.iinc 3 1, 3) := dk_132 3 1 (dk_at dksX1_entered_2 20 rfl rfl)
theorem dX1_entered_71 : decode cX1_entered 71 = .ok (.goto (-52), 3) := dk_167 255 204 (dk_at dksX1_entered_3 0 rfl rfl)
theorem dX1_entered_74 : decode cX1_entered 74 = .ok (.return_, 1) := dk_177 (dk_at dksX1_entered_3 3 rfl rfl)
abbrev cX1_layRow : ByteArray := prog_1_method_45_code
def yX1_layRow : MethodName := ⟨RX1, "layRow", "(II)V"⟩
def dkwX1_layRow_6 : List UInt8 := [177]
abbrev dktX1_layRow_6 : List UInt8 := dkwX1_layRow_6 ++ []
def dkwX1_layRow_5 : List UInt8 := [21, 7, 29, 5, 112, 154, 0, 7, 4, 167, 0, 4, 3, 84, 42, 180, 0, 87, 29, 46, 62, 167, 255, 120]
abbrev dktX1_layRow_5 : List UInt8 := dkwX1_layRow_5 ++ dktX1_layRow_6
def dkwX1_layRow_4 : List UInt8 := [21, 7, 182, 1, 103, 21, 9, 159, 0, 9, 132, 7, 1, 167, 255, 237, 42, 180, 0, 84, 21, 8, 50]
abbrev dktX1_layRow_4 : List UInt8 := dkwX1_layRow_4 ++ dktX1_layRow_5
def dkwX1_layRow_3 : List UInt8 := [54, 8, 29, 5, 112, 154, 0, 8, 21, 5, 167, 0, 5, 21, 6, 54, 9, 42, 180, 0, 19, 21, 8]
abbrev dktX1_layRow_3 : List UInt8 := dkwX1_layRow_3 ++ dktX1_layRow_4
def dkwX1_layRow_2 : List UInt8 := [167, 0, 4, 3, 84, 167, 0, 79, 3, 54, 7, 29, 5, 112, 154, 0, 8, 21, 6, 167, 0, 5, 21, 5]
abbrev dktX1_layRow_2 : List UInt8 := dkwX1_layRow_2 ++ dktX1_layRow_3
def dkwX1_layRow_1 : List UInt8 := [54, 6, 21, 5, 21, 6, 160, 0, 25, 42, 180, 0, 79, 21, 5, 29, 5, 112, 4, 160, 0, 7, 4]
abbrev dktX1_layRow_1 : List UInt8 := dkwX1_layRow_1 ++ dktX1_layRow_2
def dkwX1_layRow_0 : List UInt8 := [27, 62, 29, 28, 159, 0, 137, 42, 180, 0, 87, 29, 46, 54, 4, 29, 5, 108, 54, 5, 21, 4, 5, 108]
abbrev dktX1_layRow_0 : List UInt8 := dkwX1_layRow_0 ++ dktX1_layRow_1
theorem dksX1_layRow_0 : cX1_layRow.data.toList.drop 0 = dktX1_layRow_0 := by decide +kernel
theorem dksX1_layRow_1 : cX1_layRow.data.toList.drop 24 = dktX1_layRow_1 := dk_seg dksX1_layRow_0 24 rfl rfl
theorem dksX1_layRow_2 : cX1_layRow.data.toList.drop 47 = dktX1_layRow_2 := dk_seg dksX1_layRow_1 23 rfl rfl
theorem dksX1_layRow_3 : cX1_layRow.data.toList.drop 71 = dktX1_layRow_3 := dk_seg dksX1_layRow_2 24 rfl rfl
theorem dksX1_layRow_4 : cX1_layRow.data.toList.drop 94 = dktX1_layRow_4 := dk_seg dksX1_layRow_3 23 rfl rfl
theorem dksX1_layRow_5 : cX1_layRow.data.toList.drop 117 = dktX1_layRow_5 := dk_seg dksX1_layRow_4 23 rfl rfl
theorem dksX1_layRow_6 : cX1_layRow.data.toList.drop 141 = dktX1_layRow_6 := dk_seg dksX1_layRow_5 24 rfl rfl
theorem dX1_layRow_0 : decode cX1_layRow 0 = .ok (.iload_n 1, 1) := dk_27 (dk_at dksX1_layRow_0 0 rfl rfl)
theorem dX1_layRow_1 : decode cX1_layRow 1 = .ok (.istore_n 3, 1) := dk_62 (dk_at dksX1_layRow_0 1 rfl rfl)
theorem dX1_layRow_2 : decode cX1_layRow 2 = .ok (.iload_n 3, 1) := dk_29 (dk_at dksX1_layRow_0 2 rfl rfl)
theorem dX1_layRow_3 : decode cX1_layRow 3 = .ok (.iload_n 2, 1) := dk_28 (dk_at dksX1_layRow_0 3 rfl rfl)
theorem dX1_layRow_4 : decode cX1_layRow 4 = .ok (.if_icmp .eq 137, 3) := dk_159 0 137 (dk_at dksX1_layRow_0 4 rfl rfl)
theorem dX1_layRow_7 : decode cX1_layRow 7 = .ok (.aload_n 0, 1) := dk_42 (dk_at dksX1_layRow_0 7 rfl rfl)
theorem dX1_layRow_8 : decode cX1_layRow 8 = .ok (.getfield 87, 3) := dk_180 0 87 (dk_at dksX1_layRow_0 8 rfl rfl)
theorem dX1_layRow_11 : decode cX1_layRow 11 = .ok (.iload_n 3, 1) := dk_29 (dk_at dksX1_layRow_0 11 rfl rfl)
theorem dX1_layRow_12 : decode cX1_layRow 12 = .ok (.iaload, 1) := dk_46 (dk_at dksX1_layRow_0 12 rfl rfl)
theorem dX1_layRow_13 : decode cX1_layRow 13 = .ok (.istore 4, 2) := dk_54 4 (dk_at dksX1_layRow_0 13 rfl rfl)
theorem dX1_layRow_15 : decode cX1_layRow 15 = .ok (.iload_n 3, 1) := dk_29 (dk_at dksX1_layRow_0 15 rfl rfl)
theorem dX1_layRow_16 : decode cX1_layRow 16 = .ok (.iconst 2, 1) := dk_5 (dk_at dksX1_layRow_0 16 rfl rfl)
theorem dX1_layRow_17 : decode cX1_layRow 17 = .ok (.idiv, 1) := dk_108 (dk_at dksX1_layRow_0 17 rfl rfl)
theorem dX1_layRow_18 : decode cX1_layRow 18 = .ok (.istore 5, 2) := dk_54 5 (dk_at dksX1_layRow_0 18 rfl rfl)
theorem dX1_layRow_20 : decode cX1_layRow 20 = .ok (.iload 4, 2) := dk_21 4 (dk_at dksX1_layRow_0 20 rfl rfl)
theorem dX1_layRow_22 : decode cX1_layRow 22 = .ok (.iconst 2, 1) := dk_5 (dk_at dksX1_layRow_0 22 rfl rfl)
theorem dX1_layRow_23 : decode cX1_layRow 23 = .ok (.idiv, 1) := dk_108 (dk_at dksX1_layRow_0 23 rfl rfl)
theorem dX1_layRow_24 : decode cX1_layRow 24 = .ok (.istore 6, 2) := dk_54 6 (dk_at dksX1_layRow_1 0 rfl rfl)
theorem dX1_layRow_26 : decode cX1_layRow 26 = .ok (.iload 5, 2) := dk_21 5 (dk_at dksX1_layRow_1 2 rfl rfl)
theorem dX1_layRow_28 : decode cX1_layRow 28 = .ok (.iload 6, 2) := dk_21 6 (dk_at dksX1_layRow_1 4 rfl rfl)
theorem dX1_layRow_30 : decode cX1_layRow 30 = .ok (.if_icmp .ne 25, 3) := dk_160 0 25 (dk_at dksX1_layRow_1 6 rfl rfl)
theorem dX1_layRow_33 : decode cX1_layRow 33 = .ok (.aload_n 0, 1) := dk_42 (dk_at dksX1_layRow_1 9 rfl rfl)
theorem dX1_layRow_34 : decode cX1_layRow 34 = .ok (.getfield 79, 3) := dk_180 0 79 (dk_at dksX1_layRow_1 10 rfl rfl)
theorem dX1_layRow_37 : decode cX1_layRow 37 = .ok (.iload 5, 2) := dk_21 5 (dk_at dksX1_layRow_1 13 rfl rfl)
theorem dX1_layRow_39 : decode cX1_layRow 39 = .ok (.iload_n 3, 1) := dk_29 (dk_at dksX1_layRow_1 15 rfl rfl)
theorem dX1_layRow_40 : decode cX1_layRow 40 = .ok (.iconst 2, 1) := dk_5 (dk_at dksX1_layRow_1 16 rfl rfl)
theorem dX1_layRow_41 : decode cX1_layRow 41 = .ok (.irem, 1) := dk_112 (dk_at dksX1_layRow_1 17 rfl rfl)
theorem dX1_layRow_42 : decode cX1_layRow 42 = .ok (.iconst 1, 1) := dk_4 (dk_at dksX1_layRow_1 18 rfl rfl)
theorem dX1_layRow_43 : decode cX1_layRow 43 = .ok (.if_icmp .ne 7, 3) := dk_160 0 7 (dk_at dksX1_layRow_1 19 rfl rfl)
theorem dX1_layRow_46 : decode cX1_layRow 46 = .ok (.iconst 1, 1) := dk_4 (dk_at dksX1_layRow_1 22 rfl rfl)
theorem dX1_layRow_47 : decode cX1_layRow 47 = .ok (.goto 4, 3) := dk_167 0 4 (dk_at dksX1_layRow_2 0 rfl rfl)
theorem dX1_layRow_50 : decode cX1_layRow 50 = .ok (.iconst 0, 1) := dk_3 (dk_at dksX1_layRow_2 3 rfl rfl)
theorem dX1_layRow_51 : decode cX1_layRow 51 = .ok (.bastore, 1) := dk_84 (dk_at dksX1_layRow_2 4 rfl rfl)
theorem dX1_layRow_52 : decode cX1_layRow 52 = .ok (.goto 79, 3) := dk_167 0 79 (dk_at dksX1_layRow_2 5 rfl rfl)
theorem dX1_layRow_55 : decode cX1_layRow 55 = .ok (.iconst 0, 1) := dk_3 (dk_at dksX1_layRow_2 8 rfl rfl)
theorem dX1_layRow_56 : decode cX1_layRow 56 = .ok (.istore 7, 2) := dk_54 7 (dk_at dksX1_layRow_2 9 rfl rfl)
theorem dX1_layRow_58 : decode cX1_layRow 58 = .ok (.iload_n 3, 1) := dk_29 (dk_at dksX1_layRow_2 11 rfl rfl)
theorem dX1_layRow_59 : decode cX1_layRow 59 = .ok (.iconst 2, 1) := dk_5 (dk_at dksX1_layRow_2 12 rfl rfl)
theorem dX1_layRow_60 : decode cX1_layRow 60 = .ok (.irem, 1) := dk_112 (dk_at dksX1_layRow_2 13 rfl rfl)
theorem dX1_layRow_61 : decode cX1_layRow 61 = .ok (.ifCond .ne 8, 3) := dk_154 0 8 (dk_at dksX1_layRow_2 14 rfl rfl)
theorem dX1_layRow_64 : decode cX1_layRow 64 = .ok (.iload 6, 2) := dk_21 6 (dk_at dksX1_layRow_2 17 rfl rfl)
theorem dX1_layRow_66 : decode cX1_layRow 66 = .ok (.goto 5, 3) := dk_167 0 5 (dk_at dksX1_layRow_2 19 rfl rfl)
theorem dX1_layRow_69 : decode cX1_layRow 69 = .ok (.iload 5, 2) := dk_21 5 (dk_at dksX1_layRow_2 22 rfl rfl)
theorem dX1_layRow_71 : decode cX1_layRow 71 = .ok (.istore 8, 2) := dk_54 8 (dk_at dksX1_layRow_3 0 rfl rfl)
theorem dX1_layRow_73 : decode cX1_layRow 73 = .ok (.iload_n 3, 1) := dk_29 (dk_at dksX1_layRow_3 2 rfl rfl)
theorem dX1_layRow_74 : decode cX1_layRow 74 = .ok (.iconst 2, 1) := dk_5 (dk_at dksX1_layRow_3 3 rfl rfl)
theorem dX1_layRow_75 : decode cX1_layRow 75 = .ok (.irem, 1) := dk_112 (dk_at dksX1_layRow_3 4 rfl rfl)
theorem dX1_layRow_76 : decode cX1_layRow 76 = .ok (.ifCond .ne 8, 3) := dk_154 0 8 (dk_at dksX1_layRow_3 5 rfl rfl)
theorem dX1_layRow_79 : decode cX1_layRow 79 = .ok (.iload 5, 2) := dk_21 5 (dk_at dksX1_layRow_3 8 rfl rfl)
theorem dX1_layRow_81 : decode cX1_layRow 81 = .ok (.goto 5, 3) := dk_167 0 5 (dk_at dksX1_layRow_3 10 rfl rfl)
theorem dX1_layRow_84 : decode cX1_layRow 84 = .ok (.iload 6, 2) := dk_21 6 (dk_at dksX1_layRow_3 13 rfl rfl)
theorem dX1_layRow_86 : decode cX1_layRow 86 = .ok (.istore 9, 2) := dk_54 9 (dk_at dksX1_layRow_3 15 rfl rfl)
theorem dX1_layRow_88 : decode cX1_layRow 88 = .ok (.aload_n 0, 1) := dk_42 (dk_at dksX1_layRow_3 17 rfl rfl)
theorem dX1_layRow_89 : decode cX1_layRow 89 = .ok (.getfield 19, 3) := dk_180 0 19 (dk_at dksX1_layRow_3 18 rfl rfl)
theorem dX1_layRow_92 : decode cX1_layRow 92 = .ok (.iload 8, 2) := dk_21 8 (dk_at dksX1_layRow_3 21 rfl rfl)
theorem dX1_layRow_94 : decode cX1_layRow 94 = .ok (.iload 7, 2) := dk_21 7 (dk_at dksX1_layRow_4 0 rfl rfl)
theorem dX1_layRow_96 : decode cX1_layRow 96 = .ok (.invokevirtual 359, 3) := dk_182 1 103 (dk_at dksX1_layRow_4 2 rfl rfl)
theorem dX1_layRow_99 : decode cX1_layRow 99 = .ok (.iload 9, 2) := dk_21 9 (dk_at dksX1_layRow_4 5 rfl rfl)
theorem dX1_layRow_101 : decode cX1_layRow 101 = .ok (.if_icmp .eq 9, 3) := dk_159 0 9 (dk_at dksX1_layRow_4 7 rfl rfl)
theorem dX1_layRow_104 : decode cX1_layRow 104 = .ok (.iinc 7 1, 3) := dk_132 7 1 (dk_at dksX1_layRow_4 10 rfl rfl)
theorem dX1_layRow_107 : decode cX1_layRow 107 = .ok (.goto (-19), 3) := dk_167 255 237 (dk_at dksX1_layRow_4 13 rfl rfl)
theorem dX1_layRow_110 : decode cX1_layRow 110 = .ok (.aload_n 0, 1) := dk_42 (dk_at dksX1_layRow_4 16 rfl rfl)
theorem dX1_layRow_111 : decode cX1_layRow 111 = .ok (.getfield 84, 3) := dk_180 0 84 (dk_at dksX1_layRow_4 17 rfl rfl)
theorem dX1_layRow_114 : decode cX1_layRow 114 = .ok (.iload 8, 2) := dk_21 8 (dk_at dksX1_layRow_4 20 rfl rfl)
theorem dX1_layRow_116 : decode cX1_layRow 116 = .ok (.aaload, 1) := dk_50 (dk_at dksX1_layRow_4 22 rfl rfl)
theorem dX1_layRow_117 : decode cX1_layRow 117 = .ok (.iload 7, 2) := dk_21 7 (dk_at dksX1_layRow_5 0 rfl rfl)
theorem dX1_layRow_119 : decode cX1_layRow 119 = .ok (.iload_n 3, 1) := dk_29 (dk_at dksX1_layRow_5 2 rfl rfl)
theorem dX1_layRow_120 : decode cX1_layRow 120 = .ok (.iconst 2, 1) := dk_5 (dk_at dksX1_layRow_5 3 rfl rfl)
theorem dX1_layRow_121 : decode cX1_layRow 121 = .ok (.irem, 1) := dk_112 (dk_at dksX1_layRow_5 4 rfl rfl)
theorem dX1_layRow_122 : decode cX1_layRow 122 = .ok (.ifCond .ne 7, 3) := dk_154 0 7 (dk_at dksX1_layRow_5 5 rfl rfl)
theorem dX1_layRow_125 : decode cX1_layRow 125 = .ok (.iconst 1, 1) := dk_4 (dk_at dksX1_layRow_5 8 rfl rfl)
theorem dX1_layRow_126 : decode cX1_layRow 126 = .ok (.goto 4, 3) := dk_167 0 4 (dk_at dksX1_layRow_5 9 rfl rfl)
theorem dX1_layRow_129 : decode cX1_layRow 129 = .ok (.iconst 0, 1) := dk_3 (dk_at dksX1_layRow_5 12 rfl rfl)
theorem dX1_layRow_130 : decode cX1_layRow 130 = .ok (.bastore, 1) := dk_84 (dk_at dksX1_layRow_5 13 rfl rfl)
theorem dX1_layRow_131 : decode cX1_layRow 131 = .ok (.aload_n 0, 1) := dk_42 (dk_at dksX1_layRow_5 14 rfl rfl)
theorem dX1_layRow_132 : decode cX1_layRow 132 = .ok (.getfield 87, 3) := dk_180 0 87 (dk_at dksX1_layRow_5 15 rfl rfl)
theorem dX1_layRow_135 : decode cX1_layRow 135 = .ok (.iload_n 3, 1) := dk_29 (dk_at dksX1_layRow_5 18 rfl rfl)
theorem dX1_layRow_136 : decode cX1_layRow 136 = .ok (.iaload, 1) := dk_46 (dk_at dksX1_layRow_5 19 rfl rfl)
theorem dX1_layRow_137 : decode cX1_layRow 137 = .ok (.istore_n 3, 1) := dk_62 (dk_at dksX1_layRow_5 20 rfl rfl)
theorem dX1_layRow_138 : decode cX1_layRow 138 = .ok (.goto (-136), 3) := dk_167 255 120 (dk_at dksX1_layRow_5 21 rfl rfl)
theorem dX1_layRow_141 : decode cX1_layRow 141 = .ok (.return_, 1) := dk_177 (dk_at dksX1_layRow_6 0 rfl rfl)
abbrev cX1_lay : ByteArray := prog_1_method_48_code
def yX1_lay : MethodName := ⟨RX1, "lay", "(I)I"⟩
def dkwX1_lay_1 : List UInt8 := [172]
abbrev dktX1_lay_1 : List UInt8 := dkwX1_lay_1 ++ []
def dkwX1_lay_0 : List UInt8 := [27, 3, 42, 180, 1, 118, 4, 100, 184, 0, 153, 153, 0, 12, 42, 180, 0, 93, 27, 46, 167, 0, 4, 2]
abbrev dktX1_lay_0 : List UInt8 := dkwX1_lay_0 ++ dktX1_lay_1
theorem dksX1_lay_0 : cX1_lay.data.toList.drop 0 = dktX1_lay_0 := by decide +kernel
theorem dksX1_lay_1 : cX1_lay.data.toList.drop 24 = dktX1_lay_1 := dk_seg dksX1_lay_0 24 rfl rfl
theorem dX1_lay_0 : decode cX1_lay 0 = .ok (.iload_n 1, 1) := dk_27 (dk_at dksX1_lay_0 0 rfl rfl)
theorem dX1_lay_1 : decode cX1_lay 1 = .ok (.iconst 0, 1) := dk_3 (dk_at dksX1_lay_0 1 rfl rfl)
theorem dX1_lay_2 : decode cX1_lay 2 = .ok (.aload_n 0, 1) := dk_42 (dk_at dksX1_lay_0 2 rfl rfl)
theorem dX1_lay_3 : decode cX1_lay 3 = .ok (.getfield 374, 3) := dk_180 1 118 (dk_at dksX1_lay_0 3 rfl rfl)
theorem dX1_lay_6 : decode cX1_lay 6 = .ok (.iconst 1, 1) := dk_4 (dk_at dksX1_lay_0 6 rfl rfl)
theorem dX1_lay_7 : decode cX1_lay 7 = .ok (.isub, 1) := dk_100 (dk_at dksX1_lay_0 7 rfl rfl)
theorem dX1_lay_8 : decode cX1_lay 8 = .ok (.invokestatic 153, 3) := dk_184 0 153 (dk_at dksX1_lay_0 8 rfl rfl)
theorem dX1_lay_11 : decode cX1_lay 11 = .ok (.ifCond .eq 12, 3) := dk_153 0 12 (dk_at dksX1_lay_0 11 rfl rfl)
theorem dX1_lay_14 : decode cX1_lay 14 = .ok (.aload_n 0, 1) := dk_42 (dk_at dksX1_lay_0 14 rfl rfl)
theorem dX1_lay_15 : decode cX1_lay 15 = .ok (.getfield 93, 3) := dk_180 0 93 (dk_at dksX1_lay_0 15 rfl rfl)
theorem dX1_lay_18 : decode cX1_lay 18 = .ok (.iload_n 1, 1) := dk_27 (dk_at dksX1_lay_0 18 rfl rfl)
theorem dX1_lay_19 : decode cX1_lay 19 = .ok (.iaload, 1) := dk_46 (dk_at dksX1_lay_0 19 rfl rfl)
theorem dX1_lay_20 : decode cX1_lay 20 = .ok (.goto 4, 3) := dk_167 0 4 (dk_at dksX1_lay_0 20 rfl rfl)
theorem dX1_lay_23 : decode cX1_lay 23 = .ok (.iconst (-1), 1) := dk_2 (dk_at dksX1_lay_0 23 rfl rfl)
theorem dX1_lay_24 : decode cX1_lay 24 = .ok (.ireturn, 1) := dk_172 (dk_at dksX1_lay_1 0 rfl rfl)
abbrev cX1_ways : ByteArray := prog_1_method_50_code
def yX1_ways : MethodName := ⟨RX1, "ways", "(I)I"⟩
def dkwX1_ways_0 : List UInt8 := [42, 180, 0, 19, 27, 182, 0, 193, 153, 0, 11, 42, 27, 182, 1, 124, 167, 0, 4, 2, 172]
abbrev dktX1_ways_0 : List UInt8 := dkwX1_ways_0 ++ []
theorem dksX1_ways_0 : cX1_ways.data.toList.drop 0 = dktX1_ways_0 := by decide +kernel
theorem dX1_ways_0 : decode cX1_ways 0 = .ok (.aload_n 0, 1) := dk_42 (dk_at dksX1_ways_0 0 rfl rfl)
theorem dX1_ways_1 : decode cX1_ways 1 = .ok (.getfield 19, 3) := dk_180 0 19 (dk_at dksX1_ways_0 1 rfl rfl)
theorem dX1_ways_4 : decode cX1_ways 4 = .ok (.iload_n 1, 1) := dk_27 (dk_at dksX1_ways_0 4 rfl rfl)
theorem dX1_ways_5 : decode cX1_ways 5 = .ok (.invokevirtual 193, 3) := dk_182 0 193 (dk_at dksX1_ways_0 5 rfl rfl)
theorem dX1_ways_8 : decode cX1_ways 8 = .ok (.ifCond .eq 11, 3) := dk_153 0 11 (dk_at dksX1_ways_0 8 rfl rfl)
theorem dX1_ways_11 : decode cX1_ways 11 = .ok (.aload_n 0, 1) := dk_42 (dk_at dksX1_ways_0 11 rfl rfl)
theorem dX1_ways_12 : decode cX1_ways 12 = .ok (.iload_n 1, 1) := dk_27 (dk_at dksX1_ways_0 12 rfl rfl)
theorem dX1_ways_13 : decode cX1_ways 13 = .ok (.invokevirtual 380, 3) := dk_182 1 124 (dk_at dksX1_ways_0 13 rfl rfl)
theorem dX1_ways_16 : decode cX1_ways 16 = .ok (.goto 4, 3) := dk_167 0 4 (dk_at dksX1_ways_0 16 rfl rfl)
theorem dX1_ways_19 : decode cX1_ways 19 = .ok (.iconst (-1), 1) := dk_2 (dk_at dksX1_ways_0 19 rfl rfl)
theorem dX1_ways_20 : decode cX1_ways 20 = .ok (.ireturn, 1) := dk_172 (dk_at dksX1_ways_0 20 rfl rfl)
abbrev cX1_waysOver : ByteArray := prog_1_method_49_code
def yX1_waysOver : MethodName := ⟨RX1, "waysOver", "(I)I"⟩
def dkwX1_waysOver_2 : List UInt8 := [132, 3, 1, 167, 255, 212, 28, 172]
abbrev dktX1_waysOver_2 : List UInt8 := dkwX1_waysOver_2 ++ []
def dkwX1_waysOver_1 : List UInt8 := [180, 0, 157, 29, 182, 0, 168, 192, 0, 223, 27, 182, 1, 121, 153, 0, 9, 28, 4, 29, 120, 128, 61]
abbrev dktX1_waysOver_1 : List UInt8 := dkwX1_waysOver_1 ++ dktX1_waysOver_2
def dkwX1_waysOver_0 : List UInt8 := [3, 61, 3, 62, 29, 42, 180, 0, 19, 180, 0, 157, 182, 0, 148, 162, 0, 36, 42, 180, 0, 19]
abbrev dktX1_waysOver_0 : List UInt8 := dkwX1_waysOver_0 ++ dktX1_waysOver_1
theorem dksX1_waysOver_0 : cX1_waysOver.data.toList.drop 0 = dktX1_waysOver_0 := by decide +kernel
theorem dksX1_waysOver_1 : cX1_waysOver.data.toList.drop 22 = dktX1_waysOver_1 := dk_seg dksX1_waysOver_0 22 rfl rfl
theorem dksX1_waysOver_2 : cX1_waysOver.data.toList.drop 45 = dktX1_waysOver_2 := dk_seg dksX1_waysOver_1 23 rfl rfl
theorem dX1_waysOver_0 : decode cX1_waysOver 0 = .ok (.iconst 0, 1) := dk_3 (dk_at dksX1_waysOver_0 0 rfl rfl)
theorem dX1_waysOver_1 : decode cX1_waysOver 1 = .ok (.istore_n 2, 1) := dk_61 (dk_at dksX1_waysOver_0 1 rfl rfl)
theorem dX1_waysOver_2 : decode cX1_waysOver 2 = .ok (.iconst 0, 1) := dk_3 (dk_at dksX1_waysOver_0 2 rfl rfl)
theorem dX1_waysOver_3 : decode cX1_waysOver 3 = .ok (.istore_n 3, 1) := dk_62 (dk_at dksX1_waysOver_0 3 rfl rfl)
theorem dX1_waysOver_4 : decode cX1_waysOver 4 = .ok (.iload_n 3, 1) := dk_29 (dk_at dksX1_waysOver_0 4 rfl rfl)
theorem dX1_waysOver_5 : decode cX1_waysOver 5 = .ok (.aload_n 0, 1) := dk_42 (dk_at dksX1_waysOver_0 5 rfl rfl)
theorem dX1_waysOver_6 : decode cX1_waysOver 6 = .ok (.getfield 19, 3) := dk_180 0 19 (dk_at dksX1_waysOver_0 6 rfl rfl)
theorem dX1_waysOver_9 : decode cX1_waysOver 9 = .ok (.getfield 157, 3) := dk_180 0 157 (dk_at dksX1_waysOver_0 9 rfl rfl)
theorem dX1_waysOver_12 : decode cX1_waysOver 12 = .ok (.invokevirtual 148, 3) := dk_182 0 148 (dk_at dksX1_waysOver_0 12 rfl rfl)
theorem dX1_waysOver_15 : decode cX1_waysOver 15 = .ok (.if_icmp .ge 36, 3) := dk_162 0 36 (dk_at dksX1_waysOver_0 15 rfl rfl)
theorem dX1_waysOver_18 : decode cX1_waysOver 18 = .ok (.aload_n 0, 1) := dk_42 (dk_at dksX1_waysOver_0 18 rfl rfl)
theorem dX1_waysOver_19 : decode cX1_waysOver 19 = .ok (.getfield 19, 3) := dk_180 0 19 (dk_at dksX1_waysOver_0 19 rfl rfl)
theorem dX1_waysOver_22 : decode cX1_waysOver 22 = .ok (.getfield 157, 3) := dk_180 0 157 (dk_at dksX1_waysOver_1 0 rfl rfl)
theorem dX1_waysOver_25 : decode cX1_waysOver 25 = .ok (.iload_n 3, 1) := dk_29 (dk_at dksX1_waysOver_1 3 rfl rfl)
theorem dX1_waysOver_26 : decode cX1_waysOver 26 = .ok (.invokevirtual 168, 3) := dk_182 0 168 (dk_at dksX1_waysOver_1 4 rfl rfl)
theorem dX1_waysOver_29 : decode cX1_waysOver 29 = .ok (.checkcast 223, 3) := dk_192 0 223 (dk_at dksX1_waysOver_1 7 rfl rfl)
theorem dX1_waysOver_32 : decode cX1_waysOver 32 = .ok (.iload_n 1, 1) := dk_27 (dk_at dksX1_waysOver_1 10 rfl rfl)
theorem dX1_waysOver_33 : decode cX1_waysOver 33 = .ok (.invokevirtual 377, 3) := dk_182 1 121 (dk_at dksX1_waysOver_1 11 rfl rfl)
theorem dX1_waysOver_36 : decode cX1_waysOver 36 = .ok (.ifCond .eq 9, 3) := dk_153 0 9 (dk_at dksX1_waysOver_1 14 rfl rfl)
theorem dX1_waysOver_39 : decode cX1_waysOver 39 = .ok (.iload_n 2, 1) := dk_28 (dk_at dksX1_waysOver_1 17 rfl rfl)
theorem dX1_waysOver_40 : decode cX1_waysOver 40 = .ok (.iconst 1, 1) := dk_4 (dk_at dksX1_waysOver_1 18 rfl rfl)
theorem dX1_waysOver_41 : decode cX1_waysOver 41 = .ok (.iload_n 3, 1) := dk_29 (dk_at dksX1_waysOver_1 19 rfl rfl)
theorem dX1_waysOver_42 : decode cX1_waysOver 42 = .ok (.ishl, 1) := dk_120 (dk_at dksX1_waysOver_1 20 rfl rfl)
theorem dX1_waysOver_43 : decode cX1_waysOver 43 = .ok (.ior, 1) := dk_128 (dk_at dksX1_waysOver_1 21 rfl rfl)
theorem dX1_waysOver_44 : decode cX1_waysOver 44 = .ok (.istore_n 2, 1) := dk_61 (dk_at dksX1_waysOver_1 22 rfl rfl)
theorem dX1_waysOver_45 : decode cX1_waysOver 45 = .ok (.iinc 3 1, 3) := dk_132 3 1 (dk_at dksX1_waysOver_2 0 rfl rfl)
theorem dX1_waysOver_48 : decode cX1_waysOver 48 = .ok (.goto (-44), 3) := dk_167 255 212 (dk_at dksX1_waysOver_2 3 rfl rfl)
theorem dX1_waysOver_51 : decode cX1_waysOver 51 = .ok (.iload_n 2, 1) := dk_28 (dk_at dksX1_waysOver_2 6 rfl rfl)
theorem dX1_waysOver_52 : decode cX1_waysOver 52 = .ok (.ireturn, 1) := dk_172 (dk_at dksX1_waysOver_2 7 rfl rfl)
abbrev cX1_spot : ByteArray := prog_1_method_51_code
def yX1_spot : MethodName := ⟨RX1, "spot", "()I"⟩
def dkwX1_spot_2 : List UInt8 := [167, 255, 212, 27, 172]
abbrev dktX1_spot_2 : List UInt8 := dkwX1_spot_2 ++ []
def dkwX1_spot_1 : List UInt8 := [42, 28, 182, 1, 124, 184, 1, 31, 42, 27, 182, 1, 124, 184, 1, 31, 164, 0, 5, 28, 60, 132, 2, 1]
abbrev dktX1_spot_1 : List UInt8 := dkwX1_spot_1 ++ dktX1_spot_2
def dkwX1_spot_0 : List UInt8 := [2, 60, 3, 61, 28, 17, 0, 144, 162, 0, 43, 42, 28, 182, 1, 124, 153, 0, 29, 27, 2, 159, 0, 22]
abbrev dktX1_spot_0 : List UInt8 := dkwX1_spot_0 ++ dktX1_spot_1
theorem dksX1_spot_0 : cX1_spot.data.toList.drop 0 = dktX1_spot_0 := by decide +kernel
theorem dksX1_spot_1 : cX1_spot.data.toList.drop 24 = dktX1_spot_1 := dk_seg dksX1_spot_0 24 rfl rfl
theorem dksX1_spot_2 : cX1_spot.data.toList.drop 48 = dktX1_spot_2 := dk_seg dksX1_spot_1 24 rfl rfl
theorem dX1_spot_0 : decode cX1_spot 0 = .ok (.iconst (-1), 1) := dk_2 (dk_at dksX1_spot_0 0 rfl rfl)
theorem dX1_spot_1 : decode cX1_spot 1 = .ok (.istore_n 1, 1) := dk_60 (dk_at dksX1_spot_0 1 rfl rfl)
theorem dX1_spot_2 : decode cX1_spot 2 = .ok (.iconst 0, 1) := dk_3 (dk_at dksX1_spot_0 2 rfl rfl)
theorem dX1_spot_3 : decode cX1_spot 3 = .ok (.istore_n 2, 1) := dk_61 (dk_at dksX1_spot_0 3 rfl rfl)
theorem dX1_spot_4 : decode cX1_spot 4 = .ok (.iload_n 2, 1) := dk_28 (dk_at dksX1_spot_0 4 rfl rfl)
theorem dX1_spot_5 : decode cX1_spot 5 = .ok (.sipush 144, 3) := dk_17 0 144 (dk_at dksX1_spot_0 5 rfl rfl)
theorem dX1_spot_8 : decode cX1_spot 8 = .ok (.if_icmp .ge 43, 3) := dk_162 0 43 (dk_at dksX1_spot_0 8 rfl rfl)
theorem dX1_spot_11 : decode cX1_spot 11 = .ok (.aload_n 0, 1) := dk_42 (dk_at dksX1_spot_0 11 rfl rfl)
theorem dX1_spot_12 : decode cX1_spot 12 = .ok (.iload_n 2, 1) := dk_28 (dk_at dksX1_spot_0 12 rfl rfl)
theorem dX1_spot_13 : decode cX1_spot 13 = .ok (.invokevirtual 380, 3) := dk_182 1 124 (dk_at dksX1_spot_0 13 rfl rfl)
theorem dX1_spot_16 : decode cX1_spot 16 = .ok (.ifCond .eq 29, 3) := dk_153 0 29 (dk_at dksX1_spot_0 16 rfl rfl)
theorem dX1_spot_19 : decode cX1_spot 19 = .ok (.iload_n 1, 1) := dk_27 (dk_at dksX1_spot_0 19 rfl rfl)
theorem dX1_spot_20 : decode cX1_spot 20 = .ok (.iconst (-1), 1) := dk_2 (dk_at dksX1_spot_0 20 rfl rfl)
theorem dX1_spot_21 : decode cX1_spot 21 = .ok (.if_icmp .eq 22, 3) := dk_159 0 22 (dk_at dksX1_spot_0 21 rfl rfl)
theorem dX1_spot_24 : decode cX1_spot 24 = .ok (.aload_n 0, 1) := dk_42 (dk_at dksX1_spot_1 0 rfl rfl)
theorem dX1_spot_25 : decode cX1_spot 25 = .ok (.iload_n 2, 1) := dk_28 (dk_at dksX1_spot_1 1 rfl rfl)
theorem dX1_spot_26 : decode cX1_spot 26 = .ok (.invokevirtual 380, 3) := dk_182 1 124 (dk_at dksX1_spot_1 2 rfl rfl)
theorem dX1_spot_29 : decode cX1_spot 29 = .ok (.invokestatic 287, 3) := dk_184 1 31 (dk_at dksX1_spot_1 5 rfl rfl)
theorem dX1_spot_32 : decode cX1_spot 32 = .ok (.aload_n 0, 1) := dk_42 (dk_at dksX1_spot_1 8 rfl rfl)
theorem dX1_spot_33 : decode cX1_spot 33 = .ok (.iload_n 1, 1) := dk_27 (dk_at dksX1_spot_1 9 rfl rfl)
theorem dX1_spot_34 : decode cX1_spot 34 = .ok (.invokevirtual 380, 3) := dk_182 1 124 (dk_at dksX1_spot_1 10 rfl rfl)
theorem dX1_spot_37 : decode cX1_spot 37 = .ok (.invokestatic 287, 3) := dk_184 1 31 (dk_at dksX1_spot_1 13 rfl rfl)
theorem dX1_spot_40 : decode cX1_spot 40 = .ok (.if_icmp .le 5, 3) := dk_164 0 5 (dk_at dksX1_spot_1 16 rfl rfl)
theorem dX1_spot_43 : decode cX1_spot 43 = .ok (.iload_n 2, 1) := dk_28 (dk_at dksX1_spot_1 19 rfl rfl)
theorem dX1_spot_44 : decode cX1_spot 44 = .ok (.istore_n 1, 1) := dk_60 (dk_at dksX1_spot_1 20 rfl rfl)
theorem dX1_spot_45 : decode cX1_spot 45 = .ok (.iinc 2 1, 3) := dk_132 2 1 (dk_at dksX1_spot_1 21 rfl rfl)
theorem dX1_spot_48 : decode cX1_spot 48 = .ok (.goto (-44), 3) := dk_167 255 212 (dk_at dksX1_spot_2 0 rfl rfl)
theorem dX1_spot_51 : decode cX1_spot 51 = .ok (.iload_n 1, 1) := dk_27 (dk_at dksX1_spot_2 3 rfl rfl)
theorem dX1_spot_52 : decode cX1_spot 52 = .ok (.ireturn, 1) := dk_172 (dk_at dksX1_spot_2 4 rfl rfl)
abbrev cX1_both : ByteArray := prog_1_method_52_code
def yX1_both : MethodName := ⟨RX1, "both", "(II)I"⟩
def dkwX1_both_3 : List UInt8 := [182, 1, 121, 153, 0, 6, 132, 3, 1, 132, 4, 1, 167, 255, 198, 29, 172]
abbrev dktX1_both_3 : List UInt8 := dkwX1_both_3 ++ []
def dkwX1_both_2 : List UInt8 := [182, 1, 121, 153, 0, 28, 42, 180, 0, 19, 180, 0, 157, 28, 182, 0, 168, 192, 0, 223, 21, 4]
abbrev dktX1_both_2 : List UInt8 := dkwX1_both_2 ++ dktX1_both_3
def dkwX1_both_1 : List UInt8 := [21, 4, 17, 0, 144, 162, 0, 56, 42, 180, 0, 19, 180, 0, 157, 27, 182, 0, 168, 192, 0, 223, 21, 4]
abbrev dktX1_both_1 : List UInt8 := dkwX1_both_1 ++ dktX1_both_2
def dkwX1_both_0 : List UInt8 := [42, 27, 182, 0, 220, 153, 0, 11, 42, 28, 182, 0, 220, 154, 0, 5, 2, 172, 3, 62, 3, 54, 4]
abbrev dktX1_both_0 : List UInt8 := dkwX1_both_0 ++ dktX1_both_1
theorem dksX1_both_0 : cX1_both.data.toList.drop 0 = dktX1_both_0 := by decide +kernel
theorem dksX1_both_1 : cX1_both.data.toList.drop 23 = dktX1_both_1 := dk_seg dksX1_both_0 23 rfl rfl
theorem dksX1_both_2 : cX1_both.data.toList.drop 47 = dktX1_both_2 := dk_seg dksX1_both_1 24 rfl rfl
theorem dksX1_both_3 : cX1_both.data.toList.drop 69 = dktX1_both_3 := dk_seg dksX1_both_2 22 rfl rfl
theorem dX1_both_0 : decode cX1_both 0 = .ok (.aload_n 0, 1) := dk_42 (dk_at dksX1_both_0 0 rfl rfl)
theorem dX1_both_1 : decode cX1_both 1 = .ok (.iload_n 1, 1) := dk_27 (dk_at dksX1_both_0 1 rfl rfl)
theorem dX1_both_2 : decode cX1_both 2 = .ok (.invokevirtual 220, 3) := dk_182 0 220 (dk_at dksX1_both_0 2 rfl rfl)
theorem dX1_both_5 : decode cX1_both 5 = .ok (.ifCond .eq 11, 3) := dk_153 0 11 (dk_at dksX1_both_0 5 rfl rfl)
theorem dX1_both_8 : decode cX1_both 8 = .ok (.aload_n 0, 1) := dk_42 (dk_at dksX1_both_0 8 rfl rfl)
theorem dX1_both_9 : decode cX1_both 9 = .ok (.iload_n 2, 1) := dk_28 (dk_at dksX1_both_0 9 rfl rfl)
theorem dX1_both_10 : decode cX1_both 10 = .ok (.invokevirtual 220, 3) := dk_182 0 220 (dk_at dksX1_both_0 10 rfl rfl)
theorem dX1_both_13 : decode cX1_both 13 = .ok (.ifCond .ne 5, 3) := dk_154 0 5 (dk_at dksX1_both_0 13 rfl rfl)
theorem dX1_both_16 : decode cX1_both 16 = .ok (.iconst (-1), 1) := dk_2 (dk_at dksX1_both_0 16 rfl rfl)
theorem dX1_both_17 : decode cX1_both 17 = .ok (.ireturn, 1) := dk_172 (dk_at dksX1_both_0 17 rfl rfl)
theorem dX1_both_18 : decode cX1_both 18 = .ok (.iconst 0, 1) := dk_3 (dk_at dksX1_both_0 18 rfl rfl)
theorem dX1_both_19 : decode cX1_both 19 = .ok (.istore_n 3, 1) := dk_62 (dk_at dksX1_both_0 19 rfl rfl)
theorem dX1_both_20 : decode cX1_both 20 = .ok (.iconst 0, 1) := dk_3 (dk_at dksX1_both_0 20 rfl rfl)
theorem dX1_both_21 : decode cX1_both 21 = .ok (.istore 4, 2) := dk_54 4 (dk_at dksX1_both_0 21 rfl rfl)
theorem dX1_both_23 : decode cX1_both 23 = .ok (.iload 4, 2) := dk_21 4 (dk_at dksX1_both_1 0 rfl rfl)
theorem dX1_both_25 : decode cX1_both 25 = .ok (.sipush 144, 3) := dk_17 0 144 (dk_at dksX1_both_1 2 rfl rfl)
theorem dX1_both_28 : decode cX1_both 28 = .ok (.if_icmp .ge 56, 3) := dk_162 0 56 (dk_at dksX1_both_1 5 rfl rfl)
theorem dX1_both_31 : decode cX1_both 31 = .ok (.aload_n 0, 1) := dk_42 (dk_at dksX1_both_1 8 rfl rfl)
theorem dX1_both_32 : decode cX1_both 32 = .ok (.getfield 19, 3) := dk_180 0 19 (dk_at dksX1_both_1 9 rfl rfl)
theorem dX1_both_35 : decode cX1_both 35 = .ok (.getfield 157, 3) := dk_180 0 157 (dk_at dksX1_both_1 12 rfl rfl)
theorem dX1_both_38 : decode cX1_both 38 = .ok (.iload_n 1, 1) := dk_27 (dk_at dksX1_both_1 15 rfl rfl)
theorem dX1_both_39 : decode cX1_both 39 = .ok (.invokevirtual 168, 3) := dk_182 0 168 (dk_at dksX1_both_1 16 rfl rfl)
theorem dX1_both_42 : decode cX1_both 42 = .ok (.checkcast 223, 3) := dk_192 0 223 (dk_at dksX1_both_1 19 rfl rfl)
theorem dX1_both_45 : decode cX1_both 45 = .ok (.iload 4, 2) := dk_21 4 (dk_at dksX1_both_1 22 rfl rfl)
theorem dX1_both_47 : decode cX1_both 47 = .ok (.invokevirtual 377, 3) := dk_182 1 121 (dk_at dksX1_both_2 0 rfl rfl)
theorem dX1_both_50 : decode cX1_both 50 = .ok (.ifCond .eq 28, 3) := dk_153 0 28 (dk_at dksX1_both_2 3 rfl rfl)
theorem dX1_both_53 : decode cX1_both 53 = .ok (.aload_n 0, 1) := dk_42 (dk_at dksX1_both_2 6 rfl rfl)
theorem dX1_both_54 : decode cX1_both 54 = .ok (.getfield 19, 3) := dk_180 0 19 (dk_at dksX1_both_2 7 rfl rfl)
theorem dX1_both_57 : decode cX1_both 57 = .ok (.getfield 157, 3) := dk_180 0 157 (dk_at dksX1_both_2 10 rfl rfl)
theorem dX1_both_60 : decode cX1_both 60 = .ok (.iload_n 2, 1) := dk_28 (dk_at dksX1_both_2 13 rfl rfl)
theorem dX1_both_61 : decode cX1_both 61 = .ok (.invokevirtual 168, 3) := dk_182 0 168 (dk_at dksX1_both_2 14 rfl rfl)
theorem dX1_both_64 : decode cX1_both 64 = .ok (.checkcast 223, 3) := dk_192 0 223 (dk_at dksX1_both_2 17 rfl rfl)
theorem dX1_both_67 : decode cX1_both 67 = .ok (.iload 4, 2) := dk_21 4 (dk_at dksX1_both_2 20 rfl rfl)
theorem dX1_both_69 : decode cX1_both 69 = .ok (.invokevirtual 377, 3) := dk_182 1 121 (dk_at dksX1_both_3 0 rfl rfl)
theorem dX1_both_72 : decode cX1_both 72 = .ok (.ifCond .eq 6, 3) := dk_153 0 6 (dk_at dksX1_both_3 3 rfl rfl)
theorem dX1_both_75 : decode cX1_both 75 = .ok (.iinc 3 1, 3) := dk_132 3 1 (dk_at dksX1_both_3 6 rfl rfl)
theorem dX1_both_78 : decode cX1_both 78 = .ok (.iinc 4 1, 3) := dk_132 4 1 (dk_at dksX1_both_3 9 rfl rfl)
theorem dX1_both_81 : decode cX1_both 81 = .ok (.goto (-58), 3) := dk_167 255 198 (dk_at dksX1_both_3 12 rfl rfl)
theorem dX1_both_84 : decode cX1_both 84 = .ok (.iload_n 3, 1) := dk_29 (dk_at dksX1_both_3 15 rfl rfl)
theorem dX1_both_85 : decode cX1_both 85 = .ok (.ireturn, 1) := dk_172 (dk_at dksX1_both_3 16 rfl rfl)
abbrev cX1_years : ByteArray := prog_1_method_54_code
def yX1_years : MethodName := ⟨RX1, "years", "(III)I"⟩
def dkwX1_years_8 : List UInt8 := [180, 0, 30, 182, 0, 245, 132, 4, 1, 167, 255, 137, 42, 180, 0, 30, 180, 0, 242, 172]
abbrev dktX1_years_8 : List UInt8 := dkwX1_years_8 ++ []
def dkwX1_years_7 : List UInt8 := [180, 0, 30, 21, 5, 16, 12, 42, 42, 180, 0, 19, 180, 1, 140, 182, 1, 134, 104, 96, 182, 1, 0, 42]
abbrev dktX1_years_7 : List UInt8 := dkwX1_years_7 ++ dktX1_years_8
def dkwX1_years_6 : List UInt8 := [42, 16, 6, 182, 1, 134, 154, 0, 40, 42, 42, 180, 0, 19, 180, 1, 137, 182, 1, 134, 54, 5, 42]
abbrev dktX1_years_6 : List UInt8 := dkwX1_years_6 ++ dktX1_years_7
def dkwX1_years_5 : List UInt8 := [180, 0, 19, 180, 0, 157, 182, 0, 148, 182, 1, 134, 21, 6, 182, 0, 238, 87, 132, 5, 1, 167, 255, 205]
abbrev dktX1_years_5 : List UInt8 := dkwX1_years_5 ++ dktX1_years_6
def dkwX1_years_4 : List UInt8 := [180, 0, 19, 180, 0, 144, 182, 0, 148, 182, 1, 134, 54, 6, 42, 180, 0, 30, 21, 6, 42, 42]
abbrev dktX1_years_4 : List UInt8 := dkwX1_years_4 ++ dktX1_years_5
def dkwX1_years_3 : List UInt8 := [181, 1, 127, 3, 54, 4, 21, 4, 27, 162, 0, 119, 3, 54, 5, 21, 5, 28, 162, 0, 51, 42, 42]
abbrev dktX1_years_3 : List UInt8 := dkwX1_years_3 ++ dktX1_years_4
def dkwX1_years_2 : List UInt8 := [180, 0, 30, 180, 0, 242, 27, 96, 17, 3, 231, 164, 0, 5, 2, 172, 42, 182, 0, 235, 42, 29]
abbrev dktX1_years_2 : List UInt8 := dkwX1_years_2 ++ dktX1_years_3
def dkwX1_years_1 : List UInt8 := [180, 0, 144, 182, 1, 131, 154, 0, 31, 42, 180, 0, 19, 180, 0, 157, 182, 1, 131, 154, 0, 18, 42]
abbrev dktX1_years_1 : List UInt8 := dkwX1_years_1 ++ dktX1_years_2
def dkwX1_years_0 : List UInt8 := [27, 4, 16, 60, 184, 0, 153, 153, 0, 54, 28, 4, 16, 9, 184, 0, 153, 153, 0, 44, 42, 180, 0, 19]
abbrev dktX1_years_0 : List UInt8 := dkwX1_years_0 ++ dktX1_years_1
theorem dksX1_years_0 : cX1_years.data.toList.drop 0 = dktX1_years_0 := by decide +kernel
theorem dksX1_years_1 : cX1_years.data.toList.drop 24 = dktX1_years_1 := dk_seg dksX1_years_0 24 rfl rfl
theorem dksX1_years_2 : cX1_years.data.toList.drop 47 = dktX1_years_2 := dk_seg dksX1_years_1 23 rfl rfl
theorem dksX1_years_3 : cX1_years.data.toList.drop 69 = dktX1_years_3 := dk_seg dksX1_years_2 22 rfl rfl
theorem dksX1_years_4 : cX1_years.data.toList.drop 92 = dktX1_years_4 := dk_seg dksX1_years_3 23 rfl rfl
theorem dksX1_years_5 : cX1_years.data.toList.drop 114 = dktX1_years_5 := dk_seg dksX1_years_4 22 rfl rfl
theorem dksX1_years_6 : cX1_years.data.toList.drop 138 = dktX1_years_6 := dk_seg dksX1_years_5 24 rfl rfl
theorem dksX1_years_7 : cX1_years.data.toList.drop 161 = dktX1_years_7 := dk_seg dksX1_years_6 23 rfl rfl
theorem dksX1_years_8 : cX1_years.data.toList.drop 185 = dktX1_years_8 := dk_seg dksX1_years_7 24 rfl rfl
theorem dX1_years_0 : decode cX1_years 0 = .ok (.iload_n 1, 1) := dk_27 (dk_at dksX1_years_0 0 rfl rfl)
theorem dX1_years_1 : decode cX1_years 1 = .ok (.iconst 1, 1) := dk_4 (dk_at dksX1_years_0 1 rfl rfl)
theorem dX1_years_2 : decode cX1_years 2 = .ok (.bipush 60, 2) := dk_16 60 (dk_at dksX1_years_0 2 rfl rfl)
theorem dX1_years_4 : decode cX1_years 4 = .ok (.invokestatic 153, 3) := dk_184 0 153 (dk_at dksX1_years_0 4 rfl rfl)
theorem dX1_years_7 : decode cX1_years 7 = .ok (.ifCond .eq 54, 3) := dk_153 0 54 (dk_at dksX1_years_0 7 rfl rfl)
theorem dX1_years_10 : decode cX1_years 10 = .ok (.iload_n 2, 1) := dk_28 (dk_at dksX1_years_0 10 rfl rfl)
theorem dX1_years_11 : decode cX1_years 11 = .ok (.iconst 1, 1) := dk_4 (dk_at dksX1_years_0 11 rfl rfl)
theorem dX1_years_12 : decode cX1_years 12 = .ok (.bipush 9, 2) := dk_16 9 (dk_at dksX1_years_0 12 rfl rfl)
theorem dX1_years_14 : decode cX1_years 14 = .ok (.invokestatic 153, 3) := dk_184 0 153 (dk_at dksX1_years_0 14 rfl rfl)
theorem dX1_years_17 : decode cX1_years 17 = .ok (.ifCond .eq 44, 3) := dk_153 0 44 (dk_at dksX1_years_0 17 rfl rfl)
theorem dX1_years_20 : decode cX1_years 20 = .ok (.aload_n 0, 1) := dk_42 (dk_at dksX1_years_0 20 rfl rfl)
theorem dX1_years_21 : decode cX1_years 21 = .ok (.getfield 19, 3) := dk_180 0 19 (dk_at dksX1_years_0 21 rfl rfl)
theorem dX1_years_24 : decode cX1_years 24 = .ok (.getfield 144, 3) := dk_180 0 144 (dk_at dksX1_years_1 0 rfl rfl)
theorem dX1_years_27 : decode cX1_years 27 = .ok (.invokevirtual 387, 3) := dk_182 1 131 (dk_at dksX1_years_1 3 rfl rfl)
theorem dX1_years_30 : decode cX1_years 30 = .ok (.ifCond .ne 31, 3) := dk_154 0 31 (dk_at dksX1_years_1 6 rfl rfl)
theorem dX1_years_33 : decode cX1_years 33 = .ok (.aload_n 0, 1) := dk_42 (dk_at dksX1_years_1 9 rfl rfl)
theorem dX1_years_34 : decode cX1_years 34 = .ok (.getfield 19, 3) := dk_180 0 19 (dk_at dksX1_years_1 10 rfl rfl)
theorem dX1_years_37 : decode cX1_years 37 = .ok (.getfield 157, 3) := dk_180 0 157 (dk_at dksX1_years_1 13 rfl rfl)
theorem dX1_years_40 : decode cX1_years 40 = .ok (.invokevirtual 387, 3) := dk_182 1 131 (dk_at dksX1_years_1 16 rfl rfl)
theorem dX1_years_43 : decode cX1_years 43 = .ok (.ifCond .ne 18, 3) := dk_154 0 18 (dk_at dksX1_years_1 19 rfl rfl)
theorem dX1_years_46 : decode cX1_years 46 = .ok (.aload_n 0, 1) := dk_42 (dk_at dksX1_years_1 22 rfl rfl)
theorem dX1_years_47 : decode cX1_years 47 = .ok (.getfield 30, 3) := dk_180 0 30 (dk_at dksX1_years_2 0 rfl rfl)
theorem dX1_years_50 : decode cX1_years 50 = .ok (.getfield 242, 3) := dk_180 0 242 (dk_at dksX1_years_2 3 rfl rfl)
theorem dX1_years_53 : decode cX1_years 53 = .ok (.iload_n 1, 1) := dk_27 (dk_at dksX1_years_2 6 rfl rfl)
theorem dX1_years_54 : decode cX1_years 54 = .ok (.iadd, 1) := dk_96 (dk_at dksX1_years_2 7 rfl rfl)
theorem dX1_years_55 : decode cX1_years 55 = .ok (.sipush 999, 3) := dk_17 3 231 (dk_at dksX1_years_2 8 rfl rfl)
theorem dX1_years_58 : decode cX1_years 58 = .ok (.if_icmp .le 5, 3) := dk_164 0 5 (dk_at dksX1_years_2 11 rfl rfl)
theorem dX1_years_61 : decode cX1_years 61 = .ok (.iconst (-1), 1) := dk_2 (dk_at dksX1_years_2 14 rfl rfl)
theorem dX1_years_62 : decode cX1_years 62 = .ok (.ireturn, 1) := dk_172 (dk_at dksX1_years_2 15 rfl rfl)
theorem dX1_years_63 : decode cX1_years 63 = .ok (.aload_n 0, 1) := dk_42 (dk_at dksX1_years_2 16 rfl rfl)
theorem dX1_years_64 : decode cX1_years 64 = .ok (.invokevirtual 235, 3) := dk_182 0 235 (dk_at dksX1_years_2 17 rfl rfl)
theorem dX1_years_67 : decode cX1_years 67 = .ok (.aload_n 0, 1) := dk_42 (dk_at dksX1_years_2 20 rfl rfl)
theorem dX1_years_68 : decode cX1_years 68 = .ok (.iload_n 3, 1) := dk_29 (dk_at dksX1_years_2 21 rfl rfl)
theorem dX1_years_69 : decode cX1_years 69 = .ok (.putfield 383, 3) := dk_181 1 127 (dk_at dksX1_years_3 0 rfl rfl)
theorem dX1_years_72 : decode cX1_years 72 = .ok (.iconst 0, 1) := dk_3 (dk_at dksX1_years_3 3 rfl rfl)
theorem dX1_years_73 : decode cX1_years 73 = .ok (.istore 4, 2) := dk_54 4 (dk_at dksX1_years_3 4 rfl rfl)
theorem dX1_years_75 : decode cX1_years 75 = .ok (.iload 4, 2) := dk_21 4 (dk_at dksX1_years_3 6 rfl rfl)
theorem dX1_years_77 : decode cX1_years 77 = .ok (.iload_n 1, 1) := dk_27 (dk_at dksX1_years_3 8 rfl rfl)
theorem dX1_years_78 : decode cX1_years 78 = .ok (.if_icmp .ge 119, 3) := dk_162 0 119 (dk_at dksX1_years_3 9 rfl rfl)
theorem dX1_years_81 : decode cX1_years 81 = .ok (.iconst 0, 1) := dk_3 (dk_at dksX1_years_3 12 rfl rfl)
theorem dX1_years_82 : decode cX1_years 82 = .ok (.istore 5, 2) := dk_54 5 (dk_at dksX1_years_3 13 rfl rfl)
theorem dX1_years_84 : decode cX1_years 84 = .ok (.iload 5, 2) := dk_21 5 (dk_at dksX1_years_3 15 rfl rfl)
theorem dX1_years_86 : decode cX1_years 86 = .ok (.iload_n 2, 1) := dk_28 (dk_at dksX1_years_3 17 rfl rfl)
theorem dX1_years_87 : decode cX1_years 87 = .ok (.if_icmp .ge 51, 3) := dk_162 0 51 (dk_at dksX1_years_3 18 rfl rfl)
theorem dX1_years_90 : decode cX1_years 90 = .ok (.aload_n 0, 1) := dk_42 (dk_at dksX1_years_3 21 rfl rfl)
theorem dX1_years_91 : decode cX1_years 91 = .ok (.aload_n 0, 1) := dk_42 (dk_at dksX1_years_3 22 rfl rfl)
theorem dX1_years_92 : decode cX1_years 92 = .ok (.getfield 19, 3) := dk_180 0 19 (dk_at dksX1_years_4 0 rfl rfl)
theorem dX1_years_95 : decode cX1_years 95 = .ok (.getfield 144, 3) := dk_180 0 144 (dk_at dksX1_years_4 3 rfl rfl)
theorem dX1_years_98 : decode cX1_years 98 = .ok (.invokevirtual 148, 3) := dk_182 0 148 (dk_at dksX1_years_4 6 rfl rfl)
theorem dX1_years_101 : decode cX1_years 101 = .ok (.invokevirtual 390, 3) := dk_182 1 134 (dk_at dksX1_years_4 9 rfl rfl)
theorem dX1_years_104 : decode cX1_years 104 = .ok (.istore 6, 2) := dk_54 6 (dk_at dksX1_years_4 12 rfl rfl)
theorem dX1_years_106 : decode cX1_years 106 = .ok (.aload_n 0, 1) := dk_42 (dk_at dksX1_years_4 14 rfl rfl)
theorem dX1_years_107 : decode cX1_years 107 = .ok (.getfield 30, 3) := dk_180 0 30 (dk_at dksX1_years_4 15 rfl rfl)
theorem dX1_years_110 : decode cX1_years 110 = .ok (.iload 6, 2) := dk_21 6 (dk_at dksX1_years_4 18 rfl rfl)
theorem dX1_years_112 : decode cX1_years 112 = .ok (.aload_n 0, 1) := dk_42 (dk_at dksX1_years_4 20 rfl rfl)
theorem dX1_years_113 : decode cX1_years 113 = .ok (.aload_n 0, 1) := dk_42 (dk_at dksX1_years_4 21 rfl rfl)
theorem dX1_years_114 : decode cX1_years 114 = .ok (.getfield 19, 3) := dk_180 0 19 (dk_at dksX1_years_5 0 rfl rfl)
theorem dX1_years_117 : decode cX1_years 117 = .ok (.getfield 157, 3) := dk_180 0 157 (dk_at dksX1_years_5 3 rfl rfl)
theorem dX1_years_120 : decode cX1_years 120 = .ok (.invokevirtual 148, 3) := dk_182 0 148 (dk_at dksX1_years_5 6 rfl rfl)
theorem dX1_years_123 : decode cX1_years 123 = .ok (.invokevirtual 390, 3) := dk_182 1 134 (dk_at dksX1_years_5 9 rfl rfl)
theorem dX1_years_126 : decode cX1_years 126 = .ok (.iload 6, 2) := dk_21 6 (dk_at dksX1_years_5 12 rfl rfl)
theorem dX1_years_128 : decode cX1_years 128 = .ok (.invokevirtual 238, 3) := dk_182 0 238 (dk_at dksX1_years_5 14 rfl rfl)
theorem dX1_years_131 : decode cX1_years 131 = .ok (.pop, 1) := dk_87 (dk_at dksX1_years_5 17 rfl rfl)
theorem dX1_years_132 : decode cX1_years 132 = .ok (.iinc 5 1, 3) := dk_132 5 1 (dk_at dksX1_years_5 18 rfl rfl)
theorem dX1_years_135 : decode cX1_years 135 = .ok (.goto (-51), 3) := dk_167 255 205 (dk_at dksX1_years_5 21 rfl rfl)
theorem dX1_years_138 : decode cX1_years 138 = .ok (.aload_n 0, 1) := dk_42 (dk_at dksX1_years_6 0 rfl rfl)
theorem dX1_years_139 : decode cX1_years 139 = .ok (.bipush 6, 2) := dk_16 6 (dk_at dksX1_years_6 1 rfl rfl)
theorem dX1_years_141 : decode cX1_years 141 = .ok (.invokevirtual 390, 3) := dk_182 1 134 (dk_at dksX1_years_6 3 rfl rfl)
theorem dX1_years_144 : decode cX1_years 144 = .ok (.ifCond .ne 40, 3) := dk_154 0 40 (dk_at dksX1_years_6 6 rfl rfl)
theorem dX1_years_147 : decode cX1_years 147 = .ok (.aload_n 0, 1) := dk_42 (dk_at dksX1_years_6 9 rfl rfl)
theorem dX1_years_148 : decode cX1_years 148 = .ok (.aload_n 0, 1) := dk_42 (dk_at dksX1_years_6 10 rfl rfl)
theorem dX1_years_149 : decode cX1_years 149 = .ok (.getfield 19, 3) := dk_180 0 19 (dk_at dksX1_years_6 11 rfl rfl)
theorem dX1_years_152 : decode cX1_years 152 = .ok (.getfield 393, 3) := dk_180 1 137 (dk_at dksX1_years_6 14 rfl rfl)
theorem dX1_years_155 : decode cX1_years 155 = .ok (.invokevirtual 390, 3) := dk_182 1 134 (dk_at dksX1_years_6 17 rfl rfl)
theorem dX1_years_158 : decode cX1_years 158 = .ok (.istore 5, 2) := dk_54 5 (dk_at dksX1_years_6 20 rfl rfl)
theorem dX1_years_160 : decode cX1_years 160 = .ok (.aload_n 0, 1) := dk_42 (dk_at dksX1_years_6 22 rfl rfl)
theorem dX1_years_161 : decode cX1_years 161 = .ok (.getfield 30, 3) := dk_180 0 30 (dk_at dksX1_years_7 0 rfl rfl)
theorem dX1_years_164 : decode cX1_years 164 = .ok (.iload 5, 2) := dk_21 5 (dk_at dksX1_years_7 3 rfl rfl)
theorem dX1_years_166 : decode cX1_years 166 = .ok (.bipush 12, 2) := dk_16 12 (dk_at dksX1_years_7 5 rfl rfl)
theorem dX1_years_168 : decode cX1_years 168 = .ok (.aload_n 0, 1) := dk_42 (dk_at dksX1_years_7 7 rfl rfl)
theorem dX1_years_169 : decode cX1_years 169 = .ok (.aload_n 0, 1) := dk_42 (dk_at dksX1_years_7 8 rfl rfl)
theorem dX1_years_170 : decode cX1_years 170 = .ok (.getfield 19, 3) := dk_180 0 19 (dk_at dksX1_years_7 9 rfl rfl)
theorem dX1_years_173 : decode cX1_years 173 = .ok (.getfield 396, 3) := dk_180 1 140 (dk_at dksX1_years_7 12 rfl rfl)
theorem dX1_years_176 : decode cX1_years 176 = .ok (.invokevirtual 390, 3) := dk_182 1 134 (dk_at dksX1_years_7 15 rfl rfl)
theorem dX1_years_179 : decode cX1_years 179 = .ok (.imul, 1) := dk_104 (dk_at dksX1_years_7 18 rfl rfl)
theorem dX1_years_180 : decode cX1_years 180 = .ok (.iadd, 1) := dk_96 (dk_at dksX1_years_7 19 rfl rfl)
theorem dX1_years_181 : decode cX1_years 181 = .ok (.invokevirtual 256, 3) := dk_182 1 0 (dk_at dksX1_years_7 20 rfl rfl)
theorem dX1_years_184 : decode cX1_years 184 = .ok (.aload_n 0, 1) := dk_42 (dk_at dksX1_years_7 23 rfl rfl)
theorem dX1_years_185 : decode cX1_years 185 = .ok (.getfield 30, 3) := dk_180 0 30 (dk_at dksX1_years_8 0 rfl rfl)
theorem dX1_years_188 : decode cX1_years 188 = .ok (.invokevirtual 245, 3) := dk_182 0 245 (dk_at dksX1_years_8 3 rfl rfl)
theorem dX1_years_191 : decode cX1_years 191 = .ok (.iinc 4 1, 3) := dk_132 4 1 (dk_at dksX1_years_8 6 rfl rfl)
theorem dX1_years_194 : decode cX1_years 194 = .ok (.goto (-119), 3) := dk_167 255 137 (dk_at dksX1_years_8 9 rfl rfl)
theorem dX1_years_197 : decode cX1_years 197 = .ok (.aload_n 0, 1) := dk_42 (dk_at dksX1_years_8 12 rfl rfl)
theorem dX1_years_198 : decode cX1_years 198 = .ok (.getfield 30, 3) := dk_180 0 30 (dk_at dksX1_years_8 13 rfl rfl)
theorem dX1_years_201 : decode cX1_years 201 = .ok (.getfield 242, 3) := dk_180 0 242 (dk_at dksX1_years_8 16 rfl rfl)
theorem dX1_years_204 : decode cX1_years 204 = .ok (.ireturn, 1) := dk_172 (dk_at dksX1_years_8 19 rfl rfl)
abbrev cX1_draw : ByteArray := prog_1_method_53_code
def yX1_draw : MethodName := ⟨RX1, "draw", "(I)I"⟩
def dkwX1_draw_1 : List UInt8 := [112, 172]
abbrev dktX1_draw_1 : List UInt8 := dkwX1_draw_1 ++ []
def dkwX1_draw_0 : List UInt8 := [42, 42, 180, 1, 127, 19, 1, 130, 104, 17, 48, 57, 96, 181, 1, 127, 42, 180, 1, 127, 16, 8, 124, 27]
abbrev dktX1_draw_0 : List UInt8 := dkwX1_draw_0 ++ dktX1_draw_1
theorem dksX1_draw_0 : cX1_draw.data.toList.drop 0 = dktX1_draw_0 := by decide +kernel
theorem dksX1_draw_1 : cX1_draw.data.toList.drop 24 = dktX1_draw_1 := dk_seg dksX1_draw_0 24 rfl rfl
theorem dX1_draw_0 : decode cX1_draw 0 = .ok (.aload_n 0, 1) := dk_42 (dk_at dksX1_draw_0 0 rfl rfl)
theorem dX1_draw_1 : decode cX1_draw 1 = .ok (.aload_n 0, 1) := dk_42 (dk_at dksX1_draw_0 1 rfl rfl)
theorem dX1_draw_2 : decode cX1_draw 2 = .ok (.getfield 383, 3) := dk_180 1 127 (dk_at dksX1_draw_0 2 rfl rfl)
theorem dX1_draw_5 : decode cX1_draw 5 = .ok (.ldc_w 386, 3) := dk_19 1 130 (dk_at dksX1_draw_0 5 rfl rfl)
theorem dX1_draw_8 : decode cX1_draw 8 = .ok (.imul, 1) := dk_104 (dk_at dksX1_draw_0 8 rfl rfl)
theorem dX1_draw_9 : decode cX1_draw 9 = .ok (.sipush 12345, 3) := dk_17 48 57 (dk_at dksX1_draw_0 9 rfl rfl)
theorem dX1_draw_12 : decode cX1_draw 12 = .ok (.iadd, 1) := dk_96 (dk_at dksX1_draw_0 12 rfl rfl)
theorem dX1_draw_13 : decode cX1_draw 13 = .ok (.putfield 383, 3) := dk_181 1 127 (dk_at dksX1_draw_0 13 rfl rfl)
theorem dX1_draw_16 : decode cX1_draw 16 = .ok (.aload_n 0, 1) := dk_42 (dk_at dksX1_draw_0 16 rfl rfl)
theorem dX1_draw_17 : decode cX1_draw 17 = .ok (.getfield 383, 3) := dk_180 1 127 (dk_at dksX1_draw_0 17 rfl rfl)
theorem dX1_draw_20 : decode cX1_draw 20 = .ok (.bipush 8, 2) := dk_16 8 (dk_at dksX1_draw_0 20 rfl rfl)
theorem dX1_draw_22 : decode cX1_draw 22 = .ok (.iushr, 1) := dk_124 (dk_at dksX1_draw_0 22 rfl rfl)
theorem dX1_draw_23 : decode cX1_draw 23 = .ok (.iload_n 1, 1) := dk_27 (dk_at dksX1_draw_0 23 rfl rfl)
theorem dX1_draw_24 : decode cX1_draw 24 = .ok (.irem, 1) := dk_112 (dk_at dksX1_draw_1 0 rfl rfl)
theorem dX1_draw_25 : decode cX1_draw 25 = .ok (.ireturn, 1) := dk_172 (dk_at dksX1_draw_1 1 rfl rfl)
abbrev cX1_rarest : ByteArray := prog_1_method_55_code
def yX1_rarest : MethodName := ⟨RX1, "rarest", "()I"⟩
def dkwX1_rarest_2 : List UInt8 := [132, 2, 1, 167, 255, 211, 27, 172]
abbrev dktX1_rarest_2 : List UInt8 := dkwX1_rarest_2 ++ []
def dkwX1_rarest_1 : List UInt8 := [180, 0, 30, 180, 0, 190, 28, 46, 42, 180, 0, 30, 180, 0, 190, 27, 46, 162, 0, 5, 28, 60]
abbrev dktX1_rarest_1 : List UInt8 := dkwX1_rarest_1 ++ dktX1_rarest_2
def dkwX1_rarest_0 : List UInt8 := [2, 60, 3, 61, 28, 42, 180, 0, 19, 180, 0, 144, 182, 0, 148, 162, 0, 37, 27, 2, 159, 0, 24, 42]
abbrev dktX1_rarest_0 : List UInt8 := dkwX1_rarest_0 ++ dktX1_rarest_1
theorem dksX1_rarest_0 : cX1_rarest.data.toList.drop 0 = dktX1_rarest_0 := by decide +kernel
theorem dksX1_rarest_1 : cX1_rarest.data.toList.drop 24 = dktX1_rarest_1 := dk_seg dksX1_rarest_0 24 rfl rfl
theorem dksX1_rarest_2 : cX1_rarest.data.toList.drop 46 = dktX1_rarest_2 := dk_seg dksX1_rarest_1 22 rfl rfl
theorem dX1_rarest_0 : decode cX1_rarest 0 = .ok (.iconst (-1), 1) := dk_2 (dk_at dksX1_rarest_0 0 rfl rfl)
theorem dX1_rarest_1 : decode cX1_rarest 1 = .ok (.istore_n 1, 1) := dk_60 (dk_at dksX1_rarest_0 1 rfl rfl)
theorem dX1_rarest_2 : decode cX1_rarest 2 = .ok (.iconst 0, 1) := dk_3 (dk_at dksX1_rarest_0 2 rfl rfl)
theorem dX1_rarest_3 : decode cX1_rarest 3 = .ok (.istore_n 2, 1) := dk_61 (dk_at dksX1_rarest_0 3 rfl rfl)
theorem dX1_rarest_4 : decode cX1_rarest 4 = .ok (.iload_n 2, 1) := dk_28 (dk_at dksX1_rarest_0 4 rfl rfl)
theorem dX1_rarest_5 : decode cX1_rarest 5 = .ok (.aload_n 0, 1) := dk_42 (dk_at dksX1_rarest_0 5 rfl rfl)
theorem dX1_rarest_6 : decode cX1_rarest 6 = .ok (.getfield 19, 3) := dk_180 0 19 (dk_at dksX1_rarest_0 6 rfl rfl)
theorem dX1_rarest_9 : decode cX1_rarest 9 = .ok (.getfield 144, 3) := dk_180 0 144 (dk_at dksX1_rarest_0 9 rfl rfl)
theorem dX1_rarest_12 : decode cX1_rarest 12 = .ok (.invokevirtual 148, 3) := dk_182 0 148 (dk_at dksX1_rarest_0 12 rfl rfl)
theorem dX1_rarest_15 : decode cX1_rarest 15 = .ok (.if_icmp .ge 37, 3) := dk_162 0 37 (dk_at dksX1_rarest_0 15 rfl rfl)
theorem dX1_rarest_18 : decode cX1_rarest 18 = .ok (.iload_n 1, 1) := dk_27 (dk_at dksX1_rarest_0 18 rfl rfl)
theorem dX1_rarest_19 : decode cX1_rarest 19 = .ok (.iconst (-1), 1) := dk_2 (dk_at dksX1_rarest_0 19 rfl rfl)
theorem dX1_rarest_20 : decode cX1_rarest 20 = .ok (.if_icmp .eq 24, 3) := dk_159 0 24 (dk_at dksX1_rarest_0 20 rfl rfl)
theorem dX1_rarest_23 : decode cX1_rarest 23 = .ok (.aload_n 0, 1) := dk_42 (dk_at dksX1_rarest_0 23 rfl rfl)
theorem dX1_rarest_24 : decode cX1_rarest 24 = .ok (.getfield 30, 3) := dk_180 0 30 (dk_at dksX1_rarest_1 0 rfl rfl)
theorem dX1_rarest_27 : decode cX1_rarest 27 = .ok (.getfield 190, 3) := dk_180 0 190 (dk_at dksX1_rarest_1 3 rfl rfl)
theorem dX1_rarest_30 : decode cX1_rarest 30 = .ok (.iload_n 2, 1) := dk_28 (dk_at dksX1_rarest_1 6 rfl rfl)
theorem dX1_rarest_31 : decode cX1_rarest 31 = .ok (.iaload, 1) := dk_46 (dk_at dksX1_rarest_1 7 rfl rfl)
theorem dX1_rarest_32 : decode cX1_rarest 32 = .ok (.aload_n 0, 1) := dk_42 (dk_at dksX1_rarest_1 8 rfl rfl)
theorem dX1_rarest_33 : decode cX1_rarest 33 = .ok (.getfield 30, 3) := dk_180 0 30 (dk_at dksX1_rarest_1 9 rfl rfl)
theorem dX1_rarest_36 : decode cX1_rarest 36 = .ok (.getfield 190, 3) := dk_180 0 190 (dk_at dksX1_rarest_1 12 rfl rfl)
theorem dX1_rarest_39 : decode cX1_rarest 39 = .ok (.iload_n 1, 1) := dk_27 (dk_at dksX1_rarest_1 15 rfl rfl)
theorem dX1_rarest_40 : decode cX1_rarest 40 = .ok (.iaload, 1) := dk_46 (dk_at dksX1_rarest_1 16 rfl rfl)
theorem dX1_rarest_41 : decode cX1_rarest 41 = .ok (.if_icmp .ge 5, 3) := dk_162 0 5 (dk_at dksX1_rarest_1 17 rfl rfl)
theorem dX1_rarest_44 : decode cX1_rarest 44 = .ok (.iload_n 2, 1) := dk_28 (dk_at dksX1_rarest_1 20 rfl rfl)
theorem dX1_rarest_45 : decode cX1_rarest 45 = .ok (.istore_n 1, 1) := dk_60 (dk_at dksX1_rarest_1 21 rfl rfl)
theorem dX1_rarest_46 : decode cX1_rarest 46 = .ok (.iinc 2 1, 3) := dk_132 2 1 (dk_at dksX1_rarest_2 0 rfl rfl)
theorem dX1_rarest_49 : decode cX1_rarest 49 = .ok (.goto (-45), 3) := dk_167 255 211 (dk_at dksX1_rarest_2 3 rfl rfl)
theorem dX1_rarest_52 : decode cX1_rarest 52 = .ok (.iload_n 1, 1) := dk_27 (dk_at dksX1_rarest_2 6 rfl rfl)
theorem dX1_rarest_53 : decode cX1_rarest 53 = .ok (.ireturn, 1) := dk_172 (dk_at dksX1_rarest_2 7 rfl rfl)
abbrev cX1_sentence : ByteArray := prog_1_method_56_code
def yX1_sentence : MethodName := ⟨RX1, "sentence", "()I"⟩
def dkwX1_sentence_2 : List UInt8 := [181, 0, 114, 2, 44, 180, 0, 141, 100, 172]
abbrev dktX1_sentence_2 : List UInt8 := dkwX1_sentence_2 ++ []
def dkwX1_sentence_1 : List UInt8 := [183, 1, 145, 77, 42, 44, 182, 1, 146, 181, 0, 126, 44, 180, 1, 149, 172, 77, 42, 44, 180, 0, 138]
abbrev dktX1_sentence_1 : List UInt8 := dkwX1_sentence_1 ++ dktX1_sentence_2
def dkwX1_sentence_0 : List UInt8 := [42, 182, 0, 110, 60, 42, 3, 181, 0, 114, 187, 1, 143, 89, 42, 180, 0, 12, 27, 42, 180, 0, 19]
abbrev dktX1_sentence_0 : List UInt8 := dkwX1_sentence_0 ++ dktX1_sentence_1
theorem dksX1_sentence_0 : cX1_sentence.data.toList.drop 0 = dktX1_sentence_0 := by decide +kernel
theorem dksX1_sentence_1 : cX1_sentence.data.toList.drop 23 = dktX1_sentence_1 := dk_seg dksX1_sentence_0 23 rfl rfl
theorem dksX1_sentence_2 : cX1_sentence.data.toList.drop 46 = dktX1_sentence_2 := dk_seg dksX1_sentence_1 23 rfl rfl
theorem dX1_sentence_0 : decode cX1_sentence 0 = .ok (.aload_n 0, 1) := dk_42 (dk_at dksX1_sentence_0 0 rfl rfl)
theorem dX1_sentence_1 : decode cX1_sentence 1 = .ok (.invokevirtual 110, 3) := dk_182 0 110 (dk_at dksX1_sentence_0 1 rfl rfl)
theorem dX1_sentence_4 : decode cX1_sentence 4 = .ok (.istore_n 1, 1) := dk_60 (dk_at dksX1_sentence_0 4 rfl rfl)
theorem dX1_sentence_5 : decode cX1_sentence 5 = .ok (.aload_n 0, 1) := dk_42 (dk_at dksX1_sentence_0 5 rfl rfl)
theorem dX1_sentence_6 : decode cX1_sentence 6 = .ok (.iconst 0, 1) := dk_3 (dk_at dksX1_sentence_0 6 rfl rfl)
theorem dX1_sentence_7 : decode cX1_sentence 7 = .ok (.putfield 114, 3) := dk_181 0 114 (dk_at dksX1_sentence_0 7 rfl rfl)
theorem dX1_sentence_10 : decode cX1_sentence 10 = .ok (.new 399, 3) := dk_187 1 143 (dk_at dksX1_sentence_0 10 rfl rfl)
theorem dX1_sentence_13 : decode cX1_sentence 13 = .ok (.dup, 1) := dk_89 (dk_at dksX1_sentence_0 13 rfl rfl)
theorem dX1_sentence_14 : decode cX1_sentence 14 = .ok (.aload_n 0, 1) := dk_42 (dk_at dksX1_sentence_0 14 rfl rfl)
theorem dX1_sentence_15 : decode cX1_sentence 15 = .ok (.getfield 12, 3) := dk_180 0 12 (dk_at dksX1_sentence_0 15 rfl rfl)
theorem dX1_sentence_18 : decode cX1_sentence 18 = .ok (.iload_n 1, 1) := dk_27 (dk_at dksX1_sentence_0 18 rfl rfl)
theorem dX1_sentence_19 : decode cX1_sentence 19 = .ok (.aload_n 0, 1) := dk_42 (dk_at dksX1_sentence_0 19 rfl rfl)
theorem dX1_sentence_20 : decode cX1_sentence 20 = .ok (.getfield 19, 3) := dk_180 0 19 (dk_at dksX1_sentence_0 20 rfl rfl)
theorem dX1_sentence_23 : decode cX1_sentence 23 = .ok (.invokespecial 401, 3) := dk_183 1 145 (dk_at dksX1_sentence_1 0 rfl rfl)
theorem dX1_sentence_26 : decode cX1_sentence 26 = .ok (.astore_n 2, 1) := dk_77 (dk_at dksX1_sentence_1 3 rfl rfl)
theorem dX1_sentence_27 : decode cX1_sentence 27 = .ok (.aload_n 0, 1) := dk_42 (dk_at dksX1_sentence_1 4 rfl rfl)
theorem dX1_sentence_28 : decode cX1_sentence 28 = .ok (.aload_n 2, 1) := dk_44 (dk_at dksX1_sentence_1 5 rfl rfl)
theorem dX1_sentence_29 : decode cX1_sentence 29 = .ok (.invokevirtual 402, 3) := dk_182 1 146 (dk_at dksX1_sentence_1 6 rfl rfl)
theorem dX1_sentence_32 : decode cX1_sentence 32 = .ok (.putfield 126, 3) := dk_181 0 126 (dk_at dksX1_sentence_1 9 rfl rfl)
theorem dX1_sentence_35 : decode cX1_sentence 35 = .ok (.aload_n 2, 1) := dk_44 (dk_at dksX1_sentence_1 12 rfl rfl)
theorem dX1_sentence_36 : decode cX1_sentence 36 = .ok (.getfield 405, 3) := dk_180 1 149 (dk_at dksX1_sentence_1 13 rfl rfl)
theorem dX1_sentence_39 : decode cX1_sentence 39 = .ok (.ireturn, 1) := dk_172 (dk_at dksX1_sentence_1 16 rfl rfl)
theorem dX1_sentence_40 : decode cX1_sentence 40 = .ok (.astore_n 2, 1) := dk_77 (dk_at dksX1_sentence_1 17 rfl rfl)
theorem dX1_sentence_41 : decode cX1_sentence 41 = .ok (.aload_n 0, 1) := dk_42 (dk_at dksX1_sentence_1 18 rfl rfl)
theorem dX1_sentence_42 : decode cX1_sentence 42 = .ok (.aload_n 2, 1) := dk_44 (dk_at dksX1_sentence_1 19 rfl rfl)
theorem dX1_sentence_43 : decode cX1_sentence 43 = .ok (.getfield 138, 3) := dk_180 0 138 (dk_at dksX1_sentence_1 20 rfl rfl)
theorem dX1_sentence_46 : decode cX1_sentence 46 = .ok (.putfield 114, 3) := dk_181 0 114 (dk_at dksX1_sentence_2 0 rfl rfl)
theorem dX1_sentence_49 : decode cX1_sentence 49 = .ok (.iconst (-1), 1) := dk_2 (dk_at dksX1_sentence_2 3 rfl rfl)
theorem dX1_sentence_50 : decode cX1_sentence 50 = .ok (.aload_n 2, 1) := dk_44 (dk_at dksX1_sentence_2 4 rfl rfl)
theorem dX1_sentence_51 : decode cX1_sentence 51 = .ok (.getfield 141, 3) := dk_180 0 141 (dk_at dksX1_sentence_2 5 rfl rfl)
theorem dX1_sentence_54 : decode cX1_sentence 54 = .ok (.isub, 1) := dk_100 (dk_at dksX1_sentence_2 8 rfl rfl)
theorem dX1_sentence_55 : decode cX1_sentence 55 = .ok (.ireturn, 1) := dk_172 (dk_at dksX1_sentence_2 9 rfl rfl)
abbrev cX1_said : ByteArray := prog_1_method_57_code
def yX1_said : MethodName := ⟨RX1, "said", "(I)I"⟩
def dkwX1_said_3 : List UInt8 := [172]
abbrev dktX1_said_3 : List UInt8 := dkwX1_said_3 ++ []
def dkwX1_said_2 : List UInt8 := [160, 0, 5, 29, 172, 132, 2, 1, 132, 3, 1, 167, 255, 211, 27, 2, 160, 0, 7, 28, 167, 0, 4, 2]
abbrev dktX1_said_2 : List UInt8 := dkwX1_said_2 ++ dktX1_said_3
def dkwX1_said_1 : List UInt8 := [162, 0, 37, 42, 180, 0, 126, 42, 180, 0, 30, 29, 182, 1, 152, 154, 0, 6, 167, 0, 13, 28, 27]
abbrev dktX1_said_1 : List UInt8 := dkwX1_said_1 ++ dktX1_said_2
def dkwX1_said_0 : List UInt8 := [42, 180, 0, 126, 199, 0, 5, 2, 172, 3, 61, 3, 62, 29, 42, 180, 0, 19, 180, 0, 144, 182, 0, 148]
abbrev dktX1_said_0 : List UInt8 := dkwX1_said_0 ++ dktX1_said_1
theorem dksX1_said_0 : cX1_said.data.toList.drop 0 = dktX1_said_0 := by decide +kernel
theorem dksX1_said_1 : cX1_said.data.toList.drop 24 = dktX1_said_1 := dk_seg dksX1_said_0 24 rfl rfl
theorem dksX1_said_2 : cX1_said.data.toList.drop 47 = dktX1_said_2 := dk_seg dksX1_said_1 23 rfl rfl
theorem dksX1_said_3 : cX1_said.data.toList.drop 71 = dktX1_said_3 := dk_seg dksX1_said_2 24 rfl rfl
theorem dX1_said_0 : decode cX1_said 0 = .ok (.aload_n 0, 1) := dk_42 (dk_at dksX1_said_0 0 rfl rfl)
theorem dX1_said_1 : decode cX1_said 1 = .ok (.getfield 126, 3) := dk_180 0 126 (dk_at dksX1_said_0 1 rfl rfl)
theorem dX1_said_4 : decode cX1_said 4 = .ok (.ifnonnull 5, 3) := dk_199 0 5 (dk_at dksX1_said_0 4 rfl rfl)
theorem dX1_said_7 : decode cX1_said 7 = .ok (.iconst (-1), 1) := dk_2 (dk_at dksX1_said_0 7 rfl rfl)
theorem dX1_said_8 : decode cX1_said 8 = .ok (.ireturn, 1) := dk_172 (dk_at dksX1_said_0 8 rfl rfl)
theorem dX1_said_9 : decode cX1_said 9 = .ok (.iconst 0, 1) := dk_3 (dk_at dksX1_said_0 9 rfl rfl)
theorem dX1_said_10 : decode cX1_said 10 = .ok (.istore_n 2, 1) := dk_61 (dk_at dksX1_said_0 10 rfl rfl)
theorem dX1_said_11 : decode cX1_said 11 = .ok (.iconst 0, 1) := dk_3 (dk_at dksX1_said_0 11 rfl rfl)
theorem dX1_said_12 : decode cX1_said 12 = .ok (.istore_n 3, 1) := dk_62 (dk_at dksX1_said_0 12 rfl rfl)
theorem dX1_said_13 : decode cX1_said 13 = .ok (.iload_n 3, 1) := dk_29 (dk_at dksX1_said_0 13 rfl rfl)
theorem dX1_said_14 : decode cX1_said 14 = .ok (.aload_n 0, 1) := dk_42 (dk_at dksX1_said_0 14 rfl rfl)
theorem dX1_said_15 : decode cX1_said 15 = .ok (.getfield 19, 3) := dk_180 0 19 (dk_at dksX1_said_0 15 rfl rfl)
theorem dX1_said_18 : decode cX1_said 18 = .ok (.getfield 144, 3) := dk_180 0 144 (dk_at dksX1_said_0 18 rfl rfl)
theorem dX1_said_21 : decode cX1_said 21 = .ok (.invokevirtual 148, 3) := dk_182 0 148 (dk_at dksX1_said_0 21 rfl rfl)
theorem dX1_said_24 : decode cX1_said 24 = .ok (.if_icmp .ge 37, 3) := dk_162 0 37 (dk_at dksX1_said_1 0 rfl rfl)
theorem dX1_said_27 : decode cX1_said 27 = .ok (.aload_n 0, 1) := dk_42 (dk_at dksX1_said_1 3 rfl rfl)
theorem dX1_said_28 : decode cX1_said 28 = .ok (.getfield 126, 3) := dk_180 0 126 (dk_at dksX1_said_1 4 rfl rfl)
theorem dX1_said_31 : decode cX1_said 31 = .ok (.aload_n 0, 1) := dk_42 (dk_at dksX1_said_1 7 rfl rfl)
theorem dX1_said_32 : decode cX1_said 32 = .ok (.getfield 30, 3) := dk_180 0 30 (dk_at dksX1_said_1 8 rfl rfl)
theorem dX1_said_35 : decode cX1_said 35 = .ok (.iload_n 3, 1) := dk_29 (dk_at dksX1_said_1 11 rfl rfl)
theorem dX1_said_36 : decode cX1_said 36 = .ok (.invokevirtual 408, 3) := dk_182 1 152 (dk_at dksX1_said_1 12 rfl rfl)
theorem dX1_said_39 : decode cX1_said 39 = .ok (.ifCond .ne 6, 3) := dk_154 0 6 (dk_at dksX1_said_1 15 rfl rfl)
theorem dX1_said_42 : decode cX1_said 42 = .ok (.goto 13, 3) := dk_167 0 13 (dk_at dksX1_said_1 18 rfl rfl)
theorem dX1_said_45 : decode cX1_said 45 = .ok (.iload_n 2, 1) := dk_28 (dk_at dksX1_said_1 21 rfl rfl)
theorem dX1_said_46 : decode cX1_said 46 = .ok (.iload_n 1, 1) := dk_27 (dk_at dksX1_said_1 22 rfl rfl)
theorem dX1_said_47 : decode cX1_said 47 = .ok (.if_icmp .ne 5, 3) := dk_160 0 5 (dk_at dksX1_said_2 0 rfl rfl)
theorem dX1_said_50 : decode cX1_said 50 = .ok (.iload_n 3, 1) := dk_29 (dk_at dksX1_said_2 3 rfl rfl)
theorem dX1_said_51 : decode cX1_said 51 = .ok (.ireturn, 1) := dk_172 (dk_at dksX1_said_2 4 rfl rfl)
theorem dX1_said_52 : decode cX1_said 52 = .ok (.iinc 2 1, 3) := dk_132 2 1 (dk_at dksX1_said_2 5 rfl rfl)
theorem dX1_said_55 : decode cX1_said 55 = .ok (.iinc 3 1, 3) := dk_132 3 1 (dk_at dksX1_said_2 8 rfl rfl)
theorem dX1_said_58 : decode cX1_said 58 = .ok (.goto (-45), 3) := dk_167 255 211 (dk_at dksX1_said_2 11 rfl rfl)
theorem dX1_said_61 : decode cX1_said 61 = .ok (.iload_n 1, 1) := dk_27 (dk_at dksX1_said_2 14 rfl rfl)
theorem dX1_said_62 : decode cX1_said 62 = .ok (.iconst (-1), 1) := dk_2 (dk_at dksX1_said_2 15 rfl rfl)
theorem dX1_said_63 : decode cX1_said 63 = .ok (.if_icmp .ne 7, 3) := dk_160 0 7 (dk_at dksX1_said_2 16 rfl rfl)
theorem dX1_said_66 : decode cX1_said 66 = .ok (.iload_n 2, 1) := dk_28 (dk_at dksX1_said_2 19 rfl rfl)
theorem dX1_said_67 : decode cX1_said 67 = .ok (.goto 4, 3) := dk_167 0 4 (dk_at dksX1_said_2 20 rfl rfl)
theorem dX1_said_70 : decode cX1_said 70 = .ok (.iconst (-1), 1) := dk_2 (dk_at dksX1_said_2 23 rfl rfl)
theorem dX1_said_71 : decode cX1_said 71 = .ok (.ireturn, 1) := dk_172 (dk_at dksX1_said_3 0 rfl rfl)
abbrev cX1_image : ByteArray := prog_1_method_58_code
def yX1_image : MethodName := ⟨RX1, "image", "(I)Z"⟩
def dkwX1_image_2 : List UInt8 := [180, 0, 30, 182, 0, 231, 87, 4, 172]
abbrev dktX1_image_2 : List UInt8 := dkwX1_image_2 ++ []
def dkwX1_image_1 : List UInt8 := [42, 180, 0, 99, 27, 50, 42, 180, 0, 126, 181, 1, 159, 42, 180, 0, 99, 27, 50, 180, 1, 160, 42]
abbrev dktX1_image_1 : List UInt8 := dkwX1_image_1 ++ dktX1_image_2
def dkwX1_image_0 : List UInt8 := [27, 3, 4, 184, 0, 153, 154, 0, 5, 3, 172, 42, 180, 0, 99, 27, 50, 42, 180, 0, 19, 181, 1, 158]
abbrev dktX1_image_0 : List UInt8 := dkwX1_image_0 ++ dktX1_image_1
theorem dksX1_image_0 : cX1_image.data.toList.drop 0 = dktX1_image_0 := by decide +kernel
theorem dksX1_image_1 : cX1_image.data.toList.drop 24 = dktX1_image_1 := dk_seg dksX1_image_0 24 rfl rfl
theorem dksX1_image_2 : cX1_image.data.toList.drop 47 = dktX1_image_2 := dk_seg dksX1_image_1 23 rfl rfl
theorem dX1_image_0 : decode cX1_image 0 = .ok (.iload_n 1, 1) := dk_27 (dk_at dksX1_image_0 0 rfl rfl)
theorem dX1_image_1 : decode cX1_image 1 = .ok (.iconst 0, 1) := dk_3 (dk_at dksX1_image_0 1 rfl rfl)
theorem dX1_image_2 : decode cX1_image 2 = .ok (.iconst 1, 1) := dk_4 (dk_at dksX1_image_0 2 rfl rfl)
theorem dX1_image_3 : decode cX1_image 3 = .ok (.invokestatic 153, 3) := dk_184 0 153 (dk_at dksX1_image_0 3 rfl rfl)
theorem dX1_image_6 : decode cX1_image 6 = .ok (.ifCond .ne 5, 3) := dk_154 0 5 (dk_at dksX1_image_0 6 rfl rfl)
theorem dX1_image_9 : decode cX1_image 9 = .ok (.iconst 0, 1) := dk_3 (dk_at dksX1_image_0 9 rfl rfl)
theorem dX1_image_10 : decode cX1_image 10 = .ok (.ireturn, 1) := dk_172 (dk_at dksX1_image_0 10 rfl rfl)
theorem dX1_image_11 : decode cX1_image 11 = .ok (.aload_n 0, 1) := dk_42 (dk_at dksX1_image_0 11 rfl rfl)
theorem dX1_image_12 : decode cX1_image 12 = .ok (.getfield 99, 3) := dk_180 0 99 (dk_at dksX1_image_0 12 rfl rfl)
theorem dX1_image_15 : decode cX1_image 15 = .ok (.iload_n 1, 1) := dk_27 (dk_at dksX1_image_0 15 rfl rfl)
theorem dX1_image_16 : decode cX1_image 16 = .ok (.aaload, 1) := dk_50 (dk_at dksX1_image_0 16 rfl rfl)
theorem dX1_image_17 : decode cX1_image 17 = .ok (.aload_n 0, 1) := dk_42 (dk_at dksX1_image_0 17 rfl rfl)
theorem dX1_image_18 : decode cX1_image 18 = .ok (.getfield 19, 3) := dk_180 0 19 (dk_at dksX1_image_0 18 rfl rfl)
theorem dX1_image_21 : decode cX1_image 21 = .ok (.putfield 414, 3) := dk_181 1 158 (dk_at dksX1_image_0 21 rfl rfl)
theorem dX1_image_24 : decode cX1_image 24 = .ok (.aload_n 0, 1) := dk_42 (dk_at dksX1_image_1 0 rfl rfl)
theorem dX1_image_25 : decode cX1_image 25 = .ok (.getfield 99, 3) := dk_180 0 99 (dk_at dksX1_image_1 1 rfl rfl)
theorem dX1_image_28 : decode cX1_image 28 = .ok (.iload_n 1, 1) := dk_27 (dk_at dksX1_image_1 4 rfl rfl)
theorem dX1_image_29 : decode cX1_image 29 = .ok (.aaload, 1) := dk_50 (dk_at dksX1_image_1 5 rfl rfl)
theorem dX1_image_30 : decode cX1_image 30 = .ok (.aload_n 0, 1) := dk_42 (dk_at dksX1_image_1 6 rfl rfl)
theorem dX1_image_31 : decode cX1_image 31 = .ok (.getfield 126, 3) := dk_180 0 126 (dk_at dksX1_image_1 7 rfl rfl)
theorem dX1_image_34 : decode cX1_image 34 = .ok (.putfield 415, 3) := dk_181 1 159 (dk_at dksX1_image_1 10 rfl rfl)
theorem dX1_image_37 : decode cX1_image 37 = .ok (.aload_n 0, 1) := dk_42 (dk_at dksX1_image_1 13 rfl rfl)
theorem dX1_image_38 : decode cX1_image 38 = .ok (.getfield 99, 3) := dk_180 0 99 (dk_at dksX1_image_1 14 rfl rfl)
theorem dX1_image_41 : decode cX1_image 41 = .ok (.iload_n 1, 1) := dk_27 (dk_at dksX1_image_1 17 rfl rfl)
theorem dX1_image_42 : decode cX1_image 42 = .ok (.aaload, 1) := dk_50 (dk_at dksX1_image_1 18 rfl rfl)
theorem dX1_image_43 : decode cX1_image 43 = .ok (.getfield 416, 3) := dk_180 1 160 (dk_at dksX1_image_1 19 rfl rfl)
theorem dX1_image_46 : decode cX1_image 46 = .ok (.aload_n 0, 1) := dk_42 (dk_at dksX1_image_1 22 rfl rfl)
theorem dX1_image_47 : decode cX1_image 47 = .ok (.getfield 30, 3) := dk_180 0 30 (dk_at dksX1_image_2 0 rfl rfl)
theorem dX1_image_50 : decode cX1_image 50 = .ok (.invokevirtual 231, 3) := dk_182 0 231 (dk_at dksX1_image_2 3 rfl rfl)
theorem dX1_image_53 : decode cX1_image 53 = .ok (.pop, 1) := dk_87 (dk_at dksX1_image_2 6 rfl rfl)
theorem dX1_image_54 : decode cX1_image 54 = .ok (.iconst 1, 1) := dk_4 (dk_at dksX1_image_2 7 rfl rfl)
theorem dX1_image_55 : decode cX1_image 55 = .ok (.ireturn, 1) := dk_172 (dk_at dksX1_image_2 8 rfl rfl)
abbrev cX1_restore : ByteArray := prog_1_method_59_code
def yX1_restore : MethodName := ⟨RX1, "restore", "(I)Z"⟩
def dkwX1_restore_3 : List UInt8 := [181, 0, 130, 4, 172]
abbrev dktX1_restore_3 : List UInt8 := dkwX1_restore_3 ++ []
def dkwX1_restore_2 : List UInt8 := [181, 0, 126, 42, 180, 0, 30, 42, 180, 0, 99, 27, 50, 180, 1, 160, 182, 0, 231, 87, 42, 3]
abbrev dktX1_restore_2 : List UInt8 := dkwX1_restore_2 ++ dktX1_restore_3
def dkwX1_restore_1 : List UInt8 := [42, 180, 0, 99, 27, 50, 180, 1, 158, 181, 0, 19, 42, 42, 180, 0, 99, 27, 50, 180, 1, 159]
abbrev dktX1_restore_1 : List UInt8 := dkwX1_restore_1 ++ dktX1_restore_2
def dkwX1_restore_0 : List UInt8 := [27, 3, 4, 184, 0, 153, 153, 0, 15, 42, 180, 0, 99, 27, 50, 180, 1, 158, 199, 0, 5, 3, 172, 42]
abbrev dktX1_restore_0 : List UInt8 := dkwX1_restore_0 ++ dktX1_restore_1
theorem dksX1_restore_0 : cX1_restore.data.toList.drop 0 = dktX1_restore_0 := by decide +kernel
theorem dksX1_restore_1 : cX1_restore.data.toList.drop 24 = dktX1_restore_1 := dk_seg dksX1_restore_0 24 rfl rfl
theorem dksX1_restore_2 : cX1_restore.data.toList.drop 46 = dktX1_restore_2 := dk_seg dksX1_restore_1 22 rfl rfl
theorem dksX1_restore_3 : cX1_restore.data.toList.drop 68 = dktX1_restore_3 := dk_seg dksX1_restore_2 22 rfl rfl
theorem dX1_restore_0 : decode cX1_restore 0 = .ok (.iload_n 1, 1) := dk_27 (dk_at dksX1_restore_0 0 rfl rfl)
theorem dX1_restore_1 : decode cX1_restore 1 = .ok (.iconst 0, 1) := dk_3 (dk_at dksX1_restore_0 1 rfl rfl)
theorem dX1_restore_2 : decode cX1_restore 2 = .ok (.iconst 1, 1) := dk_4 (dk_at dksX1_restore_0 2 rfl rfl)
theorem dX1_restore_3 : decode cX1_restore 3 = .ok (.invokestatic 153, 3) := dk_184 0 153 (dk_at dksX1_restore_0 3 rfl rfl)
theorem dX1_restore_6 : decode cX1_restore 6 = .ok (.ifCond .eq 15, 3) := dk_153 0 15 (dk_at dksX1_restore_0 6 rfl rfl)
theorem dX1_restore_9 : decode cX1_restore 9 = .ok (.aload_n 0, 1) := dk_42 (dk_at dksX1_restore_0 9 rfl rfl)
theorem dX1_restore_10 : decode cX1_restore 10 = .ok (.getfield 99, 3) := dk_180 0 99 (dk_at dksX1_restore_0 10 rfl rfl)
theorem dX1_restore_13 : decode cX1_restore 13 = .ok (.iload_n 1, 1) := dk_27 (dk_at dksX1_restore_0 13 rfl rfl)
theorem dX1_restore_14 : decode cX1_restore 14 = .ok (.aaload, 1) := dk_50 (dk_at dksX1_restore_0 14 rfl rfl)
theorem dX1_restore_15 : decode cX1_restore 15 = .ok (.getfield 414, 3) := dk_180 1 158 (dk_at dksX1_restore_0 15 rfl rfl)
theorem dX1_restore_18 : decode cX1_restore 18 = .ok (.ifnonnull 5, 3) := dk_199 0 5 (dk_at dksX1_restore_0 18 rfl rfl)
theorem dX1_restore_21 : decode cX1_restore 21 = .ok (.iconst 0, 1) := dk_3 (dk_at dksX1_restore_0 21 rfl rfl)
theorem dX1_restore_22 : decode cX1_restore 22 = .ok (.ireturn, 1) := dk_172 (dk_at dksX1_restore_0 22 rfl rfl)
theorem dX1_restore_23 : decode cX1_restore 23 = .ok (.aload_n 0, 1) := dk_42 (dk_at dksX1_restore_0 23 rfl rfl)
theorem dX1_restore_24 : decode cX1_restore 24 = .ok (.aload_n 0, 1) := dk_42 (dk_at dksX1_restore_1 0 rfl rfl)
theorem dX1_restore_25 : decode cX1_restore 25 = .ok (.getfield 99, 3) := dk_180 0 99 (dk_at dksX1_restore_1 1 rfl rfl)
theorem dX1_restore_28 : decode cX1_restore 28 = .ok (.iload_n 1, 1) := dk_27 (dk_at dksX1_restore_1 4 rfl rfl)
theorem dX1_restore_29 : decode cX1_restore 29 = .ok (.aaload, 1) := dk_50 (dk_at dksX1_restore_1 5 rfl rfl)
theorem dX1_restore_30 : decode cX1_restore 30 = .ok (.getfield 414, 3) := dk_180 1 158 (dk_at dksX1_restore_1 6 rfl rfl)
theorem dX1_restore_33 : decode cX1_restore 33 = .ok (.putfield 19, 3) := dk_181 0 19 (dk_at dksX1_restore_1 9 rfl rfl)
theorem dX1_restore_36 : decode cX1_restore 36 = .ok (.aload_n 0, 1) := dk_42 (dk_at dksX1_restore_1 12 rfl rfl)
theorem dX1_restore_37 : decode cX1_restore 37 = .ok (.aload_n 0, 1) := dk_42 (dk_at dksX1_restore_1 13 rfl rfl)
theorem dX1_restore_38 : decode cX1_restore 38 = .ok (.getfield 99, 3) := dk_180 0 99 (dk_at dksX1_restore_1 14 rfl rfl)
theorem dX1_restore_41 : decode cX1_restore 41 = .ok (.iload_n 1, 1) := dk_27 (dk_at dksX1_restore_1 17 rfl rfl)
theorem dX1_restore_42 : decode cX1_restore 42 = .ok (.aaload, 1) := dk_50 (dk_at dksX1_restore_1 18 rfl rfl)
theorem dX1_restore_43 : decode cX1_restore 43 = .ok (.getfield 415, 3) := dk_180 1 159 (dk_at dksX1_restore_1 19 rfl rfl)
theorem dX1_restore_46 : decode cX1_restore 46 = .ok (.putfield 126, 3) := dk_181 0 126 (dk_at dksX1_restore_2 0 rfl rfl)
theorem dX1_restore_49 : decode cX1_restore 49 = .ok (.aload_n 0, 1) := dk_42 (dk_at dksX1_restore_2 3 rfl rfl)
theorem dX1_restore_50 : decode cX1_restore 50 = .ok (.getfield 30, 3) := dk_180 0 30 (dk_at dksX1_restore_2 4 rfl rfl)
theorem dX1_restore_53 : decode cX1_restore 53 = .ok (.aload_n 0, 1) := dk_42 (dk_at dksX1_restore_2 7 rfl rfl)
theorem dX1_restore_54 : decode cX1_restore 54 = .ok (.getfield 99, 3) := dk_180 0 99 (dk_at dksX1_restore_2 8 rfl rfl)
theorem dX1_restore_57 : decode cX1_restore 57 = .ok (.iload_n 1, 1) := dk_27 (dk_at dksX1_restore_2 11 rfl rfl)
theorem dX1_restore_58 : decode cX1_restore 58 = .ok (.aaload, 1) := dk_50 (dk_at dksX1_restore_2 12 rfl rfl)
theorem dX1_restore_59 : decode cX1_restore 59 = .ok (.getfield 416, 3) := dk_180 1 160 (dk_at dksX1_restore_2 13 rfl rfl)
theorem dX1_restore_62 : decode cX1_restore 62 = .ok (.invokevirtual 231, 3) := dk_182 0 231 (dk_at dksX1_restore_2 16 rfl rfl)
theorem dX1_restore_65 : decode cX1_restore 65 = .ok (.pop, 1) := dk_87 (dk_at dksX1_restore_2 19 rfl rfl)
theorem dX1_restore_66 : decode cX1_restore 66 = .ok (.aload_n 0, 1) := dk_42 (dk_at dksX1_restore_2 20 rfl rfl)
theorem dX1_restore_67 : decode cX1_restore 67 = .ok (.iconst 0, 1) := dk_3 (dk_at dksX1_restore_2 21 rfl rfl)
theorem dX1_restore_68 : decode cX1_restore 68 = .ok (.putfield 130, 3) := dk_181 0 130 (dk_at dksX1_restore_3 0 rfl rfl)
theorem dX1_restore_71 : decode cX1_restore 71 = .ok (.iconst 1, 1) := dk_4 (dk_at dksX1_restore_3 3 rfl rfl)
theorem dX1_restore_72 : decode cX1_restore 72 = .ok (.ireturn, 1) := dk_172 (dk_at dksX1_restore_3 4 rfl rfl)
abbrev cX1_count : ByteArray := prog_1_method_60_code
def yX1_count : MethodName := ⟨RX1, "count", "(I)I"⟩
def dkwX1_count_5 : List UInt8 := [180, 0, 242, 172, 42, 180, 0, 103, 172, 2, 172]
abbrev dktX1_count_5 : List UInt8 := dkwX1_count_5 ++ []
def dkwX1_count_4 : List UInt8 := [180, 0, 19, 180, 1, 109, 182, 0, 148, 172, 42, 180, 0, 19, 180, 1, 6, 172, 42, 180, 0, 30]
abbrev dktX1_count_4 : List UInt8 := dkwX1_count_4 ++ dktX1_count_5
def dkwX1_count_3 : List UInt8 := [182, 0, 148, 172, 42, 180, 0, 19, 180, 0, 157, 182, 0, 148, 172, 42, 180, 0, 19, 180, 1, 163, 172, 42]
abbrev dktX1_count_3 : List UInt8 := dkwX1_count_3 ++ dktX1_count_4
def dkwX1_count_2 : List UInt8 := [42, 180, 0, 19, 180, 1, 137, 172, 42, 180, 0, 19, 180, 1, 140, 172, 42, 180, 0, 19, 180, 0, 144]
abbrev dktX1_count_2 : List UInt8 := dkwX1_count_2 ++ dktX1_count_3
def dkwX1_count_1 : List UInt8 := [170, 0, 0, 0, 0, 0, 129, 0, 0, 0, 0, 0, 0, 0, 8, 0, 0, 0, 51, 0, 0, 0, 59, 0, 0, 0, 67, 0, 0, 0, 78, 0, 0, 0, 89, 0, 0, 0, 97, 0, 0, 0, 108, 0, 0, 0, 116, 0, 0, 0, 124]
abbrev dktX1_count_1 : List UInt8 := dkwX1_count_1 ++ dktX1_count_2
def dkwX1_count_0 : List UInt8 := [27]
abbrev dktX1_count_0 : List UInt8 := dkwX1_count_0 ++ dktX1_count_1
theorem dksX1_count_0 : cX1_count.data.toList.drop 0 = dktX1_count_0 := by decide +kernel
theorem dksX1_count_1 : cX1_count.data.toList.drop 1 = dktX1_count_1 := dk_seg dksX1_count_0 1 rfl rfl
theorem dksX1_count_2 : cX1_count.data.toList.drop 52 = dktX1_count_2 := dk_seg dksX1_count_1 51 rfl rfl
theorem dksX1_count_3 : cX1_count.data.toList.drop 75 = dktX1_count_3 := dk_seg dksX1_count_2 23 rfl rfl
theorem dksX1_count_4 : cX1_count.data.toList.drop 99 = dktX1_count_4 := dk_seg dksX1_count_3 24 rfl rfl
theorem dksX1_count_5 : cX1_count.data.toList.drop 121 = dktX1_count_5 := dk_seg dksX1_count_4 22 rfl rfl
theorem dX1_count_0 : decode cX1_count 0 = .ok (.iload_n 1, 1) := dk_27 (dk_at dksX1_count_0 0 rfl rfl)
theorem dX1_count_1 : decode cX1_count 1 = .ok (.tableswitch 129 0 8 #[51, 59, 67, 78, 89, 97, 108, 116, 124], 51) := by decide +kernel
theorem dX1_count_52 : decode cX1_count 52 = .ok (.aload_n 0, 1) := dk_42 (dk_at dksX1_count_2 0 rfl rfl)
theorem dX1_count_53 : decode cX1_count 53 = .ok (.getfield 19, 3) := dk_180 0 19 (dk_at dksX1_count_2 1 rfl rfl)
theorem dX1_count_56 : decode cX1_count 56 = .ok (.getfield 393, 3) := dk_180 1 137 (dk_at dksX1_count_2 4 rfl rfl)
theorem dX1_count_59 : decode cX1_count 59 = .ok (.ireturn, 1) := dk_172 (dk_at dksX1_count_2 7 rfl rfl)
theorem dX1_count_60 : decode cX1_count 60 = .ok (.aload_n 0, 1) := dk_42 (dk_at dksX1_count_2 8 rfl rfl)
theorem dX1_count_61 : decode cX1_count 61 = .ok (.getfield 19, 3) := dk_180 0 19 (dk_at dksX1_count_2 9 rfl rfl)
theorem dX1_count_64 : decode cX1_count 64 = .ok (.getfield 396, 3) := dk_180 1 140 (dk_at dksX1_count_2 12 rfl rfl)
theorem dX1_count_67 : decode cX1_count 67 = .ok (.ireturn, 1) := dk_172 (dk_at dksX1_count_2 15 rfl rfl)
theorem dX1_count_68 : decode cX1_count 68 = .ok (.aload_n 0, 1) := dk_42 (dk_at dksX1_count_2 16 rfl rfl)
theorem dX1_count_69 : decode cX1_count 69 = .ok (.getfield 19, 3) := dk_180 0 19 (dk_at dksX1_count_2 17 rfl rfl)
theorem dX1_count_72 : decode cX1_count 72 = .ok (.getfield 144, 3) := dk_180 0 144 (dk_at dksX1_count_2 20 rfl rfl)
theorem dX1_count_75 : decode cX1_count 75 = .ok (.invokevirtual 148, 3) := dk_182 0 148 (dk_at dksX1_count_3 0 rfl rfl)
theorem dX1_count_78 : decode cX1_count 78 = .ok (.ireturn, 1) := dk_172 (dk_at dksX1_count_3 3 rfl rfl)
theorem dX1_count_79 : decode cX1_count 79 = .ok (.aload_n 0, 1) := dk_42 (dk_at dksX1_count_3 4 rfl rfl)
theorem dX1_count_80 : decode cX1_count 80 = .ok (.getfield 19, 3) := dk_180 0 19 (dk_at dksX1_count_3 5 rfl rfl)
theorem dX1_count_83 : decode cX1_count 83 = .ok (.getfield 157, 3) := dk_180 0 157 (dk_at dksX1_count_3 8 rfl rfl)
theorem dX1_count_86 : decode cX1_count 86 = .ok (.invokevirtual 148, 3) := dk_182 0 148 (dk_at dksX1_count_3 11 rfl rfl)
theorem dX1_count_89 : decode cX1_count 89 = .ok (.ireturn, 1) := dk_172 (dk_at dksX1_count_3 14 rfl rfl)
theorem dX1_count_90 : decode cX1_count 90 = .ok (.aload_n 0, 1) := dk_42 (dk_at dksX1_count_3 15 rfl rfl)
theorem dX1_count_91 : decode cX1_count 91 = .ok (.getfield 19, 3) := dk_180 0 19 (dk_at dksX1_count_3 16 rfl rfl)
theorem dX1_count_94 : decode cX1_count 94 = .ok (.getfield 419, 3) := dk_180 1 163 (dk_at dksX1_count_3 19 rfl rfl)
theorem dX1_count_97 : decode cX1_count 97 = .ok (.ireturn, 1) := dk_172 (dk_at dksX1_count_3 22 rfl rfl)
theorem dX1_count_98 : decode cX1_count 98 = .ok (.aload_n 0, 1) := dk_42 (dk_at dksX1_count_3 23 rfl rfl)
theorem dX1_count_99 : decode cX1_count 99 = .ok (.getfield 19, 3) := dk_180 0 19 (dk_at dksX1_count_4 0 rfl rfl)
theorem dX1_count_102 : decode cX1_count 102 = .ok (.getfield 365, 3) := dk_180 1 109 (dk_at dksX1_count_4 3 rfl rfl)
theorem dX1_count_105 : decode cX1_count 105 = .ok (.invokevirtual 148, 3) := dk_182 0 148 (dk_at dksX1_count_4 6 rfl rfl)
theorem dX1_count_108 : decode cX1_count 108 = .ok (.ireturn, 1) := dk_172 (dk_at dksX1_count_4 9 rfl rfl)
theorem dX1_count_109 : decode cX1_count 109 = .ok (.aload_n 0, 1) := dk_42 (dk_at dksX1_count_4 10 rfl rfl)
theorem dX1_count_110 : decode cX1_count 110 = .ok (.getfield 19, 3) := dk_180 0 19 (dk_at dksX1_count_4 11 rfl rfl)
theorem dX1_count_113 : decode cX1_count 113 = .ok (.getfield 262, 3) := dk_180 1 6 (dk_at dksX1_count_4 14 rfl rfl)
theorem dX1_count_116 : decode cX1_count 116 = .ok (.ireturn, 1) := dk_172 (dk_at dksX1_count_4 17 rfl rfl)
theorem dX1_count_117 : decode cX1_count 117 = .ok (.aload_n 0, 1) := dk_42 (dk_at dksX1_count_4 18 rfl rfl)
theorem dX1_count_118 : decode cX1_count 118 = .ok (.getfield 30, 3) := dk_180 0 30 (dk_at dksX1_count_4 19 rfl rfl)
theorem dX1_count_121 : decode cX1_count 121 = .ok (.getfield 242, 3) := dk_180 0 242 (dk_at dksX1_count_5 0 rfl rfl)
theorem dX1_count_124 : decode cX1_count 124 = .ok (.ireturn, 1) := dk_172 (dk_at dksX1_count_5 3 rfl rfl)
theorem dX1_count_125 : decode cX1_count 125 = .ok (.aload_n 0, 1) := dk_42 (dk_at dksX1_count_5 4 rfl rfl)
theorem dX1_count_126 : decode cX1_count 126 = .ok (.getfield 103, 3) := dk_180 0 103 (dk_at dksX1_count_5 5 rfl rfl)
theorem dX1_count_129 : decode cX1_count 129 = .ok (.ireturn, 1) := dk_172 (dk_at dksX1_count_5 8 rfl rfl)
theorem dX1_count_130 : decode cX1_count 130 = .ok (.iconst (-1), 1) := dk_2 (dk_at dksX1_count_5 9 rfl rfl)
theorem dX1_count_131 : decode cX1_count 131 = .ok (.ireturn, 1) := dk_172 (dk_at dksX1_count_5 10 rfl rfl)
abbrev cX1_person : ByteArray := prog_1_method_14_code
def yX1_person : MethodName := ⟨RX1, "person", "(II)I"⟩
def dkwX1_person_4 : List UInt8 := [42, 180, 0, 30, 27, 182, 0, 187, 172, 42, 180, 0, 30, 180, 0, 190, 27, 46, 172]
abbrev dktX1_person_4 : List UInt8 := dkwX1_person_4 ++ []
def dkwX1_person_3 : List UInt8 := [45, 180, 0, 174, 172, 45, 180, 0, 177, 172, 45, 180, 0, 180, 172, 42, 180, 0, 30, 27, 182, 0, 183, 172]
abbrev dktX1_person_3 : List UInt8 := dkwX1_person_3 ++ dktX1_person_4
def dkwX1_person_2 : List UInt8 := [170, 0, 0, 0, 0, 0, 68, 0, 0, 0, 0, 0, 0, 0, 4, 0, 0, 0, 35, 0, 0, 0, 40, 0, 0, 0, 45, 0, 0, 0, 50, 0, 0, 0, 59]
abbrev dktX1_person_2 : List UInt8 := dkwX1_person_2 ++ dktX1_person_3
def dkwX1_person_1 : List UInt8 := [184, 0, 164, 42, 180, 0, 19, 180, 0, 144, 27, 182, 0, 168, 192, 0, 172, 78, 28]
abbrev dktX1_person_1 : List UInt8 := dkwX1_person_1 ++ dktX1_person_2
def dkwX1_person_0 : List UInt8 := [42, 27, 182, 0, 160, 153, 0, 16, 28, 3, 8, 184, 0, 153, 153, 0, 7, 4, 167, 0, 4, 3]
abbrev dktX1_person_0 : List UInt8 := dkwX1_person_0 ++ dktX1_person_1
theorem dksX1_person_0 : cX1_person.data.toList.drop 0 = dktX1_person_0 := by decide +kernel
theorem dksX1_person_1 : cX1_person.data.toList.drop 22 = dktX1_person_1 := dk_seg dksX1_person_0 22 rfl rfl
theorem dksX1_person_2 : cX1_person.data.toList.drop 41 = dktX1_person_2 := dk_seg dksX1_person_1 19 rfl rfl
theorem dksX1_person_3 : cX1_person.data.toList.drop 76 = dktX1_person_3 := dk_seg dksX1_person_2 35 rfl rfl
theorem dksX1_person_4 : cX1_person.data.toList.drop 100 = dktX1_person_4 := dk_seg dksX1_person_3 24 rfl rfl
theorem dX1_person_0 : decode cX1_person 0 = .ok (.aload_n 0, 1) := dk_42 (dk_at dksX1_person_0 0 rfl rfl)
theorem dX1_person_1 : decode cX1_person 1 = .ok (.iload_n 1, 1) := dk_27 (dk_at dksX1_person_0 1 rfl rfl)
theorem dX1_person_2 : decode cX1_person 2 = .ok (.invokevirtual 160, 3) := dk_182 0 160 (dk_at dksX1_person_0 2 rfl rfl)
theorem dX1_person_5 : decode cX1_person 5 = .ok (.ifCond .eq 16, 3) := dk_153 0 16 (dk_at dksX1_person_0 5 rfl rfl)
theorem dX1_person_8 : decode cX1_person 8 = .ok (.iload_n 2, 1) := dk_28 (dk_at dksX1_person_0 8 rfl rfl)
theorem dX1_person_9 : decode cX1_person 9 = .ok (.iconst 0, 1) := dk_3 (dk_at dksX1_person_0 9 rfl rfl)
theorem dX1_person_10 : decode cX1_person 10 = .ok (.iconst 5, 1) := dk_8 (dk_at dksX1_person_0 10 rfl rfl)
theorem dX1_person_11 : decode cX1_person 11 = .ok (.invokestatic 153, 3) := dk_184 0 153 (dk_at dksX1_person_0 11 rfl rfl)
theorem dX1_person_14 : decode cX1_person 14 = .ok (.ifCond .eq 7, 3) := dk_153 0 7 (dk_at dksX1_person_0 14 rfl rfl)
theorem dX1_person_17 : decode cX1_person 17 = .ok (.iconst 1, 1) := dk_4 (dk_at dksX1_person_0 17 rfl rfl)
theorem dX1_person_18 : decode cX1_person 18 = .ok (.goto 4, 3) := dk_167 0 4 (dk_at dksX1_person_0 18 rfl rfl)
theorem dX1_person_21 : decode cX1_person 21 = .ok (.iconst 0, 1) := dk_3 (dk_at dksX1_person_0 21 rfl rfl)
theorem dX1_person_22 : decode cX1_person 22 = .ok (.invokestatic 164, 3) := dk_184 0 164 (dk_at dksX1_person_1 0 rfl rfl)
theorem dX1_person_25 : decode cX1_person 25 = .ok (.aload_n 0, 1) := dk_42 (dk_at dksX1_person_1 3 rfl rfl)
theorem dX1_person_26 : decode cX1_person 26 = .ok (.getfield 19, 3) := dk_180 0 19 (dk_at dksX1_person_1 4 rfl rfl)
theorem dX1_person_29 : decode cX1_person 29 = .ok (.getfield 144, 3) := dk_180 0 144 (dk_at dksX1_person_1 7 rfl rfl)
theorem dX1_person_32 : decode cX1_person 32 = .ok (.iload_n 1, 1) := dk_27 (dk_at dksX1_person_1 10 rfl rfl)
theorem dX1_person_33 : decode cX1_person 33 = .ok (.invokevirtual 168, 3) := dk_182 0 168 (dk_at dksX1_person_1 11 rfl rfl)
theorem dX1_person_36 : decode cX1_person 36 = .ok (.checkcast 172, 3) := dk_192 0 172 (dk_at dksX1_person_1 14 rfl rfl)
theorem dX1_person_39 : decode cX1_person 39 = .ok (.astore_n 3, 1) := dk_78 (dk_at dksX1_person_1 17 rfl rfl)
theorem dX1_person_40 : decode cX1_person 40 = .ok (.iload_n 2, 1) := dk_28 (dk_at dksX1_person_1 18 rfl rfl)
theorem dX1_person_41 : decode cX1_person 41 = .ok (.tableswitch 68 0 4 #[35, 40, 45, 50, 59], 35) := by decide +kernel
theorem dX1_person_76 : decode cX1_person 76 = .ok (.aload_n 3, 1) := dk_45 (dk_at dksX1_person_3 0 rfl rfl)
theorem dX1_person_77 : decode cX1_person 77 = .ok (.getfield 174, 3) := dk_180 0 174 (dk_at dksX1_person_3 1 rfl rfl)
theorem dX1_person_80 : decode cX1_person 80 = .ok (.ireturn, 1) := dk_172 (dk_at dksX1_person_3 4 rfl rfl)
theorem dX1_person_81 : decode cX1_person 81 = .ok (.aload_n 3, 1) := dk_45 (dk_at dksX1_person_3 5 rfl rfl)
theorem dX1_person_82 : decode cX1_person 82 = .ok (.getfield 177, 3) := dk_180 0 177 (dk_at dksX1_person_3 6 rfl rfl)
theorem dX1_person_85 : decode cX1_person 85 = .ok (.ireturn, 1) := dk_172 (dk_at dksX1_person_3 9 rfl rfl)
theorem dX1_person_86 : decode cX1_person 86 = .ok (.aload_n 3, 1) := dk_45 (dk_at dksX1_person_3 10 rfl rfl)
theorem dX1_person_87 : decode cX1_person 87 = .ok (.getfield 180, 3) := dk_180 0 180 (dk_at dksX1_person_3 11 rfl rfl)
theorem dX1_person_90 : decode cX1_person 90 = .ok (.ireturn, 1) := dk_172 (dk_at dksX1_person_3 14 rfl rfl)
theorem dX1_person_91 : decode cX1_person 91 = .ok (.aload_n 0, 1) := dk_42 (dk_at dksX1_person_3 15 rfl rfl)
theorem dX1_person_92 : decode cX1_person 92 = .ok (.getfield 30, 3) := dk_180 0 30 (dk_at dksX1_person_3 16 rfl rfl)
theorem dX1_person_95 : decode cX1_person 95 = .ok (.iload_n 1, 1) := dk_27 (dk_at dksX1_person_3 19 rfl rfl)
theorem dX1_person_96 : decode cX1_person 96 = .ok (.invokevirtual 183, 3) := dk_182 0 183 (dk_at dksX1_person_3 20 rfl rfl)
theorem dX1_person_99 : decode cX1_person 99 = .ok (.ireturn, 1) := dk_172 (dk_at dksX1_person_3 23 rfl rfl)
theorem dX1_person_100 : decode cX1_person 100 = .ok (.aload_n 0, 1) := dk_42 (dk_at dksX1_person_4 0 rfl rfl)
theorem dX1_person_101 : decode cX1_person 101 = .ok (.getfield 30, 3) := dk_180 0 30 (dk_at dksX1_person_4 1 rfl rfl)
theorem dX1_person_104 : decode cX1_person 104 = .ok (.iload_n 1, 1) := dk_27 (dk_at dksX1_person_4 4 rfl rfl)
theorem dX1_person_105 : decode cX1_person 105 = .ok (.invokevirtual 187, 3) := dk_182 0 187 (dk_at dksX1_person_4 5 rfl rfl)
theorem dX1_person_108 : decode cX1_person 108 = .ok (.ireturn, 1) := dk_172 (dk_at dksX1_person_4 8 rfl rfl)
theorem dX1_person_109 : decode cX1_person 109 = .ok (.aload_n 0, 1) := dk_42 (dk_at dksX1_person_4 9 rfl rfl)
theorem dX1_person_110 : decode cX1_person 110 = .ok (.getfield 30, 3) := dk_180 0 30 (dk_at dksX1_person_4 10 rfl rfl)
theorem dX1_person_113 : decode cX1_person 113 = .ok (.getfield 190, 3) := dk_180 0 190 (dk_at dksX1_person_4 13 rfl rfl)
theorem dX1_person_116 : decode cX1_person 116 = .ok (.iload_n 1, 1) := dk_27 (dk_at dksX1_person_4 16 rfl rfl)
theorem dX1_person_117 : decode cX1_person 117 = .ok (.iaload, 1) := dk_46 (dk_at dksX1_person_4 17 rfl rfl)
theorem dX1_person_118 : decode cX1_person 118 = .ok (.ireturn, 1) := dk_172 (dk_at dksX1_person_4 18 rfl rfl)
abbrev cX1_need : ByteArray := prog_1_method_3_code
def yX1_need : MethodName := ⟨RX1, "need", "(Z)V"⟩
def dkwX1_need_0 : List UInt8 := [26, 154, 0, 11, 187, 0, 3, 89, 183, 0, 5, 191, 177]
abbrev dktX1_need_0 : List UInt8 := dkwX1_need_0 ++ []
theorem dksX1_need_0 : cX1_need.data.toList.drop 0 = dktX1_need_0 := by decide +kernel
theorem dX1_need_0 : decode cX1_need 0 = .ok (.iload_n 0, 1) := dk_26 (dk_at dksX1_need_0 0 rfl rfl)
theorem dX1_need_1 : decode cX1_need 1 = .ok (.ifCond .ne 11, 3) := dk_154 0 11 (dk_at dksX1_need_0 1 rfl rfl)
theorem dX1_need_4 : decode cX1_need 4 = .ok (.new 3, 3) := dk_187 0 3 (dk_at dksX1_need_0 4 rfl rfl)
theorem dX1_need_7 : decode cX1_need 7 = .ok (.dup, 1) := dk_89 (dk_at dksX1_need_0 7 rfl rfl)
theorem dX1_need_8 : decode cX1_need 8 = .ok (.invokespecial 5, 3) := dk_183 0 5 (dk_at dksX1_need_0 8 rfl rfl)
theorem dX1_need_11 : decode cX1_need 11 = .ok (.athrow, 1) := dk_191 (dk_at dksX1_need_0 11 rfl rfl)
theorem dX1_need_12 : decode cX1_need 12 = .ok (.return_, 1) := dk_177 (dk_at dksX1_need_0 12 rfl rfl)
abbrev cX1_tuft : ByteArray := prog_1_method_15_code
def yX1_tuft : MethodName := ⟨RX1, "tuft", "(II)I"⟩
def dkwX1_tuft_6 : List UInt8 := [4, 167, 0, 4, 3, 172, 42, 180, 0, 19, 180, 0, 217, 27, 51, 153, 0, 7, 4, 167, 0, 4, 3, 172]
abbrev dktX1_tuft_6 : List UInt8 := dkwX1_tuft_6 ++ []
def dkwX1_tuft_5 : List UInt8 := [46, 172, 42, 180, 0, 30, 180, 0, 211, 27, 46, 172, 42, 180, 0, 19, 180, 0, 214, 27, 51, 153, 0, 7]
abbrev dktX1_tuft_5 : List UInt8 := dkwX1_tuft_5 ++ dktX1_tuft_6
def dkwX1_tuft_4 : List UInt8 := [180, 0, 203, 27, 46, 172, 42, 180, 0, 30, 180, 0, 206, 27, 46, 172, 42, 180, 0, 30, 180, 0, 208, 27]
abbrev dktX1_tuft_4 : List UInt8 := dkwX1_tuft_4 ++ dktX1_tuft_5
def dkwX1_tuft_3 : List UInt8 := [42, 180, 0, 30, 27, 182, 0, 196, 172, 42, 180, 0, 30, 27, 2, 182, 0, 199, 172, 42, 180, 0, 30]
abbrev dktX1_tuft_3 : List UInt8 := dkwX1_tuft_3 ++ dktX1_tuft_4
def dkwX1_tuft_2 : List UInt8 := [170, 0, 0, 0, 0, 119, 0, 0, 0, 0, 0, 0, 0, 6, 0, 0, 0, 42, 0, 0, 0, 51, 0, 0, 0, 61, 0, 0, 0, 71, 0, 0, 0, 81, 0, 0, 0, 91, 0, 0, 0, 101]
abbrev dktX1_tuft_2 : List UInt8 := dkwX1_tuft_2 ++ dktX1_tuft_3
def dkwX1_tuft_1 : List UInt8 := [167, 0, 4, 3, 184, 0, 164, 28]
abbrev dktX1_tuft_1 : List UInt8 := dkwX1_tuft_1 ++ dktX1_tuft_2
def dkwX1_tuft_0 : List UInt8 := [42, 180, 0, 19, 27, 182, 0, 193, 153, 0, 17, 28, 3, 16, 7, 184, 0, 153, 153, 0, 7, 4]
abbrev dktX1_tuft_0 : List UInt8 := dkwX1_tuft_0 ++ dktX1_tuft_1
theorem dksX1_tuft_0 : cX1_tuft.data.toList.drop 0 = dktX1_tuft_0 := by decide +kernel
theorem dksX1_tuft_1 : cX1_tuft.data.toList.drop 22 = dktX1_tuft_1 := dk_seg dksX1_tuft_0 22 rfl rfl
theorem dksX1_tuft_2 : cX1_tuft.data.toList.drop 30 = dktX1_tuft_2 := dk_seg dksX1_tuft_1 8 rfl rfl
theorem dksX1_tuft_3 : cX1_tuft.data.toList.drop 72 = dktX1_tuft_3 := dk_seg dksX1_tuft_2 42 rfl rfl
theorem dksX1_tuft_4 : cX1_tuft.data.toList.drop 95 = dktX1_tuft_4 := dk_seg dksX1_tuft_3 23 rfl rfl
theorem dksX1_tuft_5 : cX1_tuft.data.toList.drop 119 = dktX1_tuft_5 := dk_seg dksX1_tuft_4 24 rfl rfl
theorem dksX1_tuft_6 : cX1_tuft.data.toList.drop 143 = dktX1_tuft_6 := dk_seg dksX1_tuft_5 24 rfl rfl
theorem dX1_tuft_0 : decode cX1_tuft 0 = .ok (.aload_n 0, 1) := dk_42 (dk_at dksX1_tuft_0 0 rfl rfl)
theorem dX1_tuft_1 : decode cX1_tuft 1 = .ok (.getfield 19, 3) := dk_180 0 19 (dk_at dksX1_tuft_0 1 rfl rfl)
theorem dX1_tuft_4 : decode cX1_tuft 4 = .ok (.iload_n 1, 1) := dk_27 (dk_at dksX1_tuft_0 4 rfl rfl)
theorem dX1_tuft_5 : decode cX1_tuft 5 = .ok (.invokevirtual 193, 3) := dk_182 0 193 (dk_at dksX1_tuft_0 5 rfl rfl)
theorem dX1_tuft_8 : decode cX1_tuft 8 = .ok (.ifCond .eq 17, 3) := dk_153 0 17 (dk_at dksX1_tuft_0 8 rfl rfl)
theorem dX1_tuft_11 : decode cX1_tuft 11 = .ok (.iload_n 2, 1) := dk_28 (dk_at dksX1_tuft_0 11 rfl rfl)
theorem dX1_tuft_12 : decode cX1_tuft 12 = .ok (.iconst 0, 1) := dk_3 (dk_at dksX1_tuft_0 12 rfl rfl)
theorem dX1_tuft_13 : decode cX1_tuft 13 = .ok (.bipush 7, 2) := dk_16 7 (dk_at dksX1_tuft_0 13 rfl rfl)
theorem dX1_tuft_15 : decode cX1_tuft 15 = .ok (.invokestatic 153, 3) := dk_184 0 153 (dk_at dksX1_tuft_0 15 rfl rfl)
theorem dX1_tuft_18 : decode cX1_tuft 18 = .ok (.ifCond .eq 7, 3) := dk_153 0 7 (dk_at dksX1_tuft_0 18 rfl rfl)
theorem dX1_tuft_21 : decode cX1_tuft 21 = .ok (.iconst 1, 1) := dk_4 (dk_at dksX1_tuft_0 21 rfl rfl)
theorem dX1_tuft_22 : decode cX1_tuft 22 = .ok (.goto 4, 3) := dk_167 0 4 (dk_at dksX1_tuft_1 0 rfl rfl)
theorem dX1_tuft_25 : decode cX1_tuft 25 = .ok (.iconst 0, 1) := dk_3 (dk_at dksX1_tuft_1 3 rfl rfl)
theorem dX1_tuft_26 : decode cX1_tuft 26 = .ok (.invokestatic 164, 3) := dk_184 0 164 (dk_at dksX1_tuft_1 4 rfl rfl)
theorem dX1_tuft_29 : decode cX1_tuft 29 = .ok (.iload_n 2, 1) := dk_28 (dk_at dksX1_tuft_1 7 rfl rfl)
theorem dX1_tuft_30 : decode cX1_tuft 30 = .ok (.tableswitch 119 0 6 #[42, 51, 61, 71, 81, 91, 101], 42) := by decide +kernel
theorem dX1_tuft_72 : decode cX1_tuft 72 = .ok (.aload_n 0, 1) := dk_42 (dk_at dksX1_tuft_3 0 rfl rfl)
theorem dX1_tuft_73 : decode cX1_tuft 73 = .ok (.getfield 30, 3) := dk_180 0 30 (dk_at dksX1_tuft_3 1 rfl rfl)
theorem dX1_tuft_76 : decode cX1_tuft 76 = .ok (.iload_n 1, 1) := dk_27 (dk_at dksX1_tuft_3 4 rfl rfl)
theorem dX1_tuft_77 : decode cX1_tuft 77 = .ok (.invokevirtual 196, 3) := dk_182 0 196 (dk_at dksX1_tuft_3 5 rfl rfl)
theorem dX1_tuft_80 : decode cX1_tuft 80 = .ok (.ireturn, 1) := dk_172 (dk_at dksX1_tuft_3 8 rfl rfl)
theorem dX1_tuft_81 : decode cX1_tuft 81 = .ok (.aload_n 0, 1) := dk_42 (dk_at dksX1_tuft_3 9 rfl rfl)
theorem dX1_tuft_82 : decode cX1_tuft 82 = .ok (.getfield 30, 3) := dk_180 0 30 (dk_at dksX1_tuft_3 10 rfl rfl)
theorem dX1_tuft_85 : decode cX1_tuft 85 = .ok (.iload_n 1, 1) := dk_27 (dk_at dksX1_tuft_3 13 rfl rfl)
theorem dX1_tuft_86 : decode cX1_tuft 86 = .ok (.iconst (-1), 1) := dk_2 (dk_at dksX1_tuft_3 14 rfl rfl)
theorem dX1_tuft_87 : decode cX1_tuft 87 = .ok (.invokevirtual 199, 3) := dk_182 0 199 (dk_at dksX1_tuft_3 15 rfl rfl)
theorem dX1_tuft_90 : decode cX1_tuft 90 = .ok (.ireturn, 1) := dk_172 (dk_at dksX1_tuft_3 18 rfl rfl)
theorem dX1_tuft_91 : decode cX1_tuft 91 = .ok (.aload_n 0, 1) := dk_42 (dk_at dksX1_tuft_3 19 rfl rfl)
theorem dX1_tuft_92 : decode cX1_tuft 92 = .ok (.getfield 30, 3) := dk_180 0 30 (dk_at dksX1_tuft_3 20 rfl rfl)
theorem dX1_tuft_95 : decode cX1_tuft 95 = .ok (.getfield 203, 3) := dk_180 0 203 (dk_at dksX1_tuft_4 0 rfl rfl)
theorem dX1_tuft_98 : decode cX1_tuft 98 = .ok (.iload_n 1, 1) := dk_27 (dk_at dksX1_tuft_4 3 rfl rfl)
theorem dX1_tuft_99 : decode cX1_tuft 99 = .ok (.iaload, 1) := dk_46 (dk_at dksX1_tuft_4 4 rfl rfl)
theorem dX1_tuft_100 : decode cX1_tuft 100 = .ok (.ireturn, 1) := dk_172 (dk_at dksX1_tuft_4 5 rfl rfl)
theorem dX1_tuft_101 : decode cX1_tuft 101 = .ok (.aload_n 0, 1) := dk_42 (dk_at dksX1_tuft_4 6 rfl rfl)
theorem dX1_tuft_102 : decode cX1_tuft 102 = .ok (.getfield 30, 3) := dk_180 0 30 (dk_at dksX1_tuft_4 7 rfl rfl)
theorem dX1_tuft_105 : decode cX1_tuft 105 = .ok (.getfield 206, 3) := dk_180 0 206 (dk_at dksX1_tuft_4 10 rfl rfl)
theorem dX1_tuft_108 : decode cX1_tuft 108 = .ok (.iload_n 1, 1) := dk_27 (dk_at dksX1_tuft_4 13 rfl rfl)
theorem dX1_tuft_109 : decode cX1_tuft 109 = .ok (.iaload, 1) := dk_46 (dk_at dksX1_tuft_4 14 rfl rfl)
theorem dX1_tuft_110 : decode cX1_tuft 110 = .ok (.ireturn, 1) := dk_172 (dk_at dksX1_tuft_4 15 rfl rfl)
theorem dX1_tuft_111 : decode cX1_tuft 111 = .ok (.aload_n 0, 1) := dk_42 (dk_at dksX1_tuft_4 16 rfl rfl)
theorem dX1_tuft_112 : decode cX1_tuft 112 = .ok (.getfield 30, 3) := dk_180 0 30 (dk_at dksX1_tuft_4 17 rfl rfl)
theorem dX1_tuft_115 : decode cX1_tuft 115 = .ok (.getfield 208, 3) := dk_180 0 208 (dk_at dksX1_tuft_4 20 rfl rfl)
theorem dX1_tuft_118 : decode cX1_tuft 118 = .ok (.iload_n 1, 1) := dk_27 (dk_at dksX1_tuft_4 23 rfl rfl)
theorem dX1_tuft_119 : decode cX1_tuft 119 = .ok (.iaload, 1) := dk_46 (dk_at dksX1_tuft_5 0 rfl rfl)
theorem dX1_tuft_120 : decode cX1_tuft 120 = .ok (.ireturn, 1) := dk_172 (dk_at dksX1_tuft_5 1 rfl rfl)
theorem dX1_tuft_121 : decode cX1_tuft 121 = .ok (.aload_n 0, 1) := dk_42 (dk_at dksX1_tuft_5 2 rfl rfl)
theorem dX1_tuft_122 : decode cX1_tuft 122 = .ok (.getfield 30, 3) := dk_180 0 30 (dk_at dksX1_tuft_5 3 rfl rfl)
theorem dX1_tuft_125 : decode cX1_tuft 125 = .ok (.getfield 211, 3) := dk_180 0 211 (dk_at dksX1_tuft_5 6 rfl rfl)
theorem dX1_tuft_128 : decode cX1_tuft 128 = .ok (.iload_n 1, 1) := dk_27 (dk_at dksX1_tuft_5 9 rfl rfl)
theorem dX1_tuft_129 : decode cX1_tuft 129 = .ok (.iaload, 1) := dk_46 (dk_at dksX1_tuft_5 10 rfl rfl)
theorem dX1_tuft_130 : decode cX1_tuft 130 = .ok (.ireturn, 1) := dk_172 (dk_at dksX1_tuft_5 11 rfl rfl)
theorem dX1_tuft_131 : decode cX1_tuft 131 = .ok (.aload_n 0, 1) := dk_42 (dk_at dksX1_tuft_5 12 rfl rfl)
theorem dX1_tuft_132 : decode cX1_tuft 132 = .ok (.getfield 19, 3) := dk_180 0 19 (dk_at dksX1_tuft_5 13 rfl rfl)
theorem dX1_tuft_135 : decode cX1_tuft 135 = .ok (.getfield 214, 3) := dk_180 0 214 (dk_at dksX1_tuft_5 16 rfl rfl)
theorem dX1_tuft_138 : decode cX1_tuft 138 = .ok (.iload_n 1, 1) := dk_27 (dk_at dksX1_tuft_5 19 rfl rfl)
theorem dX1_tuft_139 : decode cX1_tuft 139 = .ok (.baload, 1) := dk_51 (dk_at dksX1_tuft_5 20 rfl rfl)
theorem dX1_tuft_140 : decode cX1_tuft 140 = .ok (.ifCond .eq 7, 3) := dk_153 0 7 (dk_at dksX1_tuft_5 21 rfl rfl)
theorem dX1_tuft_143 : decode cX1_tuft 143 = .ok (.iconst 1, 1) := dk_4 (dk_at dksX1_tuft_6 0 rfl rfl)
theorem dX1_tuft_144 : decode cX1_tuft 144 = .ok (.goto 4, 3) := dk_167 0 4 (dk_at dksX1_tuft_6 1 rfl rfl)
theorem dX1_tuft_147 : decode cX1_tuft 147 = .ok (.iconst 0, 1) := dk_3 (dk_at dksX1_tuft_6 4 rfl rfl)
theorem dX1_tuft_148 : decode cX1_tuft 148 = .ok (.ireturn, 1) := dk_172 (dk_at dksX1_tuft_6 5 rfl rfl)
theorem dX1_tuft_149 : decode cX1_tuft 149 = .ok (.aload_n 0, 1) := dk_42 (dk_at dksX1_tuft_6 6 rfl rfl)
theorem dX1_tuft_150 : decode cX1_tuft 150 = .ok (.getfield 19, 3) := dk_180 0 19 (dk_at dksX1_tuft_6 7 rfl rfl)
theorem dX1_tuft_153 : decode cX1_tuft 153 = .ok (.getfield 217, 3) := dk_180 0 217 (dk_at dksX1_tuft_6 10 rfl rfl)
theorem dX1_tuft_156 : decode cX1_tuft 156 = .ok (.iload_n 1, 1) := dk_27 (dk_at dksX1_tuft_6 13 rfl rfl)
theorem dX1_tuft_157 : decode cX1_tuft 157 = .ok (.baload, 1) := dk_51 (dk_at dksX1_tuft_6 14 rfl rfl)
theorem dX1_tuft_158 : decode cX1_tuft 158 = .ok (.ifCond .eq 7, 3) := dk_153 0 7 (dk_at dksX1_tuft_6 15 rfl rfl)
theorem dX1_tuft_161 : decode cX1_tuft 161 = .ok (.iconst 1, 1) := dk_4 (dk_at dksX1_tuft_6 18 rfl rfl)
theorem dX1_tuft_162 : decode cX1_tuft 162 = .ok (.goto 4, 3) := dk_167 0 4 (dk_at dksX1_tuft_6 19 rfl rfl)
theorem dX1_tuft_165 : decode cX1_tuft 165 = .ok (.iconst 0, 1) := dk_3 (dk_at dksX1_tuft_6 22 rfl rfl)
theorem dX1_tuft_166 : decode cX1_tuft 166 = .ok (.ireturn, 1) := dk_172 (dk_at dksX1_tuft_6 23 rfl rfl)
theorem q103 : (Jvm.Cond.initialized "RugReader") ∈ lw_all := lw_g (lw_at lw_m1 1 rfl) rfl
theorem q143 : (Jvm.Cond.instantiable "RugReader" (32 : Nat)) ∈ lw_all := lw_g (lw_at lw_m1 41 rfl) rfl
theorem q145 : (Jvm.Cond.instanceMethod ({ cls := "RugReader", name := "<init>", desc := "()V" } : Jvm.MethodName)) ∈ lw_all := lw_g (lw_at lw_m1 43 rfl) rfl
theorem q146 : (Jvm.Cond.code ({ cls := "RugReader", name := "<init>", desc := "()V" } : Jvm.MethodName) prog_1_method_4_code (2 : Nat) (Option.none : Option Jvm.ClassFile.FieldType)) ∈ lw_all := lw_g (lw_at lw_m1 44 rfl) rfl
theorem q147 : (Jvm.Cond.methodLink "RugReader" (9 : Nat) ({ cls := "java/lang/Object", name := "<init>", desc := "()V" } : Jvm.MethodName)) ∈ lw_all := lw_g (lw_at lw_m1 45 rfl) rfl
theorem q150 : (Jvm.Cond.classLink "RugReader" (16 : Nat) "RugReader$House") ∈ lw_all := lw_g (lw_at lw_m1 48 rfl) rfl
theorem q152 : (Jvm.Cond.methodLinkNest "RugReader" (18 : Nat) ({ cls := "RugReader$House", name := "<init>", desc := "()V" } : Jvm.MethodName) "RugReader") ∈ lw_tbl := lw_at lw_m1 50 rfl
theorem q186 : (Jvm.Cond.fieldLinkNest "RugReader" (393 : Nat) "RugReader$House" "wide" "I" "RugReader") ∈ lw_tbl := lw_at lw_m1 84 rfl
theorem q190 : (Jvm.Cond.fieldLinkNest "RugReader" (396 : Nat) "RugReader$House" "high" "I" "RugReader") ∈ lw_tbl := lw_at lw_m1 88 rfl
theorem q194 : (Jvm.Cond.fieldLinkNest "RugReader" (262 : Nat) "RugReader$House" "fade" "I" "RugReader") ∈ lw_tbl := lw_at lw_m1 92 rfl
theorem q196 : (Jvm.Cond.fieldLinkNest "RugReader" (133 : Nat) "RugReader$House" "lines" "I" "RugReader") ∈ lw_tbl := lw_at lw_m1 94 rfl
theorem q198 : (Jvm.Cond.fieldLinkNest "RugReader" (419 : Nat) "RugReader$House" "walls" "I" "RugReader") ∈ lw_tbl := lw_at lw_m1 96 rfl
theorem q204 : (Jvm.Cond.fieldLinkNest "RugReader" (144 : Nat) "RugReader$House" "people" "Ljava/util/ArrayList;" "RugReader") ∈ lw_tbl := lw_at lw_m1 102 rfl
theorem q210 : (Jvm.Cond.fieldLinkNest "RugReader" (157 : Nat) "RugReader$House" "ways" "Ljava/util/ArrayList;" "RugReader") ∈ lw_tbl := lw_at lw_m1 108 rfl
theorem q213 : (Jvm.Cond.fieldLinkNest "RugReader" (365 : Nat) "RugReader$House" "doors" "Ljava/util/ArrayList;" "RugReader") ∈ lw_tbl := lw_at lw_m1 111 rfl
theorem q217 : (Jvm.Cond.fieldLinkNest "RugReader" (214 : Nat) "RugReader$House" "wall" "[Z" "RugReader") ∈ lw_tbl := lw_at lw_m1 115 rfl
theorem q220 : (Jvm.Cond.fieldLinkNest "RugReader" (217 : Nat) "RugReader$House" "door" "[Z" "RugReader") ∈ lw_tbl := lw_at lw_m1 118 rfl
theorem q243 : (Jvm.Cond.classLink "RugReader" (23 : Nat) "RugReader$Rug") ∈ lw_all := lw_g (lw_at lw_m1 141 rfl) rfl
theorem q245 : (Jvm.Cond.methodLinkNest "RugReader" (25 : Nat) ({ cls := "RugReader$Rug", name := "<init>", desc := "()V" } : Jvm.MethodName) "RugReader") ∈ lw_tbl := lw_at lw_m1 143 rfl
theorem q256 : (Jvm.Cond.fieldLinkNest "RugReader" (242 : Nat) "RugReader$Rug" "day" "I" "RugReader") ∈ lw_tbl := lw_at lw_m1 154 rfl
theorem q260 : (Jvm.Cond.fieldLinkNest "RugReader" (203 : Nat) "RugReader$Rug" "who" "[I" "RugReader") ∈ lw_tbl := lw_at lw_m1 158 rfl
theorem q262 : (Jvm.Cond.fieldLinkNest "RugReader" (206 : Nat) "RugReader$Rug" "sole" "[I" "RugReader") ∈ lw_tbl := lw_at lw_m1 160 rfl
theorem q264 : (Jvm.Cond.fieldLinkNest "RugReader" (208 : Nat) "RugReader$Rug" "dir" "[I" "RugReader") ∈ lw_tbl := lw_at lw_m1 162 rfl
theorem q266 : (Jvm.Cond.fieldLinkNest "RugReader" (211 : Nat) "RugReader$Rug" "old" "[I" "RugReader") ∈ lw_tbl := lw_at lw_m1 164 rfl
theorem q268 : (Jvm.Cond.fieldLinkNest "RugReader" (190 : Nat) "RugReader$Rug" "walks" "[I" "RugReader") ∈ lw_tbl := lw_at lw_m1 166 rfl
theorem q289 : (Jvm.Cond.methodLink "RugReader" (26 : Nat) ({ cls := "RugReader$Rug", name := "begin", desc := "(LRugReader$House;)LRugReader$Rug;" } : Jvm.MethodName)) ∈ lw_all := lw_g (lw_at lw_m1 187 rfl) rfl
theorem q301 : (Jvm.Cond.classLink "RugReader" (57 : Nat) "[[I") ∈ lw_all := lw_g (lw_at lw_m1 199 rfl) rfl
theorem q302 : (Jvm.Cond.classLink "RugReader" (82 : Nat) "[[Z") ∈ lw_all := lw_g (lw_at lw_m1 200 rfl) rfl
theorem q304 : (Jvm.Cond.classLink "RugReader" (96 : Nat) "RugReader$Kept") ∈ lw_all := lw_g (lw_at lw_m1 202 rfl) rfl
theorem q307 : (Jvm.Cond.methodLinkNest "RugReader" (98 : Nat) ({ cls := "RugReader$Kept", name := "<init>", desc := "()V" } : Jvm.MethodName) "RugReader") ∈ lw_tbl := lw_at lw_m1 205 rfl
theorem q313 : (Jvm.Cond.fieldLinkNest "RugReader" (414 : Nat) "RugReader$Kept" "house" "LRugReader$House;" "RugReader") ∈ lw_tbl := lw_at lw_m1 211 rfl
theorem q314 : (Jvm.Cond.fieldLinkNest "RugReader" (415 : Nat) "RugReader$Kept" "sentence" "LRugReader$Cond;" "RugReader") ∈ lw_tbl := lw_at lw_m1 212 rfl
theorem q316 : (Jvm.Cond.fieldLinkNest "RugReader" (416 : Nat) "RugReader$Kept" "rug" "LRugReader$Rug;" "RugReader") ∈ lw_tbl := lw_at lw_m1 214 rfl
theorem q324 : (Jvm.Cond.fieldLink "RugReader" (12 : Nat) "RugReader" "tape" "[B") ∈ lw_all := lw_g (lw_at lw_m1 222 rfl) rfl
theorem q325 : (Jvm.Cond.fieldLink "RugReader" (103 : Nat) "RugReader" "taped" "I") ∈ lw_all := lw_g (lw_at lw_m1 223 rfl) rfl
theorem q326 : (Jvm.Cond.fieldLink "RugReader" (114 : Nat) "RugReader" "fault" "I") ∈ lw_all := lw_g (lw_at lw_m1 224 rfl) rfl
theorem q327 : (Jvm.Cond.fieldLink "RugReader" (19 : Nat) "RugReader" "house" "LRugReader$House;") ∈ lw_all := lw_g (lw_at lw_m1 225 rfl) rfl
theorem q328 : (Jvm.Cond.fieldLink "RugReader" (30 : Nat) "RugReader" "now" "LRugReader$Rug;") ∈ lw_all := lw_g (lw_at lw_m1 226 rfl) rfl
theorem q329 : (Jvm.Cond.fieldLink "RugReader" (126 : Nat) "RugReader" "sentence" "LRugReader$Cond;") ∈ lw_all := lw_g (lw_at lw_m1 227 rfl) rfl
theorem q330 : (Jvm.Cond.fieldLink "RugReader" (34 : Nat) "RugReader" "before" "[LRugReader$Rug;") ∈ lw_all := lw_g (lw_at lw_m1 228 rfl) rfl
theorem q331 : (Jvm.Cond.fieldLink "RugReader" (130 : Nat) "RugReader" "befores" "I") ∈ lw_all := lw_g (lw_at lw_m1 229 rfl) rfl
theorem q332 : (Jvm.Cond.fieldLink "RugReader" (38 : Nat) "RugReader" "toldTuft" "[I") ∈ lw_all := lw_g (lw_at lw_m1 230 rfl) rfl
theorem q333 : (Jvm.Cond.fieldLink "RugReader" (42 : Nat) "RugReader" "toldDepth" "[I") ∈ lw_all := lw_g (lw_at lw_m1 231 rfl) rfl
theorem q334 : (Jvm.Cond.fieldLink "RugReader" (45 : Nat) "RugReader" "toldSole" "[I") ∈ lw_all := lw_g (lw_at lw_m1 232 rfl) rfl
theorem q335 : (Jvm.Cond.fieldLink "RugReader" (48 : Nat) "RugReader" "walker" "[I") ∈ lw_all := lw_g (lw_at lw_m1 233 rfl) rfl
theorem q336 : (Jvm.Cond.fieldLink "RugReader" (51 : Nat) "RugReader" "firstWalker" "[I") ∈ lw_all := lw_g (lw_at lw_m1 234 rfl) rfl
theorem q337 : (Jvm.Cond.fieldLink "RugReader" (54 : Nat) "RugReader" "sureWalker" "[I") ∈ lw_all := lw_g (lw_at lw_m1 235 rfl) rfl
theorem q338 : (Jvm.Cond.fieldLink "RugReader" (59 : Nat) "RugReader" "over" "[[I") ∈ lw_all := lw_g (lw_at lw_m1 236 rfl) rfl
theorem q339 : (Jvm.Cond.fieldLink "RugReader" (275 : Nat) "RugReader" "toldMany" "I") ∈ lw_all := lw_g (lw_at lw_m1 237 rfl) rfl
theorem q340 : (Jvm.Cond.fieldLink "RugReader" (62 : Nat) "RugReader" "fewestMany" "I") ∈ lw_all := lw_g (lw_at lw_m1 238 rfl) rfl
theorem q341 : (Jvm.Cond.fieldLink "RugReader" (299 : Nat) "RugReader" "readWays" "I") ∈ lw_all := lw_g (lw_at lw_m1 239 rfl) rfl
theorem q342 : (Jvm.Cond.fieldLink "RugReader" (284 : Nat) "RugReader" "found" "I") ∈ lw_all := lw_g (lw_at lw_m2 0 rfl) rfl
theorem q343 : (Jvm.Cond.fieldLink "RugReader" (66 : Nat) "RugReader" "cost" "[I") ∈ lw_all := lw_g (lw_at lw_m2 1 rfl) rfl
theorem q344 : (Jvm.Cond.fieldLink "RugReader" (69 : Nat) "RugReader" "done" "[Z") ∈ lw_all := lw_g (lw_at lw_m2 2 rfl) rfl
theorem q345 : (Jvm.Cond.fieldLink "RugReader" (73 : Nat) "RugReader" "walked" "[I") ∈ lw_all := lw_g (lw_at lw_m2 3 rfl) rfl
theorem q346 : (Jvm.Cond.fieldLink "RugReader" (76 : Nat) "RugReader" "cut" "[Z") ∈ lw_all := lw_g (lw_at lw_m2 4 rfl) rfl
theorem q347 : (Jvm.Cond.fieldLink "RugReader" (79 : Nat) "RugReader" "through" "[Z") ∈ lw_all := lw_g (lw_at lw_m2 5 rfl) rfl
theorem q348 : (Jvm.Cond.fieldLink "RugReader" (84 : Nat) "RugReader" "flows" "[[Z") ∈ lw_all := lw_g (lw_at lw_m2 6 rfl) rfl
theorem q349 : (Jvm.Cond.fieldLink "RugReader" (87 : Nat) "RugReader" "behind" "[I") ∈ lw_all := lw_g (lw_at lw_m2 7 rfl) rfl
theorem q350 : (Jvm.Cond.fieldLink "RugReader" (90 : Nat) "RugReader" "queue" "[I") ∈ lw_all := lw_g (lw_at lw_m2 8 rfl) rfl
theorem q351 : (Jvm.Cond.fieldLink "RugReader" (346 : Nat) "RugReader" "queued" "I") ∈ lw_all := lw_g (lw_at lw_m2 9 rfl) rfl
theorem q352 : (Jvm.Cond.fieldLink "RugReader" (93 : Nat) "RugReader" "laid" "[I") ∈ lw_all := lw_g (lw_at lw_m2 10 rfl) rfl
theorem q353 : (Jvm.Cond.fieldLink "RugReader" (374 : Nat) "RugReader" "laidMany" "I") ∈ lw_all := lw_g (lw_at lw_m2 11 rfl) rfl
theorem q354 : (Jvm.Cond.fieldLink "RugReader" (383 : Nat) "RugReader" "seed" "I") ∈ lw_all := lw_g (lw_at lw_m2 12 rfl) rfl
theorem q355 : (Jvm.Cond.fieldLink "RugReader" (99 : Nat) "RugReader" "kept" "[LRugReader$Kept;") ∈ lw_all := lw_g (lw_at lw_m2 13 rfl) rfl
theorem q356 : (Jvm.Cond.laysFinal "RugReader" "RugReader" "tape" "[B") ∈ lw_all := lw_g (lw_at lw_m2 14 rfl) rfl
theorem q357 : (Jvm.Cond.soleField "RugReader" "tape") ∈ lw_all := lw_g (lw_at lw_m2 15 rfl) rfl
theorem q358 : (Jvm.Cond.lays "RugReader" "RugReader" "taped" "I") ∈ lw_all := lw_g (lw_at lw_m2 16 rfl) rfl
theorem q359 : (Jvm.Cond.soleField "RugReader" "taped") ∈ lw_all := lw_g (lw_at lw_m2 17 rfl) rfl
theorem q360 : (Jvm.Cond.lays "RugReader" "RugReader" "fault" "I") ∈ lw_all := lw_g (lw_at lw_m2 18 rfl) rfl
theorem q361 : (Jvm.Cond.soleField "RugReader" "fault") ∈ lw_all := lw_g (lw_at lw_m2 19 rfl) rfl
theorem q362 : (Jvm.Cond.lays "RugReader" "RugReader" "house" "LRugReader$House;") ∈ lw_all := lw_g (lw_at lw_m2 20 rfl) rfl
theorem q363 : (Jvm.Cond.soleField "RugReader" "house") ∈ lw_all := lw_g (lw_at lw_m2 21 rfl) rfl
theorem q364 : (Jvm.Cond.laysFinal "RugReader" "RugReader" "now" "LRugReader$Rug;") ∈ lw_all := lw_g (lw_at lw_m2 22 rfl) rfl
theorem q365 : (Jvm.Cond.soleField "RugReader" "now") ∈ lw_all := lw_g (lw_at lw_m2 23 rfl) rfl
theorem q366 : (Jvm.Cond.lays "RugReader" "RugReader" "sentence" "LRugReader$Cond;") ∈ lw_all := lw_g (lw_at lw_m2 24 rfl) rfl
theorem q367 : (Jvm.Cond.soleField "RugReader" "sentence") ∈ lw_all := lw_g (lw_at lw_m2 25 rfl) rfl
theorem q368 : (Jvm.Cond.laysFinal "RugReader" "RugReader" "before" "[LRugReader$Rug;") ∈ lw_all := lw_g (lw_at lw_m2 26 rfl) rfl
theorem q369 : (Jvm.Cond.soleField "RugReader" "before") ∈ lw_all := lw_g (lw_at lw_m2 27 rfl) rfl
theorem q370 : (Jvm.Cond.lays "RugReader" "RugReader" "befores" "I") ∈ lw_all := lw_g (lw_at lw_m2 28 rfl) rfl
theorem q371 : (Jvm.Cond.soleField "RugReader" "befores") ∈ lw_all := lw_g (lw_at lw_m2 29 rfl) rfl
theorem q372 : (Jvm.Cond.laysFinal "RugReader" "RugReader" "toldTuft" "[I") ∈ lw_all := lw_g (lw_at lw_m2 30 rfl) rfl
theorem q373 : (Jvm.Cond.soleField "RugReader" "toldTuft") ∈ lw_all := lw_g (lw_at lw_m2 31 rfl) rfl
theorem q374 : (Jvm.Cond.laysFinal "RugReader" "RugReader" "toldDepth" "[I") ∈ lw_all := lw_g (lw_at lw_m2 32 rfl) rfl
theorem q375 : (Jvm.Cond.soleField "RugReader" "toldDepth") ∈ lw_all := lw_g (lw_at lw_m2 33 rfl) rfl
theorem q376 : (Jvm.Cond.laysFinal "RugReader" "RugReader" "toldSole" "[I") ∈ lw_all := lw_g (lw_at lw_m2 34 rfl) rfl
theorem q377 : (Jvm.Cond.soleField "RugReader" "toldSole") ∈ lw_all := lw_g (lw_at lw_m2 35 rfl) rfl
theorem q378 : (Jvm.Cond.laysFinal "RugReader" "RugReader" "walker" "[I") ∈ lw_all := lw_g (lw_at lw_m2 36 rfl) rfl
theorem q379 : (Jvm.Cond.soleField "RugReader" "walker") ∈ lw_all := lw_g (lw_at lw_m2 37 rfl) rfl
theorem q380 : (Jvm.Cond.laysFinal "RugReader" "RugReader" "firstWalker" "[I") ∈ lw_all := lw_g (lw_at lw_m2 38 rfl) rfl
theorem q381 : (Jvm.Cond.soleField "RugReader" "firstWalker") ∈ lw_all := lw_g (lw_at lw_m2 39 rfl) rfl
theorem q382 : (Jvm.Cond.laysFinal "RugReader" "RugReader" "sureWalker" "[I") ∈ lw_all := lw_g (lw_at lw_m2 40 rfl) rfl
theorem q383 : (Jvm.Cond.soleField "RugReader" "sureWalker") ∈ lw_all := lw_g (lw_at lw_m2 41 rfl) rfl
theorem q384 : (Jvm.Cond.laysFinal "RugReader" "RugReader" "over" "[[I") ∈ lw_all := lw_g (lw_at lw_m2 42 rfl) rfl
theorem q385 : (Jvm.Cond.soleField "RugReader" "over") ∈ lw_all := lw_g (lw_at lw_m2 43 rfl) rfl
theorem q386 : (Jvm.Cond.lays "RugReader" "RugReader" "toldMany" "I") ∈ lw_all := lw_g (lw_at lw_m2 44 rfl) rfl
theorem q387 : (Jvm.Cond.soleField "RugReader" "toldMany") ∈ lw_all := lw_g (lw_at lw_m2 45 rfl) rfl
theorem q388 : (Jvm.Cond.lays "RugReader" "RugReader" "fewestMany" "I") ∈ lw_all := lw_g (lw_at lw_m2 46 rfl) rfl
theorem q389 : (Jvm.Cond.soleField "RugReader" "fewestMany") ∈ lw_all := lw_g (lw_at lw_m2 47 rfl) rfl
theorem q390 : (Jvm.Cond.lays "RugReader" "RugReader" "readWays" "I") ∈ lw_all := lw_g (lw_at lw_m2 48 rfl) rfl
theorem q391 : (Jvm.Cond.soleField "RugReader" "readWays") ∈ lw_all := lw_g (lw_at lw_m2 49 rfl) rfl
theorem q392 : (Jvm.Cond.lays "RugReader" "RugReader" "found" "I") ∈ lw_all := lw_g (lw_at lw_m2 50 rfl) rfl
theorem q393 : (Jvm.Cond.soleField "RugReader" "found") ∈ lw_all := lw_g (lw_at lw_m2 51 rfl) rfl
theorem q394 : (Jvm.Cond.laysFinal "RugReader" "RugReader" "cost" "[I") ∈ lw_all := lw_g (lw_at lw_m2 52 rfl) rfl
theorem q395 : (Jvm.Cond.soleField "RugReader" "cost") ∈ lw_all := lw_g (lw_at lw_m2 53 rfl) rfl
theorem q396 : (Jvm.Cond.laysFinal "RugReader" "RugReader" "done" "[Z") ∈ lw_all := lw_g (lw_at lw_m2 54 rfl) rfl
theorem q397 : (Jvm.Cond.soleField "RugReader" "done") ∈ lw_all := lw_g (lw_at lw_m2 55 rfl) rfl
theorem q398 : (Jvm.Cond.laysFinal "RugReader" "RugReader" "walked" "[I") ∈ lw_all := lw_g (lw_at lw_m2 56 rfl) rfl
theorem q399 : (Jvm.Cond.soleField "RugReader" "walked") ∈ lw_all := lw_g (lw_at lw_m2 57 rfl) rfl
theorem q400 : (Jvm.Cond.laysFinal "RugReader" "RugReader" "cut" "[Z") ∈ lw_all := lw_g (lw_at lw_m2 58 rfl) rfl
theorem q401 : (Jvm.Cond.soleField "RugReader" "cut") ∈ lw_all := lw_g (lw_at lw_m2 59 rfl) rfl
theorem q402 : (Jvm.Cond.laysFinal "RugReader" "RugReader" "through" "[Z") ∈ lw_all := lw_g (lw_at lw_m2 60 rfl) rfl
theorem q403 : (Jvm.Cond.soleField "RugReader" "through") ∈ lw_all := lw_g (lw_at lw_m2 61 rfl) rfl
theorem q404 : (Jvm.Cond.laysFinal "RugReader" "RugReader" "flows" "[[Z") ∈ lw_all := lw_g (lw_at lw_m2 62 rfl) rfl
theorem q405 : (Jvm.Cond.soleField "RugReader" "flows") ∈ lw_all := lw_g (lw_at lw_m2 63 rfl) rfl
theorem q406 : (Jvm.Cond.laysFinal "RugReader" "RugReader" "behind" "[I") ∈ lw_all := lw_g (lw_at lw_m2 64 rfl) rfl
theorem q407 : (Jvm.Cond.soleField "RugReader" "behind") ∈ lw_all := lw_g (lw_at lw_m2 65 rfl) rfl
theorem q408 : (Jvm.Cond.laysFinal "RugReader" "RugReader" "queue" "[I") ∈ lw_all := lw_g (lw_at lw_m2 66 rfl) rfl
theorem q409 : (Jvm.Cond.soleField "RugReader" "queue") ∈ lw_all := lw_g (lw_at lw_m2 67 rfl) rfl
theorem q410 : (Jvm.Cond.lays "RugReader" "RugReader" "queued" "I") ∈ lw_all := lw_g (lw_at lw_m2 68 rfl) rfl
theorem q411 : (Jvm.Cond.soleField "RugReader" "queued") ∈ lw_all := lw_g (lw_at lw_m2 69 rfl) rfl
theorem q412 : (Jvm.Cond.laysFinal "RugReader" "RugReader" "laid" "[I") ∈ lw_all := lw_g (lw_at lw_m2 70 rfl) rfl
theorem q413 : (Jvm.Cond.soleField "RugReader" "laid") ∈ lw_all := lw_g (lw_at lw_m2 71 rfl) rfl
theorem q414 : (Jvm.Cond.lays "RugReader" "RugReader" "laidMany" "I") ∈ lw_all := lw_g (lw_at lw_m2 72 rfl) rfl
theorem q415 : (Jvm.Cond.soleField "RugReader" "laidMany") ∈ lw_all := lw_g (lw_at lw_m2 73 rfl) rfl
theorem q416 : (Jvm.Cond.lays "RugReader" "RugReader" "seed" "I") ∈ lw_all := lw_g (lw_at lw_m2 74 rfl) rfl
theorem q417 : (Jvm.Cond.soleField "RugReader" "seed") ∈ lw_all := lw_g (lw_at lw_m2 75 rfl) rfl
theorem q418 : (Jvm.Cond.laysFinal "RugReader" "RugReader" "kept" "[LRugReader$Kept;") ∈ lw_all := lw_g (lw_at lw_m2 76 rfl) rfl
theorem q419 : (Jvm.Cond.soleField "RugReader" "kept") ∈ lw_all := lw_g (lw_at lw_m2 77 rfl) rfl
theorem q420 : (Jvm.Cond.superclass "RugReader" "java/lang/Object") ∈ lw_all := lw_g (lw_at lw_m2 78 rfl) rfl
theorem q422 : (Jvm.Cond.instanceMethod ({ cls := "RugReader", name := "feed", desc := "(IIIII)I" } : Jvm.MethodName)) ∈ lw_all := lw_g (lw_at lw_m2 80 rfl) rfl
theorem q423 : (Jvm.Cond.selects "RugReader" ({ cls := "RugReader", name := "feed", desc := "(IIIII)I" } : Jvm.MethodName) ({ cls := "RugReader", name := "feed", desc := "(IIIII)I" } : Jvm.MethodName)) ∈ lw_all := lw_g (lw_at lw_m2 81 rfl) rfl
theorem q424 : (Jvm.Cond.code ({ cls := "RugReader", name := "feed", desc := "(IIIII)I" } : Jvm.MethodName) prog_1_method_6_code (6 : Nat) (Option.some Jvm.ClassFile.FieldType.int)) ∈ lw_all := lw_g (lw_at lw_m2 82 rfl) rfl
theorem q425 : (Jvm.Cond.methodLink "RugReader" (106 : Nat) ({ cls := "RugReader", name := "come", desc := "(I)V" } : Jvm.MethodName)) ∈ lw_all := lw_g (lw_at lw_m2 83 rfl) rfl
theorem q426 : (Jvm.Cond.privateMethod ({ cls := "RugReader", name := "come", desc := "(I)V" } : Jvm.MethodName)) ∈ lw_tbl := lw_at lw_m2 84 rfl
theorem q427 : (Jvm.Cond.instanceMethod ({ cls := "RugReader", name := "come", desc := "(I)V" } : Jvm.MethodName)) ∈ lw_all := lw_g (lw_at lw_m2 85 rfl) rfl
theorem q428 : (Jvm.Cond.code ({ cls := "RugReader", name := "come", desc := "(I)V" } : Jvm.MethodName) prog_1_method_5_code (3 : Nat) (Option.none : Option Jvm.ClassFile.FieldType)) ∈ lw_all := lw_g (lw_at lw_m2 86 rfl) rfl
theorem q430 : (Jvm.Cond.instanceMethod ({ cls := "RugReader", name := "end", desc := "(I)Z" } : Jvm.MethodName)) ∈ lw_all := lw_g (lw_at lw_m2 88 rfl) rfl
theorem q431 : (Jvm.Cond.selects "RugReader" ({ cls := "RugReader", name := "end", desc := "(I)Z" } : Jvm.MethodName) ({ cls := "RugReader", name := "end", desc := "(I)Z" } : Jvm.MethodName)) ∈ lw_all := lw_g (lw_at lw_m2 89 rfl) rfl
theorem q432 : (Jvm.Cond.code ({ cls := "RugReader", name := "end", desc := "(I)Z" } : Jvm.MethodName) prog_1_method_7_code (2 : Nat) (Option.some Jvm.ClassFile.FieldType.boolean)) ∈ lw_all := lw_g (lw_at lw_m2 90 rfl) rfl
theorem q434 : (Jvm.Cond.instanceMethod ({ cls := "RugReader", name := "house", desc := "()I" } : Jvm.MethodName)) ∈ lw_all := lw_g (lw_at lw_m2 92 rfl) rfl
theorem q435 : (Jvm.Cond.selects "RugReader" ({ cls := "RugReader", name := "house", desc := "()I" } : Jvm.MethodName) ({ cls := "RugReader", name := "house", desc := "()I" } : Jvm.MethodName)) ∈ lw_all := lw_g (lw_at lw_m2 93 rfl) rfl
theorem q436 : (Jvm.Cond.codeWith ({ cls := "RugReader", name := "house", desc := "()I" } : Jvm.MethodName) prog_1_method_10_code (3 : Nat) (Option.some Jvm.ClassFile.FieldType.int) [((10 : Nat), (58 : Nat), (59 : Nat), (136 : Nat))]) ∈ lw_all := lw_g (lw_at lw_m2 94 rfl) rfl
theorem q437 : (Jvm.Cond.classLink "RugReader" (136 : Nat) "RugReader$Fault") ∈ lw_all := lw_g (lw_at lw_m2 95 rfl) rfl
theorem q438 : (Jvm.Cond.methodLink "RugReader" (110 : Nat) ({ cls := "RugReader", name := "take", desc := "()I" } : Jvm.MethodName)) ∈ lw_all := lw_g (lw_at lw_m2 96 rfl) rfl
theorem q439 : (Jvm.Cond.privateMethod ({ cls := "RugReader", name := "take", desc := "()I" } : Jvm.MethodName)) ∈ lw_tbl := lw_at lw_m2 97 rfl
theorem q440 : (Jvm.Cond.instanceMethod ({ cls := "RugReader", name := "take", desc := "()I" } : Jvm.MethodName)) ∈ lw_all := lw_g (lw_at lw_m2 98 rfl) rfl
theorem q441 : (Jvm.Cond.code ({ cls := "RugReader", name := "take", desc := "()I" } : Jvm.MethodName) prog_1_method_8_code (2 : Nat) (Option.some Jvm.ClassFile.FieldType.int)) ∈ lw_all := lw_g (lw_at lw_m2 99 rfl) rfl
theorem q442 : (Jvm.Cond.classLink "RugReader" (117 : Nat) "RugReader$HouseReader") ∈ lw_all := lw_g (lw_at lw_m2 100 rfl) rfl
theorem q444 : (Jvm.Cond.methodLink "RugReader" (119 : Nat) ({ cls := "RugReader$HouseReader", name := "<init>", desc := "([BI)V" } : Jvm.MethodName)) ∈ lw_all := lw_g (lw_at lw_m2 102 rfl) rfl
theorem q498 : (Jvm.Cond.methodLink "RugReader" (122 : Nat) ({ cls := "RugReader$HouseReader", name := "read", desc := "()LRugReader$House;" } : Jvm.MethodName)) ∈ lw_all := lw_g (lw_at lw_m2 156 rfl) rfl
theorem q733 : (Jvm.Cond.static ({ cls := "RugReader", name := "isOf", desc := "(II)Z" } : Jvm.MethodName)) ∈ lw_all := lw_g (lw_at lw_m3 151 rfl) rfl
theorem q734 : (Jvm.Cond.code ({ cls := "RugReader", name := "isOf", desc := "(II)Z" } : Jvm.MethodName) prog_1_method_2_code (2 : Nat) (Option.some Jvm.ClassFile.FieldType.boolean)) ∈ lw_all := lw_g (lw_at lw_m3 152 rfl) rfl
theorem q787 : (Jvm.Cond.fieldLinkNest "RugReader" (138 : Nat) "RugReader$Fault" "kind" "I" "RugReader") ∈ lw_tbl := lw_at lw_m3 205 rfl
theorem q789 : (Jvm.Cond.fieldLinkNest "RugReader" (141 : Nat) "RugReader$Fault" "place" "I" "RugReader") ∈ lw_tbl := lw_at lw_m3 207 rfl
theorem q821 : (Jvm.Cond.static ({ cls := "RugReader", name := "isIn", desc := "(III)Z" } : Jvm.MethodName)) ∈ lw_all := lw_g (lw_at lw_m3 239 rfl) rfl
theorem q822 : (Jvm.Cond.code ({ cls := "RugReader", name := "isIn", desc := "(III)Z" } : Jvm.MethodName) prog_1_method_1_code (3 : Nat) (Option.some Jvm.ClassFile.FieldType.boolean)) ∈ lw_all := lw_g (lw_at lw_m4 0 rfl) rfl
theorem q949 : (Jvm.Cond.fieldLinkNest "RugReader" (174 : Nat) "RugReader$Person" "weight" "I" "RugReader") ∈ lw_tbl := lw_at lw_m4 127 rfl
theorem q953 : (Jvm.Cond.fieldLinkNest "RugReader" (177 : Nat) "RugReader$Person" "sole" "I" "RugReader") ∈ lw_tbl := lw_at lw_m4 131 rfl
theorem q957 : (Jvm.Cond.fieldLinkNest "RugReader" (180 : Nat) "RugReader$Person" "pace" "I" "RugReader") ∈ lw_tbl := lw_at lw_m4 135 rfl
theorem q992 : (Jvm.Cond.selects "RugReader" ({ cls := "java/lang/Object", name := "getClass", desc := "()Ljava/lang/Class;" } : Jvm.MethodName) ({ cls := "java/lang/Object", name := "getClass", desc := "()Ljava/lang/Class;" } : Jvm.MethodName)) ∈ lw_all := lw_g (lw_at lw_m4 170 rfl) rfl
theorem q1071 : (Jvm.Cond.fieldLinkNest "RugReader" (228 : Nat) "RugReader$Way" "tuft" "[I" "RugReader") ∈ lw_tbl := lw_at lw_m5 9 rfl
theorem q1077 : (Jvm.Cond.fieldLinkNest "RugReader" (225 : Nat) "RugReader$Way" "steps" "I" "RugReader") ∈ lw_tbl := lw_at lw_m5 15 rfl
theorem q1114 : (Jvm.Cond.laysStatic "RugReader" "EAST" "[I") ∈ lw_tbl := lw_at lw_m5 52 rfl
theorem q1116 : (Jvm.Cond.laysStatic "RugReader" "SOUTH" "[I") ∈ lw_tbl := lw_at lw_m5 54 rfl
theorem q1138 : (Jvm.Cond.instanceMethod ({ cls := "RugReader", name := "fault", desc := "()I" } : Jvm.MethodName)) ∈ lw_all := lw_g (lw_at lw_m5 76 rfl) rfl
theorem q1139 : (Jvm.Cond.selects "RugReader" ({ cls := "RugReader", name := "fault", desc := "()I" } : Jvm.MethodName) ({ cls := "RugReader", name := "fault", desc := "()I" } : Jvm.MethodName)) ∈ lw_all := lw_g (lw_at lw_m5 77 rfl) rfl
theorem q1140 : (Jvm.Cond.code ({ cls := "RugReader", name := "fault", desc := "()I" } : Jvm.MethodName) prog_1_method_11_code (1 : Nat) (Option.some Jvm.ClassFile.FieldType.int)) ∈ lw_all := lw_g (lw_at lw_m5 78 rfl) rfl
theorem q1142 : (Jvm.Cond.instanceMethod ({ cls := "RugReader", name := "way", desc := "(II)I" } : Jvm.MethodName)) ∈ lw_all := lw_g (lw_at lw_m5 80 rfl) rfl
theorem q1143 : (Jvm.Cond.selects "RugReader" ({ cls := "RugReader", name := "way", desc := "(II)I" } : Jvm.MethodName) ({ cls := "RugReader", name := "way", desc := "(II)I" } : Jvm.MethodName)) ∈ lw_all := lw_g (lw_at lw_m5 81 rfl) rfl
theorem q1144 : (Jvm.Cond.code ({ cls := "RugReader", name := "way", desc := "(II)I" } : Jvm.MethodName) prog_1_method_16_code (3 : Nat) (Option.some Jvm.ClassFile.FieldType.int)) ∈ lw_all := lw_g (lw_at lw_m5 82 rfl) rfl
theorem q1145 : (Jvm.Cond.methodLink "RugReader" (220 : Nat) ({ cls := "RugReader", name := "isWay", desc := "(I)Z" } : Jvm.MethodName)) ∈ lw_all := lw_g (lw_at lw_m5 83 rfl) rfl
theorem q1146 : (Jvm.Cond.privateMethod ({ cls := "RugReader", name := "isWay", desc := "(I)Z" } : Jvm.MethodName)) ∈ lw_tbl := lw_at lw_m5 84 rfl
theorem q1147 : (Jvm.Cond.instanceMethod ({ cls := "RugReader", name := "isWay", desc := "(I)Z" } : Jvm.MethodName)) ∈ lw_all := lw_g (lw_at lw_m5 85 rfl) rfl
theorem q1148 : (Jvm.Cond.code ({ cls := "RugReader", name := "isWay", desc := "(I)Z" } : Jvm.MethodName) prog_1_method_13_code (2 : Nat) (Option.some Jvm.ClassFile.FieldType.boolean)) ∈ lw_all := lw_g (lw_at lw_m5 86 rfl) rfl
theorem q1149 : (Jvm.Cond.methodLink "RugReader" (148 : Nat) ({ cls := "java/util/ArrayList", name := "size", desc := "()I" } : Jvm.MethodName)) ∈ lw_all := lw_g (lw_at lw_m5 87 rfl) rfl
theorem q1150 : (Jvm.Cond.methodLink "RugReader" (153 : Nat) ({ cls := "RugReader", name := "isIn", desc := "(III)Z" } : Jvm.MethodName)) ∈ lw_all := lw_g (lw_at lw_m5 88 rfl) rfl
theorem q1151 : (Jvm.Cond.methodLink "RugReader" (168 : Nat) ({ cls := "java/util/ArrayList", name := "get", desc := "(I)Ljava/lang/Object;" } : Jvm.MethodName)) ∈ lw_all := lw_g (lw_at lw_m5 89 rfl) rfl
theorem q1152 : (Jvm.Cond.classLink "RugReader" (223 : Nat) "RugReader$Way") ∈ lw_all := lw_g (lw_at lw_m5 90 rfl) rfl
theorem q1154 : (Jvm.Cond.instanceMethod ({ cls := "RugReader", name := "goes", desc := "(III)I" } : Jvm.MethodName)) ∈ lw_all := lw_g (lw_at lw_m5 92 rfl) rfl
theorem q1155 : (Jvm.Cond.selects "RugReader" ({ cls := "RugReader", name := "goes", desc := "(III)I" } : Jvm.MethodName) ({ cls := "RugReader", name := "goes", desc := "(III)I" } : Jvm.MethodName)) ∈ lw_all := lw_g (lw_at lw_m5 93 rfl) rfl
theorem q1156 : (Jvm.Cond.code ({ cls := "RugReader", name := "goes", desc := "(III)I" } : Jvm.MethodName) prog_1_method_18_code (4 : Nat) (Option.some Jvm.ClassFile.FieldType.int)) ∈ lw_all := lw_g (lw_at lw_m5 94 rfl) rfl
theorem q1157 : (Jvm.Cond.methodLink "RugReader" (160 : Nat) ({ cls := "RugReader", name := "isPerson", desc := "(I)Z" } : Jvm.MethodName)) ∈ lw_all := lw_g (lw_at lw_m5 95 rfl) rfl
theorem q1158 : (Jvm.Cond.privateMethod ({ cls := "RugReader", name := "isPerson", desc := "(I)Z" } : Jvm.MethodName)) ∈ lw_tbl := lw_at lw_m5 96 rfl
theorem q1159 : (Jvm.Cond.instanceMethod ({ cls := "RugReader", name := "isPerson", desc := "(I)Z" } : Jvm.MethodName)) ∈ lw_all := lw_g (lw_at lw_m5 97 rfl) rfl
theorem q1160 : (Jvm.Cond.code ({ cls := "RugReader", name := "isPerson", desc := "(I)Z" } : Jvm.MethodName) prog_1_method_12_code (2 : Nat) (Option.some Jvm.ClassFile.FieldType.boolean)) ∈ lw_all := lw_g (lw_at lw_m5 98 rfl) rfl
theorem q1161 : (Jvm.Cond.methodLink "RugReader" (235 : Nat) ({ cls := "RugReader", name := "snap", desc := "()V" } : Jvm.MethodName)) ∈ lw_all := lw_g (lw_at lw_m5 99 rfl) rfl
theorem q1162 : (Jvm.Cond.privateMethod ({ cls := "RugReader", name := "snap", desc := "()V" } : Jvm.MethodName)) ∈ lw_tbl := lw_at lw_m5 100 rfl
theorem q1163 : (Jvm.Cond.instanceMethod ({ cls := "RugReader", name := "snap", desc := "()V" } : Jvm.MethodName)) ∈ lw_all := lw_g (lw_at lw_m5 101 rfl) rfl
theorem q1164 : (Jvm.Cond.code ({ cls := "RugReader", name := "snap", desc := "()V" } : Jvm.MethodName) prog_1_method_17_code (3 : Nat) (Option.none : Option Jvm.ClassFile.FieldType)) ∈ lw_all := lw_g (lw_at lw_m5 102 rfl) rfl
theorem q1165 : (Jvm.Cond.methodLink "RugReader" (231 : Nat) ({ cls := "RugReader$Rug", name := "as", desc := "(LRugReader$Rug;)LRugReader$Rug;" } : Jvm.MethodName)) ∈ lw_all := lw_g (lw_at lw_m5 103 rfl) rfl
theorem q1173 : (Jvm.Cond.methodLink "RugReader" (238 : Nat) ({ cls := "RugReader$Rug", name := "goes", desc := "(III)I" } : Jvm.MethodName)) ∈ lw_all := lw_g (lw_at lw_m5 111 rfl) rfl
theorem q1185 : (Jvm.Cond.instanceMethod ({ cls := "RugReader", name := "days", desc := "(I)I" } : Jvm.MethodName)) ∈ lw_all := lw_g (lw_at lw_m5 123 rfl) rfl
theorem q1186 : (Jvm.Cond.selects "RugReader" ({ cls := "RugReader", name := "days", desc := "(I)I" } : Jvm.MethodName) ({ cls := "RugReader", name := "days", desc := "(I)I" } : Jvm.MethodName)) ∈ lw_all := lw_g (lw_at lw_m5 124 rfl) rfl
theorem q1187 : (Jvm.Cond.code ({ cls := "RugReader", name := "days", desc := "(I)I" } : Jvm.MethodName) prog_1_method_19_code (3 : Nat) (Option.some Jvm.ClassFile.FieldType.int)) ∈ lw_all := lw_g (lw_at lw_m5 125 rfl) rfl
theorem q1188 : (Jvm.Cond.methodLink "RugReader" (245 : Nat) ({ cls := "RugReader$Rug", name := "dawn", desc := "()V" } : Jvm.MethodName)) ∈ lw_all := lw_g (lw_at lw_m5 126 rfl) rfl
theorem q1197 : (Jvm.Cond.instanceMethod ({ cls := "RugReader", name := "beat", desc := "(II)I" } : Jvm.MethodName)) ∈ lw_all := lw_g (lw_at lw_m5 135 rfl) rfl
theorem q1198 : (Jvm.Cond.selects "RugReader" ({ cls := "RugReader", name := "beat", desc := "(II)I" } : Jvm.MethodName) ({ cls := "RugReader", name := "beat", desc := "(II)I" } : Jvm.MethodName)) ∈ lw_all := lw_g (lw_at lw_m5 136 rfl) rfl
theorem q1199 : (Jvm.Cond.code ({ cls := "RugReader", name := "beat", desc := "(II)I" } : Jvm.MethodName) prog_1_method_20_code (6 : Nat) (Option.some Jvm.ClassFile.FieldType.int)) ∈ lw_all := lw_g (lw_at lw_m5 137 rfl) rfl
theorem q1200 : (Jvm.Cond.methodLink "RugReader" (193 : Nat) ({ cls := "RugReader$House", name := "isTuft", desc := "(I)Z" } : Jvm.MethodName)) ∈ lw_all := lw_g (lw_at lw_m5 138 rfl) rfl
theorem q1204 : (Jvm.Cond.methodLink "RugReader" (248 : Nat) ({ cls := "java/lang/Math", name := "min", desc := "(II)I" } : Jvm.MethodName)) ∈ lw_all := lw_g (lw_at lw_m5 142 rfl) rfl
theorem q1205 : (Jvm.Cond.methodLink "RugReader" (253 : Nat) ({ cls := "java/lang/Math", name := "max", desc := "(II)I" } : Jvm.MethodName)) ∈ lw_all := lw_g (lw_at lw_m5 143 rfl) rfl
theorem q1206 : (Jvm.Cond.methodLink "RugReader" (256 : Nat) ({ cls := "RugReader$Rug", name := "clean", desc := "(I)V" } : Jvm.MethodName)) ∈ lw_all := lw_g (lw_at lw_m5 144 rfl) rfl
theorem q1208 : (Jvm.Cond.instanceMethod ({ cls := "RugReader", name := "undo", desc := "()I" } : Jvm.MethodName)) ∈ lw_all := lw_g (lw_at lw_m5 146 rfl) rfl
theorem q1209 : (Jvm.Cond.selects "RugReader" ({ cls := "RugReader", name := "undo", desc := "()I" } : Jvm.MethodName) ({ cls := "RugReader", name := "undo", desc := "()I" } : Jvm.MethodName)) ∈ lw_all := lw_g (lw_at lw_m5 147 rfl) rfl
theorem q1210 : (Jvm.Cond.code ({ cls := "RugReader", name := "undo", desc := "()I" } : Jvm.MethodName) prog_1_method_21_code (1 : Nat) (Option.some Jvm.ClassFile.FieldType.int)) ∈ lw_all := lw_g (lw_at lw_m5 148 rfl) rfl
theorem q1212 : (Jvm.Cond.instanceMethod ({ cls := "RugReader", name := "hidden", desc := "(I)I" } : Jvm.MethodName)) ∈ lw_all := lw_g (lw_at lw_m5 150 rfl) rfl
theorem q1213 : (Jvm.Cond.selects "RugReader" ({ cls := "RugReader", name := "hidden", desc := "(I)I" } : Jvm.MethodName) ({ cls := "RugReader", name := "hidden", desc := "(I)I" } : Jvm.MethodName)) ∈ lw_all := lw_g (lw_at lw_m5 151 rfl) rfl
theorem q1214 : (Jvm.Cond.code ({ cls := "RugReader", name := "hidden", desc := "(I)I" } : Jvm.MethodName) prog_1_method_22_code (4 : Nat) (Option.some Jvm.ClassFile.FieldType.int)) ∈ lw_all := lw_g (lw_at lw_m5 152 rfl) rfl
theorem q1215 : (Jvm.Cond.methodLink "RugReader" (259 : Nat) ({ cls := "RugReader$Rug", name := "missing", desc := "(I)I" } : Jvm.MethodName)) ∈ lw_all := lw_g (lw_at lw_m5 153 rfl) rfl
theorem q1229 : (Jvm.Cond.instanceMethod ({ cls := "RugReader", name := "missing", desc := "(I)I" } : Jvm.MethodName)) ∈ lw_all := lw_g (lw_at lw_m5 167 rfl) rfl
theorem q1230 : (Jvm.Cond.selects "RugReader" ({ cls := "RugReader", name := "missing", desc := "(I)I" } : Jvm.MethodName) ({ cls := "RugReader", name := "missing", desc := "(I)I" } : Jvm.MethodName)) ∈ lw_all := lw_g (lw_at lw_m5 168 rfl) rfl
theorem q1231 : (Jvm.Cond.code ({ cls := "RugReader", name := "missing", desc := "(I)I" } : Jvm.MethodName) prog_1_method_23_code (2 : Nat) (Option.some Jvm.ClassFile.FieldType.int)) ∈ lw_all := lw_g (lw_at lw_m5 169 rfl) rfl
theorem q1233 : (Jvm.Cond.instanceMethod ({ cls := "RugReader", name := "soles", desc := "(I)I" } : Jvm.MethodName)) ∈ lw_all := lw_g (lw_at lw_m5 171 rfl) rfl
theorem q1234 : (Jvm.Cond.selects "RugReader" ({ cls := "RugReader", name := "soles", desc := "(I)I" } : Jvm.MethodName) ({ cls := "RugReader", name := "soles", desc := "(I)I" } : Jvm.MethodName)) ∈ lw_all := lw_g (lw_at lw_m5 172 rfl) rfl
theorem q1235 : (Jvm.Cond.code ({ cls := "RugReader", name := "soles", desc := "(I)I" } : Jvm.MethodName) prog_1_method_24_code (4 : Nat) (Option.some Jvm.ClassFile.FieldType.int)) ∈ lw_all := lw_g (lw_at lw_m5 173 rfl) rfl
theorem q1237 : (Jvm.Cond.instanceMethod ({ cls := "RugReader", name := "deepest", desc := "()I" } : Jvm.MethodName)) ∈ lw_all := lw_g (lw_at lw_m5 175 rfl) rfl
theorem q1238 : (Jvm.Cond.selects "RugReader" ({ cls := "RugReader", name := "deepest", desc := "()I" } : Jvm.MethodName) ({ cls := "RugReader", name := "deepest", desc := "()I" } : Jvm.MethodName)) ∈ lw_all := lw_g (lw_at lw_m5 176 rfl) rfl
theorem q1239 : (Jvm.Cond.code ({ cls := "RugReader", name := "deepest", desc := "()I" } : Jvm.MethodName) prog_1_method_25_code (3 : Nat) (Option.some Jvm.ClassFile.FieldType.int)) ∈ lw_all := lw_g (lw_at lw_m5 177 rfl) rfl
theorem q1240 : (Jvm.Cond.methodLink "RugReader" (196 : Nat) ({ cls := "RugReader$Rug", name := "depth", desc := "(I)I" } : Jvm.MethodName)) ∈ lw_all := lw_g (lw_at lw_m5 178 rfl) rfl
theorem q1242 : (Jvm.Cond.instanceMethod ({ cls := "RugReader", name := "who", desc := "(I)I" } : Jvm.MethodName)) ∈ lw_all := lw_g (lw_at lw_m5 180 rfl) rfl
theorem q1243 : (Jvm.Cond.selects "RugReader" ({ cls := "RugReader", name := "who", desc := "(I)I" } : Jvm.MethodName) ({ cls := "RugReader", name := "who", desc := "(I)I" } : Jvm.MethodName)) ∈ lw_all := lw_g (lw_at lw_m5 181 rfl) rfl
theorem q1244 : (Jvm.Cond.code ({ cls := "RugReader", name := "who", desc := "(I)I" } : Jvm.MethodName) prog_1_method_27_code (4 : Nat) (Option.some Jvm.ClassFile.FieldType.int)) ∈ lw_all := lw_g (lw_at lw_m5 182 rfl) rfl
theorem q1245 : (Jvm.Cond.methodLink "RugReader" (265 : Nat) ({ cls := "RugReader", name := "ageOf", desc := "(II)I" } : Jvm.MethodName)) ∈ lw_all := lw_g (lw_at lw_m5 183 rfl) rfl
theorem q1246 : (Jvm.Cond.privateMethod ({ cls := "RugReader", name := "ageOf", desc := "(II)I" } : Jvm.MethodName)) ∈ lw_tbl := lw_at lw_m5 184 rfl
theorem q1247 : (Jvm.Cond.instanceMethod ({ cls := "RugReader", name := "ageOf", desc := "(II)I" } : Jvm.MethodName)) ∈ lw_all := lw_g (lw_at lw_m5 185 rfl) rfl
theorem q1248 : (Jvm.Cond.code ({ cls := "RugReader", name := "ageOf", desc := "(II)I" } : Jvm.MethodName) prog_1_method_26_code (4 : Nat) (Option.some Jvm.ClassFile.FieldType.int)) ∈ lw_all := lw_g (lw_at lw_m5 186 rfl) rfl
theorem q1249 : (Jvm.Cond.classLink "RugReader" (172 : Nat) "RugReader$Person") ∈ lw_all := lw_g (lw_at lw_m5 187 rfl) rfl
theorem q1251 : (Jvm.Cond.instanceMethod ({ cls := "RugReader", name := "age", desc := "(II)I" } : Jvm.MethodName)) ∈ lw_all := lw_g (lw_at lw_m5 189 rfl) rfl
theorem q1252 : (Jvm.Cond.selects "RugReader" ({ cls := "RugReader", name := "age", desc := "(II)I" } : Jvm.MethodName) ({ cls := "RugReader", name := "age", desc := "(II)I" } : Jvm.MethodName)) ∈ lw_all := lw_g (lw_at lw_m5 190 rfl) rfl
theorem q1253 : (Jvm.Cond.code ({ cls := "RugReader", name := "age", desc := "(II)I" } : Jvm.MethodName) prog_1_method_28_code (3 : Nat) (Option.some Jvm.ClassFile.FieldType.int)) ∈ lw_all := lw_g (lw_at lw_m5 191 rfl) rfl
theorem q1255 : (Jvm.Cond.instanceMethod ({ cls := "RugReader", name := "readings", desc := "()I" } : Jvm.MethodName)) ∈ lw_all := lw_g (lw_at lw_m5 193 rfl) rfl
theorem q1256 : (Jvm.Cond.selects "RugReader" ({ cls := "RugReader", name := "readings", desc := "()I" } : Jvm.MethodName) ({ cls := "RugReader", name := "readings", desc := "()I" } : Jvm.MethodName)) ∈ lw_all := lw_g (lw_at lw_m5 194 rfl) rfl
theorem q1257 : (Jvm.Cond.code ({ cls := "RugReader", name := "readings", desc := "()I" } : Jvm.MethodName) prog_1_method_32_code (3 : Nat) (Option.some Jvm.ClassFile.FieldType.int)) ∈ lw_all := lw_g (lw_at lw_m5 195 rfl) rfl
theorem q1258 : (Jvm.Cond.methodLink "RugReader" (292 : Nat) ({ cls := "RugReader", name := "takeTold", desc := "()Z" } : Jvm.MethodName)) ∈ lw_all := lw_g (lw_at lw_m5 196 rfl) rfl
theorem q1259 : (Jvm.Cond.privateMethod ({ cls := "RugReader", name := "takeTold", desc := "()Z" } : Jvm.MethodName)) ∈ lw_tbl := lw_at lw_m5 197 rfl
theorem q1260 : (Jvm.Cond.instanceMethod ({ cls := "RugReader", name := "takeTold", desc := "()Z" } : Jvm.MethodName)) ∈ lw_all := lw_g (lw_at lw_m5 198 rfl) rfl
theorem q1261 : (Jvm.Cond.code ({ cls := "RugReader", name := "takeTold", desc := "()Z" } : Jvm.MethodName) prog_1_method_29_code (3 : Nat) (Option.some Jvm.ClassFile.FieldType.boolean)) ∈ lw_all := lw_g (lw_at lw_m5 199 rfl) rfl
theorem q1262 : (Jvm.Cond.methodLink "RugReader" (268 : Nat) ({ cls := "RugReader", name := "onTape", desc := "(I)I" } : Jvm.MethodName)) ∈ lw_all := lw_g (lw_at lw_m5 200 rfl) rfl
theorem q1263 : (Jvm.Cond.privateMethod ({ cls := "RugReader", name := "onTape", desc := "(I)I" } : Jvm.MethodName)) ∈ lw_tbl := lw_at lw_m5 201 rfl
theorem q1264 : (Jvm.Cond.instanceMethod ({ cls := "RugReader", name := "onTape", desc := "(I)I" } : Jvm.MethodName)) ∈ lw_all := lw_g (lw_at lw_m5 202 rfl) rfl
theorem q1265 : (Jvm.Cond.code ({ cls := "RugReader", name := "onTape", desc := "(I)I" } : Jvm.MethodName) prog_1_method_9_code (2 : Nat) (Option.some Jvm.ClassFile.FieldType.int)) ∈ lw_all := lw_g (lw_at lw_m5 203 rfl) rfl
theorem q1266 : (Jvm.Cond.methodLink "RugReader" (271 : Nat) ({ cls := "RugReader$House", name := "isCell", desc := "(II)Z" } : Jvm.MethodName)) ∈ lw_all := lw_g (lw_at lw_m5 204 rfl) rfl
theorem q1267 : (Jvm.Cond.methodLink "RugReader" (296 : Nat) ({ cls := "RugReader$Way", name := "times", desc := "(I)I" } : Jvm.MethodName)) ∈ lw_all := lw_g (lw_at lw_m5 205 rfl) rfl
theorem q1271 : (Jvm.Cond.methodLink "RugReader" (278 : Nat) ({ cls := "RugReader", name := "tryWays", desc := "(I)V" } : Jvm.MethodName)) ∈ lw_all := lw_g (lw_at lw_m5 209 rfl) rfl
theorem q1272 : (Jvm.Cond.privateMethod ({ cls := "RugReader", name := "tryWays", desc := "(I)V" } : Jvm.MethodName)) ∈ lw_tbl := lw_at lw_m5 210 rfl
theorem q1273 : (Jvm.Cond.instanceMethod ({ cls := "RugReader", name := "tryWays", desc := "(I)V" } : Jvm.MethodName)) ∈ lw_all := lw_g (lw_at lw_m5 211 rfl) rfl
theorem q1274 : (Jvm.Cond.code ({ cls := "RugReader", name := "tryWays", desc := "(I)V" } : Jvm.MethodName) prog_1_method_31_code (4 : Nat) (Option.none : Option Jvm.ClassFile.FieldType)) ∈ lw_all := lw_g (lw_at lw_m5 212 rfl) rfl
theorem q1275 : (Jvm.Cond.methodLink "RugReader" (281 : Nat) ({ cls := "RugReader", name := "isSo", desc := "(I)Z" } : Jvm.MethodName)) ∈ lw_all := lw_g (lw_at lw_m5 213 rfl) rfl
theorem q1276 : (Jvm.Cond.privateMethod ({ cls := "RugReader", name := "isSo", desc := "(I)Z" } : Jvm.MethodName)) ∈ lw_tbl := lw_at lw_m5 214 rfl
theorem q1277 : (Jvm.Cond.instanceMethod ({ cls := "RugReader", name := "isSo", desc := "(I)Z" } : Jvm.MethodName)) ∈ lw_all := lw_g (lw_at lw_m5 215 rfl) rfl
theorem q1278 : (Jvm.Cond.code ({ cls := "RugReader", name := "isSo", desc := "(I)Z" } : Jvm.MethodName) prog_1_method_30_code (6 : Nat) (Option.some Jvm.ClassFile.FieldType.boolean)) ∈ lw_all := lw_g (lw_at lw_m5 216 rfl) rfl
theorem q1279 : (Jvm.Cond.methodLink "RugReader" (287 : Nat) ({ cls := "java/lang/Integer", name := "bitCount", desc := "(I)I" } : Jvm.MethodName)) ∈ lw_all := lw_g (lw_at lw_m5 217 rfl) rfl
theorem q1286 : (Jvm.Cond.instanceMethod ({ cls := "RugReader", name := "read", desc := "(II)I" } : Jvm.MethodName)) ∈ lw_all := lw_g (lw_at lw_m5 224 rfl) rfl
theorem q1287 : (Jvm.Cond.selects "RugReader" ({ cls := "RugReader", name := "read", desc := "(II)I" } : Jvm.MethodName) ({ cls := "RugReader", name := "read", desc := "(II)I" } : Jvm.MethodName)) ∈ lw_all := lw_g (lw_at lw_m5 225 rfl) rfl
theorem q1288 : (Jvm.Cond.code ({ cls := "RugReader", name := "read", desc := "(II)I" } : Jvm.MethodName) prog_1_method_33_code (3 : Nat) (Option.some Jvm.ClassFile.FieldType.int)) ∈ lw_all := lw_g (lw_at lw_m5 226 rfl) rfl
theorem q1290 : (Jvm.Cond.instanceMethod ({ cls := "RugReader", name := "fewest", desc := "()I" } : Jvm.MethodName)) ∈ lw_all := lw_g (lw_at lw_m5 228 rfl) rfl
theorem q1291 : (Jvm.Cond.selects "RugReader" ({ cls := "RugReader", name := "fewest", desc := "()I" } : Jvm.MethodName) ({ cls := "RugReader", name := "fewest", desc := "()I" } : Jvm.MethodName)) ∈ lw_all := lw_g (lw_at lw_m5 229 rfl) rfl
theorem q1292 : (Jvm.Cond.code ({ cls := "RugReader", name := "fewest", desc := "()I" } : Jvm.MethodName) prog_1_method_34_code (1 : Nat) (Option.some Jvm.ClassFile.FieldType.int)) ∈ lw_all := lw_g (lw_at lw_m5 230 rfl) rfl
theorem q1294 : (Jvm.Cond.instanceMethod ({ cls := "RugReader", name := "sign", desc := "(III)I" } : Jvm.MethodName)) ∈ lw_all := lw_g (lw_at lw_m5 232 rfl) rfl
theorem q1295 : (Jvm.Cond.selects "RugReader" ({ cls := "RugReader", name := "sign", desc := "(III)I" } : Jvm.MethodName) ({ cls := "RugReader", name := "sign", desc := "(III)I" } : Jvm.MethodName)) ∈ lw_all := lw_g (lw_at lw_m5 233 rfl) rfl
theorem q1296 : (Jvm.Cond.code ({ cls := "RugReader", name := "sign", desc := "(III)I" } : Jvm.MethodName) prog_1_method_38_code (5 : Nat) (Option.some Jvm.ClassFile.FieldType.int)) ∈ lw_all := lw_g (lw_at lw_m5 234 rfl) rfl
theorem q1297 : (Jvm.Cond.methodLink "RugReader" (321 : Nat) ({ cls := "RugReader", name := "crosses", desc := "(III)I" } : Jvm.MethodName)) ∈ lw_all := lw_g (lw_at lw_m5 235 rfl) rfl
theorem q1298 : (Jvm.Cond.privateMethod ({ cls := "RugReader", name := "crosses", desc := "(III)I" } : Jvm.MethodName)) ∈ lw_tbl := lw_at lw_m5 236 rfl
theorem q1299 : (Jvm.Cond.instanceMethod ({ cls := "RugReader", name := "crosses", desc := "(III)I" } : Jvm.MethodName)) ∈ lw_all := lw_g (lw_at lw_m5 237 rfl) rfl
theorem q1300 : (Jvm.Cond.code ({ cls := "RugReader", name := "crosses", desc := "(III)I" } : Jvm.MethodName) prog_1_method_37_code (7 : Nat) (Option.some Jvm.ClassFile.FieldType.int)) ∈ lw_all := lw_g (lw_at lw_m5 238 rfl) rfl
theorem q1301 : (Jvm.Cond.constant "RugReader" (302 : Nat) (100000000 : Int32)) ∈ lw_all := lw_g (lw_at lw_m5 239 rfl) rfl
theorem q1302 : (Jvm.Cond.methodLink "RugReader" (303 : Nat) ({ cls := "java/util/Arrays", name := "fill", desc := "([II)V" } : Jvm.MethodName)) ∈ lw_all := lw_g (lw_at lw_m6 0 rfl) rfl
theorem q1303 : (Jvm.Cond.methodLink "RugReader" (309 : Nat) ({ cls := "java/util/Arrays", name := "fill", desc := "([ZZ)V" } : Jvm.MethodName)) ∈ lw_all := lw_g (lw_at lw_m6 1 rfl) rfl
theorem q1306 : (Jvm.Cond.methodLink "RugReader" (312 : Nat) ({ cls := "RugReader", name := "signOf", desc := "(II)I" } : Jvm.MethodName)) ∈ lw_all := lw_g (lw_at lw_m6 4 rfl) rfl
theorem q1307 : (Jvm.Cond.privateMethod ({ cls := "RugReader", name := "signOf", desc := "(II)I" } : Jvm.MethodName)) ∈ lw_tbl := lw_at lw_m6 5 rfl
theorem q1308 : (Jvm.Cond.instanceMethod ({ cls := "RugReader", name := "signOf", desc := "(II)I" } : Jvm.MethodName)) ∈ lw_all := lw_g (lw_at lw_m6 6 rfl) rfl
theorem q1309 : (Jvm.Cond.code ({ cls := "RugReader", name := "signOf", desc := "(II)I" } : Jvm.MethodName) prog_1_method_36_code (3 : Nat) (Option.some Jvm.ClassFile.FieldType.int)) ∈ lw_all := lw_g (lw_at lw_m6 7 rfl) rfl
theorem q1310 : (Jvm.Cond.methodLink "RugReader" (315 : Nat) ({ cls := "RugReader", name := "nearest", desc := "()I" } : Jvm.MethodName)) ∈ lw_all := lw_g (lw_at lw_m6 8 rfl) rfl
theorem q1311 : (Jvm.Cond.privateMethod ({ cls := "RugReader", name := "nearest", desc := "()I" } : Jvm.MethodName)) ∈ lw_tbl := lw_at lw_m6 9 rfl
theorem q1312 : (Jvm.Cond.instanceMethod ({ cls := "RugReader", name := "nearest", desc := "()I" } : Jvm.MethodName)) ∈ lw_all := lw_g (lw_at lw_m6 10 rfl) rfl
theorem q1313 : (Jvm.Cond.code ({ cls := "RugReader", name := "nearest", desc := "()I" } : Jvm.MethodName) prog_1_method_35_code (3 : Nat) (Option.some Jvm.ClassFile.FieldType.int)) ∈ lw_all := lw_g (lw_at lw_m6 11 rfl) rfl
theorem q1314 : (Jvm.Cond.methodLink "RugReader" (318 : Nat) ({ cls := "RugReader$House", name := "open", desc := "(II)I" } : Jvm.MethodName)) ∈ lw_all := lw_g (lw_at lw_m6 12 rfl) rfl
theorem q1316 : (Jvm.Cond.instanceMethod ({ cls := "RugReader", name := "steps", desc := "(III)I" } : Jvm.MethodName)) ∈ lw_all := lw_g (lw_at lw_m6 14 rfl) rfl
theorem q1317 : (Jvm.Cond.selects "RugReader" ({ cls := "RugReader", name := "steps", desc := "(III)I" } : Jvm.MethodName) ({ cls := "RugReader", name := "steps", desc := "(III)I" } : Jvm.MethodName)) ∈ lw_all := lw_g (lw_at lw_m6 15 rfl) rfl
theorem q1318 : (Jvm.Cond.code ({ cls := "RugReader", name := "steps", desc := "(III)I" } : Jvm.MethodName) prog_1_method_39_code (5 : Nat) (Option.some Jvm.ClassFile.FieldType.int)) ∈ lw_all := lw_g (lw_at lw_m6 16 rfl) rfl
theorem q1320 : (Jvm.Cond.instanceMethod ({ cls := "RugReader", name := "walk", desc := "()I" } : Jvm.MethodName)) ∈ lw_all := lw_g (lw_at lw_m6 18 rfl) rfl
theorem q1321 : (Jvm.Cond.selects "RugReader" ({ cls := "RugReader", name := "walk", desc := "()I" } : Jvm.MethodName) ({ cls := "RugReader", name := "walk", desc := "()I" } : Jvm.MethodName)) ∈ lw_all := lw_g (lw_at lw_m6 19 rfl) rfl
theorem q1322 : (Jvm.Cond.codeWith ({ cls := "RugReader", name := "walk", desc := "()I" } : Jvm.MethodName) prog_1_method_40_code (3 : Nat) (Option.some Jvm.ClassFile.FieldType.int) [((10 : Nat), (74 : Nat), (75 : Nat), (136 : Nat))]) ∈ lw_all := lw_g (lw_at lw_m6 20 rfl) rfl
theorem q1323 : (Jvm.Cond.classLink "RugReader" (324 : Nat) "RugReader$WalkReader") ∈ lw_all := lw_g (lw_at lw_m6 21 rfl) rfl
theorem q1325 : (Jvm.Cond.methodLink "RugReader" (326 : Nat) ({ cls := "RugReader$WalkReader", name := "<init>", desc := "([BILRugReader$House;)V" } : Jvm.MethodName)) ∈ lw_all := lw_g (lw_at lw_m6 23 rfl) rfl
theorem q1331 : (Jvm.Cond.fieldLinkNest "RugReader" (332 : Nat) "RugReader$WalkReader" "why" "I" "RugReader") ∈ lw_tbl := lw_at lw_m6 29 rfl
theorem q1333 : (Jvm.Cond.fieldLinkNest "RugReader" (343 : Nat) "RugReader$WalkReader" "wrong" "I" "RugReader") ∈ lw_tbl := lw_at lw_m6 31 rfl
theorem q1336 : (Jvm.Cond.fieldLinkNest "RugReader" (341 : Nat) "RugReader$WalkReader" "tuft" "I" "RugReader") ∈ lw_tbl := lw_at lw_m6 34 rfl
theorem q1338 : (Jvm.Cond.fieldLinkNest "RugReader" (335 : Nat) "RugReader$WalkReader" "tufts" "I" "RugReader") ∈ lw_tbl := lw_at lw_m6 36 rfl
theorem q1340 : (Jvm.Cond.fieldLinkNest "RugReader" (338 : Nat) "RugReader$WalkReader" "minutes" "I" "RugReader") ∈ lw_tbl := lw_at lw_m6 38 rfl
theorem q1368 : (Jvm.Cond.methodLink "RugReader" (329 : Nat) ({ cls := "RugReader$WalkReader", name := "read", desc := "()LRugReader$WalkReader;" } : Jvm.MethodName)) ∈ lw_all := lw_g (lw_at lw_m6 66 rfl) rfl
theorem q1410 : (Jvm.Cond.instanceMethod ({ cls := "RugReader", name := "walked", desc := "(I)I" } : Jvm.MethodName)) ∈ lw_all := lw_g (lw_at lw_m6 108 rfl) rfl
theorem q1411 : (Jvm.Cond.selects "RugReader" ({ cls := "RugReader", name := "walked", desc := "(I)I" } : Jvm.MethodName) ({ cls := "RugReader", name := "walked", desc := "(I)I" } : Jvm.MethodName)) ∈ lw_all := lw_g (lw_at lw_m6 109 rfl) rfl
theorem q1412 : (Jvm.Cond.code ({ cls := "RugReader", name := "walked", desc := "(I)I" } : Jvm.MethodName) prog_1_method_41_code (2 : Nat) (Option.some Jvm.ClassFile.FieldType.int)) ∈ lw_all := lw_g (lw_at lw_m6 110 rfl) rfl
theorem q1414 : (Jvm.Cond.instanceMethod ({ cls := "RugReader", name := "seen", desc := "(II)I" } : Jvm.MethodName)) ∈ lw_all := lw_g (lw_at lw_m6 112 rfl) rfl
theorem q1415 : (Jvm.Cond.selects "RugReader" ({ cls := "RugReader", name := "seen", desc := "(II)I" } : Jvm.MethodName) ({ cls := "RugReader", name := "seen", desc := "(II)I" } : Jvm.MethodName)) ∈ lw_all := lw_g (lw_at lw_m6 113 rfl) rfl
theorem q1416 : (Jvm.Cond.code ({ cls := "RugReader", name := "seen", desc := "(II)I" } : Jvm.MethodName) prog_1_method_47_code (7 : Nat) (Option.some Jvm.ClassFile.FieldType.int)) ∈ lw_all := lw_g (lw_at lw_m6 114 rfl) rfl
theorem q1417 : (Jvm.Cond.classLink "RugReader" (288 : Nat) "java/lang/Integer") ∈ lw_all := lw_g (lw_at lw_m6 115 rfl) rfl
theorem q1418 : (Jvm.Cond.methodLink "RugReader" (368 : Nat) ({ cls := "java/lang/Integer", name := "intValue", desc := "()I" } : Jvm.MethodName)) ∈ lw_all := lw_g (lw_at lw_m6 116 rfl) rfl
theorem q1422 : (Jvm.Cond.methodLink "RugReader" (359 : Nat) ({ cls := "RugReader$House", name := "beside", desc := "(II)I" } : Jvm.MethodName)) ∈ lw_all := lw_g (lw_at lw_m6 120 rfl) rfl
theorem q1423 : (Jvm.Cond.methodLink "RugReader" (371 : Nat) ({ cls := "RugReader", name := "rows", desc := "(II)I" } : Jvm.MethodName)) ∈ lw_all := lw_g (lw_at lw_m6 121 rfl) rfl
theorem q1424 : (Jvm.Cond.privateMethod ({ cls := "RugReader", name := "rows", desc := "(II)I" } : Jvm.MethodName)) ∈ lw_tbl := lw_at lw_m6 122 rfl
theorem q1425 : (Jvm.Cond.instanceMethod ({ cls := "RugReader", name := "rows", desc := "(II)I" } : Jvm.MethodName)) ∈ lw_all := lw_g (lw_at lw_m6 123 rfl) rfl
theorem q1426 : (Jvm.Cond.code ({ cls := "RugReader", name := "rows", desc := "(II)I" } : Jvm.MethodName) prog_1_method_46_code (4 : Nat) (Option.some Jvm.ClassFile.FieldType.int)) ∈ lw_all := lw_g (lw_at lw_m6 124 rfl) rfl
theorem q1427 : (Jvm.Cond.methodLink "RugReader" (362 : Nat) ({ cls := "RugReader", name := "isMore", desc := "(II)Z" } : Jvm.MethodName)) ∈ lw_all := lw_g (lw_at lw_m6 125 rfl) rfl
theorem q1428 : (Jvm.Cond.privateMethod ({ cls := "RugReader", name := "isMore", desc := "(II)Z" } : Jvm.MethodName)) ∈ lw_tbl := lw_at lw_m6 126 rfl
theorem q1429 : (Jvm.Cond.instanceMethod ({ cls := "RugReader", name := "isMore", desc := "(II)Z" } : Jvm.MethodName)) ∈ lw_all := lw_g (lw_at lw_m6 127 rfl) rfl
theorem q1430 : (Jvm.Cond.code ({ cls := "RugReader", name := "isMore", desc := "(II)Z" } : Jvm.MethodName) prog_1_method_43_code (8 : Nat) (Option.some Jvm.ClassFile.FieldType.boolean)) ∈ lw_all := lw_g (lw_at lw_m6 128 rfl) rfl
theorem q1431 : (Jvm.Cond.methodLink "RugReader" (349 : Nat) ({ cls := "RugReader", name := "look", desc := "(II)V" } : Jvm.MethodName)) ∈ lw_all := lw_g (lw_at lw_m6 129 rfl) rfl
theorem q1432 : (Jvm.Cond.privateMethod ({ cls := "RugReader", name := "look", desc := "(II)V" } : Jvm.MethodName)) ∈ lw_tbl := lw_at lw_m6 130 rfl
theorem q1433 : (Jvm.Cond.instanceMethod ({ cls := "RugReader", name := "look", desc := "(II)V" } : Jvm.MethodName)) ∈ lw_all := lw_g (lw_at lw_m6 131 rfl) rfl
theorem q1434 : (Jvm.Cond.code ({ cls := "RugReader", name := "look", desc := "(II)V" } : Jvm.MethodName) prog_1_method_42_code (3 : Nat) (Option.none : Option Jvm.ClassFile.FieldType)) ∈ lw_all := lw_g (lw_at lw_m6 132 rfl) rfl
theorem q1435 : (Jvm.Cond.methodLink "RugReader" (353 : Nat) ({ cls := "RugReader", name := "entered", desc := "(II)V" } : Jvm.MethodName)) ∈ lw_all := lw_g (lw_at lw_m6 133 rfl) rfl
theorem q1436 : (Jvm.Cond.privateMethod ({ cls := "RugReader", name := "entered", desc := "(II)V" } : Jvm.MethodName)) ∈ lw_tbl := lw_at lw_m6 134 rfl
theorem q1437 : (Jvm.Cond.instanceMethod ({ cls := "RugReader", name := "entered", desc := "(II)V" } : Jvm.MethodName)) ∈ lw_all := lw_g (lw_at lw_m6 135 rfl) rfl
theorem q1438 : (Jvm.Cond.code ({ cls := "RugReader", name := "entered", desc := "(II)V" } : Jvm.MethodName) prog_1_method_44_code (5 : Nat) (Option.none : Option Jvm.ClassFile.FieldType)) ∈ lw_all := lw_g (lw_at lw_m6 136 rfl) rfl
theorem q1439 : (Jvm.Cond.methodLink "RugReader" (356 : Nat) ({ cls := "RugReader", name := "layRow", desc := "(II)V" } : Jvm.MethodName)) ∈ lw_all := lw_g (lw_at lw_m6 137 rfl) rfl
theorem q1440 : (Jvm.Cond.privateMethod ({ cls := "RugReader", name := "layRow", desc := "(II)V" } : Jvm.MethodName)) ∈ lw_tbl := lw_at lw_m6 138 rfl
theorem q1441 : (Jvm.Cond.instanceMethod ({ cls := "RugReader", name := "layRow", desc := "(II)V" } : Jvm.MethodName)) ∈ lw_all := lw_g (lw_at lw_m6 139 rfl) rfl
theorem q1442 : (Jvm.Cond.code ({ cls := "RugReader", name := "layRow", desc := "(II)V" } : Jvm.MethodName) prog_1_method_45_code (10 : Nat) (Option.none : Option Jvm.ClassFile.FieldType)) ∈ lw_all := lw_g (lw_at lw_m6 140 rfl) rfl
theorem q1444 : (Jvm.Cond.instanceMethod ({ cls := "RugReader", name := "lay", desc := "(I)I" } : Jvm.MethodName)) ∈ lw_all := lw_g (lw_at lw_m6 142 rfl) rfl
theorem q1445 : (Jvm.Cond.selects "RugReader" ({ cls := "RugReader", name := "lay", desc := "(I)I" } : Jvm.MethodName) ({ cls := "RugReader", name := "lay", desc := "(I)I" } : Jvm.MethodName)) ∈ lw_all := lw_g (lw_at lw_m6 143 rfl) rfl
theorem q1446 : (Jvm.Cond.code ({ cls := "RugReader", name := "lay", desc := "(I)I" } : Jvm.MethodName) prog_1_method_48_code (2 : Nat) (Option.some Jvm.ClassFile.FieldType.int)) ∈ lw_all := lw_g (lw_at lw_m6 144 rfl) rfl
theorem q1448 : (Jvm.Cond.instanceMethod ({ cls := "RugReader", name := "ways", desc := "(I)I" } : Jvm.MethodName)) ∈ lw_all := lw_g (lw_at lw_m6 146 rfl) rfl
theorem q1449 : (Jvm.Cond.selects "RugReader" ({ cls := "RugReader", name := "ways", desc := "(I)I" } : Jvm.MethodName) ({ cls := "RugReader", name := "ways", desc := "(I)I" } : Jvm.MethodName)) ∈ lw_all := lw_g (lw_at lw_m6 147 rfl) rfl
theorem q1450 : (Jvm.Cond.code ({ cls := "RugReader", name := "ways", desc := "(I)I" } : Jvm.MethodName) prog_1_method_50_code (2 : Nat) (Option.some Jvm.ClassFile.FieldType.int)) ∈ lw_all := lw_g (lw_at lw_m6 148 rfl) rfl
theorem q1451 : (Jvm.Cond.methodLink "RugReader" (380 : Nat) ({ cls := "RugReader", name := "waysOver", desc := "(I)I" } : Jvm.MethodName)) ∈ lw_all := lw_g (lw_at lw_m6 149 rfl) rfl
theorem q1452 : (Jvm.Cond.privateMethod ({ cls := "RugReader", name := "waysOver", desc := "(I)I" } : Jvm.MethodName)) ∈ lw_tbl := lw_at lw_m6 150 rfl
theorem q1453 : (Jvm.Cond.instanceMethod ({ cls := "RugReader", name := "waysOver", desc := "(I)I" } : Jvm.MethodName)) ∈ lw_all := lw_g (lw_at lw_m6 151 rfl) rfl
theorem q1454 : (Jvm.Cond.code ({ cls := "RugReader", name := "waysOver", desc := "(I)I" } : Jvm.MethodName) prog_1_method_49_code (4 : Nat) (Option.some Jvm.ClassFile.FieldType.int)) ∈ lw_all := lw_g (lw_at lw_m6 152 rfl) rfl
theorem q1455 : (Jvm.Cond.methodLink "RugReader" (377 : Nat) ({ cls := "RugReader$Way", name := "isOver", desc := "(I)Z" } : Jvm.MethodName)) ∈ lw_all := lw_g (lw_at lw_m6 153 rfl) rfl
theorem q1461 : (Jvm.Cond.instanceMethod ({ cls := "RugReader", name := "spot", desc := "()I" } : Jvm.MethodName)) ∈ lw_all := lw_g (lw_at lw_m6 159 rfl) rfl
theorem q1462 : (Jvm.Cond.selects "RugReader" ({ cls := "RugReader", name := "spot", desc := "()I" } : Jvm.MethodName) ({ cls := "RugReader", name := "spot", desc := "()I" } : Jvm.MethodName)) ∈ lw_all := lw_g (lw_at lw_m6 160 rfl) rfl
theorem q1463 : (Jvm.Cond.code ({ cls := "RugReader", name := "spot", desc := "()I" } : Jvm.MethodName) prog_1_method_51_code (3 : Nat) (Option.some Jvm.ClassFile.FieldType.int)) ∈ lw_all := lw_g (lw_at lw_m6 161 rfl) rfl
theorem q1465 : (Jvm.Cond.instanceMethod ({ cls := "RugReader", name := "both", desc := "(II)I" } : Jvm.MethodName)) ∈ lw_all := lw_g (lw_at lw_m6 163 rfl) rfl
theorem q1466 : (Jvm.Cond.selects "RugReader" ({ cls := "RugReader", name := "both", desc := "(II)I" } : Jvm.MethodName) ({ cls := "RugReader", name := "both", desc := "(II)I" } : Jvm.MethodName)) ∈ lw_all := lw_g (lw_at lw_m6 164 rfl) rfl
theorem q1467 : (Jvm.Cond.code ({ cls := "RugReader", name := "both", desc := "(II)I" } : Jvm.MethodName) prog_1_method_52_code (5 : Nat) (Option.some Jvm.ClassFile.FieldType.int)) ∈ lw_all := lw_g (lw_at lw_m6 165 rfl) rfl
theorem q1469 : (Jvm.Cond.instanceMethod ({ cls := "RugReader", name := "years", desc := "(III)I" } : Jvm.MethodName)) ∈ lw_all := lw_g (lw_at lw_m6 167 rfl) rfl
theorem q1470 : (Jvm.Cond.selects "RugReader" ({ cls := "RugReader", name := "years", desc := "(III)I" } : Jvm.MethodName) ({ cls := "RugReader", name := "years", desc := "(III)I" } : Jvm.MethodName)) ∈ lw_all := lw_g (lw_at lw_m6 168 rfl) rfl
theorem q1471 : (Jvm.Cond.code ({ cls := "RugReader", name := "years", desc := "(III)I" } : Jvm.MethodName) prog_1_method_54_code (7 : Nat) (Option.some Jvm.ClassFile.FieldType.int)) ∈ lw_all := lw_g (lw_at lw_m6 169 rfl) rfl
theorem q1472 : (Jvm.Cond.methodLink "RugReader" (387 : Nat) ({ cls := "java/util/ArrayList", name := "isEmpty", desc := "()Z" } : Jvm.MethodName)) ∈ lw_all := lw_g (lw_at lw_m6 170 rfl) rfl
theorem q1476 : (Jvm.Cond.methodLink "RugReader" (390 : Nat) ({ cls := "RugReader", name := "draw", desc := "(I)I" } : Jvm.MethodName)) ∈ lw_all := lw_g (lw_at lw_m6 174 rfl) rfl
theorem q1477 : (Jvm.Cond.privateMethod ({ cls := "RugReader", name := "draw", desc := "(I)I" } : Jvm.MethodName)) ∈ lw_tbl := lw_at lw_m6 175 rfl
theorem q1478 : (Jvm.Cond.instanceMethod ({ cls := "RugReader", name := "draw", desc := "(I)I" } : Jvm.MethodName)) ∈ lw_all := lw_g (lw_at lw_m6 176 rfl) rfl
theorem q1479 : (Jvm.Cond.code ({ cls := "RugReader", name := "draw", desc := "(I)I" } : Jvm.MethodName) prog_1_method_53_code (2 : Nat) (Option.some Jvm.ClassFile.FieldType.int)) ∈ lw_all := lw_g (lw_at lw_m6 177 rfl) rfl
theorem q1480 : (Jvm.Cond.constant "RugReader" (386 : Nat) (1103515245 : Int32)) ∈ lw_all := lw_g (lw_at lw_m6 178 rfl) rfl
theorem q1482 : (Jvm.Cond.instanceMethod ({ cls := "RugReader", name := "rarest", desc := "()I" } : Jvm.MethodName)) ∈ lw_all := lw_g (lw_at lw_m6 180 rfl) rfl
theorem q1483 : (Jvm.Cond.selects "RugReader" ({ cls := "RugReader", name := "rarest", desc := "()I" } : Jvm.MethodName) ({ cls := "RugReader", name := "rarest", desc := "()I" } : Jvm.MethodName)) ∈ lw_all := lw_g (lw_at lw_m6 181 rfl) rfl
theorem q1484 : (Jvm.Cond.code ({ cls := "RugReader", name := "rarest", desc := "()I" } : Jvm.MethodName) prog_1_method_55_code (3 : Nat) (Option.some Jvm.ClassFile.FieldType.int)) ∈ lw_all := lw_g (lw_at lw_m6 182 rfl) rfl
theorem q1486 : (Jvm.Cond.instanceMethod ({ cls := "RugReader", name := "sentence", desc := "()I" } : Jvm.MethodName)) ∈ lw_all := lw_g (lw_at lw_m6 184 rfl) rfl
theorem q1487 : (Jvm.Cond.selects "RugReader" ({ cls := "RugReader", name := "sentence", desc := "()I" } : Jvm.MethodName) ({ cls := "RugReader", name := "sentence", desc := "()I" } : Jvm.MethodName)) ∈ lw_all := lw_g (lw_at lw_m6 185 rfl) rfl
theorem q1488 : (Jvm.Cond.codeWith ({ cls := "RugReader", name := "sentence", desc := "()I" } : Jvm.MethodName) prog_1_method_56_code (3 : Nat) (Option.some Jvm.ClassFile.FieldType.int) [((10 : Nat), (39 : Nat), (40 : Nat), (136 : Nat))]) ∈ lw_all := lw_g (lw_at lw_m6 186 rfl) rfl
theorem q1489 : (Jvm.Cond.classLink "RugReader" (399 : Nat) "RugReader$SentenceReader") ∈ lw_all := lw_g (lw_at lw_m6 187 rfl) rfl
theorem q1491 : (Jvm.Cond.methodLink "RugReader" (401 : Nat) ({ cls := "RugReader$SentenceReader", name := "<init>", desc := "([BILRugReader$House;)V" } : Jvm.MethodName)) ∈ lw_all := lw_g (lw_at lw_m6 189 rfl) rfl
theorem q1497 : (Jvm.Cond.fieldLinkNest "RugReader" (405 : Nat) "RugReader$SentenceReader" "ones" "I" "RugReader") ∈ lw_tbl := lw_at lw_m6 195 rfl
theorem q1515 : (Jvm.Cond.methodLink "RugReader" (402 : Nat) ({ cls := "RugReader$SentenceReader", name := "read", desc := "()LRugReader$Cond;" } : Jvm.MethodName)) ∈ lw_all := lw_g (lw_at lw_m6 213 rfl) rfl
theorem q1628 : (Jvm.Cond.instanceMethod ({ cls := "RugReader", name := "said", desc := "(I)I" } : Jvm.MethodName)) ∈ lw_all := lw_g (lw_at lw_m7 86 rfl) rfl
theorem q1629 : (Jvm.Cond.selects "RugReader" ({ cls := "RugReader", name := "said", desc := "(I)I" } : Jvm.MethodName) ({ cls := "RugReader", name := "said", desc := "(I)I" } : Jvm.MethodName)) ∈ lw_all := lw_g (lw_at lw_m7 87 rfl) rfl
theorem q1630 : (Jvm.Cond.code ({ cls := "RugReader", name := "said", desc := "(I)I" } : Jvm.MethodName) prog_1_method_57_code (4 : Nat) (Option.some Jvm.ClassFile.FieldType.int)) ∈ lw_all := lw_g (lw_at lw_m7 88 rfl) rfl
theorem q1631 : (Jvm.Cond.methodLink "RugReader" (408 : Nat) ({ cls := "RugReader$Cond", name := "holds", desc := "(LRugReader$Rug;I)Z" } : Jvm.MethodName)) ∈ lw_all := lw_g (lw_at lw_m7 89 rfl) rfl
theorem q1673 : (Jvm.Cond.instanceMethod ({ cls := "RugReader", name := "image", desc := "(I)Z" } : Jvm.MethodName)) ∈ lw_all := lw_g (lw_at lw_m7 131 rfl) rfl
theorem q1674 : (Jvm.Cond.selects "RugReader" ({ cls := "RugReader", name := "image", desc := "(I)Z" } : Jvm.MethodName) ({ cls := "RugReader", name := "image", desc := "(I)Z" } : Jvm.MethodName)) ∈ lw_all := lw_g (lw_at lw_m7 132 rfl) rfl
theorem q1675 : (Jvm.Cond.code ({ cls := "RugReader", name := "image", desc := "(I)Z" } : Jvm.MethodName) prog_1_method_58_code (2 : Nat) (Option.some Jvm.ClassFile.FieldType.boolean)) ∈ lw_all := lw_g (lw_at lw_m7 133 rfl) rfl
theorem q1677 : (Jvm.Cond.instanceMethod ({ cls := "RugReader", name := "restore", desc := "(I)Z" } : Jvm.MethodName)) ∈ lw_all := lw_g (lw_at lw_m7 135 rfl) rfl
theorem q1678 : (Jvm.Cond.selects "RugReader" ({ cls := "RugReader", name := "restore", desc := "(I)Z" } : Jvm.MethodName) ({ cls := "RugReader", name := "restore", desc := "(I)Z" } : Jvm.MethodName)) ∈ lw_all := lw_g (lw_at lw_m7 136 rfl) rfl
theorem q1679 : (Jvm.Cond.code ({ cls := "RugReader", name := "restore", desc := "(I)Z" } : Jvm.MethodName) prog_1_method_59_code (2 : Nat) (Option.some Jvm.ClassFile.FieldType.boolean)) ∈ lw_all := lw_g (lw_at lw_m7 137 rfl) rfl
theorem q1681 : (Jvm.Cond.instanceMethod ({ cls := "RugReader", name := "count", desc := "(I)I" } : Jvm.MethodName)) ∈ lw_all := lw_g (lw_at lw_m7 139 rfl) rfl
theorem q1682 : (Jvm.Cond.selects "RugReader" ({ cls := "RugReader", name := "count", desc := "(I)I" } : Jvm.MethodName) ({ cls := "RugReader", name := "count", desc := "(I)I" } : Jvm.MethodName)) ∈ lw_all := lw_g (lw_at lw_m7 140 rfl) rfl
theorem q1683 : (Jvm.Cond.code ({ cls := "RugReader", name := "count", desc := "(I)I" } : Jvm.MethodName) prog_1_method_60_code (2 : Nat) (Option.some Jvm.ClassFile.FieldType.int)) ∈ lw_all := lw_g (lw_at lw_m7 141 rfl) rfl
theorem q1689 : (Jvm.Cond.instanceMethod ({ cls := "RugReader", name := "person", desc := "(II)I" } : Jvm.MethodName)) ∈ lw_all := lw_g (lw_at lw_m7 147 rfl) rfl
theorem q1690 : (Jvm.Cond.selects "RugReader" ({ cls := "RugReader", name := "person", desc := "(II)I" } : Jvm.MethodName) ({ cls := "RugReader", name := "person", desc := "(II)I" } : Jvm.MethodName)) ∈ lw_all := lw_g (lw_at lw_m7 148 rfl) rfl
theorem q1691 : (Jvm.Cond.code ({ cls := "RugReader", name := "person", desc := "(II)I" } : Jvm.MethodName) prog_1_method_14_code (4 : Nat) (Option.some Jvm.ClassFile.FieldType.int)) ∈ lw_all := lw_g (lw_at lw_m7 149 rfl) rfl
theorem q1692 : (Jvm.Cond.methodLink "RugReader" (164 : Nat) ({ cls := "RugReader", name := "need", desc := "(Z)V" } : Jvm.MethodName)) ∈ lw_all := lw_g (lw_at lw_m7 150 rfl) rfl
theorem q1693 : (Jvm.Cond.static ({ cls := "RugReader", name := "need", desc := "(Z)V" } : Jvm.MethodName)) ∈ lw_all := lw_g (lw_at lw_m7 151 rfl) rfl
theorem q1694 : (Jvm.Cond.code ({ cls := "RugReader", name := "need", desc := "(Z)V" } : Jvm.MethodName) prog_1_method_3_code (1 : Nat) (Option.none : Option Jvm.ClassFile.FieldType)) ∈ lw_all := lw_g (lw_at lw_m7 152 rfl) rfl
theorem q1695 : (Jvm.Cond.classLink "RugReader" (3 : Nat) "java/util/NoSuchElementException") ∈ lw_all := lw_g (lw_at lw_m7 153 rfl) rfl
theorem q1706 : (Jvm.Cond.methodLink "RugReader" (5 : Nat) ({ cls := "java/util/NoSuchElementException", name := "<init>", desc := "()V" } : Jvm.MethodName)) ∈ lw_all := lw_g (lw_at lw_m7 164 rfl) rfl
theorem q1715 : (Jvm.Cond.methodLink "RugReader" (183 : Nat) ({ cls := "RugReader$Rug", name := "treadsOf", desc := "(I)I" } : Jvm.MethodName)) ∈ lw_all := lw_g (lw_at lw_m7 173 rfl) rfl
theorem q1716 : (Jvm.Cond.methodLink "RugReader" (187 : Nat) ({ cls := "RugReader$Rug", name := "tuftsOf", desc := "(I)I" } : Jvm.MethodName)) ∈ lw_all := lw_g (lw_at lw_m7 174 rfl) rfl
theorem q1721 : (Jvm.Cond.instanceMethod ({ cls := "RugReader", name := "tuft", desc := "(II)I" } : Jvm.MethodName)) ∈ lw_all := lw_g (lw_at lw_m7 179 rfl) rfl
theorem q1722 : (Jvm.Cond.selects "RugReader" ({ cls := "RugReader", name := "tuft", desc := "(II)I" } : Jvm.MethodName) ({ cls := "RugReader", name := "tuft", desc := "(II)I" } : Jvm.MethodName)) ∈ lw_all := lw_g (lw_at lw_m7 180 rfl) rfl
theorem q1723 : (Jvm.Cond.code ({ cls := "RugReader", name := "tuft", desc := "(II)I" } : Jvm.MethodName) prog_1_method_15_code (3 : Nat) (Option.some Jvm.ClassFile.FieldType.int)) ∈ lw_all := lw_g (lw_at lw_m7 181 rfl) rfl
theorem q1724 : (Jvm.Cond.methodLink "RugReader" (199 : Nat) ({ cls := "RugReader$Rug", name := "treadsOn", desc := "(II)I" } : Jvm.MethodName)) ∈ lw_all := lw_g (lw_at lw_m7 182 rfl) rfl
theorem q2359 : (Jvm.Cond.castable "RugReader" "java/lang/Object") ∈ lw_tbl := lw_at lw_m10 97 rfl
theorem in_X1 : ∀ w ∈ wsX10, w ∈ lw_all := lw_in wsX10 [356, 358, 360, 362, 364, 366, 368, 370, 372, 374, 376, 378, 380, 382, 384, 386, 388, 390, 392, 394, 396, 398, 400, 402, 404, 406, 408, 410, 412, 414, 416, 418] (by decide +kernel) (by decide +kernel)
/-! RugReader$House -/
set_option maxRecDepth 100000
def RX2 : String := "RugReader$House"
def TX2 : u_T := fun k => match k with
  | 0 => ("RugReader$House", "wide", "I", false)
  | 1 => ("RugReader$House", "high", "I", false)
  | 2 => ("RugReader$House", "fade", "I", false)
  | 3 => ("RugReader$House", "lines", "I", false)
  | 4 => ("RugReader$House", "walls", "I", false)
  | 5 => ("RugReader$House", "people", "Ljava/util/ArrayList;", true)
  | 6 => ("RugReader$House", "ways", "Ljava/util/ArrayList;", true)
  | 7 => ("RugReader$House", "doors", "Ljava/util/ArrayList;", true)
  | 8 => ("RugReader$House", "wall", "[Z", true)
  | _ => ("RugReader$House", "door", "[Z", true)
def tyX2 : Nat → FieldType := fun k => match k with
  | 0 => .int
  | 1 => .int
  | 2 => .int
  | 3 => .int
  | 4 => .int
  | 5 => .object "java/util/ArrayList"
  | 6 => .object "java/util/ArrayList"
  | 7 => .object "java/util/ArrayList"
  | 8 => .array .boolean
  | _ => .array .boolean
abbrev wsX20 : List Cond := u_ws RX2 TX2 10
theorem nmX2 : ∀ a, a < 10 → ∀ b, b < 10 → a ≠ b → (TX2 a).2.1 ≠ (TX2 b).2.1 := by decide +kernel
theorem tyX2_ok : ∀ k, k < 10 → parseFieldDescriptor (TX2 k).2.2.1 = some (tyX2 k) := by decide +kernel
abbrev cX2_init : ByteArray := prog_4_method_1_code
def yX2_init : MethodName := ⟨RX2, "<init>", "()V"⟩
def dkwX2_init_2 : List UInt8 := [17, 0, 144, 188, 4, 181, 0, 28, 42, 17, 0, 144, 188, 4, 181, 0, 32, 177]
abbrev dktX2_init_2 : List UInt8 := dkwX2_init_2 ++ []
def dkwX2_init_1 : List UInt8 := [187, 0, 15, 89, 183, 0, 17, 181, 0, 22, 42, 187, 0, 15, 89, 183, 0, 17, 181, 0, 25, 42]
abbrev dktX2_init_1 : List UInt8 := dkwX2_init_1 ++ dktX2_init_2
def dkwX2_init_0 : List UInt8 := [42, 183, 0, 3, 42, 16, 9, 181, 0, 9, 42, 187, 0, 15, 89, 183, 0, 17, 181, 0, 18, 42]
abbrev dktX2_init_0 : List UInt8 := dkwX2_init_0 ++ dktX2_init_1
theorem dksX2_init_0 : cX2_init.data.toList.drop 0 = dktX2_init_0 := by decide +kernel
theorem dksX2_init_1 : cX2_init.data.toList.drop 22 = dktX2_init_1 := dk_seg dksX2_init_0 22 rfl rfl
theorem dksX2_init_2 : cX2_init.data.toList.drop 44 = dktX2_init_2 := dk_seg dksX2_init_1 22 rfl rfl
theorem dX2_init_0 : decode cX2_init 0 = .ok (.aload_n 0, 1) := dk_42 (dk_at dksX2_init_0 0 rfl rfl)
theorem dX2_init_1 : decode cX2_init 1 = .ok (.invokespecial 3, 3) := dk_183 0 3 (dk_at dksX2_init_0 1 rfl rfl)
theorem dX2_init_4 : decode cX2_init 4 = .ok (.aload_n 0, 1) := dk_42 (dk_at dksX2_init_0 4 rfl rfl)
theorem dX2_init_5 : decode cX2_init 5 = .ok (.bipush 9, 2) := dk_16 9 (dk_at dksX2_init_0 5 rfl rfl)
theorem dX2_init_7 : decode cX2_init 7 = .ok (.putfield 9, 3) := dk_181 0 9 (dk_at dksX2_init_0 7 rfl rfl)
theorem dX2_init_10 : decode cX2_init 10 = .ok (.aload_n 0, 1) := dk_42 (dk_at dksX2_init_0 10 rfl rfl)
theorem dX2_init_11 : decode cX2_init 11 = .ok (.new 15, 3) := dk_187 0 15 (dk_at dksX2_init_0 11 rfl rfl)
theorem dX2_init_14 : decode cX2_init 14 = .ok (.dup, 1) := dk_89 (dk_at dksX2_init_0 14 rfl rfl)
theorem dX2_init_15 : decode cX2_init 15 = .ok (.invokespecial 17, 3) := dk_183 0 17 (dk_at dksX2_init_0 15 rfl rfl)
theorem dX2_init_18 : decode cX2_init 18 = .ok (.putfield 18, 3) := dk_181 0 18 (dk_at dksX2_init_0 18 rfl rfl)
theorem dX2_init_21 : decode cX2_init 21 = .ok (.aload_n 0, 1) := dk_42 (dk_at dksX2_init_0 21 rfl rfl)
theorem dX2_init_22 : decode cX2_init 22 = .ok (.new 15, 3) := dk_187 0 15 (dk_at dksX2_init_1 0 rfl rfl)
theorem dX2_init_25 : decode cX2_init 25 = .ok (.dup, 1) := dk_89 (dk_at dksX2_init_1 3 rfl rfl)
theorem dX2_init_26 : decode cX2_init 26 = .ok (.invokespecial 17, 3) := dk_183 0 17 (dk_at dksX2_init_1 4 rfl rfl)
theorem dX2_init_29 : decode cX2_init 29 = .ok (.putfield 22, 3) := dk_181 0 22 (dk_at dksX2_init_1 7 rfl rfl)
theorem dX2_init_32 : decode cX2_init 32 = .ok (.aload_n 0, 1) := dk_42 (dk_at dksX2_init_1 10 rfl rfl)
theorem dX2_init_33 : decode cX2_init 33 = .ok (.new 15, 3) := dk_187 0 15 (dk_at dksX2_init_1 11 rfl rfl)
theorem dX2_init_36 : decode cX2_init 36 = .ok (.dup, 1) := dk_89 (dk_at dksX2_init_1 14 rfl rfl)
theorem dX2_init_37 : decode cX2_init 37 = .ok (.invokespecial 17, 3) := dk_183 0 17 (dk_at dksX2_init_1 15 rfl rfl)
theorem dX2_init_40 : decode cX2_init 40 = .ok (.putfield 25, 3) := dk_181 0 25 (dk_at dksX2_init_1 18 rfl rfl)
theorem dX2_init_43 : decode cX2_init 43 = .ok (.aload_n 0, 1) := dk_42 (dk_at dksX2_init_1 21 rfl rfl)
theorem dX2_init_44 : decode cX2_init 44 = .ok (.sipush 144, 3) := dk_17 0 144 (dk_at dksX2_init_2 0 rfl rfl)
theorem dX2_init_47 : decode cX2_init 47 = .ok (.newarray .boolean, 2) := dk_188_4 (dk_at dksX2_init_2 3 rfl rfl)
theorem dX2_init_49 : decode cX2_init 49 = .ok (.putfield 28, 3) := dk_181 0 28 (dk_at dksX2_init_2 5 rfl rfl)
theorem dX2_init_52 : decode cX2_init 52 = .ok (.aload_n 0, 1) := dk_42 (dk_at dksX2_init_2 8 rfl rfl)
theorem dX2_init_53 : decode cX2_init 53 = .ok (.sipush 144, 3) := dk_17 0 144 (dk_at dksX2_init_2 9 rfl rfl)
theorem dX2_init_56 : decode cX2_init 56 = .ok (.newarray .boolean, 2) := dk_188_4 (dk_at dksX2_init_2 12 rfl rfl)
theorem dX2_init_58 : decode cX2_init 58 = .ok (.putfield 32, 3) := dk_181 0 32 (dk_at dksX2_init_2 14 rfl rfl)
theorem dX2_init_61 : decode cX2_init 61 = .ok (.return_, 1) := dk_177 (dk_at dksX2_init_2 17 rfl rfl)
abbrev cX2_open : ByteArray := prog_4_method_5_code
def yX2_open : MethodName := ⟨RX2, "open", "(II)I"⟩
def dkwX2_open_1 : List UInt8 := [167, 0, 4, 29, 172]
abbrev dktX2_open_1 : List UInt8 := dkwX2_open_1 ++ []
def dkwX2_open_0 : List UInt8 := [42, 27, 28, 182, 0, 56, 62, 29, 2, 159, 0, 12, 42, 180, 0, 28, 29, 51, 153, 0, 7, 2]
abbrev dktX2_open_0 : List UInt8 := dkwX2_open_0 ++ dktX2_open_1
theorem dksX2_open_0 : cX2_open.data.toList.drop 0 = dktX2_open_0 := by decide +kernel
theorem dksX2_open_1 : cX2_open.data.toList.drop 22 = dktX2_open_1 := dk_seg dksX2_open_0 22 rfl rfl
theorem dX2_open_0 : decode cX2_open 0 = .ok (.aload_n 0, 1) := dk_42 (dk_at dksX2_open_0 0 rfl rfl)
theorem dX2_open_1 : decode cX2_open 1 = .ok (.iload_n 1, 1) := dk_27 (dk_at dksX2_open_0 1 rfl rfl)
theorem dX2_open_2 : decode cX2_open 2 = .ok (.iload_n 2, 1) := dk_28 (dk_at dksX2_open_0 2 rfl rfl)
theorem dX2_open_3 : decode cX2_open 3 = .ok (.invokevirtual 56, 3) := dk_182 0 56 (dk_at dksX2_open_0 3 rfl rfl)
theorem dX2_open_6 : decode cX2_open 6 = .ok (.istore_n 3, 1) := dk_62 (dk_at dksX2_open_0 6 rfl rfl)
theorem dX2_open_7 : decode cX2_open 7 = .ok (.iload_n 3, 1) := dk_29 (dk_at dksX2_open_0 7 rfl rfl)
theorem dX2_open_8 : decode cX2_open 8 = .ok (.iconst (-1), 1) := dk_2 (dk_at dksX2_open_0 8 rfl rfl)
theorem dX2_open_9 : decode cX2_open 9 = .ok (.if_icmp .eq 12, 3) := dk_159 0 12 (dk_at dksX2_open_0 9 rfl rfl)
theorem dX2_open_12 : decode cX2_open 12 = .ok (.aload_n 0, 1) := dk_42 (dk_at dksX2_open_0 12 rfl rfl)
theorem dX2_open_13 : decode cX2_open 13 = .ok (.getfield 28, 3) := dk_180 0 28 (dk_at dksX2_open_0 13 rfl rfl)
theorem dX2_open_16 : decode cX2_open 16 = .ok (.iload_n 3, 1) := dk_29 (dk_at dksX2_open_0 16 rfl rfl)
theorem dX2_open_17 : decode cX2_open 17 = .ok (.baload, 1) := dk_51 (dk_at dksX2_open_0 17 rfl rfl)
theorem dX2_open_18 : decode cX2_open 18 = .ok (.ifCond .eq 7, 3) := dk_153 0 7 (dk_at dksX2_open_0 18 rfl rfl)
theorem dX2_open_21 : decode cX2_open 21 = .ok (.iconst (-1), 1) := dk_2 (dk_at dksX2_open_0 21 rfl rfl)
theorem dX2_open_22 : decode cX2_open 22 = .ok (.goto 4, 3) := dk_167 0 4 (dk_at dksX2_open_1 0 rfl rfl)
theorem dX2_open_25 : decode cX2_open 25 = .ok (.iload_n 3, 1) := dk_29 (dk_at dksX2_open_1 3 rfl rfl)
theorem dX2_open_26 : decode cX2_open 26 = .ok (.ireturn, 1) := dk_172 (dk_at dksX2_open_1 4 rfl rfl)
abbrev cX2_beside : ByteArray := prog_4_method_4_code
def yX2_beside : MethodName := ⟨RX2, "beside", "(II)I"⟩
def dkwX2_beside_1 : List UInt8 := [29, 21, 4, 182, 0, 45, 153, 0, 13, 16, 12, 21, 4, 104, 29, 96, 167, 0, 4, 2, 172]
abbrev dktX2_beside_1 : List UInt8 := dkwX2_beside_1 ++ []
def dkwX2_beside_0 : List UInt8 := [27, 16, 12, 112, 178, 0, 49, 28, 46, 96, 62, 27, 16, 12, 108, 178, 0, 53, 28, 46, 96, 54, 4, 42]
abbrev dktX2_beside_0 : List UInt8 := dkwX2_beside_0 ++ dktX2_beside_1
theorem dksX2_beside_0 : cX2_beside.data.toList.drop 0 = dktX2_beside_0 := by decide +kernel
theorem dksX2_beside_1 : cX2_beside.data.toList.drop 24 = dktX2_beside_1 := dk_seg dksX2_beside_0 24 rfl rfl
theorem dX2_beside_0 : decode cX2_beside 0 = .ok (.iload_n 1, 1) := dk_27 (dk_at dksX2_beside_0 0 rfl rfl)
theorem dX2_beside_1 : decode cX2_beside 1 = .ok (.bipush 12, 2) := dk_16 12 (dk_at dksX2_beside_0 1 rfl rfl)
theorem dX2_beside_3 : decode cX2_beside 3 = .ok (.irem, 1) := dk_112 (dk_at dksX2_beside_0 3 rfl rfl)
theorem dX2_beside_4 : decode cX2_beside 4 = .ok (.getstatic 49, 3) := dk_178 0 49 (dk_at dksX2_beside_0 4 rfl rfl)
theorem dX2_beside_7 : decode cX2_beside 7 = .ok (.iload_n 2, 1) := dk_28 (dk_at dksX2_beside_0 7 rfl rfl)
theorem dX2_beside_8 : decode cX2_beside 8 = .ok (.iaload, 1) := dk_46 (dk_at dksX2_beside_0 8 rfl rfl)
theorem dX2_beside_9 : decode cX2_beside 9 = .ok (.iadd, 1) := dk_96 (dk_at dksX2_beside_0 9 rfl rfl)
theorem dX2_beside_10 : decode cX2_beside 10 = .ok (.istore_n 3, 1) := dk_62 (dk_at dksX2_beside_0 10 rfl rfl)
theorem dX2_beside_11 : decode cX2_beside 11 = .ok (.iload_n 1, 1) := dk_27 (dk_at dksX2_beside_0 11 rfl rfl)
theorem dX2_beside_12 : decode cX2_beside 12 = .ok (.bipush 12, 2) := dk_16 12 (dk_at dksX2_beside_0 12 rfl rfl)
theorem dX2_beside_14 : decode cX2_beside 14 = .ok (.idiv, 1) := dk_108 (dk_at dksX2_beside_0 14 rfl rfl)
theorem dX2_beside_15 : decode cX2_beside 15 = .ok (.getstatic 53, 3) := dk_178 0 53 (dk_at dksX2_beside_0 15 rfl rfl)
theorem dX2_beside_18 : decode cX2_beside 18 = .ok (.iload_n 2, 1) := dk_28 (dk_at dksX2_beside_0 18 rfl rfl)
theorem dX2_beside_19 : decode cX2_beside 19 = .ok (.iaload, 1) := dk_46 (dk_at dksX2_beside_0 19 rfl rfl)
theorem dX2_beside_20 : decode cX2_beside 20 = .ok (.iadd, 1) := dk_96 (dk_at dksX2_beside_0 20 rfl rfl)
theorem dX2_beside_21 : decode cX2_beside 21 = .ok (.istore 4, 2) := dk_54 4 (dk_at dksX2_beside_0 21 rfl rfl)
theorem dX2_beside_23 : decode cX2_beside 23 = .ok (.aload_n 0, 1) := dk_42 (dk_at dksX2_beside_0 23 rfl rfl)
theorem dX2_beside_24 : decode cX2_beside 24 = .ok (.iload_n 3, 1) := dk_29 (dk_at dksX2_beside_1 0 rfl rfl)
theorem dX2_beside_25 : decode cX2_beside 25 = .ok (.iload 4, 2) := dk_21 4 (dk_at dksX2_beside_1 1 rfl rfl)
theorem dX2_beside_27 : decode cX2_beside 27 = .ok (.invokevirtual 45, 3) := dk_182 0 45 (dk_at dksX2_beside_1 3 rfl rfl)
theorem dX2_beside_30 : decode cX2_beside 30 = .ok (.ifCond .eq 13, 3) := dk_153 0 13 (dk_at dksX2_beside_1 6 rfl rfl)
theorem dX2_beside_33 : decode cX2_beside 33 = .ok (.bipush 12, 2) := dk_16 12 (dk_at dksX2_beside_1 9 rfl rfl)
theorem dX2_beside_35 : decode cX2_beside 35 = .ok (.iload 4, 2) := dk_21 4 (dk_at dksX2_beside_1 11 rfl rfl)
theorem dX2_beside_37 : decode cX2_beside 37 = .ok (.imul, 1) := dk_104 (dk_at dksX2_beside_1 13 rfl rfl)
theorem dX2_beside_38 : decode cX2_beside 38 = .ok (.iload_n 3, 1) := dk_29 (dk_at dksX2_beside_1 14 rfl rfl)
theorem dX2_beside_39 : decode cX2_beside 39 = .ok (.iadd, 1) := dk_96 (dk_at dksX2_beside_1 15 rfl rfl)
theorem dX2_beside_40 : decode cX2_beside 40 = .ok (.goto 4, 3) := dk_167 0 4 (dk_at dksX2_beside_1 16 rfl rfl)
theorem dX2_beside_43 : decode cX2_beside 43 = .ok (.iconst (-1), 1) := dk_2 (dk_at dksX2_beside_1 19 rfl rfl)
theorem dX2_beside_44 : decode cX2_beside 44 = .ok (.ireturn, 1) := dk_172 (dk_at dksX2_beside_1 20 rfl rfl)
abbrev cX2_isCell : ByteArray := prog_4_method_2_code
def yX2_isCell : MethodName := ⟨RX2, "isCell", "(II)Z"⟩
def dkwX2_isCell_1 : List UInt8 := [184, 0, 38, 153, 0, 7, 4, 167, 0, 4, 3, 172]
abbrev dktX2_isCell_1 : List UInt8 := dkwX2_isCell_1 ++ []
def dkwX2_isCell_0 : List UInt8 := [27, 3, 42, 180, 0, 35, 4, 100, 184, 0, 38, 153, 0, 21, 28, 3, 42, 180, 0, 42, 4, 100]
abbrev dktX2_isCell_0 : List UInt8 := dkwX2_isCell_0 ++ dktX2_isCell_1
theorem dksX2_isCell_0 : cX2_isCell.data.toList.drop 0 = dktX2_isCell_0 := by decide +kernel
theorem dksX2_isCell_1 : cX2_isCell.data.toList.drop 22 = dktX2_isCell_1 := dk_seg dksX2_isCell_0 22 rfl rfl
theorem dX2_isCell_0 : decode cX2_isCell 0 = .ok (.iload_n 1, 1) := dk_27 (dk_at dksX2_isCell_0 0 rfl rfl)
theorem dX2_isCell_1 : decode cX2_isCell 1 = .ok (.iconst 0, 1) := dk_3 (dk_at dksX2_isCell_0 1 rfl rfl)
theorem dX2_isCell_2 : decode cX2_isCell 2 = .ok (.aload_n 0, 1) := dk_42 (dk_at dksX2_isCell_0 2 rfl rfl)
theorem dX2_isCell_3 : decode cX2_isCell 3 = .ok (.getfield 35, 3) := dk_180 0 35 (dk_at dksX2_isCell_0 3 rfl rfl)
theorem dX2_isCell_6 : decode cX2_isCell 6 = .ok (.iconst 1, 1) := dk_4 (dk_at dksX2_isCell_0 6 rfl rfl)
theorem dX2_isCell_7 : decode cX2_isCell 7 = .ok (.isub, 1) := dk_100 (dk_at dksX2_isCell_0 7 rfl rfl)
theorem dX2_isCell_8 : decode cX2_isCell 8 = .ok (.invokestatic 38, 3) := dk_184 0 38 (dk_at dksX2_isCell_0 8 rfl rfl)
theorem dX2_isCell_11 : decode cX2_isCell 11 = .ok (.ifCond .eq 21, 3) := dk_153 0 21 (dk_at dksX2_isCell_0 11 rfl rfl)
theorem dX2_isCell_14 : decode cX2_isCell 14 = .ok (.iload_n 2, 1) := dk_28 (dk_at dksX2_isCell_0 14 rfl rfl)
theorem dX2_isCell_15 : decode cX2_isCell 15 = .ok (.iconst 0, 1) := dk_3 (dk_at dksX2_isCell_0 15 rfl rfl)
theorem dX2_isCell_16 : decode cX2_isCell 16 = .ok (.aload_n 0, 1) := dk_42 (dk_at dksX2_isCell_0 16 rfl rfl)
theorem dX2_isCell_17 : decode cX2_isCell 17 = .ok (.getfield 42, 3) := dk_180 0 42 (dk_at dksX2_isCell_0 17 rfl rfl)
theorem dX2_isCell_20 : decode cX2_isCell 20 = .ok (.iconst 1, 1) := dk_4 (dk_at dksX2_isCell_0 20 rfl rfl)
theorem dX2_isCell_21 : decode cX2_isCell 21 = .ok (.isub, 1) := dk_100 (dk_at dksX2_isCell_0 21 rfl rfl)
theorem dX2_isCell_22 : decode cX2_isCell 22 = .ok (.invokestatic 38, 3) := dk_184 0 38 (dk_at dksX2_isCell_1 0 rfl rfl)
theorem dX2_isCell_25 : decode cX2_isCell 25 = .ok (.ifCond .eq 7, 3) := dk_153 0 7 (dk_at dksX2_isCell_1 3 rfl rfl)
theorem dX2_isCell_28 : decode cX2_isCell 28 = .ok (.iconst 1, 1) := dk_4 (dk_at dksX2_isCell_1 6 rfl rfl)
theorem dX2_isCell_29 : decode cX2_isCell 29 = .ok (.goto 4, 3) := dk_167 0 4 (dk_at dksX2_isCell_1 7 rfl rfl)
theorem dX2_isCell_32 : decode cX2_isCell 32 = .ok (.iconst 0, 1) := dk_3 (dk_at dksX2_isCell_1 10 rfl rfl)
theorem dX2_isCell_33 : decode cX2_isCell 33 = .ok (.ireturn, 1) := dk_172 (dk_at dksX2_isCell_1 11 rfl rfl)
abbrev cX2_isTuft : ByteArray := prog_4_method_3_code
def yX2_isTuft : MethodName := ⟨RX2, "isTuft", "(I)Z"⟩
def dkwX2_isTuft_1 : List UInt8 := [172]
abbrev dktX2_isTuft_1 : List UInt8 := dkwX2_isTuft_1 ++ []
def dkwX2_isTuft_0 : List UInt8 := [27, 155, 0, 22, 42, 27, 16, 12, 112, 27, 16, 12, 108, 182, 0, 45, 153, 0, 7, 4, 167, 0, 4, 3]
abbrev dktX2_isTuft_0 : List UInt8 := dkwX2_isTuft_0 ++ dktX2_isTuft_1
theorem dksX2_isTuft_0 : cX2_isTuft.data.toList.drop 0 = dktX2_isTuft_0 := by decide +kernel
theorem dksX2_isTuft_1 : cX2_isTuft.data.toList.drop 24 = dktX2_isTuft_1 := dk_seg dksX2_isTuft_0 24 rfl rfl
theorem dX2_isTuft_0 : decode cX2_isTuft 0 = .ok (.iload_n 1, 1) := dk_27 (dk_at dksX2_isTuft_0 0 rfl rfl)
theorem dX2_isTuft_1 : decode cX2_isTuft 1 = .ok (.ifCond .lt 22, 3) := dk_155 0 22 (dk_at dksX2_isTuft_0 1 rfl rfl)
theorem dX2_isTuft_4 : decode cX2_isTuft 4 = .ok (.aload_n 0, 1) := dk_42 (dk_at dksX2_isTuft_0 4 rfl rfl)
theorem dX2_isTuft_5 : decode cX2_isTuft 5 = .ok (.iload_n 1, 1) := dk_27 (dk_at dksX2_isTuft_0 5 rfl rfl)
theorem dX2_isTuft_6 : decode cX2_isTuft 6 = .ok (.bipush 12, 2) := dk_16 12 (dk_at dksX2_isTuft_0 6 rfl rfl)
theorem dX2_isTuft_8 : decode cX2_isTuft 8 = .ok (.irem, 1) := dk_112 (dk_at dksX2_isTuft_0 8 rfl rfl)
theorem dX2_isTuft_9 : decode cX2_isTuft 9 = .ok (.iload_n 1, 1) := dk_27 (dk_at dksX2_isTuft_0 9 rfl rfl)
theorem dX2_isTuft_10 : decode cX2_isTuft 10 = .ok (.bipush 12, 2) := dk_16 12 (dk_at dksX2_isTuft_0 10 rfl rfl)
theorem dX2_isTuft_12 : decode cX2_isTuft 12 = .ok (.idiv, 1) := dk_108 (dk_at dksX2_isTuft_0 12 rfl rfl)
theorem dX2_isTuft_13 : decode cX2_isTuft 13 = .ok (.invokevirtual 45, 3) := dk_182 0 45 (dk_at dksX2_isTuft_0 13 rfl rfl)
theorem dX2_isTuft_16 : decode cX2_isTuft 16 = .ok (.ifCond .eq 7, 3) := dk_153 0 7 (dk_at dksX2_isTuft_0 16 rfl rfl)
theorem dX2_isTuft_19 : decode cX2_isTuft 19 = .ok (.iconst 1, 1) := dk_4 (dk_at dksX2_isTuft_0 19 rfl rfl)
theorem dX2_isTuft_20 : decode cX2_isTuft 20 = .ok (.goto 4, 3) := dk_167 0 4 (dk_at dksX2_isTuft_0 20 rfl rfl)
theorem dX2_isTuft_23 : decode cX2_isTuft 23 = .ok (.iconst 0, 1) := dk_3 (dk_at dksX2_isTuft_0 23 rfl rfl)
theorem dX2_isTuft_24 : decode cX2_isTuft 24 = .ok (.ireturn, 1) := dk_172 (dk_at dksX2_isTuft_1 0 rfl rfl)
theorem q104 : (Jvm.Cond.initialized "RugReader$House") ∈ lw_all := lw_g (lw_at lw_m1 2 rfl) rfl
theorem q151 : (Jvm.Cond.instantiable "RugReader$House" (10 : Nat)) ∈ lw_all := lw_g (lw_at lw_m1 49 rfl) rfl
theorem q153 : (Jvm.Cond.instanceMethod ({ cls := "RugReader$House", name := "<init>", desc := "()V" } : Jvm.MethodName)) ∈ lw_all := lw_g (lw_at lw_m1 51 rfl) rfl
theorem q154 : (Jvm.Cond.code ({ cls := "RugReader$House", name := "<init>", desc := "()V" } : Jvm.MethodName) prog_4_method_1_code (1 : Nat) (Option.none : Option Jvm.ClassFile.FieldType)) ∈ lw_all := lw_g (lw_at lw_m1 52 rfl) rfl
theorem q155 : (Jvm.Cond.methodLink "RugReader$House" (3 : Nat) ({ cls := "java/lang/Object", name := "<init>", desc := "()V" } : Jvm.MethodName)) ∈ lw_all := lw_g (lw_at lw_m1 53 rfl) rfl
theorem q156 : (Jvm.Cond.classLink "RugReader$House" (15 : Nat) "java/util/ArrayList") ∈ lw_all := lw_g (lw_at lw_m1 54 rfl) rfl
theorem q158 : (Jvm.Cond.methodLink "RugReader$House" (17 : Nat) ({ cls := "java/util/ArrayList", name := "<init>", desc := "()V" } : Jvm.MethodName)) ∈ lw_all := lw_g (lw_at lw_m1 56 rfl) rfl
theorem q183 : (Jvm.Cond.fieldLink "RugReader$House" (35 : Nat) "RugReader$House" "wide" "I") ∈ lw_all := lw_g (lw_at lw_m1 81 rfl) rfl
theorem q187 : (Jvm.Cond.fieldLink "RugReader$House" (42 : Nat) "RugReader$House" "high" "I") ∈ lw_all := lw_g (lw_at lw_m1 85 rfl) rfl
theorem q191 : (Jvm.Cond.fieldLink "RugReader$House" (9 : Nat) "RugReader$House" "fade" "I") ∈ lw_all := lw_g (lw_at lw_m1 89 rfl) rfl
theorem q199 : (Jvm.Cond.fieldLink "RugReader$House" (18 : Nat) "RugReader$House" "people" "Ljava/util/ArrayList;") ∈ lw_all := lw_g (lw_at lw_m1 97 rfl) rfl
theorem q205 : (Jvm.Cond.fieldLink "RugReader$House" (22 : Nat) "RugReader$House" "ways" "Ljava/util/ArrayList;") ∈ lw_all := lw_g (lw_at lw_m1 103 rfl) rfl
theorem q211 : (Jvm.Cond.fieldLink "RugReader$House" (25 : Nat) "RugReader$House" "doors" "Ljava/util/ArrayList;") ∈ lw_all := lw_g (lw_at lw_m1 109 rfl) rfl
theorem q214 : (Jvm.Cond.fieldLink "RugReader$House" (28 : Nat) "RugReader$House" "wall" "[Z") ∈ lw_all := lw_g (lw_at lw_m1 112 rfl) rfl
theorem q218 : (Jvm.Cond.fieldLink "RugReader$House" (32 : Nat) "RugReader$House" "door" "[Z") ∈ lw_all := lw_g (lw_at lw_m1 116 rfl) rfl
theorem q221 : (Jvm.Cond.lays "RugReader$House" "RugReader$House" "wide" "I") ∈ lw_all := lw_g (lw_at lw_m1 119 rfl) rfl
theorem q222 : (Jvm.Cond.soleField "RugReader$House" "wide") ∈ lw_all := lw_g (lw_at lw_m1 120 rfl) rfl
theorem q223 : (Jvm.Cond.lays "RugReader$House" "RugReader$House" "high" "I") ∈ lw_all := lw_g (lw_at lw_m1 121 rfl) rfl
theorem q224 : (Jvm.Cond.soleField "RugReader$House" "high") ∈ lw_all := lw_g (lw_at lw_m1 122 rfl) rfl
theorem q225 : (Jvm.Cond.lays "RugReader$House" "RugReader$House" "fade" "I") ∈ lw_all := lw_g (lw_at lw_m1 123 rfl) rfl
theorem q226 : (Jvm.Cond.soleField "RugReader$House" "fade") ∈ lw_all := lw_g (lw_at lw_m1 124 rfl) rfl
theorem q227 : (Jvm.Cond.lays "RugReader$House" "RugReader$House" "lines" "I") ∈ lw_all := lw_g (lw_at lw_m1 125 rfl) rfl
theorem q228 : (Jvm.Cond.soleField "RugReader$House" "lines") ∈ lw_all := lw_g (lw_at lw_m1 126 rfl) rfl
theorem q229 : (Jvm.Cond.lays "RugReader$House" "RugReader$House" "walls" "I") ∈ lw_all := lw_g (lw_at lw_m1 127 rfl) rfl
theorem q230 : (Jvm.Cond.soleField "RugReader$House" "walls") ∈ lw_all := lw_g (lw_at lw_m1 128 rfl) rfl
theorem q231 : (Jvm.Cond.laysFinal "RugReader$House" "RugReader$House" "people" "Ljava/util/ArrayList;") ∈ lw_all := lw_g (lw_at lw_m1 129 rfl) rfl
theorem q232 : (Jvm.Cond.soleField "RugReader$House" "people") ∈ lw_all := lw_g (lw_at lw_m1 130 rfl) rfl
theorem q233 : (Jvm.Cond.laysFinal "RugReader$House" "RugReader$House" "ways" "Ljava/util/ArrayList;") ∈ lw_all := lw_g (lw_at lw_m1 131 rfl) rfl
theorem q234 : (Jvm.Cond.soleField "RugReader$House" "ways") ∈ lw_all := lw_g (lw_at lw_m1 132 rfl) rfl
theorem q235 : (Jvm.Cond.laysFinal "RugReader$House" "RugReader$House" "doors" "Ljava/util/ArrayList;") ∈ lw_all := lw_g (lw_at lw_m1 133 rfl) rfl
theorem q236 : (Jvm.Cond.soleField "RugReader$House" "doors") ∈ lw_all := lw_g (lw_at lw_m1 134 rfl) rfl
theorem q237 : (Jvm.Cond.laysFinal "RugReader$House" "RugReader$House" "wall" "[Z") ∈ lw_all := lw_g (lw_at lw_m1 135 rfl) rfl
theorem q238 : (Jvm.Cond.soleField "RugReader$House" "wall") ∈ lw_all := lw_g (lw_at lw_m1 136 rfl) rfl
theorem q239 : (Jvm.Cond.laysFinal "RugReader$House" "RugReader$House" "door" "[Z") ∈ lw_all := lw_g (lw_at lw_m1 137 rfl) rfl
theorem q240 : (Jvm.Cond.soleField "RugReader$House" "door") ∈ lw_all := lw_g (lw_at lw_m1 138 rfl) rfl
theorem q241 : (Jvm.Cond.superclass "RugReader$House" "java/lang/Object") ∈ lw_all := lw_g (lw_at lw_m1 139 rfl) rfl
theorem q994 : (Jvm.Cond.selects "RugReader$House" ({ cls := "java/lang/Object", name := "getClass", desc := "()Ljava/lang/Class;" } : Jvm.MethodName) ({ cls := "java/lang/Object", name := "getClass", desc := "()Ljava/lang/Class;" } : Jvm.MethodName)) ∈ lw_all := lw_g (lw_at lw_m4 172 rfl) rfl
theorem q1106 : (Jvm.Cond.instanceMethod ({ cls := "RugReader$House", name := "open", desc := "(II)I" } : Jvm.MethodName)) ∈ lw_all := lw_g (lw_at lw_m5 44 rfl) rfl
theorem q1107 : (Jvm.Cond.selects "RugReader$House" ({ cls := "RugReader$House", name := "open", desc := "(II)I" } : Jvm.MethodName) ({ cls := "RugReader$House", name := "open", desc := "(II)I" } : Jvm.MethodName)) ∈ lw_all := lw_g (lw_at lw_m5 45 rfl) rfl
theorem q1108 : (Jvm.Cond.code ({ cls := "RugReader$House", name := "open", desc := "(II)I" } : Jvm.MethodName) prog_4_method_5_code (4 : Nat) (Option.some Jvm.ClassFile.FieldType.int)) ∈ lw_all := lw_g (lw_at lw_m5 46 rfl) rfl
theorem q1109 : (Jvm.Cond.methodLink "RugReader$House" (56 : Nat) ({ cls := "RugReader$House", name := "beside", desc := "(II)I" } : Jvm.MethodName)) ∈ lw_all := lw_g (lw_at lw_m5 47 rfl) rfl
theorem q1110 : (Jvm.Cond.instanceMethod ({ cls := "RugReader$House", name := "beside", desc := "(II)I" } : Jvm.MethodName)) ∈ lw_all := lw_g (lw_at lw_m5 48 rfl) rfl
theorem q1111 : (Jvm.Cond.selects "RugReader$House" ({ cls := "RugReader$House", name := "beside", desc := "(II)I" } : Jvm.MethodName) ({ cls := "RugReader$House", name := "beside", desc := "(II)I" } : Jvm.MethodName)) ∈ lw_all := lw_g (lw_at lw_m5 49 rfl) rfl
theorem q1112 : (Jvm.Cond.code ({ cls := "RugReader$House", name := "beside", desc := "(II)I" } : Jvm.MethodName) prog_4_method_4_code (5 : Nat) (Option.some Jvm.ClassFile.FieldType.int)) ∈ lw_all := lw_g (lw_at lw_m5 50 rfl) rfl
theorem q1113 : (Jvm.Cond.fieldLinkNest "RugReader$House" (49 : Nat) "RugReader" "EAST" "[I" "RugReader") ∈ lw_tbl := lw_at lw_m5 51 rfl
theorem q1115 : (Jvm.Cond.fieldLinkNest "RugReader$House" (53 : Nat) "RugReader" "SOUTH" "[I" "RugReader") ∈ lw_tbl := lw_at lw_m5 53 rfl
theorem q1117 : (Jvm.Cond.methodLink "RugReader$House" (45 : Nat) ({ cls := "RugReader$House", name := "isCell", desc := "(II)Z" } : Jvm.MethodName)) ∈ lw_all := lw_g (lw_at lw_m5 55 rfl) rfl
theorem q1118 : (Jvm.Cond.instanceMethod ({ cls := "RugReader$House", name := "isCell", desc := "(II)Z" } : Jvm.MethodName)) ∈ lw_all := lw_g (lw_at lw_m5 56 rfl) rfl
theorem q1119 : (Jvm.Cond.selects "RugReader$House" ({ cls := "RugReader$House", name := "isCell", desc := "(II)Z" } : Jvm.MethodName) ({ cls := "RugReader$House", name := "isCell", desc := "(II)Z" } : Jvm.MethodName)) ∈ lw_all := lw_g (lw_at lw_m5 57 rfl) rfl
theorem q1120 : (Jvm.Cond.code ({ cls := "RugReader$House", name := "isCell", desc := "(II)Z" } : Jvm.MethodName) prog_4_method_2_code (3 : Nat) (Option.some Jvm.ClassFile.FieldType.boolean)) ∈ lw_all := lw_g (lw_at lw_m5 58 rfl) rfl
theorem q1121 : (Jvm.Cond.methodLinkNest "RugReader$House" (38 : Nat) ({ cls := "RugReader", name := "isIn", desc := "(III)Z" } : Jvm.MethodName) "RugReader") ∈ lw_tbl := lw_at lw_m5 59 rfl
theorem q1201 : (Jvm.Cond.instanceMethod ({ cls := "RugReader$House", name := "isTuft", desc := "(I)Z" } : Jvm.MethodName)) ∈ lw_all := lw_g (lw_at lw_m5 139 rfl) rfl
theorem q1202 : (Jvm.Cond.selects "RugReader$House" ({ cls := "RugReader$House", name := "isTuft", desc := "(I)Z" } : Jvm.MethodName) ({ cls := "RugReader$House", name := "isTuft", desc := "(I)Z" } : Jvm.MethodName)) ∈ lw_all := lw_g (lw_at lw_m5 140 rfl) rfl
theorem q1203 : (Jvm.Cond.code ({ cls := "RugReader$House", name := "isTuft", desc := "(I)Z" } : Jvm.MethodName) prog_4_method_3_code (2 : Nat) (Option.some Jvm.ClassFile.FieldType.boolean)) ∈ lw_all := lw_g (lw_at lw_m5 141 rfl) rfl
theorem q2360 : (Jvm.Cond.castable "RugReader$House" "java/lang/Object") ∈ lw_tbl := lw_at lw_m10 98 rfl
theorem in_X2 : ∀ w ∈ wsX20, w ∈ lw_all := lw_in wsX20 [221, 223, 225, 227, 229, 231, 233, 235, 237, 239] (by decide +kernel) (by decide +kernel)
/-! RugReader$Rug -/
set_option maxRecDepth 100000
def RX3 : String := "RugReader$Rug"
def TX3 : u_T := fun k => match k with
  | 0 => ("RugReader$Rug", "h", "LRugReader$House;", false)
  | 1 => ("RugReader$Rug", "day", "I", false)
  | 2 => ("RugReader$Rug", "treads", "[[[I", true)
  | 3 => ("RugReader$Rug", "would", "[[[I", true)
  | 4 => ("RugReader$Rug", "who", "[I", true)
  | 5 => ("RugReader$Rug", "sole", "[I", true)
  | 6 => ("RugReader$Rug", "dir", "[I", true)
  | 7 => ("RugReader$Rug", "old", "[I", true)
  | _ => ("RugReader$Rug", "walks", "[I", true)
def tyX3 : Nat → FieldType := fun k => match k with
  | 0 => .object "RugReader$House"
  | 1 => .int
  | 2 => .array (.array (.array .int))
  | 3 => .array (.array (.array .int))
  | 4 => .array .int
  | 5 => .array .int
  | 6 => .array .int
  | 7 => .array .int
  | _ => .array .int
abbrev wsX30 : List Cond := u_ws RX3 TX3 9
theorem nmX3 : ∀ a, a < 9 → ∀ b, b < 9 → a ≠ b → (TX3 a).2.1 ≠ (TX3 b).2.1 := by decide +kernel
theorem tyX3_ok : ∀ k, k < 9 → parseFieldDescriptor (TX3 k).2.2.1 = some (tyX3 k) := by decide +kernel
abbrev cX3_init : ByteArray := prog_11_method_1_code
def yX3_init : MethodName := ⟨RX3, "<init>", "()V"⟩
def dkwX3_init_3 : List UInt8 := [16, 6, 188, 10, 181, 0, 32, 177]
abbrev dktX3_init_3 : List UInt8 := dkwX3_init_3 ++ []
def dkwX3_init_2 : List UInt8 := [188, 10, 181, 0, 23, 42, 17, 0, 144, 188, 10, 181, 0, 26, 42, 17, 0, 144, 188, 10, 181, 0, 29, 42]
abbrev dktX3_init_2 : List UInt8 := dkwX3_init_2 ++ dktX3_init_3
def dkwX3_init_1 : List UInt8 := [16, 6, 16, 9, 197, 0, 9, 3, 181, 0, 16, 42, 17, 0, 144, 188, 10, 181, 0, 19, 42, 17, 0, 144]
abbrev dktX3_init_1 : List UInt8 := dkwX3_init_1 ++ dktX3_init_2
def dkwX3_init_0 : List UInt8 := [42, 183, 0, 3, 42, 17, 0, 144, 16, 6, 16, 9, 197, 0, 9, 3, 181, 0, 11, 42, 17, 0, 144]
abbrev dktX3_init_0 : List UInt8 := dkwX3_init_0 ++ dktX3_init_1
theorem dksX3_init_0 : cX3_init.data.toList.drop 0 = dktX3_init_0 := by decide +kernel
theorem dksX3_init_1 : cX3_init.data.toList.drop 23 = dktX3_init_1 := dk_seg dksX3_init_0 23 rfl rfl
theorem dksX3_init_2 : cX3_init.data.toList.drop 47 = dktX3_init_2 := dk_seg dksX3_init_1 24 rfl rfl
theorem dksX3_init_3 : cX3_init.data.toList.drop 71 = dktX3_init_3 := dk_seg dksX3_init_2 24 rfl rfl
theorem dX3_init_0 : decode cX3_init 0 = .ok (.aload_n 0, 1) := dk_42 (dk_at dksX3_init_0 0 rfl rfl)
theorem dX3_init_1 : decode cX3_init 1 = .ok (.invokespecial 3, 3) := dk_183 0 3 (dk_at dksX3_init_0 1 rfl rfl)
theorem dX3_init_4 : decode cX3_init 4 = .ok (.aload_n 0, 1) := dk_42 (dk_at dksX3_init_0 4 rfl rfl)
theorem dX3_init_5 : decode cX3_init 5 = .ok (.sipush 144, 3) := dk_17 0 144 (dk_at dksX3_init_0 5 rfl rfl)
theorem dX3_init_8 : decode cX3_init 8 = .ok (.bipush 6, 2) := dk_16 6 (dk_at dksX3_init_0 8 rfl rfl)
theorem dX3_init_10 : decode cX3_init 10 = .ok (.bipush 9, 2) := dk_16 9 (dk_at dksX3_init_0 10 rfl rfl)
theorem dX3_init_12 : decode cX3_init 12 = .ok (.multianewarray 9 3, 4) := by decide +kernel
theorem dX3_init_16 : decode cX3_init 16 = .ok (.putfield 11, 3) := dk_181 0 11 (dk_at dksX3_init_0 16 rfl rfl)
theorem dX3_init_19 : decode cX3_init 19 = .ok (.aload_n 0, 1) := dk_42 (dk_at dksX3_init_0 19 rfl rfl)
theorem dX3_init_20 : decode cX3_init 20 = .ok (.sipush 144, 3) := dk_17 0 144 (dk_at dksX3_init_0 20 rfl rfl)
theorem dX3_init_23 : decode cX3_init 23 = .ok (.bipush 6, 2) := dk_16 6 (dk_at dksX3_init_1 0 rfl rfl)
theorem dX3_init_25 : decode cX3_init 25 = .ok (.bipush 9, 2) := dk_16 9 (dk_at dksX3_init_1 2 rfl rfl)
theorem dX3_init_27 : decode cX3_init 27 = .ok (.multianewarray 9 3, 4) := by decide +kernel
theorem dX3_init_31 : decode cX3_init 31 = .ok (.putfield 16, 3) := dk_181 0 16 (dk_at dksX3_init_1 8 rfl rfl)
theorem dX3_init_34 : decode cX3_init 34 = .ok (.aload_n 0, 1) := dk_42 (dk_at dksX3_init_1 11 rfl rfl)
theorem dX3_init_35 : decode cX3_init 35 = .ok (.sipush 144, 3) := dk_17 0 144 (dk_at dksX3_init_1 12 rfl rfl)
theorem dX3_init_38 : decode cX3_init 38 = .ok (.newarray .int, 2) := dk_188_10 (dk_at dksX3_init_1 15 rfl rfl)
theorem dX3_init_40 : decode cX3_init 40 = .ok (.putfield 19, 3) := dk_181 0 19 (dk_at dksX3_init_1 17 rfl rfl)
theorem dX3_init_43 : decode cX3_init 43 = .ok (.aload_n 0, 1) := dk_42 (dk_at dksX3_init_1 20 rfl rfl)
theorem dX3_init_44 : decode cX3_init 44 = .ok (.sipush 144, 3) := dk_17 0 144 (dk_at dksX3_init_1 21 rfl rfl)
theorem dX3_init_47 : decode cX3_init 47 = .ok (.newarray .int, 2) := dk_188_10 (dk_at dksX3_init_2 0 rfl rfl)
theorem dX3_init_49 : decode cX3_init 49 = .ok (.putfield 23, 3) := dk_181 0 23 (dk_at dksX3_init_2 2 rfl rfl)
theorem dX3_init_52 : decode cX3_init 52 = .ok (.aload_n 0, 1) := dk_42 (dk_at dksX3_init_2 5 rfl rfl)
theorem dX3_init_53 : decode cX3_init 53 = .ok (.sipush 144, 3) := dk_17 0 144 (dk_at dksX3_init_2 6 rfl rfl)
theorem dX3_init_56 : decode cX3_init 56 = .ok (.newarray .int, 2) := dk_188_10 (dk_at dksX3_init_2 9 rfl rfl)
theorem dX3_init_58 : decode cX3_init 58 = .ok (.putfield 26, 3) := dk_181 0 26 (dk_at dksX3_init_2 11 rfl rfl)
theorem dX3_init_61 : decode cX3_init 61 = .ok (.aload_n 0, 1) := dk_42 (dk_at dksX3_init_2 14 rfl rfl)
theorem dX3_init_62 : decode cX3_init 62 = .ok (.sipush 144, 3) := dk_17 0 144 (dk_at dksX3_init_2 15 rfl rfl)
theorem dX3_init_65 : decode cX3_init 65 = .ok (.newarray .int, 2) := dk_188_10 (dk_at dksX3_init_2 18 rfl rfl)
theorem dX3_init_67 : decode cX3_init 67 = .ok (.putfield 29, 3) := dk_181 0 29 (dk_at dksX3_init_2 20 rfl rfl)
theorem dX3_init_70 : decode cX3_init 70 = .ok (.aload_n 0, 1) := dk_42 (dk_at dksX3_init_2 23 rfl rfl)
theorem dX3_init_71 : decode cX3_init 71 = .ok (.bipush 6, 2) := dk_16 6 (dk_at dksX3_init_3 0 rfl rfl)
theorem dX3_init_73 : decode cX3_init 73 = .ok (.newarray .int, 2) := dk_188_10 (dk_at dksX3_init_3 2 rfl rfl)
theorem dX3_init_75 : decode cX3_init 75 = .ok (.putfield 32, 3) := dk_181 0 32 (dk_at dksX3_init_3 4 rfl rfl)
theorem dX3_init_78 : decode cX3_init 78 = .ok (.return_, 1) := dk_177 (dk_at dksX3_init_3 7 rfl rfl)
abbrev cX3_begin : ByteArray := prog_11_method_2_code
def yX3_begin : MethodName := ⟨RX3, "begin", "(LRugReader$House;)LRugReader$Rug;"⟩
def dkwX3_begin_2 : List UInt8 := [167, 255, 235, 132, 2, 1, 167, 255, 215, 42, 180, 0, 32, 3, 184, 0, 47, 42, 176]
abbrev dktX3_begin_2 : List UInt8 := dkwX3_begin_2 ++ []
def dkwX3_begin_1 : List UInt8 := [3, 62, 29, 16, 6, 162, 0, 21, 42, 180, 0, 16, 28, 50, 29, 50, 3, 184, 0, 47, 132, 3, 1]
abbrev dktX3_begin_1 : List UInt8 := dkwX3_begin_1 ++ dktX3_begin_2
def dkwX3_begin_0 : List UInt8 := [42, 43, 181, 0, 35, 42, 3, 181, 0, 39, 3, 61, 28, 17, 0, 144, 162, 0, 40, 42, 28, 182, 0, 43]
abbrev dktX3_begin_0 : List UInt8 := dkwX3_begin_0 ++ dktX3_begin_1
theorem dksX3_begin_0 : cX3_begin.data.toList.drop 0 = dktX3_begin_0 := by decide +kernel
theorem dksX3_begin_1 : cX3_begin.data.toList.drop 24 = dktX3_begin_1 := dk_seg dksX3_begin_0 24 rfl rfl
theorem dksX3_begin_2 : cX3_begin.data.toList.drop 47 = dktX3_begin_2 := dk_seg dksX3_begin_1 23 rfl rfl
theorem dX3_begin_0 : decode cX3_begin 0 = .ok (.aload_n 0, 1) := dk_42 (dk_at dksX3_begin_0 0 rfl rfl)
theorem dX3_begin_1 : decode cX3_begin 1 = .ok (.aload_n 1, 1) := dk_43 (dk_at dksX3_begin_0 1 rfl rfl)
theorem dX3_begin_2 : decode cX3_begin 2 = .ok (.putfield 35, 3) := dk_181 0 35 (dk_at dksX3_begin_0 2 rfl rfl)
theorem dX3_begin_5 : decode cX3_begin 5 = .ok (.aload_n 0, 1) := dk_42 (dk_at dksX3_begin_0 5 rfl rfl)
theorem dX3_begin_6 : decode cX3_begin 6 = .ok (.iconst 0, 1) := dk_3 (dk_at dksX3_begin_0 6 rfl rfl)
theorem dX3_begin_7 : decode cX3_begin 7 = .ok (.putfield 39, 3) := dk_181 0 39 (dk_at dksX3_begin_0 7 rfl rfl)
theorem dX3_begin_10 : decode cX3_begin 10 = .ok (.iconst 0, 1) := dk_3 (dk_at dksX3_begin_0 10 rfl rfl)
theorem dX3_begin_11 : decode cX3_begin 11 = .ok (.istore_n 2, 1) := dk_61 (dk_at dksX3_begin_0 11 rfl rfl)
theorem dX3_begin_12 : decode cX3_begin 12 = .ok (.iload_n 2, 1) := dk_28 (dk_at dksX3_begin_0 12 rfl rfl)
theorem dX3_begin_13 : decode cX3_begin 13 = .ok (.sipush 144, 3) := dk_17 0 144 (dk_at dksX3_begin_0 13 rfl rfl)
theorem dX3_begin_16 : decode cX3_begin 16 = .ok (.if_icmp .ge 40, 3) := dk_162 0 40 (dk_at dksX3_begin_0 16 rfl rfl)
theorem dX3_begin_19 : decode cX3_begin 19 = .ok (.aload_n 0, 1) := dk_42 (dk_at dksX3_begin_0 19 rfl rfl)
theorem dX3_begin_20 : decode cX3_begin 20 = .ok (.iload_n 2, 1) := dk_28 (dk_at dksX3_begin_0 20 rfl rfl)
theorem dX3_begin_21 : decode cX3_begin 21 = .ok (.invokevirtual 43, 3) := dk_182 0 43 (dk_at dksX3_begin_0 21 rfl rfl)
theorem dX3_begin_24 : decode cX3_begin 24 = .ok (.iconst 0, 1) := dk_3 (dk_at dksX3_begin_1 0 rfl rfl)
theorem dX3_begin_25 : decode cX3_begin 25 = .ok (.istore_n 3, 1) := dk_62 (dk_at dksX3_begin_1 1 rfl rfl)
theorem dX3_begin_26 : decode cX3_begin 26 = .ok (.iload_n 3, 1) := dk_29 (dk_at dksX3_begin_1 2 rfl rfl)
theorem dX3_begin_27 : decode cX3_begin 27 = .ok (.bipush 6, 2) := dk_16 6 (dk_at dksX3_begin_1 3 rfl rfl)
theorem dX3_begin_29 : decode cX3_begin 29 = .ok (.if_icmp .ge 21, 3) := dk_162 0 21 (dk_at dksX3_begin_1 5 rfl rfl)
theorem dX3_begin_32 : decode cX3_begin 32 = .ok (.aload_n 0, 1) := dk_42 (dk_at dksX3_begin_1 8 rfl rfl)
theorem dX3_begin_33 : decode cX3_begin 33 = .ok (.getfield 16, 3) := dk_180 0 16 (dk_at dksX3_begin_1 9 rfl rfl)
theorem dX3_begin_36 : decode cX3_begin 36 = .ok (.iload_n 2, 1) := dk_28 (dk_at dksX3_begin_1 12 rfl rfl)
theorem dX3_begin_37 : decode cX3_begin 37 = .ok (.aaload, 1) := dk_50 (dk_at dksX3_begin_1 13 rfl rfl)
theorem dX3_begin_38 : decode cX3_begin 38 = .ok (.iload_n 3, 1) := dk_29 (dk_at dksX3_begin_1 14 rfl rfl)
theorem dX3_begin_39 : decode cX3_begin 39 = .ok (.aaload, 1) := dk_50 (dk_at dksX3_begin_1 15 rfl rfl)
theorem dX3_begin_40 : decode cX3_begin 40 = .ok (.iconst 0, 1) := dk_3 (dk_at dksX3_begin_1 16 rfl rfl)
theorem dX3_begin_41 : decode cX3_begin 41 = .ok (.invokestatic 47, 3) := dk_184 0 47 (dk_at dksX3_begin_1 17 rfl rfl)
theorem dX3_begin_44 : decode cX3_begin 44 = .ok (.iinc 3 1, 3) := dk_132 3 1 (dk_at dksX3_begin_1 20 rfl rfl)
theorem dX3_begin_47 : decode cX3_begin 47 = .ok (.goto (-21), 3) := dk_167 255 235 (dk_at dksX3_begin_2 0 rfl rfl)
theorem dX3_begin_50 : decode cX3_begin 50 = .ok (.iinc 2 1, 3) := dk_132 2 1 (dk_at dksX3_begin_2 3 rfl rfl)
theorem dX3_begin_53 : decode cX3_begin 53 = .ok (.goto (-41), 3) := dk_167 255 215 (dk_at dksX3_begin_2 6 rfl rfl)
theorem dX3_begin_56 : decode cX3_begin 56 = .ok (.aload_n 0, 1) := dk_42 (dk_at dksX3_begin_2 9 rfl rfl)
theorem dX3_begin_57 : decode cX3_begin 57 = .ok (.getfield 32, 3) := dk_180 0 32 (dk_at dksX3_begin_2 10 rfl rfl)
theorem dX3_begin_60 : decode cX3_begin 60 = .ok (.iconst 0, 1) := dk_3 (dk_at dksX3_begin_2 13 rfl rfl)
theorem dX3_begin_61 : decode cX3_begin 61 = .ok (.invokestatic 47, 3) := dk_184 0 47 (dk_at dksX3_begin_2 14 rfl rfl)
theorem dX3_begin_64 : decode cX3_begin 64 = .ok (.aload_n 0, 1) := dk_42 (dk_at dksX3_begin_2 17 rfl rfl)
theorem dX3_begin_65 : decode cX3_begin 65 = .ok (.areturn, 1) := dk_176 (dk_at dksX3_begin_2 18 rfl rfl)
abbrev cX3_clean : ByteArray := prog_11_method_5_code
def yX3_clean : MethodName := ⟨RX3, "clean", "(I)V"⟩
def dkwX3_clean_2 : List UInt8 := [42, 180, 0, 29, 27, 2, 79, 177]
abbrev dktX3_clean_2 : List UInt8 := dkwX3_clean_2 ++ []
def dkwX3_clean_1 : List UInt8 := [167, 255, 235, 42, 180, 0, 19, 27, 2, 79, 42, 180, 0, 23, 27, 2, 79, 42, 180, 0, 26, 27, 2, 79]
abbrev dktX3_clean_1 : List UInt8 := dkwX3_clean_1 ++ dktX3_clean_2
def dkwX3_clean_0 : List UInt8 := [3, 61, 28, 16, 6, 162, 0, 21, 42, 180, 0, 11, 27, 50, 28, 50, 3, 184, 0, 47, 132, 2, 1]
abbrev dktX3_clean_0 : List UInt8 := dkwX3_clean_0 ++ dktX3_clean_1
theorem dksX3_clean_0 : cX3_clean.data.toList.drop 0 = dktX3_clean_0 := by decide +kernel
theorem dksX3_clean_1 : cX3_clean.data.toList.drop 23 = dktX3_clean_1 := dk_seg dksX3_clean_0 23 rfl rfl
theorem dksX3_clean_2 : cX3_clean.data.toList.drop 47 = dktX3_clean_2 := dk_seg dksX3_clean_1 24 rfl rfl
theorem dX3_clean_0 : decode cX3_clean 0 = .ok (.iconst 0, 1) := dk_3 (dk_at dksX3_clean_0 0 rfl rfl)
theorem dX3_clean_1 : decode cX3_clean 1 = .ok (.istore_n 2, 1) := dk_61 (dk_at dksX3_clean_0 1 rfl rfl)
theorem dX3_clean_2 : decode cX3_clean 2 = .ok (.iload_n 2, 1) := dk_28 (dk_at dksX3_clean_0 2 rfl rfl)
theorem dX3_clean_3 : decode cX3_clean 3 = .ok (.bipush 6, 2) := dk_16 6 (dk_at dksX3_clean_0 3 rfl rfl)
theorem dX3_clean_5 : decode cX3_clean 5 = .ok (.if_icmp .ge 21, 3) := dk_162 0 21 (dk_at dksX3_clean_0 5 rfl rfl)
theorem dX3_clean_8 : decode cX3_clean 8 = .ok (.aload_n 0, 1) := dk_42 (dk_at dksX3_clean_0 8 rfl rfl)
theorem dX3_clean_9 : decode cX3_clean 9 = .ok (.getfield 11, 3) := dk_180 0 11 (dk_at dksX3_clean_0 9 rfl rfl)
theorem dX3_clean_12 : decode cX3_clean 12 = .ok (.iload_n 1, 1) := dk_27 (dk_at dksX3_clean_0 12 rfl rfl)
theorem dX3_clean_13 : decode cX3_clean 13 = .ok (.aaload, 1) := dk_50 (dk_at dksX3_clean_0 13 rfl rfl)
theorem dX3_clean_14 : decode cX3_clean 14 = .ok (.iload_n 2, 1) := dk_28 (dk_at dksX3_clean_0 14 rfl rfl)
theorem dX3_clean_15 : decode cX3_clean 15 = .ok (.aaload, 1) := dk_50 (dk_at dksX3_clean_0 15 rfl rfl)
theorem dX3_clean_16 : decode cX3_clean 16 = .ok (.iconst 0, 1) := dk_3 (dk_at dksX3_clean_0 16 rfl rfl)
theorem dX3_clean_17 : decode cX3_clean 17 = .ok (.invokestatic 47, 3) := dk_184 0 47 (dk_at dksX3_clean_0 17 rfl rfl)
theorem dX3_clean_20 : decode cX3_clean 20 = .ok (.iinc 2 1, 3) := dk_132 2 1 (dk_at dksX3_clean_0 20 rfl rfl)
theorem dX3_clean_23 : decode cX3_clean 23 = .ok (.goto (-21), 3) := dk_167 255 235 (dk_at dksX3_clean_1 0 rfl rfl)
theorem dX3_clean_26 : decode cX3_clean 26 = .ok (.aload_n 0, 1) := dk_42 (dk_at dksX3_clean_1 3 rfl rfl)
theorem dX3_clean_27 : decode cX3_clean 27 = .ok (.getfield 19, 3) := dk_180 0 19 (dk_at dksX3_clean_1 4 rfl rfl)
theorem dX3_clean_30 : decode cX3_clean 30 = .ok (.iload_n 1, 1) := dk_27 (dk_at dksX3_clean_1 7 rfl rfl)
theorem dX3_clean_31 : decode cX3_clean 31 = .ok (.iconst (-1), 1) := dk_2 (dk_at dksX3_clean_1 8 rfl rfl)
theorem dX3_clean_32 : decode cX3_clean 32 = .ok (.iastore, 1) := dk_79 (dk_at dksX3_clean_1 9 rfl rfl)
theorem dX3_clean_33 : decode cX3_clean 33 = .ok (.aload_n 0, 1) := dk_42 (dk_at dksX3_clean_1 10 rfl rfl)
theorem dX3_clean_34 : decode cX3_clean 34 = .ok (.getfield 23, 3) := dk_180 0 23 (dk_at dksX3_clean_1 11 rfl rfl)
theorem dX3_clean_37 : decode cX3_clean 37 = .ok (.iload_n 1, 1) := dk_27 (dk_at dksX3_clean_1 14 rfl rfl)
theorem dX3_clean_38 : decode cX3_clean 38 = .ok (.iconst (-1), 1) := dk_2 (dk_at dksX3_clean_1 15 rfl rfl)
theorem dX3_clean_39 : decode cX3_clean 39 = .ok (.iastore, 1) := dk_79 (dk_at dksX3_clean_1 16 rfl rfl)
theorem dX3_clean_40 : decode cX3_clean 40 = .ok (.aload_n 0, 1) := dk_42 (dk_at dksX3_clean_1 17 rfl rfl)
theorem dX3_clean_41 : decode cX3_clean 41 = .ok (.getfield 26, 3) := dk_180 0 26 (dk_at dksX3_clean_1 18 rfl rfl)
theorem dX3_clean_44 : decode cX3_clean 44 = .ok (.iload_n 1, 1) := dk_27 (dk_at dksX3_clean_1 21 rfl rfl)
theorem dX3_clean_45 : decode cX3_clean 45 = .ok (.iconst (-1), 1) := dk_2 (dk_at dksX3_clean_1 22 rfl rfl)
theorem dX3_clean_46 : decode cX3_clean 46 = .ok (.iastore, 1) := dk_79 (dk_at dksX3_clean_1 23 rfl rfl)
theorem dX3_clean_47 : decode cX3_clean 47 = .ok (.aload_n 0, 1) := dk_42 (dk_at dksX3_clean_2 0 rfl rfl)
theorem dX3_clean_48 : decode cX3_clean 48 = .ok (.getfield 29, 3) := dk_180 0 29 (dk_at dksX3_clean_2 1 rfl rfl)
theorem dX3_clean_51 : decode cX3_clean 51 = .ok (.iload_n 1, 1) := dk_27 (dk_at dksX3_clean_2 4 rfl rfl)
theorem dX3_clean_52 : decode cX3_clean 52 = .ok (.iconst (-1), 1) := dk_2 (dk_at dksX3_clean_2 5 rfl rfl)
theorem dX3_clean_53 : decode cX3_clean 53 = .ok (.iastore, 1) := dk_79 (dk_at dksX3_clean_2 6 rfl rfl)
theorem dX3_clean_54 : decode cX3_clean 54 = .ok (.return_, 1) := dk_177 (dk_at dksX3_clean_2 7 rfl rfl)
abbrev cX3_as : ByteArray := prog_11_method_3_code
def yX3_as : MethodName := ⟨RX3, "as", "(LRugReader$Rug;)LRugReader$Rug;"⟩
def dkwX3_as_6 : List UInt8 := [184, 0, 53, 42, 176]
abbrev dktX3_as_6 : List UInt8 := dkwX3_as_6 ++ []
def dkwX3_as_5 : List UInt8 := [184, 0, 53, 43, 180, 0, 29, 42, 180, 0, 29, 184, 0, 53, 43, 180, 0, 32, 42, 180, 0, 32]
abbrev dktX3_as_5 : List UInt8 := dkwX3_as_5 ++ dktX3_as_6
def dkwX3_as_4 : List UInt8 := [184, 0, 53, 43, 180, 0, 23, 42, 180, 0, 23, 184, 0, 53, 43, 180, 0, 26, 42, 180, 0, 26]
abbrev dktX3_as_4 : List UInt8 := dkwX3_as_4 ++ dktX3_as_5
def dkwX3_as_3 : List UInt8 := [184, 0, 53, 132, 3, 1, 167, 255, 209, 132, 2, 1, 167, 255, 194, 43, 180, 0, 19, 42, 180, 0, 19]
abbrev dktX3_as_3 : List UInt8 := dkwX3_as_3 ++ dktX3_as_4
def dkwX3_as_2 : List UInt8 := [50, 29, 50, 184, 0, 53, 43, 180, 0, 16, 28, 50, 29, 50, 42, 180, 0, 16, 28, 50, 29, 50]
abbrev dktX3_as_2 : List UInt8 := dkwX3_as_2 ++ dktX3_as_3
def dkwX3_as_1 : List UInt8 := [162, 0, 61, 3, 62, 29, 16, 6, 162, 0, 47, 43, 180, 0, 11, 28, 50, 29, 50, 42, 180, 0, 11, 28]
abbrev dktX3_as_1 : List UInt8 := dkwX3_as_1 ++ dktX3_as_2
def dkwX3_as_0 : List UInt8 := [42, 43, 180, 0, 35, 181, 0, 35, 42, 43, 180, 0, 39, 181, 0, 39, 3, 61, 28, 17, 0, 144]
abbrev dktX3_as_0 : List UInt8 := dkwX3_as_0 ++ dktX3_as_1
theorem dksX3_as_0 : cX3_as.data.toList.drop 0 = dktX3_as_0 := by decide +kernel
theorem dksX3_as_1 : cX3_as.data.toList.drop 22 = dktX3_as_1 := dk_seg dksX3_as_0 22 rfl rfl
theorem dksX3_as_2 : cX3_as.data.toList.drop 46 = dktX3_as_2 := dk_seg dksX3_as_1 24 rfl rfl
theorem dksX3_as_3 : cX3_as.data.toList.drop 68 = dktX3_as_3 := dk_seg dksX3_as_2 22 rfl rfl
theorem dksX3_as_4 : cX3_as.data.toList.drop 91 = dktX3_as_4 := dk_seg dksX3_as_3 23 rfl rfl
theorem dksX3_as_5 : cX3_as.data.toList.drop 113 = dktX3_as_5 := dk_seg dksX3_as_4 22 rfl rfl
theorem dksX3_as_6 : cX3_as.data.toList.drop 135 = dktX3_as_6 := dk_seg dksX3_as_5 22 rfl rfl
theorem dX3_as_0 : decode cX3_as 0 = .ok (.aload_n 0, 1) := dk_42 (dk_at dksX3_as_0 0 rfl rfl)
theorem dX3_as_1 : decode cX3_as 1 = .ok (.aload_n 1, 1) := dk_43 (dk_at dksX3_as_0 1 rfl rfl)
theorem dX3_as_2 : decode cX3_as 2 = .ok (.getfield 35, 3) := dk_180 0 35 (dk_at dksX3_as_0 2 rfl rfl)
theorem dX3_as_5 : decode cX3_as 5 = .ok (.putfield 35, 3) := dk_181 0 35 (dk_at dksX3_as_0 5 rfl rfl)
theorem dX3_as_8 : decode cX3_as 8 = .ok (.aload_n 0, 1) := dk_42 (dk_at dksX3_as_0 8 rfl rfl)
theorem dX3_as_9 : decode cX3_as 9 = .ok (.aload_n 1, 1) := dk_43 (dk_at dksX3_as_0 9 rfl rfl)
theorem dX3_as_10 : decode cX3_as 10 = .ok (.getfield 39, 3) := dk_180 0 39 (dk_at dksX3_as_0 10 rfl rfl)
theorem dX3_as_13 : decode cX3_as 13 = .ok (.putfield 39, 3) := dk_181 0 39 (dk_at dksX3_as_0 13 rfl rfl)
theorem dX3_as_16 : decode cX3_as 16 = .ok (.iconst 0, 1) := dk_3 (dk_at dksX3_as_0 16 rfl rfl)
theorem dX3_as_17 : decode cX3_as 17 = .ok (.istore_n 2, 1) := dk_61 (dk_at dksX3_as_0 17 rfl rfl)
theorem dX3_as_18 : decode cX3_as 18 = .ok (.iload_n 2, 1) := dk_28 (dk_at dksX3_as_0 18 rfl rfl)
theorem dX3_as_19 : decode cX3_as 19 = .ok (.sipush 144, 3) := dk_17 0 144 (dk_at dksX3_as_0 19 rfl rfl)
theorem dX3_as_22 : decode cX3_as 22 = .ok (.if_icmp .ge 61, 3) := dk_162 0 61 (dk_at dksX3_as_1 0 rfl rfl)
theorem dX3_as_25 : decode cX3_as 25 = .ok (.iconst 0, 1) := dk_3 (dk_at dksX3_as_1 3 rfl rfl)
theorem dX3_as_26 : decode cX3_as 26 = .ok (.istore_n 3, 1) := dk_62 (dk_at dksX3_as_1 4 rfl rfl)
theorem dX3_as_27 : decode cX3_as 27 = .ok (.iload_n 3, 1) := dk_29 (dk_at dksX3_as_1 5 rfl rfl)
theorem dX3_as_28 : decode cX3_as 28 = .ok (.bipush 6, 2) := dk_16 6 (dk_at dksX3_as_1 6 rfl rfl)
theorem dX3_as_30 : decode cX3_as 30 = .ok (.if_icmp .ge 47, 3) := dk_162 0 47 (dk_at dksX3_as_1 8 rfl rfl)
theorem dX3_as_33 : decode cX3_as 33 = .ok (.aload_n 1, 1) := dk_43 (dk_at dksX3_as_1 11 rfl rfl)
theorem dX3_as_34 : decode cX3_as 34 = .ok (.getfield 11, 3) := dk_180 0 11 (dk_at dksX3_as_1 12 rfl rfl)
theorem dX3_as_37 : decode cX3_as 37 = .ok (.iload_n 2, 1) := dk_28 (dk_at dksX3_as_1 15 rfl rfl)
theorem dX3_as_38 : decode cX3_as 38 = .ok (.aaload, 1) := dk_50 (dk_at dksX3_as_1 16 rfl rfl)
theorem dX3_as_39 : decode cX3_as 39 = .ok (.iload_n 3, 1) := dk_29 (dk_at dksX3_as_1 17 rfl rfl)
theorem dX3_as_40 : decode cX3_as 40 = .ok (.aaload, 1) := dk_50 (dk_at dksX3_as_1 18 rfl rfl)
theorem dX3_as_41 : decode cX3_as 41 = .ok (.aload_n 0, 1) := dk_42 (dk_at dksX3_as_1 19 rfl rfl)
theorem dX3_as_42 : decode cX3_as 42 = .ok (.getfield 11, 3) := dk_180 0 11 (dk_at dksX3_as_1 20 rfl rfl)
theorem dX3_as_45 : decode cX3_as 45 = .ok (.iload_n 2, 1) := dk_28 (dk_at dksX3_as_1 23 rfl rfl)
theorem dX3_as_46 : decode cX3_as 46 = .ok (.aaload, 1) := dk_50 (dk_at dksX3_as_2 0 rfl rfl)
theorem dX3_as_47 : decode cX3_as 47 = .ok (.iload_n 3, 1) := dk_29 (dk_at dksX3_as_2 1 rfl rfl)
theorem dX3_as_48 : decode cX3_as 48 = .ok (.aaload, 1) := dk_50 (dk_at dksX3_as_2 2 rfl rfl)
theorem dX3_as_49 : decode cX3_as 49 = .ok (.invokestatic 53, 3) := dk_184 0 53 (dk_at dksX3_as_2 3 rfl rfl)
theorem dX3_as_52 : decode cX3_as 52 = .ok (.aload_n 1, 1) := dk_43 (dk_at dksX3_as_2 6 rfl rfl)
theorem dX3_as_53 : decode cX3_as 53 = .ok (.getfield 16, 3) := dk_180 0 16 (dk_at dksX3_as_2 7 rfl rfl)
theorem dX3_as_56 : decode cX3_as 56 = .ok (.iload_n 2, 1) := dk_28 (dk_at dksX3_as_2 10 rfl rfl)
theorem dX3_as_57 : decode cX3_as 57 = .ok (.aaload, 1) := dk_50 (dk_at dksX3_as_2 11 rfl rfl)
theorem dX3_as_58 : decode cX3_as 58 = .ok (.iload_n 3, 1) := dk_29 (dk_at dksX3_as_2 12 rfl rfl)
theorem dX3_as_59 : decode cX3_as 59 = .ok (.aaload, 1) := dk_50 (dk_at dksX3_as_2 13 rfl rfl)
theorem dX3_as_60 : decode cX3_as 60 = .ok (.aload_n 0, 1) := dk_42 (dk_at dksX3_as_2 14 rfl rfl)
theorem dX3_as_61 : decode cX3_as 61 = .ok (.getfield 16, 3) := dk_180 0 16 (dk_at dksX3_as_2 15 rfl rfl)
theorem dX3_as_64 : decode cX3_as 64 = .ok (.iload_n 2, 1) := dk_28 (dk_at dksX3_as_2 18 rfl rfl)
theorem dX3_as_65 : decode cX3_as 65 = .ok (.aaload, 1) := dk_50 (dk_at dksX3_as_2 19 rfl rfl)
theorem dX3_as_66 : decode cX3_as 66 = .ok (.iload_n 3, 1) := dk_29 (dk_at dksX3_as_2 20 rfl rfl)
theorem dX3_as_67 : decode cX3_as 67 = .ok (.aaload, 1) := dk_50 (dk_at dksX3_as_2 21 rfl rfl)
theorem dX3_as_68 : decode cX3_as 68 = .ok (.invokestatic 53, 3) := dk_184 0 53 (dk_at dksX3_as_3 0 rfl rfl)
theorem dX3_as_71 : decode cX3_as 71 = .ok (.iinc 3 1, 3) := dk_132 3 1 (dk_at dksX3_as_3 3 rfl rfl)
theorem dX3_as_74 : decode cX3_as 74 = .ok (.goto (-47), 3) := dk_167 255 209 (dk_at dksX3_as_3 6 rfl rfl)
theorem dX3_as_77 : decode cX3_as 77 = .ok (.iinc 2 1, 3) := dk_132 2 1 (dk_at dksX3_as_3 9 rfl rfl)
theorem dX3_as_80 : decode cX3_as 80 = .ok (.goto (-62), 3) := dk_167 255 194 (dk_at dksX3_as_3 12 rfl rfl)
theorem dX3_as_83 : decode cX3_as 83 = .ok (.aload_n 1, 1) := dk_43 (dk_at dksX3_as_3 15 rfl rfl)
theorem dX3_as_84 : decode cX3_as 84 = .ok (.getfield 19, 3) := dk_180 0 19 (dk_at dksX3_as_3 16 rfl rfl)
theorem dX3_as_87 : decode cX3_as 87 = .ok (.aload_n 0, 1) := dk_42 (dk_at dksX3_as_3 19 rfl rfl)
theorem dX3_as_88 : decode cX3_as 88 = .ok (.getfield 19, 3) := dk_180 0 19 (dk_at dksX3_as_3 20 rfl rfl)
theorem dX3_as_91 : decode cX3_as 91 = .ok (.invokestatic 53, 3) := dk_184 0 53 (dk_at dksX3_as_4 0 rfl rfl)
theorem dX3_as_94 : decode cX3_as 94 = .ok (.aload_n 1, 1) := dk_43 (dk_at dksX3_as_4 3 rfl rfl)
theorem dX3_as_95 : decode cX3_as 95 = .ok (.getfield 23, 3) := dk_180 0 23 (dk_at dksX3_as_4 4 rfl rfl)
theorem dX3_as_98 : decode cX3_as 98 = .ok (.aload_n 0, 1) := dk_42 (dk_at dksX3_as_4 7 rfl rfl)
theorem dX3_as_99 : decode cX3_as 99 = .ok (.getfield 23, 3) := dk_180 0 23 (dk_at dksX3_as_4 8 rfl rfl)
theorem dX3_as_102 : decode cX3_as 102 = .ok (.invokestatic 53, 3) := dk_184 0 53 (dk_at dksX3_as_4 11 rfl rfl)
theorem dX3_as_105 : decode cX3_as 105 = .ok (.aload_n 1, 1) := dk_43 (dk_at dksX3_as_4 14 rfl rfl)
theorem dX3_as_106 : decode cX3_as 106 = .ok (.getfield 26, 3) := dk_180 0 26 (dk_at dksX3_as_4 15 rfl rfl)
theorem dX3_as_109 : decode cX3_as 109 = .ok (.aload_n 0, 1) := dk_42 (dk_at dksX3_as_4 18 rfl rfl)
theorem dX3_as_110 : decode cX3_as 110 = .ok (.getfield 26, 3) := dk_180 0 26 (dk_at dksX3_as_4 19 rfl rfl)
theorem dX3_as_113 : decode cX3_as 113 = .ok (.invokestatic 53, 3) := dk_184 0 53 (dk_at dksX3_as_5 0 rfl rfl)
theorem dX3_as_116 : decode cX3_as 116 = .ok (.aload_n 1, 1) := dk_43 (dk_at dksX3_as_5 3 rfl rfl)
theorem dX3_as_117 : decode cX3_as 117 = .ok (.getfield 29, 3) := dk_180 0 29 (dk_at dksX3_as_5 4 rfl rfl)
theorem dX3_as_120 : decode cX3_as 120 = .ok (.aload_n 0, 1) := dk_42 (dk_at dksX3_as_5 7 rfl rfl)
theorem dX3_as_121 : decode cX3_as 121 = .ok (.getfield 29, 3) := dk_180 0 29 (dk_at dksX3_as_5 8 rfl rfl)
theorem dX3_as_124 : decode cX3_as 124 = .ok (.invokestatic 53, 3) := dk_184 0 53 (dk_at dksX3_as_5 11 rfl rfl)
theorem dX3_as_127 : decode cX3_as 127 = .ok (.aload_n 1, 1) := dk_43 (dk_at dksX3_as_5 14 rfl rfl)
theorem dX3_as_128 : decode cX3_as 128 = .ok (.getfield 32, 3) := dk_180 0 32 (dk_at dksX3_as_5 15 rfl rfl)
theorem dX3_as_131 : decode cX3_as 131 = .ok (.aload_n 0, 1) := dk_42 (dk_at dksX3_as_5 18 rfl rfl)
theorem dX3_as_132 : decode cX3_as 132 = .ok (.getfield 32, 3) := dk_180 0 32 (dk_at dksX3_as_5 19 rfl rfl)
theorem dX3_as_135 : decode cX3_as 135 = .ok (.invokestatic 53, 3) := dk_184 0 53 (dk_at dksX3_as_6 0 rfl rfl)
theorem dX3_as_138 : decode cX3_as 138 = .ok (.aload_n 0, 1) := dk_42 (dk_at dksX3_as_6 3 rfl rfl)
theorem dX3_as_139 : decode cX3_as 139 = .ok (.areturn, 1) := dk_176 (dk_at dksX3_as_6 4 rfl rfl)
abbrev cX3_copy : ByteArray := prog_11_method_4_code
def yX3_copy : MethodName := ⟨RX3, "copy", "([I[I)V"⟩
def dkwX3_copy_0 : List UInt8 := [42, 3, 43, 3, 43, 190, 184, 0, 57, 177]
abbrev dktX3_copy_0 : List UInt8 := dkwX3_copy_0 ++ []
theorem dksX3_copy_0 : cX3_copy.data.toList.drop 0 = dktX3_copy_0 := by decide +kernel
theorem dX3_copy_0 : decode cX3_copy 0 = .ok (.aload_n 0, 1) := dk_42 (dk_at dksX3_copy_0 0 rfl rfl)
theorem dX3_copy_1 : decode cX3_copy 1 = .ok (.iconst 0, 1) := dk_3 (dk_at dksX3_copy_0 1 rfl rfl)
theorem dX3_copy_2 : decode cX3_copy 2 = .ok (.aload_n 1, 1) := dk_43 (dk_at dksX3_copy_0 2 rfl rfl)
theorem dX3_copy_3 : decode cX3_copy 3 = .ok (.iconst 0, 1) := dk_3 (dk_at dksX3_copy_0 3 rfl rfl)
theorem dX3_copy_4 : decode cX3_copy 4 = .ok (.aload_n 1, 1) := dk_43 (dk_at dksX3_copy_0 4 rfl rfl)
theorem dX3_copy_5 : decode cX3_copy 5 = .ok (.arraylength, 1) := dk_190 (dk_at dksX3_copy_0 5 rfl rfl)
theorem dX3_copy_6 : decode cX3_copy 6 = .ok (.invokestatic 57, 3) := dk_184 0 57 (dk_at dksX3_copy_0 6 rfl rfl)
theorem dX3_copy_9 : decode cX3_copy 9 = .ok (.return_, 1) := dk_177 (dk_at dksX3_copy_0 9 rfl rfl)
abbrev cX3_goes : ByteArray := prog_11_method_7_code
def yX3_goes : MethodName := ⟨RX3, "goes", "(III)I"⟩
def dkwX3_goes_3 : List UInt8 := [167, 255, 205, 42, 180, 0, 32, 27, 92, 46, 4, 96, 79, 25, 4, 180, 0, 77, 4, 96, 172]
abbrev dktX3_goes_3 : List UInt8 := dkwX3_goes_3 ++ []
def dkwX3_goes_2 : List UInt8 := [182, 0, 69, 192, 0, 86, 180, 0, 88, 25, 4, 180, 0, 90, 21, 5, 46, 182, 0, 91, 132, 5, 1]
abbrev dktX3_goes_2 : List UInt8 := dkwX3_goes_2 ++ dktX3_goes_3
def dkwX3_goes_1 : List UInt8 := [180, 0, 77, 163, 0, 47, 42, 27, 25, 4, 180, 0, 80, 21, 5, 46, 42, 180, 0, 35, 180, 0, 83, 29]
abbrev dktX3_goes_1 : List UInt8 := dkwX3_goes_1 ++ dktX3_goes_2
def dkwX3_goes_0 : List UInt8 := [42, 180, 0, 35, 180, 0, 63, 28, 182, 0, 69, 192, 0, 75, 58, 4, 3, 54, 5, 21, 5, 25, 4]
abbrev dktX3_goes_0 : List UInt8 := dkwX3_goes_0 ++ dktX3_goes_1
theorem dksX3_goes_0 : cX3_goes.data.toList.drop 0 = dktX3_goes_0 := by decide +kernel
theorem dksX3_goes_1 : cX3_goes.data.toList.drop 23 = dktX3_goes_1 := dk_seg dksX3_goes_0 23 rfl rfl
theorem dksX3_goes_2 : cX3_goes.data.toList.drop 47 = dktX3_goes_2 := dk_seg dksX3_goes_1 24 rfl rfl
theorem dksX3_goes_3 : cX3_goes.data.toList.drop 70 = dktX3_goes_3 := dk_seg dksX3_goes_2 23 rfl rfl
theorem dX3_goes_0 : decode cX3_goes 0 = .ok (.aload_n 0, 1) := dk_42 (dk_at dksX3_goes_0 0 rfl rfl)
theorem dX3_goes_1 : decode cX3_goes 1 = .ok (.getfield 35, 3) := dk_180 0 35 (dk_at dksX3_goes_0 1 rfl rfl)
theorem dX3_goes_4 : decode cX3_goes 4 = .ok (.getfield 63, 3) := dk_180 0 63 (dk_at dksX3_goes_0 4 rfl rfl)
theorem dX3_goes_7 : decode cX3_goes 7 = .ok (.iload_n 2, 1) := dk_28 (dk_at dksX3_goes_0 7 rfl rfl)
theorem dX3_goes_8 : decode cX3_goes 8 = .ok (.invokevirtual 69, 3) := dk_182 0 69 (dk_at dksX3_goes_0 8 rfl rfl)
theorem dX3_goes_11 : decode cX3_goes 11 = .ok (.checkcast 75, 3) := dk_192 0 75 (dk_at dksX3_goes_0 11 rfl rfl)
theorem dX3_goes_14 : decode cX3_goes 14 = .ok (.astore 4, 2) := dk_58 4 (dk_at dksX3_goes_0 14 rfl rfl)
theorem dX3_goes_16 : decode cX3_goes 16 = .ok (.iconst 0, 1) := dk_3 (dk_at dksX3_goes_0 16 rfl rfl)
theorem dX3_goes_17 : decode cX3_goes 17 = .ok (.istore 5, 2) := dk_54 5 (dk_at dksX3_goes_0 17 rfl rfl)
theorem dX3_goes_19 : decode cX3_goes 19 = .ok (.iload 5, 2) := dk_21 5 (dk_at dksX3_goes_0 19 rfl rfl)
theorem dX3_goes_21 : decode cX3_goes 21 = .ok (.aload 4, 2) := dk_25 4 (dk_at dksX3_goes_0 21 rfl rfl)
theorem dX3_goes_23 : decode cX3_goes 23 = .ok (.getfield 77, 3) := dk_180 0 77 (dk_at dksX3_goes_1 0 rfl rfl)
theorem dX3_goes_26 : decode cX3_goes 26 = .ok (.if_icmp .gt 47, 3) := dk_163 0 47 (dk_at dksX3_goes_1 3 rfl rfl)
theorem dX3_goes_29 : decode cX3_goes 29 = .ok (.aload_n 0, 1) := dk_42 (dk_at dksX3_goes_1 6 rfl rfl)
theorem dX3_goes_30 : decode cX3_goes 30 = .ok (.iload_n 1, 1) := dk_27 (dk_at dksX3_goes_1 7 rfl rfl)
theorem dX3_goes_31 : decode cX3_goes 31 = .ok (.aload 4, 2) := dk_25 4 (dk_at dksX3_goes_1 8 rfl rfl)
theorem dX3_goes_33 : decode cX3_goes 33 = .ok (.getfield 80, 3) := dk_180 0 80 (dk_at dksX3_goes_1 10 rfl rfl)
theorem dX3_goes_36 : decode cX3_goes 36 = .ok (.iload 5, 2) := dk_21 5 (dk_at dksX3_goes_1 13 rfl rfl)
theorem dX3_goes_38 : decode cX3_goes 38 = .ok (.iaload, 1) := dk_46 (dk_at dksX3_goes_1 15 rfl rfl)
theorem dX3_goes_39 : decode cX3_goes 39 = .ok (.aload_n 0, 1) := dk_42 (dk_at dksX3_goes_1 16 rfl rfl)
theorem dX3_goes_40 : decode cX3_goes 40 = .ok (.getfield 35, 3) := dk_180 0 35 (dk_at dksX3_goes_1 17 rfl rfl)
theorem dX3_goes_43 : decode cX3_goes 43 = .ok (.getfield 83, 3) := dk_180 0 83 (dk_at dksX3_goes_1 20 rfl rfl)
theorem dX3_goes_46 : decode cX3_goes 46 = .ok (.iload_n 3, 1) := dk_29 (dk_at dksX3_goes_1 23 rfl rfl)
theorem dX3_goes_47 : decode cX3_goes 47 = .ok (.invokevirtual 69, 3) := dk_182 0 69 (dk_at dksX3_goes_2 0 rfl rfl)
theorem dX3_goes_50 : decode cX3_goes 50 = .ok (.checkcast 86, 3) := dk_192 0 86 (dk_at dksX3_goes_2 3 rfl rfl)
theorem dX3_goes_53 : decode cX3_goes 53 = .ok (.getfield 88, 3) := dk_180 0 88 (dk_at dksX3_goes_2 6 rfl rfl)
theorem dX3_goes_56 : decode cX3_goes 56 = .ok (.aload 4, 2) := dk_25 4 (dk_at dksX3_goes_2 9 rfl rfl)
theorem dX3_goes_58 : decode cX3_goes 58 = .ok (.getfield 90, 3) := dk_180 0 90 (dk_at dksX3_goes_2 11 rfl rfl)
theorem dX3_goes_61 : decode cX3_goes 61 = .ok (.iload 5, 2) := dk_21 5 (dk_at dksX3_goes_2 14 rfl rfl)
theorem dX3_goes_63 : decode cX3_goes 63 = .ok (.iaload, 1) := dk_46 (dk_at dksX3_goes_2 16 rfl rfl)
theorem dX3_goes_64 : decode cX3_goes 64 = .ok (.invokevirtual 91, 3) := dk_182 0 91 (dk_at dksX3_goes_2 17 rfl rfl)
theorem dX3_goes_67 : decode cX3_goes 67 = .ok (.iinc 5 1, 3) := dk_132 5 1 (dk_at dksX3_goes_2 20 rfl rfl)
theorem dX3_goes_70 : decode cX3_goes 70 = .ok (.goto (-51), 3) := dk_167 255 205 (dk_at dksX3_goes_3 0 rfl rfl)
theorem dX3_goes_73 : decode cX3_goes 73 = .ok (.aload_n 0, 1) := dk_42 (dk_at dksX3_goes_3 3 rfl rfl)
theorem dX3_goes_74 : decode cX3_goes 74 = .ok (.getfield 32, 3) := dk_180 0 32 (dk_at dksX3_goes_3 4 rfl rfl)
theorem dX3_goes_77 : decode cX3_goes 77 = .ok (.iload_n 1, 1) := dk_27 (dk_at dksX3_goes_3 7 rfl rfl)
theorem dX3_goes_78 : decode cX3_goes 78 = .ok (.dup2, 1) := dk_92 (dk_at dksX3_goes_3 8 rfl rfl)
theorem dX3_goes_79 : decode cX3_goes 79 = .ok (.iaload, 1) := dk_46 (dk_at dksX3_goes_3 9 rfl rfl)
theorem dX3_goes_80 : decode cX3_goes 80 = .ok (.iconst 1, 1) := dk_4 (dk_at dksX3_goes_3 10 rfl rfl)
theorem dX3_goes_81 : decode cX3_goes 81 = .ok (.iadd, 1) := dk_96 (dk_at dksX3_goes_3 11 rfl rfl)
theorem dX3_goes_82 : decode cX3_goes 82 = .ok (.iastore, 1) := dk_79 (dk_at dksX3_goes_3 12 rfl rfl)
theorem dX3_goes_83 : decode cX3_goes 83 = .ok (.aload 4, 2) := dk_25 4 (dk_at dksX3_goes_3 13 rfl rfl)
theorem dX3_goes_85 : decode cX3_goes 85 = .ok (.getfield 77, 3) := dk_180 0 77 (dk_at dksX3_goes_3 15 rfl rfl)
theorem dX3_goes_88 : decode cX3_goes 88 = .ok (.iconst 1, 1) := dk_4 (dk_at dksX3_goes_3 18 rfl rfl)
theorem dX3_goes_89 : decode cX3_goes 89 = .ok (.iadd, 1) := dk_96 (dk_at dksX3_goes_3 19 rfl rfl)
theorem dX3_goes_90 : decode cX3_goes 90 = .ok (.ireturn, 1) := dk_172 (dk_at dksX3_goes_3 20 rfl rfl)
abbrev cX3_tread : ByteArray := prog_11_method_6_code
def yX3_tread : MethodName := ⟨RX3, "tread", "(IIII)V"⟩
def dkwX3_tread_2 : List UInt8 := [21, 4, 79, 42, 180, 0, 29, 28, 3, 79, 177]
abbrev dktX3_tread_2 : List UInt8 := dkwX3_tread_2 ++ []
def dkwX3_tread_1 : List UInt8 := [46, 4, 96, 79, 42, 180, 0, 19, 28, 27, 79, 42, 180, 0, 23, 28, 29, 79, 42, 180, 0, 26, 28]
abbrev dktX3_tread_1 : List UInt8 := dkwX3_tread_1 ++ dktX3_tread_2
def dkwX3_tread_0 : List UInt8 := [42, 180, 0, 11, 28, 50, 27, 50, 3, 92, 46, 4, 96, 79, 42, 180, 0, 16, 28, 50, 27, 50, 3, 92]
abbrev dktX3_tread_0 : List UInt8 := dkwX3_tread_0 ++ dktX3_tread_1
theorem dksX3_tread_0 : cX3_tread.data.toList.drop 0 = dktX3_tread_0 := by decide +kernel
theorem dksX3_tread_1 : cX3_tread.data.toList.drop 24 = dktX3_tread_1 := dk_seg dksX3_tread_0 24 rfl rfl
theorem dksX3_tread_2 : cX3_tread.data.toList.drop 47 = dktX3_tread_2 := dk_seg dksX3_tread_1 23 rfl rfl
theorem dX3_tread_0 : decode cX3_tread 0 = .ok (.aload_n 0, 1) := dk_42 (dk_at dksX3_tread_0 0 rfl rfl)
theorem dX3_tread_1 : decode cX3_tread 1 = .ok (.getfield 11, 3) := dk_180 0 11 (dk_at dksX3_tread_0 1 rfl rfl)
theorem dX3_tread_4 : decode cX3_tread 4 = .ok (.iload_n 2, 1) := dk_28 (dk_at dksX3_tread_0 4 rfl rfl)
theorem dX3_tread_5 : decode cX3_tread 5 = .ok (.aaload, 1) := dk_50 (dk_at dksX3_tread_0 5 rfl rfl)
theorem dX3_tread_6 : decode cX3_tread 6 = .ok (.iload_n 1, 1) := dk_27 (dk_at dksX3_tread_0 6 rfl rfl)
theorem dX3_tread_7 : decode cX3_tread 7 = .ok (.aaload, 1) := dk_50 (dk_at dksX3_tread_0 7 rfl rfl)
theorem dX3_tread_8 : decode cX3_tread 8 = .ok (.iconst 0, 1) := dk_3 (dk_at dksX3_tread_0 8 rfl rfl)
theorem dX3_tread_9 : decode cX3_tread 9 = .ok (.dup2, 1) := dk_92 (dk_at dksX3_tread_0 9 rfl rfl)
theorem dX3_tread_10 : decode cX3_tread 10 = .ok (.iaload, 1) := dk_46 (dk_at dksX3_tread_0 10 rfl rfl)
theorem dX3_tread_11 : decode cX3_tread 11 = .ok (.iconst 1, 1) := dk_4 (dk_at dksX3_tread_0 11 rfl rfl)
theorem dX3_tread_12 : decode cX3_tread 12 = .ok (.iadd, 1) := dk_96 (dk_at dksX3_tread_0 12 rfl rfl)
theorem dX3_tread_13 : decode cX3_tread 13 = .ok (.iastore, 1) := dk_79 (dk_at dksX3_tread_0 13 rfl rfl)
theorem dX3_tread_14 : decode cX3_tread 14 = .ok (.aload_n 0, 1) := dk_42 (dk_at dksX3_tread_0 14 rfl rfl)
theorem dX3_tread_15 : decode cX3_tread 15 = .ok (.getfield 16, 3) := dk_180 0 16 (dk_at dksX3_tread_0 15 rfl rfl)
theorem dX3_tread_18 : decode cX3_tread 18 = .ok (.iload_n 2, 1) := dk_28 (dk_at dksX3_tread_0 18 rfl rfl)
theorem dX3_tread_19 : decode cX3_tread 19 = .ok (.aaload, 1) := dk_50 (dk_at dksX3_tread_0 19 rfl rfl)
theorem dX3_tread_20 : decode cX3_tread 20 = .ok (.iload_n 1, 1) := dk_27 (dk_at dksX3_tread_0 20 rfl rfl)
theorem dX3_tread_21 : decode cX3_tread 21 = .ok (.aaload, 1) := dk_50 (dk_at dksX3_tread_0 21 rfl rfl)
theorem dX3_tread_22 : decode cX3_tread 22 = .ok (.iconst 0, 1) := dk_3 (dk_at dksX3_tread_0 22 rfl rfl)
theorem dX3_tread_23 : decode cX3_tread 23 = .ok (.dup2, 1) := dk_92 (dk_at dksX3_tread_0 23 rfl rfl)
theorem dX3_tread_24 : decode cX3_tread 24 = .ok (.iaload, 1) := dk_46 (dk_at dksX3_tread_1 0 rfl rfl)
theorem dX3_tread_25 : decode cX3_tread 25 = .ok (.iconst 1, 1) := dk_4 (dk_at dksX3_tread_1 1 rfl rfl)
theorem dX3_tread_26 : decode cX3_tread 26 = .ok (.iadd, 1) := dk_96 (dk_at dksX3_tread_1 2 rfl rfl)
theorem dX3_tread_27 : decode cX3_tread 27 = .ok (.iastore, 1) := dk_79 (dk_at dksX3_tread_1 3 rfl rfl)
theorem dX3_tread_28 : decode cX3_tread 28 = .ok (.aload_n 0, 1) := dk_42 (dk_at dksX3_tread_1 4 rfl rfl)
theorem dX3_tread_29 : decode cX3_tread 29 = .ok (.getfield 19, 3) := dk_180 0 19 (dk_at dksX3_tread_1 5 rfl rfl)
theorem dX3_tread_32 : decode cX3_tread 32 = .ok (.iload_n 2, 1) := dk_28 (dk_at dksX3_tread_1 8 rfl rfl)
theorem dX3_tread_33 : decode cX3_tread 33 = .ok (.iload_n 1, 1) := dk_27 (dk_at dksX3_tread_1 9 rfl rfl)
theorem dX3_tread_34 : decode cX3_tread 34 = .ok (.iastore, 1) := dk_79 (dk_at dksX3_tread_1 10 rfl rfl)
theorem dX3_tread_35 : decode cX3_tread 35 = .ok (.aload_n 0, 1) := dk_42 (dk_at dksX3_tread_1 11 rfl rfl)
theorem dX3_tread_36 : decode cX3_tread 36 = .ok (.getfield 23, 3) := dk_180 0 23 (dk_at dksX3_tread_1 12 rfl rfl)
theorem dX3_tread_39 : decode cX3_tread 39 = .ok (.iload_n 2, 1) := dk_28 (dk_at dksX3_tread_1 15 rfl rfl)
theorem dX3_tread_40 : decode cX3_tread 40 = .ok (.iload_n 3, 1) := dk_29 (dk_at dksX3_tread_1 16 rfl rfl)
theorem dX3_tread_41 : decode cX3_tread 41 = .ok (.iastore, 1) := dk_79 (dk_at dksX3_tread_1 17 rfl rfl)
theorem dX3_tread_42 : decode cX3_tread 42 = .ok (.aload_n 0, 1) := dk_42 (dk_at dksX3_tread_1 18 rfl rfl)
theorem dX3_tread_43 : decode cX3_tread 43 = .ok (.getfield 26, 3) := dk_180 0 26 (dk_at dksX3_tread_1 19 rfl rfl)
theorem dX3_tread_46 : decode cX3_tread 46 = .ok (.iload_n 2, 1) := dk_28 (dk_at dksX3_tread_1 22 rfl rfl)
theorem dX3_tread_47 : decode cX3_tread 47 = .ok (.iload 4, 2) := dk_21 4 (dk_at dksX3_tread_2 0 rfl rfl)
theorem dX3_tread_49 : decode cX3_tread 49 = .ok (.iastore, 1) := dk_79 (dk_at dksX3_tread_2 2 rfl rfl)
theorem dX3_tread_50 : decode cX3_tread 50 = .ok (.aload_n 0, 1) := dk_42 (dk_at dksX3_tread_2 3 rfl rfl)
theorem dX3_tread_51 : decode cX3_tread 51 = .ok (.getfield 29, 3) := dk_180 0 29 (dk_at dksX3_tread_2 4 rfl rfl)
theorem dX3_tread_54 : decode cX3_tread 54 = .ok (.iload_n 2, 1) := dk_28 (dk_at dksX3_tread_2 7 rfl rfl)
theorem dX3_tread_55 : decode cX3_tread 55 = .ok (.iconst 0, 1) := dk_3 (dk_at dksX3_tread_2 8 rfl rfl)
theorem dX3_tread_56 : decode cX3_tread 56 = .ok (.iastore, 1) := dk_79 (dk_at dksX3_tread_2 9 rfl rfl)
theorem dX3_tread_57 : decode cX3_tread 57 = .ok (.return_, 1) := dk_177 (dk_at dksX3_tread_2 10 rfl rfl)
abbrev cX3_dawn : ByteArray := prog_11_method_9_code
def yX3_dawn : MethodName := ⟨RX3, "dawn", "()V"⟩
def dkwX3_dawn_4 : List UInt8 := [160, 0, 8, 42, 27, 182, 0, 43, 132, 1, 1, 167, 255, 164, 177]
abbrev dktX3_dawn_4 : List UInt8 := dkwX3_dawn_4 ++ []
def dkwX3_dawn_3 : List UInt8 := [180, 0, 29, 27, 92, 46, 4, 96, 79, 42, 180, 0, 29, 27, 46, 42, 180, 0, 35, 180, 0, 95]
abbrev dktX3_dawn_3 : List UInt8 := dkwX3_dawn_3 ++ dktX3_dawn_4
def dkwX3_dawn_2 : List UInt8 := [182, 0, 98, 132, 2, 1, 167, 255, 223, 42, 180, 0, 29, 27, 46, 2, 160, 0, 6, 167, 0, 34, 42]
abbrev dktX3_dawn_2 : List UInt8 := dkwX3_dawn_2 ++ dktX3_dawn_3
def dkwX3_dawn_1 : List UInt8 := [162, 0, 33, 42, 42, 180, 0, 11, 27, 50, 28, 50, 182, 0, 98, 42, 42, 180, 0, 16, 27, 50, 28, 50]
abbrev dktX3_dawn_1 : List UInt8 := dkwX3_dawn_1 ++ dktX3_dawn_2
def dkwX3_dawn_0 : List UInt8 := [42, 89, 180, 0, 39, 4, 96, 181, 0, 39, 3, 60, 27, 17, 0, 144, 162, 0, 91, 3, 61, 28, 16, 6]
abbrev dktX3_dawn_0 : List UInt8 := dkwX3_dawn_0 ++ dktX3_dawn_1
theorem dksX3_dawn_0 : cX3_dawn.data.toList.drop 0 = dktX3_dawn_0 := by decide +kernel
theorem dksX3_dawn_1 : cX3_dawn.data.toList.drop 24 = dktX3_dawn_1 := dk_seg dksX3_dawn_0 24 rfl rfl
theorem dksX3_dawn_2 : cX3_dawn.data.toList.drop 48 = dktX3_dawn_2 := dk_seg dksX3_dawn_1 24 rfl rfl
theorem dksX3_dawn_3 : cX3_dawn.data.toList.drop 71 = dktX3_dawn_3 := dk_seg dksX3_dawn_2 23 rfl rfl
theorem dksX3_dawn_4 : cX3_dawn.data.toList.drop 93 = dktX3_dawn_4 := dk_seg dksX3_dawn_3 22 rfl rfl
theorem dX3_dawn_0 : decode cX3_dawn 0 = .ok (.aload_n 0, 1) := dk_42 (dk_at dksX3_dawn_0 0 rfl rfl)
theorem dX3_dawn_1 : decode cX3_dawn 1 = .ok (.dup, 1) := dk_89 (dk_at dksX3_dawn_0 1 rfl rfl)
theorem dX3_dawn_2 : decode cX3_dawn 2 = .ok (.getfield 39, 3) := dk_180 0 39 (dk_at dksX3_dawn_0 2 rfl rfl)
theorem dX3_dawn_5 : decode cX3_dawn 5 = .ok (.iconst 1, 1) := dk_4 (dk_at dksX3_dawn_0 5 rfl rfl)
theorem dX3_dawn_6 : decode cX3_dawn 6 = .ok (.iadd, 1) := dk_96 (dk_at dksX3_dawn_0 6 rfl rfl)
theorem dX3_dawn_7 : decode cX3_dawn 7 = .ok (.putfield 39, 3) := dk_181 0 39 (dk_at dksX3_dawn_0 7 rfl rfl)
theorem dX3_dawn_10 : decode cX3_dawn 10 = .ok (.iconst 0, 1) := dk_3 (dk_at dksX3_dawn_0 10 rfl rfl)
theorem dX3_dawn_11 : decode cX3_dawn 11 = .ok (.istore_n 1, 1) := dk_60 (dk_at dksX3_dawn_0 11 rfl rfl)
theorem dX3_dawn_12 : decode cX3_dawn 12 = .ok (.iload_n 1, 1) := dk_27 (dk_at dksX3_dawn_0 12 rfl rfl)
theorem dX3_dawn_13 : decode cX3_dawn 13 = .ok (.sipush 144, 3) := dk_17 0 144 (dk_at dksX3_dawn_0 13 rfl rfl)
theorem dX3_dawn_16 : decode cX3_dawn 16 = .ok (.if_icmp .ge 91, 3) := dk_162 0 91 (dk_at dksX3_dawn_0 16 rfl rfl)
theorem dX3_dawn_19 : decode cX3_dawn 19 = .ok (.iconst 0, 1) := dk_3 (dk_at dksX3_dawn_0 19 rfl rfl)
theorem dX3_dawn_20 : decode cX3_dawn 20 = .ok (.istore_n 2, 1) := dk_61 (dk_at dksX3_dawn_0 20 rfl rfl)
theorem dX3_dawn_21 : decode cX3_dawn 21 = .ok (.iload_n 2, 1) := dk_28 (dk_at dksX3_dawn_0 21 rfl rfl)
theorem dX3_dawn_22 : decode cX3_dawn 22 = .ok (.bipush 6, 2) := dk_16 6 (dk_at dksX3_dawn_0 22 rfl rfl)
theorem dX3_dawn_24 : decode cX3_dawn 24 = .ok (.if_icmp .ge 33, 3) := dk_162 0 33 (dk_at dksX3_dawn_1 0 rfl rfl)
theorem dX3_dawn_27 : decode cX3_dawn 27 = .ok (.aload_n 0, 1) := dk_42 (dk_at dksX3_dawn_1 3 rfl rfl)
theorem dX3_dawn_28 : decode cX3_dawn 28 = .ok (.aload_n 0, 1) := dk_42 (dk_at dksX3_dawn_1 4 rfl rfl)
theorem dX3_dawn_29 : decode cX3_dawn 29 = .ok (.getfield 11, 3) := dk_180 0 11 (dk_at dksX3_dawn_1 5 rfl rfl)
theorem dX3_dawn_32 : decode cX3_dawn 32 = .ok (.iload_n 1, 1) := dk_27 (dk_at dksX3_dawn_1 8 rfl rfl)
theorem dX3_dawn_33 : decode cX3_dawn 33 = .ok (.aaload, 1) := dk_50 (dk_at dksX3_dawn_1 9 rfl rfl)
theorem dX3_dawn_34 : decode cX3_dawn 34 = .ok (.iload_n 2, 1) := dk_28 (dk_at dksX3_dawn_1 10 rfl rfl)
theorem dX3_dawn_35 : decode cX3_dawn 35 = .ok (.aaload, 1) := dk_50 (dk_at dksX3_dawn_1 11 rfl rfl)
theorem dX3_dawn_36 : decode cX3_dawn 36 = .ok (.invokevirtual 98, 3) := dk_182 0 98 (dk_at dksX3_dawn_1 12 rfl rfl)
theorem dX3_dawn_39 : decode cX3_dawn 39 = .ok (.aload_n 0, 1) := dk_42 (dk_at dksX3_dawn_1 15 rfl rfl)
theorem dX3_dawn_40 : decode cX3_dawn 40 = .ok (.aload_n 0, 1) := dk_42 (dk_at dksX3_dawn_1 16 rfl rfl)
theorem dX3_dawn_41 : decode cX3_dawn 41 = .ok (.getfield 16, 3) := dk_180 0 16 (dk_at dksX3_dawn_1 17 rfl rfl)
theorem dX3_dawn_44 : decode cX3_dawn 44 = .ok (.iload_n 1, 1) := dk_27 (dk_at dksX3_dawn_1 20 rfl rfl)
theorem dX3_dawn_45 : decode cX3_dawn 45 = .ok (.aaload, 1) := dk_50 (dk_at dksX3_dawn_1 21 rfl rfl)
theorem dX3_dawn_46 : decode cX3_dawn 46 = .ok (.iload_n 2, 1) := dk_28 (dk_at dksX3_dawn_1 22 rfl rfl)
theorem dX3_dawn_47 : decode cX3_dawn 47 = .ok (.aaload, 1) := dk_50 (dk_at dksX3_dawn_1 23 rfl rfl)
theorem dX3_dawn_48 : decode cX3_dawn 48 = .ok (.invokevirtual 98, 3) := dk_182 0 98 (dk_at dksX3_dawn_2 0 rfl rfl)
theorem dX3_dawn_51 : decode cX3_dawn 51 = .ok (.iinc 2 1, 3) := dk_132 2 1 (dk_at dksX3_dawn_2 3 rfl rfl)
theorem dX3_dawn_54 : decode cX3_dawn 54 = .ok (.goto (-33), 3) := dk_167 255 223 (dk_at dksX3_dawn_2 6 rfl rfl)
theorem dX3_dawn_57 : decode cX3_dawn 57 = .ok (.aload_n 0, 1) := dk_42 (dk_at dksX3_dawn_2 9 rfl rfl)
theorem dX3_dawn_58 : decode cX3_dawn 58 = .ok (.getfield 29, 3) := dk_180 0 29 (dk_at dksX3_dawn_2 10 rfl rfl)
theorem dX3_dawn_61 : decode cX3_dawn 61 = .ok (.iload_n 1, 1) := dk_27 (dk_at dksX3_dawn_2 13 rfl rfl)
theorem dX3_dawn_62 : decode cX3_dawn 62 = .ok (.iaload, 1) := dk_46 (dk_at dksX3_dawn_2 14 rfl rfl)
theorem dX3_dawn_63 : decode cX3_dawn 63 = .ok (.iconst (-1), 1) := dk_2 (dk_at dksX3_dawn_2 15 rfl rfl)
theorem dX3_dawn_64 : decode cX3_dawn 64 = .ok (.if_icmp .ne 6, 3) := dk_160 0 6 (dk_at dksX3_dawn_2 16 rfl rfl)
theorem dX3_dawn_67 : decode cX3_dawn 67 = .ok (.goto 34, 3) := dk_167 0 34 (dk_at dksX3_dawn_2 19 rfl rfl)
theorem dX3_dawn_70 : decode cX3_dawn 70 = .ok (.aload_n 0, 1) := dk_42 (dk_at dksX3_dawn_2 22 rfl rfl)
theorem dX3_dawn_71 : decode cX3_dawn 71 = .ok (.getfield 29, 3) := dk_180 0 29 (dk_at dksX3_dawn_3 0 rfl rfl)
theorem dX3_dawn_74 : decode cX3_dawn 74 = .ok (.iload_n 1, 1) := dk_27 (dk_at dksX3_dawn_3 3 rfl rfl)
theorem dX3_dawn_75 : decode cX3_dawn 75 = .ok (.dup2, 1) := dk_92 (dk_at dksX3_dawn_3 4 rfl rfl)
theorem dX3_dawn_76 : decode cX3_dawn 76 = .ok (.iaload, 1) := dk_46 (dk_at dksX3_dawn_3 5 rfl rfl)
theorem dX3_dawn_77 : decode cX3_dawn 77 = .ok (.iconst 1, 1) := dk_4 (dk_at dksX3_dawn_3 6 rfl rfl)
theorem dX3_dawn_78 : decode cX3_dawn 78 = .ok (.iadd, 1) := dk_96 (dk_at dksX3_dawn_3 7 rfl rfl)
theorem dX3_dawn_79 : decode cX3_dawn 79 = .ok (.iastore, 1) := dk_79 (dk_at dksX3_dawn_3 8 rfl rfl)
theorem dX3_dawn_80 : decode cX3_dawn 80 = .ok (.aload_n 0, 1) := dk_42 (dk_at dksX3_dawn_3 9 rfl rfl)
theorem dX3_dawn_81 : decode cX3_dawn 81 = .ok (.getfield 29, 3) := dk_180 0 29 (dk_at dksX3_dawn_3 10 rfl rfl)
theorem dX3_dawn_84 : decode cX3_dawn 84 = .ok (.iload_n 1, 1) := dk_27 (dk_at dksX3_dawn_3 13 rfl rfl)
theorem dX3_dawn_85 : decode cX3_dawn 85 = .ok (.iaload, 1) := dk_46 (dk_at dksX3_dawn_3 14 rfl rfl)
theorem dX3_dawn_86 : decode cX3_dawn 86 = .ok (.aload_n 0, 1) := dk_42 (dk_at dksX3_dawn_3 15 rfl rfl)
theorem dX3_dawn_87 : decode cX3_dawn 87 = .ok (.getfield 35, 3) := dk_180 0 35 (dk_at dksX3_dawn_3 16 rfl rfl)
theorem dX3_dawn_90 : decode cX3_dawn 90 = .ok (.getfield 95, 3) := dk_180 0 95 (dk_at dksX3_dawn_3 19 rfl rfl)
theorem dX3_dawn_93 : decode cX3_dawn 93 = .ok (.if_icmp .ne 8, 3) := dk_160 0 8 (dk_at dksX3_dawn_4 0 rfl rfl)
theorem dX3_dawn_96 : decode cX3_dawn 96 = .ok (.aload_n 0, 1) := dk_42 (dk_at dksX3_dawn_4 3 rfl rfl)
theorem dX3_dawn_97 : decode cX3_dawn 97 = .ok (.iload_n 1, 1) := dk_27 (dk_at dksX3_dawn_4 4 rfl rfl)
theorem dX3_dawn_98 : decode cX3_dawn 98 = .ok (.invokevirtual 43, 3) := dk_182 0 43 (dk_at dksX3_dawn_4 5 rfl rfl)
theorem dX3_dawn_101 : decode cX3_dawn 101 = .ok (.iinc 1 1, 3) := dk_132 1 1 (dk_at dksX3_dawn_4 8 rfl rfl)
theorem dX3_dawn_104 : decode cX3_dawn 104 = .ok (.goto (-92), 3) := dk_167 255 164 (dk_at dksX3_dawn_4 11 rfl rfl)
theorem dX3_dawn_107 : decode cX3_dawn 107 = .ok (.return_, 1) := dk_177 (dk_at dksX3_dawn_4 14 rfl rfl)
abbrev cX3_older : ByteArray := prog_11_method_8_code
def yX3_older : MethodName := ⟨RX3, "older", "([I)V"⟩
def dkwX3_older_2 : List UInt8 := [167, 255, 243, 177]
abbrev dktX3_older_2 : List UInt8 := dkwX3_older_2 ++ []
def dkwX3_older_1 : List UInt8 := [79, 42, 180, 0, 35, 180, 0, 95, 61, 28, 16, 9, 162, 0, 13, 43, 28, 3, 79, 132, 2, 1]
abbrev dktX3_older_1 : List UInt8 := dkwX3_older_1 ++ dktX3_older_2
def dkwX3_older_0 : List UInt8 := [16, 8, 61, 28, 158, 0, 17, 43, 28, 43, 28, 4, 100, 46, 79, 132, 2, 255, 167, 255, 241, 43, 3, 3]
abbrev dktX3_older_0 : List UInt8 := dkwX3_older_0 ++ dktX3_older_1
theorem dksX3_older_0 : cX3_older.data.toList.drop 0 = dktX3_older_0 := by decide +kernel
theorem dksX3_older_1 : cX3_older.data.toList.drop 24 = dktX3_older_1 := dk_seg dksX3_older_0 24 rfl rfl
theorem dksX3_older_2 : cX3_older.data.toList.drop 46 = dktX3_older_2 := dk_seg dksX3_older_1 22 rfl rfl
theorem dX3_older_0 : decode cX3_older 0 = .ok (.bipush 8, 2) := dk_16 8 (dk_at dksX3_older_0 0 rfl rfl)
theorem dX3_older_2 : decode cX3_older 2 = .ok (.istore_n 2, 1) := dk_61 (dk_at dksX3_older_0 2 rfl rfl)
theorem dX3_older_3 : decode cX3_older 3 = .ok (.iload_n 2, 1) := dk_28 (dk_at dksX3_older_0 3 rfl rfl)
theorem dX3_older_4 : decode cX3_older 4 = .ok (.ifCond .le 17, 3) := dk_158 0 17 (dk_at dksX3_older_0 4 rfl rfl)
theorem dX3_older_7 : decode cX3_older 7 = .ok (.aload_n 1, 1) := dk_43 (dk_at dksX3_older_0 7 rfl rfl)
theorem dX3_older_8 : decode cX3_older 8 = .ok (.iload_n 2, 1) := dk_28 (dk_at dksX3_older_0 8 rfl rfl)
theorem dX3_older_9 : decode cX3_older 9 = .ok (.aload_n 1, 1) := dk_43 (dk_at dksX3_older_0 9 rfl rfl)
theorem dX3_older_10 : decode cX3_older 10 = .ok (.iload_n 2, 1) := dk_28 (dk_at dksX3_older_0 10 rfl rfl)
theorem dX3_older_11 : decode cX3_older 11 = .ok (.iconst 1, 1) := dk_4 (dk_at dksX3_older_0 11 rfl rfl)
theorem dX3_older_12 : decode cX3_older 12 = .ok (.isub, 1) := dk_100 (dk_at dksX3_older_0 12 rfl rfl)
theorem dX3_older_13 : decode cX3_older 13 = .ok (.iaload, 1) := dk_46 (dk_at dksX3_older_0 13 rfl rfl)
theorem dX3_older_14 : decode cX3_older 14 = .ok (.iastore, 1) := dk_79 (dk_at dksX3_older_0 14 rfl rfl)
theorem dX3_older_15 : decode cX3_older 15 = .ok (.iinc 2 (-1), 3) := dk_132 2 255 (dk_at dksX3_older_0 15 rfl rfl)
theorem dX3_older_18 : decode cX3_older 18 = .ok (.goto (-15), 3) := dk_167 255 241 (dk_at dksX3_older_0 18 rfl rfl)
theorem dX3_older_21 : decode cX3_older 21 = .ok (.aload_n 1, 1) := dk_43 (dk_at dksX3_older_0 21 rfl rfl)
theorem dX3_older_22 : decode cX3_older 22 = .ok (.iconst 0, 1) := dk_3 (dk_at dksX3_older_0 22 rfl rfl)
theorem dX3_older_23 : decode cX3_older 23 = .ok (.iconst 0, 1) := dk_3 (dk_at dksX3_older_0 23 rfl rfl)
theorem dX3_older_24 : decode cX3_older 24 = .ok (.iastore, 1) := dk_79 (dk_at dksX3_older_1 0 rfl rfl)
theorem dX3_older_25 : decode cX3_older 25 = .ok (.aload_n 0, 1) := dk_42 (dk_at dksX3_older_1 1 rfl rfl)
theorem dX3_older_26 : decode cX3_older 26 = .ok (.getfield 35, 3) := dk_180 0 35 (dk_at dksX3_older_1 2 rfl rfl)
theorem dX3_older_29 : decode cX3_older 29 = .ok (.getfield 95, 3) := dk_180 0 95 (dk_at dksX3_older_1 5 rfl rfl)
theorem dX3_older_32 : decode cX3_older 32 = .ok (.istore_n 2, 1) := dk_61 (dk_at dksX3_older_1 8 rfl rfl)
theorem dX3_older_33 : decode cX3_older 33 = .ok (.iload_n 2, 1) := dk_28 (dk_at dksX3_older_1 9 rfl rfl)
theorem dX3_older_34 : decode cX3_older 34 = .ok (.bipush 9, 2) := dk_16 9 (dk_at dksX3_older_1 10 rfl rfl)
theorem dX3_older_36 : decode cX3_older 36 = .ok (.if_icmp .ge 13, 3) := dk_162 0 13 (dk_at dksX3_older_1 12 rfl rfl)
theorem dX3_older_39 : decode cX3_older 39 = .ok (.aload_n 1, 1) := dk_43 (dk_at dksX3_older_1 15 rfl rfl)
theorem dX3_older_40 : decode cX3_older 40 = .ok (.iload_n 2, 1) := dk_28 (dk_at dksX3_older_1 16 rfl rfl)
theorem dX3_older_41 : decode cX3_older 41 = .ok (.iconst 0, 1) := dk_3 (dk_at dksX3_older_1 17 rfl rfl)
theorem dX3_older_42 : decode cX3_older 42 = .ok (.iastore, 1) := dk_79 (dk_at dksX3_older_1 18 rfl rfl)
theorem dX3_older_43 : decode cX3_older 43 = .ok (.iinc 2 1, 3) := dk_132 2 1 (dk_at dksX3_older_1 19 rfl rfl)
theorem dX3_older_46 : decode cX3_older 46 = .ok (.goto (-13), 3) := dk_167 255 243 (dk_at dksX3_older_2 0 rfl rfl)
theorem dX3_older_49 : decode cX3_older 49 = .ok (.return_, 1) := dk_177 (dk_at dksX3_older_2 3 rfl rfl)
abbrev cX3_missing : ByteArray := prog_11_method_12_code
def yX3_missing : MethodName := ⟨RX3, "missing", "(I)I"⟩
def dkwX3_missing_0 : List UInt8 := [42, 42, 180, 0, 16, 27, 50, 182, 0, 109, 42, 27, 182, 0, 113, 100, 172]
abbrev dktX3_missing_0 : List UInt8 := dkwX3_missing_0 ++ []
theorem dksX3_missing_0 : cX3_missing.data.toList.drop 0 = dktX3_missing_0 := by decide +kernel
theorem dX3_missing_0 : decode cX3_missing 0 = .ok (.aload_n 0, 1) := dk_42 (dk_at dksX3_missing_0 0 rfl rfl)
theorem dX3_missing_1 : decode cX3_missing 1 = .ok (.aload_n 0, 1) := dk_42 (dk_at dksX3_missing_0 1 rfl rfl)
theorem dX3_missing_2 : decode cX3_missing 2 = .ok (.getfield 16, 3) := dk_180 0 16 (dk_at dksX3_missing_0 2 rfl rfl)
theorem dX3_missing_5 : decode cX3_missing 5 = .ok (.iload_n 1, 1) := dk_27 (dk_at dksX3_missing_0 5 rfl rfl)
theorem dX3_missing_6 : decode cX3_missing 6 = .ok (.aaload, 1) := dk_50 (dk_at dksX3_missing_0 6 rfl rfl)
theorem dX3_missing_7 : decode cX3_missing 7 = .ok (.invokevirtual 109, 3) := dk_182 0 109 (dk_at dksX3_missing_0 7 rfl rfl)
theorem dX3_missing_10 : decode cX3_missing 10 = .ok (.aload_n 0, 1) := dk_42 (dk_at dksX3_missing_0 10 rfl rfl)
theorem dX3_missing_11 : decode cX3_missing 11 = .ok (.iload_n 1, 1) := dk_27 (dk_at dksX3_missing_0 11 rfl rfl)
theorem dX3_missing_12 : decode cX3_missing 12 = .ok (.invokevirtual 113, 3) := dk_182 0 113 (dk_at dksX3_missing_0 12 rfl rfl)
theorem dX3_missing_15 : decode cX3_missing 15 = .ok (.isub, 1) := dk_100 (dk_at dksX3_missing_0 15 rfl rfl)
theorem dX3_missing_16 : decode cX3_missing 16 = .ok (.ireturn, 1) := dk_172 (dk_at dksX3_missing_0 16 rfl rfl)
abbrev cX3_depthOf : ByteArray := prog_11_method_10_code
def yX3_depthOf : MethodName := ⟨RX3, "depthOf", "([[I)I"⟩
def dkwX3_depthOf_3 : List UInt8 := [132, 4, 1, 167, 255, 203, 132, 3, 1, 167, 255, 180, 28, 172]
abbrev dktX3_depthOf_3 : List UInt8 := dkwX3_depthOf_3 ++ []
def dkwX3_depthOf_2 : List UInt8 := [182, 0, 69, 192, 0, 86, 180, 0, 106, 104, 42, 180, 0, 35, 180, 0, 95, 21, 4, 100, 104, 96, 61]
abbrev dktX3_depthOf_2 : List UInt8 := dkwX3_depthOf_2 ++ dktX3_depthOf_3
def dkwX3_depthOf_1 : List UInt8 := [180, 0, 35, 180, 0, 95, 162, 0, 47, 28, 43, 29, 50, 21, 4, 46, 42, 180, 0, 35, 180, 0, 83, 29]
abbrev dktX3_depthOf_1 : List UInt8 := dkwX3_depthOf_1 ++ dktX3_depthOf_2
def dkwX3_depthOf_0 : List UInt8 := [3, 61, 3, 62, 29, 42, 180, 0, 35, 180, 0, 83, 182, 0, 102, 162, 0, 68, 3, 54, 4, 21, 4, 42]
abbrev dktX3_depthOf_0 : List UInt8 := dkwX3_depthOf_0 ++ dktX3_depthOf_1
theorem dksX3_depthOf_0 : cX3_depthOf.data.toList.drop 0 = dktX3_depthOf_0 := by decide +kernel
theorem dksX3_depthOf_1 : cX3_depthOf.data.toList.drop 24 = dktX3_depthOf_1 := dk_seg dksX3_depthOf_0 24 rfl rfl
theorem dksX3_depthOf_2 : cX3_depthOf.data.toList.drop 48 = dktX3_depthOf_2 := dk_seg dksX3_depthOf_1 24 rfl rfl
theorem dksX3_depthOf_3 : cX3_depthOf.data.toList.drop 71 = dktX3_depthOf_3 := dk_seg dksX3_depthOf_2 23 rfl rfl
theorem dX3_depthOf_0 : decode cX3_depthOf 0 = .ok (.iconst 0, 1) := dk_3 (dk_at dksX3_depthOf_0 0 rfl rfl)
theorem dX3_depthOf_1 : decode cX3_depthOf 1 = .ok (.istore_n 2, 1) := dk_61 (dk_at dksX3_depthOf_0 1 rfl rfl)
theorem dX3_depthOf_2 : decode cX3_depthOf 2 = .ok (.iconst 0, 1) := dk_3 (dk_at dksX3_depthOf_0 2 rfl rfl)
theorem dX3_depthOf_3 : decode cX3_depthOf 3 = .ok (.istore_n 3, 1) := dk_62 (dk_at dksX3_depthOf_0 3 rfl rfl)
theorem dX3_depthOf_4 : decode cX3_depthOf 4 = .ok (.iload_n 3, 1) := dk_29 (dk_at dksX3_depthOf_0 4 rfl rfl)
theorem dX3_depthOf_5 : decode cX3_depthOf 5 = .ok (.aload_n 0, 1) := dk_42 (dk_at dksX3_depthOf_0 5 rfl rfl)
theorem dX3_depthOf_6 : decode cX3_depthOf 6 = .ok (.getfield 35, 3) := dk_180 0 35 (dk_at dksX3_depthOf_0 6 rfl rfl)
theorem dX3_depthOf_9 : decode cX3_depthOf 9 = .ok (.getfield 83, 3) := dk_180 0 83 (dk_at dksX3_depthOf_0 9 rfl rfl)
theorem dX3_depthOf_12 : decode cX3_depthOf 12 = .ok (.invokevirtual 102, 3) := dk_182 0 102 (dk_at dksX3_depthOf_0 12 rfl rfl)
theorem dX3_depthOf_15 : decode cX3_depthOf 15 = .ok (.if_icmp .ge 68, 3) := dk_162 0 68 (dk_at dksX3_depthOf_0 15 rfl rfl)
theorem dX3_depthOf_18 : decode cX3_depthOf 18 = .ok (.iconst 0, 1) := dk_3 (dk_at dksX3_depthOf_0 18 rfl rfl)
theorem dX3_depthOf_19 : decode cX3_depthOf 19 = .ok (.istore 4, 2) := dk_54 4 (dk_at dksX3_depthOf_0 19 rfl rfl)
theorem dX3_depthOf_21 : decode cX3_depthOf 21 = .ok (.iload 4, 2) := dk_21 4 (dk_at dksX3_depthOf_0 21 rfl rfl)
theorem dX3_depthOf_23 : decode cX3_depthOf 23 = .ok (.aload_n 0, 1) := dk_42 (dk_at dksX3_depthOf_0 23 rfl rfl)
theorem dX3_depthOf_24 : decode cX3_depthOf 24 = .ok (.getfield 35, 3) := dk_180 0 35 (dk_at dksX3_depthOf_1 0 rfl rfl)
theorem dX3_depthOf_27 : decode cX3_depthOf 27 = .ok (.getfield 95, 3) := dk_180 0 95 (dk_at dksX3_depthOf_1 3 rfl rfl)
theorem dX3_depthOf_30 : decode cX3_depthOf 30 = .ok (.if_icmp .ge 47, 3) := dk_162 0 47 (dk_at dksX3_depthOf_1 6 rfl rfl)
theorem dX3_depthOf_33 : decode cX3_depthOf 33 = .ok (.iload_n 2, 1) := dk_28 (dk_at dksX3_depthOf_1 9 rfl rfl)
theorem dX3_depthOf_34 : decode cX3_depthOf 34 = .ok (.aload_n 1, 1) := dk_43 (dk_at dksX3_depthOf_1 10 rfl rfl)
theorem dX3_depthOf_35 : decode cX3_depthOf 35 = .ok (.iload_n 3, 1) := dk_29 (dk_at dksX3_depthOf_1 11 rfl rfl)
theorem dX3_depthOf_36 : decode cX3_depthOf 36 = .ok (.aaload, 1) := dk_50 (dk_at dksX3_depthOf_1 12 rfl rfl)
theorem dX3_depthOf_37 : decode cX3_depthOf 37 = .ok (.iload 4, 2) := dk_21 4 (dk_at dksX3_depthOf_1 13 rfl rfl)
theorem dX3_depthOf_39 : decode cX3_depthOf 39 = .ok (.iaload, 1) := dk_46 (dk_at dksX3_depthOf_1 15 rfl rfl)
theorem dX3_depthOf_40 : decode cX3_depthOf 40 = .ok (.aload_n 0, 1) := dk_42 (dk_at dksX3_depthOf_1 16 rfl rfl)
theorem dX3_depthOf_41 : decode cX3_depthOf 41 = .ok (.getfield 35, 3) := dk_180 0 35 (dk_at dksX3_depthOf_1 17 rfl rfl)
theorem dX3_depthOf_44 : decode cX3_depthOf 44 = .ok (.getfield 83, 3) := dk_180 0 83 (dk_at dksX3_depthOf_1 20 rfl rfl)
theorem dX3_depthOf_47 : decode cX3_depthOf 47 = .ok (.iload_n 3, 1) := dk_29 (dk_at dksX3_depthOf_1 23 rfl rfl)
theorem dX3_depthOf_48 : decode cX3_depthOf 48 = .ok (.invokevirtual 69, 3) := dk_182 0 69 (dk_at dksX3_depthOf_2 0 rfl rfl)
theorem dX3_depthOf_51 : decode cX3_depthOf 51 = .ok (.checkcast 86, 3) := dk_192 0 86 (dk_at dksX3_depthOf_2 3 rfl rfl)
theorem dX3_depthOf_54 : decode cX3_depthOf 54 = .ok (.getfield 106, 3) := dk_180 0 106 (dk_at dksX3_depthOf_2 6 rfl rfl)
theorem dX3_depthOf_57 : decode cX3_depthOf 57 = .ok (.imul, 1) := dk_104 (dk_at dksX3_depthOf_2 9 rfl rfl)
theorem dX3_depthOf_58 : decode cX3_depthOf 58 = .ok (.aload_n 0, 1) := dk_42 (dk_at dksX3_depthOf_2 10 rfl rfl)
theorem dX3_depthOf_59 : decode cX3_depthOf 59 = .ok (.getfield 35, 3) := dk_180 0 35 (dk_at dksX3_depthOf_2 11 rfl rfl)
theorem dX3_depthOf_62 : decode cX3_depthOf 62 = .ok (.getfield 95, 3) := dk_180 0 95 (dk_at dksX3_depthOf_2 14 rfl rfl)
theorem dX3_depthOf_65 : decode cX3_depthOf 65 = .ok (.iload 4, 2) := dk_21 4 (dk_at dksX3_depthOf_2 17 rfl rfl)
theorem dX3_depthOf_67 : decode cX3_depthOf 67 = .ok (.isub, 1) := dk_100 (dk_at dksX3_depthOf_2 19 rfl rfl)
theorem dX3_depthOf_68 : decode cX3_depthOf 68 = .ok (.imul, 1) := dk_104 (dk_at dksX3_depthOf_2 20 rfl rfl)
theorem dX3_depthOf_69 : decode cX3_depthOf 69 = .ok (.iadd, 1) := dk_96 (dk_at dksX3_depthOf_2 21 rfl rfl)
theorem dX3_depthOf_70 : decode cX3_depthOf 70 = .ok (.istore_n 2, 1) := dk_61 (dk_at dksX3_depthOf_2 22 rfl rfl)
theorem dX3_depthOf_71 : decode cX3_depthOf 71 = .ok (.iinc 4 1, 3) := dk_132 4 1 (dk_at dksX3_depthOf_3 0 rfl rfl)
theorem dX3_depthOf_74 : decode cX3_depthOf 74 = .ok (.goto (-53), 3) := dk_167 255 203 (dk_at dksX3_depthOf_3 3 rfl rfl)
theorem dX3_depthOf_77 : decode cX3_depthOf 77 = .ok (.iinc 3 1, 3) := dk_132 3 1 (dk_at dksX3_depthOf_3 6 rfl rfl)
theorem dX3_depthOf_80 : decode cX3_depthOf 80 = .ok (.goto (-76), 3) := dk_167 255 180 (dk_at dksX3_depthOf_3 9 rfl rfl)
theorem dX3_depthOf_83 : decode cX3_depthOf 83 = .ok (.iload_n 2, 1) := dk_28 (dk_at dksX3_depthOf_3 12 rfl rfl)
theorem dX3_depthOf_84 : decode cX3_depthOf 84 = .ok (.ireturn, 1) := dk_172 (dk_at dksX3_depthOf_3 13 rfl rfl)
abbrev cX3_depth : ByteArray := prog_11_method_11_code
def yX3_depth : MethodName := ⟨RX3, "depth", "(I)I"⟩
def dkwX3_depth_0 : List UInt8 := [42, 42, 180, 0, 11, 27, 50, 182, 0, 109, 172]
abbrev dktX3_depth_0 : List UInt8 := dkwX3_depth_0 ++ []
theorem dksX3_depth_0 : cX3_depth.data.toList.drop 0 = dktX3_depth_0 := by decide +kernel
theorem dX3_depth_0 : decode cX3_depth 0 = .ok (.aload_n 0, 1) := dk_42 (dk_at dksX3_depth_0 0 rfl rfl)
theorem dX3_depth_1 : decode cX3_depth 1 = .ok (.aload_n 0, 1) := dk_42 (dk_at dksX3_depth_0 1 rfl rfl)
theorem dX3_depth_2 : decode cX3_depth 2 = .ok (.getfield 11, 3) := dk_180 0 11 (dk_at dksX3_depth_0 2 rfl rfl)
theorem dX3_depth_5 : decode cX3_depth 5 = .ok (.iload_n 1, 1) := dk_27 (dk_at dksX3_depth_0 5 rfl rfl)
theorem dX3_depth_6 : decode cX3_depth 6 = .ok (.aaload, 1) := dk_50 (dk_at dksX3_depth_0 6 rfl rfl)
theorem dX3_depth_7 : decode cX3_depth 7 = .ok (.invokevirtual 109, 3) := dk_182 0 109 (dk_at dksX3_depth_0 7 rfl rfl)
theorem dX3_depth_10 : decode cX3_depth 10 = .ok (.ireturn, 1) := dk_172 (dk_at dksX3_depth_0 10 rfl rfl)
abbrev cX3_treadsOf : ByteArray := prog_11_method_14_code
def yX3_treadsOf : MethodName := ⟨RX3, "treadsOf", "(I)I"⟩
def dkwX3_treadsOf_1 : List UInt8 := [167, 255, 237, 28, 172]
abbrev dktX3_treadsOf_1 : List UInt8 := dkwX3_treadsOf_1 ++ []
def dkwX3_treadsOf_0 : List UInt8 := [3, 61, 3, 62, 29, 17, 0, 144, 162, 0, 18, 28, 42, 29, 27, 182, 0, 117, 96, 61, 132, 3, 1]
abbrev dktX3_treadsOf_0 : List UInt8 := dkwX3_treadsOf_0 ++ dktX3_treadsOf_1
theorem dksX3_treadsOf_0 : cX3_treadsOf.data.toList.drop 0 = dktX3_treadsOf_0 := by decide +kernel
theorem dksX3_treadsOf_1 : cX3_treadsOf.data.toList.drop 23 = dktX3_treadsOf_1 := dk_seg dksX3_treadsOf_0 23 rfl rfl
theorem dX3_treadsOf_0 : decode cX3_treadsOf 0 = .ok (.iconst 0, 1) := dk_3 (dk_at dksX3_treadsOf_0 0 rfl rfl)
theorem dX3_treadsOf_1 : decode cX3_treadsOf 1 = .ok (.istore_n 2, 1) := dk_61 (dk_at dksX3_treadsOf_0 1 rfl rfl)
theorem dX3_treadsOf_2 : decode cX3_treadsOf 2 = .ok (.iconst 0, 1) := dk_3 (dk_at dksX3_treadsOf_0 2 rfl rfl)
theorem dX3_treadsOf_3 : decode cX3_treadsOf 3 = .ok (.istore_n 3, 1) := dk_62 (dk_at dksX3_treadsOf_0 3 rfl rfl)
theorem dX3_treadsOf_4 : decode cX3_treadsOf 4 = .ok (.iload_n 3, 1) := dk_29 (dk_at dksX3_treadsOf_0 4 rfl rfl)
theorem dX3_treadsOf_5 : decode cX3_treadsOf 5 = .ok (.sipush 144, 3) := dk_17 0 144 (dk_at dksX3_treadsOf_0 5 rfl rfl)
theorem dX3_treadsOf_8 : decode cX3_treadsOf 8 = .ok (.if_icmp .ge 18, 3) := dk_162 0 18 (dk_at dksX3_treadsOf_0 8 rfl rfl)
theorem dX3_treadsOf_11 : decode cX3_treadsOf 11 = .ok (.iload_n 2, 1) := dk_28 (dk_at dksX3_treadsOf_0 11 rfl rfl)
theorem dX3_treadsOf_12 : decode cX3_treadsOf 12 = .ok (.aload_n 0, 1) := dk_42 (dk_at dksX3_treadsOf_0 12 rfl rfl)
theorem dX3_treadsOf_13 : decode cX3_treadsOf 13 = .ok (.iload_n 3, 1) := dk_29 (dk_at dksX3_treadsOf_0 13 rfl rfl)
theorem dX3_treadsOf_14 : decode cX3_treadsOf 14 = .ok (.iload_n 1, 1) := dk_27 (dk_at dksX3_treadsOf_0 14 rfl rfl)
theorem dX3_treadsOf_15 : decode cX3_treadsOf 15 = .ok (.invokevirtual 117, 3) := dk_182 0 117 (dk_at dksX3_treadsOf_0 15 rfl rfl)
theorem dX3_treadsOf_18 : decode cX3_treadsOf 18 = .ok (.iadd, 1) := dk_96 (dk_at dksX3_treadsOf_0 18 rfl rfl)
theorem dX3_treadsOf_19 : decode cX3_treadsOf 19 = .ok (.istore_n 2, 1) := dk_61 (dk_at dksX3_treadsOf_0 19 rfl rfl)
theorem dX3_treadsOf_20 : decode cX3_treadsOf 20 = .ok (.iinc 3 1, 3) := dk_132 3 1 (dk_at dksX3_treadsOf_0 20 rfl rfl)
theorem dX3_treadsOf_23 : decode cX3_treadsOf 23 = .ok (.goto (-19), 3) := dk_167 255 237 (dk_at dksX3_treadsOf_1 0 rfl rfl)
theorem dX3_treadsOf_26 : decode cX3_treadsOf 26 = .ok (.iload_n 2, 1) := dk_28 (dk_at dksX3_treadsOf_1 3 rfl rfl)
theorem dX3_treadsOf_27 : decode cX3_treadsOf 27 = .ok (.ireturn, 1) := dk_172 (dk_at dksX3_treadsOf_1 4 rfl rfl)
abbrev cX3_treadsOn : ByteArray := prog_11_method_13_code
def yX3_treadsOn : MethodName := ⟨RX3, "treadsOn", "(II)I"⟩
def dkwX3_treadsOn_2 : List UInt8 := [132, 5, 1, 167, 255, 220, 132, 4, 1, 167, 255, 204, 29, 172]
abbrev dktX3_treadsOn_2 : List UInt8 := dkwX3_treadsOn_2 ++ []
def dkwX3_treadsOn_1 : List UInt8 := [159, 0, 9, 28, 21, 4, 160, 0, 24, 29, 42, 180, 0, 11, 27, 50, 21, 4, 50, 21, 5, 46, 96, 62]
abbrev dktX3_treadsOn_1 : List UInt8 := dkwX3_treadsOn_1 ++ dktX3_treadsOn_2
def dkwX3_treadsOn_0 : List UInt8 := [3, 62, 3, 54, 4, 21, 4, 16, 6, 162, 0, 51, 3, 54, 5, 21, 5, 16, 9, 162, 0, 35, 28, 2]
abbrev dktX3_treadsOn_0 : List UInt8 := dkwX3_treadsOn_0 ++ dktX3_treadsOn_1
theorem dksX3_treadsOn_0 : cX3_treadsOn.data.toList.drop 0 = dktX3_treadsOn_0 := by decide +kernel
theorem dksX3_treadsOn_1 : cX3_treadsOn.data.toList.drop 24 = dktX3_treadsOn_1 := dk_seg dksX3_treadsOn_0 24 rfl rfl
theorem dksX3_treadsOn_2 : cX3_treadsOn.data.toList.drop 48 = dktX3_treadsOn_2 := dk_seg dksX3_treadsOn_1 24 rfl rfl
theorem dX3_treadsOn_0 : decode cX3_treadsOn 0 = .ok (.iconst 0, 1) := dk_3 (dk_at dksX3_treadsOn_0 0 rfl rfl)
theorem dX3_treadsOn_1 : decode cX3_treadsOn 1 = .ok (.istore_n 3, 1) := dk_62 (dk_at dksX3_treadsOn_0 1 rfl rfl)
theorem dX3_treadsOn_2 : decode cX3_treadsOn 2 = .ok (.iconst 0, 1) := dk_3 (dk_at dksX3_treadsOn_0 2 rfl rfl)
theorem dX3_treadsOn_3 : decode cX3_treadsOn 3 = .ok (.istore 4, 2) := dk_54 4 (dk_at dksX3_treadsOn_0 3 rfl rfl)
theorem dX3_treadsOn_5 : decode cX3_treadsOn 5 = .ok (.iload 4, 2) := dk_21 4 (dk_at dksX3_treadsOn_0 5 rfl rfl)
theorem dX3_treadsOn_7 : decode cX3_treadsOn 7 = .ok (.bipush 6, 2) := dk_16 6 (dk_at dksX3_treadsOn_0 7 rfl rfl)
theorem dX3_treadsOn_9 : decode cX3_treadsOn 9 = .ok (.if_icmp .ge 51, 3) := dk_162 0 51 (dk_at dksX3_treadsOn_0 9 rfl rfl)
theorem dX3_treadsOn_12 : decode cX3_treadsOn 12 = .ok (.iconst 0, 1) := dk_3 (dk_at dksX3_treadsOn_0 12 rfl rfl)
theorem dX3_treadsOn_13 : decode cX3_treadsOn 13 = .ok (.istore 5, 2) := dk_54 5 (dk_at dksX3_treadsOn_0 13 rfl rfl)
theorem dX3_treadsOn_15 : decode cX3_treadsOn 15 = .ok (.iload 5, 2) := dk_21 5 (dk_at dksX3_treadsOn_0 15 rfl rfl)
theorem dX3_treadsOn_17 : decode cX3_treadsOn 17 = .ok (.bipush 9, 2) := dk_16 9 (dk_at dksX3_treadsOn_0 17 rfl rfl)
theorem dX3_treadsOn_19 : decode cX3_treadsOn 19 = .ok (.if_icmp .ge 35, 3) := dk_162 0 35 (dk_at dksX3_treadsOn_0 19 rfl rfl)
theorem dX3_treadsOn_22 : decode cX3_treadsOn 22 = .ok (.iload_n 2, 1) := dk_28 (dk_at dksX3_treadsOn_0 22 rfl rfl)
theorem dX3_treadsOn_23 : decode cX3_treadsOn 23 = .ok (.iconst (-1), 1) := dk_2 (dk_at dksX3_treadsOn_0 23 rfl rfl)
theorem dX3_treadsOn_24 : decode cX3_treadsOn 24 = .ok (.if_icmp .eq 9, 3) := dk_159 0 9 (dk_at dksX3_treadsOn_1 0 rfl rfl)
theorem dX3_treadsOn_27 : decode cX3_treadsOn 27 = .ok (.iload_n 2, 1) := dk_28 (dk_at dksX3_treadsOn_1 3 rfl rfl)
theorem dX3_treadsOn_28 : decode cX3_treadsOn 28 = .ok (.iload 4, 2) := dk_21 4 (dk_at dksX3_treadsOn_1 4 rfl rfl)
theorem dX3_treadsOn_30 : decode cX3_treadsOn 30 = .ok (.if_icmp .ne 24, 3) := dk_160 0 24 (dk_at dksX3_treadsOn_1 6 rfl rfl)
theorem dX3_treadsOn_33 : decode cX3_treadsOn 33 = .ok (.iload_n 3, 1) := dk_29 (dk_at dksX3_treadsOn_1 9 rfl rfl)
theorem dX3_treadsOn_34 : decode cX3_treadsOn 34 = .ok (.aload_n 0, 1) := dk_42 (dk_at dksX3_treadsOn_1 10 rfl rfl)
theorem dX3_treadsOn_35 : decode cX3_treadsOn 35 = .ok (.getfield 11, 3) := dk_180 0 11 (dk_at dksX3_treadsOn_1 11 rfl rfl)
theorem dX3_treadsOn_38 : decode cX3_treadsOn 38 = .ok (.iload_n 1, 1) := dk_27 (dk_at dksX3_treadsOn_1 14 rfl rfl)
theorem dX3_treadsOn_39 : decode cX3_treadsOn 39 = .ok (.aaload, 1) := dk_50 (dk_at dksX3_treadsOn_1 15 rfl rfl)
theorem dX3_treadsOn_40 : decode cX3_treadsOn 40 = .ok (.iload 4, 2) := dk_21 4 (dk_at dksX3_treadsOn_1 16 rfl rfl)
theorem dX3_treadsOn_42 : decode cX3_treadsOn 42 = .ok (.aaload, 1) := dk_50 (dk_at dksX3_treadsOn_1 18 rfl rfl)
theorem dX3_treadsOn_43 : decode cX3_treadsOn 43 = .ok (.iload 5, 2) := dk_21 5 (dk_at dksX3_treadsOn_1 19 rfl rfl)
theorem dX3_treadsOn_45 : decode cX3_treadsOn 45 = .ok (.iaload, 1) := dk_46 (dk_at dksX3_treadsOn_1 21 rfl rfl)
theorem dX3_treadsOn_46 : decode cX3_treadsOn 46 = .ok (.iadd, 1) := dk_96 (dk_at dksX3_treadsOn_1 22 rfl rfl)
theorem dX3_treadsOn_47 : decode cX3_treadsOn 47 = .ok (.istore_n 3, 1) := dk_62 (dk_at dksX3_treadsOn_1 23 rfl rfl)
theorem dX3_treadsOn_48 : decode cX3_treadsOn 48 = .ok (.iinc 5 1, 3) := dk_132 5 1 (dk_at dksX3_treadsOn_2 0 rfl rfl)
theorem dX3_treadsOn_51 : decode cX3_treadsOn 51 = .ok (.goto (-36), 3) := dk_167 255 220 (dk_at dksX3_treadsOn_2 3 rfl rfl)
theorem dX3_treadsOn_54 : decode cX3_treadsOn 54 = .ok (.iinc 4 1, 3) := dk_132 4 1 (dk_at dksX3_treadsOn_2 6 rfl rfl)
theorem dX3_treadsOn_57 : decode cX3_treadsOn 57 = .ok (.goto (-52), 3) := dk_167 255 204 (dk_at dksX3_treadsOn_2 9 rfl rfl)
theorem dX3_treadsOn_60 : decode cX3_treadsOn 60 = .ok (.iload_n 3, 1) := dk_29 (dk_at dksX3_treadsOn_2 12 rfl rfl)
theorem dX3_treadsOn_61 : decode cX3_treadsOn 61 = .ok (.ireturn, 1) := dk_172 (dk_at dksX3_treadsOn_2 13 rfl rfl)
abbrev cX3_tuftsOf : ByteArray := prog_11_method_15_code
def yX3_tuftsOf : MethodName := ⟨RX3, "tuftsOf", "(I)I"⟩
def dkwX3_tuftsOf_1 : List UInt8 := [132, 3, 1, 167, 255, 234, 28, 172]
abbrev dktX3_tuftsOf_1 : List UInt8 := dkwX3_tuftsOf_1 ++ []
def dkwX3_tuftsOf_0 : List UInt8 := [3, 61, 3, 62, 29, 17, 0, 144, 162, 0, 21, 42, 29, 27, 182, 0, 117, 158, 0, 6, 132, 2, 1]
abbrev dktX3_tuftsOf_0 : List UInt8 := dkwX3_tuftsOf_0 ++ dktX3_tuftsOf_1
theorem dksX3_tuftsOf_0 : cX3_tuftsOf.data.toList.drop 0 = dktX3_tuftsOf_0 := by decide +kernel
theorem dksX3_tuftsOf_1 : cX3_tuftsOf.data.toList.drop 23 = dktX3_tuftsOf_1 := dk_seg dksX3_tuftsOf_0 23 rfl rfl
theorem dX3_tuftsOf_0 : decode cX3_tuftsOf 0 = .ok (.iconst 0, 1) := dk_3 (dk_at dksX3_tuftsOf_0 0 rfl rfl)
theorem dX3_tuftsOf_1 : decode cX3_tuftsOf 1 = .ok (.istore_n 2, 1) := dk_61 (dk_at dksX3_tuftsOf_0 1 rfl rfl)
theorem dX3_tuftsOf_2 : decode cX3_tuftsOf 2 = .ok (.iconst 0, 1) := dk_3 (dk_at dksX3_tuftsOf_0 2 rfl rfl)
theorem dX3_tuftsOf_3 : decode cX3_tuftsOf 3 = .ok (.istore_n 3, 1) := dk_62 (dk_at dksX3_tuftsOf_0 3 rfl rfl)
theorem dX3_tuftsOf_4 : decode cX3_tuftsOf 4 = .ok (.iload_n 3, 1) := dk_29 (dk_at dksX3_tuftsOf_0 4 rfl rfl)
theorem dX3_tuftsOf_5 : decode cX3_tuftsOf 5 = .ok (.sipush 144, 3) := dk_17 0 144 (dk_at dksX3_tuftsOf_0 5 rfl rfl)
theorem dX3_tuftsOf_8 : decode cX3_tuftsOf 8 = .ok (.if_icmp .ge 21, 3) := dk_162 0 21 (dk_at dksX3_tuftsOf_0 8 rfl rfl)
theorem dX3_tuftsOf_11 : decode cX3_tuftsOf 11 = .ok (.aload_n 0, 1) := dk_42 (dk_at dksX3_tuftsOf_0 11 rfl rfl)
theorem dX3_tuftsOf_12 : decode cX3_tuftsOf 12 = .ok (.iload_n 3, 1) := dk_29 (dk_at dksX3_tuftsOf_0 12 rfl rfl)
theorem dX3_tuftsOf_13 : decode cX3_tuftsOf 13 = .ok (.iload_n 1, 1) := dk_27 (dk_at dksX3_tuftsOf_0 13 rfl rfl)
theorem dX3_tuftsOf_14 : decode cX3_tuftsOf 14 = .ok (.invokevirtual 117, 3) := dk_182 0 117 (dk_at dksX3_tuftsOf_0 14 rfl rfl)
theorem dX3_tuftsOf_17 : decode cX3_tuftsOf 17 = .ok (.ifCond .le 6, 3) := dk_158 0 6 (dk_at dksX3_tuftsOf_0 17 rfl rfl)
theorem dX3_tuftsOf_20 : decode cX3_tuftsOf 20 = .ok (.iinc 2 1, 3) := dk_132 2 1 (dk_at dksX3_tuftsOf_0 20 rfl rfl)
theorem dX3_tuftsOf_23 : decode cX3_tuftsOf 23 = .ok (.iinc 3 1, 3) := dk_132 3 1 (dk_at dksX3_tuftsOf_1 0 rfl rfl)
theorem dX3_tuftsOf_26 : decode cX3_tuftsOf 26 = .ok (.goto (-22), 3) := dk_167 255 234 (dk_at dksX3_tuftsOf_1 3 rfl rfl)
theorem dX3_tuftsOf_29 : decode cX3_tuftsOf 29 = .ok (.iload_n 2, 1) := dk_28 (dk_at dksX3_tuftsOf_1 6 rfl rfl)
theorem dX3_tuftsOf_30 : decode cX3_tuftsOf 30 = .ok (.ireturn, 1) := dk_172 (dk_at dksX3_tuftsOf_1 7 rfl rfl)
abbrev cX3_trod : ByteArray := prog_11_method_16_code
def yX3_trod : MethodName := ⟨RX3, "trod", "(ILRugReader$Way;)Z"⟩
def dkwX3_trod_1 : List UInt8 := [4, 172, 132, 3, 1, 167, 255, 229, 3, 172]
abbrev dktX3_trod_1 : List UInt8 := dkwX3_trod_1 ++ []
def dkwX3_trod_0 : List UInt8 := [3, 62, 29, 44, 180, 0, 77, 163, 0, 25, 42, 44, 180, 0, 80, 29, 46, 27, 182, 0, 117, 158, 0, 5]
abbrev dktX3_trod_0 : List UInt8 := dkwX3_trod_0 ++ dktX3_trod_1
theorem dksX3_trod_0 : cX3_trod.data.toList.drop 0 = dktX3_trod_0 := by decide +kernel
theorem dksX3_trod_1 : cX3_trod.data.toList.drop 24 = dktX3_trod_1 := dk_seg dksX3_trod_0 24 rfl rfl
theorem dX3_trod_0 : decode cX3_trod 0 = .ok (.iconst 0, 1) := dk_3 (dk_at dksX3_trod_0 0 rfl rfl)
theorem dX3_trod_1 : decode cX3_trod 1 = .ok (.istore_n 3, 1) := dk_62 (dk_at dksX3_trod_0 1 rfl rfl)
theorem dX3_trod_2 : decode cX3_trod 2 = .ok (.iload_n 3, 1) := dk_29 (dk_at dksX3_trod_0 2 rfl rfl)
theorem dX3_trod_3 : decode cX3_trod 3 = .ok (.aload_n 2, 1) := dk_44 (dk_at dksX3_trod_0 3 rfl rfl)
theorem dX3_trod_4 : decode cX3_trod 4 = .ok (.getfield 77, 3) := dk_180 0 77 (dk_at dksX3_trod_0 4 rfl rfl)
theorem dX3_trod_7 : decode cX3_trod 7 = .ok (.if_icmp .gt 25, 3) := dk_163 0 25 (dk_at dksX3_trod_0 7 rfl rfl)
theorem dX3_trod_10 : decode cX3_trod 10 = .ok (.aload_n 0, 1) := dk_42 (dk_at dksX3_trod_0 10 rfl rfl)
theorem dX3_trod_11 : decode cX3_trod 11 = .ok (.aload_n 2, 1) := dk_44 (dk_at dksX3_trod_0 11 rfl rfl)
theorem dX3_trod_12 : decode cX3_trod 12 = .ok (.getfield 80, 3) := dk_180 0 80 (dk_at dksX3_trod_0 12 rfl rfl)
theorem dX3_trod_15 : decode cX3_trod 15 = .ok (.iload_n 3, 1) := dk_29 (dk_at dksX3_trod_0 15 rfl rfl)
theorem dX3_trod_16 : decode cX3_trod 16 = .ok (.iaload, 1) := dk_46 (dk_at dksX3_trod_0 16 rfl rfl)
theorem dX3_trod_17 : decode cX3_trod 17 = .ok (.iload_n 1, 1) := dk_27 (dk_at dksX3_trod_0 17 rfl rfl)
theorem dX3_trod_18 : decode cX3_trod 18 = .ok (.invokevirtual 117, 3) := dk_182 0 117 (dk_at dksX3_trod_0 18 rfl rfl)
theorem dX3_trod_21 : decode cX3_trod 21 = .ok (.ifCond .le 5, 3) := dk_158 0 5 (dk_at dksX3_trod_0 21 rfl rfl)
theorem dX3_trod_24 : decode cX3_trod 24 = .ok (.iconst 1, 1) := dk_4 (dk_at dksX3_trod_1 0 rfl rfl)
theorem dX3_trod_25 : decode cX3_trod 25 = .ok (.ireturn, 1) := dk_172 (dk_at dksX3_trod_1 1 rfl rfl)
theorem dX3_trod_26 : decode cX3_trod 26 = .ok (.iinc 3 1, 3) := dk_132 3 1 (dk_at dksX3_trod_1 2 rfl rfl)
theorem dX3_trod_29 : decode cX3_trod 29 = .ok (.goto (-27), 3) := dk_167 255 229 (dk_at dksX3_trod_1 5 rfl rfl)
theorem dX3_trod_32 : decode cX3_trod 32 = .ok (.iconst 0, 1) := dk_3 (dk_at dksX3_trod_1 8 rfl rfl)
theorem dX3_trod_33 : decode cX3_trod 33 = .ok (.ireturn, 1) := dk_172 (dk_at dksX3_trod_1 9 rfl rfl)
theorem q108 : (Jvm.Cond.initialized "RugReader$Rug") ∈ lw_all := lw_g (lw_at lw_m1 6 rfl) rfl
theorem q193 : (Jvm.Cond.fieldLinkNest "RugReader$Rug" (95 : Nat) "RugReader$House" "fade" "I" "RugReader") ∈ lw_tbl := lw_at lw_m1 91 rfl
theorem q203 : (Jvm.Cond.fieldLinkNest "RugReader$Rug" (83 : Nat) "RugReader$House" "people" "Ljava/util/ArrayList;" "RugReader") ∈ lw_tbl := lw_at lw_m1 101 rfl
theorem q207 : (Jvm.Cond.fieldLinkNest "RugReader$Rug" (63 : Nat) "RugReader$House" "ways" "Ljava/util/ArrayList;" "RugReader") ∈ lw_tbl := lw_at lw_m1 105 rfl
theorem q244 : (Jvm.Cond.instantiable "RugReader$Rug" (9 : Nat)) ∈ lw_all := lw_g (lw_at lw_m1 142 rfl) rfl
theorem q246 : (Jvm.Cond.instanceMethod ({ cls := "RugReader$Rug", name := "<init>", desc := "()V" } : Jvm.MethodName)) ∈ lw_all := lw_g (lw_at lw_m1 144 rfl) rfl
theorem q247 : (Jvm.Cond.code ({ cls := "RugReader$Rug", name := "<init>", desc := "()V" } : Jvm.MethodName) prog_11_method_1_code (1 : Nat) (Option.none : Option Jvm.ClassFile.FieldType)) ∈ lw_all := lw_g (lw_at lw_m1 145 rfl) rfl
theorem q248 : (Jvm.Cond.methodLink "RugReader$Rug" (3 : Nat) ({ cls := "java/lang/Object", name := "<init>", desc := "()V" } : Jvm.MethodName)) ∈ lw_all := lw_g (lw_at lw_m1 146 rfl) rfl
theorem q249 : (Jvm.Cond.classLink "RugReader$Rug" (9 : Nat) "[[[I") ∈ lw_all := lw_g (lw_at lw_m1 147 rfl) rfl
theorem q253 : (Jvm.Cond.fieldLink "RugReader$Rug" (35 : Nat) "RugReader$Rug" "h" "LRugReader$House;") ∈ lw_all := lw_g (lw_at lw_m1 151 rfl) rfl
theorem q255 : (Jvm.Cond.fieldLink "RugReader$Rug" (39 : Nat) "RugReader$Rug" "day" "I") ∈ lw_all := lw_g (lw_at lw_m1 153 rfl) rfl
theorem q257 : (Jvm.Cond.fieldLink "RugReader$Rug" (11 : Nat) "RugReader$Rug" "treads" "[[[I") ∈ lw_all := lw_g (lw_at lw_m1 155 rfl) rfl
theorem q258 : (Jvm.Cond.fieldLink "RugReader$Rug" (16 : Nat) "RugReader$Rug" "would" "[[[I") ∈ lw_all := lw_g (lw_at lw_m1 156 rfl) rfl
theorem q259 : (Jvm.Cond.fieldLink "RugReader$Rug" (19 : Nat) "RugReader$Rug" "who" "[I") ∈ lw_all := lw_g (lw_at lw_m1 157 rfl) rfl
theorem q261 : (Jvm.Cond.fieldLink "RugReader$Rug" (23 : Nat) "RugReader$Rug" "sole" "[I") ∈ lw_all := lw_g (lw_at lw_m1 159 rfl) rfl
theorem q263 : (Jvm.Cond.fieldLink "RugReader$Rug" (26 : Nat) "RugReader$Rug" "dir" "[I") ∈ lw_all := lw_g (lw_at lw_m1 161 rfl) rfl
theorem q265 : (Jvm.Cond.fieldLink "RugReader$Rug" (29 : Nat) "RugReader$Rug" "old" "[I") ∈ lw_all := lw_g (lw_at lw_m1 163 rfl) rfl
theorem q267 : (Jvm.Cond.fieldLink "RugReader$Rug" (32 : Nat) "RugReader$Rug" "walks" "[I") ∈ lw_all := lw_g (lw_at lw_m1 165 rfl) rfl
theorem q269 : (Jvm.Cond.lays "RugReader$Rug" "RugReader$Rug" "h" "LRugReader$House;") ∈ lw_all := lw_g (lw_at lw_m1 167 rfl) rfl
theorem q270 : (Jvm.Cond.soleField "RugReader$Rug" "h") ∈ lw_all := lw_g (lw_at lw_m1 168 rfl) rfl
theorem q271 : (Jvm.Cond.lays "RugReader$Rug" "RugReader$Rug" "day" "I") ∈ lw_all := lw_g (lw_at lw_m1 169 rfl) rfl
theorem q272 : (Jvm.Cond.soleField "RugReader$Rug" "day") ∈ lw_all := lw_g (lw_at lw_m1 170 rfl) rfl
theorem q273 : (Jvm.Cond.laysFinal "RugReader$Rug" "RugReader$Rug" "treads" "[[[I") ∈ lw_all := lw_g (lw_at lw_m1 171 rfl) rfl
theorem q274 : (Jvm.Cond.soleField "RugReader$Rug" "treads") ∈ lw_all := lw_g (lw_at lw_m1 172 rfl) rfl
theorem q275 : (Jvm.Cond.laysFinal "RugReader$Rug" "RugReader$Rug" "would" "[[[I") ∈ lw_all := lw_g (lw_at lw_m1 173 rfl) rfl
theorem q276 : (Jvm.Cond.soleField "RugReader$Rug" "would") ∈ lw_all := lw_g (lw_at lw_m1 174 rfl) rfl
theorem q277 : (Jvm.Cond.laysFinal "RugReader$Rug" "RugReader$Rug" "who" "[I") ∈ lw_all := lw_g (lw_at lw_m1 175 rfl) rfl
theorem q278 : (Jvm.Cond.soleField "RugReader$Rug" "who") ∈ lw_all := lw_g (lw_at lw_m1 176 rfl) rfl
theorem q279 : (Jvm.Cond.laysFinal "RugReader$Rug" "RugReader$Rug" "sole" "[I") ∈ lw_all := lw_g (lw_at lw_m1 177 rfl) rfl
theorem q280 : (Jvm.Cond.soleField "RugReader$Rug" "sole") ∈ lw_all := lw_g (lw_at lw_m1 178 rfl) rfl
theorem q281 : (Jvm.Cond.laysFinal "RugReader$Rug" "RugReader$Rug" "dir" "[I") ∈ lw_all := lw_g (lw_at lw_m1 179 rfl) rfl
theorem q282 : (Jvm.Cond.soleField "RugReader$Rug" "dir") ∈ lw_all := lw_g (lw_at lw_m1 180 rfl) rfl
theorem q283 : (Jvm.Cond.laysFinal "RugReader$Rug" "RugReader$Rug" "old" "[I") ∈ lw_all := lw_g (lw_at lw_m1 181 rfl) rfl
theorem q284 : (Jvm.Cond.soleField "RugReader$Rug" "old") ∈ lw_all := lw_g (lw_at lw_m1 182 rfl) rfl
theorem q285 : (Jvm.Cond.laysFinal "RugReader$Rug" "RugReader$Rug" "walks" "[I") ∈ lw_all := lw_g (lw_at lw_m1 183 rfl) rfl
theorem q286 : (Jvm.Cond.soleField "RugReader$Rug" "walks") ∈ lw_all := lw_g (lw_at lw_m1 184 rfl) rfl
theorem q287 : (Jvm.Cond.superclass "RugReader$Rug" "java/lang/Object") ∈ lw_all := lw_g (lw_at lw_m1 185 rfl) rfl
theorem q290 : (Jvm.Cond.instanceMethod ({ cls := "RugReader$Rug", name := "begin", desc := "(LRugReader$House;)LRugReader$Rug;" } : Jvm.MethodName)) ∈ lw_all := lw_g (lw_at lw_m1 188 rfl) rfl
theorem q291 : (Jvm.Cond.selects "RugReader$Rug" ({ cls := "RugReader$Rug", name := "begin", desc := "(LRugReader$House;)LRugReader$Rug;" } : Jvm.MethodName) ({ cls := "RugReader$Rug", name := "begin", desc := "(LRugReader$House;)LRugReader$Rug;" } : Jvm.MethodName)) ∈ lw_all := lw_g (lw_at lw_m1 189 rfl) rfl
theorem q292 : (Jvm.Cond.code ({ cls := "RugReader$Rug", name := "begin", desc := "(LRugReader$House;)LRugReader$Rug;" } : Jvm.MethodName) prog_11_method_2_code (4 : Nat) (Option.some (Jvm.ClassFile.FieldType.object "RugReader$Rug"))) ∈ lw_all := lw_g (lw_at lw_m1 190 rfl) rfl
theorem q293 : (Jvm.Cond.methodLink "RugReader$Rug" (43 : Nat) ({ cls := "RugReader$Rug", name := "clean", desc := "(I)V" } : Jvm.MethodName)) ∈ lw_all := lw_g (lw_at lw_m1 191 rfl) rfl
theorem q294 : (Jvm.Cond.instanceMethod ({ cls := "RugReader$Rug", name := "clean", desc := "(I)V" } : Jvm.MethodName)) ∈ lw_all := lw_g (lw_at lw_m1 192 rfl) rfl
theorem q295 : (Jvm.Cond.selects "RugReader$Rug" ({ cls := "RugReader$Rug", name := "clean", desc := "(I)V" } : Jvm.MethodName) ({ cls := "RugReader$Rug", name := "clean", desc := "(I)V" } : Jvm.MethodName)) ∈ lw_all := lw_g (lw_at lw_m1 193 rfl) rfl
theorem q296 : (Jvm.Cond.code ({ cls := "RugReader$Rug", name := "clean", desc := "(I)V" } : Jvm.MethodName) prog_11_method_5_code (3 : Nat) (Option.none : Option Jvm.ClassFile.FieldType)) ∈ lw_all := lw_g (lw_at lw_m1 194 rfl) rfl
theorem q297 : (Jvm.Cond.methodLink "RugReader$Rug" (47 : Nat) ({ cls := "java/util/Arrays", name := "fill", desc := "([II)V" } : Jvm.MethodName)) ∈ lw_all := lw_g (lw_at lw_m1 195 rfl) rfl
theorem q948 : (Jvm.Cond.fieldLinkNest "RugReader$Rug" (106 : Nat) "RugReader$Person" "weight" "I" "RugReader") ∈ lw_tbl := lw_at lw_m4 126 rfl
theorem q952 : (Jvm.Cond.fieldLinkNest "RugReader$Rug" (88 : Nat) "RugReader$Person" "sole" "I" "RugReader") ∈ lw_tbl := lw_at lw_m4 130 rfl
theorem q999 : (Jvm.Cond.selects "RugReader$Rug" ({ cls := "java/lang/Object", name := "getClass", desc := "()Ljava/lang/Class;" } : Jvm.MethodName) ({ cls := "java/lang/Object", name := "getClass", desc := "()Ljava/lang/Class;" } : Jvm.MethodName)) ∈ lw_all := lw_g (lw_at lw_m4 177 rfl) rfl
theorem q1070 : (Jvm.Cond.fieldLinkNest "RugReader$Rug" (80 : Nat) "RugReader$Way" "tuft" "[I" "RugReader") ∈ lw_tbl := lw_at lw_m5 8 rfl
theorem q1073 : (Jvm.Cond.fieldLinkNest "RugReader$Rug" (90 : Nat) "RugReader$Way" "dir" "[I" "RugReader") ∈ lw_tbl := lw_at lw_m5 11 rfl
theorem q1075 : (Jvm.Cond.fieldLinkNest "RugReader$Rug" (77 : Nat) "RugReader$Way" "steps" "I" "RugReader") ∈ lw_tbl := lw_at lw_m5 13 rfl
theorem q1166 : (Jvm.Cond.instanceMethod ({ cls := "RugReader$Rug", name := "as", desc := "(LRugReader$Rug;)LRugReader$Rug;" } : Jvm.MethodName)) ∈ lw_all := lw_g (lw_at lw_m5 104 rfl) rfl
theorem q1167 : (Jvm.Cond.selects "RugReader$Rug" ({ cls := "RugReader$Rug", name := "as", desc := "(LRugReader$Rug;)LRugReader$Rug;" } : Jvm.MethodName) ({ cls := "RugReader$Rug", name := "as", desc := "(LRugReader$Rug;)LRugReader$Rug;" } : Jvm.MethodName)) ∈ lw_all := lw_g (lw_at lw_m5 105 rfl) rfl
theorem q1168 : (Jvm.Cond.code ({ cls := "RugReader$Rug", name := "as", desc := "(LRugReader$Rug;)LRugReader$Rug;" } : Jvm.MethodName) prog_11_method_3_code (4 : Nat) (Option.some (Jvm.ClassFile.FieldType.object "RugReader$Rug"))) ∈ lw_all := lw_g (lw_at lw_m5 106 rfl) rfl
theorem q1169 : (Jvm.Cond.methodLink "RugReader$Rug" (53 : Nat) ({ cls := "RugReader$Rug", name := "copy", desc := "([I[I)V" } : Jvm.MethodName)) ∈ lw_all := lw_g (lw_at lw_m5 107 rfl) rfl
theorem q1170 : (Jvm.Cond.static ({ cls := "RugReader$Rug", name := "copy", desc := "([I[I)V" } : Jvm.MethodName)) ∈ lw_all := lw_g (lw_at lw_m5 108 rfl) rfl
theorem q1171 : (Jvm.Cond.code ({ cls := "RugReader$Rug", name := "copy", desc := "([I[I)V" } : Jvm.MethodName) prog_11_method_4_code (2 : Nat) (Option.none : Option Jvm.ClassFile.FieldType)) ∈ lw_all := lw_g (lw_at lw_m5 109 rfl) rfl
theorem q1172 : (Jvm.Cond.methodLink "RugReader$Rug" (57 : Nat) ({ cls := "java/lang/System", name := "arraycopy", desc := "(Ljava/lang/Object;ILjava/lang/Object;II)V" } : Jvm.MethodName)) ∈ lw_all := lw_g (lw_at lw_m5 110 rfl) rfl
theorem q1174 : (Jvm.Cond.instanceMethod ({ cls := "RugReader$Rug", name := "goes", desc := "(III)I" } : Jvm.MethodName)) ∈ lw_all := lw_g (lw_at lw_m5 112 rfl) rfl
theorem q1175 : (Jvm.Cond.selects "RugReader$Rug" ({ cls := "RugReader$Rug", name := "goes", desc := "(III)I" } : Jvm.MethodName) ({ cls := "RugReader$Rug", name := "goes", desc := "(III)I" } : Jvm.MethodName)) ∈ lw_all := lw_g (lw_at lw_m5 113 rfl) rfl
theorem q1176 : (Jvm.Cond.code ({ cls := "RugReader$Rug", name := "goes", desc := "(III)I" } : Jvm.MethodName) prog_11_method_7_code (6 : Nat) (Option.some Jvm.ClassFile.FieldType.int)) ∈ lw_all := lw_g (lw_at lw_m5 114 rfl) rfl
theorem q1177 : (Jvm.Cond.methodLink "RugReader$Rug" (69 : Nat) ({ cls := "java/util/ArrayList", name := "get", desc := "(I)Ljava/lang/Object;" } : Jvm.MethodName)) ∈ lw_all := lw_g (lw_at lw_m5 115 rfl) rfl
theorem q1178 : (Jvm.Cond.classLink "RugReader$Rug" (75 : Nat) "RugReader$Way") ∈ lw_all := lw_g (lw_at lw_m5 116 rfl) rfl
theorem q1179 : (Jvm.Cond.classLink "RugReader$Rug" (86 : Nat) "RugReader$Person") ∈ lw_all := lw_g (lw_at lw_m5 117 rfl) rfl
theorem q1180 : (Jvm.Cond.methodLink "RugReader$Rug" (91 : Nat) ({ cls := "RugReader$Rug", name := "tread", desc := "(IIII)V" } : Jvm.MethodName)) ∈ lw_all := lw_g (lw_at lw_m5 118 rfl) rfl
theorem q1181 : (Jvm.Cond.instanceMethod ({ cls := "RugReader$Rug", name := "tread", desc := "(IIII)V" } : Jvm.MethodName)) ∈ lw_all := lw_g (lw_at lw_m5 119 rfl) rfl
theorem q1182 : (Jvm.Cond.selects "RugReader$Rug" ({ cls := "RugReader$Rug", name := "tread", desc := "(IIII)V" } : Jvm.MethodName) ({ cls := "RugReader$Rug", name := "tread", desc := "(IIII)V" } : Jvm.MethodName)) ∈ lw_all := lw_g (lw_at lw_m5 120 rfl) rfl
theorem q1183 : (Jvm.Cond.code ({ cls := "RugReader$Rug", name := "tread", desc := "(IIII)V" } : Jvm.MethodName) prog_11_method_6_code (5 : Nat) (Option.none : Option Jvm.ClassFile.FieldType)) ∈ lw_all := lw_g (lw_at lw_m5 121 rfl) rfl
theorem q1189 : (Jvm.Cond.instanceMethod ({ cls := "RugReader$Rug", name := "dawn", desc := "()V" } : Jvm.MethodName)) ∈ lw_all := lw_g (lw_at lw_m5 127 rfl) rfl
theorem q1190 : (Jvm.Cond.selects "RugReader$Rug" ({ cls := "RugReader$Rug", name := "dawn", desc := "()V" } : Jvm.MethodName) ({ cls := "RugReader$Rug", name := "dawn", desc := "()V" } : Jvm.MethodName)) ∈ lw_all := lw_g (lw_at lw_m5 128 rfl) rfl
theorem q1191 : (Jvm.Cond.code ({ cls := "RugReader$Rug", name := "dawn", desc := "()V" } : Jvm.MethodName) prog_11_method_9_code (3 : Nat) (Option.none : Option Jvm.ClassFile.FieldType)) ∈ lw_all := lw_g (lw_at lw_m5 129 rfl) rfl
theorem q1192 : (Jvm.Cond.methodLink "RugReader$Rug" (98 : Nat) ({ cls := "RugReader$Rug", name := "older", desc := "([I)V" } : Jvm.MethodName)) ∈ lw_all := lw_g (lw_at lw_m5 130 rfl) rfl
theorem q1193 : (Jvm.Cond.privateMethod ({ cls := "RugReader$Rug", name := "older", desc := "([I)V" } : Jvm.MethodName)) ∈ lw_tbl := lw_at lw_m5 131 rfl
theorem q1194 : (Jvm.Cond.instanceMethod ({ cls := "RugReader$Rug", name := "older", desc := "([I)V" } : Jvm.MethodName)) ∈ lw_all := lw_g (lw_at lw_m5 132 rfl) rfl
theorem q1195 : (Jvm.Cond.code ({ cls := "RugReader$Rug", name := "older", desc := "([I)V" } : Jvm.MethodName) prog_11_method_8_code (3 : Nat) (Option.none : Option Jvm.ClassFile.FieldType)) ∈ lw_all := lw_g (lw_at lw_m5 133 rfl) rfl
theorem q1216 : (Jvm.Cond.instanceMethod ({ cls := "RugReader$Rug", name := "missing", desc := "(I)I" } : Jvm.MethodName)) ∈ lw_all := lw_g (lw_at lw_m5 154 rfl) rfl
theorem q1217 : (Jvm.Cond.selects "RugReader$Rug" ({ cls := "RugReader$Rug", name := "missing", desc := "(I)I" } : Jvm.MethodName) ({ cls := "RugReader$Rug", name := "missing", desc := "(I)I" } : Jvm.MethodName)) ∈ lw_all := lw_g (lw_at lw_m5 155 rfl) rfl
theorem q1218 : (Jvm.Cond.code ({ cls := "RugReader$Rug", name := "missing", desc := "(I)I" } : Jvm.MethodName) prog_11_method_12_code (2 : Nat) (Option.some Jvm.ClassFile.FieldType.int)) ∈ lw_all := lw_g (lw_at lw_m5 156 rfl) rfl
theorem q1219 : (Jvm.Cond.methodLink "RugReader$Rug" (109 : Nat) ({ cls := "RugReader$Rug", name := "depthOf", desc := "([[I)I" } : Jvm.MethodName)) ∈ lw_all := lw_g (lw_at lw_m5 157 rfl) rfl
theorem q1220 : (Jvm.Cond.privateMethod ({ cls := "RugReader$Rug", name := "depthOf", desc := "([[I)I" } : Jvm.MethodName)) ∈ lw_tbl := lw_at lw_m5 158 rfl
theorem q1221 : (Jvm.Cond.instanceMethod ({ cls := "RugReader$Rug", name := "depthOf", desc := "([[I)I" } : Jvm.MethodName)) ∈ lw_all := lw_g (lw_at lw_m5 159 rfl) rfl
theorem q1222 : (Jvm.Cond.code ({ cls := "RugReader$Rug", name := "depthOf", desc := "([[I)I" } : Jvm.MethodName) prog_11_method_10_code (5 : Nat) (Option.some Jvm.ClassFile.FieldType.int)) ∈ lw_all := lw_g (lw_at lw_m5 160 rfl) rfl
theorem q1223 : (Jvm.Cond.methodLink "RugReader$Rug" (102 : Nat) ({ cls := "java/util/ArrayList", name := "size", desc := "()I" } : Jvm.MethodName)) ∈ lw_all := lw_g (lw_at lw_m5 161 rfl) rfl
theorem q1224 : (Jvm.Cond.methodLink "RugReader$Rug" (113 : Nat) ({ cls := "RugReader$Rug", name := "depth", desc := "(I)I" } : Jvm.MethodName)) ∈ lw_all := lw_g (lw_at lw_m5 162 rfl) rfl
theorem q1225 : (Jvm.Cond.instanceMethod ({ cls := "RugReader$Rug", name := "depth", desc := "(I)I" } : Jvm.MethodName)) ∈ lw_all := lw_g (lw_at lw_m5 163 rfl) rfl
theorem q1226 : (Jvm.Cond.selects "RugReader$Rug" ({ cls := "RugReader$Rug", name := "depth", desc := "(I)I" } : Jvm.MethodName) ({ cls := "RugReader$Rug", name := "depth", desc := "(I)I" } : Jvm.MethodName)) ∈ lw_all := lw_g (lw_at lw_m5 164 rfl) rfl
theorem q1227 : (Jvm.Cond.code ({ cls := "RugReader$Rug", name := "depth", desc := "(I)I" } : Jvm.MethodName) prog_11_method_11_code (2 : Nat) (Option.some Jvm.ClassFile.FieldType.int)) ∈ lw_all := lw_g (lw_at lw_m5 165 rfl) rfl
theorem q1647 : (Jvm.Cond.instanceMethod ({ cls := "RugReader$Rug", name := "treadsOf", desc := "(I)I" } : Jvm.MethodName)) ∈ lw_all := lw_g (lw_at lw_m7 105 rfl) rfl
theorem q1648 : (Jvm.Cond.selects "RugReader$Rug" ({ cls := "RugReader$Rug", name := "treadsOf", desc := "(I)I" } : Jvm.MethodName) ({ cls := "RugReader$Rug", name := "treadsOf", desc := "(I)I" } : Jvm.MethodName)) ∈ lw_all := lw_g (lw_at lw_m7 106 rfl) rfl
theorem q1649 : (Jvm.Cond.code ({ cls := "RugReader$Rug", name := "treadsOf", desc := "(I)I" } : Jvm.MethodName) prog_11_method_14_code (4 : Nat) (Option.some Jvm.ClassFile.FieldType.int)) ∈ lw_all := lw_g (lw_at lw_m7 107 rfl) rfl
theorem q1650 : (Jvm.Cond.methodLink "RugReader$Rug" (117 : Nat) ({ cls := "RugReader$Rug", name := "treadsOn", desc := "(II)I" } : Jvm.MethodName)) ∈ lw_all := lw_g (lw_at lw_m7 108 rfl) rfl
theorem q1651 : (Jvm.Cond.instanceMethod ({ cls := "RugReader$Rug", name := "treadsOn", desc := "(II)I" } : Jvm.MethodName)) ∈ lw_all := lw_g (lw_at lw_m7 109 rfl) rfl
theorem q1652 : (Jvm.Cond.selects "RugReader$Rug" ({ cls := "RugReader$Rug", name := "treadsOn", desc := "(II)I" } : Jvm.MethodName) ({ cls := "RugReader$Rug", name := "treadsOn", desc := "(II)I" } : Jvm.MethodName)) ∈ lw_all := lw_g (lw_at lw_m7 110 rfl) rfl
theorem q1653 : (Jvm.Cond.code ({ cls := "RugReader$Rug", name := "treadsOn", desc := "(II)I" } : Jvm.MethodName) prog_11_method_13_code (6 : Nat) (Option.some Jvm.ClassFile.FieldType.int)) ∈ lw_all := lw_g (lw_at lw_m7 111 rfl) rfl
theorem q1655 : (Jvm.Cond.instanceMethod ({ cls := "RugReader$Rug", name := "tuftsOf", desc := "(I)I" } : Jvm.MethodName)) ∈ lw_all := lw_g (lw_at lw_m7 113 rfl) rfl
theorem q1656 : (Jvm.Cond.selects "RugReader$Rug" ({ cls := "RugReader$Rug", name := "tuftsOf", desc := "(I)I" } : Jvm.MethodName) ({ cls := "RugReader$Rug", name := "tuftsOf", desc := "(I)I" } : Jvm.MethodName)) ∈ lw_all := lw_g (lw_at lw_m7 114 rfl) rfl
theorem q1657 : (Jvm.Cond.code ({ cls := "RugReader$Rug", name := "tuftsOf", desc := "(I)I" } : Jvm.MethodName) prog_11_method_15_code (4 : Nat) (Option.some Jvm.ClassFile.FieldType.int)) ∈ lw_all := lw_g (lw_at lw_m7 115 rfl) rfl
theorem q1663 : (Jvm.Cond.instanceMethod ({ cls := "RugReader$Rug", name := "trod", desc := "(ILRugReader$Way;)Z" } : Jvm.MethodName)) ∈ lw_all := lw_g (lw_at lw_m7 121 rfl) rfl
theorem q1664 : (Jvm.Cond.selects "RugReader$Rug" ({ cls := "RugReader$Rug", name := "trod", desc := "(ILRugReader$Way;)Z" } : Jvm.MethodName) ({ cls := "RugReader$Rug", name := "trod", desc := "(ILRugReader$Way;)Z" } : Jvm.MethodName)) ∈ lw_all := lw_g (lw_at lw_m7 122 rfl) rfl
theorem q1665 : (Jvm.Cond.code ({ cls := "RugReader$Rug", name := "trod", desc := "(ILRugReader$Way;)Z" } : Jvm.MethodName) prog_11_method_16_code (4 : Nat) (Option.some Jvm.ClassFile.FieldType.boolean)) ∈ lw_all := lw_g (lw_at lw_m7 123 rfl) rfl
theorem q2357 : (Jvm.Cond.castable "RugReader$Rug" "java/lang/Object") ∈ lw_tbl := lw_at lw_m10 95 rfl
theorem in_X3 : ∀ w ∈ wsX30, w ∈ lw_all := lw_in wsX30 [269, 271, 273, 275, 277, 279, 281, 283, 285] (by decide +kernel) (by decide +kernel)
/-! RugReader$Kept -/
set_option maxRecDepth 100000
def RX4 : String := "RugReader$Kept"
def TX4 : u_T := fun k => match k with
  | 0 => ("RugReader$Kept", "house", "LRugReader$House;", false)
  | 1 => ("RugReader$Kept", "sentence", "LRugReader$Cond;", false)
  | _ => ("RugReader$Kept", "rug", "LRugReader$Rug;", true)
def tyX4 : Nat → FieldType := fun k => match k with
  | 0 => .object "RugReader$House"
  | 1 => .object "RugReader$Cond"
  | _ => .object "RugReader$Rug"
abbrev wsX40 : List Cond := u_ws RX4 TX4 3
theorem nmX4 : ∀ a, a < 3 → ∀ b, b < 3 → a ≠ b → (TX4 a).2.1 ≠ (TX4 b).2.1 := by decide +kernel
theorem tyX4_ok : ∀ k, k < 3 → parseFieldDescriptor (TX4 k).2.2.1 = some (tyX4 k) := by decide +kernel
abbrev cX4_init : ByteArray := prog_6_method_1_code
def yX4_init : MethodName := ⟨RX4, "<init>", "()V"⟩
def dkwX4_init_0 : List UInt8 := [42, 183, 0, 1, 42, 187, 0, 7, 89, 183, 0, 9, 181, 0, 10, 177]
abbrev dktX4_init_0 : List UInt8 := dkwX4_init_0 ++ []
theorem dksX4_init_0 : cX4_init.data.toList.drop 0 = dktX4_init_0 := by decide +kernel
theorem dX4_init_0 : decode cX4_init 0 = .ok (.aload_n 0, 1) := dk_42 (dk_at dksX4_init_0 0 rfl rfl)
theorem dX4_init_1 : decode cX4_init 1 = .ok (.invokespecial 1, 3) := dk_183 0 1 (dk_at dksX4_init_0 1 rfl rfl)
theorem dX4_init_4 : decode cX4_init 4 = .ok (.aload_n 0, 1) := dk_42 (dk_at dksX4_init_0 4 rfl rfl)
theorem dX4_init_5 : decode cX4_init 5 = .ok (.new 7, 3) := dk_187 0 7 (dk_at dksX4_init_0 5 rfl rfl)
theorem dX4_init_8 : decode cX4_init 8 = .ok (.dup, 1) := dk_89 (dk_at dksX4_init_0 8 rfl rfl)
theorem dX4_init_9 : decode cX4_init 9 = .ok (.invokespecial 9, 3) := dk_183 0 9 (dk_at dksX4_init_0 9 rfl rfl)
theorem dX4_init_12 : decode cX4_init 12 = .ok (.putfield 10, 3) := dk_181 0 10 (dk_at dksX4_init_0 12 rfl rfl)
theorem dX4_init_15 : decode cX4_init 15 = .ok (.return_, 1) := dk_177 (dk_at dksX4_init_0 15 rfl rfl)
theorem q110 : (Jvm.Cond.initialized "RugReader$Kept") ∈ lw_all := lw_g (lw_at lw_m1 8 rfl) rfl
theorem q306 : (Jvm.Cond.instantiable "RugReader$Kept" (3 : Nat)) ∈ lw_all := lw_g (lw_at lw_m1 204 rfl) rfl
theorem q308 : (Jvm.Cond.instanceMethod ({ cls := "RugReader$Kept", name := "<init>", desc := "()V" } : Jvm.MethodName)) ∈ lw_all := lw_g (lw_at lw_m1 206 rfl) rfl
theorem q309 : (Jvm.Cond.code ({ cls := "RugReader$Kept", name := "<init>", desc := "()V" } : Jvm.MethodName) prog_6_method_1_code (1 : Nat) (Option.none : Option Jvm.ClassFile.FieldType)) ∈ lw_all := lw_g (lw_at lw_m1 207 rfl) rfl
theorem q310 : (Jvm.Cond.methodLink "RugReader$Kept" (1 : Nat) ({ cls := "java/lang/Object", name := "<init>", desc := "()V" } : Jvm.MethodName)) ∈ lw_all := lw_g (lw_at lw_m1 208 rfl) rfl
theorem q311 : (Jvm.Cond.classLink "RugReader$Kept" (7 : Nat) "RugReader$Rug") ∈ lw_all := lw_g (lw_at lw_m1 209 rfl) rfl
theorem q312 : (Jvm.Cond.methodLinkNest "RugReader$Kept" (9 : Nat) ({ cls := "RugReader$Rug", name := "<init>", desc := "()V" } : Jvm.MethodName) "RugReader") ∈ lw_tbl := lw_at lw_m1 210 rfl
theorem q315 : (Jvm.Cond.fieldLink "RugReader$Kept" (10 : Nat) "RugReader$Kept" "rug" "LRugReader$Rug;") ∈ lw_all := lw_g (lw_at lw_m1 213 rfl) rfl
theorem q317 : (Jvm.Cond.lays "RugReader$Kept" "RugReader$Kept" "house" "LRugReader$House;") ∈ lw_all := lw_g (lw_at lw_m1 215 rfl) rfl
theorem q318 : (Jvm.Cond.soleField "RugReader$Kept" "house") ∈ lw_all := lw_g (lw_at lw_m1 216 rfl) rfl
theorem q319 : (Jvm.Cond.lays "RugReader$Kept" "RugReader$Kept" "sentence" "LRugReader$Cond;") ∈ lw_all := lw_g (lw_at lw_m1 217 rfl) rfl
theorem q320 : (Jvm.Cond.soleField "RugReader$Kept" "sentence") ∈ lw_all := lw_g (lw_at lw_m1 218 rfl) rfl
theorem q321 : (Jvm.Cond.laysFinal "RugReader$Kept" "RugReader$Kept" "rug" "LRugReader$Rug;") ∈ lw_all := lw_g (lw_at lw_m1 219 rfl) rfl
theorem q322 : (Jvm.Cond.soleField "RugReader$Kept" "rug") ∈ lw_all := lw_g (lw_at lw_m1 220 rfl) rfl
theorem q323 : (Jvm.Cond.superclass "RugReader$Kept" "java/lang/Object") ∈ lw_all := lw_g (lw_at lw_m1 221 rfl) rfl
theorem q996 : (Jvm.Cond.selects "RugReader$Kept" ({ cls := "java/lang/Object", name := "getClass", desc := "()Ljava/lang/Class;" } : Jvm.MethodName) ({ cls := "java/lang/Object", name := "getClass", desc := "()Ljava/lang/Class;" } : Jvm.MethodName)) ∈ lw_all := lw_g (lw_at lw_m4 174 rfl) rfl
theorem q2358 : (Jvm.Cond.castable "RugReader$Kept" "java/lang/Object") ∈ lw_tbl := lw_at lw_m10 96 rfl
theorem in_X4 : ∀ w ∈ wsX40, w ∈ lw_all := lw_in wsX40 [317, 319, 321] (by decide +kernel) (by decide +kernel)
