/-! SecondHelpingsLaw -/
set_option maxRecDepth 100000
def RX0 : String := "SecondHelpingsLaw"
abbrev cX0_person : ByteArray := method_3_code
def yX0_person : MethodName := ⟨RX0, "person", "(LSecondHelpings;II[J)I"⟩
def dkwX0_person_0 : List UInt8 := [45, 3, 42, 27, 28, 182, 0, 7, 133, 80, 167, 0, 7, 58, 4, 4, 172, 3, 172]
abbrev dktX0_person_0 : List UInt8 := dkwX0_person_0 ++ []
theorem dksX0_person_0 : cX0_person.data.toList.drop 0 = dktX0_person_0 := by decide +kernel
theorem dX0_person_0 : decode cX0_person 0 = .ok (.aload_n 3, 1) := dk_45 (dk_at dksX0_person_0 0 rfl rfl)
theorem dX0_person_1 : decode cX0_person 1 = .ok (.iconst 0, 1) := dk_3 (dk_at dksX0_person_0 1 rfl rfl)
theorem dX0_person_2 : decode cX0_person 2 = .ok (.aload_n 0, 1) := dk_42 (dk_at dksX0_person_0 2 rfl rfl)
theorem dX0_person_3 : decode cX0_person 3 = .ok (.iload_n 1, 1) := dk_27 (dk_at dksX0_person_0 3 rfl rfl)
theorem dX0_person_4 : decode cX0_person 4 = .ok (.iload_n 2, 1) := dk_28 (dk_at dksX0_person_0 4 rfl rfl)
theorem dX0_person_5 : decode cX0_person 5 = .ok (.invokevirtual 7, 3) := dk_182 0 7 (dk_at dksX0_person_0 5 rfl rfl)
theorem dX0_person_8 : decode cX0_person 8 = .ok (.i2l, 1) := dk_133 (dk_at dksX0_person_0 8 rfl rfl)
theorem dX0_person_9 : decode cX0_person 9 = .ok (.lastore, 1) := dk_80 (dk_at dksX0_person_0 9 rfl rfl)
theorem dX0_person_10 : decode cX0_person 10 = .ok (.goto 7, 3) := dk_167 0 7 (dk_at dksX0_person_0 10 rfl rfl)
theorem dX0_person_13 : decode cX0_person 13 = .ok (.astore 4, 2) := dk_58 4 (dk_at dksX0_person_0 13 rfl rfl)
theorem dX0_person_15 : decode cX0_person 15 = .ok (.iconst 1, 1) := dk_4 (dk_at dksX0_person_0 15 rfl rfl)
theorem dX0_person_16 : decode cX0_person 16 = .ok (.ireturn, 1) := dk_172 (dk_at dksX0_person_0 16 rfl rfl)
theorem dX0_person_17 : decode cX0_person 17 = .ok (.iconst 0, 1) := dk_3 (dk_at dksX0_person_0 17 rfl rfl)
theorem dX0_person_18 : decode cX0_person 18 = .ok (.ireturn, 1) := dk_172 (dk_at dksX0_person_0 18 rfl rfl)
theorem q93 : (Jvm.Cond.initialized "SecondHelpingsLaw") ∈ lw_all := lw_g (lw_at lw_m1 0 rfl) rfl
theorem q130 : (Jvm.Cond.classLink "SecondHelpingsLaw" (8 : Nat) "SecondHelpings") ∈ lw_all := lw_g (lw_at lw_m1 37 rfl) rfl
theorem q132 : (Jvm.Cond.methodLink "SecondHelpingsLaw" (15 : Nat) ({ cls := "SecondHelpings", name := "<init>", desc := "()V" } : Jvm.MethodName)) ∈ lw_all := lw_g (lw_at lw_m1 39 rfl) rfl
theorem q629 : (Jvm.Cond.methodLink "SecondHelpingsLaw" (19 : Nat) ({ cls := "SecondHelpings", name := "feed", desc := "(IIIII)I" } : Jvm.MethodName)) ∈ lw_all := lw_g (lw_at lw_m3 56 rfl) rfl
theorem q637 : (Jvm.Cond.methodLink "SecondHelpingsLaw" (24 : Nat) ({ cls := "SecondHelpings", name := "end", desc := "(I)Z" } : Jvm.MethodName)) ∈ lw_all := lw_g (lw_at lw_m3 64 rfl) rfl
theorem q641 : (Jvm.Cond.methodLink "SecondHelpingsLaw" (29 : Nat) ({ cls := "SecondHelpings", name := "table", desc := "()I" } : Jvm.MethodName)) ∈ lw_all := lw_g (lw_at lw_m3 68 rfl) rfl
theorem q840 : (Jvm.Cond.methodLink "SecondHelpingsLaw" (34 : Nat) ({ cls := "SecondHelpings", name := "fault", desc := "()I" } : Jvm.MethodName)) ∈ lw_all := lw_g (lw_at lw_m4 27 rfl) rfl
theorem q844 : (Jvm.Cond.methodLink "SecondHelpingsLaw" (47 : Nat) ({ cls := "SecondHelpings", name := "plate", desc := "(II)I" } : Jvm.MethodName)) ∈ lw_all := lw_g (lw_at lw_m4 31 rfl) rfl
theorem q857 : (Jvm.Cond.methodLink "SecondHelpingsLaw" (51 : Nat) ({ cls := "SecondHelpings", name := "dish", desc := "(II)I" } : Jvm.MethodName)) ∈ lw_all := lw_g (lw_at lw_m4 44 rfl) rfl
theorem q861 : (Jvm.Cond.methodLink "SecondHelpingsLaw" (55 : Nat) ({ cls := "SecondHelpings", name := "now", desc := "(I)I" } : Jvm.MethodName)) ∈ lw_all := lw_g (lw_at lw_m4 48 rfl) rfl
theorem q865 : (Jvm.Cond.methodLink "SecondHelpingsLaw" (89 : Nat) ({ cls := "SecondHelpings", name := "undo", desc := "()I" } : Jvm.MethodName)) ∈ lw_all := lw_g (lw_at lw_m4 52 rfl) rfl
theorem q873 : (Jvm.Cond.methodLink "SecondHelpingsLaw" (60 : Nat) ({ cls := "SecondHelpings", name := "eat", desc := "(III)I" } : Jvm.MethodName)) ∈ lw_all := lw_g (lw_at lw_m4 60 rfl) rfl
theorem q895 : (Jvm.Cond.methodLink "SecondHelpingsLaw" (65 : Nat) ({ cls := "SecondHelpings", name := "serve", desc := "(III)I" } : Jvm.MethodName)) ∈ lw_all := lw_g (lw_at lw_m4 82 rfl) rfl
theorem q907 : (Jvm.Cond.methodLink "SecondHelpingsLaw" (69 : Nat) ({ cls := "SecondHelpings", name := "rise", desc := "(I)I" } : Jvm.MethodName)) ∈ lw_all := lw_g (lw_at lw_m4 94 rfl) rfl
theorem q938 : (Jvm.Cond.methodLink "SecondHelpingsLaw" (73 : Nat) ({ cls := "SecondHelpings", name := "refuse", desc := "(I)I" } : Jvm.MethodName)) ∈ lw_all := lw_g (lw_at lw_m4 125 rfl) rfl
theorem q946 : (Jvm.Cond.methodLink "SecondHelpingsLaw" (77 : Nat) ({ cls := "SecondHelpings", name := "accept", desc := "(I)I" } : Jvm.MethodName)) ∈ lw_all := lw_g (lw_at lw_m4 133 rfl) rfl
theorem q954 : (Jvm.Cond.methodLink "SecondHelpingsLaw" (81 : Nat) ({ cls := "SecondHelpings", name := "die", desc := "(I)I" } : Jvm.MethodName)) ∈ lw_all := lw_g (lw_at lw_m4 141 rfl) rfl
theorem q967 : (Jvm.Cond.methodLink "SecondHelpingsLaw" (85 : Nat) ({ cls := "SecondHelpings", name := "meals", desc := "(I)I" } : Jvm.MethodName)) ∈ lw_all := lw_g (lw_at lw_m4 154 rfl) rfl
theorem q979 : (Jvm.Cond.methodLink "SecondHelpingsLaw" (93 : Nat) ({ cls := "SecondHelpings", name := "heir", desc := "(I)I" } : Jvm.MethodName)) ∈ lw_all := lw_g (lw_at lw_m4 166 rfl) rfl
theorem q984 : (Jvm.Cond.methodLink "SecondHelpingsLaw" (97 : Nat) ({ cls := "SecondHelpings", name := "line", desc := "(II)I" } : Jvm.MethodName)) ∈ lw_all := lw_g (lw_at lw_m4 171 rfl) rfl
theorem q989 : (Jvm.Cond.methodLink "SecondHelpingsLaw" (101 : Nat) ({ cls := "SecondHelpings", name := "order", desc := "()I" } : Jvm.MethodName)) ∈ lw_all := lw_g (lw_at lw_m4 176 rfl) rfl
theorem q1015 : (Jvm.Cond.methodLink "SecondHelpingsLaw" (105 : Nat) ({ cls := "SecondHelpings", name := "orderAt", desc := "(I)I" } : Jvm.MethodName)) ∈ lw_all := lw_g (lw_at lw_m4 202 rfl) rfl
theorem q1019 : (Jvm.Cond.methodLink "SecondHelpingsLaw" (109 : Nat) ({ cls := "SecondHelpings", name := "eaters", desc := "()I" } : Jvm.MethodName)) ∈ lw_all := lw_g (lw_at lw_m4 206 rfl) rfl
theorem q1035 : (Jvm.Cond.methodLink "SecondHelpingsLaw" (113 : Nat) ({ cls := "SecondHelpings", name := "surely", desc := "()I" } : Jvm.MethodName)) ∈ lw_all := lw_g (lw_at lw_m4 222 rfl) rfl
theorem q1039 : (Jvm.Cond.methodLink "SecondHelpingsLaw" (117 : Nat) ({ cls := "SecondHelpings", name := "ask", desc := "()I" } : Jvm.MethodName)) ∈ lw_all := lw_g (lw_at lw_m4 226 rfl) rfl
theorem q1043 : (Jvm.Cond.methodLink "SecondHelpingsLaw" (121 : Nat) ({ cls := "SecondHelpings", name := "share", desc := "(III)I" } : Jvm.MethodName)) ∈ lw_all := lw_g (lw_at lw_m4 230 rfl) rfl
theorem q1047 : (Jvm.Cond.methodLink "SecondHelpingsLaw" (125 : Nat) ({ cls := "SecondHelpings", name := "last", desc := "(I)I" } : Jvm.MethodName)) ∈ lw_all := lw_g (lw_at lw_m4 234 rfl) rfl
theorem q1051 : (Jvm.Cond.methodLink "SecondHelpingsLaw" (129 : Nat) ({ cls := "SecondHelpings", name := "seats", desc := "()I" } : Jvm.MethodName)) ∈ lw_all := lw_g (lw_at lw_m4 238 rfl) rfl
theorem q1059 : (Jvm.Cond.methodLink "SecondHelpingsLaw" (133 : Nat) ({ cls := "SecondHelpings", name := "seatAt", desc := "(I)I" } : Jvm.MethodName)) ∈ lw_all := lw_g (lw_at lw_m5 6 rfl) rfl
theorem q1063 : (Jvm.Cond.methodLink "SecondHelpingsLaw" (137 : Nat) ({ cls := "SecondHelpings", name := "left", desc := "(I)I" } : Jvm.MethodName)) ∈ lw_all := lw_g (lw_at lw_m5 10 rfl) rfl
theorem q1069 : (Jvm.Cond.methodLink "SecondHelpingsLaw" (141 : Nat) ({ cls := "SecondHelpings", name := "kin", desc := "(II)I" } : Jvm.MethodName)) ∈ lw_all := lw_g (lw_at lw_m5 16 rfl) rfl
theorem q1077 : (Jvm.Cond.methodLink "SecondHelpingsLaw" (145 : Nat) ({ cls := "SecondHelpings", name := "hungriest", desc := "()I" } : Jvm.MethodName)) ∈ lw_all := lw_g (lw_at lw_m5 24 rfl) rfl
theorem q1081 : (Jvm.Cond.methodLink "SecondHelpingsLaw" (149 : Nat) ({ cls := "SecondHelpings", name := "will", desc := "(I)I" } : Jvm.MethodName)) ∈ lw_all := lw_g (lw_at lw_m5 28 rfl) rfl
theorem q1143 : (Jvm.Cond.methodLink "SecondHelpingsLaw" (153 : Nat) ({ cls := "SecondHelpings", name := "byteAt", desc := "(I)I" } : Jvm.MethodName)) ∈ lw_all := lw_g (lw_at lw_m5 90 rfl) rfl
theorem q1147 : (Jvm.Cond.methodLink "SecondHelpingsLaw" (157 : Nat) ({ cls := "SecondHelpings", name := "drawn", desc := "(II)I" } : Jvm.MethodName)) ∈ lw_all := lw_g (lw_at lw_m5 94 rfl) rfl
theorem q1166 : (Jvm.Cond.methodLink "SecondHelpingsLaw" (161 : Nat) ({ cls := "SecondHelpings", name := "odds", desc := "(III)I" } : Jvm.MethodName)) ∈ lw_all := lw_g (lw_at lw_m5 113 rfl) rfl
theorem q1170 : (Jvm.Cond.methodLink "SecondHelpingsLaw" (165 : Nat) ({ cls := "SecondHelpings", name := "book", desc := "(I)I" } : Jvm.MethodName)) ∈ lw_all := lw_g (lw_at lw_m5 117 rfl) rfl
theorem q1369 : (Jvm.Cond.methodLink "SecondHelpingsLaw" (169 : Nat) ({ cls := "SecondHelpings", name := "told", desc := "(I)I" } : Jvm.MethodName)) ∈ lw_all := lw_g (lw_at lw_m6 76 rfl) rfl
theorem q1373 : (Jvm.Cond.methodLink "SecondHelpingsLaw" (173 : Nat) ({ cls := "SecondHelpings", name := "sentence", desc := "()I" } : Jvm.MethodName)) ∈ lw_all := lw_g (lw_at lw_m6 80 rfl) rfl
theorem q1486 : (Jvm.Cond.methodLink "SecondHelpingsLaw" (177 : Nat) ({ cls := "SecondHelpings", name := "said", desc := "(I)I" } : Jvm.MethodName)) ∈ lw_all := lw_g (lw_at lw_m6 193 rfl) rfl
theorem q1533 : (Jvm.Cond.methodLink "SecondHelpingsLaw" (181 : Nat) ({ cls := "SecondHelpings", name := "image", desc := "(I)Z" } : Jvm.MethodName)) ∈ lw_all := lw_g (lw_at lw_m7 0 rfl) rfl
theorem q1555 : (Jvm.Cond.methodLink "SecondHelpingsLaw" (185 : Nat) ({ cls := "SecondHelpings", name := "restore", desc := "(I)Z" } : Jvm.MethodName)) ∈ lw_all := lw_g (lw_at lw_m7 22 rfl) rfl
theorem q1559 : (Jvm.Cond.methodLink "SecondHelpingsLaw" (189 : Nat) ({ cls := "SecondHelpings", name := "count", desc := "(I)I" } : Jvm.MethodName)) ∈ lw_all := lw_g (lw_at lw_m7 26 rfl) rfl
theorem q1563 : (Jvm.Cond.methodLink "SecondHelpingsLaw" (38 : Nat) ({ cls := "SecondHelpingsLaw", name := "person", desc := "(LSecondHelpings;II[J)I" } : Jvm.MethodName)) ∈ lw_all := lw_g (lw_at lw_m7 30 rfl) rfl
theorem q1564 : (Jvm.Cond.static ({ cls := "SecondHelpingsLaw", name := "person", desc := "(LSecondHelpings;II[J)I" } : Jvm.MethodName)) ∈ lw_all := lw_g (lw_at lw_m7 31 rfl) rfl
theorem q1565 : (Jvm.Cond.codeWith ({ cls := "SecondHelpingsLaw", name := "person", desc := "(LSecondHelpings;II[J)I" } : Jvm.MethodName) method_3_code (5 : Nat) (Option.some Jvm.ClassFile.FieldType.int) [((0 : Nat), (10 : Nat), (13 : Nat), (13 : Nat))]) ∈ lw_all := lw_g (lw_at lw_m7 32 rfl) rfl
theorem q1566 : (Jvm.Cond.classLink "SecondHelpingsLaw" (13 : Nat) "java/util/NoSuchElementException") ∈ lw_all := lw_g (lw_at lw_m7 33 rfl) rfl
theorem q1567 : (Jvm.Cond.methodLink "SecondHelpingsLaw" (7 : Nat) ({ cls := "SecondHelpings", name := "person", desc := "(II)I" } : Jvm.MethodName)) ∈ lw_all := lw_g (lw_at lw_m7 34 rfl) rfl
theorem q1601 : (Jvm.Cond.classLink "SecondHelpingsLaw" (16 : Nat) "SecondHelpingsModel") ∈ lw_all := lw_g (lw_at lw_m7 68 rfl) rfl
theorem q1603 : (Jvm.Cond.methodLink "SecondHelpingsLaw" (18 : Nat) ({ cls := "SecondHelpingsModel", name := "<init>", desc := "()V" } : Jvm.MethodName)) ∈ lw_all := lw_g (lw_at lw_m7 70 rfl) rfl
theorem q1762 : (Jvm.Cond.methodLink "SecondHelpingsLaw" (44 : Nat) ({ cls := "SecondHelpingsModel", name := "thrown", desc := "()I" } : Jvm.MethodName)) ∈ lw_all := lw_g (lw_at lw_m7 229 rfl) rfl
theorem q1766 : (Jvm.Cond.methodLink "SecondHelpingsLaw" (23 : Nat) ({ cls := "SecondHelpingsModel", name := "feed", desc := "(IIIII)I" } : Jvm.MethodName)) ∈ lw_all := lw_g (lw_at lw_m7 233 rfl) rfl
theorem q1774 : (Jvm.Cond.methodLink "SecondHelpingsLaw" (28 : Nat) ({ cls := "SecondHelpingsModel", name := "end", desc := "(I)Z" } : Jvm.MethodName)) ∈ lw_all := lw_g (lw_at lw_m8 1 rfl) rfl
theorem q1778 : (Jvm.Cond.methodLink "SecondHelpingsLaw" (33 : Nat) ({ cls := "SecondHelpingsModel", name := "table", desc := "()I" } : Jvm.MethodName)) ∈ lw_all := lw_g (lw_at lw_m8 5 rfl) rfl
theorem q1886 : (Jvm.Cond.methodLink "SecondHelpingsLaw" (37 : Nat) ({ cls := "SecondHelpingsModel", name := "fault", desc := "()I" } : Jvm.MethodName)) ∈ lw_all := lw_g (lw_at lw_m8 113 rfl) rfl
theorem q1890 : (Jvm.Cond.methodLink "SecondHelpingsLaw" (43 : Nat) ({ cls := "SecondHelpingsModel", name := "person", desc := "(II)I" } : Jvm.MethodName)) ∈ lw_all := lw_g (lw_at lw_m8 117 rfl) rfl
theorem q1917 : (Jvm.Cond.methodLink "SecondHelpingsLaw" (50 : Nat) ({ cls := "SecondHelpingsModel", name := "plate", desc := "(II)I" } : Jvm.MethodName)) ∈ lw_all := lw_g (lw_at lw_m8 144 rfl) rfl
theorem q1925 : (Jvm.Cond.methodLink "SecondHelpingsLaw" (54 : Nat) ({ cls := "SecondHelpingsModel", name := "dish", desc := "(II)I" } : Jvm.MethodName)) ∈ lw_all := lw_g (lw_at lw_m8 152 rfl) rfl
theorem q1929 : (Jvm.Cond.methodLink "SecondHelpingsLaw" (59 : Nat) ({ cls := "SecondHelpingsModel", name := "now", desc := "(I)I" } : Jvm.MethodName)) ∈ lw_all := lw_g (lw_at lw_m8 156 rfl) rfl
theorem q1937 : (Jvm.Cond.methodLink "SecondHelpingsLaw" (96 : Nat) ({ cls := "SecondHelpingsModel", name := "heir", desc := "(I)I" } : Jvm.MethodName)) ∈ lw_all := lw_g (lw_at lw_m8 164 rfl) rfl
theorem q1953 : (Jvm.Cond.methodLink "SecondHelpingsLaw" (100 : Nat) ({ cls := "SecondHelpingsModel", name := "line", desc := "(II)I" } : Jvm.MethodName)) ∈ lw_all := lw_g (lw_at lw_m8 180 rfl) rfl
theorem q1957 : (Jvm.Cond.methodLink "SecondHelpingsLaw" (64 : Nat) ({ cls := "SecondHelpingsModel", name := "eat", desc := "(III)I" } : Jvm.MethodName)) ∈ lw_all := lw_g (lw_at lw_m8 184 rfl) rfl
theorem q1992 : (Jvm.Cond.methodLink "SecondHelpingsLaw" (68 : Nat) ({ cls := "SecondHelpingsModel", name := "serve", desc := "(III)I" } : Jvm.MethodName)) ∈ lw_all := lw_g (lw_at lw_m8 219 rfl) rfl
theorem q1996 : (Jvm.Cond.methodLink "SecondHelpingsLaw" (72 : Nat) ({ cls := "SecondHelpingsModel", name := "rise", desc := "(I)I" } : Jvm.MethodName)) ∈ lw_all := lw_g (lw_at lw_m8 223 rfl) rfl
theorem q2000 : (Jvm.Cond.methodLink "SecondHelpingsLaw" (76 : Nat) ({ cls := "SecondHelpingsModel", name := "refuse", desc := "(I)I" } : Jvm.MethodName)) ∈ lw_all := lw_g (lw_at lw_m8 227 rfl) rfl
theorem q2004 : (Jvm.Cond.methodLink "SecondHelpingsLaw" (80 : Nat) ({ cls := "SecondHelpingsModel", name := "accept", desc := "(I)I" } : Jvm.MethodName)) ∈ lw_all := lw_g (lw_at lw_m8 231 rfl) rfl
theorem q2008 : (Jvm.Cond.methodLink "SecondHelpingsLaw" (84 : Nat) ({ cls := "SecondHelpingsModel", name := "die", desc := "(I)I" } : Jvm.MethodName)) ∈ lw_all := lw_g (lw_at lw_m8 235 rfl) rfl
theorem q2012 : (Jvm.Cond.methodLink "SecondHelpingsLaw" (92 : Nat) ({ cls := "SecondHelpingsModel", name := "undo", desc := "()I" } : Jvm.MethodName)) ∈ lw_all := lw_g (lw_at lw_m8 239 rfl) rfl
theorem q2016 : (Jvm.Cond.methodLink "SecondHelpingsLaw" (88 : Nat) ({ cls := "SecondHelpingsModel", name := "meals", desc := "(I)I" } : Jvm.MethodName)) ∈ lw_all := lw_g (lw_at lw_m9 3 rfl) rfl
theorem q2028 : (Jvm.Cond.methodLink "SecondHelpingsLaw" (104 : Nat) ({ cls := "SecondHelpingsModel", name := "order", desc := "()I" } : Jvm.MethodName)) ∈ lw_all := lw_g (lw_at lw_m9 15 rfl) rfl
theorem q2048 : (Jvm.Cond.methodLink "SecondHelpingsLaw" (108 : Nat) ({ cls := "SecondHelpingsModel", name := "orderAt", desc := "(I)I" } : Jvm.MethodName)) ∈ lw_all := lw_g (lw_at lw_m9 35 rfl) rfl
theorem q2052 : (Jvm.Cond.methodLink "SecondHelpingsLaw" (112 : Nat) ({ cls := "SecondHelpingsModel", name := "eaters", desc := "()I" } : Jvm.MethodName)) ∈ lw_all := lw_g (lw_at lw_m9 39 rfl) rfl
theorem q2059 : (Jvm.Cond.methodLink "SecondHelpingsLaw" (116 : Nat) ({ cls := "SecondHelpingsModel", name := "surely", desc := "()I" } : Jvm.MethodName)) ∈ lw_all := lw_g (lw_at lw_m9 46 rfl) rfl
theorem q2063 : (Jvm.Cond.methodLink "SecondHelpingsLaw" (120 : Nat) ({ cls := "SecondHelpingsModel", name := "ask", desc := "()I" } : Jvm.MethodName)) ∈ lw_all := lw_g (lw_at lw_m9 50 rfl) rfl
theorem q2067 : (Jvm.Cond.methodLink "SecondHelpingsLaw" (124 : Nat) ({ cls := "SecondHelpingsModel", name := "share", desc := "(III)I" } : Jvm.MethodName)) ∈ lw_all := lw_g (lw_at lw_m9 54 rfl) rfl
theorem q2071 : (Jvm.Cond.methodLink "SecondHelpingsLaw" (128 : Nat) ({ cls := "SecondHelpingsModel", name := "last", desc := "(I)I" } : Jvm.MethodName)) ∈ lw_all := lw_g (lw_at lw_m9 58 rfl) rfl
theorem q2075 : (Jvm.Cond.methodLink "SecondHelpingsLaw" (132 : Nat) ({ cls := "SecondHelpingsModel", name := "seats", desc := "()I" } : Jvm.MethodName)) ∈ lw_all := lw_g (lw_at lw_m9 62 rfl) rfl
theorem q2083 : (Jvm.Cond.methodLink "SecondHelpingsLaw" (136 : Nat) ({ cls := "SecondHelpingsModel", name := "seatAt", desc := "(I)I" } : Jvm.MethodName)) ∈ lw_all := lw_g (lw_at lw_m9 70 rfl) rfl
theorem q2087 : (Jvm.Cond.methodLink "SecondHelpingsLaw" (140 : Nat) ({ cls := "SecondHelpingsModel", name := "left", desc := "(I)I" } : Jvm.MethodName)) ∈ lw_all := lw_g (lw_at lw_m9 74 rfl) rfl
theorem q2099 : (Jvm.Cond.methodLink "SecondHelpingsLaw" (144 : Nat) ({ cls := "SecondHelpingsModel", name := "kin", desc := "(II)I" } : Jvm.MethodName)) ∈ lw_all := lw_g (lw_at lw_m9 86 rfl) rfl
theorem q2103 : (Jvm.Cond.methodLink "SecondHelpingsLaw" (148 : Nat) ({ cls := "SecondHelpingsModel", name := "hungriest", desc := "()I" } : Jvm.MethodName)) ∈ lw_all := lw_g (lw_at lw_m9 90 rfl) rfl
theorem q2107 : (Jvm.Cond.methodLink "SecondHelpingsLaw" (152 : Nat) ({ cls := "SecondHelpingsModel", name := "will", desc := "(I)I" } : Jvm.MethodName)) ∈ lw_all := lw_g (lw_at lw_m9 94 rfl) rfl
theorem q2127 : (Jvm.Cond.methodLink "SecondHelpingsLaw" (156 : Nat) ({ cls := "SecondHelpingsModel", name := "byteAt", desc := "(I)I" } : Jvm.MethodName)) ∈ lw_all := lw_g (lw_at lw_m9 114 rfl) rfl
theorem q2131 : (Jvm.Cond.methodLink "SecondHelpingsLaw" (160 : Nat) ({ cls := "SecondHelpingsModel", name := "drawn", desc := "(II)I" } : Jvm.MethodName)) ∈ lw_all := lw_g (lw_at lw_m9 118 rfl) rfl
theorem q2144 : (Jvm.Cond.methodLink "SecondHelpingsLaw" (164 : Nat) ({ cls := "SecondHelpingsModel", name := "odds", desc := "(III)I" } : Jvm.MethodName)) ∈ lw_all := lw_g (lw_at lw_m9 131 rfl) rfl
theorem q2148 : (Jvm.Cond.methodLink "SecondHelpingsLaw" (168 : Nat) ({ cls := "SecondHelpingsModel", name := "book", desc := "(I)I" } : Jvm.MethodName)) ∈ lw_all := lw_g (lw_at lw_m9 135 rfl) rfl
theorem q2168 : (Jvm.Cond.methodLink "SecondHelpingsLaw" (172 : Nat) ({ cls := "SecondHelpingsModel", name := "told", desc := "(I)I" } : Jvm.MethodName)) ∈ lw_all := lw_g (lw_at lw_m9 155 rfl) rfl
theorem q2172 : (Jvm.Cond.methodLink "SecondHelpingsLaw" (176 : Nat) ({ cls := "SecondHelpingsModel", name := "sentence", desc := "()I" } : Jvm.MethodName)) ∈ lw_all := lw_g (lw_at lw_m9 159 rfl) rfl
theorem q2212 : (Jvm.Cond.methodLink "SecondHelpingsLaw" (180 : Nat) ({ cls := "SecondHelpingsModel", name := "said", desc := "(I)I" } : Jvm.MethodName)) ∈ lw_all := lw_g (lw_at lw_m9 199 rfl) rfl
theorem q2220 : (Jvm.Cond.methodLink "SecondHelpingsLaw" (184 : Nat) ({ cls := "SecondHelpingsModel", name := "image", desc := "(I)Z" } : Jvm.MethodName)) ∈ lw_all := lw_g (lw_at lw_m9 207 rfl) rfl
theorem q2224 : (Jvm.Cond.methodLink "SecondHelpingsLaw" (188 : Nat) ({ cls := "SecondHelpingsModel", name := "restore", desc := "(I)Z" } : Jvm.MethodName)) ∈ lw_all := lw_g (lw_at lw_m9 211 rfl) rfl
theorem q2228 : (Jvm.Cond.methodLink "SecondHelpingsLaw" (192 : Nat) ({ cls := "SecondHelpingsModel", name := "count", desc := "(I)I" } : Jvm.MethodName)) ∈ lw_all := lw_g (lw_at lw_m9 215 rfl) rfl
/-! SecondHelpings$Fault -/
set_option maxRecDepth 100000
def RX2 : String := "SecondHelpings$Fault"
def TX2 : u_T := fun k => match k with
  | 0 => ("java/lang/Throwable", "cause", "Ljava/lang/Throwable;", false)
  | 1 => ("java/lang/Throwable", "stackTrace", "[Ljava/lang/StackTraceElement;", false)
  | 2 => ("java/lang/Throwable", "suppressedExceptions", "Ljava/util/List;", false)
  | 3 => ("java/lang/Throwable", "detailMessage", "Ljava/lang/String;", false)
  | 4 => ("java/lang/Throwable", "backtrace", "Ljava/lang/Object;", false)
  | 5 => ("java/lang/Throwable", "depth", "I", false)
  | 6 => ("SecondHelpings$Fault", "kind", "I", false)
  | _ => ("SecondHelpings$Fault", "place", "I", false)
def tyX2 : Nat → FieldType := fun k => match k with
  | 0 => .object "java/lang/Throwable"
  | 1 => .array (.object "java/lang/StackTraceElement")
  | 2 => .object "java/util/List"
  | 3 => .object "java/lang/String"
  | 4 => .object "java/lang/Object"
  | 5 => .int
  | 6 => .int
  | _ => .int
abbrev wsX20 : List Cond := u_ws RX2 TX2 8
theorem nmX2 : ∀ a, a < 8 → ∀ b, b < 8 → a ≠ b → (TX2 a).2.1 ≠ (TX2 b).2.1 := by decide +kernel
theorem tyX2_ok : ∀ k, k < 8 → parseFieldDescriptor (TX2 k).2.2.1 = some (tyX2 k) := by decide +kernel
abbrev cX2_init : ByteArray := prog_12_method_1_code
def yX2_init : MethodName := ⟨RX2, "<init>", "()V"⟩
def dkwX2_init_0 : List UInt8 := [42, 1, 1, 3, 3, 183, 0, 1, 177]
abbrev dktX2_init_0 : List UInt8 := dkwX2_init_0 ++ []
theorem dksX2_init_0 : cX2_init.data.toList.drop 0 = dktX2_init_0 := by decide +kernel
theorem dX2_init_0 : decode cX2_init 0 = .ok (.aload_n 0, 1) := dk_42 (dk_at dksX2_init_0 0 rfl rfl)
theorem dX2_init_1 : decode cX2_init 1 = .ok (.aconst_null, 1) := dk_1 (dk_at dksX2_init_0 1 rfl rfl)
theorem dX2_init_2 : decode cX2_init 2 = .ok (.aconst_null, 1) := dk_1 (dk_at dksX2_init_0 2 rfl rfl)
theorem dX2_init_3 : decode cX2_init 3 = .ok (.iconst 0, 1) := dk_3 (dk_at dksX2_init_0 3 rfl rfl)
theorem dX2_init_4 : decode cX2_init 4 = .ok (.iconst 0, 1) := dk_3 (dk_at dksX2_init_0 4 rfl rfl)
theorem dX2_init_5 : decode cX2_init 5 = .ok (.invokespecial 1, 3) := dk_183 0 1 (dk_at dksX2_init_0 5 rfl rfl)
theorem dX2_init_8 : decode cX2_init 8 = .ok (.return_, 1) := dk_177 (dk_at dksX2_init_0 8 rfl rfl)
theorem q97 : (Jvm.Cond.initialized "SecondHelpings$Fault") ∈ lw_all := lw_g (lw_at lw_m1 4 rfl) rfl
theorem q139 : (Jvm.Cond.instantiable "SecondHelpings$Fault" (8 : Nat)) ∈ lw_all := lw_g (lw_at lw_m1 46 rfl) rfl
theorem q140 : (Jvm.Cond.castable "SecondHelpings$Fault" "SecondHelpings$Fault") ∈ lw_tbl := lw_at lw_m1 47 rfl
theorem q145 : (Jvm.Cond.selects "SecondHelpings$Fault" ({ cls := "java/lang/Throwable", name := "fillInStackTrace", desc := "(I)Ljava/lang/Throwable;" } : Jvm.MethodName) ({ cls := "java/lang/Throwable", name := "fillInStackTrace", desc := "(I)Ljava/lang/Throwable;" } : Jvm.MethodName)) ∈ lw_all := lw_g (lw_at lw_m1 52 rfl) rfl
theorem q146 : (Jvm.Cond.selects "SecondHelpings$Fault" ({ cls := "java/lang/Throwable", name := "fillInStackTrace", desc := "()Ljava/lang/Throwable;" } : Jvm.MethodName) ({ cls := "java/lang/Throwable", name := "fillInStackTrace", desc := "()Ljava/lang/Throwable;" } : Jvm.MethodName)) ∈ lw_all := lw_g (lw_at lw_m1 53 rfl) rfl
theorem q147 : (Jvm.Cond.lays "SecondHelpings$Fault" "java/lang/Throwable" "cause" "Ljava/lang/Throwable;") ∈ lw_all := lw_g (lw_at lw_m1 54 rfl) rfl
theorem q149 : (Jvm.Cond.lays "SecondHelpings$Fault" "java/lang/Throwable" "stackTrace" "[Ljava/lang/StackTraceElement;") ∈ lw_all := lw_g (lw_at lw_m1 56 rfl) rfl
theorem q151 : (Jvm.Cond.lays "SecondHelpings$Fault" "java/lang/Throwable" "suppressedExceptions" "Ljava/util/List;") ∈ lw_all := lw_g (lw_at lw_m1 58 rfl) rfl
theorem q153 : (Jvm.Cond.lays "SecondHelpings$Fault" "java/lang/Throwable" "detailMessage" "Ljava/lang/String;") ∈ lw_all := lw_g (lw_at lw_m1 60 rfl) rfl
theorem q155 : (Jvm.Cond.lays "SecondHelpings$Fault" "java/lang/Throwable" "backtrace" "Ljava/lang/Object;") ∈ lw_all := lw_g (lw_at lw_m1 62 rfl) rfl
theorem q177 : (Jvm.Cond.instanceMethod ({ cls := "SecondHelpings$Fault", name := "<init>", desc := "()V" } : Jvm.MethodName)) ∈ lw_all := lw_g (lw_at lw_m1 84 rfl) rfl
theorem q178 : (Jvm.Cond.code ({ cls := "SecondHelpings$Fault", name := "<init>", desc := "()V" } : Jvm.MethodName) prog_12_method_1_code (1 : Nat) (Option.none : Option Jvm.ClassFile.FieldType)) ∈ lw_all := lw_g (lw_at lw_m1 85 rfl) rfl
theorem q179 : (Jvm.Cond.methodLink "SecondHelpings$Fault" (1 : Nat) ({ cls := "java/lang/Exception", name := "<init>", desc := "(Ljava/lang/String;Ljava/lang/Throwable;ZZ)V" } : Jvm.MethodName)) ∈ lw_all := lw_g (lw_at lw_m1 86 rfl) rfl
theorem q194 : (Jvm.Cond.lays "SecondHelpings$Fault" "SecondHelpings$Fault" "kind" "I") ∈ lw_all := lw_g (lw_at lw_m1 101 rfl) rfl
theorem q195 : (Jvm.Cond.soleField "SecondHelpings$Fault" "kind") ∈ lw_all := lw_g (lw_at lw_m1 102 rfl) rfl
theorem q196 : (Jvm.Cond.lays "SecondHelpings$Fault" "SecondHelpings$Fault" "place" "I") ∈ lw_all := lw_g (lw_at lw_m1 103 rfl) rfl
theorem q197 : (Jvm.Cond.soleField "SecondHelpings$Fault" "place") ∈ lw_all := lw_g (lw_at lw_m1 104 rfl) rfl
theorem q202 : (Jvm.Cond.lays "SecondHelpings$Fault" "java/lang/Throwable" "depth" "I") ∈ lw_all := lw_g (lw_at lw_m1 109 rfl) rfl
theorem q205 : (Jvm.Cond.superclass "SecondHelpings$Fault" "java/lang/Exception") ∈ lw_all := lw_g (lw_at lw_m1 112 rfl) rfl
theorem q2254 : (Jvm.Cond.castable "SecondHelpings$Fault" "java/lang/Object") ∈ lw_tbl := lw_at lw_m10 1 rfl
theorem in_X2 : ∀ w ∈ wsX20, w ∈ lw_all := lw_in wsX20 [147, 149, 151, 153, 155, 202, 194, 196] (by decide +kernel) (by decide +kernel)
/-! SecondHelpings$Board -/
set_option maxRecDepth 100000
def RX3 : String := "SecondHelpings$Board"
def TX3 : u_T := fun k => match k with
  | 0 => ("SecondHelpings$Board", "personNames", "[J", true)
  | 1 => ("SecondHelpings$Board", "dishNames", "[J", true)
  | 2 => ("SecondHelpings$Board", "wants", "[I", true)
  | 3 => ("SecondHelpings$Board", "parent", "[I", true)
  | 4 => ("SecondHelpings$Board", "parts", "[I", true)
  | 5 => ("SecondHelpings$Board", "spoils", "[I", true)
  | 6 => ("SecondHelpings$Board", "plate", "[I", true)
  | 7 => ("SecondHelpings$Board", "persons", "I", false)
  | 8 => ("SecondHelpings$Board", "dishes", "I", false)
  | 9 => ("SecondHelpings$Board", "law", "I", false)
  | _ => ("SecondHelpings$Board", "dogs", "I", false)
def tyX3 : Nat → FieldType := fun k => match k with
  | 0 => .array .long
  | 1 => .array .long
  | 2 => .array .int
  | 3 => .array .int
  | 4 => .array .int
  | 5 => .array .int
  | 6 => .array .int
  | 7 => .int
  | 8 => .int
  | 9 => .int
  | _ => .int
abbrev wsX30 : List Cond := u_ws RX3 TX3 11
theorem nmX3 : ∀ a, a < 11 → ∀ b, b < 11 → a ≠ b → (TX3 a).2.1 ≠ (TX3 b).2.1 := by decide +kernel
theorem tyX3_ok : ∀ k, k < 11 → parseFieldDescriptor (TX3 k).2.2.1 = some (tyX3 k) := by decide +kernel
abbrev cX3_init : ByteArray := prog_4_method_1_code
def yX3_init : MethodName := ⟨RX3, "<init>", "()V"⟩
def dkwX3_init_2 : List UInt8 := [188, 10, 181, 0, 28, 42, 16, 42, 188, 10, 181, 0, 31, 177]
abbrev dktX3_init_2 : List UInt8 := dkwX3_init_2 ++ []
def dkwX3_init_1 : List UInt8 := [188, 10, 181, 0, 18, 42, 16, 7, 188, 10, 181, 0, 22, 42, 16, 6, 188, 10, 181, 0, 25, 42, 16, 6]
abbrev dktX3_init_1 : List UInt8 := dkwX3_init_1 ++ dktX3_init_2
def dkwX3_init_0 : List UInt8 := [42, 183, 0, 3, 42, 16, 7, 188, 11, 181, 0, 9, 42, 16, 6, 188, 11, 181, 0, 15, 42, 16, 7]
abbrev dktX3_init_0 : List UInt8 := dkwX3_init_0 ++ dktX3_init_1
theorem dksX3_init_0 : cX3_init.data.toList.drop 0 = dktX3_init_0 := by decide +kernel
theorem dksX3_init_1 : cX3_init.data.toList.drop 23 = dktX3_init_1 := dk_seg dksX3_init_0 23 rfl rfl
theorem dksX3_init_2 : cX3_init.data.toList.drop 47 = dktX3_init_2 := dk_seg dksX3_init_1 24 rfl rfl
theorem dX3_init_0 : decode cX3_init 0 = .ok (.aload_n 0, 1) := dk_42 (dk_at dksX3_init_0 0 rfl rfl)
theorem dX3_init_1 : decode cX3_init 1 = .ok (.invokespecial 3, 3) := dk_183 0 3 (dk_at dksX3_init_0 1 rfl rfl)
theorem dX3_init_4 : decode cX3_init 4 = .ok (.aload_n 0, 1) := dk_42 (dk_at dksX3_init_0 4 rfl rfl)
theorem dX3_init_5 : decode cX3_init 5 = .ok (.bipush 7, 2) := dk_16 7 (dk_at dksX3_init_0 5 rfl rfl)
theorem dX3_init_7 : decode cX3_init 7 = .ok (.newarray .long, 2) := dk_188_11 (dk_at dksX3_init_0 7 rfl rfl)
theorem dX3_init_9 : decode cX3_init 9 = .ok (.putfield 9, 3) := dk_181 0 9 (dk_at dksX3_init_0 9 rfl rfl)
theorem dX3_init_12 : decode cX3_init 12 = .ok (.aload_n 0, 1) := dk_42 (dk_at dksX3_init_0 12 rfl rfl)
theorem dX3_init_13 : decode cX3_init 13 = .ok (.bipush 6, 2) := dk_16 6 (dk_at dksX3_init_0 13 rfl rfl)
theorem dX3_init_15 : decode cX3_init 15 = .ok (.newarray .long, 2) := dk_188_11 (dk_at dksX3_init_0 15 rfl rfl)
theorem dX3_init_17 : decode cX3_init 17 = .ok (.putfield 15, 3) := dk_181 0 15 (dk_at dksX3_init_0 17 rfl rfl)
theorem dX3_init_20 : decode cX3_init 20 = .ok (.aload_n 0, 1) := dk_42 (dk_at dksX3_init_0 20 rfl rfl)
theorem dX3_init_21 : decode cX3_init 21 = .ok (.bipush 7, 2) := dk_16 7 (dk_at dksX3_init_0 21 rfl rfl)
theorem dX3_init_23 : decode cX3_init 23 = .ok (.newarray .int, 2) := dk_188_10 (dk_at dksX3_init_1 0 rfl rfl)
theorem dX3_init_25 : decode cX3_init 25 = .ok (.putfield 18, 3) := dk_181 0 18 (dk_at dksX3_init_1 2 rfl rfl)
theorem dX3_init_28 : decode cX3_init 28 = .ok (.aload_n 0, 1) := dk_42 (dk_at dksX3_init_1 5 rfl rfl)
theorem dX3_init_29 : decode cX3_init 29 = .ok (.bipush 7, 2) := dk_16 7 (dk_at dksX3_init_1 6 rfl rfl)
theorem dX3_init_31 : decode cX3_init 31 = .ok (.newarray .int, 2) := dk_188_10 (dk_at dksX3_init_1 8 rfl rfl)
theorem dX3_init_33 : decode cX3_init 33 = .ok (.putfield 22, 3) := dk_181 0 22 (dk_at dksX3_init_1 10 rfl rfl)
theorem dX3_init_36 : decode cX3_init 36 = .ok (.aload_n 0, 1) := dk_42 (dk_at dksX3_init_1 13 rfl rfl)
theorem dX3_init_37 : decode cX3_init 37 = .ok (.bipush 6, 2) := dk_16 6 (dk_at dksX3_init_1 14 rfl rfl)
theorem dX3_init_39 : decode cX3_init 39 = .ok (.newarray .int, 2) := dk_188_10 (dk_at dksX3_init_1 16 rfl rfl)
theorem dX3_init_41 : decode cX3_init 41 = .ok (.putfield 25, 3) := dk_181 0 25 (dk_at dksX3_init_1 18 rfl rfl)
theorem dX3_init_44 : decode cX3_init 44 = .ok (.aload_n 0, 1) := dk_42 (dk_at dksX3_init_1 21 rfl rfl)
theorem dX3_init_45 : decode cX3_init 45 = .ok (.bipush 6, 2) := dk_16 6 (dk_at dksX3_init_1 22 rfl rfl)
theorem dX3_init_47 : decode cX3_init 47 = .ok (.newarray .int, 2) := dk_188_10 (dk_at dksX3_init_2 0 rfl rfl)
theorem dX3_init_49 : decode cX3_init 49 = .ok (.putfield 28, 3) := dk_181 0 28 (dk_at dksX3_init_2 2 rfl rfl)
theorem dX3_init_52 : decode cX3_init 52 = .ok (.aload_n 0, 1) := dk_42 (dk_at dksX3_init_2 5 rfl rfl)
theorem dX3_init_53 : decode cX3_init 53 = .ok (.bipush 42, 2) := dk_16 42 (dk_at dksX3_init_2 6 rfl rfl)
theorem dX3_init_55 : decode cX3_init 55 = .ok (.newarray .int, 2) := dk_188_10 (dk_at dksX3_init_2 8 rfl rfl)
theorem dX3_init_57 : decode cX3_init 57 = .ok (.putfield 31, 3) := dk_181 0 31 (dk_at dksX3_init_2 10 rfl rfl)
theorem dX3_init_60 : decode cX3_init 60 = .ok (.return_, 1) := dk_177 (dk_at dksX3_init_2 13 rfl rfl)
abbrev cX3_areNear : ByteArray := prog_4_method_2_code
def yX3_areNear : MethodName := ⟨RX3, "areNear", "(II)Z"⟩
def dkwX3_areNear_1 : List UInt8 := [3, 172]
abbrev dktX3_areNear_1 : List UInt8 := dkwX3_areNear_1 ++ []
def dkwX3_areNear_0 : List UInt8 := [42, 180, 0, 22, 27, 46, 28, 159, 0, 13, 42, 180, 0, 22, 28, 46, 27, 160, 0, 7, 4, 167, 0, 4]
abbrev dktX3_areNear_0 : List UInt8 := dkwX3_areNear_0 ++ dktX3_areNear_1
theorem dksX3_areNear_0 : cX3_areNear.data.toList.drop 0 = dktX3_areNear_0 := by decide +kernel
theorem dksX3_areNear_1 : cX3_areNear.data.toList.drop 24 = dktX3_areNear_1 := dk_seg dksX3_areNear_0 24 rfl rfl
theorem dX3_areNear_0 : decode cX3_areNear 0 = .ok (.aload_n 0, 1) := dk_42 (dk_at dksX3_areNear_0 0 rfl rfl)
theorem dX3_areNear_1 : decode cX3_areNear 1 = .ok (.getfield 22, 3) := dk_180 0 22 (dk_at dksX3_areNear_0 1 rfl rfl)
theorem dX3_areNear_4 : decode cX3_areNear 4 = .ok (.iload_n 1, 1) := dk_27 (dk_at dksX3_areNear_0 4 rfl rfl)
theorem dX3_areNear_5 : decode cX3_areNear 5 = .ok (.iaload, 1) := dk_46 (dk_at dksX3_areNear_0 5 rfl rfl)
theorem dX3_areNear_6 : decode cX3_areNear 6 = .ok (.iload_n 2, 1) := dk_28 (dk_at dksX3_areNear_0 6 rfl rfl)
theorem dX3_areNear_7 : decode cX3_areNear 7 = .ok (.if_icmp .eq 13, 3) := dk_159 0 13 (dk_at dksX3_areNear_0 7 rfl rfl)
theorem dX3_areNear_10 : decode cX3_areNear 10 = .ok (.aload_n 0, 1) := dk_42 (dk_at dksX3_areNear_0 10 rfl rfl)
theorem dX3_areNear_11 : decode cX3_areNear 11 = .ok (.getfield 22, 3) := dk_180 0 22 (dk_at dksX3_areNear_0 11 rfl rfl)
theorem dX3_areNear_14 : decode cX3_areNear 14 = .ok (.iload_n 2, 1) := dk_28 (dk_at dksX3_areNear_0 14 rfl rfl)
theorem dX3_areNear_15 : decode cX3_areNear 15 = .ok (.iaload, 1) := dk_46 (dk_at dksX3_areNear_0 15 rfl rfl)
theorem dX3_areNear_16 : decode cX3_areNear 16 = .ok (.iload_n 1, 1) := dk_27 (dk_at dksX3_areNear_0 16 rfl rfl)
theorem dX3_areNear_17 : decode cX3_areNear 17 = .ok (.if_icmp .ne 7, 3) := dk_160 0 7 (dk_at dksX3_areNear_0 17 rfl rfl)
theorem dX3_areNear_20 : decode cX3_areNear 20 = .ok (.iconst 1, 1) := dk_4 (dk_at dksX3_areNear_0 20 rfl rfl)
theorem dX3_areNear_21 : decode cX3_areNear 21 = .ok (.goto 4, 3) := dk_167 0 4 (dk_at dksX3_areNear_0 21 rfl rfl)
theorem dX3_areNear_24 : decode cX3_areNear 24 = .ok (.iconst 0, 1) := dk_3 (dk_at dksX3_areNear_1 0 rfl rfl)
theorem dX3_areNear_25 : decode cX3_areNear 25 = .ok (.ireturn, 1) := dk_172 (dk_at dksX3_areNear_1 1 rfl rfl)
abbrev cX3_children : ByteArray := prog_4_method_3_code
def yX3_children : MethodName := ⟨RX3, "children", "(I)I"⟩
def dkwX3_children_1 : List UInt8 := [29, 120, 128, 61, 132, 3, 1, 167, 255, 229, 28, 172]
abbrev dktX3_children_1 : List UInt8 := dkwX3_children_1 ++ []
def dkwX3_children_0 : List UInt8 := [3, 61, 3, 62, 29, 42, 180, 0, 34, 162, 0, 25, 42, 180, 0, 22, 29, 46, 27, 160, 0, 9, 28, 4]
abbrev dktX3_children_0 : List UInt8 := dkwX3_children_0 ++ dktX3_children_1
theorem dksX3_children_0 : cX3_children.data.toList.drop 0 = dktX3_children_0 := by decide +kernel
theorem dksX3_children_1 : cX3_children.data.toList.drop 24 = dktX3_children_1 := dk_seg dksX3_children_0 24 rfl rfl
theorem dX3_children_0 : decode cX3_children 0 = .ok (.iconst 0, 1) := dk_3 (dk_at dksX3_children_0 0 rfl rfl)
theorem dX3_children_1 : decode cX3_children 1 = .ok (.istore_n 2, 1) := dk_61 (dk_at dksX3_children_0 1 rfl rfl)
theorem dX3_children_2 : decode cX3_children 2 = .ok (.iconst 0, 1) := dk_3 (dk_at dksX3_children_0 2 rfl rfl)
theorem dX3_children_3 : decode cX3_children 3 = .ok (.istore_n 3, 1) := dk_62 (dk_at dksX3_children_0 3 rfl rfl)
theorem dX3_children_4 : decode cX3_children 4 = .ok (.iload_n 3, 1) := dk_29 (dk_at dksX3_children_0 4 rfl rfl)
theorem dX3_children_5 : decode cX3_children 5 = .ok (.aload_n 0, 1) := dk_42 (dk_at dksX3_children_0 5 rfl rfl)
theorem dX3_children_6 : decode cX3_children 6 = .ok (.getfield 34, 3) := dk_180 0 34 (dk_at dksX3_children_0 6 rfl rfl)
theorem dX3_children_9 : decode cX3_children 9 = .ok (.if_icmp .ge 25, 3) := dk_162 0 25 (dk_at dksX3_children_0 9 rfl rfl)
theorem dX3_children_12 : decode cX3_children 12 = .ok (.aload_n 0, 1) := dk_42 (dk_at dksX3_children_0 12 rfl rfl)
theorem dX3_children_13 : decode cX3_children 13 = .ok (.getfield 22, 3) := dk_180 0 22 (dk_at dksX3_children_0 13 rfl rfl)
theorem dX3_children_16 : decode cX3_children 16 = .ok (.iload_n 3, 1) := dk_29 (dk_at dksX3_children_0 16 rfl rfl)
theorem dX3_children_17 : decode cX3_children 17 = .ok (.iaload, 1) := dk_46 (dk_at dksX3_children_0 17 rfl rfl)
theorem dX3_children_18 : decode cX3_children 18 = .ok (.iload_n 1, 1) := dk_27 (dk_at dksX3_children_0 18 rfl rfl)
theorem dX3_children_19 : decode cX3_children 19 = .ok (.if_icmp .ne 9, 3) := dk_160 0 9 (dk_at dksX3_children_0 19 rfl rfl)
theorem dX3_children_22 : decode cX3_children 22 = .ok (.iload_n 2, 1) := dk_28 (dk_at dksX3_children_0 22 rfl rfl)
theorem dX3_children_23 : decode cX3_children 23 = .ok (.iconst 1, 1) := dk_4 (dk_at dksX3_children_0 23 rfl rfl)
theorem dX3_children_24 : decode cX3_children 24 = .ok (.iload_n 3, 1) := dk_29 (dk_at dksX3_children_1 0 rfl rfl)
theorem dX3_children_25 : decode cX3_children 25 = .ok (.ishl, 1) := dk_120 (dk_at dksX3_children_1 1 rfl rfl)
theorem dX3_children_26 : decode cX3_children 26 = .ok (.ior, 1) := dk_128 (dk_at dksX3_children_1 2 rfl rfl)
theorem dX3_children_27 : decode cX3_children 27 = .ok (.istore_n 2, 1) := dk_61 (dk_at dksX3_children_1 3 rfl rfl)
theorem dX3_children_28 : decode cX3_children 28 = .ok (.iinc 3 1, 3) := dk_132 3 1 (dk_at dksX3_children_1 4 rfl rfl)
theorem dX3_children_31 : decode cX3_children 31 = .ok (.goto (-27), 3) := dk_167 255 229 (dk_at dksX3_children_1 7 rfl rfl)
theorem dX3_children_34 : decode cX3_children 34 = .ok (.iload_n 2, 1) := dk_28 (dk_at dksX3_children_1 10 rfl rfl)
theorem dX3_children_35 : decode cX3_children 35 = .ok (.ireturn, 1) := dk_172 (dk_at dksX3_children_1 11 rfl rfl)
theorem q98 : (Jvm.Cond.initialized "SecondHelpings$Board") ∈ lw_all := lw_g (lw_at lw_m1 5 rfl) rfl
theorem q238 : (Jvm.Cond.instantiable "SecondHelpings$Board" (11 : Nat)) ∈ lw_all := lw_g (lw_at lw_m1 145 rfl) rfl
theorem q240 : (Jvm.Cond.instanceMethod ({ cls := "SecondHelpings$Board", name := "<init>", desc := "()V" } : Jvm.MethodName)) ∈ lw_all := lw_g (lw_at lw_m1 147 rfl) rfl
theorem q241 : (Jvm.Cond.code ({ cls := "SecondHelpings$Board", name := "<init>", desc := "()V" } : Jvm.MethodName) prog_4_method_1_code (1 : Nat) (Option.none : Option Jvm.ClassFile.FieldType)) ∈ lw_all := lw_g (lw_at lw_m1 148 rfl) rfl
theorem q242 : (Jvm.Cond.methodLink "SecondHelpings$Board" (3 : Nat) ({ cls := "java/lang/Object", name := "<init>", desc := "()V" } : Jvm.MethodName)) ∈ lw_all := lw_g (lw_at lw_m1 149 rfl) rfl
theorem q243 : (Jvm.Cond.fieldLink "SecondHelpings$Board" (9 : Nat) "SecondHelpings$Board" "personNames" "[J") ∈ lw_all := lw_g (lw_at lw_m1 150 rfl) rfl
theorem q248 : (Jvm.Cond.fieldLink "SecondHelpings$Board" (15 : Nat) "SecondHelpings$Board" "dishNames" "[J") ∈ lw_all := lw_g (lw_at lw_m1 155 rfl) rfl
theorem q252 : (Jvm.Cond.fieldLink "SecondHelpings$Board" (18 : Nat) "SecondHelpings$Board" "wants" "[I") ∈ lw_all := lw_g (lw_at lw_m1 159 rfl) rfl
theorem q257 : (Jvm.Cond.fieldLink "SecondHelpings$Board" (22 : Nat) "SecondHelpings$Board" "parent" "[I") ∈ lw_all := lw_g (lw_at lw_m1 164 rfl) rfl
theorem q262 : (Jvm.Cond.fieldLink "SecondHelpings$Board" (25 : Nat) "SecondHelpings$Board" "parts" "[I") ∈ lw_all := lw_g (lw_at lw_m1 169 rfl) rfl
theorem q265 : (Jvm.Cond.fieldLink "SecondHelpings$Board" (28 : Nat) "SecondHelpings$Board" "spoils" "[I") ∈ lw_all := lw_g (lw_at lw_m1 172 rfl) rfl
theorem q269 : (Jvm.Cond.fieldLink "SecondHelpings$Board" (31 : Nat) "SecondHelpings$Board" "plate" "[I") ∈ lw_all := lw_g (lw_at lw_m1 176 rfl) rfl
theorem q273 : (Jvm.Cond.fieldLink "SecondHelpings$Board" (34 : Nat) "SecondHelpings$Board" "persons" "I") ∈ lw_all := lw_g (lw_at lw_m1 180 rfl) rfl
theorem q289 : (Jvm.Cond.laysFinal "SecondHelpings$Board" "SecondHelpings$Board" "personNames" "[J") ∈ lw_all := lw_g (lw_at lw_m1 196 rfl) rfl
theorem q290 : (Jvm.Cond.soleField "SecondHelpings$Board" "personNames") ∈ lw_all := lw_g (lw_at lw_m1 197 rfl) rfl
theorem q291 : (Jvm.Cond.laysFinal "SecondHelpings$Board" "SecondHelpings$Board" "dishNames" "[J") ∈ lw_all := lw_g (lw_at lw_m1 198 rfl) rfl
theorem q292 : (Jvm.Cond.soleField "SecondHelpings$Board" "dishNames") ∈ lw_all := lw_g (lw_at lw_m1 199 rfl) rfl
theorem q293 : (Jvm.Cond.laysFinal "SecondHelpings$Board" "SecondHelpings$Board" "wants" "[I") ∈ lw_all := lw_g (lw_at lw_m1 200 rfl) rfl
theorem q294 : (Jvm.Cond.soleField "SecondHelpings$Board" "wants") ∈ lw_all := lw_g (lw_at lw_m1 201 rfl) rfl
theorem q295 : (Jvm.Cond.laysFinal "SecondHelpings$Board" "SecondHelpings$Board" "parent" "[I") ∈ lw_all := lw_g (lw_at lw_m1 202 rfl) rfl
theorem q296 : (Jvm.Cond.soleField "SecondHelpings$Board" "parent") ∈ lw_all := lw_g (lw_at lw_m1 203 rfl) rfl
theorem q297 : (Jvm.Cond.laysFinal "SecondHelpings$Board" "SecondHelpings$Board" "parts" "[I") ∈ lw_all := lw_g (lw_at lw_m1 204 rfl) rfl
theorem q298 : (Jvm.Cond.soleField "SecondHelpings$Board" "parts") ∈ lw_all := lw_g (lw_at lw_m1 205 rfl) rfl
theorem q299 : (Jvm.Cond.laysFinal "SecondHelpings$Board" "SecondHelpings$Board" "spoils" "[I") ∈ lw_all := lw_g (lw_at lw_m1 206 rfl) rfl
theorem q300 : (Jvm.Cond.soleField "SecondHelpings$Board" "spoils") ∈ lw_all := lw_g (lw_at lw_m1 207 rfl) rfl
theorem q301 : (Jvm.Cond.laysFinal "SecondHelpings$Board" "SecondHelpings$Board" "plate" "[I") ∈ lw_all := lw_g (lw_at lw_m1 208 rfl) rfl
theorem q302 : (Jvm.Cond.soleField "SecondHelpings$Board" "plate") ∈ lw_all := lw_g (lw_at lw_m1 209 rfl) rfl
theorem q303 : (Jvm.Cond.lays "SecondHelpings$Board" "SecondHelpings$Board" "persons" "I") ∈ lw_all := lw_g (lw_at lw_m1 210 rfl) rfl
theorem q304 : (Jvm.Cond.soleField "SecondHelpings$Board" "persons") ∈ lw_all := lw_g (lw_at lw_m1 211 rfl) rfl
theorem q305 : (Jvm.Cond.lays "SecondHelpings$Board" "SecondHelpings$Board" "dishes" "I") ∈ lw_all := lw_g (lw_at lw_m1 212 rfl) rfl
theorem q306 : (Jvm.Cond.soleField "SecondHelpings$Board" "dishes") ∈ lw_all := lw_g (lw_at lw_m1 213 rfl) rfl
theorem q307 : (Jvm.Cond.lays "SecondHelpings$Board" "SecondHelpings$Board" "law" "I") ∈ lw_all := lw_g (lw_at lw_m1 214 rfl) rfl
theorem q308 : (Jvm.Cond.soleField "SecondHelpings$Board" "law") ∈ lw_all := lw_g (lw_at lw_m1 215 rfl) rfl
theorem q309 : (Jvm.Cond.lays "SecondHelpings$Board" "SecondHelpings$Board" "dogs" "I") ∈ lw_all := lw_g (lw_at lw_m1 216 rfl) rfl
theorem q310 : (Jvm.Cond.soleField "SecondHelpings$Board" "dogs") ∈ lw_all := lw_g (lw_at lw_m1 217 rfl) rfl
theorem q311 : (Jvm.Cond.superclass "SecondHelpings$Board" "java/lang/Object") ∈ lw_all := lw_g (lw_at lw_m1 218 rfl) rfl
theorem q1074 : (Jvm.Cond.instanceMethod ({ cls := "SecondHelpings$Board", name := "areNear", desc := "(II)Z" } : Jvm.MethodName)) ∈ lw_all := lw_g (lw_at lw_m5 21 rfl) rfl
theorem q1075 : (Jvm.Cond.selects "SecondHelpings$Board" ({ cls := "SecondHelpings$Board", name := "areNear", desc := "(II)Z" } : Jvm.MethodName) ({ cls := "SecondHelpings$Board", name := "areNear", desc := "(II)Z" } : Jvm.MethodName)) ∈ lw_all := lw_g (lw_at lw_m5 22 rfl) rfl
theorem q1076 : (Jvm.Cond.code ({ cls := "SecondHelpings$Board", name := "areNear", desc := "(II)Z" } : Jvm.MethodName) prog_4_method_2_code (3 : Nat) (Option.some Jvm.ClassFile.FieldType.boolean)) ∈ lw_all := lw_g (lw_at lw_m5 23 rfl) rfl
theorem q1598 : (Jvm.Cond.instanceMethod ({ cls := "SecondHelpings$Board", name := "children", desc := "(I)I" } : Jvm.MethodName)) ∈ lw_all := lw_g (lw_at lw_m7 65 rfl) rfl
theorem q1599 : (Jvm.Cond.selects "SecondHelpings$Board" ({ cls := "SecondHelpings$Board", name := "children", desc := "(I)I" } : Jvm.MethodName) ({ cls := "SecondHelpings$Board", name := "children", desc := "(I)I" } : Jvm.MethodName)) ∈ lw_all := lw_g (lw_at lw_m7 66 rfl) rfl
theorem q1600 : (Jvm.Cond.code ({ cls := "SecondHelpings$Board", name := "children", desc := "(I)I" } : Jvm.MethodName) prog_4_method_3_code (4 : Nat) (Option.some Jvm.ClassFile.FieldType.int)) ∈ lw_all := lw_g (lw_at lw_m7 67 rfl) rfl
theorem q2255 : (Jvm.Cond.castable "SecondHelpings$Board" "java/lang/Object") ∈ lw_tbl := lw_at lw_m10 2 rfl
theorem in_X3 : ∀ w ∈ wsX30, w ∈ lw_all := lw_in wsX30 [289, 291, 293, 295, 297, 299, 301, 303, 305, 307, 309] (by decide +kernel) (by decide +kernel)
/-! SecondHelpings$State -/
set_option maxRecDepth 100000
def RX4 : String := "SecondHelpings$State"
def TX4 : u_T := fun k => match k with
  | 0 => ("SecondHelpings$State", "plate", "[I", true)
  | 1 => ("SecondHelpings$State", "parts", "[I", true)
  | 2 => ("SecondHelpings$State", "eaten", "[I", true)
  | 3 => ("SecondHelpings$State", "meal", "[I", true)
  | 4 => ("SecondHelpings$State", "hunger", "[I", true)
  | 5 => ("SecondHelpings$State", "meals", "I", false)
  | 6 => ("SecondHelpings$State", "dead", "I", false)
  | 7 => ("SecondHelpings$State", "refused", "I", false)
  | 8 => ("SecondHelpings$State", "dogs", "I", false)
  | 9 => ("SecondHelpings$State", "spoiled", "I", false)
  | 10 => ("SecondHelpings$State", "passed", "I", false)
  | _ => ("SecondHelpings$State", "seed", "I", false)
def tyX4 : Nat → FieldType := fun k => match k with
  | 0 => .array .int
  | 1 => .array .int
  | 2 => .array .int
  | 3 => .array .int
  | 4 => .array .int
  | 5 => .int
  | 6 => .int
  | 7 => .int
  | 8 => .int
  | 9 => .int
  | 10 => .int
  | _ => .int
abbrev wsX40 : List Cond := u_ws RX4 TX4 12
theorem nmX4 : ∀ a, a < 12 → ∀ b, b < 12 → a ≠ b → (TX4 a).2.1 ≠ (TX4 b).2.1 := by decide +kernel
theorem tyX4_ok : ∀ k, k < 12 → parseFieldDescriptor (TX4 k).2.2.1 = some (tyX4 k) := by decide +kernel
abbrev cX4_init : ByteArray := prog_23_method_1_code
def yX4_init : MethodName := ⟨RX4, "<init>", "()V"⟩
def dkwX4_init_1 : List UInt8 := [188, 10, 181, 0, 18, 42, 16, 7, 188, 10, 181, 0, 21, 42, 16, 7, 188, 10, 181, 0, 24, 177]
abbrev dktX4_init_1 : List UInt8 := dkwX4_init_1 ++ []
def dkwX4_init_0 : List UInt8 := [42, 183, 0, 3, 42, 16, 42, 188, 10, 181, 0, 9, 42, 16, 6, 188, 10, 181, 0, 15, 42, 16, 7]
abbrev dktX4_init_0 : List UInt8 := dkwX4_init_0 ++ dktX4_init_1
theorem dksX4_init_0 : cX4_init.data.toList.drop 0 = dktX4_init_0 := by decide +kernel
theorem dksX4_init_1 : cX4_init.data.toList.drop 23 = dktX4_init_1 := dk_seg dksX4_init_0 23 rfl rfl
theorem dX4_init_0 : decode cX4_init 0 = .ok (.aload_n 0, 1) := dk_42 (dk_at dksX4_init_0 0 rfl rfl)
theorem dX4_init_1 : decode cX4_init 1 = .ok (.invokespecial 3, 3) := dk_183 0 3 (dk_at dksX4_init_0 1 rfl rfl)
theorem dX4_init_4 : decode cX4_init 4 = .ok (.aload_n 0, 1) := dk_42 (dk_at dksX4_init_0 4 rfl rfl)
theorem dX4_init_5 : decode cX4_init 5 = .ok (.bipush 42, 2) := dk_16 42 (dk_at dksX4_init_0 5 rfl rfl)
theorem dX4_init_7 : decode cX4_init 7 = .ok (.newarray .int, 2) := dk_188_10 (dk_at dksX4_init_0 7 rfl rfl)
theorem dX4_init_9 : decode cX4_init 9 = .ok (.putfield 9, 3) := dk_181 0 9 (dk_at dksX4_init_0 9 rfl rfl)
theorem dX4_init_12 : decode cX4_init 12 = .ok (.aload_n 0, 1) := dk_42 (dk_at dksX4_init_0 12 rfl rfl)
theorem dX4_init_13 : decode cX4_init 13 = .ok (.bipush 6, 2) := dk_16 6 (dk_at dksX4_init_0 13 rfl rfl)
theorem dX4_init_15 : decode cX4_init 15 = .ok (.newarray .int, 2) := dk_188_10 (dk_at dksX4_init_0 15 rfl rfl)
theorem dX4_init_17 : decode cX4_init 17 = .ok (.putfield 15, 3) := dk_181 0 15 (dk_at dksX4_init_0 17 rfl rfl)
theorem dX4_init_20 : decode cX4_init 20 = .ok (.aload_n 0, 1) := dk_42 (dk_at dksX4_init_0 20 rfl rfl)
theorem dX4_init_21 : decode cX4_init 21 = .ok (.bipush 7, 2) := dk_16 7 (dk_at dksX4_init_0 21 rfl rfl)
theorem dX4_init_23 : decode cX4_init 23 = .ok (.newarray .int, 2) := dk_188_10 (dk_at dksX4_init_1 0 rfl rfl)
theorem dX4_init_25 : decode cX4_init 25 = .ok (.putfield 18, 3) := dk_181 0 18 (dk_at dksX4_init_1 2 rfl rfl)
theorem dX4_init_28 : decode cX4_init 28 = .ok (.aload_n 0, 1) := dk_42 (dk_at dksX4_init_1 5 rfl rfl)
theorem dX4_init_29 : decode cX4_init 29 = .ok (.bipush 7, 2) := dk_16 7 (dk_at dksX4_init_1 6 rfl rfl)
theorem dX4_init_31 : decode cX4_init 31 = .ok (.newarray .int, 2) := dk_188_10 (dk_at dksX4_init_1 8 rfl rfl)
theorem dX4_init_33 : decode cX4_init 33 = .ok (.putfield 21, 3) := dk_181 0 21 (dk_at dksX4_init_1 10 rfl rfl)
theorem dX4_init_36 : decode cX4_init 36 = .ok (.aload_n 0, 1) := dk_42 (dk_at dksX4_init_1 13 rfl rfl)
theorem dX4_init_37 : decode cX4_init 37 = .ok (.bipush 7, 2) := dk_16 7 (dk_at dksX4_init_1 14 rfl rfl)
theorem dX4_init_39 : decode cX4_init 39 = .ok (.newarray .int, 2) := dk_188_10 (dk_at dksX4_init_1 16 rfl rfl)
theorem dX4_init_41 : decode cX4_init 41 = .ok (.putfield 24, 3) := dk_181 0 24 (dk_at dksX4_init_1 18 rfl rfl)
theorem dX4_init_44 : decode cX4_init 44 = .ok (.return_, 1) := dk_177 (dk_at dksX4_init_1 21 rfl rfl)
abbrev cX4_begin : ByteArray := prog_23_method_3_code
def yX4_begin : MethodName := ⟨RX4, "begin", "(LSecondHelpings$Board;)V"⟩
def dkwX4_begin_3 : List UInt8 := [181, 0, 40, 42, 3, 181, 0, 43, 42, 3, 181, 0, 46, 42, 3, 181, 0, 49, 177]
abbrev dktX4_begin_3 : List UInt8 := dkwX4_begin_3 ++ []
def dkwX4_begin_2 : List UInt8 := [184, 0, 56, 42, 180, 0, 24, 3, 184, 0, 56, 42, 3, 181, 0, 33, 42, 3, 181, 0, 37, 42, 3]
abbrev dktX4_begin_2 : List UInt8 := dkwX4_begin_2 ++ dktX4_begin_3
def dkwX4_begin_1 : List UInt8 := [180, 0, 15, 3, 16, 6, 184, 0, 27, 42, 180, 0, 18, 3, 184, 0, 56, 42, 180, 0, 21, 3]
abbrev dktX4_begin_1 : List UInt8 := dkwX4_begin_1 ++ dktX4_begin_2
def dkwX4_begin_0 : List UInt8 := [43, 180, 0, 52, 3, 42, 180, 0, 9, 3, 42, 180, 0, 9, 190, 184, 0, 27, 43, 180, 0, 55, 3, 42]
abbrev dktX4_begin_0 : List UInt8 := dkwX4_begin_0 ++ dktX4_begin_1
theorem dksX4_begin_0 : cX4_begin.data.toList.drop 0 = dktX4_begin_0 := by decide +kernel
theorem dksX4_begin_1 : cX4_begin.data.toList.drop 24 = dktX4_begin_1 := dk_seg dksX4_begin_0 24 rfl rfl
theorem dksX4_begin_2 : cX4_begin.data.toList.drop 46 = dktX4_begin_2 := dk_seg dksX4_begin_1 22 rfl rfl
theorem dksX4_begin_3 : cX4_begin.data.toList.drop 69 = dktX4_begin_3 := dk_seg dksX4_begin_2 23 rfl rfl
theorem dX4_begin_0 : decode cX4_begin 0 = .ok (.aload_n 1, 1) := dk_43 (dk_at dksX4_begin_0 0 rfl rfl)
theorem dX4_begin_1 : decode cX4_begin 1 = .ok (.getfield 52, 3) := dk_180 0 52 (dk_at dksX4_begin_0 1 rfl rfl)
theorem dX4_begin_4 : decode cX4_begin 4 = .ok (.iconst 0, 1) := dk_3 (dk_at dksX4_begin_0 4 rfl rfl)
theorem dX4_begin_5 : decode cX4_begin 5 = .ok (.aload_n 0, 1) := dk_42 (dk_at dksX4_begin_0 5 rfl rfl)
theorem dX4_begin_6 : decode cX4_begin 6 = .ok (.getfield 9, 3) := dk_180 0 9 (dk_at dksX4_begin_0 6 rfl rfl)
theorem dX4_begin_9 : decode cX4_begin 9 = .ok (.iconst 0, 1) := dk_3 (dk_at dksX4_begin_0 9 rfl rfl)
theorem dX4_begin_10 : decode cX4_begin 10 = .ok (.aload_n 0, 1) := dk_42 (dk_at dksX4_begin_0 10 rfl rfl)
theorem dX4_begin_11 : decode cX4_begin 11 = .ok (.getfield 9, 3) := dk_180 0 9 (dk_at dksX4_begin_0 11 rfl rfl)
theorem dX4_begin_14 : decode cX4_begin 14 = .ok (.arraylength, 1) := dk_190 (dk_at dksX4_begin_0 14 rfl rfl)
theorem dX4_begin_15 : decode cX4_begin 15 = .ok (.invokestatic 27, 3) := dk_184 0 27 (dk_at dksX4_begin_0 15 rfl rfl)
theorem dX4_begin_18 : decode cX4_begin 18 = .ok (.aload_n 1, 1) := dk_43 (dk_at dksX4_begin_0 18 rfl rfl)
theorem dX4_begin_19 : decode cX4_begin 19 = .ok (.getfield 55, 3) := dk_180 0 55 (dk_at dksX4_begin_0 19 rfl rfl)
theorem dX4_begin_22 : decode cX4_begin 22 = .ok (.iconst 0, 1) := dk_3 (dk_at dksX4_begin_0 22 rfl rfl)
theorem dX4_begin_23 : decode cX4_begin 23 = .ok (.aload_n 0, 1) := dk_42 (dk_at dksX4_begin_0 23 rfl rfl)
theorem dX4_begin_24 : decode cX4_begin 24 = .ok (.getfield 15, 3) := dk_180 0 15 (dk_at dksX4_begin_1 0 rfl rfl)
theorem dX4_begin_27 : decode cX4_begin 27 = .ok (.iconst 0, 1) := dk_3 (dk_at dksX4_begin_1 3 rfl rfl)
theorem dX4_begin_28 : decode cX4_begin 28 = .ok (.bipush 6, 2) := dk_16 6 (dk_at dksX4_begin_1 4 rfl rfl)
theorem dX4_begin_30 : decode cX4_begin 30 = .ok (.invokestatic 27, 3) := dk_184 0 27 (dk_at dksX4_begin_1 6 rfl rfl)
theorem dX4_begin_33 : decode cX4_begin 33 = .ok (.aload_n 0, 1) := dk_42 (dk_at dksX4_begin_1 9 rfl rfl)
theorem dX4_begin_34 : decode cX4_begin 34 = .ok (.getfield 18, 3) := dk_180 0 18 (dk_at dksX4_begin_1 10 rfl rfl)
theorem dX4_begin_37 : decode cX4_begin 37 = .ok (.iconst 0, 1) := dk_3 (dk_at dksX4_begin_1 13 rfl rfl)
theorem dX4_begin_38 : decode cX4_begin 38 = .ok (.invokestatic 56, 3) := dk_184 0 56 (dk_at dksX4_begin_1 14 rfl rfl)
theorem dX4_begin_41 : decode cX4_begin 41 = .ok (.aload_n 0, 1) := dk_42 (dk_at dksX4_begin_1 17 rfl rfl)
theorem dX4_begin_42 : decode cX4_begin 42 = .ok (.getfield 21, 3) := dk_180 0 21 (dk_at dksX4_begin_1 18 rfl rfl)
theorem dX4_begin_45 : decode cX4_begin 45 = .ok (.iconst 0, 1) := dk_3 (dk_at dksX4_begin_1 21 rfl rfl)
theorem dX4_begin_46 : decode cX4_begin 46 = .ok (.invokestatic 56, 3) := dk_184 0 56 (dk_at dksX4_begin_2 0 rfl rfl)
theorem dX4_begin_49 : decode cX4_begin 49 = .ok (.aload_n 0, 1) := dk_42 (dk_at dksX4_begin_2 3 rfl rfl)
theorem dX4_begin_50 : decode cX4_begin 50 = .ok (.getfield 24, 3) := dk_180 0 24 (dk_at dksX4_begin_2 4 rfl rfl)
theorem dX4_begin_53 : decode cX4_begin 53 = .ok (.iconst 0, 1) := dk_3 (dk_at dksX4_begin_2 7 rfl rfl)
theorem dX4_begin_54 : decode cX4_begin 54 = .ok (.invokestatic 56, 3) := dk_184 0 56 (dk_at dksX4_begin_2 8 rfl rfl)
theorem dX4_begin_57 : decode cX4_begin 57 = .ok (.aload_n 0, 1) := dk_42 (dk_at dksX4_begin_2 11 rfl rfl)
theorem dX4_begin_58 : decode cX4_begin 58 = .ok (.iconst 0, 1) := dk_3 (dk_at dksX4_begin_2 12 rfl rfl)
theorem dX4_begin_59 : decode cX4_begin 59 = .ok (.putfield 33, 3) := dk_181 0 33 (dk_at dksX4_begin_2 13 rfl rfl)
theorem dX4_begin_62 : decode cX4_begin 62 = .ok (.aload_n 0, 1) := dk_42 (dk_at dksX4_begin_2 16 rfl rfl)
theorem dX4_begin_63 : decode cX4_begin 63 = .ok (.iconst 0, 1) := dk_3 (dk_at dksX4_begin_2 17 rfl rfl)
theorem dX4_begin_64 : decode cX4_begin 64 = .ok (.putfield 37, 3) := dk_181 0 37 (dk_at dksX4_begin_2 18 rfl rfl)
theorem dX4_begin_67 : decode cX4_begin 67 = .ok (.aload_n 0, 1) := dk_42 (dk_at dksX4_begin_2 21 rfl rfl)
theorem dX4_begin_68 : decode cX4_begin 68 = .ok (.iconst 0, 1) := dk_3 (dk_at dksX4_begin_2 22 rfl rfl)
theorem dX4_begin_69 : decode cX4_begin 69 = .ok (.putfield 40, 3) := dk_181 0 40 (dk_at dksX4_begin_3 0 rfl rfl)
theorem dX4_begin_72 : decode cX4_begin 72 = .ok (.aload_n 0, 1) := dk_42 (dk_at dksX4_begin_3 3 rfl rfl)
theorem dX4_begin_73 : decode cX4_begin 73 = .ok (.iconst 0, 1) := dk_3 (dk_at dksX4_begin_3 4 rfl rfl)
theorem dX4_begin_74 : decode cX4_begin 74 = .ok (.putfield 43, 3) := dk_181 0 43 (dk_at dksX4_begin_3 5 rfl rfl)
theorem dX4_begin_77 : decode cX4_begin 77 = .ok (.aload_n 0, 1) := dk_42 (dk_at dksX4_begin_3 8 rfl rfl)
theorem dX4_begin_78 : decode cX4_begin 78 = .ok (.iconst 0, 1) := dk_3 (dk_at dksX4_begin_3 9 rfl rfl)
theorem dX4_begin_79 : decode cX4_begin 79 = .ok (.putfield 46, 3) := dk_181 0 46 (dk_at dksX4_begin_3 10 rfl rfl)
theorem dX4_begin_82 : decode cX4_begin 82 = .ok (.aload_n 0, 1) := dk_42 (dk_at dksX4_begin_3 13 rfl rfl)
theorem dX4_begin_83 : decode cX4_begin 83 = .ok (.iconst 0, 1) := dk_3 (dk_at dksX4_begin_3 14 rfl rfl)
theorem dX4_begin_84 : decode cX4_begin 84 = .ok (.putfield 49, 3) := dk_181 0 49 (dk_at dksX4_begin_3 15 rfl rfl)
theorem dX4_begin_87 : decode cX4_begin 87 = .ok (.return_, 1) := dk_177 (dk_at dksX4_begin_3 18 rfl rfl)
abbrev cX4_be : ByteArray := prog_23_method_2_code
def yX4_be : MethodName := ⟨RX4, "be", "(LSecondHelpings$State;)V"⟩
def dkwX4_be_5 : List UInt8 := [180, 0, 49, 181, 0, 49, 177]
abbrev dktX4_be_5 : List UInt8 := dkwX4_be_5 ++ []
def dkwX4_be_4 : List UInt8 := [180, 0, 40, 181, 0, 40, 42, 43, 180, 0, 43, 181, 0, 43, 42, 43, 180, 0, 46, 181, 0, 46, 42, 43]
abbrev dktX4_be_4 : List UInt8 := dkwX4_be_4 ++ dktX4_be_5
def dkwX4_be_3 : List UInt8 := [3, 16, 7, 184, 0, 27, 42, 43, 180, 0, 33, 181, 0, 33, 42, 43, 180, 0, 37, 181, 0, 37, 42, 43]
abbrev dktX4_be_3 : List UInt8 := dkwX4_be_3 ++ dktX4_be_4
def dkwX4_be_2 : List UInt8 := [43, 180, 0, 21, 3, 42, 180, 0, 21, 3, 16, 7, 184, 0, 27, 43, 180, 0, 24, 3, 42, 180, 0, 24]
abbrev dktX4_be_2 : List UInt8 := dkwX4_be_2 ++ dktX4_be_3
def dkwX4_be_1 : List UInt8 := [180, 0, 15, 3, 16, 6, 184, 0, 27, 43, 180, 0, 18, 3, 42, 180, 0, 18, 3, 16, 7, 184, 0, 27]
abbrev dktX4_be_1 : List UInt8 := dkwX4_be_1 ++ dktX4_be_2
def dkwX4_be_0 : List UInt8 := [43, 180, 0, 9, 3, 42, 180, 0, 9, 3, 42, 180, 0, 9, 190, 184, 0, 27, 43, 180, 0, 15, 3, 42]
abbrev dktX4_be_0 : List UInt8 := dkwX4_be_0 ++ dktX4_be_1
theorem dksX4_be_0 : cX4_be.data.toList.drop 0 = dktX4_be_0 := by decide +kernel
theorem dksX4_be_1 : cX4_be.data.toList.drop 24 = dktX4_be_1 := dk_seg dksX4_be_0 24 rfl rfl
theorem dksX4_be_2 : cX4_be.data.toList.drop 48 = dktX4_be_2 := dk_seg dksX4_be_1 24 rfl rfl
theorem dksX4_be_3 : cX4_be.data.toList.drop 72 = dktX4_be_3 := dk_seg dksX4_be_2 24 rfl rfl
theorem dksX4_be_4 : cX4_be.data.toList.drop 96 = dktX4_be_4 := dk_seg dksX4_be_3 24 rfl rfl
theorem dksX4_be_5 : cX4_be.data.toList.drop 120 = dktX4_be_5 := dk_seg dksX4_be_4 24 rfl rfl
theorem dX4_be_0 : decode cX4_be 0 = .ok (.aload_n 1, 1) := dk_43 (dk_at dksX4_be_0 0 rfl rfl)
theorem dX4_be_1 : decode cX4_be 1 = .ok (.getfield 9, 3) := dk_180 0 9 (dk_at dksX4_be_0 1 rfl rfl)
theorem dX4_be_4 : decode cX4_be 4 = .ok (.iconst 0, 1) := dk_3 (dk_at dksX4_be_0 4 rfl rfl)
theorem dX4_be_5 : decode cX4_be 5 = .ok (.aload_n 0, 1) := dk_42 (dk_at dksX4_be_0 5 rfl rfl)
theorem dX4_be_6 : decode cX4_be 6 = .ok (.getfield 9, 3) := dk_180 0 9 (dk_at dksX4_be_0 6 rfl rfl)
theorem dX4_be_9 : decode cX4_be 9 = .ok (.iconst 0, 1) := dk_3 (dk_at dksX4_be_0 9 rfl rfl)
theorem dX4_be_10 : decode cX4_be 10 = .ok (.aload_n 0, 1) := dk_42 (dk_at dksX4_be_0 10 rfl rfl)
theorem dX4_be_11 : decode cX4_be 11 = .ok (.getfield 9, 3) := dk_180 0 9 (dk_at dksX4_be_0 11 rfl rfl)
theorem dX4_be_14 : decode cX4_be 14 = .ok (.arraylength, 1) := dk_190 (dk_at dksX4_be_0 14 rfl rfl)
theorem dX4_be_15 : decode cX4_be 15 = .ok (.invokestatic 27, 3) := dk_184 0 27 (dk_at dksX4_be_0 15 rfl rfl)
theorem dX4_be_18 : decode cX4_be 18 = .ok (.aload_n 1, 1) := dk_43 (dk_at dksX4_be_0 18 rfl rfl)
theorem dX4_be_19 : decode cX4_be 19 = .ok (.getfield 15, 3) := dk_180 0 15 (dk_at dksX4_be_0 19 rfl rfl)
theorem dX4_be_22 : decode cX4_be 22 = .ok (.iconst 0, 1) := dk_3 (dk_at dksX4_be_0 22 rfl rfl)
theorem dX4_be_23 : decode cX4_be 23 = .ok (.aload_n 0, 1) := dk_42 (dk_at dksX4_be_0 23 rfl rfl)
theorem dX4_be_24 : decode cX4_be 24 = .ok (.getfield 15, 3) := dk_180 0 15 (dk_at dksX4_be_1 0 rfl rfl)
theorem dX4_be_27 : decode cX4_be 27 = .ok (.iconst 0, 1) := dk_3 (dk_at dksX4_be_1 3 rfl rfl)
theorem dX4_be_28 : decode cX4_be 28 = .ok (.bipush 6, 2) := dk_16 6 (dk_at dksX4_be_1 4 rfl rfl)
theorem dX4_be_30 : decode cX4_be 30 = .ok (.invokestatic 27, 3) := dk_184 0 27 (dk_at dksX4_be_1 6 rfl rfl)
theorem dX4_be_33 : decode cX4_be 33 = .ok (.aload_n 1, 1) := dk_43 (dk_at dksX4_be_1 9 rfl rfl)
theorem dX4_be_34 : decode cX4_be 34 = .ok (.getfield 18, 3) := dk_180 0 18 (dk_at dksX4_be_1 10 rfl rfl)
theorem dX4_be_37 : decode cX4_be 37 = .ok (.iconst 0, 1) := dk_3 (dk_at dksX4_be_1 13 rfl rfl)
theorem dX4_be_38 : decode cX4_be 38 = .ok (.aload_n 0, 1) := dk_42 (dk_at dksX4_be_1 14 rfl rfl)
theorem dX4_be_39 : decode cX4_be 39 = .ok (.getfield 18, 3) := dk_180 0 18 (dk_at dksX4_be_1 15 rfl rfl)
theorem dX4_be_42 : decode cX4_be 42 = .ok (.iconst 0, 1) := dk_3 (dk_at dksX4_be_1 18 rfl rfl)
theorem dX4_be_43 : decode cX4_be 43 = .ok (.bipush 7, 2) := dk_16 7 (dk_at dksX4_be_1 19 rfl rfl)
theorem dX4_be_45 : decode cX4_be 45 = .ok (.invokestatic 27, 3) := dk_184 0 27 (dk_at dksX4_be_1 21 rfl rfl)
theorem dX4_be_48 : decode cX4_be 48 = .ok (.aload_n 1, 1) := dk_43 (dk_at dksX4_be_2 0 rfl rfl)
theorem dX4_be_49 : decode cX4_be 49 = .ok (.getfield 21, 3) := dk_180 0 21 (dk_at dksX4_be_2 1 rfl rfl)
theorem dX4_be_52 : decode cX4_be 52 = .ok (.iconst 0, 1) := dk_3 (dk_at dksX4_be_2 4 rfl rfl)
theorem dX4_be_53 : decode cX4_be 53 = .ok (.aload_n 0, 1) := dk_42 (dk_at dksX4_be_2 5 rfl rfl)
theorem dX4_be_54 : decode cX4_be 54 = .ok (.getfield 21, 3) := dk_180 0 21 (dk_at dksX4_be_2 6 rfl rfl)
theorem dX4_be_57 : decode cX4_be 57 = .ok (.iconst 0, 1) := dk_3 (dk_at dksX4_be_2 9 rfl rfl)
theorem dX4_be_58 : decode cX4_be 58 = .ok (.bipush 7, 2) := dk_16 7 (dk_at dksX4_be_2 10 rfl rfl)
theorem dX4_be_60 : decode cX4_be 60 = .ok (.invokestatic 27, 3) := dk_184 0 27 (dk_at dksX4_be_2 12 rfl rfl)
theorem dX4_be_63 : decode cX4_be 63 = .ok (.aload_n 1, 1) := dk_43 (dk_at dksX4_be_2 15 rfl rfl)
theorem dX4_be_64 : decode cX4_be 64 = .ok (.getfield 24, 3) := dk_180 0 24 (dk_at dksX4_be_2 16 rfl rfl)
theorem dX4_be_67 : decode cX4_be 67 = .ok (.iconst 0, 1) := dk_3 (dk_at dksX4_be_2 19 rfl rfl)
theorem dX4_be_68 : decode cX4_be 68 = .ok (.aload_n 0, 1) := dk_42 (dk_at dksX4_be_2 20 rfl rfl)
theorem dX4_be_69 : decode cX4_be 69 = .ok (.getfield 24, 3) := dk_180 0 24 (dk_at dksX4_be_2 21 rfl rfl)
theorem dX4_be_72 : decode cX4_be 72 = .ok (.iconst 0, 1) := dk_3 (dk_at dksX4_be_3 0 rfl rfl)
theorem dX4_be_73 : decode cX4_be 73 = .ok (.bipush 7, 2) := dk_16 7 (dk_at dksX4_be_3 1 rfl rfl)
theorem dX4_be_75 : decode cX4_be 75 = .ok (.invokestatic 27, 3) := dk_184 0 27 (dk_at dksX4_be_3 3 rfl rfl)
theorem dX4_be_78 : decode cX4_be 78 = .ok (.aload_n 0, 1) := dk_42 (dk_at dksX4_be_3 6 rfl rfl)
theorem dX4_be_79 : decode cX4_be 79 = .ok (.aload_n 1, 1) := dk_43 (dk_at dksX4_be_3 7 rfl rfl)
theorem dX4_be_80 : decode cX4_be 80 = .ok (.getfield 33, 3) := dk_180 0 33 (dk_at dksX4_be_3 8 rfl rfl)
theorem dX4_be_83 : decode cX4_be 83 = .ok (.putfield 33, 3) := dk_181 0 33 (dk_at dksX4_be_3 11 rfl rfl)
theorem dX4_be_86 : decode cX4_be 86 = .ok (.aload_n 0, 1) := dk_42 (dk_at dksX4_be_3 14 rfl rfl)
theorem dX4_be_87 : decode cX4_be 87 = .ok (.aload_n 1, 1) := dk_43 (dk_at dksX4_be_3 15 rfl rfl)
theorem dX4_be_88 : decode cX4_be 88 = .ok (.getfield 37, 3) := dk_180 0 37 (dk_at dksX4_be_3 16 rfl rfl)
theorem dX4_be_91 : decode cX4_be 91 = .ok (.putfield 37, 3) := dk_181 0 37 (dk_at dksX4_be_3 19 rfl rfl)
theorem dX4_be_94 : decode cX4_be 94 = .ok (.aload_n 0, 1) := dk_42 (dk_at dksX4_be_3 22 rfl rfl)
theorem dX4_be_95 : decode cX4_be 95 = .ok (.aload_n 1, 1) := dk_43 (dk_at dksX4_be_3 23 rfl rfl)
theorem dX4_be_96 : decode cX4_be 96 = .ok (.getfield 40, 3) := dk_180 0 40 (dk_at dksX4_be_4 0 rfl rfl)
theorem dX4_be_99 : decode cX4_be 99 = .ok (.putfield 40, 3) := dk_181 0 40 (dk_at dksX4_be_4 3 rfl rfl)
theorem dX4_be_102 : decode cX4_be 102 = .ok (.aload_n 0, 1) := dk_42 (dk_at dksX4_be_4 6 rfl rfl)
theorem dX4_be_103 : decode cX4_be 103 = .ok (.aload_n 1, 1) := dk_43 (dk_at dksX4_be_4 7 rfl rfl)
theorem dX4_be_104 : decode cX4_be 104 = .ok (.getfield 43, 3) := dk_180 0 43 (dk_at dksX4_be_4 8 rfl rfl)
theorem dX4_be_107 : decode cX4_be 107 = .ok (.putfield 43, 3) := dk_181 0 43 (dk_at dksX4_be_4 11 rfl rfl)
theorem dX4_be_110 : decode cX4_be 110 = .ok (.aload_n 0, 1) := dk_42 (dk_at dksX4_be_4 14 rfl rfl)
theorem dX4_be_111 : decode cX4_be 111 = .ok (.aload_n 1, 1) := dk_43 (dk_at dksX4_be_4 15 rfl rfl)
theorem dX4_be_112 : decode cX4_be 112 = .ok (.getfield 46, 3) := dk_180 0 46 (dk_at dksX4_be_4 16 rfl rfl)
theorem dX4_be_115 : decode cX4_be 115 = .ok (.putfield 46, 3) := dk_181 0 46 (dk_at dksX4_be_4 19 rfl rfl)
theorem dX4_be_118 : decode cX4_be 118 = .ok (.aload_n 0, 1) := dk_42 (dk_at dksX4_be_4 22 rfl rfl)
theorem dX4_be_119 : decode cX4_be 119 = .ok (.aload_n 1, 1) := dk_43 (dk_at dksX4_be_4 23 rfl rfl)
theorem dX4_be_120 : decode cX4_be 120 = .ok (.getfield 49, 3) := dk_180 0 49 (dk_at dksX4_be_5 0 rfl rfl)
theorem dX4_be_123 : decode cX4_be 123 = .ok (.putfield 49, 3) := dk_181 0 49 (dk_at dksX4_be_5 3 rfl rfl)
theorem dX4_be_126 : decode cX4_be 126 = .ok (.return_, 1) := dk_177 (dk_at dksX4_be_5 6 rfl rfl)
abbrev cX4_whyEat : ByteArray := prog_23_method_10_code
def yX4_whyEat : MethodName := ⟨RX4, "whyEat", "(LSecondHelpings$Board;III)I"⟩
def dkwX4_whyEat_2 : List UInt8 := [164, 0, 7, 6, 167, 0, 4, 3, 172]
abbrev dktX4_whyEat_2 : List UInt8 := dkwX4_whyEat_2 ++ []
def dkwX4_whyEat_1 : List UInt8 := [21, 4, 162, 0, 7, 5, 167, 0, 26, 42, 180, 0, 21, 28, 46, 21, 4, 96, 43, 180, 0, 103, 28, 46]
abbrev dktX4_whyEat_1 : List UInt8 := dkwX4_whyEat_1 ++ dktX4_whyEat_2
def dkwX4_whyEat_0 : List UInt8 := [42, 28, 182, 0, 99, 153, 0, 7, 4, 167, 0, 46, 42, 180, 0, 9, 16, 6, 28, 104, 29, 96, 46]
abbrev dktX4_whyEat_0 : List UInt8 := dkwX4_whyEat_0 ++ dktX4_whyEat_1
theorem dksX4_whyEat_0 : cX4_whyEat.data.toList.drop 0 = dktX4_whyEat_0 := by decide +kernel
theorem dksX4_whyEat_1 : cX4_whyEat.data.toList.drop 23 = dktX4_whyEat_1 := dk_seg dksX4_whyEat_0 23 rfl rfl
theorem dksX4_whyEat_2 : cX4_whyEat.data.toList.drop 47 = dktX4_whyEat_2 := dk_seg dksX4_whyEat_1 24 rfl rfl
theorem dX4_whyEat_0 : decode cX4_whyEat 0 = .ok (.aload_n 0, 1) := dk_42 (dk_at dksX4_whyEat_0 0 rfl rfl)
theorem dX4_whyEat_1 : decode cX4_whyEat 1 = .ok (.iload_n 2, 1) := dk_28 (dk_at dksX4_whyEat_0 1 rfl rfl)
theorem dX4_whyEat_2 : decode cX4_whyEat 2 = .ok (.invokevirtual 99, 3) := dk_182 0 99 (dk_at dksX4_whyEat_0 2 rfl rfl)
theorem dX4_whyEat_5 : decode cX4_whyEat 5 = .ok (.ifCond .eq 7, 3) := dk_153 0 7 (dk_at dksX4_whyEat_0 5 rfl rfl)
theorem dX4_whyEat_8 : decode cX4_whyEat 8 = .ok (.iconst 1, 1) := dk_4 (dk_at dksX4_whyEat_0 8 rfl rfl)
theorem dX4_whyEat_9 : decode cX4_whyEat 9 = .ok (.goto 46, 3) := dk_167 0 46 (dk_at dksX4_whyEat_0 9 rfl rfl)
theorem dX4_whyEat_12 : decode cX4_whyEat 12 = .ok (.aload_n 0, 1) := dk_42 (dk_at dksX4_whyEat_0 12 rfl rfl)
theorem dX4_whyEat_13 : decode cX4_whyEat 13 = .ok (.getfield 9, 3) := dk_180 0 9 (dk_at dksX4_whyEat_0 13 rfl rfl)
theorem dX4_whyEat_16 : decode cX4_whyEat 16 = .ok (.bipush 6, 2) := dk_16 6 (dk_at dksX4_whyEat_0 16 rfl rfl)
theorem dX4_whyEat_18 : decode cX4_whyEat 18 = .ok (.iload_n 2, 1) := dk_28 (dk_at dksX4_whyEat_0 18 rfl rfl)
theorem dX4_whyEat_19 : decode cX4_whyEat 19 = .ok (.imul, 1) := dk_104 (dk_at dksX4_whyEat_0 19 rfl rfl)
theorem dX4_whyEat_20 : decode cX4_whyEat 20 = .ok (.iload_n 3, 1) := dk_29 (dk_at dksX4_whyEat_0 20 rfl rfl)
theorem dX4_whyEat_21 : decode cX4_whyEat 21 = .ok (.iadd, 1) := dk_96 (dk_at dksX4_whyEat_0 21 rfl rfl)
theorem dX4_whyEat_22 : decode cX4_whyEat 22 = .ok (.iaload, 1) := dk_46 (dk_at dksX4_whyEat_0 22 rfl rfl)
theorem dX4_whyEat_23 : decode cX4_whyEat 23 = .ok (.iload 4, 2) := dk_21 4 (dk_at dksX4_whyEat_1 0 rfl rfl)
theorem dX4_whyEat_25 : decode cX4_whyEat 25 = .ok (.if_icmp .ge 7, 3) := dk_162 0 7 (dk_at dksX4_whyEat_1 2 rfl rfl)
theorem dX4_whyEat_28 : decode cX4_whyEat 28 = .ok (.iconst 2, 1) := dk_5 (dk_at dksX4_whyEat_1 5 rfl rfl)
theorem dX4_whyEat_29 : decode cX4_whyEat 29 = .ok (.goto 26, 3) := dk_167 0 26 (dk_at dksX4_whyEat_1 6 rfl rfl)
theorem dX4_whyEat_32 : decode cX4_whyEat 32 = .ok (.aload_n 0, 1) := dk_42 (dk_at dksX4_whyEat_1 9 rfl rfl)
theorem dX4_whyEat_33 : decode cX4_whyEat 33 = .ok (.getfield 21, 3) := dk_180 0 21 (dk_at dksX4_whyEat_1 10 rfl rfl)
theorem dX4_whyEat_36 : decode cX4_whyEat 36 = .ok (.iload_n 2, 1) := dk_28 (dk_at dksX4_whyEat_1 13 rfl rfl)
theorem dX4_whyEat_37 : decode cX4_whyEat 37 = .ok (.iaload, 1) := dk_46 (dk_at dksX4_whyEat_1 14 rfl rfl)
theorem dX4_whyEat_38 : decode cX4_whyEat 38 = .ok (.iload 4, 2) := dk_21 4 (dk_at dksX4_whyEat_1 15 rfl rfl)
theorem dX4_whyEat_40 : decode cX4_whyEat 40 = .ok (.iadd, 1) := dk_96 (dk_at dksX4_whyEat_1 17 rfl rfl)
theorem dX4_whyEat_41 : decode cX4_whyEat 41 = .ok (.aload_n 1, 1) := dk_43 (dk_at dksX4_whyEat_1 18 rfl rfl)
theorem dX4_whyEat_42 : decode cX4_whyEat 42 = .ok (.getfield 103, 3) := dk_180 0 103 (dk_at dksX4_whyEat_1 19 rfl rfl)
theorem dX4_whyEat_45 : decode cX4_whyEat 45 = .ok (.iload_n 2, 1) := dk_28 (dk_at dksX4_whyEat_1 22 rfl rfl)
theorem dX4_whyEat_46 : decode cX4_whyEat 46 = .ok (.iaload, 1) := dk_46 (dk_at dksX4_whyEat_1 23 rfl rfl)
theorem dX4_whyEat_47 : decode cX4_whyEat 47 = .ok (.if_icmp .le 7, 3) := dk_164 0 7 (dk_at dksX4_whyEat_2 0 rfl rfl)
theorem dX4_whyEat_50 : decode cX4_whyEat 50 = .ok (.iconst 3, 1) := dk_6 (dk_at dksX4_whyEat_2 3 rfl rfl)
theorem dX4_whyEat_51 : decode cX4_whyEat 51 = .ok (.goto 4, 3) := dk_167 0 4 (dk_at dksX4_whyEat_2 4 rfl rfl)
theorem dX4_whyEat_54 : decode cX4_whyEat 54 = .ok (.iconst 0, 1) := dk_3 (dk_at dksX4_whyEat_2 7 rfl rfl)
theorem dX4_whyEat_55 : decode cX4_whyEat 55 = .ok (.ireturn, 1) := dk_172 (dk_at dksX4_whyEat_2 8 rfl rfl)
abbrev cX4_isDead : ByteArray := prog_23_method_4_code
def yX4_isDead : MethodName := ⟨RX4, "isDead", "(I)Z"⟩
def dkwX4_isDead_0 : List UInt8 := [42, 180, 0, 37, 27, 184, 0, 62, 172]
abbrev dktX4_isDead_0 : List UInt8 := dkwX4_isDead_0 ++ []
theorem dksX4_isDead_0 : cX4_isDead.data.toList.drop 0 = dktX4_isDead_0 := by decide +kernel
theorem dX4_isDead_0 : decode cX4_isDead 0 = .ok (.aload_n 0, 1) := dk_42 (dk_at dksX4_isDead_0 0 rfl rfl)
theorem dX4_isDead_1 : decode cX4_isDead 1 = .ok (.getfield 37, 3) := dk_180 0 37 (dk_at dksX4_isDead_0 1 rfl rfl)
theorem dX4_isDead_4 : decode cX4_isDead 4 = .ok (.iload_n 1, 1) := dk_27 (dk_at dksX4_isDead_0 4 rfl rfl)
theorem dX4_isDead_5 : decode cX4_isDead 5 = .ok (.invokestatic 62, 3) := dk_184 0 62 (dk_at dksX4_isDead_0 5 rfl rfl)
theorem dX4_isDead_8 : decode cX4_isDead 8 = .ok (.ireturn, 1) := dk_172 (dk_at dksX4_isDead_0 8 rfl rfl)
abbrev cX4_eat : ByteArray := prog_23_method_11_code
def yX4_eat : MethodName := ⟨RX4, "eat", "(III)V"⟩
def dkwX4_eat_1 : List UInt8 := [79, 42, 180, 0, 18, 27, 92, 46, 29, 96, 79, 177]
abbrev dktX4_eat_1 : List UInt8 := dkwX4_eat_1 ++ []
def dkwX4_eat_0 : List UInt8 := [42, 180, 0, 9, 16, 6, 27, 104, 28, 96, 92, 46, 29, 100, 79, 42, 180, 0, 21, 27, 92, 46, 29, 96]
abbrev dktX4_eat_0 : List UInt8 := dkwX4_eat_0 ++ dktX4_eat_1
theorem dksX4_eat_0 : cX4_eat.data.toList.drop 0 = dktX4_eat_0 := by decide +kernel
theorem dksX4_eat_1 : cX4_eat.data.toList.drop 24 = dktX4_eat_1 := dk_seg dksX4_eat_0 24 rfl rfl
theorem dX4_eat_0 : decode cX4_eat 0 = .ok (.aload_n 0, 1) := dk_42 (dk_at dksX4_eat_0 0 rfl rfl)
theorem dX4_eat_1 : decode cX4_eat 1 = .ok (.getfield 9, 3) := dk_180 0 9 (dk_at dksX4_eat_0 1 rfl rfl)
theorem dX4_eat_4 : decode cX4_eat 4 = .ok (.bipush 6, 2) := dk_16 6 (dk_at dksX4_eat_0 4 rfl rfl)
theorem dX4_eat_6 : decode cX4_eat 6 = .ok (.iload_n 1, 1) := dk_27 (dk_at dksX4_eat_0 6 rfl rfl)
theorem dX4_eat_7 : decode cX4_eat 7 = .ok (.imul, 1) := dk_104 (dk_at dksX4_eat_0 7 rfl rfl)
theorem dX4_eat_8 : decode cX4_eat 8 = .ok (.iload_n 2, 1) := dk_28 (dk_at dksX4_eat_0 8 rfl rfl)
theorem dX4_eat_9 : decode cX4_eat 9 = .ok (.iadd, 1) := dk_96 (dk_at dksX4_eat_0 9 rfl rfl)
theorem dX4_eat_10 : decode cX4_eat 10 = .ok (.dup2, 1) := dk_92 (dk_at dksX4_eat_0 10 rfl rfl)
theorem dX4_eat_11 : decode cX4_eat 11 = .ok (.iaload, 1) := dk_46 (dk_at dksX4_eat_0 11 rfl rfl)
theorem dX4_eat_12 : decode cX4_eat 12 = .ok (.iload_n 3, 1) := dk_29 (dk_at dksX4_eat_0 12 rfl rfl)
theorem dX4_eat_13 : decode cX4_eat 13 = .ok (.isub, 1) := dk_100 (dk_at dksX4_eat_0 13 rfl rfl)
theorem dX4_eat_14 : decode cX4_eat 14 = .ok (.iastore, 1) := dk_79 (dk_at dksX4_eat_0 14 rfl rfl)
theorem dX4_eat_15 : decode cX4_eat 15 = .ok (.aload_n 0, 1) := dk_42 (dk_at dksX4_eat_0 15 rfl rfl)
theorem dX4_eat_16 : decode cX4_eat 16 = .ok (.getfield 21, 3) := dk_180 0 21 (dk_at dksX4_eat_0 16 rfl rfl)
theorem dX4_eat_19 : decode cX4_eat 19 = .ok (.iload_n 1, 1) := dk_27 (dk_at dksX4_eat_0 19 rfl rfl)
theorem dX4_eat_20 : decode cX4_eat 20 = .ok (.dup2, 1) := dk_92 (dk_at dksX4_eat_0 20 rfl rfl)
theorem dX4_eat_21 : decode cX4_eat 21 = .ok (.iaload, 1) := dk_46 (dk_at dksX4_eat_0 21 rfl rfl)
theorem dX4_eat_22 : decode cX4_eat 22 = .ok (.iload_n 3, 1) := dk_29 (dk_at dksX4_eat_0 22 rfl rfl)
theorem dX4_eat_23 : decode cX4_eat 23 = .ok (.iadd, 1) := dk_96 (dk_at dksX4_eat_0 23 rfl rfl)
theorem dX4_eat_24 : decode cX4_eat 24 = .ok (.iastore, 1) := dk_79 (dk_at dksX4_eat_1 0 rfl rfl)
theorem dX4_eat_25 : decode cX4_eat 25 = .ok (.aload_n 0, 1) := dk_42 (dk_at dksX4_eat_1 1 rfl rfl)
theorem dX4_eat_26 : decode cX4_eat 26 = .ok (.getfield 18, 3) := dk_180 0 18 (dk_at dksX4_eat_1 2 rfl rfl)
theorem dX4_eat_29 : decode cX4_eat 29 = .ok (.iload_n 1, 1) := dk_27 (dk_at dksX4_eat_1 5 rfl rfl)
theorem dX4_eat_30 : decode cX4_eat 30 = .ok (.dup2, 1) := dk_92 (dk_at dksX4_eat_1 6 rfl rfl)
theorem dX4_eat_31 : decode cX4_eat 31 = .ok (.iaload, 1) := dk_46 (dk_at dksX4_eat_1 7 rfl rfl)
theorem dX4_eat_32 : decode cX4_eat 32 = .ok (.iload_n 3, 1) := dk_29 (dk_at dksX4_eat_1 8 rfl rfl)
theorem dX4_eat_33 : decode cX4_eat 33 = .ok (.iadd, 1) := dk_96 (dk_at dksX4_eat_1 9 rfl rfl)
theorem dX4_eat_34 : decode cX4_eat 34 = .ok (.iastore, 1) := dk_79 (dk_at dksX4_eat_1 10 rfl rfl)
theorem dX4_eat_35 : decode cX4_eat 35 = .ok (.return_, 1) := dk_177 (dk_at dksX4_eat_1 11 rfl rfl)
abbrev cX4_whyServe : ByteArray := prog_23_method_12_code
def yX4_whyServe : MethodName := ⟨RX4, "whyServe", "(III)I"⟩
def dkwX4_whyServe_1 : List UInt8 := [167, 0, 4, 3, 172]
abbrev dktX4_whyServe_1 : List UInt8 := dkwX4_whyServe_1 ++ []
def dkwX4_whyServe_0 : List UInt8 := [42, 27, 182, 0, 99, 153, 0, 7, 4, 167, 0, 18, 42, 180, 0, 15, 28, 46, 29, 162, 0, 7, 5]
abbrev dktX4_whyServe_0 : List UInt8 := dkwX4_whyServe_0 ++ dktX4_whyServe_1
theorem dksX4_whyServe_0 : cX4_whyServe.data.toList.drop 0 = dktX4_whyServe_0 := by decide +kernel
theorem dksX4_whyServe_1 : cX4_whyServe.data.toList.drop 23 = dktX4_whyServe_1 := dk_seg dksX4_whyServe_0 23 rfl rfl
theorem dX4_whyServe_0 : decode cX4_whyServe 0 = .ok (.aload_n 0, 1) := dk_42 (dk_at dksX4_whyServe_0 0 rfl rfl)
theorem dX4_whyServe_1 : decode cX4_whyServe 1 = .ok (.iload_n 1, 1) := dk_27 (dk_at dksX4_whyServe_0 1 rfl rfl)
theorem dX4_whyServe_2 : decode cX4_whyServe 2 = .ok (.invokevirtual 99, 3) := dk_182 0 99 (dk_at dksX4_whyServe_0 2 rfl rfl)
theorem dX4_whyServe_5 : decode cX4_whyServe 5 = .ok (.ifCond .eq 7, 3) := dk_153 0 7 (dk_at dksX4_whyServe_0 5 rfl rfl)
theorem dX4_whyServe_8 : decode cX4_whyServe 8 = .ok (.iconst 1, 1) := dk_4 (dk_at dksX4_whyServe_0 8 rfl rfl)
theorem dX4_whyServe_9 : decode cX4_whyServe 9 = .ok (.goto 18, 3) := dk_167 0 18 (dk_at dksX4_whyServe_0 9 rfl rfl)
theorem dX4_whyServe_12 : decode cX4_whyServe 12 = .ok (.aload_n 0, 1) := dk_42 (dk_at dksX4_whyServe_0 12 rfl rfl)
theorem dX4_whyServe_13 : decode cX4_whyServe 13 = .ok (.getfield 15, 3) := dk_180 0 15 (dk_at dksX4_whyServe_0 13 rfl rfl)
theorem dX4_whyServe_16 : decode cX4_whyServe 16 = .ok (.iload_n 2, 1) := dk_28 (dk_at dksX4_whyServe_0 16 rfl rfl)
theorem dX4_whyServe_17 : decode cX4_whyServe 17 = .ok (.iaload, 1) := dk_46 (dk_at dksX4_whyServe_0 17 rfl rfl)
theorem dX4_whyServe_18 : decode cX4_whyServe 18 = .ok (.iload_n 3, 1) := dk_29 (dk_at dksX4_whyServe_0 18 rfl rfl)
theorem dX4_whyServe_19 : decode cX4_whyServe 19 = .ok (.if_icmp .ge 7, 3) := dk_162 0 7 (dk_at dksX4_whyServe_0 19 rfl rfl)
theorem dX4_whyServe_22 : decode cX4_whyServe 22 = .ok (.iconst 2, 1) := dk_5 (dk_at dksX4_whyServe_0 22 rfl rfl)
theorem dX4_whyServe_23 : decode cX4_whyServe 23 = .ok (.goto 4, 3) := dk_167 0 4 (dk_at dksX4_whyServe_1 0 rfl rfl)
theorem dX4_whyServe_26 : decode cX4_whyServe 26 = .ok (.iconst 0, 1) := dk_3 (dk_at dksX4_whyServe_1 3 rfl rfl)
theorem dX4_whyServe_27 : decode cX4_whyServe 27 = .ok (.ireturn, 1) := dk_172 (dk_at dksX4_whyServe_1 4 rfl rfl)
abbrev cX4_serve : ByteArray := prog_23_method_13_code
def yX4_serve : MethodName := ⟨RX4, "serve", "(III)V"⟩
def dkwX4_serve_1 : List UInt8 := [79, 177]
abbrev dktX4_serve_1 : List UInt8 := dkwX4_serve_1 ++ []
def dkwX4_serve_0 : List UInt8 := [42, 180, 0, 15, 28, 92, 46, 29, 100, 79, 42, 180, 0, 9, 16, 6, 27, 104, 28, 96, 92, 46, 29, 96]
abbrev dktX4_serve_0 : List UInt8 := dkwX4_serve_0 ++ dktX4_serve_1
theorem dksX4_serve_0 : cX4_serve.data.toList.drop 0 = dktX4_serve_0 := by decide +kernel
theorem dksX4_serve_1 : cX4_serve.data.toList.drop 24 = dktX4_serve_1 := dk_seg dksX4_serve_0 24 rfl rfl
theorem dX4_serve_0 : decode cX4_serve 0 = .ok (.aload_n 0, 1) := dk_42 (dk_at dksX4_serve_0 0 rfl rfl)
theorem dX4_serve_1 : decode cX4_serve 1 = .ok (.getfield 15, 3) := dk_180 0 15 (dk_at dksX4_serve_0 1 rfl rfl)
theorem dX4_serve_4 : decode cX4_serve 4 = .ok (.iload_n 2, 1) := dk_28 (dk_at dksX4_serve_0 4 rfl rfl)
theorem dX4_serve_5 : decode cX4_serve 5 = .ok (.dup2, 1) := dk_92 (dk_at dksX4_serve_0 5 rfl rfl)
theorem dX4_serve_6 : decode cX4_serve 6 = .ok (.iaload, 1) := dk_46 (dk_at dksX4_serve_0 6 rfl rfl)
theorem dX4_serve_7 : decode cX4_serve 7 = .ok (.iload_n 3, 1) := dk_29 (dk_at dksX4_serve_0 7 rfl rfl)
theorem dX4_serve_8 : decode cX4_serve 8 = .ok (.isub, 1) := dk_100 (dk_at dksX4_serve_0 8 rfl rfl)
theorem dX4_serve_9 : decode cX4_serve 9 = .ok (.iastore, 1) := dk_79 (dk_at dksX4_serve_0 9 rfl rfl)
theorem dX4_serve_10 : decode cX4_serve 10 = .ok (.aload_n 0, 1) := dk_42 (dk_at dksX4_serve_0 10 rfl rfl)
theorem dX4_serve_11 : decode cX4_serve 11 = .ok (.getfield 9, 3) := dk_180 0 9 (dk_at dksX4_serve_0 11 rfl rfl)
theorem dX4_serve_14 : decode cX4_serve 14 = .ok (.bipush 6, 2) := dk_16 6 (dk_at dksX4_serve_0 14 rfl rfl)
theorem dX4_serve_16 : decode cX4_serve 16 = .ok (.iload_n 1, 1) := dk_27 (dk_at dksX4_serve_0 16 rfl rfl)
theorem dX4_serve_17 : decode cX4_serve 17 = .ok (.imul, 1) := dk_104 (dk_at dksX4_serve_0 17 rfl rfl)
theorem dX4_serve_18 : decode cX4_serve 18 = .ok (.iload_n 2, 1) := dk_28 (dk_at dksX4_serve_0 18 rfl rfl)
theorem dX4_serve_19 : decode cX4_serve 19 = .ok (.iadd, 1) := dk_96 (dk_at dksX4_serve_0 19 rfl rfl)
theorem dX4_serve_20 : decode cX4_serve 20 = .ok (.dup2, 1) := dk_92 (dk_at dksX4_serve_0 20 rfl rfl)
theorem dX4_serve_21 : decode cX4_serve 21 = .ok (.iaload, 1) := dk_46 (dk_at dksX4_serve_0 21 rfl rfl)
theorem dX4_serve_22 : decode cX4_serve 22 = .ok (.iload_n 3, 1) := dk_29 (dk_at dksX4_serve_0 22 rfl rfl)
theorem dX4_serve_23 : decode cX4_serve 23 = .ok (.iadd, 1) := dk_96 (dk_at dksX4_serve_0 23 rfl rfl)
theorem dX4_serve_24 : decode cX4_serve 24 = .ok (.iastore, 1) := dk_79 (dk_at dksX4_serve_1 0 rfl rfl)
theorem dX4_serve_25 : decode cX4_serve 25 = .ok (.return_, 1) := dk_177 (dk_at dksX4_serve_1 1 rfl rfl)
abbrev cX4_whyRise : ByteArray := prog_23_method_14_code
def yX4_whyRise : MethodName := ⟨RX4, "whyRise", "(I)I"⟩
def dkwX4_whyRise_1 : List UInt8 := [3, 172]
abbrev dktX4_whyRise_1 : List UInt8 := dkwX4_whyRise_1 ++ []
def dkwX4_whyRise_0 : List UInt8 := [42, 27, 182, 0, 99, 153, 0, 7, 4, 167, 0, 16, 42, 27, 182, 0, 82, 154, 0, 7, 5, 167, 0, 4]
abbrev dktX4_whyRise_0 : List UInt8 := dkwX4_whyRise_0 ++ dktX4_whyRise_1
theorem dksX4_whyRise_0 : cX4_whyRise.data.toList.drop 0 = dktX4_whyRise_0 := by decide +kernel
theorem dksX4_whyRise_1 : cX4_whyRise.data.toList.drop 24 = dktX4_whyRise_1 := dk_seg dksX4_whyRise_0 24 rfl rfl
theorem dX4_whyRise_0 : decode cX4_whyRise 0 = .ok (.aload_n 0, 1) := dk_42 (dk_at dksX4_whyRise_0 0 rfl rfl)
theorem dX4_whyRise_1 : decode cX4_whyRise 1 = .ok (.iload_n 1, 1) := dk_27 (dk_at dksX4_whyRise_0 1 rfl rfl)
theorem dX4_whyRise_2 : decode cX4_whyRise 2 = .ok (.invokevirtual 99, 3) := dk_182 0 99 (dk_at dksX4_whyRise_0 2 rfl rfl)
theorem dX4_whyRise_5 : decode cX4_whyRise 5 = .ok (.ifCond .eq 7, 3) := dk_153 0 7 (dk_at dksX4_whyRise_0 5 rfl rfl)
theorem dX4_whyRise_8 : decode cX4_whyRise 8 = .ok (.iconst 1, 1) := dk_4 (dk_at dksX4_whyRise_0 8 rfl rfl)
theorem dX4_whyRise_9 : decode cX4_whyRise 9 = .ok (.goto 16, 3) := dk_167 0 16 (dk_at dksX4_whyRise_0 9 rfl rfl)
theorem dX4_whyRise_12 : decode cX4_whyRise 12 = .ok (.aload_n 0, 1) := dk_42 (dk_at dksX4_whyRise_0 12 rfl rfl)
theorem dX4_whyRise_13 : decode cX4_whyRise 13 = .ok (.iload_n 1, 1) := dk_27 (dk_at dksX4_whyRise_0 13 rfl rfl)
theorem dX4_whyRise_14 : decode cX4_whyRise 14 = .ok (.invokevirtual 82, 3) := dk_182 0 82 (dk_at dksX4_whyRise_0 14 rfl rfl)
theorem dX4_whyRise_17 : decode cX4_whyRise 17 = .ok (.ifCond .ne 7, 3) := dk_154 0 7 (dk_at dksX4_whyRise_0 17 rfl rfl)
theorem dX4_whyRise_20 : decode cX4_whyRise 20 = .ok (.iconst 2, 1) := dk_5 (dk_at dksX4_whyRise_0 20 rfl rfl)
theorem dX4_whyRise_21 : decode cX4_whyRise 21 = .ok (.goto 4, 3) := dk_167 0 4 (dk_at dksX4_whyRise_0 21 rfl rfl)
theorem dX4_whyRise_24 : decode cX4_whyRise 24 = .ok (.iconst 0, 1) := dk_3 (dk_at dksX4_whyRise_1 0 rfl rfl)
theorem dX4_whyRise_25 : decode cX4_whyRise 25 = .ok (.ireturn, 1) := dk_172 (dk_at dksX4_whyRise_1 1 rfl rfl)
abbrev cX4_on : ByteArray := prog_23_method_5_code
def yX4_on : MethodName := ⟨RX4, "on", "(I)I"⟩
def dkwX4_on_1 : List UInt8 := [132, 3, 1, 167, 255, 233, 28, 172]
abbrev dktX4_on_1 : List UInt8 := dkwX4_on_1 ++ []
def dkwX4_on_0 : List UInt8 := [3, 61, 3, 62, 29, 16, 6, 162, 0, 23, 28, 42, 180, 0, 9, 16, 6, 27, 104, 29, 96, 46, 96, 61]
abbrev dktX4_on_0 : List UInt8 := dkwX4_on_0 ++ dktX4_on_1
theorem dksX4_on_0 : cX4_on.data.toList.drop 0 = dktX4_on_0 := by decide +kernel
theorem dksX4_on_1 : cX4_on.data.toList.drop 24 = dktX4_on_1 := dk_seg dksX4_on_0 24 rfl rfl
theorem dX4_on_0 : decode cX4_on 0 = .ok (.iconst 0, 1) := dk_3 (dk_at dksX4_on_0 0 rfl rfl)
theorem dX4_on_1 : decode cX4_on 1 = .ok (.istore_n 2, 1) := dk_61 (dk_at dksX4_on_0 1 rfl rfl)
theorem dX4_on_2 : decode cX4_on 2 = .ok (.iconst 0, 1) := dk_3 (dk_at dksX4_on_0 2 rfl rfl)
theorem dX4_on_3 : decode cX4_on 3 = .ok (.istore_n 3, 1) := dk_62 (dk_at dksX4_on_0 3 rfl rfl)
theorem dX4_on_4 : decode cX4_on 4 = .ok (.iload_n 3, 1) := dk_29 (dk_at dksX4_on_0 4 rfl rfl)
theorem dX4_on_5 : decode cX4_on 5 = .ok (.bipush 6, 2) := dk_16 6 (dk_at dksX4_on_0 5 rfl rfl)
theorem dX4_on_7 : decode cX4_on 7 = .ok (.if_icmp .ge 23, 3) := dk_162 0 23 (dk_at dksX4_on_0 7 rfl rfl)
theorem dX4_on_10 : decode cX4_on 10 = .ok (.iload_n 2, 1) := dk_28 (dk_at dksX4_on_0 10 rfl rfl)
theorem dX4_on_11 : decode cX4_on 11 = .ok (.aload_n 0, 1) := dk_42 (dk_at dksX4_on_0 11 rfl rfl)
theorem dX4_on_12 : decode cX4_on 12 = .ok (.getfield 9, 3) := dk_180 0 9 (dk_at dksX4_on_0 12 rfl rfl)
theorem dX4_on_15 : decode cX4_on 15 = .ok (.bipush 6, 2) := dk_16 6 (dk_at dksX4_on_0 15 rfl rfl)
theorem dX4_on_17 : decode cX4_on 17 = .ok (.iload_n 1, 1) := dk_27 (dk_at dksX4_on_0 17 rfl rfl)
theorem dX4_on_18 : decode cX4_on 18 = .ok (.imul, 1) := dk_104 (dk_at dksX4_on_0 18 rfl rfl)
theorem dX4_on_19 : decode cX4_on 19 = .ok (.iload_n 3, 1) := dk_29 (dk_at dksX4_on_0 19 rfl rfl)
theorem dX4_on_20 : decode cX4_on 20 = .ok (.iadd, 1) := dk_96 (dk_at dksX4_on_0 20 rfl rfl)
theorem dX4_on_21 : decode cX4_on 21 = .ok (.iaload, 1) := dk_46 (dk_at dksX4_on_0 21 rfl rfl)
theorem dX4_on_22 : decode cX4_on 22 = .ok (.iadd, 1) := dk_96 (dk_at dksX4_on_0 22 rfl rfl)
theorem dX4_on_23 : decode cX4_on 23 = .ok (.istore_n 2, 1) := dk_61 (dk_at dksX4_on_0 23 rfl rfl)
theorem dX4_on_24 : decode cX4_on 24 = .ok (.iinc 3 1, 3) := dk_132 3 1 (dk_at dksX4_on_1 0 rfl rfl)
theorem dX4_on_27 : decode cX4_on 27 = .ok (.goto (-23), 3) := dk_167 255 233 (dk_at dksX4_on_1 3 rfl rfl)
theorem dX4_on_30 : decode cX4_on 30 = .ok (.iload_n 2, 1) := dk_28 (dk_at dksX4_on_1 6 rfl rfl)
theorem dX4_on_31 : decode cX4_on 31 = .ok (.ireturn, 1) := dk_172 (dk_at dksX4_on_1 7 rfl rfl)
abbrev cX4_passes : ByteArray := prog_23_method_9_code
def yX4_passes : MethodName := ⟨RX4, "passes", "(LSecondHelpings$Board;I)V"⟩
def dkwX4_passes_6 : List UInt8 := [180, 0, 49, 4, 96, 181, 0, 49, 177]
abbrev dktX4_passes_6 : List UInt8 := dkwX4_passes_6 ++ []
def dkwX4_passes_5 : List UInt8 := [29, 104, 21, 5, 96, 92, 46, 21, 6, 21, 7, 100, 96, 79, 132, 5, 1, 167, 255, 147, 42, 89]
abbrev dktX4_passes_5 : List UInt8 := dkwX4_passes_5 ++ dktX4_passes_6
def dkwX4_passes_4 : List UInt8 := [42, 180, 0, 15, 21, 5, 92, 46, 21, 6, 21, 7, 100, 96, 79, 167, 0, 23, 42, 180, 0, 9, 16, 6]
abbrev dktX4_passes_4 : List UInt8 := dkwX4_passes_4 ++ dktX4_passes_5
def dkwX4_passes_3 : List UInt8 := [21, 7, 96, 181, 0, 43, 42, 180, 0, 9, 16, 6, 28, 104, 21, 5, 96, 3, 79, 29, 2, 160, 0, 21]
abbrev dktX4_passes_3 : List UInt8 := dkwX4_passes_3 ++ dktX4_passes_4
def dkwX4_passes_2 : List UInt8 := [54, 6, 21, 4, 21, 6, 184, 0, 93, 54, 7, 21, 4, 21, 7, 100, 54, 4, 42, 89, 180, 0, 43]
abbrev dktX4_passes_2 : List UInt8 := dkwX4_passes_2 ++ dktX4_passes_3
def dkwX4_passes_1 : List UInt8 := [54, 5, 21, 5, 43, 180, 0, 90, 162, 0, 106, 42, 180, 0, 9, 16, 6, 28, 104, 21, 5, 96, 46]
abbrev dktX4_passes_1 : List UInt8 := dkwX4_passes_1 ++ dktX4_passes_2
def dkwX4_passes_0 : List UInt8 := [42, 28, 182, 0, 82, 154, 0, 4, 177, 42, 43, 28, 182, 0, 86, 62, 43, 180, 0, 89, 54, 4, 3]
abbrev dktX4_passes_0 : List UInt8 := dkwX4_passes_0 ++ dktX4_passes_1
theorem dksX4_passes_0 : cX4_passes.data.toList.drop 0 = dktX4_passes_0 := by decide +kernel
theorem dksX4_passes_1 : cX4_passes.data.toList.drop 23 = dktX4_passes_1 := dk_seg dksX4_passes_0 23 rfl rfl
theorem dksX4_passes_2 : cX4_passes.data.toList.drop 46 = dktX4_passes_2 := dk_seg dksX4_passes_1 23 rfl rfl
theorem dksX4_passes_3 : cX4_passes.data.toList.drop 69 = dktX4_passes_3 := dk_seg dksX4_passes_2 23 rfl rfl
theorem dksX4_passes_4 : cX4_passes.data.toList.drop 93 = dktX4_passes_4 := dk_seg dksX4_passes_3 24 rfl rfl
theorem dksX4_passes_5 : cX4_passes.data.toList.drop 117 = dktX4_passes_5 := dk_seg dksX4_passes_4 24 rfl rfl
theorem dksX4_passes_6 : cX4_passes.data.toList.drop 139 = dktX4_passes_6 := dk_seg dksX4_passes_5 22 rfl rfl
theorem dX4_passes_0 : decode cX4_passes 0 = .ok (.aload_n 0, 1) := dk_42 (dk_at dksX4_passes_0 0 rfl rfl)
theorem dX4_passes_1 : decode cX4_passes 1 = .ok (.iload_n 2, 1) := dk_28 (dk_at dksX4_passes_0 1 rfl rfl)
theorem dX4_passes_2 : decode cX4_passes 2 = .ok (.invokevirtual 82, 3) := dk_182 0 82 (dk_at dksX4_passes_0 2 rfl rfl)
theorem dX4_passes_5 : decode cX4_passes 5 = .ok (.ifCond .ne 4, 3) := dk_154 0 4 (dk_at dksX4_passes_0 5 rfl rfl)
theorem dX4_passes_8 : decode cX4_passes 8 = .ok (.return_, 1) := dk_177 (dk_at dksX4_passes_0 8 rfl rfl)
theorem dX4_passes_9 : decode cX4_passes 9 = .ok (.aload_n 0, 1) := dk_42 (dk_at dksX4_passes_0 9 rfl rfl)
theorem dX4_passes_10 : decode cX4_passes 10 = .ok (.aload_n 1, 1) := dk_43 (dk_at dksX4_passes_0 10 rfl rfl)
theorem dX4_passes_11 : decode cX4_passes 11 = .ok (.iload_n 2, 1) := dk_28 (dk_at dksX4_passes_0 11 rfl rfl)
theorem dX4_passes_12 : decode cX4_passes 12 = .ok (.invokevirtual 86, 3) := dk_182 0 86 (dk_at dksX4_passes_0 12 rfl rfl)
theorem dX4_passes_15 : decode cX4_passes 15 = .ok (.istore_n 3, 1) := dk_62 (dk_at dksX4_passes_0 15 rfl rfl)
theorem dX4_passes_16 : decode cX4_passes 16 = .ok (.aload_n 1, 1) := dk_43 (dk_at dksX4_passes_0 16 rfl rfl)
theorem dX4_passes_17 : decode cX4_passes 17 = .ok (.getfield 89, 3) := dk_180 0 89 (dk_at dksX4_passes_0 17 rfl rfl)
theorem dX4_passes_20 : decode cX4_passes 20 = .ok (.istore 4, 2) := dk_54 4 (dk_at dksX4_passes_0 20 rfl rfl)
theorem dX4_passes_22 : decode cX4_passes 22 = .ok (.iconst 0, 1) := dk_3 (dk_at dksX4_passes_0 22 rfl rfl)
theorem dX4_passes_23 : decode cX4_passes 23 = .ok (.istore 5, 2) := dk_54 5 (dk_at dksX4_passes_1 0 rfl rfl)
theorem dX4_passes_25 : decode cX4_passes 25 = .ok (.iload 5, 2) := dk_21 5 (dk_at dksX4_passes_1 2 rfl rfl)
theorem dX4_passes_27 : decode cX4_passes 27 = .ok (.aload_n 1, 1) := dk_43 (dk_at dksX4_passes_1 4 rfl rfl)
theorem dX4_passes_28 : decode cX4_passes 28 = .ok (.getfield 90, 3) := dk_180 0 90 (dk_at dksX4_passes_1 5 rfl rfl)
theorem dX4_passes_31 : decode cX4_passes 31 = .ok (.if_icmp .ge 106, 3) := dk_162 0 106 (dk_at dksX4_passes_1 8 rfl rfl)
theorem dX4_passes_34 : decode cX4_passes 34 = .ok (.aload_n 0, 1) := dk_42 (dk_at dksX4_passes_1 11 rfl rfl)
theorem dX4_passes_35 : decode cX4_passes 35 = .ok (.getfield 9, 3) := dk_180 0 9 (dk_at dksX4_passes_1 12 rfl rfl)
theorem dX4_passes_38 : decode cX4_passes 38 = .ok (.bipush 6, 2) := dk_16 6 (dk_at dksX4_passes_1 15 rfl rfl)
theorem dX4_passes_40 : decode cX4_passes 40 = .ok (.iload_n 2, 1) := dk_28 (dk_at dksX4_passes_1 17 rfl rfl)
theorem dX4_passes_41 : decode cX4_passes 41 = .ok (.imul, 1) := dk_104 (dk_at dksX4_passes_1 18 rfl rfl)
theorem dX4_passes_42 : decode cX4_passes 42 = .ok (.iload 5, 2) := dk_21 5 (dk_at dksX4_passes_1 19 rfl rfl)
theorem dX4_passes_44 : decode cX4_passes 44 = .ok (.iadd, 1) := dk_96 (dk_at dksX4_passes_1 21 rfl rfl)
theorem dX4_passes_45 : decode cX4_passes 45 = .ok (.iaload, 1) := dk_46 (dk_at dksX4_passes_1 22 rfl rfl)
theorem dX4_passes_46 : decode cX4_passes 46 = .ok (.istore 6, 2) := dk_54 6 (dk_at dksX4_passes_2 0 rfl rfl)
theorem dX4_passes_48 : decode cX4_passes 48 = .ok (.iload 4, 2) := dk_21 4 (dk_at dksX4_passes_2 2 rfl rfl)
theorem dX4_passes_50 : decode cX4_passes 50 = .ok (.iload 6, 2) := dk_21 6 (dk_at dksX4_passes_2 4 rfl rfl)
theorem dX4_passes_52 : decode cX4_passes 52 = .ok (.invokestatic 93, 3) := dk_184 0 93 (dk_at dksX4_passes_2 6 rfl rfl)
theorem dX4_passes_55 : decode cX4_passes 55 = .ok (.istore 7, 2) := dk_54 7 (dk_at dksX4_passes_2 9 rfl rfl)
theorem dX4_passes_57 : decode cX4_passes 57 = .ok (.iload 4, 2) := dk_21 4 (dk_at dksX4_passes_2 11 rfl rfl)
theorem dX4_passes_59 : decode cX4_passes 59 = .ok (.iload 7, 2) := dk_21 7 (dk_at dksX4_passes_2 13 rfl rfl)
theorem dX4_passes_61 : decode cX4_passes 61 = .ok (.isub, 1) := dk_100 (dk_at dksX4_passes_2 15 rfl rfl)
theorem dX4_passes_62 : decode cX4_passes 62 = .ok (.istore 4, 2) := dk_54 4 (dk_at dksX4_passes_2 16 rfl rfl)
theorem dX4_passes_64 : decode cX4_passes 64 = .ok (.aload_n 0, 1) := dk_42 (dk_at dksX4_passes_2 18 rfl rfl)
theorem dX4_passes_65 : decode cX4_passes 65 = .ok (.dup, 1) := dk_89 (dk_at dksX4_passes_2 19 rfl rfl)
theorem dX4_passes_66 : decode cX4_passes 66 = .ok (.getfield 43, 3) := dk_180 0 43 (dk_at dksX4_passes_2 20 rfl rfl)
theorem dX4_passes_69 : decode cX4_passes 69 = .ok (.iload 7, 2) := dk_21 7 (dk_at dksX4_passes_3 0 rfl rfl)
theorem dX4_passes_71 : decode cX4_passes 71 = .ok (.iadd, 1) := dk_96 (dk_at dksX4_passes_3 2 rfl rfl)
theorem dX4_passes_72 : decode cX4_passes 72 = .ok (.putfield 43, 3) := dk_181 0 43 (dk_at dksX4_passes_3 3 rfl rfl)
theorem dX4_passes_75 : decode cX4_passes 75 = .ok (.aload_n 0, 1) := dk_42 (dk_at dksX4_passes_3 6 rfl rfl)
theorem dX4_passes_76 : decode cX4_passes 76 = .ok (.getfield 9, 3) := dk_180 0 9 (dk_at dksX4_passes_3 7 rfl rfl)
theorem dX4_passes_79 : decode cX4_passes 79 = .ok (.bipush 6, 2) := dk_16 6 (dk_at dksX4_passes_3 10 rfl rfl)
theorem dX4_passes_81 : decode cX4_passes 81 = .ok (.iload_n 2, 1) := dk_28 (dk_at dksX4_passes_3 12 rfl rfl)
theorem dX4_passes_82 : decode cX4_passes 82 = .ok (.imul, 1) := dk_104 (dk_at dksX4_passes_3 13 rfl rfl)
theorem dX4_passes_83 : decode cX4_passes 83 = .ok (.iload 5, 2) := dk_21 5 (dk_at dksX4_passes_3 14 rfl rfl)
theorem dX4_passes_85 : decode cX4_passes 85 = .ok (.iadd, 1) := dk_96 (dk_at dksX4_passes_3 16 rfl rfl)
theorem dX4_passes_86 : decode cX4_passes 86 = .ok (.iconst 0, 1) := dk_3 (dk_at dksX4_passes_3 17 rfl rfl)
theorem dX4_passes_87 : decode cX4_passes 87 = .ok (.iastore, 1) := dk_79 (dk_at dksX4_passes_3 18 rfl rfl)
theorem dX4_passes_88 : decode cX4_passes 88 = .ok (.iload_n 3, 1) := dk_29 (dk_at dksX4_passes_3 19 rfl rfl)
theorem dX4_passes_89 : decode cX4_passes 89 = .ok (.iconst (-1), 1) := dk_2 (dk_at dksX4_passes_3 20 rfl rfl)
theorem dX4_passes_90 : decode cX4_passes 90 = .ok (.if_icmp .ne 21, 3) := dk_160 0 21 (dk_at dksX4_passes_3 21 rfl rfl)
theorem dX4_passes_93 : decode cX4_passes 93 = .ok (.aload_n 0, 1) := dk_42 (dk_at dksX4_passes_4 0 rfl rfl)
theorem dX4_passes_94 : decode cX4_passes 94 = .ok (.getfield 15, 3) := dk_180 0 15 (dk_at dksX4_passes_4 1 rfl rfl)
theorem dX4_passes_97 : decode cX4_passes 97 = .ok (.iload 5, 2) := dk_21 5 (dk_at dksX4_passes_4 4 rfl rfl)
theorem dX4_passes_99 : decode cX4_passes 99 = .ok (.dup2, 1) := dk_92 (dk_at dksX4_passes_4 6 rfl rfl)
theorem dX4_passes_100 : decode cX4_passes 100 = .ok (.iaload, 1) := dk_46 (dk_at dksX4_passes_4 7 rfl rfl)
theorem dX4_passes_101 : decode cX4_passes 101 = .ok (.iload 6, 2) := dk_21 6 (dk_at dksX4_passes_4 8 rfl rfl)
theorem dX4_passes_103 : decode cX4_passes 103 = .ok (.iload 7, 2) := dk_21 7 (dk_at dksX4_passes_4 10 rfl rfl)
theorem dX4_passes_105 : decode cX4_passes 105 = .ok (.isub, 1) := dk_100 (dk_at dksX4_passes_4 12 rfl rfl)
theorem dX4_passes_106 : decode cX4_passes 106 = .ok (.iadd, 1) := dk_96 (dk_at dksX4_passes_4 13 rfl rfl)
theorem dX4_passes_107 : decode cX4_passes 107 = .ok (.iastore, 1) := dk_79 (dk_at dksX4_passes_4 14 rfl rfl)
theorem dX4_passes_108 : decode cX4_passes 108 = .ok (.goto 23, 3) := dk_167 0 23 (dk_at dksX4_passes_4 15 rfl rfl)
theorem dX4_passes_111 : decode cX4_passes 111 = .ok (.aload_n 0, 1) := dk_42 (dk_at dksX4_passes_4 18 rfl rfl)
theorem dX4_passes_112 : decode cX4_passes 112 = .ok (.getfield 9, 3) := dk_180 0 9 (dk_at dksX4_passes_4 19 rfl rfl)
theorem dX4_passes_115 : decode cX4_passes 115 = .ok (.bipush 6, 2) := dk_16 6 (dk_at dksX4_passes_4 22 rfl rfl)
theorem dX4_passes_117 : decode cX4_passes 117 = .ok (.iload_n 3, 1) := dk_29 (dk_at dksX4_passes_5 0 rfl rfl)
theorem dX4_passes_118 : decode cX4_passes 118 = .ok (.imul, 1) := dk_104 (dk_at dksX4_passes_5 1 rfl rfl)
theorem dX4_passes_119 : decode cX4_passes 119 = .ok (.iload 5, 2) := dk_21 5 (dk_at dksX4_passes_5 2 rfl rfl)
theorem dX4_passes_121 : decode cX4_passes 121 = .ok (.iadd, 1) := dk_96 (dk_at dksX4_passes_5 4 rfl rfl)
theorem dX4_passes_122 : decode cX4_passes 122 = .ok (.dup2, 1) := dk_92 (dk_at dksX4_passes_5 5 rfl rfl)
theorem dX4_passes_123 : decode cX4_passes 123 = .ok (.iaload, 1) := dk_46 (dk_at dksX4_passes_5 6 rfl rfl)
theorem dX4_passes_124 : decode cX4_passes 124 = .ok (.iload 6, 2) := dk_21 6 (dk_at dksX4_passes_5 7 rfl rfl)
theorem dX4_passes_126 : decode cX4_passes 126 = .ok (.iload 7, 2) := dk_21 7 (dk_at dksX4_passes_5 9 rfl rfl)
theorem dX4_passes_128 : decode cX4_passes 128 = .ok (.isub, 1) := dk_100 (dk_at dksX4_passes_5 11 rfl rfl)
theorem dX4_passes_129 : decode cX4_passes 129 = .ok (.iadd, 1) := dk_96 (dk_at dksX4_passes_5 12 rfl rfl)
theorem dX4_passes_130 : decode cX4_passes 130 = .ok (.iastore, 1) := dk_79 (dk_at dksX4_passes_5 13 rfl rfl)
theorem dX4_passes_131 : decode cX4_passes 131 = .ok (.iinc 5 1, 3) := dk_132 5 1 (dk_at dksX4_passes_5 14 rfl rfl)
theorem dX4_passes_134 : decode cX4_passes 134 = .ok (.goto (-109), 3) := dk_167 255 147 (dk_at dksX4_passes_5 17 rfl rfl)
theorem dX4_passes_137 : decode cX4_passes 137 = .ok (.aload_n 0, 1) := dk_42 (dk_at dksX4_passes_5 20 rfl rfl)
theorem dX4_passes_138 : decode cX4_passes 138 = .ok (.dup, 1) := dk_89 (dk_at dksX4_passes_5 21 rfl rfl)
theorem dX4_passes_139 : decode cX4_passes 139 = .ok (.getfield 49, 3) := dk_180 0 49 (dk_at dksX4_passes_6 0 rfl rfl)
theorem dX4_passes_142 : decode cX4_passes 142 = .ok (.iconst 1, 1) := dk_4 (dk_at dksX4_passes_6 3 rfl rfl)
theorem dX4_passes_143 : decode cX4_passes 143 = .ok (.iadd, 1) := dk_96 (dk_at dksX4_passes_6 4 rfl rfl)
theorem dX4_passes_144 : decode cX4_passes 144 = .ok (.putfield 49, 3) := dk_181 0 49 (dk_at dksX4_passes_6 5 rfl rfl)
theorem dX4_passes_147 : decode cX4_passes 147 = .ok (.return_, 1) := dk_177 (dk_at dksX4_passes_6 8 rfl rfl)
abbrev cX4_heir : ByteArray := prog_23_method_8_code
def yX4_heir : MethodName := ⟨RX4, "heir", "(LSecondHelpings$Board;I)I"⟩
def dkwX4_heir_0 : List UInt8 := [42, 43, 28, 42, 180, 0, 37, 42, 180, 0, 40, 128, 182, 0, 79, 172]
abbrev dktX4_heir_0 : List UInt8 := dkwX4_heir_0 ++ []
theorem dksX4_heir_0 : cX4_heir.data.toList.drop 0 = dktX4_heir_0 := by decide +kernel
theorem dX4_heir_0 : decode cX4_heir 0 = .ok (.aload_n 0, 1) := dk_42 (dk_at dksX4_heir_0 0 rfl rfl)
theorem dX4_heir_1 : decode cX4_heir 1 = .ok (.aload_n 1, 1) := dk_43 (dk_at dksX4_heir_0 1 rfl rfl)
theorem dX4_heir_2 : decode cX4_heir 2 = .ok (.iload_n 2, 1) := dk_28 (dk_at dksX4_heir_0 2 rfl rfl)
theorem dX4_heir_3 : decode cX4_heir 3 = .ok (.aload_n 0, 1) := dk_42 (dk_at dksX4_heir_0 3 rfl rfl)
theorem dX4_heir_4 : decode cX4_heir 4 = .ok (.getfield 37, 3) := dk_180 0 37 (dk_at dksX4_heir_0 4 rfl rfl)
theorem dX4_heir_7 : decode cX4_heir 7 = .ok (.aload_n 0, 1) := dk_42 (dk_at dksX4_heir_0 7 rfl rfl)
theorem dX4_heir_8 : decode cX4_heir 8 = .ok (.getfield 40, 3) := dk_180 0 40 (dk_at dksX4_heir_0 8 rfl rfl)
theorem dX4_heir_11 : decode cX4_heir 11 = .ok (.ior, 1) := dk_128 (dk_at dksX4_heir_0 11 rfl rfl)
theorem dX4_heir_12 : decode cX4_heir 12 = .ok (.invokevirtual 79, 3) := dk_182 0 79 (dk_at dksX4_heir_0 12 rfl rfl)
theorem dX4_heir_15 : decode cX4_heir 15 = .ok (.ireturn, 1) := dk_172 (dk_at dksX4_heir_0 15 rfl rfl)
abbrev cX4_heir_2 : ByteArray := prog_23_method_7_code
def yX4_heir_2 : MethodName := ⟨RX4, "heir", "(LSecondHelpings$Board;II)I"⟩
def dkwX4_heir_2_5 : List UInt8 := [21, 4, 172, 132, 4, 1, 167, 255, 221, 42, 43, 28, 29, 182, 0, 75, 172]
abbrev dktX4_heir_2_5 : List UInt8 := dkwX4_heir_2_5 ++ []
def dkwX4_heir_2_4 : List UInt8 := [162, 0, 32, 43, 180, 0, 72, 21, 4, 46, 28, 160, 0, 15, 29, 21, 4, 184, 0, 62, 154, 0, 6]
abbrev dktX4_heir_2_4 : List UInt8 := dkwX4_heir_2_4 ++ dktX4_heir_2_5
def dkwX4_heir_2_3 : List UInt8 := [167, 255, 202, 21, 4, 172, 43, 180, 0, 69, 4, 160, 0, 44, 3, 54, 4, 21, 4, 43, 180, 0, 66]
abbrev dktX4_heir_2_3 : List UInt8 := dkwX4_heir_2_3 ++ dktX4_heir_2_4
def dkwX4_heir_2_2 : List UInt8 := [180, 0, 18, 21, 5, 46, 42, 180, 0, 18, 21, 4, 46, 162, 0, 7, 21, 5, 54, 4, 132, 5, 1]
abbrev dktX4_heir_2_2 : List UInt8 := dkwX4_heir_2_2 ++ dktX4_heir_2_3
def dkwX4_heir_2_1 : List UInt8 := [21, 5, 28, 159, 0, 39, 29, 21, 5, 184, 0, 62, 154, 0, 30, 21, 4, 2, 159, 0, 20, 42]
abbrev dktX4_heir_2_1 : List UInt8 := dkwX4_heir_2_1 ++ dktX4_heir_2_2
def dkwX4_heir_2_0 : List UInt8 := [43, 180, 0, 69, 5, 160, 0, 69, 2, 54, 4, 3, 54, 5, 21, 5, 43, 180, 0, 66, 162, 0, 51]
abbrev dktX4_heir_2_0 : List UInt8 := dkwX4_heir_2_0 ++ dktX4_heir_2_1
theorem dksX4_heir_2_0 : cX4_heir_2.data.toList.drop 0 = dktX4_heir_2_0 := by decide +kernel
theorem dksX4_heir_2_1 : cX4_heir_2.data.toList.drop 23 = dktX4_heir_2_1 := dk_seg dksX4_heir_2_0 23 rfl rfl
theorem dksX4_heir_2_2 : cX4_heir_2.data.toList.drop 45 = dktX4_heir_2_2 := dk_seg dksX4_heir_2_1 22 rfl rfl
theorem dksX4_heir_2_3 : cX4_heir_2.data.toList.drop 68 = dktX4_heir_2_3 := dk_seg dksX4_heir_2_2 23 rfl rfl
theorem dksX4_heir_2_4 : cX4_heir_2.data.toList.drop 91 = dktX4_heir_2_4 := dk_seg dksX4_heir_2_3 23 rfl rfl
theorem dksX4_heir_2_5 : cX4_heir_2.data.toList.drop 114 = dktX4_heir_2_5 := dk_seg dksX4_heir_2_4 23 rfl rfl
theorem dX4_heir_2_0 : decode cX4_heir_2 0 = .ok (.aload_n 1, 1) := dk_43 (dk_at dksX4_heir_2_0 0 rfl rfl)
theorem dX4_heir_2_1 : decode cX4_heir_2 1 = .ok (.getfield 69, 3) := dk_180 0 69 (dk_at dksX4_heir_2_0 1 rfl rfl)
theorem dX4_heir_2_4 : decode cX4_heir_2 4 = .ok (.iconst 2, 1) := dk_5 (dk_at dksX4_heir_2_0 4 rfl rfl)
theorem dX4_heir_2_5 : decode cX4_heir_2 5 = .ok (.if_icmp .ne 69, 3) := dk_160 0 69 (dk_at dksX4_heir_2_0 5 rfl rfl)
theorem dX4_heir_2_8 : decode cX4_heir_2 8 = .ok (.iconst (-1), 1) := dk_2 (dk_at dksX4_heir_2_0 8 rfl rfl)
theorem dX4_heir_2_9 : decode cX4_heir_2 9 = .ok (.istore 4, 2) := dk_54 4 (dk_at dksX4_heir_2_0 9 rfl rfl)
theorem dX4_heir_2_11 : decode cX4_heir_2 11 = .ok (.iconst 0, 1) := dk_3 (dk_at dksX4_heir_2_0 11 rfl rfl)
theorem dX4_heir_2_12 : decode cX4_heir_2 12 = .ok (.istore 5, 2) := dk_54 5 (dk_at dksX4_heir_2_0 12 rfl rfl)
theorem dX4_heir_2_14 : decode cX4_heir_2 14 = .ok (.iload 5, 2) := dk_21 5 (dk_at dksX4_heir_2_0 14 rfl rfl)
theorem dX4_heir_2_16 : decode cX4_heir_2 16 = .ok (.aload_n 1, 1) := dk_43 (dk_at dksX4_heir_2_0 16 rfl rfl)
theorem dX4_heir_2_17 : decode cX4_heir_2 17 = .ok (.getfield 66, 3) := dk_180 0 66 (dk_at dksX4_heir_2_0 17 rfl rfl)
theorem dX4_heir_2_20 : decode cX4_heir_2 20 = .ok (.if_icmp .ge 51, 3) := dk_162 0 51 (dk_at dksX4_heir_2_0 20 rfl rfl)
theorem dX4_heir_2_23 : decode cX4_heir_2 23 = .ok (.iload 5, 2) := dk_21 5 (dk_at dksX4_heir_2_1 0 rfl rfl)
theorem dX4_heir_2_25 : decode cX4_heir_2 25 = .ok (.iload_n 2, 1) := dk_28 (dk_at dksX4_heir_2_1 2 rfl rfl)
theorem dX4_heir_2_26 : decode cX4_heir_2 26 = .ok (.if_icmp .eq 39, 3) := dk_159 0 39 (dk_at dksX4_heir_2_1 3 rfl rfl)
theorem dX4_heir_2_29 : decode cX4_heir_2 29 = .ok (.iload_n 3, 1) := dk_29 (dk_at dksX4_heir_2_1 6 rfl rfl)
theorem dX4_heir_2_30 : decode cX4_heir_2 30 = .ok (.iload 5, 2) := dk_21 5 (dk_at dksX4_heir_2_1 7 rfl rfl)
theorem dX4_heir_2_32 : decode cX4_heir_2 32 = .ok (.invokestatic 62, 3) := dk_184 0 62 (dk_at dksX4_heir_2_1 9 rfl rfl)
theorem dX4_heir_2_35 : decode cX4_heir_2 35 = .ok (.ifCond .ne 30, 3) := dk_154 0 30 (dk_at dksX4_heir_2_1 12 rfl rfl)
theorem dX4_heir_2_38 : decode cX4_heir_2 38 = .ok (.iload 4, 2) := dk_21 4 (dk_at dksX4_heir_2_1 15 rfl rfl)
theorem dX4_heir_2_40 : decode cX4_heir_2 40 = .ok (.iconst (-1), 1) := dk_2 (dk_at dksX4_heir_2_1 17 rfl rfl)
theorem dX4_heir_2_41 : decode cX4_heir_2 41 = .ok (.if_icmp .eq 20, 3) := dk_159 0 20 (dk_at dksX4_heir_2_1 18 rfl rfl)
theorem dX4_heir_2_44 : decode cX4_heir_2 44 = .ok (.aload_n 0, 1) := dk_42 (dk_at dksX4_heir_2_1 21 rfl rfl)
theorem dX4_heir_2_45 : decode cX4_heir_2 45 = .ok (.getfield 18, 3) := dk_180 0 18 (dk_at dksX4_heir_2_2 0 rfl rfl)
theorem dX4_heir_2_48 : decode cX4_heir_2 48 = .ok (.iload 5, 2) := dk_21 5 (dk_at dksX4_heir_2_2 3 rfl rfl)
theorem dX4_heir_2_50 : decode cX4_heir_2 50 = .ok (.iaload, 1) := dk_46 (dk_at dksX4_heir_2_2 5 rfl rfl)
theorem dX4_heir_2_51 : decode cX4_heir_2 51 = .ok (.aload_n 0, 1) := dk_42 (dk_at dksX4_heir_2_2 6 rfl rfl)
theorem dX4_heir_2_52 : decode cX4_heir_2 52 = .ok (.getfield 18, 3) := dk_180 0 18 (dk_at dksX4_heir_2_2 7 rfl rfl)
theorem dX4_heir_2_55 : decode cX4_heir_2 55 = .ok (.iload 4, 2) := dk_21 4 (dk_at dksX4_heir_2_2 10 rfl rfl)
theorem dX4_heir_2_57 : decode cX4_heir_2 57 = .ok (.iaload, 1) := dk_46 (dk_at dksX4_heir_2_2 12 rfl rfl)
theorem dX4_heir_2_58 : decode cX4_heir_2 58 = .ok (.if_icmp .ge 7, 3) := dk_162 0 7 (dk_at dksX4_heir_2_2 13 rfl rfl)
theorem dX4_heir_2_61 : decode cX4_heir_2 61 = .ok (.iload 5, 2) := dk_21 5 (dk_at dksX4_heir_2_2 16 rfl rfl)
theorem dX4_heir_2_63 : decode cX4_heir_2 63 = .ok (.istore 4, 2) := dk_54 4 (dk_at dksX4_heir_2_2 18 rfl rfl)
theorem dX4_heir_2_65 : decode cX4_heir_2 65 = .ok (.iinc 5 1, 3) := dk_132 5 1 (dk_at dksX4_heir_2_2 20 rfl rfl)
theorem dX4_heir_2_68 : decode cX4_heir_2 68 = .ok (.goto (-54), 3) := dk_167 255 202 (dk_at dksX4_heir_2_3 0 rfl rfl)
theorem dX4_heir_2_71 : decode cX4_heir_2 71 = .ok (.iload 4, 2) := dk_21 4 (dk_at dksX4_heir_2_3 3 rfl rfl)
theorem dX4_heir_2_73 : decode cX4_heir_2 73 = .ok (.ireturn, 1) := dk_172 (dk_at dksX4_heir_2_3 5 rfl rfl)
theorem dX4_heir_2_74 : decode cX4_heir_2 74 = .ok (.aload_n 1, 1) := dk_43 (dk_at dksX4_heir_2_3 6 rfl rfl)
theorem dX4_heir_2_75 : decode cX4_heir_2 75 = .ok (.getfield 69, 3) := dk_180 0 69 (dk_at dksX4_heir_2_3 7 rfl rfl)
theorem dX4_heir_2_78 : decode cX4_heir_2 78 = .ok (.iconst 1, 1) := dk_4 (dk_at dksX4_heir_2_3 10 rfl rfl)
theorem dX4_heir_2_79 : decode cX4_heir_2 79 = .ok (.if_icmp .ne 44, 3) := dk_160 0 44 (dk_at dksX4_heir_2_3 11 rfl rfl)
theorem dX4_heir_2_82 : decode cX4_heir_2 82 = .ok (.iconst 0, 1) := dk_3 (dk_at dksX4_heir_2_3 14 rfl rfl)
theorem dX4_heir_2_83 : decode cX4_heir_2 83 = .ok (.istore 4, 2) := dk_54 4 (dk_at dksX4_heir_2_3 15 rfl rfl)
theorem dX4_heir_2_85 : decode cX4_heir_2 85 = .ok (.iload 4, 2) := dk_21 4 (dk_at dksX4_heir_2_3 17 rfl rfl)
theorem dX4_heir_2_87 : decode cX4_heir_2 87 = .ok (.aload_n 1, 1) := dk_43 (dk_at dksX4_heir_2_3 19 rfl rfl)
theorem dX4_heir_2_88 : decode cX4_heir_2 88 = .ok (.getfield 66, 3) := dk_180 0 66 (dk_at dksX4_heir_2_3 20 rfl rfl)
theorem dX4_heir_2_91 : decode cX4_heir_2 91 = .ok (.if_icmp .ge 32, 3) := dk_162 0 32 (dk_at dksX4_heir_2_4 0 rfl rfl)
theorem dX4_heir_2_94 : decode cX4_heir_2 94 = .ok (.aload_n 1, 1) := dk_43 (dk_at dksX4_heir_2_4 3 rfl rfl)
theorem dX4_heir_2_95 : decode cX4_heir_2 95 = .ok (.getfield 72, 3) := dk_180 0 72 (dk_at dksX4_heir_2_4 4 rfl rfl)
theorem dX4_heir_2_98 : decode cX4_heir_2 98 = .ok (.iload 4, 2) := dk_21 4 (dk_at dksX4_heir_2_4 7 rfl rfl)
theorem dX4_heir_2_100 : decode cX4_heir_2 100 = .ok (.iaload, 1) := dk_46 (dk_at dksX4_heir_2_4 9 rfl rfl)
theorem dX4_heir_2_101 : decode cX4_heir_2 101 = .ok (.iload_n 2, 1) := dk_28 (dk_at dksX4_heir_2_4 10 rfl rfl)
theorem dX4_heir_2_102 : decode cX4_heir_2 102 = .ok (.if_icmp .ne 15, 3) := dk_160 0 15 (dk_at dksX4_heir_2_4 11 rfl rfl)
theorem dX4_heir_2_105 : decode cX4_heir_2 105 = .ok (.iload_n 3, 1) := dk_29 (dk_at dksX4_heir_2_4 14 rfl rfl)
theorem dX4_heir_2_106 : decode cX4_heir_2 106 = .ok (.iload 4, 2) := dk_21 4 (dk_at dksX4_heir_2_4 15 rfl rfl)
theorem dX4_heir_2_108 : decode cX4_heir_2 108 = .ok (.invokestatic 62, 3) := dk_184 0 62 (dk_at dksX4_heir_2_4 17 rfl rfl)
theorem dX4_heir_2_111 : decode cX4_heir_2 111 = .ok (.ifCond .ne 6, 3) := dk_154 0 6 (dk_at dksX4_heir_2_4 20 rfl rfl)
theorem dX4_heir_2_114 : decode cX4_heir_2 114 = .ok (.iload 4, 2) := dk_21 4 (dk_at dksX4_heir_2_5 0 rfl rfl)
theorem dX4_heir_2_116 : decode cX4_heir_2 116 = .ok (.ireturn, 1) := dk_172 (dk_at dksX4_heir_2_5 2 rfl rfl)
theorem dX4_heir_2_117 : decode cX4_heir_2 117 = .ok (.iinc 4 1, 3) := dk_132 4 1 (dk_at dksX4_heir_2_5 3 rfl rfl)
theorem dX4_heir_2_120 : decode cX4_heir_2 120 = .ok (.goto (-35), 3) := dk_167 255 221 (dk_at dksX4_heir_2_5 6 rfl rfl)
theorem dX4_heir_2_123 : decode cX4_heir_2 123 = .ok (.aload_n 0, 1) := dk_42 (dk_at dksX4_heir_2_5 9 rfl rfl)
theorem dX4_heir_2_124 : decode cX4_heir_2 124 = .ok (.aload_n 1, 1) := dk_43 (dk_at dksX4_heir_2_5 10 rfl rfl)
theorem dX4_heir_2_125 : decode cX4_heir_2 125 = .ok (.iload_n 2, 1) := dk_28 (dk_at dksX4_heir_2_5 11 rfl rfl)
theorem dX4_heir_2_126 : decode cX4_heir_2 126 = .ok (.iload_n 3, 1) := dk_29 (dk_at dksX4_heir_2_5 12 rfl rfl)
theorem dX4_heir_2_127 : decode cX4_heir_2 127 = .ok (.invokevirtual 75, 3) := dk_182 0 75 (dk_at dksX4_heir_2_5 13 rfl rfl)
theorem dX4_heir_2_130 : decode cX4_heir_2 130 = .ok (.ireturn, 1) := dk_172 (dk_at dksX4_heir_2_5 16 rfl rfl)
abbrev cX4_nextOf : ByteArray := prog_23_method_6_code
def yX4_nextOf : MethodName := ⟨RX4, "nextOf", "(LSecondHelpings$Board;II)I"⟩
def dkwX4_nextOf_1 : List UInt8 := [184, 0, 62, 154, 0, 13, 28, 21, 4, 96, 43, 180, 0, 66, 112, 172, 132, 4, 1, 167, 255, 218, 2, 172]
abbrev dktX4_nextOf_1 : List UInt8 := dkwX4_nextOf_1 ++ []
def dkwX4_nextOf_0 : List UInt8 := [4, 54, 4, 21, 4, 43, 180, 0, 66, 162, 0, 35, 29, 28, 21, 4, 96, 43, 180, 0, 66, 112]
abbrev dktX4_nextOf_0 : List UInt8 := dkwX4_nextOf_0 ++ dktX4_nextOf_1
theorem dksX4_nextOf_0 : cX4_nextOf.data.toList.drop 0 = dktX4_nextOf_0 := by decide +kernel
theorem dksX4_nextOf_1 : cX4_nextOf.data.toList.drop 22 = dktX4_nextOf_1 := dk_seg dksX4_nextOf_0 22 rfl rfl
theorem dX4_nextOf_0 : decode cX4_nextOf 0 = .ok (.iconst 1, 1) := dk_4 (dk_at dksX4_nextOf_0 0 rfl rfl)
theorem dX4_nextOf_1 : decode cX4_nextOf 1 = .ok (.istore 4, 2) := dk_54 4 (dk_at dksX4_nextOf_0 1 rfl rfl)
theorem dX4_nextOf_3 : decode cX4_nextOf 3 = .ok (.iload 4, 2) := dk_21 4 (dk_at dksX4_nextOf_0 3 rfl rfl)
theorem dX4_nextOf_5 : decode cX4_nextOf 5 = .ok (.aload_n 1, 1) := dk_43 (dk_at dksX4_nextOf_0 5 rfl rfl)
theorem dX4_nextOf_6 : decode cX4_nextOf 6 = .ok (.getfield 66, 3) := dk_180 0 66 (dk_at dksX4_nextOf_0 6 rfl rfl)
theorem dX4_nextOf_9 : decode cX4_nextOf 9 = .ok (.if_icmp .ge 35, 3) := dk_162 0 35 (dk_at dksX4_nextOf_0 9 rfl rfl)
theorem dX4_nextOf_12 : decode cX4_nextOf 12 = .ok (.iload_n 3, 1) := dk_29 (dk_at dksX4_nextOf_0 12 rfl rfl)
theorem dX4_nextOf_13 : decode cX4_nextOf 13 = .ok (.iload_n 2, 1) := dk_28 (dk_at dksX4_nextOf_0 13 rfl rfl)
theorem dX4_nextOf_14 : decode cX4_nextOf 14 = .ok (.iload 4, 2) := dk_21 4 (dk_at dksX4_nextOf_0 14 rfl rfl)
theorem dX4_nextOf_16 : decode cX4_nextOf 16 = .ok (.iadd, 1) := dk_96 (dk_at dksX4_nextOf_0 16 rfl rfl)
theorem dX4_nextOf_17 : decode cX4_nextOf 17 = .ok (.aload_n 1, 1) := dk_43 (dk_at dksX4_nextOf_0 17 rfl rfl)
theorem dX4_nextOf_18 : decode cX4_nextOf 18 = .ok (.getfield 66, 3) := dk_180 0 66 (dk_at dksX4_nextOf_0 18 rfl rfl)
theorem dX4_nextOf_21 : decode cX4_nextOf 21 = .ok (.irem, 1) := dk_112 (dk_at dksX4_nextOf_0 21 rfl rfl)
theorem dX4_nextOf_22 : decode cX4_nextOf 22 = .ok (.invokestatic 62, 3) := dk_184 0 62 (dk_at dksX4_nextOf_1 0 rfl rfl)
theorem dX4_nextOf_25 : decode cX4_nextOf 25 = .ok (.ifCond .ne 13, 3) := dk_154 0 13 (dk_at dksX4_nextOf_1 3 rfl rfl)
theorem dX4_nextOf_28 : decode cX4_nextOf 28 = .ok (.iload_n 2, 1) := dk_28 (dk_at dksX4_nextOf_1 6 rfl rfl)
theorem dX4_nextOf_29 : decode cX4_nextOf 29 = .ok (.iload 4, 2) := dk_21 4 (dk_at dksX4_nextOf_1 7 rfl rfl)
theorem dX4_nextOf_31 : decode cX4_nextOf 31 = .ok (.iadd, 1) := dk_96 (dk_at dksX4_nextOf_1 9 rfl rfl)
theorem dX4_nextOf_32 : decode cX4_nextOf 32 = .ok (.aload_n 1, 1) := dk_43 (dk_at dksX4_nextOf_1 10 rfl rfl)
theorem dX4_nextOf_33 : decode cX4_nextOf 33 = .ok (.getfield 66, 3) := dk_180 0 66 (dk_at dksX4_nextOf_1 11 rfl rfl)
theorem dX4_nextOf_36 : decode cX4_nextOf 36 = .ok (.irem, 1) := dk_112 (dk_at dksX4_nextOf_1 14 rfl rfl)
theorem dX4_nextOf_37 : decode cX4_nextOf 37 = .ok (.ireturn, 1) := dk_172 (dk_at dksX4_nextOf_1 15 rfl rfl)
theorem dX4_nextOf_38 : decode cX4_nextOf 38 = .ok (.iinc 4 1, 3) := dk_132 4 1 (dk_at dksX4_nextOf_1 16 rfl rfl)
theorem dX4_nextOf_41 : decode cX4_nextOf 41 = .ok (.goto (-38), 3) := dk_167 255 218 (dk_at dksX4_nextOf_1 19 rfl rfl)
theorem dX4_nextOf_44 : decode cX4_nextOf 44 = .ok (.iconst (-1), 1) := dk_2 (dk_at dksX4_nextOf_1 22 rfl rfl)
theorem dX4_nextOf_45 : decode cX4_nextOf 45 = .ok (.ireturn, 1) := dk_172 (dk_at dksX4_nextOf_1 23 rfl rfl)
abbrev cX4_whyRefuse : ByteArray := prog_23_method_15_code
def yX4_whyRefuse : MethodName := ⟨RX4, "whyRefuse", "(I)I"⟩
def dkwX4_whyRefuse_1 : List UInt8 := [167, 0, 4, 3, 172]
abbrev dktX4_whyRefuse_1 : List UInt8 := dkwX4_whyRefuse_1 ++ []
def dkwX4_whyRefuse_0 : List UInt8 := [42, 27, 182, 0, 99, 153, 0, 7, 4, 167, 0, 19, 42, 180, 0, 40, 27, 184, 0, 62, 153, 0, 7, 5]
abbrev dktX4_whyRefuse_0 : List UInt8 := dkwX4_whyRefuse_0 ++ dktX4_whyRefuse_1
theorem dksX4_whyRefuse_0 : cX4_whyRefuse.data.toList.drop 0 = dktX4_whyRefuse_0 := by decide +kernel
theorem dksX4_whyRefuse_1 : cX4_whyRefuse.data.toList.drop 24 = dktX4_whyRefuse_1 := dk_seg dksX4_whyRefuse_0 24 rfl rfl
theorem dX4_whyRefuse_0 : decode cX4_whyRefuse 0 = .ok (.aload_n 0, 1) := dk_42 (dk_at dksX4_whyRefuse_0 0 rfl rfl)
theorem dX4_whyRefuse_1 : decode cX4_whyRefuse 1 = .ok (.iload_n 1, 1) := dk_27 (dk_at dksX4_whyRefuse_0 1 rfl rfl)
theorem dX4_whyRefuse_2 : decode cX4_whyRefuse 2 = .ok (.invokevirtual 99, 3) := dk_182 0 99 (dk_at dksX4_whyRefuse_0 2 rfl rfl)
theorem dX4_whyRefuse_5 : decode cX4_whyRefuse 5 = .ok (.ifCond .eq 7, 3) := dk_153 0 7 (dk_at dksX4_whyRefuse_0 5 rfl rfl)
theorem dX4_whyRefuse_8 : decode cX4_whyRefuse 8 = .ok (.iconst 1, 1) := dk_4 (dk_at dksX4_whyRefuse_0 8 rfl rfl)
theorem dX4_whyRefuse_9 : decode cX4_whyRefuse 9 = .ok (.goto 19, 3) := dk_167 0 19 (dk_at dksX4_whyRefuse_0 9 rfl rfl)
theorem dX4_whyRefuse_12 : decode cX4_whyRefuse 12 = .ok (.aload_n 0, 1) := dk_42 (dk_at dksX4_whyRefuse_0 12 rfl rfl)
theorem dX4_whyRefuse_13 : decode cX4_whyRefuse 13 = .ok (.getfield 40, 3) := dk_180 0 40 (dk_at dksX4_whyRefuse_0 13 rfl rfl)
theorem dX4_whyRefuse_16 : decode cX4_whyRefuse 16 = .ok (.iload_n 1, 1) := dk_27 (dk_at dksX4_whyRefuse_0 16 rfl rfl)
theorem dX4_whyRefuse_17 : decode cX4_whyRefuse 17 = .ok (.invokestatic 62, 3) := dk_184 0 62 (dk_at dksX4_whyRefuse_0 17 rfl rfl)
theorem dX4_whyRefuse_20 : decode cX4_whyRefuse 20 = .ok (.ifCond .eq 7, 3) := dk_153 0 7 (dk_at dksX4_whyRefuse_0 20 rfl rfl)
theorem dX4_whyRefuse_23 : decode cX4_whyRefuse 23 = .ok (.iconst 2, 1) := dk_5 (dk_at dksX4_whyRefuse_0 23 rfl rfl)
theorem dX4_whyRefuse_24 : decode cX4_whyRefuse 24 = .ok (.goto 4, 3) := dk_167 0 4 (dk_at dksX4_whyRefuse_1 0 rfl rfl)
theorem dX4_whyRefuse_27 : decode cX4_whyRefuse 27 = .ok (.iconst 0, 1) := dk_3 (dk_at dksX4_whyRefuse_1 3 rfl rfl)
theorem dX4_whyRefuse_28 : decode cX4_whyRefuse 28 = .ok (.ireturn, 1) := dk_172 (dk_at dksX4_whyRefuse_1 4 rfl rfl)
abbrev cX4_whyAccept : ByteArray := prog_23_method_16_code
def yX4_whyAccept : MethodName := ⟨RX4, "whyAccept", "(I)I"⟩
def dkwX4_whyAccept_1 : List UInt8 := [167, 0, 4, 5, 172]
abbrev dktX4_whyAccept_1 : List UInt8 := dkwX4_whyAccept_1 ++ []
def dkwX4_whyAccept_0 : List UInt8 := [42, 27, 182, 0, 99, 153, 0, 7, 4, 167, 0, 19, 42, 180, 0, 40, 27, 184, 0, 62, 153, 0, 7, 3]
abbrev dktX4_whyAccept_0 : List UInt8 := dkwX4_whyAccept_0 ++ dktX4_whyAccept_1
theorem dksX4_whyAccept_0 : cX4_whyAccept.data.toList.drop 0 = dktX4_whyAccept_0 := by decide +kernel
theorem dksX4_whyAccept_1 : cX4_whyAccept.data.toList.drop 24 = dktX4_whyAccept_1 := dk_seg dksX4_whyAccept_0 24 rfl rfl
theorem dX4_whyAccept_0 : decode cX4_whyAccept 0 = .ok (.aload_n 0, 1) := dk_42 (dk_at dksX4_whyAccept_0 0 rfl rfl)
theorem dX4_whyAccept_1 : decode cX4_whyAccept 1 = .ok (.iload_n 1, 1) := dk_27 (dk_at dksX4_whyAccept_0 1 rfl rfl)
theorem dX4_whyAccept_2 : decode cX4_whyAccept 2 = .ok (.invokevirtual 99, 3) := dk_182 0 99 (dk_at dksX4_whyAccept_0 2 rfl rfl)
theorem dX4_whyAccept_5 : decode cX4_whyAccept 5 = .ok (.ifCond .eq 7, 3) := dk_153 0 7 (dk_at dksX4_whyAccept_0 5 rfl rfl)
theorem dX4_whyAccept_8 : decode cX4_whyAccept 8 = .ok (.iconst 1, 1) := dk_4 (dk_at dksX4_whyAccept_0 8 rfl rfl)
theorem dX4_whyAccept_9 : decode cX4_whyAccept 9 = .ok (.goto 19, 3) := dk_167 0 19 (dk_at dksX4_whyAccept_0 9 rfl rfl)
theorem dX4_whyAccept_12 : decode cX4_whyAccept 12 = .ok (.aload_n 0, 1) := dk_42 (dk_at dksX4_whyAccept_0 12 rfl rfl)
theorem dX4_whyAccept_13 : decode cX4_whyAccept 13 = .ok (.getfield 40, 3) := dk_180 0 40 (dk_at dksX4_whyAccept_0 13 rfl rfl)
theorem dX4_whyAccept_16 : decode cX4_whyAccept 16 = .ok (.iload_n 1, 1) := dk_27 (dk_at dksX4_whyAccept_0 16 rfl rfl)
theorem dX4_whyAccept_17 : decode cX4_whyAccept 17 = .ok (.invokestatic 62, 3) := dk_184 0 62 (dk_at dksX4_whyAccept_0 17 rfl rfl)
theorem dX4_whyAccept_20 : decode cX4_whyAccept 20 = .ok (.ifCond .eq 7, 3) := dk_153 0 7 (dk_at dksX4_whyAccept_0 20 rfl rfl)
theorem dX4_whyAccept_23 : decode cX4_whyAccept 23 = .ok (.iconst 0, 1) := dk_3 (dk_at dksX4_whyAccept_0 23 rfl rfl)
theorem dX4_whyAccept_24 : decode cX4_whyAccept 24 = .ok (.goto 4, 3) := dk_167 0 4 (dk_at dksX4_whyAccept_1 0 rfl rfl)
theorem dX4_whyAccept_27 : decode cX4_whyAccept 27 = .ok (.iconst 2, 1) := dk_5 (dk_at dksX4_whyAccept_1 3 rfl rfl)
theorem dX4_whyAccept_28 : decode cX4_whyAccept 28 = .ok (.ireturn, 1) := dk_172 (dk_at dksX4_whyAccept_1 4 rfl rfl)
abbrev cX4_whyDie : ByteArray := prog_23_method_17_code
def yX4_whyDie : MethodName := ⟨RX4, "whyDie", "(I)I"⟩
def dkwX4_whyDie_0 : List UInt8 := [42, 27, 182, 0, 99, 153, 0, 7, 4, 167, 0, 4, 3, 172]
abbrev dktX4_whyDie_0 : List UInt8 := dkwX4_whyDie_0 ++ []
theorem dksX4_whyDie_0 : cX4_whyDie.data.toList.drop 0 = dktX4_whyDie_0 := by decide +kernel
theorem dX4_whyDie_0 : decode cX4_whyDie 0 = .ok (.aload_n 0, 1) := dk_42 (dk_at dksX4_whyDie_0 0 rfl rfl)
theorem dX4_whyDie_1 : decode cX4_whyDie 1 = .ok (.iload_n 1, 1) := dk_27 (dk_at dksX4_whyDie_0 1 rfl rfl)
theorem dX4_whyDie_2 : decode cX4_whyDie 2 = .ok (.invokevirtual 99, 3) := dk_182 0 99 (dk_at dksX4_whyDie_0 2 rfl rfl)
theorem dX4_whyDie_5 : decode cX4_whyDie 5 = .ok (.ifCond .eq 7, 3) := dk_153 0 7 (dk_at dksX4_whyDie_0 5 rfl rfl)
theorem dX4_whyDie_8 : decode cX4_whyDie 8 = .ok (.iconst 1, 1) := dk_4 (dk_at dksX4_whyDie_0 8 rfl rfl)
theorem dX4_whyDie_9 : decode cX4_whyDie 9 = .ok (.goto 4, 3) := dk_167 0 4 (dk_at dksX4_whyDie_0 9 rfl rfl)
theorem dX4_whyDie_12 : decode cX4_whyDie 12 = .ok (.iconst 0, 1) := dk_3 (dk_at dksX4_whyDie_0 12 rfl rfl)
theorem dX4_whyDie_13 : decode cX4_whyDie 13 = .ok (.ireturn, 1) := dk_172 (dk_at dksX4_whyDie_0 13 rfl rfl)
abbrev cX4_die : ByteArray := prog_23_method_18_code
def yX4_die : MethodName := ⟨RX4, "die", "(LSecondHelpings$Board;I)V"⟩
def dkwX4_die_0 : List UInt8 := [42, 89, 180, 0, 37, 4, 28, 120, 128, 181, 0, 37, 42, 43, 28, 182, 0, 106, 177]
abbrev dktX4_die_0 : List UInt8 := dkwX4_die_0 ++ []
theorem dksX4_die_0 : cX4_die.data.toList.drop 0 = dktX4_die_0 := by decide +kernel
theorem dX4_die_0 : decode cX4_die 0 = .ok (.aload_n 0, 1) := dk_42 (dk_at dksX4_die_0 0 rfl rfl)
theorem dX4_die_1 : decode cX4_die 1 = .ok (.dup, 1) := dk_89 (dk_at dksX4_die_0 1 rfl rfl)
theorem dX4_die_2 : decode cX4_die 2 = .ok (.getfield 37, 3) := dk_180 0 37 (dk_at dksX4_die_0 2 rfl rfl)
theorem dX4_die_5 : decode cX4_die 5 = .ok (.iconst 1, 1) := dk_4 (dk_at dksX4_die_0 5 rfl rfl)
theorem dX4_die_6 : decode cX4_die 6 = .ok (.iload_n 2, 1) := dk_28 (dk_at dksX4_die_0 6 rfl rfl)
theorem dX4_die_7 : decode cX4_die 7 = .ok (.ishl, 1) := dk_120 (dk_at dksX4_die_0 7 rfl rfl)
theorem dX4_die_8 : decode cX4_die 8 = .ok (.ior, 1) := dk_128 (dk_at dksX4_die_0 8 rfl rfl)
theorem dX4_die_9 : decode cX4_die 9 = .ok (.putfield 37, 3) := dk_181 0 37 (dk_at dksX4_die_0 9 rfl rfl)
theorem dX4_die_12 : decode cX4_die 12 = .ok (.aload_n 0, 1) := dk_42 (dk_at dksX4_die_0 12 rfl rfl)
theorem dX4_die_13 : decode cX4_die 13 = .ok (.aload_n 1, 1) := dk_43 (dk_at dksX4_die_0 13 rfl rfl)
theorem dX4_die_14 : decode cX4_die 14 = .ok (.iload_n 2, 1) := dk_28 (dk_at dksX4_die_0 14 rfl rfl)
theorem dX4_die_15 : decode cX4_die 15 = .ok (.invokevirtual 106, 3) := dk_182 0 106 (dk_at dksX4_die_0 15 rfl rfl)
theorem dX4_die_18 : decode cX4_die 18 = .ok (.return_, 1) := dk_177 (dk_at dksX4_die_0 18 rfl rfl)
abbrev cX4_meals : ByteArray := prog_23_method_22_code
def yX4_meals : MethodName := ⟨RX4, "meals", "(LSecondHelpings$Board;I)I"⟩
def dkwX4_meals_1 : List UInt8 := [132, 3, 1, 167, 255, 233, 29, 172]
abbrev dktX4_meals_1 : List UInt8 := dkwX4_meals_1 ++ []
def dkwX4_meals_0 : List UInt8 := [3, 62, 29, 28, 162, 0, 24, 42, 180, 0, 33, 17, 0, 200, 162, 0, 14, 42, 43, 182, 0, 117]
abbrev dktX4_meals_0 : List UInt8 := dkwX4_meals_0 ++ dktX4_meals_1
theorem dksX4_meals_0 : cX4_meals.data.toList.drop 0 = dktX4_meals_0 := by decide +kernel
theorem dksX4_meals_1 : cX4_meals.data.toList.drop 22 = dktX4_meals_1 := dk_seg dksX4_meals_0 22 rfl rfl
theorem dX4_meals_0 : decode cX4_meals 0 = .ok (.iconst 0, 1) := dk_3 (dk_at dksX4_meals_0 0 rfl rfl)
theorem dX4_meals_1 : decode cX4_meals 1 = .ok (.istore_n 3, 1) := dk_62 (dk_at dksX4_meals_0 1 rfl rfl)
theorem dX4_meals_2 : decode cX4_meals 2 = .ok (.iload_n 3, 1) := dk_29 (dk_at dksX4_meals_0 2 rfl rfl)
theorem dX4_meals_3 : decode cX4_meals 3 = .ok (.iload_n 2, 1) := dk_28 (dk_at dksX4_meals_0 3 rfl rfl)
theorem dX4_meals_4 : decode cX4_meals 4 = .ok (.if_icmp .ge 24, 3) := dk_162 0 24 (dk_at dksX4_meals_0 4 rfl rfl)
theorem dX4_meals_7 : decode cX4_meals 7 = .ok (.aload_n 0, 1) := dk_42 (dk_at dksX4_meals_0 7 rfl rfl)
theorem dX4_meals_8 : decode cX4_meals 8 = .ok (.getfield 33, 3) := dk_180 0 33 (dk_at dksX4_meals_0 8 rfl rfl)
theorem dX4_meals_11 : decode cX4_meals 11 = .ok (.sipush 200, 3) := dk_17 0 200 (dk_at dksX4_meals_0 11 rfl rfl)
theorem dX4_meals_14 : decode cX4_meals 14 = .ok (.if_icmp .ge 14, 3) := dk_162 0 14 (dk_at dksX4_meals_0 14 rfl rfl)
theorem dX4_meals_17 : decode cX4_meals 17 = .ok (.aload_n 0, 1) := dk_42 (dk_at dksX4_meals_0 17 rfl rfl)
theorem dX4_meals_18 : decode cX4_meals 18 = .ok (.aload_n 1, 1) := dk_43 (dk_at dksX4_meals_0 18 rfl rfl)
theorem dX4_meals_19 : decode cX4_meals 19 = .ok (.invokevirtual 117, 3) := dk_182 0 117 (dk_at dksX4_meals_0 19 rfl rfl)
theorem dX4_meals_22 : decode cX4_meals 22 = .ok (.iinc 3 1, 3) := dk_132 3 1 (dk_at dksX4_meals_1 0 rfl rfl)
theorem dX4_meals_25 : decode cX4_meals 25 = .ok (.goto (-23), 3) := dk_167 255 233 (dk_at dksX4_meals_1 3 rfl rfl)
theorem dX4_meals_28 : decode cX4_meals 28 = .ok (.iload_n 3, 1) := dk_29 (dk_at dksX4_meals_1 6 rfl rfl)
theorem dX4_meals_29 : decode cX4_meals 29 = .ok (.ireturn, 1) := dk_172 (dk_at dksX4_meals_1 7 rfl rfl)
abbrev cX4_goOn : ByteArray := prog_23_method_21_code
def yX4_goOn : MethodName := ⟨RX4, "goOn", "(LSecondHelpings$Board;)V"⟩
def dkwX4_goOn_5 : List UInt8 := [180, 0, 33, 4, 96, 181, 0, 33, 177]
abbrev dktX4_goOn_5 : List UInt8 := dkwX4_goOn_5 ++ []
def dkwX4_goOn_4 : List UInt8 := [89, 180, 0, 46, 21, 4, 96, 181, 0, 46, 132, 3, 1, 167, 255, 196, 132, 2, 1, 167, 255, 143, 42, 89]
abbrev dktX4_goOn_4 : List UInt8 := dkwX4_goOn_4 ++ dktX4_goOn_5
def dkwX4_goOn_3 : List UInt8 := [96, 46, 184, 0, 93, 54, 4, 42, 180, 0, 9, 16, 6, 28, 104, 29, 96, 92, 46, 21, 4, 100, 79, 42]
abbrev dktX4_goOn_3 : List UInt8 := dkwX4_goOn_3 ++ dktX4_goOn_4
def dkwX4_goOn_2 : List UInt8 := [62, 29, 43, 180, 0, 90, 162, 0, 58, 43, 180, 0, 114, 29, 46, 42, 180, 0, 9, 16, 6, 28, 104, 29]
abbrev dktX4_goOn_2 : List UInt8 := dkwX4_goOn_2 ++ dktX4_goOn_3
def dkwX4_goOn_1 : List UInt8 := [46, 43, 180, 0, 103, 28, 46, 42, 180, 0, 21, 28, 46, 100, 96, 79, 42, 180, 0, 21, 28, 3, 79, 3]
abbrev dktX4_goOn_1 : List UInt8 := dkwX4_goOn_1 ++ dktX4_goOn_2
def dkwX4_goOn_0 : List UInt8 := [3, 61, 28, 43, 180, 0, 66, 162, 0, 111, 42, 28, 182, 0, 99, 154, 0, 25, 42, 180, 0, 24, 28, 92]
abbrev dktX4_goOn_0 : List UInt8 := dkwX4_goOn_0 ++ dktX4_goOn_1
theorem dksX4_goOn_0 : cX4_goOn.data.toList.drop 0 = dktX4_goOn_0 := by decide +kernel
theorem dksX4_goOn_1 : cX4_goOn.data.toList.drop 24 = dktX4_goOn_1 := dk_seg dksX4_goOn_0 24 rfl rfl
theorem dksX4_goOn_2 : cX4_goOn.data.toList.drop 48 = dktX4_goOn_2 := dk_seg dksX4_goOn_1 24 rfl rfl
theorem dksX4_goOn_3 : cX4_goOn.data.toList.drop 72 = dktX4_goOn_3 := dk_seg dksX4_goOn_2 24 rfl rfl
theorem dksX4_goOn_4 : cX4_goOn.data.toList.drop 96 = dktX4_goOn_4 := dk_seg dksX4_goOn_3 24 rfl rfl
theorem dksX4_goOn_5 : cX4_goOn.data.toList.drop 120 = dktX4_goOn_5 := dk_seg dksX4_goOn_4 24 rfl rfl
theorem dX4_goOn_0 : decode cX4_goOn 0 = .ok (.iconst 0, 1) := dk_3 (dk_at dksX4_goOn_0 0 rfl rfl)
theorem dX4_goOn_1 : decode cX4_goOn 1 = .ok (.istore_n 2, 1) := dk_61 (dk_at dksX4_goOn_0 1 rfl rfl)
theorem dX4_goOn_2 : decode cX4_goOn 2 = .ok (.iload_n 2, 1) := dk_28 (dk_at dksX4_goOn_0 2 rfl rfl)
theorem dX4_goOn_3 : decode cX4_goOn 3 = .ok (.aload_n 1, 1) := dk_43 (dk_at dksX4_goOn_0 3 rfl rfl)
theorem dX4_goOn_4 : decode cX4_goOn 4 = .ok (.getfield 66, 3) := dk_180 0 66 (dk_at dksX4_goOn_0 4 rfl rfl)
theorem dX4_goOn_7 : decode cX4_goOn 7 = .ok (.if_icmp .ge 111, 3) := dk_162 0 111 (dk_at dksX4_goOn_0 7 rfl rfl)
theorem dX4_goOn_10 : decode cX4_goOn 10 = .ok (.aload_n 0, 1) := dk_42 (dk_at dksX4_goOn_0 10 rfl rfl)
theorem dX4_goOn_11 : decode cX4_goOn 11 = .ok (.iload_n 2, 1) := dk_28 (dk_at dksX4_goOn_0 11 rfl rfl)
theorem dX4_goOn_12 : decode cX4_goOn 12 = .ok (.invokevirtual 99, 3) := dk_182 0 99 (dk_at dksX4_goOn_0 12 rfl rfl)
theorem dX4_goOn_15 : decode cX4_goOn 15 = .ok (.ifCond .ne 25, 3) := dk_154 0 25 (dk_at dksX4_goOn_0 15 rfl rfl)
theorem dX4_goOn_18 : decode cX4_goOn 18 = .ok (.aload_n 0, 1) := dk_42 (dk_at dksX4_goOn_0 18 rfl rfl)
theorem dX4_goOn_19 : decode cX4_goOn 19 = .ok (.getfield 24, 3) := dk_180 0 24 (dk_at dksX4_goOn_0 19 rfl rfl)
theorem dX4_goOn_22 : decode cX4_goOn 22 = .ok (.iload_n 2, 1) := dk_28 (dk_at dksX4_goOn_0 22 rfl rfl)
theorem dX4_goOn_23 : decode cX4_goOn 23 = .ok (.dup2, 1) := dk_92 (dk_at dksX4_goOn_0 23 rfl rfl)
theorem dX4_goOn_24 : decode cX4_goOn 24 = .ok (.iaload, 1) := dk_46 (dk_at dksX4_goOn_1 0 rfl rfl)
theorem dX4_goOn_25 : decode cX4_goOn 25 = .ok (.aload_n 1, 1) := dk_43 (dk_at dksX4_goOn_1 1 rfl rfl)
theorem dX4_goOn_26 : decode cX4_goOn 26 = .ok (.getfield 103, 3) := dk_180 0 103 (dk_at dksX4_goOn_1 2 rfl rfl)
theorem dX4_goOn_29 : decode cX4_goOn 29 = .ok (.iload_n 2, 1) := dk_28 (dk_at dksX4_goOn_1 5 rfl rfl)
theorem dX4_goOn_30 : decode cX4_goOn 30 = .ok (.iaload, 1) := dk_46 (dk_at dksX4_goOn_1 6 rfl rfl)
theorem dX4_goOn_31 : decode cX4_goOn 31 = .ok (.aload_n 0, 1) := dk_42 (dk_at dksX4_goOn_1 7 rfl rfl)
theorem dX4_goOn_32 : decode cX4_goOn 32 = .ok (.getfield 21, 3) := dk_180 0 21 (dk_at dksX4_goOn_1 8 rfl rfl)
theorem dX4_goOn_35 : decode cX4_goOn 35 = .ok (.iload_n 2, 1) := dk_28 (dk_at dksX4_goOn_1 11 rfl rfl)
theorem dX4_goOn_36 : decode cX4_goOn 36 = .ok (.iaload, 1) := dk_46 (dk_at dksX4_goOn_1 12 rfl rfl)
theorem dX4_goOn_37 : decode cX4_goOn 37 = .ok (.isub, 1) := dk_100 (dk_at dksX4_goOn_1 13 rfl rfl)
theorem dX4_goOn_38 : decode cX4_goOn 38 = .ok (.iadd, 1) := dk_96 (dk_at dksX4_goOn_1 14 rfl rfl)
theorem dX4_goOn_39 : decode cX4_goOn 39 = .ok (.iastore, 1) := dk_79 (dk_at dksX4_goOn_1 15 rfl rfl)
theorem dX4_goOn_40 : decode cX4_goOn 40 = .ok (.aload_n 0, 1) := dk_42 (dk_at dksX4_goOn_1 16 rfl rfl)
theorem dX4_goOn_41 : decode cX4_goOn 41 = .ok (.getfield 21, 3) := dk_180 0 21 (dk_at dksX4_goOn_1 17 rfl rfl)
theorem dX4_goOn_44 : decode cX4_goOn 44 = .ok (.iload_n 2, 1) := dk_28 (dk_at dksX4_goOn_1 20 rfl rfl)
theorem dX4_goOn_45 : decode cX4_goOn 45 = .ok (.iconst 0, 1) := dk_3 (dk_at dksX4_goOn_1 21 rfl rfl)
theorem dX4_goOn_46 : decode cX4_goOn 46 = .ok (.iastore, 1) := dk_79 (dk_at dksX4_goOn_1 22 rfl rfl)
theorem dX4_goOn_47 : decode cX4_goOn 47 = .ok (.iconst 0, 1) := dk_3 (dk_at dksX4_goOn_1 23 rfl rfl)
theorem dX4_goOn_48 : decode cX4_goOn 48 = .ok (.istore_n 3, 1) := dk_62 (dk_at dksX4_goOn_2 0 rfl rfl)
theorem dX4_goOn_49 : decode cX4_goOn 49 = .ok (.iload_n 3, 1) := dk_29 (dk_at dksX4_goOn_2 1 rfl rfl)
theorem dX4_goOn_50 : decode cX4_goOn 50 = .ok (.aload_n 1, 1) := dk_43 (dk_at dksX4_goOn_2 2 rfl rfl)
theorem dX4_goOn_51 : decode cX4_goOn 51 = .ok (.getfield 90, 3) := dk_180 0 90 (dk_at dksX4_goOn_2 3 rfl rfl)
theorem dX4_goOn_54 : decode cX4_goOn 54 = .ok (.if_icmp .ge 58, 3) := dk_162 0 58 (dk_at dksX4_goOn_2 6 rfl rfl)
theorem dX4_goOn_57 : decode cX4_goOn 57 = .ok (.aload_n 1, 1) := dk_43 (dk_at dksX4_goOn_2 9 rfl rfl)
theorem dX4_goOn_58 : decode cX4_goOn 58 = .ok (.getfield 114, 3) := dk_180 0 114 (dk_at dksX4_goOn_2 10 rfl rfl)
theorem dX4_goOn_61 : decode cX4_goOn 61 = .ok (.iload_n 3, 1) := dk_29 (dk_at dksX4_goOn_2 13 rfl rfl)
theorem dX4_goOn_62 : decode cX4_goOn 62 = .ok (.iaload, 1) := dk_46 (dk_at dksX4_goOn_2 14 rfl rfl)
theorem dX4_goOn_63 : decode cX4_goOn 63 = .ok (.aload_n 0, 1) := dk_42 (dk_at dksX4_goOn_2 15 rfl rfl)
theorem dX4_goOn_64 : decode cX4_goOn 64 = .ok (.getfield 9, 3) := dk_180 0 9 (dk_at dksX4_goOn_2 16 rfl rfl)
theorem dX4_goOn_67 : decode cX4_goOn 67 = .ok (.bipush 6, 2) := dk_16 6 (dk_at dksX4_goOn_2 19 rfl rfl)
theorem dX4_goOn_69 : decode cX4_goOn 69 = .ok (.iload_n 2, 1) := dk_28 (dk_at dksX4_goOn_2 21 rfl rfl)
theorem dX4_goOn_70 : decode cX4_goOn 70 = .ok (.imul, 1) := dk_104 (dk_at dksX4_goOn_2 22 rfl rfl)
theorem dX4_goOn_71 : decode cX4_goOn 71 = .ok (.iload_n 3, 1) := dk_29 (dk_at dksX4_goOn_2 23 rfl rfl)
theorem dX4_goOn_72 : decode cX4_goOn 72 = .ok (.iadd, 1) := dk_96 (dk_at dksX4_goOn_3 0 rfl rfl)
theorem dX4_goOn_73 : decode cX4_goOn 73 = .ok (.iaload, 1) := dk_46 (dk_at dksX4_goOn_3 1 rfl rfl)
theorem dX4_goOn_74 : decode cX4_goOn 74 = .ok (.invokestatic 93, 3) := dk_184 0 93 (dk_at dksX4_goOn_3 2 rfl rfl)
theorem dX4_goOn_77 : decode cX4_goOn 77 = .ok (.istore 4, 2) := dk_54 4 (dk_at dksX4_goOn_3 5 rfl rfl)
theorem dX4_goOn_79 : decode cX4_goOn 79 = .ok (.aload_n 0, 1) := dk_42 (dk_at dksX4_goOn_3 7 rfl rfl)
theorem dX4_goOn_80 : decode cX4_goOn 80 = .ok (.getfield 9, 3) := dk_180 0 9 (dk_at dksX4_goOn_3 8 rfl rfl)
theorem dX4_goOn_83 : decode cX4_goOn 83 = .ok (.bipush 6, 2) := dk_16 6 (dk_at dksX4_goOn_3 11 rfl rfl)
theorem dX4_goOn_85 : decode cX4_goOn 85 = .ok (.iload_n 2, 1) := dk_28 (dk_at dksX4_goOn_3 13 rfl rfl)
theorem dX4_goOn_86 : decode cX4_goOn 86 = .ok (.imul, 1) := dk_104 (dk_at dksX4_goOn_3 14 rfl rfl)
theorem dX4_goOn_87 : decode cX4_goOn 87 = .ok (.iload_n 3, 1) := dk_29 (dk_at dksX4_goOn_3 15 rfl rfl)
theorem dX4_goOn_88 : decode cX4_goOn 88 = .ok (.iadd, 1) := dk_96 (dk_at dksX4_goOn_3 16 rfl rfl)
theorem dX4_goOn_89 : decode cX4_goOn 89 = .ok (.dup2, 1) := dk_92 (dk_at dksX4_goOn_3 17 rfl rfl)
theorem dX4_goOn_90 : decode cX4_goOn 90 = .ok (.iaload, 1) := dk_46 (dk_at dksX4_goOn_3 18 rfl rfl)
theorem dX4_goOn_91 : decode cX4_goOn 91 = .ok (.iload 4, 2) := dk_21 4 (dk_at dksX4_goOn_3 19 rfl rfl)
theorem dX4_goOn_93 : decode cX4_goOn 93 = .ok (.isub, 1) := dk_100 (dk_at dksX4_goOn_3 21 rfl rfl)
theorem dX4_goOn_94 : decode cX4_goOn 94 = .ok (.iastore, 1) := dk_79 (dk_at dksX4_goOn_3 22 rfl rfl)
theorem dX4_goOn_95 : decode cX4_goOn 95 = .ok (.aload_n 0, 1) := dk_42 (dk_at dksX4_goOn_3 23 rfl rfl)
theorem dX4_goOn_96 : decode cX4_goOn 96 = .ok (.dup, 1) := dk_89 (dk_at dksX4_goOn_4 0 rfl rfl)
theorem dX4_goOn_97 : decode cX4_goOn 97 = .ok (.getfield 46, 3) := dk_180 0 46 (dk_at dksX4_goOn_4 1 rfl rfl)
theorem dX4_goOn_100 : decode cX4_goOn 100 = .ok (.iload 4, 2) := dk_21 4 (dk_at dksX4_goOn_4 4 rfl rfl)
theorem dX4_goOn_102 : decode cX4_goOn 102 = .ok (.iadd, 1) := dk_96 (dk_at dksX4_goOn_4 6 rfl rfl)
theorem dX4_goOn_103 : decode cX4_goOn 103 = .ok (.putfield 46, 3) := dk_181 0 46 (dk_at dksX4_goOn_4 7 rfl rfl)
theorem dX4_goOn_106 : decode cX4_goOn 106 = .ok (.iinc 3 1, 3) := dk_132 3 1 (dk_at dksX4_goOn_4 10 rfl rfl)
theorem dX4_goOn_109 : decode cX4_goOn 109 = .ok (.goto (-60), 3) := dk_167 255 196 (dk_at dksX4_goOn_4 13 rfl rfl)
theorem dX4_goOn_112 : decode cX4_goOn 112 = .ok (.iinc 2 1, 3) := dk_132 2 1 (dk_at dksX4_goOn_4 16 rfl rfl)
theorem dX4_goOn_115 : decode cX4_goOn 115 = .ok (.goto (-113), 3) := dk_167 255 143 (dk_at dksX4_goOn_4 19 rfl rfl)
theorem dX4_goOn_118 : decode cX4_goOn 118 = .ok (.aload_n 0, 1) := dk_42 (dk_at dksX4_goOn_4 22 rfl rfl)
theorem dX4_goOn_119 : decode cX4_goOn 119 = .ok (.dup, 1) := dk_89 (dk_at dksX4_goOn_4 23 rfl rfl)
theorem dX4_goOn_120 : decode cX4_goOn 120 = .ok (.getfield 33, 3) := dk_180 0 33 (dk_at dksX4_goOn_5 0 rfl rfl)
theorem dX4_goOn_123 : decode cX4_goOn 123 = .ok (.iconst 1, 1) := dk_4 (dk_at dksX4_goOn_5 3 rfl rfl)
theorem dX4_goOn_124 : decode cX4_goOn 124 = .ok (.iadd, 1) := dk_96 (dk_at dksX4_goOn_5 4 rfl rfl)
theorem dX4_goOn_125 : decode cX4_goOn 125 = .ok (.putfield 33, 3) := dk_181 0 33 (dk_at dksX4_goOn_5 5 rfl rfl)
theorem dX4_goOn_128 : decode cX4_goOn 128 = .ok (.return_, 1) := dk_177 (dk_at dksX4_goOn_5 8 rfl rfl)
abbrev cX4_wanted : ByteArray := prog_23_method_20_code
def yX4_wanted : MethodName := ⟨RX4, "wanted", "(LSecondHelpings$Board;)I"⟩
def dkwX4_wanted_1 : List UInt8 := [180, 0, 103, 29, 46, 42, 180, 0, 21, 29, 46, 100, 96, 61, 132, 3, 1, 167, 255, 221, 28, 172]
abbrev dktX4_wanted_1 : List UInt8 := dkwX4_wanted_1 ++ []
def dkwX4_wanted_0 : List UInt8 := [3, 61, 3, 62, 29, 43, 180, 0, 66, 162, 0, 33, 42, 29, 182, 0, 99, 154, 0, 19, 28, 43]
abbrev dktX4_wanted_0 : List UInt8 := dkwX4_wanted_0 ++ dktX4_wanted_1
theorem dksX4_wanted_0 : cX4_wanted.data.toList.drop 0 = dktX4_wanted_0 := by decide +kernel
theorem dksX4_wanted_1 : cX4_wanted.data.toList.drop 22 = dktX4_wanted_1 := dk_seg dksX4_wanted_0 22 rfl rfl
theorem dX4_wanted_0 : decode cX4_wanted 0 = .ok (.iconst 0, 1) := dk_3 (dk_at dksX4_wanted_0 0 rfl rfl)
theorem dX4_wanted_1 : decode cX4_wanted 1 = .ok (.istore_n 2, 1) := dk_61 (dk_at dksX4_wanted_0 1 rfl rfl)
theorem dX4_wanted_2 : decode cX4_wanted 2 = .ok (.iconst 0, 1) := dk_3 (dk_at dksX4_wanted_0 2 rfl rfl)
theorem dX4_wanted_3 : decode cX4_wanted 3 = .ok (.istore_n 3, 1) := dk_62 (dk_at dksX4_wanted_0 3 rfl rfl)
theorem dX4_wanted_4 : decode cX4_wanted 4 = .ok (.iload_n 3, 1) := dk_29 (dk_at dksX4_wanted_0 4 rfl rfl)
theorem dX4_wanted_5 : decode cX4_wanted 5 = .ok (.aload_n 1, 1) := dk_43 (dk_at dksX4_wanted_0 5 rfl rfl)
theorem dX4_wanted_6 : decode cX4_wanted 6 = .ok (.getfield 66, 3) := dk_180 0 66 (dk_at dksX4_wanted_0 6 rfl rfl)
theorem dX4_wanted_9 : decode cX4_wanted 9 = .ok (.if_icmp .ge 33, 3) := dk_162 0 33 (dk_at dksX4_wanted_0 9 rfl rfl)
theorem dX4_wanted_12 : decode cX4_wanted 12 = .ok (.aload_n 0, 1) := dk_42 (dk_at dksX4_wanted_0 12 rfl rfl)
theorem dX4_wanted_13 : decode cX4_wanted 13 = .ok (.iload_n 3, 1) := dk_29 (dk_at dksX4_wanted_0 13 rfl rfl)
theorem dX4_wanted_14 : decode cX4_wanted 14 = .ok (.invokevirtual 99, 3) := dk_182 0 99 (dk_at dksX4_wanted_0 14 rfl rfl)
theorem dX4_wanted_17 : decode cX4_wanted 17 = .ok (.ifCond .ne 19, 3) := dk_154 0 19 (dk_at dksX4_wanted_0 17 rfl rfl)
theorem dX4_wanted_20 : decode cX4_wanted 20 = .ok (.iload_n 2, 1) := dk_28 (dk_at dksX4_wanted_0 20 rfl rfl)
theorem dX4_wanted_21 : decode cX4_wanted 21 = .ok (.aload_n 1, 1) := dk_43 (dk_at dksX4_wanted_0 21 rfl rfl)
theorem dX4_wanted_22 : decode cX4_wanted 22 = .ok (.getfield 103, 3) := dk_180 0 103 (dk_at dksX4_wanted_1 0 rfl rfl)
theorem dX4_wanted_25 : decode cX4_wanted 25 = .ok (.iload_n 3, 1) := dk_29 (dk_at dksX4_wanted_1 3 rfl rfl)
theorem dX4_wanted_26 : decode cX4_wanted 26 = .ok (.iaload, 1) := dk_46 (dk_at dksX4_wanted_1 4 rfl rfl)
theorem dX4_wanted_27 : decode cX4_wanted 27 = .ok (.aload_n 0, 1) := dk_42 (dk_at dksX4_wanted_1 5 rfl rfl)
theorem dX4_wanted_28 : decode cX4_wanted 28 = .ok (.getfield 21, 3) := dk_180 0 21 (dk_at dksX4_wanted_1 6 rfl rfl)
theorem dX4_wanted_31 : decode cX4_wanted 31 = .ok (.iload_n 3, 1) := dk_29 (dk_at dksX4_wanted_1 9 rfl rfl)
theorem dX4_wanted_32 : decode cX4_wanted 32 = .ok (.iaload, 1) := dk_46 (dk_at dksX4_wanted_1 10 rfl rfl)
theorem dX4_wanted_33 : decode cX4_wanted 33 = .ok (.isub, 1) := dk_100 (dk_at dksX4_wanted_1 11 rfl rfl)
theorem dX4_wanted_34 : decode cX4_wanted 34 = .ok (.iadd, 1) := dk_96 (dk_at dksX4_wanted_1 12 rfl rfl)
theorem dX4_wanted_35 : decode cX4_wanted 35 = .ok (.istore_n 2, 1) := dk_61 (dk_at dksX4_wanted_1 13 rfl rfl)
theorem dX4_wanted_36 : decode cX4_wanted 36 = .ok (.iinc 3 1, 3) := dk_132 3 1 (dk_at dksX4_wanted_1 14 rfl rfl)
theorem dX4_wanted_39 : decode cX4_wanted 39 = .ok (.goto (-35), 3) := dk_167 255 221 (dk_at dksX4_wanted_1 17 rfl rfl)
theorem dX4_wanted_42 : decode cX4_wanted 42 = .ok (.iload_n 2, 1) := dk_28 (dk_at dksX4_wanted_1 20 rfl rfl)
theorem dX4_wanted_43 : decode cX4_wanted 43 = .ok (.ireturn, 1) := dk_172 (dk_at dksX4_wanted_1 21 rfl rfl)
abbrev cX4_eats : ByteArray := prog_23_method_19_code
def yX4_eats : MethodName := ⟨RX4, "eats", "(LSecondHelpings$Board;I)V"⟩
def dkwX4_eats_2 : List UInt8 := [167, 255, 212, 177]
abbrev dktX4_eats_2 : List UInt8 := dkwX4_eats_2 ++ []
def dkwX4_eats_1 : List UInt8 := [43, 180, 0, 103, 28, 46, 42, 180, 0, 21, 28, 46, 100, 184, 0, 93, 182, 0, 110, 132, 3, 1]
abbrev dktX4_eats_1 : List UInt8 := dkwX4_eats_1 ++ dktX4_eats_2
def dkwX4_eats_0 : List UInt8 := [3, 62, 29, 43, 180, 0, 90, 162, 0, 42, 42, 28, 29, 42, 180, 0, 9, 16, 6, 28, 104, 29, 96, 46]
abbrev dktX4_eats_0 : List UInt8 := dkwX4_eats_0 ++ dktX4_eats_1
theorem dksX4_eats_0 : cX4_eats.data.toList.drop 0 = dktX4_eats_0 := by decide +kernel
theorem dksX4_eats_1 : cX4_eats.data.toList.drop 24 = dktX4_eats_1 := dk_seg dksX4_eats_0 24 rfl rfl
theorem dksX4_eats_2 : cX4_eats.data.toList.drop 46 = dktX4_eats_2 := dk_seg dksX4_eats_1 22 rfl rfl
theorem dX4_eats_0 : decode cX4_eats 0 = .ok (.iconst 0, 1) := dk_3 (dk_at dksX4_eats_0 0 rfl rfl)
theorem dX4_eats_1 : decode cX4_eats 1 = .ok (.istore_n 3, 1) := dk_62 (dk_at dksX4_eats_0 1 rfl rfl)
theorem dX4_eats_2 : decode cX4_eats 2 = .ok (.iload_n 3, 1) := dk_29 (dk_at dksX4_eats_0 2 rfl rfl)
theorem dX4_eats_3 : decode cX4_eats 3 = .ok (.aload_n 1, 1) := dk_43 (dk_at dksX4_eats_0 3 rfl rfl)
theorem dX4_eats_4 : decode cX4_eats 4 = .ok (.getfield 90, 3) := dk_180 0 90 (dk_at dksX4_eats_0 4 rfl rfl)
theorem dX4_eats_7 : decode cX4_eats 7 = .ok (.if_icmp .ge 42, 3) := dk_162 0 42 (dk_at dksX4_eats_0 7 rfl rfl)
theorem dX4_eats_10 : decode cX4_eats 10 = .ok (.aload_n 0, 1) := dk_42 (dk_at dksX4_eats_0 10 rfl rfl)
theorem dX4_eats_11 : decode cX4_eats 11 = .ok (.iload_n 2, 1) := dk_28 (dk_at dksX4_eats_0 11 rfl rfl)
theorem dX4_eats_12 : decode cX4_eats 12 = .ok (.iload_n 3, 1) := dk_29 (dk_at dksX4_eats_0 12 rfl rfl)
theorem dX4_eats_13 : decode cX4_eats 13 = .ok (.aload_n 0, 1) := dk_42 (dk_at dksX4_eats_0 13 rfl rfl)
theorem dX4_eats_14 : decode cX4_eats 14 = .ok (.getfield 9, 3) := dk_180 0 9 (dk_at dksX4_eats_0 14 rfl rfl)
theorem dX4_eats_17 : decode cX4_eats 17 = .ok (.bipush 6, 2) := dk_16 6 (dk_at dksX4_eats_0 17 rfl rfl)
theorem dX4_eats_19 : decode cX4_eats 19 = .ok (.iload_n 2, 1) := dk_28 (dk_at dksX4_eats_0 19 rfl rfl)
theorem dX4_eats_20 : decode cX4_eats 20 = .ok (.imul, 1) := dk_104 (dk_at dksX4_eats_0 20 rfl rfl)
theorem dX4_eats_21 : decode cX4_eats 21 = .ok (.iload_n 3, 1) := dk_29 (dk_at dksX4_eats_0 21 rfl rfl)
theorem dX4_eats_22 : decode cX4_eats 22 = .ok (.iadd, 1) := dk_96 (dk_at dksX4_eats_0 22 rfl rfl)
theorem dX4_eats_23 : decode cX4_eats 23 = .ok (.iaload, 1) := dk_46 (dk_at dksX4_eats_0 23 rfl rfl)
theorem dX4_eats_24 : decode cX4_eats 24 = .ok (.aload_n 1, 1) := dk_43 (dk_at dksX4_eats_1 0 rfl rfl)
theorem dX4_eats_25 : decode cX4_eats 25 = .ok (.getfield 103, 3) := dk_180 0 103 (dk_at dksX4_eats_1 1 rfl rfl)
theorem dX4_eats_28 : decode cX4_eats 28 = .ok (.iload_n 2, 1) := dk_28 (dk_at dksX4_eats_1 4 rfl rfl)
theorem dX4_eats_29 : decode cX4_eats 29 = .ok (.iaload, 1) := dk_46 (dk_at dksX4_eats_1 5 rfl rfl)
theorem dX4_eats_30 : decode cX4_eats 30 = .ok (.aload_n 0, 1) := dk_42 (dk_at dksX4_eats_1 6 rfl rfl)
theorem dX4_eats_31 : decode cX4_eats 31 = .ok (.getfield 21, 3) := dk_180 0 21 (dk_at dksX4_eats_1 7 rfl rfl)
theorem dX4_eats_34 : decode cX4_eats 34 = .ok (.iload_n 2, 1) := dk_28 (dk_at dksX4_eats_1 10 rfl rfl)
theorem dX4_eats_35 : decode cX4_eats 35 = .ok (.iaload, 1) := dk_46 (dk_at dksX4_eats_1 11 rfl rfl)
theorem dX4_eats_36 : decode cX4_eats 36 = .ok (.isub, 1) := dk_100 (dk_at dksX4_eats_1 12 rfl rfl)
theorem dX4_eats_37 : decode cX4_eats 37 = .ok (.invokestatic 93, 3) := dk_184 0 93 (dk_at dksX4_eats_1 13 rfl rfl)
theorem dX4_eats_40 : decode cX4_eats 40 = .ok (.invokevirtual 110, 3) := dk_182 0 110 (dk_at dksX4_eats_1 16 rfl rfl)
theorem dX4_eats_43 : decode cX4_eats 43 = .ok (.iinc 3 1, 3) := dk_132 3 1 (dk_at dksX4_eats_1 19 rfl rfl)
theorem dX4_eats_46 : decode cX4_eats 46 = .ok (.goto (-44), 3) := dk_167 255 212 (dk_at dksX4_eats_2 0 rfl rfl)
theorem dX4_eats_49 : decode cX4_eats 49 = .ok (.return_, 1) := dk_177 (dk_at dksX4_eats_2 3 rfl rfl)
abbrev cX4_draws : ByteArray := prog_23_method_25_code
def yX4_draws : MethodName := ⟨RX4, "draws", "(LSecondHelpings$Board;II)I"⟩
def dkwX4_draws_3 : List UInt8 := [172]
abbrev dktX4_draws_3 : List UInt8 := dkwX4_draws_3 ++ []
def dkwX4_draws_2 : List UInt8 := [21, 5, 182, 0, 134, 132, 5, 1, 167, 255, 228, 42, 43, 182, 0, 117, 132, 4, 1, 167, 255, 198, 21, 4]
abbrev dktX4_draws_2 : List UInt8 := dkwX4_draws_2 ++ dktX4_draws_3
def dkwX4_draws_1 : List UInt8 := [3, 54, 5, 21, 5, 43, 180, 0, 66, 162, 0, 25, 42, 21, 5, 182, 0, 99, 154, 0, 10, 42, 43]
abbrev dktX4_draws_1 : List UInt8 := dkwX4_draws_1 ++ dktX4_draws_2
def dkwX4_draws_0 : List UInt8 := [42, 29, 181, 0, 121, 3, 54, 4, 21, 4, 28, 162, 0, 58, 42, 180, 0, 33, 17, 0, 200, 162, 0, 48]
abbrev dktX4_draws_0 : List UInt8 := dkwX4_draws_0 ++ dktX4_draws_1
theorem dksX4_draws_0 : cX4_draws.data.toList.drop 0 = dktX4_draws_0 := by decide +kernel
theorem dksX4_draws_1 : cX4_draws.data.toList.drop 24 = dktX4_draws_1 := dk_seg dksX4_draws_0 24 rfl rfl
theorem dksX4_draws_2 : cX4_draws.data.toList.drop 47 = dktX4_draws_2 := dk_seg dksX4_draws_1 23 rfl rfl
theorem dksX4_draws_3 : cX4_draws.data.toList.drop 71 = dktX4_draws_3 := dk_seg dksX4_draws_2 24 rfl rfl
theorem dX4_draws_0 : decode cX4_draws 0 = .ok (.aload_n 0, 1) := dk_42 (dk_at dksX4_draws_0 0 rfl rfl)
theorem dX4_draws_1 : decode cX4_draws 1 = .ok (.iload_n 3, 1) := dk_29 (dk_at dksX4_draws_0 1 rfl rfl)
theorem dX4_draws_2 : decode cX4_draws 2 = .ok (.putfield 121, 3) := dk_181 0 121 (dk_at dksX4_draws_0 2 rfl rfl)
theorem dX4_draws_5 : decode cX4_draws 5 = .ok (.iconst 0, 1) := dk_3 (dk_at dksX4_draws_0 5 rfl rfl)
theorem dX4_draws_6 : decode cX4_draws 6 = .ok (.istore 4, 2) := dk_54 4 (dk_at dksX4_draws_0 6 rfl rfl)
theorem dX4_draws_8 : decode cX4_draws 8 = .ok (.iload 4, 2) := dk_21 4 (dk_at dksX4_draws_0 8 rfl rfl)
theorem dX4_draws_10 : decode cX4_draws 10 = .ok (.iload_n 2, 1) := dk_28 (dk_at dksX4_draws_0 10 rfl rfl)
theorem dX4_draws_11 : decode cX4_draws 11 = .ok (.if_icmp .ge 58, 3) := dk_162 0 58 (dk_at dksX4_draws_0 11 rfl rfl)
theorem dX4_draws_14 : decode cX4_draws 14 = .ok (.aload_n 0, 1) := dk_42 (dk_at dksX4_draws_0 14 rfl rfl)
theorem dX4_draws_15 : decode cX4_draws 15 = .ok (.getfield 33, 3) := dk_180 0 33 (dk_at dksX4_draws_0 15 rfl rfl)
theorem dX4_draws_18 : decode cX4_draws 18 = .ok (.sipush 200, 3) := dk_17 0 200 (dk_at dksX4_draws_0 18 rfl rfl)
theorem dX4_draws_21 : decode cX4_draws 21 = .ok (.if_icmp .ge 48, 3) := dk_162 0 48 (dk_at dksX4_draws_0 21 rfl rfl)
theorem dX4_draws_24 : decode cX4_draws 24 = .ok (.iconst 0, 1) := dk_3 (dk_at dksX4_draws_1 0 rfl rfl)
theorem dX4_draws_25 : decode cX4_draws 25 = .ok (.istore 5, 2) := dk_54 5 (dk_at dksX4_draws_1 1 rfl rfl)
theorem dX4_draws_27 : decode cX4_draws 27 = .ok (.iload 5, 2) := dk_21 5 (dk_at dksX4_draws_1 3 rfl rfl)
theorem dX4_draws_29 : decode cX4_draws 29 = .ok (.aload_n 1, 1) := dk_43 (dk_at dksX4_draws_1 5 rfl rfl)
theorem dX4_draws_30 : decode cX4_draws 30 = .ok (.getfield 66, 3) := dk_180 0 66 (dk_at dksX4_draws_1 6 rfl rfl)
theorem dX4_draws_33 : decode cX4_draws 33 = .ok (.if_icmp .ge 25, 3) := dk_162 0 25 (dk_at dksX4_draws_1 9 rfl rfl)
theorem dX4_draws_36 : decode cX4_draws 36 = .ok (.aload_n 0, 1) := dk_42 (dk_at dksX4_draws_1 12 rfl rfl)
theorem dX4_draws_37 : decode cX4_draws 37 = .ok (.iload 5, 2) := dk_21 5 (dk_at dksX4_draws_1 13 rfl rfl)
theorem dX4_draws_39 : decode cX4_draws 39 = .ok (.invokevirtual 99, 3) := dk_182 0 99 (dk_at dksX4_draws_1 15 rfl rfl)
theorem dX4_draws_42 : decode cX4_draws 42 = .ok (.ifCond .ne 10, 3) := dk_154 0 10 (dk_at dksX4_draws_1 18 rfl rfl)
theorem dX4_draws_45 : decode cX4_draws 45 = .ok (.aload_n 0, 1) := dk_42 (dk_at dksX4_draws_1 21 rfl rfl)
theorem dX4_draws_46 : decode cX4_draws 46 = .ok (.aload_n 1, 1) := dk_43 (dk_at dksX4_draws_1 22 rfl rfl)
theorem dX4_draws_47 : decode cX4_draws 47 = .ok (.iload 5, 2) := dk_21 5 (dk_at dksX4_draws_2 0 rfl rfl)
theorem dX4_draws_49 : decode cX4_draws 49 = .ok (.invokevirtual 134, 3) := dk_182 0 134 (dk_at dksX4_draws_2 2 rfl rfl)
theorem dX4_draws_52 : decode cX4_draws 52 = .ok (.iinc 5 1, 3) := dk_132 5 1 (dk_at dksX4_draws_2 5 rfl rfl)
theorem dX4_draws_55 : decode cX4_draws 55 = .ok (.goto (-28), 3) := dk_167 255 228 (dk_at dksX4_draws_2 8 rfl rfl)
theorem dX4_draws_58 : decode cX4_draws 58 = .ok (.aload_n 0, 1) := dk_42 (dk_at dksX4_draws_2 11 rfl rfl)
theorem dX4_draws_59 : decode cX4_draws 59 = .ok (.aload_n 1, 1) := dk_43 (dk_at dksX4_draws_2 12 rfl rfl)
theorem dX4_draws_60 : decode cX4_draws 60 = .ok (.invokevirtual 117, 3) := dk_182 0 117 (dk_at dksX4_draws_2 13 rfl rfl)
theorem dX4_draws_63 : decode cX4_draws 63 = .ok (.iinc 4 1, 3) := dk_132 4 1 (dk_at dksX4_draws_2 16 rfl rfl)
theorem dX4_draws_66 : decode cX4_draws 66 = .ok (.goto (-58), 3) := dk_167 255 198 (dk_at dksX4_draws_2 19 rfl rfl)
theorem dX4_draws_69 : decode cX4_draws 69 = .ok (.iload 4, 2) := dk_21 4 (dk_at dksX4_draws_2 22 rfl rfl)
theorem dX4_draws_71 : decode cX4_draws 71 = .ok (.ireturn, 1) := dk_172 (dk_at dksX4_draws_3 0 rfl rfl)
abbrev cX4_drawPerson : ByteArray := prog_23_method_24_code
def yX4_drawPerson : MethodName := ⟨RX4, "drawPerson", "(LSecondHelpings$Board;I)V"⟩
def dkwX4_drawPerson_2 : List UInt8 := [182, 0, 131, 177]
abbrev dktX4_drawPerson_2 : List UInt8 := dkwX4_drawPerson_2 ++ []
def dkwX4_drawPerson_1 : List UInt8 := [160, 0, 20, 42, 7, 182, 0, 125, 154, 0, 18, 42, 43, 28, 182, 0, 128, 167, 0, 9, 42, 43, 28]
abbrev dktX4_drawPerson_1 : List UInt8 := dkwX4_drawPerson_1 ++ dktX4_drawPerson_2
def dkwX4_drawPerson_0 : List UInt8 := [42, 16, 6, 182, 0, 125, 62, 29, 154, 0, 12, 42, 43, 28, 182, 0, 106, 167, 0, 31, 29, 4]
abbrev dktX4_drawPerson_0 : List UInt8 := dkwX4_drawPerson_0 ++ dktX4_drawPerson_1
theorem dksX4_drawPerson_0 : cX4_drawPerson.data.toList.drop 0 = dktX4_drawPerson_0 := by decide +kernel
theorem dksX4_drawPerson_1 : cX4_drawPerson.data.toList.drop 22 = dktX4_drawPerson_1 := dk_seg dksX4_drawPerson_0 22 rfl rfl
theorem dksX4_drawPerson_2 : cX4_drawPerson.data.toList.drop 45 = dktX4_drawPerson_2 := dk_seg dksX4_drawPerson_1 23 rfl rfl
theorem dX4_drawPerson_0 : decode cX4_drawPerson 0 = .ok (.aload_n 0, 1) := dk_42 (dk_at dksX4_drawPerson_0 0 rfl rfl)
theorem dX4_drawPerson_1 : decode cX4_drawPerson 1 = .ok (.bipush 6, 2) := dk_16 6 (dk_at dksX4_drawPerson_0 1 rfl rfl)
theorem dX4_drawPerson_3 : decode cX4_drawPerson 3 = .ok (.invokevirtual 125, 3) := dk_182 0 125 (dk_at dksX4_drawPerson_0 3 rfl rfl)
theorem dX4_drawPerson_6 : decode cX4_drawPerson 6 = .ok (.istore_n 3, 1) := dk_62 (dk_at dksX4_drawPerson_0 6 rfl rfl)
theorem dX4_drawPerson_7 : decode cX4_drawPerson 7 = .ok (.iload_n 3, 1) := dk_29 (dk_at dksX4_drawPerson_0 7 rfl rfl)
theorem dX4_drawPerson_8 : decode cX4_drawPerson 8 = .ok (.ifCond .ne 12, 3) := dk_154 0 12 (dk_at dksX4_drawPerson_0 8 rfl rfl)
theorem dX4_drawPerson_11 : decode cX4_drawPerson 11 = .ok (.aload_n 0, 1) := dk_42 (dk_at dksX4_drawPerson_0 11 rfl rfl)
theorem dX4_drawPerson_12 : decode cX4_drawPerson 12 = .ok (.aload_n 1, 1) := dk_43 (dk_at dksX4_drawPerson_0 12 rfl rfl)
theorem dX4_drawPerson_13 : decode cX4_drawPerson 13 = .ok (.iload_n 2, 1) := dk_28 (dk_at dksX4_drawPerson_0 13 rfl rfl)
theorem dX4_drawPerson_14 : decode cX4_drawPerson 14 = .ok (.invokevirtual 106, 3) := dk_182 0 106 (dk_at dksX4_drawPerson_0 14 rfl rfl)
theorem dX4_drawPerson_17 : decode cX4_drawPerson 17 = .ok (.goto 31, 3) := dk_167 0 31 (dk_at dksX4_drawPerson_0 17 rfl rfl)
theorem dX4_drawPerson_20 : decode cX4_drawPerson 20 = .ok (.iload_n 3, 1) := dk_29 (dk_at dksX4_drawPerson_0 20 rfl rfl)
theorem dX4_drawPerson_21 : decode cX4_drawPerson 21 = .ok (.iconst 1, 1) := dk_4 (dk_at dksX4_drawPerson_0 21 rfl rfl)
theorem dX4_drawPerson_22 : decode cX4_drawPerson 22 = .ok (.if_icmp .ne 20, 3) := dk_160 0 20 (dk_at dksX4_drawPerson_1 0 rfl rfl)
theorem dX4_drawPerson_25 : decode cX4_drawPerson 25 = .ok (.aload_n 0, 1) := dk_42 (dk_at dksX4_drawPerson_1 3 rfl rfl)
theorem dX4_drawPerson_26 : decode cX4_drawPerson 26 = .ok (.iconst 4, 1) := dk_7 (dk_at dksX4_drawPerson_1 4 rfl rfl)
theorem dX4_drawPerson_27 : decode cX4_drawPerson 27 = .ok (.invokevirtual 125, 3) := dk_182 0 125 (dk_at dksX4_drawPerson_1 5 rfl rfl)
theorem dX4_drawPerson_30 : decode cX4_drawPerson 30 = .ok (.ifCond .ne 18, 3) := dk_154 0 18 (dk_at dksX4_drawPerson_1 8 rfl rfl)
theorem dX4_drawPerson_33 : decode cX4_drawPerson 33 = .ok (.aload_n 0, 1) := dk_42 (dk_at dksX4_drawPerson_1 11 rfl rfl)
theorem dX4_drawPerson_34 : decode cX4_drawPerson 34 = .ok (.aload_n 1, 1) := dk_43 (dk_at dksX4_drawPerson_1 12 rfl rfl)
theorem dX4_drawPerson_35 : decode cX4_drawPerson 35 = .ok (.iload_n 2, 1) := dk_28 (dk_at dksX4_drawPerson_1 13 rfl rfl)
theorem dX4_drawPerson_36 : decode cX4_drawPerson 36 = .ok (.invokevirtual 128, 3) := dk_182 0 128 (dk_at dksX4_drawPerson_1 14 rfl rfl)
theorem dX4_drawPerson_39 : decode cX4_drawPerson 39 = .ok (.goto 9, 3) := dk_167 0 9 (dk_at dksX4_drawPerson_1 17 rfl rfl)
theorem dX4_drawPerson_42 : decode cX4_drawPerson 42 = .ok (.aload_n 0, 1) := dk_42 (dk_at dksX4_drawPerson_1 20 rfl rfl)
theorem dX4_drawPerson_43 : decode cX4_drawPerson 43 = .ok (.aload_n 1, 1) := dk_43 (dk_at dksX4_drawPerson_1 21 rfl rfl)
theorem dX4_drawPerson_44 : decode cX4_drawPerson 44 = .ok (.iload_n 2, 1) := dk_28 (dk_at dksX4_drawPerson_1 22 rfl rfl)
theorem dX4_drawPerson_45 : decode cX4_drawPerson 45 = .ok (.invokevirtual 131, 3) := dk_182 0 131 (dk_at dksX4_drawPerson_2 0 rfl rfl)
theorem dX4_drawPerson_48 : decode cX4_drawPerson 48 = .ok (.return_, 1) := dk_177 (dk_at dksX4_drawPerson_2 3 rfl rfl)
abbrev cX4_draw : ByteArray := prog_23_method_23_code
def yX4_draw : MethodName := ⟨RX4, "draw", "(I)I"⟩
def dkwX4_draw_1 : List UInt8 := [172]
abbrev dktX4_draw_1 : List UInt8 := dkwX4_draw_1 ++ []
def dkwX4_draw_0 : List UInt8 := [42, 42, 180, 0, 121, 18, 124, 104, 17, 48, 57, 96, 181, 0, 121, 42, 180, 0, 121, 16, 8, 124, 27, 112]
abbrev dktX4_draw_0 : List UInt8 := dkwX4_draw_0 ++ dktX4_draw_1
theorem dksX4_draw_0 : cX4_draw.data.toList.drop 0 = dktX4_draw_0 := by decide +kernel
theorem dksX4_draw_1 : cX4_draw.data.toList.drop 24 = dktX4_draw_1 := dk_seg dksX4_draw_0 24 rfl rfl
theorem dX4_draw_0 : decode cX4_draw 0 = .ok (.aload_n 0, 1) := dk_42 (dk_at dksX4_draw_0 0 rfl rfl)
theorem dX4_draw_1 : decode cX4_draw 1 = .ok (.aload_n 0, 1) := dk_42 (dk_at dksX4_draw_0 1 rfl rfl)
theorem dX4_draw_2 : decode cX4_draw 2 = .ok (.getfield 121, 3) := dk_180 0 121 (dk_at dksX4_draw_0 2 rfl rfl)
theorem dX4_draw_5 : decode cX4_draw 5 = .ok (.ldc 124, 2) := dk_18 124 (dk_at dksX4_draw_0 5 rfl rfl)
theorem dX4_draw_7 : decode cX4_draw 7 = .ok (.imul, 1) := dk_104 (dk_at dksX4_draw_0 7 rfl rfl)
theorem dX4_draw_8 : decode cX4_draw 8 = .ok (.sipush 12345, 3) := dk_17 48 57 (dk_at dksX4_draw_0 8 rfl rfl)
theorem dX4_draw_11 : decode cX4_draw 11 = .ok (.iadd, 1) := dk_96 (dk_at dksX4_draw_0 11 rfl rfl)
theorem dX4_draw_12 : decode cX4_draw 12 = .ok (.putfield 121, 3) := dk_181 0 121 (dk_at dksX4_draw_0 12 rfl rfl)
theorem dX4_draw_15 : decode cX4_draw 15 = .ok (.aload_n 0, 1) := dk_42 (dk_at dksX4_draw_0 15 rfl rfl)
theorem dX4_draw_16 : decode cX4_draw 16 = .ok (.getfield 121, 3) := dk_180 0 121 (dk_at dksX4_draw_0 16 rfl rfl)
theorem dX4_draw_19 : decode cX4_draw 19 = .ok (.bipush 8, 2) := dk_16 8 (dk_at dksX4_draw_0 19 rfl rfl)
theorem dX4_draw_21 : decode cX4_draw 21 = .ok (.iushr, 1) := dk_124 (dk_at dksX4_draw_0 21 rfl rfl)
theorem dX4_draw_22 : decode cX4_draw 22 = .ok (.iload_n 1, 1) := dk_27 (dk_at dksX4_draw_0 22 rfl rfl)
theorem dX4_draw_23 : decode cX4_draw 23 = .ok (.irem, 1) := dk_112 (dk_at dksX4_draw_0 23 rfl rfl)
theorem dX4_draw_24 : decode cX4_draw 24 = .ok (.ireturn, 1) := dk_172 (dk_at dksX4_draw_1 0 rfl rfl)
theorem q99 : (Jvm.Cond.initialized "SecondHelpings$State") ∈ lw_all := lw_g (lw_at lw_m1 6 rfl) rfl
theorem q255 : (Jvm.Cond.fieldLinkNest "SecondHelpings$State" (103 : Nat) "SecondHelpings$Board" "wants" "[I" "SecondHelpings") ∈ lw_tbl := lw_at lw_m1 162 rfl
theorem q260 : (Jvm.Cond.fieldLinkNest "SecondHelpings$State" (72 : Nat) "SecondHelpings$Board" "parent" "[I" "SecondHelpings") ∈ lw_tbl := lw_at lw_m1 167 rfl
theorem q263 : (Jvm.Cond.fieldLinkNest "SecondHelpings$State" (55 : Nat) "SecondHelpings$Board" "parts" "[I" "SecondHelpings") ∈ lw_tbl := lw_at lw_m1 170 rfl
theorem q268 : (Jvm.Cond.fieldLinkNest "SecondHelpings$State" (114 : Nat) "SecondHelpings$Board" "spoils" "[I" "SecondHelpings") ∈ lw_tbl := lw_at lw_m1 175 rfl
theorem q270 : (Jvm.Cond.fieldLinkNest "SecondHelpings$State" (52 : Nat) "SecondHelpings$Board" "plate" "[I" "SecondHelpings") ∈ lw_tbl := lw_at lw_m1 177 rfl
theorem q276 : (Jvm.Cond.fieldLinkNest "SecondHelpings$State" (66 : Nat) "SecondHelpings$Board" "persons" "I" "SecondHelpings") ∈ lw_tbl := lw_at lw_m1 183 rfl
theorem q281 : (Jvm.Cond.fieldLinkNest "SecondHelpings$State" (90 : Nat) "SecondHelpings$Board" "dishes" "I" "SecondHelpings") ∈ lw_tbl := lw_at lw_m1 188 rfl
theorem q284 : (Jvm.Cond.fieldLinkNest "SecondHelpings$State" (69 : Nat) "SecondHelpings$Board" "law" "I" "SecondHelpings") ∈ lw_tbl := lw_at lw_m1 191 rfl
theorem q287 : (Jvm.Cond.fieldLinkNest "SecondHelpings$State" (89 : Nat) "SecondHelpings$Board" "dogs" "I" "SecondHelpings") ∈ lw_tbl := lw_at lw_m1 194 rfl
theorem q315 : (Jvm.Cond.instantiable "SecondHelpings$State" (12 : Nat)) ∈ lw_all := lw_g (lw_at lw_m1 222 rfl) rfl
theorem q317 : (Jvm.Cond.instanceMethod ({ cls := "SecondHelpings$State", name := "<init>", desc := "()V" } : Jvm.MethodName)) ∈ lw_all := lw_g (lw_at lw_m1 224 rfl) rfl
theorem q318 : (Jvm.Cond.code ({ cls := "SecondHelpings$State", name := "<init>", desc := "()V" } : Jvm.MethodName) prog_23_method_1_code (1 : Nat) (Option.none : Option Jvm.ClassFile.FieldType)) ∈ lw_all := lw_g (lw_at lw_m1 225 rfl) rfl
theorem q319 : (Jvm.Cond.methodLink "SecondHelpings$State" (3 : Nat) ({ cls := "java/lang/Object", name := "<init>", desc := "()V" } : Jvm.MethodName)) ∈ lw_all := lw_g (lw_at lw_m1 226 rfl) rfl
theorem q320 : (Jvm.Cond.fieldLink "SecondHelpings$State" (9 : Nat) "SecondHelpings$State" "plate" "[I") ∈ lw_all := lw_g (lw_at lw_m1 227 rfl) rfl
theorem q323 : (Jvm.Cond.fieldLink "SecondHelpings$State" (15 : Nat) "SecondHelpings$State" "parts" "[I") ∈ lw_all := lw_g (lw_at lw_m1 230 rfl) rfl
theorem q325 : (Jvm.Cond.fieldLink "SecondHelpings$State" (18 : Nat) "SecondHelpings$State" "eaten" "[I") ∈ lw_all := lw_g (lw_at lw_m1 232 rfl) rfl
theorem q328 : (Jvm.Cond.fieldLink "SecondHelpings$State" (21 : Nat) "SecondHelpings$State" "meal" "[I") ∈ lw_all := lw_g (lw_at lw_m1 235 rfl) rfl
theorem q330 : (Jvm.Cond.fieldLink "SecondHelpings$State" (24 : Nat) "SecondHelpings$State" "hunger" "[I") ∈ lw_all := lw_g (lw_at lw_m1 237 rfl) rfl
theorem q334 : (Jvm.Cond.fieldLink "SecondHelpings$State" (33 : Nat) "SecondHelpings$State" "meals" "I") ∈ lw_all := lw_g (lw_at lw_m2 1 rfl) rfl
theorem q336 : (Jvm.Cond.fieldLink "SecondHelpings$State" (37 : Nat) "SecondHelpings$State" "dead" "I") ∈ lw_all := lw_g (lw_at lw_m2 3 rfl) rfl
theorem q339 : (Jvm.Cond.fieldLink "SecondHelpings$State" (40 : Nat) "SecondHelpings$State" "refused" "I") ∈ lw_all := lw_g (lw_at lw_m2 6 rfl) rfl
theorem q343 : (Jvm.Cond.fieldLink "SecondHelpings$State" (43 : Nat) "SecondHelpings$State" "dogs" "I") ∈ lw_all := lw_g (lw_at lw_m2 10 rfl) rfl
theorem q345 : (Jvm.Cond.fieldLink "SecondHelpings$State" (46 : Nat) "SecondHelpings$State" "spoiled" "I") ∈ lw_all := lw_g (lw_at lw_m2 12 rfl) rfl
theorem q347 : (Jvm.Cond.fieldLink "SecondHelpings$State" (49 : Nat) "SecondHelpings$State" "passed" "I") ∈ lw_all := lw_g (lw_at lw_m2 14 rfl) rfl
theorem q349 : (Jvm.Cond.fieldLink "SecondHelpings$State" (121 : Nat) "SecondHelpings$State" "seed" "I") ∈ lw_all := lw_g (lw_at lw_m2 16 rfl) rfl
theorem q350 : (Jvm.Cond.laysFinal "SecondHelpings$State" "SecondHelpings$State" "plate" "[I") ∈ lw_all := lw_g (lw_at lw_m2 17 rfl) rfl
theorem q351 : (Jvm.Cond.soleField "SecondHelpings$State" "plate") ∈ lw_all := lw_g (lw_at lw_m2 18 rfl) rfl
theorem q352 : (Jvm.Cond.laysFinal "SecondHelpings$State" "SecondHelpings$State" "parts" "[I") ∈ lw_all := lw_g (lw_at lw_m2 19 rfl) rfl
theorem q353 : (Jvm.Cond.soleField "SecondHelpings$State" "parts") ∈ lw_all := lw_g (lw_at lw_m2 20 rfl) rfl
theorem q354 : (Jvm.Cond.laysFinal "SecondHelpings$State" "SecondHelpings$State" "eaten" "[I") ∈ lw_all := lw_g (lw_at lw_m2 21 rfl) rfl
theorem q355 : (Jvm.Cond.soleField "SecondHelpings$State" "eaten") ∈ lw_all := lw_g (lw_at lw_m2 22 rfl) rfl
theorem q356 : (Jvm.Cond.laysFinal "SecondHelpings$State" "SecondHelpings$State" "meal" "[I") ∈ lw_all := lw_g (lw_at lw_m2 23 rfl) rfl
theorem q357 : (Jvm.Cond.soleField "SecondHelpings$State" "meal") ∈ lw_all := lw_g (lw_at lw_m2 24 rfl) rfl
theorem q358 : (Jvm.Cond.laysFinal "SecondHelpings$State" "SecondHelpings$State" "hunger" "[I") ∈ lw_all := lw_g (lw_at lw_m2 25 rfl) rfl
theorem q359 : (Jvm.Cond.soleField "SecondHelpings$State" "hunger") ∈ lw_all := lw_g (lw_at lw_m2 26 rfl) rfl
theorem q360 : (Jvm.Cond.lays "SecondHelpings$State" "SecondHelpings$State" "meals" "I") ∈ lw_all := lw_g (lw_at lw_m2 27 rfl) rfl
theorem q361 : (Jvm.Cond.soleField "SecondHelpings$State" "meals") ∈ lw_all := lw_g (lw_at lw_m2 28 rfl) rfl
theorem q362 : (Jvm.Cond.lays "SecondHelpings$State" "SecondHelpings$State" "dead" "I") ∈ lw_all := lw_g (lw_at lw_m2 29 rfl) rfl
theorem q363 : (Jvm.Cond.soleField "SecondHelpings$State" "dead") ∈ lw_all := lw_g (lw_at lw_m2 30 rfl) rfl
theorem q364 : (Jvm.Cond.lays "SecondHelpings$State" "SecondHelpings$State" "refused" "I") ∈ lw_all := lw_g (lw_at lw_m2 31 rfl) rfl
theorem q365 : (Jvm.Cond.soleField "SecondHelpings$State" "refused") ∈ lw_all := lw_g (lw_at lw_m2 32 rfl) rfl
theorem q366 : (Jvm.Cond.lays "SecondHelpings$State" "SecondHelpings$State" "dogs" "I") ∈ lw_all := lw_g (lw_at lw_m2 33 rfl) rfl
theorem q367 : (Jvm.Cond.soleField "SecondHelpings$State" "dogs") ∈ lw_all := lw_g (lw_at lw_m2 34 rfl) rfl
theorem q368 : (Jvm.Cond.lays "SecondHelpings$State" "SecondHelpings$State" "spoiled" "I") ∈ lw_all := lw_g (lw_at lw_m2 35 rfl) rfl
theorem q369 : (Jvm.Cond.soleField "SecondHelpings$State" "spoiled") ∈ lw_all := lw_g (lw_at lw_m2 36 rfl) rfl
theorem q370 : (Jvm.Cond.lays "SecondHelpings$State" "SecondHelpings$State" "passed" "I") ∈ lw_all := lw_g (lw_at lw_m2 37 rfl) rfl
theorem q371 : (Jvm.Cond.soleField "SecondHelpings$State" "passed") ∈ lw_all := lw_g (lw_at lw_m2 38 rfl) rfl
theorem q372 : (Jvm.Cond.lays "SecondHelpings$State" "SecondHelpings$State" "seed" "I") ∈ lw_all := lw_g (lw_at lw_m2 39 rfl) rfl
theorem q373 : (Jvm.Cond.soleField "SecondHelpings$State" "seed") ∈ lw_all := lw_g (lw_at lw_m2 40 rfl) rfl
theorem q374 : (Jvm.Cond.superclass "SecondHelpings$State" "java/lang/Object") ∈ lw_all := lw_g (lw_at lw_m2 41 rfl) rfl
theorem q457 : (Jvm.Cond.instanceMethod ({ cls := "SecondHelpings$State", name := "begin", desc := "(LSecondHelpings$Board;)V" } : Jvm.MethodName)) ∈ lw_all := lw_g (lw_at lw_m2 124 rfl) rfl
theorem q458 : (Jvm.Cond.selects "SecondHelpings$State" ({ cls := "SecondHelpings$State", name := "begin", desc := "(LSecondHelpings$Board;)V" } : Jvm.MethodName) ({ cls := "SecondHelpings$State", name := "begin", desc := "(LSecondHelpings$Board;)V" } : Jvm.MethodName)) ∈ lw_all := lw_g (lw_at lw_m2 125 rfl) rfl
theorem q459 : (Jvm.Cond.code ({ cls := "SecondHelpings$State", name := "begin", desc := "(LSecondHelpings$Board;)V" } : Jvm.MethodName) prog_23_method_3_code (2 : Nat) (Option.none : Option Jvm.ClassFile.FieldType)) ∈ lw_all := lw_g (lw_at lw_m2 126 rfl) rfl
theorem q460 : (Jvm.Cond.methodLink "SecondHelpings$State" (27 : Nat) ({ cls := "java/lang/System", name := "arraycopy", desc := "(Ljava/lang/Object;ILjava/lang/Object;II)V" } : Jvm.MethodName)) ∈ lw_all := lw_g (lw_at lw_m2 127 rfl) rfl
theorem q463 : (Jvm.Cond.methodLink "SecondHelpings$State" (56 : Nat) ({ cls := "java/util/Arrays", name := "fill", desc := "([II)V" } : Jvm.MethodName)) ∈ lw_all := lw_g (lw_at lw_m2 130 rfl) rfl
theorem q870 : (Jvm.Cond.instanceMethod ({ cls := "SecondHelpings$State", name := "be", desc := "(LSecondHelpings$State;)V" } : Jvm.MethodName)) ∈ lw_all := lw_g (lw_at lw_m4 57 rfl) rfl
theorem q871 : (Jvm.Cond.selects "SecondHelpings$State" ({ cls := "SecondHelpings$State", name := "be", desc := "(LSecondHelpings$State;)V" } : Jvm.MethodName) ({ cls := "SecondHelpings$State", name := "be", desc := "(LSecondHelpings$State;)V" } : Jvm.MethodName)) ∈ lw_all := lw_g (lw_at lw_m4 58 rfl) rfl
theorem q872 : (Jvm.Cond.code ({ cls := "SecondHelpings$State", name := "be", desc := "(LSecondHelpings$State;)V" } : Jvm.MethodName) prog_23_method_2_code (2 : Nat) (Option.none : Option Jvm.ClassFile.FieldType)) ∈ lw_all := lw_g (lw_at lw_m4 59 rfl) rfl
theorem q878 : (Jvm.Cond.instanceMethod ({ cls := "SecondHelpings$State", name := "whyEat", desc := "(LSecondHelpings$Board;III)I" } : Jvm.MethodName)) ∈ lw_all := lw_g (lw_at lw_m4 65 rfl) rfl
theorem q879 : (Jvm.Cond.selects "SecondHelpings$State" ({ cls := "SecondHelpings$State", name := "whyEat", desc := "(LSecondHelpings$Board;III)I" } : Jvm.MethodName) ({ cls := "SecondHelpings$State", name := "whyEat", desc := "(LSecondHelpings$Board;III)I" } : Jvm.MethodName)) ∈ lw_all := lw_g (lw_at lw_m4 66 rfl) rfl
theorem q880 : (Jvm.Cond.code ({ cls := "SecondHelpings$State", name := "whyEat", desc := "(LSecondHelpings$Board;III)I" } : Jvm.MethodName) prog_23_method_10_code (5 : Nat) (Option.some Jvm.ClassFile.FieldType.int)) ∈ lw_all := lw_g (lw_at lw_m4 67 rfl) rfl
theorem q881 : (Jvm.Cond.methodLink "SecondHelpings$State" (99 : Nat) ({ cls := "SecondHelpings$State", name := "isDead", desc := "(I)Z" } : Jvm.MethodName)) ∈ lw_all := lw_g (lw_at lw_m4 68 rfl) rfl
theorem q882 : (Jvm.Cond.instanceMethod ({ cls := "SecondHelpings$State", name := "isDead", desc := "(I)Z" } : Jvm.MethodName)) ∈ lw_all := lw_g (lw_at lw_m4 69 rfl) rfl
theorem q883 : (Jvm.Cond.selects "SecondHelpings$State" ({ cls := "SecondHelpings$State", name := "isDead", desc := "(I)Z" } : Jvm.MethodName) ({ cls := "SecondHelpings$State", name := "isDead", desc := "(I)Z" } : Jvm.MethodName)) ∈ lw_all := lw_g (lw_at lw_m4 70 rfl) rfl
theorem q884 : (Jvm.Cond.code ({ cls := "SecondHelpings$State", name := "isDead", desc := "(I)Z" } : Jvm.MethodName) prog_23_method_4_code (2 : Nat) (Option.some Jvm.ClassFile.FieldType.boolean)) ∈ lw_all := lw_g (lw_at lw_m4 71 rfl) rfl
theorem q885 : (Jvm.Cond.methodLinkNest "SecondHelpings$State" (62 : Nat) ({ cls := "SecondHelpings", name := "has", desc := "(II)Z" } : Jvm.MethodName) "SecondHelpings") ∈ lw_tbl := lw_at lw_m4 72 rfl
theorem q892 : (Jvm.Cond.instanceMethod ({ cls := "SecondHelpings$State", name := "eat", desc := "(III)V" } : Jvm.MethodName)) ∈ lw_all := lw_g (lw_at lw_m4 79 rfl) rfl
theorem q893 : (Jvm.Cond.selects "SecondHelpings$State" ({ cls := "SecondHelpings$State", name := "eat", desc := "(III)V" } : Jvm.MethodName) ({ cls := "SecondHelpings$State", name := "eat", desc := "(III)V" } : Jvm.MethodName)) ∈ lw_all := lw_g (lw_at lw_m4 80 rfl) rfl
theorem q894 : (Jvm.Cond.code ({ cls := "SecondHelpings$State", name := "eat", desc := "(III)V" } : Jvm.MethodName) prog_23_method_11_code (4 : Nat) (Option.none : Option Jvm.ClassFile.FieldType)) ∈ lw_all := lw_g (lw_at lw_m4 81 rfl) rfl
theorem q900 : (Jvm.Cond.instanceMethod ({ cls := "SecondHelpings$State", name := "whyServe", desc := "(III)I" } : Jvm.MethodName)) ∈ lw_all := lw_g (lw_at lw_m4 87 rfl) rfl
theorem q901 : (Jvm.Cond.selects "SecondHelpings$State" ({ cls := "SecondHelpings$State", name := "whyServe", desc := "(III)I" } : Jvm.MethodName) ({ cls := "SecondHelpings$State", name := "whyServe", desc := "(III)I" } : Jvm.MethodName)) ∈ lw_all := lw_g (lw_at lw_m4 88 rfl) rfl
theorem q902 : (Jvm.Cond.code ({ cls := "SecondHelpings$State", name := "whyServe", desc := "(III)I" } : Jvm.MethodName) prog_23_method_12_code (4 : Nat) (Option.some Jvm.ClassFile.FieldType.int)) ∈ lw_all := lw_g (lw_at lw_m4 89 rfl) rfl
theorem q904 : (Jvm.Cond.instanceMethod ({ cls := "SecondHelpings$State", name := "serve", desc := "(III)V" } : Jvm.MethodName)) ∈ lw_all := lw_g (lw_at lw_m4 91 rfl) rfl
theorem q905 : (Jvm.Cond.selects "SecondHelpings$State" ({ cls := "SecondHelpings$State", name := "serve", desc := "(III)V" } : Jvm.MethodName) ({ cls := "SecondHelpings$State", name := "serve", desc := "(III)V" } : Jvm.MethodName)) ∈ lw_all := lw_g (lw_at lw_m4 92 rfl) rfl
theorem q906 : (Jvm.Cond.code ({ cls := "SecondHelpings$State", name := "serve", desc := "(III)V" } : Jvm.MethodName) prog_23_method_13_code (4 : Nat) (Option.none : Option Jvm.ClassFile.FieldType)) ∈ lw_all := lw_g (lw_at lw_m4 93 rfl) rfl
theorem q912 : (Jvm.Cond.instanceMethod ({ cls := "SecondHelpings$State", name := "whyRise", desc := "(I)I" } : Jvm.MethodName)) ∈ lw_all := lw_g (lw_at lw_m4 99 rfl) rfl
theorem q913 : (Jvm.Cond.selects "SecondHelpings$State" ({ cls := "SecondHelpings$State", name := "whyRise", desc := "(I)I" } : Jvm.MethodName) ({ cls := "SecondHelpings$State", name := "whyRise", desc := "(I)I" } : Jvm.MethodName)) ∈ lw_all := lw_g (lw_at lw_m4 100 rfl) rfl
theorem q914 : (Jvm.Cond.code ({ cls := "SecondHelpings$State", name := "whyRise", desc := "(I)I" } : Jvm.MethodName) prog_23_method_14_code (2 : Nat) (Option.some Jvm.ClassFile.FieldType.int)) ∈ lw_all := lw_g (lw_at lw_m4 101 rfl) rfl
theorem q915 : (Jvm.Cond.methodLink "SecondHelpings$State" (82 : Nat) ({ cls := "SecondHelpings$State", name := "on", desc := "(I)I" } : Jvm.MethodName)) ∈ lw_all := lw_g (lw_at lw_m4 102 rfl) rfl
theorem q916 : (Jvm.Cond.instanceMethod ({ cls := "SecondHelpings$State", name := "on", desc := "(I)I" } : Jvm.MethodName)) ∈ lw_all := lw_g (lw_at lw_m4 103 rfl) rfl
theorem q917 : (Jvm.Cond.selects "SecondHelpings$State" ({ cls := "SecondHelpings$State", name := "on", desc := "(I)I" } : Jvm.MethodName) ({ cls := "SecondHelpings$State", name := "on", desc := "(I)I" } : Jvm.MethodName)) ∈ lw_all := lw_g (lw_at lw_m4 104 rfl) rfl
theorem q918 : (Jvm.Cond.code ({ cls := "SecondHelpings$State", name := "on", desc := "(I)I" } : Jvm.MethodName) prog_23_method_5_code (4 : Nat) (Option.some Jvm.ClassFile.FieldType.int)) ∈ lw_all := lw_g (lw_at lw_m4 105 rfl) rfl
theorem q920 : (Jvm.Cond.privateMethod ({ cls := "SecondHelpings$State", name := "passes", desc := "(LSecondHelpings$Board;I)V" } : Jvm.MethodName)) ∈ lw_tbl := lw_at lw_m4 107 rfl
theorem q921 : (Jvm.Cond.instanceMethod ({ cls := "SecondHelpings$State", name := "passes", desc := "(LSecondHelpings$Board;I)V" } : Jvm.MethodName)) ∈ lw_all := lw_g (lw_at lw_m4 108 rfl) rfl
theorem q922 : (Jvm.Cond.code ({ cls := "SecondHelpings$State", name := "passes", desc := "(LSecondHelpings$Board;I)V" } : Jvm.MethodName) prog_23_method_9_code (8 : Nat) (Option.none : Option Jvm.ClassFile.FieldType)) ∈ lw_all := lw_g (lw_at lw_m4 109 rfl) rfl
theorem q923 : (Jvm.Cond.methodLink "SecondHelpings$State" (86 : Nat) ({ cls := "SecondHelpings$State", name := "heir", desc := "(LSecondHelpings$Board;I)I" } : Jvm.MethodName)) ∈ lw_all := lw_g (lw_at lw_m4 110 rfl) rfl
theorem q924 : (Jvm.Cond.instanceMethod ({ cls := "SecondHelpings$State", name := "heir", desc := "(LSecondHelpings$Board;I)I" } : Jvm.MethodName)) ∈ lw_all := lw_g (lw_at lw_m4 111 rfl) rfl
theorem q925 : (Jvm.Cond.selects "SecondHelpings$State" ({ cls := "SecondHelpings$State", name := "heir", desc := "(LSecondHelpings$Board;I)I" } : Jvm.MethodName) ({ cls := "SecondHelpings$State", name := "heir", desc := "(LSecondHelpings$Board;I)I" } : Jvm.MethodName)) ∈ lw_all := lw_g (lw_at lw_m4 112 rfl) rfl
theorem q926 : (Jvm.Cond.code ({ cls := "SecondHelpings$State", name := "heir", desc := "(LSecondHelpings$Board;I)I" } : Jvm.MethodName) prog_23_method_8_code (3 : Nat) (Option.some Jvm.ClassFile.FieldType.int)) ∈ lw_all := lw_g (lw_at lw_m4 113 rfl) rfl
theorem q927 : (Jvm.Cond.methodLink "SecondHelpings$State" (79 : Nat) ({ cls := "SecondHelpings$State", name := "heir", desc := "(LSecondHelpings$Board;II)I" } : Jvm.MethodName)) ∈ lw_all := lw_g (lw_at lw_m4 114 rfl) rfl
theorem q928 : (Jvm.Cond.instanceMethod ({ cls := "SecondHelpings$State", name := "heir", desc := "(LSecondHelpings$Board;II)I" } : Jvm.MethodName)) ∈ lw_all := lw_g (lw_at lw_m4 115 rfl) rfl
theorem q929 : (Jvm.Cond.selects "SecondHelpings$State" ({ cls := "SecondHelpings$State", name := "heir", desc := "(LSecondHelpings$Board;II)I" } : Jvm.MethodName) ({ cls := "SecondHelpings$State", name := "heir", desc := "(LSecondHelpings$Board;II)I" } : Jvm.MethodName)) ∈ lw_all := lw_g (lw_at lw_m4 116 rfl) rfl
theorem q930 : (Jvm.Cond.code ({ cls := "SecondHelpings$State", name := "heir", desc := "(LSecondHelpings$Board;II)I" } : Jvm.MethodName) prog_23_method_7_code (6 : Nat) (Option.some Jvm.ClassFile.FieldType.int)) ∈ lw_all := lw_g (lw_at lw_m4 117 rfl) rfl
theorem q931 : (Jvm.Cond.methodLink "SecondHelpings$State" (75 : Nat) ({ cls := "SecondHelpings$State", name := "nextOf", desc := "(LSecondHelpings$Board;II)I" } : Jvm.MethodName)) ∈ lw_all := lw_g (lw_at lw_m4 118 rfl) rfl
theorem q932 : (Jvm.Cond.privateMethod ({ cls := "SecondHelpings$State", name := "nextOf", desc := "(LSecondHelpings$Board;II)I" } : Jvm.MethodName)) ∈ lw_tbl := lw_at lw_m4 119 rfl
theorem q933 : (Jvm.Cond.instanceMethod ({ cls := "SecondHelpings$State", name := "nextOf", desc := "(LSecondHelpings$Board;II)I" } : Jvm.MethodName)) ∈ lw_all := lw_g (lw_at lw_m4 120 rfl) rfl
theorem q934 : (Jvm.Cond.code ({ cls := "SecondHelpings$State", name := "nextOf", desc := "(LSecondHelpings$Board;II)I" } : Jvm.MethodName) prog_23_method_6_code (5 : Nat) (Option.some Jvm.ClassFile.FieldType.int)) ∈ lw_all := lw_g (lw_at lw_m4 121 rfl) rfl
theorem q935 : (Jvm.Cond.methodLink "SecondHelpings$State" (93 : Nat) ({ cls := "java/lang/Math", name := "min", desc := "(II)I" } : Jvm.MethodName)) ∈ lw_all := lw_g (lw_at lw_m4 122 rfl) rfl
theorem q943 : (Jvm.Cond.instanceMethod ({ cls := "SecondHelpings$State", name := "whyRefuse", desc := "(I)I" } : Jvm.MethodName)) ∈ lw_all := lw_g (lw_at lw_m4 130 rfl) rfl
theorem q944 : (Jvm.Cond.selects "SecondHelpings$State" ({ cls := "SecondHelpings$State", name := "whyRefuse", desc := "(I)I" } : Jvm.MethodName) ({ cls := "SecondHelpings$State", name := "whyRefuse", desc := "(I)I" } : Jvm.MethodName)) ∈ lw_all := lw_g (lw_at lw_m4 131 rfl) rfl
theorem q945 : (Jvm.Cond.code ({ cls := "SecondHelpings$State", name := "whyRefuse", desc := "(I)I" } : Jvm.MethodName) prog_23_method_15_code (2 : Nat) (Option.some Jvm.ClassFile.FieldType.int)) ∈ lw_all := lw_g (lw_at lw_m4 132 rfl) rfl
theorem q951 : (Jvm.Cond.instanceMethod ({ cls := "SecondHelpings$State", name := "whyAccept", desc := "(I)I" } : Jvm.MethodName)) ∈ lw_all := lw_g (lw_at lw_m4 138 rfl) rfl
theorem q952 : (Jvm.Cond.selects "SecondHelpings$State" ({ cls := "SecondHelpings$State", name := "whyAccept", desc := "(I)I" } : Jvm.MethodName) ({ cls := "SecondHelpings$State", name := "whyAccept", desc := "(I)I" } : Jvm.MethodName)) ∈ lw_all := lw_g (lw_at lw_m4 139 rfl) rfl
theorem q953 : (Jvm.Cond.code ({ cls := "SecondHelpings$State", name := "whyAccept", desc := "(I)I" } : Jvm.MethodName) prog_23_method_16_code (2 : Nat) (Option.some Jvm.ClassFile.FieldType.int)) ∈ lw_all := lw_g (lw_at lw_m4 140 rfl) rfl
theorem q959 : (Jvm.Cond.instanceMethod ({ cls := "SecondHelpings$State", name := "whyDie", desc := "(I)I" } : Jvm.MethodName)) ∈ lw_all := lw_g (lw_at lw_m4 146 rfl) rfl
theorem q960 : (Jvm.Cond.selects "SecondHelpings$State" ({ cls := "SecondHelpings$State", name := "whyDie", desc := "(I)I" } : Jvm.MethodName) ({ cls := "SecondHelpings$State", name := "whyDie", desc := "(I)I" } : Jvm.MethodName)) ∈ lw_all := lw_g (lw_at lw_m4 147 rfl) rfl
theorem q961 : (Jvm.Cond.code ({ cls := "SecondHelpings$State", name := "whyDie", desc := "(I)I" } : Jvm.MethodName) prog_23_method_17_code (2 : Nat) (Option.some Jvm.ClassFile.FieldType.int)) ∈ lw_all := lw_g (lw_at lw_m4 148 rfl) rfl
theorem q963 : (Jvm.Cond.instanceMethod ({ cls := "SecondHelpings$State", name := "die", desc := "(LSecondHelpings$Board;I)V" } : Jvm.MethodName)) ∈ lw_all := lw_g (lw_at lw_m4 150 rfl) rfl
theorem q964 : (Jvm.Cond.selects "SecondHelpings$State" ({ cls := "SecondHelpings$State", name := "die", desc := "(LSecondHelpings$Board;I)V" } : Jvm.MethodName) ({ cls := "SecondHelpings$State", name := "die", desc := "(LSecondHelpings$Board;I)V" } : Jvm.MethodName)) ∈ lw_all := lw_g (lw_at lw_m4 151 rfl) rfl
theorem q965 : (Jvm.Cond.code ({ cls := "SecondHelpings$State", name := "die", desc := "(LSecondHelpings$Board;I)V" } : Jvm.MethodName) prog_23_method_18_code (3 : Nat) (Option.none : Option Jvm.ClassFile.FieldType)) ∈ lw_all := lw_g (lw_at lw_m4 152 rfl) rfl
theorem q966 : (Jvm.Cond.methodLink "SecondHelpings$State" (106 : Nat) ({ cls := "SecondHelpings$State", name := "passes", desc := "(LSecondHelpings$Board;I)V" } : Jvm.MethodName)) ∈ lw_all := lw_g (lw_at lw_m4 153 rfl) rfl
theorem q972 : (Jvm.Cond.instanceMethod ({ cls := "SecondHelpings$State", name := "meals", desc := "(LSecondHelpings$Board;I)I" } : Jvm.MethodName)) ∈ lw_all := lw_g (lw_at lw_m4 159 rfl) rfl
theorem q973 : (Jvm.Cond.selects "SecondHelpings$State" ({ cls := "SecondHelpings$State", name := "meals", desc := "(LSecondHelpings$Board;I)I" } : Jvm.MethodName) ({ cls := "SecondHelpings$State", name := "meals", desc := "(LSecondHelpings$Board;I)I" } : Jvm.MethodName)) ∈ lw_all := lw_g (lw_at lw_m4 160 rfl) rfl
theorem q974 : (Jvm.Cond.code ({ cls := "SecondHelpings$State", name := "meals", desc := "(LSecondHelpings$Board;I)I" } : Jvm.MethodName) prog_23_method_22_code (4 : Nat) (Option.some Jvm.ClassFile.FieldType.int)) ∈ lw_all := lw_g (lw_at lw_m4 161 rfl) rfl
theorem q975 : (Jvm.Cond.methodLink "SecondHelpings$State" (117 : Nat) ({ cls := "SecondHelpings$State", name := "goOn", desc := "(LSecondHelpings$Board;)V" } : Jvm.MethodName)) ∈ lw_all := lw_g (lw_at lw_m4 162 rfl) rfl
theorem q976 : (Jvm.Cond.instanceMethod ({ cls := "SecondHelpings$State", name := "goOn", desc := "(LSecondHelpings$Board;)V" } : Jvm.MethodName)) ∈ lw_all := lw_g (lw_at lw_m4 163 rfl) rfl
theorem q977 : (Jvm.Cond.selects "SecondHelpings$State" ({ cls := "SecondHelpings$State", name := "goOn", desc := "(LSecondHelpings$Board;)V" } : Jvm.MethodName) ({ cls := "SecondHelpings$State", name := "goOn", desc := "(LSecondHelpings$Board;)V" } : Jvm.MethodName)) ∈ lw_all := lw_g (lw_at lw_m4 164 rfl) rfl
theorem q978 : (Jvm.Cond.code ({ cls := "SecondHelpings$State", name := "goOn", desc := "(LSecondHelpings$Board;)V" } : Jvm.MethodName) prog_23_method_21_code (5 : Nat) (Option.none : Option Jvm.ClassFile.FieldType)) ∈ lw_all := lw_g (lw_at lw_m4 165 rfl) rfl
theorem q1003 : (Jvm.Cond.instanceMethod ({ cls := "SecondHelpings$State", name := "wanted", desc := "(LSecondHelpings$Board;)I" } : Jvm.MethodName)) ∈ lw_all := lw_g (lw_at lw_m4 190 rfl) rfl
theorem q1004 : (Jvm.Cond.selects "SecondHelpings$State" ({ cls := "SecondHelpings$State", name := "wanted", desc := "(LSecondHelpings$Board;)I" } : Jvm.MethodName) ({ cls := "SecondHelpings$State", name := "wanted", desc := "(LSecondHelpings$Board;)I" } : Jvm.MethodName)) ∈ lw_all := lw_g (lw_at lw_m4 191 rfl) rfl
theorem q1005 : (Jvm.Cond.code ({ cls := "SecondHelpings$State", name := "wanted", desc := "(LSecondHelpings$Board;)I" } : Jvm.MethodName) prog_23_method_20_code (4 : Nat) (Option.some Jvm.ClassFile.FieldType.int)) ∈ lw_all := lw_g (lw_at lw_m4 192 rfl) rfl
theorem q1011 : (Jvm.Cond.instanceMethod ({ cls := "SecondHelpings$State", name := "eats", desc := "(LSecondHelpings$Board;I)V" } : Jvm.MethodName)) ∈ lw_all := lw_g (lw_at lw_m4 198 rfl) rfl
theorem q1012 : (Jvm.Cond.selects "SecondHelpings$State" ({ cls := "SecondHelpings$State", name := "eats", desc := "(LSecondHelpings$Board;I)V" } : Jvm.MethodName) ({ cls := "SecondHelpings$State", name := "eats", desc := "(LSecondHelpings$Board;I)V" } : Jvm.MethodName)) ∈ lw_all := lw_g (lw_at lw_m4 199 rfl) rfl
theorem q1013 : (Jvm.Cond.code ({ cls := "SecondHelpings$State", name := "eats", desc := "(LSecondHelpings$Board;I)V" } : Jvm.MethodName) prog_23_method_19_code (4 : Nat) (Option.none : Option Jvm.ClassFile.FieldType)) ∈ lw_all := lw_g (lw_at lw_m4 200 rfl) rfl
theorem q1014 : (Jvm.Cond.methodLink "SecondHelpings$State" (110 : Nat) ({ cls := "SecondHelpings$State", name := "eat", desc := "(III)V" } : Jvm.MethodName)) ∈ lw_all := lw_g (lw_at lw_m4 201 rfl) rfl
theorem q1152 : (Jvm.Cond.instanceMethod ({ cls := "SecondHelpings$State", name := "draws", desc := "(LSecondHelpings$Board;II)I" } : Jvm.MethodName)) ∈ lw_all := lw_g (lw_at lw_m5 99 rfl) rfl
theorem q1153 : (Jvm.Cond.selects "SecondHelpings$State" ({ cls := "SecondHelpings$State", name := "draws", desc := "(LSecondHelpings$Board;II)I" } : Jvm.MethodName) ({ cls := "SecondHelpings$State", name := "draws", desc := "(LSecondHelpings$Board;II)I" } : Jvm.MethodName)) ∈ lw_all := lw_g (lw_at lw_m5 100 rfl) rfl
theorem q1154 : (Jvm.Cond.code ({ cls := "SecondHelpings$State", name := "draws", desc := "(LSecondHelpings$Board;II)I" } : Jvm.MethodName) prog_23_method_25_code (6 : Nat) (Option.some Jvm.ClassFile.FieldType.int)) ∈ lw_all := lw_g (lw_at lw_m5 101 rfl) rfl
theorem q1155 : (Jvm.Cond.methodLink "SecondHelpings$State" (134 : Nat) ({ cls := "SecondHelpings$State", name := "drawPerson", desc := "(LSecondHelpings$Board;I)V" } : Jvm.MethodName)) ∈ lw_all := lw_g (lw_at lw_m5 102 rfl) rfl
theorem q1156 : (Jvm.Cond.privateMethod ({ cls := "SecondHelpings$State", name := "drawPerson", desc := "(LSecondHelpings$Board;I)V" } : Jvm.MethodName)) ∈ lw_tbl := lw_at lw_m5 103 rfl
theorem q1157 : (Jvm.Cond.instanceMethod ({ cls := "SecondHelpings$State", name := "drawPerson", desc := "(LSecondHelpings$Board;I)V" } : Jvm.MethodName)) ∈ lw_all := lw_g (lw_at lw_m5 104 rfl) rfl
theorem q1158 : (Jvm.Cond.code ({ cls := "SecondHelpings$State", name := "drawPerson", desc := "(LSecondHelpings$Board;I)V" } : Jvm.MethodName) prog_23_method_24_code (4 : Nat) (Option.none : Option Jvm.ClassFile.FieldType)) ∈ lw_all := lw_g (lw_at lw_m5 105 rfl) rfl
theorem q1159 : (Jvm.Cond.methodLink "SecondHelpings$State" (125 : Nat) ({ cls := "SecondHelpings$State", name := "draw", desc := "(I)I" } : Jvm.MethodName)) ∈ lw_all := lw_g (lw_at lw_m5 106 rfl) rfl
theorem q1160 : (Jvm.Cond.privateMethod ({ cls := "SecondHelpings$State", name := "draw", desc := "(I)I" } : Jvm.MethodName)) ∈ lw_tbl := lw_at lw_m5 107 rfl
theorem q1161 : (Jvm.Cond.instanceMethod ({ cls := "SecondHelpings$State", name := "draw", desc := "(I)I" } : Jvm.MethodName)) ∈ lw_all := lw_g (lw_at lw_m5 108 rfl) rfl
theorem q1162 : (Jvm.Cond.code ({ cls := "SecondHelpings$State", name := "draw", desc := "(I)I" } : Jvm.MethodName) prog_23_method_23_code (2 : Nat) (Option.some Jvm.ClassFile.FieldType.int)) ∈ lw_all := lw_g (lw_at lw_m5 109 rfl) rfl
theorem q1163 : (Jvm.Cond.constant "SecondHelpings$State" (124 : Nat) (1103515245 : Int32)) ∈ lw_all := lw_g (lw_at lw_m5 110 rfl) rfl
theorem q1164 : (Jvm.Cond.methodLink "SecondHelpings$State" (128 : Nat) ({ cls := "SecondHelpings$State", name := "die", desc := "(LSecondHelpings$Board;I)V" } : Jvm.MethodName)) ∈ lw_all := lw_g (lw_at lw_m5 111 rfl) rfl
theorem q1165 : (Jvm.Cond.methodLink "SecondHelpings$State" (131 : Nat) ({ cls := "SecondHelpings$State", name := "eats", desc := "(LSecondHelpings$Board;I)V" } : Jvm.MethodName)) ∈ lw_all := lw_g (lw_at lw_m5 112 rfl) rfl
theorem q2256 : (Jvm.Cond.castable "SecondHelpings$State" "java/lang/Object") ∈ lw_tbl := lw_at lw_m10 3 rfl
theorem in_X4 : ∀ w ∈ wsX40, w ∈ lw_all := lw_in wsX40 [350, 352, 354, 356, 358, 360, 362, 364, 366, 368, 370, 372] (by decide +kernel) (by decide +kernel)
/-! SecondHelpings$Reader -/
set_option maxRecDepth 100000
def RX5 : String := "SecondHelpings$Reader"
abbrev cX5_init : ByteArray := prog_18_method_1_code
def yX5_init : MethodName := ⟨RX5, "<init>", "(LSecondHelpings;I)V"⟩
def dkwX5_init_0 : List UInt8 := [42, 43, 181, 0, 3, 42, 183, 0, 9, 42, 28, 181, 0, 15, 177]
abbrev dktX5_init_0 : List UInt8 := dkwX5_init_0 ++ []
theorem dksX5_init_0 : cX5_init.data.toList.drop 0 = dktX5_init_0 := by decide +kernel
theorem dX5_init_0 : decode cX5_init 0 = .ok (.aload_n 0, 1) := dk_42 (dk_at dksX5_init_0 0 rfl rfl)
theorem dX5_init_1 : decode cX5_init 1 = .ok (.aload_n 1, 1) := dk_43 (dk_at dksX5_init_0 1 rfl rfl)
theorem dX5_init_2 : decode cX5_init 2 = .ok (.putfield 3, 3) := dk_181 0 3 (dk_at dksX5_init_0 2 rfl rfl)
theorem dX5_init_5 : decode cX5_init 5 = .ok (.aload_n 0, 1) := dk_42 (dk_at dksX5_init_0 5 rfl rfl)
theorem dX5_init_6 : decode cX5_init 6 = .ok (.invokespecial 9, 3) := dk_183 0 9 (dk_at dksX5_init_0 6 rfl rfl)
theorem dX5_init_9 : decode cX5_init 9 = .ok (.aload_n 0, 1) := dk_42 (dk_at dksX5_init_0 9 rfl rfl)
theorem dX5_init_10 : decode cX5_init 10 = .ok (.iload_n 2, 1) := dk_28 (dk_at dksX5_init_0 10 rfl rfl)
theorem dX5_init_11 : decode cX5_init 11 = .ok (.putfield 15, 3) := dk_181 0 15 (dk_at dksX5_init_0 11 rfl rfl)
theorem dX5_init_14 : decode cX5_init 14 = .ok (.return_, 1) := dk_177 (dk_at dksX5_init_0 14 rfl rfl)
abbrev cX5_begin : ByteArray := prog_18_method_2_code
def yX5_begin : MethodName := ⟨RX5, "begin", "()V"⟩
def dkwX5_begin_0 : List UInt8 := [42, 3, 181, 0, 19, 42, 182, 0, 22, 177]
abbrev dktX5_begin_0 : List UInt8 := dkwX5_begin_0 ++ []
theorem dksX5_begin_0 : cX5_begin.data.toList.drop 0 = dktX5_begin_0 := by decide +kernel
theorem dX5_begin_0 : decode cX5_begin 0 = .ok (.aload_n 0, 1) := dk_42 (dk_at dksX5_begin_0 0 rfl rfl)
theorem dX5_begin_1 : decode cX5_begin 1 = .ok (.iconst 0, 1) := dk_3 (dk_at dksX5_begin_0 1 rfl rfl)
theorem dX5_begin_2 : decode cX5_begin 2 = .ok (.putfield 19, 3) := dk_181 0 19 (dk_at dksX5_begin_0 2 rfl rfl)
theorem dX5_begin_5 : decode cX5_begin 5 = .ok (.aload_n 0, 1) := dk_42 (dk_at dksX5_begin_0 5 rfl rfl)
theorem dX5_begin_6 : decode cX5_begin 6 = .ok (.invokevirtual 22, 3) := dk_182 0 22 (dk_at dksX5_begin_0 6 rfl rfl)
theorem dX5_begin_9 : decode cX5_begin 9 = .ok (.return_, 1) := dk_177 (dk_at dksX5_begin_0 9 rfl rfl)
abbrev cX5_next : ByteArray := prog_18_method_6_code
def yX5_next : MethodName := ⟨RX5, "next", "()V"⟩
def dkwX5_next_7 : List UInt8 := [42, 27, 181, 0, 57, 42, 89, 180, 0, 19, 4, 96, 181, 0, 19, 177]
abbrev dktX5_next_7 : List UInt8 := dkwX5_next_7 ++ []
def dkwX5_next_6 : List UInt8 := [16, 41, 159, 0, 14, 27, 16, 60, 16, 62, 184, 0, 32, 153, 0, 7, 6, 167, 0, 4, 7, 181, 0, 43]
abbrev dktX5_next_6 : List UInt8 := dkwX5_next_6 ++ dktX5_next_7
def dkwX5_next_5 : List UInt8 := [182, 0, 46, 182, 0, 53, 167, 0, 56, 42, 27, 16, 59, 159, 0, 26, 27, 16, 40, 159, 0, 20, 27]
abbrev dktX5_next_5 : List UInt8 := dkwX5_next_5 ++ dktX5_next_6
def dkwX5_next_4 : List UInt8 := [167, 0, 84, 42, 27, 182, 0, 46, 154, 0, 11, 42, 27, 182, 0, 50, 153, 0, 15, 42, 42, 27]
abbrev dktX5_next_4 : List UInt8 := dkwX5_next_4 ++ dktX5_next_5
def dkwX5_next_3 : List UInt8 := [181, 0, 40, 42, 7, 181, 0, 43, 177, 42, 182, 0, 36, 60, 27, 156, 0, 11, 42, 3, 181, 0, 43]
abbrev dktX5_next_3 : List UInt8 := dkwX5_next_3 ++ dktX5_next_4
def dkwX5_next_2 : List UInt8 := [180, 0, 15, 164, 0, 28, 42, 180, 0, 19, 42, 180, 0, 15, 161, 0, 17, 42, 42, 180, 0, 15]
abbrev dktX5_next_2 : List UInt8 := dkwX5_next_2 ++ dktX5_next_3
def dkwX5_next_1 : List UInt8 := [96, 181, 0, 19, 167, 255, 228, 42, 42, 180, 0, 19, 181, 0, 40, 42, 180, 0, 3, 180, 0, 25, 42]
abbrev dktX5_next_1 : List UInt8 := dkwX5_next_1 ++ dktX5_next_2
def dkwX5_next_0 : List UInt8 := [42, 182, 0, 36, 16, 32, 159, 0, 12, 42, 182, 0, 36, 16, 10, 160, 0, 16, 42, 89, 180, 0, 19, 4]
abbrev dktX5_next_0 : List UInt8 := dkwX5_next_0 ++ dktX5_next_1
theorem dksX5_next_0 : cX5_next.data.toList.drop 0 = dktX5_next_0 := by decide +kernel
theorem dksX5_next_1 : cX5_next.data.toList.drop 24 = dktX5_next_1 := dk_seg dksX5_next_0 24 rfl rfl
theorem dksX5_next_2 : cX5_next.data.toList.drop 47 = dktX5_next_2 := dk_seg dksX5_next_1 23 rfl rfl
theorem dksX5_next_3 : cX5_next.data.toList.drop 69 = dktX5_next_3 := dk_seg dksX5_next_2 22 rfl rfl
theorem dksX5_next_4 : cX5_next.data.toList.drop 92 = dktX5_next_4 := dk_seg dksX5_next_3 23 rfl rfl
theorem dksX5_next_5 : cX5_next.data.toList.drop 114 = dktX5_next_5 := dk_seg dksX5_next_4 22 rfl rfl
theorem dksX5_next_6 : cX5_next.data.toList.drop 137 = dktX5_next_6 := dk_seg dksX5_next_5 23 rfl rfl
theorem dksX5_next_7 : cX5_next.data.toList.drop 161 = dktX5_next_7 := dk_seg dksX5_next_6 24 rfl rfl
theorem dX5_next_0 : decode cX5_next 0 = .ok (.aload_n 0, 1) := dk_42 (dk_at dksX5_next_0 0 rfl rfl)
theorem dX5_next_1 : decode cX5_next 1 = .ok (.invokevirtual 36, 3) := dk_182 0 36 (dk_at dksX5_next_0 1 rfl rfl)
theorem dX5_next_4 : decode cX5_next 4 = .ok (.bipush 32, 2) := dk_16 32 (dk_at dksX5_next_0 4 rfl rfl)
theorem dX5_next_6 : decode cX5_next 6 = .ok (.if_icmp .eq 12, 3) := dk_159 0 12 (dk_at dksX5_next_0 6 rfl rfl)
theorem dX5_next_9 : decode cX5_next 9 = .ok (.aload_n 0, 1) := dk_42 (dk_at dksX5_next_0 9 rfl rfl)
theorem dX5_next_10 : decode cX5_next 10 = .ok (.invokevirtual 36, 3) := dk_182 0 36 (dk_at dksX5_next_0 10 rfl rfl)
theorem dX5_next_13 : decode cX5_next 13 = .ok (.bipush 10, 2) := dk_16 10 (dk_at dksX5_next_0 13 rfl rfl)
theorem dX5_next_15 : decode cX5_next 15 = .ok (.if_icmp .ne 16, 3) := dk_160 0 16 (dk_at dksX5_next_0 15 rfl rfl)
theorem dX5_next_18 : decode cX5_next 18 = .ok (.aload_n 0, 1) := dk_42 (dk_at dksX5_next_0 18 rfl rfl)
theorem dX5_next_19 : decode cX5_next 19 = .ok (.dup, 1) := dk_89 (dk_at dksX5_next_0 19 rfl rfl)
theorem dX5_next_20 : decode cX5_next 20 = .ok (.getfield 19, 3) := dk_180 0 19 (dk_at dksX5_next_0 20 rfl rfl)
theorem dX5_next_23 : decode cX5_next 23 = .ok (.iconst 1, 1) := dk_4 (dk_at dksX5_next_0 23 rfl rfl)
theorem dX5_next_24 : decode cX5_next 24 = .ok (.iadd, 1) := dk_96 (dk_at dksX5_next_1 0 rfl rfl)
theorem dX5_next_25 : decode cX5_next 25 = .ok (.putfield 19, 3) := dk_181 0 19 (dk_at dksX5_next_1 1 rfl rfl)
theorem dX5_next_28 : decode cX5_next 28 = .ok (.goto (-28), 3) := dk_167 255 228 (dk_at dksX5_next_1 4 rfl rfl)
theorem dX5_next_31 : decode cX5_next 31 = .ok (.aload_n 0, 1) := dk_42 (dk_at dksX5_next_1 7 rfl rfl)
theorem dX5_next_32 : decode cX5_next 32 = .ok (.aload_n 0, 1) := dk_42 (dk_at dksX5_next_1 8 rfl rfl)
theorem dX5_next_33 : decode cX5_next 33 = .ok (.getfield 19, 3) := dk_180 0 19 (dk_at dksX5_next_1 9 rfl rfl)
theorem dX5_next_36 : decode cX5_next 36 = .ok (.putfield 40, 3) := dk_181 0 40 (dk_at dksX5_next_1 12 rfl rfl)
theorem dX5_next_39 : decode cX5_next 39 = .ok (.aload_n 0, 1) := dk_42 (dk_at dksX5_next_1 15 rfl rfl)
theorem dX5_next_40 : decode cX5_next 40 = .ok (.getfield 3, 3) := dk_180 0 3 (dk_at dksX5_next_1 16 rfl rfl)
theorem dX5_next_43 : decode cX5_next 43 = .ok (.getfield 25, 3) := dk_180 0 25 (dk_at dksX5_next_1 19 rfl rfl)
theorem dX5_next_46 : decode cX5_next 46 = .ok (.aload_n 0, 1) := dk_42 (dk_at dksX5_next_1 22 rfl rfl)
theorem dX5_next_47 : decode cX5_next 47 = .ok (.getfield 15, 3) := dk_180 0 15 (dk_at dksX5_next_2 0 rfl rfl)
theorem dX5_next_50 : decode cX5_next 50 = .ok (.if_icmp .le 28, 3) := dk_164 0 28 (dk_at dksX5_next_2 3 rfl rfl)
theorem dX5_next_53 : decode cX5_next 53 = .ok (.aload_n 0, 1) := dk_42 (dk_at dksX5_next_2 6 rfl rfl)
theorem dX5_next_54 : decode cX5_next 54 = .ok (.getfield 19, 3) := dk_180 0 19 (dk_at dksX5_next_2 7 rfl rfl)
theorem dX5_next_57 : decode cX5_next 57 = .ok (.aload_n 0, 1) := dk_42 (dk_at dksX5_next_2 10 rfl rfl)
theorem dX5_next_58 : decode cX5_next 58 = .ok (.getfield 15, 3) := dk_180 0 15 (dk_at dksX5_next_2 11 rfl rfl)
theorem dX5_next_61 : decode cX5_next 61 = .ok (.if_icmp .lt 17, 3) := dk_161 0 17 (dk_at dksX5_next_2 14 rfl rfl)
theorem dX5_next_64 : decode cX5_next 64 = .ok (.aload_n 0, 1) := dk_42 (dk_at dksX5_next_2 17 rfl rfl)
theorem dX5_next_65 : decode cX5_next 65 = .ok (.aload_n 0, 1) := dk_42 (dk_at dksX5_next_2 18 rfl rfl)
theorem dX5_next_66 : decode cX5_next 66 = .ok (.getfield 15, 3) := dk_180 0 15 (dk_at dksX5_next_2 19 rfl rfl)
theorem dX5_next_69 : decode cX5_next 69 = .ok (.putfield 40, 3) := dk_181 0 40 (dk_at dksX5_next_3 0 rfl rfl)
theorem dX5_next_72 : decode cX5_next 72 = .ok (.aload_n 0, 1) := dk_42 (dk_at dksX5_next_3 3 rfl rfl)
theorem dX5_next_73 : decode cX5_next 73 = .ok (.iconst 4, 1) := dk_7 (dk_at dksX5_next_3 4 rfl rfl)
theorem dX5_next_74 : decode cX5_next 74 = .ok (.putfield 43, 3) := dk_181 0 43 (dk_at dksX5_next_3 5 rfl rfl)
theorem dX5_next_77 : decode cX5_next 77 = .ok (.return_, 1) := dk_177 (dk_at dksX5_next_3 8 rfl rfl)
theorem dX5_next_78 : decode cX5_next 78 = .ok (.aload_n 0, 1) := dk_42 (dk_at dksX5_next_3 9 rfl rfl)
theorem dX5_next_79 : decode cX5_next 79 = .ok (.invokevirtual 36, 3) := dk_182 0 36 (dk_at dksX5_next_3 10 rfl rfl)
theorem dX5_next_82 : decode cX5_next 82 = .ok (.istore_n 1, 1) := dk_60 (dk_at dksX5_next_3 13 rfl rfl)
theorem dX5_next_83 : decode cX5_next 83 = .ok (.iload_n 1, 1) := dk_27 (dk_at dksX5_next_3 14 rfl rfl)
theorem dX5_next_84 : decode cX5_next 84 = .ok (.ifCond .ge 11, 3) := dk_156 0 11 (dk_at dksX5_next_3 15 rfl rfl)
theorem dX5_next_87 : decode cX5_next 87 = .ok (.aload_n 0, 1) := dk_42 (dk_at dksX5_next_3 18 rfl rfl)
theorem dX5_next_88 : decode cX5_next 88 = .ok (.iconst 0, 1) := dk_3 (dk_at dksX5_next_3 19 rfl rfl)
theorem dX5_next_89 : decode cX5_next 89 = .ok (.putfield 43, 3) := dk_181 0 43 (dk_at dksX5_next_3 20 rfl rfl)
theorem dX5_next_92 : decode cX5_next 92 = .ok (.goto 84, 3) := dk_167 0 84 (dk_at dksX5_next_4 0 rfl rfl)
theorem dX5_next_95 : decode cX5_next 95 = .ok (.aload_n 0, 1) := dk_42 (dk_at dksX5_next_4 3 rfl rfl)
theorem dX5_next_96 : decode cX5_next 96 = .ok (.iload_n 1, 1) := dk_27 (dk_at dksX5_next_4 4 rfl rfl)
theorem dX5_next_97 : decode cX5_next 97 = .ok (.invokevirtual 46, 3) := dk_182 0 46 (dk_at dksX5_next_4 5 rfl rfl)
theorem dX5_next_100 : decode cX5_next 100 = .ok (.ifCond .ne 11, 3) := dk_154 0 11 (dk_at dksX5_next_4 8 rfl rfl)
theorem dX5_next_103 : decode cX5_next 103 = .ok (.aload_n 0, 1) := dk_42 (dk_at dksX5_next_4 11 rfl rfl)
theorem dX5_next_104 : decode cX5_next 104 = .ok (.iload_n 1, 1) := dk_27 (dk_at dksX5_next_4 12 rfl rfl)
theorem dX5_next_105 : decode cX5_next 105 = .ok (.invokevirtual 50, 3) := dk_182 0 50 (dk_at dksX5_next_4 13 rfl rfl)
theorem dX5_next_108 : decode cX5_next 108 = .ok (.ifCond .eq 15, 3) := dk_153 0 15 (dk_at dksX5_next_4 16 rfl rfl)
theorem dX5_next_111 : decode cX5_next 111 = .ok (.aload_n 0, 1) := dk_42 (dk_at dksX5_next_4 19 rfl rfl)
theorem dX5_next_112 : decode cX5_next 112 = .ok (.aload_n 0, 1) := dk_42 (dk_at dksX5_next_4 20 rfl rfl)
theorem dX5_next_113 : decode cX5_next 113 = .ok (.iload_n 1, 1) := dk_27 (dk_at dksX5_next_4 21 rfl rfl)
theorem dX5_next_114 : decode cX5_next 114 = .ok (.invokevirtual 46, 3) := dk_182 0 46 (dk_at dksX5_next_5 0 rfl rfl)
theorem dX5_next_117 : decode cX5_next 117 = .ok (.invokevirtual 53, 3) := dk_182 0 53 (dk_at dksX5_next_5 3 rfl rfl)
theorem dX5_next_120 : decode cX5_next 120 = .ok (.goto 56, 3) := dk_167 0 56 (dk_at dksX5_next_5 6 rfl rfl)
theorem dX5_next_123 : decode cX5_next 123 = .ok (.aload_n 0, 1) := dk_42 (dk_at dksX5_next_5 9 rfl rfl)
theorem dX5_next_124 : decode cX5_next 124 = .ok (.iload_n 1, 1) := dk_27 (dk_at dksX5_next_5 10 rfl rfl)
theorem dX5_next_125 : decode cX5_next 125 = .ok (.bipush 59, 2) := dk_16 59 (dk_at dksX5_next_5 11 rfl rfl)
theorem dX5_next_127 : decode cX5_next 127 = .ok (.if_icmp .eq 26, 3) := dk_159 0 26 (dk_at dksX5_next_5 13 rfl rfl)
theorem dX5_next_130 : decode cX5_next 130 = .ok (.iload_n 1, 1) := dk_27 (dk_at dksX5_next_5 16 rfl rfl)
theorem dX5_next_131 : decode cX5_next 131 = .ok (.bipush 40, 2) := dk_16 40 (dk_at dksX5_next_5 17 rfl rfl)
theorem dX5_next_133 : decode cX5_next 133 = .ok (.if_icmp .eq 20, 3) := dk_159 0 20 (dk_at dksX5_next_5 19 rfl rfl)
theorem dX5_next_136 : decode cX5_next 136 = .ok (.iload_n 1, 1) := dk_27 (dk_at dksX5_next_5 22 rfl rfl)
theorem dX5_next_137 : decode cX5_next 137 = .ok (.bipush 41, 2) := dk_16 41 (dk_at dksX5_next_6 0 rfl rfl)
theorem dX5_next_139 : decode cX5_next 139 = .ok (.if_icmp .eq 14, 3) := dk_159 0 14 (dk_at dksX5_next_6 2 rfl rfl)
theorem dX5_next_142 : decode cX5_next 142 = .ok (.iload_n 1, 1) := dk_27 (dk_at dksX5_next_6 5 rfl rfl)
theorem dX5_next_143 : decode cX5_next 143 = .ok (.bipush 60, 2) := dk_16 60 (dk_at dksX5_next_6 6 rfl rfl)
theorem dX5_next_145 : decode cX5_next 145 = .ok (.bipush 62, 2) := dk_16 62 (dk_at dksX5_next_6 8 rfl rfl)
theorem dX5_next_147 : decode cX5_next 147 = .ok (.invokestatic 32, 3) := dk_184 0 32 (dk_at dksX5_next_6 10 rfl rfl)
theorem dX5_next_150 : decode cX5_next 150 = .ok (.ifCond .eq 7, 3) := dk_153 0 7 (dk_at dksX5_next_6 13 rfl rfl)
theorem dX5_next_153 : decode cX5_next 153 = .ok (.iconst 3, 1) := dk_6 (dk_at dksX5_next_6 16 rfl rfl)
theorem dX5_next_154 : decode cX5_next 154 = .ok (.goto 4, 3) := dk_167 0 4 (dk_at dksX5_next_6 17 rfl rfl)
theorem dX5_next_157 : decode cX5_next 157 = .ok (.iconst 4, 1) := dk_7 (dk_at dksX5_next_6 20 rfl rfl)
theorem dX5_next_158 : decode cX5_next 158 = .ok (.putfield 43, 3) := dk_181 0 43 (dk_at dksX5_next_6 21 rfl rfl)
theorem dX5_next_161 : decode cX5_next 161 = .ok (.aload_n 0, 1) := dk_42 (dk_at dksX5_next_7 0 rfl rfl)
theorem dX5_next_162 : decode cX5_next 162 = .ok (.iload_n 1, 1) := dk_27 (dk_at dksX5_next_7 1 rfl rfl)
theorem dX5_next_163 : decode cX5_next 163 = .ok (.putfield 57, 3) := dk_181 0 57 (dk_at dksX5_next_7 2 rfl rfl)
theorem dX5_next_166 : decode cX5_next 166 = .ok (.aload_n 0, 1) := dk_42 (dk_at dksX5_next_7 5 rfl rfl)
theorem dX5_next_167 : decode cX5_next 167 = .ok (.dup, 1) := dk_89 (dk_at dksX5_next_7 6 rfl rfl)
theorem dX5_next_168 : decode cX5_next 168 = .ok (.getfield 19, 3) := dk_180 0 19 (dk_at dksX5_next_7 7 rfl rfl)
theorem dX5_next_171 : decode cX5_next 171 = .ok (.iconst 1, 1) := dk_4 (dk_at dksX5_next_7 10 rfl rfl)
theorem dX5_next_172 : decode cX5_next 172 = .ok (.iadd, 1) := dk_96 (dk_at dksX5_next_7 11 rfl rfl)
theorem dX5_next_173 : decode cX5_next 173 = .ok (.putfield 19, 3) := dk_181 0 19 (dk_at dksX5_next_7 12 rfl rfl)
theorem dX5_next_176 : decode cX5_next 176 = .ok (.return_, 1) := dk_177 (dk_at dksX5_next_7 15 rfl rfl)
abbrev cX5_peek : ByteArray := prog_18_method_3_code
def yX5_peek : MethodName := ⟨RX5, "peek", "()I"⟩
def dkwX5_peek_1 : List UInt8 := [180, 0, 19, 51, 17, 0, 255, 126, 167, 0, 4, 2, 172]
abbrev dktX5_peek_1 : List UInt8 := dkwX5_peek_1 ++ []
def dkwX5_peek_0 : List UInt8 := [42, 180, 0, 19, 42, 180, 0, 3, 180, 0, 25, 162, 0, 22, 42, 180, 0, 3, 180, 0, 28, 42]
abbrev dktX5_peek_0 : List UInt8 := dkwX5_peek_0 ++ dktX5_peek_1
theorem dksX5_peek_0 : cX5_peek.data.toList.drop 0 = dktX5_peek_0 := by decide +kernel
theorem dksX5_peek_1 : cX5_peek.data.toList.drop 22 = dktX5_peek_1 := dk_seg dksX5_peek_0 22 rfl rfl
theorem dX5_peek_0 : decode cX5_peek 0 = .ok (.aload_n 0, 1) := dk_42 (dk_at dksX5_peek_0 0 rfl rfl)
theorem dX5_peek_1 : decode cX5_peek 1 = .ok (.getfield 19, 3) := dk_180 0 19 (dk_at dksX5_peek_0 1 rfl rfl)
theorem dX5_peek_4 : decode cX5_peek 4 = .ok (.aload_n 0, 1) := dk_42 (dk_at dksX5_peek_0 4 rfl rfl)
theorem dX5_peek_5 : decode cX5_peek 5 = .ok (.getfield 3, 3) := dk_180 0 3 (dk_at dksX5_peek_0 5 rfl rfl)
theorem dX5_peek_8 : decode cX5_peek 8 = .ok (.getfield 25, 3) := dk_180 0 25 (dk_at dksX5_peek_0 8 rfl rfl)
theorem dX5_peek_11 : decode cX5_peek 11 = .ok (.if_icmp .ge 22, 3) := dk_162 0 22 (dk_at dksX5_peek_0 11 rfl rfl)
theorem dX5_peek_14 : decode cX5_peek 14 = .ok (.aload_n 0, 1) := dk_42 (dk_at dksX5_peek_0 14 rfl rfl)
theorem dX5_peek_15 : decode cX5_peek 15 = .ok (.getfield 3, 3) := dk_180 0 3 (dk_at dksX5_peek_0 15 rfl rfl)
theorem dX5_peek_18 : decode cX5_peek 18 = .ok (.getfield 28, 3) := dk_180 0 28 (dk_at dksX5_peek_0 18 rfl rfl)
theorem dX5_peek_21 : decode cX5_peek 21 = .ok (.aload_n 0, 1) := dk_42 (dk_at dksX5_peek_0 21 rfl rfl)
theorem dX5_peek_22 : decode cX5_peek 22 = .ok (.getfield 19, 3) := dk_180 0 19 (dk_at dksX5_peek_1 0 rfl rfl)
theorem dX5_peek_25 : decode cX5_peek 25 = .ok (.baload, 1) := dk_51 (dk_at dksX5_peek_1 3 rfl rfl)
theorem dX5_peek_26 : decode cX5_peek 26 = .ok (.sipush 255, 3) := dk_17 0 255 (dk_at dksX5_peek_1 4 rfl rfl)
theorem dX5_peek_29 : decode cX5_peek 29 = .ok (.iand, 1) := dk_126 (dk_at dksX5_peek_1 7 rfl rfl)
theorem dX5_peek_30 : decode cX5_peek 30 = .ok (.goto 4, 3) := dk_167 0 4 (dk_at dksX5_peek_1 8 rfl rfl)
theorem dX5_peek_33 : decode cX5_peek 33 = .ok (.iconst (-1), 1) := dk_2 (dk_at dksX5_peek_1 11 rfl rfl)
theorem dX5_peek_34 : decode cX5_peek 34 = .ok (.ireturn, 1) := dk_172 (dk_at dksX5_peek_1 12 rfl rfl)
abbrev cX5_isLetter : ByteArray := prog_18_method_4_code
def yX5_isLetter : MethodName := ⟨RX5, "isLetter", "(I)Z"⟩
def dkwX5_isLetter_0 : List UInt8 := [27, 16, 97, 16, 122, 184, 0, 32, 172]
abbrev dktX5_isLetter_0 : List UInt8 := dkwX5_isLetter_0 ++ []
theorem dksX5_isLetter_0 : cX5_isLetter.data.toList.drop 0 = dktX5_isLetter_0 := by decide +kernel
theorem dX5_isLetter_0 : decode cX5_isLetter 0 = .ok (.iload_n 1, 1) := dk_27 (dk_at dksX5_isLetter_0 0 rfl rfl)
theorem dX5_isLetter_1 : decode cX5_isLetter 1 = .ok (.bipush 97, 2) := dk_16 97 (dk_at dksX5_isLetter_0 1 rfl rfl)
theorem dX5_isLetter_3 : decode cX5_isLetter 3 = .ok (.bipush 122, 2) := dk_16 122 (dk_at dksX5_isLetter_0 3 rfl rfl)
theorem dX5_isLetter_5 : decode cX5_isLetter 5 = .ok (.invokestatic 32, 3) := dk_184 0 32 (dk_at dksX5_isLetter_0 5 rfl rfl)
theorem dX5_isLetter_8 : decode cX5_isLetter 8 = .ok (.ireturn, 1) := dk_172 (dk_at dksX5_isLetter_0 8 rfl rfl)
abbrev cX5_isDigit : ByteArray := prog_18_method_5_code
def yX5_isDigit : MethodName := ⟨RX5, "isDigit", "(I)Z"⟩
def dkwX5_isDigit_0 : List UInt8 := [27, 16, 48, 16, 57, 184, 0, 32, 172]
abbrev dktX5_isDigit_0 : List UInt8 := dkwX5_isDigit_0 ++ []
theorem dksX5_isDigit_0 : cX5_isDigit.data.toList.drop 0 = dktX5_isDigit_0 := by decide +kernel
theorem dX5_isDigit_0 : decode cX5_isDigit 0 = .ok (.iload_n 1, 1) := dk_27 (dk_at dksX5_isDigit_0 0 rfl rfl)
theorem dX5_isDigit_1 : decode cX5_isDigit 1 = .ok (.bipush 48, 2) := dk_16 48 (dk_at dksX5_isDigit_0 1 rfl rfl)
theorem dX5_isDigit_3 : decode cX5_isDigit 3 = .ok (.bipush 57, 2) := dk_16 57 (dk_at dksX5_isDigit_0 3 rfl rfl)
theorem dX5_isDigit_5 : decode cX5_isDigit 5 = .ok (.invokestatic 32, 3) := dk_184 0 32 (dk_at dksX5_isDigit_0 5 rfl rfl)
theorem dX5_isDigit_8 : decode cX5_isDigit 8 = .ok (.ireturn, 1) := dk_172 (dk_at dksX5_isDigit_0 8 rfl rfl)
abbrev cX5_run : ByteArray := prog_18_method_7_code
def yX5_run : MethodName := ⟨RX5, "run", "(Z)V"⟩
def dkwX5_run_7 : List UInt8 := [164, 0, 7, 7, 167, 0, 12, 27, 153, 0, 7, 4, 167, 0, 4, 5, 181, 0, 43, 177]
abbrev dktX5_run_7 : List UInt8 := dkwX5_run_7 ++ []
def dkwX5_run_6 : List UInt8 := [181, 0, 64, 42, 28, 153, 0, 20, 42, 180, 0, 64, 27, 153, 0, 8, 16, 7, 167, 0, 4, 6]
abbrev dktX5_run_6 : List UInt8 := dkwX5_run_6 ++ dktX5_run_7
def dkwX5_run_5 : List UInt8 := [42, 89, 180, 0, 19, 4, 96, 181, 0, 19, 167, 255, 139, 42, 42, 180, 0, 19, 42, 180, 0, 40, 100]
abbrev dktX5_run_5 : List UInt8 := dkwX5_run_5 ++ dktX5_run_6
def dkwX5_run_4 : List UInt8 := [100, 6, 162, 0, 22, 42, 16, 10, 42, 180, 0, 57, 104, 42, 182, 0, 36, 96, 16, 48, 100, 181, 0, 57]
abbrev dktX5_run_4 : List UInt8 := dkwX5_run_4 ++ dktX5_run_5
def dkwX5_run_3 : List UInt8 := [42, 180, 0, 60, 16, 8, 121, 42, 182, 0, 36, 133, 129, 181, 0, 60, 42, 180, 0, 19, 42, 180, 0, 40]
abbrev dktX5_run_3 : List UInt8 := dkwX5_run_3 ++ dktX5_run_4
def dkwX5_run_2 : List UInt8 := [160, 0, 7, 4, 167, 0, 4, 3, 61, 42, 180, 0, 19, 42, 180, 0, 40, 100, 16, 7, 162, 0, 20, 42]
abbrev dktX5_run_2 : List UInt8 := dkwX5_run_2 ++ dktX5_run_3
def dkwX5_run_1 : List UInt8 := [42, 182, 0, 36, 182, 0, 50, 153, 0, 101, 28, 153, 0, 19, 42, 42, 182, 0, 36, 182, 0, 46, 27]
abbrev dktX5_run_1 : List UInt8 := dkwX5_run_1 ++ dktX5_run_2
def dkwX5_run_0 : List UInt8 := [4, 61, 42, 3, 181, 0, 57, 42, 9, 181, 0, 60, 42, 42, 182, 0, 36, 182, 0, 46, 154, 0, 14, 42]
abbrev dktX5_run_0 : List UInt8 := dkwX5_run_0 ++ dktX5_run_1
theorem dksX5_run_0 : cX5_run.data.toList.drop 0 = dktX5_run_0 := by decide +kernel
theorem dksX5_run_1 : cX5_run.data.toList.drop 24 = dktX5_run_1 := dk_seg dksX5_run_0 24 rfl rfl
theorem dksX5_run_2 : cX5_run.data.toList.drop 47 = dktX5_run_2 := dk_seg dksX5_run_1 23 rfl rfl
theorem dksX5_run_3 : cX5_run.data.toList.drop 71 = dktX5_run_3 := dk_seg dksX5_run_2 24 rfl rfl
theorem dksX5_run_4 : cX5_run.data.toList.drop 95 = dktX5_run_4 := dk_seg dksX5_run_3 24 rfl rfl
theorem dksX5_run_5 : cX5_run.data.toList.drop 119 = dktX5_run_5 := dk_seg dksX5_run_4 24 rfl rfl
theorem dksX5_run_6 : cX5_run.data.toList.drop 142 = dktX5_run_6 := dk_seg dksX5_run_5 23 rfl rfl
theorem dksX5_run_7 : cX5_run.data.toList.drop 164 = dktX5_run_7 := dk_seg dksX5_run_6 22 rfl rfl
theorem dX5_run_0 : decode cX5_run 0 = .ok (.iconst 1, 1) := dk_4 (dk_at dksX5_run_0 0 rfl rfl)
theorem dX5_run_1 : decode cX5_run 1 = .ok (.istore_n 2, 1) := dk_61 (dk_at dksX5_run_0 1 rfl rfl)
theorem dX5_run_2 : decode cX5_run 2 = .ok (.aload_n 0, 1) := dk_42 (dk_at dksX5_run_0 2 rfl rfl)
theorem dX5_run_3 : decode cX5_run 3 = .ok (.iconst 0, 1) := dk_3 (dk_at dksX5_run_0 3 rfl rfl)
theorem dX5_run_4 : decode cX5_run 4 = .ok (.putfield 57, 3) := dk_181 0 57 (dk_at dksX5_run_0 4 rfl rfl)
theorem dX5_run_7 : decode cX5_run 7 = .ok (.aload_n 0, 1) := dk_42 (dk_at dksX5_run_0 7 rfl rfl)
theorem dX5_run_8 : decode cX5_run 8 = .ok (.lconst 0, 1) := dk_9 (dk_at dksX5_run_0 8 rfl rfl)
theorem dX5_run_9 : decode cX5_run 9 = .ok (.putfield 60, 3) := dk_181 0 60 (dk_at dksX5_run_0 9 rfl rfl)
theorem dX5_run_12 : decode cX5_run 12 = .ok (.aload_n 0, 1) := dk_42 (dk_at dksX5_run_0 12 rfl rfl)
theorem dX5_run_13 : decode cX5_run 13 = .ok (.aload_n 0, 1) := dk_42 (dk_at dksX5_run_0 13 rfl rfl)
theorem dX5_run_14 : decode cX5_run 14 = .ok (.invokevirtual 36, 3) := dk_182 0 36 (dk_at dksX5_run_0 14 rfl rfl)
theorem dX5_run_17 : decode cX5_run 17 = .ok (.invokevirtual 46, 3) := dk_182 0 46 (dk_at dksX5_run_0 17 rfl rfl)
theorem dX5_run_20 : decode cX5_run 20 = .ok (.ifCond .ne 14, 3) := dk_154 0 14 (dk_at dksX5_run_0 20 rfl rfl)
theorem dX5_run_23 : decode cX5_run 23 = .ok (.aload_n 0, 1) := dk_42 (dk_at dksX5_run_0 23 rfl rfl)
theorem dX5_run_24 : decode cX5_run 24 = .ok (.aload_n 0, 1) := dk_42 (dk_at dksX5_run_1 0 rfl rfl)
theorem dX5_run_25 : decode cX5_run 25 = .ok (.invokevirtual 36, 3) := dk_182 0 36 (dk_at dksX5_run_1 1 rfl rfl)
theorem dX5_run_28 : decode cX5_run 28 = .ok (.invokevirtual 50, 3) := dk_182 0 50 (dk_at dksX5_run_1 4 rfl rfl)
theorem dX5_run_31 : decode cX5_run 31 = .ok (.ifCond .eq 101, 3) := dk_153 0 101 (dk_at dksX5_run_1 7 rfl rfl)
theorem dX5_run_34 : decode cX5_run 34 = .ok (.iload_n 2, 1) := dk_28 (dk_at dksX5_run_1 10 rfl rfl)
theorem dX5_run_35 : decode cX5_run 35 = .ok (.ifCond .eq 19, 3) := dk_153 0 19 (dk_at dksX5_run_1 11 rfl rfl)
theorem dX5_run_38 : decode cX5_run 38 = .ok (.aload_n 0, 1) := dk_42 (dk_at dksX5_run_1 14 rfl rfl)
theorem dX5_run_39 : decode cX5_run 39 = .ok (.aload_n 0, 1) := dk_42 (dk_at dksX5_run_1 15 rfl rfl)
theorem dX5_run_40 : decode cX5_run 40 = .ok (.invokevirtual 36, 3) := dk_182 0 36 (dk_at dksX5_run_1 16 rfl rfl)
theorem dX5_run_43 : decode cX5_run 43 = .ok (.invokevirtual 46, 3) := dk_182 0 46 (dk_at dksX5_run_1 19 rfl rfl)
theorem dX5_run_46 : decode cX5_run 46 = .ok (.iload_n 1, 1) := dk_27 (dk_at dksX5_run_1 22 rfl rfl)
theorem dX5_run_47 : decode cX5_run 47 = .ok (.if_icmp .ne 7, 3) := dk_160 0 7 (dk_at dksX5_run_2 0 rfl rfl)
theorem dX5_run_50 : decode cX5_run 50 = .ok (.iconst 1, 1) := dk_4 (dk_at dksX5_run_2 3 rfl rfl)
theorem dX5_run_51 : decode cX5_run 51 = .ok (.goto 4, 3) := dk_167 0 4 (dk_at dksX5_run_2 4 rfl rfl)
theorem dX5_run_54 : decode cX5_run 54 = .ok (.iconst 0, 1) := dk_3 (dk_at dksX5_run_2 7 rfl rfl)
theorem dX5_run_55 : decode cX5_run 55 = .ok (.istore_n 2, 1) := dk_61 (dk_at dksX5_run_2 8 rfl rfl)
theorem dX5_run_56 : decode cX5_run 56 = .ok (.aload_n 0, 1) := dk_42 (dk_at dksX5_run_2 9 rfl rfl)
theorem dX5_run_57 : decode cX5_run 57 = .ok (.getfield 19, 3) := dk_180 0 19 (dk_at dksX5_run_2 10 rfl rfl)
theorem dX5_run_60 : decode cX5_run 60 = .ok (.aload_n 0, 1) := dk_42 (dk_at dksX5_run_2 13 rfl rfl)
theorem dX5_run_61 : decode cX5_run 61 = .ok (.getfield 40, 3) := dk_180 0 40 (dk_at dksX5_run_2 14 rfl rfl)
theorem dX5_run_64 : decode cX5_run 64 = .ok (.isub, 1) := dk_100 (dk_at dksX5_run_2 17 rfl rfl)
theorem dX5_run_65 : decode cX5_run 65 = .ok (.bipush 7, 2) := dk_16 7 (dk_at dksX5_run_2 18 rfl rfl)
theorem dX5_run_67 : decode cX5_run 67 = .ok (.if_icmp .ge 20, 3) := dk_162 0 20 (dk_at dksX5_run_2 20 rfl rfl)
theorem dX5_run_70 : decode cX5_run 70 = .ok (.aload_n 0, 1) := dk_42 (dk_at dksX5_run_2 23 rfl rfl)
theorem dX5_run_71 : decode cX5_run 71 = .ok (.aload_n 0, 1) := dk_42 (dk_at dksX5_run_3 0 rfl rfl)
theorem dX5_run_72 : decode cX5_run 72 = .ok (.getfield 60, 3) := dk_180 0 60 (dk_at dksX5_run_3 1 rfl rfl)
theorem dX5_run_75 : decode cX5_run 75 = .ok (.bipush 8, 2) := dk_16 8 (dk_at dksX5_run_3 4 rfl rfl)
theorem dX5_run_77 : decode cX5_run 77 = .ok (.lshl, 1) := dk_121 (dk_at dksX5_run_3 6 rfl rfl)
theorem dX5_run_78 : decode cX5_run 78 = .ok (.aload_n 0, 1) := dk_42 (dk_at dksX5_run_3 7 rfl rfl)
theorem dX5_run_79 : decode cX5_run 79 = .ok (.invokevirtual 36, 3) := dk_182 0 36 (dk_at dksX5_run_3 8 rfl rfl)
theorem dX5_run_82 : decode cX5_run 82 = .ok (.i2l, 1) := dk_133 (dk_at dksX5_run_3 11 rfl rfl)
theorem dX5_run_83 : decode cX5_run 83 = .ok (.lor, 1) := dk_129 (dk_at dksX5_run_3 12 rfl rfl)
theorem dX5_run_84 : decode cX5_run 84 = .ok (.putfield 60, 3) := dk_181 0 60 (dk_at dksX5_run_3 13 rfl rfl)
theorem dX5_run_87 : decode cX5_run 87 = .ok (.aload_n 0, 1) := dk_42 (dk_at dksX5_run_3 16 rfl rfl)
theorem dX5_run_88 : decode cX5_run 88 = .ok (.getfield 19, 3) := dk_180 0 19 (dk_at dksX5_run_3 17 rfl rfl)
theorem dX5_run_91 : decode cX5_run 91 = .ok (.aload_n 0, 1) := dk_42 (dk_at dksX5_run_3 20 rfl rfl)
theorem dX5_run_92 : decode cX5_run 92 = .ok (.getfield 40, 3) := dk_180 0 40 (dk_at dksX5_run_3 21 rfl rfl)
theorem dX5_run_95 : decode cX5_run 95 = .ok (.isub, 1) := dk_100 (dk_at dksX5_run_4 0 rfl rfl)
theorem dX5_run_96 : decode cX5_run 96 = .ok (.iconst 3, 1) := dk_6 (dk_at dksX5_run_4 1 rfl rfl)
theorem dX5_run_97 : decode cX5_run 97 = .ok (.if_icmp .ge 22, 3) := dk_162 0 22 (dk_at dksX5_run_4 2 rfl rfl)
theorem dX5_run_100 : decode cX5_run 100 = .ok (.aload_n 0, 1) := dk_42 (dk_at dksX5_run_4 5 rfl rfl)
theorem dX5_run_101 : decode cX5_run 101 = .ok (.bipush 10, 2) := dk_16 10 (dk_at dksX5_run_4 6 rfl rfl)
theorem dX5_run_103 : decode cX5_run 103 = .ok (.aload_n 0, 1) := dk_42 (dk_at dksX5_run_4 8 rfl rfl)
theorem dX5_run_104 : decode cX5_run 104 = .ok (.getfield 57, 3) := dk_180 0 57 (dk_at dksX5_run_4 9 rfl rfl)
theorem dX5_run_107 : decode cX5_run 107 = .ok (.imul, 1) := dk_104 (dk_at dksX5_run_4 12 rfl rfl)
theorem dX5_run_108 : decode cX5_run 108 = .ok (.aload_n 0, 1) := dk_42 (dk_at dksX5_run_4 13 rfl rfl)
theorem dX5_run_109 : decode cX5_run 109 = .ok (.invokevirtual 36, 3) := dk_182 0 36 (dk_at dksX5_run_4 14 rfl rfl)
theorem dX5_run_112 : decode cX5_run 112 = .ok (.iadd, 1) := dk_96 (dk_at dksX5_run_4 17 rfl rfl)
theorem dX5_run_113 : decode cX5_run 113 = .ok (.bipush 48, 2) := dk_16 48 (dk_at dksX5_run_4 18 rfl rfl)
theorem dX5_run_115 : decode cX5_run 115 = .ok (.isub, 1) := dk_100 (dk_at dksX5_run_4 20 rfl rfl)
theorem dX5_run_116 : decode cX5_run 116 = .ok (.putfield 57, 3) := dk_181 0 57 (dk_at dksX5_run_4 21 rfl rfl)
theorem dX5_run_119 : decode cX5_run 119 = .ok (.aload_n 0, 1) := dk_42 (dk_at dksX5_run_5 0 rfl rfl)
theorem dX5_run_120 : decode cX5_run 120 = .ok (.dup, 1) := dk_89 (dk_at dksX5_run_5 1 rfl rfl)
theorem dX5_run_121 : decode cX5_run 121 = .ok (.getfield 19, 3) := dk_180 0 19 (dk_at dksX5_run_5 2 rfl rfl)
theorem dX5_run_124 : decode cX5_run 124 = .ok (.iconst 1, 1) := dk_4 (dk_at dksX5_run_5 5 rfl rfl)
theorem dX5_run_125 : decode cX5_run 125 = .ok (.iadd, 1) := dk_96 (dk_at dksX5_run_5 6 rfl rfl)
theorem dX5_run_126 : decode cX5_run 126 = .ok (.putfield 19, 3) := dk_181 0 19 (dk_at dksX5_run_5 7 rfl rfl)
theorem dX5_run_129 : decode cX5_run 129 = .ok (.goto (-117), 3) := dk_167 255 139 (dk_at dksX5_run_5 10 rfl rfl)
theorem dX5_run_132 : decode cX5_run 132 = .ok (.aload_n 0, 1) := dk_42 (dk_at dksX5_run_5 13 rfl rfl)
theorem dX5_run_133 : decode cX5_run 133 = .ok (.aload_n 0, 1) := dk_42 (dk_at dksX5_run_5 14 rfl rfl)
theorem dX5_run_134 : decode cX5_run 134 = .ok (.getfield 19, 3) := dk_180 0 19 (dk_at dksX5_run_5 15 rfl rfl)
theorem dX5_run_137 : decode cX5_run 137 = .ok (.aload_n 0, 1) := dk_42 (dk_at dksX5_run_5 18 rfl rfl)
theorem dX5_run_138 : decode cX5_run 138 = .ok (.getfield 40, 3) := dk_180 0 40 (dk_at dksX5_run_5 19 rfl rfl)
theorem dX5_run_141 : decode cX5_run 141 = .ok (.isub, 1) := dk_100 (dk_at dksX5_run_5 22 rfl rfl)
theorem dX5_run_142 : decode cX5_run 142 = .ok (.putfield 64, 3) := dk_181 0 64 (dk_at dksX5_run_6 0 rfl rfl)
theorem dX5_run_145 : decode cX5_run 145 = .ok (.aload_n 0, 1) := dk_42 (dk_at dksX5_run_6 3 rfl rfl)
theorem dX5_run_146 : decode cX5_run 146 = .ok (.iload_n 2, 1) := dk_28 (dk_at dksX5_run_6 4 rfl rfl)
theorem dX5_run_147 : decode cX5_run 147 = .ok (.ifCond .eq 20, 3) := dk_153 0 20 (dk_at dksX5_run_6 5 rfl rfl)
theorem dX5_run_150 : decode cX5_run 150 = .ok (.aload_n 0, 1) := dk_42 (dk_at dksX5_run_6 8 rfl rfl)
theorem dX5_run_151 : decode cX5_run 151 = .ok (.getfield 64, 3) := dk_180 0 64 (dk_at dksX5_run_6 9 rfl rfl)
theorem dX5_run_154 : decode cX5_run 154 = .ok (.iload_n 1, 1) := dk_27 (dk_at dksX5_run_6 12 rfl rfl)
theorem dX5_run_155 : decode cX5_run 155 = .ok (.ifCond .eq 8, 3) := dk_153 0 8 (dk_at dksX5_run_6 13 rfl rfl)
theorem dX5_run_158 : decode cX5_run 158 = .ok (.bipush 7, 2) := dk_16 7 (dk_at dksX5_run_6 16 rfl rfl)
theorem dX5_run_160 : decode cX5_run 160 = .ok (.goto 4, 3) := dk_167 0 4 (dk_at dksX5_run_6 18 rfl rfl)
theorem dX5_run_163 : decode cX5_run 163 = .ok (.iconst 3, 1) := dk_6 (dk_at dksX5_run_6 21 rfl rfl)
theorem dX5_run_164 : decode cX5_run 164 = .ok (.if_icmp .le 7, 3) := dk_164 0 7 (dk_at dksX5_run_7 0 rfl rfl)
theorem dX5_run_167 : decode cX5_run 167 = .ok (.iconst 4, 1) := dk_7 (dk_at dksX5_run_7 3 rfl rfl)
theorem dX5_run_168 : decode cX5_run 168 = .ok (.goto 12, 3) := dk_167 0 12 (dk_at dksX5_run_7 4 rfl rfl)
theorem dX5_run_171 : decode cX5_run 171 = .ok (.iload_n 1, 1) := dk_27 (dk_at dksX5_run_7 7 rfl rfl)
theorem dX5_run_172 : decode cX5_run 172 = .ok (.ifCond .eq 7, 3) := dk_153 0 7 (dk_at dksX5_run_7 8 rfl rfl)
theorem dX5_run_175 : decode cX5_run 175 = .ok (.iconst 1, 1) := dk_4 (dk_at dksX5_run_7 11 rfl rfl)
theorem dX5_run_176 : decode cX5_run 176 = .ok (.goto 4, 3) := dk_167 0 4 (dk_at dksX5_run_7 12 rfl rfl)
theorem dX5_run_179 : decode cX5_run 179 = .ok (.iconst 2, 1) := dk_5 (dk_at dksX5_run_7 15 rfl rfl)
theorem dX5_run_180 : decode cX5_run 180 = .ok (.putfield 43, 3) := dk_181 0 43 (dk_at dksX5_run_7 16 rfl rfl)
theorem dX5_run_183 : decode cX5_run 183 = .ok (.return_, 1) := dk_177 (dk_at dksX5_run_7 19 rfl rfl)
abbrev cX5_find : ByteArray := prog_18_method_10_code
def yX5_find : MethodName := ⟨RX5, "find", "([Ljava/lang/String;)I"⟩
def dkwX5_find_1 : List UInt8 := [167, 255, 235, 2, 172]
abbrev dktX5_find_1 : List UInt8 := dkwX5_find_1 ++ []
def dkwX5_find_0 : List UInt8 := [3, 61, 28, 43, 190, 162, 0, 21, 42, 43, 28, 50, 182, 0, 76, 153, 0, 5, 28, 172, 132, 2, 1]
abbrev dktX5_find_0 : List UInt8 := dkwX5_find_0 ++ dktX5_find_1
theorem dksX5_find_0 : cX5_find.data.toList.drop 0 = dktX5_find_0 := by decide +kernel
theorem dksX5_find_1 : cX5_find.data.toList.drop 23 = dktX5_find_1 := dk_seg dksX5_find_0 23 rfl rfl
theorem dX5_find_0 : decode cX5_find 0 = .ok (.iconst 0, 1) := dk_3 (dk_at dksX5_find_0 0 rfl rfl)
theorem dX5_find_1 : decode cX5_find 1 = .ok (.istore_n 2, 1) := dk_61 (dk_at dksX5_find_0 1 rfl rfl)
theorem dX5_find_2 : decode cX5_find 2 = .ok (.iload_n 2, 1) := dk_28 (dk_at dksX5_find_0 2 rfl rfl)
theorem dX5_find_3 : decode cX5_find 3 = .ok (.aload_n 1, 1) := dk_43 (dk_at dksX5_find_0 3 rfl rfl)
theorem dX5_find_4 : decode cX5_find 4 = .ok (.arraylength, 1) := dk_190 (dk_at dksX5_find_0 4 rfl rfl)
theorem dX5_find_5 : decode cX5_find 5 = .ok (.if_icmp .ge 21, 3) := dk_162 0 21 (dk_at dksX5_find_0 5 rfl rfl)
theorem dX5_find_8 : decode cX5_find 8 = .ok (.aload_n 0, 1) := dk_42 (dk_at dksX5_find_0 8 rfl rfl)
theorem dX5_find_9 : decode cX5_find 9 = .ok (.aload_n 1, 1) := dk_43 (dk_at dksX5_find_0 9 rfl rfl)
theorem dX5_find_10 : decode cX5_find 10 = .ok (.iload_n 2, 1) := dk_28 (dk_at dksX5_find_0 10 rfl rfl)
theorem dX5_find_11 : decode cX5_find 11 = .ok (.aaload, 1) := dk_50 (dk_at dksX5_find_0 11 rfl rfl)
theorem dX5_find_12 : decode cX5_find 12 = .ok (.invokevirtual 76, 3) := dk_182 0 76 (dk_at dksX5_find_0 12 rfl rfl)
theorem dX5_find_15 : decode cX5_find 15 = .ok (.ifCond .eq 5, 3) := dk_153 0 5 (dk_at dksX5_find_0 15 rfl rfl)
theorem dX5_find_18 : decode cX5_find 18 = .ok (.iload_n 2, 1) := dk_28 (dk_at dksX5_find_0 18 rfl rfl)
theorem dX5_find_19 : decode cX5_find 19 = .ok (.ireturn, 1) := dk_172 (dk_at dksX5_find_0 19 rfl rfl)
theorem dX5_find_20 : decode cX5_find 20 = .ok (.iinc 2 1, 3) := dk_132 2 1 (dk_at dksX5_find_0 20 rfl rfl)
theorem dX5_find_23 : decode cX5_find 23 = .ok (.goto (-21), 3) := dk_167 255 235 (dk_at dksX5_find_1 0 rfl rfl)
theorem dX5_find_26 : decode cX5_find 26 = .ok (.iconst (-1), 1) := dk_2 (dk_at dksX5_find_1 3 rfl rfl)
theorem dX5_find_27 : decode cX5_find 27 = .ok (.ireturn, 1) := dk_172 (dk_at dksX5_find_1 4 rfl rfl)
abbrev cX5_is : ByteArray := prog_18_method_8_code
def yX5_is : MethodName := ⟨RX5, "is", "(Ljava/lang/String;)Z"⟩
def dkwX5_is_2 : List UInt8 := [182, 0, 72, 159, 0, 5, 3, 172, 132, 2, 1, 167, 255, 221, 4, 172]
abbrev dktX5_is_2 : List UInt8 := dkwX5_is_2 ++ []
def dkwX5_is_1 : List UInt8 := [42, 180, 0, 64, 162, 0, 33, 42, 180, 0, 3, 180, 0, 28, 42, 180, 0, 40, 28, 96, 51, 43, 28]
abbrev dktX5_is_1 : List UInt8 := dkwX5_is_1 ++ dktX5_is_2
def dkwX5_is_0 : List UInt8 := [42, 180, 0, 43, 4, 160, 0, 14, 42, 180, 0, 64, 43, 182, 0, 67, 159, 0, 5, 3, 172, 3, 61, 28]
abbrev dktX5_is_0 : List UInt8 := dkwX5_is_0 ++ dktX5_is_1
theorem dksX5_is_0 : cX5_is.data.toList.drop 0 = dktX5_is_0 := by decide +kernel
theorem dksX5_is_1 : cX5_is.data.toList.drop 24 = dktX5_is_1 := dk_seg dksX5_is_0 24 rfl rfl
theorem dksX5_is_2 : cX5_is.data.toList.drop 47 = dktX5_is_2 := dk_seg dksX5_is_1 23 rfl rfl
theorem dX5_is_0 : decode cX5_is 0 = .ok (.aload_n 0, 1) := dk_42 (dk_at dksX5_is_0 0 rfl rfl)
theorem dX5_is_1 : decode cX5_is 1 = .ok (.getfield 43, 3) := dk_180 0 43 (dk_at dksX5_is_0 1 rfl rfl)
theorem dX5_is_4 : decode cX5_is 4 = .ok (.iconst 1, 1) := dk_4 (dk_at dksX5_is_0 4 rfl rfl)
theorem dX5_is_5 : decode cX5_is 5 = .ok (.if_icmp .ne 14, 3) := dk_160 0 14 (dk_at dksX5_is_0 5 rfl rfl)
theorem dX5_is_8 : decode cX5_is 8 = .ok (.aload_n 0, 1) := dk_42 (dk_at dksX5_is_0 8 rfl rfl)
theorem dX5_is_9 : decode cX5_is 9 = .ok (.getfield 64, 3) := dk_180 0 64 (dk_at dksX5_is_0 9 rfl rfl)
theorem dX5_is_12 : decode cX5_is 12 = .ok (.aload_n 1, 1) := dk_43 (dk_at dksX5_is_0 12 rfl rfl)
theorem dX5_is_13 : decode cX5_is 13 = .ok (.invokevirtual 67, 3) := dk_182 0 67 (dk_at dksX5_is_0 13 rfl rfl)
theorem dX5_is_16 : decode cX5_is 16 = .ok (.if_icmp .eq 5, 3) := dk_159 0 5 (dk_at dksX5_is_0 16 rfl rfl)
theorem dX5_is_19 : decode cX5_is 19 = .ok (.iconst 0, 1) := dk_3 (dk_at dksX5_is_0 19 rfl rfl)
theorem dX5_is_20 : decode cX5_is 20 = .ok (.ireturn, 1) := dk_172 (dk_at dksX5_is_0 20 rfl rfl)
theorem dX5_is_21 : decode cX5_is 21 = .ok (.iconst 0, 1) := dk_3 (dk_at dksX5_is_0 21 rfl rfl)
theorem dX5_is_22 : decode cX5_is 22 = .ok (.istore_n 2, 1) := dk_61 (dk_at dksX5_is_0 22 rfl rfl)
theorem dX5_is_23 : decode cX5_is 23 = .ok (.iload_n 2, 1) := dk_28 (dk_at dksX5_is_0 23 rfl rfl)
theorem dX5_is_24 : decode cX5_is 24 = .ok (.aload_n 0, 1) := dk_42 (dk_at dksX5_is_1 0 rfl rfl)
theorem dX5_is_25 : decode cX5_is 25 = .ok (.getfield 64, 3) := dk_180 0 64 (dk_at dksX5_is_1 1 rfl rfl)
theorem dX5_is_28 : decode cX5_is 28 = .ok (.if_icmp .ge 33, 3) := dk_162 0 33 (dk_at dksX5_is_1 4 rfl rfl)
theorem dX5_is_31 : decode cX5_is 31 = .ok (.aload_n 0, 1) := dk_42 (dk_at dksX5_is_1 7 rfl rfl)
theorem dX5_is_32 : decode cX5_is 32 = .ok (.getfield 3, 3) := dk_180 0 3 (dk_at dksX5_is_1 8 rfl rfl)
theorem dX5_is_35 : decode cX5_is 35 = .ok (.getfield 28, 3) := dk_180 0 28 (dk_at dksX5_is_1 11 rfl rfl)
theorem dX5_is_38 : decode cX5_is 38 = .ok (.aload_n 0, 1) := dk_42 (dk_at dksX5_is_1 14 rfl rfl)
theorem dX5_is_39 : decode cX5_is 39 = .ok (.getfield 40, 3) := dk_180 0 40 (dk_at dksX5_is_1 15 rfl rfl)
theorem dX5_is_42 : decode cX5_is 42 = .ok (.iload_n 2, 1) := dk_28 (dk_at dksX5_is_1 18 rfl rfl)
theorem dX5_is_43 : decode cX5_is 43 = .ok (.iadd, 1) := dk_96 (dk_at dksX5_is_1 19 rfl rfl)
theorem dX5_is_44 : decode cX5_is 44 = .ok (.baload, 1) := dk_51 (dk_at dksX5_is_1 20 rfl rfl)
theorem dX5_is_45 : decode cX5_is 45 = .ok (.aload_n 1, 1) := dk_43 (dk_at dksX5_is_1 21 rfl rfl)
theorem dX5_is_46 : decode cX5_is 46 = .ok (.iload_n 2, 1) := dk_28 (dk_at dksX5_is_1 22 rfl rfl)
theorem dX5_is_47 : decode cX5_is 47 = .ok (.invokevirtual 72, 3) := dk_182 0 72 (dk_at dksX5_is_2 0 rfl rfl)
theorem dX5_is_50 : decode cX5_is 50 = .ok (.if_icmp .eq 5, 3) := dk_159 0 5 (dk_at dksX5_is_2 3 rfl rfl)
theorem dX5_is_53 : decode cX5_is 53 = .ok (.iconst 0, 1) := dk_3 (dk_at dksX5_is_2 6 rfl rfl)
theorem dX5_is_54 : decode cX5_is 54 = .ok (.ireturn, 1) := dk_172 (dk_at dksX5_is_2 7 rfl rfl)
theorem dX5_is_55 : decode cX5_is 55 = .ok (.iinc 2 1, 3) := dk_132 2 1 (dk_at dksX5_is_2 8 rfl rfl)
theorem dX5_is_58 : decode cX5_is 58 = .ok (.goto (-35), 3) := dk_167 255 221 (dk_at dksX5_is_2 11 rfl rfl)
theorem dX5_is_61 : decode cX5_is 61 = .ok (.iconst 1, 1) := dk_4 (dk_at dksX5_is_2 14 rfl rfl)
theorem dX5_is_62 : decode cX5_is 62 = .ok (.ireturn, 1) := dk_172 (dk_at dksX5_is_2 15 rfl rfl)
abbrev cX5_must : ByteArray := prog_18_method_13_code
def yX5_must : MethodName := ⟨RX5, "must", "(ZI)V"⟩
def dkwX5_must_0 : List UInt8 := [27, 154, 0, 9, 42, 28, 182, 0, 103, 191, 177]
abbrev dktX5_must_0 : List UInt8 := dkwX5_must_0 ++ []
theorem dksX5_must_0 : cX5_must.data.toList.drop 0 = dktX5_must_0 := by decide +kernel
theorem dX5_must_0 : decode cX5_must 0 = .ok (.iload_n 1, 1) := dk_27 (dk_at dksX5_must_0 0 rfl rfl)
theorem dX5_must_1 : decode cX5_must 1 = .ok (.ifCond .ne 9, 3) := dk_154 0 9 (dk_at dksX5_must_0 1 rfl rfl)
theorem dX5_must_4 : decode cX5_must 4 = .ok (.aload_n 0, 1) := dk_42 (dk_at dksX5_must_0 4 rfl rfl)
theorem dX5_must_5 : decode cX5_must 5 = .ok (.iload_n 2, 1) := dk_28 (dk_at dksX5_must_0 5 rfl rfl)
theorem dX5_must_6 : decode cX5_must 6 = .ok (.invokevirtual 103, 3) := dk_182 0 103 (dk_at dksX5_must_0 6 rfl rfl)
theorem dX5_must_9 : decode cX5_must 9 = .ok (.athrow, 1) := dk_191 (dk_at dksX5_must_0 9 rfl rfl)
theorem dX5_must_10 : decode cX5_must 10 = .ok (.return_, 1) := dk_177 (dk_at dksX5_must_0 10 rfl rfl)
abbrev cX5_wrong : ByteArray := prog_18_method_12_code
def yX5_wrong : MethodName := ⟨RX5, "wrong", "(I)LSecondHelpings$Fault;"⟩
def dkwX5_wrong_1 : List UInt8 := [181, 0, 100, 42, 180, 0, 3, 180, 0, 91, 176]
abbrev dktX5_wrong_1 : List UInt8 := dkwX5_wrong_1 ++ []
def dkwX5_wrong_0 : List UInt8 := [42, 180, 0, 3, 180, 0, 91, 27, 181, 0, 95, 42, 180, 0, 3, 180, 0, 91, 42, 180, 0, 40]
abbrev dktX5_wrong_0 : List UInt8 := dkwX5_wrong_0 ++ dktX5_wrong_1
theorem dksX5_wrong_0 : cX5_wrong.data.toList.drop 0 = dktX5_wrong_0 := by decide +kernel
theorem dksX5_wrong_1 : cX5_wrong.data.toList.drop 22 = dktX5_wrong_1 := dk_seg dksX5_wrong_0 22 rfl rfl
theorem dX5_wrong_0 : decode cX5_wrong 0 = .ok (.aload_n 0, 1) := dk_42 (dk_at dksX5_wrong_0 0 rfl rfl)
theorem dX5_wrong_1 : decode cX5_wrong 1 = .ok (.getfield 3, 3) := dk_180 0 3 (dk_at dksX5_wrong_0 1 rfl rfl)
theorem dX5_wrong_4 : decode cX5_wrong 4 = .ok (.getfield 91, 3) := dk_180 0 91 (dk_at dksX5_wrong_0 4 rfl rfl)
theorem dX5_wrong_7 : decode cX5_wrong 7 = .ok (.iload_n 1, 1) := dk_27 (dk_at dksX5_wrong_0 7 rfl rfl)
theorem dX5_wrong_8 : decode cX5_wrong 8 = .ok (.putfield 95, 3) := dk_181 0 95 (dk_at dksX5_wrong_0 8 rfl rfl)
theorem dX5_wrong_11 : decode cX5_wrong 11 = .ok (.aload_n 0, 1) := dk_42 (dk_at dksX5_wrong_0 11 rfl rfl)
theorem dX5_wrong_12 : decode cX5_wrong 12 = .ok (.getfield 3, 3) := dk_180 0 3 (dk_at dksX5_wrong_0 12 rfl rfl)
theorem dX5_wrong_15 : decode cX5_wrong 15 = .ok (.getfield 91, 3) := dk_180 0 91 (dk_at dksX5_wrong_0 15 rfl rfl)
theorem dX5_wrong_18 : decode cX5_wrong 18 = .ok (.aload_n 0, 1) := dk_42 (dk_at dksX5_wrong_0 18 rfl rfl)
theorem dX5_wrong_19 : decode cX5_wrong 19 = .ok (.getfield 40, 3) := dk_180 0 40 (dk_at dksX5_wrong_0 19 rfl rfl)
theorem dX5_wrong_22 : decode cX5_wrong 22 = .ok (.putfield 100, 3) := dk_181 0 100 (dk_at dksX5_wrong_1 0 rfl rfl)
theorem dX5_wrong_25 : decode cX5_wrong 25 = .ok (.aload_n 0, 1) := dk_42 (dk_at dksX5_wrong_1 3 rfl rfl)
theorem dX5_wrong_26 : decode cX5_wrong 26 = .ok (.getfield 3, 3) := dk_180 0 3 (dk_at dksX5_wrong_1 4 rfl rfl)
theorem dX5_wrong_29 : decode cX5_wrong 29 = .ok (.getfield 91, 3) := dk_180 0 91 (dk_at dksX5_wrong_1 7 rfl rfl)
theorem dX5_wrong_32 : decode cX5_wrong 32 = .ok (.areturn, 1) := dk_176 (dk_at dksX5_wrong_1 10 rfl rfl)
abbrev cX5_isName : ByteArray := prog_18_method_11_code
def yX5_isName : MethodName := ⟨RX5, "isName", "()Z"⟩
def dkwX5_isName_1 : List UInt8 := [42, 180, 0, 3, 180, 0, 88, 182, 0, 84, 2, 160, 0, 7, 4, 167, 0, 4, 3, 172]
abbrev dktX5_isName_1 : List UInt8 := dkwX5_isName_1 ++ []
def dkwX5_isName_0 : List UInt8 := [42, 180, 0, 43, 4, 160, 0, 37, 42, 42, 180, 0, 3, 180, 0, 80, 182, 0, 84, 2, 160, 0, 22, 42]
abbrev dktX5_isName_0 : List UInt8 := dkwX5_isName_0 ++ dktX5_isName_1
theorem dksX5_isName_0 : cX5_isName.data.toList.drop 0 = dktX5_isName_0 := by decide +kernel
theorem dksX5_isName_1 : cX5_isName.data.toList.drop 24 = dktX5_isName_1 := dk_seg dksX5_isName_0 24 rfl rfl
theorem dX5_isName_0 : decode cX5_isName 0 = .ok (.aload_n 0, 1) := dk_42 (dk_at dksX5_isName_0 0 rfl rfl)
theorem dX5_isName_1 : decode cX5_isName 1 = .ok (.getfield 43, 3) := dk_180 0 43 (dk_at dksX5_isName_0 1 rfl rfl)
theorem dX5_isName_4 : decode cX5_isName 4 = .ok (.iconst 1, 1) := dk_4 (dk_at dksX5_isName_0 4 rfl rfl)
theorem dX5_isName_5 : decode cX5_isName 5 = .ok (.if_icmp .ne 37, 3) := dk_160 0 37 (dk_at dksX5_isName_0 5 rfl rfl)
theorem dX5_isName_8 : decode cX5_isName 8 = .ok (.aload_n 0, 1) := dk_42 (dk_at dksX5_isName_0 8 rfl rfl)
theorem dX5_isName_9 : decode cX5_isName 9 = .ok (.aload_n 0, 1) := dk_42 (dk_at dksX5_isName_0 9 rfl rfl)
theorem dX5_isName_10 : decode cX5_isName 10 = .ok (.getfield 3, 3) := dk_180 0 3 (dk_at dksX5_isName_0 10 rfl rfl)
theorem dX5_isName_13 : decode cX5_isName 13 = .ok (.getfield 80, 3) := dk_180 0 80 (dk_at dksX5_isName_0 13 rfl rfl)
theorem dX5_isName_16 : decode cX5_isName 16 = .ok (.invokevirtual 84, 3) := dk_182 0 84 (dk_at dksX5_isName_0 16 rfl rfl)
theorem dX5_isName_19 : decode cX5_isName 19 = .ok (.iconst (-1), 1) := dk_2 (dk_at dksX5_isName_0 19 rfl rfl)
theorem dX5_isName_20 : decode cX5_isName 20 = .ok (.if_icmp .ne 22, 3) := dk_160 0 22 (dk_at dksX5_isName_0 20 rfl rfl)
theorem dX5_isName_23 : decode cX5_isName 23 = .ok (.aload_n 0, 1) := dk_42 (dk_at dksX5_isName_0 23 rfl rfl)
theorem dX5_isName_24 : decode cX5_isName 24 = .ok (.aload_n 0, 1) := dk_42 (dk_at dksX5_isName_1 0 rfl rfl)
theorem dX5_isName_25 : decode cX5_isName 25 = .ok (.getfield 3, 3) := dk_180 0 3 (dk_at dksX5_isName_1 1 rfl rfl)
theorem dX5_isName_28 : decode cX5_isName 28 = .ok (.getfield 88, 3) := dk_180 0 88 (dk_at dksX5_isName_1 4 rfl rfl)
theorem dX5_isName_31 : decode cX5_isName 31 = .ok (.invokevirtual 84, 3) := dk_182 0 84 (dk_at dksX5_isName_1 7 rfl rfl)
theorem dX5_isName_34 : decode cX5_isName 34 = .ok (.iconst (-1), 1) := dk_2 (dk_at dksX5_isName_1 10 rfl rfl)
theorem dX5_isName_35 : decode cX5_isName 35 = .ok (.if_icmp .ne 7, 3) := dk_160 0 7 (dk_at dksX5_isName_1 11 rfl rfl)
theorem dX5_isName_38 : decode cX5_isName 38 = .ok (.iconst 1, 1) := dk_4 (dk_at dksX5_isName_1 14 rfl rfl)
theorem dX5_isName_39 : decode cX5_isName 39 = .ok (.goto 4, 3) := dk_167 0 4 (dk_at dksX5_isName_1 15 rfl rfl)
theorem dX5_isName_42 : decode cX5_isName 42 = .ok (.iconst 0, 1) := dk_3 (dk_at dksX5_isName_1 18 rfl rfl)
theorem dX5_isName_43 : decode cX5_isName 43 = .ok (.ireturn, 1) := dk_172 (dk_at dksX5_isName_1 19 rfl rfl)
abbrev cX5_of : ByteArray := prog_18_method_16_code
def yX5_of : MethodName := ⟨RX5, "of", "([JI)I"⟩
def dkwX5_of_1 : List UInt8 := [167, 255, 235, 2, 172]
abbrev dktX5_of_1 : List UInt8 := dkwX5_of_1 ++ []
def dkwX5_of_0 : List UInt8 := [3, 62, 29, 28, 162, 0, 22, 43, 29, 47, 42, 180, 0, 60, 148, 154, 0, 5, 29, 172, 132, 3, 1]
abbrev dktX5_of_0 : List UInt8 := dkwX5_of_0 ++ dktX5_of_1
theorem dksX5_of_0 : cX5_of.data.toList.drop 0 = dktX5_of_0 := by decide +kernel
theorem dksX5_of_1 : cX5_of.data.toList.drop 23 = dktX5_of_1 := dk_seg dksX5_of_0 23 rfl rfl
theorem dX5_of_0 : decode cX5_of 0 = .ok (.iconst 0, 1) := dk_3 (dk_at dksX5_of_0 0 rfl rfl)
theorem dX5_of_1 : decode cX5_of 1 = .ok (.istore_n 3, 1) := dk_62 (dk_at dksX5_of_0 1 rfl rfl)
theorem dX5_of_2 : decode cX5_of 2 = .ok (.iload_n 3, 1) := dk_29 (dk_at dksX5_of_0 2 rfl rfl)
theorem dX5_of_3 : decode cX5_of 3 = .ok (.iload_n 2, 1) := dk_28 (dk_at dksX5_of_0 3 rfl rfl)
theorem dX5_of_4 : decode cX5_of 4 = .ok (.if_icmp .ge 22, 3) := dk_162 0 22 (dk_at dksX5_of_0 4 rfl rfl)
theorem dX5_of_7 : decode cX5_of 7 = .ok (.aload_n 1, 1) := dk_43 (dk_at dksX5_of_0 7 rfl rfl)
theorem dX5_of_8 : decode cX5_of 8 = .ok (.iload_n 3, 1) := dk_29 (dk_at dksX5_of_0 8 rfl rfl)
theorem dX5_of_9 : decode cX5_of 9 = .ok (.laload, 1) := dk_47 (dk_at dksX5_of_0 9 rfl rfl)
theorem dX5_of_10 : decode cX5_of 10 = .ok (.aload_n 0, 1) := dk_42 (dk_at dksX5_of_0 10 rfl rfl)
theorem dX5_of_11 : decode cX5_of 11 = .ok (.getfield 60, 3) := dk_180 0 60 (dk_at dksX5_of_0 11 rfl rfl)
theorem dX5_of_14 : decode cX5_of 14 = .ok (.lcmp, 1) := dk_148 (dk_at dksX5_of_0 14 rfl rfl)
theorem dX5_of_15 : decode cX5_of 15 = .ok (.ifCond .ne 5, 3) := dk_154 0 5 (dk_at dksX5_of_0 15 rfl rfl)
theorem dX5_of_18 : decode cX5_of 18 = .ok (.iload_n 3, 1) := dk_29 (dk_at dksX5_of_0 18 rfl rfl)
theorem dX5_of_19 : decode cX5_of 19 = .ok (.ireturn, 1) := dk_172 (dk_at dksX5_of_0 19 rfl rfl)
theorem dX5_of_20 : decode cX5_of 20 = .ok (.iinc 3 1, 3) := dk_132 3 1 (dk_at dksX5_of_0 20 rfl rfl)
theorem dX5_of_23 : decode cX5_of 23 = .ok (.goto (-21), 3) := dk_167 255 235 (dk_at dksX5_of_1 0 rfl rfl)
theorem dX5_of_26 : decode cX5_of 26 = .ok (.iconst (-1), 1) := dk_2 (dk_at dksX5_of_1 3 rfl rfl)
theorem dX5_of_27 : decode cX5_of 27 = .ok (.ireturn, 1) := dk_172 (dk_at dksX5_of_1 4 rfl rfl)
abbrev cX5_number : ByteArray := prog_18_method_15_code
def yX5_number : MethodName := ⟨RX5, "number", "(II)I"⟩
def dkwX5_number_1 : List UInt8 := [28, 184, 0, 32, 5, 182, 0, 109, 42, 180, 0, 57, 62, 42, 182, 0, 22, 29, 172]
abbrev dktX5_number_1 : List UInt8 := dkwX5_number_1 ++ []
def dkwX5_number_0 : List UInt8 := [42, 42, 180, 0, 43, 5, 160, 0, 7, 4, 167, 0, 4, 3, 4, 182, 0, 109, 42, 42, 180, 0, 57, 27]
abbrev dktX5_number_0 : List UInt8 := dkwX5_number_0 ++ dktX5_number_1
theorem dksX5_number_0 : cX5_number.data.toList.drop 0 = dktX5_number_0 := by decide +kernel
theorem dksX5_number_1 : cX5_number.data.toList.drop 24 = dktX5_number_1 := dk_seg dksX5_number_0 24 rfl rfl
theorem dX5_number_0 : decode cX5_number 0 = .ok (.aload_n 0, 1) := dk_42 (dk_at dksX5_number_0 0 rfl rfl)
theorem dX5_number_1 : decode cX5_number 1 = .ok (.aload_n 0, 1) := dk_42 (dk_at dksX5_number_0 1 rfl rfl)
theorem dX5_number_2 : decode cX5_number 2 = .ok (.getfield 43, 3) := dk_180 0 43 (dk_at dksX5_number_0 2 rfl rfl)
theorem dX5_number_5 : decode cX5_number 5 = .ok (.iconst 2, 1) := dk_5 (dk_at dksX5_number_0 5 rfl rfl)
theorem dX5_number_6 : decode cX5_number 6 = .ok (.if_icmp .ne 7, 3) := dk_160 0 7 (dk_at dksX5_number_0 6 rfl rfl)
theorem dX5_number_9 : decode cX5_number 9 = .ok (.iconst 1, 1) := dk_4 (dk_at dksX5_number_0 9 rfl rfl)
theorem dX5_number_10 : decode cX5_number 10 = .ok (.goto 4, 3) := dk_167 0 4 (dk_at dksX5_number_0 10 rfl rfl)
theorem dX5_number_13 : decode cX5_number 13 = .ok (.iconst 0, 1) := dk_3 (dk_at dksX5_number_0 13 rfl rfl)
theorem dX5_number_14 : decode cX5_number 14 = .ok (.iconst 1, 1) := dk_4 (dk_at dksX5_number_0 14 rfl rfl)
theorem dX5_number_15 : decode cX5_number 15 = .ok (.invokevirtual 109, 3) := dk_182 0 109 (dk_at dksX5_number_0 15 rfl rfl)
theorem dX5_number_18 : decode cX5_number 18 = .ok (.aload_n 0, 1) := dk_42 (dk_at dksX5_number_0 18 rfl rfl)
theorem dX5_number_19 : decode cX5_number 19 = .ok (.aload_n 0, 1) := dk_42 (dk_at dksX5_number_0 19 rfl rfl)
theorem dX5_number_20 : decode cX5_number 20 = .ok (.getfield 57, 3) := dk_180 0 57 (dk_at dksX5_number_0 20 rfl rfl)
theorem dX5_number_23 : decode cX5_number 23 = .ok (.iload_n 1, 1) := dk_27 (dk_at dksX5_number_0 23 rfl rfl)
theorem dX5_number_24 : decode cX5_number 24 = .ok (.iload_n 2, 1) := dk_28 (dk_at dksX5_number_1 0 rfl rfl)
theorem dX5_number_25 : decode cX5_number 25 = .ok (.invokestatic 32, 3) := dk_184 0 32 (dk_at dksX5_number_1 1 rfl rfl)
theorem dX5_number_28 : decode cX5_number 28 = .ok (.iconst 2, 1) := dk_5 (dk_at dksX5_number_1 4 rfl rfl)
theorem dX5_number_29 : decode cX5_number 29 = .ok (.invokevirtual 109, 3) := dk_182 0 109 (dk_at dksX5_number_1 5 rfl rfl)
theorem dX5_number_32 : decode cX5_number 32 = .ok (.aload_n 0, 1) := dk_42 (dk_at dksX5_number_1 8 rfl rfl)
theorem dX5_number_33 : decode cX5_number 33 = .ok (.getfield 57, 3) := dk_180 0 57 (dk_at dksX5_number_1 9 rfl rfl)
theorem dX5_number_36 : decode cX5_number 36 = .ok (.istore_n 3, 1) := dk_62 (dk_at dksX5_number_1 12 rfl rfl)
theorem dX5_number_37 : decode cX5_number 37 = .ok (.aload_n 0, 1) := dk_42 (dk_at dksX5_number_1 13 rfl rfl)
theorem dX5_number_38 : decode cX5_number 38 = .ok (.invokevirtual 22, 3) := dk_182 0 22 (dk_at dksX5_number_1 14 rfl rfl)
theorem dX5_number_41 : decode cX5_number 41 = .ok (.iload_n 3, 1) := dk_29 (dk_at dksX5_number_1 17 rfl rfl)
theorem dX5_number_42 : decode cX5_number 42 = .ok (.ireturn, 1) := dk_172 (dk_at dksX5_number_1 18 rfl rfl)
abbrev cX5_known : ByteArray := prog_18_method_18_code
def yX5_known : MethodName := ⟨RX5, "known", "([JI)I"⟩
def dkwX5_known_0 : List UInt8 := [42, 43, 28, 182, 0, 121, 62, 42, 182, 0, 22, 29, 172]
abbrev dktX5_known_0 : List UInt8 := dkwX5_known_0 ++ []
theorem dksX5_known_0 : cX5_known.data.toList.drop 0 = dktX5_known_0 := by decide +kernel
theorem dX5_known_0 : decode cX5_known 0 = .ok (.aload_n 0, 1) := dk_42 (dk_at dksX5_known_0 0 rfl rfl)
theorem dX5_known_1 : decode cX5_known 1 = .ok (.aload_n 1, 1) := dk_43 (dk_at dksX5_known_0 1 rfl rfl)
theorem dX5_known_2 : decode cX5_known 2 = .ok (.iload_n 2, 1) := dk_28 (dk_at dksX5_known_0 2 rfl rfl)
theorem dX5_known_3 : decode cX5_known 3 = .ok (.invokevirtual 121, 3) := dk_182 0 121 (dk_at dksX5_known_0 3 rfl rfl)
theorem dX5_known_6 : decode cX5_known 6 = .ok (.istore_n 3, 1) := dk_62 (dk_at dksX5_known_0 6 rfl rfl)
theorem dX5_known_7 : decode cX5_known 7 = .ok (.aload_n 0, 1) := dk_42 (dk_at dksX5_known_0 7 rfl rfl)
theorem dX5_known_8 : decode cX5_known 8 = .ok (.invokevirtual 22, 3) := dk_182 0 22 (dk_at dksX5_known_0 8 rfl rfl)
theorem dX5_known_11 : decode cX5_known 11 = .ok (.iload_n 3, 1) := dk_29 (dk_at dksX5_known_0 11 rfl rfl)
theorem dX5_known_12 : decode cX5_known 12 = .ok (.ireturn, 1) := dk_172 (dk_at dksX5_known_0 12 rfl rfl)
abbrev cX5_look : ByteArray := prog_18_method_17_code
def yX5_look : MethodName := ⟨RX5, "look", "([JI)I"⟩
def dkwX5_look_1 : List UInt8 := [167, 0, 4, 3, 6, 182, 0, 109, 29, 172]
abbrev dktX5_look_1 : List UInt8 := dkwX5_look_1 ++ []
def dkwX5_look_0 : List UInt8 := [42, 42, 182, 0, 113, 4, 182, 0, 109, 42, 43, 28, 182, 0, 117, 62, 42, 29, 2, 159, 0, 7, 4]
abbrev dktX5_look_0 : List UInt8 := dkwX5_look_0 ++ dktX5_look_1
theorem dksX5_look_0 : cX5_look.data.toList.drop 0 = dktX5_look_0 := by decide +kernel
theorem dksX5_look_1 : cX5_look.data.toList.drop 23 = dktX5_look_1 := dk_seg dksX5_look_0 23 rfl rfl
theorem dX5_look_0 : decode cX5_look 0 = .ok (.aload_n 0, 1) := dk_42 (dk_at dksX5_look_0 0 rfl rfl)
theorem dX5_look_1 : decode cX5_look 1 = .ok (.aload_n 0, 1) := dk_42 (dk_at dksX5_look_0 1 rfl rfl)
theorem dX5_look_2 : decode cX5_look 2 = .ok (.invokevirtual 113, 3) := dk_182 0 113 (dk_at dksX5_look_0 2 rfl rfl)
theorem dX5_look_5 : decode cX5_look 5 = .ok (.iconst 1, 1) := dk_4 (dk_at dksX5_look_0 5 rfl rfl)
theorem dX5_look_6 : decode cX5_look 6 = .ok (.invokevirtual 109, 3) := dk_182 0 109 (dk_at dksX5_look_0 6 rfl rfl)
theorem dX5_look_9 : decode cX5_look 9 = .ok (.aload_n 0, 1) := dk_42 (dk_at dksX5_look_0 9 rfl rfl)
theorem dX5_look_10 : decode cX5_look 10 = .ok (.aload_n 1, 1) := dk_43 (dk_at dksX5_look_0 10 rfl rfl)
theorem dX5_look_11 : decode cX5_look 11 = .ok (.iload_n 2, 1) := dk_28 (dk_at dksX5_look_0 11 rfl rfl)
theorem dX5_look_12 : decode cX5_look 12 = .ok (.invokevirtual 117, 3) := dk_182 0 117 (dk_at dksX5_look_0 12 rfl rfl)
theorem dX5_look_15 : decode cX5_look 15 = .ok (.istore_n 3, 1) := dk_62 (dk_at dksX5_look_0 15 rfl rfl)
theorem dX5_look_16 : decode cX5_look 16 = .ok (.aload_n 0, 1) := dk_42 (dk_at dksX5_look_0 16 rfl rfl)
theorem dX5_look_17 : decode cX5_look 17 = .ok (.iload_n 3, 1) := dk_29 (dk_at dksX5_look_0 17 rfl rfl)
theorem dX5_look_18 : decode cX5_look 18 = .ok (.iconst (-1), 1) := dk_2 (dk_at dksX5_look_0 18 rfl rfl)
theorem dX5_look_19 : decode cX5_look 19 = .ok (.if_icmp .eq 7, 3) := dk_159 0 7 (dk_at dksX5_look_0 19 rfl rfl)
theorem dX5_look_22 : decode cX5_look 22 = .ok (.iconst 1, 1) := dk_4 (dk_at dksX5_look_0 22 rfl rfl)
theorem dX5_look_23 : decode cX5_look 23 = .ok (.goto 4, 3) := dk_167 0 4 (dk_at dksX5_look_1 0 rfl rfl)
theorem dX5_look_26 : decode cX5_look 26 = .ok (.iconst 0, 1) := dk_3 (dk_at dksX5_look_1 3 rfl rfl)
theorem dX5_look_27 : decode cX5_look 27 = .ok (.iconst 3, 1) := dk_6 (dk_at dksX5_look_1 4 rfl rfl)
theorem dX5_look_28 : decode cX5_look 28 = .ok (.invokevirtual 109, 3) := dk_182 0 109 (dk_at dksX5_look_1 5 rfl rfl)
theorem dX5_look_31 : decode cX5_look 31 = .ok (.iload_n 3, 1) := dk_29 (dk_at dksX5_look_1 8 rfl rfl)
theorem dX5_look_32 : decode cX5_look 32 = .ok (.ireturn, 1) := dk_172 (dk_at dksX5_look_1 9 rfl rfl)
abbrev cX5_sign : ByteArray := prog_18_method_14_code
def yX5_sign : MethodName := ⟨RX5, "sign", "(I)V"⟩
def dkwX5_sign_0 : List UInt8 := [42, 42, 27, 182, 0, 107, 4, 182, 0, 109, 42, 182, 0, 22, 177]
abbrev dktX5_sign_0 : List UInt8 := dkwX5_sign_0 ++ []
theorem dksX5_sign_0 : cX5_sign.data.toList.drop 0 = dktX5_sign_0 := by decide +kernel
theorem dX5_sign_0 : decode cX5_sign 0 = .ok (.aload_n 0, 1) := dk_42 (dk_at dksX5_sign_0 0 rfl rfl)
theorem dX5_sign_1 : decode cX5_sign 1 = .ok (.aload_n 0, 1) := dk_42 (dk_at dksX5_sign_0 1 rfl rfl)
theorem dX5_sign_2 : decode cX5_sign 2 = .ok (.iload_n 1, 1) := dk_27 (dk_at dksX5_sign_0 2 rfl rfl)
theorem dX5_sign_3 : decode cX5_sign 3 = .ok (.invokevirtual 107, 3) := dk_182 0 107 (dk_at dksX5_sign_0 3 rfl rfl)
theorem dX5_sign_6 : decode cX5_sign 6 = .ok (.iconst 1, 1) := dk_4 (dk_at dksX5_sign_0 6 rfl rfl)
theorem dX5_sign_7 : decode cX5_sign 7 = .ok (.invokevirtual 109, 3) := dk_182 0 109 (dk_at dksX5_sign_0 7 rfl rfl)
theorem dX5_sign_10 : decode cX5_sign 10 = .ok (.aload_n 0, 1) := dk_42 (dk_at dksX5_sign_0 10 rfl rfl)
theorem dX5_sign_11 : decode cX5_sign 11 = .ok (.invokevirtual 22, 3) := dk_182 0 22 (dk_at dksX5_sign_0 11 rfl rfl)
theorem dX5_sign_14 : decode cX5_sign 14 = .ok (.return_, 1) := dk_177 (dk_at dksX5_sign_0 14 rfl rfl)
abbrev cX5_is_2 : ByteArray := prog_18_method_9_code
def yX5_is_2 : MethodName := ⟨RX5, "is", "(I)Z"⟩
def dkwX5_is_2_0 : List UInt8 := [42, 180, 0, 43, 6, 160, 0, 15, 42, 180, 0, 57, 27, 160, 0, 7, 4, 167, 0, 4, 3, 172]
abbrev dktX5_is_2_0 : List UInt8 := dkwX5_is_2_0 ++ []
theorem dksX5_is_2_0 : cX5_is_2.data.toList.drop 0 = dktX5_is_2_0 := by decide +kernel
theorem dX5_is_2_0 : decode cX5_is_2 0 = .ok (.aload_n 0, 1) := dk_42 (dk_at dksX5_is_2_0 0 rfl rfl)
theorem dX5_is_2_1 : decode cX5_is_2 1 = .ok (.getfield 43, 3) := dk_180 0 43 (dk_at dksX5_is_2_0 1 rfl rfl)
theorem dX5_is_2_4 : decode cX5_is_2 4 = .ok (.iconst 3, 1) := dk_6 (dk_at dksX5_is_2_0 4 rfl rfl)
theorem dX5_is_2_5 : decode cX5_is_2 5 = .ok (.if_icmp .ne 15, 3) := dk_160 0 15 (dk_at dksX5_is_2_0 5 rfl rfl)
theorem dX5_is_2_8 : decode cX5_is_2 8 = .ok (.aload_n 0, 1) := dk_42 (dk_at dksX5_is_2_0 8 rfl rfl)
theorem dX5_is_2_9 : decode cX5_is_2 9 = .ok (.getfield 57, 3) := dk_180 0 57 (dk_at dksX5_is_2_0 9 rfl rfl)
theorem dX5_is_2_12 : decode cX5_is_2 12 = .ok (.iload_n 1, 1) := dk_27 (dk_at dksX5_is_2_0 12 rfl rfl)
theorem dX5_is_2_13 : decode cX5_is_2 13 = .ok (.if_icmp .ne 7, 3) := dk_160 0 7 (dk_at dksX5_is_2_0 13 rfl rfl)
theorem dX5_is_2_16 : decode cX5_is_2 16 = .ok (.iconst 1, 1) := dk_4 (dk_at dksX5_is_2_0 16 rfl rfl)
theorem dX5_is_2_17 : decode cX5_is_2 17 = .ok (.goto 4, 3) := dk_167 0 4 (dk_at dksX5_is_2_0 17 rfl rfl)
theorem dX5_is_2_20 : decode cX5_is_2 20 = .ok (.iconst 0, 1) := dk_3 (dk_at dksX5_is_2_0 20 rfl rfl)
theorem dX5_is_2_21 : decode cX5_is_2 21 = .ok (.ireturn, 1) := dk_172 (dk_at dksX5_is_2_0 21 rfl rfl)
theorem q100 : (Jvm.Cond.initialized "SecondHelpings$Reader") ∈ lw_all := lw_g (lw_at lw_m1 7 rfl) rfl
theorem q186 : (Jvm.Cond.fieldLink "SecondHelpings$Reader" (95 : Nat) "SecondHelpings$Fault" "kind" "I") ∈ lw_all := lw_g (lw_at lw_m1 93 rfl) rfl
theorem q188 : (Jvm.Cond.fieldLink "SecondHelpings$Reader" (100 : Nat) "SecondHelpings$Fault" "place" "I") ∈ lw_all := lw_g (lw_at lw_m1 95 rfl) rfl
theorem q381 : (Jvm.Cond.instanceMethod ({ cls := "SecondHelpings$Reader", name := "<init>", desc := "(LSecondHelpings;I)V" } : Jvm.MethodName)) ∈ lw_all := lw_g (lw_at lw_m2 48 rfl) rfl
theorem q382 : (Jvm.Cond.code ({ cls := "SecondHelpings$Reader", name := "<init>", desc := "(LSecondHelpings;I)V" } : Jvm.MethodName) prog_18_method_1_code (3 : Nat) (Option.none : Option Jvm.ClassFile.FieldType)) ∈ lw_all := lw_g (lw_at lw_m2 49 rfl) rfl
theorem q383 : (Jvm.Cond.methodLink "SecondHelpings$Reader" (9 : Nat) ({ cls := "java/lang/Object", name := "<init>", desc := "()V" } : Jvm.MethodName)) ∈ lw_all := lw_g (lw_at lw_m2 50 rfl) rfl
theorem q387 : (Jvm.Cond.fieldLink "SecondHelpings$Reader" (15 : Nat) "SecondHelpings$Reader" "most" "I") ∈ lw_all := lw_g (lw_at lw_m2 54 rfl) rfl
theorem q388 : (Jvm.Cond.fieldLink "SecondHelpings$Reader" (19 : Nat) "SecondHelpings$Reader" "p" "I") ∈ lw_all := lw_g (lw_at lw_m2 55 rfl) rfl
theorem q389 : (Jvm.Cond.fieldLink "SecondHelpings$Reader" (40 : Nat) "SecondHelpings$Reader" "at" "I") ∈ lw_all := lw_g (lw_at lw_m2 56 rfl) rfl
theorem q396 : (Jvm.Cond.fieldLink "SecondHelpings$Reader" (43 : Nat) "SecondHelpings$Reader" "token" "I") ∈ lw_all := lw_g (lw_at lw_m2 63 rfl) rfl
theorem q399 : (Jvm.Cond.fieldLink "SecondHelpings$Reader" (57 : Nat) "SecondHelpings$Reader" "value" "I") ∈ lw_all := lw_g (lw_at lw_m2 66 rfl) rfl
theorem q400 : (Jvm.Cond.fieldLink "SecondHelpings$Reader" (64 : Nat) "SecondHelpings$Reader" "many" "I") ∈ lw_all := lw_g (lw_at lw_m2 67 rfl) rfl
theorem q403 : (Jvm.Cond.fieldLink "SecondHelpings$Reader" (60 : Nat) "SecondHelpings$Reader" "name" "J") ∈ lw_all := lw_g (lw_at lw_m2 70 rfl) rfl
theorem q404 : (Jvm.Cond.fieldLink "SecondHelpings$Reader" (3 : Nat) "SecondHelpings$Reader" "this$0" "LSecondHelpings;") ∈ lw_all := lw_g (lw_at lw_m2 71 rfl) rfl
theorem q412 : (Jvm.Cond.soleField "SecondHelpings$Reader" "most") ∈ lw_all := lw_g (lw_at lw_m2 79 rfl) rfl
theorem q414 : (Jvm.Cond.soleField "SecondHelpings$Reader" "p") ∈ lw_all := lw_g (lw_at lw_m2 81 rfl) rfl
theorem q416 : (Jvm.Cond.soleField "SecondHelpings$Reader" "at") ∈ lw_all := lw_g (lw_at lw_m2 83 rfl) rfl
theorem q418 : (Jvm.Cond.soleField "SecondHelpings$Reader" "token") ∈ lw_all := lw_g (lw_at lw_m2 85 rfl) rfl
theorem q420 : (Jvm.Cond.soleField "SecondHelpings$Reader" "value") ∈ lw_all := lw_g (lw_at lw_m2 87 rfl) rfl
theorem q422 : (Jvm.Cond.soleField "SecondHelpings$Reader" "many") ∈ lw_all := lw_g (lw_at lw_m2 89 rfl) rfl
theorem q424 : (Jvm.Cond.soleField "SecondHelpings$Reader" "name") ∈ lw_all := lw_g (lw_at lw_m2 91 rfl) rfl
theorem q426 : (Jvm.Cond.soleField "SecondHelpings$Reader" "this$0") ∈ lw_all := lw_g (lw_at lw_m2 93 rfl) rfl
theorem q508 : (Jvm.Cond.fieldLinkNest "SecondHelpings$Reader" (28 : Nat) "SecondHelpings" "tape" "[B" "SecondHelpings") ∈ lw_tbl := lw_at lw_m2 175 rfl
theorem q510 : (Jvm.Cond.fieldLinkNest "SecondHelpings$Reader" (25 : Nat) "SecondHelpings" "size" "I" "SecondHelpings") ∈ lw_tbl := lw_at lw_m2 177 rfl
theorem q513 : (Jvm.Cond.fieldLinkNest "SecondHelpings$Reader" (91 : Nat) "SecondHelpings" "broken" "LSecondHelpings$Fault;" "SecondHelpings") ∈ lw_tbl := lw_at lw_m2 180 rfl
theorem q516 : (Jvm.Cond.fieldLinkNest "SecondHelpings$Reader" (80 : Nat) "SecondHelpings" "lines" "[Ljava/lang/String;" "SecondHelpings") ∈ lw_tbl := lw_at lw_m2 183 rfl
theorem q518 : (Jvm.Cond.fieldLinkNest "SecondHelpings$Reader" (88 : Nat) "SecondHelpings" "words" "[Ljava/lang/String;" "SecondHelpings") ∈ lw_tbl := lw_at lw_m2 185 rfl
theorem q655 : (Jvm.Cond.declares ({ cls := "SecondHelpings$Reader", name := "begin", desc := "()V" } : Jvm.MethodName)) ∈ lw_tbl := lw_at lw_m3 82 rfl
theorem q657 : (Jvm.Cond.instanceMethod ({ cls := "SecondHelpings$Reader", name := "begin", desc := "()V" } : Jvm.MethodName)) ∈ lw_all := lw_g (lw_at lw_m3 84 rfl) rfl
theorem q658 : (Jvm.Cond.code ({ cls := "SecondHelpings$Reader", name := "begin", desc := "()V" } : Jvm.MethodName) prog_18_method_2_code (1 : Nat) (Option.none : Option Jvm.ClassFile.FieldType)) ∈ lw_all := lw_g (lw_at lw_m3 85 rfl) rfl
theorem q659 : (Jvm.Cond.methodLink "SecondHelpings$Reader" (22 : Nat) ({ cls := "SecondHelpings$Reader", name := "next", desc := "()V" } : Jvm.MethodName)) ∈ lw_all := lw_g (lw_at lw_m3 86 rfl) rfl
theorem q660 : (Jvm.Cond.instanceMethod ({ cls := "SecondHelpings$Reader", name := "next", desc := "()V" } : Jvm.MethodName)) ∈ lw_all := lw_g (lw_at lw_m3 87 rfl) rfl
theorem q661 : (Jvm.Cond.sameMethod "SecondHelpings$Reader" "SecondHelpings$Reader" "next" "()V") ∈ lw_all := lw_g (lw_at lw_m3 88 rfl) rfl
theorem q665 : (Jvm.Cond.code ({ cls := "SecondHelpings$Reader", name := "next", desc := "()V" } : Jvm.MethodName) prog_18_method_6_code (2 : Nat) (Option.none : Option Jvm.ClassFile.FieldType)) ∈ lw_all := lw_g (lw_at lw_m3 92 rfl) rfl
theorem q666 : (Jvm.Cond.methodLink "SecondHelpings$Reader" (36 : Nat) ({ cls := "SecondHelpings$Reader", name := "peek", desc := "()I" } : Jvm.MethodName)) ∈ lw_all := lw_g (lw_at lw_m3 93 rfl) rfl
theorem q667 : (Jvm.Cond.privateMethod ({ cls := "SecondHelpings$Reader", name := "peek", desc := "()I" } : Jvm.MethodName)) ∈ lw_tbl := lw_at lw_m3 94 rfl
theorem q668 : (Jvm.Cond.instanceMethod ({ cls := "SecondHelpings$Reader", name := "peek", desc := "()I" } : Jvm.MethodName)) ∈ lw_all := lw_g (lw_at lw_m3 95 rfl) rfl
theorem q669 : (Jvm.Cond.code ({ cls := "SecondHelpings$Reader", name := "peek", desc := "()I" } : Jvm.MethodName) prog_18_method_3_code (1 : Nat) (Option.some Jvm.ClassFile.FieldType.int)) ∈ lw_all := lw_g (lw_at lw_m3 96 rfl) rfl
theorem q670 : (Jvm.Cond.methodLink "SecondHelpings$Reader" (46 : Nat) ({ cls := "SecondHelpings$Reader", name := "isLetter", desc := "(I)Z" } : Jvm.MethodName)) ∈ lw_all := lw_g (lw_at lw_m3 97 rfl) rfl
theorem q671 : (Jvm.Cond.privateMethod ({ cls := "SecondHelpings$Reader", name := "isLetter", desc := "(I)Z" } : Jvm.MethodName)) ∈ lw_tbl := lw_at lw_m3 98 rfl
theorem q672 : (Jvm.Cond.instanceMethod ({ cls := "SecondHelpings$Reader", name := "isLetter", desc := "(I)Z" } : Jvm.MethodName)) ∈ lw_all := lw_g (lw_at lw_m3 99 rfl) rfl
theorem q673 : (Jvm.Cond.code ({ cls := "SecondHelpings$Reader", name := "isLetter", desc := "(I)Z" } : Jvm.MethodName) prog_18_method_4_code (2 : Nat) (Option.some Jvm.ClassFile.FieldType.boolean)) ∈ lw_all := lw_g (lw_at lw_m3 100 rfl) rfl
theorem q674 : (Jvm.Cond.methodLinkNest "SecondHelpings$Reader" (32 : Nat) ({ cls := "SecondHelpings", name := "isIn", desc := "(III)Z" } : Jvm.MethodName) "SecondHelpings") ∈ lw_tbl := lw_at lw_m3 101 rfl
theorem q677 : (Jvm.Cond.methodLink "SecondHelpings$Reader" (50 : Nat) ({ cls := "SecondHelpings$Reader", name := "isDigit", desc := "(I)Z" } : Jvm.MethodName)) ∈ lw_all := lw_g (lw_at lw_m3 104 rfl) rfl
theorem q678 : (Jvm.Cond.privateMethod ({ cls := "SecondHelpings$Reader", name := "isDigit", desc := "(I)Z" } : Jvm.MethodName)) ∈ lw_tbl := lw_at lw_m3 105 rfl
theorem q679 : (Jvm.Cond.instanceMethod ({ cls := "SecondHelpings$Reader", name := "isDigit", desc := "(I)Z" } : Jvm.MethodName)) ∈ lw_all := lw_g (lw_at lw_m3 106 rfl) rfl
theorem q680 : (Jvm.Cond.code ({ cls := "SecondHelpings$Reader", name := "isDigit", desc := "(I)Z" } : Jvm.MethodName) prog_18_method_5_code (2 : Nat) (Option.some Jvm.ClassFile.FieldType.boolean)) ∈ lw_all := lw_g (lw_at lw_m3 107 rfl) rfl
theorem q681 : (Jvm.Cond.methodLink "SecondHelpings$Reader" (53 : Nat) ({ cls := "SecondHelpings$Reader", name := "run", desc := "(Z)V" } : Jvm.MethodName)) ∈ lw_all := lw_g (lw_at lw_m3 108 rfl) rfl
theorem q682 : (Jvm.Cond.privateMethod ({ cls := "SecondHelpings$Reader", name := "run", desc := "(Z)V" } : Jvm.MethodName)) ∈ lw_tbl := lw_at lw_m3 109 rfl
theorem q683 : (Jvm.Cond.instanceMethod ({ cls := "SecondHelpings$Reader", name := "run", desc := "(Z)V" } : Jvm.MethodName)) ∈ lw_all := lw_g (lw_at lw_m3 110 rfl) rfl
theorem q684 : (Jvm.Cond.code ({ cls := "SecondHelpings$Reader", name := "run", desc := "(Z)V" } : Jvm.MethodName) prog_18_method_7_code (3 : Nat) (Option.none : Option Jvm.ClassFile.FieldType)) ∈ lw_all := lw_g (lw_at lw_m3 111 rfl) rfl
theorem q687 : (Jvm.Cond.declares ({ cls := "SecondHelpings$Reader", name := "find", desc := "([Ljava/lang/String;)I" } : Jvm.MethodName)) ∈ lw_tbl := lw_at lw_m3 114 rfl
theorem q689 : (Jvm.Cond.instanceMethod ({ cls := "SecondHelpings$Reader", name := "find", desc := "([Ljava/lang/String;)I" } : Jvm.MethodName)) ∈ lw_all := lw_g (lw_at lw_m3 116 rfl) rfl
theorem q690 : (Jvm.Cond.code ({ cls := "SecondHelpings$Reader", name := "find", desc := "([Ljava/lang/String;)I" } : Jvm.MethodName) prog_18_method_10_code (3 : Nat) (Option.some Jvm.ClassFile.FieldType.int)) ∈ lw_all := lw_g (lw_at lw_m3 117 rfl) rfl
theorem q691 : (Jvm.Cond.methodLink "SecondHelpings$Reader" (76 : Nat) ({ cls := "SecondHelpings$Reader", name := "is", desc := "(Ljava/lang/String;)Z" } : Jvm.MethodName)) ∈ lw_all := lw_g (lw_at lw_m3 118 rfl) rfl
theorem q692 : (Jvm.Cond.instanceMethod ({ cls := "SecondHelpings$Reader", name := "is", desc := "(Ljava/lang/String;)Z" } : Jvm.MethodName)) ∈ lw_all := lw_g (lw_at lw_m3 119 rfl) rfl
theorem q693 : (Jvm.Cond.sameMethod "SecondHelpings$Reader" "SecondHelpings$Reader" "is" "(Ljava/lang/String;)Z") ∈ lw_all := lw_g (lw_at lw_m3 120 rfl) rfl
theorem q697 : (Jvm.Cond.code ({ cls := "SecondHelpings$Reader", name := "is", desc := "(Ljava/lang/String;)Z" } : Jvm.MethodName) prog_18_method_8_code (3 : Nat) (Option.some Jvm.ClassFile.FieldType.boolean)) ∈ lw_all := lw_g (lw_at lw_m3 124 rfl) rfl
theorem q698 : (Jvm.Cond.methodLink "SecondHelpings$Reader" (67 : Nat) ({ cls := "java/lang/String", name := "length", desc := "()I" } : Jvm.MethodName)) ∈ lw_all := lw_g (lw_at lw_m3 125 rfl) rfl
theorem q708 : (Jvm.Cond.methodLink "SecondHelpings$Reader" (72 : Nat) ({ cls := "java/lang/String", name := "charAt", desc := "(I)C" } : Jvm.MethodName)) ∈ lw_all := lw_g (lw_at lw_m3 135 rfl) rfl
theorem q748 : (Jvm.Cond.declares ({ cls := "SecondHelpings$Reader", name := "must", desc := "(ZI)V" } : Jvm.MethodName)) ∈ lw_tbl := lw_at lw_m3 175 rfl
theorem q750 : (Jvm.Cond.instanceMethod ({ cls := "SecondHelpings$Reader", name := "must", desc := "(ZI)V" } : Jvm.MethodName)) ∈ lw_all := lw_g (lw_at lw_m3 177 rfl) rfl
theorem q751 : (Jvm.Cond.code ({ cls := "SecondHelpings$Reader", name := "must", desc := "(ZI)V" } : Jvm.MethodName) prog_18_method_13_code (3 : Nat) (Option.none : Option Jvm.ClassFile.FieldType)) ∈ lw_all := lw_g (lw_at lw_m3 178 rfl) rfl
theorem q752 : (Jvm.Cond.methodLink "SecondHelpings$Reader" (103 : Nat) ({ cls := "SecondHelpings$Reader", name := "wrong", desc := "(I)LSecondHelpings$Fault;" } : Jvm.MethodName)) ∈ lw_all := lw_g (lw_at lw_m3 179 rfl) rfl
theorem q753 : (Jvm.Cond.instanceMethod ({ cls := "SecondHelpings$Reader", name := "wrong", desc := "(I)LSecondHelpings$Fault;" } : Jvm.MethodName)) ∈ lw_all := lw_g (lw_at lw_m3 180 rfl) rfl
theorem q754 : (Jvm.Cond.sameMethod "SecondHelpings$Reader" "SecondHelpings$Reader" "wrong" "(I)LSecondHelpings$Fault;") ∈ lw_all := lw_g (lw_at lw_m3 181 rfl) rfl
theorem q758 : (Jvm.Cond.code ({ cls := "SecondHelpings$Reader", name := "wrong", desc := "(I)LSecondHelpings$Fault;" } : Jvm.MethodName) prog_18_method_12_code (2 : Nat) (Option.some (Jvm.ClassFile.FieldType.object "SecondHelpings$Fault"))) ∈ lw_all := lw_g (lw_at lw_m3 185 rfl) rfl
theorem q764 : (Jvm.Cond.declares ({ cls := "SecondHelpings$Reader", name := "next", desc := "()V" } : Jvm.MethodName)) ∈ lw_tbl := lw_at lw_m3 191 rfl
theorem q780 : (Jvm.Cond.declares ({ cls := "SecondHelpings$Reader", name := "isName", desc := "()Z" } : Jvm.MethodName)) ∈ lw_tbl := lw_at lw_m3 207 rfl
theorem q782 : (Jvm.Cond.instanceMethod ({ cls := "SecondHelpings$Reader", name := "isName", desc := "()Z" } : Jvm.MethodName)) ∈ lw_all := lw_g (lw_at lw_m3 209 rfl) rfl
theorem q783 : (Jvm.Cond.code ({ cls := "SecondHelpings$Reader", name := "isName", desc := "()Z" } : Jvm.MethodName) prog_18_method_11_code (1 : Nat) (Option.some Jvm.ClassFile.FieldType.boolean)) ∈ lw_all := lw_g (lw_at lw_m3 210 rfl) rfl
theorem q784 : (Jvm.Cond.methodLink "SecondHelpings$Reader" (84 : Nat) ({ cls := "SecondHelpings$Reader", name := "find", desc := "([Ljava/lang/String;)I" } : Jvm.MethodName)) ∈ lw_all := lw_g (lw_at lw_m3 211 rfl) rfl
theorem q787 : (Jvm.Cond.declares ({ cls := "SecondHelpings$Reader", name := "of", desc := "([JI)I" } : Jvm.MethodName)) ∈ lw_tbl := lw_at lw_m3 214 rfl
theorem q789 : (Jvm.Cond.instanceMethod ({ cls := "SecondHelpings$Reader", name := "of", desc := "([JI)I" } : Jvm.MethodName)) ∈ lw_all := lw_g (lw_at lw_m3 216 rfl) rfl
theorem q790 : (Jvm.Cond.code ({ cls := "SecondHelpings$Reader", name := "of", desc := "([JI)I" } : Jvm.MethodName) prog_18_method_16_code (4 : Nat) (Option.some Jvm.ClassFile.FieldType.int)) ∈ lw_all := lw_g (lw_at lw_m3 217 rfl) rfl
theorem q793 : (Jvm.Cond.declares ({ cls := "SecondHelpings$Reader", name := "number", desc := "(II)I" } : Jvm.MethodName)) ∈ lw_tbl := lw_at lw_m3 220 rfl
theorem q795 : (Jvm.Cond.instanceMethod ({ cls := "SecondHelpings$Reader", name := "number", desc := "(II)I" } : Jvm.MethodName)) ∈ lw_all := lw_g (lw_at lw_m3 222 rfl) rfl
theorem q796 : (Jvm.Cond.code ({ cls := "SecondHelpings$Reader", name := "number", desc := "(II)I" } : Jvm.MethodName) prog_18_method_15_code (4 : Nat) (Option.some Jvm.ClassFile.FieldType.int)) ∈ lw_all := lw_g (lw_at lw_m3 223 rfl) rfl
theorem q797 : (Jvm.Cond.methodLink "SecondHelpings$Reader" (109 : Nat) ({ cls := "SecondHelpings$Reader", name := "must", desc := "(ZI)V" } : Jvm.MethodName)) ∈ lw_all := lw_g (lw_at lw_m3 224 rfl) rfl
theorem q801 : (Jvm.Cond.declares ({ cls := "SecondHelpings$Reader", name := "is", desc := "(Ljava/lang/String;)Z" } : Jvm.MethodName)) ∈ lw_tbl := lw_at lw_m3 228 rfl
theorem q805 : (Jvm.Cond.declares ({ cls := "SecondHelpings$Reader", name := "known", desc := "([JI)I" } : Jvm.MethodName)) ∈ lw_tbl := lw_at lw_m3 232 rfl
theorem q807 : (Jvm.Cond.instanceMethod ({ cls := "SecondHelpings$Reader", name := "known", desc := "([JI)I" } : Jvm.MethodName)) ∈ lw_all := lw_g (lw_at lw_m3 234 rfl) rfl
theorem q808 : (Jvm.Cond.code ({ cls := "SecondHelpings$Reader", name := "known", desc := "([JI)I" } : Jvm.MethodName) prog_18_method_18_code (4 : Nat) (Option.some Jvm.ClassFile.FieldType.int)) ∈ lw_all := lw_g (lw_at lw_m3 235 rfl) rfl
theorem q809 : (Jvm.Cond.methodLink "SecondHelpings$Reader" (121 : Nat) ({ cls := "SecondHelpings$Reader", name := "look", desc := "([JI)I" } : Jvm.MethodName)) ∈ lw_all := lw_g (lw_at lw_m3 236 rfl) rfl
theorem q810 : (Jvm.Cond.instanceMethod ({ cls := "SecondHelpings$Reader", name := "look", desc := "([JI)I" } : Jvm.MethodName)) ∈ lw_all := lw_g (lw_at lw_m3 237 rfl) rfl
theorem q811 : (Jvm.Cond.sameMethod "SecondHelpings$Reader" "SecondHelpings$Reader" "look" "([JI)I") ∈ lw_all := lw_g (lw_at lw_m3 238 rfl) rfl
theorem q815 : (Jvm.Cond.code ({ cls := "SecondHelpings$Reader", name := "look", desc := "([JI)I" } : Jvm.MethodName) prog_18_method_17_code (4 : Nat) (Option.some Jvm.ClassFile.FieldType.int)) ∈ lw_all := lw_g (lw_at lw_m4 2 rfl) rfl
theorem q816 : (Jvm.Cond.methodLink "SecondHelpings$Reader" (113 : Nat) ({ cls := "SecondHelpings$Reader", name := "isName", desc := "()Z" } : Jvm.MethodName)) ∈ lw_all := lw_g (lw_at lw_m4 3 rfl) rfl
theorem q817 : (Jvm.Cond.methodLink "SecondHelpings$Reader" (117 : Nat) ({ cls := "SecondHelpings$Reader", name := "of", desc := "([JI)I" } : Jvm.MethodName)) ∈ lw_all := lw_g (lw_at lw_m4 4 rfl) rfl
theorem q825 : (Jvm.Cond.declares ({ cls := "SecondHelpings$Reader", name := "look", desc := "([JI)I" } : Jvm.MethodName)) ∈ lw_tbl := lw_at lw_m4 12 rfl
theorem q829 : (Jvm.Cond.declares ({ cls := "SecondHelpings$Reader", name := "sign", desc := "(I)V" } : Jvm.MethodName)) ∈ lw_tbl := lw_at lw_m4 16 rfl
theorem q831 : (Jvm.Cond.instanceMethod ({ cls := "SecondHelpings$Reader", name := "sign", desc := "(I)V" } : Jvm.MethodName)) ∈ lw_all := lw_g (lw_at lw_m4 18 rfl) rfl
theorem q832 : (Jvm.Cond.code ({ cls := "SecondHelpings$Reader", name := "sign", desc := "(I)V" } : Jvm.MethodName) prog_18_method_14_code (2 : Nat) (Option.none : Option Jvm.ClassFile.FieldType)) ∈ lw_all := lw_g (lw_at lw_m4 19 rfl) rfl
theorem q833 : (Jvm.Cond.methodLink "SecondHelpings$Reader" (107 : Nat) ({ cls := "SecondHelpings$Reader", name := "is", desc := "(I)Z" } : Jvm.MethodName)) ∈ lw_all := lw_g (lw_at lw_m4 20 rfl) rfl
theorem q834 : (Jvm.Cond.instanceMethod ({ cls := "SecondHelpings$Reader", name := "is", desc := "(I)Z" } : Jvm.MethodName)) ∈ lw_all := lw_g (lw_at lw_m4 21 rfl) rfl
theorem q835 : (Jvm.Cond.sameMethod "SecondHelpings$Reader" "SecondHelpings$Reader" "is" "(I)Z") ∈ lw_all := lw_g (lw_at lw_m4 22 rfl) rfl
theorem q839 : (Jvm.Cond.code ({ cls := "SecondHelpings$Reader", name := "is", desc := "(I)Z" } : Jvm.MethodName) prog_18_method_9_code (2 : Nat) (Option.some Jvm.ClassFile.FieldType.boolean)) ∈ lw_all := lw_g (lw_at lw_m4 26 rfl) rfl
theorem q1402 : (Jvm.Cond.declares ({ cls := "SecondHelpings$Reader", name := "is", desc := "(I)Z" } : Jvm.MethodName)) ∈ lw_tbl := lw_at lw_m6 109 rfl
theorem q2233 : (Jvm.Cond.sameMethod "SecondHelpings$Reader" "SecondHelpings$Reader" "peek" "()I") ∈ lw_all := lw_g (lw_at lw_m9 220 rfl) rfl
theorem q2234 : (Jvm.Cond.sameMethod "SecondHelpings$Reader" "SecondHelpings$Reader" "isLetter" "(I)Z") ∈ lw_all := lw_g (lw_at lw_m9 221 rfl) rfl
theorem q2235 : (Jvm.Cond.sameMethod "SecondHelpings$Reader" "SecondHelpings$Reader" "isDigit" "(I)Z") ∈ lw_all := lw_g (lw_at lw_m9 222 rfl) rfl
theorem q2236 : (Jvm.Cond.sameMethod "SecondHelpings$Reader" "SecondHelpings$Reader" "run" "(Z)V") ∈ lw_all := lw_g (lw_at lw_m9 223 rfl) rfl
theorem q2237 : (Jvm.Cond.sameMethod "SecondHelpings$Reader" "SecondHelpings$Reader" "find" "([Ljava/lang/String;)I") ∈ lw_all := lw_g (lw_at lw_m9 224 rfl) rfl
theorem q2241 : (Jvm.Cond.sameMethod "SecondHelpings$Reader" "SecondHelpings$Reader" "must" "(ZI)V") ∈ lw_all := lw_g (lw_at lw_m9 228 rfl) rfl
theorem q2245 : (Jvm.Cond.sameMethod "SecondHelpings$Reader" "SecondHelpings$Reader" "isName" "()Z") ∈ lw_all := lw_g (lw_at lw_m9 232 rfl) rfl
theorem q2249 : (Jvm.Cond.sameMethod "SecondHelpings$Reader" "SecondHelpings$Reader" "of" "([JI)I") ∈ lw_all := lw_g (lw_at lw_m9 236 rfl) rfl
/-! SecondHelpings$BoardReader -/
set_option maxRecDepth 100000
def RX6 : String := "SecondHelpings$BoardReader"
def TX6 : u_T := fun k => match k with
  | 0 => ("SecondHelpings$Reader", "most", "I", true)
  | 1 => ("SecondHelpings$Reader", "p", "I", false)
  | 2 => ("SecondHelpings$Reader", "at", "I", false)
  | 3 => ("SecondHelpings$Reader", "token", "I", false)
  | 4 => ("SecondHelpings$Reader", "value", "I", false)
  | 5 => ("SecondHelpings$Reader", "many", "I", false)
  | 6 => ("SecondHelpings$Reader", "name", "J", false)
  | 7 => ("SecondHelpings$Reader", "this$0", "LSecondHelpings;", true)
  | 8 => ("SecondHelpings$BoardReader", "x", "LSecondHelpings$Board;", false)
  | 9 => ("SecondHelpings$BoardReader", "onces", "I", false)
  | _ => ("SecondHelpings$BoardReader", "this$0", "LSecondHelpings;", true)
def tyX6 : Nat → FieldType := fun k => match k with
  | 0 => .int
  | 1 => .int
  | 2 => .int
  | 3 => .int
  | 4 => .int
  | 5 => .int
  | 6 => .long
  | 7 => .object "SecondHelpings"
  | 8 => .object "SecondHelpings$Board"
  | 9 => .int
  | _ => .object "SecondHelpings"
abbrev wsX60 : List Cond := u_ws RX6 TX6 11
-- two fields of one name: no nmX6
theorem tyX6_ok : ∀ k, k < 11 → parseFieldDescriptor (TX6 k).2.2.1 = some (tyX6 k) := by decide +kernel
abbrev cX6_init : ByteArray := prog_5_method_1_code
def yX6_init : MethodName := ⟨RX6, "<init>", "(LSecondHelpings;)V"⟩
def dkwX6_init_0 : List UInt8 := [42, 43, 181, 0, 3, 42, 43, 17, 3, 132, 183, 0, 9, 177]
abbrev dktX6_init_0 : List UInt8 := dkwX6_init_0 ++ []
theorem dksX6_init_0 : cX6_init.data.toList.drop 0 = dktX6_init_0 := by decide +kernel
theorem dX6_init_0 : decode cX6_init 0 = .ok (.aload_n 0, 1) := dk_42 (dk_at dksX6_init_0 0 rfl rfl)
theorem dX6_init_1 : decode cX6_init 1 = .ok (.aload_n 1, 1) := dk_43 (dk_at dksX6_init_0 1 rfl rfl)
theorem dX6_init_2 : decode cX6_init 2 = .ok (.putfield 3, 3) := dk_181 0 3 (dk_at dksX6_init_0 2 rfl rfl)
theorem dX6_init_5 : decode cX6_init 5 = .ok (.aload_n 0, 1) := dk_42 (dk_at dksX6_init_0 5 rfl rfl)
theorem dX6_init_6 : decode cX6_init 6 = .ok (.aload_n 1, 1) := dk_43 (dk_at dksX6_init_0 6 rfl rfl)
theorem dX6_init_7 : decode cX6_init 7 = .ok (.sipush 900, 3) := dk_17 3 132 (dk_at dksX6_init_0 7 rfl rfl)
theorem dX6_init_10 : decode cX6_init 10 = .ok (.invokespecial 9, 3) := dk_183 0 9 (dk_at dksX6_init_0 10 rfl rfl)
theorem dX6_init_13 : decode cX6_init 13 = .ok (.return_, 1) := dk_177 (dk_at dksX6_init_0 13 rfl rfl)
abbrev cX6_read : ByteArray := prog_5_method_2_code
def yX6_read : MethodName := ⟨RX6, "read", "(LSecondHelpings$Board;)I"⟩
def dkwX6_read_6 : List UInt8 := [42, 182, 0, 54, 42, 29, 182, 0, 57, 42, 16, 59, 182, 0, 61, 132, 2, 1, 167, 255, 113, 28, 172]
abbrev dktX6_read_6 : List UInt8 := dkwX6_read_6 ++ []
def dkwX6_read_5 : List UInt8 := [162, 0, 7, 4, 167, 0, 4, 3, 7, 182, 0, 38, 42, 89, 180, 0, 19, 4, 29, 120, 128, 181, 0, 19]
abbrev dktX6_read_5 : List UInt8 := dkwX6_read_5 ++ dktX6_read_6
def dkwX6_read_4 : List UInt8 := [167, 0, 4, 3, 7, 182, 0, 38, 42, 29, 4, 160, 0, 15, 42, 180, 0, 15, 180, 0, 51, 16, 6]
abbrev dktX6_read_4 : List UInt8 := dkwX6_read_4 ++ dktX6_read_5
def dkwX6_read_3 : List UInt8 := [3, 6, 182, 0, 38, 42, 29, 154, 0, 15, 42, 180, 0, 15, 180, 0, 46, 16, 7, 162, 0, 7, 4]
abbrev dktX6_read_3 : List UInt8 := dkwX6_read_3 ++ dktX6_read_4
def dkwX6_read_2 : List UInt8 := [182, 0, 38, 42, 29, 6, 161, 0, 14, 42, 180, 0, 19, 29, 184, 0, 42, 154, 0, 7, 4, 167, 0, 4]
abbrev dktX6_read_2 : List UInt8 := dkwX6_read_2 ++ dktX6_read_3
def dkwX6_read_1 : List UInt8 := [42, 180, 0, 3, 180, 0, 30, 182, 0, 34, 62, 42, 29, 2, 159, 0, 7, 4, 167, 0, 4, 3, 4]
abbrev dktX6_read_1 : List UInt8 := dkwX6_read_1 ++ dktX6_read_2
def dkwX6_read_0 : List UInt8 := [42, 43, 181, 0, 15, 42, 3, 181, 0, 19, 3, 61, 42, 182, 0, 23, 42, 180, 0, 27, 153, 0, 142, 42]
abbrev dktX6_read_0 : List UInt8 := dkwX6_read_0 ++ dktX6_read_1
theorem dksX6_read_0 : cX6_read.data.toList.drop 0 = dktX6_read_0 := by decide +kernel
theorem dksX6_read_1 : cX6_read.data.toList.drop 24 = dktX6_read_1 := dk_seg dksX6_read_0 24 rfl rfl
theorem dksX6_read_2 : cX6_read.data.toList.drop 47 = dktX6_read_2 := dk_seg dksX6_read_1 23 rfl rfl
theorem dksX6_read_3 : cX6_read.data.toList.drop 71 = dktX6_read_3 := dk_seg dksX6_read_2 24 rfl rfl
theorem dksX6_read_4 : cX6_read.data.toList.drop 94 = dktX6_read_4 := dk_seg dksX6_read_3 23 rfl rfl
theorem dksX6_read_5 : cX6_read.data.toList.drop 117 = dktX6_read_5 := dk_seg dksX6_read_4 23 rfl rfl
theorem dksX6_read_6 : cX6_read.data.toList.drop 141 = dktX6_read_6 := dk_seg dksX6_read_5 24 rfl rfl
theorem dX6_read_0 : decode cX6_read 0 = .ok (.aload_n 0, 1) := dk_42 (dk_at dksX6_read_0 0 rfl rfl)
theorem dX6_read_1 : decode cX6_read 1 = .ok (.aload_n 1, 1) := dk_43 (dk_at dksX6_read_0 1 rfl rfl)
theorem dX6_read_2 : decode cX6_read 2 = .ok (.putfield 15, 3) := dk_181 0 15 (dk_at dksX6_read_0 2 rfl rfl)
theorem dX6_read_5 : decode cX6_read 5 = .ok (.aload_n 0, 1) := dk_42 (dk_at dksX6_read_0 5 rfl rfl)
theorem dX6_read_6 : decode cX6_read 6 = .ok (.iconst 0, 1) := dk_3 (dk_at dksX6_read_0 6 rfl rfl)
theorem dX6_read_7 : decode cX6_read 7 = .ok (.putfield 19, 3) := dk_181 0 19 (dk_at dksX6_read_0 7 rfl rfl)
theorem dX6_read_10 : decode cX6_read 10 = .ok (.iconst 0, 1) := dk_3 (dk_at dksX6_read_0 10 rfl rfl)
theorem dX6_read_11 : decode cX6_read 11 = .ok (.istore_n 2, 1) := dk_61 (dk_at dksX6_read_0 11 rfl rfl)
theorem dX6_read_12 : decode cX6_read 12 = .ok (.aload_n 0, 1) := dk_42 (dk_at dksX6_read_0 12 rfl rfl)
theorem dX6_read_13 : decode cX6_read 13 = .ok (.invokevirtual 23, 3) := dk_182 0 23 (dk_at dksX6_read_0 13 rfl rfl)
theorem dX6_read_16 : decode cX6_read 16 = .ok (.aload_n 0, 1) := dk_42 (dk_at dksX6_read_0 16 rfl rfl)
theorem dX6_read_17 : decode cX6_read 17 = .ok (.getfield 27, 3) := dk_180 0 27 (dk_at dksX6_read_0 17 rfl rfl)
theorem dX6_read_20 : decode cX6_read 20 = .ok (.ifCond .eq 142, 3) := dk_153 0 142 (dk_at dksX6_read_0 20 rfl rfl)
theorem dX6_read_23 : decode cX6_read 23 = .ok (.aload_n 0, 1) := dk_42 (dk_at dksX6_read_0 23 rfl rfl)
theorem dX6_read_24 : decode cX6_read 24 = .ok (.aload_n 0, 1) := dk_42 (dk_at dksX6_read_1 0 rfl rfl)
theorem dX6_read_25 : decode cX6_read 25 = .ok (.getfield 3, 3) := dk_180 0 3 (dk_at dksX6_read_1 1 rfl rfl)
theorem dX6_read_28 : decode cX6_read 28 = .ok (.getfield 30, 3) := dk_180 0 30 (dk_at dksX6_read_1 4 rfl rfl)
theorem dX6_read_31 : decode cX6_read 31 = .ok (.invokevirtual 34, 3) := dk_182 0 34 (dk_at dksX6_read_1 7 rfl rfl)
theorem dX6_read_34 : decode cX6_read 34 = .ok (.istore_n 3, 1) := dk_62 (dk_at dksX6_read_1 10 rfl rfl)
theorem dX6_read_35 : decode cX6_read 35 = .ok (.aload_n 0, 1) := dk_42 (dk_at dksX6_read_1 11 rfl rfl)
theorem dX6_read_36 : decode cX6_read 36 = .ok (.iload_n 3, 1) := dk_29 (dk_at dksX6_read_1 12 rfl rfl)
theorem dX6_read_37 : decode cX6_read 37 = .ok (.iconst (-1), 1) := dk_2 (dk_at dksX6_read_1 13 rfl rfl)
theorem dX6_read_38 : decode cX6_read 38 = .ok (.if_icmp .eq 7, 3) := dk_159 0 7 (dk_at dksX6_read_1 14 rfl rfl)
theorem dX6_read_41 : decode cX6_read 41 = .ok (.iconst 1, 1) := dk_4 (dk_at dksX6_read_1 17 rfl rfl)
theorem dX6_read_42 : decode cX6_read 42 = .ok (.goto 4, 3) := dk_167 0 4 (dk_at dksX6_read_1 18 rfl rfl)
theorem dX6_read_45 : decode cX6_read 45 = .ok (.iconst 0, 1) := dk_3 (dk_at dksX6_read_1 21 rfl rfl)
theorem dX6_read_46 : decode cX6_read 46 = .ok (.iconst 1, 1) := dk_4 (dk_at dksX6_read_1 22 rfl rfl)
theorem dX6_read_47 : decode cX6_read 47 = .ok (.invokevirtual 38, 3) := dk_182 0 38 (dk_at dksX6_read_2 0 rfl rfl)
theorem dX6_read_50 : decode cX6_read 50 = .ok (.aload_n 0, 1) := dk_42 (dk_at dksX6_read_2 3 rfl rfl)
theorem dX6_read_51 : decode cX6_read 51 = .ok (.iload_n 3, 1) := dk_29 (dk_at dksX6_read_2 4 rfl rfl)
theorem dX6_read_52 : decode cX6_read 52 = .ok (.iconst 3, 1) := dk_6 (dk_at dksX6_read_2 5 rfl rfl)
theorem dX6_read_53 : decode cX6_read 53 = .ok (.if_icmp .lt 14, 3) := dk_161 0 14 (dk_at dksX6_read_2 6 rfl rfl)
theorem dX6_read_56 : decode cX6_read 56 = .ok (.aload_n 0, 1) := dk_42 (dk_at dksX6_read_2 9 rfl rfl)
theorem dX6_read_57 : decode cX6_read 57 = .ok (.getfield 19, 3) := dk_180 0 19 (dk_at dksX6_read_2 10 rfl rfl)
theorem dX6_read_60 : decode cX6_read 60 = .ok (.iload_n 3, 1) := dk_29 (dk_at dksX6_read_2 13 rfl rfl)
theorem dX6_read_61 : decode cX6_read 61 = .ok (.invokestatic 42, 3) := dk_184 0 42 (dk_at dksX6_read_2 14 rfl rfl)
theorem dX6_read_64 : decode cX6_read 64 = .ok (.ifCond .ne 7, 3) := dk_154 0 7 (dk_at dksX6_read_2 17 rfl rfl)
theorem dX6_read_67 : decode cX6_read 67 = .ok (.iconst 1, 1) := dk_4 (dk_at dksX6_read_2 20 rfl rfl)
theorem dX6_read_68 : decode cX6_read 68 = .ok (.goto 4, 3) := dk_167 0 4 (dk_at dksX6_read_2 21 rfl rfl)
theorem dX6_read_71 : decode cX6_read 71 = .ok (.iconst 0, 1) := dk_3 (dk_at dksX6_read_3 0 rfl rfl)
theorem dX6_read_72 : decode cX6_read 72 = .ok (.iconst 3, 1) := dk_6 (dk_at dksX6_read_3 1 rfl rfl)
theorem dX6_read_73 : decode cX6_read 73 = .ok (.invokevirtual 38, 3) := dk_182 0 38 (dk_at dksX6_read_3 2 rfl rfl)
theorem dX6_read_76 : decode cX6_read 76 = .ok (.aload_n 0, 1) := dk_42 (dk_at dksX6_read_3 5 rfl rfl)
theorem dX6_read_77 : decode cX6_read 77 = .ok (.iload_n 3, 1) := dk_29 (dk_at dksX6_read_3 6 rfl rfl)
theorem dX6_read_78 : decode cX6_read 78 = .ok (.ifCond .ne 15, 3) := dk_154 0 15 (dk_at dksX6_read_3 7 rfl rfl)
theorem dX6_read_81 : decode cX6_read 81 = .ok (.aload_n 0, 1) := dk_42 (dk_at dksX6_read_3 10 rfl rfl)
theorem dX6_read_82 : decode cX6_read 82 = .ok (.getfield 15, 3) := dk_180 0 15 (dk_at dksX6_read_3 11 rfl rfl)
theorem dX6_read_85 : decode cX6_read 85 = .ok (.getfield 46, 3) := dk_180 0 46 (dk_at dksX6_read_3 14 rfl rfl)
theorem dX6_read_88 : decode cX6_read 88 = .ok (.bipush 7, 2) := dk_16 7 (dk_at dksX6_read_3 17 rfl rfl)
theorem dX6_read_90 : decode cX6_read 90 = .ok (.if_icmp .ge 7, 3) := dk_162 0 7 (dk_at dksX6_read_3 19 rfl rfl)
theorem dX6_read_93 : decode cX6_read 93 = .ok (.iconst 1, 1) := dk_4 (dk_at dksX6_read_3 22 rfl rfl)
theorem dX6_read_94 : decode cX6_read 94 = .ok (.goto 4, 3) := dk_167 0 4 (dk_at dksX6_read_4 0 rfl rfl)
theorem dX6_read_97 : decode cX6_read 97 = .ok (.iconst 0, 1) := dk_3 (dk_at dksX6_read_4 3 rfl rfl)
theorem dX6_read_98 : decode cX6_read 98 = .ok (.iconst 4, 1) := dk_7 (dk_at dksX6_read_4 4 rfl rfl)
theorem dX6_read_99 : decode cX6_read 99 = .ok (.invokevirtual 38, 3) := dk_182 0 38 (dk_at dksX6_read_4 5 rfl rfl)
theorem dX6_read_102 : decode cX6_read 102 = .ok (.aload_n 0, 1) := dk_42 (dk_at dksX6_read_4 8 rfl rfl)
theorem dX6_read_103 : decode cX6_read 103 = .ok (.iload_n 3, 1) := dk_29 (dk_at dksX6_read_4 9 rfl rfl)
theorem dX6_read_104 : decode cX6_read 104 = .ok (.iconst 1, 1) := dk_4 (dk_at dksX6_read_4 10 rfl rfl)
theorem dX6_read_105 : decode cX6_read 105 = .ok (.if_icmp .ne 15, 3) := dk_160 0 15 (dk_at dksX6_read_4 11 rfl rfl)
theorem dX6_read_108 : decode cX6_read 108 = .ok (.aload_n 0, 1) := dk_42 (dk_at dksX6_read_4 14 rfl rfl)
theorem dX6_read_109 : decode cX6_read 109 = .ok (.getfield 15, 3) := dk_180 0 15 (dk_at dksX6_read_4 15 rfl rfl)
theorem dX6_read_112 : decode cX6_read 112 = .ok (.getfield 51, 3) := dk_180 0 51 (dk_at dksX6_read_4 18 rfl rfl)
theorem dX6_read_115 : decode cX6_read 115 = .ok (.bipush 6, 2) := dk_16 6 (dk_at dksX6_read_4 21 rfl rfl)
theorem dX6_read_117 : decode cX6_read 117 = .ok (.if_icmp .ge 7, 3) := dk_162 0 7 (dk_at dksX6_read_5 0 rfl rfl)
theorem dX6_read_120 : decode cX6_read 120 = .ok (.iconst 1, 1) := dk_4 (dk_at dksX6_read_5 3 rfl rfl)
theorem dX6_read_121 : decode cX6_read 121 = .ok (.goto 4, 3) := dk_167 0 4 (dk_at dksX6_read_5 4 rfl rfl)
theorem dX6_read_124 : decode cX6_read 124 = .ok (.iconst 0, 1) := dk_3 (dk_at dksX6_read_5 7 rfl rfl)
theorem dX6_read_125 : decode cX6_read 125 = .ok (.iconst 4, 1) := dk_7 (dk_at dksX6_read_5 8 rfl rfl)
theorem dX6_read_126 : decode cX6_read 126 = .ok (.invokevirtual 38, 3) := dk_182 0 38 (dk_at dksX6_read_5 9 rfl rfl)
theorem dX6_read_129 : decode cX6_read 129 = .ok (.aload_n 0, 1) := dk_42 (dk_at dksX6_read_5 12 rfl rfl)
theorem dX6_read_130 : decode cX6_read 130 = .ok (.dup, 1) := dk_89 (dk_at dksX6_read_5 13 rfl rfl)
theorem dX6_read_131 : decode cX6_read 131 = .ok (.getfield 19, 3) := dk_180 0 19 (dk_at dksX6_read_5 14 rfl rfl)
theorem dX6_read_134 : decode cX6_read 134 = .ok (.iconst 1, 1) := dk_4 (dk_at dksX6_read_5 17 rfl rfl)
theorem dX6_read_135 : decode cX6_read 135 = .ok (.iload_n 3, 1) := dk_29 (dk_at dksX6_read_5 18 rfl rfl)
theorem dX6_read_136 : decode cX6_read 136 = .ok (.ishl, 1) := dk_120 (dk_at dksX6_read_5 19 rfl rfl)
theorem dX6_read_137 : decode cX6_read 137 = .ok (.ior, 1) := dk_128 (dk_at dksX6_read_5 20 rfl rfl)
theorem dX6_read_138 : decode cX6_read 138 = .ok (.putfield 19, 3) := dk_181 0 19 (dk_at dksX6_read_5 21 rfl rfl)
theorem dX6_read_141 : decode cX6_read 141 = .ok (.aload_n 0, 1) := dk_42 (dk_at dksX6_read_6 0 rfl rfl)
theorem dX6_read_142 : decode cX6_read 142 = .ok (.invokevirtual 54, 3) := dk_182 0 54 (dk_at dksX6_read_6 1 rfl rfl)
theorem dX6_read_145 : decode cX6_read 145 = .ok (.aload_n 0, 1) := dk_42 (dk_at dksX6_read_6 4 rfl rfl)
theorem dX6_read_146 : decode cX6_read 146 = .ok (.iload_n 3, 1) := dk_29 (dk_at dksX6_read_6 5 rfl rfl)
theorem dX6_read_147 : decode cX6_read 147 = .ok (.invokevirtual 57, 3) := dk_182 0 57 (dk_at dksX6_read_6 6 rfl rfl)
theorem dX6_read_150 : decode cX6_read 150 = .ok (.aload_n 0, 1) := dk_42 (dk_at dksX6_read_6 9 rfl rfl)
theorem dX6_read_151 : decode cX6_read 151 = .ok (.bipush 59, 2) := dk_16 59 (dk_at dksX6_read_6 10 rfl rfl)
theorem dX6_read_153 : decode cX6_read 153 = .ok (.invokevirtual 61, 3) := dk_182 0 61 (dk_at dksX6_read_6 12 rfl rfl)
theorem dX6_read_156 : decode cX6_read 156 = .ok (.iinc 2 1, 3) := dk_132 2 1 (dk_at dksX6_read_6 15 rfl rfl)
theorem dX6_read_159 : decode cX6_read 159 = .ok (.goto (-143), 3) := dk_167 255 113 (dk_at dksX6_read_6 18 rfl rfl)
theorem dX6_read_162 : decode cX6_read 162 = .ok (.iload_n 2, 1) := dk_28 (dk_at dksX6_read_6 21 rfl rfl)
theorem dX6_read_163 : decode cX6_read 163 = .ok (.ireturn, 1) := dk_172 (dk_at dksX6_read_6 22 rfl rfl)
abbrev cX6_line : ByteArray := prog_5_method_4_code
def yX6_line : MethodName := ⟨RX6, "line", "(I)V"⟩
def dkwX6_line_8 : List UInt8 := [167, 0, 17, 42, 180, 0, 15, 42, 3, 16, 9, 182, 0, 99, 181, 0, 109, 177]
abbrev dktX6_line_8 : List UInt8 := dkwX6_line_8 ++ []
def dkwX6_line_7 : List UInt8 := [159, 0, 7, 4, 167, 0, 4, 3, 4, 182, 0, 38, 42, 182, 0, 54, 42, 180, 0, 15, 28, 181, 0, 106]
abbrev dktX6_line_7 : List UInt8 := dkwX6_line_7 ++ dktX6_line_8
def dkwX6_line_6 : List UInt8 := [16, 40, 182, 0, 99, 79, 167, 0, 59, 42, 42, 180, 0, 3, 180, 0, 103, 182, 0, 34, 61, 42, 28, 2]
abbrev dktX6_line_6 : List UInt8 := dkwX6_line_6 ++ dktX6_line_7
def dkwX6_line_5 : List UInt8 := [4, 167, 0, 4, 3, 6, 182, 0, 38, 42, 182, 0, 54, 42, 180, 0, 15, 180, 0, 95, 29, 42, 4]
abbrev dktX6_line_5 : List UInt8 := dkwX6_line_5 ++ dktX6_line_6
def dkwX6_line_4 : List UInt8 := [180, 0, 15, 180, 0, 51, 182, 0, 92, 96, 62, 42, 42, 180, 0, 15, 180, 0, 95, 29, 46, 154, 0, 7]
abbrev dktX6_line_4 : List UInt8 := dkwX6_line_4 ++ dktX6_line_5
def dkwX6_line_3 : List UInt8 := [180, 0, 15, 180, 0, 46, 182, 0, 89, 61, 16, 6, 28, 104, 42, 42, 180, 0, 15, 180, 0, 76, 42]
abbrev dktX6_line_3 : List UInt8 := dkwX6_line_3 ++ dktX6_line_4
def dkwX6_line_2 : List UInt8 := [42, 182, 0, 83, 167, 0, 154, 42, 182, 0, 86, 167, 0, 147, 42, 42, 180, 0, 15, 180, 0, 68, 42]
abbrev dktX6_line_2 : List UInt8 := dkwX6_line_2 ++ dktX6_line_3
def dkwX6_line_1 : List UInt8 := [170, 0, 0, 0, 0, 0, 175, 0, 0, 0, 0, 0, 0, 0, 3, 0, 0, 0, 31, 0, 0, 0, 38, 0, 0, 0, 45, 0, 0, 0, 133]
abbrev dktX6_line_1 : List UInt8 := dkwX6_line_1 ++ dktX6_line_2
def dkwX6_line_0 : List UInt8 := [27]
abbrev dktX6_line_0 : List UInt8 := dkwX6_line_0 ++ dktX6_line_1
theorem dksX6_line_0 : cX6_line.data.toList.drop 0 = dktX6_line_0 := by decide +kernel
theorem dksX6_line_1 : cX6_line.data.toList.drop 1 = dktX6_line_1 := dk_seg dksX6_line_0 1 rfl rfl
theorem dksX6_line_2 : cX6_line.data.toList.drop 32 = dktX6_line_2 := dk_seg dksX6_line_1 31 rfl rfl
theorem dksX6_line_3 : cX6_line.data.toList.drop 55 = dktX6_line_3 := dk_seg dksX6_line_2 23 rfl rfl
theorem dksX6_line_4 : cX6_line.data.toList.drop 78 = dktX6_line_4 := dk_seg dksX6_line_3 23 rfl rfl
theorem dksX6_line_5 : cX6_line.data.toList.drop 102 = dktX6_line_5 := dk_seg dksX6_line_4 24 rfl rfl
theorem dksX6_line_6 : cX6_line.data.toList.drop 125 = dktX6_line_6 := dk_seg dksX6_line_5 23 rfl rfl
theorem dksX6_line_7 : cX6_line.data.toList.drop 149 = dktX6_line_7 := dk_seg dksX6_line_6 24 rfl rfl
theorem dksX6_line_8 : cX6_line.data.toList.drop 173 = dktX6_line_8 := dk_seg dksX6_line_7 24 rfl rfl
theorem dX6_line_0 : decode cX6_line 0 = .ok (.iload_n 1, 1) := dk_27 (dk_at dksX6_line_0 0 rfl rfl)
theorem dX6_line_1 : decode cX6_line 1 = .ok (.tableswitch 175 0 3 #[31, 38, 45, 133], 31) := by decide +kernel
theorem dX6_line_32 : decode cX6_line 32 = .ok (.aload_n 0, 1) := dk_42 (dk_at dksX6_line_2 0 rfl rfl)
theorem dX6_line_33 : decode cX6_line 33 = .ok (.invokevirtual 83, 3) := dk_182 0 83 (dk_at dksX6_line_2 1 rfl rfl)
theorem dX6_line_36 : decode cX6_line 36 = .ok (.goto 154, 3) := dk_167 0 154 (dk_at dksX6_line_2 4 rfl rfl)
theorem dX6_line_39 : decode cX6_line 39 = .ok (.aload_n 0, 1) := dk_42 (dk_at dksX6_line_2 7 rfl rfl)
theorem dX6_line_40 : decode cX6_line 40 = .ok (.invokevirtual 86, 3) := dk_182 0 86 (dk_at dksX6_line_2 8 rfl rfl)
theorem dX6_line_43 : decode cX6_line 43 = .ok (.goto 147, 3) := dk_167 0 147 (dk_at dksX6_line_2 11 rfl rfl)
theorem dX6_line_46 : decode cX6_line 46 = .ok (.aload_n 0, 1) := dk_42 (dk_at dksX6_line_2 14 rfl rfl)
theorem dX6_line_47 : decode cX6_line 47 = .ok (.aload_n 0, 1) := dk_42 (dk_at dksX6_line_2 15 rfl rfl)
theorem dX6_line_48 : decode cX6_line 48 = .ok (.getfield 15, 3) := dk_180 0 15 (dk_at dksX6_line_2 16 rfl rfl)
theorem dX6_line_51 : decode cX6_line 51 = .ok (.getfield 68, 3) := dk_180 0 68 (dk_at dksX6_line_2 19 rfl rfl)
theorem dX6_line_54 : decode cX6_line 54 = .ok (.aload_n 0, 1) := dk_42 (dk_at dksX6_line_2 22 rfl rfl)
theorem dX6_line_55 : decode cX6_line 55 = .ok (.getfield 15, 3) := dk_180 0 15 (dk_at dksX6_line_3 0 rfl rfl)
theorem dX6_line_58 : decode cX6_line 58 = .ok (.getfield 46, 3) := dk_180 0 46 (dk_at dksX6_line_3 3 rfl rfl)
theorem dX6_line_61 : decode cX6_line 61 = .ok (.invokevirtual 89, 3) := dk_182 0 89 (dk_at dksX6_line_3 6 rfl rfl)
theorem dX6_line_64 : decode cX6_line 64 = .ok (.istore_n 2, 1) := dk_61 (dk_at dksX6_line_3 9 rfl rfl)
theorem dX6_line_65 : decode cX6_line 65 = .ok (.bipush 6, 2) := dk_16 6 (dk_at dksX6_line_3 10 rfl rfl)
theorem dX6_line_67 : decode cX6_line 67 = .ok (.iload_n 2, 1) := dk_28 (dk_at dksX6_line_3 12 rfl rfl)
theorem dX6_line_68 : decode cX6_line 68 = .ok (.imul, 1) := dk_104 (dk_at dksX6_line_3 13 rfl rfl)
theorem dX6_line_69 : decode cX6_line 69 = .ok (.aload_n 0, 1) := dk_42 (dk_at dksX6_line_3 14 rfl rfl)
theorem dX6_line_70 : decode cX6_line 70 = .ok (.aload_n 0, 1) := dk_42 (dk_at dksX6_line_3 15 rfl rfl)
theorem dX6_line_71 : decode cX6_line 71 = .ok (.getfield 15, 3) := dk_180 0 15 (dk_at dksX6_line_3 16 rfl rfl)
theorem dX6_line_74 : decode cX6_line 74 = .ok (.getfield 76, 3) := dk_180 0 76 (dk_at dksX6_line_3 19 rfl rfl)
theorem dX6_line_77 : decode cX6_line 77 = .ok (.aload_n 0, 1) := dk_42 (dk_at dksX6_line_3 22 rfl rfl)
theorem dX6_line_78 : decode cX6_line 78 = .ok (.getfield 15, 3) := dk_180 0 15 (dk_at dksX6_line_4 0 rfl rfl)
theorem dX6_line_81 : decode cX6_line 81 = .ok (.getfield 51, 3) := dk_180 0 51 (dk_at dksX6_line_4 3 rfl rfl)
theorem dX6_line_84 : decode cX6_line 84 = .ok (.invokevirtual 92, 3) := dk_182 0 92 (dk_at dksX6_line_4 6 rfl rfl)
theorem dX6_line_87 : decode cX6_line 87 = .ok (.iadd, 1) := dk_96 (dk_at dksX6_line_4 9 rfl rfl)
theorem dX6_line_88 : decode cX6_line 88 = .ok (.istore_n 3, 1) := dk_62 (dk_at dksX6_line_4 10 rfl rfl)
theorem dX6_line_89 : decode cX6_line 89 = .ok (.aload_n 0, 1) := dk_42 (dk_at dksX6_line_4 11 rfl rfl)
theorem dX6_line_90 : decode cX6_line 90 = .ok (.aload_n 0, 1) := dk_42 (dk_at dksX6_line_4 12 rfl rfl)
theorem dX6_line_91 : decode cX6_line 91 = .ok (.getfield 15, 3) := dk_180 0 15 (dk_at dksX6_line_4 13 rfl rfl)
theorem dX6_line_94 : decode cX6_line 94 = .ok (.getfield 95, 3) := dk_180 0 95 (dk_at dksX6_line_4 16 rfl rfl)
theorem dX6_line_97 : decode cX6_line 97 = .ok (.iload_n 3, 1) := dk_29 (dk_at dksX6_line_4 19 rfl rfl)
theorem dX6_line_98 : decode cX6_line 98 = .ok (.iaload, 1) := dk_46 (dk_at dksX6_line_4 20 rfl rfl)
theorem dX6_line_99 : decode cX6_line 99 = .ok (.ifCond .ne 7, 3) := dk_154 0 7 (dk_at dksX6_line_4 21 rfl rfl)
theorem dX6_line_102 : decode cX6_line 102 = .ok (.iconst 1, 1) := dk_4 (dk_at dksX6_line_5 0 rfl rfl)
theorem dX6_line_103 : decode cX6_line 103 = .ok (.goto 4, 3) := dk_167 0 4 (dk_at dksX6_line_5 1 rfl rfl)
theorem dX6_line_106 : decode cX6_line 106 = .ok (.iconst 0, 1) := dk_3 (dk_at dksX6_line_5 4 rfl rfl)
theorem dX6_line_107 : decode cX6_line 107 = .ok (.iconst 3, 1) := dk_6 (dk_at dksX6_line_5 5 rfl rfl)
theorem dX6_line_108 : decode cX6_line 108 = .ok (.invokevirtual 38, 3) := dk_182 0 38 (dk_at dksX6_line_5 6 rfl rfl)
theorem dX6_line_111 : decode cX6_line 111 = .ok (.aload_n 0, 1) := dk_42 (dk_at dksX6_line_5 9 rfl rfl)
theorem dX6_line_112 : decode cX6_line 112 = .ok (.invokevirtual 54, 3) := dk_182 0 54 (dk_at dksX6_line_5 10 rfl rfl)
theorem dX6_line_115 : decode cX6_line 115 = .ok (.aload_n 0, 1) := dk_42 (dk_at dksX6_line_5 13 rfl rfl)
theorem dX6_line_116 : decode cX6_line 116 = .ok (.getfield 15, 3) := dk_180 0 15 (dk_at dksX6_line_5 14 rfl rfl)
theorem dX6_line_119 : decode cX6_line 119 = .ok (.getfield 95, 3) := dk_180 0 95 (dk_at dksX6_line_5 17 rfl rfl)
theorem dX6_line_122 : decode cX6_line 122 = .ok (.iload_n 3, 1) := dk_29 (dk_at dksX6_line_5 20 rfl rfl)
theorem dX6_line_123 : decode cX6_line 123 = .ok (.aload_n 0, 1) := dk_42 (dk_at dksX6_line_5 21 rfl rfl)
theorem dX6_line_124 : decode cX6_line 124 = .ok (.iconst 1, 1) := dk_4 (dk_at dksX6_line_5 22 rfl rfl)
theorem dX6_line_125 : decode cX6_line 125 = .ok (.bipush 40, 2) := dk_16 40 (dk_at dksX6_line_6 0 rfl rfl)
theorem dX6_line_127 : decode cX6_line 127 = .ok (.invokevirtual 99, 3) := dk_182 0 99 (dk_at dksX6_line_6 2 rfl rfl)
theorem dX6_line_130 : decode cX6_line 130 = .ok (.iastore, 1) := dk_79 (dk_at dksX6_line_6 5 rfl rfl)
theorem dX6_line_131 : decode cX6_line 131 = .ok (.goto 59, 3) := dk_167 0 59 (dk_at dksX6_line_6 6 rfl rfl)
theorem dX6_line_134 : decode cX6_line 134 = .ok (.aload_n 0, 1) := dk_42 (dk_at dksX6_line_6 9 rfl rfl)
theorem dX6_line_135 : decode cX6_line 135 = .ok (.aload_n 0, 1) := dk_42 (dk_at dksX6_line_6 10 rfl rfl)
theorem dX6_line_136 : decode cX6_line 136 = .ok (.getfield 3, 3) := dk_180 0 3 (dk_at dksX6_line_6 11 rfl rfl)
theorem dX6_line_139 : decode cX6_line 139 = .ok (.getfield 103, 3) := dk_180 0 103 (dk_at dksX6_line_6 14 rfl rfl)
theorem dX6_line_142 : decode cX6_line 142 = .ok (.invokevirtual 34, 3) := dk_182 0 34 (dk_at dksX6_line_6 17 rfl rfl)
theorem dX6_line_145 : decode cX6_line 145 = .ok (.istore_n 2, 1) := dk_61 (dk_at dksX6_line_6 20 rfl rfl)
theorem dX6_line_146 : decode cX6_line 146 = .ok (.aload_n 0, 1) := dk_42 (dk_at dksX6_line_6 21 rfl rfl)
theorem dX6_line_147 : decode cX6_line 147 = .ok (.iload_n 2, 1) := dk_28 (dk_at dksX6_line_6 22 rfl rfl)
theorem dX6_line_148 : decode cX6_line 148 = .ok (.iconst (-1), 1) := dk_2 (dk_at dksX6_line_6 23 rfl rfl)
theorem dX6_line_149 : decode cX6_line 149 = .ok (.if_icmp .eq 7, 3) := dk_159 0 7 (dk_at dksX6_line_7 0 rfl rfl)
theorem dX6_line_152 : decode cX6_line 152 = .ok (.iconst 1, 1) := dk_4 (dk_at dksX6_line_7 3 rfl rfl)
theorem dX6_line_153 : decode cX6_line 153 = .ok (.goto 4, 3) := dk_167 0 4 (dk_at dksX6_line_7 4 rfl rfl)
theorem dX6_line_156 : decode cX6_line 156 = .ok (.iconst 0, 1) := dk_3 (dk_at dksX6_line_7 7 rfl rfl)
theorem dX6_line_157 : decode cX6_line 157 = .ok (.iconst 1, 1) := dk_4 (dk_at dksX6_line_7 8 rfl rfl)
theorem dX6_line_158 : decode cX6_line 158 = .ok (.invokevirtual 38, 3) := dk_182 0 38 (dk_at dksX6_line_7 9 rfl rfl)
theorem dX6_line_161 : decode cX6_line 161 = .ok (.aload_n 0, 1) := dk_42 (dk_at dksX6_line_7 12 rfl rfl)
theorem dX6_line_162 : decode cX6_line 162 = .ok (.invokevirtual 54, 3) := dk_182 0 54 (dk_at dksX6_line_7 13 rfl rfl)
theorem dX6_line_165 : decode cX6_line 165 = .ok (.aload_n 0, 1) := dk_42 (dk_at dksX6_line_7 16 rfl rfl)
theorem dX6_line_166 : decode cX6_line 166 = .ok (.getfield 15, 3) := dk_180 0 15 (dk_at dksX6_line_7 17 rfl rfl)
theorem dX6_line_169 : decode cX6_line 169 = .ok (.iload_n 2, 1) := dk_28 (dk_at dksX6_line_7 20 rfl rfl)
theorem dX6_line_170 : decode cX6_line 170 = .ok (.putfield 106, 3) := dk_181 0 106 (dk_at dksX6_line_7 21 rfl rfl)
theorem dX6_line_173 : decode cX6_line 173 = .ok (.goto 17, 3) := dk_167 0 17 (dk_at dksX6_line_8 0 rfl rfl)
theorem dX6_line_176 : decode cX6_line 176 = .ok (.aload_n 0, 1) := dk_42 (dk_at dksX6_line_8 3 rfl rfl)
theorem dX6_line_177 : decode cX6_line 177 = .ok (.getfield 15, 3) := dk_180 0 15 (dk_at dksX6_line_8 4 rfl rfl)
theorem dX6_line_180 : decode cX6_line 180 = .ok (.aload_n 0, 1) := dk_42 (dk_at dksX6_line_8 7 rfl rfl)
theorem dX6_line_181 : decode cX6_line 181 = .ok (.iconst 0, 1) := dk_3 (dk_at dksX6_line_8 8 rfl rfl)
theorem dX6_line_182 : decode cX6_line 182 = .ok (.bipush 9, 2) := dk_16 9 (dk_at dksX6_line_8 9 rfl rfl)
theorem dX6_line_184 : decode cX6_line 184 = .ok (.invokevirtual 99, 3) := dk_182 0 99 (dk_at dksX6_line_8 11 rfl rfl)
theorem dX6_line_187 : decode cX6_line 187 = .ok (.putfield 109, 3) := dk_181 0 109 (dk_at dksX6_line_8 14 rfl rfl)
theorem dX6_line_190 : decode cX6_line 190 = .ok (.return_, 1) := dk_177 (dk_at dksX6_line_8 17 rfl rfl)
abbrev cX6_person : ByteArray := prog_5_method_5_code
def yX6_person : MethodName := ⟨RX6, "person", "()V"⟩
def dkwX6_person_4 : List UInt8 := [180, 0, 46, 4, 96, 181, 0, 46, 177]
abbrev dktX6_person_4 : List UInt8 := dkwX6_person_4 ++ []
def dkwX6_person_3 : List UInt8 := [180, 0, 15, 180, 0, 68, 42, 180, 0, 15, 180, 0, 46, 182, 0, 89, 79, 42, 180, 0, 15, 89]
abbrev dktX6_person_3 : List UInt8 := dkwX6_person_3 ++ dktX6_person_4
def dkwX6_person_2 : List UInt8 := [79, 42, 18, 122, 182, 0, 123, 153, 0, 34, 42, 182, 0, 54, 42, 180, 0, 15, 180, 0, 119, 27, 42, 42]
abbrev dktX6_person_2 : List UInt8 := dkwX6_person_2 ++ dktX6_person_3
def dkwX6_person_1 : List UInt8 := [180, 0, 15, 180, 0, 116, 27, 42, 3, 16, 20, 182, 0, 99, 79, 42, 180, 0, 15, 180, 0, 119, 27, 2]
abbrev dktX6_person_1 : List UInt8 := dkwX6_person_1 ++ dktX6_person_2
def dkwX6_person_0 : List UInt8 := [42, 180, 0, 15, 180, 0, 46, 60, 42, 180, 0, 15, 180, 0, 68, 27, 42, 182, 0, 112, 80, 42]
abbrev dktX6_person_0 : List UInt8 := dkwX6_person_0 ++ dktX6_person_1
theorem dksX6_person_0 : cX6_person.data.toList.drop 0 = dktX6_person_0 := by decide +kernel
theorem dksX6_person_1 : cX6_person.data.toList.drop 22 = dktX6_person_1 := dk_seg dksX6_person_0 22 rfl rfl
theorem dksX6_person_2 : cX6_person.data.toList.drop 46 = dktX6_person_2 := dk_seg dksX6_person_1 24 rfl rfl
theorem dksX6_person_3 : cX6_person.data.toList.drop 70 = dktX6_person_3 := dk_seg dksX6_person_2 24 rfl rfl
theorem dksX6_person_4 : cX6_person.data.toList.drop 92 = dktX6_person_4 := dk_seg dksX6_person_3 22 rfl rfl
theorem dX6_person_0 : decode cX6_person 0 = .ok (.aload_n 0, 1) := dk_42 (dk_at dksX6_person_0 0 rfl rfl)
theorem dX6_person_1 : decode cX6_person 1 = .ok (.getfield 15, 3) := dk_180 0 15 (dk_at dksX6_person_0 1 rfl rfl)
theorem dX6_person_4 : decode cX6_person 4 = .ok (.getfield 46, 3) := dk_180 0 46 (dk_at dksX6_person_0 4 rfl rfl)
theorem dX6_person_7 : decode cX6_person 7 = .ok (.istore_n 1, 1) := dk_60 (dk_at dksX6_person_0 7 rfl rfl)
theorem dX6_person_8 : decode cX6_person 8 = .ok (.aload_n 0, 1) := dk_42 (dk_at dksX6_person_0 8 rfl rfl)
theorem dX6_person_9 : decode cX6_person 9 = .ok (.getfield 15, 3) := dk_180 0 15 (dk_at dksX6_person_0 9 rfl rfl)
theorem dX6_person_12 : decode cX6_person 12 = .ok (.getfield 68, 3) := dk_180 0 68 (dk_at dksX6_person_0 12 rfl rfl)
theorem dX6_person_15 : decode cX6_person 15 = .ok (.iload_n 1, 1) := dk_27 (dk_at dksX6_person_0 15 rfl rfl)
theorem dX6_person_16 : decode cX6_person 16 = .ok (.aload_n 0, 1) := dk_42 (dk_at dksX6_person_0 16 rfl rfl)
theorem dX6_person_17 : decode cX6_person 17 = .ok (.invokevirtual 112, 3) := dk_182 0 112 (dk_at dksX6_person_0 17 rfl rfl)
theorem dX6_person_20 : decode cX6_person 20 = .ok (.lastore, 1) := dk_80 (dk_at dksX6_person_0 20 rfl rfl)
theorem dX6_person_21 : decode cX6_person 21 = .ok (.aload_n 0, 1) := dk_42 (dk_at dksX6_person_0 21 rfl rfl)
theorem dX6_person_22 : decode cX6_person 22 = .ok (.getfield 15, 3) := dk_180 0 15 (dk_at dksX6_person_1 0 rfl rfl)
theorem dX6_person_25 : decode cX6_person 25 = .ok (.getfield 116, 3) := dk_180 0 116 (dk_at dksX6_person_1 3 rfl rfl)
theorem dX6_person_28 : decode cX6_person 28 = .ok (.iload_n 1, 1) := dk_27 (dk_at dksX6_person_1 6 rfl rfl)
theorem dX6_person_29 : decode cX6_person 29 = .ok (.aload_n 0, 1) := dk_42 (dk_at dksX6_person_1 7 rfl rfl)
theorem dX6_person_30 : decode cX6_person 30 = .ok (.iconst 0, 1) := dk_3 (dk_at dksX6_person_1 8 rfl rfl)
theorem dX6_person_31 : decode cX6_person 31 = .ok (.bipush 20, 2) := dk_16 20 (dk_at dksX6_person_1 9 rfl rfl)
theorem dX6_person_33 : decode cX6_person 33 = .ok (.invokevirtual 99, 3) := dk_182 0 99 (dk_at dksX6_person_1 11 rfl rfl)
theorem dX6_person_36 : decode cX6_person 36 = .ok (.iastore, 1) := dk_79 (dk_at dksX6_person_1 14 rfl rfl)
theorem dX6_person_37 : decode cX6_person 37 = .ok (.aload_n 0, 1) := dk_42 (dk_at dksX6_person_1 15 rfl rfl)
theorem dX6_person_38 : decode cX6_person 38 = .ok (.getfield 15, 3) := dk_180 0 15 (dk_at dksX6_person_1 16 rfl rfl)
theorem dX6_person_41 : decode cX6_person 41 = .ok (.getfield 119, 3) := dk_180 0 119 (dk_at dksX6_person_1 19 rfl rfl)
theorem dX6_person_44 : decode cX6_person 44 = .ok (.iload_n 1, 1) := dk_27 (dk_at dksX6_person_1 22 rfl rfl)
theorem dX6_person_45 : decode cX6_person 45 = .ok (.iconst (-1), 1) := dk_2 (dk_at dksX6_person_1 23 rfl rfl)
theorem dX6_person_46 : decode cX6_person 46 = .ok (.iastore, 1) := dk_79 (dk_at dksX6_person_2 0 rfl rfl)
theorem dX6_person_47 : decode cX6_person 47 = .ok (.aload_n 0, 1) := dk_42 (dk_at dksX6_person_2 1 rfl rfl)
theorem dX6_person_48 : decode cX6_person 48 = .ok (.ldc 122, 2) := dk_18 122 (dk_at dksX6_person_2 2 rfl rfl)
theorem dX6_person_50 : decode cX6_person 50 = .ok (.invokevirtual 123, 3) := dk_182 0 123 (dk_at dksX6_person_2 4 rfl rfl)
theorem dX6_person_53 : decode cX6_person 53 = .ok (.ifCond .eq 34, 3) := dk_153 0 34 (dk_at dksX6_person_2 7 rfl rfl)
theorem dX6_person_56 : decode cX6_person 56 = .ok (.aload_n 0, 1) := dk_42 (dk_at dksX6_person_2 10 rfl rfl)
theorem dX6_person_57 : decode cX6_person 57 = .ok (.invokevirtual 54, 3) := dk_182 0 54 (dk_at dksX6_person_2 11 rfl rfl)
theorem dX6_person_60 : decode cX6_person 60 = .ok (.aload_n 0, 1) := dk_42 (dk_at dksX6_person_2 14 rfl rfl)
theorem dX6_person_61 : decode cX6_person 61 = .ok (.getfield 15, 3) := dk_180 0 15 (dk_at dksX6_person_2 15 rfl rfl)
theorem dX6_person_64 : decode cX6_person 64 = .ok (.getfield 119, 3) := dk_180 0 119 (dk_at dksX6_person_2 18 rfl rfl)
theorem dX6_person_67 : decode cX6_person 67 = .ok (.iload_n 1, 1) := dk_27 (dk_at dksX6_person_2 21 rfl rfl)
theorem dX6_person_68 : decode cX6_person 68 = .ok (.aload_n 0, 1) := dk_42 (dk_at dksX6_person_2 22 rfl rfl)
theorem dX6_person_69 : decode cX6_person 69 = .ok (.aload_n 0, 1) := dk_42 (dk_at dksX6_person_2 23 rfl rfl)
theorem dX6_person_70 : decode cX6_person 70 = .ok (.getfield 15, 3) := dk_180 0 15 (dk_at dksX6_person_3 0 rfl rfl)
theorem dX6_person_73 : decode cX6_person 73 = .ok (.getfield 68, 3) := dk_180 0 68 (dk_at dksX6_person_3 3 rfl rfl)
theorem dX6_person_76 : decode cX6_person 76 = .ok (.aload_n 0, 1) := dk_42 (dk_at dksX6_person_3 6 rfl rfl)
theorem dX6_person_77 : decode cX6_person 77 = .ok (.getfield 15, 3) := dk_180 0 15 (dk_at dksX6_person_3 7 rfl rfl)
theorem dX6_person_80 : decode cX6_person 80 = .ok (.getfield 46, 3) := dk_180 0 46 (dk_at dksX6_person_3 10 rfl rfl)
theorem dX6_person_83 : decode cX6_person 83 = .ok (.invokevirtual 89, 3) := dk_182 0 89 (dk_at dksX6_person_3 13 rfl rfl)
theorem dX6_person_86 : decode cX6_person 86 = .ok (.iastore, 1) := dk_79 (dk_at dksX6_person_3 16 rfl rfl)
theorem dX6_person_87 : decode cX6_person 87 = .ok (.aload_n 0, 1) := dk_42 (dk_at dksX6_person_3 17 rfl rfl)
theorem dX6_person_88 : decode cX6_person 88 = .ok (.getfield 15, 3) := dk_180 0 15 (dk_at dksX6_person_3 18 rfl rfl)
theorem dX6_person_91 : decode cX6_person 91 = .ok (.dup, 1) := dk_89 (dk_at dksX6_person_3 21 rfl rfl)
theorem dX6_person_92 : decode cX6_person 92 = .ok (.getfield 46, 3) := dk_180 0 46 (dk_at dksX6_person_4 0 rfl rfl)
theorem dX6_person_95 : decode cX6_person 95 = .ok (.iconst 1, 1) := dk_4 (dk_at dksX6_person_4 3 rfl rfl)
theorem dX6_person_96 : decode cX6_person 96 = .ok (.iadd, 1) := dk_96 (dk_at dksX6_person_4 4 rfl rfl)
theorem dX6_person_97 : decode cX6_person 97 = .ok (.putfield 46, 3) := dk_181 0 46 (dk_at dksX6_person_4 5 rfl rfl)
theorem dX6_person_100 : decode cX6_person 100 = .ok (.return_, 1) := dk_177 (dk_at dksX6_person_4 8 rfl rfl)
abbrev cX6_fresh : ByteArray := prog_5_method_3_code
def yX6_fresh : MethodName := ⟨RX6, "fresh", "()J"⟩
def dkwX6_fresh_3 : List UInt8 := [42, 182, 0, 54, 31, 173]
abbrev dktX6_fresh_3 : List UInt8 := dkwX6_fresh_3 ++ []
def dkwX6_fresh_2 : List UInt8 := [180, 0, 51, 182, 0, 72, 2, 160, 0, 7, 4, 167, 0, 4, 3, 6, 182, 0, 38, 42, 180, 0, 79, 64]
abbrev dktX6_fresh_2 : List UInt8 := dkwX6_fresh_2 ++ dktX6_fresh_3
def dkwX6_fresh_1 : List UInt8 := [180, 0, 46, 182, 0, 72, 2, 160, 0, 29, 42, 42, 180, 0, 15, 180, 0, 76, 42, 180, 0, 15]
abbrev dktX6_fresh_1 : List UInt8 := dkwX6_fresh_1 ++ dktX6_fresh_2
def dkwX6_fresh_0 : List UInt8 := [42, 42, 182, 0, 64, 4, 182, 0, 38, 42, 42, 42, 180, 0, 15, 180, 0, 68, 42, 180, 0, 15]
abbrev dktX6_fresh_0 : List UInt8 := dkwX6_fresh_0 ++ dktX6_fresh_1
theorem dksX6_fresh_0 : cX6_fresh.data.toList.drop 0 = dktX6_fresh_0 := by decide +kernel
theorem dksX6_fresh_1 : cX6_fresh.data.toList.drop 22 = dktX6_fresh_1 := dk_seg dksX6_fresh_0 22 rfl rfl
theorem dksX6_fresh_2 : cX6_fresh.data.toList.drop 44 = dktX6_fresh_2 := dk_seg dksX6_fresh_1 22 rfl rfl
theorem dksX6_fresh_3 : cX6_fresh.data.toList.drop 68 = dktX6_fresh_3 := dk_seg dksX6_fresh_2 24 rfl rfl
theorem dX6_fresh_0 : decode cX6_fresh 0 = .ok (.aload_n 0, 1) := dk_42 (dk_at dksX6_fresh_0 0 rfl rfl)
theorem dX6_fresh_1 : decode cX6_fresh 1 = .ok (.aload_n 0, 1) := dk_42 (dk_at dksX6_fresh_0 1 rfl rfl)
theorem dX6_fresh_2 : decode cX6_fresh 2 = .ok (.invokevirtual 64, 3) := dk_182 0 64 (dk_at dksX6_fresh_0 2 rfl rfl)
theorem dX6_fresh_5 : decode cX6_fresh 5 = .ok (.iconst 1, 1) := dk_4 (dk_at dksX6_fresh_0 5 rfl rfl)
theorem dX6_fresh_6 : decode cX6_fresh 6 = .ok (.invokevirtual 38, 3) := dk_182 0 38 (dk_at dksX6_fresh_0 6 rfl rfl)
theorem dX6_fresh_9 : decode cX6_fresh 9 = .ok (.aload_n 0, 1) := dk_42 (dk_at dksX6_fresh_0 9 rfl rfl)
theorem dX6_fresh_10 : decode cX6_fresh 10 = .ok (.aload_n 0, 1) := dk_42 (dk_at dksX6_fresh_0 10 rfl rfl)
theorem dX6_fresh_11 : decode cX6_fresh 11 = .ok (.aload_n 0, 1) := dk_42 (dk_at dksX6_fresh_0 11 rfl rfl)
theorem dX6_fresh_12 : decode cX6_fresh 12 = .ok (.getfield 15, 3) := dk_180 0 15 (dk_at dksX6_fresh_0 12 rfl rfl)
theorem dX6_fresh_15 : decode cX6_fresh 15 = .ok (.getfield 68, 3) := dk_180 0 68 (dk_at dksX6_fresh_0 15 rfl rfl)
theorem dX6_fresh_18 : decode cX6_fresh 18 = .ok (.aload_n 0, 1) := dk_42 (dk_at dksX6_fresh_0 18 rfl rfl)
theorem dX6_fresh_19 : decode cX6_fresh 19 = .ok (.getfield 15, 3) := dk_180 0 15 (dk_at dksX6_fresh_0 19 rfl rfl)
theorem dX6_fresh_22 : decode cX6_fresh 22 = .ok (.getfield 46, 3) := dk_180 0 46 (dk_at dksX6_fresh_1 0 rfl rfl)
theorem dX6_fresh_25 : decode cX6_fresh 25 = .ok (.invokevirtual 72, 3) := dk_182 0 72 (dk_at dksX6_fresh_1 3 rfl rfl)
theorem dX6_fresh_28 : decode cX6_fresh 28 = .ok (.iconst (-1), 1) := dk_2 (dk_at dksX6_fresh_1 6 rfl rfl)
theorem dX6_fresh_29 : decode cX6_fresh 29 = .ok (.if_icmp .ne 29, 3) := dk_160 0 29 (dk_at dksX6_fresh_1 7 rfl rfl)
theorem dX6_fresh_32 : decode cX6_fresh 32 = .ok (.aload_n 0, 1) := dk_42 (dk_at dksX6_fresh_1 10 rfl rfl)
theorem dX6_fresh_33 : decode cX6_fresh 33 = .ok (.aload_n 0, 1) := dk_42 (dk_at dksX6_fresh_1 11 rfl rfl)
theorem dX6_fresh_34 : decode cX6_fresh 34 = .ok (.getfield 15, 3) := dk_180 0 15 (dk_at dksX6_fresh_1 12 rfl rfl)
theorem dX6_fresh_37 : decode cX6_fresh 37 = .ok (.getfield 76, 3) := dk_180 0 76 (dk_at dksX6_fresh_1 15 rfl rfl)
theorem dX6_fresh_40 : decode cX6_fresh 40 = .ok (.aload_n 0, 1) := dk_42 (dk_at dksX6_fresh_1 18 rfl rfl)
theorem dX6_fresh_41 : decode cX6_fresh 41 = .ok (.getfield 15, 3) := dk_180 0 15 (dk_at dksX6_fresh_1 19 rfl rfl)
theorem dX6_fresh_44 : decode cX6_fresh 44 = .ok (.getfield 51, 3) := dk_180 0 51 (dk_at dksX6_fresh_2 0 rfl rfl)
theorem dX6_fresh_47 : decode cX6_fresh 47 = .ok (.invokevirtual 72, 3) := dk_182 0 72 (dk_at dksX6_fresh_2 3 rfl rfl)
theorem dX6_fresh_50 : decode cX6_fresh 50 = .ok (.iconst (-1), 1) := dk_2 (dk_at dksX6_fresh_2 6 rfl rfl)
theorem dX6_fresh_51 : decode cX6_fresh 51 = .ok (.if_icmp .ne 7, 3) := dk_160 0 7 (dk_at dksX6_fresh_2 7 rfl rfl)
theorem dX6_fresh_54 : decode cX6_fresh 54 = .ok (.iconst 1, 1) := dk_4 (dk_at dksX6_fresh_2 10 rfl rfl)
theorem dX6_fresh_55 : decode cX6_fresh 55 = .ok (.goto 4, 3) := dk_167 0 4 (dk_at dksX6_fresh_2 11 rfl rfl)
theorem dX6_fresh_58 : decode cX6_fresh 58 = .ok (.iconst 0, 1) := dk_3 (dk_at dksX6_fresh_2 14 rfl rfl)
theorem dX6_fresh_59 : decode cX6_fresh 59 = .ok (.iconst 3, 1) := dk_6 (dk_at dksX6_fresh_2 15 rfl rfl)
theorem dX6_fresh_60 : decode cX6_fresh 60 = .ok (.invokevirtual 38, 3) := dk_182 0 38 (dk_at dksX6_fresh_2 16 rfl rfl)
theorem dX6_fresh_63 : decode cX6_fresh 63 = .ok (.aload_n 0, 1) := dk_42 (dk_at dksX6_fresh_2 19 rfl rfl)
theorem dX6_fresh_64 : decode cX6_fresh 64 = .ok (.getfield 79, 3) := dk_180 0 79 (dk_at dksX6_fresh_2 20 rfl rfl)
theorem dX6_fresh_67 : decode cX6_fresh 67 = .ok (.lstore_n 1, 1) := dk_64 (dk_at dksX6_fresh_2 23 rfl rfl)
theorem dX6_fresh_68 : decode cX6_fresh 68 = .ok (.aload_n 0, 1) := dk_42 (dk_at dksX6_fresh_3 0 rfl rfl)
theorem dX6_fresh_69 : decode cX6_fresh 69 = .ok (.invokevirtual 54, 3) := dk_182 0 54 (dk_at dksX6_fresh_3 1 rfl rfl)
theorem dX6_fresh_72 : decode cX6_fresh 72 = .ok (.lload_n 1, 1) := dk_31 (dk_at dksX6_fresh_3 4 rfl rfl)
theorem dX6_fresh_73 : decode cX6_fresh 73 = .ok (.lreturn, 1) := dk_173 (dk_at dksX6_fresh_3 5 rfl rfl)
abbrev cX6_dish : ByteArray := prog_5_method_6_code
def yX6_dish : MethodName := ⟨RX6, "dish", "()V"⟩
def dkwX6_dish_3 : List UInt8 := [89, 180, 0, 51, 4, 96, 181, 0, 51, 177]
abbrev dktX6_dish_3 : List UInt8 := dkwX6_dish_3 ++ []
def dkwX6_dish_2 : List UInt8 := [42, 182, 0, 54, 42, 180, 0, 15, 180, 0, 132, 27, 42, 4, 16, 9, 182, 0, 99, 79, 42, 180, 0, 15]
abbrev dktX6_dish_2 : List UInt8 := dkwX6_dish_2 ++ dktX6_dish_3
def dkwX6_dish_1 : List UInt8 := [180, 0, 15, 180, 0, 127, 27, 42, 3, 16, 99, 182, 0, 99, 79, 42, 18, 130, 182, 0, 123, 153, 0, 23]
abbrev dktX6_dish_1 : List UInt8 := dkwX6_dish_1 ++ dktX6_dish_2
def dkwX6_dish_0 : List UInt8 := [42, 180, 0, 15, 180, 0, 51, 60, 42, 180, 0, 15, 180, 0, 76, 27, 42, 182, 0, 112, 80, 42]
abbrev dktX6_dish_0 : List UInt8 := dkwX6_dish_0 ++ dktX6_dish_1
theorem dksX6_dish_0 : cX6_dish.data.toList.drop 0 = dktX6_dish_0 := by decide +kernel
theorem dksX6_dish_1 : cX6_dish.data.toList.drop 22 = dktX6_dish_1 := dk_seg dksX6_dish_0 22 rfl rfl
theorem dksX6_dish_2 : cX6_dish.data.toList.drop 46 = dktX6_dish_2 := dk_seg dksX6_dish_1 24 rfl rfl
theorem dksX6_dish_3 : cX6_dish.data.toList.drop 70 = dktX6_dish_3 := dk_seg dksX6_dish_2 24 rfl rfl
theorem dX6_dish_0 : decode cX6_dish 0 = .ok (.aload_n 0, 1) := dk_42 (dk_at dksX6_dish_0 0 rfl rfl)
theorem dX6_dish_1 : decode cX6_dish 1 = .ok (.getfield 15, 3) := dk_180 0 15 (dk_at dksX6_dish_0 1 rfl rfl)
theorem dX6_dish_4 : decode cX6_dish 4 = .ok (.getfield 51, 3) := dk_180 0 51 (dk_at dksX6_dish_0 4 rfl rfl)
theorem dX6_dish_7 : decode cX6_dish 7 = .ok (.istore_n 1, 1) := dk_60 (dk_at dksX6_dish_0 7 rfl rfl)
theorem dX6_dish_8 : decode cX6_dish 8 = .ok (.aload_n 0, 1) := dk_42 (dk_at dksX6_dish_0 8 rfl rfl)
theorem dX6_dish_9 : decode cX6_dish 9 = .ok (.getfield 15, 3) := dk_180 0 15 (dk_at dksX6_dish_0 9 rfl rfl)
theorem dX6_dish_12 : decode cX6_dish 12 = .ok (.getfield 76, 3) := dk_180 0 76 (dk_at dksX6_dish_0 12 rfl rfl)
theorem dX6_dish_15 : decode cX6_dish 15 = .ok (.iload_n 1, 1) := dk_27 (dk_at dksX6_dish_0 15 rfl rfl)
theorem dX6_dish_16 : decode cX6_dish 16 = .ok (.aload_n 0, 1) := dk_42 (dk_at dksX6_dish_0 16 rfl rfl)
theorem dX6_dish_17 : decode cX6_dish 17 = .ok (.invokevirtual 112, 3) := dk_182 0 112 (dk_at dksX6_dish_0 17 rfl rfl)
theorem dX6_dish_20 : decode cX6_dish 20 = .ok (.lastore, 1) := dk_80 (dk_at dksX6_dish_0 20 rfl rfl)
theorem dX6_dish_21 : decode cX6_dish 21 = .ok (.aload_n 0, 1) := dk_42 (dk_at dksX6_dish_0 21 rfl rfl)
theorem dX6_dish_22 : decode cX6_dish 22 = .ok (.getfield 15, 3) := dk_180 0 15 (dk_at dksX6_dish_1 0 rfl rfl)
theorem dX6_dish_25 : decode cX6_dish 25 = .ok (.getfield 127, 3) := dk_180 0 127 (dk_at dksX6_dish_1 3 rfl rfl)
theorem dX6_dish_28 : decode cX6_dish 28 = .ok (.iload_n 1, 1) := dk_27 (dk_at dksX6_dish_1 6 rfl rfl)
theorem dX6_dish_29 : decode cX6_dish 29 = .ok (.aload_n 0, 1) := dk_42 (dk_at dksX6_dish_1 7 rfl rfl)
theorem dX6_dish_30 : decode cX6_dish 30 = .ok (.iconst 0, 1) := dk_3 (dk_at dksX6_dish_1 8 rfl rfl)
theorem dX6_dish_31 : decode cX6_dish 31 = .ok (.bipush 99, 2) := dk_16 99 (dk_at dksX6_dish_1 9 rfl rfl)
theorem dX6_dish_33 : decode cX6_dish 33 = .ok (.invokevirtual 99, 3) := dk_182 0 99 (dk_at dksX6_dish_1 11 rfl rfl)
theorem dX6_dish_36 : decode cX6_dish 36 = .ok (.iastore, 1) := dk_79 (dk_at dksX6_dish_1 14 rfl rfl)
theorem dX6_dish_37 : decode cX6_dish 37 = .ok (.aload_n 0, 1) := dk_42 (dk_at dksX6_dish_1 15 rfl rfl)
theorem dX6_dish_38 : decode cX6_dish 38 = .ok (.ldc 130, 2) := dk_18 130 (dk_at dksX6_dish_1 16 rfl rfl)
theorem dX6_dish_40 : decode cX6_dish 40 = .ok (.invokevirtual 123, 3) := dk_182 0 123 (dk_at dksX6_dish_1 18 rfl rfl)
theorem dX6_dish_43 : decode cX6_dish 43 = .ok (.ifCond .eq 23, 3) := dk_153 0 23 (dk_at dksX6_dish_1 21 rfl rfl)
theorem dX6_dish_46 : decode cX6_dish 46 = .ok (.aload_n 0, 1) := dk_42 (dk_at dksX6_dish_2 0 rfl rfl)
theorem dX6_dish_47 : decode cX6_dish 47 = .ok (.invokevirtual 54, 3) := dk_182 0 54 (dk_at dksX6_dish_2 1 rfl rfl)
theorem dX6_dish_50 : decode cX6_dish 50 = .ok (.aload_n 0, 1) := dk_42 (dk_at dksX6_dish_2 4 rfl rfl)
theorem dX6_dish_51 : decode cX6_dish 51 = .ok (.getfield 15, 3) := dk_180 0 15 (dk_at dksX6_dish_2 5 rfl rfl)
theorem dX6_dish_54 : decode cX6_dish 54 = .ok (.getfield 132, 3) := dk_180 0 132 (dk_at dksX6_dish_2 8 rfl rfl)
theorem dX6_dish_57 : decode cX6_dish 57 = .ok (.iload_n 1, 1) := dk_27 (dk_at dksX6_dish_2 11 rfl rfl)
theorem dX6_dish_58 : decode cX6_dish 58 = .ok (.aload_n 0, 1) := dk_42 (dk_at dksX6_dish_2 12 rfl rfl)
theorem dX6_dish_59 : decode cX6_dish 59 = .ok (.iconst 1, 1) := dk_4 (dk_at dksX6_dish_2 13 rfl rfl)
theorem dX6_dish_60 : decode cX6_dish 60 = .ok (.bipush 9, 2) := dk_16 9 (dk_at dksX6_dish_2 14 rfl rfl)
theorem dX6_dish_62 : decode cX6_dish 62 = .ok (.invokevirtual 99, 3) := dk_182 0 99 (dk_at dksX6_dish_2 16 rfl rfl)
theorem dX6_dish_65 : decode cX6_dish 65 = .ok (.iastore, 1) := dk_79 (dk_at dksX6_dish_2 19 rfl rfl)
theorem dX6_dish_66 : decode cX6_dish 66 = .ok (.aload_n 0, 1) := dk_42 (dk_at dksX6_dish_2 20 rfl rfl)
theorem dX6_dish_67 : decode cX6_dish 67 = .ok (.getfield 15, 3) := dk_180 0 15 (dk_at dksX6_dish_2 21 rfl rfl)
theorem dX6_dish_70 : decode cX6_dish 70 = .ok (.dup, 1) := dk_89 (dk_at dksX6_dish_3 0 rfl rfl)
theorem dX6_dish_71 : decode cX6_dish 71 = .ok (.getfield 51, 3) := dk_180 0 51 (dk_at dksX6_dish_3 1 rfl rfl)
theorem dX6_dish_74 : decode cX6_dish 74 = .ok (.iconst 1, 1) := dk_4 (dk_at dksX6_dish_3 4 rfl rfl)
theorem dX6_dish_75 : decode cX6_dish 75 = .ok (.iadd, 1) := dk_96 (dk_at dksX6_dish_3 5 rfl rfl)
theorem dX6_dish_76 : decode cX6_dish 76 = .ok (.putfield 51, 3) := dk_181 0 51 (dk_at dksX6_dish_3 6 rfl rfl)
theorem dX6_dish_79 : decode cX6_dish 79 = .ok (.return_, 1) := dk_177 (dk_at dksX6_dish_3 9 rfl rfl)
theorem q101 : (Jvm.Cond.initialized "SecondHelpings$BoardReader") ∈ lw_all := lw_g (lw_at lw_m1 8 rfl) rfl
theorem q244 : (Jvm.Cond.fieldLinkNest "SecondHelpings$BoardReader" (68 : Nat) "SecondHelpings$Board" "personNames" "[J" "SecondHelpings") ∈ lw_tbl := lw_at lw_m1 151 rfl
theorem q249 : (Jvm.Cond.fieldLinkNest "SecondHelpings$BoardReader" (76 : Nat) "SecondHelpings$Board" "dishNames" "[J" "SecondHelpings") ∈ lw_tbl := lw_at lw_m1 156 rfl
theorem q254 : (Jvm.Cond.fieldLinkNest "SecondHelpings$BoardReader" (116 : Nat) "SecondHelpings$Board" "wants" "[I" "SecondHelpings") ∈ lw_tbl := lw_at lw_m1 161 rfl
theorem q259 : (Jvm.Cond.fieldLinkNest "SecondHelpings$BoardReader" (119 : Nat) "SecondHelpings$Board" "parent" "[I" "SecondHelpings") ∈ lw_tbl := lw_at lw_m1 166 rfl
theorem q264 : (Jvm.Cond.fieldLinkNest "SecondHelpings$BoardReader" (127 : Nat) "SecondHelpings$Board" "parts" "[I" "SecondHelpings") ∈ lw_tbl := lw_at lw_m1 171 rfl
theorem q266 : (Jvm.Cond.fieldLinkNest "SecondHelpings$BoardReader" (132 : Nat) "SecondHelpings$Board" "spoils" "[I" "SecondHelpings") ∈ lw_tbl := lw_at lw_m1 173 rfl
theorem q271 : (Jvm.Cond.fieldLinkNest "SecondHelpings$BoardReader" (95 : Nat) "SecondHelpings$Board" "plate" "[I" "SecondHelpings") ∈ lw_tbl := lw_at lw_m1 178 rfl
theorem q272 : (Jvm.Cond.fieldLinkNest "SecondHelpings$BoardReader" (46 : Nat) "SecondHelpings$Board" "persons" "I" "SecondHelpings") ∈ lw_tbl := lw_at lw_m1 179 rfl
theorem q278 : (Jvm.Cond.fieldLinkNest "SecondHelpings$BoardReader" (51 : Nat) "SecondHelpings$Board" "dishes" "I" "SecondHelpings") ∈ lw_tbl := lw_at lw_m1 185 rfl
theorem q283 : (Jvm.Cond.fieldLinkNest "SecondHelpings$BoardReader" (106 : Nat) "SecondHelpings$Board" "law" "I" "SecondHelpings") ∈ lw_tbl := lw_at lw_m1 190 rfl
theorem q286 : (Jvm.Cond.fieldLinkNest "SecondHelpings$BoardReader" (109 : Nat) "SecondHelpings$Board" "dogs" "I" "SecondHelpings") ∈ lw_tbl := lw_at lw_m1 193 rfl
theorem q376 : (Jvm.Cond.instantiable "SecondHelpings$BoardReader" (11 : Nat)) ∈ lw_all := lw_g (lw_at lw_m2 43 rfl) rfl
theorem q378 : (Jvm.Cond.instanceMethod ({ cls := "SecondHelpings$BoardReader", name := "<init>", desc := "(LSecondHelpings;)V" } : Jvm.MethodName)) ∈ lw_all := lw_g (lw_at lw_m2 45 rfl) rfl
theorem q379 : (Jvm.Cond.code ({ cls := "SecondHelpings$BoardReader", name := "<init>", desc := "(LSecondHelpings;)V" } : Jvm.MethodName) prog_5_method_1_code (2 : Nat) (Option.none : Option Jvm.ClassFile.FieldType)) ∈ lw_all := lw_g (lw_at lw_m2 46 rfl) rfl
theorem q380 : (Jvm.Cond.methodLink "SecondHelpings$BoardReader" (9 : Nat) ({ cls := "SecondHelpings$Reader", name := "<init>", desc := "(LSecondHelpings;I)V" } : Jvm.MethodName)) ∈ lw_all := lw_g (lw_at lw_m2 47 rfl) rfl
theorem q384 : (Jvm.Cond.fieldLink "SecondHelpings$BoardReader" (15 : Nat) "SecondHelpings$BoardReader" "x" "LSecondHelpings$Board;") ∈ lw_all := lw_g (lw_at lw_m2 51 rfl) rfl
theorem q385 : (Jvm.Cond.fieldLink "SecondHelpings$BoardReader" (19 : Nat) "SecondHelpings$BoardReader" "onces" "I") ∈ lw_all := lw_g (lw_at lw_m2 52 rfl) rfl
theorem q386 : (Jvm.Cond.fieldLink "SecondHelpings$BoardReader" (3 : Nat) "SecondHelpings$BoardReader" "this$0" "LSecondHelpings;") ∈ lw_all := lw_g (lw_at lw_m2 53 rfl) rfl
theorem q392 : (Jvm.Cond.fieldLink "SecondHelpings$BoardReader" (27 : Nat) "SecondHelpings$BoardReader" "token" "I") ∈ lw_all := lw_g (lw_at lw_m2 59 rfl) rfl
theorem q393 : (Jvm.Cond.sameField "SecondHelpings$BoardReader" "SecondHelpings$Reader" "token" "I") ∈ lw_all := lw_g (lw_at lw_m2 60 rfl) rfl
theorem q401 : (Jvm.Cond.fieldLink "SecondHelpings$BoardReader" (79 : Nat) "SecondHelpings$BoardReader" "name" "J") ∈ lw_all := lw_g (lw_at lw_m2 68 rfl) rfl
theorem q402 : (Jvm.Cond.sameField "SecondHelpings$BoardReader" "SecondHelpings$Reader" "name" "J") ∈ lw_all := lw_g (lw_at lw_m2 69 rfl) rfl
theorem q405 : (Jvm.Cond.lays "SecondHelpings$BoardReader" "SecondHelpings$BoardReader" "x" "LSecondHelpings$Board;") ∈ lw_all := lw_g (lw_at lw_m2 72 rfl) rfl
theorem q406 : (Jvm.Cond.soleField "SecondHelpings$BoardReader" "x") ∈ lw_all := lw_g (lw_at lw_m2 73 rfl) rfl
theorem q407 : (Jvm.Cond.lays "SecondHelpings$BoardReader" "SecondHelpings$BoardReader" "onces" "I") ∈ lw_all := lw_g (lw_at lw_m2 74 rfl) rfl
theorem q408 : (Jvm.Cond.soleField "SecondHelpings$BoardReader" "onces") ∈ lw_all := lw_g (lw_at lw_m2 75 rfl) rfl
theorem q409 : (Jvm.Cond.laysFinal "SecondHelpings$BoardReader" "SecondHelpings$BoardReader" "this$0" "LSecondHelpings;") ∈ lw_all := lw_g (lw_at lw_m2 76 rfl) rfl
theorem q410 : (Jvm.Cond.soleField "SecondHelpings$BoardReader" "this$0") ∈ lw_all := lw_g (lw_at lw_m2 77 rfl) rfl
theorem q411 : (Jvm.Cond.laysFinal "SecondHelpings$BoardReader" "SecondHelpings$Reader" "most" "I") ∈ lw_all := lw_g (lw_at lw_m2 78 rfl) rfl
theorem q413 : (Jvm.Cond.lays "SecondHelpings$BoardReader" "SecondHelpings$Reader" "p" "I") ∈ lw_all := lw_g (lw_at lw_m2 80 rfl) rfl
theorem q415 : (Jvm.Cond.lays "SecondHelpings$BoardReader" "SecondHelpings$Reader" "at" "I") ∈ lw_all := lw_g (lw_at lw_m2 82 rfl) rfl
theorem q417 : (Jvm.Cond.lays "SecondHelpings$BoardReader" "SecondHelpings$Reader" "token" "I") ∈ lw_all := lw_g (lw_at lw_m2 84 rfl) rfl
theorem q419 : (Jvm.Cond.lays "SecondHelpings$BoardReader" "SecondHelpings$Reader" "value" "I") ∈ lw_all := lw_g (lw_at lw_m2 86 rfl) rfl
theorem q421 : (Jvm.Cond.lays "SecondHelpings$BoardReader" "SecondHelpings$Reader" "many" "I") ∈ lw_all := lw_g (lw_at lw_m2 88 rfl) rfl
theorem q423 : (Jvm.Cond.lays "SecondHelpings$BoardReader" "SecondHelpings$Reader" "name" "J") ∈ lw_all := lw_g (lw_at lw_m2 90 rfl) rfl
theorem q425 : (Jvm.Cond.laysFinal "SecondHelpings$BoardReader" "SecondHelpings$Reader" "this$0" "LSecondHelpings;") ∈ lw_all := lw_g (lw_at lw_m2 92 rfl) rfl
theorem q427 : (Jvm.Cond.superclass "SecondHelpings$BoardReader" "SecondHelpings$Reader") ∈ lw_all := lw_g (lw_at lw_m2 94 rfl) rfl
theorem q515 : (Jvm.Cond.fieldLinkNest "SecondHelpings$BoardReader" (30 : Nat) "SecondHelpings" "lines" "[Ljava/lang/String;" "SecondHelpings") ∈ lw_tbl := lw_at lw_m2 182 rfl
theorem q520 : (Jvm.Cond.fieldLinkNest "SecondHelpings$BoardReader" (103 : Nat) "SecondHelpings" "laws" "[Ljava/lang/String;" "SecondHelpings") ∈ lw_tbl := lw_at lw_m2 187 rfl
theorem q650 : (Jvm.Cond.instanceMethod ({ cls := "SecondHelpings$BoardReader", name := "read", desc := "(LSecondHelpings$Board;)I" } : Jvm.MethodName)) ∈ lw_all := lw_g (lw_at lw_m3 77 rfl) rfl
theorem q651 : (Jvm.Cond.selects "SecondHelpings$BoardReader" ({ cls := "SecondHelpings$BoardReader", name := "read", desc := "(LSecondHelpings$Board;)I" } : Jvm.MethodName) ({ cls := "SecondHelpings$BoardReader", name := "read", desc := "(LSecondHelpings$Board;)I" } : Jvm.MethodName)) ∈ lw_all := lw_g (lw_at lw_m3 78 rfl) rfl
theorem q652 : (Jvm.Cond.code ({ cls := "SecondHelpings$BoardReader", name := "read", desc := "(LSecondHelpings$Board;)I" } : Jvm.MethodName) prog_5_method_2_code (4 : Nat) (Option.some Jvm.ClassFile.FieldType.int)) ∈ lw_all := lw_g (lw_at lw_m3 79 rfl) rfl
theorem q653 : (Jvm.Cond.methodLink "SecondHelpings$BoardReader" (23 : Nat) ({ cls := "SecondHelpings$BoardReader", name := "begin", desc := "()V" } : Jvm.MethodName)) ∈ lw_all := lw_g (lw_at lw_m3 80 rfl) rfl
theorem q654 : (Jvm.Cond.sameMethod "SecondHelpings$BoardReader" "SecondHelpings$Reader" "begin" "()V") ∈ lw_all := lw_g (lw_at lw_m3 81 rfl) rfl
theorem q656 : (Jvm.Cond.selects "SecondHelpings$BoardReader" ({ cls := "SecondHelpings$BoardReader", name := "begin", desc := "()V" } : Jvm.MethodName) ({ cls := "SecondHelpings$Reader", name := "begin", desc := "()V" } : Jvm.MethodName)) ∈ lw_all := lw_g (lw_at lw_m3 83 rfl) rfl
theorem q662 : (Jvm.Cond.selects "SecondHelpings$BoardReader" ({ cls := "SecondHelpings$Reader", name := "next", desc := "()V" } : Jvm.MethodName) ({ cls := "SecondHelpings$Reader", name := "next", desc := "()V" } : Jvm.MethodName)) ∈ lw_all := lw_g (lw_at lw_m3 89 rfl) rfl
theorem q685 : (Jvm.Cond.methodLink "SecondHelpings$BoardReader" (34 : Nat) ({ cls := "SecondHelpings$BoardReader", name := "find", desc := "([Ljava/lang/String;)I" } : Jvm.MethodName)) ∈ lw_all := lw_g (lw_at lw_m3 112 rfl) rfl
theorem q686 : (Jvm.Cond.sameMethod "SecondHelpings$BoardReader" "SecondHelpings$Reader" "find" "([Ljava/lang/String;)I") ∈ lw_all := lw_g (lw_at lw_m3 113 rfl) rfl
theorem q688 : (Jvm.Cond.selects "SecondHelpings$BoardReader" ({ cls := "SecondHelpings$BoardReader", name := "find", desc := "([Ljava/lang/String;)I" } : Jvm.MethodName) ({ cls := "SecondHelpings$Reader", name := "find", desc := "([Ljava/lang/String;)I" } : Jvm.MethodName)) ∈ lw_all := lw_g (lw_at lw_m3 115 rfl) rfl
theorem q694 : (Jvm.Cond.selects "SecondHelpings$BoardReader" ({ cls := "SecondHelpings$Reader", name := "is", desc := "(Ljava/lang/String;)Z" } : Jvm.MethodName) ({ cls := "SecondHelpings$Reader", name := "is", desc := "(Ljava/lang/String;)Z" } : Jvm.MethodName)) ∈ lw_all := lw_g (lw_at lw_m3 121 rfl) rfl
theorem q746 : (Jvm.Cond.methodLink "SecondHelpings$BoardReader" (38 : Nat) ({ cls := "SecondHelpings$BoardReader", name := "must", desc := "(ZI)V" } : Jvm.MethodName)) ∈ lw_all := lw_g (lw_at lw_m3 173 rfl) rfl
theorem q747 : (Jvm.Cond.sameMethod "SecondHelpings$BoardReader" "SecondHelpings$Reader" "must" "(ZI)V") ∈ lw_all := lw_g (lw_at lw_m3 174 rfl) rfl
theorem q749 : (Jvm.Cond.selects "SecondHelpings$BoardReader" ({ cls := "SecondHelpings$BoardReader", name := "must", desc := "(ZI)V" } : Jvm.MethodName) ({ cls := "SecondHelpings$Reader", name := "must", desc := "(ZI)V" } : Jvm.MethodName)) ∈ lw_all := lw_g (lw_at lw_m3 176 rfl) rfl
theorem q755 : (Jvm.Cond.selects "SecondHelpings$BoardReader" ({ cls := "SecondHelpings$Reader", name := "wrong", desc := "(I)LSecondHelpings$Fault;" } : Jvm.MethodName) ({ cls := "SecondHelpings$Reader", name := "wrong", desc := "(I)LSecondHelpings$Fault;" } : Jvm.MethodName)) ∈ lw_all := lw_g (lw_at lw_m3 182 rfl) rfl
theorem q759 : (Jvm.Cond.methodLinkNest "SecondHelpings$BoardReader" (42 : Nat) ({ cls := "SecondHelpings", name := "has", desc := "(II)Z" } : Jvm.MethodName) "SecondHelpings") ∈ lw_tbl := lw_at lw_m3 186 rfl
theorem q762 : (Jvm.Cond.methodLink "SecondHelpings$BoardReader" (54 : Nat) ({ cls := "SecondHelpings$BoardReader", name := "next", desc := "()V" } : Jvm.MethodName)) ∈ lw_all := lw_g (lw_at lw_m3 189 rfl) rfl
theorem q763 : (Jvm.Cond.sameMethod "SecondHelpings$BoardReader" "SecondHelpings$Reader" "next" "()V") ∈ lw_all := lw_g (lw_at lw_m3 190 rfl) rfl
theorem q765 : (Jvm.Cond.selects "SecondHelpings$BoardReader" ({ cls := "SecondHelpings$BoardReader", name := "next", desc := "()V" } : Jvm.MethodName) ({ cls := "SecondHelpings$Reader", name := "next", desc := "()V" } : Jvm.MethodName)) ∈ lw_all := lw_g (lw_at lw_m3 192 rfl) rfl
theorem q766 : (Jvm.Cond.methodLink "SecondHelpings$BoardReader" (57 : Nat) ({ cls := "SecondHelpings$BoardReader", name := "line", desc := "(I)V" } : Jvm.MethodName)) ∈ lw_all := lw_g (lw_at lw_m3 193 rfl) rfl
theorem q767 : (Jvm.Cond.privateMethod ({ cls := "SecondHelpings$BoardReader", name := "line", desc := "(I)V" } : Jvm.MethodName)) ∈ lw_tbl := lw_at lw_m3 194 rfl
theorem q768 : (Jvm.Cond.instanceMethod ({ cls := "SecondHelpings$BoardReader", name := "line", desc := "(I)V" } : Jvm.MethodName)) ∈ lw_all := lw_g (lw_at lw_m3 195 rfl) rfl
theorem q769 : (Jvm.Cond.code ({ cls := "SecondHelpings$BoardReader", name := "line", desc := "(I)V" } : Jvm.MethodName) prog_5_method_4_code (4 : Nat) (Option.none : Option Jvm.ClassFile.FieldType)) ∈ lw_all := lw_g (lw_at lw_m3 196 rfl) rfl
theorem q770 : (Jvm.Cond.methodLink "SecondHelpings$BoardReader" (83 : Nat) ({ cls := "SecondHelpings$BoardReader", name := "person", desc := "()V" } : Jvm.MethodName)) ∈ lw_all := lw_g (lw_at lw_m3 197 rfl) rfl
theorem q771 : (Jvm.Cond.privateMethod ({ cls := "SecondHelpings$BoardReader", name := "person", desc := "()V" } : Jvm.MethodName)) ∈ lw_tbl := lw_at lw_m3 198 rfl
theorem q772 : (Jvm.Cond.instanceMethod ({ cls := "SecondHelpings$BoardReader", name := "person", desc := "()V" } : Jvm.MethodName)) ∈ lw_all := lw_g (lw_at lw_m3 199 rfl) rfl
theorem q773 : (Jvm.Cond.code ({ cls := "SecondHelpings$BoardReader", name := "person", desc := "()V" } : Jvm.MethodName) prog_5_method_5_code (2 : Nat) (Option.none : Option Jvm.ClassFile.FieldType)) ∈ lw_all := lw_g (lw_at lw_m3 200 rfl) rfl
theorem q774 : (Jvm.Cond.methodLink "SecondHelpings$BoardReader" (112 : Nat) ({ cls := "SecondHelpings$BoardReader", name := "fresh", desc := "()J" } : Jvm.MethodName)) ∈ lw_all := lw_g (lw_at lw_m3 201 rfl) rfl
theorem q775 : (Jvm.Cond.privateMethod ({ cls := "SecondHelpings$BoardReader", name := "fresh", desc := "()J" } : Jvm.MethodName)) ∈ lw_tbl := lw_at lw_m3 202 rfl
theorem q776 : (Jvm.Cond.instanceMethod ({ cls := "SecondHelpings$BoardReader", name := "fresh", desc := "()J" } : Jvm.MethodName)) ∈ lw_all := lw_g (lw_at lw_m3 203 rfl) rfl
theorem q777 : (Jvm.Cond.code ({ cls := "SecondHelpings$BoardReader", name := "fresh", desc := "()J" } : Jvm.MethodName) prog_5_method_3_code (3 : Nat) (Option.some Jvm.ClassFile.FieldType.long)) ∈ lw_all := lw_g (lw_at lw_m3 204 rfl) rfl
theorem q778 : (Jvm.Cond.methodLink "SecondHelpings$BoardReader" (64 : Nat) ({ cls := "SecondHelpings$BoardReader", name := "isName", desc := "()Z" } : Jvm.MethodName)) ∈ lw_all := lw_g (lw_at lw_m3 205 rfl) rfl
theorem q779 : (Jvm.Cond.sameMethod "SecondHelpings$BoardReader" "SecondHelpings$Reader" "isName" "()Z") ∈ lw_all := lw_g (lw_at lw_m3 206 rfl) rfl
theorem q781 : (Jvm.Cond.selects "SecondHelpings$BoardReader" ({ cls := "SecondHelpings$BoardReader", name := "isName", desc := "()Z" } : Jvm.MethodName) ({ cls := "SecondHelpings$Reader", name := "isName", desc := "()Z" } : Jvm.MethodName)) ∈ lw_all := lw_g (lw_at lw_m3 208 rfl) rfl
theorem q785 : (Jvm.Cond.methodLink "SecondHelpings$BoardReader" (72 : Nat) ({ cls := "SecondHelpings$BoardReader", name := "of", desc := "([JI)I" } : Jvm.MethodName)) ∈ lw_all := lw_g (lw_at lw_m3 212 rfl) rfl
theorem q786 : (Jvm.Cond.sameMethod "SecondHelpings$BoardReader" "SecondHelpings$Reader" "of" "([JI)I") ∈ lw_all := lw_g (lw_at lw_m3 213 rfl) rfl
theorem q788 : (Jvm.Cond.selects "SecondHelpings$BoardReader" ({ cls := "SecondHelpings$BoardReader", name := "of", desc := "([JI)I" } : Jvm.MethodName) ({ cls := "SecondHelpings$Reader", name := "of", desc := "([JI)I" } : Jvm.MethodName)) ∈ lw_all := lw_g (lw_at lw_m3 215 rfl) rfl
theorem q791 : (Jvm.Cond.methodLink "SecondHelpings$BoardReader" (99 : Nat) ({ cls := "SecondHelpings$BoardReader", name := "number", desc := "(II)I" } : Jvm.MethodName)) ∈ lw_all := lw_g (lw_at lw_m3 218 rfl) rfl
theorem q792 : (Jvm.Cond.sameMethod "SecondHelpings$BoardReader" "SecondHelpings$Reader" "number" "(II)I") ∈ lw_all := lw_g (lw_at lw_m3 219 rfl) rfl
theorem q794 : (Jvm.Cond.selects "SecondHelpings$BoardReader" ({ cls := "SecondHelpings$BoardReader", name := "number", desc := "(II)I" } : Jvm.MethodName) ({ cls := "SecondHelpings$Reader", name := "number", desc := "(II)I" } : Jvm.MethodName)) ∈ lw_all := lw_g (lw_at lw_m3 221 rfl) rfl
theorem q798 : (Jvm.Cond.stringRef "SecondHelpings$BoardReader" (122 : Nat) "of") ∈ lw_tbl := lw_at lw_m3 225 rfl
theorem q799 : (Jvm.Cond.methodLink "SecondHelpings$BoardReader" (123 : Nat) ({ cls := "SecondHelpings$BoardReader", name := "is", desc := "(Ljava/lang/String;)Z" } : Jvm.MethodName)) ∈ lw_all := lw_g (lw_at lw_m3 226 rfl) rfl
theorem q800 : (Jvm.Cond.sameMethod "SecondHelpings$BoardReader" "SecondHelpings$Reader" "is" "(Ljava/lang/String;)Z") ∈ lw_all := lw_g (lw_at lw_m3 227 rfl) rfl
theorem q802 : (Jvm.Cond.selects "SecondHelpings$BoardReader" ({ cls := "SecondHelpings$BoardReader", name := "is", desc := "(Ljava/lang/String;)Z" } : Jvm.MethodName) ({ cls := "SecondHelpings$Reader", name := "is", desc := "(Ljava/lang/String;)Z" } : Jvm.MethodName)) ∈ lw_all := lw_g (lw_at lw_m3 229 rfl) rfl
theorem q803 : (Jvm.Cond.methodLink "SecondHelpings$BoardReader" (89 : Nat) ({ cls := "SecondHelpings$BoardReader", name := "known", desc := "([JI)I" } : Jvm.MethodName)) ∈ lw_all := lw_g (lw_at lw_m3 230 rfl) rfl
theorem q804 : (Jvm.Cond.sameMethod "SecondHelpings$BoardReader" "SecondHelpings$Reader" "known" "([JI)I") ∈ lw_all := lw_g (lw_at lw_m3 231 rfl) rfl
theorem q806 : (Jvm.Cond.selects "SecondHelpings$BoardReader" ({ cls := "SecondHelpings$BoardReader", name := "known", desc := "([JI)I" } : Jvm.MethodName) ({ cls := "SecondHelpings$Reader", name := "known", desc := "([JI)I" } : Jvm.MethodName)) ∈ lw_all := lw_g (lw_at lw_m3 233 rfl) rfl
theorem q812 : (Jvm.Cond.selects "SecondHelpings$BoardReader" ({ cls := "SecondHelpings$Reader", name := "look", desc := "([JI)I" } : Jvm.MethodName) ({ cls := "SecondHelpings$Reader", name := "look", desc := "([JI)I" } : Jvm.MethodName)) ∈ lw_all := lw_g (lw_at lw_m3 239 rfl) rfl
theorem q818 : (Jvm.Cond.methodLink "SecondHelpings$BoardReader" (86 : Nat) ({ cls := "SecondHelpings$BoardReader", name := "dish", desc := "()V" } : Jvm.MethodName)) ∈ lw_all := lw_g (lw_at lw_m4 5 rfl) rfl
theorem q819 : (Jvm.Cond.privateMethod ({ cls := "SecondHelpings$BoardReader", name := "dish", desc := "()V" } : Jvm.MethodName)) ∈ lw_tbl := lw_at lw_m4 6 rfl
theorem q820 : (Jvm.Cond.instanceMethod ({ cls := "SecondHelpings$BoardReader", name := "dish", desc := "()V" } : Jvm.MethodName)) ∈ lw_all := lw_g (lw_at lw_m4 7 rfl) rfl
theorem q821 : (Jvm.Cond.code ({ cls := "SecondHelpings$BoardReader", name := "dish", desc := "()V" } : Jvm.MethodName) prog_5_method_6_code (2 : Nat) (Option.none : Option Jvm.ClassFile.FieldType)) ∈ lw_all := lw_g (lw_at lw_m4 8 rfl) rfl
theorem q822 : (Jvm.Cond.stringRef "SecondHelpings$BoardReader" (130 : Nat) "spoils") ∈ lw_tbl := lw_at lw_m4 9 rfl
theorem q823 : (Jvm.Cond.methodLink "SecondHelpings$BoardReader" (92 : Nat) ({ cls := "SecondHelpings$BoardReader", name := "look", desc := "([JI)I" } : Jvm.MethodName)) ∈ lw_all := lw_g (lw_at lw_m4 10 rfl) rfl
theorem q824 : (Jvm.Cond.sameMethod "SecondHelpings$BoardReader" "SecondHelpings$Reader" "look" "([JI)I") ∈ lw_all := lw_g (lw_at lw_m4 11 rfl) rfl
theorem q826 : (Jvm.Cond.selects "SecondHelpings$BoardReader" ({ cls := "SecondHelpings$BoardReader", name := "look", desc := "([JI)I" } : Jvm.MethodName) ({ cls := "SecondHelpings$Reader", name := "look", desc := "([JI)I" } : Jvm.MethodName)) ∈ lw_all := lw_g (lw_at lw_m4 13 rfl) rfl
theorem q827 : (Jvm.Cond.methodLink "SecondHelpings$BoardReader" (61 : Nat) ({ cls := "SecondHelpings$BoardReader", name := "sign", desc := "(I)V" } : Jvm.MethodName)) ∈ lw_all := lw_g (lw_at lw_m4 14 rfl) rfl
theorem q828 : (Jvm.Cond.sameMethod "SecondHelpings$BoardReader" "SecondHelpings$Reader" "sign" "(I)V") ∈ lw_all := lw_g (lw_at lw_m4 15 rfl) rfl
theorem q830 : (Jvm.Cond.selects "SecondHelpings$BoardReader" ({ cls := "SecondHelpings$BoardReader", name := "sign", desc := "(I)V" } : Jvm.MethodName) ({ cls := "SecondHelpings$Reader", name := "sign", desc := "(I)V" } : Jvm.MethodName)) ∈ lw_all := lw_g (lw_at lw_m4 17 rfl) rfl
theorem q836 : (Jvm.Cond.selects "SecondHelpings$BoardReader" ({ cls := "SecondHelpings$Reader", name := "is", desc := "(I)Z" } : Jvm.MethodName) ({ cls := "SecondHelpings$Reader", name := "is", desc := "(I)Z" } : Jvm.MethodName)) ∈ lw_all := lw_g (lw_at lw_m4 23 rfl) rfl
theorem q2238 : (Jvm.Cond.selects "SecondHelpings$BoardReader" ({ cls := "SecondHelpings$Reader", name := "find", desc := "([Ljava/lang/String;)I" } : Jvm.MethodName) ({ cls := "SecondHelpings$Reader", name := "find", desc := "([Ljava/lang/String;)I" } : Jvm.MethodName)) ∈ lw_all := lw_g (lw_at lw_m9 225 rfl) rfl
theorem q2242 : (Jvm.Cond.selects "SecondHelpings$BoardReader" ({ cls := "SecondHelpings$Reader", name := "must", desc := "(ZI)V" } : Jvm.MethodName) ({ cls := "SecondHelpings$Reader", name := "must", desc := "(ZI)V" } : Jvm.MethodName)) ∈ lw_all := lw_g (lw_at lw_m9 229 rfl) rfl
theorem q2246 : (Jvm.Cond.selects "SecondHelpings$BoardReader" ({ cls := "SecondHelpings$Reader", name := "isName", desc := "()Z" } : Jvm.MethodName) ({ cls := "SecondHelpings$Reader", name := "isName", desc := "()Z" } : Jvm.MethodName)) ∈ lw_all := lw_g (lw_at lw_m9 233 rfl) rfl
theorem q2250 : (Jvm.Cond.selects "SecondHelpings$BoardReader" ({ cls := "SecondHelpings$Reader", name := "of", desc := "([JI)I" } : Jvm.MethodName) ({ cls := "SecondHelpings$Reader", name := "of", desc := "([JI)I" } : Jvm.MethodName)) ∈ lw_all := lw_g (lw_at lw_m9 237 rfl) rfl
theorem q2257 : (Jvm.Cond.castable "SecondHelpings$BoardReader" "java/lang/Object") ∈ lw_tbl := lw_at lw_m10 4 rfl
theorem in_X6 : ∀ w ∈ wsX60, w ∈ lw_all := lw_in wsX60 [411, 413, 415, 417, 419, 421, 423, 425, 405, 407, 409] (by decide +kernel) (by decide +kernel)
/-! SecondHelpings$BookReader -/
set_option maxRecDepth 100000
def RX7 : String := "SecondHelpings$BookReader"
def TX7 : u_T := fun k => match k with
  | 0 => ("SecondHelpings$Reader", "most", "I", true)
  | 1 => ("SecondHelpings$Reader", "p", "I", false)
  | 2 => ("SecondHelpings$Reader", "at", "I", false)
  | 3 => ("SecondHelpings$Reader", "token", "I", false)
  | 4 => ("SecondHelpings$Reader", "value", "I", false)
  | 5 => ("SecondHelpings$Reader", "many", "I", false)
  | 6 => ("SecondHelpings$Reader", "name", "J", false)
  | 7 => ("SecondHelpings$Reader", "this$0", "LSecondHelpings;", true)
  | 8 => ("SecondHelpings$BookReader", "row", "[LSecondHelpings$Line;", true)
  | 9 => ("SecondHelpings$BookReader", "n", "I", false)
  | _ => ("SecondHelpings$BookReader", "this$0", "LSecondHelpings;", true)
def tyX7 : Nat → FieldType := fun k => match k with
  | 0 => .int
  | 1 => .int
  | 2 => .int
  | 3 => .int
  | 4 => .int
  | 5 => .int
  | 6 => .long
  | 7 => .object "SecondHelpings"
  | 8 => .array (.object "SecondHelpings$Line")
  | 9 => .int
  | _ => .object "SecondHelpings"
abbrev wsX70 : List Cond := u_ws RX7 TX7 11
-- two fields of one name: no nmX7
theorem tyX7_ok : ∀ k, k < 11 → parseFieldDescriptor (TX7 k).2.2.1 = some (tyX7 k) := by decide +kernel
abbrev cX7_init : ByteArray := prog_6_method_1_code
def yX7_init : MethodName := ⟨RX7, "<init>", "(LSecondHelpings;)V"⟩
def dkwX7_init_0 : List UInt8 := [42, 43, 181, 0, 3, 42, 43, 17, 1, 144, 183, 0, 9, 42, 16, 40, 189, 0, 15, 181, 0, 17, 177]
abbrev dktX7_init_0 : List UInt8 := dkwX7_init_0 ++ []
theorem dksX7_init_0 : cX7_init.data.toList.drop 0 = dktX7_init_0 := by decide +kernel
theorem dX7_init_0 : decode cX7_init 0 = .ok (.aload_n 0, 1) := dk_42 (dk_at dksX7_init_0 0 rfl rfl)
theorem dX7_init_1 : decode cX7_init 1 = .ok (.aload_n 1, 1) := dk_43 (dk_at dksX7_init_0 1 rfl rfl)
theorem dX7_init_2 : decode cX7_init 2 = .ok (.putfield 3, 3) := dk_181 0 3 (dk_at dksX7_init_0 2 rfl rfl)
theorem dX7_init_5 : decode cX7_init 5 = .ok (.aload_n 0, 1) := dk_42 (dk_at dksX7_init_0 5 rfl rfl)
theorem dX7_init_6 : decode cX7_init 6 = .ok (.aload_n 1, 1) := dk_43 (dk_at dksX7_init_0 6 rfl rfl)
theorem dX7_init_7 : decode cX7_init 7 = .ok (.sipush 400, 3) := dk_17 1 144 (dk_at dksX7_init_0 7 rfl rfl)
theorem dX7_init_10 : decode cX7_init 10 = .ok (.invokespecial 9, 3) := dk_183 0 9 (dk_at dksX7_init_0 10 rfl rfl)
theorem dX7_init_13 : decode cX7_init 13 = .ok (.aload_n 0, 1) := dk_42 (dk_at dksX7_init_0 13 rfl rfl)
theorem dX7_init_14 : decode cX7_init 14 = .ok (.bipush 40, 2) := dk_16 40 (dk_at dksX7_init_0 14 rfl rfl)
theorem dX7_init_16 : decode cX7_init 16 = .ok (.anewarray 15, 3) := dk_189 0 15 (dk_at dksX7_init_0 16 rfl rfl)
theorem dX7_init_19 : decode cX7_init 19 = .ok (.putfield 17, 3) := dk_181 0 17 (dk_at dksX7_init_0 19 rfl rfl)
theorem dX7_init_22 : decode cX7_init 22 = .ok (.return_, 1) := dk_177 (dk_at dksX7_init_0 22 rfl rfl)
abbrev cX7_read : ByteArray := prog_6_method_2_code
def yX7_read : MethodName := ⟨RX7, "read", "()V"⟩
def dkwX7_read_2 : List UInt8 := [167, 255, 218, 177]
abbrev dktX7_read_2 : List UInt8 := dkwX7_read_2 ++ []
def dkwX7_read_1 : List UInt8 := [182, 0, 36, 42, 180, 0, 17, 42, 180, 0, 21, 43, 83, 42, 89, 180, 0, 21, 4, 96, 181, 0, 21]
abbrev dktX7_read_1 : List UInt8 := dkwX7_read_1 ++ dktX7_read_2
def dkwX7_read_0 : List UInt8 := [42, 3, 181, 0, 21, 42, 182, 0, 25, 42, 180, 0, 29, 153, 0, 37, 42, 182, 0, 32, 76, 42, 16, 59]
abbrev dktX7_read_0 : List UInt8 := dkwX7_read_0 ++ dktX7_read_1
theorem dksX7_read_0 : cX7_read.data.toList.drop 0 = dktX7_read_0 := by decide +kernel
theorem dksX7_read_1 : cX7_read.data.toList.drop 24 = dktX7_read_1 := dk_seg dksX7_read_0 24 rfl rfl
theorem dksX7_read_2 : cX7_read.data.toList.drop 47 = dktX7_read_2 := dk_seg dksX7_read_1 23 rfl rfl
theorem dX7_read_0 : decode cX7_read 0 = .ok (.aload_n 0, 1) := dk_42 (dk_at dksX7_read_0 0 rfl rfl)
theorem dX7_read_1 : decode cX7_read 1 = .ok (.iconst 0, 1) := dk_3 (dk_at dksX7_read_0 1 rfl rfl)
theorem dX7_read_2 : decode cX7_read 2 = .ok (.putfield 21, 3) := dk_181 0 21 (dk_at dksX7_read_0 2 rfl rfl)
theorem dX7_read_5 : decode cX7_read 5 = .ok (.aload_n 0, 1) := dk_42 (dk_at dksX7_read_0 5 rfl rfl)
theorem dX7_read_6 : decode cX7_read 6 = .ok (.invokevirtual 25, 3) := dk_182 0 25 (dk_at dksX7_read_0 6 rfl rfl)
theorem dX7_read_9 : decode cX7_read 9 = .ok (.aload_n 0, 1) := dk_42 (dk_at dksX7_read_0 9 rfl rfl)
theorem dX7_read_10 : decode cX7_read 10 = .ok (.getfield 29, 3) := dk_180 0 29 (dk_at dksX7_read_0 10 rfl rfl)
theorem dX7_read_13 : decode cX7_read 13 = .ok (.ifCond .eq 37, 3) := dk_153 0 37 (dk_at dksX7_read_0 13 rfl rfl)
theorem dX7_read_16 : decode cX7_read 16 = .ok (.aload_n 0, 1) := dk_42 (dk_at dksX7_read_0 16 rfl rfl)
theorem dX7_read_17 : decode cX7_read 17 = .ok (.invokevirtual 32, 3) := dk_182 0 32 (dk_at dksX7_read_0 17 rfl rfl)
theorem dX7_read_20 : decode cX7_read 20 = .ok (.astore_n 1, 1) := dk_76 (dk_at dksX7_read_0 20 rfl rfl)
theorem dX7_read_21 : decode cX7_read 21 = .ok (.aload_n 0, 1) := dk_42 (dk_at dksX7_read_0 21 rfl rfl)
theorem dX7_read_22 : decode cX7_read 22 = .ok (.bipush 59, 2) := dk_16 59 (dk_at dksX7_read_0 22 rfl rfl)
theorem dX7_read_24 : decode cX7_read 24 = .ok (.invokevirtual 36, 3) := dk_182 0 36 (dk_at dksX7_read_1 0 rfl rfl)
theorem dX7_read_27 : decode cX7_read 27 = .ok (.aload_n 0, 1) := dk_42 (dk_at dksX7_read_1 3 rfl rfl)
theorem dX7_read_28 : decode cX7_read 28 = .ok (.getfield 17, 3) := dk_180 0 17 (dk_at dksX7_read_1 4 rfl rfl)
theorem dX7_read_31 : decode cX7_read 31 = .ok (.aload_n 0, 1) := dk_42 (dk_at dksX7_read_1 7 rfl rfl)
theorem dX7_read_32 : decode cX7_read 32 = .ok (.getfield 21, 3) := dk_180 0 21 (dk_at dksX7_read_1 8 rfl rfl)
theorem dX7_read_35 : decode cX7_read 35 = .ok (.aload_n 1, 1) := dk_43 (dk_at dksX7_read_1 11 rfl rfl)
theorem dX7_read_36 : decode cX7_read 36 = .ok (.aastore, 1) := dk_83 (dk_at dksX7_read_1 12 rfl rfl)
theorem dX7_read_37 : decode cX7_read 37 = .ok (.aload_n 0, 1) := dk_42 (dk_at dksX7_read_1 13 rfl rfl)
theorem dX7_read_38 : decode cX7_read 38 = .ok (.dup, 1) := dk_89 (dk_at dksX7_read_1 14 rfl rfl)
theorem dX7_read_39 : decode cX7_read 39 = .ok (.getfield 21, 3) := dk_180 0 21 (dk_at dksX7_read_1 15 rfl rfl)
theorem dX7_read_42 : decode cX7_read 42 = .ok (.iconst 1, 1) := dk_4 (dk_at dksX7_read_1 18 rfl rfl)
theorem dX7_read_43 : decode cX7_read 43 = .ok (.iadd, 1) := dk_96 (dk_at dksX7_read_1 19 rfl rfl)
theorem dX7_read_44 : decode cX7_read 44 = .ok (.putfield 21, 3) := dk_181 0 21 (dk_at dksX7_read_1 20 rfl rfl)
theorem dX7_read_47 : decode cX7_read 47 = .ok (.goto (-38), 3) := dk_167 255 218 (dk_at dksX7_read_2 0 rfl rfl)
theorem dX7_read_50 : decode cX7_read 50 = .ok (.return_, 1) := dk_177 (dk_at dksX7_read_2 3 rfl rfl)
abbrev cX7_line : ByteArray := prog_6_method_3_code
def yX7_line : MethodName := ⟨RX7, "line", "()LSecondHelpings$Line;"⟩
def dkwX7_line_11 : List UInt8 := [25, 4, 198, 0, 7, 4, 167, 0, 4, 3, 4, 182, 0, 63, 42, 182, 0, 67, 25, 4, 176]
abbrev dktX7_line_11 : List UInt8 := dkwX7_line_11 ++ []
def dkwX7_line_10 : List UInt8 := [18, 114, 182, 0, 42, 153, 0, 14, 187, 0, 116, 89, 28, 183, 0, 118, 167, 0, 4, 1, 58, 4, 42]
abbrev dktX7_line_10 : List UInt8 := dkwX7_line_10 ++ dktX7_line_11
def dkwX7_line_9 : List UInt8 := [167, 0, 44, 42, 18, 109, 182, 0, 42, 153, 0, 14, 187, 0, 111, 89, 28, 183, 0, 113, 167, 0, 24, 42]
abbrev dktX7_line_9 : List UInt8 := dkwX7_line_9 ++ dktX7_line_10
def dkwX7_line_8 : List UInt8 := [183, 0, 103, 167, 0, 64, 42, 18, 104, 182, 0, 42, 153, 0, 14, 187, 0, 106, 89, 28, 183, 0, 108]
abbrev dktX7_line_8 : List UInt8 := dkwX7_line_8 ++ dktX7_line_9
def dkwX7_line_7 : List UInt8 := [16, 40, 182, 0, 72, 183, 0, 98, 176, 42, 18, 99, 182, 0, 42, 153, 0, 14, 187, 0, 101, 89, 28]
abbrev dktX7_line_7 : List UInt8 := dkwX7_line_7 ++ dktX7_line_8
def dkwX7_line_6 : List UInt8 := [21, 4, 42, 4, 16, 20, 182, 0, 72, 183, 0, 93, 167, 0, 20, 187, 0, 96, 89, 28, 21, 4, 42, 4]
abbrev dktX7_line_6 : List UInt8 := dkwX7_line_6 ++ dktX7_line_7
def dkwX7_line_5 : List UInt8 := [180, 0, 3, 180, 0, 46, 180, 0, 85, 182, 0, 88, 54, 4, 29, 153, 0, 23, 187, 0, 91, 89, 28]
abbrev dktX7_line_5 : List UInt8 := dkwX7_line_5 ++ dktX7_line_6
def dkwX7_line_4 : List UInt8 := [18, 80, 182, 0, 42, 153, 0, 75, 42, 182, 0, 67, 42, 42, 180, 0, 3, 180, 0, 46, 180, 0, 82, 42]
abbrev dktX7_line_4 : List UInt8 := dkwX7_line_4 ++ dktX7_line_5
def dkwX7_line_3 : List UInt8 := [42, 4, 16, 60, 182, 0, 72, 183, 0, 76, 176, 42, 18, 78, 182, 0, 42, 62, 29, 154, 0, 12, 42]
abbrev dktX7_line_3 : List UInt8 := dkwX7_line_3 ++ dktX7_line_4
def dkwX7_line_2 : List UInt8 := [162, 0, 7, 4, 167, 0, 4, 3, 7, 182, 0, 63, 42, 182, 0, 67, 27, 153, 0, 18, 187, 0, 70, 89]
abbrev dktX7_line_2 : List UInt8 := dkwX7_line_2 ++ dktX7_line_3
def dkwX7_line_1 : List UInt8 := [180, 0, 50, 42, 180, 0, 3, 180, 0, 46, 180, 0, 56, 182, 0, 59, 61, 42, 42, 180, 0, 21, 16, 40]
abbrev dktX7_line_1 : List UInt8 := dkwX7_line_1 ++ dktX7_line_2
def dkwX7_line_0 : List UInt8 := [42, 18, 40, 182, 0, 42, 60, 27, 153, 0, 7, 2, 167, 0, 27, 42, 42, 180, 0, 3, 180, 0, 46]
abbrev dktX7_line_0 : List UInt8 := dkwX7_line_0 ++ dktX7_line_1
theorem dksX7_line_0 : cX7_line.data.toList.drop 0 = dktX7_line_0 := by decide +kernel
theorem dksX7_line_1 : cX7_line.data.toList.drop 23 = dktX7_line_1 := dk_seg dksX7_line_0 23 rfl rfl
theorem dksX7_line_2 : cX7_line.data.toList.drop 47 = dktX7_line_2 := dk_seg dksX7_line_1 24 rfl rfl
theorem dksX7_line_3 : cX7_line.data.toList.drop 71 = dktX7_line_3 := dk_seg dksX7_line_2 24 rfl rfl
theorem dksX7_line_4 : cX7_line.data.toList.drop 94 = dktX7_line_4 := dk_seg dksX7_line_3 23 rfl rfl
theorem dksX7_line_5 : cX7_line.data.toList.drop 118 = dktX7_line_5 := dk_seg dksX7_line_4 24 rfl rfl
theorem dksX7_line_6 : cX7_line.data.toList.drop 141 = dktX7_line_6 := dk_seg dksX7_line_5 23 rfl rfl
theorem dksX7_line_7 : cX7_line.data.toList.drop 165 = dktX7_line_7 := dk_seg dksX7_line_6 24 rfl rfl
theorem dksX7_line_8 : cX7_line.data.toList.drop 188 = dktX7_line_8 := dk_seg dksX7_line_7 23 rfl rfl
theorem dksX7_line_9 : cX7_line.data.toList.drop 211 = dktX7_line_9 := dk_seg dksX7_line_8 23 rfl rfl
theorem dksX7_line_10 : cX7_line.data.toList.drop 235 = dktX7_line_10 := dk_seg dksX7_line_9 24 rfl rfl
theorem dksX7_line_11 : cX7_line.data.toList.drop 258 = dktX7_line_11 := dk_seg dksX7_line_10 23 rfl rfl
theorem dX7_line_0 : decode cX7_line 0 = .ok (.aload_n 0, 1) := dk_42 (dk_at dksX7_line_0 0 rfl rfl)
theorem dX7_line_1 : decode cX7_line 1 = .ok (.ldc 40, 2) := dk_18 40 (dk_at dksX7_line_0 1 rfl rfl)
theorem dX7_line_3 : decode cX7_line 3 = .ok (.invokevirtual 42, 3) := dk_182 0 42 (dk_at dksX7_line_0 3 rfl rfl)
theorem dX7_line_6 : decode cX7_line 6 = .ok (.istore_n 1, 1) := dk_60 (dk_at dksX7_line_0 6 rfl rfl)
theorem dX7_line_7 : decode cX7_line 7 = .ok (.iload_n 1, 1) := dk_27 (dk_at dksX7_line_0 7 rfl rfl)
theorem dX7_line_8 : decode cX7_line 8 = .ok (.ifCond .eq 7, 3) := dk_153 0 7 (dk_at dksX7_line_0 8 rfl rfl)
theorem dX7_line_11 : decode cX7_line 11 = .ok (.iconst (-1), 1) := dk_2 (dk_at dksX7_line_0 11 rfl rfl)
theorem dX7_line_12 : decode cX7_line 12 = .ok (.goto 27, 3) := dk_167 0 27 (dk_at dksX7_line_0 12 rfl rfl)
theorem dX7_line_15 : decode cX7_line 15 = .ok (.aload_n 0, 1) := dk_42 (dk_at dksX7_line_0 15 rfl rfl)
theorem dX7_line_16 : decode cX7_line 16 = .ok (.aload_n 0, 1) := dk_42 (dk_at dksX7_line_0 16 rfl rfl)
theorem dX7_line_17 : decode cX7_line 17 = .ok (.getfield 3, 3) := dk_180 0 3 (dk_at dksX7_line_0 17 rfl rfl)
theorem dX7_line_20 : decode cX7_line 20 = .ok (.getfield 46, 3) := dk_180 0 46 (dk_at dksX7_line_0 20 rfl rfl)
theorem dX7_line_23 : decode cX7_line 23 = .ok (.getfield 50, 3) := dk_180 0 50 (dk_at dksX7_line_1 0 rfl rfl)
theorem dX7_line_26 : decode cX7_line 26 = .ok (.aload_n 0, 1) := dk_42 (dk_at dksX7_line_1 3 rfl rfl)
theorem dX7_line_27 : decode cX7_line 27 = .ok (.getfield 3, 3) := dk_180 0 3 (dk_at dksX7_line_1 4 rfl rfl)
theorem dX7_line_30 : decode cX7_line 30 = .ok (.getfield 46, 3) := dk_180 0 46 (dk_at dksX7_line_1 7 rfl rfl)
theorem dX7_line_33 : decode cX7_line 33 = .ok (.getfield 56, 3) := dk_180 0 56 (dk_at dksX7_line_1 10 rfl rfl)
theorem dX7_line_36 : decode cX7_line 36 = .ok (.invokevirtual 59, 3) := dk_182 0 59 (dk_at dksX7_line_1 13 rfl rfl)
theorem dX7_line_39 : decode cX7_line 39 = .ok (.istore_n 2, 1) := dk_61 (dk_at dksX7_line_1 16 rfl rfl)
theorem dX7_line_40 : decode cX7_line 40 = .ok (.aload_n 0, 1) := dk_42 (dk_at dksX7_line_1 17 rfl rfl)
theorem dX7_line_41 : decode cX7_line 41 = .ok (.aload_n 0, 1) := dk_42 (dk_at dksX7_line_1 18 rfl rfl)
theorem dX7_line_42 : decode cX7_line 42 = .ok (.getfield 21, 3) := dk_180 0 21 (dk_at dksX7_line_1 19 rfl rfl)
theorem dX7_line_45 : decode cX7_line 45 = .ok (.bipush 40, 2) := dk_16 40 (dk_at dksX7_line_1 22 rfl rfl)
theorem dX7_line_47 : decode cX7_line 47 = .ok (.if_icmp .ge 7, 3) := dk_162 0 7 (dk_at dksX7_line_2 0 rfl rfl)
theorem dX7_line_50 : decode cX7_line 50 = .ok (.iconst 1, 1) := dk_4 (dk_at dksX7_line_2 3 rfl rfl)
theorem dX7_line_51 : decode cX7_line 51 = .ok (.goto 4, 3) := dk_167 0 4 (dk_at dksX7_line_2 4 rfl rfl)
theorem dX7_line_54 : decode cX7_line 54 = .ok (.iconst 0, 1) := dk_3 (dk_at dksX7_line_2 7 rfl rfl)
theorem dX7_line_55 : decode cX7_line 55 = .ok (.iconst 4, 1) := dk_7 (dk_at dksX7_line_2 8 rfl rfl)
theorem dX7_line_56 : decode cX7_line 56 = .ok (.invokevirtual 63, 3) := dk_182 0 63 (dk_at dksX7_line_2 9 rfl rfl)
theorem dX7_line_59 : decode cX7_line 59 = .ok (.aload_n 0, 1) := dk_42 (dk_at dksX7_line_2 12 rfl rfl)
theorem dX7_line_60 : decode cX7_line 60 = .ok (.invokevirtual 67, 3) := dk_182 0 67 (dk_at dksX7_line_2 13 rfl rfl)
theorem dX7_line_63 : decode cX7_line 63 = .ok (.iload_n 1, 1) := dk_27 (dk_at dksX7_line_2 16 rfl rfl)
theorem dX7_line_64 : decode cX7_line 64 = .ok (.ifCond .eq 18, 3) := dk_153 0 18 (dk_at dksX7_line_2 17 rfl rfl)
theorem dX7_line_67 : decode cX7_line 67 = .ok (.new 70, 3) := dk_187 0 70 (dk_at dksX7_line_2 20 rfl rfl)
theorem dX7_line_70 : decode cX7_line 70 = .ok (.dup, 1) := dk_89 (dk_at dksX7_line_2 23 rfl rfl)
theorem dX7_line_71 : decode cX7_line 71 = .ok (.aload_n 0, 1) := dk_42 (dk_at dksX7_line_3 0 rfl rfl)
theorem dX7_line_72 : decode cX7_line 72 = .ok (.iconst 1, 1) := dk_4 (dk_at dksX7_line_3 1 rfl rfl)
theorem dX7_line_73 : decode cX7_line 73 = .ok (.bipush 60, 2) := dk_16 60 (dk_at dksX7_line_3 2 rfl rfl)
theorem dX7_line_75 : decode cX7_line 75 = .ok (.invokevirtual 72, 3) := dk_182 0 72 (dk_at dksX7_line_3 4 rfl rfl)
theorem dX7_line_78 : decode cX7_line 78 = .ok (.invokespecial 76, 3) := dk_183 0 76 (dk_at dksX7_line_3 7 rfl rfl)
theorem dX7_line_81 : decode cX7_line 81 = .ok (.areturn, 1) := dk_176 (dk_at dksX7_line_3 10 rfl rfl)
theorem dX7_line_82 : decode cX7_line 82 = .ok (.aload_n 0, 1) := dk_42 (dk_at dksX7_line_3 11 rfl rfl)
theorem dX7_line_83 : decode cX7_line 83 = .ok (.ldc 78, 2) := dk_18 78 (dk_at dksX7_line_3 12 rfl rfl)
theorem dX7_line_85 : decode cX7_line 85 = .ok (.invokevirtual 42, 3) := dk_182 0 42 (dk_at dksX7_line_3 14 rfl rfl)
theorem dX7_line_88 : decode cX7_line 88 = .ok (.istore_n 3, 1) := dk_62 (dk_at dksX7_line_3 17 rfl rfl)
theorem dX7_line_89 : decode cX7_line 89 = .ok (.iload_n 3, 1) := dk_29 (dk_at dksX7_line_3 18 rfl rfl)
theorem dX7_line_90 : decode cX7_line 90 = .ok (.ifCond .ne 12, 3) := dk_154 0 12 (dk_at dksX7_line_3 19 rfl rfl)
theorem dX7_line_93 : decode cX7_line 93 = .ok (.aload_n 0, 1) := dk_42 (dk_at dksX7_line_3 22 rfl rfl)
theorem dX7_line_94 : decode cX7_line 94 = .ok (.ldc 80, 2) := dk_18 80 (dk_at dksX7_line_4 0 rfl rfl)
theorem dX7_line_96 : decode cX7_line 96 = .ok (.invokevirtual 42, 3) := dk_182 0 42 (dk_at dksX7_line_4 2 rfl rfl)
theorem dX7_line_99 : decode cX7_line 99 = .ok (.ifCond .eq 75, 3) := dk_153 0 75 (dk_at dksX7_line_4 5 rfl rfl)
theorem dX7_line_102 : decode cX7_line 102 = .ok (.aload_n 0, 1) := dk_42 (dk_at dksX7_line_4 8 rfl rfl)
theorem dX7_line_103 : decode cX7_line 103 = .ok (.invokevirtual 67, 3) := dk_182 0 67 (dk_at dksX7_line_4 9 rfl rfl)
theorem dX7_line_106 : decode cX7_line 106 = .ok (.aload_n 0, 1) := dk_42 (dk_at dksX7_line_4 12 rfl rfl)
theorem dX7_line_107 : decode cX7_line 107 = .ok (.aload_n 0, 1) := dk_42 (dk_at dksX7_line_4 13 rfl rfl)
theorem dX7_line_108 : decode cX7_line 108 = .ok (.getfield 3, 3) := dk_180 0 3 (dk_at dksX7_line_4 14 rfl rfl)
theorem dX7_line_111 : decode cX7_line 111 = .ok (.getfield 46, 3) := dk_180 0 46 (dk_at dksX7_line_4 17 rfl rfl)
theorem dX7_line_114 : decode cX7_line 114 = .ok (.getfield 82, 3) := dk_180 0 82 (dk_at dksX7_line_4 20 rfl rfl)
theorem dX7_line_117 : decode cX7_line 117 = .ok (.aload_n 0, 1) := dk_42 (dk_at dksX7_line_4 23 rfl rfl)
theorem dX7_line_118 : decode cX7_line 118 = .ok (.getfield 3, 3) := dk_180 0 3 (dk_at dksX7_line_5 0 rfl rfl)
theorem dX7_line_121 : decode cX7_line 121 = .ok (.getfield 46, 3) := dk_180 0 46 (dk_at dksX7_line_5 3 rfl rfl)
theorem dX7_line_124 : decode cX7_line 124 = .ok (.getfield 85, 3) := dk_180 0 85 (dk_at dksX7_line_5 6 rfl rfl)
theorem dX7_line_127 : decode cX7_line 127 = .ok (.invokevirtual 88, 3) := dk_182 0 88 (dk_at dksX7_line_5 9 rfl rfl)
theorem dX7_line_130 : decode cX7_line 130 = .ok (.istore 4, 2) := dk_54 4 (dk_at dksX7_line_5 12 rfl rfl)
theorem dX7_line_132 : decode cX7_line 132 = .ok (.iload_n 3, 1) := dk_29 (dk_at dksX7_line_5 14 rfl rfl)
theorem dX7_line_133 : decode cX7_line 133 = .ok (.ifCond .eq 23, 3) := dk_153 0 23 (dk_at dksX7_line_5 15 rfl rfl)
theorem dX7_line_136 : decode cX7_line 136 = .ok (.new 91, 3) := dk_187 0 91 (dk_at dksX7_line_5 18 rfl rfl)
theorem dX7_line_139 : decode cX7_line 139 = .ok (.dup, 1) := dk_89 (dk_at dksX7_line_5 21 rfl rfl)
theorem dX7_line_140 : decode cX7_line 140 = .ok (.iload_n 2, 1) := dk_28 (dk_at dksX7_line_5 22 rfl rfl)
theorem dX7_line_141 : decode cX7_line 141 = .ok (.iload 4, 2) := dk_21 4 (dk_at dksX7_line_6 0 rfl rfl)
theorem dX7_line_143 : decode cX7_line 143 = .ok (.aload_n 0, 1) := dk_42 (dk_at dksX7_line_6 2 rfl rfl)
theorem dX7_line_144 : decode cX7_line 144 = .ok (.iconst 1, 1) := dk_4 (dk_at dksX7_line_6 3 rfl rfl)
theorem dX7_line_145 : decode cX7_line 145 = .ok (.bipush 20, 2) := dk_16 20 (dk_at dksX7_line_6 4 rfl rfl)
theorem dX7_line_147 : decode cX7_line 147 = .ok (.invokevirtual 72, 3) := dk_182 0 72 (dk_at dksX7_line_6 6 rfl rfl)
theorem dX7_line_150 : decode cX7_line 150 = .ok (.invokespecial 93, 3) := dk_183 0 93 (dk_at dksX7_line_6 9 rfl rfl)
theorem dX7_line_153 : decode cX7_line 153 = .ok (.goto 20, 3) := dk_167 0 20 (dk_at dksX7_line_6 12 rfl rfl)
theorem dX7_line_156 : decode cX7_line 156 = .ok (.new 96, 3) := dk_187 0 96 (dk_at dksX7_line_6 15 rfl rfl)
theorem dX7_line_159 : decode cX7_line 159 = .ok (.dup, 1) := dk_89 (dk_at dksX7_line_6 18 rfl rfl)
theorem dX7_line_160 : decode cX7_line 160 = .ok (.iload_n 2, 1) := dk_28 (dk_at dksX7_line_6 19 rfl rfl)
theorem dX7_line_161 : decode cX7_line 161 = .ok (.iload 4, 2) := dk_21 4 (dk_at dksX7_line_6 20 rfl rfl)
theorem dX7_line_163 : decode cX7_line 163 = .ok (.aload_n 0, 1) := dk_42 (dk_at dksX7_line_6 22 rfl rfl)
theorem dX7_line_164 : decode cX7_line 164 = .ok (.iconst 1, 1) := dk_4 (dk_at dksX7_line_6 23 rfl rfl)
theorem dX7_line_165 : decode cX7_line 165 = .ok (.bipush 40, 2) := dk_16 40 (dk_at dksX7_line_7 0 rfl rfl)
theorem dX7_line_167 : decode cX7_line 167 = .ok (.invokevirtual 72, 3) := dk_182 0 72 (dk_at dksX7_line_7 2 rfl rfl)
theorem dX7_line_170 : decode cX7_line 170 = .ok (.invokespecial 98, 3) := dk_183 0 98 (dk_at dksX7_line_7 5 rfl rfl)
theorem dX7_line_173 : decode cX7_line 173 = .ok (.areturn, 1) := dk_176 (dk_at dksX7_line_7 8 rfl rfl)
theorem dX7_line_174 : decode cX7_line 174 = .ok (.aload_n 0, 1) := dk_42 (dk_at dksX7_line_7 9 rfl rfl)
theorem dX7_line_175 : decode cX7_line 175 = .ok (.ldc 99, 2) := dk_18 99 (dk_at dksX7_line_7 10 rfl rfl)
theorem dX7_line_177 : decode cX7_line 177 = .ok (.invokevirtual 42, 3) := dk_182 0 42 (dk_at dksX7_line_7 12 rfl rfl)
theorem dX7_line_180 : decode cX7_line 180 = .ok (.ifCond .eq 14, 3) := dk_153 0 14 (dk_at dksX7_line_7 15 rfl rfl)
theorem dX7_line_183 : decode cX7_line 183 = .ok (.new 101, 3) := dk_187 0 101 (dk_at dksX7_line_7 18 rfl rfl)
theorem dX7_line_186 : decode cX7_line 186 = .ok (.dup, 1) := dk_89 (dk_at dksX7_line_7 21 rfl rfl)
theorem dX7_line_187 : decode cX7_line 187 = .ok (.iload_n 2, 1) := dk_28 (dk_at dksX7_line_7 22 rfl rfl)
theorem dX7_line_188 : decode cX7_line 188 = .ok (.invokespecial 103, 3) := dk_183 0 103 (dk_at dksX7_line_8 0 rfl rfl)
theorem dX7_line_191 : decode cX7_line 191 = .ok (.goto 64, 3) := dk_167 0 64 (dk_at dksX7_line_8 3 rfl rfl)
theorem dX7_line_194 : decode cX7_line 194 = .ok (.aload_n 0, 1) := dk_42 (dk_at dksX7_line_8 6 rfl rfl)
theorem dX7_line_195 : decode cX7_line 195 = .ok (.ldc 104, 2) := dk_18 104 (dk_at dksX7_line_8 7 rfl rfl)
theorem dX7_line_197 : decode cX7_line 197 = .ok (.invokevirtual 42, 3) := dk_182 0 42 (dk_at dksX7_line_8 9 rfl rfl)
theorem dX7_line_200 : decode cX7_line 200 = .ok (.ifCond .eq 14, 3) := dk_153 0 14 (dk_at dksX7_line_8 12 rfl rfl)
theorem dX7_line_203 : decode cX7_line 203 = .ok (.new 106, 3) := dk_187 0 106 (dk_at dksX7_line_8 15 rfl rfl)
theorem dX7_line_206 : decode cX7_line 206 = .ok (.dup, 1) := dk_89 (dk_at dksX7_line_8 18 rfl rfl)
theorem dX7_line_207 : decode cX7_line 207 = .ok (.iload_n 2, 1) := dk_28 (dk_at dksX7_line_8 19 rfl rfl)
theorem dX7_line_208 : decode cX7_line 208 = .ok (.invokespecial 108, 3) := dk_183 0 108 (dk_at dksX7_line_8 20 rfl rfl)
theorem dX7_line_211 : decode cX7_line 211 = .ok (.goto 44, 3) := dk_167 0 44 (dk_at dksX7_line_9 0 rfl rfl)
theorem dX7_line_214 : decode cX7_line 214 = .ok (.aload_n 0, 1) := dk_42 (dk_at dksX7_line_9 3 rfl rfl)
theorem dX7_line_215 : decode cX7_line 215 = .ok (.ldc 109, 2) := dk_18 109 (dk_at dksX7_line_9 4 rfl rfl)
theorem dX7_line_217 : decode cX7_line 217 = .ok (.invokevirtual 42, 3) := dk_182 0 42 (dk_at dksX7_line_9 6 rfl rfl)
theorem dX7_line_220 : decode cX7_line 220 = .ok (.ifCond .eq 14, 3) := dk_153 0 14 (dk_at dksX7_line_9 9 rfl rfl)
theorem dX7_line_223 : decode cX7_line 223 = .ok (.new 111, 3) := dk_187 0 111 (dk_at dksX7_line_9 12 rfl rfl)
theorem dX7_line_226 : decode cX7_line 226 = .ok (.dup, 1) := dk_89 (dk_at dksX7_line_9 15 rfl rfl)
theorem dX7_line_227 : decode cX7_line 227 = .ok (.iload_n 2, 1) := dk_28 (dk_at dksX7_line_9 16 rfl rfl)
theorem dX7_line_228 : decode cX7_line 228 = .ok (.invokespecial 113, 3) := dk_183 0 113 (dk_at dksX7_line_9 17 rfl rfl)
theorem dX7_line_231 : decode cX7_line 231 = .ok (.goto 24, 3) := dk_167 0 24 (dk_at dksX7_line_9 20 rfl rfl)
theorem dX7_line_234 : decode cX7_line 234 = .ok (.aload_n 0, 1) := dk_42 (dk_at dksX7_line_9 23 rfl rfl)
theorem dX7_line_235 : decode cX7_line 235 = .ok (.ldc 114, 2) := dk_18 114 (dk_at dksX7_line_10 0 rfl rfl)
theorem dX7_line_237 : decode cX7_line 237 = .ok (.invokevirtual 42, 3) := dk_182 0 42 (dk_at dksX7_line_10 2 rfl rfl)
theorem dX7_line_240 : decode cX7_line 240 = .ok (.ifCond .eq 14, 3) := dk_153 0 14 (dk_at dksX7_line_10 5 rfl rfl)
theorem dX7_line_243 : decode cX7_line 243 = .ok (.new 116, 3) := dk_187 0 116 (dk_at dksX7_line_10 8 rfl rfl)
theorem dX7_line_246 : decode cX7_line 246 = .ok (.dup, 1) := dk_89 (dk_at dksX7_line_10 11 rfl rfl)
theorem dX7_line_247 : decode cX7_line 247 = .ok (.iload_n 2, 1) := dk_28 (dk_at dksX7_line_10 12 rfl rfl)
theorem dX7_line_248 : decode cX7_line 248 = .ok (.invokespecial 118, 3) := dk_183 0 118 (dk_at dksX7_line_10 13 rfl rfl)
theorem dX7_line_251 : decode cX7_line 251 = .ok (.goto 4, 3) := dk_167 0 4 (dk_at dksX7_line_10 16 rfl rfl)
theorem dX7_line_254 : decode cX7_line 254 = .ok (.aconst_null, 1) := dk_1 (dk_at dksX7_line_10 19 rfl rfl)
theorem dX7_line_255 : decode cX7_line 255 = .ok (.astore 4, 2) := dk_58 4 (dk_at dksX7_line_10 20 rfl rfl)
theorem dX7_line_257 : decode cX7_line 257 = .ok (.aload_n 0, 1) := dk_42 (dk_at dksX7_line_10 22 rfl rfl)
theorem dX7_line_258 : decode cX7_line 258 = .ok (.aload 4, 2) := dk_25 4 (dk_at dksX7_line_11 0 rfl rfl)
theorem dX7_line_260 : decode cX7_line 260 = .ok (.ifnull 7, 3) := dk_198 0 7 (dk_at dksX7_line_11 2 rfl rfl)
theorem dX7_line_263 : decode cX7_line 263 = .ok (.iconst 1, 1) := dk_4 (dk_at dksX7_line_11 5 rfl rfl)
theorem dX7_line_264 : decode cX7_line 264 = .ok (.goto 4, 3) := dk_167 0 4 (dk_at dksX7_line_11 6 rfl rfl)
theorem dX7_line_267 : decode cX7_line 267 = .ok (.iconst 0, 1) := dk_3 (dk_at dksX7_line_11 9 rfl rfl)
theorem dX7_line_268 : decode cX7_line 268 = .ok (.iconst 1, 1) := dk_4 (dk_at dksX7_line_11 10 rfl rfl)
theorem dX7_line_269 : decode cX7_line 269 = .ok (.invokevirtual 63, 3) := dk_182 0 63 (dk_at dksX7_line_11 11 rfl rfl)
theorem dX7_line_272 : decode cX7_line 272 = .ok (.aload_n 0, 1) := dk_42 (dk_at dksX7_line_11 14 rfl rfl)
theorem dX7_line_273 : decode cX7_line 273 = .ok (.invokevirtual 67, 3) := dk_182 0 67 (dk_at dksX7_line_11 15 rfl rfl)
theorem dX7_line_276 : decode cX7_line 276 = .ok (.aload 4, 2) := dk_25 4 (dk_at dksX7_line_11 18 rfl rfl)
theorem dX7_line_278 : decode cX7_line 278 = .ok (.areturn, 1) := dk_176 (dk_at dksX7_line_11 20 rfl rfl)
theorem q102 : (Jvm.Cond.initialized "SecondHelpings$BookReader") ∈ lw_all := lw_g (lw_at lw_m1 9 rfl) rfl
theorem q245 : (Jvm.Cond.fieldLinkNest "SecondHelpings$BookReader" (50 : Nat) "SecondHelpings$Board" "personNames" "[J" "SecondHelpings") ∈ lw_tbl := lw_at lw_m1 152 rfl
theorem q250 : (Jvm.Cond.fieldLinkNest "SecondHelpings$BookReader" (82 : Nat) "SecondHelpings$Board" "dishNames" "[J" "SecondHelpings") ∈ lw_tbl := lw_at lw_m1 157 rfl
theorem q274 : (Jvm.Cond.fieldLinkNest "SecondHelpings$BookReader" (56 : Nat) "SecondHelpings$Board" "persons" "I" "SecondHelpings") ∈ lw_tbl := lw_at lw_m1 181 rfl
theorem q279 : (Jvm.Cond.fieldLinkNest "SecondHelpings$BookReader" (85 : Nat) "SecondHelpings$Board" "dishes" "I" "SecondHelpings") ∈ lw_tbl := lw_at lw_m1 186 rfl
theorem q390 : (Jvm.Cond.fieldLink "SecondHelpings$BookReader" (29 : Nat) "SecondHelpings$BookReader" "token" "I") ∈ lw_all := lw_g (lw_at lw_m2 57 rfl) rfl
theorem q391 : (Jvm.Cond.sameField "SecondHelpings$BookReader" "SecondHelpings$Reader" "token" "I") ∈ lw_all := lw_g (lw_at lw_m2 58 rfl) rfl
theorem q429 : (Jvm.Cond.instantiable "SecondHelpings$BookReader" (11 : Nat)) ∈ lw_all := lw_g (lw_at lw_m2 96 rfl) rfl
theorem q431 : (Jvm.Cond.instanceMethod ({ cls := "SecondHelpings$BookReader", name := "<init>", desc := "(LSecondHelpings;)V" } : Jvm.MethodName)) ∈ lw_all := lw_g (lw_at lw_m2 98 rfl) rfl
theorem q432 : (Jvm.Cond.code ({ cls := "SecondHelpings$BookReader", name := "<init>", desc := "(LSecondHelpings;)V" } : Jvm.MethodName) prog_6_method_1_code (2 : Nat) (Option.none : Option Jvm.ClassFile.FieldType)) ∈ lw_all := lw_g (lw_at lw_m2 99 rfl) rfl
theorem q433 : (Jvm.Cond.methodLink "SecondHelpings$BookReader" (9 : Nat) ({ cls := "SecondHelpings$Reader", name := "<init>", desc := "(LSecondHelpings;I)V" } : Jvm.MethodName)) ∈ lw_all := lw_g (lw_at lw_m2 100 rfl) rfl
theorem q434 : (Jvm.Cond.classLink "SecondHelpings$BookReader" (15 : Nat) "SecondHelpings$Line") ∈ lw_all := lw_g (lw_at lw_m2 101 rfl) rfl
theorem q436 : (Jvm.Cond.fieldLink "SecondHelpings$BookReader" (17 : Nat) "SecondHelpings$BookReader" "row" "[LSecondHelpings$Line;") ∈ lw_all := lw_g (lw_at lw_m2 103 rfl) rfl
theorem q438 : (Jvm.Cond.fieldLink "SecondHelpings$BookReader" (21 : Nat) "SecondHelpings$BookReader" "n" "I") ∈ lw_all := lw_g (lw_at lw_m2 105 rfl) rfl
theorem q440 : (Jvm.Cond.fieldLink "SecondHelpings$BookReader" (3 : Nat) "SecondHelpings$BookReader" "this$0" "LSecondHelpings;") ∈ lw_all := lw_g (lw_at lw_m2 107 rfl) rfl
theorem q441 : (Jvm.Cond.laysFinal "SecondHelpings$BookReader" "SecondHelpings$BookReader" "row" "[LSecondHelpings$Line;") ∈ lw_all := lw_g (lw_at lw_m2 108 rfl) rfl
theorem q442 : (Jvm.Cond.soleField "SecondHelpings$BookReader" "row") ∈ lw_all := lw_g (lw_at lw_m2 109 rfl) rfl
theorem q443 : (Jvm.Cond.lays "SecondHelpings$BookReader" "SecondHelpings$BookReader" "n" "I") ∈ lw_all := lw_g (lw_at lw_m2 110 rfl) rfl
theorem q444 : (Jvm.Cond.soleField "SecondHelpings$BookReader" "n") ∈ lw_all := lw_g (lw_at lw_m2 111 rfl) rfl
theorem q445 : (Jvm.Cond.laysFinal "SecondHelpings$BookReader" "SecondHelpings$BookReader" "this$0" "LSecondHelpings;") ∈ lw_all := lw_g (lw_at lw_m2 112 rfl) rfl
theorem q446 : (Jvm.Cond.soleField "SecondHelpings$BookReader" "this$0") ∈ lw_all := lw_g (lw_at lw_m2 113 rfl) rfl
theorem q447 : (Jvm.Cond.laysFinal "SecondHelpings$BookReader" "SecondHelpings$Reader" "most" "I") ∈ lw_all := lw_g (lw_at lw_m2 114 rfl) rfl
theorem q448 : (Jvm.Cond.lays "SecondHelpings$BookReader" "SecondHelpings$Reader" "p" "I") ∈ lw_all := lw_g (lw_at lw_m2 115 rfl) rfl
theorem q449 : (Jvm.Cond.lays "SecondHelpings$BookReader" "SecondHelpings$Reader" "at" "I") ∈ lw_all := lw_g (lw_at lw_m2 116 rfl) rfl
theorem q450 : (Jvm.Cond.lays "SecondHelpings$BookReader" "SecondHelpings$Reader" "token" "I") ∈ lw_all := lw_g (lw_at lw_m2 117 rfl) rfl
theorem q451 : (Jvm.Cond.lays "SecondHelpings$BookReader" "SecondHelpings$Reader" "value" "I") ∈ lw_all := lw_g (lw_at lw_m2 118 rfl) rfl
theorem q452 : (Jvm.Cond.lays "SecondHelpings$BookReader" "SecondHelpings$Reader" "many" "I") ∈ lw_all := lw_g (lw_at lw_m2 119 rfl) rfl
theorem q453 : (Jvm.Cond.lays "SecondHelpings$BookReader" "SecondHelpings$Reader" "name" "J") ∈ lw_all := lw_g (lw_at lw_m2 120 rfl) rfl
theorem q454 : (Jvm.Cond.laysFinal "SecondHelpings$BookReader" "SecondHelpings$Reader" "this$0" "LSecondHelpings;") ∈ lw_all := lw_g (lw_at lw_m2 121 rfl) rfl
theorem q455 : (Jvm.Cond.superclass "SecondHelpings$BookReader" "SecondHelpings$Reader") ∈ lw_all := lw_g (lw_at lw_m2 122 rfl) rfl
theorem q524 : (Jvm.Cond.fieldLinkNest "SecondHelpings$BookReader" (46 : Nat) "SecondHelpings" "board" "LSecondHelpings$Board;" "SecondHelpings") ∈ lw_tbl := lw_at lw_m2 191 rfl
theorem q663 : (Jvm.Cond.selects "SecondHelpings$BookReader" ({ cls := "SecondHelpings$Reader", name := "next", desc := "()V" } : Jvm.MethodName) ({ cls := "SecondHelpings$Reader", name := "next", desc := "()V" } : Jvm.MethodName)) ∈ lw_all := lw_g (lw_at lw_m3 90 rfl) rfl
theorem q695 : (Jvm.Cond.selects "SecondHelpings$BookReader" ({ cls := "SecondHelpings$Reader", name := "is", desc := "(Ljava/lang/String;)Z" } : Jvm.MethodName) ({ cls := "SecondHelpings$Reader", name := "is", desc := "(Ljava/lang/String;)Z" } : Jvm.MethodName)) ∈ lw_all := lw_g (lw_at lw_m3 122 rfl) rfl
theorem q756 : (Jvm.Cond.selects "SecondHelpings$BookReader" ({ cls := "SecondHelpings$Reader", name := "wrong", desc := "(I)LSecondHelpings$Fault;" } : Jvm.MethodName) ({ cls := "SecondHelpings$Reader", name := "wrong", desc := "(I)LSecondHelpings$Fault;" } : Jvm.MethodName)) ∈ lw_all := lw_g (lw_at lw_m3 183 rfl) rfl
theorem q813 : (Jvm.Cond.selects "SecondHelpings$BookReader" ({ cls := "SecondHelpings$Reader", name := "look", desc := "([JI)I" } : Jvm.MethodName) ({ cls := "SecondHelpings$Reader", name := "look", desc := "([JI)I" } : Jvm.MethodName)) ∈ lw_all := lw_g (lw_at lw_m4 0 rfl) rfl
theorem q837 : (Jvm.Cond.selects "SecondHelpings$BookReader" ({ cls := "SecondHelpings$Reader", name := "is", desc := "(I)Z" } : Jvm.MethodName) ({ cls := "SecondHelpings$Reader", name := "is", desc := "(I)Z" } : Jvm.MethodName)) ∈ lw_all := lw_g (lw_at lw_m4 24 rfl) rfl
theorem q1175 : (Jvm.Cond.instanceMethod ({ cls := "SecondHelpings$BookReader", name := "read", desc := "()V" } : Jvm.MethodName)) ∈ lw_all := lw_g (lw_at lw_m5 122 rfl) rfl
theorem q1176 : (Jvm.Cond.selects "SecondHelpings$BookReader" ({ cls := "SecondHelpings$BookReader", name := "read", desc := "()V" } : Jvm.MethodName) ({ cls := "SecondHelpings$BookReader", name := "read", desc := "()V" } : Jvm.MethodName)) ∈ lw_all := lw_g (lw_at lw_m5 123 rfl) rfl
theorem q1177 : (Jvm.Cond.code ({ cls := "SecondHelpings$BookReader", name := "read", desc := "()V" } : Jvm.MethodName) prog_6_method_2_code (2 : Nat) (Option.none : Option Jvm.ClassFile.FieldType)) ∈ lw_all := lw_g (lw_at lw_m5 124 rfl) rfl
theorem q1178 : (Jvm.Cond.methodLink "SecondHelpings$BookReader" (25 : Nat) ({ cls := "SecondHelpings$BookReader", name := "begin", desc := "()V" } : Jvm.MethodName)) ∈ lw_all := lw_g (lw_at lw_m5 125 rfl) rfl
theorem q1179 : (Jvm.Cond.sameMethod "SecondHelpings$BookReader" "SecondHelpings$Reader" "begin" "()V") ∈ lw_all := lw_g (lw_at lw_m5 126 rfl) rfl
theorem q1180 : (Jvm.Cond.selects "SecondHelpings$BookReader" ({ cls := "SecondHelpings$BookReader", name := "begin", desc := "()V" } : Jvm.MethodName) ({ cls := "SecondHelpings$Reader", name := "begin", desc := "()V" } : Jvm.MethodName)) ∈ lw_all := lw_g (lw_at lw_m5 127 rfl) rfl
theorem q1181 : (Jvm.Cond.methodLink "SecondHelpings$BookReader" (32 : Nat) ({ cls := "SecondHelpings$BookReader", name := "line", desc := "()LSecondHelpings$Line;" } : Jvm.MethodName)) ∈ lw_all := lw_g (lw_at lw_m5 128 rfl) rfl
theorem q1182 : (Jvm.Cond.privateMethod ({ cls := "SecondHelpings$BookReader", name := "line", desc := "()LSecondHelpings$Line;" } : Jvm.MethodName)) ∈ lw_tbl := lw_at lw_m5 129 rfl
theorem q1183 : (Jvm.Cond.instanceMethod ({ cls := "SecondHelpings$BookReader", name := "line", desc := "()LSecondHelpings$Line;" } : Jvm.MethodName)) ∈ lw_all := lw_g (lw_at lw_m5 130 rfl) rfl
theorem q1184 : (Jvm.Cond.code ({ cls := "SecondHelpings$BookReader", name := "line", desc := "()LSecondHelpings$Line;" } : Jvm.MethodName) prog_6_method_3_code (5 : Nat) (Option.some (Jvm.ClassFile.FieldType.object "SecondHelpings$Line"))) ∈ lw_all := lw_g (lw_at lw_m5 131 rfl) rfl
theorem q1185 : (Jvm.Cond.stringRef "SecondHelpings$BookReader" (40 : Nat) "meal") ∈ lw_tbl := lw_at lw_m5 132 rfl
theorem q1186 : (Jvm.Cond.methodLink "SecondHelpings$BookReader" (42 : Nat) ({ cls := "SecondHelpings$BookReader", name := "is", desc := "(Ljava/lang/String;)Z" } : Jvm.MethodName)) ∈ lw_all := lw_g (lw_at lw_m5 133 rfl) rfl
theorem q1187 : (Jvm.Cond.sameMethod "SecondHelpings$BookReader" "SecondHelpings$Reader" "is" "(Ljava/lang/String;)Z") ∈ lw_all := lw_g (lw_at lw_m5 134 rfl) rfl
theorem q1188 : (Jvm.Cond.selects "SecondHelpings$BookReader" ({ cls := "SecondHelpings$BookReader", name := "is", desc := "(Ljava/lang/String;)Z" } : Jvm.MethodName) ({ cls := "SecondHelpings$Reader", name := "is", desc := "(Ljava/lang/String;)Z" } : Jvm.MethodName)) ∈ lw_all := lw_g (lw_at lw_m5 135 rfl) rfl
theorem q1189 : (Jvm.Cond.methodLink "SecondHelpings$BookReader" (59 : Nat) ({ cls := "SecondHelpings$BookReader", name := "look", desc := "([JI)I" } : Jvm.MethodName)) ∈ lw_all := lw_g (lw_at lw_m5 136 rfl) rfl
theorem q1190 : (Jvm.Cond.sameMethod "SecondHelpings$BookReader" "SecondHelpings$Reader" "look" "([JI)I") ∈ lw_all := lw_g (lw_at lw_m5 137 rfl) rfl
theorem q1191 : (Jvm.Cond.selects "SecondHelpings$BookReader" ({ cls := "SecondHelpings$BookReader", name := "look", desc := "([JI)I" } : Jvm.MethodName) ({ cls := "SecondHelpings$Reader", name := "look", desc := "([JI)I" } : Jvm.MethodName)) ∈ lw_all := lw_g (lw_at lw_m5 138 rfl) rfl
theorem q1192 : (Jvm.Cond.methodLink "SecondHelpings$BookReader" (63 : Nat) ({ cls := "SecondHelpings$BookReader", name := "must", desc := "(ZI)V" } : Jvm.MethodName)) ∈ lw_all := lw_g (lw_at lw_m5 139 rfl) rfl
theorem q1193 : (Jvm.Cond.sameMethod "SecondHelpings$BookReader" "SecondHelpings$Reader" "must" "(ZI)V") ∈ lw_all := lw_g (lw_at lw_m5 140 rfl) rfl
theorem q1194 : (Jvm.Cond.selects "SecondHelpings$BookReader" ({ cls := "SecondHelpings$BookReader", name := "must", desc := "(ZI)V" } : Jvm.MethodName) ({ cls := "SecondHelpings$Reader", name := "must", desc := "(ZI)V" } : Jvm.MethodName)) ∈ lw_all := lw_g (lw_at lw_m5 141 rfl) rfl
theorem q1195 : (Jvm.Cond.methodLink "SecondHelpings$BookReader" (67 : Nat) ({ cls := "SecondHelpings$BookReader", name := "next", desc := "()V" } : Jvm.MethodName)) ∈ lw_all := lw_g (lw_at lw_m5 142 rfl) rfl
theorem q1196 : (Jvm.Cond.sameMethod "SecondHelpings$BookReader" "SecondHelpings$Reader" "next" "()V") ∈ lw_all := lw_g (lw_at lw_m5 143 rfl) rfl
theorem q1197 : (Jvm.Cond.selects "SecondHelpings$BookReader" ({ cls := "SecondHelpings$BookReader", name := "next", desc := "()V" } : Jvm.MethodName) ({ cls := "SecondHelpings$Reader", name := "next", desc := "()V" } : Jvm.MethodName)) ∈ lw_all := lw_g (lw_at lw_m5 144 rfl) rfl
theorem q1198 : (Jvm.Cond.classLink "SecondHelpings$BookReader" (70 : Nat) "SecondHelpings$Meals") ∈ lw_all := lw_g (lw_at lw_m5 145 rfl) rfl
theorem q1200 : (Jvm.Cond.methodLink "SecondHelpings$BookReader" (72 : Nat) ({ cls := "SecondHelpings$BookReader", name := "number", desc := "(II)I" } : Jvm.MethodName)) ∈ lw_all := lw_g (lw_at lw_m5 147 rfl) rfl
theorem q1201 : (Jvm.Cond.sameMethod "SecondHelpings$BookReader" "SecondHelpings$Reader" "number" "(II)I") ∈ lw_all := lw_g (lw_at lw_m5 148 rfl) rfl
theorem q1202 : (Jvm.Cond.selects "SecondHelpings$BookReader" ({ cls := "SecondHelpings$BookReader", name := "number", desc := "(II)I" } : Jvm.MethodName) ({ cls := "SecondHelpings$Reader", name := "number", desc := "(II)I" } : Jvm.MethodName)) ∈ lw_all := lw_g (lw_at lw_m5 149 rfl) rfl
theorem q1203 : (Jvm.Cond.methodLink "SecondHelpings$BookReader" (76 : Nat) ({ cls := "SecondHelpings$Meals", name := "<init>", desc := "(I)V" } : Jvm.MethodName)) ∈ lw_all := lw_g (lw_at lw_m5 150 rfl) rfl
theorem q1214 : (Jvm.Cond.stringRef "SecondHelpings$BookReader" (78 : Nat) "eats") ∈ lw_tbl := lw_at lw_m5 161 rfl
theorem q1215 : (Jvm.Cond.stringRef "SecondHelpings$BookReader" (80 : Nat) "served") ∈ lw_tbl := lw_at lw_m5 162 rfl
theorem q1216 : (Jvm.Cond.methodLink "SecondHelpings$BookReader" (88 : Nat) ({ cls := "SecondHelpings$BookReader", name := "known", desc := "([JI)I" } : Jvm.MethodName)) ∈ lw_all := lw_g (lw_at lw_m5 163 rfl) rfl
theorem q1217 : (Jvm.Cond.sameMethod "SecondHelpings$BookReader" "SecondHelpings$Reader" "known" "([JI)I") ∈ lw_all := lw_g (lw_at lw_m5 164 rfl) rfl
theorem q1218 : (Jvm.Cond.selects "SecondHelpings$BookReader" ({ cls := "SecondHelpings$BookReader", name := "known", desc := "([JI)I" } : Jvm.MethodName) ({ cls := "SecondHelpings$Reader", name := "known", desc := "([JI)I" } : Jvm.MethodName)) ∈ lw_all := lw_g (lw_at lw_m5 165 rfl) rfl
theorem q1219 : (Jvm.Cond.classLink "SecondHelpings$BookReader" (91 : Nat) "SecondHelpings$Eats") ∈ lw_all := lw_g (lw_at lw_m5 166 rfl) rfl
theorem q1221 : (Jvm.Cond.methodLink "SecondHelpings$BookReader" (93 : Nat) ({ cls := "SecondHelpings$Eats", name := "<init>", desc := "(III)V" } : Jvm.MethodName)) ∈ lw_all := lw_g (lw_at lw_m5 168 rfl) rfl
theorem q1235 : (Jvm.Cond.classLink "SecondHelpings$BookReader" (96 : Nat) "SecondHelpings$Serves") ∈ lw_all := lw_g (lw_at lw_m5 182 rfl) rfl
theorem q1237 : (Jvm.Cond.methodLink "SecondHelpings$BookReader" (98 : Nat) ({ cls := "SecondHelpings$Serves", name := "<init>", desc := "(III)V" } : Jvm.MethodName)) ∈ lw_all := lw_g (lw_at lw_m5 184 rfl) rfl
theorem q1251 : (Jvm.Cond.stringRef "SecondHelpings$BookReader" (99 : Nat) "rises") ∈ lw_tbl := lw_at lw_m5 198 rfl
theorem q1252 : (Jvm.Cond.classLink "SecondHelpings$BookReader" (101 : Nat) "SecondHelpings$Rises") ∈ lw_all := lw_g (lw_at lw_m5 199 rfl) rfl
theorem q1254 : (Jvm.Cond.methodLink "SecondHelpings$BookReader" (103 : Nat) ({ cls := "SecondHelpings$Rises", name := "<init>", desc := "(I)V" } : Jvm.MethodName)) ∈ lw_all := lw_g (lw_at lw_m5 201 rfl) rfl
theorem q1262 : (Jvm.Cond.stringRef "SecondHelpings$BookReader" (104 : Nat) "refuses") ∈ lw_tbl := lw_at lw_m5 209 rfl
theorem q1263 : (Jvm.Cond.classLink "SecondHelpings$BookReader" (106 : Nat) "SecondHelpings$Refuses") ∈ lw_all := lw_g (lw_at lw_m5 210 rfl) rfl
theorem q1265 : (Jvm.Cond.methodLink "SecondHelpings$BookReader" (108 : Nat) ({ cls := "SecondHelpings$Refuses", name := "<init>", desc := "(I)V" } : Jvm.MethodName)) ∈ lw_all := lw_g (lw_at lw_m5 212 rfl) rfl
theorem q1273 : (Jvm.Cond.stringRef "SecondHelpings$BookReader" (109 : Nat) "accepts") ∈ lw_tbl := lw_at lw_m5 220 rfl
theorem q1274 : (Jvm.Cond.classLink "SecondHelpings$BookReader" (111 : Nat) "SecondHelpings$Accepts") ∈ lw_all := lw_g (lw_at lw_m5 221 rfl) rfl
theorem q1276 : (Jvm.Cond.methodLink "SecondHelpings$BookReader" (113 : Nat) ({ cls := "SecondHelpings$Accepts", name := "<init>", desc := "(I)V" } : Jvm.MethodName)) ∈ lw_all := lw_g (lw_at lw_m5 223 rfl) rfl
theorem q1284 : (Jvm.Cond.stringRef "SecondHelpings$BookReader" (114 : Nat) "dies") ∈ lw_tbl := lw_at lw_m5 231 rfl
theorem q1285 : (Jvm.Cond.classLink "SecondHelpings$BookReader" (116 : Nat) "SecondHelpings$Dies") ∈ lw_all := lw_g (lw_at lw_m5 232 rfl) rfl
theorem q1287 : (Jvm.Cond.methodLink "SecondHelpings$BookReader" (118 : Nat) ({ cls := "SecondHelpings$Dies", name := "<init>", desc := "(I)V" } : Jvm.MethodName)) ∈ lw_all := lw_g (lw_at lw_m5 234 rfl) rfl
theorem q1295 : (Jvm.Cond.methodLink "SecondHelpings$BookReader" (36 : Nat) ({ cls := "SecondHelpings$BookReader", name := "sign", desc := "(I)V" } : Jvm.MethodName)) ∈ lw_all := lw_g (lw_at lw_m6 2 rfl) rfl
theorem q1296 : (Jvm.Cond.sameMethod "SecondHelpings$BookReader" "SecondHelpings$Reader" "sign" "(I)V") ∈ lw_all := lw_g (lw_at lw_m6 3 rfl) rfl
theorem q1297 : (Jvm.Cond.selects "SecondHelpings$BookReader" ({ cls := "SecondHelpings$BookReader", name := "sign", desc := "(I)V" } : Jvm.MethodName) ({ cls := "SecondHelpings$Reader", name := "sign", desc := "(I)V" } : Jvm.MethodName)) ∈ lw_all := lw_g (lw_at lw_m6 4 rfl) rfl
theorem q2239 : (Jvm.Cond.selects "SecondHelpings$BookReader" ({ cls := "SecondHelpings$Reader", name := "find", desc := "([Ljava/lang/String;)I" } : Jvm.MethodName) ({ cls := "SecondHelpings$Reader", name := "find", desc := "([Ljava/lang/String;)I" } : Jvm.MethodName)) ∈ lw_all := lw_g (lw_at lw_m9 226 rfl) rfl
theorem q2243 : (Jvm.Cond.selects "SecondHelpings$BookReader" ({ cls := "SecondHelpings$Reader", name := "must", desc := "(ZI)V" } : Jvm.MethodName) ({ cls := "SecondHelpings$Reader", name := "must", desc := "(ZI)V" } : Jvm.MethodName)) ∈ lw_all := lw_g (lw_at lw_m9 230 rfl) rfl
theorem q2247 : (Jvm.Cond.selects "SecondHelpings$BookReader" ({ cls := "SecondHelpings$Reader", name := "isName", desc := "()Z" } : Jvm.MethodName) ({ cls := "SecondHelpings$Reader", name := "isName", desc := "()Z" } : Jvm.MethodName)) ∈ lw_all := lw_g (lw_at lw_m9 234 rfl) rfl
theorem q2251 : (Jvm.Cond.selects "SecondHelpings$BookReader" ({ cls := "SecondHelpings$Reader", name := "of", desc := "([JI)I" } : Jvm.MethodName) ({ cls := "SecondHelpings$Reader", name := "of", desc := "([JI)I" } : Jvm.MethodName)) ∈ lw_all := lw_g (lw_at lw_m9 238 rfl) rfl
theorem q2258 : (Jvm.Cond.castable "SecondHelpings$BookReader" "java/lang/Object") ∈ lw_tbl := lw_at lw_m10 5 rfl
theorem in_X7 : ∀ w ∈ wsX70, w ∈ lw_all := lw_in wsX70 [447, 448, 449, 450, 451, 452, 453, 454, 441, 443, 445] (by decide +kernel) (by decide +kernel)
/-! SecondHelpings$SentenceReader -/
set_option maxRecDepth 100000
def RX8 : String := "SecondHelpings$SentenceReader"
def TX8 : u_T := fun k => match k with
  | 0 => ("SecondHelpings$Reader", "most", "I", true)
  | 1 => ("SecondHelpings$Reader", "p", "I", false)
  | 2 => ("SecondHelpings$Reader", "at", "I", false)
  | 3 => ("SecondHelpings$Reader", "token", "I", false)
  | 4 => ("SecondHelpings$Reader", "value", "I", false)
  | 5 => ("SecondHelpings$Reader", "many", "I", false)
  | 6 => ("SecondHelpings$Reader", "name", "J", false)
  | 7 => ("SecondHelpings$Reader", "this$0", "LSecondHelpings;", true)
  | 8 => ("SecondHelpings$SentenceReader", "marks", "[Ljava/lang/String;", true)
  | 9 => ("SecondHelpings$SentenceReader", "counts", "[Ljava/lang/String;", true)
  | 10 => ("SecondHelpings$SentenceReader", "ones", "I", false)
  | _ => ("SecondHelpings$SentenceReader", "this$0", "LSecondHelpings;", true)
def tyX8 : Nat → FieldType := fun k => match k with
  | 0 => .int
  | 1 => .int
  | 2 => .int
  | 3 => .int
  | 4 => .int
  | 5 => .int
  | 6 => .long
  | 7 => .object "SecondHelpings"
  | 8 => .array (.object "java/lang/String")
  | 9 => .array (.object "java/lang/String")
  | 10 => .int
  | _ => .object "SecondHelpings"
abbrev wsX80 : List Cond := u_ws RX8 TX8 12
-- two fields of one name: no nmX8
theorem tyX8_ok : ∀ k, k < 12 → parseFieldDescriptor (TX8 k).2.2.1 = some (tyX8 k) := by decide +kernel
abbrev cX8_init : ByteArray := prog_21_method_1_code
def yX8_init : MethodName := ⟨RX8, "<init>", "(LSecondHelpings;)V"⟩
def dkwX8_init_3 : List UInt8 := [181, 0, 39, 177]
abbrev dktX8_init_3 : List UInt8 := dkwX8_init_3 ++ []
def dkwX8_init_2 : List UInt8 := [189, 0, 15, 89, 3, 18, 31, 83, 89, 4, 18, 33, 83, 89, 5, 18, 35, 83, 89, 6, 18, 37, 83]
abbrev dktX8_init_2 : List UInt8 := dkwX8_init_2 ++ dktX8_init_3
def dkwX8_init_1 : List UInt8 := [4, 18, 19, 83, 89, 5, 18, 21, 83, 89, 6, 18, 23, 83, 89, 7, 18, 25, 83, 181, 0, 27, 42, 7]
abbrev dktX8_init_1 : List UInt8 := dkwX8_init_1 ++ dktX8_init_2
def dkwX8_init_0 : List UInt8 := [42, 43, 181, 0, 3, 42, 43, 17, 0, 200, 183, 0, 9, 42, 8, 189, 0, 15, 89, 3, 18, 17, 83, 89]
abbrev dktX8_init_0 : List UInt8 := dkwX8_init_0 ++ dktX8_init_1
theorem dksX8_init_0 : cX8_init.data.toList.drop 0 = dktX8_init_0 := by decide +kernel
theorem dksX8_init_1 : cX8_init.data.toList.drop 24 = dktX8_init_1 := dk_seg dksX8_init_0 24 rfl rfl
theorem dksX8_init_2 : cX8_init.data.toList.drop 48 = dktX8_init_2 := dk_seg dksX8_init_1 24 rfl rfl
theorem dksX8_init_3 : cX8_init.data.toList.drop 71 = dktX8_init_3 := dk_seg dksX8_init_2 23 rfl rfl
theorem dX8_init_0 : decode cX8_init 0 = .ok (.aload_n 0, 1) := dk_42 (dk_at dksX8_init_0 0 rfl rfl)
theorem dX8_init_1 : decode cX8_init 1 = .ok (.aload_n 1, 1) := dk_43 (dk_at dksX8_init_0 1 rfl rfl)
theorem dX8_init_2 : decode cX8_init 2 = .ok (.putfield 3, 3) := dk_181 0 3 (dk_at dksX8_init_0 2 rfl rfl)
theorem dX8_init_5 : decode cX8_init 5 = .ok (.aload_n 0, 1) := dk_42 (dk_at dksX8_init_0 5 rfl rfl)
theorem dX8_init_6 : decode cX8_init 6 = .ok (.aload_n 1, 1) := dk_43 (dk_at dksX8_init_0 6 rfl rfl)
theorem dX8_init_7 : decode cX8_init 7 = .ok (.sipush 200, 3) := dk_17 0 200 (dk_at dksX8_init_0 7 rfl rfl)
theorem dX8_init_10 : decode cX8_init 10 = .ok (.invokespecial 9, 3) := dk_183 0 9 (dk_at dksX8_init_0 10 rfl rfl)
theorem dX8_init_13 : decode cX8_init 13 = .ok (.aload_n 0, 1) := dk_42 (dk_at dksX8_init_0 13 rfl rfl)
theorem dX8_init_14 : decode cX8_init 14 = .ok (.iconst 5, 1) := dk_8 (dk_at dksX8_init_0 14 rfl rfl)
theorem dX8_init_15 : decode cX8_init 15 = .ok (.anewarray 15, 3) := dk_189 0 15 (dk_at dksX8_init_0 15 rfl rfl)
theorem dX8_init_18 : decode cX8_init 18 = .ok (.dup, 1) := dk_89 (dk_at dksX8_init_0 18 rfl rfl)
theorem dX8_init_19 : decode cX8_init 19 = .ok (.iconst 0, 1) := dk_3 (dk_at dksX8_init_0 19 rfl rfl)
theorem dX8_init_20 : decode cX8_init 20 = .ok (.ldc 17, 2) := dk_18 17 (dk_at dksX8_init_0 20 rfl rfl)
theorem dX8_init_22 : decode cX8_init 22 = .ok (.aastore, 1) := dk_83 (dk_at dksX8_init_0 22 rfl rfl)
theorem dX8_init_23 : decode cX8_init 23 = .ok (.dup, 1) := dk_89 (dk_at dksX8_init_0 23 rfl rfl)
theorem dX8_init_24 : decode cX8_init 24 = .ok (.iconst 1, 1) := dk_4 (dk_at dksX8_init_1 0 rfl rfl)
theorem dX8_init_25 : decode cX8_init 25 = .ok (.ldc 19, 2) := dk_18 19 (dk_at dksX8_init_1 1 rfl rfl)
theorem dX8_init_27 : decode cX8_init 27 = .ok (.aastore, 1) := dk_83 (dk_at dksX8_init_1 3 rfl rfl)
theorem dX8_init_28 : decode cX8_init 28 = .ok (.dup, 1) := dk_89 (dk_at dksX8_init_1 4 rfl rfl)
theorem dX8_init_29 : decode cX8_init 29 = .ok (.iconst 2, 1) := dk_5 (dk_at dksX8_init_1 5 rfl rfl)
theorem dX8_init_30 : decode cX8_init 30 = .ok (.ldc 21, 2) := dk_18 21 (dk_at dksX8_init_1 6 rfl rfl)
theorem dX8_init_32 : decode cX8_init 32 = .ok (.aastore, 1) := dk_83 (dk_at dksX8_init_1 8 rfl rfl)
theorem dX8_init_33 : decode cX8_init 33 = .ok (.dup, 1) := dk_89 (dk_at dksX8_init_1 9 rfl rfl)
theorem dX8_init_34 : decode cX8_init 34 = .ok (.iconst 3, 1) := dk_6 (dk_at dksX8_init_1 10 rfl rfl)
theorem dX8_init_35 : decode cX8_init 35 = .ok (.ldc 23, 2) := dk_18 23 (dk_at dksX8_init_1 11 rfl rfl)
theorem dX8_init_37 : decode cX8_init 37 = .ok (.aastore, 1) := dk_83 (dk_at dksX8_init_1 13 rfl rfl)
theorem dX8_init_38 : decode cX8_init 38 = .ok (.dup, 1) := dk_89 (dk_at dksX8_init_1 14 rfl rfl)
theorem dX8_init_39 : decode cX8_init 39 = .ok (.iconst 4, 1) := dk_7 (dk_at dksX8_init_1 15 rfl rfl)
theorem dX8_init_40 : decode cX8_init 40 = .ok (.ldc 25, 2) := dk_18 25 (dk_at dksX8_init_1 16 rfl rfl)
theorem dX8_init_42 : decode cX8_init 42 = .ok (.aastore, 1) := dk_83 (dk_at dksX8_init_1 18 rfl rfl)
theorem dX8_init_43 : decode cX8_init 43 = .ok (.putfield 27, 3) := dk_181 0 27 (dk_at dksX8_init_1 19 rfl rfl)
theorem dX8_init_46 : decode cX8_init 46 = .ok (.aload_n 0, 1) := dk_42 (dk_at dksX8_init_1 22 rfl rfl)
theorem dX8_init_47 : decode cX8_init 47 = .ok (.iconst 4, 1) := dk_7 (dk_at dksX8_init_1 23 rfl rfl)
theorem dX8_init_48 : decode cX8_init 48 = .ok (.anewarray 15, 3) := dk_189 0 15 (dk_at dksX8_init_2 0 rfl rfl)
theorem dX8_init_51 : decode cX8_init 51 = .ok (.dup, 1) := dk_89 (dk_at dksX8_init_2 3 rfl rfl)
theorem dX8_init_52 : decode cX8_init 52 = .ok (.iconst 0, 1) := dk_3 (dk_at dksX8_init_2 4 rfl rfl)
theorem dX8_init_53 : decode cX8_init 53 = .ok (.ldc 31, 2) := dk_18 31 (dk_at dksX8_init_2 5 rfl rfl)
theorem dX8_init_55 : decode cX8_init 55 = .ok (.aastore, 1) := dk_83 (dk_at dksX8_init_2 7 rfl rfl)
theorem dX8_init_56 : decode cX8_init 56 = .ok (.dup, 1) := dk_89 (dk_at dksX8_init_2 8 rfl rfl)
theorem dX8_init_57 : decode cX8_init 57 = .ok (.iconst 1, 1) := dk_4 (dk_at dksX8_init_2 9 rfl rfl)
theorem dX8_init_58 : decode cX8_init 58 = .ok (.ldc 33, 2) := dk_18 33 (dk_at dksX8_init_2 10 rfl rfl)
theorem dX8_init_60 : decode cX8_init 60 = .ok (.aastore, 1) := dk_83 (dk_at dksX8_init_2 12 rfl rfl)
theorem dX8_init_61 : decode cX8_init 61 = .ok (.dup, 1) := dk_89 (dk_at dksX8_init_2 13 rfl rfl)
theorem dX8_init_62 : decode cX8_init 62 = .ok (.iconst 2, 1) := dk_5 (dk_at dksX8_init_2 14 rfl rfl)
theorem dX8_init_63 : decode cX8_init 63 = .ok (.ldc 35, 2) := dk_18 35 (dk_at dksX8_init_2 15 rfl rfl)
theorem dX8_init_65 : decode cX8_init 65 = .ok (.aastore, 1) := dk_83 (dk_at dksX8_init_2 17 rfl rfl)
theorem dX8_init_66 : decode cX8_init 66 = .ok (.dup, 1) := dk_89 (dk_at dksX8_init_2 18 rfl rfl)
theorem dX8_init_67 : decode cX8_init 67 = .ok (.iconst 3, 1) := dk_6 (dk_at dksX8_init_2 19 rfl rfl)
theorem dX8_init_68 : decode cX8_init 68 = .ok (.ldc 37, 2) := dk_18 37 (dk_at dksX8_init_2 20 rfl rfl)
theorem dX8_init_70 : decode cX8_init 70 = .ok (.aastore, 1) := dk_83 (dk_at dksX8_init_2 22 rfl rfl)
theorem dX8_init_71 : decode cX8_init 71 = .ok (.putfield 39, 3) := dk_181 0 39 (dk_at dksX8_init_3 0 rfl rfl)
theorem dX8_init_74 : decode cX8_init 74 = .ok (.return_, 1) := dk_177 (dk_at dksX8_init_3 3 rfl rfl)
abbrev cX8_read : ByteArray := prog_21_method_2_code
def yX8_read : MethodName := ⟨RX8, "read", "()LSecondHelpings$Cond;"⟩
def dkwX8_read_1 : List UInt8 := [167, 0, 4, 3, 4, 182, 0, 57, 43, 176]
abbrev dktX8_read_1 : List UInt8 := dkwX8_read_1 ++ []
def dkwX8_read_0 : List UInt8 := [42, 3, 181, 0, 42, 42, 182, 0, 46, 42, 4, 182, 0, 50, 76, 42, 42, 180, 0, 54, 154, 0, 7, 4]
abbrev dktX8_read_0 : List UInt8 := dkwX8_read_0 ++ dktX8_read_1
theorem dksX8_read_0 : cX8_read.data.toList.drop 0 = dktX8_read_0 := by decide +kernel
theorem dksX8_read_1 : cX8_read.data.toList.drop 24 = dktX8_read_1 := dk_seg dksX8_read_0 24 rfl rfl
theorem dX8_read_0 : decode cX8_read 0 = .ok (.aload_n 0, 1) := dk_42 (dk_at dksX8_read_0 0 rfl rfl)
theorem dX8_read_1 : decode cX8_read 1 = .ok (.iconst 0, 1) := dk_3 (dk_at dksX8_read_0 1 rfl rfl)
theorem dX8_read_2 : decode cX8_read 2 = .ok (.putfield 42, 3) := dk_181 0 42 (dk_at dksX8_read_0 2 rfl rfl)
theorem dX8_read_5 : decode cX8_read 5 = .ok (.aload_n 0, 1) := dk_42 (dk_at dksX8_read_0 5 rfl rfl)
theorem dX8_read_6 : decode cX8_read 6 = .ok (.invokevirtual 46, 3) := dk_182 0 46 (dk_at dksX8_read_0 6 rfl rfl)
theorem dX8_read_9 : decode cX8_read 9 = .ok (.aload_n 0, 1) := dk_42 (dk_at dksX8_read_0 9 rfl rfl)
theorem dX8_read_10 : decode cX8_read 10 = .ok (.iconst 1, 1) := dk_4 (dk_at dksX8_read_0 10 rfl rfl)
theorem dX8_read_11 : decode cX8_read 11 = .ok (.invokevirtual 50, 3) := dk_182 0 50 (dk_at dksX8_read_0 11 rfl rfl)
theorem dX8_read_14 : decode cX8_read 14 = .ok (.astore_n 1, 1) := dk_76 (dk_at dksX8_read_0 14 rfl rfl)
theorem dX8_read_15 : decode cX8_read 15 = .ok (.aload_n 0, 1) := dk_42 (dk_at dksX8_read_0 15 rfl rfl)
theorem dX8_read_16 : decode cX8_read 16 = .ok (.aload_n 0, 1) := dk_42 (dk_at dksX8_read_0 16 rfl rfl)
theorem dX8_read_17 : decode cX8_read 17 = .ok (.getfield 54, 3) := dk_180 0 54 (dk_at dksX8_read_0 17 rfl rfl)
theorem dX8_read_20 : decode cX8_read 20 = .ok (.ifCond .ne 7, 3) := dk_154 0 7 (dk_at dksX8_read_0 20 rfl rfl)
theorem dX8_read_23 : decode cX8_read 23 = .ok (.iconst 1, 1) := dk_4 (dk_at dksX8_read_0 23 rfl rfl)
theorem dX8_read_24 : decode cX8_read 24 = .ok (.goto 4, 3) := dk_167 0 4 (dk_at dksX8_read_1 0 rfl rfl)
theorem dX8_read_27 : decode cX8_read 27 = .ok (.iconst 0, 1) := dk_3 (dk_at dksX8_read_1 3 rfl rfl)
theorem dX8_read_28 : decode cX8_read 28 = .ok (.iconst 1, 1) := dk_4 (dk_at dksX8_read_1 4 rfl rfl)
theorem dX8_read_29 : decode cX8_read 29 = .ok (.invokevirtual 57, 3) := dk_182 0 57 (dk_at dksX8_read_1 5 rfl rfl)
theorem dX8_read_32 : decode cX8_read 32 = .ok (.aload_n 1, 1) := dk_43 (dk_at dksX8_read_1 8 rfl rfl)
theorem dX8_read_33 : decode cX8_read 33 = .ok (.areturn, 1) := dk_176 (dk_at dksX8_read_1 9 rfl rfl)
abbrev cX8_any : ByteArray := prog_21_method_3_code
def yX8_any : MethodName := ⟨RX8, "any", "(I)LSecondHelpings$Cond;"⟩
def dkwX8_any_1 : List UInt8 := [42, 27, 182, 0, 61, 183, 0, 75, 77, 167, 255, 229, 44, 176]
abbrev dktX8_any_1 : List UInt8 := dkwX8_any_1 ++ []
def dkwX8_any_0 : List UInt8 := [42, 27, 182, 0, 61, 77, 42, 18, 64, 182, 0, 66, 153, 0, 24, 42, 182, 0, 70, 187, 0, 73, 89, 44]
abbrev dktX8_any_0 : List UInt8 := dkwX8_any_0 ++ dktX8_any_1
theorem dksX8_any_0 : cX8_any.data.toList.drop 0 = dktX8_any_0 := by decide +kernel
theorem dksX8_any_1 : cX8_any.data.toList.drop 24 = dktX8_any_1 := dk_seg dksX8_any_0 24 rfl rfl
theorem dX8_any_0 : decode cX8_any 0 = .ok (.aload_n 0, 1) := dk_42 (dk_at dksX8_any_0 0 rfl rfl)
theorem dX8_any_1 : decode cX8_any 1 = .ok (.iload_n 1, 1) := dk_27 (dk_at dksX8_any_0 1 rfl rfl)
theorem dX8_any_2 : decode cX8_any 2 = .ok (.invokevirtual 61, 3) := dk_182 0 61 (dk_at dksX8_any_0 2 rfl rfl)
theorem dX8_any_5 : decode cX8_any 5 = .ok (.astore_n 2, 1) := dk_77 (dk_at dksX8_any_0 5 rfl rfl)
theorem dX8_any_6 : decode cX8_any 6 = .ok (.aload_n 0, 1) := dk_42 (dk_at dksX8_any_0 6 rfl rfl)
theorem dX8_any_7 : decode cX8_any 7 = .ok (.ldc 64, 2) := dk_18 64 (dk_at dksX8_any_0 7 rfl rfl)
theorem dX8_any_9 : decode cX8_any 9 = .ok (.invokevirtual 66, 3) := dk_182 0 66 (dk_at dksX8_any_0 9 rfl rfl)
theorem dX8_any_12 : decode cX8_any 12 = .ok (.ifCond .eq 24, 3) := dk_153 0 24 (dk_at dksX8_any_0 12 rfl rfl)
theorem dX8_any_15 : decode cX8_any 15 = .ok (.aload_n 0, 1) := dk_42 (dk_at dksX8_any_0 15 rfl rfl)
theorem dX8_any_16 : decode cX8_any 16 = .ok (.invokevirtual 70, 3) := dk_182 0 70 (dk_at dksX8_any_0 16 rfl rfl)
theorem dX8_any_19 : decode cX8_any 19 = .ok (.new 73, 3) := dk_187 0 73 (dk_at dksX8_any_0 19 rfl rfl)
theorem dX8_any_22 : decode cX8_any 22 = .ok (.dup, 1) := dk_89 (dk_at dksX8_any_0 22 rfl rfl)
theorem dX8_any_23 : decode cX8_any 23 = .ok (.aload_n 2, 1) := dk_44 (dk_at dksX8_any_0 23 rfl rfl)
theorem dX8_any_24 : decode cX8_any 24 = .ok (.aload_n 0, 1) := dk_42 (dk_at dksX8_any_1 0 rfl rfl)
theorem dX8_any_25 : decode cX8_any 25 = .ok (.iload_n 1, 1) := dk_27 (dk_at dksX8_any_1 1 rfl rfl)
theorem dX8_any_26 : decode cX8_any 26 = .ok (.invokevirtual 61, 3) := dk_182 0 61 (dk_at dksX8_any_1 2 rfl rfl)
theorem dX8_any_29 : decode cX8_any 29 = .ok (.invokespecial 75, 3) := dk_183 0 75 (dk_at dksX8_any_1 5 rfl rfl)
theorem dX8_any_32 : decode cX8_any 32 = .ok (.astore_n 2, 1) := dk_77 (dk_at dksX8_any_1 8 rfl rfl)
theorem dX8_any_33 : decode cX8_any 33 = .ok (.goto (-27), 3) := dk_167 255 229 (dk_at dksX8_any_1 9 rfl rfl)
theorem dX8_any_36 : decode cX8_any 36 = .ok (.aload_n 2, 1) := dk_44 (dk_at dksX8_any_1 12 rfl rfl)
theorem dX8_any_37 : decode cX8_any 37 = .ok (.areturn, 1) := dk_176 (dk_at dksX8_any_1 13 rfl rfl)
abbrev cX8_both : ByteArray := prog_21_method_4_code
def yX8_both : MethodName := ⟨RX8, "both", "(I)LSecondHelpings$Cond;"⟩
def dkwX8_both_1 : List UInt8 := [42, 27, 182, 0, 78, 183, 0, 85, 77, 167, 255, 229, 44, 176]
abbrev dktX8_both_1 : List UInt8 := dkwX8_both_1 ++ []
def dkwX8_both_0 : List UInt8 := [42, 27, 182, 0, 78, 77, 42, 18, 81, 182, 0, 66, 153, 0, 24, 42, 182, 0, 70, 187, 0, 83, 89, 44]
abbrev dktX8_both_0 : List UInt8 := dkwX8_both_0 ++ dktX8_both_1
theorem dksX8_both_0 : cX8_both.data.toList.drop 0 = dktX8_both_0 := by decide +kernel
theorem dksX8_both_1 : cX8_both.data.toList.drop 24 = dktX8_both_1 := dk_seg dksX8_both_0 24 rfl rfl
theorem dX8_both_0 : decode cX8_both 0 = .ok (.aload_n 0, 1) := dk_42 (dk_at dksX8_both_0 0 rfl rfl)
theorem dX8_both_1 : decode cX8_both 1 = .ok (.iload_n 1, 1) := dk_27 (dk_at dksX8_both_0 1 rfl rfl)
theorem dX8_both_2 : decode cX8_both 2 = .ok (.invokevirtual 78, 3) := dk_182 0 78 (dk_at dksX8_both_0 2 rfl rfl)
theorem dX8_both_5 : decode cX8_both 5 = .ok (.astore_n 2, 1) := dk_77 (dk_at dksX8_both_0 5 rfl rfl)
theorem dX8_both_6 : decode cX8_both 6 = .ok (.aload_n 0, 1) := dk_42 (dk_at dksX8_both_0 6 rfl rfl)
theorem dX8_both_7 : decode cX8_both 7 = .ok (.ldc 81, 2) := dk_18 81 (dk_at dksX8_both_0 7 rfl rfl)
theorem dX8_both_9 : decode cX8_both 9 = .ok (.invokevirtual 66, 3) := dk_182 0 66 (dk_at dksX8_both_0 9 rfl rfl)
theorem dX8_both_12 : decode cX8_both 12 = .ok (.ifCond .eq 24, 3) := dk_153 0 24 (dk_at dksX8_both_0 12 rfl rfl)
theorem dX8_both_15 : decode cX8_both 15 = .ok (.aload_n 0, 1) := dk_42 (dk_at dksX8_both_0 15 rfl rfl)
theorem dX8_both_16 : decode cX8_both 16 = .ok (.invokevirtual 70, 3) := dk_182 0 70 (dk_at dksX8_both_0 16 rfl rfl)
theorem dX8_both_19 : decode cX8_both 19 = .ok (.new 83, 3) := dk_187 0 83 (dk_at dksX8_both_0 19 rfl rfl)
theorem dX8_both_22 : decode cX8_both 22 = .ok (.dup, 1) := dk_89 (dk_at dksX8_both_0 22 rfl rfl)
theorem dX8_both_23 : decode cX8_both 23 = .ok (.aload_n 2, 1) := dk_44 (dk_at dksX8_both_0 23 rfl rfl)
theorem dX8_both_24 : decode cX8_both 24 = .ok (.aload_n 0, 1) := dk_42 (dk_at dksX8_both_1 0 rfl rfl)
theorem dX8_both_25 : decode cX8_both 25 = .ok (.iload_n 1, 1) := dk_27 (dk_at dksX8_both_1 1 rfl rfl)
theorem dX8_both_26 : decode cX8_both 26 = .ok (.invokevirtual 78, 3) := dk_182 0 78 (dk_at dksX8_both_1 2 rfl rfl)
theorem dX8_both_29 : decode cX8_both 29 = .ok (.invokespecial 85, 3) := dk_183 0 85 (dk_at dksX8_both_1 5 rfl rfl)
theorem dX8_both_32 : decode cX8_both 32 = .ok (.astore_n 2, 1) := dk_77 (dk_at dksX8_both_1 8 rfl rfl)
theorem dX8_both_33 : decode cX8_both 33 = .ok (.goto (-27), 3) := dk_167 255 229 (dk_at dksX8_both_1 9 rfl rfl)
theorem dX8_both_36 : decode cX8_both 36 = .ok (.aload_n 2, 1) := dk_44 (dk_at dksX8_both_1 12 rfl rfl)
theorem dX8_both_37 : decode cX8_both 37 = .ok (.areturn, 1) := dk_176 (dk_at dksX8_both_1 13 rfl rfl)
abbrev cX8_single : ByteArray := prog_21_method_5_code
def yX8_single : MethodName := ⟨RX8, "single", "(I)LSecondHelpings$Cond;"⟩
def dkwX8_single_13 : List UInt8 := [187, 0, 135, 89, 21, 5, 21, 6, 21, 7, 183, 0, 137, 176]
abbrev dktX8_single_13 : List UInt8 := dkwX8_single_13 ++ []
def dkwX8_single_12 : List UInt8 := [5, 160, 0, 7, 4, 167, 0, 4, 3, 4, 182, 0, 57, 42, 180, 0, 132, 54, 7, 42, 182, 0, 70]
abbrev dktX8_single_12 : List UInt8 := dkwX8_single_12 ++ dktX8_single_13
def dkwX8_single_11 : List UInt8 := [4, 167, 0, 4, 3, 4, 182, 0, 57, 42, 180, 0, 132, 54, 6, 42, 182, 0, 70, 42, 42, 180, 0, 54]
abbrev dktX8_single_11 : List UInt8 := dkwX8_single_11 ++ dktX8_single_12
def dkwX8_single_10 : List UInt8 := [182, 0, 88, 154, 0, 21, 42, 16, 61, 182, 0, 88, 154, 0, 12, 42, 16, 62, 182, 0, 88, 153, 0, 7]
abbrev dktX8_single_10 : List UInt8 := dkwX8_single_10 ++ dktX8_single_11
def dkwX8_single_9 : List UInt8 := [180, 0, 123, 42, 180, 0, 3, 180, 0, 106, 180, 0, 126, 182, 0, 119, 183, 0, 129, 176, 42, 42, 16, 60]
abbrev dktX8_single_9 : List UInt8 := dkwX8_single_9 ++ dktX8_single_10
def dkwX8_single_8 : List UInt8 := [180, 0, 3, 180, 0, 106, 180, 0, 116, 182, 0, 119, 167, 0, 27, 42, 42, 180, 0, 3, 180, 0, 106]
abbrev dktX8_single_8 : List UInt8 := dkwX8_single_8 ++ dktX8_single_9
def dkwX8_single_7 : List UInt8 := [2, 167, 0, 60, 21, 4, 6, 160, 0, 30, 42, 42, 180, 0, 3, 180, 0, 106, 180, 0, 110, 42]
abbrev dktX8_single_7 : List UInt8 := dkwX8_single_7 ++ dktX8_single_8
def dkwX8_single_6 : List UInt8 := [182, 0, 100, 25, 6, 176, 21, 4, 2, 159, 0, 80, 187, 0, 104, 89, 21, 4, 21, 4, 6, 162, 0, 7]
abbrev dktX8_single_6 : List UInt8 := dkwX8_single_6 ++ dktX8_single_7
def dkwX8_single_5 : List UInt8 := [182, 0, 78, 183, 0, 97, 176, 29, 153, 0, 21, 42, 27, 4, 96, 182, 0, 50, 58, 6, 42, 16, 41]
abbrev dktX8_single_5 : List UInt8 := dkwX8_single_5 ++ dktX8_single_6
def dkwX8_single_4 : List UInt8 := [180, 0, 42, 4, 96, 181, 0, 42, 42, 182, 0, 70, 28, 153, 0, 18, 187, 0, 95, 89, 42, 27, 4, 96]
abbrev dktX8_single_4 : List UInt8 := dkwX8_single_4 ++ dktX8_single_5
def dkwX8_single_3 : List UInt8 := [16, 20, 162, 0, 13, 27, 16, 8, 163, 0, 7, 4, 167, 0, 4, 3, 7, 182, 0, 57, 42, 89]
abbrev dktX8_single_3 : List UInt8 := dkwX8_single_3 ++ dktX8_single_4
def dkwX8_single_2 : List UInt8 := [160, 0, 9, 21, 5, 2, 159, 0, 7, 4, 167, 0, 4, 3, 4, 182, 0, 57, 42, 42, 180, 0, 42]
abbrev dktX8_single_2 : List UInt8 := dkwX8_single_2 ++ dktX8_single_3
def dkwX8_single_1 : List UInt8 := [42, 42, 180, 0, 39, 182, 0, 91, 54, 5, 42, 28, 154, 0, 19, 29, 154, 0, 15, 21, 4, 2]
abbrev dktX8_single_1 : List UInt8 := dkwX8_single_1 ++ dktX8_single_2
def dkwX8_single_0 : List UInt8 := [42, 18, 86, 182, 0, 66, 61, 42, 16, 40, 182, 0, 88, 62, 42, 42, 180, 0, 27, 182, 0, 91, 54, 4]
abbrev dktX8_single_0 : List UInt8 := dkwX8_single_0 ++ dktX8_single_1
theorem dksX8_single_0 : cX8_single.data.toList.drop 0 = dktX8_single_0 := by decide +kernel
theorem dksX8_single_1 : cX8_single.data.toList.drop 24 = dktX8_single_1 := dk_seg dksX8_single_0 24 rfl rfl
theorem dksX8_single_2 : cX8_single.data.toList.drop 46 = dktX8_single_2 := dk_seg dksX8_single_1 22 rfl rfl
theorem dksX8_single_3 : cX8_single.data.toList.drop 69 = dktX8_single_3 := dk_seg dksX8_single_2 23 rfl rfl
theorem dksX8_single_4 : cX8_single.data.toList.drop 91 = dktX8_single_4 := dk_seg dksX8_single_3 22 rfl rfl
theorem dksX8_single_5 : cX8_single.data.toList.drop 115 = dktX8_single_5 := dk_seg dksX8_single_4 24 rfl rfl
theorem dksX8_single_6 : cX8_single.data.toList.drop 138 = dktX8_single_6 := dk_seg dksX8_single_5 23 rfl rfl
theorem dksX8_single_7 : cX8_single.data.toList.drop 162 = dktX8_single_7 := dk_seg dksX8_single_6 24 rfl rfl
theorem dksX8_single_8 : cX8_single.data.toList.drop 184 = dktX8_single_8 := dk_seg dksX8_single_7 22 rfl rfl
theorem dksX8_single_9 : cX8_single.data.toList.drop 207 = dktX8_single_9 := dk_seg dksX8_single_8 23 rfl rfl
theorem dksX8_single_10 : cX8_single.data.toList.drop 231 = dktX8_single_10 := dk_seg dksX8_single_9 24 rfl rfl
theorem dksX8_single_11 : cX8_single.data.toList.drop 255 = dktX8_single_11 := dk_seg dksX8_single_10 24 rfl rfl
theorem dksX8_single_12 : cX8_single.data.toList.drop 279 = dktX8_single_12 := dk_seg dksX8_single_11 24 rfl rfl
theorem dksX8_single_13 : cX8_single.data.toList.drop 302 = dktX8_single_13 := dk_seg dksX8_single_12 23 rfl rfl
theorem dX8_single_0 : decode cX8_single 0 = .ok (.aload_n 0, 1) := dk_42 (dk_at dksX8_single_0 0 rfl rfl)
theorem dX8_single_1 : decode cX8_single 1 = .ok (.ldc 86, 2) := dk_18 86 (dk_at dksX8_single_0 1 rfl rfl)
theorem dX8_single_3 : decode cX8_single 3 = .ok (.invokevirtual 66, 3) := dk_182 0 66 (dk_at dksX8_single_0 3 rfl rfl)
theorem dX8_single_6 : decode cX8_single 6 = .ok (.istore_n 2, 1) := dk_61 (dk_at dksX8_single_0 6 rfl rfl)
theorem dX8_single_7 : decode cX8_single 7 = .ok (.aload_n 0, 1) := dk_42 (dk_at dksX8_single_0 7 rfl rfl)
theorem dX8_single_8 : decode cX8_single 8 = .ok (.bipush 40, 2) := dk_16 40 (dk_at dksX8_single_0 8 rfl rfl)
theorem dX8_single_10 : decode cX8_single 10 = .ok (.invokevirtual 88, 3) := dk_182 0 88 (dk_at dksX8_single_0 10 rfl rfl)
theorem dX8_single_13 : decode cX8_single 13 = .ok (.istore_n 3, 1) := dk_62 (dk_at dksX8_single_0 13 rfl rfl)
theorem dX8_single_14 : decode cX8_single 14 = .ok (.aload_n 0, 1) := dk_42 (dk_at dksX8_single_0 14 rfl rfl)
theorem dX8_single_15 : decode cX8_single 15 = .ok (.aload_n 0, 1) := dk_42 (dk_at dksX8_single_0 15 rfl rfl)
theorem dX8_single_16 : decode cX8_single 16 = .ok (.getfield 27, 3) := dk_180 0 27 (dk_at dksX8_single_0 16 rfl rfl)
theorem dX8_single_19 : decode cX8_single 19 = .ok (.invokevirtual 91, 3) := dk_182 0 91 (dk_at dksX8_single_0 19 rfl rfl)
theorem dX8_single_22 : decode cX8_single 22 = .ok (.istore 4, 2) := dk_54 4 (dk_at dksX8_single_0 22 rfl rfl)
theorem dX8_single_24 : decode cX8_single 24 = .ok (.aload_n 0, 1) := dk_42 (dk_at dksX8_single_1 0 rfl rfl)
theorem dX8_single_25 : decode cX8_single 25 = .ok (.aload_n 0, 1) := dk_42 (dk_at dksX8_single_1 1 rfl rfl)
theorem dX8_single_26 : decode cX8_single 26 = .ok (.getfield 39, 3) := dk_180 0 39 (dk_at dksX8_single_1 2 rfl rfl)
theorem dX8_single_29 : decode cX8_single 29 = .ok (.invokevirtual 91, 3) := dk_182 0 91 (dk_at dksX8_single_1 5 rfl rfl)
theorem dX8_single_32 : decode cX8_single 32 = .ok (.istore 5, 2) := dk_54 5 (dk_at dksX8_single_1 8 rfl rfl)
theorem dX8_single_34 : decode cX8_single 34 = .ok (.aload_n 0, 1) := dk_42 (dk_at dksX8_single_1 10 rfl rfl)
theorem dX8_single_35 : decode cX8_single 35 = .ok (.iload_n 2, 1) := dk_28 (dk_at dksX8_single_1 11 rfl rfl)
theorem dX8_single_36 : decode cX8_single 36 = .ok (.ifCond .ne 19, 3) := dk_154 0 19 (dk_at dksX8_single_1 12 rfl rfl)
theorem dX8_single_39 : decode cX8_single 39 = .ok (.iload_n 3, 1) := dk_29 (dk_at dksX8_single_1 15 rfl rfl)
theorem dX8_single_40 : decode cX8_single 40 = .ok (.ifCond .ne 15, 3) := dk_154 0 15 (dk_at dksX8_single_1 16 rfl rfl)
theorem dX8_single_43 : decode cX8_single 43 = .ok (.iload 4, 2) := dk_21 4 (dk_at dksX8_single_1 19 rfl rfl)
theorem dX8_single_45 : decode cX8_single 45 = .ok (.iconst (-1), 1) := dk_2 (dk_at dksX8_single_1 21 rfl rfl)
theorem dX8_single_46 : decode cX8_single 46 = .ok (.if_icmp .ne 9, 3) := dk_160 0 9 (dk_at dksX8_single_2 0 rfl rfl)
theorem dX8_single_49 : decode cX8_single 49 = .ok (.iload 5, 2) := dk_21 5 (dk_at dksX8_single_2 3 rfl rfl)
theorem dX8_single_51 : decode cX8_single 51 = .ok (.iconst (-1), 1) := dk_2 (dk_at dksX8_single_2 5 rfl rfl)
theorem dX8_single_52 : decode cX8_single 52 = .ok (.if_icmp .eq 7, 3) := dk_159 0 7 (dk_at dksX8_single_2 6 rfl rfl)
theorem dX8_single_55 : decode cX8_single 55 = .ok (.iconst 1, 1) := dk_4 (dk_at dksX8_single_2 9 rfl rfl)
theorem dX8_single_56 : decode cX8_single 56 = .ok (.goto 4, 3) := dk_167 0 4 (dk_at dksX8_single_2 10 rfl rfl)
theorem dX8_single_59 : decode cX8_single 59 = .ok (.iconst 0, 1) := dk_3 (dk_at dksX8_single_2 13 rfl rfl)
theorem dX8_single_60 : decode cX8_single 60 = .ok (.iconst 1, 1) := dk_4 (dk_at dksX8_single_2 14 rfl rfl)
theorem dX8_single_61 : decode cX8_single 61 = .ok (.invokevirtual 57, 3) := dk_182 0 57 (dk_at dksX8_single_2 15 rfl rfl)
theorem dX8_single_64 : decode cX8_single 64 = .ok (.aload_n 0, 1) := dk_42 (dk_at dksX8_single_2 18 rfl rfl)
theorem dX8_single_65 : decode cX8_single 65 = .ok (.aload_n 0, 1) := dk_42 (dk_at dksX8_single_2 19 rfl rfl)
theorem dX8_single_66 : decode cX8_single 66 = .ok (.getfield 42, 3) := dk_180 0 42 (dk_at dksX8_single_2 20 rfl rfl)
theorem dX8_single_69 : decode cX8_single 69 = .ok (.bipush 20, 2) := dk_16 20 (dk_at dksX8_single_3 0 rfl rfl)
theorem dX8_single_71 : decode cX8_single 71 = .ok (.if_icmp .ge 13, 3) := dk_162 0 13 (dk_at dksX8_single_3 2 rfl rfl)
theorem dX8_single_74 : decode cX8_single 74 = .ok (.iload_n 1, 1) := dk_27 (dk_at dksX8_single_3 5 rfl rfl)
theorem dX8_single_75 : decode cX8_single 75 = .ok (.bipush 8, 2) := dk_16 8 (dk_at dksX8_single_3 6 rfl rfl)
theorem dX8_single_77 : decode cX8_single 77 = .ok (.if_icmp .gt 7, 3) := dk_163 0 7 (dk_at dksX8_single_3 8 rfl rfl)
theorem dX8_single_80 : decode cX8_single 80 = .ok (.iconst 1, 1) := dk_4 (dk_at dksX8_single_3 11 rfl rfl)
theorem dX8_single_81 : decode cX8_single 81 = .ok (.goto 4, 3) := dk_167 0 4 (dk_at dksX8_single_3 12 rfl rfl)
theorem dX8_single_84 : decode cX8_single 84 = .ok (.iconst 0, 1) := dk_3 (dk_at dksX8_single_3 15 rfl rfl)
theorem dX8_single_85 : decode cX8_single 85 = .ok (.iconst 4, 1) := dk_7 (dk_at dksX8_single_3 16 rfl rfl)
theorem dX8_single_86 : decode cX8_single 86 = .ok (.invokevirtual 57, 3) := dk_182 0 57 (dk_at dksX8_single_3 17 rfl rfl)
theorem dX8_single_89 : decode cX8_single 89 = .ok (.aload_n 0, 1) := dk_42 (dk_at dksX8_single_3 20 rfl rfl)
theorem dX8_single_90 : decode cX8_single 90 = .ok (.dup, 1) := dk_89 (dk_at dksX8_single_3 21 rfl rfl)
theorem dX8_single_91 : decode cX8_single 91 = .ok (.getfield 42, 3) := dk_180 0 42 (dk_at dksX8_single_4 0 rfl rfl)
theorem dX8_single_94 : decode cX8_single 94 = .ok (.iconst 1, 1) := dk_4 (dk_at dksX8_single_4 3 rfl rfl)
theorem dX8_single_95 : decode cX8_single 95 = .ok (.iadd, 1) := dk_96 (dk_at dksX8_single_4 4 rfl rfl)
theorem dX8_single_96 : decode cX8_single 96 = .ok (.putfield 42, 3) := dk_181 0 42 (dk_at dksX8_single_4 5 rfl rfl)
theorem dX8_single_99 : decode cX8_single 99 = .ok (.aload_n 0, 1) := dk_42 (dk_at dksX8_single_4 8 rfl rfl)
theorem dX8_single_100 : decode cX8_single 100 = .ok (.invokevirtual 70, 3) := dk_182 0 70 (dk_at dksX8_single_4 9 rfl rfl)
theorem dX8_single_103 : decode cX8_single 103 = .ok (.iload_n 2, 1) := dk_28 (dk_at dksX8_single_4 12 rfl rfl)
theorem dX8_single_104 : decode cX8_single 104 = .ok (.ifCond .eq 18, 3) := dk_153 0 18 (dk_at dksX8_single_4 13 rfl rfl)
theorem dX8_single_107 : decode cX8_single 107 = .ok (.new 95, 3) := dk_187 0 95 (dk_at dksX8_single_4 16 rfl rfl)
theorem dX8_single_110 : decode cX8_single 110 = .ok (.dup, 1) := dk_89 (dk_at dksX8_single_4 19 rfl rfl)
theorem dX8_single_111 : decode cX8_single 111 = .ok (.aload_n 0, 1) := dk_42 (dk_at dksX8_single_4 20 rfl rfl)
theorem dX8_single_112 : decode cX8_single 112 = .ok (.iload_n 1, 1) := dk_27 (dk_at dksX8_single_4 21 rfl rfl)
theorem dX8_single_113 : decode cX8_single 113 = .ok (.iconst 1, 1) := dk_4 (dk_at dksX8_single_4 22 rfl rfl)
theorem dX8_single_114 : decode cX8_single 114 = .ok (.iadd, 1) := dk_96 (dk_at dksX8_single_4 23 rfl rfl)
theorem dX8_single_115 : decode cX8_single 115 = .ok (.invokevirtual 78, 3) := dk_182 0 78 (dk_at dksX8_single_5 0 rfl rfl)
theorem dX8_single_118 : decode cX8_single 118 = .ok (.invokespecial 97, 3) := dk_183 0 97 (dk_at dksX8_single_5 3 rfl rfl)
theorem dX8_single_121 : decode cX8_single 121 = .ok (.areturn, 1) := dk_176 (dk_at dksX8_single_5 6 rfl rfl)
theorem dX8_single_122 : decode cX8_single 122 = .ok (.iload_n 3, 1) := dk_29 (dk_at dksX8_single_5 7 rfl rfl)
theorem dX8_single_123 : decode cX8_single 123 = .ok (.ifCond .eq 21, 3) := dk_153 0 21 (dk_at dksX8_single_5 8 rfl rfl)
theorem dX8_single_126 : decode cX8_single 126 = .ok (.aload_n 0, 1) := dk_42 (dk_at dksX8_single_5 11 rfl rfl)
theorem dX8_single_127 : decode cX8_single 127 = .ok (.iload_n 1, 1) := dk_27 (dk_at dksX8_single_5 12 rfl rfl)
theorem dX8_single_128 : decode cX8_single 128 = .ok (.iconst 1, 1) := dk_4 (dk_at dksX8_single_5 13 rfl rfl)
theorem dX8_single_129 : decode cX8_single 129 = .ok (.iadd, 1) := dk_96 (dk_at dksX8_single_5 14 rfl rfl)
theorem dX8_single_130 : decode cX8_single 130 = .ok (.invokevirtual 50, 3) := dk_182 0 50 (dk_at dksX8_single_5 15 rfl rfl)
theorem dX8_single_133 : decode cX8_single 133 = .ok (.astore 6, 2) := dk_58 6 (dk_at dksX8_single_5 18 rfl rfl)
theorem dX8_single_135 : decode cX8_single 135 = .ok (.aload_n 0, 1) := dk_42 (dk_at dksX8_single_5 20 rfl rfl)
theorem dX8_single_136 : decode cX8_single 136 = .ok (.bipush 41, 2) := dk_16 41 (dk_at dksX8_single_5 21 rfl rfl)
theorem dX8_single_138 : decode cX8_single 138 = .ok (.invokevirtual 100, 3) := dk_182 0 100 (dk_at dksX8_single_6 0 rfl rfl)
theorem dX8_single_141 : decode cX8_single 141 = .ok (.aload 6, 2) := dk_25 6 (dk_at dksX8_single_6 3 rfl rfl)
theorem dX8_single_143 : decode cX8_single 143 = .ok (.areturn, 1) := dk_176 (dk_at dksX8_single_6 5 rfl rfl)
theorem dX8_single_144 : decode cX8_single 144 = .ok (.iload 4, 2) := dk_21 4 (dk_at dksX8_single_6 6 rfl rfl)
theorem dX8_single_146 : decode cX8_single 146 = .ok (.iconst (-1), 1) := dk_2 (dk_at dksX8_single_6 8 rfl rfl)
theorem dX8_single_147 : decode cX8_single 147 = .ok (.if_icmp .eq 80, 3) := dk_159 0 80 (dk_at dksX8_single_6 9 rfl rfl)
theorem dX8_single_150 : decode cX8_single 150 = .ok (.new 104, 3) := dk_187 0 104 (dk_at dksX8_single_6 12 rfl rfl)
theorem dX8_single_153 : decode cX8_single 153 = .ok (.dup, 1) := dk_89 (dk_at dksX8_single_6 15 rfl rfl)
theorem dX8_single_154 : decode cX8_single 154 = .ok (.iload 4, 2) := dk_21 4 (dk_at dksX8_single_6 16 rfl rfl)
theorem dX8_single_156 : decode cX8_single 156 = .ok (.iload 4, 2) := dk_21 4 (dk_at dksX8_single_6 18 rfl rfl)
theorem dX8_single_158 : decode cX8_single 158 = .ok (.iconst 3, 1) := dk_6 (dk_at dksX8_single_6 20 rfl rfl)
theorem dX8_single_159 : decode cX8_single 159 = .ok (.if_icmp .ge 7, 3) := dk_162 0 7 (dk_at dksX8_single_6 21 rfl rfl)
theorem dX8_single_162 : decode cX8_single 162 = .ok (.iconst (-1), 1) := dk_2 (dk_at dksX8_single_7 0 rfl rfl)
theorem dX8_single_163 : decode cX8_single 163 = .ok (.goto 60, 3) := dk_167 0 60 (dk_at dksX8_single_7 1 rfl rfl)
theorem dX8_single_166 : decode cX8_single 166 = .ok (.iload 4, 2) := dk_21 4 (dk_at dksX8_single_7 4 rfl rfl)
theorem dX8_single_168 : decode cX8_single 168 = .ok (.iconst 3, 1) := dk_6 (dk_at dksX8_single_7 6 rfl rfl)
theorem dX8_single_169 : decode cX8_single 169 = .ok (.if_icmp .ne 30, 3) := dk_160 0 30 (dk_at dksX8_single_7 7 rfl rfl)
theorem dX8_single_172 : decode cX8_single 172 = .ok (.aload_n 0, 1) := dk_42 (dk_at dksX8_single_7 10 rfl rfl)
theorem dX8_single_173 : decode cX8_single 173 = .ok (.aload_n 0, 1) := dk_42 (dk_at dksX8_single_7 11 rfl rfl)
theorem dX8_single_174 : decode cX8_single 174 = .ok (.getfield 3, 3) := dk_180 0 3 (dk_at dksX8_single_7 12 rfl rfl)
theorem dX8_single_177 : decode cX8_single 177 = .ok (.getfield 106, 3) := dk_180 0 106 (dk_at dksX8_single_7 15 rfl rfl)
theorem dX8_single_180 : decode cX8_single 180 = .ok (.getfield 110, 3) := dk_180 0 110 (dk_at dksX8_single_7 18 rfl rfl)
theorem dX8_single_183 : decode cX8_single 183 = .ok (.aload_n 0, 1) := dk_42 (dk_at dksX8_single_7 21 rfl rfl)
theorem dX8_single_184 : decode cX8_single 184 = .ok (.getfield 3, 3) := dk_180 0 3 (dk_at dksX8_single_8 0 rfl rfl)
theorem dX8_single_187 : decode cX8_single 187 = .ok (.getfield 106, 3) := dk_180 0 106 (dk_at dksX8_single_8 3 rfl rfl)
theorem dX8_single_190 : decode cX8_single 190 = .ok (.getfield 116, 3) := dk_180 0 116 (dk_at dksX8_single_8 6 rfl rfl)
theorem dX8_single_193 : decode cX8_single 193 = .ok (.invokevirtual 119, 3) := dk_182 0 119 (dk_at dksX8_single_8 9 rfl rfl)
theorem dX8_single_196 : decode cX8_single 196 = .ok (.goto 27, 3) := dk_167 0 27 (dk_at dksX8_single_8 12 rfl rfl)
theorem dX8_single_199 : decode cX8_single 199 = .ok (.aload_n 0, 1) := dk_42 (dk_at dksX8_single_8 15 rfl rfl)
theorem dX8_single_200 : decode cX8_single 200 = .ok (.aload_n 0, 1) := dk_42 (dk_at dksX8_single_8 16 rfl rfl)
theorem dX8_single_201 : decode cX8_single 201 = .ok (.getfield 3, 3) := dk_180 0 3 (dk_at dksX8_single_8 17 rfl rfl)
theorem dX8_single_204 : decode cX8_single 204 = .ok (.getfield 106, 3) := dk_180 0 106 (dk_at dksX8_single_8 20 rfl rfl)
theorem dX8_single_207 : decode cX8_single 207 = .ok (.getfield 123, 3) := dk_180 0 123 (dk_at dksX8_single_9 0 rfl rfl)
theorem dX8_single_210 : decode cX8_single 210 = .ok (.aload_n 0, 1) := dk_42 (dk_at dksX8_single_9 3 rfl rfl)
theorem dX8_single_211 : decode cX8_single 211 = .ok (.getfield 3, 3) := dk_180 0 3 (dk_at dksX8_single_9 4 rfl rfl)
theorem dX8_single_214 : decode cX8_single 214 = .ok (.getfield 106, 3) := dk_180 0 106 (dk_at dksX8_single_9 7 rfl rfl)
theorem dX8_single_217 : decode cX8_single 217 = .ok (.getfield 126, 3) := dk_180 0 126 (dk_at dksX8_single_9 10 rfl rfl)
theorem dX8_single_220 : decode cX8_single 220 = .ok (.invokevirtual 119, 3) := dk_182 0 119 (dk_at dksX8_single_9 13 rfl rfl)
theorem dX8_single_223 : decode cX8_single 223 = .ok (.invokespecial 129, 3) := dk_183 0 129 (dk_at dksX8_single_9 16 rfl rfl)
theorem dX8_single_226 : decode cX8_single 226 = .ok (.areturn, 1) := dk_176 (dk_at dksX8_single_9 19 rfl rfl)
theorem dX8_single_227 : decode cX8_single 227 = .ok (.aload_n 0, 1) := dk_42 (dk_at dksX8_single_9 20 rfl rfl)
theorem dX8_single_228 : decode cX8_single 228 = .ok (.aload_n 0, 1) := dk_42 (dk_at dksX8_single_9 21 rfl rfl)
theorem dX8_single_229 : decode cX8_single 229 = .ok (.bipush 60, 2) := dk_16 60 (dk_at dksX8_single_9 22 rfl rfl)
theorem dX8_single_231 : decode cX8_single 231 = .ok (.invokevirtual 88, 3) := dk_182 0 88 (dk_at dksX8_single_10 0 rfl rfl)
theorem dX8_single_234 : decode cX8_single 234 = .ok (.ifCond .ne 21, 3) := dk_154 0 21 (dk_at dksX8_single_10 3 rfl rfl)
theorem dX8_single_237 : decode cX8_single 237 = .ok (.aload_n 0, 1) := dk_42 (dk_at dksX8_single_10 6 rfl rfl)
theorem dX8_single_238 : decode cX8_single 238 = .ok (.bipush 61, 2) := dk_16 61 (dk_at dksX8_single_10 7 rfl rfl)
theorem dX8_single_240 : decode cX8_single 240 = .ok (.invokevirtual 88, 3) := dk_182 0 88 (dk_at dksX8_single_10 9 rfl rfl)
theorem dX8_single_243 : decode cX8_single 243 = .ok (.ifCond .ne 12, 3) := dk_154 0 12 (dk_at dksX8_single_10 12 rfl rfl)
theorem dX8_single_246 : decode cX8_single 246 = .ok (.aload_n 0, 1) := dk_42 (dk_at dksX8_single_10 15 rfl rfl)
theorem dX8_single_247 : decode cX8_single 247 = .ok (.bipush 62, 2) := dk_16 62 (dk_at dksX8_single_10 16 rfl rfl)
theorem dX8_single_249 : decode cX8_single 249 = .ok (.invokevirtual 88, 3) := dk_182 0 88 (dk_at dksX8_single_10 18 rfl rfl)
theorem dX8_single_252 : decode cX8_single 252 = .ok (.ifCond .eq 7, 3) := dk_153 0 7 (dk_at dksX8_single_10 21 rfl rfl)
theorem dX8_single_255 : decode cX8_single 255 = .ok (.iconst 1, 1) := dk_4 (dk_at dksX8_single_11 0 rfl rfl)
theorem dX8_single_256 : decode cX8_single 256 = .ok (.goto 4, 3) := dk_167 0 4 (dk_at dksX8_single_11 1 rfl rfl)
theorem dX8_single_259 : decode cX8_single 259 = .ok (.iconst 0, 1) := dk_3 (dk_at dksX8_single_11 4 rfl rfl)
theorem dX8_single_260 : decode cX8_single 260 = .ok (.iconst 1, 1) := dk_4 (dk_at dksX8_single_11 5 rfl rfl)
theorem dX8_single_261 : decode cX8_single 261 = .ok (.invokevirtual 57, 3) := dk_182 0 57 (dk_at dksX8_single_11 6 rfl rfl)
theorem dX8_single_264 : decode cX8_single 264 = .ok (.aload_n 0, 1) := dk_42 (dk_at dksX8_single_11 9 rfl rfl)
theorem dX8_single_265 : decode cX8_single 265 = .ok (.getfield 132, 3) := dk_180 0 132 (dk_at dksX8_single_11 10 rfl rfl)
theorem dX8_single_268 : decode cX8_single 268 = .ok (.istore 6, 2) := dk_54 6 (dk_at dksX8_single_11 13 rfl rfl)
theorem dX8_single_270 : decode cX8_single 270 = .ok (.aload_n 0, 1) := dk_42 (dk_at dksX8_single_11 15 rfl rfl)
theorem dX8_single_271 : decode cX8_single 271 = .ok (.invokevirtual 70, 3) := dk_182 0 70 (dk_at dksX8_single_11 16 rfl rfl)
theorem dX8_single_274 : decode cX8_single 274 = .ok (.aload_n 0, 1) := dk_42 (dk_at dksX8_single_11 19 rfl rfl)
theorem dX8_single_275 : decode cX8_single 275 = .ok (.aload_n 0, 1) := dk_42 (dk_at dksX8_single_11 20 rfl rfl)
theorem dX8_single_276 : decode cX8_single 276 = .ok (.getfield 54, 3) := dk_180 0 54 (dk_at dksX8_single_11 21 rfl rfl)
theorem dX8_single_279 : decode cX8_single 279 = .ok (.iconst 2, 1) := dk_5 (dk_at dksX8_single_12 0 rfl rfl)
theorem dX8_single_280 : decode cX8_single 280 = .ok (.if_icmp .ne 7, 3) := dk_160 0 7 (dk_at dksX8_single_12 1 rfl rfl)
theorem dX8_single_283 : decode cX8_single 283 = .ok (.iconst 1, 1) := dk_4 (dk_at dksX8_single_12 4 rfl rfl)
theorem dX8_single_284 : decode cX8_single 284 = .ok (.goto 4, 3) := dk_167 0 4 (dk_at dksX8_single_12 5 rfl rfl)
theorem dX8_single_287 : decode cX8_single 287 = .ok (.iconst 0, 1) := dk_3 (dk_at dksX8_single_12 8 rfl rfl)
theorem dX8_single_288 : decode cX8_single 288 = .ok (.iconst 1, 1) := dk_4 (dk_at dksX8_single_12 9 rfl rfl)
theorem dX8_single_289 : decode cX8_single 289 = .ok (.invokevirtual 57, 3) := dk_182 0 57 (dk_at dksX8_single_12 10 rfl rfl)
theorem dX8_single_292 : decode cX8_single 292 = .ok (.aload_n 0, 1) := dk_42 (dk_at dksX8_single_12 13 rfl rfl)
theorem dX8_single_293 : decode cX8_single 293 = .ok (.getfield 132, 3) := dk_180 0 132 (dk_at dksX8_single_12 14 rfl rfl)
theorem dX8_single_296 : decode cX8_single 296 = .ok (.istore 7, 2) := dk_54 7 (dk_at dksX8_single_12 17 rfl rfl)
theorem dX8_single_298 : decode cX8_single 298 = .ok (.aload_n 0, 1) := dk_42 (dk_at dksX8_single_12 19 rfl rfl)
theorem dX8_single_299 : decode cX8_single 299 = .ok (.invokevirtual 70, 3) := dk_182 0 70 (dk_at dksX8_single_12 20 rfl rfl)
theorem dX8_single_302 : decode cX8_single 302 = .ok (.new 135, 3) := dk_187 0 135 (dk_at dksX8_single_13 0 rfl rfl)
theorem dX8_single_305 : decode cX8_single 305 = .ok (.dup, 1) := dk_89 (dk_at dksX8_single_13 3 rfl rfl)
theorem dX8_single_306 : decode cX8_single 306 = .ok (.iload 5, 2) := dk_21 5 (dk_at dksX8_single_13 4 rfl rfl)
theorem dX8_single_308 : decode cX8_single 308 = .ok (.iload 6, 2) := dk_21 6 (dk_at dksX8_single_13 6 rfl rfl)
theorem dX8_single_310 : decode cX8_single 310 = .ok (.iload 7, 2) := dk_21 7 (dk_at dksX8_single_13 8 rfl rfl)
theorem dX8_single_312 : decode cX8_single 312 = .ok (.invokespecial 137, 3) := dk_183 0 137 (dk_at dksX8_single_13 10 rfl rfl)
theorem dX8_single_315 : decode cX8_single 315 = .ok (.areturn, 1) := dk_176 (dk_at dksX8_single_13 13 rfl rfl)
theorem q105 : (Jvm.Cond.initialized "SecondHelpings$SentenceReader") ∈ lw_all := lw_g (lw_at lw_m1 12 rfl) rfl
theorem q246 : (Jvm.Cond.fieldLinkNest "SecondHelpings$SentenceReader" (110 : Nat) "SecondHelpings$Board" "personNames" "[J" "SecondHelpings") ∈ lw_tbl := lw_at lw_m1 153 rfl
theorem q251 : (Jvm.Cond.fieldLinkNest "SecondHelpings$SentenceReader" (123 : Nat) "SecondHelpings$Board" "dishNames" "[J" "SecondHelpings") ∈ lw_tbl := lw_at lw_m1 158 rfl
theorem q275 : (Jvm.Cond.fieldLinkNest "SecondHelpings$SentenceReader" (116 : Nat) "SecondHelpings$Board" "persons" "I" "SecondHelpings") ∈ lw_tbl := lw_at lw_m1 182 rfl
theorem q280 : (Jvm.Cond.fieldLinkNest "SecondHelpings$SentenceReader" (126 : Nat) "SecondHelpings$Board" "dishes" "I" "SecondHelpings") ∈ lw_tbl := lw_at lw_m1 187 rfl
theorem q394 : (Jvm.Cond.fieldLink "SecondHelpings$SentenceReader" (54 : Nat) "SecondHelpings$SentenceReader" "token" "I") ∈ lw_all := lw_g (lw_at lw_m2 61 rfl) rfl
theorem q395 : (Jvm.Cond.sameField "SecondHelpings$SentenceReader" "SecondHelpings$Reader" "token" "I") ∈ lw_all := lw_g (lw_at lw_m2 62 rfl) rfl
theorem q397 : (Jvm.Cond.fieldLink "SecondHelpings$SentenceReader" (132 : Nat) "SecondHelpings$SentenceReader" "value" "I") ∈ lw_all := lw_g (lw_at lw_m2 64 rfl) rfl
theorem q398 : (Jvm.Cond.sameField "SecondHelpings$SentenceReader" "SecondHelpings$Reader" "value" "I") ∈ lw_all := lw_g (lw_at lw_m2 65 rfl) rfl
theorem q468 : (Jvm.Cond.instantiable "SecondHelpings$SentenceReader" (12 : Nat)) ∈ lw_all := lw_g (lw_at lw_m2 135 rfl) rfl
theorem q470 : (Jvm.Cond.instanceMethod ({ cls := "SecondHelpings$SentenceReader", name := "<init>", desc := "(LSecondHelpings;)V" } : Jvm.MethodName)) ∈ lw_all := lw_g (lw_at lw_m2 137 rfl) rfl
theorem q471 : (Jvm.Cond.code ({ cls := "SecondHelpings$SentenceReader", name := "<init>", desc := "(LSecondHelpings;)V" } : Jvm.MethodName) prog_21_method_1_code (2 : Nat) (Option.none : Option Jvm.ClassFile.FieldType)) ∈ lw_all := lw_g (lw_at lw_m2 138 rfl) rfl
theorem q472 : (Jvm.Cond.methodLink "SecondHelpings$SentenceReader" (9 : Nat) ({ cls := "SecondHelpings$Reader", name := "<init>", desc := "(LSecondHelpings;I)V" } : Jvm.MethodName)) ∈ lw_all := lw_g (lw_at lw_m2 139 rfl) rfl
theorem q473 : (Jvm.Cond.classLink "SecondHelpings$SentenceReader" (15 : Nat) "java/lang/String") ∈ lw_all := lw_g (lw_at lw_m2 140 rfl) rfl
theorem q474 : (Jvm.Cond.stringRef "SecondHelpings$SentenceReader" (17 : Nat) "dead") ∈ lw_tbl := lw_at lw_m2 141 rfl
theorem q475 : (Jvm.Cond.stringRef "SecondHelpings$SentenceReader" (19 : Nat) "refused") ∈ lw_tbl := lw_at lw_m2 142 rfl
theorem q476 : (Jvm.Cond.stringRef "SecondHelpings$SentenceReader" (21 : Nat) "clean") ∈ lw_tbl := lw_at lw_m2 143 rfl
theorem q477 : (Jvm.Cond.stringRef "SecondHelpings$SentenceReader" (23 : Nat) "of") ∈ lw_tbl := lw_at lw_m2 144 rfl
theorem q478 : (Jvm.Cond.stringRef "SecondHelpings$SentenceReader" (25 : Nat) "has") ∈ lw_tbl := lw_at lw_m2 145 rfl
theorem q479 : (Jvm.Cond.stringRef "SecondHelpings$SentenceReader" (31 : Nat) "wants") ∈ lw_tbl := lw_at lw_m2 146 rfl
theorem q480 : (Jvm.Cond.stringRef "SecondHelpings$SentenceReader" (33 : Nat) "eaten") ∈ lw_tbl := lw_at lw_m2 147 rfl
theorem q481 : (Jvm.Cond.stringRef "SecondHelpings$SentenceReader" (35 : Nat) "hunger") ∈ lw_tbl := lw_at lw_m2 148 rfl
theorem q482 : (Jvm.Cond.stringRef "SecondHelpings$SentenceReader" (37 : Nat) "number") ∈ lw_tbl := lw_at lw_m2 149 rfl
theorem q483 : (Jvm.Cond.fieldLink "SecondHelpings$SentenceReader" (27 : Nat) "SecondHelpings$SentenceReader" "marks" "[Ljava/lang/String;") ∈ lw_all := lw_g (lw_at lw_m2 150 rfl) rfl
theorem q484 : (Jvm.Cond.fieldLink "SecondHelpings$SentenceReader" (39 : Nat) "SecondHelpings$SentenceReader" "counts" "[Ljava/lang/String;") ∈ lw_all := lw_g (lw_at lw_m2 151 rfl) rfl
theorem q485 : (Jvm.Cond.fieldLink "SecondHelpings$SentenceReader" (42 : Nat) "SecondHelpings$SentenceReader" "ones" "I") ∈ lw_all := lw_g (lw_at lw_m2 152 rfl) rfl
theorem q487 : (Jvm.Cond.fieldLink "SecondHelpings$SentenceReader" (3 : Nat) "SecondHelpings$SentenceReader" "this$0" "LSecondHelpings;") ∈ lw_all := lw_g (lw_at lw_m2 154 rfl) rfl
theorem q488 : (Jvm.Cond.laysFinal "SecondHelpings$SentenceReader" "SecondHelpings$SentenceReader" "marks" "[Ljava/lang/String;") ∈ lw_all := lw_g (lw_at lw_m2 155 rfl) rfl
theorem q489 : (Jvm.Cond.soleField "SecondHelpings$SentenceReader" "marks") ∈ lw_all := lw_g (lw_at lw_m2 156 rfl) rfl
theorem q490 : (Jvm.Cond.laysFinal "SecondHelpings$SentenceReader" "SecondHelpings$SentenceReader" "counts" "[Ljava/lang/String;") ∈ lw_all := lw_g (lw_at lw_m2 157 rfl) rfl
theorem q491 : (Jvm.Cond.soleField "SecondHelpings$SentenceReader" "counts") ∈ lw_all := lw_g (lw_at lw_m2 158 rfl) rfl
theorem q492 : (Jvm.Cond.lays "SecondHelpings$SentenceReader" "SecondHelpings$SentenceReader" "ones" "I") ∈ lw_all := lw_g (lw_at lw_m2 159 rfl) rfl
theorem q493 : (Jvm.Cond.soleField "SecondHelpings$SentenceReader" "ones") ∈ lw_all := lw_g (lw_at lw_m2 160 rfl) rfl
theorem q494 : (Jvm.Cond.laysFinal "SecondHelpings$SentenceReader" "SecondHelpings$SentenceReader" "this$0" "LSecondHelpings;") ∈ lw_all := lw_g (lw_at lw_m2 161 rfl) rfl
theorem q495 : (Jvm.Cond.soleField "SecondHelpings$SentenceReader" "this$0") ∈ lw_all := lw_g (lw_at lw_m2 162 rfl) rfl
theorem q496 : (Jvm.Cond.laysFinal "SecondHelpings$SentenceReader" "SecondHelpings$Reader" "most" "I") ∈ lw_all := lw_g (lw_at lw_m2 163 rfl) rfl
theorem q497 : (Jvm.Cond.lays "SecondHelpings$SentenceReader" "SecondHelpings$Reader" "p" "I") ∈ lw_all := lw_g (lw_at lw_m2 164 rfl) rfl
theorem q498 : (Jvm.Cond.lays "SecondHelpings$SentenceReader" "SecondHelpings$Reader" "at" "I") ∈ lw_all := lw_g (lw_at lw_m2 165 rfl) rfl
theorem q499 : (Jvm.Cond.lays "SecondHelpings$SentenceReader" "SecondHelpings$Reader" "token" "I") ∈ lw_all := lw_g (lw_at lw_m2 166 rfl) rfl
theorem q500 : (Jvm.Cond.lays "SecondHelpings$SentenceReader" "SecondHelpings$Reader" "value" "I") ∈ lw_all := lw_g (lw_at lw_m2 167 rfl) rfl
theorem q501 : (Jvm.Cond.lays "SecondHelpings$SentenceReader" "SecondHelpings$Reader" "many" "I") ∈ lw_all := lw_g (lw_at lw_m2 168 rfl) rfl
theorem q502 : (Jvm.Cond.lays "SecondHelpings$SentenceReader" "SecondHelpings$Reader" "name" "J") ∈ lw_all := lw_g (lw_at lw_m2 169 rfl) rfl
theorem q503 : (Jvm.Cond.laysFinal "SecondHelpings$SentenceReader" "SecondHelpings$Reader" "this$0" "LSecondHelpings;") ∈ lw_all := lw_g (lw_at lw_m2 170 rfl) rfl
theorem q504 : (Jvm.Cond.superclass "SecondHelpings$SentenceReader" "SecondHelpings$Reader") ∈ lw_all := lw_g (lw_at lw_m2 171 rfl) rfl
theorem q525 : (Jvm.Cond.fieldLinkNest "SecondHelpings$SentenceReader" (106 : Nat) "SecondHelpings" "board" "LSecondHelpings$Board;" "SecondHelpings") ∈ lw_tbl := lw_at lw_m2 192 rfl
theorem q664 : (Jvm.Cond.selects "SecondHelpings$SentenceReader" ({ cls := "SecondHelpings$Reader", name := "next", desc := "()V" } : Jvm.MethodName) ({ cls := "SecondHelpings$Reader", name := "next", desc := "()V" } : Jvm.MethodName)) ∈ lw_all := lw_g (lw_at lw_m3 91 rfl) rfl
theorem q696 : (Jvm.Cond.selects "SecondHelpings$SentenceReader" ({ cls := "SecondHelpings$Reader", name := "is", desc := "(Ljava/lang/String;)Z" } : Jvm.MethodName) ({ cls := "SecondHelpings$Reader", name := "is", desc := "(Ljava/lang/String;)Z" } : Jvm.MethodName)) ∈ lw_all := lw_g (lw_at lw_m3 123 rfl) rfl
theorem q757 : (Jvm.Cond.selects "SecondHelpings$SentenceReader" ({ cls := "SecondHelpings$Reader", name := "wrong", desc := "(I)LSecondHelpings$Fault;" } : Jvm.MethodName) ({ cls := "SecondHelpings$Reader", name := "wrong", desc := "(I)LSecondHelpings$Fault;" } : Jvm.MethodName)) ∈ lw_all := lw_g (lw_at lw_m3 184 rfl) rfl
theorem q814 : (Jvm.Cond.selects "SecondHelpings$SentenceReader" ({ cls := "SecondHelpings$Reader", name := "look", desc := "([JI)I" } : Jvm.MethodName) ({ cls := "SecondHelpings$Reader", name := "look", desc := "([JI)I" } : Jvm.MethodName)) ∈ lw_all := lw_g (lw_at lw_m4 1 rfl) rfl
theorem q838 : (Jvm.Cond.selects "SecondHelpings$SentenceReader" ({ cls := "SecondHelpings$Reader", name := "is", desc := "(I)Z" } : Jvm.MethodName) ({ cls := "SecondHelpings$Reader", name := "is", desc := "(I)Z" } : Jvm.MethodName)) ∈ lw_all := lw_g (lw_at lw_m4 25 rfl) rfl
theorem q1378 : (Jvm.Cond.instanceMethod ({ cls := "SecondHelpings$SentenceReader", name := "read", desc := "()LSecondHelpings$Cond;" } : Jvm.MethodName)) ∈ lw_all := lw_g (lw_at lw_m6 85 rfl) rfl
theorem q1379 : (Jvm.Cond.selects "SecondHelpings$SentenceReader" ({ cls := "SecondHelpings$SentenceReader", name := "read", desc := "()LSecondHelpings$Cond;" } : Jvm.MethodName) ({ cls := "SecondHelpings$SentenceReader", name := "read", desc := "()LSecondHelpings$Cond;" } : Jvm.MethodName)) ∈ lw_all := lw_g (lw_at lw_m6 86 rfl) rfl
theorem q1380 : (Jvm.Cond.code ({ cls := "SecondHelpings$SentenceReader", name := "read", desc := "()LSecondHelpings$Cond;" } : Jvm.MethodName) prog_21_method_2_code (2 : Nat) (Option.some (Jvm.ClassFile.FieldType.object "SecondHelpings$Cond"))) ∈ lw_all := lw_g (lw_at lw_m6 87 rfl) rfl
theorem q1381 : (Jvm.Cond.methodLink "SecondHelpings$SentenceReader" (46 : Nat) ({ cls := "SecondHelpings$SentenceReader", name := "begin", desc := "()V" } : Jvm.MethodName)) ∈ lw_all := lw_g (lw_at lw_m6 88 rfl) rfl
theorem q1382 : (Jvm.Cond.sameMethod "SecondHelpings$SentenceReader" "SecondHelpings$Reader" "begin" "()V") ∈ lw_all := lw_g (lw_at lw_m6 89 rfl) rfl
theorem q1383 : (Jvm.Cond.selects "SecondHelpings$SentenceReader" ({ cls := "SecondHelpings$SentenceReader", name := "begin", desc := "()V" } : Jvm.MethodName) ({ cls := "SecondHelpings$Reader", name := "begin", desc := "()V" } : Jvm.MethodName)) ∈ lw_all := lw_g (lw_at lw_m6 90 rfl) rfl
theorem q1384 : (Jvm.Cond.methodLink "SecondHelpings$SentenceReader" (50 : Nat) ({ cls := "SecondHelpings$SentenceReader", name := "any", desc := "(I)LSecondHelpings$Cond;" } : Jvm.MethodName)) ∈ lw_all := lw_g (lw_at lw_m6 91 rfl) rfl
theorem q1385 : (Jvm.Cond.privateMethod ({ cls := "SecondHelpings$SentenceReader", name := "any", desc := "(I)LSecondHelpings$Cond;" } : Jvm.MethodName)) ∈ lw_tbl := lw_at lw_m6 92 rfl
theorem q1386 : (Jvm.Cond.instanceMethod ({ cls := "SecondHelpings$SentenceReader", name := "any", desc := "(I)LSecondHelpings$Cond;" } : Jvm.MethodName)) ∈ lw_all := lw_g (lw_at lw_m6 93 rfl) rfl
theorem q1387 : (Jvm.Cond.code ({ cls := "SecondHelpings$SentenceReader", name := "any", desc := "(I)LSecondHelpings$Cond;" } : Jvm.MethodName) prog_21_method_3_code (3 : Nat) (Option.some (Jvm.ClassFile.FieldType.object "SecondHelpings$Cond"))) ∈ lw_all := lw_g (lw_at lw_m6 94 rfl) rfl
theorem q1388 : (Jvm.Cond.methodLink "SecondHelpings$SentenceReader" (61 : Nat) ({ cls := "SecondHelpings$SentenceReader", name := "both", desc := "(I)LSecondHelpings$Cond;" } : Jvm.MethodName)) ∈ lw_all := lw_g (lw_at lw_m6 95 rfl) rfl
theorem q1389 : (Jvm.Cond.privateMethod ({ cls := "SecondHelpings$SentenceReader", name := "both", desc := "(I)LSecondHelpings$Cond;" } : Jvm.MethodName)) ∈ lw_tbl := lw_at lw_m6 96 rfl
theorem q1390 : (Jvm.Cond.instanceMethod ({ cls := "SecondHelpings$SentenceReader", name := "both", desc := "(I)LSecondHelpings$Cond;" } : Jvm.MethodName)) ∈ lw_all := lw_g (lw_at lw_m6 97 rfl) rfl
theorem q1391 : (Jvm.Cond.code ({ cls := "SecondHelpings$SentenceReader", name := "both", desc := "(I)LSecondHelpings$Cond;" } : Jvm.MethodName) prog_21_method_4_code (3 : Nat) (Option.some (Jvm.ClassFile.FieldType.object "SecondHelpings$Cond"))) ∈ lw_all := lw_g (lw_at lw_m6 98 rfl) rfl
theorem q1392 : (Jvm.Cond.methodLink "SecondHelpings$SentenceReader" (78 : Nat) ({ cls := "SecondHelpings$SentenceReader", name := "single", desc := "(I)LSecondHelpings$Cond;" } : Jvm.MethodName)) ∈ lw_all := lw_g (lw_at lw_m6 99 rfl) rfl
theorem q1393 : (Jvm.Cond.privateMethod ({ cls := "SecondHelpings$SentenceReader", name := "single", desc := "(I)LSecondHelpings$Cond;" } : Jvm.MethodName)) ∈ lw_tbl := lw_at lw_m6 100 rfl
theorem q1394 : (Jvm.Cond.instanceMethod ({ cls := "SecondHelpings$SentenceReader", name := "single", desc := "(I)LSecondHelpings$Cond;" } : Jvm.MethodName)) ∈ lw_all := lw_g (lw_at lw_m6 101 rfl) rfl
theorem q1395 : (Jvm.Cond.code ({ cls := "SecondHelpings$SentenceReader", name := "single", desc := "(I)LSecondHelpings$Cond;" } : Jvm.MethodName) prog_21_method_5_code (8 : Nat) (Option.some (Jvm.ClassFile.FieldType.object "SecondHelpings$Cond"))) ∈ lw_all := lw_g (lw_at lw_m6 102 rfl) rfl
theorem q1396 : (Jvm.Cond.stringRef "SecondHelpings$SentenceReader" (86 : Nat) "not") ∈ lw_tbl := lw_at lw_m6 103 rfl
theorem q1397 : (Jvm.Cond.methodLink "SecondHelpings$SentenceReader" (66 : Nat) ({ cls := "SecondHelpings$SentenceReader", name := "is", desc := "(Ljava/lang/String;)Z" } : Jvm.MethodName)) ∈ lw_all := lw_g (lw_at lw_m6 104 rfl) rfl
theorem q1398 : (Jvm.Cond.sameMethod "SecondHelpings$SentenceReader" "SecondHelpings$Reader" "is" "(Ljava/lang/String;)Z") ∈ lw_all := lw_g (lw_at lw_m6 105 rfl) rfl
theorem q1399 : (Jvm.Cond.selects "SecondHelpings$SentenceReader" ({ cls := "SecondHelpings$SentenceReader", name := "is", desc := "(Ljava/lang/String;)Z" } : Jvm.MethodName) ({ cls := "SecondHelpings$Reader", name := "is", desc := "(Ljava/lang/String;)Z" } : Jvm.MethodName)) ∈ lw_all := lw_g (lw_at lw_m6 106 rfl) rfl
theorem q1400 : (Jvm.Cond.methodLink "SecondHelpings$SentenceReader" (88 : Nat) ({ cls := "SecondHelpings$SentenceReader", name := "is", desc := "(I)Z" } : Jvm.MethodName)) ∈ lw_all := lw_g (lw_at lw_m6 107 rfl) rfl
theorem q1401 : (Jvm.Cond.sameMethod "SecondHelpings$SentenceReader" "SecondHelpings$Reader" "is" "(I)Z") ∈ lw_all := lw_g (lw_at lw_m6 108 rfl) rfl
theorem q1403 : (Jvm.Cond.selects "SecondHelpings$SentenceReader" ({ cls := "SecondHelpings$SentenceReader", name := "is", desc := "(I)Z" } : Jvm.MethodName) ({ cls := "SecondHelpings$Reader", name := "is", desc := "(I)Z" } : Jvm.MethodName)) ∈ lw_all := lw_g (lw_at lw_m6 110 rfl) rfl
theorem q1404 : (Jvm.Cond.methodLink "SecondHelpings$SentenceReader" (91 : Nat) ({ cls := "SecondHelpings$SentenceReader", name := "find", desc := "([Ljava/lang/String;)I" } : Jvm.MethodName)) ∈ lw_all := lw_g (lw_at lw_m6 111 rfl) rfl
theorem q1405 : (Jvm.Cond.sameMethod "SecondHelpings$SentenceReader" "SecondHelpings$Reader" "find" "([Ljava/lang/String;)I") ∈ lw_all := lw_g (lw_at lw_m6 112 rfl) rfl
theorem q1406 : (Jvm.Cond.selects "SecondHelpings$SentenceReader" ({ cls := "SecondHelpings$SentenceReader", name := "find", desc := "([Ljava/lang/String;)I" } : Jvm.MethodName) ({ cls := "SecondHelpings$Reader", name := "find", desc := "([Ljava/lang/String;)I" } : Jvm.MethodName)) ∈ lw_all := lw_g (lw_at lw_m6 113 rfl) rfl
theorem q1407 : (Jvm.Cond.methodLink "SecondHelpings$SentenceReader" (57 : Nat) ({ cls := "SecondHelpings$SentenceReader", name := "must", desc := "(ZI)V" } : Jvm.MethodName)) ∈ lw_all := lw_g (lw_at lw_m6 114 rfl) rfl
theorem q1408 : (Jvm.Cond.sameMethod "SecondHelpings$SentenceReader" "SecondHelpings$Reader" "must" "(ZI)V") ∈ lw_all := lw_g (lw_at lw_m6 115 rfl) rfl
theorem q1409 : (Jvm.Cond.selects "SecondHelpings$SentenceReader" ({ cls := "SecondHelpings$SentenceReader", name := "must", desc := "(ZI)V" } : Jvm.MethodName) ({ cls := "SecondHelpings$Reader", name := "must", desc := "(ZI)V" } : Jvm.MethodName)) ∈ lw_all := lw_g (lw_at lw_m6 116 rfl) rfl
theorem q1410 : (Jvm.Cond.methodLink "SecondHelpings$SentenceReader" (70 : Nat) ({ cls := "SecondHelpings$SentenceReader", name := "next", desc := "()V" } : Jvm.MethodName)) ∈ lw_all := lw_g (lw_at lw_m6 117 rfl) rfl
theorem q1411 : (Jvm.Cond.sameMethod "SecondHelpings$SentenceReader" "SecondHelpings$Reader" "next" "()V") ∈ lw_all := lw_g (lw_at lw_m6 118 rfl) rfl
theorem q1412 : (Jvm.Cond.selects "SecondHelpings$SentenceReader" ({ cls := "SecondHelpings$SentenceReader", name := "next", desc := "()V" } : Jvm.MethodName) ({ cls := "SecondHelpings$Reader", name := "next", desc := "()V" } : Jvm.MethodName)) ∈ lw_all := lw_g (lw_at lw_m6 119 rfl) rfl
theorem q1413 : (Jvm.Cond.classLink "SecondHelpings$SentenceReader" (95 : Nat) "SecondHelpings$Not") ∈ lw_all := lw_g (lw_at lw_m6 120 rfl) rfl
theorem q1415 : (Jvm.Cond.methodLink "SecondHelpings$SentenceReader" (97 : Nat) ({ cls := "SecondHelpings$Not", name := "<init>", desc := "(LSecondHelpings$Cond;)V" } : Jvm.MethodName)) ∈ lw_all := lw_g (lw_at lw_m6 122 rfl) rfl
theorem q1423 : (Jvm.Cond.methodLink "SecondHelpings$SentenceReader" (100 : Nat) ({ cls := "SecondHelpings$SentenceReader", name := "sign", desc := "(I)V" } : Jvm.MethodName)) ∈ lw_all := lw_g (lw_at lw_m6 130 rfl) rfl
theorem q1424 : (Jvm.Cond.sameMethod "SecondHelpings$SentenceReader" "SecondHelpings$Reader" "sign" "(I)V") ∈ lw_all := lw_g (lw_at lw_m6 131 rfl) rfl
theorem q1425 : (Jvm.Cond.selects "SecondHelpings$SentenceReader" ({ cls := "SecondHelpings$SentenceReader", name := "sign", desc := "(I)V" } : Jvm.MethodName) ({ cls := "SecondHelpings$Reader", name := "sign", desc := "(I)V" } : Jvm.MethodName)) ∈ lw_all := lw_g (lw_at lw_m6 132 rfl) rfl
theorem q1426 : (Jvm.Cond.classLink "SecondHelpings$SentenceReader" (104 : Nat) "SecondHelpings$Marks") ∈ lw_all := lw_g (lw_at lw_m6 133 rfl) rfl
theorem q1428 : (Jvm.Cond.methodLink "SecondHelpings$SentenceReader" (119 : Nat) ({ cls := "SecondHelpings$SentenceReader", name := "known", desc := "([JI)I" } : Jvm.MethodName)) ∈ lw_all := lw_g (lw_at lw_m6 135 rfl) rfl
theorem q1429 : (Jvm.Cond.sameMethod "SecondHelpings$SentenceReader" "SecondHelpings$Reader" "known" "([JI)I") ∈ lw_all := lw_g (lw_at lw_m6 136 rfl) rfl
theorem q1430 : (Jvm.Cond.selects "SecondHelpings$SentenceReader" ({ cls := "SecondHelpings$SentenceReader", name := "known", desc := "([JI)I" } : Jvm.MethodName) ({ cls := "SecondHelpings$Reader", name := "known", desc := "([JI)I" } : Jvm.MethodName)) ∈ lw_all := lw_g (lw_at lw_m6 137 rfl) rfl
theorem q1431 : (Jvm.Cond.methodLink "SecondHelpings$SentenceReader" (129 : Nat) ({ cls := "SecondHelpings$Marks", name := "<init>", desc := "(II)V" } : Jvm.MethodName)) ∈ lw_all := lw_g (lw_at lw_m6 138 rfl) rfl
theorem q1442 : (Jvm.Cond.classLink "SecondHelpings$SentenceReader" (135 : Nat) "SecondHelpings$Counts") ∈ lw_all := lw_g (lw_at lw_m6 149 rfl) rfl
theorem q1444 : (Jvm.Cond.methodLink "SecondHelpings$SentenceReader" (137 : Nat) ({ cls := "SecondHelpings$Counts", name := "<init>", desc := "(III)V" } : Jvm.MethodName)) ∈ lw_all := lw_g (lw_at lw_m6 151 rfl) rfl
theorem q1458 : (Jvm.Cond.stringRef "SecondHelpings$SentenceReader" (81 : Nat) "and") ∈ lw_tbl := lw_at lw_m6 165 rfl
theorem q1459 : (Jvm.Cond.classLink "SecondHelpings$SentenceReader" (83 : Nat) "SecondHelpings$Both") ∈ lw_all := lw_g (lw_at lw_m6 166 rfl) rfl
theorem q1461 : (Jvm.Cond.methodLink "SecondHelpings$SentenceReader" (85 : Nat) ({ cls := "SecondHelpings$Both", name := "<init>", desc := "(LSecondHelpings$Cond;LSecondHelpings$Cond;)V" } : Jvm.MethodName)) ∈ lw_all := lw_g (lw_at lw_m6 168 rfl) rfl
theorem q1472 : (Jvm.Cond.stringRef "SecondHelpings$SentenceReader" (64 : Nat) "or") ∈ lw_tbl := lw_at lw_m6 179 rfl
theorem q1473 : (Jvm.Cond.classLink "SecondHelpings$SentenceReader" (73 : Nat) "SecondHelpings$Any") ∈ lw_all := lw_g (lw_at lw_m6 180 rfl) rfl
theorem q1475 : (Jvm.Cond.methodLink "SecondHelpings$SentenceReader" (75 : Nat) ({ cls := "SecondHelpings$Any", name := "<init>", desc := "(LSecondHelpings$Cond;LSecondHelpings$Cond;)V" } : Jvm.MethodName)) ∈ lw_all := lw_g (lw_at lw_m6 182 rfl) rfl
theorem q2240 : (Jvm.Cond.selects "SecondHelpings$SentenceReader" ({ cls := "SecondHelpings$Reader", name := "find", desc := "([Ljava/lang/String;)I" } : Jvm.MethodName) ({ cls := "SecondHelpings$Reader", name := "find", desc := "([Ljava/lang/String;)I" } : Jvm.MethodName)) ∈ lw_all := lw_g (lw_at lw_m9 227 rfl) rfl
theorem q2244 : (Jvm.Cond.selects "SecondHelpings$SentenceReader" ({ cls := "SecondHelpings$Reader", name := "must", desc := "(ZI)V" } : Jvm.MethodName) ({ cls := "SecondHelpings$Reader", name := "must", desc := "(ZI)V" } : Jvm.MethodName)) ∈ lw_all := lw_g (lw_at lw_m9 231 rfl) rfl
theorem q2248 : (Jvm.Cond.selects "SecondHelpings$SentenceReader" ({ cls := "SecondHelpings$Reader", name := "isName", desc := "()Z" } : Jvm.MethodName) ({ cls := "SecondHelpings$Reader", name := "isName", desc := "()Z" } : Jvm.MethodName)) ∈ lw_all := lw_g (lw_at lw_m9 235 rfl) rfl
theorem q2252 : (Jvm.Cond.selects "SecondHelpings$SentenceReader" ({ cls := "SecondHelpings$Reader", name := "of", desc := "([JI)I" } : Jvm.MethodName) ({ cls := "SecondHelpings$Reader", name := "of", desc := "([JI)I" } : Jvm.MethodName)) ∈ lw_all := lw_g (lw_at lw_m9 239 rfl) rfl
theorem q2259 : (Jvm.Cond.castable "SecondHelpings$SentenceReader" "java/lang/Object") ∈ lw_tbl := lw_at lw_m10 6 rfl
theorem in_X8 : ∀ w ∈ wsX80, w ∈ lw_all := lw_in wsX80 [496, 497, 498, 499, 500, 501, 502, 503, 488, 490, 492, 494] (by decide +kernel) (by decide +kernel)
/-! SecondHelpings$Line -/
set_option maxRecDepth 100000
def RX10 : String := "SecondHelpings$Line"
abbrev cX10_init : ByteArray := prog_14_method_1_code
def yX10_init : MethodName := ⟨RX10, "<init>", "()V"⟩
theorem dX10_init_0 : decode cX10_init 0 = .ok (.aload_n 0, 1) := by decide +kernel
theorem dX10_init_1 : decode cX10_init 1 = .ok (.invokespecial 1, 3) := by decide +kernel
theorem dX10_init_4 : decode cX10_init 4 = .ok (.return_, 1) := by decide +kernel
abbrev cX10_coded : ByteArray := prog_14_method_4_code
def yX10_coded : MethodName := ⟨RX10, "coded", "(II)I"⟩
def dkwX10_coded_0 : List UInt8 := [27, 154, 0, 7, 3, 167, 0, 9, 16, 10, 26, 104, 27, 96, 172]
abbrev dktX10_coded_0 : List UInt8 := dkwX10_coded_0 ++ []
theorem dksX10_coded_0 : cX10_coded.data.toList.drop 0 = dktX10_coded_0 := by decide +kernel
theorem dX10_coded_0 : decode cX10_coded 0 = .ok (.iload_n 1, 1) := dk_27 (dk_at dksX10_coded_0 0 rfl rfl)
theorem dX10_coded_1 : decode cX10_coded 1 = .ok (.ifCond .ne 7, 3) := dk_154 0 7 (dk_at dksX10_coded_0 1 rfl rfl)
theorem dX10_coded_4 : decode cX10_coded 4 = .ok (.iconst 0, 1) := dk_3 (dk_at dksX10_coded_0 4 rfl rfl)
theorem dX10_coded_5 : decode cX10_coded 5 = .ok (.goto 9, 3) := dk_167 0 9 (dk_at dksX10_coded_0 5 rfl rfl)
theorem dX10_coded_8 : decode cX10_coded 8 = .ok (.bipush 10, 2) := dk_16 10 (dk_at dksX10_coded_0 8 rfl rfl)
theorem dX10_coded_10 : decode cX10_coded 10 = .ok (.iload_n 0, 1) := dk_26 (dk_at dksX10_coded_0 10 rfl rfl)
theorem dX10_coded_11 : decode cX10_coded 11 = .ok (.imul, 1) := dk_104 (dk_at dksX10_coded_0 11 rfl rfl)
theorem dX10_coded_12 : decode cX10_coded 12 = .ok (.iload_n 1, 1) := dk_27 (dk_at dksX10_coded_0 12 rfl rfl)
theorem dX10_coded_13 : decode cX10_coded 13 = .ok (.iadd, 1) := dk_96 (dk_at dksX10_coded_0 13 rfl rfl)
theorem dX10_coded_14 : decode cX10_coded 14 = .ok (.ireturn, 1) := dk_172 (dk_at dksX10_coded_0 14 rfl rfl)
theorem q116 : (Jvm.Cond.initialized "SecondHelpings$Line") ∈ lw_all := lw_g (lw_at lw_m1 23 rfl) rfl
theorem q1207 : (Jvm.Cond.instanceMethod ({ cls := "SecondHelpings$Line", name := "<init>", desc := "()V" } : Jvm.MethodName)) ∈ lw_all := lw_g (lw_at lw_m5 154 rfl) rfl
theorem q1208 : (Jvm.Cond.code ({ cls := "SecondHelpings$Line", name := "<init>", desc := "()V" } : Jvm.MethodName) prog_14_method_1_code (1 : Nat) (Option.none : Option Jvm.ClassFile.FieldType)) ∈ lw_all := lw_g (lw_at lw_m5 155 rfl) rfl
theorem q1209 : (Jvm.Cond.methodLink "SecondHelpings$Line" (1 : Nat) ({ cls := "java/lang/Object", name := "<init>", desc := "()V" } : Jvm.MethodName)) ∈ lw_all := lw_g (lw_at lw_m5 156 rfl) rfl
theorem q1299 : (Jvm.Cond.declares ({ cls := "SecondHelpings$Line", name := "why", desc := "(LSecondHelpings$Board;LSecondHelpings$State;)I" } : Jvm.MethodName)) ∈ lw_tbl := lw_at lw_m6 6 rfl
theorem q1300 : (Jvm.Cond.sameMethod "SecondHelpings$Line" "SecondHelpings$Line" "why" "(LSecondHelpings$Board;LSecondHelpings$State;)I") ∈ lw_all := lw_g (lw_at lw_m6 7 rfl) rfl
theorem q1307 : (Jvm.Cond.static ({ cls := "SecondHelpings$Line", name := "coded", desc := "(II)I" } : Jvm.MethodName)) ∈ lw_all := lw_g (lw_at lw_m6 14 rfl) rfl
theorem q1308 : (Jvm.Cond.code ({ cls := "SecondHelpings$Line", name := "coded", desc := "(II)I" } : Jvm.MethodName) prog_14_method_4_code (2 : Nat) (Option.some Jvm.ClassFile.FieldType.int)) ∈ lw_all := lw_g (lw_at lw_m6 15 rfl) rfl
theorem q1341 : (Jvm.Cond.declares ({ cls := "SecondHelpings$Line", name := "live", desc := "(LSecondHelpings$Board;LSecondHelpings$State;)V" } : Jvm.MethodName)) ∈ lw_tbl := lw_at lw_m6 48 rfl
theorem q1342 : (Jvm.Cond.sameMethod "SecondHelpings$Line" "SecondHelpings$Line" "live" "(LSecondHelpings$Board;LSecondHelpings$State;)V") ∈ lw_all := lw_g (lw_at lw_m6 49 rfl) rfl
/-! SecondHelpings$Meals -/
set_option maxRecDepth 100000
def RX11 : String := "SecondHelpings$Meals"
def TX11 : u_T := fun k => match k with
  | _ => ("SecondHelpings$Meals", "n", "I", true)
def tyX11 : Nat → FieldType := fun k => match k with
  | _ => .int
abbrev wsX110 : List Cond := u_ws RX11 TX11 1
theorem nmX11 : ∀ a, a < 1 → ∀ b, b < 1 → a ≠ b → (TX11 a).2.1 ≠ (TX11 b).2.1 := by decide +kernel
theorem tyX11_ok : ∀ k, k < 1 → parseFieldDescriptor (TX11 k).2.2.1 = some (tyX11 k) := by decide +kernel
abbrev cX11_init : ByteArray := prog_16_method_1_code
def yX11_init : MethodName := ⟨RX11, "<init>", "(I)V"⟩
def dkwX11_init_0 : List UInt8 := [42, 183, 0, 3, 42, 27, 181, 0, 9, 177]
abbrev dktX11_init_0 : List UInt8 := dkwX11_init_0 ++ []
theorem dksX11_init_0 : cX11_init.data.toList.drop 0 = dktX11_init_0 := by decide +kernel
theorem dX11_init_0 : decode cX11_init 0 = .ok (.aload_n 0, 1) := dk_42 (dk_at dksX11_init_0 0 rfl rfl)
theorem dX11_init_1 : decode cX11_init 1 = .ok (.invokespecial 3, 3) := dk_183 0 3 (dk_at dksX11_init_0 1 rfl rfl)
theorem dX11_init_4 : decode cX11_init 4 = .ok (.aload_n 0, 1) := dk_42 (dk_at dksX11_init_0 4 rfl rfl)
theorem dX11_init_5 : decode cX11_init 5 = .ok (.iload_n 1, 1) := dk_27 (dk_at dksX11_init_0 5 rfl rfl)
theorem dX11_init_6 : decode cX11_init 6 = .ok (.putfield 9, 3) := dk_181 0 9 (dk_at dksX11_init_0 6 rfl rfl)
theorem dX11_init_9 : decode cX11_init 9 = .ok (.return_, 1) := dk_177 (dk_at dksX11_init_0 9 rfl rfl)
abbrev cX11_why : ByteArray := prog_16_method_2_code
def yX11_why : MethodName := ⟨RX11, "why", "(LSecondHelpings$Board;LSecondHelpings$State;)I"⟩
def dkwX11_why_0 : List UInt8 := [44, 180, 0, 15, 42, 180, 0, 9, 96, 17, 0, 200, 164, 0, 8, 16, 61, 167, 0, 4, 3, 172]
abbrev dktX11_why_0 : List UInt8 := dkwX11_why_0 ++ []
theorem dksX11_why_0 : cX11_why.data.toList.drop 0 = dktX11_why_0 := by decide +kernel
theorem dX11_why_0 : decode cX11_why 0 = .ok (.aload_n 2, 1) := dk_44 (dk_at dksX11_why_0 0 rfl rfl)
theorem dX11_why_1 : decode cX11_why 1 = .ok (.getfield 15, 3) := dk_180 0 15 (dk_at dksX11_why_0 1 rfl rfl)
theorem dX11_why_4 : decode cX11_why 4 = .ok (.aload_n 0, 1) := dk_42 (dk_at dksX11_why_0 4 rfl rfl)
theorem dX11_why_5 : decode cX11_why 5 = .ok (.getfield 9, 3) := dk_180 0 9 (dk_at dksX11_why_0 5 rfl rfl)
theorem dX11_why_8 : decode cX11_why 8 = .ok (.iadd, 1) := dk_96 (dk_at dksX11_why_0 8 rfl rfl)
theorem dX11_why_9 : decode cX11_why 9 = .ok (.sipush 200, 3) := dk_17 0 200 (dk_at dksX11_why_0 9 rfl rfl)
theorem dX11_why_12 : decode cX11_why 12 = .ok (.if_icmp .le 8, 3) := dk_164 0 8 (dk_at dksX11_why_0 12 rfl rfl)
theorem dX11_why_15 : decode cX11_why 15 = .ok (.bipush 61, 2) := dk_16 61 (dk_at dksX11_why_0 15 rfl rfl)
theorem dX11_why_17 : decode cX11_why 17 = .ok (.goto 4, 3) := dk_167 0 4 (dk_at dksX11_why_0 17 rfl rfl)
theorem dX11_why_20 : decode cX11_why 20 = .ok (.iconst 0, 1) := dk_3 (dk_at dksX11_why_0 20 rfl rfl)
theorem dX11_why_21 : decode cX11_why 21 = .ok (.ireturn, 1) := dk_172 (dk_at dksX11_why_0 21 rfl rfl)
abbrev cX11_live : ByteArray := prog_16_method_3_code
def yX11_live : MethodName := ⟨RX11, "live", "(LSecondHelpings$Board;LSecondHelpings$State;)V"⟩
def dkwX11_live_0 : List UInt8 := [44, 43, 42, 180, 0, 9, 182, 0, 20, 87, 177]
abbrev dktX11_live_0 : List UInt8 := dkwX11_live_0 ++ []
theorem dksX11_live_0 : cX11_live.data.toList.drop 0 = dktX11_live_0 := by decide +kernel
theorem dX11_live_0 : decode cX11_live 0 = .ok (.aload_n 2, 1) := dk_44 (dk_at dksX11_live_0 0 rfl rfl)
theorem dX11_live_1 : decode cX11_live 1 = .ok (.aload_n 1, 1) := dk_43 (dk_at dksX11_live_0 1 rfl rfl)
theorem dX11_live_2 : decode cX11_live 2 = .ok (.aload_n 0, 1) := dk_42 (dk_at dksX11_live_0 2 rfl rfl)
theorem dX11_live_3 : decode cX11_live 3 = .ok (.getfield 9, 3) := dk_180 0 9 (dk_at dksX11_live_0 3 rfl rfl)
theorem dX11_live_6 : decode cX11_live 6 = .ok (.invokevirtual 20, 3) := dk_182 0 20 (dk_at dksX11_live_0 6 rfl rfl)
theorem dX11_live_9 : decode cX11_live 9 = .ok (.pop, 1) := dk_87 (dk_at dksX11_live_0 9 rfl rfl)
theorem dX11_live_10 : decode cX11_live 10 = .ok (.return_, 1) := dk_177 (dk_at dksX11_live_0 10 rfl rfl)
theorem q117 : (Jvm.Cond.initialized "SecondHelpings$Meals") ∈ lw_all := lw_g (lw_at lw_m1 24 rfl) rfl
theorem q333 : (Jvm.Cond.fieldLinkNest "SecondHelpings$Meals" (15 : Nat) "SecondHelpings$State" "meals" "I" "SecondHelpings") ∈ lw_tbl := lw_at lw_m2 0 rfl
theorem q1199 : (Jvm.Cond.instantiable "SecondHelpings$Meals" (1 : Nat)) ∈ lw_all := lw_g (lw_at lw_m5 146 rfl) rfl
theorem q1204 : (Jvm.Cond.instanceMethod ({ cls := "SecondHelpings$Meals", name := "<init>", desc := "(I)V" } : Jvm.MethodName)) ∈ lw_all := lw_g (lw_at lw_m5 151 rfl) rfl
theorem q1205 : (Jvm.Cond.code ({ cls := "SecondHelpings$Meals", name := "<init>", desc := "(I)V" } : Jvm.MethodName) prog_16_method_1_code (2 : Nat) (Option.none : Option Jvm.ClassFile.FieldType)) ∈ lw_all := lw_g (lw_at lw_m5 152 rfl) rfl
theorem q1206 : (Jvm.Cond.methodLinkNest "SecondHelpings$Meals" (3 : Nat) ({ cls := "SecondHelpings$Line", name := "<init>", desc := "()V" } : Jvm.MethodName) "SecondHelpings") ∈ lw_tbl := lw_at lw_m5 153 rfl
theorem q1210 : (Jvm.Cond.fieldLink "SecondHelpings$Meals" (9 : Nat) "SecondHelpings$Meals" "n" "I") ∈ lw_all := lw_g (lw_at lw_m5 157 rfl) rfl
theorem q1211 : (Jvm.Cond.laysFinal "SecondHelpings$Meals" "SecondHelpings$Meals" "n" "I") ∈ lw_all := lw_g (lw_at lw_m5 158 rfl) rfl
theorem q1212 : (Jvm.Cond.soleField "SecondHelpings$Meals" "n") ∈ lw_all := lw_g (lw_at lw_m5 159 rfl) rfl
theorem q1213 : (Jvm.Cond.superclass "SecondHelpings$Meals" "SecondHelpings$Line") ∈ lw_all := lw_g (lw_at lw_m5 160 rfl) rfl
theorem q1319 : (Jvm.Cond.selects "SecondHelpings$Meals" ({ cls := "SecondHelpings$Line", name := "why", desc := "(LSecondHelpings$Board;LSecondHelpings$State;)I" } : Jvm.MethodName) ({ cls := "SecondHelpings$Meals", name := "why", desc := "(LSecondHelpings$Board;LSecondHelpings$State;)I" } : Jvm.MethodName)) ∈ lw_all := lw_g (lw_at lw_m6 26 rfl) rfl
theorem q1320 : (Jvm.Cond.instanceMethod ({ cls := "SecondHelpings$Meals", name := "why", desc := "(LSecondHelpings$Board;LSecondHelpings$State;)I" } : Jvm.MethodName)) ∈ lw_all := lw_g (lw_at lw_m6 27 rfl) rfl
theorem q1321 : (Jvm.Cond.code ({ cls := "SecondHelpings$Meals", name := "why", desc := "(LSecondHelpings$Board;LSecondHelpings$State;)I" } : Jvm.MethodName) prog_16_method_2_code (3 : Nat) (Option.some Jvm.ClassFile.FieldType.int)) ∈ lw_all := lw_g (lw_at lw_m6 28 rfl) rfl
theorem q1354 : (Jvm.Cond.selects "SecondHelpings$Meals" ({ cls := "SecondHelpings$Line", name := "live", desc := "(LSecondHelpings$Board;LSecondHelpings$State;)V" } : Jvm.MethodName) ({ cls := "SecondHelpings$Meals", name := "live", desc := "(LSecondHelpings$Board;LSecondHelpings$State;)V" } : Jvm.MethodName)) ∈ lw_all := lw_g (lw_at lw_m6 61 rfl) rfl
theorem q1355 : (Jvm.Cond.instanceMethod ({ cls := "SecondHelpings$Meals", name := "live", desc := "(LSecondHelpings$Board;LSecondHelpings$State;)V" } : Jvm.MethodName)) ∈ lw_all := lw_g (lw_at lw_m6 62 rfl) rfl
theorem q1356 : (Jvm.Cond.code ({ cls := "SecondHelpings$Meals", name := "live", desc := "(LSecondHelpings$Board;LSecondHelpings$State;)V" } : Jvm.MethodName) prog_16_method_3_code (3 : Nat) (Option.none : Option Jvm.ClassFile.FieldType)) ∈ lw_all := lw_g (lw_at lw_m6 63 rfl) rfl
theorem q1357 : (Jvm.Cond.methodLink "SecondHelpings$Meals" (20 : Nat) ({ cls := "SecondHelpings$State", name := "meals", desc := "(LSecondHelpings$Board;I)I" } : Jvm.MethodName)) ∈ lw_all := lw_g (lw_at lw_m6 64 rfl) rfl
theorem q2263 : (Jvm.Cond.castable "SecondHelpings$Meals" "java/lang/Object") ∈ lw_tbl := lw_at lw_m10 10 rfl
theorem q2277 : (Jvm.Cond.castable "SecondHelpings$Meals" "SecondHelpings$Line") ∈ lw_tbl := lw_at lw_m10 24 rfl
theorem in_X11 : ∀ w ∈ wsX110, w ∈ lw_all := lw_in wsX110 [1211] (by decide +kernel) (by decide +kernel)
/-! SecondHelpings$Eats -/
set_option maxRecDepth 100000
def RX12 : String := "SecondHelpings$Eats"
def TX12 : u_T := fun k => match k with
  | 0 => ("SecondHelpings$Eats", "p", "I", true)
  | 1 => ("SecondHelpings$Eats", "d", "I", true)
  | _ => ("SecondHelpings$Eats", "n", "I", true)
def tyX12 : Nat → FieldType := fun k => match k with
  | 0 => .int
  | 1 => .int
  | _ => .int
abbrev wsX120 : List Cond := u_ws RX12 TX12 3
theorem nmX12 : ∀ a, a < 3 → ∀ b, b < 3 → a ≠ b → (TX12 a).2.1 ≠ (TX12 b).2.1 := by decide +kernel
theorem tyX12_ok : ∀ k, k < 3 → parseFieldDescriptor (TX12 k).2.2.1 = some (tyX12 k) := by decide +kernel
abbrev cX12_init : ByteArray := prog_11_method_1_code
def yX12_init : MethodName := ⟨RX12, "<init>", "(III)V"⟩
def dkwX12_init_0 : List UInt8 := [42, 183, 0, 1, 42, 27, 181, 0, 7, 42, 28, 181, 0, 13, 42, 29, 181, 0, 16, 177]
abbrev dktX12_init_0 : List UInt8 := dkwX12_init_0 ++ []
theorem dksX12_init_0 : cX12_init.data.toList.drop 0 = dktX12_init_0 := by decide +kernel
theorem dX12_init_0 : decode cX12_init 0 = .ok (.aload_n 0, 1) := dk_42 (dk_at dksX12_init_0 0 rfl rfl)
theorem dX12_init_1 : decode cX12_init 1 = .ok (.invokespecial 1, 3) := dk_183 0 1 (dk_at dksX12_init_0 1 rfl rfl)
theorem dX12_init_4 : decode cX12_init 4 = .ok (.aload_n 0, 1) := dk_42 (dk_at dksX12_init_0 4 rfl rfl)
theorem dX12_init_5 : decode cX12_init 5 = .ok (.iload_n 1, 1) := dk_27 (dk_at dksX12_init_0 5 rfl rfl)
theorem dX12_init_6 : decode cX12_init 6 = .ok (.putfield 7, 3) := dk_181 0 7 (dk_at dksX12_init_0 6 rfl rfl)
theorem dX12_init_9 : decode cX12_init 9 = .ok (.aload_n 0, 1) := dk_42 (dk_at dksX12_init_0 9 rfl rfl)
theorem dX12_init_10 : decode cX12_init 10 = .ok (.iload_n 2, 1) := dk_28 (dk_at dksX12_init_0 10 rfl rfl)
theorem dX12_init_11 : decode cX12_init 11 = .ok (.putfield 13, 3) := dk_181 0 13 (dk_at dksX12_init_0 11 rfl rfl)
theorem dX12_init_14 : decode cX12_init 14 = .ok (.aload_n 0, 1) := dk_42 (dk_at dksX12_init_0 14 rfl rfl)
theorem dX12_init_15 : decode cX12_init 15 = .ok (.iload_n 3, 1) := dk_29 (dk_at dksX12_init_0 15 rfl rfl)
theorem dX12_init_16 : decode cX12_init 16 = .ok (.putfield 16, 3) := dk_181 0 16 (dk_at dksX12_init_0 16 rfl rfl)
theorem dX12_init_19 : decode cX12_init 19 = .ok (.return_, 1) := dk_177 (dk_at dksX12_init_0 19 rfl rfl)
abbrev cX12_why : ByteArray := prog_11_method_2_code
def yX12_why : MethodName := ⟨RX12, "why", "(LSecondHelpings$Board;LSecondHelpings$State;)I"⟩
def dkwX12_why_0 : List UInt8 := [44, 43, 42, 180, 0, 7, 42, 180, 0, 13, 42, 180, 0, 16, 182, 0, 19, 172]
abbrev dktX12_why_0 : List UInt8 := dkwX12_why_0 ++ []
theorem dksX12_why_0 : cX12_why.data.toList.drop 0 = dktX12_why_0 := by decide +kernel
theorem dX12_why_0 : decode cX12_why 0 = .ok (.aload_n 2, 1) := dk_44 (dk_at dksX12_why_0 0 rfl rfl)
theorem dX12_why_1 : decode cX12_why 1 = .ok (.aload_n 1, 1) := dk_43 (dk_at dksX12_why_0 1 rfl rfl)
theorem dX12_why_2 : decode cX12_why 2 = .ok (.aload_n 0, 1) := dk_42 (dk_at dksX12_why_0 2 rfl rfl)
theorem dX12_why_3 : decode cX12_why 3 = .ok (.getfield 7, 3) := dk_180 0 7 (dk_at dksX12_why_0 3 rfl rfl)
theorem dX12_why_6 : decode cX12_why 6 = .ok (.aload_n 0, 1) := dk_42 (dk_at dksX12_why_0 6 rfl rfl)
theorem dX12_why_7 : decode cX12_why 7 = .ok (.getfield 13, 3) := dk_180 0 13 (dk_at dksX12_why_0 7 rfl rfl)
theorem dX12_why_10 : decode cX12_why 10 = .ok (.aload_n 0, 1) := dk_42 (dk_at dksX12_why_0 10 rfl rfl)
theorem dX12_why_11 : decode cX12_why 11 = .ok (.getfield 16, 3) := dk_180 0 16 (dk_at dksX12_why_0 11 rfl rfl)
theorem dX12_why_14 : decode cX12_why 14 = .ok (.invokevirtual 19, 3) := dk_182 0 19 (dk_at dksX12_why_0 14 rfl rfl)
theorem dX12_why_17 : decode cX12_why 17 = .ok (.ireturn, 1) := dk_172 (dk_at dksX12_why_0 17 rfl rfl)
abbrev cX12_live : ByteArray := prog_11_method_3_code
def yX12_live : MethodName := ⟨RX12, "live", "(LSecondHelpings$Board;LSecondHelpings$State;)V"⟩
def dkwX12_live_0 : List UInt8 := [44, 42, 180, 0, 7, 42, 180, 0, 13, 42, 180, 0, 16, 182, 0, 25, 177]
abbrev dktX12_live_0 : List UInt8 := dkwX12_live_0 ++ []
theorem dksX12_live_0 : cX12_live.data.toList.drop 0 = dktX12_live_0 := by decide +kernel
theorem dX12_live_0 : decode cX12_live 0 = .ok (.aload_n 2, 1) := dk_44 (dk_at dksX12_live_0 0 rfl rfl)
theorem dX12_live_1 : decode cX12_live 1 = .ok (.aload_n 0, 1) := dk_42 (dk_at dksX12_live_0 1 rfl rfl)
theorem dX12_live_2 : decode cX12_live 2 = .ok (.getfield 7, 3) := dk_180 0 7 (dk_at dksX12_live_0 2 rfl rfl)
theorem dX12_live_5 : decode cX12_live 5 = .ok (.aload_n 0, 1) := dk_42 (dk_at dksX12_live_0 5 rfl rfl)
theorem dX12_live_6 : decode cX12_live 6 = .ok (.getfield 13, 3) := dk_180 0 13 (dk_at dksX12_live_0 6 rfl rfl)
theorem dX12_live_9 : decode cX12_live 9 = .ok (.aload_n 0, 1) := dk_42 (dk_at dksX12_live_0 9 rfl rfl)
theorem dX12_live_10 : decode cX12_live 10 = .ok (.getfield 16, 3) := dk_180 0 16 (dk_at dksX12_live_0 10 rfl rfl)
theorem dX12_live_13 : decode cX12_live 13 = .ok (.invokevirtual 25, 3) := dk_182 0 25 (dk_at dksX12_live_0 13 rfl rfl)
theorem dX12_live_16 : decode cX12_live 16 = .ok (.return_, 1) := dk_177 (dk_at dksX12_live_0 16 rfl rfl)
theorem q118 : (Jvm.Cond.initialized "SecondHelpings$Eats") ∈ lw_all := lw_g (lw_at lw_m1 25 rfl) rfl
theorem q1220 : (Jvm.Cond.instantiable "SecondHelpings$Eats" (3 : Nat)) ∈ lw_all := lw_g (lw_at lw_m5 167 rfl) rfl
theorem q1222 : (Jvm.Cond.instanceMethod ({ cls := "SecondHelpings$Eats", name := "<init>", desc := "(III)V" } : Jvm.MethodName)) ∈ lw_all := lw_g (lw_at lw_m5 169 rfl) rfl
theorem q1223 : (Jvm.Cond.code ({ cls := "SecondHelpings$Eats", name := "<init>", desc := "(III)V" } : Jvm.MethodName) prog_11_method_1_code (4 : Nat) (Option.none : Option Jvm.ClassFile.FieldType)) ∈ lw_all := lw_g (lw_at lw_m5 170 rfl) rfl
theorem q1224 : (Jvm.Cond.methodLinkNest "SecondHelpings$Eats" (1 : Nat) ({ cls := "SecondHelpings$Line", name := "<init>", desc := "()V" } : Jvm.MethodName) "SecondHelpings") ∈ lw_tbl := lw_at lw_m5 171 rfl
theorem q1225 : (Jvm.Cond.fieldLink "SecondHelpings$Eats" (7 : Nat) "SecondHelpings$Eats" "p" "I") ∈ lw_all := lw_g (lw_at lw_m5 172 rfl) rfl
theorem q1226 : (Jvm.Cond.fieldLink "SecondHelpings$Eats" (13 : Nat) "SecondHelpings$Eats" "d" "I") ∈ lw_all := lw_g (lw_at lw_m5 173 rfl) rfl
theorem q1227 : (Jvm.Cond.fieldLink "SecondHelpings$Eats" (16 : Nat) "SecondHelpings$Eats" "n" "I") ∈ lw_all := lw_g (lw_at lw_m5 174 rfl) rfl
theorem q1228 : (Jvm.Cond.laysFinal "SecondHelpings$Eats" "SecondHelpings$Eats" "p" "I") ∈ lw_all := lw_g (lw_at lw_m5 175 rfl) rfl
theorem q1229 : (Jvm.Cond.soleField "SecondHelpings$Eats" "p") ∈ lw_all := lw_g (lw_at lw_m5 176 rfl) rfl
theorem q1230 : (Jvm.Cond.laysFinal "SecondHelpings$Eats" "SecondHelpings$Eats" "d" "I") ∈ lw_all := lw_g (lw_at lw_m5 177 rfl) rfl
theorem q1231 : (Jvm.Cond.soleField "SecondHelpings$Eats" "d") ∈ lw_all := lw_g (lw_at lw_m5 178 rfl) rfl
theorem q1232 : (Jvm.Cond.laysFinal "SecondHelpings$Eats" "SecondHelpings$Eats" "n" "I") ∈ lw_all := lw_g (lw_at lw_m5 179 rfl) rfl
theorem q1233 : (Jvm.Cond.soleField "SecondHelpings$Eats" "n") ∈ lw_all := lw_g (lw_at lw_m5 180 rfl) rfl
theorem q1234 : (Jvm.Cond.superclass "SecondHelpings$Eats" "SecondHelpings$Line") ∈ lw_all := lw_g (lw_at lw_m5 181 rfl) rfl
theorem q1315 : (Jvm.Cond.selects "SecondHelpings$Eats" ({ cls := "SecondHelpings$Line", name := "why", desc := "(LSecondHelpings$Board;LSecondHelpings$State;)I" } : Jvm.MethodName) ({ cls := "SecondHelpings$Eats", name := "why", desc := "(LSecondHelpings$Board;LSecondHelpings$State;)I" } : Jvm.MethodName)) ∈ lw_all := lw_g (lw_at lw_m6 22 rfl) rfl
theorem q1316 : (Jvm.Cond.instanceMethod ({ cls := "SecondHelpings$Eats", name := "why", desc := "(LSecondHelpings$Board;LSecondHelpings$State;)I" } : Jvm.MethodName)) ∈ lw_all := lw_g (lw_at lw_m6 23 rfl) rfl
theorem q1317 : (Jvm.Cond.code ({ cls := "SecondHelpings$Eats", name := "why", desc := "(LSecondHelpings$Board;LSecondHelpings$State;)I" } : Jvm.MethodName) prog_11_method_2_code (3 : Nat) (Option.some Jvm.ClassFile.FieldType.int)) ∈ lw_all := lw_g (lw_at lw_m6 24 rfl) rfl
theorem q1318 : (Jvm.Cond.methodLink "SecondHelpings$Eats" (19 : Nat) ({ cls := "SecondHelpings$State", name := "whyEat", desc := "(LSecondHelpings$Board;III)I" } : Jvm.MethodName)) ∈ lw_all := lw_g (lw_at lw_m6 25 rfl) rfl
theorem q1350 : (Jvm.Cond.selects "SecondHelpings$Eats" ({ cls := "SecondHelpings$Line", name := "live", desc := "(LSecondHelpings$Board;LSecondHelpings$State;)V" } : Jvm.MethodName) ({ cls := "SecondHelpings$Eats", name := "live", desc := "(LSecondHelpings$Board;LSecondHelpings$State;)V" } : Jvm.MethodName)) ∈ lw_all := lw_g (lw_at lw_m6 57 rfl) rfl
theorem q1351 : (Jvm.Cond.instanceMethod ({ cls := "SecondHelpings$Eats", name := "live", desc := "(LSecondHelpings$Board;LSecondHelpings$State;)V" } : Jvm.MethodName)) ∈ lw_all := lw_g (lw_at lw_m6 58 rfl) rfl
theorem q1352 : (Jvm.Cond.code ({ cls := "SecondHelpings$Eats", name := "live", desc := "(LSecondHelpings$Board;LSecondHelpings$State;)V" } : Jvm.MethodName) prog_11_method_3_code (3 : Nat) (Option.none : Option Jvm.ClassFile.FieldType)) ∈ lw_all := lw_g (lw_at lw_m6 59 rfl) rfl
theorem q1353 : (Jvm.Cond.methodLink "SecondHelpings$Eats" (25 : Nat) ({ cls := "SecondHelpings$State", name := "eat", desc := "(III)V" } : Jvm.MethodName)) ∈ lw_all := lw_g (lw_at lw_m6 60 rfl) rfl
theorem q2264 : (Jvm.Cond.castable "SecondHelpings$Eats" "java/lang/Object") ∈ lw_tbl := lw_at lw_m10 11 rfl
theorem q2278 : (Jvm.Cond.castable "SecondHelpings$Eats" "SecondHelpings$Line") ∈ lw_tbl := lw_at lw_m10 25 rfl
theorem in_X12 : ∀ w ∈ wsX120, w ∈ lw_all := lw_in wsX120 [1228, 1230, 1232] (by decide +kernel) (by decide +kernel)
/-! SecondHelpings$Serves -/
set_option maxRecDepth 100000
def RX13 : String := "SecondHelpings$Serves"
def TX13 : u_T := fun k => match k with
  | 0 => ("SecondHelpings$Serves", "p", "I", true)
  | 1 => ("SecondHelpings$Serves", "d", "I", true)
  | _ => ("SecondHelpings$Serves", "n", "I", true)
def tyX13 : Nat → FieldType := fun k => match k with
  | 0 => .int
  | 1 => .int
  | _ => .int
abbrev wsX130 : List Cond := u_ws RX13 TX13 3
theorem nmX13 : ∀ a, a < 3 → ∀ b, b < 3 → a ≠ b → (TX13 a).2.1 ≠ (TX13 b).2.1 := by decide +kernel
theorem tyX13_ok : ∀ k, k < 3 → parseFieldDescriptor (TX13 k).2.2.1 = some (tyX13 k) := by decide +kernel
abbrev cX13_init : ByteArray := prog_22_method_1_code
def yX13_init : MethodName := ⟨RX13, "<init>", "(III)V"⟩
def dkwX13_init_0 : List UInt8 := [42, 183, 0, 1, 42, 27, 181, 0, 7, 42, 28, 181, 0, 13, 42, 29, 181, 0, 16, 177]
abbrev dktX13_init_0 : List UInt8 := dkwX13_init_0 ++ []
theorem dksX13_init_0 : cX13_init.data.toList.drop 0 = dktX13_init_0 := by decide +kernel
theorem dX13_init_0 : decode cX13_init 0 = .ok (.aload_n 0, 1) := dk_42 (dk_at dksX13_init_0 0 rfl rfl)
theorem dX13_init_1 : decode cX13_init 1 = .ok (.invokespecial 1, 3) := dk_183 0 1 (dk_at dksX13_init_0 1 rfl rfl)
theorem dX13_init_4 : decode cX13_init 4 = .ok (.aload_n 0, 1) := dk_42 (dk_at dksX13_init_0 4 rfl rfl)
theorem dX13_init_5 : decode cX13_init 5 = .ok (.iload_n 1, 1) := dk_27 (dk_at dksX13_init_0 5 rfl rfl)
theorem dX13_init_6 : decode cX13_init 6 = .ok (.putfield 7, 3) := dk_181 0 7 (dk_at dksX13_init_0 6 rfl rfl)
theorem dX13_init_9 : decode cX13_init 9 = .ok (.aload_n 0, 1) := dk_42 (dk_at dksX13_init_0 9 rfl rfl)
theorem dX13_init_10 : decode cX13_init 10 = .ok (.iload_n 2, 1) := dk_28 (dk_at dksX13_init_0 10 rfl rfl)
theorem dX13_init_11 : decode cX13_init 11 = .ok (.putfield 13, 3) := dk_181 0 13 (dk_at dksX13_init_0 11 rfl rfl)
theorem dX13_init_14 : decode cX13_init 14 = .ok (.aload_n 0, 1) := dk_42 (dk_at dksX13_init_0 14 rfl rfl)
theorem dX13_init_15 : decode cX13_init 15 = .ok (.iload_n 3, 1) := dk_29 (dk_at dksX13_init_0 15 rfl rfl)
theorem dX13_init_16 : decode cX13_init 16 = .ok (.putfield 16, 3) := dk_181 0 16 (dk_at dksX13_init_0 16 rfl rfl)
theorem dX13_init_19 : decode cX13_init 19 = .ok (.return_, 1) := dk_177 (dk_at dksX13_init_0 19 rfl rfl)
abbrev cX13_why : ByteArray := prog_22_method_2_code
def yX13_why : MethodName := ⟨RX13, "why", "(LSecondHelpings$Board;LSecondHelpings$State;)I"⟩
def dkwX13_why_0 : List UInt8 := [4, 44, 42, 180, 0, 7, 42, 180, 0, 13, 42, 180, 0, 16, 182, 0, 19, 184, 0, 25, 172]
abbrev dktX13_why_0 : List UInt8 := dkwX13_why_0 ++ []
theorem dksX13_why_0 : cX13_why.data.toList.drop 0 = dktX13_why_0 := by decide +kernel
theorem dX13_why_0 : decode cX13_why 0 = .ok (.iconst 1, 1) := dk_4 (dk_at dksX13_why_0 0 rfl rfl)
theorem dX13_why_1 : decode cX13_why 1 = .ok (.aload_n 2, 1) := dk_44 (dk_at dksX13_why_0 1 rfl rfl)
theorem dX13_why_2 : decode cX13_why 2 = .ok (.aload_n 0, 1) := dk_42 (dk_at dksX13_why_0 2 rfl rfl)
theorem dX13_why_3 : decode cX13_why 3 = .ok (.getfield 7, 3) := dk_180 0 7 (dk_at dksX13_why_0 3 rfl rfl)
theorem dX13_why_6 : decode cX13_why 6 = .ok (.aload_n 0, 1) := dk_42 (dk_at dksX13_why_0 6 rfl rfl)
theorem dX13_why_7 : decode cX13_why 7 = .ok (.getfield 13, 3) := dk_180 0 13 (dk_at dksX13_why_0 7 rfl rfl)
theorem dX13_why_10 : decode cX13_why 10 = .ok (.aload_n 0, 1) := dk_42 (dk_at dksX13_why_0 10 rfl rfl)
theorem dX13_why_11 : decode cX13_why 11 = .ok (.getfield 16, 3) := dk_180 0 16 (dk_at dksX13_why_0 11 rfl rfl)
theorem dX13_why_14 : decode cX13_why 14 = .ok (.invokevirtual 19, 3) := dk_182 0 19 (dk_at dksX13_why_0 14 rfl rfl)
theorem dX13_why_17 : decode cX13_why 17 = .ok (.invokestatic 25, 3) := dk_184 0 25 (dk_at dksX13_why_0 17 rfl rfl)
theorem dX13_why_20 : decode cX13_why 20 = .ok (.ireturn, 1) := dk_172 (dk_at dksX13_why_0 20 rfl rfl)
abbrev cX13_live : ByteArray := prog_22_method_3_code
def yX13_live : MethodName := ⟨RX13, "live", "(LSecondHelpings$Board;LSecondHelpings$State;)V"⟩
def dkwX13_live_0 : List UInt8 := [44, 42, 180, 0, 7, 42, 180, 0, 13, 42, 180, 0, 16, 182, 0, 29, 177]
abbrev dktX13_live_0 : List UInt8 := dkwX13_live_0 ++ []
theorem dksX13_live_0 : cX13_live.data.toList.drop 0 = dktX13_live_0 := by decide +kernel
theorem dX13_live_0 : decode cX13_live 0 = .ok (.aload_n 2, 1) := dk_44 (dk_at dksX13_live_0 0 rfl rfl)
theorem dX13_live_1 : decode cX13_live 1 = .ok (.aload_n 0, 1) := dk_42 (dk_at dksX13_live_0 1 rfl rfl)
theorem dX13_live_2 : decode cX13_live 2 = .ok (.getfield 7, 3) := dk_180 0 7 (dk_at dksX13_live_0 2 rfl rfl)
theorem dX13_live_5 : decode cX13_live 5 = .ok (.aload_n 0, 1) := dk_42 (dk_at dksX13_live_0 5 rfl rfl)
theorem dX13_live_6 : decode cX13_live 6 = .ok (.getfield 13, 3) := dk_180 0 13 (dk_at dksX13_live_0 6 rfl rfl)
theorem dX13_live_9 : decode cX13_live 9 = .ok (.aload_n 0, 1) := dk_42 (dk_at dksX13_live_0 9 rfl rfl)
theorem dX13_live_10 : decode cX13_live 10 = .ok (.getfield 16, 3) := dk_180 0 16 (dk_at dksX13_live_0 10 rfl rfl)
theorem dX13_live_13 : decode cX13_live 13 = .ok (.invokevirtual 29, 3) := dk_182 0 29 (dk_at dksX13_live_0 13 rfl rfl)
theorem dX13_live_16 : decode cX13_live 16 = .ok (.return_, 1) := dk_177 (dk_at dksX13_live_0 16 rfl rfl)
theorem q119 : (Jvm.Cond.initialized "SecondHelpings$Serves") ∈ lw_all := lw_g (lw_at lw_m1 26 rfl) rfl
theorem q1236 : (Jvm.Cond.instantiable "SecondHelpings$Serves" (3 : Nat)) ∈ lw_all := lw_g (lw_at lw_m5 183 rfl) rfl
theorem q1238 : (Jvm.Cond.instanceMethod ({ cls := "SecondHelpings$Serves", name := "<init>", desc := "(III)V" } : Jvm.MethodName)) ∈ lw_all := lw_g (lw_at lw_m5 185 rfl) rfl
theorem q1239 : (Jvm.Cond.code ({ cls := "SecondHelpings$Serves", name := "<init>", desc := "(III)V" } : Jvm.MethodName) prog_22_method_1_code (4 : Nat) (Option.none : Option Jvm.ClassFile.FieldType)) ∈ lw_all := lw_g (lw_at lw_m5 186 rfl) rfl
theorem q1240 : (Jvm.Cond.methodLinkNest "SecondHelpings$Serves" (1 : Nat) ({ cls := "SecondHelpings$Line", name := "<init>", desc := "()V" } : Jvm.MethodName) "SecondHelpings") ∈ lw_tbl := lw_at lw_m5 187 rfl
theorem q1241 : (Jvm.Cond.fieldLink "SecondHelpings$Serves" (7 : Nat) "SecondHelpings$Serves" "p" "I") ∈ lw_all := lw_g (lw_at lw_m5 188 rfl) rfl
theorem q1242 : (Jvm.Cond.fieldLink "SecondHelpings$Serves" (13 : Nat) "SecondHelpings$Serves" "d" "I") ∈ lw_all := lw_g (lw_at lw_m5 189 rfl) rfl
theorem q1243 : (Jvm.Cond.fieldLink "SecondHelpings$Serves" (16 : Nat) "SecondHelpings$Serves" "n" "I") ∈ lw_all := lw_g (lw_at lw_m5 190 rfl) rfl
theorem q1244 : (Jvm.Cond.laysFinal "SecondHelpings$Serves" "SecondHelpings$Serves" "p" "I") ∈ lw_all := lw_g (lw_at lw_m5 191 rfl) rfl
theorem q1245 : (Jvm.Cond.soleField "SecondHelpings$Serves" "p") ∈ lw_all := lw_g (lw_at lw_m5 192 rfl) rfl
theorem q1246 : (Jvm.Cond.laysFinal "SecondHelpings$Serves" "SecondHelpings$Serves" "d" "I") ∈ lw_all := lw_g (lw_at lw_m5 193 rfl) rfl
theorem q1247 : (Jvm.Cond.soleField "SecondHelpings$Serves" "d") ∈ lw_all := lw_g (lw_at lw_m5 194 rfl) rfl
theorem q1248 : (Jvm.Cond.laysFinal "SecondHelpings$Serves" "SecondHelpings$Serves" "n" "I") ∈ lw_all := lw_g (lw_at lw_m5 195 rfl) rfl
theorem q1249 : (Jvm.Cond.soleField "SecondHelpings$Serves" "n") ∈ lw_all := lw_g (lw_at lw_m5 196 rfl) rfl
theorem q1250 : (Jvm.Cond.superclass "SecondHelpings$Serves" "SecondHelpings$Line") ∈ lw_all := lw_g (lw_at lw_m5 197 rfl) rfl
theorem q1334 : (Jvm.Cond.selects "SecondHelpings$Serves" ({ cls := "SecondHelpings$Line", name := "why", desc := "(LSecondHelpings$Board;LSecondHelpings$State;)I" } : Jvm.MethodName) ({ cls := "SecondHelpings$Serves", name := "why", desc := "(LSecondHelpings$Board;LSecondHelpings$State;)I" } : Jvm.MethodName)) ∈ lw_all := lw_g (lw_at lw_m6 41 rfl) rfl
theorem q1335 : (Jvm.Cond.instanceMethod ({ cls := "SecondHelpings$Serves", name := "why", desc := "(LSecondHelpings$Board;LSecondHelpings$State;)I" } : Jvm.MethodName)) ∈ lw_all := lw_g (lw_at lw_m6 42 rfl) rfl
theorem q1336 : (Jvm.Cond.code ({ cls := "SecondHelpings$Serves", name := "why", desc := "(LSecondHelpings$Board;LSecondHelpings$State;)I" } : Jvm.MethodName) prog_22_method_2_code (3 : Nat) (Option.some Jvm.ClassFile.FieldType.int)) ∈ lw_all := lw_g (lw_at lw_m6 43 rfl) rfl
theorem q1337 : (Jvm.Cond.methodLink "SecondHelpings$Serves" (19 : Nat) ({ cls := "SecondHelpings$State", name := "whyServe", desc := "(III)I" } : Jvm.MethodName)) ∈ lw_all := lw_g (lw_at lw_m6 44 rfl) rfl
theorem q1338 : (Jvm.Cond.methodLink "SecondHelpings$Serves" (25 : Nat) ({ cls := "SecondHelpings$Serves", name := "coded", desc := "(II)I" } : Jvm.MethodName)) ∈ lw_all := lw_g (lw_at lw_m6 45 rfl) rfl
theorem q1339 : (Jvm.Cond.sameMethod "SecondHelpings$Serves" "SecondHelpings$Line" "coded" "(II)I") ∈ lw_all := lw_g (lw_at lw_m6 46 rfl) rfl
theorem q1365 : (Jvm.Cond.selects "SecondHelpings$Serves" ({ cls := "SecondHelpings$Line", name := "live", desc := "(LSecondHelpings$Board;LSecondHelpings$State;)V" } : Jvm.MethodName) ({ cls := "SecondHelpings$Serves", name := "live", desc := "(LSecondHelpings$Board;LSecondHelpings$State;)V" } : Jvm.MethodName)) ∈ lw_all := lw_g (lw_at lw_m6 72 rfl) rfl
theorem q1366 : (Jvm.Cond.instanceMethod ({ cls := "SecondHelpings$Serves", name := "live", desc := "(LSecondHelpings$Board;LSecondHelpings$State;)V" } : Jvm.MethodName)) ∈ lw_all := lw_g (lw_at lw_m6 73 rfl) rfl
theorem q1367 : (Jvm.Cond.code ({ cls := "SecondHelpings$Serves", name := "live", desc := "(LSecondHelpings$Board;LSecondHelpings$State;)V" } : Jvm.MethodName) prog_22_method_3_code (3 : Nat) (Option.none : Option Jvm.ClassFile.FieldType)) ∈ lw_all := lw_g (lw_at lw_m6 74 rfl) rfl
theorem q1368 : (Jvm.Cond.methodLink "SecondHelpings$Serves" (29 : Nat) ({ cls := "SecondHelpings$State", name := "serve", desc := "(III)V" } : Jvm.MethodName)) ∈ lw_all := lw_g (lw_at lw_m6 75 rfl) rfl
theorem q2265 : (Jvm.Cond.castable "SecondHelpings$Serves" "java/lang/Object") ∈ lw_tbl := lw_at lw_m10 12 rfl
theorem q2279 : (Jvm.Cond.castable "SecondHelpings$Serves" "SecondHelpings$Line") ∈ lw_tbl := lw_at lw_m10 26 rfl
theorem in_X13 : ∀ w ∈ wsX130, w ∈ lw_all := lw_in wsX130 [1244, 1246, 1248] (by decide +kernel) (by decide +kernel)
/-! SecondHelpings$Rises -/
set_option maxRecDepth 100000
def RX14 : String := "SecondHelpings$Rises"
def TX14 : u_T := fun k => match k with
  | _ => ("SecondHelpings$Rises", "p", "I", true)
def tyX14 : Nat → FieldType := fun k => match k with
  | _ => .int
abbrev wsX140 : List Cond := u_ws RX14 TX14 1
theorem nmX14 : ∀ a, a < 1 → ∀ b, b < 1 → a ≠ b → (TX14 a).2.1 ≠ (TX14 b).2.1 := by decide +kernel
theorem tyX14_ok : ∀ k, k < 1 → parseFieldDescriptor (TX14 k).2.2.1 = some (tyX14 k) := by decide +kernel
abbrev cX14_init : ByteArray := prog_20_method_1_code
def yX14_init : MethodName := ⟨RX14, "<init>", "(I)V"⟩
def dkwX14_init_0 : List UInt8 := [42, 183, 0, 1, 42, 27, 181, 0, 7, 177]
abbrev dktX14_init_0 : List UInt8 := dkwX14_init_0 ++ []
theorem dksX14_init_0 : cX14_init.data.toList.drop 0 = dktX14_init_0 := by decide +kernel
theorem dX14_init_0 : decode cX14_init 0 = .ok (.aload_n 0, 1) := dk_42 (dk_at dksX14_init_0 0 rfl rfl)
theorem dX14_init_1 : decode cX14_init 1 = .ok (.invokespecial 1, 3) := dk_183 0 1 (dk_at dksX14_init_0 1 rfl rfl)
theorem dX14_init_4 : decode cX14_init 4 = .ok (.aload_n 0, 1) := dk_42 (dk_at dksX14_init_0 4 rfl rfl)
theorem dX14_init_5 : decode cX14_init 5 = .ok (.iload_n 1, 1) := dk_27 (dk_at dksX14_init_0 5 rfl rfl)
theorem dX14_init_6 : decode cX14_init 6 = .ok (.putfield 7, 3) := dk_181 0 7 (dk_at dksX14_init_0 6 rfl rfl)
theorem dX14_init_9 : decode cX14_init 9 = .ok (.return_, 1) := dk_177 (dk_at dksX14_init_0 9 rfl rfl)
abbrev cX14_why : ByteArray := prog_20_method_2_code
def yX14_why : MethodName := ⟨RX14, "why", "(LSecondHelpings$Board;LSecondHelpings$State;)I"⟩
def dkwX14_why_0 : List UInt8 := [5, 44, 42, 180, 0, 7, 182, 0, 13, 184, 0, 19, 172]
abbrev dktX14_why_0 : List UInt8 := dkwX14_why_0 ++ []
theorem dksX14_why_0 : cX14_why.data.toList.drop 0 = dktX14_why_0 := by decide +kernel
theorem dX14_why_0 : decode cX14_why 0 = .ok (.iconst 2, 1) := dk_5 (dk_at dksX14_why_0 0 rfl rfl)
theorem dX14_why_1 : decode cX14_why 1 = .ok (.aload_n 2, 1) := dk_44 (dk_at dksX14_why_0 1 rfl rfl)
theorem dX14_why_2 : decode cX14_why 2 = .ok (.aload_n 0, 1) := dk_42 (dk_at dksX14_why_0 2 rfl rfl)
theorem dX14_why_3 : decode cX14_why 3 = .ok (.getfield 7, 3) := dk_180 0 7 (dk_at dksX14_why_0 3 rfl rfl)
theorem dX14_why_6 : decode cX14_why 6 = .ok (.invokevirtual 13, 3) := dk_182 0 13 (dk_at dksX14_why_0 6 rfl rfl)
theorem dX14_why_9 : decode cX14_why 9 = .ok (.invokestatic 19, 3) := dk_184 0 19 (dk_at dksX14_why_0 9 rfl rfl)
theorem dX14_why_12 : decode cX14_why 12 = .ok (.ireturn, 1) := dk_172 (dk_at dksX14_why_0 12 rfl rfl)
abbrev cX14_live : ByteArray := prog_20_method_3_code
def yX14_live : MethodName := ⟨RX14, "live", "(LSecondHelpings$Board;LSecondHelpings$State;)V"⟩
def dkwX14_live_0 : List UInt8 := [44, 43, 42, 180, 0, 7, 182, 0, 23, 177]
abbrev dktX14_live_0 : List UInt8 := dkwX14_live_0 ++ []
theorem dksX14_live_0 : cX14_live.data.toList.drop 0 = dktX14_live_0 := by decide +kernel
theorem dX14_live_0 : decode cX14_live 0 = .ok (.aload_n 2, 1) := dk_44 (dk_at dksX14_live_0 0 rfl rfl)
theorem dX14_live_1 : decode cX14_live 1 = .ok (.aload_n 1, 1) := dk_43 (dk_at dksX14_live_0 1 rfl rfl)
theorem dX14_live_2 : decode cX14_live 2 = .ok (.aload_n 0, 1) := dk_42 (dk_at dksX14_live_0 2 rfl rfl)
theorem dX14_live_3 : decode cX14_live 3 = .ok (.getfield 7, 3) := dk_180 0 7 (dk_at dksX14_live_0 3 rfl rfl)
theorem dX14_live_6 : decode cX14_live 6 = .ok (.invokevirtual 23, 3) := dk_182 0 23 (dk_at dksX14_live_0 6 rfl rfl)
theorem dX14_live_9 : decode cX14_live 9 = .ok (.return_, 1) := dk_177 (dk_at dksX14_live_0 9 rfl rfl)
theorem q120 : (Jvm.Cond.initialized "SecondHelpings$Rises") ∈ lw_all := lw_g (lw_at lw_m1 27 rfl) rfl
theorem q1253 : (Jvm.Cond.instantiable "SecondHelpings$Rises" (1 : Nat)) ∈ lw_all := lw_g (lw_at lw_m5 200 rfl) rfl
theorem q1255 : (Jvm.Cond.instanceMethod ({ cls := "SecondHelpings$Rises", name := "<init>", desc := "(I)V" } : Jvm.MethodName)) ∈ lw_all := lw_g (lw_at lw_m5 202 rfl) rfl
theorem q1256 : (Jvm.Cond.code ({ cls := "SecondHelpings$Rises", name := "<init>", desc := "(I)V" } : Jvm.MethodName) prog_20_method_1_code (2 : Nat) (Option.none : Option Jvm.ClassFile.FieldType)) ∈ lw_all := lw_g (lw_at lw_m5 203 rfl) rfl
theorem q1257 : (Jvm.Cond.methodLinkNest "SecondHelpings$Rises" (1 : Nat) ({ cls := "SecondHelpings$Line", name := "<init>", desc := "()V" } : Jvm.MethodName) "SecondHelpings") ∈ lw_tbl := lw_at lw_m5 204 rfl
theorem q1258 : (Jvm.Cond.fieldLink "SecondHelpings$Rises" (7 : Nat) "SecondHelpings$Rises" "p" "I") ∈ lw_all := lw_g (lw_at lw_m5 205 rfl) rfl
theorem q1259 : (Jvm.Cond.laysFinal "SecondHelpings$Rises" "SecondHelpings$Rises" "p" "I") ∈ lw_all := lw_g (lw_at lw_m5 206 rfl) rfl
theorem q1260 : (Jvm.Cond.soleField "SecondHelpings$Rises" "p") ∈ lw_all := lw_g (lw_at lw_m5 207 rfl) rfl
theorem q1261 : (Jvm.Cond.superclass "SecondHelpings$Rises" "SecondHelpings$Line") ∈ lw_all := lw_g (lw_at lw_m5 208 rfl) rfl
theorem q1328 : (Jvm.Cond.selects "SecondHelpings$Rises" ({ cls := "SecondHelpings$Line", name := "why", desc := "(LSecondHelpings$Board;LSecondHelpings$State;)I" } : Jvm.MethodName) ({ cls := "SecondHelpings$Rises", name := "why", desc := "(LSecondHelpings$Board;LSecondHelpings$State;)I" } : Jvm.MethodName)) ∈ lw_all := lw_g (lw_at lw_m6 35 rfl) rfl
theorem q1329 : (Jvm.Cond.instanceMethod ({ cls := "SecondHelpings$Rises", name := "why", desc := "(LSecondHelpings$Board;LSecondHelpings$State;)I" } : Jvm.MethodName)) ∈ lw_all := lw_g (lw_at lw_m6 36 rfl) rfl
theorem q1330 : (Jvm.Cond.code ({ cls := "SecondHelpings$Rises", name := "why", desc := "(LSecondHelpings$Board;LSecondHelpings$State;)I" } : Jvm.MethodName) prog_20_method_2_code (3 : Nat) (Option.some Jvm.ClassFile.FieldType.int)) ∈ lw_all := lw_g (lw_at lw_m6 37 rfl) rfl
theorem q1331 : (Jvm.Cond.methodLink "SecondHelpings$Rises" (13 : Nat) ({ cls := "SecondHelpings$State", name := "whyRise", desc := "(I)I" } : Jvm.MethodName)) ∈ lw_all := lw_g (lw_at lw_m6 38 rfl) rfl
theorem q1332 : (Jvm.Cond.methodLink "SecondHelpings$Rises" (19 : Nat) ({ cls := "SecondHelpings$Rises", name := "coded", desc := "(II)I" } : Jvm.MethodName)) ∈ lw_all := lw_g (lw_at lw_m6 39 rfl) rfl
theorem q1333 : (Jvm.Cond.sameMethod "SecondHelpings$Rises" "SecondHelpings$Line" "coded" "(II)I") ∈ lw_all := lw_g (lw_at lw_m6 40 rfl) rfl
theorem q1361 : (Jvm.Cond.selects "SecondHelpings$Rises" ({ cls := "SecondHelpings$Line", name := "live", desc := "(LSecondHelpings$Board;LSecondHelpings$State;)V" } : Jvm.MethodName) ({ cls := "SecondHelpings$Rises", name := "live", desc := "(LSecondHelpings$Board;LSecondHelpings$State;)V" } : Jvm.MethodName)) ∈ lw_all := lw_g (lw_at lw_m6 68 rfl) rfl
theorem q1362 : (Jvm.Cond.instanceMethod ({ cls := "SecondHelpings$Rises", name := "live", desc := "(LSecondHelpings$Board;LSecondHelpings$State;)V" } : Jvm.MethodName)) ∈ lw_all := lw_g (lw_at lw_m6 69 rfl) rfl
theorem q1363 : (Jvm.Cond.code ({ cls := "SecondHelpings$Rises", name := "live", desc := "(LSecondHelpings$Board;LSecondHelpings$State;)V" } : Jvm.MethodName) prog_20_method_3_code (3 : Nat) (Option.none : Option Jvm.ClassFile.FieldType)) ∈ lw_all := lw_g (lw_at lw_m6 70 rfl) rfl
theorem q1364 : (Jvm.Cond.methodLinkNest "SecondHelpings$Rises" (23 : Nat) ({ cls := "SecondHelpings$State", name := "passes", desc := "(LSecondHelpings$Board;I)V" } : Jvm.MethodName) "SecondHelpings") ∈ lw_tbl := lw_at lw_m6 71 rfl
theorem q2266 : (Jvm.Cond.castable "SecondHelpings$Rises" "java/lang/Object") ∈ lw_tbl := lw_at lw_m10 13 rfl
theorem q2280 : (Jvm.Cond.castable "SecondHelpings$Rises" "SecondHelpings$Line") ∈ lw_tbl := lw_at lw_m10 27 rfl
theorem in_X14 : ∀ w ∈ wsX140, w ∈ lw_all := lw_in wsX140 [1259] (by decide +kernel) (by decide +kernel)
/-! SecondHelpings$Refuses -/
set_option maxRecDepth 100000
def RX15 : String := "SecondHelpings$Refuses"
def TX15 : u_T := fun k => match k with
  | _ => ("SecondHelpings$Refuses", "p", "I", true)
def tyX15 : Nat → FieldType := fun k => match k with
  | _ => .int
abbrev wsX150 : List Cond := u_ws RX15 TX15 1
theorem nmX15 : ∀ a, a < 1 → ∀ b, b < 1 → a ≠ b → (TX15 a).2.1 ≠ (TX15 b).2.1 := by decide +kernel
theorem tyX15_ok : ∀ k, k < 1 → parseFieldDescriptor (TX15 k).2.2.1 = some (tyX15 k) := by decide +kernel
abbrev cX15_init : ByteArray := prog_19_method_1_code
def yX15_init : MethodName := ⟨RX15, "<init>", "(I)V"⟩
def dkwX15_init_0 : List UInt8 := [42, 183, 0, 1, 42, 27, 181, 0, 7, 177]
abbrev dktX15_init_0 : List UInt8 := dkwX15_init_0 ++ []
theorem dksX15_init_0 : cX15_init.data.toList.drop 0 = dktX15_init_0 := by decide +kernel
theorem dX15_init_0 : decode cX15_init 0 = .ok (.aload_n 0, 1) := dk_42 (dk_at dksX15_init_0 0 rfl rfl)
theorem dX15_init_1 : decode cX15_init 1 = .ok (.invokespecial 1, 3) := dk_183 0 1 (dk_at dksX15_init_0 1 rfl rfl)
theorem dX15_init_4 : decode cX15_init 4 = .ok (.aload_n 0, 1) := dk_42 (dk_at dksX15_init_0 4 rfl rfl)
theorem dX15_init_5 : decode cX15_init 5 = .ok (.iload_n 1, 1) := dk_27 (dk_at dksX15_init_0 5 rfl rfl)
theorem dX15_init_6 : decode cX15_init 6 = .ok (.putfield 7, 3) := dk_181 0 7 (dk_at dksX15_init_0 6 rfl rfl)
theorem dX15_init_9 : decode cX15_init 9 = .ok (.return_, 1) := dk_177 (dk_at dksX15_init_0 9 rfl rfl)
abbrev cX15_why : ByteArray := prog_19_method_2_code
def yX15_why : MethodName := ⟨RX15, "why", "(LSecondHelpings$Board;LSecondHelpings$State;)I"⟩
def dkwX15_why_0 : List UInt8 := [6, 44, 42, 180, 0, 7, 182, 0, 13, 184, 0, 19, 172]
abbrev dktX15_why_0 : List UInt8 := dkwX15_why_0 ++ []
theorem dksX15_why_0 : cX15_why.data.toList.drop 0 = dktX15_why_0 := by decide +kernel
theorem dX15_why_0 : decode cX15_why 0 = .ok (.iconst 3, 1) := dk_6 (dk_at dksX15_why_0 0 rfl rfl)
theorem dX15_why_1 : decode cX15_why 1 = .ok (.aload_n 2, 1) := dk_44 (dk_at dksX15_why_0 1 rfl rfl)
theorem dX15_why_2 : decode cX15_why 2 = .ok (.aload_n 0, 1) := dk_42 (dk_at dksX15_why_0 2 rfl rfl)
theorem dX15_why_3 : decode cX15_why 3 = .ok (.getfield 7, 3) := dk_180 0 7 (dk_at dksX15_why_0 3 rfl rfl)
theorem dX15_why_6 : decode cX15_why 6 = .ok (.invokevirtual 13, 3) := dk_182 0 13 (dk_at dksX15_why_0 6 rfl rfl)
theorem dX15_why_9 : decode cX15_why 9 = .ok (.invokestatic 19, 3) := dk_184 0 19 (dk_at dksX15_why_0 9 rfl rfl)
theorem dX15_why_12 : decode cX15_why 12 = .ok (.ireturn, 1) := dk_172 (dk_at dksX15_why_0 12 rfl rfl)
abbrev cX15_live : ByteArray := prog_19_method_3_code
def yX15_live : MethodName := ⟨RX15, "live", "(LSecondHelpings$Board;LSecondHelpings$State;)V"⟩
def dkwX15_live_0 : List UInt8 := [44, 89, 180, 0, 23, 4, 42, 180, 0, 7, 120, 128, 181, 0, 23, 177]
abbrev dktX15_live_0 : List UInt8 := dkwX15_live_0 ++ []
theorem dksX15_live_0 : cX15_live.data.toList.drop 0 = dktX15_live_0 := by decide +kernel
theorem dX15_live_0 : decode cX15_live 0 = .ok (.aload_n 2, 1) := dk_44 (dk_at dksX15_live_0 0 rfl rfl)
theorem dX15_live_1 : decode cX15_live 1 = .ok (.dup, 1) := dk_89 (dk_at dksX15_live_0 1 rfl rfl)
theorem dX15_live_2 : decode cX15_live 2 = .ok (.getfield 23, 3) := dk_180 0 23 (dk_at dksX15_live_0 2 rfl rfl)
theorem dX15_live_5 : decode cX15_live 5 = .ok (.iconst 1, 1) := dk_4 (dk_at dksX15_live_0 5 rfl rfl)
theorem dX15_live_6 : decode cX15_live 6 = .ok (.aload_n 0, 1) := dk_42 (dk_at dksX15_live_0 6 rfl rfl)
theorem dX15_live_7 : decode cX15_live 7 = .ok (.getfield 7, 3) := dk_180 0 7 (dk_at dksX15_live_0 7 rfl rfl)
theorem dX15_live_10 : decode cX15_live 10 = .ok (.ishl, 1) := dk_120 (dk_at dksX15_live_0 10 rfl rfl)
theorem dX15_live_11 : decode cX15_live 11 = .ok (.ior, 1) := dk_128 (dk_at dksX15_live_0 11 rfl rfl)
theorem dX15_live_12 : decode cX15_live 12 = .ok (.putfield 23, 3) := dk_181 0 23 (dk_at dksX15_live_0 12 rfl rfl)
theorem dX15_live_15 : decode cX15_live 15 = .ok (.return_, 1) := dk_177 (dk_at dksX15_live_0 15 rfl rfl)
theorem q121 : (Jvm.Cond.initialized "SecondHelpings$Refuses") ∈ lw_all := lw_g (lw_at lw_m1 28 rfl) rfl
theorem q341 : (Jvm.Cond.fieldLinkNest "SecondHelpings$Refuses" (23 : Nat) "SecondHelpings$State" "refused" "I" "SecondHelpings") ∈ lw_tbl := lw_at lw_m2 8 rfl
theorem q1264 : (Jvm.Cond.instantiable "SecondHelpings$Refuses" (1 : Nat)) ∈ lw_all := lw_g (lw_at lw_m5 211 rfl) rfl
theorem q1266 : (Jvm.Cond.instanceMethod ({ cls := "SecondHelpings$Refuses", name := "<init>", desc := "(I)V" } : Jvm.MethodName)) ∈ lw_all := lw_g (lw_at lw_m5 213 rfl) rfl
theorem q1267 : (Jvm.Cond.code ({ cls := "SecondHelpings$Refuses", name := "<init>", desc := "(I)V" } : Jvm.MethodName) prog_19_method_1_code (2 : Nat) (Option.none : Option Jvm.ClassFile.FieldType)) ∈ lw_all := lw_g (lw_at lw_m5 214 rfl) rfl
theorem q1268 : (Jvm.Cond.methodLinkNest "SecondHelpings$Refuses" (1 : Nat) ({ cls := "SecondHelpings$Line", name := "<init>", desc := "()V" } : Jvm.MethodName) "SecondHelpings") ∈ lw_tbl := lw_at lw_m5 215 rfl
theorem q1269 : (Jvm.Cond.fieldLink "SecondHelpings$Refuses" (7 : Nat) "SecondHelpings$Refuses" "p" "I") ∈ lw_all := lw_g (lw_at lw_m5 216 rfl) rfl
theorem q1270 : (Jvm.Cond.laysFinal "SecondHelpings$Refuses" "SecondHelpings$Refuses" "p" "I") ∈ lw_all := lw_g (lw_at lw_m5 217 rfl) rfl
theorem q1271 : (Jvm.Cond.soleField "SecondHelpings$Refuses" "p") ∈ lw_all := lw_g (lw_at lw_m5 218 rfl) rfl
theorem q1272 : (Jvm.Cond.superclass "SecondHelpings$Refuses" "SecondHelpings$Line") ∈ lw_all := lw_g (lw_at lw_m5 219 rfl) rfl
theorem q1322 : (Jvm.Cond.selects "SecondHelpings$Refuses" ({ cls := "SecondHelpings$Line", name := "why", desc := "(LSecondHelpings$Board;LSecondHelpings$State;)I" } : Jvm.MethodName) ({ cls := "SecondHelpings$Refuses", name := "why", desc := "(LSecondHelpings$Board;LSecondHelpings$State;)I" } : Jvm.MethodName)) ∈ lw_all := lw_g (lw_at lw_m6 29 rfl) rfl
theorem q1323 : (Jvm.Cond.instanceMethod ({ cls := "SecondHelpings$Refuses", name := "why", desc := "(LSecondHelpings$Board;LSecondHelpings$State;)I" } : Jvm.MethodName)) ∈ lw_all := lw_g (lw_at lw_m6 30 rfl) rfl
theorem q1324 : (Jvm.Cond.code ({ cls := "SecondHelpings$Refuses", name := "why", desc := "(LSecondHelpings$Board;LSecondHelpings$State;)I" } : Jvm.MethodName) prog_19_method_2_code (3 : Nat) (Option.some Jvm.ClassFile.FieldType.int)) ∈ lw_all := lw_g (lw_at lw_m6 31 rfl) rfl
theorem q1325 : (Jvm.Cond.methodLink "SecondHelpings$Refuses" (13 : Nat) ({ cls := "SecondHelpings$State", name := "whyRefuse", desc := "(I)I" } : Jvm.MethodName)) ∈ lw_all := lw_g (lw_at lw_m6 32 rfl) rfl
theorem q1326 : (Jvm.Cond.methodLink "SecondHelpings$Refuses" (19 : Nat) ({ cls := "SecondHelpings$Refuses", name := "coded", desc := "(II)I" } : Jvm.MethodName)) ∈ lw_all := lw_g (lw_at lw_m6 33 rfl) rfl
theorem q1327 : (Jvm.Cond.sameMethod "SecondHelpings$Refuses" "SecondHelpings$Line" "coded" "(II)I") ∈ lw_all := lw_g (lw_at lw_m6 34 rfl) rfl
theorem q1358 : (Jvm.Cond.selects "SecondHelpings$Refuses" ({ cls := "SecondHelpings$Line", name := "live", desc := "(LSecondHelpings$Board;LSecondHelpings$State;)V" } : Jvm.MethodName) ({ cls := "SecondHelpings$Refuses", name := "live", desc := "(LSecondHelpings$Board;LSecondHelpings$State;)V" } : Jvm.MethodName)) ∈ lw_all := lw_g (lw_at lw_m6 65 rfl) rfl
theorem q1359 : (Jvm.Cond.instanceMethod ({ cls := "SecondHelpings$Refuses", name := "live", desc := "(LSecondHelpings$Board;LSecondHelpings$State;)V" } : Jvm.MethodName)) ∈ lw_all := lw_g (lw_at lw_m6 66 rfl) rfl
theorem q1360 : (Jvm.Cond.code ({ cls := "SecondHelpings$Refuses", name := "live", desc := "(LSecondHelpings$Board;LSecondHelpings$State;)V" } : Jvm.MethodName) prog_19_method_3_code (3 : Nat) (Option.none : Option Jvm.ClassFile.FieldType)) ∈ lw_all := lw_g (lw_at lw_m6 67 rfl) rfl
theorem q2267 : (Jvm.Cond.castable "SecondHelpings$Refuses" "java/lang/Object") ∈ lw_tbl := lw_at lw_m10 14 rfl
theorem q2281 : (Jvm.Cond.castable "SecondHelpings$Refuses" "SecondHelpings$Line") ∈ lw_tbl := lw_at lw_m10 28 rfl
theorem in_X15 : ∀ w ∈ wsX150, w ∈ lw_all := lw_in wsX150 [1270] (by decide +kernel) (by decide +kernel)
/-! SecondHelpings$Accepts -/
set_option maxRecDepth 100000
def RX16 : String := "SecondHelpings$Accepts"
def TX16 : u_T := fun k => match k with
  | _ => ("SecondHelpings$Accepts", "p", "I", true)
def tyX16 : Nat → FieldType := fun k => match k with
  | _ => .int
abbrev wsX160 : List Cond := u_ws RX16 TX16 1
theorem nmX16 : ∀ a, a < 1 → ∀ b, b < 1 → a ≠ b → (TX16 a).2.1 ≠ (TX16 b).2.1 := by decide +kernel
theorem tyX16_ok : ∀ k, k < 1 → parseFieldDescriptor (TX16 k).2.2.1 = some (tyX16 k) := by decide +kernel
abbrev cX16_init : ByteArray := prog_2_method_1_code
def yX16_init : MethodName := ⟨RX16, "<init>", "(I)V"⟩
def dkwX16_init_0 : List UInt8 := [42, 183, 0, 1, 42, 27, 181, 0, 7, 177]
abbrev dktX16_init_0 : List UInt8 := dkwX16_init_0 ++ []
theorem dksX16_init_0 : cX16_init.data.toList.drop 0 = dktX16_init_0 := by decide +kernel
theorem dX16_init_0 : decode cX16_init 0 = .ok (.aload_n 0, 1) := dk_42 (dk_at dksX16_init_0 0 rfl rfl)
theorem dX16_init_1 : decode cX16_init 1 = .ok (.invokespecial 1, 3) := dk_183 0 1 (dk_at dksX16_init_0 1 rfl rfl)
theorem dX16_init_4 : decode cX16_init 4 = .ok (.aload_n 0, 1) := dk_42 (dk_at dksX16_init_0 4 rfl rfl)
theorem dX16_init_5 : decode cX16_init 5 = .ok (.iload_n 1, 1) := dk_27 (dk_at dksX16_init_0 5 rfl rfl)
theorem dX16_init_6 : decode cX16_init 6 = .ok (.putfield 7, 3) := dk_181 0 7 (dk_at dksX16_init_0 6 rfl rfl)
theorem dX16_init_9 : decode cX16_init 9 = .ok (.return_, 1) := dk_177 (dk_at dksX16_init_0 9 rfl rfl)
abbrev cX16_why : ByteArray := prog_2_method_2_code
def yX16_why : MethodName := ⟨RX16, "why", "(LSecondHelpings$Board;LSecondHelpings$State;)I"⟩
def dkwX16_why_0 : List UInt8 := [7, 44, 42, 180, 0, 7, 182, 0, 13, 184, 0, 19, 172]
abbrev dktX16_why_0 : List UInt8 := dkwX16_why_0 ++ []
theorem dksX16_why_0 : cX16_why.data.toList.drop 0 = dktX16_why_0 := by decide +kernel
theorem dX16_why_0 : decode cX16_why 0 = .ok (.iconst 4, 1) := dk_7 (dk_at dksX16_why_0 0 rfl rfl)
theorem dX16_why_1 : decode cX16_why 1 = .ok (.aload_n 2, 1) := dk_44 (dk_at dksX16_why_0 1 rfl rfl)
theorem dX16_why_2 : decode cX16_why 2 = .ok (.aload_n 0, 1) := dk_42 (dk_at dksX16_why_0 2 rfl rfl)
theorem dX16_why_3 : decode cX16_why 3 = .ok (.getfield 7, 3) := dk_180 0 7 (dk_at dksX16_why_0 3 rfl rfl)
theorem dX16_why_6 : decode cX16_why 6 = .ok (.invokevirtual 13, 3) := dk_182 0 13 (dk_at dksX16_why_0 6 rfl rfl)
theorem dX16_why_9 : decode cX16_why 9 = .ok (.invokestatic 19, 3) := dk_184 0 19 (dk_at dksX16_why_0 9 rfl rfl)
theorem dX16_why_12 : decode cX16_why 12 = .ok (.ireturn, 1) := dk_172 (dk_at dksX16_why_0 12 rfl rfl)
abbrev cX16_live : ByteArray := prog_2_method_3_code
def yX16_live : MethodName := ⟨RX16, "live", "(LSecondHelpings$Board;LSecondHelpings$State;)V"⟩
def dkwX16_live_0 : List UInt8 := [44, 89, 180, 0, 23, 4, 42, 180, 0, 7, 120, 2, 130, 126, 181, 0, 23, 177]
abbrev dktX16_live_0 : List UInt8 := dkwX16_live_0 ++ []
theorem dksX16_live_0 : cX16_live.data.toList.drop 0 = dktX16_live_0 := by decide +kernel
theorem dX16_live_0 : decode cX16_live 0 = .ok (.aload_n 2, 1) := dk_44 (dk_at dksX16_live_0 0 rfl rfl)
theorem dX16_live_1 : decode cX16_live 1 = .ok (.dup, 1) := dk_89 (dk_at dksX16_live_0 1 rfl rfl)
theorem dX16_live_2 : decode cX16_live 2 = .ok (.getfield 23, 3) := dk_180 0 23 (dk_at dksX16_live_0 2 rfl rfl)
theorem dX16_live_5 : decode cX16_live 5 = .ok (.iconst 1, 1) := dk_4 (dk_at dksX16_live_0 5 rfl rfl)
theorem dX16_live_6 : decode cX16_live 6 = .ok (.aload_n 0, 1) := dk_42 (dk_at dksX16_live_0 6 rfl rfl)
theorem dX16_live_7 : decode cX16_live 7 = .ok (.getfield 7, 3) := dk_180 0 7 (dk_at dksX16_live_0 7 rfl rfl)
theorem dX16_live_10 : decode cX16_live 10 = .ok (.ishl, 1) := dk_120 (dk_at dksX16_live_0 10 rfl rfl)
theorem dX16_live_11 : decode cX16_live 11 = .ok (.iconst (-1), 1) := dk_2 (dk_at dksX16_live_0 11 rfl rfl)
theorem dX16_live_12 : decode cX16_live 12 = .ok (.ixor, 1) := dk_130 (dk_at dksX16_live_0 12 rfl rfl)
theorem dX16_live_13 : decode cX16_live 13 = .ok (.iand, 1) := dk_126 (dk_at dksX16_live_0 13 rfl rfl)
theorem dX16_live_14 : decode cX16_live 14 = .ok (.putfield 23, 3) := dk_181 0 23 (dk_at dksX16_live_0 14 rfl rfl)
theorem dX16_live_17 : decode cX16_live 17 = .ok (.return_, 1) := dk_177 (dk_at dksX16_live_0 17 rfl rfl)
theorem q122 : (Jvm.Cond.initialized "SecondHelpings$Accepts") ∈ lw_all := lw_g (lw_at lw_m1 29 rfl) rfl
theorem q340 : (Jvm.Cond.fieldLinkNest "SecondHelpings$Accepts" (23 : Nat) "SecondHelpings$State" "refused" "I" "SecondHelpings") ∈ lw_tbl := lw_at lw_m2 7 rfl
theorem q1275 : (Jvm.Cond.instantiable "SecondHelpings$Accepts" (1 : Nat)) ∈ lw_all := lw_g (lw_at lw_m5 222 rfl) rfl
theorem q1277 : (Jvm.Cond.instanceMethod ({ cls := "SecondHelpings$Accepts", name := "<init>", desc := "(I)V" } : Jvm.MethodName)) ∈ lw_all := lw_g (lw_at lw_m5 224 rfl) rfl
theorem q1278 : (Jvm.Cond.code ({ cls := "SecondHelpings$Accepts", name := "<init>", desc := "(I)V" } : Jvm.MethodName) prog_2_method_1_code (2 : Nat) (Option.none : Option Jvm.ClassFile.FieldType)) ∈ lw_all := lw_g (lw_at lw_m5 225 rfl) rfl
theorem q1279 : (Jvm.Cond.methodLinkNest "SecondHelpings$Accepts" (1 : Nat) ({ cls := "SecondHelpings$Line", name := "<init>", desc := "()V" } : Jvm.MethodName) "SecondHelpings") ∈ lw_tbl := lw_at lw_m5 226 rfl
theorem q1280 : (Jvm.Cond.fieldLink "SecondHelpings$Accepts" (7 : Nat) "SecondHelpings$Accepts" "p" "I") ∈ lw_all := lw_g (lw_at lw_m5 227 rfl) rfl
theorem q1281 : (Jvm.Cond.laysFinal "SecondHelpings$Accepts" "SecondHelpings$Accepts" "p" "I") ∈ lw_all := lw_g (lw_at lw_m5 228 rfl) rfl
theorem q1282 : (Jvm.Cond.soleField "SecondHelpings$Accepts" "p") ∈ lw_all := lw_g (lw_at lw_m5 229 rfl) rfl
theorem q1283 : (Jvm.Cond.superclass "SecondHelpings$Accepts" "SecondHelpings$Line") ∈ lw_all := lw_g (lw_at lw_m5 230 rfl) rfl
theorem q1301 : (Jvm.Cond.selects "SecondHelpings$Accepts" ({ cls := "SecondHelpings$Line", name := "why", desc := "(LSecondHelpings$Board;LSecondHelpings$State;)I" } : Jvm.MethodName) ({ cls := "SecondHelpings$Accepts", name := "why", desc := "(LSecondHelpings$Board;LSecondHelpings$State;)I" } : Jvm.MethodName)) ∈ lw_all := lw_g (lw_at lw_m6 8 rfl) rfl
theorem q1302 : (Jvm.Cond.instanceMethod ({ cls := "SecondHelpings$Accepts", name := "why", desc := "(LSecondHelpings$Board;LSecondHelpings$State;)I" } : Jvm.MethodName)) ∈ lw_all := lw_g (lw_at lw_m6 9 rfl) rfl
theorem q1303 : (Jvm.Cond.code ({ cls := "SecondHelpings$Accepts", name := "why", desc := "(LSecondHelpings$Board;LSecondHelpings$State;)I" } : Jvm.MethodName) prog_2_method_2_code (3 : Nat) (Option.some Jvm.ClassFile.FieldType.int)) ∈ lw_all := lw_g (lw_at lw_m6 10 rfl) rfl
theorem q1304 : (Jvm.Cond.methodLink "SecondHelpings$Accepts" (13 : Nat) ({ cls := "SecondHelpings$State", name := "whyAccept", desc := "(I)I" } : Jvm.MethodName)) ∈ lw_all := lw_g (lw_at lw_m6 11 rfl) rfl
theorem q1305 : (Jvm.Cond.methodLink "SecondHelpings$Accepts" (19 : Nat) ({ cls := "SecondHelpings$Accepts", name := "coded", desc := "(II)I" } : Jvm.MethodName)) ∈ lw_all := lw_g (lw_at lw_m6 12 rfl) rfl
theorem q1306 : (Jvm.Cond.sameMethod "SecondHelpings$Accepts" "SecondHelpings$Line" "coded" "(II)I") ∈ lw_all := lw_g (lw_at lw_m6 13 rfl) rfl
theorem q1343 : (Jvm.Cond.selects "SecondHelpings$Accepts" ({ cls := "SecondHelpings$Line", name := "live", desc := "(LSecondHelpings$Board;LSecondHelpings$State;)V" } : Jvm.MethodName) ({ cls := "SecondHelpings$Accepts", name := "live", desc := "(LSecondHelpings$Board;LSecondHelpings$State;)V" } : Jvm.MethodName)) ∈ lw_all := lw_g (lw_at lw_m6 50 rfl) rfl
theorem q1344 : (Jvm.Cond.instanceMethod ({ cls := "SecondHelpings$Accepts", name := "live", desc := "(LSecondHelpings$Board;LSecondHelpings$State;)V" } : Jvm.MethodName)) ∈ lw_all := lw_g (lw_at lw_m6 51 rfl) rfl
theorem q1345 : (Jvm.Cond.code ({ cls := "SecondHelpings$Accepts", name := "live", desc := "(LSecondHelpings$Board;LSecondHelpings$State;)V" } : Jvm.MethodName) prog_2_method_3_code (3 : Nat) (Option.none : Option Jvm.ClassFile.FieldType)) ∈ lw_all := lw_g (lw_at lw_m6 52 rfl) rfl
theorem q2268 : (Jvm.Cond.castable "SecondHelpings$Accepts" "java/lang/Object") ∈ lw_tbl := lw_at lw_m10 15 rfl
theorem q2282 : (Jvm.Cond.castable "SecondHelpings$Accepts" "SecondHelpings$Line") ∈ lw_tbl := lw_at lw_m10 29 rfl
theorem in_X16 : ∀ w ∈ wsX160, w ∈ lw_all := lw_in wsX160 [1281] (by decide +kernel) (by decide +kernel)
/-! SecondHelpings$Dies -/
set_option maxRecDepth 100000
def RX17 : String := "SecondHelpings$Dies"
def TX17 : u_T := fun k => match k with
  | _ => ("SecondHelpings$Dies", "p", "I", true)
def tyX17 : Nat → FieldType := fun k => match k with
  | _ => .int
abbrev wsX170 : List Cond := u_ws RX17 TX17 1
theorem nmX17 : ∀ a, a < 1 → ∀ b, b < 1 → a ≠ b → (TX17 a).2.1 ≠ (TX17 b).2.1 := by decide +kernel
theorem tyX17_ok : ∀ k, k < 1 → parseFieldDescriptor (TX17 k).2.2.1 = some (tyX17 k) := by decide +kernel
abbrev cX17_init : ByteArray := prog_10_method_1_code
def yX17_init : MethodName := ⟨RX17, "<init>", "(I)V"⟩
def dkwX17_init_0 : List UInt8 := [42, 183, 0, 1, 42, 27, 181, 0, 7, 177]
abbrev dktX17_init_0 : List UInt8 := dkwX17_init_0 ++ []
theorem dksX17_init_0 : cX17_init.data.toList.drop 0 = dktX17_init_0 := by decide +kernel
theorem dX17_init_0 : decode cX17_init 0 = .ok (.aload_n 0, 1) := dk_42 (dk_at dksX17_init_0 0 rfl rfl)
theorem dX17_init_1 : decode cX17_init 1 = .ok (.invokespecial 1, 3) := dk_183 0 1 (dk_at dksX17_init_0 1 rfl rfl)
theorem dX17_init_4 : decode cX17_init 4 = .ok (.aload_n 0, 1) := dk_42 (dk_at dksX17_init_0 4 rfl rfl)
theorem dX17_init_5 : decode cX17_init 5 = .ok (.iload_n 1, 1) := dk_27 (dk_at dksX17_init_0 5 rfl rfl)
theorem dX17_init_6 : decode cX17_init 6 = .ok (.putfield 7, 3) := dk_181 0 7 (dk_at dksX17_init_0 6 rfl rfl)
theorem dX17_init_9 : decode cX17_init 9 = .ok (.return_, 1) := dk_177 (dk_at dksX17_init_0 9 rfl rfl)
abbrev cX17_why : ByteArray := prog_10_method_2_code
def yX17_why : MethodName := ⟨RX17, "why", "(LSecondHelpings$Board;LSecondHelpings$State;)I"⟩
def dkwX17_why_0 : List UInt8 := [8, 44, 42, 180, 0, 7, 182, 0, 13, 184, 0, 19, 172]
abbrev dktX17_why_0 : List UInt8 := dkwX17_why_0 ++ []
theorem dksX17_why_0 : cX17_why.data.toList.drop 0 = dktX17_why_0 := by decide +kernel
theorem dX17_why_0 : decode cX17_why 0 = .ok (.iconst 5, 1) := dk_8 (dk_at dksX17_why_0 0 rfl rfl)
theorem dX17_why_1 : decode cX17_why 1 = .ok (.aload_n 2, 1) := dk_44 (dk_at dksX17_why_0 1 rfl rfl)
theorem dX17_why_2 : decode cX17_why 2 = .ok (.aload_n 0, 1) := dk_42 (dk_at dksX17_why_0 2 rfl rfl)
theorem dX17_why_3 : decode cX17_why 3 = .ok (.getfield 7, 3) := dk_180 0 7 (dk_at dksX17_why_0 3 rfl rfl)
theorem dX17_why_6 : decode cX17_why 6 = .ok (.invokevirtual 13, 3) := dk_182 0 13 (dk_at dksX17_why_0 6 rfl rfl)
theorem dX17_why_9 : decode cX17_why 9 = .ok (.invokestatic 19, 3) := dk_184 0 19 (dk_at dksX17_why_0 9 rfl rfl)
theorem dX17_why_12 : decode cX17_why 12 = .ok (.ireturn, 1) := dk_172 (dk_at dksX17_why_0 12 rfl rfl)
abbrev cX17_live : ByteArray := prog_10_method_3_code
def yX17_live : MethodName := ⟨RX17, "live", "(LSecondHelpings$Board;LSecondHelpings$State;)V"⟩
def dkwX17_live_0 : List UInt8 := [44, 43, 42, 180, 0, 7, 182, 0, 23, 177]
abbrev dktX17_live_0 : List UInt8 := dkwX17_live_0 ++ []
theorem dksX17_live_0 : cX17_live.data.toList.drop 0 = dktX17_live_0 := by decide +kernel
theorem dX17_live_0 : decode cX17_live 0 = .ok (.aload_n 2, 1) := dk_44 (dk_at dksX17_live_0 0 rfl rfl)
theorem dX17_live_1 : decode cX17_live 1 = .ok (.aload_n 1, 1) := dk_43 (dk_at dksX17_live_0 1 rfl rfl)
theorem dX17_live_2 : decode cX17_live 2 = .ok (.aload_n 0, 1) := dk_42 (dk_at dksX17_live_0 2 rfl rfl)
theorem dX17_live_3 : decode cX17_live 3 = .ok (.getfield 7, 3) := dk_180 0 7 (dk_at dksX17_live_0 3 rfl rfl)
theorem dX17_live_6 : decode cX17_live 6 = .ok (.invokevirtual 23, 3) := dk_182 0 23 (dk_at dksX17_live_0 6 rfl rfl)
theorem dX17_live_9 : decode cX17_live 9 = .ok (.return_, 1) := dk_177 (dk_at dksX17_live_0 9 rfl rfl)
theorem q123 : (Jvm.Cond.initialized "SecondHelpings$Dies") ∈ lw_all := lw_g (lw_at lw_m1 30 rfl) rfl
theorem q1286 : (Jvm.Cond.instantiable "SecondHelpings$Dies" (1 : Nat)) ∈ lw_all := lw_g (lw_at lw_m5 233 rfl) rfl
theorem q1288 : (Jvm.Cond.instanceMethod ({ cls := "SecondHelpings$Dies", name := "<init>", desc := "(I)V" } : Jvm.MethodName)) ∈ lw_all := lw_g (lw_at lw_m5 235 rfl) rfl
theorem q1289 : (Jvm.Cond.code ({ cls := "SecondHelpings$Dies", name := "<init>", desc := "(I)V" } : Jvm.MethodName) prog_10_method_1_code (2 : Nat) (Option.none : Option Jvm.ClassFile.FieldType)) ∈ lw_all := lw_g (lw_at lw_m5 236 rfl) rfl
theorem q1290 : (Jvm.Cond.methodLinkNest "SecondHelpings$Dies" (1 : Nat) ({ cls := "SecondHelpings$Line", name := "<init>", desc := "()V" } : Jvm.MethodName) "SecondHelpings") ∈ lw_tbl := lw_at lw_m5 237 rfl
theorem q1291 : (Jvm.Cond.fieldLink "SecondHelpings$Dies" (7 : Nat) "SecondHelpings$Dies" "p" "I") ∈ lw_all := lw_g (lw_at lw_m5 238 rfl) rfl
theorem q1292 : (Jvm.Cond.laysFinal "SecondHelpings$Dies" "SecondHelpings$Dies" "p" "I") ∈ lw_all := lw_g (lw_at lw_m5 239 rfl) rfl
theorem q1293 : (Jvm.Cond.soleField "SecondHelpings$Dies" "p") ∈ lw_all := lw_g (lw_at lw_m6 0 rfl) rfl
theorem q1294 : (Jvm.Cond.superclass "SecondHelpings$Dies" "SecondHelpings$Line") ∈ lw_all := lw_g (lw_at lw_m6 1 rfl) rfl
theorem q1309 : (Jvm.Cond.selects "SecondHelpings$Dies" ({ cls := "SecondHelpings$Line", name := "why", desc := "(LSecondHelpings$Board;LSecondHelpings$State;)I" } : Jvm.MethodName) ({ cls := "SecondHelpings$Dies", name := "why", desc := "(LSecondHelpings$Board;LSecondHelpings$State;)I" } : Jvm.MethodName)) ∈ lw_all := lw_g (lw_at lw_m6 16 rfl) rfl
theorem q1310 : (Jvm.Cond.instanceMethod ({ cls := "SecondHelpings$Dies", name := "why", desc := "(LSecondHelpings$Board;LSecondHelpings$State;)I" } : Jvm.MethodName)) ∈ lw_all := lw_g (lw_at lw_m6 17 rfl) rfl
theorem q1311 : (Jvm.Cond.code ({ cls := "SecondHelpings$Dies", name := "why", desc := "(LSecondHelpings$Board;LSecondHelpings$State;)I" } : Jvm.MethodName) prog_10_method_2_code (3 : Nat) (Option.some Jvm.ClassFile.FieldType.int)) ∈ lw_all := lw_g (lw_at lw_m6 18 rfl) rfl
theorem q1312 : (Jvm.Cond.methodLink "SecondHelpings$Dies" (13 : Nat) ({ cls := "SecondHelpings$State", name := "whyDie", desc := "(I)I" } : Jvm.MethodName)) ∈ lw_all := lw_g (lw_at lw_m6 19 rfl) rfl
theorem q1313 : (Jvm.Cond.methodLink "SecondHelpings$Dies" (19 : Nat) ({ cls := "SecondHelpings$Dies", name := "coded", desc := "(II)I" } : Jvm.MethodName)) ∈ lw_all := lw_g (lw_at lw_m6 20 rfl) rfl
theorem q1314 : (Jvm.Cond.sameMethod "SecondHelpings$Dies" "SecondHelpings$Line" "coded" "(II)I") ∈ lw_all := lw_g (lw_at lw_m6 21 rfl) rfl
theorem q1346 : (Jvm.Cond.selects "SecondHelpings$Dies" ({ cls := "SecondHelpings$Line", name := "live", desc := "(LSecondHelpings$Board;LSecondHelpings$State;)V" } : Jvm.MethodName) ({ cls := "SecondHelpings$Dies", name := "live", desc := "(LSecondHelpings$Board;LSecondHelpings$State;)V" } : Jvm.MethodName)) ∈ lw_all := lw_g (lw_at lw_m6 53 rfl) rfl
theorem q1347 : (Jvm.Cond.instanceMethod ({ cls := "SecondHelpings$Dies", name := "live", desc := "(LSecondHelpings$Board;LSecondHelpings$State;)V" } : Jvm.MethodName)) ∈ lw_all := lw_g (lw_at lw_m6 54 rfl) rfl
theorem q1348 : (Jvm.Cond.code ({ cls := "SecondHelpings$Dies", name := "live", desc := "(LSecondHelpings$Board;LSecondHelpings$State;)V" } : Jvm.MethodName) prog_10_method_3_code (3 : Nat) (Option.none : Option Jvm.ClassFile.FieldType)) ∈ lw_all := lw_g (lw_at lw_m6 55 rfl) rfl
theorem q1349 : (Jvm.Cond.methodLink "SecondHelpings$Dies" (23 : Nat) ({ cls := "SecondHelpings$State", name := "die", desc := "(LSecondHelpings$Board;I)V" } : Jvm.MethodName)) ∈ lw_all := lw_g (lw_at lw_m6 56 rfl) rfl
theorem q2269 : (Jvm.Cond.castable "SecondHelpings$Dies" "java/lang/Object") ∈ lw_tbl := lw_at lw_m10 16 rfl
theorem q2283 : (Jvm.Cond.castable "SecondHelpings$Dies" "SecondHelpings$Line") ∈ lw_tbl := lw_at lw_m10 30 rfl
theorem in_X17 : ∀ w ∈ wsX170, w ∈ lw_all := lw_in wsX170 [1292] (by decide +kernel) (by decide +kernel)
/-! SecondHelpings$Not -/
set_option maxRecDepth 100000
def RX18 : String := "SecondHelpings$Not"
def TX18 : u_T := fun k => match k with
  | _ => ("SecondHelpings$Not", "a", "LSecondHelpings$Cond;", true)
def tyX18 : Nat → FieldType := fun k => match k with
  | _ => .object "SecondHelpings$Cond"
abbrev wsX180 : List Cond := u_ws RX18 TX18 1
theorem nmX18 : ∀ a, a < 1 → ∀ b, b < 1 → a ≠ b → (TX18 a).2.1 ≠ (TX18 b).2.1 := by decide +kernel
theorem tyX18_ok : ∀ k, k < 1 → parseFieldDescriptor (TX18 k).2.2.1 = some (tyX18 k) := by decide +kernel
abbrev cX18_init : ByteArray := prog_17_method_1_code
def yX18_init : MethodName := ⟨RX18, "<init>", "(LSecondHelpings$Cond;)V"⟩
def dkwX18_init_0 : List UInt8 := [42, 183, 0, 1, 42, 43, 181, 0, 7, 177]
abbrev dktX18_init_0 : List UInt8 := dkwX18_init_0 ++ []
theorem dksX18_init_0 : cX18_init.data.toList.drop 0 = dktX18_init_0 := by decide +kernel
theorem dX18_init_0 : decode cX18_init 0 = .ok (.aload_n 0, 1) := dk_42 (dk_at dksX18_init_0 0 rfl rfl)
theorem dX18_init_1 : decode cX18_init 1 = .ok (.invokespecial 1, 3) := dk_183 0 1 (dk_at dksX18_init_0 1 rfl rfl)
theorem dX18_init_4 : decode cX18_init 4 = .ok (.aload_n 0, 1) := dk_42 (dk_at dksX18_init_0 4 rfl rfl)
theorem dX18_init_5 : decode cX18_init 5 = .ok (.aload_n 1, 1) := dk_43 (dk_at dksX18_init_0 5 rfl rfl)
theorem dX18_init_6 : decode cX18_init 6 = .ok (.putfield 7, 3) := dk_181 0 7 (dk_at dksX18_init_0 6 rfl rfl)
theorem dX18_init_9 : decode cX18_init 9 = .ok (.return_, 1) := dk_177 (dk_at dksX18_init_0 9 rfl rfl)
abbrev cX18_is : ByteArray := prog_17_method_2_code
def yX18_is : MethodName := ⟨RX18, "is", "(LSecondHelpings;I)Z"⟩
def dkwX18_is_0 : List UInt8 := [42, 180, 0, 7, 43, 28, 185, 0, 13, 3, 0, 154, 0, 7, 4, 167, 0, 4, 3, 172]
abbrev dktX18_is_0 : List UInt8 := dkwX18_is_0 ++ []
theorem dksX18_is_0 : cX18_is.data.toList.drop 0 = dktX18_is_0 := by decide +kernel
theorem dX18_is_0 : decode cX18_is 0 = .ok (.aload_n 0, 1) := dk_42 (dk_at dksX18_is_0 0 rfl rfl)
theorem dX18_is_1 : decode cX18_is 1 = .ok (.getfield 7, 3) := dk_180 0 7 (dk_at dksX18_is_0 1 rfl rfl)
theorem dX18_is_4 : decode cX18_is 4 = .ok (.aload_n 1, 1) := dk_43 (dk_at dksX18_is_0 4 rfl rfl)
theorem dX18_is_5 : decode cX18_is 5 = .ok (.iload_n 2, 1) := dk_28 (dk_at dksX18_is_0 5 rfl rfl)
theorem dX18_is_6 : decode cX18_is 6 = .ok (.invokeinterface 13 3, 5) := by decide +kernel
theorem dX18_is_11 : decode cX18_is 11 = .ok (.ifCond .ne 7, 3) := dk_154 0 7 (dk_at dksX18_is_0 11 rfl rfl)
theorem dX18_is_14 : decode cX18_is 14 = .ok (.iconst 1, 1) := dk_4 (dk_at dksX18_is_0 14 rfl rfl)
theorem dX18_is_15 : decode cX18_is 15 = .ok (.goto 4, 3) := dk_167 0 4 (dk_at dksX18_is_0 15 rfl rfl)
theorem dX18_is_18 : decode cX18_is 18 = .ok (.iconst 0, 1) := dk_3 (dk_at dksX18_is_0 18 rfl rfl)
theorem dX18_is_19 : decode cX18_is 19 = .ok (.ireturn, 1) := dk_172 (dk_at dksX18_is_0 19 rfl rfl)
theorem q124 : (Jvm.Cond.initialized "SecondHelpings$Not") ∈ lw_all := lw_g (lw_at lw_m1 31 rfl) rfl
theorem q1414 : (Jvm.Cond.instantiable "SecondHelpings$Not" (1 : Nat)) ∈ lw_all := lw_g (lw_at lw_m6 121 rfl) rfl
theorem q1416 : (Jvm.Cond.instanceMethod ({ cls := "SecondHelpings$Not", name := "<init>", desc := "(LSecondHelpings$Cond;)V" } : Jvm.MethodName)) ∈ lw_all := lw_g (lw_at lw_m6 123 rfl) rfl
theorem q1417 : (Jvm.Cond.code ({ cls := "SecondHelpings$Not", name := "<init>", desc := "(LSecondHelpings$Cond;)V" } : Jvm.MethodName) prog_17_method_1_code (2 : Nat) (Option.none : Option Jvm.ClassFile.FieldType)) ∈ lw_all := lw_g (lw_at lw_m6 124 rfl) rfl
theorem q1418 : (Jvm.Cond.methodLink "SecondHelpings$Not" (1 : Nat) ({ cls := "java/lang/Object", name := "<init>", desc := "()V" } : Jvm.MethodName)) ∈ lw_all := lw_g (lw_at lw_m6 125 rfl) rfl
theorem q1419 : (Jvm.Cond.fieldLink "SecondHelpings$Not" (7 : Nat) "SecondHelpings$Not" "a" "LSecondHelpings$Cond;") ∈ lw_all := lw_g (lw_at lw_m6 126 rfl) rfl
theorem q1420 : (Jvm.Cond.laysFinal "SecondHelpings$Not" "SecondHelpings$Not" "a" "LSecondHelpings$Cond;") ∈ lw_all := lw_g (lw_at lw_m6 127 rfl) rfl
theorem q1421 : (Jvm.Cond.soleField "SecondHelpings$Not" "a") ∈ lw_all := lw_g (lw_at lw_m6 128 rfl) rfl
theorem q1422 : (Jvm.Cond.superclass "SecondHelpings$Not" "java/lang/Object") ∈ lw_all := lw_g (lw_at lw_m6 129 rfl) rfl
theorem q1525 : (Jvm.Cond.castable "SecondHelpings$Not" "SecondHelpings$Cond") ∈ lw_tbl := lw_at lw_m6 232 rfl
theorem q1526 : (Jvm.Cond.selects "SecondHelpings$Not" ({ cls := "SecondHelpings$Cond", name := "is", desc := "(LSecondHelpings;I)Z" } : Jvm.MethodName) ({ cls := "SecondHelpings$Not", name := "is", desc := "(LSecondHelpings;I)Z" } : Jvm.MethodName)) ∈ lw_all := lw_g (lw_at lw_m6 233 rfl) rfl
theorem q1527 : (Jvm.Cond.unhidden "SecondHelpings$Not" "is" "(LSecondHelpings;I)Z") ∈ lw_tbl := lw_at lw_m6 234 rfl
theorem q1528 : (Jvm.Cond.instanceMethod ({ cls := "SecondHelpings$Not", name := "is", desc := "(LSecondHelpings;I)Z" } : Jvm.MethodName)) ∈ lw_all := lw_g (lw_at lw_m6 235 rfl) rfl
theorem q1529 : (Jvm.Cond.publicMethod ({ cls := "SecondHelpings$Not", name := "is", desc := "(LSecondHelpings;I)Z" } : Jvm.MethodName)) ∈ lw_tbl := lw_at lw_m6 236 rfl
theorem q1530 : (Jvm.Cond.code ({ cls := "SecondHelpings$Not", name := "is", desc := "(LSecondHelpings;I)Z" } : Jvm.MethodName) prog_17_method_2_code (3 : Nat) (Option.some Jvm.ClassFile.FieldType.boolean)) ∈ lw_all := lw_g (lw_at lw_m6 237 rfl) rfl
theorem q1531 : (Jvm.Cond.interfaceEntry "SecondHelpings$Not" (13 : Nat)) ∈ lw_tbl := lw_at lw_m6 238 rfl
theorem q1532 : (Jvm.Cond.methodLink "SecondHelpings$Not" (13 : Nat) ({ cls := "SecondHelpings$Cond", name := "is", desc := "(LSecondHelpings;I)Z" } : Jvm.MethodName)) ∈ lw_all := lw_g (lw_at lw_m6 239 rfl) rfl
theorem q2270 : (Jvm.Cond.castable "SecondHelpings$Not" "java/lang/Object") ∈ lw_tbl := lw_at lw_m10 17 rfl
theorem in_X18 : ∀ w ∈ wsX180, w ∈ lw_all := lw_in wsX180 [1420] (by decide +kernel) (by decide +kernel)
/-! SecondHelpings$Marks -/
set_option maxRecDepth 100000
def RX19 : String := "SecondHelpings$Marks"
def TX19 : u_T := fun k => match k with
  | 0 => ("SecondHelpings$Marks", "what", "I", true)
  | _ => ("SecondHelpings$Marks", "of", "I", true)
def tyX19 : Nat → FieldType := fun k => match k with
  | 0 => .int
  | _ => .int
abbrev wsX190 : List Cond := u_ws RX19 TX19 2
theorem nmX19 : ∀ a, a < 2 → ∀ b, b < 2 → a ≠ b → (TX19 a).2.1 ≠ (TX19 b).2.1 := by decide +kernel
theorem tyX19_ok : ∀ k, k < 2 → parseFieldDescriptor (TX19 k).2.2.1 = some (tyX19 k) := by decide +kernel
abbrev cX19_init : ByteArray := prog_15_method_1_code
def yX19_init : MethodName := ⟨RX19, "<init>", "(II)V"⟩
def dkwX19_init_0 : List UInt8 := [42, 183, 0, 3, 42, 27, 181, 0, 9, 42, 28, 181, 0, 15, 177]
abbrev dktX19_init_0 : List UInt8 := dkwX19_init_0 ++ []
theorem dksX19_init_0 : cX19_init.data.toList.drop 0 = dktX19_init_0 := by decide +kernel
theorem dX19_init_0 : decode cX19_init 0 = .ok (.aload_n 0, 1) := dk_42 (dk_at dksX19_init_0 0 rfl rfl)
theorem dX19_init_1 : decode cX19_init 1 = .ok (.invokespecial 3, 3) := dk_183 0 3 (dk_at dksX19_init_0 1 rfl rfl)
theorem dX19_init_4 : decode cX19_init 4 = .ok (.aload_n 0, 1) := dk_42 (dk_at dksX19_init_0 4 rfl rfl)
theorem dX19_init_5 : decode cX19_init 5 = .ok (.iload_n 1, 1) := dk_27 (dk_at dksX19_init_0 5 rfl rfl)
theorem dX19_init_6 : decode cX19_init 6 = .ok (.putfield 9, 3) := dk_181 0 9 (dk_at dksX19_init_0 6 rfl rfl)
theorem dX19_init_9 : decode cX19_init 9 = .ok (.aload_n 0, 1) := dk_42 (dk_at dksX19_init_0 9 rfl rfl)
theorem dX19_init_10 : decode cX19_init 10 = .ok (.iload_n 2, 1) := dk_28 (dk_at dksX19_init_0 10 rfl rfl)
theorem dX19_init_11 : decode cX19_init 11 = .ok (.putfield 15, 3) := dk_181 0 15 (dk_at dksX19_init_0 11 rfl rfl)
theorem dX19_init_14 : decode cX19_init 14 = .ok (.return_, 1) := dk_177 (dk_at dksX19_init_0 14 rfl rfl)
abbrev cX19_is : ByteArray := prog_15_method_2_code
def yX19_is : MethodName := ⟨RX19, "is", "(LSecondHelpings;I)Z"⟩
def dkwX19_is_5 : List UInt8 := [104, 42, 180, 0, 15, 96, 46, 158, 0, 7, 4, 167, 0, 4, 3, 172]
abbrev dktX19_is_5 : List UInt8 := dkwX19_is_5 ++ []
def dkwX19_is_4 : List UInt8 := [46, 42, 180, 0, 15, 160, 0, 7, 4, 167, 0, 4, 3, 172, 43, 180, 0, 18, 180, 0, 49, 16, 6, 28]
abbrev dktX19_is_4 : List UInt8 := dkwX19_is_4 ++ dktX19_is_5
def dkwX19_is_3 : List UInt8 := [180, 0, 18, 28, 182, 0, 35, 154, 0, 7, 4, 167, 0, 4, 3, 172, 43, 180, 0, 39, 180, 0, 43, 28]
abbrev dktX19_is_3 : List UInt8 := dkwX19_is_3 ++ dktX19_is_4
def dkwX19_is_2 : List UInt8 := [43, 180, 0, 18, 28, 182, 0, 22, 172, 43, 180, 0, 18, 180, 0, 28, 28, 184, 0, 31, 172, 43]
abbrev dktX19_is_2 : List UInt8 := dkwX19_is_2 ++ dktX19_is_3
def dkwX19_is_1 : List UInt8 := [170, 0, 0, 0, 0, 0, 0, 92, 0, 0, 0, 0, 0, 0, 0, 3, 0, 0, 0, 32, 0, 0, 0, 41, 0, 0, 0, 53, 0, 0, 0, 70]
abbrev dktX19_is_1 : List UInt8 := dkwX19_is_1 ++ dktX19_is_2
def dkwX19_is_0 : List UInt8 := [42, 180, 0, 9]
abbrev dktX19_is_0 : List UInt8 := dkwX19_is_0 ++ dktX19_is_1
theorem dksX19_is_0 : cX19_is.data.toList.drop 0 = dktX19_is_0 := by decide +kernel
theorem dksX19_is_1 : cX19_is.data.toList.drop 4 = dktX19_is_1 := dk_seg dksX19_is_0 4 rfl rfl
theorem dksX19_is_2 : cX19_is.data.toList.drop 36 = dktX19_is_2 := dk_seg dksX19_is_1 32 rfl rfl
theorem dksX19_is_3 : cX19_is.data.toList.drop 58 = dktX19_is_3 := dk_seg dksX19_is_2 22 rfl rfl
theorem dksX19_is_4 : cX19_is.data.toList.drop 82 = dktX19_is_4 := dk_seg dksX19_is_3 24 rfl rfl
theorem dksX19_is_5 : cX19_is.data.toList.drop 106 = dktX19_is_5 := dk_seg dksX19_is_4 24 rfl rfl
theorem dX19_is_0 : decode cX19_is 0 = .ok (.aload_n 0, 1) := dk_42 (dk_at dksX19_is_0 0 rfl rfl)
theorem dX19_is_1 : decode cX19_is 1 = .ok (.getfield 9, 3) := dk_180 0 9 (dk_at dksX19_is_0 1 rfl rfl)
theorem dX19_is_4 : decode cX19_is 4 = .ok (.tableswitch 92 0 3 #[32, 41, 53, 70], 32) := by decide +kernel
theorem dX19_is_36 : decode cX19_is 36 = .ok (.aload_n 1, 1) := dk_43 (dk_at dksX19_is_2 0 rfl rfl)
theorem dX19_is_37 : decode cX19_is 37 = .ok (.getfield 18, 3) := dk_180 0 18 (dk_at dksX19_is_2 1 rfl rfl)
theorem dX19_is_40 : decode cX19_is 40 = .ok (.iload_n 2, 1) := dk_28 (dk_at dksX19_is_2 4 rfl rfl)
theorem dX19_is_41 : decode cX19_is 41 = .ok (.invokevirtual 22, 3) := dk_182 0 22 (dk_at dksX19_is_2 5 rfl rfl)
theorem dX19_is_44 : decode cX19_is 44 = .ok (.ireturn, 1) := dk_172 (dk_at dksX19_is_2 8 rfl rfl)
theorem dX19_is_45 : decode cX19_is 45 = .ok (.aload_n 1, 1) := dk_43 (dk_at dksX19_is_2 9 rfl rfl)
theorem dX19_is_46 : decode cX19_is 46 = .ok (.getfield 18, 3) := dk_180 0 18 (dk_at dksX19_is_2 10 rfl rfl)
theorem dX19_is_49 : decode cX19_is 49 = .ok (.getfield 28, 3) := dk_180 0 28 (dk_at dksX19_is_2 13 rfl rfl)
theorem dX19_is_52 : decode cX19_is 52 = .ok (.iload_n 2, 1) := dk_28 (dk_at dksX19_is_2 16 rfl rfl)
theorem dX19_is_53 : decode cX19_is 53 = .ok (.invokestatic 31, 3) := dk_184 0 31 (dk_at dksX19_is_2 17 rfl rfl)
theorem dX19_is_56 : decode cX19_is 56 = .ok (.ireturn, 1) := dk_172 (dk_at dksX19_is_2 20 rfl rfl)
theorem dX19_is_57 : decode cX19_is 57 = .ok (.aload_n 1, 1) := dk_43 (dk_at dksX19_is_2 21 rfl rfl)
theorem dX19_is_58 : decode cX19_is 58 = .ok (.getfield 18, 3) := dk_180 0 18 (dk_at dksX19_is_3 0 rfl rfl)
theorem dX19_is_61 : decode cX19_is 61 = .ok (.iload_n 2, 1) := dk_28 (dk_at dksX19_is_3 3 rfl rfl)
theorem dX19_is_62 : decode cX19_is 62 = .ok (.invokevirtual 35, 3) := dk_182 0 35 (dk_at dksX19_is_3 4 rfl rfl)
theorem dX19_is_65 : decode cX19_is 65 = .ok (.ifCond .ne 7, 3) := dk_154 0 7 (dk_at dksX19_is_3 7 rfl rfl)
theorem dX19_is_68 : decode cX19_is 68 = .ok (.iconst 1, 1) := dk_4 (dk_at dksX19_is_3 10 rfl rfl)
theorem dX19_is_69 : decode cX19_is 69 = .ok (.goto 4, 3) := dk_167 0 4 (dk_at dksX19_is_3 11 rfl rfl)
theorem dX19_is_72 : decode cX19_is 72 = .ok (.iconst 0, 1) := dk_3 (dk_at dksX19_is_3 14 rfl rfl)
theorem dX19_is_73 : decode cX19_is 73 = .ok (.ireturn, 1) := dk_172 (dk_at dksX19_is_3 15 rfl rfl)
theorem dX19_is_74 : decode cX19_is 74 = .ok (.aload_n 1, 1) := dk_43 (dk_at dksX19_is_3 16 rfl rfl)
theorem dX19_is_75 : decode cX19_is 75 = .ok (.getfield 39, 3) := dk_180 0 39 (dk_at dksX19_is_3 17 rfl rfl)
theorem dX19_is_78 : decode cX19_is 78 = .ok (.getfield 43, 3) := dk_180 0 43 (dk_at dksX19_is_3 20 rfl rfl)
theorem dX19_is_81 : decode cX19_is 81 = .ok (.iload_n 2, 1) := dk_28 (dk_at dksX19_is_3 23 rfl rfl)
theorem dX19_is_82 : decode cX19_is 82 = .ok (.iaload, 1) := dk_46 (dk_at dksX19_is_4 0 rfl rfl)
theorem dX19_is_83 : decode cX19_is 83 = .ok (.aload_n 0, 1) := dk_42 (dk_at dksX19_is_4 1 rfl rfl)
theorem dX19_is_84 : decode cX19_is 84 = .ok (.getfield 15, 3) := dk_180 0 15 (dk_at dksX19_is_4 2 rfl rfl)
theorem dX19_is_87 : decode cX19_is 87 = .ok (.if_icmp .ne 7, 3) := dk_160 0 7 (dk_at dksX19_is_4 5 rfl rfl)
theorem dX19_is_90 : decode cX19_is 90 = .ok (.iconst 1, 1) := dk_4 (dk_at dksX19_is_4 8 rfl rfl)
theorem dX19_is_91 : decode cX19_is 91 = .ok (.goto 4, 3) := dk_167 0 4 (dk_at dksX19_is_4 9 rfl rfl)
theorem dX19_is_94 : decode cX19_is 94 = .ok (.iconst 0, 1) := dk_3 (dk_at dksX19_is_4 12 rfl rfl)
theorem dX19_is_95 : decode cX19_is 95 = .ok (.ireturn, 1) := dk_172 (dk_at dksX19_is_4 13 rfl rfl)
theorem dX19_is_96 : decode cX19_is 96 = .ok (.aload_n 1, 1) := dk_43 (dk_at dksX19_is_4 14 rfl rfl)
theorem dX19_is_97 : decode cX19_is 97 = .ok (.getfield 18, 3) := dk_180 0 18 (dk_at dksX19_is_4 15 rfl rfl)
theorem dX19_is_100 : decode cX19_is 100 = .ok (.getfield 49, 3) := dk_180 0 49 (dk_at dksX19_is_4 18 rfl rfl)
theorem dX19_is_103 : decode cX19_is 103 = .ok (.bipush 6, 2) := dk_16 6 (dk_at dksX19_is_4 21 rfl rfl)
theorem dX19_is_105 : decode cX19_is 105 = .ok (.iload_n 2, 1) := dk_28 (dk_at dksX19_is_4 23 rfl rfl)
theorem dX19_is_106 : decode cX19_is 106 = .ok (.imul, 1) := dk_104 (dk_at dksX19_is_5 0 rfl rfl)
theorem dX19_is_107 : decode cX19_is 107 = .ok (.aload_n 0, 1) := dk_42 (dk_at dksX19_is_5 1 rfl rfl)
theorem dX19_is_108 : decode cX19_is 108 = .ok (.getfield 15, 3) := dk_180 0 15 (dk_at dksX19_is_5 2 rfl rfl)
theorem dX19_is_111 : decode cX19_is 111 = .ok (.iadd, 1) := dk_96 (dk_at dksX19_is_5 5 rfl rfl)
theorem dX19_is_112 : decode cX19_is 112 = .ok (.iaload, 1) := dk_46 (dk_at dksX19_is_5 6 rfl rfl)
theorem dX19_is_113 : decode cX19_is 113 = .ok (.ifCond .le 7, 3) := dk_158 0 7 (dk_at dksX19_is_5 7 rfl rfl)
theorem dX19_is_116 : decode cX19_is 116 = .ok (.iconst 1, 1) := dk_4 (dk_at dksX19_is_5 10 rfl rfl)
theorem dX19_is_117 : decode cX19_is 117 = .ok (.goto 4, 3) := dk_167 0 4 (dk_at dksX19_is_5 11 rfl rfl)
theorem dX19_is_120 : decode cX19_is 120 = .ok (.iconst 0, 1) := dk_3 (dk_at dksX19_is_5 14 rfl rfl)
theorem dX19_is_121 : decode cX19_is 121 = .ok (.ireturn, 1) := dk_172 (dk_at dksX19_is_5 15 rfl rfl)
theorem q125 : (Jvm.Cond.initialized "SecondHelpings$Marks") ∈ lw_all := lw_g (lw_at lw_m1 32 rfl) rfl
theorem q258 : (Jvm.Cond.fieldLinkNest "SecondHelpings$Marks" (43 : Nat) "SecondHelpings$Board" "parent" "[I" "SecondHelpings") ∈ lw_tbl := lw_at lw_m1 165 rfl
theorem q321 : (Jvm.Cond.fieldLinkNest "SecondHelpings$Marks" (49 : Nat) "SecondHelpings$State" "plate" "[I" "SecondHelpings") ∈ lw_tbl := lw_at lw_m1 228 rfl
theorem q338 : (Jvm.Cond.fieldLinkNest "SecondHelpings$Marks" (28 : Nat) "SecondHelpings$State" "refused" "I" "SecondHelpings") ∈ lw_tbl := lw_at lw_m2 5 rfl
theorem q523 : (Jvm.Cond.fieldLinkNest "SecondHelpings$Marks" (39 : Nat) "SecondHelpings" "board" "LSecondHelpings$Board;" "SecondHelpings") ∈ lw_tbl := lw_at lw_m2 190 rfl
theorem q528 : (Jvm.Cond.fieldLinkNest "SecondHelpings$Marks" (18 : Nat) "SecondHelpings" "now" "LSecondHelpings$State;" "SecondHelpings") ∈ lw_tbl := lw_at lw_m2 195 rfl
theorem q1427 : (Jvm.Cond.instantiable "SecondHelpings$Marks" (2 : Nat)) ∈ lw_all := lw_g (lw_at lw_m6 134 rfl) rfl
theorem q1432 : (Jvm.Cond.instanceMethod ({ cls := "SecondHelpings$Marks", name := "<init>", desc := "(II)V" } : Jvm.MethodName)) ∈ lw_all := lw_g (lw_at lw_m6 139 rfl) rfl
theorem q1433 : (Jvm.Cond.code ({ cls := "SecondHelpings$Marks", name := "<init>", desc := "(II)V" } : Jvm.MethodName) prog_15_method_1_code (3 : Nat) (Option.none : Option Jvm.ClassFile.FieldType)) ∈ lw_all := lw_g (lw_at lw_m6 140 rfl) rfl
theorem q1434 : (Jvm.Cond.methodLink "SecondHelpings$Marks" (3 : Nat) ({ cls := "java/lang/Object", name := "<init>", desc := "()V" } : Jvm.MethodName)) ∈ lw_all := lw_g (lw_at lw_m6 141 rfl) rfl
theorem q1435 : (Jvm.Cond.fieldLink "SecondHelpings$Marks" (9 : Nat) "SecondHelpings$Marks" "what" "I") ∈ lw_all := lw_g (lw_at lw_m6 142 rfl) rfl
theorem q1436 : (Jvm.Cond.fieldLink "SecondHelpings$Marks" (15 : Nat) "SecondHelpings$Marks" "of" "I") ∈ lw_all := lw_g (lw_at lw_m6 143 rfl) rfl
theorem q1437 : (Jvm.Cond.laysFinal "SecondHelpings$Marks" "SecondHelpings$Marks" "what" "I") ∈ lw_all := lw_g (lw_at lw_m6 144 rfl) rfl
theorem q1438 : (Jvm.Cond.soleField "SecondHelpings$Marks" "what") ∈ lw_all := lw_g (lw_at lw_m6 145 rfl) rfl
theorem q1439 : (Jvm.Cond.laysFinal "SecondHelpings$Marks" "SecondHelpings$Marks" "of" "I") ∈ lw_all := lw_g (lw_at lw_m6 146 rfl) rfl
theorem q1440 : (Jvm.Cond.soleField "SecondHelpings$Marks" "of") ∈ lw_all := lw_g (lw_at lw_m6 147 rfl) rfl
theorem q1441 : (Jvm.Cond.superclass "SecondHelpings$Marks" "java/lang/Object") ∈ lw_all := lw_g (lw_at lw_m6 148 rfl) rfl
theorem q1516 : (Jvm.Cond.castable "SecondHelpings$Marks" "SecondHelpings$Cond") ∈ lw_tbl := lw_at lw_m6 223 rfl
theorem q1517 : (Jvm.Cond.selects "SecondHelpings$Marks" ({ cls := "SecondHelpings$Cond", name := "is", desc := "(LSecondHelpings;I)Z" } : Jvm.MethodName) ({ cls := "SecondHelpings$Marks", name := "is", desc := "(LSecondHelpings;I)Z" } : Jvm.MethodName)) ∈ lw_all := lw_g (lw_at lw_m6 224 rfl) rfl
theorem q1518 : (Jvm.Cond.unhidden "SecondHelpings$Marks" "is" "(LSecondHelpings;I)Z") ∈ lw_tbl := lw_at lw_m6 225 rfl
theorem q1519 : (Jvm.Cond.instanceMethod ({ cls := "SecondHelpings$Marks", name := "is", desc := "(LSecondHelpings;I)Z" } : Jvm.MethodName)) ∈ lw_all := lw_g (lw_at lw_m6 226 rfl) rfl
theorem q1520 : (Jvm.Cond.publicMethod ({ cls := "SecondHelpings$Marks", name := "is", desc := "(LSecondHelpings;I)Z" } : Jvm.MethodName)) ∈ lw_tbl := lw_at lw_m6 227 rfl
theorem q1521 : (Jvm.Cond.code ({ cls := "SecondHelpings$Marks", name := "is", desc := "(LSecondHelpings;I)Z" } : Jvm.MethodName) prog_15_method_2_code (3 : Nat) (Option.some Jvm.ClassFile.FieldType.boolean)) ∈ lw_all := lw_g (lw_at lw_m6 228 rfl) rfl
theorem q1522 : (Jvm.Cond.methodLink "SecondHelpings$Marks" (22 : Nat) ({ cls := "SecondHelpings$State", name := "isDead", desc := "(I)Z" } : Jvm.MethodName)) ∈ lw_all := lw_g (lw_at lw_m6 229 rfl) rfl
theorem q1523 : (Jvm.Cond.methodLinkNest "SecondHelpings$Marks" (31 : Nat) ({ cls := "SecondHelpings", name := "has", desc := "(II)Z" } : Jvm.MethodName) "SecondHelpings") ∈ lw_tbl := lw_at lw_m6 230 rfl
theorem q1524 : (Jvm.Cond.methodLink "SecondHelpings$Marks" (35 : Nat) ({ cls := "SecondHelpings$State", name := "on", desc := "(I)I" } : Jvm.MethodName)) ∈ lw_all := lw_g (lw_at lw_m6 231 rfl) rfl
theorem q2271 : (Jvm.Cond.castable "SecondHelpings$Marks" "java/lang/Object") ∈ lw_tbl := lw_at lw_m10 18 rfl
theorem in_X19 : ∀ w ∈ wsX190, w ∈ lw_all := lw_in wsX190 [1437, 1439] (by decide +kernel) (by decide +kernel)
/-! SecondHelpings$Counts -/
set_option maxRecDepth 100000
def RX20 : String := "SecondHelpings$Counts"
def TX20 : u_T := fun k => match k with
  | 0 => ("SecondHelpings$Counts", "what", "I", true)
  | 1 => ("SecondHelpings$Counts", "sign", "I", true)
  | _ => ("SecondHelpings$Counts", "number", "I", true)
def tyX20 : Nat → FieldType := fun k => match k with
  | 0 => .int
  | 1 => .int
  | _ => .int
abbrev wsX200 : List Cond := u_ws RX20 TX20 3
theorem nmX20 : ∀ a, a < 3 → ∀ b, b < 3 → a ≠ b → (TX20 a).2.1 ≠ (TX20 b).2.1 := by decide +kernel
theorem tyX20_ok : ∀ k, k < 3 → parseFieldDescriptor (TX20 k).2.2.1 = some (tyX20 k) := by decide +kernel
abbrev cX20_init : ByteArray := prog_9_method_1_code
def yX20_init : MethodName := ⟨RX20, "<init>", "(III)V"⟩
def dkwX20_init_0 : List UInt8 := [42, 183, 0, 1, 42, 27, 181, 0, 7, 42, 28, 181, 0, 13, 42, 29, 181, 0, 16, 177]
abbrev dktX20_init_0 : List UInt8 := dkwX20_init_0 ++ []
theorem dksX20_init_0 : cX20_init.data.toList.drop 0 = dktX20_init_0 := by decide +kernel
theorem dX20_init_0 : decode cX20_init 0 = .ok (.aload_n 0, 1) := dk_42 (dk_at dksX20_init_0 0 rfl rfl)
theorem dX20_init_1 : decode cX20_init 1 = .ok (.invokespecial 1, 3) := dk_183 0 1 (dk_at dksX20_init_0 1 rfl rfl)
theorem dX20_init_4 : decode cX20_init 4 = .ok (.aload_n 0, 1) := dk_42 (dk_at dksX20_init_0 4 rfl rfl)
theorem dX20_init_5 : decode cX20_init 5 = .ok (.iload_n 1, 1) := dk_27 (dk_at dksX20_init_0 5 rfl rfl)
theorem dX20_init_6 : decode cX20_init 6 = .ok (.putfield 7, 3) := dk_181 0 7 (dk_at dksX20_init_0 6 rfl rfl)
theorem dX20_init_9 : decode cX20_init 9 = .ok (.aload_n 0, 1) := dk_42 (dk_at dksX20_init_0 9 rfl rfl)
theorem dX20_init_10 : decode cX20_init 10 = .ok (.iload_n 2, 1) := dk_28 (dk_at dksX20_init_0 10 rfl rfl)
theorem dX20_init_11 : decode cX20_init 11 = .ok (.putfield 13, 3) := dk_181 0 13 (dk_at dksX20_init_0 11 rfl rfl)
theorem dX20_init_14 : decode cX20_init 14 = .ok (.aload_n 0, 1) := dk_42 (dk_at dksX20_init_0 14 rfl rfl)
theorem dX20_init_15 : decode cX20_init 15 = .ok (.iload_n 3, 1) := dk_29 (dk_at dksX20_init_0 15 rfl rfl)
theorem dX20_init_16 : decode cX20_init 16 = .ok (.putfield 16, 3) := dk_181 0 16 (dk_at dksX20_init_0 16 rfl rfl)
theorem dX20_init_19 : decode cX20_init 19 = .ok (.return_, 1) := dk_177 (dk_at dksX20_init_0 19 rfl rfl)
abbrev cX20_is : ByteArray := prog_9_method_2_code
def yX20_is : MethodName := ⟨RX20, "is", "(LSecondHelpings;I)Z"⟩
def dkwX20_is_5 : List UInt8 := [167, 0, 4, 3, 172]
abbrev dktX20_is_5 : List UInt8 := dkwX20_is_5 ++ []
def dkwX20_is_4 : List UInt8 := [42, 180, 0, 16, 160, 0, 7, 4, 167, 0, 20, 3, 167, 0, 16, 29, 42, 180, 0, 16, 164, 0, 7, 4]
abbrev dktX20_is_4 : List UInt8 := dkwX20_is_4 ++ dktX20_is_5
def dkwX20_is_3 : List UInt8 := [180, 0, 16, 162, 0, 7, 4, 167, 0, 45, 3, 167, 0, 41, 42, 180, 0, 13, 16, 61, 160, 0, 19, 29]
abbrev dktX20_is_3 : List UInt8 := dkwX20_is_3 ++ dktX20_is_4
def dkwX20_is_2 : List UInt8 := [180, 0, 31, 180, 0, 40, 28, 46, 167, 0, 4, 28, 62, 42, 180, 0, 13, 16, 60, 160, 0, 19, 29, 42]
abbrev dktX20_is_2 : List UInt8 := dkwX20_is_2 ++ dktX20_is_3
def dkwX20_is_1 : List UInt8 := [160, 0, 15, 43, 180, 0, 31, 180, 0, 35, 28, 46, 167, 0, 24, 42, 180, 0, 7, 5, 160, 0, 15, 43]
abbrev dktX20_is_1 : List UInt8 := dkwX20_is_1 ++ dktX20_is_2
def dkwX20_is_0 : List UInt8 := [42, 180, 0, 7, 154, 0, 15, 43, 180, 0, 19, 180, 0, 25, 28, 46, 167, 0, 44, 42, 180, 0, 7, 4]
abbrev dktX20_is_0 : List UInt8 := dkwX20_is_0 ++ dktX20_is_1
theorem dksX20_is_0 : cX20_is.data.toList.drop 0 = dktX20_is_0 := by decide +kernel
theorem dksX20_is_1 : cX20_is.data.toList.drop 24 = dktX20_is_1 := dk_seg dksX20_is_0 24 rfl rfl
theorem dksX20_is_2 : cX20_is.data.toList.drop 48 = dktX20_is_2 := dk_seg dksX20_is_1 24 rfl rfl
theorem dksX20_is_3 : cX20_is.data.toList.drop 72 = dktX20_is_3 := dk_seg dksX20_is_2 24 rfl rfl
theorem dksX20_is_4 : cX20_is.data.toList.drop 96 = dktX20_is_4 := dk_seg dksX20_is_3 24 rfl rfl
theorem dksX20_is_5 : cX20_is.data.toList.drop 120 = dktX20_is_5 := dk_seg dksX20_is_4 24 rfl rfl
theorem dX20_is_0 : decode cX20_is 0 = .ok (.aload_n 0, 1) := dk_42 (dk_at dksX20_is_0 0 rfl rfl)
theorem dX20_is_1 : decode cX20_is 1 = .ok (.getfield 7, 3) := dk_180 0 7 (dk_at dksX20_is_0 1 rfl rfl)
theorem dX20_is_4 : decode cX20_is 4 = .ok (.ifCond .ne 15, 3) := dk_154 0 15 (dk_at dksX20_is_0 4 rfl rfl)
theorem dX20_is_7 : decode cX20_is 7 = .ok (.aload_n 1, 1) := dk_43 (dk_at dksX20_is_0 7 rfl rfl)
theorem dX20_is_8 : decode cX20_is 8 = .ok (.getfield 19, 3) := dk_180 0 19 (dk_at dksX20_is_0 8 rfl rfl)
theorem dX20_is_11 : decode cX20_is 11 = .ok (.getfield 25, 3) := dk_180 0 25 (dk_at dksX20_is_0 11 rfl rfl)
theorem dX20_is_14 : decode cX20_is 14 = .ok (.iload_n 2, 1) := dk_28 (dk_at dksX20_is_0 14 rfl rfl)
theorem dX20_is_15 : decode cX20_is 15 = .ok (.iaload, 1) := dk_46 (dk_at dksX20_is_0 15 rfl rfl)
theorem dX20_is_16 : decode cX20_is 16 = .ok (.goto 44, 3) := dk_167 0 44 (dk_at dksX20_is_0 16 rfl rfl)
theorem dX20_is_19 : decode cX20_is 19 = .ok (.aload_n 0, 1) := dk_42 (dk_at dksX20_is_0 19 rfl rfl)
theorem dX20_is_20 : decode cX20_is 20 = .ok (.getfield 7, 3) := dk_180 0 7 (dk_at dksX20_is_0 20 rfl rfl)
theorem dX20_is_23 : decode cX20_is 23 = .ok (.iconst 1, 1) := dk_4 (dk_at dksX20_is_0 23 rfl rfl)
theorem dX20_is_24 : decode cX20_is 24 = .ok (.if_icmp .ne 15, 3) := dk_160 0 15 (dk_at dksX20_is_1 0 rfl rfl)
theorem dX20_is_27 : decode cX20_is 27 = .ok (.aload_n 1, 1) := dk_43 (dk_at dksX20_is_1 3 rfl rfl)
theorem dX20_is_28 : decode cX20_is 28 = .ok (.getfield 31, 3) := dk_180 0 31 (dk_at dksX20_is_1 4 rfl rfl)
theorem dX20_is_31 : decode cX20_is 31 = .ok (.getfield 35, 3) := dk_180 0 35 (dk_at dksX20_is_1 7 rfl rfl)
theorem dX20_is_34 : decode cX20_is 34 = .ok (.iload_n 2, 1) := dk_28 (dk_at dksX20_is_1 10 rfl rfl)
theorem dX20_is_35 : decode cX20_is 35 = .ok (.iaload, 1) := dk_46 (dk_at dksX20_is_1 11 rfl rfl)
theorem dX20_is_36 : decode cX20_is 36 = .ok (.goto 24, 3) := dk_167 0 24 (dk_at dksX20_is_1 12 rfl rfl)
theorem dX20_is_39 : decode cX20_is 39 = .ok (.aload_n 0, 1) := dk_42 (dk_at dksX20_is_1 15 rfl rfl)
theorem dX20_is_40 : decode cX20_is 40 = .ok (.getfield 7, 3) := dk_180 0 7 (dk_at dksX20_is_1 16 rfl rfl)
theorem dX20_is_43 : decode cX20_is 43 = .ok (.iconst 2, 1) := dk_5 (dk_at dksX20_is_1 19 rfl rfl)
theorem dX20_is_44 : decode cX20_is 44 = .ok (.if_icmp .ne 15, 3) := dk_160 0 15 (dk_at dksX20_is_1 20 rfl rfl)
theorem dX20_is_47 : decode cX20_is 47 = .ok (.aload_n 1, 1) := dk_43 (dk_at dksX20_is_1 23 rfl rfl)
theorem dX20_is_48 : decode cX20_is 48 = .ok (.getfield 31, 3) := dk_180 0 31 (dk_at dksX20_is_2 0 rfl rfl)
theorem dX20_is_51 : decode cX20_is 51 = .ok (.getfield 40, 3) := dk_180 0 40 (dk_at dksX20_is_2 3 rfl rfl)
theorem dX20_is_54 : decode cX20_is 54 = .ok (.iload_n 2, 1) := dk_28 (dk_at dksX20_is_2 6 rfl rfl)
theorem dX20_is_55 : decode cX20_is 55 = .ok (.iaload, 1) := dk_46 (dk_at dksX20_is_2 7 rfl rfl)
theorem dX20_is_56 : decode cX20_is 56 = .ok (.goto 4, 3) := dk_167 0 4 (dk_at dksX20_is_2 8 rfl rfl)
theorem dX20_is_59 : decode cX20_is 59 = .ok (.iload_n 2, 1) := dk_28 (dk_at dksX20_is_2 11 rfl rfl)
theorem dX20_is_60 : decode cX20_is 60 = .ok (.istore_n 3, 1) := dk_62 (dk_at dksX20_is_2 12 rfl rfl)
theorem dX20_is_61 : decode cX20_is 61 = .ok (.aload_n 0, 1) := dk_42 (dk_at dksX20_is_2 13 rfl rfl)
theorem dX20_is_62 : decode cX20_is 62 = .ok (.getfield 13, 3) := dk_180 0 13 (dk_at dksX20_is_2 14 rfl rfl)
theorem dX20_is_65 : decode cX20_is 65 = .ok (.bipush 60, 2) := dk_16 60 (dk_at dksX20_is_2 17 rfl rfl)
theorem dX20_is_67 : decode cX20_is 67 = .ok (.if_icmp .ne 19, 3) := dk_160 0 19 (dk_at dksX20_is_2 19 rfl rfl)
theorem dX20_is_70 : decode cX20_is 70 = .ok (.iload_n 3, 1) := dk_29 (dk_at dksX20_is_2 22 rfl rfl)
theorem dX20_is_71 : decode cX20_is 71 = .ok (.aload_n 0, 1) := dk_42 (dk_at dksX20_is_2 23 rfl rfl)
theorem dX20_is_72 : decode cX20_is 72 = .ok (.getfield 16, 3) := dk_180 0 16 (dk_at dksX20_is_3 0 rfl rfl)
theorem dX20_is_75 : decode cX20_is 75 = .ok (.if_icmp .ge 7, 3) := dk_162 0 7 (dk_at dksX20_is_3 3 rfl rfl)
theorem dX20_is_78 : decode cX20_is 78 = .ok (.iconst 1, 1) := dk_4 (dk_at dksX20_is_3 6 rfl rfl)
theorem dX20_is_79 : decode cX20_is 79 = .ok (.goto 45, 3) := dk_167 0 45 (dk_at dksX20_is_3 7 rfl rfl)
theorem dX20_is_82 : decode cX20_is 82 = .ok (.iconst 0, 1) := dk_3 (dk_at dksX20_is_3 10 rfl rfl)
theorem dX20_is_83 : decode cX20_is 83 = .ok (.goto 41, 3) := dk_167 0 41 (dk_at dksX20_is_3 11 rfl rfl)
theorem dX20_is_86 : decode cX20_is 86 = .ok (.aload_n 0, 1) := dk_42 (dk_at dksX20_is_3 14 rfl rfl)
theorem dX20_is_87 : decode cX20_is 87 = .ok (.getfield 13, 3) := dk_180 0 13 (dk_at dksX20_is_3 15 rfl rfl)
theorem dX20_is_90 : decode cX20_is 90 = .ok (.bipush 61, 2) := dk_16 61 (dk_at dksX20_is_3 18 rfl rfl)
theorem dX20_is_92 : decode cX20_is 92 = .ok (.if_icmp .ne 19, 3) := dk_160 0 19 (dk_at dksX20_is_3 20 rfl rfl)
theorem dX20_is_95 : decode cX20_is 95 = .ok (.iload_n 3, 1) := dk_29 (dk_at dksX20_is_3 23 rfl rfl)
theorem dX20_is_96 : decode cX20_is 96 = .ok (.aload_n 0, 1) := dk_42 (dk_at dksX20_is_4 0 rfl rfl)
theorem dX20_is_97 : decode cX20_is 97 = .ok (.getfield 16, 3) := dk_180 0 16 (dk_at dksX20_is_4 1 rfl rfl)
theorem dX20_is_100 : decode cX20_is 100 = .ok (.if_icmp .ne 7, 3) := dk_160 0 7 (dk_at dksX20_is_4 4 rfl rfl)
theorem dX20_is_103 : decode cX20_is 103 = .ok (.iconst 1, 1) := dk_4 (dk_at dksX20_is_4 7 rfl rfl)
theorem dX20_is_104 : decode cX20_is 104 = .ok (.goto 20, 3) := dk_167 0 20 (dk_at dksX20_is_4 8 rfl rfl)
theorem dX20_is_107 : decode cX20_is 107 = .ok (.iconst 0, 1) := dk_3 (dk_at dksX20_is_4 11 rfl rfl)
theorem dX20_is_108 : decode cX20_is 108 = .ok (.goto 16, 3) := dk_167 0 16 (dk_at dksX20_is_4 12 rfl rfl)
theorem dX20_is_111 : decode cX20_is 111 = .ok (.iload_n 3, 1) := dk_29 (dk_at dksX20_is_4 15 rfl rfl)
theorem dX20_is_112 : decode cX20_is 112 = .ok (.aload_n 0, 1) := dk_42 (dk_at dksX20_is_4 16 rfl rfl)
theorem dX20_is_113 : decode cX20_is 113 = .ok (.getfield 16, 3) := dk_180 0 16 (dk_at dksX20_is_4 17 rfl rfl)
theorem dX20_is_116 : decode cX20_is 116 = .ok (.if_icmp .le 7, 3) := dk_164 0 7 (dk_at dksX20_is_4 20 rfl rfl)
theorem dX20_is_119 : decode cX20_is 119 = .ok (.iconst 1, 1) := dk_4 (dk_at dksX20_is_4 23 rfl rfl)
theorem dX20_is_120 : decode cX20_is 120 = .ok (.goto 4, 3) := dk_167 0 4 (dk_at dksX20_is_5 0 rfl rfl)
theorem dX20_is_123 : decode cX20_is 123 = .ok (.iconst 0, 1) := dk_3 (dk_at dksX20_is_5 3 rfl rfl)
theorem dX20_is_124 : decode cX20_is 124 = .ok (.ireturn, 1) := dk_172 (dk_at dksX20_is_5 4 rfl rfl)
theorem q126 : (Jvm.Cond.initialized "SecondHelpings$Counts") ∈ lw_all := lw_g (lw_at lw_m1 33 rfl) rfl
theorem q253 : (Jvm.Cond.fieldLinkNest "SecondHelpings$Counts" (25 : Nat) "SecondHelpings$Board" "wants" "[I" "SecondHelpings") ∈ lw_tbl := lw_at lw_m1 160 rfl
theorem q326 : (Jvm.Cond.fieldLinkNest "SecondHelpings$Counts" (35 : Nat) "SecondHelpings$State" "eaten" "[I" "SecondHelpings") ∈ lw_tbl := lw_at lw_m1 233 rfl
theorem q331 : (Jvm.Cond.fieldLinkNest "SecondHelpings$Counts" (40 : Nat) "SecondHelpings$State" "hunger" "[I" "SecondHelpings") ∈ lw_tbl := lw_at lw_m1 238 rfl
theorem q522 : (Jvm.Cond.fieldLinkNest "SecondHelpings$Counts" (19 : Nat) "SecondHelpings" "board" "LSecondHelpings$Board;" "SecondHelpings") ∈ lw_tbl := lw_at lw_m2 189 rfl
theorem q527 : (Jvm.Cond.fieldLinkNest "SecondHelpings$Counts" (31 : Nat) "SecondHelpings" "now" "LSecondHelpings$State;" "SecondHelpings") ∈ lw_tbl := lw_at lw_m2 194 rfl
theorem q1443 : (Jvm.Cond.instantiable "SecondHelpings$Counts" (3 : Nat)) ∈ lw_all := lw_g (lw_at lw_m6 150 rfl) rfl
theorem q1445 : (Jvm.Cond.instanceMethod ({ cls := "SecondHelpings$Counts", name := "<init>", desc := "(III)V" } : Jvm.MethodName)) ∈ lw_all := lw_g (lw_at lw_m6 152 rfl) rfl
theorem q1446 : (Jvm.Cond.code ({ cls := "SecondHelpings$Counts", name := "<init>", desc := "(III)V" } : Jvm.MethodName) prog_9_method_1_code (4 : Nat) (Option.none : Option Jvm.ClassFile.FieldType)) ∈ lw_all := lw_g (lw_at lw_m6 153 rfl) rfl
theorem q1447 : (Jvm.Cond.methodLink "SecondHelpings$Counts" (1 : Nat) ({ cls := "java/lang/Object", name := "<init>", desc := "()V" } : Jvm.MethodName)) ∈ lw_all := lw_g (lw_at lw_m6 154 rfl) rfl
theorem q1448 : (Jvm.Cond.fieldLink "SecondHelpings$Counts" (7 : Nat) "SecondHelpings$Counts" "what" "I") ∈ lw_all := lw_g (lw_at lw_m6 155 rfl) rfl
theorem q1449 : (Jvm.Cond.fieldLink "SecondHelpings$Counts" (13 : Nat) "SecondHelpings$Counts" "sign" "I") ∈ lw_all := lw_g (lw_at lw_m6 156 rfl) rfl
theorem q1450 : (Jvm.Cond.fieldLink "SecondHelpings$Counts" (16 : Nat) "SecondHelpings$Counts" "number" "I") ∈ lw_all := lw_g (lw_at lw_m6 157 rfl) rfl
theorem q1451 : (Jvm.Cond.laysFinal "SecondHelpings$Counts" "SecondHelpings$Counts" "what" "I") ∈ lw_all := lw_g (lw_at lw_m6 158 rfl) rfl
theorem q1452 : (Jvm.Cond.soleField "SecondHelpings$Counts" "what") ∈ lw_all := lw_g (lw_at lw_m6 159 rfl) rfl
theorem q1453 : (Jvm.Cond.laysFinal "SecondHelpings$Counts" "SecondHelpings$Counts" "sign" "I") ∈ lw_all := lw_g (lw_at lw_m6 160 rfl) rfl
theorem q1454 : (Jvm.Cond.soleField "SecondHelpings$Counts" "sign") ∈ lw_all := lw_g (lw_at lw_m6 161 rfl) rfl
theorem q1455 : (Jvm.Cond.laysFinal "SecondHelpings$Counts" "SecondHelpings$Counts" "number" "I") ∈ lw_all := lw_g (lw_at lw_m6 162 rfl) rfl
theorem q1456 : (Jvm.Cond.soleField "SecondHelpings$Counts" "number") ∈ lw_all := lw_g (lw_at lw_m6 163 rfl) rfl
theorem q1457 : (Jvm.Cond.superclass "SecondHelpings$Counts" "java/lang/Object") ∈ lw_all := lw_g (lw_at lw_m6 164 rfl) rfl
theorem q1510 : (Jvm.Cond.castable "SecondHelpings$Counts" "SecondHelpings$Cond") ∈ lw_tbl := lw_at lw_m6 217 rfl
theorem q1511 : (Jvm.Cond.selects "SecondHelpings$Counts" ({ cls := "SecondHelpings$Cond", name := "is", desc := "(LSecondHelpings;I)Z" } : Jvm.MethodName) ({ cls := "SecondHelpings$Counts", name := "is", desc := "(LSecondHelpings;I)Z" } : Jvm.MethodName)) ∈ lw_all := lw_g (lw_at lw_m6 218 rfl) rfl
theorem q1512 : (Jvm.Cond.unhidden "SecondHelpings$Counts" "is" "(LSecondHelpings;I)Z") ∈ lw_tbl := lw_at lw_m6 219 rfl
theorem q1513 : (Jvm.Cond.instanceMethod ({ cls := "SecondHelpings$Counts", name := "is", desc := "(LSecondHelpings;I)Z" } : Jvm.MethodName)) ∈ lw_all := lw_g (lw_at lw_m6 220 rfl) rfl
theorem q1514 : (Jvm.Cond.publicMethod ({ cls := "SecondHelpings$Counts", name := "is", desc := "(LSecondHelpings;I)Z" } : Jvm.MethodName)) ∈ lw_tbl := lw_at lw_m6 221 rfl
theorem q1515 : (Jvm.Cond.code ({ cls := "SecondHelpings$Counts", name := "is", desc := "(LSecondHelpings;I)Z" } : Jvm.MethodName) prog_9_method_2_code (4 : Nat) (Option.some Jvm.ClassFile.FieldType.boolean)) ∈ lw_all := lw_g (lw_at lw_m6 222 rfl) rfl
theorem q2272 : (Jvm.Cond.castable "SecondHelpings$Counts" "java/lang/Object") ∈ lw_tbl := lw_at lw_m10 19 rfl
theorem in_X20 : ∀ w ∈ wsX200, w ∈ lw_all := lw_in wsX200 [1451, 1453, 1455] (by decide +kernel) (by decide +kernel)
/-! SecondHelpings$Both -/
set_option maxRecDepth 100000
def RX21 : String := "SecondHelpings$Both"
def TX21 : u_T := fun k => match k with
  | 0 => ("SecondHelpings$Both", "a", "LSecondHelpings$Cond;", true)
  | _ => ("SecondHelpings$Both", "b", "LSecondHelpings$Cond;", true)
def tyX21 : Nat → FieldType := fun k => match k with
  | 0 => .object "SecondHelpings$Cond"
  | _ => .object "SecondHelpings$Cond"
abbrev wsX210 : List Cond := u_ws RX21 TX21 2
theorem nmX21 : ∀ a, a < 2 → ∀ b, b < 2 → a ≠ b → (TX21 a).2.1 ≠ (TX21 b).2.1 := by decide +kernel
theorem tyX21_ok : ∀ k, k < 2 → parseFieldDescriptor (TX21 k).2.2.1 = some (tyX21 k) := by decide +kernel
abbrev cX21_init : ByteArray := prog_7_method_1_code
def yX21_init : MethodName := ⟨RX21, "<init>", "(LSecondHelpings$Cond;LSecondHelpings$Cond;)V"⟩
def dkwX21_init_0 : List UInt8 := [42, 183, 0, 1, 42, 43, 181, 0, 7, 42, 44, 181, 0, 13, 177]
abbrev dktX21_init_0 : List UInt8 := dkwX21_init_0 ++ []
theorem dksX21_init_0 : cX21_init.data.toList.drop 0 = dktX21_init_0 := by decide +kernel
theorem dX21_init_0 : decode cX21_init 0 = .ok (.aload_n 0, 1) := dk_42 (dk_at dksX21_init_0 0 rfl rfl)
theorem dX21_init_1 : decode cX21_init 1 = .ok (.invokespecial 1, 3) := dk_183 0 1 (dk_at dksX21_init_0 1 rfl rfl)
theorem dX21_init_4 : decode cX21_init 4 = .ok (.aload_n 0, 1) := dk_42 (dk_at dksX21_init_0 4 rfl rfl)
theorem dX21_init_5 : decode cX21_init 5 = .ok (.aload_n 1, 1) := dk_43 (dk_at dksX21_init_0 5 rfl rfl)
theorem dX21_init_6 : decode cX21_init 6 = .ok (.putfield 7, 3) := dk_181 0 7 (dk_at dksX21_init_0 6 rfl rfl)
theorem dX21_init_9 : decode cX21_init 9 = .ok (.aload_n 0, 1) := dk_42 (dk_at dksX21_init_0 9 rfl rfl)
theorem dX21_init_10 : decode cX21_init 10 = .ok (.aload_n 2, 1) := dk_44 (dk_at dksX21_init_0 10 rfl rfl)
theorem dX21_init_11 : decode cX21_init 11 = .ok (.putfield 13, 3) := dk_181 0 13 (dk_at dksX21_init_0 11 rfl rfl)
theorem dX21_init_14 : decode cX21_init 14 = .ok (.return_, 1) := dk_177 (dk_at dksX21_init_0 14 rfl rfl)
abbrev cX21_is : ByteArray := prog_7_method_2_code
def yX21_is : MethodName := ⟨RX21, "is", "(LSecondHelpings;I)Z"⟩
def dkwX21_is_1 : List UInt8 := [185, 0, 16, 3, 0, 153, 0, 7, 4, 167, 0, 4, 3, 172]
abbrev dktX21_is_1 : List UInt8 := dkwX21_is_1 ++ []
def dkwX21_is_0 : List UInt8 := [42, 180, 0, 7, 43, 28, 185, 0, 16, 3, 0, 153, 0, 21, 42, 180, 0, 13, 43, 28]
abbrev dktX21_is_0 : List UInt8 := dkwX21_is_0 ++ dktX21_is_1
theorem dksX21_is_0 : cX21_is.data.toList.drop 0 = dktX21_is_0 := by decide +kernel
theorem dksX21_is_1 : cX21_is.data.toList.drop 20 = dktX21_is_1 := dk_seg dksX21_is_0 20 rfl rfl
theorem dX21_is_0 : decode cX21_is 0 = .ok (.aload_n 0, 1) := dk_42 (dk_at dksX21_is_0 0 rfl rfl)
theorem dX21_is_1 : decode cX21_is 1 = .ok (.getfield 7, 3) := dk_180 0 7 (dk_at dksX21_is_0 1 rfl rfl)
theorem dX21_is_4 : decode cX21_is 4 = .ok (.aload_n 1, 1) := dk_43 (dk_at dksX21_is_0 4 rfl rfl)
theorem dX21_is_5 : decode cX21_is 5 = .ok (.iload_n 2, 1) := dk_28 (dk_at dksX21_is_0 5 rfl rfl)
theorem dX21_is_6 : decode cX21_is 6 = .ok (.invokeinterface 16 3, 5) := by decide +kernel
theorem dX21_is_11 : decode cX21_is 11 = .ok (.ifCond .eq 21, 3) := dk_153 0 21 (dk_at dksX21_is_0 11 rfl rfl)
theorem dX21_is_14 : decode cX21_is 14 = .ok (.aload_n 0, 1) := dk_42 (dk_at dksX21_is_0 14 rfl rfl)
theorem dX21_is_15 : decode cX21_is 15 = .ok (.getfield 13, 3) := dk_180 0 13 (dk_at dksX21_is_0 15 rfl rfl)
theorem dX21_is_18 : decode cX21_is 18 = .ok (.aload_n 1, 1) := dk_43 (dk_at dksX21_is_0 18 rfl rfl)
theorem dX21_is_19 : decode cX21_is 19 = .ok (.iload_n 2, 1) := dk_28 (dk_at dksX21_is_0 19 rfl rfl)
theorem dX21_is_20 : decode cX21_is 20 = .ok (.invokeinterface 16 3, 5) := by decide +kernel
theorem dX21_is_25 : decode cX21_is 25 = .ok (.ifCond .eq 7, 3) := dk_153 0 7 (dk_at dksX21_is_1 5 rfl rfl)
theorem dX21_is_28 : decode cX21_is 28 = .ok (.iconst 1, 1) := dk_4 (dk_at dksX21_is_1 8 rfl rfl)
theorem dX21_is_29 : decode cX21_is 29 = .ok (.goto 4, 3) := dk_167 0 4 (dk_at dksX21_is_1 9 rfl rfl)
theorem dX21_is_32 : decode cX21_is 32 = .ok (.iconst 0, 1) := dk_3 (dk_at dksX21_is_1 12 rfl rfl)
theorem dX21_is_33 : decode cX21_is 33 = .ok (.ireturn, 1) := dk_172 (dk_at dksX21_is_1 13 rfl rfl)
theorem q127 : (Jvm.Cond.initialized "SecondHelpings$Both") ∈ lw_all := lw_g (lw_at lw_m1 34 rfl) rfl
theorem q1460 : (Jvm.Cond.instantiable "SecondHelpings$Both" (2 : Nat)) ∈ lw_all := lw_g (lw_at lw_m6 167 rfl) rfl
theorem q1462 : (Jvm.Cond.instanceMethod ({ cls := "SecondHelpings$Both", name := "<init>", desc := "(LSecondHelpings$Cond;LSecondHelpings$Cond;)V" } : Jvm.MethodName)) ∈ lw_all := lw_g (lw_at lw_m6 169 rfl) rfl
theorem q1463 : (Jvm.Cond.code ({ cls := "SecondHelpings$Both", name := "<init>", desc := "(LSecondHelpings$Cond;LSecondHelpings$Cond;)V" } : Jvm.MethodName) prog_7_method_1_code (3 : Nat) (Option.none : Option Jvm.ClassFile.FieldType)) ∈ lw_all := lw_g (lw_at lw_m6 170 rfl) rfl
theorem q1464 : (Jvm.Cond.methodLink "SecondHelpings$Both" (1 : Nat) ({ cls := "java/lang/Object", name := "<init>", desc := "()V" } : Jvm.MethodName)) ∈ lw_all := lw_g (lw_at lw_m6 171 rfl) rfl
theorem q1465 : (Jvm.Cond.fieldLink "SecondHelpings$Both" (7 : Nat) "SecondHelpings$Both" "a" "LSecondHelpings$Cond;") ∈ lw_all := lw_g (lw_at lw_m6 172 rfl) rfl
theorem q1466 : (Jvm.Cond.fieldLink "SecondHelpings$Both" (13 : Nat) "SecondHelpings$Both" "b" "LSecondHelpings$Cond;") ∈ lw_all := lw_g (lw_at lw_m6 173 rfl) rfl
theorem q1467 : (Jvm.Cond.laysFinal "SecondHelpings$Both" "SecondHelpings$Both" "a" "LSecondHelpings$Cond;") ∈ lw_all := lw_g (lw_at lw_m6 174 rfl) rfl
theorem q1468 : (Jvm.Cond.soleField "SecondHelpings$Both" "a") ∈ lw_all := lw_g (lw_at lw_m6 175 rfl) rfl
theorem q1469 : (Jvm.Cond.laysFinal "SecondHelpings$Both" "SecondHelpings$Both" "b" "LSecondHelpings$Cond;") ∈ lw_all := lw_g (lw_at lw_m6 176 rfl) rfl
theorem q1470 : (Jvm.Cond.soleField "SecondHelpings$Both" "b") ∈ lw_all := lw_g (lw_at lw_m6 177 rfl) rfl
theorem q1471 : (Jvm.Cond.superclass "SecondHelpings$Both" "java/lang/Object") ∈ lw_all := lw_g (lw_at lw_m6 178 rfl) rfl
theorem q1502 : (Jvm.Cond.castable "SecondHelpings$Both" "SecondHelpings$Cond") ∈ lw_tbl := lw_at lw_m6 209 rfl
theorem q1503 : (Jvm.Cond.selects "SecondHelpings$Both" ({ cls := "SecondHelpings$Cond", name := "is", desc := "(LSecondHelpings;I)Z" } : Jvm.MethodName) ({ cls := "SecondHelpings$Both", name := "is", desc := "(LSecondHelpings;I)Z" } : Jvm.MethodName)) ∈ lw_all := lw_g (lw_at lw_m6 210 rfl) rfl
theorem q1504 : (Jvm.Cond.unhidden "SecondHelpings$Both" "is" "(LSecondHelpings;I)Z") ∈ lw_tbl := lw_at lw_m6 211 rfl
theorem q1505 : (Jvm.Cond.instanceMethod ({ cls := "SecondHelpings$Both", name := "is", desc := "(LSecondHelpings;I)Z" } : Jvm.MethodName)) ∈ lw_all := lw_g (lw_at lw_m6 212 rfl) rfl
theorem q1506 : (Jvm.Cond.publicMethod ({ cls := "SecondHelpings$Both", name := "is", desc := "(LSecondHelpings;I)Z" } : Jvm.MethodName)) ∈ lw_tbl := lw_at lw_m6 213 rfl
theorem q1507 : (Jvm.Cond.code ({ cls := "SecondHelpings$Both", name := "is", desc := "(LSecondHelpings;I)Z" } : Jvm.MethodName) prog_7_method_2_code (3 : Nat) (Option.some Jvm.ClassFile.FieldType.boolean)) ∈ lw_all := lw_g (lw_at lw_m6 214 rfl) rfl
theorem q1508 : (Jvm.Cond.interfaceEntry "SecondHelpings$Both" (16 : Nat)) ∈ lw_tbl := lw_at lw_m6 215 rfl
theorem q1509 : (Jvm.Cond.methodLink "SecondHelpings$Both" (16 : Nat) ({ cls := "SecondHelpings$Cond", name := "is", desc := "(LSecondHelpings;I)Z" } : Jvm.MethodName)) ∈ lw_all := lw_g (lw_at lw_m6 216 rfl) rfl
theorem q2273 : (Jvm.Cond.castable "SecondHelpings$Both" "java/lang/Object") ∈ lw_tbl := lw_at lw_m10 20 rfl
theorem in_X21 : ∀ w ∈ wsX210, w ∈ lw_all := lw_in wsX210 [1467, 1469] (by decide +kernel) (by decide +kernel)
/-! SecondHelpings$Any -/
set_option maxRecDepth 100000
def RX22 : String := "SecondHelpings$Any"
def TX22 : u_T := fun k => match k with
  | 0 => ("SecondHelpings$Any", "a", "LSecondHelpings$Cond;", true)
  | _ => ("SecondHelpings$Any", "b", "LSecondHelpings$Cond;", true)
def tyX22 : Nat → FieldType := fun k => match k with
  | 0 => .object "SecondHelpings$Cond"
  | _ => .object "SecondHelpings$Cond"
abbrev wsX220 : List Cond := u_ws RX22 TX22 2
theorem nmX22 : ∀ a, a < 2 → ∀ b, b < 2 → a ≠ b → (TX22 a).2.1 ≠ (TX22 b).2.1 := by decide +kernel
theorem tyX22_ok : ∀ k, k < 2 → parseFieldDescriptor (TX22 k).2.2.1 = some (tyX22 k) := by decide +kernel
abbrev cX22_init : ByteArray := prog_3_method_1_code
def yX22_init : MethodName := ⟨RX22, "<init>", "(LSecondHelpings$Cond;LSecondHelpings$Cond;)V"⟩
def dkwX22_init_0 : List UInt8 := [42, 183, 0, 1, 42, 43, 181, 0, 7, 42, 44, 181, 0, 13, 177]
abbrev dktX22_init_0 : List UInt8 := dkwX22_init_0 ++ []
theorem dksX22_init_0 : cX22_init.data.toList.drop 0 = dktX22_init_0 := by decide +kernel
theorem dX22_init_0 : decode cX22_init 0 = .ok (.aload_n 0, 1) := dk_42 (dk_at dksX22_init_0 0 rfl rfl)
theorem dX22_init_1 : decode cX22_init 1 = .ok (.invokespecial 1, 3) := dk_183 0 1 (dk_at dksX22_init_0 1 rfl rfl)
theorem dX22_init_4 : decode cX22_init 4 = .ok (.aload_n 0, 1) := dk_42 (dk_at dksX22_init_0 4 rfl rfl)
theorem dX22_init_5 : decode cX22_init 5 = .ok (.aload_n 1, 1) := dk_43 (dk_at dksX22_init_0 5 rfl rfl)
theorem dX22_init_6 : decode cX22_init 6 = .ok (.putfield 7, 3) := dk_181 0 7 (dk_at dksX22_init_0 6 rfl rfl)
theorem dX22_init_9 : decode cX22_init 9 = .ok (.aload_n 0, 1) := dk_42 (dk_at dksX22_init_0 9 rfl rfl)
theorem dX22_init_10 : decode cX22_init 10 = .ok (.aload_n 2, 1) := dk_44 (dk_at dksX22_init_0 10 rfl rfl)
theorem dX22_init_11 : decode cX22_init 11 = .ok (.putfield 13, 3) := dk_181 0 13 (dk_at dksX22_init_0 11 rfl rfl)
theorem dX22_init_14 : decode cX22_init 14 = .ok (.return_, 1) := dk_177 (dk_at dksX22_init_0 14 rfl rfl)
abbrev cX22_is : ByteArray := prog_3_method_2_code
def yX22_is : MethodName := ⟨RX22, "is", "(LSecondHelpings;I)Z"⟩
def dkwX22_is_1 : List UInt8 := [185, 0, 16, 3, 0, 153, 0, 7, 4, 167, 0, 4, 3, 172]
abbrev dktX22_is_1 : List UInt8 := dkwX22_is_1 ++ []
def dkwX22_is_0 : List UInt8 := [42, 180, 0, 7, 43, 28, 185, 0, 16, 3, 0, 154, 0, 17, 42, 180, 0, 13, 43, 28]
abbrev dktX22_is_0 : List UInt8 := dkwX22_is_0 ++ dktX22_is_1
theorem dksX22_is_0 : cX22_is.data.toList.drop 0 = dktX22_is_0 := by decide +kernel
theorem dksX22_is_1 : cX22_is.data.toList.drop 20 = dktX22_is_1 := dk_seg dksX22_is_0 20 rfl rfl
theorem dX22_is_0 : decode cX22_is 0 = .ok (.aload_n 0, 1) := dk_42 (dk_at dksX22_is_0 0 rfl rfl)
theorem dX22_is_1 : decode cX22_is 1 = .ok (.getfield 7, 3) := dk_180 0 7 (dk_at dksX22_is_0 1 rfl rfl)
theorem dX22_is_4 : decode cX22_is 4 = .ok (.aload_n 1, 1) := dk_43 (dk_at dksX22_is_0 4 rfl rfl)
theorem dX22_is_5 : decode cX22_is 5 = .ok (.iload_n 2, 1) := dk_28 (dk_at dksX22_is_0 5 rfl rfl)
theorem dX22_is_6 : decode cX22_is 6 = .ok (.invokeinterface 16 3, 5) := by decide +kernel
theorem dX22_is_11 : decode cX22_is 11 = .ok (.ifCond .ne 17, 3) := dk_154 0 17 (dk_at dksX22_is_0 11 rfl rfl)
theorem dX22_is_14 : decode cX22_is 14 = .ok (.aload_n 0, 1) := dk_42 (dk_at dksX22_is_0 14 rfl rfl)
theorem dX22_is_15 : decode cX22_is 15 = .ok (.getfield 13, 3) := dk_180 0 13 (dk_at dksX22_is_0 15 rfl rfl)
theorem dX22_is_18 : decode cX22_is 18 = .ok (.aload_n 1, 1) := dk_43 (dk_at dksX22_is_0 18 rfl rfl)
theorem dX22_is_19 : decode cX22_is 19 = .ok (.iload_n 2, 1) := dk_28 (dk_at dksX22_is_0 19 rfl rfl)
theorem dX22_is_20 : decode cX22_is 20 = .ok (.invokeinterface 16 3, 5) := by decide +kernel
theorem dX22_is_25 : decode cX22_is 25 = .ok (.ifCond .eq 7, 3) := dk_153 0 7 (dk_at dksX22_is_1 5 rfl rfl)
theorem dX22_is_28 : decode cX22_is 28 = .ok (.iconst 1, 1) := dk_4 (dk_at dksX22_is_1 8 rfl rfl)
theorem dX22_is_29 : decode cX22_is 29 = .ok (.goto 4, 3) := dk_167 0 4 (dk_at dksX22_is_1 9 rfl rfl)
theorem dX22_is_32 : decode cX22_is 32 = .ok (.iconst 0, 1) := dk_3 (dk_at dksX22_is_1 12 rfl rfl)
theorem dX22_is_33 : decode cX22_is 33 = .ok (.ireturn, 1) := dk_172 (dk_at dksX22_is_1 13 rfl rfl)
theorem q128 : (Jvm.Cond.initialized "SecondHelpings$Any") ∈ lw_all := lw_g (lw_at lw_m1 35 rfl) rfl
theorem q1474 : (Jvm.Cond.instantiable "SecondHelpings$Any" (2 : Nat)) ∈ lw_all := lw_g (lw_at lw_m6 181 rfl) rfl
theorem q1476 : (Jvm.Cond.instanceMethod ({ cls := "SecondHelpings$Any", name := "<init>", desc := "(LSecondHelpings$Cond;LSecondHelpings$Cond;)V" } : Jvm.MethodName)) ∈ lw_all := lw_g (lw_at lw_m6 183 rfl) rfl
theorem q1477 : (Jvm.Cond.code ({ cls := "SecondHelpings$Any", name := "<init>", desc := "(LSecondHelpings$Cond;LSecondHelpings$Cond;)V" } : Jvm.MethodName) prog_3_method_1_code (3 : Nat) (Option.none : Option Jvm.ClassFile.FieldType)) ∈ lw_all := lw_g (lw_at lw_m6 184 rfl) rfl
theorem q1478 : (Jvm.Cond.methodLink "SecondHelpings$Any" (1 : Nat) ({ cls := "java/lang/Object", name := "<init>", desc := "()V" } : Jvm.MethodName)) ∈ lw_all := lw_g (lw_at lw_m6 185 rfl) rfl
theorem q1479 : (Jvm.Cond.fieldLink "SecondHelpings$Any" (7 : Nat) "SecondHelpings$Any" "a" "LSecondHelpings$Cond;") ∈ lw_all := lw_g (lw_at lw_m6 186 rfl) rfl
theorem q1480 : (Jvm.Cond.fieldLink "SecondHelpings$Any" (13 : Nat) "SecondHelpings$Any" "b" "LSecondHelpings$Cond;") ∈ lw_all := lw_g (lw_at lw_m6 187 rfl) rfl
theorem q1481 : (Jvm.Cond.laysFinal "SecondHelpings$Any" "SecondHelpings$Any" "a" "LSecondHelpings$Cond;") ∈ lw_all := lw_g (lw_at lw_m6 188 rfl) rfl
theorem q1482 : (Jvm.Cond.soleField "SecondHelpings$Any" "a") ∈ lw_all := lw_g (lw_at lw_m6 189 rfl) rfl
theorem q1483 : (Jvm.Cond.laysFinal "SecondHelpings$Any" "SecondHelpings$Any" "b" "LSecondHelpings$Cond;") ∈ lw_all := lw_g (lw_at lw_m6 190 rfl) rfl
theorem q1484 : (Jvm.Cond.soleField "SecondHelpings$Any" "b") ∈ lw_all := lw_g (lw_at lw_m6 191 rfl) rfl
theorem q1485 : (Jvm.Cond.superclass "SecondHelpings$Any" "java/lang/Object") ∈ lw_all := lw_g (lw_at lw_m6 192 rfl) rfl
theorem q1494 : (Jvm.Cond.castable "SecondHelpings$Any" "SecondHelpings$Cond") ∈ lw_tbl := lw_at lw_m6 201 rfl
theorem q1495 : (Jvm.Cond.selects "SecondHelpings$Any" ({ cls := "SecondHelpings$Cond", name := "is", desc := "(LSecondHelpings;I)Z" } : Jvm.MethodName) ({ cls := "SecondHelpings$Any", name := "is", desc := "(LSecondHelpings;I)Z" } : Jvm.MethodName)) ∈ lw_all := lw_g (lw_at lw_m6 202 rfl) rfl
theorem q1496 : (Jvm.Cond.unhidden "SecondHelpings$Any" "is" "(LSecondHelpings;I)Z") ∈ lw_tbl := lw_at lw_m6 203 rfl
theorem q1497 : (Jvm.Cond.instanceMethod ({ cls := "SecondHelpings$Any", name := "is", desc := "(LSecondHelpings;I)Z" } : Jvm.MethodName)) ∈ lw_all := lw_g (lw_at lw_m6 204 rfl) rfl
theorem q1498 : (Jvm.Cond.publicMethod ({ cls := "SecondHelpings$Any", name := "is", desc := "(LSecondHelpings;I)Z" } : Jvm.MethodName)) ∈ lw_tbl := lw_at lw_m6 205 rfl
theorem q1499 : (Jvm.Cond.code ({ cls := "SecondHelpings$Any", name := "is", desc := "(LSecondHelpings;I)Z" } : Jvm.MethodName) prog_3_method_2_code (3 : Nat) (Option.some Jvm.ClassFile.FieldType.boolean)) ∈ lw_all := lw_g (lw_at lw_m6 206 rfl) rfl
theorem q1500 : (Jvm.Cond.interfaceEntry "SecondHelpings$Any" (16 : Nat)) ∈ lw_tbl := lw_at lw_m6 207 rfl
theorem q1501 : (Jvm.Cond.methodLink "SecondHelpings$Any" (16 : Nat) ({ cls := "SecondHelpings$Cond", name := "is", desc := "(LSecondHelpings;I)Z" } : Jvm.MethodName)) ∈ lw_all := lw_g (lw_at lw_m6 208 rfl) rfl
theorem q2274 : (Jvm.Cond.castable "SecondHelpings$Any" "java/lang/Object") ∈ lw_tbl := lw_at lw_m10 21 rfl
theorem in_X22 : ∀ w ∈ wsX220, w ∈ lw_all := lw_in wsX220 [1481, 1483] (by decide +kernel) (by decide +kernel)
/-! SecondHelpings$Kept -/
set_option maxRecDepth 100000
def RX23 : String := "SecondHelpings$Kept"
def TX23 : u_T := fun k => match k with
  | 0 => ("SecondHelpings$Kept", "board", "LSecondHelpings$Board;", false)
  | 1 => ("SecondHelpings$Kept", "state", "LSecondHelpings$State;", true)
  | _ => ("SecondHelpings$Kept", "sentence", "LSecondHelpings$Cond;", false)
def tyX23 : Nat → FieldType := fun k => match k with
  | 0 => .object "SecondHelpings$Board"
  | 1 => .object "SecondHelpings$State"
  | _ => .object "SecondHelpings$Cond"
abbrev wsX230 : List Cond := u_ws RX23 TX23 3
theorem nmX23 : ∀ a, a < 3 → ∀ b, b < 3 → a ≠ b → (TX23 a).2.1 ≠ (TX23 b).2.1 := by decide +kernel
theorem tyX23_ok : ∀ k, k < 3 → parseFieldDescriptor (TX23 k).2.2.1 = some (tyX23 k) := by decide +kernel
abbrev cX23_init : ByteArray := prog_13_method_1_code
def yX23_init : MethodName := ⟨RX23, "<init>", "()V"⟩
def dkwX23_init_0 : List UInt8 := [42, 183, 0, 1, 42, 187, 0, 7, 89, 183, 0, 9, 181, 0, 10, 177]
abbrev dktX23_init_0 : List UInt8 := dkwX23_init_0 ++ []
theorem dksX23_init_0 : cX23_init.data.toList.drop 0 = dktX23_init_0 := by decide +kernel
theorem dX23_init_0 : decode cX23_init 0 = .ok (.aload_n 0, 1) := dk_42 (dk_at dksX23_init_0 0 rfl rfl)
theorem dX23_init_1 : decode cX23_init 1 = .ok (.invokespecial 1, 3) := dk_183 0 1 (dk_at dksX23_init_0 1 rfl rfl)
theorem dX23_init_4 : decode cX23_init 4 = .ok (.aload_n 0, 1) := dk_42 (dk_at dksX23_init_0 4 rfl rfl)
theorem dX23_init_5 : decode cX23_init 5 = .ok (.new 7, 3) := dk_187 0 7 (dk_at dksX23_init_0 5 rfl rfl)
theorem dX23_init_8 : decode cX23_init 8 = .ok (.dup, 1) := dk_89 (dk_at dksX23_init_0 8 rfl rfl)
theorem dX23_init_9 : decode cX23_init 9 = .ok (.invokespecial 9, 3) := dk_183 0 9 (dk_at dksX23_init_0 9 rfl rfl)
theorem dX23_init_12 : decode cX23_init 12 = .ok (.putfield 10, 3) := dk_181 0 10 (dk_at dksX23_init_0 12 rfl rfl)
theorem dX23_init_15 : decode cX23_init 15 = .ok (.return_, 1) := dk_177 (dk_at dksX23_init_0 15 rfl rfl)
theorem q129 : (Jvm.Cond.initialized "SecondHelpings$Kept") ∈ lw_all := lw_g (lw_at lw_m1 36 rfl) rfl
theorem q1537 : (Jvm.Cond.instantiable "SecondHelpings$Kept" (3 : Nat)) ∈ lw_all := lw_g (lw_at lw_m7 4 rfl) rfl
theorem q1539 : (Jvm.Cond.instanceMethod ({ cls := "SecondHelpings$Kept", name := "<init>", desc := "()V" } : Jvm.MethodName)) ∈ lw_all := lw_g (lw_at lw_m7 6 rfl) rfl
theorem q1540 : (Jvm.Cond.code ({ cls := "SecondHelpings$Kept", name := "<init>", desc := "()V" } : Jvm.MethodName) prog_13_method_1_code (1 : Nat) (Option.none : Option Jvm.ClassFile.FieldType)) ∈ lw_all := lw_g (lw_at lw_m7 7 rfl) rfl
theorem q1541 : (Jvm.Cond.methodLink "SecondHelpings$Kept" (1 : Nat) ({ cls := "java/lang/Object", name := "<init>", desc := "()V" } : Jvm.MethodName)) ∈ lw_all := lw_g (lw_at lw_m7 8 rfl) rfl
theorem q1542 : (Jvm.Cond.classLink "SecondHelpings$Kept" (7 : Nat) "SecondHelpings$State") ∈ lw_all := lw_g (lw_at lw_m7 9 rfl) rfl
theorem q1543 : (Jvm.Cond.methodLinkNest "SecondHelpings$Kept" (9 : Nat) ({ cls := "SecondHelpings$State", name := "<init>", desc := "()V" } : Jvm.MethodName) "SecondHelpings") ∈ lw_tbl := lw_at lw_m7 10 rfl
theorem q1545 : (Jvm.Cond.fieldLink "SecondHelpings$Kept" (10 : Nat) "SecondHelpings$Kept" "state" "LSecondHelpings$State;") ∈ lw_all := lw_g (lw_at lw_m7 12 rfl) rfl
theorem q1548 : (Jvm.Cond.lays "SecondHelpings$Kept" "SecondHelpings$Kept" "board" "LSecondHelpings$Board;") ∈ lw_all := lw_g (lw_at lw_m7 15 rfl) rfl
theorem q1549 : (Jvm.Cond.soleField "SecondHelpings$Kept" "board") ∈ lw_all := lw_g (lw_at lw_m7 16 rfl) rfl
theorem q1550 : (Jvm.Cond.laysFinal "SecondHelpings$Kept" "SecondHelpings$Kept" "state" "LSecondHelpings$State;") ∈ lw_all := lw_g (lw_at lw_m7 17 rfl) rfl
theorem q1551 : (Jvm.Cond.soleField "SecondHelpings$Kept" "state") ∈ lw_all := lw_g (lw_at lw_m7 18 rfl) rfl
theorem q1552 : (Jvm.Cond.lays "SecondHelpings$Kept" "SecondHelpings$Kept" "sentence" "LSecondHelpings$Cond;") ∈ lw_all := lw_g (lw_at lw_m7 19 rfl) rfl
theorem q1553 : (Jvm.Cond.soleField "SecondHelpings$Kept" "sentence") ∈ lw_all := lw_g (lw_at lw_m7 20 rfl) rfl
theorem q1554 : (Jvm.Cond.superclass "SecondHelpings$Kept" "java/lang/Object") ∈ lw_all := lw_g (lw_at lw_m7 21 rfl) rfl
theorem q2275 : (Jvm.Cond.castable "SecondHelpings$Kept" "java/lang/Object") ∈ lw_tbl := lw_at lw_m10 22 rfl
theorem in_X23 : ∀ w ∈ wsX230, w ∈ lw_all := lw_in wsX230 [1548, 1550, 1552] (by decide +kernel) (by decide +kernel)
