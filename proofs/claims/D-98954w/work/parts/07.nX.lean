/-! BorrowedLivesLaw -/
set_option maxRecDepth 100000
def RX0 : String := "BorrowedLivesLaw"
abbrev cX0_deeds : ByteArray := method_3_code
def yX0_deeds : MethodName := ⟨RX0, "deeds", "(LBorrowedLives;IIII[J)I"⟩
def dkwX0_deeds_0 : List UInt8 := [25, 5, 3, 42, 27, 28, 29, 21, 4, 182, 0, 7, 133, 80, 167, 0, 7, 58, 6, 4, 172, 3, 172]
abbrev dktX0_deeds_0 : List UInt8 := dkwX0_deeds_0 ++ []
theorem dksX0_deeds_0 : cX0_deeds.data.toList.drop 0 = dktX0_deeds_0 := by decide +kernel
theorem dX0_deeds_0 : decode cX0_deeds 0 = .ok (.aload 5, 2) := dk_25 5 (dk_at dksX0_deeds_0 0 rfl rfl)
theorem dX0_deeds_2 : decode cX0_deeds 2 = .ok (.iconst 0, 1) := dk_3 (dk_at dksX0_deeds_0 2 rfl rfl)
theorem dX0_deeds_3 : decode cX0_deeds 3 = .ok (.aload_n 0, 1) := dk_42 (dk_at dksX0_deeds_0 3 rfl rfl)
theorem dX0_deeds_4 : decode cX0_deeds 4 = .ok (.iload_n 1, 1) := dk_27 (dk_at dksX0_deeds_0 4 rfl rfl)
theorem dX0_deeds_5 : decode cX0_deeds 5 = .ok (.iload_n 2, 1) := dk_28 (dk_at dksX0_deeds_0 5 rfl rfl)
theorem dX0_deeds_6 : decode cX0_deeds 6 = .ok (.iload_n 3, 1) := dk_29 (dk_at dksX0_deeds_0 6 rfl rfl)
theorem dX0_deeds_7 : decode cX0_deeds 7 = .ok (.iload 4, 2) := dk_21 4 (dk_at dksX0_deeds_0 7 rfl rfl)
theorem dX0_deeds_9 : decode cX0_deeds 9 = .ok (.invokevirtual 7, 3) := dk_182 0 7 (dk_at dksX0_deeds_0 9 rfl rfl)
theorem dX0_deeds_12 : decode cX0_deeds 12 = .ok (.i2l, 1) := dk_133 (dk_at dksX0_deeds_0 12 rfl rfl)
theorem dX0_deeds_13 : decode cX0_deeds 13 = .ok (.lastore, 1) := dk_80 (dk_at dksX0_deeds_0 13 rfl rfl)
theorem dX0_deeds_14 : decode cX0_deeds 14 = .ok (.goto 7, 3) := dk_167 0 7 (dk_at dksX0_deeds_0 14 rfl rfl)
theorem dX0_deeds_17 : decode cX0_deeds 17 = .ok (.astore 6, 2) := dk_58 6 (dk_at dksX0_deeds_0 17 rfl rfl)
theorem dX0_deeds_19 : decode cX0_deeds 19 = .ok (.iconst 1, 1) := dk_4 (dk_at dksX0_deeds_0 19 rfl rfl)
theorem dX0_deeds_20 : decode cX0_deeds 20 = .ok (.ireturn, 1) := dk_172 (dk_at dksX0_deeds_0 20 rfl rfl)
theorem dX0_deeds_21 : decode cX0_deeds 21 = .ok (.iconst 0, 1) := dk_3 (dk_at dksX0_deeds_0 21 rfl rfl)
theorem dX0_deeds_22 : decode cX0_deeds 22 = .ok (.ireturn, 1) := dk_172 (dk_at dksX0_deeds_0 22 rfl rfl)
abbrev cX0_rests : ByteArray := method_4_code
def yX0_rests : MethodName := ⟨RX0, "rests", "(LBorrowedLives;IIII[J)I"⟩
def dkwX0_rests_0 : List UInt8 := [25, 5, 3, 42, 27, 28, 29, 21, 4, 182, 0, 15, 133, 80, 167, 0, 7, 58, 6, 4, 172, 3, 172]
abbrev dktX0_rests_0 : List UInt8 := dkwX0_rests_0 ++ []
theorem dksX0_rests_0 : cX0_rests.data.toList.drop 0 = dktX0_rests_0 := by decide +kernel
theorem dX0_rests_0 : decode cX0_rests 0 = .ok (.aload 5, 2) := dk_25 5 (dk_at dksX0_rests_0 0 rfl rfl)
theorem dX0_rests_2 : decode cX0_rests 2 = .ok (.iconst 0, 1) := dk_3 (dk_at dksX0_rests_0 2 rfl rfl)
theorem dX0_rests_3 : decode cX0_rests 3 = .ok (.aload_n 0, 1) := dk_42 (dk_at dksX0_rests_0 3 rfl rfl)
theorem dX0_rests_4 : decode cX0_rests 4 = .ok (.iload_n 1, 1) := dk_27 (dk_at dksX0_rests_0 4 rfl rfl)
theorem dX0_rests_5 : decode cX0_rests 5 = .ok (.iload_n 2, 1) := dk_28 (dk_at dksX0_rests_0 5 rfl rfl)
theorem dX0_rests_6 : decode cX0_rests 6 = .ok (.iload_n 3, 1) := dk_29 (dk_at dksX0_rests_0 6 rfl rfl)
theorem dX0_rests_7 : decode cX0_rests 7 = .ok (.iload 4, 2) := dk_21 4 (dk_at dksX0_rests_0 7 rfl rfl)
theorem dX0_rests_9 : decode cX0_rests 9 = .ok (.invokevirtual 15, 3) := dk_182 0 15 (dk_at dksX0_rests_0 9 rfl rfl)
theorem dX0_rests_12 : decode cX0_rests 12 = .ok (.i2l, 1) := dk_133 (dk_at dksX0_rests_0 12 rfl rfl)
theorem dX0_rests_13 : decode cX0_rests 13 = .ok (.lastore, 1) := dk_80 (dk_at dksX0_rests_0 13 rfl rfl)
theorem dX0_rests_14 : decode cX0_rests 14 = .ok (.goto 7, 3) := dk_167 0 7 (dk_at dksX0_rests_0 14 rfl rfl)
theorem dX0_rests_17 : decode cX0_rests 17 = .ok (.astore 6, 2) := dk_58 6 (dk_at dksX0_rests_0 17 rfl rfl)
theorem dX0_rests_19 : decode cX0_rests 19 = .ok (.iconst 1, 1) := dk_4 (dk_at dksX0_rests_0 19 rfl rfl)
theorem dX0_rests_20 : decode cX0_rests 20 = .ok (.ireturn, 1) := dk_172 (dk_at dksX0_rests_0 20 rfl rfl)
theorem dX0_rests_21 : decode cX0_rests 21 = .ok (.iconst 0, 1) := dk_3 (dk_at dksX0_rests_0 21 rfl rfl)
theorem dX0_rests_22 : decode cX0_rests 22 = .ok (.ireturn, 1) := dk_172 (dk_at dksX0_rests_0 22 rfl rfl)
theorem q124 : (Jvm.Cond.initialized "BorrowedLivesLaw") ∈ lw_all := lw_g (lw_at lw_m1 0 rfl) rfl
theorem q174 : (Jvm.Cond.classLink "BorrowedLivesLaw" (8 : Nat) "BorrowedLives") ∈ lw_all := lw_g (lw_at lw_m1 50 rfl) rfl
theorem q176 : (Jvm.Cond.methodLink "BorrowedLivesLaw" (18 : Nat) ({ cls := "BorrowedLives", name := "<init>", desc := "()V" } : Jvm.MethodName)) ∈ lw_all := lw_g (lw_at lw_m1 52 rfl) rfl
theorem q453 : (Jvm.Cond.methodLink "BorrowedLivesLaw" (24 : Nat) ({ cls := "BorrowedLives", name := "feed", desc := "(JJJ)I" } : Jvm.MethodName)) ∈ lw_all := lw_g (lw_at lw_m2 89 rfl) rfl
theorem q457 : (Jvm.Cond.methodLink "BorrowedLivesLaw" (29 : Nat) ({ cls := "BorrowedLives", name := "town", desc := "()I" } : Jvm.MethodName)) ∈ lw_all := lw_g (lw_at lw_m2 93 rfl) rfl
theorem q1112 : (Jvm.Cond.methodLink "BorrowedLivesLaw" (34 : Nat) ({ cls := "BorrowedLives", name := "year", desc := "()I" } : Jvm.MethodName)) ∈ lw_all := lw_g (lw_at lw_m5 28 rfl) rfl
theorem q1184 : (Jvm.Cond.methodLink "BorrowedLivesLaw" (38 : Nat) ({ cls := "BorrowedLives", name := "person", desc := "(II)I" } : Jvm.MethodName)) ∈ lw_all := lw_g (lw_at lw_m5 100 rfl) rfl
theorem q1224 : (Jvm.Cond.methodLink "BorrowedLivesLaw" (43 : Nat) ({ cls := "BorrowedLives", name := "life", desc := "(II)I" } : Jvm.MethodName)) ∈ lw_all := lw_g (lw_at lw_m5 140 rfl) rfl
theorem q1237 : (Jvm.Cond.methodLink "BorrowedLivesLaw" (47 : Nat) ({ cls := "BorrowedLives", name := "may", desc := "(II)Z" } : Jvm.MethodName)) ∈ lw_all := lw_g (lw_at lw_m5 153 rfl) rfl
theorem q1246 : (Jvm.Cond.methodLink "BorrowedLivesLaw" (82 : Nat) ({ cls := "BorrowedLives", name := "lots", desc := "()I" } : Jvm.MethodName)) ∈ lw_all := lw_g (lw_at lw_m5 162 rfl) rfl
theorem q1439 : (Jvm.Cond.methodLink "BorrowedLivesLaw" (86 : Nat) ({ cls := "BorrowedLives", name := "odds", desc := "(II)I" } : Jvm.MethodName)) ∈ lw_all := lw_g (lw_at lw_m6 115 rfl) rfl
theorem q1444 : (Jvm.Cond.methodLink "BorrowedLivesLaw" (52 : Nat) ({ cls := "BorrowedLives", name := "hide", desc := "(II)Z" } : Jvm.MethodName)) ∈ lw_all := lw_g (lw_at lw_m6 120 rfl) rfl
theorem q1452 : (Jvm.Cond.methodLink "BorrowedLivesLaw" (56 : Nat) ({ cls := "BorrowedLives", name := "lot", desc := "(I)I" } : Jvm.MethodName)) ∈ lw_all := lw_g (lw_at lw_m6 128 rfl) rfl
theorem q1489 : (Jvm.Cond.methodLink "BorrowedLivesLaw" (61 : Nat) ({ cls := "BorrowedLives", name := "swap", desc := "(II)Z" } : Jvm.MethodName)) ∈ lw_all := lw_g (lw_at lw_m6 165 rfl) rfl
theorem q1501 : (Jvm.Cond.methodLink "BorrowedLivesLaw" (65 : Nat) ({ cls := "BorrowedLives", name := "day", desc := "()I" } : Jvm.MethodName)) ∈ lw_all := lw_g (lw_at lw_m6 177 rfl) rfl
theorem q1505 : (Jvm.Cond.methodLink "BorrowedLivesLaw" (69 : Nat) ({ cls := "BorrowedLives", name := "home", desc := "()I" } : Jvm.MethodName)) ∈ lw_all := lw_g (lw_at lw_m6 181 rfl) rfl
theorem q1515 : (Jvm.Cond.methodLink "BorrowedLivesLaw" (73 : Nat) ({ cls := "BorrowedLives", name := "undo", desc := "()Z" } : Jvm.MethodName)) ∈ lw_all := lw_g (lw_at lw_m6 191 rfl) rfl
theorem q1519 : (Jvm.Cond.methodLink "BorrowedLivesLaw" (78 : Nat) ({ cls := "BorrowedLives", name := "judged", desc := "(I)I" } : Jvm.MethodName)) ∈ lw_all := lw_g (lw_at lw_m6 195 rfl) rfl
theorem q1548 : (Jvm.Cond.methodLink "BorrowedLivesLaw" (90 : Nat) ({ cls := "BorrowedLives", name := "least", desc := "(I)I" } : Jvm.MethodName)) ∈ lw_all := lw_g (lw_at lw_m6 224 rfl) rfl
theorem q1572 : (Jvm.Cond.methodLink "BorrowedLivesLaw" (94 : Nat) ({ cls := "BorrowedLives", name := "prepare", desc := "(II)I" } : Jvm.MethodName)) ∈ lw_all := lw_g (lw_at lw_m7 8 rfl) rfl
theorem q1599 : (Jvm.Cond.methodLink "BorrowedLivesLaw" (128 : Nat) ({ cls := "BorrowedLives", name := "law", desc := "(I)I" } : Jvm.MethodName)) ∈ lw_all := lw_g (lw_at lw_m7 35 rfl) rfl
theorem q1603 : (Jvm.Cond.methodLink "BorrowedLivesLaw" (107 : Nat) ({ cls := "BorrowedLives", name := "pairs", desc := "(I)I" } : Jvm.MethodName)) ∈ lw_all := lw_g (lw_at lw_m7 39 rfl) rfl
theorem q1619 : (Jvm.Cond.methodLink "BorrowedLivesLaw" (111 : Nat) ({ cls := "BorrowedLives", name := "tale", desc := "(III)Z" } : Jvm.MethodName)) ∈ lw_all := lw_g (lw_at lw_m7 55 rfl) rfl
theorem q1623 : (Jvm.Cond.methodLink "BorrowedLivesLaw" (116 : Nat) ({ cls := "BorrowedLives", name := "how", desc := "()I" } : Jvm.MethodName)) ∈ lw_all := lw_g (lw_at lw_m7 59 rfl) rfl
theorem q1647 : (Jvm.Cond.methodLink "BorrowedLivesLaw" (120 : Nat) ({ cls := "BorrowedLives", name := "who", desc := "(I)I" } : Jvm.MethodName)) ∈ lw_all := lw_g (lw_at lw_m7 83 rfl) rfl
theorem q1661 : (Jvm.Cond.methodLink "BorrowedLivesLaw" (124 : Nat) ({ cls := "BorrowedLives", name := "ask", desc := "()I" } : Jvm.MethodName)) ∈ lw_all := lw_g (lw_at lw_m7 97 rfl) rfl
theorem q1688 : (Jvm.Cond.methodLink "BorrowedLivesLaw" (135 : Nat) ({ cls := "BorrowedLives", name := "years", desc := "(III)I" } : Jvm.MethodName)) ∈ lw_all := lw_g (lw_at lw_m7 124 rfl) rfl
theorem q1700 : (Jvm.Cond.methodLink "BorrowedLivesLaw" (140 : Nat) ({ cls := "BorrowedLives", name := "mark", desc := "(IZ)Z" } : Jvm.MethodName)) ∈ lw_all := lw_g (lw_at lw_m7 136 rfl) rfl
theorem q1731 : (Jvm.Cond.methodLink "BorrowedLivesLaw" (145 : Nat) ({ cls := "BorrowedLives", name := "count", desc := "(I)I" } : Jvm.MethodName)) ∈ lw_all := lw_g (lw_at lw_m7 167 rfl) rfl
theorem q1735 : (Jvm.Cond.methodLink "BorrowedLivesLaw" (98 : Nat) ({ cls := "BorrowedLivesLaw", name := "deeds", desc := "(LBorrowedLives;IIII[J)I" } : Jvm.MethodName)) ∈ lw_all := lw_g (lw_at lw_m7 171 rfl) rfl
theorem q1736 : (Jvm.Cond.static ({ cls := "BorrowedLivesLaw", name := "deeds", desc := "(LBorrowedLives;IIII[J)I" } : Jvm.MethodName)) ∈ lw_all := lw_g (lw_at lw_m7 172 rfl) rfl
theorem q1737 : (Jvm.Cond.codeWith ({ cls := "BorrowedLivesLaw", name := "deeds", desc := "(LBorrowedLives;IIII[J)I" } : Jvm.MethodName) method_3_code (7 : Nat) (Option.some Jvm.ClassFile.FieldType.int) [((0 : Nat), (14 : Nat), (17 : Nat), (13 : Nat))]) ∈ lw_all := lw_g (lw_at lw_m7 173 rfl) rfl
theorem q1738 : (Jvm.Cond.classLink "BorrowedLivesLaw" (13 : Nat) "java/util/NoSuchElementException") ∈ lw_all := lw_g (lw_at lw_m7 174 rfl) rfl
theorem q1739 : (Jvm.Cond.methodLink "BorrowedLivesLaw" (7 : Nat) ({ cls := "BorrowedLives", name := "deeds", desc := "(IIII)I" } : Jvm.MethodName)) ∈ lw_all := lw_g (lw_at lw_m7 175 rfl) rfl
theorem q1781 : (Jvm.Cond.methodLink "BorrowedLivesLaw" (132 : Nat) ({ cls := "BorrowedLivesLaw", name := "rests", desc := "(LBorrowedLives;IIII[J)I" } : Jvm.MethodName)) ∈ lw_all := lw_g (lw_at lw_m7 217 rfl) rfl
theorem q1782 : (Jvm.Cond.static ({ cls := "BorrowedLivesLaw", name := "rests", desc := "(LBorrowedLives;IIII[J)I" } : Jvm.MethodName)) ∈ lw_all := lw_g (lw_at lw_m7 218 rfl) rfl
theorem q1783 : (Jvm.Cond.codeWith ({ cls := "BorrowedLivesLaw", name := "rests", desc := "(LBorrowedLives;IIII[J)I" } : Jvm.MethodName) method_4_code (7 : Nat) (Option.some Jvm.ClassFile.FieldType.int) [((0 : Nat), (14 : Nat), (17 : Nat), (13 : Nat))]) ∈ lw_all := lw_g (lw_at lw_m7 219 rfl) rfl
theorem q1784 : (Jvm.Cond.methodLink "BorrowedLivesLaw" (15 : Nat) ({ cls := "BorrowedLives", name := "rests", desc := "(IIII)I" } : Jvm.MethodName)) ∈ lw_all := lw_g (lw_at lw_m7 220 rfl) rfl
theorem q1794 : (Jvm.Cond.methodLink "BorrowedLivesLaw" (104 : Nat) ({ cls := "BorrowedLivesModel", name := "thrown", desc := "()I" } : Jvm.MethodName)) ∈ lw_all := lw_g (lw_at lw_m7 230 rfl) rfl
theorem q1798 : (Jvm.Cond.methodLink "BorrowedLivesLaw" (28 : Nat) ({ cls := "BorrowedLivesModel", name := "feed", desc := "(JJJ)I" } : Jvm.MethodName)) ∈ lw_all := lw_g (lw_at lw_m7 234 rfl) rfl
theorem q1807 : (Jvm.Cond.classLink "BorrowedLivesLaw" (19 : Nat) "BorrowedLivesModel") ∈ lw_all := lw_g (lw_at lw_m8 3 rfl) rfl
theorem q1808 : (Jvm.Cond.methodLink "BorrowedLivesLaw" (21 : Nat) ({ cls := "BorrowedLivesModel", name := "<init>", desc := "()V" } : Jvm.MethodName)) ∈ lw_all := lw_g (lw_at lw_m8 4 rfl) rfl
theorem q2003 : (Jvm.Cond.methodLink "BorrowedLivesLaw" (33 : Nat) ({ cls := "BorrowedLivesModel", name := "town", desc := "()I" } : Jvm.MethodName)) ∈ lw_all := lw_g (lw_at lw_m8 199 rfl) rfl
theorem q2122 : (Jvm.Cond.methodLink "BorrowedLivesLaw" (37 : Nat) ({ cls := "BorrowedLivesModel", name := "year", desc := "()I" } : Jvm.MethodName)) ∈ lw_all := lw_g (lw_at lw_m9 78 rfl) rfl
theorem q2134 : (Jvm.Cond.methodLink "BorrowedLivesLaw" (42 : Nat) ({ cls := "BorrowedLivesModel", name := "person", desc := "(II)I" } : Jvm.MethodName)) ∈ lw_all := lw_g (lw_at lw_m9 90 rfl) rfl
theorem q2145 : (Jvm.Cond.methodLink "BorrowedLivesLaw" (46 : Nat) ({ cls := "BorrowedLivesModel", name := "life", desc := "(II)I" } : Jvm.MethodName)) ∈ lw_all := lw_g (lw_at lw_m9 101 rfl) rfl
theorem q2153 : (Jvm.Cond.methodLink "BorrowedLivesLaw" (51 : Nat) ({ cls := "BorrowedLivesModel", name := "may", desc := "(II)Z" } : Jvm.MethodName)) ∈ lw_all := lw_g (lw_at lw_m9 109 rfl) rfl
theorem q2157 : (Jvm.Cond.methodLink "BorrowedLivesLaw" (55 : Nat) ({ cls := "BorrowedLivesModel", name := "hide", desc := "(II)Z" } : Jvm.MethodName)) ∈ lw_all := lw_g (lw_at lw_m9 113 rfl) rfl
theorem q2173 : (Jvm.Cond.methodLink "BorrowedLivesLaw" (60 : Nat) ({ cls := "BorrowedLivesModel", name := "lot", desc := "(I)I" } : Jvm.MethodName)) ∈ lw_all := lw_g (lw_at lw_m9 129 rfl) rfl
theorem q2197 : (Jvm.Cond.methodLink "BorrowedLivesLaw" (64 : Nat) ({ cls := "BorrowedLivesModel", name := "swap", desc := "(II)Z" } : Jvm.MethodName)) ∈ lw_all := lw_g (lw_at lw_m9 153 rfl) rfl
theorem q2213 : (Jvm.Cond.methodLink "BorrowedLivesLaw" (68 : Nat) ({ cls := "BorrowedLivesModel", name := "day", desc := "()I" } : Jvm.MethodName)) ∈ lw_all := lw_g (lw_at lw_m9 169 rfl) rfl
theorem q2256 : (Jvm.Cond.methodLink "BorrowedLivesLaw" (72 : Nat) ({ cls := "BorrowedLivesModel", name := "home", desc := "()I" } : Jvm.MethodName)) ∈ lw_all := lw_g (lw_at lw_m9 212 rfl) rfl
theorem q2268 : (Jvm.Cond.methodLink "BorrowedLivesLaw" (77 : Nat) ({ cls := "BorrowedLivesModel", name := "undo", desc := "()Z" } : Jvm.MethodName)) ∈ lw_all := lw_g (lw_at lw_m9 224 rfl) rfl
theorem q2272 : (Jvm.Cond.methodLink "BorrowedLivesLaw" (81 : Nat) ({ cls := "BorrowedLivesModel", name := "judged", desc := "(I)I" } : Jvm.MethodName)) ∈ lw_all := lw_g (lw_at lw_m9 228 rfl) rfl
theorem q2284 : (Jvm.Cond.methodLink "BorrowedLivesLaw" (85 : Nat) ({ cls := "BorrowedLivesModel", name := "lots", desc := "()I" } : Jvm.MethodName)) ∈ lw_all := lw_g (lw_at lw_m10 0 rfl) rfl
theorem q2288 : (Jvm.Cond.methodLink "BorrowedLivesLaw" (89 : Nat) ({ cls := "BorrowedLivesModel", name := "odds", desc := "(II)I" } : Jvm.MethodName)) ∈ lw_all := lw_g (lw_at lw_m10 4 rfl) rfl
theorem q2293 : (Jvm.Cond.methodLink "BorrowedLivesLaw" (93 : Nat) ({ cls := "BorrowedLivesModel", name := "least", desc := "(I)I" } : Jvm.MethodName)) ∈ lw_all := lw_g (lw_at lw_m10 9 rfl) rfl
theorem q2301 : (Jvm.Cond.methodLink "BorrowedLivesLaw" (97 : Nat) ({ cls := "BorrowedLivesModel", name := "prepare", desc := "(II)I" } : Jvm.MethodName)) ∈ lw_all := lw_g (lw_at lw_m10 17 rfl) rfl
theorem q2307 : (Jvm.Cond.methodLink "BorrowedLivesLaw" (131 : Nat) ({ cls := "BorrowedLivesModel", name := "law", desc := "(I)I" } : Jvm.MethodName)) ∈ lw_all := lw_g (lw_at lw_m10 23 rfl) rfl
theorem q2311 : (Jvm.Cond.methodLink "BorrowedLivesLaw" (103 : Nat) ({ cls := "BorrowedLivesModel", name := "deeds", desc := "(IIII)I" } : Jvm.MethodName)) ∈ lw_all := lw_g (lw_at lw_m10 27 rfl) rfl
theorem q2323 : (Jvm.Cond.methodLink "BorrowedLivesLaw" (110 : Nat) ({ cls := "BorrowedLivesModel", name := "pairs", desc := "(I)I" } : Jvm.MethodName)) ∈ lw_all := lw_g (lw_at lw_m10 39 rfl) rfl
theorem q2335 : (Jvm.Cond.methodLink "BorrowedLivesLaw" (115 : Nat) ({ cls := "BorrowedLivesModel", name := "tale", desc := "(III)Z" } : Jvm.MethodName)) ∈ lw_all := lw_g (lw_at lw_m10 51 rfl) rfl
theorem q2339 : (Jvm.Cond.methodLink "BorrowedLivesLaw" (119 : Nat) ({ cls := "BorrowedLivesModel", name := "how", desc := "()I" } : Jvm.MethodName)) ∈ lw_all := lw_g (lw_at lw_m10 55 rfl) rfl
theorem q2351 : (Jvm.Cond.methodLink "BorrowedLivesLaw" (123 : Nat) ({ cls := "BorrowedLivesModel", name := "who", desc := "(I)I" } : Jvm.MethodName)) ∈ lw_all := lw_g (lw_at lw_m10 67 rfl) rfl
theorem q2355 : (Jvm.Cond.methodLink "BorrowedLivesLaw" (127 : Nat) ({ cls := "BorrowedLivesModel", name := "ask", desc := "()I" } : Jvm.MethodName)) ∈ lw_all := lw_g (lw_at lw_m10 71 rfl) rfl
theorem q2367 : (Jvm.Cond.methodLink "BorrowedLivesLaw" (134 : Nat) ({ cls := "BorrowedLivesModel", name := "rests", desc := "(IIII)I" } : Jvm.MethodName)) ∈ lw_all := lw_g (lw_at lw_m10 83 rfl) rfl
theorem q2374 : (Jvm.Cond.methodLink "BorrowedLivesLaw" (139 : Nat) ({ cls := "BorrowedLivesModel", name := "years", desc := "(III)I" } : Jvm.MethodName)) ∈ lw_all := lw_g (lw_at lw_m10 90 rfl) rfl
theorem q2386 : (Jvm.Cond.methodLink "BorrowedLivesLaw" (144 : Nat) ({ cls := "BorrowedLivesModel", name := "mark", desc := "(IZ)Z" } : Jvm.MethodName)) ∈ lw_all := lw_g (lw_at lw_m10 102 rfl) rfl
theorem q2390 : (Jvm.Cond.methodLink "BorrowedLivesLaw" (148 : Nat) ({ cls := "BorrowedLivesModel", name := "count", desc := "(I)I" } : Jvm.MethodName)) ∈ lw_all := lw_g (lw_at lw_m10 106 rfl) rfl
theorem q2398 : (Jvm.Cond.constantLong "BorrowedLivesLaw" (22 : Nat) (4294967295 : Int64)) ∈ lw_all := lw_g (lw_at lw_m10 114 rfl) rfl
/-! BorrowedLives$Town -/
set_option maxRecDepth 100000
def RX3 : String := "BorrowedLives$Town"
def TX3 : u_T := fun k => match k with
  | 0 => ("BorrowedLives$Town", "people", "Ljava/util/ArrayList;", true)
  | 1 => ("BorrowedLives$Town", "bars", "I", false)
  | 2 => ("BorrowedLives$Town", "sign", "I", false)
  | 3 => ("BorrowedLives$Town", "spends", "LBorrowedLives$Expression;", false)
  | 4 => ("BorrowedLives$Town", "mends", "LBorrowedLives$Expression;", false)
  | 5 => ("BorrowedLives$Town", "good", "LBorrowedLives$Expression;", false)
  | _ => ("BorrowedLives$Town", "wish", "LBorrowedLives$Expression;", false)
def tyX3 : Nat → FieldType := fun k => match k with
  | 0 => .object "java/util/ArrayList"
  | 1 => .int
  | 2 => .int
  | 3 => .object "BorrowedLives$Expression"
  | 4 => .object "BorrowedLives$Expression"
  | 5 => .object "BorrowedLives$Expression"
  | _ => .object "BorrowedLives$Expression"
abbrev wsX30 : List Cond := u_ws RX3 TX3 7
theorem nmX3 : ∀ a, a < 7 → ∀ b, b < 7 → a ≠ b → (TX3 a).2.1 ≠ (TX3 b).2.1 := by decide +kernel
theorem tyX3_ok : ∀ k, k < 7 → parseFieldDescriptor (TX3 k).2.2.1 = some (tyX3 k) := by decide +kernel
abbrev cX3_init : ByteArray := prog_26_method_1_code
def yX3_init : MethodName := ⟨RX3, "<init>", "()V"⟩
def dkwX3_init_0 : List UInt8 := [42, 183, 0, 3, 42, 187, 0, 9, 89, 5, 183, 0, 11, 181, 0, 14, 42, 2, 181, 0, 20, 177]
abbrev dktX3_init_0 : List UInt8 := dkwX3_init_0 ++ []
theorem dksX3_init_0 : cX3_init.data.toList.drop 0 = dktX3_init_0 := by decide +kernel
theorem dX3_init_0 : decode cX3_init 0 = .ok (.aload_n 0, 1) := dk_42 (dk_at dksX3_init_0 0 rfl rfl)
theorem dX3_init_1 : decode cX3_init 1 = .ok (.invokespecial 3, 3) := dk_183 0 3 (dk_at dksX3_init_0 1 rfl rfl)
theorem dX3_init_4 : decode cX3_init 4 = .ok (.aload_n 0, 1) := dk_42 (dk_at dksX3_init_0 4 rfl rfl)
theorem dX3_init_5 : decode cX3_init 5 = .ok (.new 9, 3) := dk_187 0 9 (dk_at dksX3_init_0 5 rfl rfl)
theorem dX3_init_8 : decode cX3_init 8 = .ok (.dup, 1) := dk_89 (dk_at dksX3_init_0 8 rfl rfl)
theorem dX3_init_9 : decode cX3_init 9 = .ok (.iconst 2, 1) := dk_5 (dk_at dksX3_init_0 9 rfl rfl)
theorem dX3_init_10 : decode cX3_init 10 = .ok (.invokespecial 11, 3) := dk_183 0 11 (dk_at dksX3_init_0 10 rfl rfl)
theorem dX3_init_13 : decode cX3_init 13 = .ok (.putfield 14, 3) := dk_181 0 14 (dk_at dksX3_init_0 13 rfl rfl)
theorem dX3_init_16 : decode cX3_init 16 = .ok (.aload_n 0, 1) := dk_42 (dk_at dksX3_init_0 16 rfl rfl)
theorem dX3_init_17 : decode cX3_init 17 = .ok (.iconst (-1), 1) := dk_2 (dk_at dksX3_init_0 17 rfl rfl)
theorem dX3_init_18 : decode cX3_init 18 = .ok (.putfield 20, 3) := dk_181 0 20 (dk_at dksX3_init_0 18 rfl rfl)
theorem dX3_init_21 : decode cX3_init 21 = .ok (.return_, 1) := dk_177 (dk_at dksX3_init_0 21 rfl rfl)
abbrev cX3_person : ByteArray := prog_26_method_2_code
def yX3_person : MethodName := ⟨RX3, "person", "(Ljava/lang/String;)I"⟩
def dkwX3_person_1 : List UInt8 := [180, 0, 34, 43, 182, 0, 38, 153, 0, 5, 28, 172, 132, 2, 1, 167, 255, 219, 2, 172]
abbrev dktX3_person_1 : List UInt8 := dkwX3_person_1 ++ []
def dkwX3_person_0 : List UInt8 := [3, 61, 28, 42, 180, 0, 14, 182, 0, 24, 162, 0, 32, 42, 180, 0, 14, 28, 182, 0, 28, 192, 0, 32]
abbrev dktX3_person_0 : List UInt8 := dkwX3_person_0 ++ dktX3_person_1
theorem dksX3_person_0 : cX3_person.data.toList.drop 0 = dktX3_person_0 := by decide +kernel
theorem dksX3_person_1 : cX3_person.data.toList.drop 24 = dktX3_person_1 := dk_seg dksX3_person_0 24 rfl rfl
theorem dX3_person_0 : decode cX3_person 0 = .ok (.iconst 0, 1) := dk_3 (dk_at dksX3_person_0 0 rfl rfl)
theorem dX3_person_1 : decode cX3_person 1 = .ok (.istore_n 2, 1) := dk_61 (dk_at dksX3_person_0 1 rfl rfl)
theorem dX3_person_2 : decode cX3_person 2 = .ok (.iload_n 2, 1) := dk_28 (dk_at dksX3_person_0 2 rfl rfl)
theorem dX3_person_3 : decode cX3_person 3 = .ok (.aload_n 0, 1) := dk_42 (dk_at dksX3_person_0 3 rfl rfl)
theorem dX3_person_4 : decode cX3_person 4 = .ok (.getfield 14, 3) := dk_180 0 14 (dk_at dksX3_person_0 4 rfl rfl)
theorem dX3_person_7 : decode cX3_person 7 = .ok (.invokevirtual 24, 3) := dk_182 0 24 (dk_at dksX3_person_0 7 rfl rfl)
theorem dX3_person_10 : decode cX3_person 10 = .ok (.if_icmp .ge 32, 3) := dk_162 0 32 (dk_at dksX3_person_0 10 rfl rfl)
theorem dX3_person_13 : decode cX3_person 13 = .ok (.aload_n 0, 1) := dk_42 (dk_at dksX3_person_0 13 rfl rfl)
theorem dX3_person_14 : decode cX3_person 14 = .ok (.getfield 14, 3) := dk_180 0 14 (dk_at dksX3_person_0 14 rfl rfl)
theorem dX3_person_17 : decode cX3_person 17 = .ok (.iload_n 2, 1) := dk_28 (dk_at dksX3_person_0 17 rfl rfl)
theorem dX3_person_18 : decode cX3_person 18 = .ok (.invokevirtual 28, 3) := dk_182 0 28 (dk_at dksX3_person_0 18 rfl rfl)
theorem dX3_person_21 : decode cX3_person 21 = .ok (.checkcast 32, 3) := dk_192 0 32 (dk_at dksX3_person_0 21 rfl rfl)
theorem dX3_person_24 : decode cX3_person 24 = .ok (.getfield 34, 3) := dk_180 0 34 (dk_at dksX3_person_1 0 rfl rfl)
theorem dX3_person_27 : decode cX3_person 27 = .ok (.aload_n 1, 1) := dk_43 (dk_at dksX3_person_1 3 rfl rfl)
theorem dX3_person_28 : decode cX3_person 28 = .ok (.invokevirtual 38, 3) := dk_182 0 38 (dk_at dksX3_person_1 4 rfl rfl)
theorem dX3_person_31 : decode cX3_person 31 = .ok (.ifCond .eq 5, 3) := dk_153 0 5 (dk_at dksX3_person_1 7 rfl rfl)
theorem dX3_person_34 : decode cX3_person 34 = .ok (.iload_n 2, 1) := dk_28 (dk_at dksX3_person_1 10 rfl rfl)
theorem dX3_person_35 : decode cX3_person 35 = .ok (.ireturn, 1) := dk_172 (dk_at dksX3_person_1 11 rfl rfl)
theorem dX3_person_36 : decode cX3_person 36 = .ok (.iinc 2 1, 3) := dk_132 2 1 (dk_at dksX3_person_1 12 rfl rfl)
theorem dX3_person_39 : decode cX3_person 39 = .ok (.goto (-37), 3) := dk_167 255 219 (dk_at dksX3_person_1 15 rfl rfl)
theorem dX3_person_42 : decode cX3_person 42 = .ok (.iconst (-1), 1) := dk_2 (dk_at dksX3_person_1 18 rfl rfl)
theorem dX3_person_43 : decode cX3_person 43 = .ok (.ireturn, 1) := dk_172 (dk_at dksX3_person_1 19 rfl rfl)
abbrev cX3_sign : ByteArray := prog_26_method_3_code
def yX3_sign : MethodName := ⟨RX3, "sign", "()I"⟩
def dkwX3_sign_0 : List UInt8 := [42, 180, 0, 20, 156, 0, 8, 16, 50, 167, 0, 7, 42, 180, 0, 20, 172]
abbrev dktX3_sign_0 : List UInt8 := dkwX3_sign_0 ++ []
theorem dksX3_sign_0 : cX3_sign.data.toList.drop 0 = dktX3_sign_0 := by decide +kernel
theorem dX3_sign_0 : decode cX3_sign 0 = .ok (.aload_n 0, 1) := dk_42 (dk_at dksX3_sign_0 0 rfl rfl)
theorem dX3_sign_1 : decode cX3_sign 1 = .ok (.getfield 20, 3) := dk_180 0 20 (dk_at dksX3_sign_0 1 rfl rfl)
theorem dX3_sign_4 : decode cX3_sign 4 = .ok (.ifCond .ge 8, 3) := dk_156 0 8 (dk_at dksX3_sign_0 4 rfl rfl)
theorem dX3_sign_7 : decode cX3_sign 7 = .ok (.bipush 50, 2) := dk_16 50 (dk_at dksX3_sign_0 7 rfl rfl)
theorem dX3_sign_9 : decode cX3_sign 9 = .ok (.goto 7, 3) := dk_167 0 7 (dk_at dksX3_sign_0 9 rfl rfl)
theorem dX3_sign_12 : decode cX3_sign 12 = .ok (.aload_n 0, 1) := dk_42 (dk_at dksX3_sign_0 12 rfl rfl)
theorem dX3_sign_13 : decode cX3_sign 13 = .ok (.getfield 20, 3) := dk_180 0 20 (dk_at dksX3_sign_0 13 rfl rfl)
theorem dX3_sign_16 : decode cX3_sign 16 = .ok (.ireturn, 1) := dk_172 (dk_at dksX3_sign_0 16 rfl rfl)
theorem q127 : (Jvm.Cond.initialized "BorrowedLives$Town") ∈ lw_all := lw_g (lw_at lw_m1 3 rfl) rfl
theorem q218 : (Jvm.Cond.instantiable "BorrowedLives$Town" (7 : Nat)) ∈ lw_all := lw_g (lw_at lw_m1 94 rfl) rfl
theorem q220 : (Jvm.Cond.instanceMethod ({ cls := "BorrowedLives$Town", name := "<init>", desc := "()V" } : Jvm.MethodName)) ∈ lw_all := lw_g (lw_at lw_m1 96 rfl) rfl
theorem q221 : (Jvm.Cond.code ({ cls := "BorrowedLives$Town", name := "<init>", desc := "()V" } : Jvm.MethodName) prog_26_method_1_code (1 : Nat) (Option.none : Option Jvm.ClassFile.FieldType)) ∈ lw_all := lw_g (lw_at lw_m1 97 rfl) rfl
theorem q222 : (Jvm.Cond.methodLink "BorrowedLives$Town" (3 : Nat) ({ cls := "java/lang/Object", name := "<init>", desc := "()V" } : Jvm.MethodName)) ∈ lw_all := lw_g (lw_at lw_m1 98 rfl) rfl
theorem q223 : (Jvm.Cond.classLink "BorrowedLives$Town" (9 : Nat) "java/util/ArrayList") ∈ lw_all := lw_g (lw_at lw_m1 99 rfl) rfl
theorem q225 : (Jvm.Cond.methodLink "BorrowedLives$Town" (11 : Nat) ({ cls := "java/util/ArrayList", name := "<init>", desc := "(I)V" } : Jvm.MethodName)) ∈ lw_all := lw_g (lw_at lw_m1 101 rfl) rfl
theorem q251 : (Jvm.Cond.fieldLink "BorrowedLives$Town" (14 : Nat) "BorrowedLives$Town" "people" "Ljava/util/ArrayList;") ∈ lw_all := lw_g (lw_at lw_m1 127 rfl) rfl
theorem q257 : (Jvm.Cond.fieldLink "BorrowedLives$Town" (20 : Nat) "BorrowedLives$Town" "sign" "I") ∈ lw_all := lw_g (lw_at lw_m1 133 rfl) rfl
theorem q267 : (Jvm.Cond.laysFinal "BorrowedLives$Town" "BorrowedLives$Town" "people" "Ljava/util/ArrayList;") ∈ lw_all := lw_g (lw_at lw_m1 143 rfl) rfl
theorem q268 : (Jvm.Cond.soleField "BorrowedLives$Town" "people") ∈ lw_all := lw_g (lw_at lw_m1 144 rfl) rfl
theorem q269 : (Jvm.Cond.lays "BorrowedLives$Town" "BorrowedLives$Town" "bars" "I") ∈ lw_all := lw_g (lw_at lw_m1 145 rfl) rfl
theorem q270 : (Jvm.Cond.soleField "BorrowedLives$Town" "bars") ∈ lw_all := lw_g (lw_at lw_m1 146 rfl) rfl
theorem q271 : (Jvm.Cond.lays "BorrowedLives$Town" "BorrowedLives$Town" "sign" "I") ∈ lw_all := lw_g (lw_at lw_m1 147 rfl) rfl
theorem q272 : (Jvm.Cond.soleField "BorrowedLives$Town" "sign") ∈ lw_all := lw_g (lw_at lw_m1 148 rfl) rfl
theorem q273 : (Jvm.Cond.lays "BorrowedLives$Town" "BorrowedLives$Town" "spends" "LBorrowedLives$Expression;") ∈ lw_all := lw_g (lw_at lw_m1 149 rfl) rfl
theorem q274 : (Jvm.Cond.soleField "BorrowedLives$Town" "spends") ∈ lw_all := lw_g (lw_at lw_m1 150 rfl) rfl
theorem q275 : (Jvm.Cond.lays "BorrowedLives$Town" "BorrowedLives$Town" "mends" "LBorrowedLives$Expression;") ∈ lw_all := lw_g (lw_at lw_m1 151 rfl) rfl
theorem q276 : (Jvm.Cond.soleField "BorrowedLives$Town" "mends") ∈ lw_all := lw_g (lw_at lw_m1 152 rfl) rfl
theorem q277 : (Jvm.Cond.lays "BorrowedLives$Town" "BorrowedLives$Town" "good" "LBorrowedLives$Expression;") ∈ lw_all := lw_g (lw_at lw_m1 153 rfl) rfl
theorem q278 : (Jvm.Cond.soleField "BorrowedLives$Town" "good") ∈ lw_all := lw_g (lw_at lw_m1 154 rfl) rfl
theorem q279 : (Jvm.Cond.lays "BorrowedLives$Town" "BorrowedLives$Town" "wish" "LBorrowedLives$Expression;") ∈ lw_all := lw_g (lw_at lw_m1 155 rfl) rfl
theorem q280 : (Jvm.Cond.soleField "BorrowedLives$Town" "wish") ∈ lw_all := lw_g (lw_at lw_m1 156 rfl) rfl
theorem q281 : (Jvm.Cond.superclass "BorrowedLives$Town" "java/lang/Object") ∈ lw_all := lw_g (lw_at lw_m1 157 rfl) rfl
theorem q852 : (Jvm.Cond.instanceMethod ({ cls := "BorrowedLives$Town", name := "person", desc := "(Ljava/lang/String;)I" } : Jvm.MethodName)) ∈ lw_all := lw_g (lw_at lw_m4 8 rfl) rfl
theorem q853 : (Jvm.Cond.selects "BorrowedLives$Town" ({ cls := "BorrowedLives$Town", name := "person", desc := "(Ljava/lang/String;)I" } : Jvm.MethodName) ({ cls := "BorrowedLives$Town", name := "person", desc := "(Ljava/lang/String;)I" } : Jvm.MethodName)) ∈ lw_all := lw_g (lw_at lw_m4 9 rfl) rfl
theorem q854 : (Jvm.Cond.code ({ cls := "BorrowedLives$Town", name := "person", desc := "(Ljava/lang/String;)I" } : Jvm.MethodName) prog_26_method_2_code (3 : Nat) (Option.some Jvm.ClassFile.FieldType.int)) ∈ lw_all := lw_g (lw_at lw_m4 10 rfl) rfl
theorem q855 : (Jvm.Cond.methodLink "BorrowedLives$Town" (24 : Nat) ({ cls := "java/util/ArrayList", name := "size", desc := "()I" } : Jvm.MethodName)) ∈ lw_all := lw_g (lw_at lw_m4 11 rfl) rfl
theorem q856 : (Jvm.Cond.methodLink "BorrowedLives$Town" (28 : Nat) ({ cls := "java/util/ArrayList", name := "get", desc := "(I)Ljava/lang/Object;" } : Jvm.MethodName)) ∈ lw_all := lw_g (lw_at lw_m4 12 rfl) rfl
theorem q857 : (Jvm.Cond.classLink "BorrowedLives$Town" (32 : Nat) "BorrowedLives$Person") ∈ lw_all := lw_g (lw_at lw_m4 13 rfl) rfl
theorem q858 : (Jvm.Cond.methodLink "BorrowedLives$Town" (38 : Nat) ({ cls := "java/lang/String", name := "equals", desc := "(Ljava/lang/Object;)Z" } : Jvm.MethodName)) ∈ lw_all := lw_g (lw_at lw_m4 14 rfl) rfl
theorem q878 : (Jvm.Cond.fieldLink "BorrowedLives$Town" (34 : Nat) "BorrowedLives$Person" "name" "Ljava/lang/String;") ∈ lw_all := lw_g (lw_at lw_m4 34 rfl) rfl
theorem q1004 : (Jvm.Cond.selects "BorrowedLives$Town" ({ cls := "java/lang/Object", name := "getClass", desc := "()Ljava/lang/Class;" } : Jvm.MethodName) ({ cls := "java/lang/Object", name := "getClass", desc := "()Ljava/lang/Class;" } : Jvm.MethodName)) ∈ lw_all := lw_g (lw_at lw_m4 160 rfl) rfl
theorem q1318 : (Jvm.Cond.instanceMethod ({ cls := "BorrowedLives$Town", name := "sign", desc := "()I" } : Jvm.MethodName)) ∈ lw_all := lw_g (lw_at lw_m5 234 rfl) rfl
theorem q1319 : (Jvm.Cond.selects "BorrowedLives$Town" ({ cls := "BorrowedLives$Town", name := "sign", desc := "()I" } : Jvm.MethodName) ({ cls := "BorrowedLives$Town", name := "sign", desc := "()I" } : Jvm.MethodName)) ∈ lw_all := lw_g (lw_at lw_m5 235 rfl) rfl
theorem q1320 : (Jvm.Cond.code ({ cls := "BorrowedLives$Town", name := "sign", desc := "()I" } : Jvm.MethodName) prog_26_method_3_code (1 : Nat) (Option.some Jvm.ClassFile.FieldType.int)) ∈ lw_all := lw_g (lw_at lw_m5 236 rfl) rfl
theorem q2417 : (Jvm.Cond.castable "BorrowedLives$Town" "java/lang/Object") ∈ lw_tbl := lw_at lw_m10 133 rfl
theorem in_X3 : ∀ w ∈ wsX30, w ∈ lw_all := lw_in wsX30 [267, 269, 271, 273, 275, 277, 279] (by decide +kernel) (by decide +kernel)
/-! BorrowedLives$State -/
set_option maxRecDepth 100000
def RX4 : String := "BorrowedLives$State"
def TX4 : u_T := fun k => match k with
  | 0 => ("BorrowedLives$State", "purse", "[I", true)
  | 1 => ("BorrowedLives$State", "debt", "[I", true)
  | 2 => ("BorrowedLives$State", "home", "[I", true)
  | 3 => ("BorrowedLives$State", "hidden", "[I", true)
  | 4 => ("BorrowedLives$State", "had", "[I", true)
  | 5 => ("BorrowedLives$State", "neat", "[I", true)
  | 6 => ("BorrowedLives$State", "self", "[I", true)
  | 7 => ("BorrowedLives$State", "away", "Z", false)
  | 8 => ("BorrowedLives$State", "days", "I", false)
  | 9 => ("BorrowedLives$State", "homes", "I", false)
  | _ => ("BorrowedLives$State", "harm", "I", false)
def tyX4 : Nat → FieldType := fun k => match k with
  | 0 => .array .int
  | 1 => .array .int
  | 2 => .array .int
  | 3 => .array .int
  | 4 => .array .int
  | 5 => .array .int
  | 6 => .array .int
  | 7 => .boolean
  | 8 => .int
  | 9 => .int
  | _ => .int
abbrev wsX40 : List Cond := u_ws RX4 TX4 11
theorem nmX4 : ∀ a, a < 11 → ∀ b, b < 11 → a ≠ b → (TX4 a).2.1 ≠ (TX4 b).2.1 := by decide +kernel
theorem tyX4_ok : ∀ k, k < 11 → parseFieldDescriptor (TX4 k).2.2.1 = some (tyX4 k) := by decide +kernel
abbrev cX4_init : ByteArray := prog_22_method_1_code
def yX4_init : MethodName := ⟨RX4, "<init>", "()V"⟩
def dkwX4_init_2 : List UInt8 := [188, 10, 181, 0, 27, 42, 16, 6, 188, 10, 181, 0, 30, 177]
abbrev dktX4_init_2 : List UInt8 := dkwX4_init_2 ++ []
def dkwX4_init_1 : List UInt8 := [188, 10, 181, 0, 18, 42, 16, 6, 188, 10, 181, 0, 21, 42, 16, 6, 188, 10, 181, 0, 24, 42, 16, 6]
abbrev dktX4_init_1 : List UInt8 := dkwX4_init_1 ++ dktX4_init_2
def dkwX4_init_0 : List UInt8 := [42, 183, 0, 3, 42, 16, 6, 188, 10, 181, 0, 9, 42, 16, 6, 188, 10, 181, 0, 15, 42, 16, 6]
abbrev dktX4_init_0 : List UInt8 := dkwX4_init_0 ++ dktX4_init_1
theorem dksX4_init_0 : cX4_init.data.toList.drop 0 = dktX4_init_0 := by decide +kernel
theorem dksX4_init_1 : cX4_init.data.toList.drop 23 = dktX4_init_1 := dk_seg dksX4_init_0 23 rfl rfl
theorem dksX4_init_2 : cX4_init.data.toList.drop 47 = dktX4_init_2 := dk_seg dksX4_init_1 24 rfl rfl
theorem dX4_init_0 : decode cX4_init 0 = .ok (.aload_n 0, 1) := dk_42 (dk_at dksX4_init_0 0 rfl rfl)
theorem dX4_init_1 : decode cX4_init 1 = .ok (.invokespecial 3, 3) := dk_183 0 3 (dk_at dksX4_init_0 1 rfl rfl)
theorem dX4_init_4 : decode cX4_init 4 = .ok (.aload_n 0, 1) := dk_42 (dk_at dksX4_init_0 4 rfl rfl)
theorem dX4_init_5 : decode cX4_init 5 = .ok (.bipush 6, 2) := dk_16 6 (dk_at dksX4_init_0 5 rfl rfl)
theorem dX4_init_7 : decode cX4_init 7 = .ok (.newarray .int, 2) := dk_188_10 (dk_at dksX4_init_0 7 rfl rfl)
theorem dX4_init_9 : decode cX4_init 9 = .ok (.putfield 9, 3) := dk_181 0 9 (dk_at dksX4_init_0 9 rfl rfl)
theorem dX4_init_12 : decode cX4_init 12 = .ok (.aload_n 0, 1) := dk_42 (dk_at dksX4_init_0 12 rfl rfl)
theorem dX4_init_13 : decode cX4_init 13 = .ok (.bipush 6, 2) := dk_16 6 (dk_at dksX4_init_0 13 rfl rfl)
theorem dX4_init_15 : decode cX4_init 15 = .ok (.newarray .int, 2) := dk_188_10 (dk_at dksX4_init_0 15 rfl rfl)
theorem dX4_init_17 : decode cX4_init 17 = .ok (.putfield 15, 3) := dk_181 0 15 (dk_at dksX4_init_0 17 rfl rfl)
theorem dX4_init_20 : decode cX4_init 20 = .ok (.aload_n 0, 1) := dk_42 (dk_at dksX4_init_0 20 rfl rfl)
theorem dX4_init_21 : decode cX4_init 21 = .ok (.bipush 6, 2) := dk_16 6 (dk_at dksX4_init_0 21 rfl rfl)
theorem dX4_init_23 : decode cX4_init 23 = .ok (.newarray .int, 2) := dk_188_10 (dk_at dksX4_init_1 0 rfl rfl)
theorem dX4_init_25 : decode cX4_init 25 = .ok (.putfield 18, 3) := dk_181 0 18 (dk_at dksX4_init_1 2 rfl rfl)
theorem dX4_init_28 : decode cX4_init 28 = .ok (.aload_n 0, 1) := dk_42 (dk_at dksX4_init_1 5 rfl rfl)
theorem dX4_init_29 : decode cX4_init 29 = .ok (.bipush 6, 2) := dk_16 6 (dk_at dksX4_init_1 6 rfl rfl)
theorem dX4_init_31 : decode cX4_init 31 = .ok (.newarray .int, 2) := dk_188_10 (dk_at dksX4_init_1 8 rfl rfl)
theorem dX4_init_33 : decode cX4_init 33 = .ok (.putfield 21, 3) := dk_181 0 21 (dk_at dksX4_init_1 10 rfl rfl)
theorem dX4_init_36 : decode cX4_init 36 = .ok (.aload_n 0, 1) := dk_42 (dk_at dksX4_init_1 13 rfl rfl)
theorem dX4_init_37 : decode cX4_init 37 = .ok (.bipush 6, 2) := dk_16 6 (dk_at dksX4_init_1 14 rfl rfl)
theorem dX4_init_39 : decode cX4_init 39 = .ok (.newarray .int, 2) := dk_188_10 (dk_at dksX4_init_1 16 rfl rfl)
theorem dX4_init_41 : decode cX4_init 41 = .ok (.putfield 24, 3) := dk_181 0 24 (dk_at dksX4_init_1 18 rfl rfl)
theorem dX4_init_44 : decode cX4_init 44 = .ok (.aload_n 0, 1) := dk_42 (dk_at dksX4_init_1 21 rfl rfl)
theorem dX4_init_45 : decode cX4_init 45 = .ok (.bipush 6, 2) := dk_16 6 (dk_at dksX4_init_1 22 rfl rfl)
theorem dX4_init_47 : decode cX4_init 47 = .ok (.newarray .int, 2) := dk_188_10 (dk_at dksX4_init_2 0 rfl rfl)
theorem dX4_init_49 : decode cX4_init 49 = .ok (.putfield 27, 3) := dk_181 0 27 (dk_at dksX4_init_2 2 rfl rfl)
theorem dX4_init_52 : decode cX4_init 52 = .ok (.aload_n 0, 1) := dk_42 (dk_at dksX4_init_2 5 rfl rfl)
theorem dX4_init_53 : decode cX4_init 53 = .ok (.bipush 6, 2) := dk_16 6 (dk_at dksX4_init_2 6 rfl rfl)
theorem dX4_init_55 : decode cX4_init 55 = .ok (.newarray .int, 2) := dk_188_10 (dk_at dksX4_init_2 8 rfl rfl)
theorem dX4_init_57 : decode cX4_init 57 = .ok (.putfield 30, 3) := dk_181 0 30 (dk_at dksX4_init_2 10 rfl rfl)
theorem dX4_init_60 : decode cX4_init 60 = .ok (.return_, 1) := dk_177 (dk_at dksX4_init_2 13 rfl rfl)
abbrev cX4_begin : ByteArray := prog_22_method_3_code
def yX4_begin : MethodName := ⟨RX4, "begin", "(LBorrowedLives$Town;)V"⟩
def dkwX4_begin_5 : List UInt8 := [181, 0, 45, 42, 3, 181, 0, 48, 42, 182, 0, 75, 177]
abbrev dktX4_begin_5 : List UInt8 := dkwX4_begin_5 ++ []
def dkwX4_begin_4 : List UInt8 := [28, 182, 0, 63, 192, 0, 67, 180, 0, 73, 167, 0, 4, 3, 79, 132, 2, 1, 167, 255, 146, 42, 3]
abbrev dktX4_begin_4 : List UInt8 := dkwX4_begin_4 ++ dktX4_begin_5
def dkwX4_begin_3 : List UInt8 := [192, 0, 67, 180, 0, 71, 167, 0, 4, 3, 79, 42, 180, 0, 18, 28, 29, 153, 0, 20, 43, 180, 0, 51]
abbrev dktX4_begin_3 : List UInt8 := dkwX4_begin_3 ++ dktX4_begin_4
def dkwX4_begin_2 : List UInt8 := [167, 0, 4, 3, 79, 42, 180, 0, 15, 28, 29, 153, 0, 20, 43, 180, 0, 51, 28, 182, 0, 63]
abbrev dktX4_begin_2 : List UInt8 := dkwX4_begin_2 ++ dktX4_begin_3
def dkwX4_begin_1 : List UInt8 := [62, 42, 180, 0, 9, 28, 29, 153, 0, 20, 43, 180, 0, 51, 28, 182, 0, 63, 192, 0, 67, 180, 0, 69]
abbrev dktX4_begin_1 : List UInt8 := dkwX4_begin_1 ++ dktX4_begin_2
def dkwX4_begin_0 : List UInt8 := [3, 61, 28, 16, 6, 162, 0, 110, 28, 43, 180, 0, 51, 182, 0, 57, 162, 0, 7, 4, 167, 0, 4, 3]
abbrev dktX4_begin_0 : List UInt8 := dkwX4_begin_0 ++ dktX4_begin_1
theorem dksX4_begin_0 : cX4_begin.data.toList.drop 0 = dktX4_begin_0 := by decide +kernel
theorem dksX4_begin_1 : cX4_begin.data.toList.drop 24 = dktX4_begin_1 := dk_seg dksX4_begin_0 24 rfl rfl
theorem dksX4_begin_2 : cX4_begin.data.toList.drop 48 = dktX4_begin_2 := dk_seg dksX4_begin_1 24 rfl rfl
theorem dksX4_begin_3 : cX4_begin.data.toList.drop 70 = dktX4_begin_3 := dk_seg dksX4_begin_2 22 rfl rfl
theorem dksX4_begin_4 : cX4_begin.data.toList.drop 94 = dktX4_begin_4 := dk_seg dksX4_begin_3 24 rfl rfl
theorem dksX4_begin_5 : cX4_begin.data.toList.drop 117 = dktX4_begin_5 := dk_seg dksX4_begin_4 23 rfl rfl
theorem dX4_begin_0 : decode cX4_begin 0 = .ok (.iconst 0, 1) := dk_3 (dk_at dksX4_begin_0 0 rfl rfl)
theorem dX4_begin_1 : decode cX4_begin 1 = .ok (.istore_n 2, 1) := dk_61 (dk_at dksX4_begin_0 1 rfl rfl)
theorem dX4_begin_2 : decode cX4_begin 2 = .ok (.iload_n 2, 1) := dk_28 (dk_at dksX4_begin_0 2 rfl rfl)
theorem dX4_begin_3 : decode cX4_begin 3 = .ok (.bipush 6, 2) := dk_16 6 (dk_at dksX4_begin_0 3 rfl rfl)
theorem dX4_begin_5 : decode cX4_begin 5 = .ok (.if_icmp .ge 110, 3) := dk_162 0 110 (dk_at dksX4_begin_0 5 rfl rfl)
theorem dX4_begin_8 : decode cX4_begin 8 = .ok (.iload_n 2, 1) := dk_28 (dk_at dksX4_begin_0 8 rfl rfl)
theorem dX4_begin_9 : decode cX4_begin 9 = .ok (.aload_n 1, 1) := dk_43 (dk_at dksX4_begin_0 9 rfl rfl)
theorem dX4_begin_10 : decode cX4_begin 10 = .ok (.getfield 51, 3) := dk_180 0 51 (dk_at dksX4_begin_0 10 rfl rfl)
theorem dX4_begin_13 : decode cX4_begin 13 = .ok (.invokevirtual 57, 3) := dk_182 0 57 (dk_at dksX4_begin_0 13 rfl rfl)
theorem dX4_begin_16 : decode cX4_begin 16 = .ok (.if_icmp .ge 7, 3) := dk_162 0 7 (dk_at dksX4_begin_0 16 rfl rfl)
theorem dX4_begin_19 : decode cX4_begin 19 = .ok (.iconst 1, 1) := dk_4 (dk_at dksX4_begin_0 19 rfl rfl)
theorem dX4_begin_20 : decode cX4_begin 20 = .ok (.goto 4, 3) := dk_167 0 4 (dk_at dksX4_begin_0 20 rfl rfl)
theorem dX4_begin_23 : decode cX4_begin 23 = .ok (.iconst 0, 1) := dk_3 (dk_at dksX4_begin_0 23 rfl rfl)
theorem dX4_begin_24 : decode cX4_begin 24 = .ok (.istore_n 3, 1) := dk_62 (dk_at dksX4_begin_1 0 rfl rfl)
theorem dX4_begin_25 : decode cX4_begin 25 = .ok (.aload_n 0, 1) := dk_42 (dk_at dksX4_begin_1 1 rfl rfl)
theorem dX4_begin_26 : decode cX4_begin 26 = .ok (.getfield 9, 3) := dk_180 0 9 (dk_at dksX4_begin_1 2 rfl rfl)
theorem dX4_begin_29 : decode cX4_begin 29 = .ok (.iload_n 2, 1) := dk_28 (dk_at dksX4_begin_1 5 rfl rfl)
theorem dX4_begin_30 : decode cX4_begin 30 = .ok (.iload_n 3, 1) := dk_29 (dk_at dksX4_begin_1 6 rfl rfl)
theorem dX4_begin_31 : decode cX4_begin 31 = .ok (.ifCond .eq 20, 3) := dk_153 0 20 (dk_at dksX4_begin_1 7 rfl rfl)
theorem dX4_begin_34 : decode cX4_begin 34 = .ok (.aload_n 1, 1) := dk_43 (dk_at dksX4_begin_1 10 rfl rfl)
theorem dX4_begin_35 : decode cX4_begin 35 = .ok (.getfield 51, 3) := dk_180 0 51 (dk_at dksX4_begin_1 11 rfl rfl)
theorem dX4_begin_38 : decode cX4_begin 38 = .ok (.iload_n 2, 1) := dk_28 (dk_at dksX4_begin_1 14 rfl rfl)
theorem dX4_begin_39 : decode cX4_begin 39 = .ok (.invokevirtual 63, 3) := dk_182 0 63 (dk_at dksX4_begin_1 15 rfl rfl)
theorem dX4_begin_42 : decode cX4_begin 42 = .ok (.checkcast 67, 3) := dk_192 0 67 (dk_at dksX4_begin_1 18 rfl rfl)
theorem dX4_begin_45 : decode cX4_begin 45 = .ok (.getfield 69, 3) := dk_180 0 69 (dk_at dksX4_begin_1 21 rfl rfl)
theorem dX4_begin_48 : decode cX4_begin 48 = .ok (.goto 4, 3) := dk_167 0 4 (dk_at dksX4_begin_2 0 rfl rfl)
theorem dX4_begin_51 : decode cX4_begin 51 = .ok (.iconst 0, 1) := dk_3 (dk_at dksX4_begin_2 3 rfl rfl)
theorem dX4_begin_52 : decode cX4_begin 52 = .ok (.iastore, 1) := dk_79 (dk_at dksX4_begin_2 4 rfl rfl)
theorem dX4_begin_53 : decode cX4_begin 53 = .ok (.aload_n 0, 1) := dk_42 (dk_at dksX4_begin_2 5 rfl rfl)
theorem dX4_begin_54 : decode cX4_begin 54 = .ok (.getfield 15, 3) := dk_180 0 15 (dk_at dksX4_begin_2 6 rfl rfl)
theorem dX4_begin_57 : decode cX4_begin 57 = .ok (.iload_n 2, 1) := dk_28 (dk_at dksX4_begin_2 9 rfl rfl)
theorem dX4_begin_58 : decode cX4_begin 58 = .ok (.iload_n 3, 1) := dk_29 (dk_at dksX4_begin_2 10 rfl rfl)
theorem dX4_begin_59 : decode cX4_begin 59 = .ok (.ifCond .eq 20, 3) := dk_153 0 20 (dk_at dksX4_begin_2 11 rfl rfl)
theorem dX4_begin_62 : decode cX4_begin 62 = .ok (.aload_n 1, 1) := dk_43 (dk_at dksX4_begin_2 14 rfl rfl)
theorem dX4_begin_63 : decode cX4_begin 63 = .ok (.getfield 51, 3) := dk_180 0 51 (dk_at dksX4_begin_2 15 rfl rfl)
theorem dX4_begin_66 : decode cX4_begin 66 = .ok (.iload_n 2, 1) := dk_28 (dk_at dksX4_begin_2 18 rfl rfl)
theorem dX4_begin_67 : decode cX4_begin 67 = .ok (.invokevirtual 63, 3) := dk_182 0 63 (dk_at dksX4_begin_2 19 rfl rfl)
theorem dX4_begin_70 : decode cX4_begin 70 = .ok (.checkcast 67, 3) := dk_192 0 67 (dk_at dksX4_begin_3 0 rfl rfl)
theorem dX4_begin_73 : decode cX4_begin 73 = .ok (.getfield 71, 3) := dk_180 0 71 (dk_at dksX4_begin_3 3 rfl rfl)
theorem dX4_begin_76 : decode cX4_begin 76 = .ok (.goto 4, 3) := dk_167 0 4 (dk_at dksX4_begin_3 6 rfl rfl)
theorem dX4_begin_79 : decode cX4_begin 79 = .ok (.iconst 0, 1) := dk_3 (dk_at dksX4_begin_3 9 rfl rfl)
theorem dX4_begin_80 : decode cX4_begin 80 = .ok (.iastore, 1) := dk_79 (dk_at dksX4_begin_3 10 rfl rfl)
theorem dX4_begin_81 : decode cX4_begin 81 = .ok (.aload_n 0, 1) := dk_42 (dk_at dksX4_begin_3 11 rfl rfl)
theorem dX4_begin_82 : decode cX4_begin 82 = .ok (.getfield 18, 3) := dk_180 0 18 (dk_at dksX4_begin_3 12 rfl rfl)
theorem dX4_begin_85 : decode cX4_begin 85 = .ok (.iload_n 2, 1) := dk_28 (dk_at dksX4_begin_3 15 rfl rfl)
theorem dX4_begin_86 : decode cX4_begin 86 = .ok (.iload_n 3, 1) := dk_29 (dk_at dksX4_begin_3 16 rfl rfl)
theorem dX4_begin_87 : decode cX4_begin 87 = .ok (.ifCond .eq 20, 3) := dk_153 0 20 (dk_at dksX4_begin_3 17 rfl rfl)
theorem dX4_begin_90 : decode cX4_begin 90 = .ok (.aload_n 1, 1) := dk_43 (dk_at dksX4_begin_3 20 rfl rfl)
theorem dX4_begin_91 : decode cX4_begin 91 = .ok (.getfield 51, 3) := dk_180 0 51 (dk_at dksX4_begin_3 21 rfl rfl)
theorem dX4_begin_94 : decode cX4_begin 94 = .ok (.iload_n 2, 1) := dk_28 (dk_at dksX4_begin_4 0 rfl rfl)
theorem dX4_begin_95 : decode cX4_begin 95 = .ok (.invokevirtual 63, 3) := dk_182 0 63 (dk_at dksX4_begin_4 1 rfl rfl)
theorem dX4_begin_98 : decode cX4_begin 98 = .ok (.checkcast 67, 3) := dk_192 0 67 (dk_at dksX4_begin_4 4 rfl rfl)
theorem dX4_begin_101 : decode cX4_begin 101 = .ok (.getfield 73, 3) := dk_180 0 73 (dk_at dksX4_begin_4 7 rfl rfl)
theorem dX4_begin_104 : decode cX4_begin 104 = .ok (.goto 4, 3) := dk_167 0 4 (dk_at dksX4_begin_4 10 rfl rfl)
theorem dX4_begin_107 : decode cX4_begin 107 = .ok (.iconst 0, 1) := dk_3 (dk_at dksX4_begin_4 13 rfl rfl)
theorem dX4_begin_108 : decode cX4_begin 108 = .ok (.iastore, 1) := dk_79 (dk_at dksX4_begin_4 14 rfl rfl)
theorem dX4_begin_109 : decode cX4_begin 109 = .ok (.iinc 2 1, 3) := dk_132 2 1 (dk_at dksX4_begin_4 15 rfl rfl)
theorem dX4_begin_112 : decode cX4_begin 112 = .ok (.goto (-110), 3) := dk_167 255 146 (dk_at dksX4_begin_4 18 rfl rfl)
theorem dX4_begin_115 : decode cX4_begin 115 = .ok (.aload_n 0, 1) := dk_42 (dk_at dksX4_begin_4 21 rfl rfl)
theorem dX4_begin_116 : decode cX4_begin 116 = .ok (.iconst 0, 1) := dk_3 (dk_at dksX4_begin_4 22 rfl rfl)
theorem dX4_begin_117 : decode cX4_begin 117 = .ok (.putfield 45, 3) := dk_181 0 45 (dk_at dksX4_begin_5 0 rfl rfl)
theorem dX4_begin_120 : decode cX4_begin 120 = .ok (.aload_n 0, 1) := dk_42 (dk_at dksX4_begin_5 3 rfl rfl)
theorem dX4_begin_121 : decode cX4_begin 121 = .ok (.iconst 0, 1) := dk_3 (dk_at dksX4_begin_5 4 rfl rfl)
theorem dX4_begin_122 : decode cX4_begin 122 = .ok (.putfield 48, 3) := dk_181 0 48 (dk_at dksX4_begin_5 5 rfl rfl)
theorem dX4_begin_125 : decode cX4_begin 125 = .ok (.aload_n 0, 1) := dk_42 (dk_at dksX4_begin_5 8 rfl rfl)
theorem dX4_begin_126 : decode cX4_begin 126 = .ok (.invokevirtual 75, 3) := dk_182 0 75 (dk_at dksX4_begin_5 9 rfl rfl)
theorem dX4_begin_129 : decode cX4_begin 129 = .ok (.return_, 1) := dk_177 (dk_at dksX4_begin_5 12 rfl rfl)
abbrev cX4_allAreHome : ByteArray := prog_22_method_4_code
def yX4_allAreHome : MethodName := ⟨RX4, "allAreHome", "()V"⟩
def dkwX4_allAreHome_1 : List UInt8 := [132, 1, 1, 167, 255, 233, 42, 3, 181, 0, 37, 42, 3, 181, 0, 41, 177]
abbrev dktX4_allAreHome_1 : List UInt8 := dkwX4_allAreHome_1 ++ []
def dkwX4_allAreHome_0 : List UInt8 := [3, 60, 27, 16, 6, 162, 0, 23, 42, 180, 0, 30, 27, 27, 79, 42, 180, 0, 21, 27, 3, 79]
abbrev dktX4_allAreHome_0 : List UInt8 := dkwX4_allAreHome_0 ++ dktX4_allAreHome_1
theorem dksX4_allAreHome_0 : cX4_allAreHome.data.toList.drop 0 = dktX4_allAreHome_0 := by decide +kernel
theorem dksX4_allAreHome_1 : cX4_allAreHome.data.toList.drop 22 = dktX4_allAreHome_1 := dk_seg dksX4_allAreHome_0 22 rfl rfl
theorem dX4_allAreHome_0 : decode cX4_allAreHome 0 = .ok (.iconst 0, 1) := dk_3 (dk_at dksX4_allAreHome_0 0 rfl rfl)
theorem dX4_allAreHome_1 : decode cX4_allAreHome 1 = .ok (.istore_n 1, 1) := dk_60 (dk_at dksX4_allAreHome_0 1 rfl rfl)
theorem dX4_allAreHome_2 : decode cX4_allAreHome 2 = .ok (.iload_n 1, 1) := dk_27 (dk_at dksX4_allAreHome_0 2 rfl rfl)
theorem dX4_allAreHome_3 : decode cX4_allAreHome 3 = .ok (.bipush 6, 2) := dk_16 6 (dk_at dksX4_allAreHome_0 3 rfl rfl)
theorem dX4_allAreHome_5 : decode cX4_allAreHome 5 = .ok (.if_icmp .ge 23, 3) := dk_162 0 23 (dk_at dksX4_allAreHome_0 5 rfl rfl)
theorem dX4_allAreHome_8 : decode cX4_allAreHome 8 = .ok (.aload_n 0, 1) := dk_42 (dk_at dksX4_allAreHome_0 8 rfl rfl)
theorem dX4_allAreHome_9 : decode cX4_allAreHome 9 = .ok (.getfield 30, 3) := dk_180 0 30 (dk_at dksX4_allAreHome_0 9 rfl rfl)
theorem dX4_allAreHome_12 : decode cX4_allAreHome 12 = .ok (.iload_n 1, 1) := dk_27 (dk_at dksX4_allAreHome_0 12 rfl rfl)
theorem dX4_allAreHome_13 : decode cX4_allAreHome 13 = .ok (.iload_n 1, 1) := dk_27 (dk_at dksX4_allAreHome_0 13 rfl rfl)
theorem dX4_allAreHome_14 : decode cX4_allAreHome 14 = .ok (.iastore, 1) := dk_79 (dk_at dksX4_allAreHome_0 14 rfl rfl)
theorem dX4_allAreHome_15 : decode cX4_allAreHome 15 = .ok (.aload_n 0, 1) := dk_42 (dk_at dksX4_allAreHome_0 15 rfl rfl)
theorem dX4_allAreHome_16 : decode cX4_allAreHome 16 = .ok (.getfield 21, 3) := dk_180 0 21 (dk_at dksX4_allAreHome_0 16 rfl rfl)
theorem dX4_allAreHome_19 : decode cX4_allAreHome 19 = .ok (.iload_n 1, 1) := dk_27 (dk_at dksX4_allAreHome_0 19 rfl rfl)
theorem dX4_allAreHome_20 : decode cX4_allAreHome 20 = .ok (.iconst 0, 1) := dk_3 (dk_at dksX4_allAreHome_0 20 rfl rfl)
theorem dX4_allAreHome_21 : decode cX4_allAreHome 21 = .ok (.iastore, 1) := dk_79 (dk_at dksX4_allAreHome_0 21 rfl rfl)
theorem dX4_allAreHome_22 : decode cX4_allAreHome 22 = .ok (.iinc 1 1, 3) := dk_132 1 1 (dk_at dksX4_allAreHome_1 0 rfl rfl)
theorem dX4_allAreHome_25 : decode cX4_allAreHome 25 = .ok (.goto (-23), 3) := dk_167 255 233 (dk_at dksX4_allAreHome_1 3 rfl rfl)
theorem dX4_allAreHome_28 : decode cX4_allAreHome 28 = .ok (.aload_n 0, 1) := dk_42 (dk_at dksX4_allAreHome_1 6 rfl rfl)
theorem dX4_allAreHome_29 : decode cX4_allAreHome 29 = .ok (.iconst 0, 1) := dk_3 (dk_at dksX4_allAreHome_1 7 rfl rfl)
theorem dX4_allAreHome_30 : decode cX4_allAreHome 30 = .ok (.putfield 37, 3) := dk_181 0 37 (dk_at dksX4_allAreHome_1 8 rfl rfl)
theorem dX4_allAreHome_33 : decode cX4_allAreHome 33 = .ok (.aload_n 0, 1) := dk_42 (dk_at dksX4_allAreHome_1 11 rfl rfl)
theorem dX4_allAreHome_34 : decode cX4_allAreHome 34 = .ok (.iconst 0, 1) := dk_3 (dk_at dksX4_allAreHome_1 12 rfl rfl)
theorem dX4_allAreHome_35 : decode cX4_allAreHome 35 = .ok (.putfield 41, 3) := dk_181 0 41 (dk_at dksX4_allAreHome_1 13 rfl rfl)
theorem dX4_allAreHome_38 : decode cX4_allAreHome 38 = .ok (.return_, 1) := dk_177 (dk_at dksX4_allAreHome_1 16 rfl rfl)
abbrev cX4_lifeOf : ByteArray := prog_22_method_8_code
def yX4_lifeOf : MethodName := ⟨RX4, "lifeOf", "(I)I"⟩
def dkwX4_lifeOf_1 : List UInt8 := [167, 255, 235, 2, 172]
abbrev dktX4_lifeOf_1 : List UInt8 := dkwX4_lifeOf_1 ++ []
def dkwX4_lifeOf_0 : List UInt8 := [3, 61, 28, 16, 6, 162, 0, 21, 42, 180, 0, 30, 28, 46, 27, 160, 0, 5, 28, 172, 132, 2, 1]
abbrev dktX4_lifeOf_0 : List UInt8 := dkwX4_lifeOf_0 ++ dktX4_lifeOf_1
theorem dksX4_lifeOf_0 : cX4_lifeOf.data.toList.drop 0 = dktX4_lifeOf_0 := by decide +kernel
theorem dksX4_lifeOf_1 : cX4_lifeOf.data.toList.drop 23 = dktX4_lifeOf_1 := dk_seg dksX4_lifeOf_0 23 rfl rfl
theorem dX4_lifeOf_0 : decode cX4_lifeOf 0 = .ok (.iconst 0, 1) := dk_3 (dk_at dksX4_lifeOf_0 0 rfl rfl)
theorem dX4_lifeOf_1 : decode cX4_lifeOf 1 = .ok (.istore_n 2, 1) := dk_61 (dk_at dksX4_lifeOf_0 1 rfl rfl)
theorem dX4_lifeOf_2 : decode cX4_lifeOf 2 = .ok (.iload_n 2, 1) := dk_28 (dk_at dksX4_lifeOf_0 2 rfl rfl)
theorem dX4_lifeOf_3 : decode cX4_lifeOf 3 = .ok (.bipush 6, 2) := dk_16 6 (dk_at dksX4_lifeOf_0 3 rfl rfl)
theorem dX4_lifeOf_5 : decode cX4_lifeOf 5 = .ok (.if_icmp .ge 21, 3) := dk_162 0 21 (dk_at dksX4_lifeOf_0 5 rfl rfl)
theorem dX4_lifeOf_8 : decode cX4_lifeOf 8 = .ok (.aload_n 0, 1) := dk_42 (dk_at dksX4_lifeOf_0 8 rfl rfl)
theorem dX4_lifeOf_9 : decode cX4_lifeOf 9 = .ok (.getfield 30, 3) := dk_180 0 30 (dk_at dksX4_lifeOf_0 9 rfl rfl)
theorem dX4_lifeOf_12 : decode cX4_lifeOf 12 = .ok (.iload_n 2, 1) := dk_28 (dk_at dksX4_lifeOf_0 12 rfl rfl)
theorem dX4_lifeOf_13 : decode cX4_lifeOf 13 = .ok (.iaload, 1) := dk_46 (dk_at dksX4_lifeOf_0 13 rfl rfl)
theorem dX4_lifeOf_14 : decode cX4_lifeOf 14 = .ok (.iload_n 1, 1) := dk_27 (dk_at dksX4_lifeOf_0 14 rfl rfl)
theorem dX4_lifeOf_15 : decode cX4_lifeOf 15 = .ok (.if_icmp .ne 5, 3) := dk_160 0 5 (dk_at dksX4_lifeOf_0 15 rfl rfl)
theorem dX4_lifeOf_18 : decode cX4_lifeOf 18 = .ok (.iload_n 2, 1) := dk_28 (dk_at dksX4_lifeOf_0 18 rfl rfl)
theorem dX4_lifeOf_19 : decode cX4_lifeOf 19 = .ok (.ireturn, 1) := dk_172 (dk_at dksX4_lifeOf_0 19 rfl rfl)
theorem dX4_lifeOf_20 : decode cX4_lifeOf 20 = .ok (.iinc 2 1, 3) := dk_132 2 1 (dk_at dksX4_lifeOf_0 20 rfl rfl)
theorem dX4_lifeOf_23 : decode cX4_lifeOf 23 = .ok (.goto (-21), 3) := dk_167 255 235 (dk_at dksX4_lifeOf_1 0 rfl rfl)
theorem dX4_lifeOf_26 : decode cX4_lifeOf 26 = .ok (.iconst (-1), 1) := dk_2 (dk_at dksX4_lifeOf_1 3 rfl rfl)
theorem dX4_lifeOf_27 : decode cX4_lifeOf 27 = .ok (.ireturn, 1) := dk_172 (dk_at dksX4_lifeOf_1 4 rfl rfl)
abbrev cX4_harmOf : ByteArray := prog_22_method_6_code
def yX4_harmOf : MethodName := ⟨RX4, "harmOf", "(I)I"⟩
def dkwX4_harmOf_2 : List UInt8 := [184, 0, 78, 104, 96, 167, 0, 4, 3, 172]
abbrev dktX4_harmOf_2 : List UInt8 := dkwX4_harmOf_2 ++ []
def dkwX4_harmOf_1 : List UInt8 := [180, 0, 15, 27, 46, 96, 184, 0, 78, 8, 3, 42, 180, 0, 27, 27, 46, 42, 180, 0, 18, 27, 46, 100]
abbrev dktX4_harmOf_1 : List UInt8 := dkwX4_harmOf_1 ++ dktX4_harmOf_2
def dkwX4_harmOf_0 : List UInt8 := [42, 180, 0, 37, 153, 0, 50, 3, 42, 180, 0, 24, 27, 46, 42, 180, 0, 9, 27, 46, 100, 42]
abbrev dktX4_harmOf_0 : List UInt8 := dkwX4_harmOf_0 ++ dktX4_harmOf_1
theorem dksX4_harmOf_0 : cX4_harmOf.data.toList.drop 0 = dktX4_harmOf_0 := by decide +kernel
theorem dksX4_harmOf_1 : cX4_harmOf.data.toList.drop 22 = dktX4_harmOf_1 := dk_seg dksX4_harmOf_0 22 rfl rfl
theorem dksX4_harmOf_2 : cX4_harmOf.data.toList.drop 46 = dktX4_harmOf_2 := dk_seg dksX4_harmOf_1 24 rfl rfl
theorem dX4_harmOf_0 : decode cX4_harmOf 0 = .ok (.aload_n 0, 1) := dk_42 (dk_at dksX4_harmOf_0 0 rfl rfl)
theorem dX4_harmOf_1 : decode cX4_harmOf 1 = .ok (.getfield 37, 3) := dk_180 0 37 (dk_at dksX4_harmOf_0 1 rfl rfl)
theorem dX4_harmOf_4 : decode cX4_harmOf 4 = .ok (.ifCond .eq 50, 3) := dk_153 0 50 (dk_at dksX4_harmOf_0 4 rfl rfl)
theorem dX4_harmOf_7 : decode cX4_harmOf 7 = .ok (.iconst 0, 1) := dk_3 (dk_at dksX4_harmOf_0 7 rfl rfl)
theorem dX4_harmOf_8 : decode cX4_harmOf 8 = .ok (.aload_n 0, 1) := dk_42 (dk_at dksX4_harmOf_0 8 rfl rfl)
theorem dX4_harmOf_9 : decode cX4_harmOf 9 = .ok (.getfield 24, 3) := dk_180 0 24 (dk_at dksX4_harmOf_0 9 rfl rfl)
theorem dX4_harmOf_12 : decode cX4_harmOf 12 = .ok (.iload_n 1, 1) := dk_27 (dk_at dksX4_harmOf_0 12 rfl rfl)
theorem dX4_harmOf_13 : decode cX4_harmOf 13 = .ok (.iaload, 1) := dk_46 (dk_at dksX4_harmOf_0 13 rfl rfl)
theorem dX4_harmOf_14 : decode cX4_harmOf 14 = .ok (.aload_n 0, 1) := dk_42 (dk_at dksX4_harmOf_0 14 rfl rfl)
theorem dX4_harmOf_15 : decode cX4_harmOf 15 = .ok (.getfield 9, 3) := dk_180 0 9 (dk_at dksX4_harmOf_0 15 rfl rfl)
theorem dX4_harmOf_18 : decode cX4_harmOf 18 = .ok (.iload_n 1, 1) := dk_27 (dk_at dksX4_harmOf_0 18 rfl rfl)
theorem dX4_harmOf_19 : decode cX4_harmOf 19 = .ok (.iaload, 1) := dk_46 (dk_at dksX4_harmOf_0 19 rfl rfl)
theorem dX4_harmOf_20 : decode cX4_harmOf 20 = .ok (.isub, 1) := dk_100 (dk_at dksX4_harmOf_0 20 rfl rfl)
theorem dX4_harmOf_21 : decode cX4_harmOf 21 = .ok (.aload_n 0, 1) := dk_42 (dk_at dksX4_harmOf_0 21 rfl rfl)
theorem dX4_harmOf_22 : decode cX4_harmOf 22 = .ok (.getfield 15, 3) := dk_180 0 15 (dk_at dksX4_harmOf_1 0 rfl rfl)
theorem dX4_harmOf_25 : decode cX4_harmOf 25 = .ok (.iload_n 1, 1) := dk_27 (dk_at dksX4_harmOf_1 3 rfl rfl)
theorem dX4_harmOf_26 : decode cX4_harmOf 26 = .ok (.iaload, 1) := dk_46 (dk_at dksX4_harmOf_1 4 rfl rfl)
theorem dX4_harmOf_27 : decode cX4_harmOf 27 = .ok (.iadd, 1) := dk_96 (dk_at dksX4_harmOf_1 5 rfl rfl)
theorem dX4_harmOf_28 : decode cX4_harmOf 28 = .ok (.invokestatic 78, 3) := dk_184 0 78 (dk_at dksX4_harmOf_1 6 rfl rfl)
theorem dX4_harmOf_31 : decode cX4_harmOf 31 = .ok (.iconst 5, 1) := dk_8 (dk_at dksX4_harmOf_1 9 rfl rfl)
theorem dX4_harmOf_32 : decode cX4_harmOf 32 = .ok (.iconst 0, 1) := dk_3 (dk_at dksX4_harmOf_1 10 rfl rfl)
theorem dX4_harmOf_33 : decode cX4_harmOf 33 = .ok (.aload_n 0, 1) := dk_42 (dk_at dksX4_harmOf_1 11 rfl rfl)
theorem dX4_harmOf_34 : decode cX4_harmOf 34 = .ok (.getfield 27, 3) := dk_180 0 27 (dk_at dksX4_harmOf_1 12 rfl rfl)
theorem dX4_harmOf_37 : decode cX4_harmOf 37 = .ok (.iload_n 1, 1) := dk_27 (dk_at dksX4_harmOf_1 15 rfl rfl)
theorem dX4_harmOf_38 : decode cX4_harmOf 38 = .ok (.iaload, 1) := dk_46 (dk_at dksX4_harmOf_1 16 rfl rfl)
theorem dX4_harmOf_39 : decode cX4_harmOf 39 = .ok (.aload_n 0, 1) := dk_42 (dk_at dksX4_harmOf_1 17 rfl rfl)
theorem dX4_harmOf_40 : decode cX4_harmOf 40 = .ok (.getfield 18, 3) := dk_180 0 18 (dk_at dksX4_harmOf_1 18 rfl rfl)
theorem dX4_harmOf_43 : decode cX4_harmOf 43 = .ok (.iload_n 1, 1) := dk_27 (dk_at dksX4_harmOf_1 21 rfl rfl)
theorem dX4_harmOf_44 : decode cX4_harmOf 44 = .ok (.iaload, 1) := dk_46 (dk_at dksX4_harmOf_1 22 rfl rfl)
theorem dX4_harmOf_45 : decode cX4_harmOf 45 = .ok (.isub, 1) := dk_100 (dk_at dksX4_harmOf_1 23 rfl rfl)
theorem dX4_harmOf_46 : decode cX4_harmOf 46 = .ok (.invokestatic 78, 3) := dk_184 0 78 (dk_at dksX4_harmOf_2 0 rfl rfl)
theorem dX4_harmOf_49 : decode cX4_harmOf 49 = .ok (.imul, 1) := dk_104 (dk_at dksX4_harmOf_2 3 rfl rfl)
theorem dX4_harmOf_50 : decode cX4_harmOf 50 = .ok (.iadd, 1) := dk_96 (dk_at dksX4_harmOf_2 4 rfl rfl)
theorem dX4_harmOf_51 : decode cX4_harmOf 51 = .ok (.goto 4, 3) := dk_167 0 4 (dk_at dksX4_harmOf_2 5 rfl rfl)
theorem dX4_harmOf_54 : decode cX4_harmOf 54 = .ok (.iconst 0, 1) := dk_3 (dk_at dksX4_harmOf_2 8 rfl rfl)
theorem dX4_harmOf_55 : decode cX4_harmOf 55 = .ok (.ireturn, 1) := dk_172 (dk_at dksX4_harmOf_2 9 rfl rfl)
abbrev cX4_goodOf : ByteArray := prog_22_method_7_code
def yX4_goodOf : MethodName := ⟨RX4, "goodOf", "(I)I"⟩
def dkwX4_goodOf_2 : List UInt8 := [184, 0, 78, 104, 96, 167, 0, 4, 3, 172]
abbrev dktX4_goodOf_2 : List UInt8 := dkwX4_goodOf_2 ++ []
def dkwX4_goodOf_1 : List UInt8 := [180, 0, 24, 27, 46, 100, 184, 0, 78, 8, 3, 42, 180, 0, 18, 27, 46, 42, 180, 0, 27, 27, 46, 100]
abbrev dktX4_goodOf_1 : List UInt8 := dkwX4_goodOf_1 ++ dktX4_goodOf_2
def dkwX4_goodOf_0 : List UInt8 := [42, 180, 0, 37, 153, 0, 50, 3, 42, 180, 0, 9, 27, 46, 42, 180, 0, 15, 27, 46, 100, 42]
abbrev dktX4_goodOf_0 : List UInt8 := dkwX4_goodOf_0 ++ dktX4_goodOf_1
theorem dksX4_goodOf_0 : cX4_goodOf.data.toList.drop 0 = dktX4_goodOf_0 := by decide +kernel
theorem dksX4_goodOf_1 : cX4_goodOf.data.toList.drop 22 = dktX4_goodOf_1 := dk_seg dksX4_goodOf_0 22 rfl rfl
theorem dksX4_goodOf_2 : cX4_goodOf.data.toList.drop 46 = dktX4_goodOf_2 := dk_seg dksX4_goodOf_1 24 rfl rfl
theorem dX4_goodOf_0 : decode cX4_goodOf 0 = .ok (.aload_n 0, 1) := dk_42 (dk_at dksX4_goodOf_0 0 rfl rfl)
theorem dX4_goodOf_1 : decode cX4_goodOf 1 = .ok (.getfield 37, 3) := dk_180 0 37 (dk_at dksX4_goodOf_0 1 rfl rfl)
theorem dX4_goodOf_4 : decode cX4_goodOf 4 = .ok (.ifCond .eq 50, 3) := dk_153 0 50 (dk_at dksX4_goodOf_0 4 rfl rfl)
theorem dX4_goodOf_7 : decode cX4_goodOf 7 = .ok (.iconst 0, 1) := dk_3 (dk_at dksX4_goodOf_0 7 rfl rfl)
theorem dX4_goodOf_8 : decode cX4_goodOf 8 = .ok (.aload_n 0, 1) := dk_42 (dk_at dksX4_goodOf_0 8 rfl rfl)
theorem dX4_goodOf_9 : decode cX4_goodOf 9 = .ok (.getfield 9, 3) := dk_180 0 9 (dk_at dksX4_goodOf_0 9 rfl rfl)
theorem dX4_goodOf_12 : decode cX4_goodOf 12 = .ok (.iload_n 1, 1) := dk_27 (dk_at dksX4_goodOf_0 12 rfl rfl)
theorem dX4_goodOf_13 : decode cX4_goodOf 13 = .ok (.iaload, 1) := dk_46 (dk_at dksX4_goodOf_0 13 rfl rfl)
theorem dX4_goodOf_14 : decode cX4_goodOf 14 = .ok (.aload_n 0, 1) := dk_42 (dk_at dksX4_goodOf_0 14 rfl rfl)
theorem dX4_goodOf_15 : decode cX4_goodOf 15 = .ok (.getfield 15, 3) := dk_180 0 15 (dk_at dksX4_goodOf_0 15 rfl rfl)
theorem dX4_goodOf_18 : decode cX4_goodOf 18 = .ok (.iload_n 1, 1) := dk_27 (dk_at dksX4_goodOf_0 18 rfl rfl)
theorem dX4_goodOf_19 : decode cX4_goodOf 19 = .ok (.iaload, 1) := dk_46 (dk_at dksX4_goodOf_0 19 rfl rfl)
theorem dX4_goodOf_20 : decode cX4_goodOf 20 = .ok (.isub, 1) := dk_100 (dk_at dksX4_goodOf_0 20 rfl rfl)
theorem dX4_goodOf_21 : decode cX4_goodOf 21 = .ok (.aload_n 0, 1) := dk_42 (dk_at dksX4_goodOf_0 21 rfl rfl)
theorem dX4_goodOf_22 : decode cX4_goodOf 22 = .ok (.getfield 24, 3) := dk_180 0 24 (dk_at dksX4_goodOf_1 0 rfl rfl)
theorem dX4_goodOf_25 : decode cX4_goodOf 25 = .ok (.iload_n 1, 1) := dk_27 (dk_at dksX4_goodOf_1 3 rfl rfl)
theorem dX4_goodOf_26 : decode cX4_goodOf 26 = .ok (.iaload, 1) := dk_46 (dk_at dksX4_goodOf_1 4 rfl rfl)
theorem dX4_goodOf_27 : decode cX4_goodOf 27 = .ok (.isub, 1) := dk_100 (dk_at dksX4_goodOf_1 5 rfl rfl)
theorem dX4_goodOf_28 : decode cX4_goodOf 28 = .ok (.invokestatic 78, 3) := dk_184 0 78 (dk_at dksX4_goodOf_1 6 rfl rfl)
theorem dX4_goodOf_31 : decode cX4_goodOf 31 = .ok (.iconst 5, 1) := dk_8 (dk_at dksX4_goodOf_1 9 rfl rfl)
theorem dX4_goodOf_32 : decode cX4_goodOf 32 = .ok (.iconst 0, 1) := dk_3 (dk_at dksX4_goodOf_1 10 rfl rfl)
theorem dX4_goodOf_33 : decode cX4_goodOf 33 = .ok (.aload_n 0, 1) := dk_42 (dk_at dksX4_goodOf_1 11 rfl rfl)
theorem dX4_goodOf_34 : decode cX4_goodOf 34 = .ok (.getfield 18, 3) := dk_180 0 18 (dk_at dksX4_goodOf_1 12 rfl rfl)
theorem dX4_goodOf_37 : decode cX4_goodOf 37 = .ok (.iload_n 1, 1) := dk_27 (dk_at dksX4_goodOf_1 15 rfl rfl)
theorem dX4_goodOf_38 : decode cX4_goodOf 38 = .ok (.iaload, 1) := dk_46 (dk_at dksX4_goodOf_1 16 rfl rfl)
theorem dX4_goodOf_39 : decode cX4_goodOf 39 = .ok (.aload_n 0, 1) := dk_42 (dk_at dksX4_goodOf_1 17 rfl rfl)
theorem dX4_goodOf_40 : decode cX4_goodOf 40 = .ok (.getfield 27, 3) := dk_180 0 27 (dk_at dksX4_goodOf_1 18 rfl rfl)
theorem dX4_goodOf_43 : decode cX4_goodOf 43 = .ok (.iload_n 1, 1) := dk_27 (dk_at dksX4_goodOf_1 21 rfl rfl)
theorem dX4_goodOf_44 : decode cX4_goodOf 44 = .ok (.iaload, 1) := dk_46 (dk_at dksX4_goodOf_1 22 rfl rfl)
theorem dX4_goodOf_45 : decode cX4_goodOf 45 = .ok (.isub, 1) := dk_100 (dk_at dksX4_goodOf_1 23 rfl rfl)
theorem dX4_goodOf_46 : decode cX4_goodOf 46 = .ok (.invokestatic 78, 3) := dk_184 0 78 (dk_at dksX4_goodOf_2 0 rfl rfl)
theorem dX4_goodOf_49 : decode cX4_goodOf 49 = .ok (.imul, 1) := dk_104 (dk_at dksX4_goodOf_2 3 rfl rfl)
theorem dX4_goodOf_50 : decode cX4_goodOf 50 = .ok (.iadd, 1) := dk_96 (dk_at dksX4_goodOf_2 4 rfl rfl)
theorem dX4_goodOf_51 : decode cX4_goodOf 51 = .ok (.goto 4, 3) := dk_167 0 4 (dk_at dksX4_goodOf_2 5 rfl rfl)
theorem dX4_goodOf_54 : decode cX4_goodOf 54 = .ok (.iconst 0, 1) := dk_3 (dk_at dksX4_goodOf_2 8 rfl rfl)
theorem dX4_goodOf_55 : decode cX4_goodOf 55 = .ok (.ireturn, 1) := dk_172 (dk_at dksX4_goodOf_2 9 rfl rfl)
abbrev cX4_be : ByteArray := prog_22_method_2_code
def yX4_be : MethodName := ⟨RX4, "be", "(LBorrowedLives$State;)V"⟩
def dkwX4_be_4 : List UInt8 := [181, 0, 41, 42, 43, 180, 0, 45, 181, 0, 45, 42, 43, 180, 0, 48, 181, 0, 48, 177]
abbrev dktX4_be_4 : List UInt8 := dkwX4_be_4 ++ []
def dkwX4_be_3 : List UInt8 := [180, 0, 30, 42, 180, 0, 30, 184, 0, 33, 42, 43, 180, 0, 37, 181, 0, 37, 42, 43, 180, 0, 41]
abbrev dktX4_be_3 : List UInt8 := dkwX4_be_3 ++ dktX4_be_4
def dkwX4_be_2 : List UInt8 := [180, 0, 24, 42, 180, 0, 24, 184, 0, 33, 43, 180, 0, 27, 42, 180, 0, 27, 184, 0, 33, 43]
abbrev dktX4_be_2 : List UInt8 := dkwX4_be_2 ++ dktX4_be_3
def dkwX4_be_1 : List UInt8 := [180, 0, 18, 42, 180, 0, 18, 184, 0, 33, 43, 180, 0, 21, 42, 180, 0, 21, 184, 0, 33, 43]
abbrev dktX4_be_1 : List UInt8 := dkwX4_be_1 ++ dktX4_be_2
def dkwX4_be_0 : List UInt8 := [43, 180, 0, 9, 42, 180, 0, 9, 184, 0, 33, 43, 180, 0, 15, 42, 180, 0, 15, 184, 0, 33, 43]
abbrev dktX4_be_0 : List UInt8 := dkwX4_be_0 ++ dktX4_be_1
theorem dksX4_be_0 : cX4_be.data.toList.drop 0 = dktX4_be_0 := by decide +kernel
theorem dksX4_be_1 : cX4_be.data.toList.drop 23 = dktX4_be_1 := dk_seg dksX4_be_0 23 rfl rfl
theorem dksX4_be_2 : cX4_be.data.toList.drop 45 = dktX4_be_2 := dk_seg dksX4_be_1 22 rfl rfl
theorem dksX4_be_3 : cX4_be.data.toList.drop 67 = dktX4_be_3 := dk_seg dksX4_be_2 22 rfl rfl
theorem dksX4_be_4 : cX4_be.data.toList.drop 90 = dktX4_be_4 := dk_seg dksX4_be_3 23 rfl rfl
theorem dX4_be_0 : decode cX4_be 0 = .ok (.aload_n 1, 1) := dk_43 (dk_at dksX4_be_0 0 rfl rfl)
theorem dX4_be_1 : decode cX4_be 1 = .ok (.getfield 9, 3) := dk_180 0 9 (dk_at dksX4_be_0 1 rfl rfl)
theorem dX4_be_4 : decode cX4_be 4 = .ok (.aload_n 0, 1) := dk_42 (dk_at dksX4_be_0 4 rfl rfl)
theorem dX4_be_5 : decode cX4_be 5 = .ok (.getfield 9, 3) := dk_180 0 9 (dk_at dksX4_be_0 5 rfl rfl)
theorem dX4_be_8 : decode cX4_be 8 = .ok (.invokestatic 33, 3) := dk_184 0 33 (dk_at dksX4_be_0 8 rfl rfl)
theorem dX4_be_11 : decode cX4_be 11 = .ok (.aload_n 1, 1) := dk_43 (dk_at dksX4_be_0 11 rfl rfl)
theorem dX4_be_12 : decode cX4_be 12 = .ok (.getfield 15, 3) := dk_180 0 15 (dk_at dksX4_be_0 12 rfl rfl)
theorem dX4_be_15 : decode cX4_be 15 = .ok (.aload_n 0, 1) := dk_42 (dk_at dksX4_be_0 15 rfl rfl)
theorem dX4_be_16 : decode cX4_be 16 = .ok (.getfield 15, 3) := dk_180 0 15 (dk_at dksX4_be_0 16 rfl rfl)
theorem dX4_be_19 : decode cX4_be 19 = .ok (.invokestatic 33, 3) := dk_184 0 33 (dk_at dksX4_be_0 19 rfl rfl)
theorem dX4_be_22 : decode cX4_be 22 = .ok (.aload_n 1, 1) := dk_43 (dk_at dksX4_be_0 22 rfl rfl)
theorem dX4_be_23 : decode cX4_be 23 = .ok (.getfield 18, 3) := dk_180 0 18 (dk_at dksX4_be_1 0 rfl rfl)
theorem dX4_be_26 : decode cX4_be 26 = .ok (.aload_n 0, 1) := dk_42 (dk_at dksX4_be_1 3 rfl rfl)
theorem dX4_be_27 : decode cX4_be 27 = .ok (.getfield 18, 3) := dk_180 0 18 (dk_at dksX4_be_1 4 rfl rfl)
theorem dX4_be_30 : decode cX4_be 30 = .ok (.invokestatic 33, 3) := dk_184 0 33 (dk_at dksX4_be_1 7 rfl rfl)
theorem dX4_be_33 : decode cX4_be 33 = .ok (.aload_n 1, 1) := dk_43 (dk_at dksX4_be_1 10 rfl rfl)
theorem dX4_be_34 : decode cX4_be 34 = .ok (.getfield 21, 3) := dk_180 0 21 (dk_at dksX4_be_1 11 rfl rfl)
theorem dX4_be_37 : decode cX4_be 37 = .ok (.aload_n 0, 1) := dk_42 (dk_at dksX4_be_1 14 rfl rfl)
theorem dX4_be_38 : decode cX4_be 38 = .ok (.getfield 21, 3) := dk_180 0 21 (dk_at dksX4_be_1 15 rfl rfl)
theorem dX4_be_41 : decode cX4_be 41 = .ok (.invokestatic 33, 3) := dk_184 0 33 (dk_at dksX4_be_1 18 rfl rfl)
theorem dX4_be_44 : decode cX4_be 44 = .ok (.aload_n 1, 1) := dk_43 (dk_at dksX4_be_1 21 rfl rfl)
theorem dX4_be_45 : decode cX4_be 45 = .ok (.getfield 24, 3) := dk_180 0 24 (dk_at dksX4_be_2 0 rfl rfl)
theorem dX4_be_48 : decode cX4_be 48 = .ok (.aload_n 0, 1) := dk_42 (dk_at dksX4_be_2 3 rfl rfl)
theorem dX4_be_49 : decode cX4_be 49 = .ok (.getfield 24, 3) := dk_180 0 24 (dk_at dksX4_be_2 4 rfl rfl)
theorem dX4_be_52 : decode cX4_be 52 = .ok (.invokestatic 33, 3) := dk_184 0 33 (dk_at dksX4_be_2 7 rfl rfl)
theorem dX4_be_55 : decode cX4_be 55 = .ok (.aload_n 1, 1) := dk_43 (dk_at dksX4_be_2 10 rfl rfl)
theorem dX4_be_56 : decode cX4_be 56 = .ok (.getfield 27, 3) := dk_180 0 27 (dk_at dksX4_be_2 11 rfl rfl)
theorem dX4_be_59 : decode cX4_be 59 = .ok (.aload_n 0, 1) := dk_42 (dk_at dksX4_be_2 14 rfl rfl)
theorem dX4_be_60 : decode cX4_be 60 = .ok (.getfield 27, 3) := dk_180 0 27 (dk_at dksX4_be_2 15 rfl rfl)
theorem dX4_be_63 : decode cX4_be 63 = .ok (.invokestatic 33, 3) := dk_184 0 33 (dk_at dksX4_be_2 18 rfl rfl)
theorem dX4_be_66 : decode cX4_be 66 = .ok (.aload_n 1, 1) := dk_43 (dk_at dksX4_be_2 21 rfl rfl)
theorem dX4_be_67 : decode cX4_be 67 = .ok (.getfield 30, 3) := dk_180 0 30 (dk_at dksX4_be_3 0 rfl rfl)
theorem dX4_be_70 : decode cX4_be 70 = .ok (.aload_n 0, 1) := dk_42 (dk_at dksX4_be_3 3 rfl rfl)
theorem dX4_be_71 : decode cX4_be 71 = .ok (.getfield 30, 3) := dk_180 0 30 (dk_at dksX4_be_3 4 rfl rfl)
theorem dX4_be_74 : decode cX4_be 74 = .ok (.invokestatic 33, 3) := dk_184 0 33 (dk_at dksX4_be_3 7 rfl rfl)
theorem dX4_be_77 : decode cX4_be 77 = .ok (.aload_n 0, 1) := dk_42 (dk_at dksX4_be_3 10 rfl rfl)
theorem dX4_be_78 : decode cX4_be 78 = .ok (.aload_n 1, 1) := dk_43 (dk_at dksX4_be_3 11 rfl rfl)
theorem dX4_be_79 : decode cX4_be 79 = .ok (.getfield 37, 3) := dk_180 0 37 (dk_at dksX4_be_3 12 rfl rfl)
theorem dX4_be_82 : decode cX4_be 82 = .ok (.putfield 37, 3) := dk_181 0 37 (dk_at dksX4_be_3 15 rfl rfl)
theorem dX4_be_85 : decode cX4_be 85 = .ok (.aload_n 0, 1) := dk_42 (dk_at dksX4_be_3 18 rfl rfl)
theorem dX4_be_86 : decode cX4_be 86 = .ok (.aload_n 1, 1) := dk_43 (dk_at dksX4_be_3 19 rfl rfl)
theorem dX4_be_87 : decode cX4_be 87 = .ok (.getfield 41, 3) := dk_180 0 41 (dk_at dksX4_be_3 20 rfl rfl)
theorem dX4_be_90 : decode cX4_be 90 = .ok (.putfield 41, 3) := dk_181 0 41 (dk_at dksX4_be_4 0 rfl rfl)
theorem dX4_be_93 : decode cX4_be 93 = .ok (.aload_n 0, 1) := dk_42 (dk_at dksX4_be_4 3 rfl rfl)
theorem dX4_be_94 : decode cX4_be 94 = .ok (.aload_n 1, 1) := dk_43 (dk_at dksX4_be_4 4 rfl rfl)
theorem dX4_be_95 : decode cX4_be 95 = .ok (.getfield 45, 3) := dk_180 0 45 (dk_at dksX4_be_4 5 rfl rfl)
theorem dX4_be_98 : decode cX4_be 98 = .ok (.putfield 45, 3) := dk_181 0 45 (dk_at dksX4_be_4 8 rfl rfl)
theorem dX4_be_101 : decode cX4_be 101 = .ok (.aload_n 0, 1) := dk_42 (dk_at dksX4_be_4 11 rfl rfl)
theorem dX4_be_102 : decode cX4_be 102 = .ok (.aload_n 1, 1) := dk_43 (dk_at dksX4_be_4 12 rfl rfl)
theorem dX4_be_103 : decode cX4_be 103 = .ok (.getfield 48, 3) := dk_180 0 48 (dk_at dksX4_be_4 13 rfl rfl)
theorem dX4_be_106 : decode cX4_be 106 = .ok (.putfield 48, 3) := dk_181 0 48 (dk_at dksX4_be_4 16 rfl rfl)
theorem dX4_be_109 : decode cX4_be 109 = .ok (.return_, 1) := dk_177 (dk_at dksX4_be_4 19 rfl rfl)
abbrev cX4_goes : ByteArray := prog_22_method_5_code
def yX4_goes : MethodName := ⟨RX4, "goes", "([I)V"⟩
def dkwX4_goes_2 : List UInt8 := [79, 132, 2, 1, 167, 255, 207, 42, 4, 181, 0, 37, 42, 3, 181, 0, 41, 177]
abbrev dktX4_goes_2 : List UInt8 := dkwX4_goes_2 ++ []
def dkwX4_goes_1 : List UInt8 := [180, 0, 9, 28, 46, 42, 180, 0, 15, 28, 46, 100, 79, 42, 180, 0, 27, 28, 42, 180, 0, 18, 28, 46]
abbrev dktX4_goes_1 : List UInt8 := dkwX4_goes_1 ++ dktX4_goes_2
def dkwX4_goes_0 : List UInt8 := [3, 61, 28, 16, 6, 162, 0, 49, 42, 180, 0, 30, 28, 43, 28, 46, 79, 42, 180, 0, 24, 28, 42]
abbrev dktX4_goes_0 : List UInt8 := dkwX4_goes_0 ++ dktX4_goes_1
theorem dksX4_goes_0 : cX4_goes.data.toList.drop 0 = dktX4_goes_0 := by decide +kernel
theorem dksX4_goes_1 : cX4_goes.data.toList.drop 23 = dktX4_goes_1 := dk_seg dksX4_goes_0 23 rfl rfl
theorem dksX4_goes_2 : cX4_goes.data.toList.drop 47 = dktX4_goes_2 := dk_seg dksX4_goes_1 24 rfl rfl
theorem dX4_goes_0 : decode cX4_goes 0 = .ok (.iconst 0, 1) := dk_3 (dk_at dksX4_goes_0 0 rfl rfl)
theorem dX4_goes_1 : decode cX4_goes 1 = .ok (.istore_n 2, 1) := dk_61 (dk_at dksX4_goes_0 1 rfl rfl)
theorem dX4_goes_2 : decode cX4_goes 2 = .ok (.iload_n 2, 1) := dk_28 (dk_at dksX4_goes_0 2 rfl rfl)
theorem dX4_goes_3 : decode cX4_goes 3 = .ok (.bipush 6, 2) := dk_16 6 (dk_at dksX4_goes_0 3 rfl rfl)
theorem dX4_goes_5 : decode cX4_goes 5 = .ok (.if_icmp .ge 49, 3) := dk_162 0 49 (dk_at dksX4_goes_0 5 rfl rfl)
theorem dX4_goes_8 : decode cX4_goes 8 = .ok (.aload_n 0, 1) := dk_42 (dk_at dksX4_goes_0 8 rfl rfl)
theorem dX4_goes_9 : decode cX4_goes 9 = .ok (.getfield 30, 3) := dk_180 0 30 (dk_at dksX4_goes_0 9 rfl rfl)
theorem dX4_goes_12 : decode cX4_goes 12 = .ok (.iload_n 2, 1) := dk_28 (dk_at dksX4_goes_0 12 rfl rfl)
theorem dX4_goes_13 : decode cX4_goes 13 = .ok (.aload_n 1, 1) := dk_43 (dk_at dksX4_goes_0 13 rfl rfl)
theorem dX4_goes_14 : decode cX4_goes 14 = .ok (.iload_n 2, 1) := dk_28 (dk_at dksX4_goes_0 14 rfl rfl)
theorem dX4_goes_15 : decode cX4_goes 15 = .ok (.iaload, 1) := dk_46 (dk_at dksX4_goes_0 15 rfl rfl)
theorem dX4_goes_16 : decode cX4_goes 16 = .ok (.iastore, 1) := dk_79 (dk_at dksX4_goes_0 16 rfl rfl)
theorem dX4_goes_17 : decode cX4_goes 17 = .ok (.aload_n 0, 1) := dk_42 (dk_at dksX4_goes_0 17 rfl rfl)
theorem dX4_goes_18 : decode cX4_goes 18 = .ok (.getfield 24, 3) := dk_180 0 24 (dk_at dksX4_goes_0 18 rfl rfl)
theorem dX4_goes_21 : decode cX4_goes 21 = .ok (.iload_n 2, 1) := dk_28 (dk_at dksX4_goes_0 21 rfl rfl)
theorem dX4_goes_22 : decode cX4_goes 22 = .ok (.aload_n 0, 1) := dk_42 (dk_at dksX4_goes_0 22 rfl rfl)
theorem dX4_goes_23 : decode cX4_goes 23 = .ok (.getfield 9, 3) := dk_180 0 9 (dk_at dksX4_goes_1 0 rfl rfl)
theorem dX4_goes_26 : decode cX4_goes 26 = .ok (.iload_n 2, 1) := dk_28 (dk_at dksX4_goes_1 3 rfl rfl)
theorem dX4_goes_27 : decode cX4_goes 27 = .ok (.iaload, 1) := dk_46 (dk_at dksX4_goes_1 4 rfl rfl)
theorem dX4_goes_28 : decode cX4_goes 28 = .ok (.aload_n 0, 1) := dk_42 (dk_at dksX4_goes_1 5 rfl rfl)
theorem dX4_goes_29 : decode cX4_goes 29 = .ok (.getfield 15, 3) := dk_180 0 15 (dk_at dksX4_goes_1 6 rfl rfl)
theorem dX4_goes_32 : decode cX4_goes 32 = .ok (.iload_n 2, 1) := dk_28 (dk_at dksX4_goes_1 9 rfl rfl)
theorem dX4_goes_33 : decode cX4_goes 33 = .ok (.iaload, 1) := dk_46 (dk_at dksX4_goes_1 10 rfl rfl)
theorem dX4_goes_34 : decode cX4_goes 34 = .ok (.isub, 1) := dk_100 (dk_at dksX4_goes_1 11 rfl rfl)
theorem dX4_goes_35 : decode cX4_goes 35 = .ok (.iastore, 1) := dk_79 (dk_at dksX4_goes_1 12 rfl rfl)
theorem dX4_goes_36 : decode cX4_goes 36 = .ok (.aload_n 0, 1) := dk_42 (dk_at dksX4_goes_1 13 rfl rfl)
theorem dX4_goes_37 : decode cX4_goes 37 = .ok (.getfield 27, 3) := dk_180 0 27 (dk_at dksX4_goes_1 14 rfl rfl)
theorem dX4_goes_40 : decode cX4_goes 40 = .ok (.iload_n 2, 1) := dk_28 (dk_at dksX4_goes_1 17 rfl rfl)
theorem dX4_goes_41 : decode cX4_goes 41 = .ok (.aload_n 0, 1) := dk_42 (dk_at dksX4_goes_1 18 rfl rfl)
theorem dX4_goes_42 : decode cX4_goes 42 = .ok (.getfield 18, 3) := dk_180 0 18 (dk_at dksX4_goes_1 19 rfl rfl)
theorem dX4_goes_45 : decode cX4_goes 45 = .ok (.iload_n 2, 1) := dk_28 (dk_at dksX4_goes_1 22 rfl rfl)
theorem dX4_goes_46 : decode cX4_goes 46 = .ok (.iaload, 1) := dk_46 (dk_at dksX4_goes_1 23 rfl rfl)
theorem dX4_goes_47 : decode cX4_goes 47 = .ok (.iastore, 1) := dk_79 (dk_at dksX4_goes_2 0 rfl rfl)
theorem dX4_goes_48 : decode cX4_goes 48 = .ok (.iinc 2 1, 3) := dk_132 2 1 (dk_at dksX4_goes_2 1 rfl rfl)
theorem dX4_goes_51 : decode cX4_goes 51 = .ok (.goto (-49), 3) := dk_167 255 207 (dk_at dksX4_goes_2 4 rfl rfl)
theorem dX4_goes_54 : decode cX4_goes 54 = .ok (.aload_n 0, 1) := dk_42 (dk_at dksX4_goes_2 7 rfl rfl)
theorem dX4_goes_55 : decode cX4_goes 55 = .ok (.iconst 1, 1) := dk_4 (dk_at dksX4_goes_2 8 rfl rfl)
theorem dX4_goes_56 : decode cX4_goes 56 = .ok (.putfield 37, 3) := dk_181 0 37 (dk_at dksX4_goes_2 9 rfl rfl)
theorem dX4_goes_59 : decode cX4_goes 59 = .ok (.aload_n 0, 1) := dk_42 (dk_at dksX4_goes_2 12 rfl rfl)
theorem dX4_goes_60 : decode cX4_goes 60 = .ok (.iconst 0, 1) := dk_3 (dk_at dksX4_goes_2 13 rfl rfl)
theorem dX4_goes_61 : decode cX4_goes 61 = .ok (.putfield 41, 3) := dk_181 0 41 (dk_at dksX4_goes_2 14 rfl rfl)
theorem dX4_goes_64 : decode cX4_goes 64 = .ok (.return_, 1) := dk_177 (dk_at dksX4_goes_2 17 rfl rfl)
abbrev cX4_gets : ByteArray := prog_22_method_11_code
def yX4_gets : MethodName := ⟨RX4, "gets", "(II)V"⟩
def dkwX4_gets_0 : List UInt8 := [42, 180, 0, 9, 27, 17, 39, 15, 42, 180, 0, 9, 27, 46, 28, 96, 184, 0, 91, 79, 177]
abbrev dktX4_gets_0 : List UInt8 := dkwX4_gets_0 ++ []
theorem dksX4_gets_0 : cX4_gets.data.toList.drop 0 = dktX4_gets_0 := by decide +kernel
theorem dX4_gets_0 : decode cX4_gets 0 = .ok (.aload_n 0, 1) := dk_42 (dk_at dksX4_gets_0 0 rfl rfl)
theorem dX4_gets_1 : decode cX4_gets 1 = .ok (.getfield 9, 3) := dk_180 0 9 (dk_at dksX4_gets_0 1 rfl rfl)
theorem dX4_gets_4 : decode cX4_gets 4 = .ok (.iload_n 1, 1) := dk_27 (dk_at dksX4_gets_0 4 rfl rfl)
theorem dX4_gets_5 : decode cX4_gets 5 = .ok (.sipush 9999, 3) := dk_17 39 15 (dk_at dksX4_gets_0 5 rfl rfl)
theorem dX4_gets_8 : decode cX4_gets 8 = .ok (.aload_n 0, 1) := dk_42 (dk_at dksX4_gets_0 8 rfl rfl)
theorem dX4_gets_9 : decode cX4_gets 9 = .ok (.getfield 9, 3) := dk_180 0 9 (dk_at dksX4_gets_0 9 rfl rfl)
theorem dX4_gets_12 : decode cX4_gets 12 = .ok (.iload_n 1, 1) := dk_27 (dk_at dksX4_gets_0 12 rfl rfl)
theorem dX4_gets_13 : decode cX4_gets 13 = .ok (.iaload, 1) := dk_46 (dk_at dksX4_gets_0 13 rfl rfl)
theorem dX4_gets_14 : decode cX4_gets 14 = .ok (.iload_n 2, 1) := dk_28 (dk_at dksX4_gets_0 14 rfl rfl)
theorem dX4_gets_15 : decode cX4_gets 15 = .ok (.iadd, 1) := dk_96 (dk_at dksX4_gets_0 15 rfl rfl)
theorem dX4_gets_16 : decode cX4_gets 16 = .ok (.invokestatic 91, 3) := dk_184 0 91 (dk_at dksX4_gets_0 16 rfl rfl)
theorem dX4_gets_19 : decode cX4_gets 19 = .ok (.iastore, 1) := dk_79 (dk_at dksX4_gets_0 19 rfl rfl)
theorem dX4_gets_20 : decode cX4_gets 20 = .ok (.return_, 1) := dk_177 (dk_at dksX4_gets_0 20 rfl rfl)
abbrev cX4_harmOfAll : ByteArray := prog_22_method_9_code
def yX4_harmOfAll : MethodName := ⟨RX4, "harmOfAll", "()I"⟩
def dkwX4_harmOfAll_1 : List UInt8 := [27, 172]
abbrev dktX4_harmOfAll_1 : List UInt8 := dkwX4_harmOfAll_1 ++ []
def dkwX4_harmOfAll_0 : List UInt8 := [3, 60, 3, 61, 28, 16, 6, 162, 0, 17, 27, 42, 28, 182, 0, 84, 96, 60, 132, 2, 1, 167, 255, 239]
abbrev dktX4_harmOfAll_0 : List UInt8 := dkwX4_harmOfAll_0 ++ dktX4_harmOfAll_1
theorem dksX4_harmOfAll_0 : cX4_harmOfAll.data.toList.drop 0 = dktX4_harmOfAll_0 := by decide +kernel
theorem dksX4_harmOfAll_1 : cX4_harmOfAll.data.toList.drop 24 = dktX4_harmOfAll_1 := dk_seg dksX4_harmOfAll_0 24 rfl rfl
theorem dX4_harmOfAll_0 : decode cX4_harmOfAll 0 = .ok (.iconst 0, 1) := dk_3 (dk_at dksX4_harmOfAll_0 0 rfl rfl)
theorem dX4_harmOfAll_1 : decode cX4_harmOfAll 1 = .ok (.istore_n 1, 1) := dk_60 (dk_at dksX4_harmOfAll_0 1 rfl rfl)
theorem dX4_harmOfAll_2 : decode cX4_harmOfAll 2 = .ok (.iconst 0, 1) := dk_3 (dk_at dksX4_harmOfAll_0 2 rfl rfl)
theorem dX4_harmOfAll_3 : decode cX4_harmOfAll 3 = .ok (.istore_n 2, 1) := dk_61 (dk_at dksX4_harmOfAll_0 3 rfl rfl)
theorem dX4_harmOfAll_4 : decode cX4_harmOfAll 4 = .ok (.iload_n 2, 1) := dk_28 (dk_at dksX4_harmOfAll_0 4 rfl rfl)
theorem dX4_harmOfAll_5 : decode cX4_harmOfAll 5 = .ok (.bipush 6, 2) := dk_16 6 (dk_at dksX4_harmOfAll_0 5 rfl rfl)
theorem dX4_harmOfAll_7 : decode cX4_harmOfAll 7 = .ok (.if_icmp .ge 17, 3) := dk_162 0 17 (dk_at dksX4_harmOfAll_0 7 rfl rfl)
theorem dX4_harmOfAll_10 : decode cX4_harmOfAll 10 = .ok (.iload_n 1, 1) := dk_27 (dk_at dksX4_harmOfAll_0 10 rfl rfl)
theorem dX4_harmOfAll_11 : decode cX4_harmOfAll 11 = .ok (.aload_n 0, 1) := dk_42 (dk_at dksX4_harmOfAll_0 11 rfl rfl)
theorem dX4_harmOfAll_12 : decode cX4_harmOfAll 12 = .ok (.iload_n 2, 1) := dk_28 (dk_at dksX4_harmOfAll_0 12 rfl rfl)
theorem dX4_harmOfAll_13 : decode cX4_harmOfAll 13 = .ok (.invokevirtual 84, 3) := dk_182 0 84 (dk_at dksX4_harmOfAll_0 13 rfl rfl)
theorem dX4_harmOfAll_16 : decode cX4_harmOfAll 16 = .ok (.iadd, 1) := dk_96 (dk_at dksX4_harmOfAll_0 16 rfl rfl)
theorem dX4_harmOfAll_17 : decode cX4_harmOfAll 17 = .ok (.istore_n 1, 1) := dk_60 (dk_at dksX4_harmOfAll_0 17 rfl rfl)
theorem dX4_harmOfAll_18 : decode cX4_harmOfAll 18 = .ok (.iinc 2 1, 3) := dk_132 2 1 (dk_at dksX4_harmOfAll_0 18 rfl rfl)
theorem dX4_harmOfAll_21 : decode cX4_harmOfAll 21 = .ok (.goto (-17), 3) := dk_167 255 239 (dk_at dksX4_harmOfAll_0 21 rfl rfl)
theorem dX4_harmOfAll_24 : decode cX4_harmOfAll 24 = .ok (.iload_n 1, 1) := dk_27 (dk_at dksX4_harmOfAll_1 0 rfl rfl)
theorem dX4_harmOfAll_25 : decode cX4_harmOfAll 25 = .ok (.ireturn, 1) := dk_172 (dk_at dksX4_harmOfAll_1 1 rfl rfl)
abbrev cX4_goodOfAll : ByteArray := prog_22_method_10_code
def yX4_goodOfAll : MethodName := ⟨RX4, "goodOfAll", "()I"⟩
def dkwX4_goodOfAll_1 : List UInt8 := [27, 172]
abbrev dktX4_goodOfAll_1 : List UInt8 := dkwX4_goodOfAll_1 ++ []
def dkwX4_goodOfAll_0 : List UInt8 := [3, 60, 3, 61, 28, 16, 6, 162, 0, 17, 27, 42, 28, 182, 0, 88, 96, 60, 132, 2, 1, 167, 255, 239]
abbrev dktX4_goodOfAll_0 : List UInt8 := dkwX4_goodOfAll_0 ++ dktX4_goodOfAll_1
theorem dksX4_goodOfAll_0 : cX4_goodOfAll.data.toList.drop 0 = dktX4_goodOfAll_0 := by decide +kernel
theorem dksX4_goodOfAll_1 : cX4_goodOfAll.data.toList.drop 24 = dktX4_goodOfAll_1 := dk_seg dksX4_goodOfAll_0 24 rfl rfl
theorem dX4_goodOfAll_0 : decode cX4_goodOfAll 0 = .ok (.iconst 0, 1) := dk_3 (dk_at dksX4_goodOfAll_0 0 rfl rfl)
theorem dX4_goodOfAll_1 : decode cX4_goodOfAll 1 = .ok (.istore_n 1, 1) := dk_60 (dk_at dksX4_goodOfAll_0 1 rfl rfl)
theorem dX4_goodOfAll_2 : decode cX4_goodOfAll 2 = .ok (.iconst 0, 1) := dk_3 (dk_at dksX4_goodOfAll_0 2 rfl rfl)
theorem dX4_goodOfAll_3 : decode cX4_goodOfAll 3 = .ok (.istore_n 2, 1) := dk_61 (dk_at dksX4_goodOfAll_0 3 rfl rfl)
theorem dX4_goodOfAll_4 : decode cX4_goodOfAll 4 = .ok (.iload_n 2, 1) := dk_28 (dk_at dksX4_goodOfAll_0 4 rfl rfl)
theorem dX4_goodOfAll_5 : decode cX4_goodOfAll 5 = .ok (.bipush 6, 2) := dk_16 6 (dk_at dksX4_goodOfAll_0 5 rfl rfl)
theorem dX4_goodOfAll_7 : decode cX4_goodOfAll 7 = .ok (.if_icmp .ge 17, 3) := dk_162 0 17 (dk_at dksX4_goodOfAll_0 7 rfl rfl)
theorem dX4_goodOfAll_10 : decode cX4_goodOfAll 10 = .ok (.iload_n 1, 1) := dk_27 (dk_at dksX4_goodOfAll_0 10 rfl rfl)
theorem dX4_goodOfAll_11 : decode cX4_goodOfAll 11 = .ok (.aload_n 0, 1) := dk_42 (dk_at dksX4_goodOfAll_0 11 rfl rfl)
theorem dX4_goodOfAll_12 : decode cX4_goodOfAll 12 = .ok (.iload_n 2, 1) := dk_28 (dk_at dksX4_goodOfAll_0 12 rfl rfl)
theorem dX4_goodOfAll_13 : decode cX4_goodOfAll 13 = .ok (.invokevirtual 88, 3) := dk_182 0 88 (dk_at dksX4_goodOfAll_0 13 rfl rfl)
theorem dX4_goodOfAll_16 : decode cX4_goodOfAll 16 = .ok (.iadd, 1) := dk_96 (dk_at dksX4_goodOfAll_0 16 rfl rfl)
theorem dX4_goodOfAll_17 : decode cX4_goodOfAll 17 = .ok (.istore_n 1, 1) := dk_60 (dk_at dksX4_goodOfAll_0 17 rfl rfl)
theorem dX4_goodOfAll_18 : decode cX4_goodOfAll 18 = .ok (.iinc 2 1, 3) := dk_132 2 1 (dk_at dksX4_goodOfAll_0 18 rfl rfl)
theorem dX4_goodOfAll_21 : decode cX4_goodOfAll 21 = .ok (.goto (-17), 3) := dk_167 255 239 (dk_at dksX4_goodOfAll_0 21 rfl rfl)
theorem dX4_goodOfAll_24 : decode cX4_goodOfAll 24 = .ok (.iload_n 1, 1) := dk_27 (dk_at dksX4_goodOfAll_1 0 rfl rfl)
theorem dX4_goodOfAll_25 : decode cX4_goodOfAll 25 = .ok (.ireturn, 1) := dk_172 (dk_at dksX4_goodOfAll_1 1 rfl rfl)
theorem q131 : (Jvm.Cond.initialized "BorrowedLives$State") ∈ lw_all := lw_g (lw_at lw_m1 7 rfl) rfl
theorem q252 : (Jvm.Cond.fieldLinkNest "BorrowedLives$State" (51 : Nat) "BorrowedLives$Town" "people" "Ljava/util/ArrayList;" "BorrowedLives") ∈ lw_tbl := lw_at lw_m1 128 rfl
theorem q285 : (Jvm.Cond.instantiable "BorrowedLives$State" (11 : Nat)) ∈ lw_all := lw_g (lw_at lw_m1 161 rfl) rfl
theorem q287 : (Jvm.Cond.instanceMethod ({ cls := "BorrowedLives$State", name := "<init>", desc := "()V" } : Jvm.MethodName)) ∈ lw_all := lw_g (lw_at lw_m1 163 rfl) rfl
theorem q288 : (Jvm.Cond.code ({ cls := "BorrowedLives$State", name := "<init>", desc := "()V" } : Jvm.MethodName) prog_22_method_1_code (1 : Nat) (Option.none : Option Jvm.ClassFile.FieldType)) ∈ lw_all := lw_g (lw_at lw_m1 164 rfl) rfl
theorem q289 : (Jvm.Cond.methodLink "BorrowedLives$State" (3 : Nat) ({ cls := "java/lang/Object", name := "<init>", desc := "()V" } : Jvm.MethodName)) ∈ lw_all := lw_g (lw_at lw_m1 165 rfl) rfl
theorem q290 : (Jvm.Cond.fieldLink "BorrowedLives$State" (9 : Nat) "BorrowedLives$State" "purse" "[I") ∈ lw_all := lw_g (lw_at lw_m1 166 rfl) rfl
theorem q293 : (Jvm.Cond.fieldLink "BorrowedLives$State" (15 : Nat) "BorrowedLives$State" "debt" "[I") ∈ lw_all := lw_g (lw_at lw_m1 169 rfl) rfl
theorem q295 : (Jvm.Cond.fieldLink "BorrowedLives$State" (18 : Nat) "BorrowedLives$State" "home" "[I") ∈ lw_all := lw_g (lw_at lw_m1 171 rfl) rfl
theorem q297 : (Jvm.Cond.fieldLink "BorrowedLives$State" (21 : Nat) "BorrowedLives$State" "hidden" "[I") ∈ lw_all := lw_g (lw_at lw_m1 173 rfl) rfl
theorem q300 : (Jvm.Cond.fieldLink "BorrowedLives$State" (24 : Nat) "BorrowedLives$State" "had" "[I") ∈ lw_all := lw_g (lw_at lw_m1 176 rfl) rfl
theorem q301 : (Jvm.Cond.fieldLink "BorrowedLives$State" (27 : Nat) "BorrowedLives$State" "neat" "[I") ∈ lw_all := lw_g (lw_at lw_m1 177 rfl) rfl
theorem q302 : (Jvm.Cond.fieldLink "BorrowedLives$State" (30 : Nat) "BorrowedLives$State" "self" "[I") ∈ lw_all := lw_g (lw_at lw_m1 178 rfl) rfl
theorem q308 : (Jvm.Cond.fieldLink "BorrowedLives$State" (37 : Nat) "BorrowedLives$State" "away" "Z") ∈ lw_all := lw_g (lw_at lw_m1 184 rfl) rfl
theorem q311 : (Jvm.Cond.fieldLink "BorrowedLives$State" (41 : Nat) "BorrowedLives$State" "days" "I") ∈ lw_all := lw_g (lw_at lw_m1 187 rfl) rfl
theorem q313 : (Jvm.Cond.fieldLink "BorrowedLives$State" (45 : Nat) "BorrowedLives$State" "homes" "I") ∈ lw_all := lw_g (lw_at lw_m1 189 rfl) rfl
theorem q315 : (Jvm.Cond.fieldLink "BorrowedLives$State" (48 : Nat) "BorrowedLives$State" "harm" "I") ∈ lw_all := lw_g (lw_at lw_m1 191 rfl) rfl
theorem q317 : (Jvm.Cond.laysFinal "BorrowedLives$State" "BorrowedLives$State" "purse" "[I") ∈ lw_all := lw_g (lw_at lw_m1 193 rfl) rfl
theorem q318 : (Jvm.Cond.soleField "BorrowedLives$State" "purse") ∈ lw_all := lw_g (lw_at lw_m1 194 rfl) rfl
theorem q319 : (Jvm.Cond.laysFinal "BorrowedLives$State" "BorrowedLives$State" "debt" "[I") ∈ lw_all := lw_g (lw_at lw_m1 195 rfl) rfl
theorem q320 : (Jvm.Cond.soleField "BorrowedLives$State" "debt") ∈ lw_all := lw_g (lw_at lw_m1 196 rfl) rfl
theorem q321 : (Jvm.Cond.laysFinal "BorrowedLives$State" "BorrowedLives$State" "home" "[I") ∈ lw_all := lw_g (lw_at lw_m1 197 rfl) rfl
theorem q322 : (Jvm.Cond.soleField "BorrowedLives$State" "home") ∈ lw_all := lw_g (lw_at lw_m1 198 rfl) rfl
theorem q323 : (Jvm.Cond.laysFinal "BorrowedLives$State" "BorrowedLives$State" "hidden" "[I") ∈ lw_all := lw_g (lw_at lw_m1 199 rfl) rfl
theorem q324 : (Jvm.Cond.soleField "BorrowedLives$State" "hidden") ∈ lw_all := lw_g (lw_at lw_m1 200 rfl) rfl
theorem q325 : (Jvm.Cond.laysFinal "BorrowedLives$State" "BorrowedLives$State" "had" "[I") ∈ lw_all := lw_g (lw_at lw_m1 201 rfl) rfl
theorem q326 : (Jvm.Cond.soleField "BorrowedLives$State" "had") ∈ lw_all := lw_g (lw_at lw_m1 202 rfl) rfl
theorem q327 : (Jvm.Cond.laysFinal "BorrowedLives$State" "BorrowedLives$State" "neat" "[I") ∈ lw_all := lw_g (lw_at lw_m1 203 rfl) rfl
theorem q328 : (Jvm.Cond.soleField "BorrowedLives$State" "neat") ∈ lw_all := lw_g (lw_at lw_m1 204 rfl) rfl
theorem q329 : (Jvm.Cond.laysFinal "BorrowedLives$State" "BorrowedLives$State" "self" "[I") ∈ lw_all := lw_g (lw_at lw_m1 205 rfl) rfl
theorem q330 : (Jvm.Cond.soleField "BorrowedLives$State" "self") ∈ lw_all := lw_g (lw_at lw_m1 206 rfl) rfl
theorem q331 : (Jvm.Cond.lays "BorrowedLives$State" "BorrowedLives$State" "away" "Z") ∈ lw_all := lw_g (lw_at lw_m1 207 rfl) rfl
theorem q332 : (Jvm.Cond.soleField "BorrowedLives$State" "away") ∈ lw_all := lw_g (lw_at lw_m1 208 rfl) rfl
theorem q333 : (Jvm.Cond.lays "BorrowedLives$State" "BorrowedLives$State" "days" "I") ∈ lw_all := lw_g (lw_at lw_m1 209 rfl) rfl
theorem q334 : (Jvm.Cond.soleField "BorrowedLives$State" "days") ∈ lw_all := lw_g (lw_at lw_m1 210 rfl) rfl
theorem q335 : (Jvm.Cond.lays "BorrowedLives$State" "BorrowedLives$State" "homes" "I") ∈ lw_all := lw_g (lw_at lw_m1 211 rfl) rfl
theorem q336 : (Jvm.Cond.soleField "BorrowedLives$State" "homes") ∈ lw_all := lw_g (lw_at lw_m1 212 rfl) rfl
theorem q337 : (Jvm.Cond.lays "BorrowedLives$State" "BorrowedLives$State" "harm" "I") ∈ lw_all := lw_g (lw_at lw_m1 213 rfl) rfl
theorem q338 : (Jvm.Cond.soleField "BorrowedLives$State" "harm") ∈ lw_all := lw_g (lw_at lw_m1 214 rfl) rfl
theorem q339 : (Jvm.Cond.superclass "BorrowedLives$State" "java/lang/Object") ∈ lw_all := lw_g (lw_at lw_m1 215 rfl) rfl
theorem q347 : (Jvm.Cond.instanceMethod ({ cls := "BorrowedLives$State", name := "begin", desc := "(LBorrowedLives$Town;)V" } : Jvm.MethodName)) ∈ lw_all := lw_g (lw_at lw_m1 223 rfl) rfl
theorem q348 : (Jvm.Cond.selects "BorrowedLives$State" ({ cls := "BorrowedLives$State", name := "begin", desc := "(LBorrowedLives$Town;)V" } : Jvm.MethodName) ({ cls := "BorrowedLives$State", name := "begin", desc := "(LBorrowedLives$Town;)V" } : Jvm.MethodName)) ∈ lw_all := lw_g (lw_at lw_m1 224 rfl) rfl
theorem q349 : (Jvm.Cond.code ({ cls := "BorrowedLives$State", name := "begin", desc := "(LBorrowedLives$Town;)V" } : Jvm.MethodName) prog_22_method_3_code (4 : Nat) (Option.none : Option Jvm.ClassFile.FieldType)) ∈ lw_all := lw_g (lw_at lw_m1 225 rfl) rfl
theorem q350 : (Jvm.Cond.methodLink "BorrowedLives$State" (57 : Nat) ({ cls := "java/util/ArrayList", name := "size", desc := "()I" } : Jvm.MethodName)) ∈ lw_all := lw_g (lw_at lw_m1 226 rfl) rfl
theorem q354 : (Jvm.Cond.methodLink "BorrowedLives$State" (63 : Nat) ({ cls := "java/util/ArrayList", name := "get", desc := "(I)Ljava/lang/Object;" } : Jvm.MethodName)) ∈ lw_all := lw_g (lw_at lw_m1 230 rfl) rfl
theorem q368 : (Jvm.Cond.classLink "BorrowedLives$State" (67 : Nat) "BorrowedLives$Person") ∈ lw_all := lw_g (lw_at lw_m2 4 rfl) rfl
theorem q369 : (Jvm.Cond.methodLink "BorrowedLives$State" (75 : Nat) ({ cls := "BorrowedLives$State", name := "allAreHome", desc := "()V" } : Jvm.MethodName)) ∈ lw_all := lw_g (lw_at lw_m2 5 rfl) rfl
theorem q370 : (Jvm.Cond.instanceMethod ({ cls := "BorrowedLives$State", name := "allAreHome", desc := "()V" } : Jvm.MethodName)) ∈ lw_all := lw_g (lw_at lw_m2 6 rfl) rfl
theorem q371 : (Jvm.Cond.selects "BorrowedLives$State" ({ cls := "BorrowedLives$State", name := "allAreHome", desc := "()V" } : Jvm.MethodName) ({ cls := "BorrowedLives$State", name := "allAreHome", desc := "()V" } : Jvm.MethodName)) ∈ lw_all := lw_g (lw_at lw_m2 7 rfl) rfl
theorem q372 : (Jvm.Cond.code ({ cls := "BorrowedLives$State", name := "allAreHome", desc := "()V" } : Jvm.MethodName) prog_22_method_4_code (2 : Nat) (Option.none : Option Jvm.ClassFile.FieldType)) ∈ lw_all := lw_g (lw_at lw_m2 8 rfl) rfl
theorem q881 : (Jvm.Cond.fieldLink "BorrowedLives$State" (69 : Nat) "BorrowedLives$Person" "purse" "I") ∈ lw_all := lw_g (lw_at lw_m4 37 rfl) rfl
theorem q883 : (Jvm.Cond.fieldLink "BorrowedLives$State" (71 : Nat) "BorrowedLives$Person" "debt" "I") ∈ lw_all := lw_g (lw_at lw_m4 39 rfl) rfl
theorem q885 : (Jvm.Cond.fieldLink "BorrowedLives$State" (73 : Nat) "BorrowedLives$Person" "home" "I") ∈ lw_all := lw_g (lw_at lw_m4 41 rfl) rfl
theorem q1000 : (Jvm.Cond.selects "BorrowedLives$State" ({ cls := "java/lang/Object", name := "getClass", desc := "()Ljava/lang/Class;" } : Jvm.MethodName) ({ cls := "java/lang/Object", name := "getClass", desc := "()Ljava/lang/Class;" } : Jvm.MethodName)) ∈ lw_all := lw_g (lw_at lw_m4 156 rfl) rfl
theorem q1221 : (Jvm.Cond.instanceMethod ({ cls := "BorrowedLives$State", name := "lifeOf", desc := "(I)I" } : Jvm.MethodName)) ∈ lw_all := lw_g (lw_at lw_m5 137 rfl) rfl
theorem q1222 : (Jvm.Cond.selects "BorrowedLives$State" ({ cls := "BorrowedLives$State", name := "lifeOf", desc := "(I)I" } : Jvm.MethodName) ({ cls := "BorrowedLives$State", name := "lifeOf", desc := "(I)I" } : Jvm.MethodName)) ∈ lw_all := lw_g (lw_at lw_m5 138 rfl) rfl
theorem q1223 : (Jvm.Cond.code ({ cls := "BorrowedLives$State", name := "lifeOf", desc := "(I)I" } : Jvm.MethodName) prog_22_method_8_code (3 : Nat) (Option.some Jvm.ClassFile.FieldType.int)) ∈ lw_all := lw_g (lw_at lw_m5 139 rfl) rfl
theorem q1229 : (Jvm.Cond.instanceMethod ({ cls := "BorrowedLives$State", name := "harmOf", desc := "(I)I" } : Jvm.MethodName)) ∈ lw_all := lw_g (lw_at lw_m5 145 rfl) rfl
theorem q1230 : (Jvm.Cond.selects "BorrowedLives$State" ({ cls := "BorrowedLives$State", name := "harmOf", desc := "(I)I" } : Jvm.MethodName) ({ cls := "BorrowedLives$State", name := "harmOf", desc := "(I)I" } : Jvm.MethodName)) ∈ lw_all := lw_g (lw_at lw_m5 146 rfl) rfl
theorem q1231 : (Jvm.Cond.code ({ cls := "BorrowedLives$State", name := "harmOf", desc := "(I)I" } : Jvm.MethodName) prog_22_method_6_code (2 : Nat) (Option.some Jvm.ClassFile.FieldType.int)) ∈ lw_all := lw_g (lw_at lw_m5 147 rfl) rfl
theorem q1232 : (Jvm.Cond.methodLink "BorrowedLives$State" (78 : Nat) ({ cls := "java/lang/Math", name := "max", desc := "(II)I" } : Jvm.MethodName)) ∈ lw_all := lw_g (lw_at lw_m5 148 rfl) rfl
theorem q1234 : (Jvm.Cond.instanceMethod ({ cls := "BorrowedLives$State", name := "goodOf", desc := "(I)I" } : Jvm.MethodName)) ∈ lw_all := lw_g (lw_at lw_m5 150 rfl) rfl
theorem q1235 : (Jvm.Cond.selects "BorrowedLives$State" ({ cls := "BorrowedLives$State", name := "goodOf", desc := "(I)I" } : Jvm.MethodName) ({ cls := "BorrowedLives$State", name := "goodOf", desc := "(I)I" } : Jvm.MethodName)) ∈ lw_all := lw_g (lw_at lw_m5 151 rfl) rfl
theorem q1236 : (Jvm.Cond.code ({ cls := "BorrowedLives$State", name := "goodOf", desc := "(I)I" } : Jvm.MethodName) prog_22_method_7_code (2 : Nat) (Option.some Jvm.ClassFile.FieldType.int)) ∈ lw_all := lw_g (lw_at lw_m5 152 rfl) rfl
theorem q1307 : (Jvm.Cond.instanceMethod ({ cls := "BorrowedLives$State", name := "be", desc := "(LBorrowedLives$State;)V" } : Jvm.MethodName)) ∈ lw_all := lw_g (lw_at lw_m5 223 rfl) rfl
theorem q1308 : (Jvm.Cond.selects "BorrowedLives$State" ({ cls := "BorrowedLives$State", name := "be", desc := "(LBorrowedLives$State;)V" } : Jvm.MethodName) ({ cls := "BorrowedLives$State", name := "be", desc := "(LBorrowedLives$State;)V" } : Jvm.MethodName)) ∈ lw_all := lw_g (lw_at lw_m5 224 rfl) rfl
theorem q1309 : (Jvm.Cond.code ({ cls := "BorrowedLives$State", name := "be", desc := "(LBorrowedLives$State;)V" } : Jvm.MethodName) prog_22_method_2_code (2 : Nat) (Option.none : Option Jvm.ClassFile.FieldType)) ∈ lw_all := lw_g (lw_at lw_m5 225 rfl) rfl
theorem q1310 : (Jvm.Cond.methodLinkNest "BorrowedLives$State" (33 : Nat) ({ cls := "BorrowedLives", name := "copies", desc := "([I[I)V" } : Jvm.MethodName) "BorrowedLives") ∈ lw_tbl := lw_at lw_m5 226 rfl
theorem q1314 : (Jvm.Cond.instanceMethod ({ cls := "BorrowedLives$State", name := "goes", desc := "([I)V" } : Jvm.MethodName)) ∈ lw_all := lw_g (lw_at lw_m5 230 rfl) rfl
theorem q1315 : (Jvm.Cond.selects "BorrowedLives$State" ({ cls := "BorrowedLives$State", name := "goes", desc := "([I)V" } : Jvm.MethodName) ({ cls := "BorrowedLives$State", name := "goes", desc := "([I)V" } : Jvm.MethodName)) ∈ lw_all := lw_g (lw_at lw_m5 231 rfl) rfl
theorem q1316 : (Jvm.Cond.code ({ cls := "BorrowedLives$State", name := "goes", desc := "([I)V" } : Jvm.MethodName) prog_22_method_5_code (3 : Nat) (Option.none : Option Jvm.ClassFile.FieldType)) ∈ lw_all := lw_g (lw_at lw_m5 232 rfl) rfl
theorem q1376 : (Jvm.Cond.instanceMethod ({ cls := "BorrowedLives$State", name := "gets", desc := "(II)V" } : Jvm.MethodName)) ∈ lw_all := lw_g (lw_at lw_m6 52 rfl) rfl
theorem q1377 : (Jvm.Cond.selects "BorrowedLives$State" ({ cls := "BorrowedLives$State", name := "gets", desc := "(II)V" } : Jvm.MethodName) ({ cls := "BorrowedLives$State", name := "gets", desc := "(II)V" } : Jvm.MethodName)) ∈ lw_all := lw_g (lw_at lw_m6 53 rfl) rfl
theorem q1378 : (Jvm.Cond.code ({ cls := "BorrowedLives$State", name := "gets", desc := "(II)V" } : Jvm.MethodName) prog_22_method_11_code (3 : Nat) (Option.none : Option Jvm.ClassFile.FieldType)) ∈ lw_all := lw_g (lw_at lw_m6 54 rfl) rfl
theorem q1379 : (Jvm.Cond.methodLink "BorrowedLives$State" (91 : Nat) ({ cls := "java/lang/Math", name := "min", desc := "(II)I" } : Jvm.MethodName)) ∈ lw_all := lw_g (lw_at lw_m6 55 rfl) rfl
theorem q1421 : (Jvm.Cond.instanceMethod ({ cls := "BorrowedLives$State", name := "harmOfAll", desc := "()I" } : Jvm.MethodName)) ∈ lw_all := lw_g (lw_at lw_m6 97 rfl) rfl
theorem q1422 : (Jvm.Cond.selects "BorrowedLives$State" ({ cls := "BorrowedLives$State", name := "harmOfAll", desc := "()I" } : Jvm.MethodName) ({ cls := "BorrowedLives$State", name := "harmOfAll", desc := "()I" } : Jvm.MethodName)) ∈ lw_all := lw_g (lw_at lw_m6 98 rfl) rfl
theorem q1423 : (Jvm.Cond.code ({ cls := "BorrowedLives$State", name := "harmOfAll", desc := "()I" } : Jvm.MethodName) prog_22_method_9_code (3 : Nat) (Option.some Jvm.ClassFile.FieldType.int)) ∈ lw_all := lw_g (lw_at lw_m6 99 rfl) rfl
theorem q1424 : (Jvm.Cond.methodLink "BorrowedLives$State" (84 : Nat) ({ cls := "BorrowedLives$State", name := "harmOf", desc := "(I)I" } : Jvm.MethodName)) ∈ lw_all := lw_g (lw_at lw_m6 100 rfl) rfl
theorem q1693 : (Jvm.Cond.instanceMethod ({ cls := "BorrowedLives$State", name := "goodOfAll", desc := "()I" } : Jvm.MethodName)) ∈ lw_all := lw_g (lw_at lw_m7 129 rfl) rfl
theorem q1694 : (Jvm.Cond.selects "BorrowedLives$State" ({ cls := "BorrowedLives$State", name := "goodOfAll", desc := "()I" } : Jvm.MethodName) ({ cls := "BorrowedLives$State", name := "goodOfAll", desc := "()I" } : Jvm.MethodName)) ∈ lw_all := lw_g (lw_at lw_m7 130 rfl) rfl
theorem q1695 : (Jvm.Cond.code ({ cls := "BorrowedLives$State", name := "goodOfAll", desc := "()I" } : Jvm.MethodName) prog_22_method_10_code (3 : Nat) (Option.some Jvm.ClassFile.FieldType.int)) ∈ lw_all := lw_g (lw_at lw_m7 131 rfl) rfl
theorem q1696 : (Jvm.Cond.methodLink "BorrowedLives$State" (88 : Nat) ({ cls := "BorrowedLives$State", name := "goodOf", desc := "(I)I" } : Jvm.MethodName)) ∈ lw_all := lw_g (lw_at lw_m7 132 rfl) rfl
theorem q2413 : (Jvm.Cond.castable "BorrowedLives$State" "java/lang/Object") ∈ lw_tbl := lw_at lw_m10 129 rfl
theorem in_X4 : ∀ w ∈ wsX40, w ∈ lw_all := lw_in wsX40 [317, 319, 321, 323, 325, 327, 329, 331, 333, 335, 337] (by decide +kernel) (by decide +kernel)
/-! BorrowedLives$Wrong -/
set_option maxRecDepth 100000
def RX6 : String := "BorrowedLives$Wrong"
def TX6 : u_T := fun k => match k with
  | 0 => ("java/lang/Throwable", "cause", "Ljava/lang/Throwable;", false)
  | 1 => ("java/lang/Throwable", "stackTrace", "[Ljava/lang/StackTraceElement;", false)
  | 2 => ("java/lang/Throwable", "suppressedExceptions", "Ljava/util/List;", false)
  | 3 => ("java/lang/Throwable", "detailMessage", "Ljava/lang/String;", false)
  | 4 => ("java/lang/Throwable", "backtrace", "Ljava/lang/Object;", false)
  | 5 => ("java/lang/Throwable", "depth", "I", false)
  | _ => ("BorrowedLives$Wrong", "fault", "I", true)
def tyX6 : Nat → FieldType := fun k => match k with
  | 0 => .object "java/lang/Throwable"
  | 1 => .array (.object "java/lang/StackTraceElement")
  | 2 => .object "java/util/List"
  | 3 => .object "java/lang/String"
  | 4 => .object "java/lang/Object"
  | 5 => .int
  | _ => .int
abbrev wsX60 : List Cond := u_ws RX6 TX6 7
theorem nmX6 : ∀ a, a < 7 → ∀ b, b < 7 → a ≠ b → (TX6 a).2.1 ≠ (TX6 b).2.1 := by decide +kernel
theorem tyX6_ok : ∀ k, k < 7 → parseFieldDescriptor (TX6 k).2.2.1 = some (tyX6 k) := by decide +kernel
abbrev cX6_init : ByteArray := prog_28_method_1_code
def yX6_init : MethodName := ⟨RX6, "<init>", "(II)V"⟩
def dkwX6_init_0 : List UInt8 := [42, 1, 1, 3, 3, 183, 0, 1, 42, 27, 16, 16, 28, 104, 96, 181, 0, 7, 177]
abbrev dktX6_init_0 : List UInt8 := dkwX6_init_0 ++ []
theorem dksX6_init_0 : cX6_init.data.toList.drop 0 = dktX6_init_0 := by decide +kernel
theorem dX6_init_0 : decode cX6_init 0 = .ok (.aload_n 0, 1) := dk_42 (dk_at dksX6_init_0 0 rfl rfl)
theorem dX6_init_1 : decode cX6_init 1 = .ok (.aconst_null, 1) := dk_1 (dk_at dksX6_init_0 1 rfl rfl)
theorem dX6_init_2 : decode cX6_init 2 = .ok (.aconst_null, 1) := dk_1 (dk_at dksX6_init_0 2 rfl rfl)
theorem dX6_init_3 : decode cX6_init 3 = .ok (.iconst 0, 1) := dk_3 (dk_at dksX6_init_0 3 rfl rfl)
theorem dX6_init_4 : decode cX6_init 4 = .ok (.iconst 0, 1) := dk_3 (dk_at dksX6_init_0 4 rfl rfl)
theorem dX6_init_5 : decode cX6_init 5 = .ok (.invokespecial 1, 3) := dk_183 0 1 (dk_at dksX6_init_0 5 rfl rfl)
theorem dX6_init_8 : decode cX6_init 8 = .ok (.aload_n 0, 1) := dk_42 (dk_at dksX6_init_0 8 rfl rfl)
theorem dX6_init_9 : decode cX6_init 9 = .ok (.iload_n 1, 1) := dk_27 (dk_at dksX6_init_0 9 rfl rfl)
theorem dX6_init_10 : decode cX6_init 10 = .ok (.bipush 16, 2) := dk_16 16 (dk_at dksX6_init_0 10 rfl rfl)
theorem dX6_init_12 : decode cX6_init 12 = .ok (.iload_n 2, 1) := dk_28 (dk_at dksX6_init_0 12 rfl rfl)
theorem dX6_init_13 : decode cX6_init 13 = .ok (.imul, 1) := dk_104 (dk_at dksX6_init_0 13 rfl rfl)
theorem dX6_init_14 : decode cX6_init 14 = .ok (.iadd, 1) := dk_96 (dk_at dksX6_init_0 14 rfl rfl)
theorem dX6_init_15 : decode cX6_init 15 = .ok (.putfield 7, 3) := dk_181 0 7 (dk_at dksX6_init_0 15 rfl rfl)
theorem dX6_init_18 : decode cX6_init 18 = .ok (.return_, 1) := dk_177 (dk_at dksX6_init_0 18 rfl rfl)
theorem q143 : (Jvm.Cond.initialized "BorrowedLives$Wrong") ∈ lw_all := lw_g (lw_at lw_m1 19 rfl) rfl
theorem q607 : (Jvm.Cond.instantiable "BorrowedLives$Wrong" (7 : Nat)) ∈ lw_all := lw_g (lw_at lw_m3 3 rfl) rfl
theorem q608 : (Jvm.Cond.castable "BorrowedLives$Wrong" "BorrowedLives$Wrong") ∈ lw_tbl := lw_at lw_m3 4 rfl
theorem q615 : (Jvm.Cond.selects "BorrowedLives$Wrong" ({ cls := "java/lang/Throwable", name := "fillInStackTrace", desc := "(I)Ljava/lang/Throwable;" } : Jvm.MethodName) ({ cls := "java/lang/Throwable", name := "fillInStackTrace", desc := "(I)Ljava/lang/Throwable;" } : Jvm.MethodName)) ∈ lw_all := lw_g (lw_at lw_m3 11 rfl) rfl
theorem q616 : (Jvm.Cond.selects "BorrowedLives$Wrong" ({ cls := "java/lang/Throwable", name := "fillInStackTrace", desc := "()Ljava/lang/Throwable;" } : Jvm.MethodName) ({ cls := "java/lang/Throwable", name := "fillInStackTrace", desc := "()Ljava/lang/Throwable;" } : Jvm.MethodName)) ∈ lw_all := lw_g (lw_at lw_m3 12 rfl) rfl
theorem q617 : (Jvm.Cond.lays "BorrowedLives$Wrong" "java/lang/Throwable" "cause" "Ljava/lang/Throwable;") ∈ lw_all := lw_g (lw_at lw_m3 13 rfl) rfl
theorem q619 : (Jvm.Cond.lays "BorrowedLives$Wrong" "java/lang/Throwable" "stackTrace" "[Ljava/lang/StackTraceElement;") ∈ lw_all := lw_g (lw_at lw_m3 15 rfl) rfl
theorem q621 : (Jvm.Cond.lays "BorrowedLives$Wrong" "java/lang/Throwable" "suppressedExceptions" "Ljava/util/List;") ∈ lw_all := lw_g (lw_at lw_m3 17 rfl) rfl
theorem q623 : (Jvm.Cond.lays "BorrowedLives$Wrong" "java/lang/Throwable" "detailMessage" "Ljava/lang/String;") ∈ lw_all := lw_g (lw_at lw_m3 19 rfl) rfl
theorem q625 : (Jvm.Cond.lays "BorrowedLives$Wrong" "java/lang/Throwable" "backtrace" "Ljava/lang/Object;") ∈ lw_all := lw_g (lw_at lw_m3 21 rfl) rfl
theorem q647 : (Jvm.Cond.instanceMethod ({ cls := "BorrowedLives$Wrong", name := "<init>", desc := "(II)V" } : Jvm.MethodName)) ∈ lw_all := lw_g (lw_at lw_m3 43 rfl) rfl
theorem q648 : (Jvm.Cond.code ({ cls := "BorrowedLives$Wrong", name := "<init>", desc := "(II)V" } : Jvm.MethodName) prog_28_method_1_code (3 : Nat) (Option.none : Option Jvm.ClassFile.FieldType)) ∈ lw_all := lw_g (lw_at lw_m3 44 rfl) rfl
theorem q649 : (Jvm.Cond.methodLink "BorrowedLives$Wrong" (1 : Nat) ({ cls := "java/lang/RuntimeException", name := "<init>", desc := "(Ljava/lang/String;Ljava/lang/Throwable;ZZ)V" } : Jvm.MethodName)) ∈ lw_all := lw_g (lw_at lw_m3 45 rfl) rfl
theorem q658 : (Jvm.Cond.fieldLink "BorrowedLives$Wrong" (7 : Nat) "BorrowedLives$Wrong" "fault" "I") ∈ lw_all := lw_g (lw_at lw_m3 54 rfl) rfl
theorem q665 : (Jvm.Cond.laysFinal "BorrowedLives$Wrong" "BorrowedLives$Wrong" "fault" "I") ∈ lw_all := lw_g (lw_at lw_m3 61 rfl) rfl
theorem q666 : (Jvm.Cond.soleField "BorrowedLives$Wrong" "fault") ∈ lw_all := lw_g (lw_at lw_m3 62 rfl) rfl
theorem q671 : (Jvm.Cond.lays "BorrowedLives$Wrong" "java/lang/Throwable" "depth" "I") ∈ lw_all := lw_g (lw_at lw_m3 67 rfl) rfl
theorem q674 : (Jvm.Cond.superclass "BorrowedLives$Wrong" "java/lang/RuntimeException") ∈ lw_all := lw_g (lw_at lw_m3 70 rfl) rfl
theorem q1006 : (Jvm.Cond.selects "BorrowedLives$Wrong" ({ cls := "java/lang/Object", name := "getClass", desc := "()Ljava/lang/Class;" } : Jvm.MethodName) ({ cls := "java/lang/Object", name := "getClass", desc := "()Ljava/lang/Class;" } : Jvm.MethodName)) ∈ lw_all := lw_g (lw_at lw_m4 162 rfl) rfl
theorem q2420 : (Jvm.Cond.castable "BorrowedLives$Wrong" "java/lang/Object") ∈ lw_tbl := lw_at lw_m10 136 rfl
theorem in_X6 : ∀ w ∈ wsX60, w ∈ lw_all := lw_in wsX60 [617, 619, 621, 623, 625, 671, 665] (by decide +kernel) (by decide +kernel)
/-! BorrowedLives$Person -/
set_option maxRecDepth 100000
def RX7 : String := "BorrowedLives$Person"
def TX7 : u_T := fun k => match k with
  | 0 => ("BorrowedLives$Person", "name", "Ljava/lang/String;", true)
  | 1 => ("BorrowedLives$Person", "skill", "I", false)
  | 2 => ("BorrowedLives$Person", "purse", "I", false)
  | 3 => ("BorrowedLives$Person", "debt", "I", false)
  | 4 => ("BorrowedLives$Person", "home", "I", false)
  | _ => ("BorrowedLives$Person", "barred", "I", false)
def tyX7 : Nat → FieldType := fun k => match k with
  | 0 => .object "java/lang/String"
  | 1 => .int
  | 2 => .int
  | 3 => .int
  | 4 => .int
  | _ => .int
abbrev wsX70 : List Cond := u_ws RX7 TX7 6
theorem nmX7 : ∀ a, a < 6 → ∀ b, b < 6 → a ≠ b → (TX7 a).2.1 ≠ (TX7 b).2.1 := by decide +kernel
theorem tyX7_ok : ∀ k, k < 6 → parseFieldDescriptor (TX7 k).2.2.1 = some (tyX7 k) := by decide +kernel
abbrev cX7_init : ByteArray := prog_20_method_1_code
def yX7_init : MethodName := ⟨RX7, "<init>", "(Ljava/lang/String;)V"⟩
def dkwX7_init_0 : List UInt8 := [42, 183, 0, 1, 42, 43, 181, 0, 7, 177]
abbrev dktX7_init_0 : List UInt8 := dkwX7_init_0 ++ []
theorem dksX7_init_0 : cX7_init.data.toList.drop 0 = dktX7_init_0 := by decide +kernel
theorem dX7_init_0 : decode cX7_init 0 = .ok (.aload_n 0, 1) := dk_42 (dk_at dksX7_init_0 0 rfl rfl)
theorem dX7_init_1 : decode cX7_init 1 = .ok (.invokespecial 1, 3) := dk_183 0 1 (dk_at dksX7_init_0 1 rfl rfl)
theorem dX7_init_4 : decode cX7_init 4 = .ok (.aload_n 0, 1) := dk_42 (dk_at dksX7_init_0 4 rfl rfl)
theorem dX7_init_5 : decode cX7_init 5 = .ok (.aload_n 1, 1) := dk_43 (dk_at dksX7_init_0 5 rfl rfl)
theorem dX7_init_6 : decode cX7_init 6 = .ok (.putfield 7, 3) := dk_181 0 7 (dk_at dksX7_init_0 6 rfl rfl)
theorem dX7_init_9 : decode cX7_init 9 = .ok (.return_, 1) := dk_177 (dk_at dksX7_init_0 9 rfl rfl)
abbrev cX7_kind : ByteArray := prog_20_method_2_code
def yX7_kind : MethodName := ⟨RX7, "kind", "()I"⟩
theorem dX7_kind_0 : decode cX7_kind 0 = .ok (.iconst 0, 1) := by decide +kernel
theorem dX7_kind_1 : decode cX7_kind 1 = .ok (.ireturn, 1) := by decide +kernel
abbrev cX7_findsHidden : ByteArray := prog_20_method_4_code
def yX7_findsHidden : MethodName := ⟨RX7, "findsHidden", "()Z"⟩
theorem dX7_findsHidden_0 : decode cX7_findsHidden 0 = .ok (.iconst 0, 1) := by decide +kernel
theorem dX7_findsHidden_1 : decode cX7_findsHidden 1 = .ok (.ireturn, 1) := by decide +kernel
abbrev cX7_spends : ByteArray := prog_20_method_3_code
def yX7_spends : MethodName := ⟨RX7, "spends", "(I)I"⟩
theorem dX7_spends_0 : decode cX7_spends 0 = .ok (.iload_n 1, 1) := by decide +kernel
theorem dX7_spends_1 : decode cX7_spends 1 = .ok (.ireturn, 1) := by decide +kernel
abbrev cX7_paysDebts : ByteArray := prog_20_method_5_code
def yX7_paysDebts : MethodName := ⟨RX7, "paysDebts", "()Z"⟩
theorem dX7_paysDebts_0 : decode cX7_paysDebts 0 = .ok (.iconst 0, 1) := by decide +kernel
theorem dX7_paysDebts_1 : decode cX7_paysDebts 1 = .ok (.ireturn, 1) := by decide +kernel
theorem q149 : (Jvm.Cond.initialized "BorrowedLives$Person") ∈ lw_all := lw_g (lw_at lw_m1 25 rfl) rfl
theorem q872 : (Jvm.Cond.instantiable "BorrowedLives$Person" (6 : Nat)) ∈ lw_all := lw_g (lw_at lw_m4 28 rfl) rfl
theorem q874 : (Jvm.Cond.instanceMethod ({ cls := "BorrowedLives$Person", name := "<init>", desc := "(Ljava/lang/String;)V" } : Jvm.MethodName)) ∈ lw_all := lw_g (lw_at lw_m4 30 rfl) rfl
theorem q875 : (Jvm.Cond.code ({ cls := "BorrowedLives$Person", name := "<init>", desc := "(Ljava/lang/String;)V" } : Jvm.MethodName) prog_20_method_1_code (2 : Nat) (Option.none : Option Jvm.ClassFile.FieldType)) ∈ lw_all := lw_g (lw_at lw_m4 31 rfl) rfl
theorem q876 : (Jvm.Cond.methodLink "BorrowedLives$Person" (1 : Nat) ({ cls := "java/lang/Object", name := "<init>", desc := "()V" } : Jvm.MethodName)) ∈ lw_all := lw_g (lw_at lw_m4 32 rfl) rfl
theorem q877 : (Jvm.Cond.fieldLink "BorrowedLives$Person" (7 : Nat) "BorrowedLives$Person" "name" "Ljava/lang/String;") ∈ lw_all := lw_g (lw_at lw_m4 33 rfl) rfl
theorem q889 : (Jvm.Cond.laysFinal "BorrowedLives$Person" "BorrowedLives$Person" "name" "Ljava/lang/String;") ∈ lw_all := lw_g (lw_at lw_m4 45 rfl) rfl
theorem q890 : (Jvm.Cond.soleField "BorrowedLives$Person" "name") ∈ lw_all := lw_g (lw_at lw_m4 46 rfl) rfl
theorem q891 : (Jvm.Cond.lays "BorrowedLives$Person" "BorrowedLives$Person" "skill" "I") ∈ lw_all := lw_g (lw_at lw_m4 47 rfl) rfl
theorem q892 : (Jvm.Cond.soleField "BorrowedLives$Person" "skill") ∈ lw_all := lw_g (lw_at lw_m4 48 rfl) rfl
theorem q893 : (Jvm.Cond.lays "BorrowedLives$Person" "BorrowedLives$Person" "purse" "I") ∈ lw_all := lw_g (lw_at lw_m4 49 rfl) rfl
theorem q894 : (Jvm.Cond.soleField "BorrowedLives$Person" "purse") ∈ lw_all := lw_g (lw_at lw_m4 50 rfl) rfl
theorem q895 : (Jvm.Cond.lays "BorrowedLives$Person" "BorrowedLives$Person" "debt" "I") ∈ lw_all := lw_g (lw_at lw_m4 51 rfl) rfl
theorem q896 : (Jvm.Cond.soleField "BorrowedLives$Person" "debt") ∈ lw_all := lw_g (lw_at lw_m4 52 rfl) rfl
theorem q897 : (Jvm.Cond.lays "BorrowedLives$Person" "BorrowedLives$Person" "home" "I") ∈ lw_all := lw_g (lw_at lw_m4 53 rfl) rfl
theorem q898 : (Jvm.Cond.soleField "BorrowedLives$Person" "home") ∈ lw_all := lw_g (lw_at lw_m4 54 rfl) rfl
theorem q899 : (Jvm.Cond.lays "BorrowedLives$Person" "BorrowedLives$Person" "barred" "I") ∈ lw_all := lw_g (lw_at lw_m4 55 rfl) rfl
theorem q900 : (Jvm.Cond.soleField "BorrowedLives$Person" "barred") ∈ lw_all := lw_g (lw_at lw_m4 56 rfl) rfl
theorem q901 : (Jvm.Cond.superclass "BorrowedLives$Person" "java/lang/Object") ∈ lw_all := lw_g (lw_at lw_m4 57 rfl) rfl
theorem q998 : (Jvm.Cond.selects "BorrowedLives$Person" ({ cls := "java/lang/Object", name := "getClass", desc := "()Ljava/lang/Class;" } : Jvm.MethodName) ({ cls := "java/lang/Object", name := "getClass", desc := "()Ljava/lang/Class;" } : Jvm.MethodName)) ∈ lw_all := lw_g (lw_at lw_m4 154 rfl) rfl
theorem q1207 : (Jvm.Cond.instanceMethod ({ cls := "BorrowedLives$Person", name := "kind", desc := "()I" } : Jvm.MethodName)) ∈ lw_all := lw_g (lw_at lw_m5 123 rfl) rfl
theorem q1208 : (Jvm.Cond.selects "BorrowedLives$Person" ({ cls := "BorrowedLives$Person", name := "kind", desc := "()I" } : Jvm.MethodName) ({ cls := "BorrowedLives$Person", name := "kind", desc := "()I" } : Jvm.MethodName)) ∈ lw_all := lw_g (lw_at lw_m5 124 rfl) rfl
theorem q1209 : (Jvm.Cond.sameMethod "BorrowedLives$Person" "BorrowedLives$Person" "kind" "()I") ∈ lw_all := lw_g (lw_at lw_m5 125 rfl) rfl
theorem q1219 : (Jvm.Cond.code ({ cls := "BorrowedLives$Person", name := "kind", desc := "()I" } : Jvm.MethodName) prog_20_method_2_code (1 : Nat) (Option.some Jvm.ClassFile.FieldType.int)) ∈ lw_all := lw_g (lw_at lw_m5 135 rfl) rfl
theorem q1330 : (Jvm.Cond.instanceMethod ({ cls := "BorrowedLives$Person", name := "findsHidden", desc := "()Z" } : Jvm.MethodName)) ∈ lw_all := lw_g (lw_at lw_m6 6 rfl) rfl
theorem q1331 : (Jvm.Cond.selects "BorrowedLives$Person" ({ cls := "BorrowedLives$Person", name := "findsHidden", desc := "()Z" } : Jvm.MethodName) ({ cls := "BorrowedLives$Person", name := "findsHidden", desc := "()Z" } : Jvm.MethodName)) ∈ lw_all := lw_g (lw_at lw_m6 7 rfl) rfl
theorem q1332 : (Jvm.Cond.sameMethod "BorrowedLives$Person" "BorrowedLives$Person" "findsHidden" "()Z") ∈ lw_all := lw_g (lw_at lw_m6 8 rfl) rfl
theorem q1338 : (Jvm.Cond.code ({ cls := "BorrowedLives$Person", name := "findsHidden", desc := "()Z" } : Jvm.MethodName) prog_20_method_4_code (1 : Nat) (Option.some Jvm.ClassFile.FieldType.boolean)) ∈ lw_all := lw_g (lw_at lw_m6 14 rfl) rfl
theorem q1366 : (Jvm.Cond.instanceMethod ({ cls := "BorrowedLives$Person", name := "spends", desc := "(I)I" } : Jvm.MethodName)) ∈ lw_all := lw_g (lw_at lw_m6 42 rfl) rfl
theorem q1367 : (Jvm.Cond.selects "BorrowedLives$Person" ({ cls := "BorrowedLives$Person", name := "spends", desc := "(I)I" } : Jvm.MethodName) ({ cls := "BorrowedLives$Person", name := "spends", desc := "(I)I" } : Jvm.MethodName)) ∈ lw_all := lw_g (lw_at lw_m6 43 rfl) rfl
theorem q1368 : (Jvm.Cond.sameMethod "BorrowedLives$Person" "BorrowedLives$Person" "spends" "(I)I") ∈ lw_all := lw_g (lw_at lw_m6 44 rfl) rfl
theorem q1374 : (Jvm.Cond.code ({ cls := "BorrowedLives$Person", name := "spends", desc := "(I)I" } : Jvm.MethodName) prog_20_method_3_code (2 : Nat) (Option.some Jvm.ClassFile.FieldType.int)) ∈ lw_all := lw_g (lw_at lw_m6 50 rfl) rfl
theorem q1381 : (Jvm.Cond.instanceMethod ({ cls := "BorrowedLives$Person", name := "paysDebts", desc := "()Z" } : Jvm.MethodName)) ∈ lw_all := lw_g (lw_at lw_m6 57 rfl) rfl
theorem q1382 : (Jvm.Cond.selects "BorrowedLives$Person" ({ cls := "BorrowedLives$Person", name := "paysDebts", desc := "()Z" } : Jvm.MethodName) ({ cls := "BorrowedLives$Person", name := "paysDebts", desc := "()Z" } : Jvm.MethodName)) ∈ lw_all := lw_g (lw_at lw_m6 58 rfl) rfl
theorem q1383 : (Jvm.Cond.sameMethod "BorrowedLives$Person" "BorrowedLives$Person" "paysDebts" "()Z") ∈ lw_all := lw_g (lw_at lw_m6 59 rfl) rfl
theorem q1389 : (Jvm.Cond.code ({ cls := "BorrowedLives$Person", name := "paysDebts", desc := "()Z" } : Jvm.MethodName) prog_20_method_5_code (1 : Nat) (Option.some Jvm.ClassFile.FieldType.boolean)) ∈ lw_all := lw_g (lw_at lw_m6 65 rfl) rfl
theorem q2423 : (Jvm.Cond.castable "BorrowedLives$Person" "java/lang/Object") ∈ lw_tbl := lw_at lw_m10 139 rfl
theorem in_X7 : ∀ w ∈ wsX70, w ∈ lw_all := lw_in wsX70 [889, 891, 893, 895, 897, 899] (by decide +kernel) (by decide +kernel)
/-! BorrowedLives$Miser -/
set_option maxRecDepth 100000
def RX8 : String := "BorrowedLives$Miser"
def TX8 : u_T := fun k => match k with
  | 0 => ("BorrowedLives$Person", "name", "Ljava/lang/String;", true)
  | 1 => ("BorrowedLives$Person", "skill", "I", false)
  | 2 => ("BorrowedLives$Person", "purse", "I", false)
  | 3 => ("BorrowedLives$Person", "debt", "I", false)
  | 4 => ("BorrowedLives$Person", "home", "I", false)
  | _ => ("BorrowedLives$Person", "barred", "I", false)
def tyX8 : Nat → FieldType := fun k => match k with
  | 0 => .object "java/lang/String"
  | 1 => .int
  | 2 => .int
  | 3 => .int
  | 4 => .int
  | _ => .int
abbrev wsX80 : List Cond := u_ws RX8 TX8 6
theorem nmX8 : ∀ a, a < 6 → ∀ b, b < 6 → a ≠ b → (TX8 a).2.1 ≠ (TX8 b).2.1 := by decide +kernel
theorem tyX8_ok : ∀ k, k < 6 → parseFieldDescriptor (TX8 k).2.2.1 = some (tyX8 k) := by decide +kernel
abbrev cX8_init : ByteArray := prog_17_method_1_code
def yX8_init : MethodName := ⟨RX8, "<init>", "(Ljava/lang/String;)V"⟩
def dkwX8_init_0 : List UInt8 := [42, 43, 183, 0, 1, 177]
abbrev dktX8_init_0 : List UInt8 := dkwX8_init_0 ++ []
theorem dksX8_init_0 : cX8_init.data.toList.drop 0 = dktX8_init_0 := by decide +kernel
theorem dX8_init_0 : decode cX8_init 0 = .ok (.aload_n 0, 1) := dk_42 (dk_at dksX8_init_0 0 rfl rfl)
theorem dX8_init_1 : decode cX8_init 1 = .ok (.aload_n 1, 1) := dk_43 (dk_at dksX8_init_0 1 rfl rfl)
theorem dX8_init_2 : decode cX8_init 2 = .ok (.invokespecial 1, 3) := dk_183 0 1 (dk_at dksX8_init_0 2 rfl rfl)
theorem dX8_init_5 : decode cX8_init 5 = .ok (.return_, 1) := dk_177 (dk_at dksX8_init_0 5 rfl rfl)
abbrev cX8_kind : ByteArray := prog_17_method_2_code
def yX8_kind : MethodName := ⟨RX8, "kind", "()I"⟩
theorem dX8_kind_0 : decode cX8_kind 0 = .ok (.iconst 1, 1) := by decide +kernel
theorem dX8_kind_1 : decode cX8_kind 1 = .ok (.ireturn, 1) := by decide +kernel
abbrev cX8_spends : ByteArray := prog_17_method_3_code
def yX8_spends : MethodName := ⟨RX8, "spends", "(I)I"⟩
def dkwX8_spends_0 : List UInt8 := [27, 5, 108, 172]
abbrev dktX8_spends_0 : List UInt8 := dkwX8_spends_0 ++ []
theorem dksX8_spends_0 : cX8_spends.data.toList.drop 0 = dktX8_spends_0 := by decide +kernel
theorem dX8_spends_0 : decode cX8_spends 0 = .ok (.iload_n 1, 1) := dk_27 (dk_at dksX8_spends_0 0 rfl rfl)
theorem dX8_spends_1 : decode cX8_spends 1 = .ok (.iconst 2, 1) := dk_5 (dk_at dksX8_spends_0 1 rfl rfl)
theorem dX8_spends_2 : decode cX8_spends 2 = .ok (.idiv, 1) := dk_108 (dk_at dksX8_spends_0 2 rfl rfl)
theorem dX8_spends_3 : decode cX8_spends 3 = .ok (.ireturn, 1) := dk_172 (dk_at dksX8_spends_0 3 rfl rfl)
theorem q150 : (Jvm.Cond.initialized "BorrowedLives$Miser") ∈ lw_all := lw_g (lw_at lw_m1 26 rfl) rfl
theorem q903 : (Jvm.Cond.instantiable "BorrowedLives$Miser" (6 : Nat)) ∈ lw_all := lw_g (lw_at lw_m4 59 rfl) rfl
theorem q905 : (Jvm.Cond.instanceMethod ({ cls := "BorrowedLives$Miser", name := "<init>", desc := "(Ljava/lang/String;)V" } : Jvm.MethodName)) ∈ lw_all := lw_g (lw_at lw_m4 61 rfl) rfl
theorem q906 : (Jvm.Cond.code ({ cls := "BorrowedLives$Miser", name := "<init>", desc := "(Ljava/lang/String;)V" } : Jvm.MethodName) prog_17_method_1_code (2 : Nat) (Option.none : Option Jvm.ClassFile.FieldType)) ∈ lw_all := lw_g (lw_at lw_m4 62 rfl) rfl
theorem q907 : (Jvm.Cond.methodLink "BorrowedLives$Miser" (1 : Nat) ({ cls := "BorrowedLives$Person", name := "<init>", desc := "(Ljava/lang/String;)V" } : Jvm.MethodName)) ∈ lw_all := lw_g (lw_at lw_m4 63 rfl) rfl
theorem q908 : (Jvm.Cond.laysFinal "BorrowedLives$Miser" "BorrowedLives$Person" "name" "Ljava/lang/String;") ∈ lw_all := lw_g (lw_at lw_m4 64 rfl) rfl
theorem q909 : (Jvm.Cond.lays "BorrowedLives$Miser" "BorrowedLives$Person" "skill" "I") ∈ lw_all := lw_g (lw_at lw_m4 65 rfl) rfl
theorem q910 : (Jvm.Cond.lays "BorrowedLives$Miser" "BorrowedLives$Person" "purse" "I") ∈ lw_all := lw_g (lw_at lw_m4 66 rfl) rfl
theorem q911 : (Jvm.Cond.lays "BorrowedLives$Miser" "BorrowedLives$Person" "debt" "I") ∈ lw_all := lw_g (lw_at lw_m4 67 rfl) rfl
theorem q912 : (Jvm.Cond.lays "BorrowedLives$Miser" "BorrowedLives$Person" "home" "I") ∈ lw_all := lw_g (lw_at lw_m4 68 rfl) rfl
theorem q913 : (Jvm.Cond.lays "BorrowedLives$Miser" "BorrowedLives$Person" "barred" "I") ∈ lw_all := lw_g (lw_at lw_m4 69 rfl) rfl
theorem q914 : (Jvm.Cond.superclass "BorrowedLives$Miser" "BorrowedLives$Person") ∈ lw_all := lw_g (lw_at lw_m4 70 rfl) rfl
theorem q995 : (Jvm.Cond.selects "BorrowedLives$Miser" ({ cls := "java/lang/Object", name := "getClass", desc := "()Ljava/lang/Class;" } : Jvm.MethodName) ({ cls := "java/lang/Object", name := "getClass", desc := "()Ljava/lang/Class;" } : Jvm.MethodName)) ∈ lw_all := lw_g (lw_at lw_m4 151 rfl) rfl
theorem q1213 : (Jvm.Cond.selects "BorrowedLives$Miser" ({ cls := "BorrowedLives$Person", name := "kind", desc := "()I" } : Jvm.MethodName) ({ cls := "BorrowedLives$Miser", name := "kind", desc := "()I" } : Jvm.MethodName)) ∈ lw_all := lw_g (lw_at lw_m5 129 rfl) rfl
theorem q1214 : (Jvm.Cond.instanceMethod ({ cls := "BorrowedLives$Miser", name := "kind", desc := "()I" } : Jvm.MethodName)) ∈ lw_all := lw_g (lw_at lw_m5 130 rfl) rfl
theorem q1215 : (Jvm.Cond.code ({ cls := "BorrowedLives$Miser", name := "kind", desc := "()I" } : Jvm.MethodName) prog_17_method_2_code (1 : Nat) (Option.some Jvm.ClassFile.FieldType.int)) ∈ lw_all := lw_g (lw_at lw_m5 131 rfl) rfl
theorem q1334 : (Jvm.Cond.selects "BorrowedLives$Miser" ({ cls := "BorrowedLives$Person", name := "findsHidden", desc := "()Z" } : Jvm.MethodName) ({ cls := "BorrowedLives$Person", name := "findsHidden", desc := "()Z" } : Jvm.MethodName)) ∈ lw_all := lw_g (lw_at lw_m6 10 rfl) rfl
theorem q1370 : (Jvm.Cond.selects "BorrowedLives$Miser" ({ cls := "BorrowedLives$Person", name := "spends", desc := "(I)I" } : Jvm.MethodName) ({ cls := "BorrowedLives$Miser", name := "spends", desc := "(I)I" } : Jvm.MethodName)) ∈ lw_all := lw_g (lw_at lw_m6 46 rfl) rfl
theorem q1371 : (Jvm.Cond.instanceMethod ({ cls := "BorrowedLives$Miser", name := "spends", desc := "(I)I" } : Jvm.MethodName)) ∈ lw_all := lw_g (lw_at lw_m6 47 rfl) rfl
theorem q1372 : (Jvm.Cond.code ({ cls := "BorrowedLives$Miser", name := "spends", desc := "(I)I" } : Jvm.MethodName) prog_17_method_3_code (2 : Nat) (Option.some Jvm.ClassFile.FieldType.int)) ∈ lw_all := lw_g (lw_at lw_m6 48 rfl) rfl
theorem q1387 : (Jvm.Cond.selects "BorrowedLives$Miser" ({ cls := "BorrowedLives$Person", name := "paysDebts", desc := "()Z" } : Jvm.MethodName) ({ cls := "BorrowedLives$Person", name := "paysDebts", desc := "()Z" } : Jvm.MethodName)) ∈ lw_all := lw_g (lw_at lw_m6 63 rfl) rfl
theorem q2406 : (Jvm.Cond.castable "BorrowedLives$Miser" "BorrowedLives$Person") ∈ lw_tbl := lw_at lw_m10 122 rfl
theorem q2424 : (Jvm.Cond.castable "BorrowedLives$Miser" "java/lang/Object") ∈ lw_tbl := lw_at lw_m10 140 rfl
theorem in_X8 : ∀ w ∈ wsX80, w ∈ lw_all := lw_in wsX80 [908, 909, 910, 911, 912, 913] (by decide +kernel) (by decide +kernel)
/-! BorrowedLives$Thief -/
set_option maxRecDepth 100000
def RX9 : String := "BorrowedLives$Thief"
def TX9 : u_T := fun k => match k with
  | 0 => ("BorrowedLives$Person", "name", "Ljava/lang/String;", true)
  | 1 => ("BorrowedLives$Person", "skill", "I", false)
  | 2 => ("BorrowedLives$Person", "purse", "I", false)
  | 3 => ("BorrowedLives$Person", "debt", "I", false)
  | 4 => ("BorrowedLives$Person", "home", "I", false)
  | _ => ("BorrowedLives$Person", "barred", "I", false)
def tyX9 : Nat → FieldType := fun k => match k with
  | 0 => .object "java/lang/String"
  | 1 => .int
  | 2 => .int
  | 3 => .int
  | 4 => .int
  | _ => .int
abbrev wsX90 : List Cond := u_ws RX9 TX9 6
theorem nmX9 : ∀ a, a < 6 → ∀ b, b < 6 → a ≠ b → (TX9 a).2.1 ≠ (TX9 b).2.1 := by decide +kernel
theorem tyX9_ok : ∀ k, k < 6 → parseFieldDescriptor (TX9 k).2.2.1 = some (tyX9 k) := by decide +kernel
abbrev cX9_init : ByteArray := prog_25_method_1_code
def yX9_init : MethodName := ⟨RX9, "<init>", "(Ljava/lang/String;)V"⟩
def dkwX9_init_0 : List UInt8 := [42, 43, 183, 0, 1, 177]
abbrev dktX9_init_0 : List UInt8 := dkwX9_init_0 ++ []
theorem dksX9_init_0 : cX9_init.data.toList.drop 0 = dktX9_init_0 := by decide +kernel
theorem dX9_init_0 : decode cX9_init 0 = .ok (.aload_n 0, 1) := dk_42 (dk_at dksX9_init_0 0 rfl rfl)
theorem dX9_init_1 : decode cX9_init 1 = .ok (.aload_n 1, 1) := dk_43 (dk_at dksX9_init_0 1 rfl rfl)
theorem dX9_init_2 : decode cX9_init 2 = .ok (.invokespecial 1, 3) := dk_183 0 1 (dk_at dksX9_init_0 2 rfl rfl)
theorem dX9_init_5 : decode cX9_init 5 = .ok (.return_, 1) := dk_177 (dk_at dksX9_init_0 5 rfl rfl)
abbrev cX9_kind : ByteArray := prog_25_method_2_code
def yX9_kind : MethodName := ⟨RX9, "kind", "()I"⟩
theorem dX9_kind_0 : decode cX9_kind 0 = .ok (.iconst 2, 1) := by decide +kernel
theorem dX9_kind_1 : decode cX9_kind 1 = .ok (.ireturn, 1) := by decide +kernel
abbrev cX9_findsHidden : ByteArray := prog_25_method_3_code
def yX9_findsHidden : MethodName := ⟨RX9, "findsHidden", "()Z"⟩
theorem dX9_findsHidden_0 : decode cX9_findsHidden 0 = .ok (.iconst 1, 1) := by decide +kernel
theorem dX9_findsHidden_1 : decode cX9_findsHidden 1 = .ok (.ireturn, 1) := by decide +kernel
theorem q151 : (Jvm.Cond.initialized "BorrowedLives$Thief") ∈ lw_all := lw_g (lw_at lw_m1 27 rfl) rfl
theorem q916 : (Jvm.Cond.instantiable "BorrowedLives$Thief" (6 : Nat)) ∈ lw_all := lw_g (lw_at lw_m4 72 rfl) rfl
theorem q918 : (Jvm.Cond.instanceMethod ({ cls := "BorrowedLives$Thief", name := "<init>", desc := "(Ljava/lang/String;)V" } : Jvm.MethodName)) ∈ lw_all := lw_g (lw_at lw_m4 74 rfl) rfl
theorem q919 : (Jvm.Cond.code ({ cls := "BorrowedLives$Thief", name := "<init>", desc := "(Ljava/lang/String;)V" } : Jvm.MethodName) prog_25_method_1_code (2 : Nat) (Option.none : Option Jvm.ClassFile.FieldType)) ∈ lw_all := lw_g (lw_at lw_m4 75 rfl) rfl
theorem q920 : (Jvm.Cond.methodLink "BorrowedLives$Thief" (1 : Nat) ({ cls := "BorrowedLives$Person", name := "<init>", desc := "(Ljava/lang/String;)V" } : Jvm.MethodName)) ∈ lw_all := lw_g (lw_at lw_m4 76 rfl) rfl
theorem q921 : (Jvm.Cond.laysFinal "BorrowedLives$Thief" "BorrowedLives$Person" "name" "Ljava/lang/String;") ∈ lw_all := lw_g (lw_at lw_m4 77 rfl) rfl
theorem q922 : (Jvm.Cond.lays "BorrowedLives$Thief" "BorrowedLives$Person" "skill" "I") ∈ lw_all := lw_g (lw_at lw_m4 78 rfl) rfl
theorem q923 : (Jvm.Cond.lays "BorrowedLives$Thief" "BorrowedLives$Person" "purse" "I") ∈ lw_all := lw_g (lw_at lw_m4 79 rfl) rfl
theorem q924 : (Jvm.Cond.lays "BorrowedLives$Thief" "BorrowedLives$Person" "debt" "I") ∈ lw_all := lw_g (lw_at lw_m4 80 rfl) rfl
theorem q925 : (Jvm.Cond.lays "BorrowedLives$Thief" "BorrowedLives$Person" "home" "I") ∈ lw_all := lw_g (lw_at lw_m4 81 rfl) rfl
theorem q926 : (Jvm.Cond.lays "BorrowedLives$Thief" "BorrowedLives$Person" "barred" "I") ∈ lw_all := lw_g (lw_at lw_m4 82 rfl) rfl
theorem q927 : (Jvm.Cond.superclass "BorrowedLives$Thief" "BorrowedLives$Person") ∈ lw_all := lw_g (lw_at lw_m4 83 rfl) rfl
theorem q1003 : (Jvm.Cond.selects "BorrowedLives$Thief" ({ cls := "java/lang/Object", name := "getClass", desc := "()Ljava/lang/Class;" } : Jvm.MethodName) ({ cls := "java/lang/Object", name := "getClass", desc := "()Ljava/lang/Class;" } : Jvm.MethodName)) ∈ lw_all := lw_g (lw_at lw_m4 159 rfl) rfl
theorem q1216 : (Jvm.Cond.selects "BorrowedLives$Thief" ({ cls := "BorrowedLives$Person", name := "kind", desc := "()I" } : Jvm.MethodName) ({ cls := "BorrowedLives$Thief", name := "kind", desc := "()I" } : Jvm.MethodName)) ∈ lw_all := lw_g (lw_at lw_m5 132 rfl) rfl
theorem q1217 : (Jvm.Cond.instanceMethod ({ cls := "BorrowedLives$Thief", name := "kind", desc := "()I" } : Jvm.MethodName)) ∈ lw_all := lw_g (lw_at lw_m5 133 rfl) rfl
theorem q1218 : (Jvm.Cond.code ({ cls := "BorrowedLives$Thief", name := "kind", desc := "()I" } : Jvm.MethodName) prog_25_method_2_code (1 : Nat) (Option.some Jvm.ClassFile.FieldType.int)) ∈ lw_all := lw_g (lw_at lw_m5 134 rfl) rfl
theorem q1335 : (Jvm.Cond.selects "BorrowedLives$Thief" ({ cls := "BorrowedLives$Person", name := "findsHidden", desc := "()Z" } : Jvm.MethodName) ({ cls := "BorrowedLives$Thief", name := "findsHidden", desc := "()Z" } : Jvm.MethodName)) ∈ lw_all := lw_g (lw_at lw_m6 11 rfl) rfl
theorem q1336 : (Jvm.Cond.instanceMethod ({ cls := "BorrowedLives$Thief", name := "findsHidden", desc := "()Z" } : Jvm.MethodName)) ∈ lw_all := lw_g (lw_at lw_m6 12 rfl) rfl
theorem q1337 : (Jvm.Cond.code ({ cls := "BorrowedLives$Thief", name := "findsHidden", desc := "()Z" } : Jvm.MethodName) prog_25_method_3_code (1 : Nat) (Option.some Jvm.ClassFile.FieldType.boolean)) ∈ lw_all := lw_g (lw_at lw_m6 13 rfl) rfl
theorem q1373 : (Jvm.Cond.selects "BorrowedLives$Thief" ({ cls := "BorrowedLives$Person", name := "spends", desc := "(I)I" } : Jvm.MethodName) ({ cls := "BorrowedLives$Person", name := "spends", desc := "(I)I" } : Jvm.MethodName)) ∈ lw_all := lw_g (lw_at lw_m6 49 rfl) rfl
theorem q1388 : (Jvm.Cond.selects "BorrowedLives$Thief" ({ cls := "BorrowedLives$Person", name := "paysDebts", desc := "()Z" } : Jvm.MethodName) ({ cls := "BorrowedLives$Person", name := "paysDebts", desc := "()Z" } : Jvm.MethodName)) ∈ lw_all := lw_g (lw_at lw_m6 64 rfl) rfl
theorem q2407 : (Jvm.Cond.castable "BorrowedLives$Thief" "BorrowedLives$Person") ∈ lw_tbl := lw_at lw_m10 123 rfl
theorem q2425 : (Jvm.Cond.castable "BorrowedLives$Thief" "java/lang/Object") ∈ lw_tbl := lw_at lw_m10 141 rfl
theorem in_X9 : ∀ w ∈ wsX90, w ∈ lw_all := lw_in wsX90 [921, 922, 923, 924, 925, 926] (by decide +kernel) (by decide +kernel)
/-! BorrowedLives$Mayor -/
set_option maxRecDepth 100000
def RX10 : String := "BorrowedLives$Mayor"
def TX10 : u_T := fun k => match k with
  | 0 => ("BorrowedLives$Person", "name", "Ljava/lang/String;", true)
  | 1 => ("BorrowedLives$Person", "skill", "I", false)
  | 2 => ("BorrowedLives$Person", "purse", "I", false)
  | 3 => ("BorrowedLives$Person", "debt", "I", false)
  | 4 => ("BorrowedLives$Person", "home", "I", false)
  | _ => ("BorrowedLives$Person", "barred", "I", false)
def tyX10 : Nat → FieldType := fun k => match k with
  | 0 => .object "java/lang/String"
  | 1 => .int
  | 2 => .int
  | 3 => .int
  | 4 => .int
  | _ => .int
abbrev wsX100 : List Cond := u_ws RX10 TX10 6
theorem nmX10 : ∀ a, a < 6 → ∀ b, b < 6 → a ≠ b → (TX10 a).2.1 ≠ (TX10 b).2.1 := by decide +kernel
theorem tyX10_ok : ∀ k, k < 6 → parseFieldDescriptor (TX10 k).2.2.1 = some (tyX10 k) := by decide +kernel
abbrev cX10_init : ByteArray := prog_16_method_1_code
def yX10_init : MethodName := ⟨RX10, "<init>", "(Ljava/lang/String;)V"⟩
def dkwX10_init_0 : List UInt8 := [42, 43, 183, 0, 1, 177]
abbrev dktX10_init_0 : List UInt8 := dkwX10_init_0 ++ []
theorem dksX10_init_0 : cX10_init.data.toList.drop 0 = dktX10_init_0 := by decide +kernel
theorem dX10_init_0 : decode cX10_init 0 = .ok (.aload_n 0, 1) := dk_42 (dk_at dksX10_init_0 0 rfl rfl)
theorem dX10_init_1 : decode cX10_init 1 = .ok (.aload_n 1, 1) := dk_43 (dk_at dksX10_init_0 1 rfl rfl)
theorem dX10_init_2 : decode cX10_init 2 = .ok (.invokespecial 1, 3) := dk_183 0 1 (dk_at dksX10_init_0 2 rfl rfl)
theorem dX10_init_5 : decode cX10_init 5 = .ok (.return_, 1) := dk_177 (dk_at dksX10_init_0 5 rfl rfl)
abbrev cX10_kind : ByteArray := prog_16_method_2_code
def yX10_kind : MethodName := ⟨RX10, "kind", "()I"⟩
theorem dX10_kind_0 : decode cX10_kind 0 = .ok (.iconst 3, 1) := by decide +kernel
theorem dX10_kind_1 : decode cX10_kind 1 = .ok (.ireturn, 1) := by decide +kernel
abbrev cX10_paysDebts : ByteArray := prog_16_method_3_code
def yX10_paysDebts : MethodName := ⟨RX10, "paysDebts", "()Z"⟩
theorem dX10_paysDebts_0 : decode cX10_paysDebts 0 = .ok (.iconst 1, 1) := by decide +kernel
theorem dX10_paysDebts_1 : decode cX10_paysDebts 1 = .ok (.ireturn, 1) := by decide +kernel
theorem q152 : (Jvm.Cond.initialized "BorrowedLives$Mayor") ∈ lw_all := lw_g (lw_at lw_m1 28 rfl) rfl
theorem q929 : (Jvm.Cond.instantiable "BorrowedLives$Mayor" (6 : Nat)) ∈ lw_all := lw_g (lw_at lw_m4 85 rfl) rfl
theorem q931 : (Jvm.Cond.instanceMethod ({ cls := "BorrowedLives$Mayor", name := "<init>", desc := "(Ljava/lang/String;)V" } : Jvm.MethodName)) ∈ lw_all := lw_g (lw_at lw_m4 87 rfl) rfl
theorem q932 : (Jvm.Cond.code ({ cls := "BorrowedLives$Mayor", name := "<init>", desc := "(Ljava/lang/String;)V" } : Jvm.MethodName) prog_16_method_1_code (2 : Nat) (Option.none : Option Jvm.ClassFile.FieldType)) ∈ lw_all := lw_g (lw_at lw_m4 88 rfl) rfl
theorem q933 : (Jvm.Cond.methodLink "BorrowedLives$Mayor" (1 : Nat) ({ cls := "BorrowedLives$Person", name := "<init>", desc := "(Ljava/lang/String;)V" } : Jvm.MethodName)) ∈ lw_all := lw_g (lw_at lw_m4 89 rfl) rfl
theorem q934 : (Jvm.Cond.laysFinal "BorrowedLives$Mayor" "BorrowedLives$Person" "name" "Ljava/lang/String;") ∈ lw_all := lw_g (lw_at lw_m4 90 rfl) rfl
theorem q935 : (Jvm.Cond.lays "BorrowedLives$Mayor" "BorrowedLives$Person" "skill" "I") ∈ lw_all := lw_g (lw_at lw_m4 91 rfl) rfl
theorem q936 : (Jvm.Cond.lays "BorrowedLives$Mayor" "BorrowedLives$Person" "purse" "I") ∈ lw_all := lw_g (lw_at lw_m4 92 rfl) rfl
theorem q937 : (Jvm.Cond.lays "BorrowedLives$Mayor" "BorrowedLives$Person" "debt" "I") ∈ lw_all := lw_g (lw_at lw_m4 93 rfl) rfl
theorem q938 : (Jvm.Cond.lays "BorrowedLives$Mayor" "BorrowedLives$Person" "home" "I") ∈ lw_all := lw_g (lw_at lw_m4 94 rfl) rfl
theorem q939 : (Jvm.Cond.lays "BorrowedLives$Mayor" "BorrowedLives$Person" "barred" "I") ∈ lw_all := lw_g (lw_at lw_m4 95 rfl) rfl
theorem q940 : (Jvm.Cond.superclass "BorrowedLives$Mayor" "BorrowedLives$Person") ∈ lw_all := lw_g (lw_at lw_m4 96 rfl) rfl
theorem q994 : (Jvm.Cond.selects "BorrowedLives$Mayor" ({ cls := "java/lang/Object", name := "getClass", desc := "()Ljava/lang/Class;" } : Jvm.MethodName) ({ cls := "java/lang/Object", name := "getClass", desc := "()Ljava/lang/Class;" } : Jvm.MethodName)) ∈ lw_all := lw_g (lw_at lw_m4 150 rfl) rfl
theorem q1210 : (Jvm.Cond.selects "BorrowedLives$Mayor" ({ cls := "BorrowedLives$Person", name := "kind", desc := "()I" } : Jvm.MethodName) ({ cls := "BorrowedLives$Mayor", name := "kind", desc := "()I" } : Jvm.MethodName)) ∈ lw_all := lw_g (lw_at lw_m5 126 rfl) rfl
theorem q1211 : (Jvm.Cond.instanceMethod ({ cls := "BorrowedLives$Mayor", name := "kind", desc := "()I" } : Jvm.MethodName)) ∈ lw_all := lw_g (lw_at lw_m5 127 rfl) rfl
theorem q1212 : (Jvm.Cond.code ({ cls := "BorrowedLives$Mayor", name := "kind", desc := "()I" } : Jvm.MethodName) prog_16_method_2_code (1 : Nat) (Option.some Jvm.ClassFile.FieldType.int)) ∈ lw_all := lw_g (lw_at lw_m5 128 rfl) rfl
theorem q1333 : (Jvm.Cond.selects "BorrowedLives$Mayor" ({ cls := "BorrowedLives$Person", name := "findsHidden", desc := "()Z" } : Jvm.MethodName) ({ cls := "BorrowedLives$Person", name := "findsHidden", desc := "()Z" } : Jvm.MethodName)) ∈ lw_all := lw_g (lw_at lw_m6 9 rfl) rfl
theorem q1369 : (Jvm.Cond.selects "BorrowedLives$Mayor" ({ cls := "BorrowedLives$Person", name := "spends", desc := "(I)I" } : Jvm.MethodName) ({ cls := "BorrowedLives$Person", name := "spends", desc := "(I)I" } : Jvm.MethodName)) ∈ lw_all := lw_g (lw_at lw_m6 45 rfl) rfl
theorem q1384 : (Jvm.Cond.selects "BorrowedLives$Mayor" ({ cls := "BorrowedLives$Person", name := "paysDebts", desc := "()Z" } : Jvm.MethodName) ({ cls := "BorrowedLives$Mayor", name := "paysDebts", desc := "()Z" } : Jvm.MethodName)) ∈ lw_all := lw_g (lw_at lw_m6 60 rfl) rfl
theorem q1385 : (Jvm.Cond.instanceMethod ({ cls := "BorrowedLives$Mayor", name := "paysDebts", desc := "()Z" } : Jvm.MethodName)) ∈ lw_all := lw_g (lw_at lw_m6 61 rfl) rfl
theorem q1386 : (Jvm.Cond.code ({ cls := "BorrowedLives$Mayor", name := "paysDebts", desc := "()Z" } : Jvm.MethodName) prog_16_method_3_code (1 : Nat) (Option.some Jvm.ClassFile.FieldType.boolean)) ∈ lw_all := lw_g (lw_at lw_m6 62 rfl) rfl
theorem q2405 : (Jvm.Cond.castable "BorrowedLives$Mayor" "BorrowedLives$Person") ∈ lw_tbl := lw_at lw_m10 121 rfl
theorem q2426 : (Jvm.Cond.castable "BorrowedLives$Mayor" "java/lang/Object") ∈ lw_tbl := lw_at lw_m10 142 rfl
theorem in_X10 : ∀ w ∈ wsX100, w ∈ lw_all := lw_in wsX100 [934, 935, 936, 937, 938, 939] (by decide +kernel) (by decide +kernel)
/-! BorrowedLives$Expression -/
set_option maxRecDepth 100000
def RX11 : String := "BorrowedLives$Expression"
abbrev cX11_init : ByteArray := prog_5_method_1_code
def yX11_init : MethodName := ⟨RX11, "<init>", "()V"⟩
theorem dX11_init_0 : decode cX11_init 0 = .ok (.aload_n 0, 1) := by decide +kernel
theorem dX11_init_1 : decode cX11_init 1 = .ok (.invokespecial 1, 3) := by decide +kernel
theorem dX11_init_4 : decode cX11_init 4 = .ok (.return_, 1) := by decide +kernel
theorem q153 : (Jvm.Cond.initialized "BorrowedLives$Expression") ∈ lw_all := lw_g (lw_at lw_m1 29 rfl) rfl
theorem q1063 : (Jvm.Cond.instanceMethod ({ cls := "BorrowedLives$Expression", name := "<init>", desc := "()V" } : Jvm.MethodName)) ∈ lw_all := lw_g (lw_at lw_m4 219 rfl) rfl
theorem q1064 : (Jvm.Cond.code ({ cls := "BorrowedLives$Expression", name := "<init>", desc := "()V" } : Jvm.MethodName) prog_5_method_1_code (1 : Nat) (Option.none : Option Jvm.ClassFile.FieldType)) ∈ lw_all := lw_g (lw_at lw_m4 220 rfl) rfl
theorem q1065 : (Jvm.Cond.methodLink "BorrowedLives$Expression" (1 : Nat) ({ cls := "java/lang/Object", name := "<init>", desc := "()V" } : Jvm.MethodName)) ∈ lw_all := lw_g (lw_at lw_m4 221 rfl) rfl
theorem q1345 : (Jvm.Cond.declares ({ cls := "BorrowedLives$Expression", name := "worked", desc := "([I)I" } : Jvm.MethodName)) ∈ lw_tbl := lw_at lw_m6 21 rfl
theorem q1346 : (Jvm.Cond.sameMethod "BorrowedLives$Expression" "BorrowedLives$Expression" "worked" "([I)I") ∈ lw_all := lw_g (lw_at lw_m6 22 rfl) rfl
/-! BorrowedLives$Given -/
set_option maxRecDepth 100000
def RX12 : String := "BorrowedLives$Given"
def TX12 : u_T := fun k => match k with
  | _ => ("BorrowedLives$Given", "n", "I", true)
def tyX12 : Nat → FieldType := fun k => match k with
  | _ => .int
abbrev wsX120 : List Cond := u_ws RX12 TX12 1
theorem nmX12 : ∀ a, a < 1 → ∀ b, b < 1 → a ≠ b → (TX12 a).2.1 ≠ (TX12 b).2.1 := by decide +kernel
theorem tyX12_ok : ∀ k, k < 1 → parseFieldDescriptor (TX12 k).2.2.1 = some (tyX12 k) := by decide +kernel
abbrev cX12_init : ByteArray := prog_8_method_1_code
def yX12_init : MethodName := ⟨RX12, "<init>", "(I)V"⟩
def dkwX12_init_0 : List UInt8 := [42, 183, 0, 1, 42, 27, 181, 0, 7, 177]
abbrev dktX12_init_0 : List UInt8 := dkwX12_init_0 ++ []
theorem dksX12_init_0 : cX12_init.data.toList.drop 0 = dktX12_init_0 := by decide +kernel
theorem dX12_init_0 : decode cX12_init 0 = .ok (.aload_n 0, 1) := dk_42 (dk_at dksX12_init_0 0 rfl rfl)
theorem dX12_init_1 : decode cX12_init 1 = .ok (.invokespecial 1, 3) := dk_183 0 1 (dk_at dksX12_init_0 1 rfl rfl)
theorem dX12_init_4 : decode cX12_init 4 = .ok (.aload_n 0, 1) := dk_42 (dk_at dksX12_init_0 4 rfl rfl)
theorem dX12_init_5 : decode cX12_init 5 = .ok (.iload_n 1, 1) := dk_27 (dk_at dksX12_init_0 5 rfl rfl)
theorem dX12_init_6 : decode cX12_init 6 = .ok (.putfield 7, 3) := dk_181 0 7 (dk_at dksX12_init_0 6 rfl rfl)
theorem dX12_init_9 : decode cX12_init 9 = .ok (.return_, 1) := dk_177 (dk_at dksX12_init_0 9 rfl rfl)
abbrev cX12_worked : ByteArray := prog_8_method_2_code
def yX12_worked : MethodName := ⟨RX12, "worked", "([I)I"⟩
theorem dX12_worked_0 : decode cX12_worked 0 = .ok (.aload_n 0, 1) := by decide +kernel
theorem dX12_worked_1 : decode cX12_worked 1 = .ok (.getfield 7, 3) := by decide +kernel
theorem dX12_worked_4 : decode cX12_worked 4 = .ok (.ireturn, 1) := by decide +kernel
theorem q154 : (Jvm.Cond.initialized "BorrowedLives$Given") ∈ lw_all := lw_g (lw_at lw_m1 30 rfl) rfl
theorem q988 : (Jvm.Cond.selects "BorrowedLives$Given" ({ cls := "java/lang/Object", name := "getClass", desc := "()Ljava/lang/Class;" } : Jvm.MethodName) ({ cls := "java/lang/Object", name := "getClass", desc := "()Ljava/lang/Class;" } : Jvm.MethodName)) ∈ lw_all := lw_g (lw_at lw_m4 144 rfl) rfl
theorem q1058 : (Jvm.Cond.instantiable "BorrowedLives$Given" (1 : Nat)) ∈ lw_all := lw_g (lw_at lw_m4 214 rfl) rfl
theorem q1060 : (Jvm.Cond.instanceMethod ({ cls := "BorrowedLives$Given", name := "<init>", desc := "(I)V" } : Jvm.MethodName)) ∈ lw_all := lw_g (lw_at lw_m4 216 rfl) rfl
theorem q1061 : (Jvm.Cond.code ({ cls := "BorrowedLives$Given", name := "<init>", desc := "(I)V" } : Jvm.MethodName) prog_8_method_1_code (2 : Nat) (Option.none : Option Jvm.ClassFile.FieldType)) ∈ lw_all := lw_g (lw_at lw_m4 217 rfl) rfl
theorem q1062 : (Jvm.Cond.methodLinkNest "BorrowedLives$Given" (1 : Nat) ({ cls := "BorrowedLives$Expression", name := "<init>", desc := "()V" } : Jvm.MethodName) "BorrowedLives") ∈ lw_tbl := lw_at lw_m4 218 rfl
theorem q1066 : (Jvm.Cond.fieldLink "BorrowedLives$Given" (7 : Nat) "BorrowedLives$Given" "n" "I") ∈ lw_all := lw_g (lw_at lw_m4 222 rfl) rfl
theorem q1067 : (Jvm.Cond.laysFinal "BorrowedLives$Given" "BorrowedLives$Given" "n" "I") ∈ lw_all := lw_g (lw_at lw_m4 223 rfl) rfl
theorem q1068 : (Jvm.Cond.soleField "BorrowedLives$Given" "n") ∈ lw_all := lw_g (lw_at lw_m4 224 rfl) rfl
theorem q1069 : (Jvm.Cond.superclass "BorrowedLives$Given" "BorrowedLives$Expression") ∈ lw_all := lw_g (lw_at lw_m4 225 rfl) rfl
theorem q1350 : (Jvm.Cond.selects "BorrowedLives$Given" ({ cls := "BorrowedLives$Expression", name := "worked", desc := "([I)I" } : Jvm.MethodName) ({ cls := "BorrowedLives$Given", name := "worked", desc := "([I)I" } : Jvm.MethodName)) ∈ lw_all := lw_g (lw_at lw_m6 26 rfl) rfl
theorem q1351 : (Jvm.Cond.instanceMethod ({ cls := "BorrowedLives$Given", name := "worked", desc := "([I)I" } : Jvm.MethodName)) ∈ lw_all := lw_g (lw_at lw_m6 27 rfl) rfl
theorem q1352 : (Jvm.Cond.code ({ cls := "BorrowedLives$Given", name := "worked", desc := "([I)I" } : Jvm.MethodName) prog_8_method_2_code (2 : Nat) (Option.some Jvm.ClassFile.FieldType.int)) ∈ lw_all := lw_g (lw_at lw_m6 28 rfl) rfl
theorem q2427 : (Jvm.Cond.castable "BorrowedLives$Given" "java/lang/Object") ∈ lw_tbl := lw_at lw_m10 143 rfl
theorem in_X12 : ∀ w ∈ wsX120, w ∈ lw_all := lw_in wsX120 [1067] (by decide +kernel) (by decide +kernel)
/-! BorrowedLives$Fact -/
set_option maxRecDepth 100000
def RX13 : String := "BorrowedLives$Fact"
def TX13 : u_T := fun k => match k with
  | _ => ("BorrowedLives$Fact", "which", "I", true)
def tyX13 : Nat → FieldType := fun k => match k with
  | _ => .int
abbrev wsX130 : List Cond := u_ws RX13 TX13 1
theorem nmX13 : ∀ a, a < 1 → ∀ b, b < 1 → a ≠ b → (TX13 a).2.1 ≠ (TX13 b).2.1 := by decide +kernel
theorem tyX13_ok : ∀ k, k < 1 → parseFieldDescriptor (TX13 k).2.2.1 = some (tyX13 k) := by decide +kernel
abbrev cX13_init : ByteArray := prog_6_method_1_code
def yX13_init : MethodName := ⟨RX13, "<init>", "(I)V"⟩
def dkwX13_init_0 : List UInt8 := [42, 183, 0, 1, 42, 27, 181, 0, 7, 177]
abbrev dktX13_init_0 : List UInt8 := dkwX13_init_0 ++ []
theorem dksX13_init_0 : cX13_init.data.toList.drop 0 = dktX13_init_0 := by decide +kernel
theorem dX13_init_0 : decode cX13_init 0 = .ok (.aload_n 0, 1) := dk_42 (dk_at dksX13_init_0 0 rfl rfl)
theorem dX13_init_1 : decode cX13_init 1 = .ok (.invokespecial 1, 3) := dk_183 0 1 (dk_at dksX13_init_0 1 rfl rfl)
theorem dX13_init_4 : decode cX13_init 4 = .ok (.aload_n 0, 1) := dk_42 (dk_at dksX13_init_0 4 rfl rfl)
theorem dX13_init_5 : decode cX13_init 5 = .ok (.iload_n 1, 1) := dk_27 (dk_at dksX13_init_0 5 rfl rfl)
theorem dX13_init_6 : decode cX13_init 6 = .ok (.putfield 7, 3) := dk_181 0 7 (dk_at dksX13_init_0 6 rfl rfl)
theorem dX13_init_9 : decode cX13_init 9 = .ok (.return_, 1) := dk_177 (dk_at dksX13_init_0 9 rfl rfl)
abbrev cX13_worked : ByteArray := prog_6_method_2_code
def yX13_worked : MethodName := ⟨RX13, "worked", "([I)I"⟩
def dkwX13_worked_0 : List UInt8 := [43, 42, 180, 0, 7, 46, 172]
abbrev dktX13_worked_0 : List UInt8 := dkwX13_worked_0 ++ []
theorem dksX13_worked_0 : cX13_worked.data.toList.drop 0 = dktX13_worked_0 := by decide +kernel
theorem dX13_worked_0 : decode cX13_worked 0 = .ok (.aload_n 1, 1) := dk_43 (dk_at dksX13_worked_0 0 rfl rfl)
theorem dX13_worked_1 : decode cX13_worked 1 = .ok (.aload_n 0, 1) := dk_42 (dk_at dksX13_worked_0 1 rfl rfl)
theorem dX13_worked_2 : decode cX13_worked 2 = .ok (.getfield 7, 3) := dk_180 0 7 (dk_at dksX13_worked_0 2 rfl rfl)
theorem dX13_worked_5 : decode cX13_worked 5 = .ok (.iaload, 1) := dk_46 (dk_at dksX13_worked_0 5 rfl rfl)
theorem dX13_worked_6 : decode cX13_worked 6 = .ok (.ireturn, 1) := dk_172 (dk_at dksX13_worked_0 6 rfl rfl)
theorem q155 : (Jvm.Cond.initialized "BorrowedLives$Fact") ∈ lw_all := lw_g (lw_at lw_m1 31 rfl) rfl
theorem q986 : (Jvm.Cond.selects "BorrowedLives$Fact" ({ cls := "java/lang/Object", name := "getClass", desc := "()Ljava/lang/Class;" } : Jvm.MethodName) ({ cls := "java/lang/Object", name := "getClass", desc := "()Ljava/lang/Class;" } : Jvm.MethodName)) ∈ lw_all := lw_g (lw_at lw_m4 142 rfl) rfl
theorem q1071 : (Jvm.Cond.instantiable "BorrowedLives$Fact" (1 : Nat)) ∈ lw_all := lw_g (lw_at lw_m4 227 rfl) rfl
theorem q1073 : (Jvm.Cond.instanceMethod ({ cls := "BorrowedLives$Fact", name := "<init>", desc := "(I)V" } : Jvm.MethodName)) ∈ lw_all := lw_g (lw_at lw_m4 229 rfl) rfl
theorem q1074 : (Jvm.Cond.code ({ cls := "BorrowedLives$Fact", name := "<init>", desc := "(I)V" } : Jvm.MethodName) prog_6_method_1_code (2 : Nat) (Option.none : Option Jvm.ClassFile.FieldType)) ∈ lw_all := lw_g (lw_at lw_m4 230 rfl) rfl
theorem q1075 : (Jvm.Cond.methodLinkNest "BorrowedLives$Fact" (1 : Nat) ({ cls := "BorrowedLives$Expression", name := "<init>", desc := "()V" } : Jvm.MethodName) "BorrowedLives") ∈ lw_tbl := lw_at lw_m4 231 rfl
theorem q1076 : (Jvm.Cond.fieldLink "BorrowedLives$Fact" (7 : Nat) "BorrowedLives$Fact" "which" "I") ∈ lw_all := lw_g (lw_at lw_m4 232 rfl) rfl
theorem q1077 : (Jvm.Cond.laysFinal "BorrowedLives$Fact" "BorrowedLives$Fact" "which" "I") ∈ lw_all := lw_g (lw_at lw_m4 233 rfl) rfl
theorem q1078 : (Jvm.Cond.soleField "BorrowedLives$Fact" "which") ∈ lw_all := lw_g (lw_at lw_m4 234 rfl) rfl
theorem q1079 : (Jvm.Cond.superclass "BorrowedLives$Fact" "BorrowedLives$Expression") ∈ lw_all := lw_g (lw_at lw_m4 235 rfl) rfl
theorem q1347 : (Jvm.Cond.selects "BorrowedLives$Fact" ({ cls := "BorrowedLives$Expression", name := "worked", desc := "([I)I" } : Jvm.MethodName) ({ cls := "BorrowedLives$Fact", name := "worked", desc := "([I)I" } : Jvm.MethodName)) ∈ lw_all := lw_g (lw_at lw_m6 23 rfl) rfl
theorem q1348 : (Jvm.Cond.instanceMethod ({ cls := "BorrowedLives$Fact", name := "worked", desc := "([I)I" } : Jvm.MethodName)) ∈ lw_all := lw_g (lw_at lw_m6 24 rfl) rfl
theorem q1349 : (Jvm.Cond.code ({ cls := "BorrowedLives$Fact", name := "worked", desc := "([I)I" } : Jvm.MethodName) prog_6_method_2_code (2 : Nat) (Option.some Jvm.ClassFile.FieldType.int)) ∈ lw_all := lw_g (lw_at lw_m6 25 rfl) rfl
theorem q2428 : (Jvm.Cond.castable "BorrowedLives$Fact" "java/lang/Object") ∈ lw_tbl := lw_at lw_m10 144 rfl
theorem in_X13 : ∀ w ∈ wsX130, w ∈ lw_all := lw_in wsX130 [1077] (by decide +kernel) (by decide +kernel)
/-! BorrowedLives$Not -/
set_option maxRecDepth 100000
def RX14 : String := "BorrowedLives$Not"
def TX14 : u_T := fun k => match k with
  | _ => ("BorrowedLives$Not", "part", "LBorrowedLives$Expression;", true)
def tyX14 : Nat → FieldType := fun k => match k with
  | _ => .object "BorrowedLives$Expression"
abbrev wsX140 : List Cond := u_ws RX14 TX14 1
theorem nmX14 : ∀ a, a < 1 → ∀ b, b < 1 → a ≠ b → (TX14 a).2.1 ≠ (TX14 b).2.1 := by decide +kernel
theorem tyX14_ok : ∀ k, k < 1 → parseFieldDescriptor (TX14 k).2.2.1 = some (tyX14 k) := by decide +kernel
abbrev cX14_init : ByteArray := prog_18_method_1_code
def yX14_init : MethodName := ⟨RX14, "<init>", "(LBorrowedLives$Expression;)V"⟩
def dkwX14_init_0 : List UInt8 := [42, 183, 0, 1, 42, 43, 181, 0, 7, 177]
abbrev dktX14_init_0 : List UInt8 := dkwX14_init_0 ++ []
theorem dksX14_init_0 : cX14_init.data.toList.drop 0 = dktX14_init_0 := by decide +kernel
theorem dX14_init_0 : decode cX14_init 0 = .ok (.aload_n 0, 1) := dk_42 (dk_at dksX14_init_0 0 rfl rfl)
theorem dX14_init_1 : decode cX14_init 1 = .ok (.invokespecial 1, 3) := dk_183 0 1 (dk_at dksX14_init_0 1 rfl rfl)
theorem dX14_init_4 : decode cX14_init 4 = .ok (.aload_n 0, 1) := dk_42 (dk_at dksX14_init_0 4 rfl rfl)
theorem dX14_init_5 : decode cX14_init 5 = .ok (.aload_n 1, 1) := dk_43 (dk_at dksX14_init_0 5 rfl rfl)
theorem dX14_init_6 : decode cX14_init 6 = .ok (.putfield 7, 3) := dk_181 0 7 (dk_at dksX14_init_0 6 rfl rfl)
theorem dX14_init_9 : decode cX14_init 9 = .ok (.return_, 1) := dk_177 (dk_at dksX14_init_0 9 rfl rfl)
abbrev cX14_worked : ByteArray := prog_18_method_2_code
def yX14_worked : MethodName := ⟨RX14, "worked", "([I)I"⟩
def dkwX14_worked_0 : List UInt8 := [42, 180, 0, 7, 43, 182, 0, 13, 154, 0, 7, 4, 167, 0, 4, 3, 172]
abbrev dktX14_worked_0 : List UInt8 := dkwX14_worked_0 ++ []
theorem dksX14_worked_0 : cX14_worked.data.toList.drop 0 = dktX14_worked_0 := by decide +kernel
theorem dX14_worked_0 : decode cX14_worked 0 = .ok (.aload_n 0, 1) := dk_42 (dk_at dksX14_worked_0 0 rfl rfl)
theorem dX14_worked_1 : decode cX14_worked 1 = .ok (.getfield 7, 3) := dk_180 0 7 (dk_at dksX14_worked_0 1 rfl rfl)
theorem dX14_worked_4 : decode cX14_worked 4 = .ok (.aload_n 1, 1) := dk_43 (dk_at dksX14_worked_0 4 rfl rfl)
theorem dX14_worked_5 : decode cX14_worked 5 = .ok (.invokevirtual 13, 3) := dk_182 0 13 (dk_at dksX14_worked_0 5 rfl rfl)
theorem dX14_worked_8 : decode cX14_worked 8 = .ok (.ifCond .ne 7, 3) := dk_154 0 7 (dk_at dksX14_worked_0 8 rfl rfl)
theorem dX14_worked_11 : decode cX14_worked 11 = .ok (.iconst 1, 1) := dk_4 (dk_at dksX14_worked_0 11 rfl rfl)
theorem dX14_worked_12 : decode cX14_worked 12 = .ok (.goto 4, 3) := dk_167 0 4 (dk_at dksX14_worked_0 12 rfl rfl)
theorem dX14_worked_15 : decode cX14_worked 15 = .ok (.iconst 0, 1) := dk_3 (dk_at dksX14_worked_0 15 rfl rfl)
theorem dX14_worked_16 : decode cX14_worked 16 = .ok (.ireturn, 1) := dk_172 (dk_at dksX14_worked_0 16 rfl rfl)
theorem q156 : (Jvm.Cond.initialized "BorrowedLives$Not") ∈ lw_all := lw_g (lw_at lw_m1 32 rfl) rfl
theorem q996 : (Jvm.Cond.selects "BorrowedLives$Not" ({ cls := "java/lang/Object", name := "getClass", desc := "()Ljava/lang/Class;" } : Jvm.MethodName) ({ cls := "java/lang/Object", name := "getClass", desc := "()Ljava/lang/Class;" } : Jvm.MethodName)) ∈ lw_all := lw_g (lw_at lw_m4 152 rfl) rfl
theorem q1081 : (Jvm.Cond.instantiable "BorrowedLives$Not" (1 : Nat)) ∈ lw_all := lw_g (lw_at lw_m4 237 rfl) rfl
theorem q1083 : (Jvm.Cond.instanceMethod ({ cls := "BorrowedLives$Not", name := "<init>", desc := "(LBorrowedLives$Expression;)V" } : Jvm.MethodName)) ∈ lw_all := lw_g (lw_at lw_m4 239 rfl) rfl
theorem q1084 : (Jvm.Cond.code ({ cls := "BorrowedLives$Not", name := "<init>", desc := "(LBorrowedLives$Expression;)V" } : Jvm.MethodName) prog_18_method_1_code (2 : Nat) (Option.none : Option Jvm.ClassFile.FieldType)) ∈ lw_all := lw_g (lw_at lw_m5 0 rfl) rfl
theorem q1085 : (Jvm.Cond.methodLinkNest "BorrowedLives$Not" (1 : Nat) ({ cls := "BorrowedLives$Expression", name := "<init>", desc := "()V" } : Jvm.MethodName) "BorrowedLives") ∈ lw_tbl := lw_at lw_m5 1 rfl
theorem q1086 : (Jvm.Cond.fieldLink "BorrowedLives$Not" (7 : Nat) "BorrowedLives$Not" "part" "LBorrowedLives$Expression;") ∈ lw_all := lw_g (lw_at lw_m5 2 rfl) rfl
theorem q1087 : (Jvm.Cond.laysFinal "BorrowedLives$Not" "BorrowedLives$Not" "part" "LBorrowedLives$Expression;") ∈ lw_all := lw_g (lw_at lw_m5 3 rfl) rfl
theorem q1088 : (Jvm.Cond.soleField "BorrowedLives$Not" "part") ∈ lw_all := lw_g (lw_at lw_m5 4 rfl) rfl
theorem q1089 : (Jvm.Cond.superclass "BorrowedLives$Not" "BorrowedLives$Expression") ∈ lw_all := lw_g (lw_at lw_m5 5 rfl) rfl
theorem q1353 : (Jvm.Cond.selects "BorrowedLives$Not" ({ cls := "BorrowedLives$Expression", name := "worked", desc := "([I)I" } : Jvm.MethodName) ({ cls := "BorrowedLives$Not", name := "worked", desc := "([I)I" } : Jvm.MethodName)) ∈ lw_all := lw_g (lw_at lw_m6 29 rfl) rfl
theorem q1354 : (Jvm.Cond.instanceMethod ({ cls := "BorrowedLives$Not", name := "worked", desc := "([I)I" } : Jvm.MethodName)) ∈ lw_all := lw_g (lw_at lw_m6 30 rfl) rfl
theorem q1355 : (Jvm.Cond.code ({ cls := "BorrowedLives$Not", name := "worked", desc := "([I)I" } : Jvm.MethodName) prog_18_method_2_code (2 : Nat) (Option.some Jvm.ClassFile.FieldType.int)) ∈ lw_all := lw_g (lw_at lw_m6 31 rfl) rfl
theorem q1356 : (Jvm.Cond.methodLink "BorrowedLives$Not" (13 : Nat) ({ cls := "BorrowedLives$Expression", name := "worked", desc := "([I)I" } : Jvm.MethodName)) ∈ lw_all := lw_g (lw_at lw_m6 32 rfl) rfl
theorem q2429 : (Jvm.Cond.castable "BorrowedLives$Not" "java/lang/Object") ∈ lw_tbl := lw_at lw_m10 145 rfl
theorem in_X14 : ∀ w ∈ wsX140, w ∈ lw_all := lw_in wsX140 [1087] (by decide +kernel) (by decide +kernel)
/-! BorrowedLives$Two -/
set_option maxRecDepth 100000
def RX15 : String := "BorrowedLives$Two"
def TX15 : u_T := fun k => match k with
  | 0 => ("BorrowedLives$Two", "way", "C", true)
  | 1 => ("BorrowedLives$Two", "a", "LBorrowedLives$Expression;", true)
  | _ => ("BorrowedLives$Two", "b", "LBorrowedLives$Expression;", true)
def tyX15 : Nat → FieldType := fun k => match k with
  | 0 => .char
  | 1 => .object "BorrowedLives$Expression"
  | _ => .object "BorrowedLives$Expression"
abbrev wsX150 : List Cond := u_ws RX15 TX15 3
theorem nmX15 : ∀ a, a < 3 → ∀ b, b < 3 → a ≠ b → (TX15 a).2.1 ≠ (TX15 b).2.1 := by decide +kernel
theorem tyX15_ok : ∀ k, k < 3 → parseFieldDescriptor (TX15 k).2.2.1 = some (tyX15 k) := by decide +kernel
abbrev cX15_init : ByteArray := prog_27_method_1_code
def yX15_init : MethodName := ⟨RX15, "<init>", "(CLBorrowedLives$Expression;LBorrowedLives$Expression;)V"⟩
def dkwX15_init_0 : List UInt8 := [42, 183, 0, 1, 42, 27, 181, 0, 7, 42, 44, 181, 0, 13, 42, 45, 181, 0, 17, 177]
abbrev dktX15_init_0 : List UInt8 := dkwX15_init_0 ++ []
theorem dksX15_init_0 : cX15_init.data.toList.drop 0 = dktX15_init_0 := by decide +kernel
theorem dX15_init_0 : decode cX15_init 0 = .ok (.aload_n 0, 1) := dk_42 (dk_at dksX15_init_0 0 rfl rfl)
theorem dX15_init_1 : decode cX15_init 1 = .ok (.invokespecial 1, 3) := dk_183 0 1 (dk_at dksX15_init_0 1 rfl rfl)
theorem dX15_init_4 : decode cX15_init 4 = .ok (.aload_n 0, 1) := dk_42 (dk_at dksX15_init_0 4 rfl rfl)
theorem dX15_init_5 : decode cX15_init 5 = .ok (.iload_n 1, 1) := dk_27 (dk_at dksX15_init_0 5 rfl rfl)
theorem dX15_init_6 : decode cX15_init 6 = .ok (.putfield 7, 3) := dk_181 0 7 (dk_at dksX15_init_0 6 rfl rfl)
theorem dX15_init_9 : decode cX15_init 9 = .ok (.aload_n 0, 1) := dk_42 (dk_at dksX15_init_0 9 rfl rfl)
theorem dX15_init_10 : decode cX15_init 10 = .ok (.aload_n 2, 1) := dk_44 (dk_at dksX15_init_0 10 rfl rfl)
theorem dX15_init_11 : decode cX15_init 11 = .ok (.putfield 13, 3) := dk_181 0 13 (dk_at dksX15_init_0 11 rfl rfl)
theorem dX15_init_14 : decode cX15_init 14 = .ok (.aload_n 0, 1) := dk_42 (dk_at dksX15_init_0 14 rfl rfl)
theorem dX15_init_15 : decode cX15_init 15 = .ok (.aload_n 3, 1) := dk_45 (dk_at dksX15_init_0 15 rfl rfl)
theorem dX15_init_16 : decode cX15_init 16 = .ok (.putfield 17, 3) := dk_181 0 17 (dk_at dksX15_init_0 16 rfl rfl)
theorem dX15_init_19 : decode cX15_init 19 = .ok (.return_, 1) := dk_177 (dk_at dksX15_init_0 19 rfl rfl)
abbrev cX15_worked : ByteArray := prog_27_method_2_code
def yX15_worked : MethodName := ⟨RX15, "worked", "([I)I"⟩
def dkwX15_worked_4 : List UInt8 := [28, 154, 0, 7, 29, 153, 0, 7, 4, 167, 0, 4, 3, 172]
abbrev dktX15_worked_4 : List UInt8 := dkwX15_worked_4 ++ []
def dkwX15_worked_3 : List UInt8 := [29, 160, 0, 7, 4, 167, 0, 4, 3, 172, 28, 153, 0, 11, 29, 153, 0, 7, 4, 167, 0, 4, 3, 172]
abbrev dktX15_worked_3 : List UInt8 := dkwX15_worked_3 ++ dktX15_worked_4
def dkwX15_worked_2 : List UInt8 := [28, 29, 96, 172, 28, 29, 100, 172, 28, 29, 104, 172, 28, 29, 162, 0, 7, 4, 167, 0, 4, 3, 172, 28]
abbrev dktX15_worked_2 : List UInt8 := dkwX15_worked_2 ++ dktX15_worked_3
def dkwX15_worked_1 : List UInt8 := [171, 0, 0, 0, 0, 106, 0, 0, 0, 6, 0, 0, 0, 38, 0, 0, 0, 92, 0, 0, 0, 42, 0, 0, 0, 66, 0, 0, 0, 43, 0, 0, 0, 58, 0, 0, 0, 45, 0, 0, 0, 62, 0, 0, 0, 60, 0, 0, 0, 70, 0, 0, 0, 61, 0, 0, 0, 81]
abbrev dktX15_worked_1 : List UInt8 := dkwX15_worked_1 ++ dktX15_worked_2
def dkwX15_worked_0 : List UInt8 := [42, 180, 0, 13, 43, 182, 0, 20, 61, 42, 180, 0, 17, 43, 182, 0, 20, 62, 42, 180, 0, 7]
abbrev dktX15_worked_0 : List UInt8 := dkwX15_worked_0 ++ dktX15_worked_1
theorem dksX15_worked_0 : cX15_worked.data.toList.drop 0 = dktX15_worked_0 := by decide +kernel
theorem dksX15_worked_1 : cX15_worked.data.toList.drop 22 = dktX15_worked_1 := dk_seg dksX15_worked_0 22 rfl rfl
theorem dksX15_worked_2 : cX15_worked.data.toList.drop 80 = dktX15_worked_2 := dk_seg dksX15_worked_1 58 rfl rfl
theorem dksX15_worked_3 : cX15_worked.data.toList.drop 104 = dktX15_worked_3 := dk_seg dksX15_worked_2 24 rfl rfl
theorem dksX15_worked_4 : cX15_worked.data.toList.drop 128 = dktX15_worked_4 := dk_seg dksX15_worked_3 24 rfl rfl
theorem dX15_worked_0 : decode cX15_worked 0 = .ok (.aload_n 0, 1) := dk_42 (dk_at dksX15_worked_0 0 rfl rfl)
theorem dX15_worked_1 : decode cX15_worked 1 = .ok (.getfield 13, 3) := dk_180 0 13 (dk_at dksX15_worked_0 1 rfl rfl)
theorem dX15_worked_4 : decode cX15_worked 4 = .ok (.aload_n 1, 1) := dk_43 (dk_at dksX15_worked_0 4 rfl rfl)
theorem dX15_worked_5 : decode cX15_worked 5 = .ok (.invokevirtual 20, 3) := dk_182 0 20 (dk_at dksX15_worked_0 5 rfl rfl)
theorem dX15_worked_8 : decode cX15_worked 8 = .ok (.istore_n 2, 1) := dk_61 (dk_at dksX15_worked_0 8 rfl rfl)
theorem dX15_worked_9 : decode cX15_worked 9 = .ok (.aload_n 0, 1) := dk_42 (dk_at dksX15_worked_0 9 rfl rfl)
theorem dX15_worked_10 : decode cX15_worked 10 = .ok (.getfield 17, 3) := dk_180 0 17 (dk_at dksX15_worked_0 10 rfl rfl)
theorem dX15_worked_13 : decode cX15_worked 13 = .ok (.aload_n 1, 1) := dk_43 (dk_at dksX15_worked_0 13 rfl rfl)
theorem dX15_worked_14 : decode cX15_worked 14 = .ok (.invokevirtual 20, 3) := dk_182 0 20 (dk_at dksX15_worked_0 14 rfl rfl)
theorem dX15_worked_17 : decode cX15_worked 17 = .ok (.istore_n 3, 1) := dk_62 (dk_at dksX15_worked_0 17 rfl rfl)
theorem dX15_worked_18 : decode cX15_worked 18 = .ok (.aload_n 0, 1) := dk_42 (dk_at dksX15_worked_0 18 rfl rfl)
theorem dX15_worked_19 : decode cX15_worked 19 = .ok (.getfield 7, 3) := dk_180 0 7 (dk_at dksX15_worked_0 19 rfl rfl)
theorem dX15_worked_22 : decode cX15_worked 22 = .ok (.lookupswitch 106 #[(38, 92), (42, 66), (43, 58), (45, 62), (60, 70), (61, 81)], 58) := by decide +kernel
theorem dX15_worked_80 : decode cX15_worked 80 = .ok (.iload_n 2, 1) := dk_28 (dk_at dksX15_worked_2 0 rfl rfl)
theorem dX15_worked_81 : decode cX15_worked 81 = .ok (.iload_n 3, 1) := dk_29 (dk_at dksX15_worked_2 1 rfl rfl)
theorem dX15_worked_82 : decode cX15_worked 82 = .ok (.iadd, 1) := dk_96 (dk_at dksX15_worked_2 2 rfl rfl)
theorem dX15_worked_83 : decode cX15_worked 83 = .ok (.ireturn, 1) := dk_172 (dk_at dksX15_worked_2 3 rfl rfl)
theorem dX15_worked_84 : decode cX15_worked 84 = .ok (.iload_n 2, 1) := dk_28 (dk_at dksX15_worked_2 4 rfl rfl)
theorem dX15_worked_85 : decode cX15_worked 85 = .ok (.iload_n 3, 1) := dk_29 (dk_at dksX15_worked_2 5 rfl rfl)
theorem dX15_worked_86 : decode cX15_worked 86 = .ok (.isub, 1) := dk_100 (dk_at dksX15_worked_2 6 rfl rfl)
theorem dX15_worked_87 : decode cX15_worked 87 = .ok (.ireturn, 1) := dk_172 (dk_at dksX15_worked_2 7 rfl rfl)
theorem dX15_worked_88 : decode cX15_worked 88 = .ok (.iload_n 2, 1) := dk_28 (dk_at dksX15_worked_2 8 rfl rfl)
theorem dX15_worked_89 : decode cX15_worked 89 = .ok (.iload_n 3, 1) := dk_29 (dk_at dksX15_worked_2 9 rfl rfl)
theorem dX15_worked_90 : decode cX15_worked 90 = .ok (.imul, 1) := dk_104 (dk_at dksX15_worked_2 10 rfl rfl)
theorem dX15_worked_91 : decode cX15_worked 91 = .ok (.ireturn, 1) := dk_172 (dk_at dksX15_worked_2 11 rfl rfl)
theorem dX15_worked_92 : decode cX15_worked 92 = .ok (.iload_n 2, 1) := dk_28 (dk_at dksX15_worked_2 12 rfl rfl)
theorem dX15_worked_93 : decode cX15_worked 93 = .ok (.iload_n 3, 1) := dk_29 (dk_at dksX15_worked_2 13 rfl rfl)
theorem dX15_worked_94 : decode cX15_worked 94 = .ok (.if_icmp .ge 7, 3) := dk_162 0 7 (dk_at dksX15_worked_2 14 rfl rfl)
theorem dX15_worked_97 : decode cX15_worked 97 = .ok (.iconst 1, 1) := dk_4 (dk_at dksX15_worked_2 17 rfl rfl)
theorem dX15_worked_98 : decode cX15_worked 98 = .ok (.goto 4, 3) := dk_167 0 4 (dk_at dksX15_worked_2 18 rfl rfl)
theorem dX15_worked_101 : decode cX15_worked 101 = .ok (.iconst 0, 1) := dk_3 (dk_at dksX15_worked_2 21 rfl rfl)
theorem dX15_worked_102 : decode cX15_worked 102 = .ok (.ireturn, 1) := dk_172 (dk_at dksX15_worked_2 22 rfl rfl)
theorem dX15_worked_103 : decode cX15_worked 103 = .ok (.iload_n 2, 1) := dk_28 (dk_at dksX15_worked_2 23 rfl rfl)
theorem dX15_worked_104 : decode cX15_worked 104 = .ok (.iload_n 3, 1) := dk_29 (dk_at dksX15_worked_3 0 rfl rfl)
theorem dX15_worked_105 : decode cX15_worked 105 = .ok (.if_icmp .ne 7, 3) := dk_160 0 7 (dk_at dksX15_worked_3 1 rfl rfl)
theorem dX15_worked_108 : decode cX15_worked 108 = .ok (.iconst 1, 1) := dk_4 (dk_at dksX15_worked_3 4 rfl rfl)
theorem dX15_worked_109 : decode cX15_worked 109 = .ok (.goto 4, 3) := dk_167 0 4 (dk_at dksX15_worked_3 5 rfl rfl)
theorem dX15_worked_112 : decode cX15_worked 112 = .ok (.iconst 0, 1) := dk_3 (dk_at dksX15_worked_3 8 rfl rfl)
theorem dX15_worked_113 : decode cX15_worked 113 = .ok (.ireturn, 1) := dk_172 (dk_at dksX15_worked_3 9 rfl rfl)
theorem dX15_worked_114 : decode cX15_worked 114 = .ok (.iload_n 2, 1) := dk_28 (dk_at dksX15_worked_3 10 rfl rfl)
theorem dX15_worked_115 : decode cX15_worked 115 = .ok (.ifCond .eq 11, 3) := dk_153 0 11 (dk_at dksX15_worked_3 11 rfl rfl)
theorem dX15_worked_118 : decode cX15_worked 118 = .ok (.iload_n 3, 1) := dk_29 (dk_at dksX15_worked_3 14 rfl rfl)
theorem dX15_worked_119 : decode cX15_worked 119 = .ok (.ifCond .eq 7, 3) := dk_153 0 7 (dk_at dksX15_worked_3 15 rfl rfl)
theorem dX15_worked_122 : decode cX15_worked 122 = .ok (.iconst 1, 1) := dk_4 (dk_at dksX15_worked_3 18 rfl rfl)
theorem dX15_worked_123 : decode cX15_worked 123 = .ok (.goto 4, 3) := dk_167 0 4 (dk_at dksX15_worked_3 19 rfl rfl)
theorem dX15_worked_126 : decode cX15_worked 126 = .ok (.iconst 0, 1) := dk_3 (dk_at dksX15_worked_3 22 rfl rfl)
theorem dX15_worked_127 : decode cX15_worked 127 = .ok (.ireturn, 1) := dk_172 (dk_at dksX15_worked_3 23 rfl rfl)
theorem dX15_worked_128 : decode cX15_worked 128 = .ok (.iload_n 2, 1) := dk_28 (dk_at dksX15_worked_4 0 rfl rfl)
theorem dX15_worked_129 : decode cX15_worked 129 = .ok (.ifCond .ne 7, 3) := dk_154 0 7 (dk_at dksX15_worked_4 1 rfl rfl)
theorem dX15_worked_132 : decode cX15_worked 132 = .ok (.iload_n 3, 1) := dk_29 (dk_at dksX15_worked_4 4 rfl rfl)
theorem dX15_worked_133 : decode cX15_worked 133 = .ok (.ifCond .eq 7, 3) := dk_153 0 7 (dk_at dksX15_worked_4 5 rfl rfl)
theorem dX15_worked_136 : decode cX15_worked 136 = .ok (.iconst 1, 1) := dk_4 (dk_at dksX15_worked_4 8 rfl rfl)
theorem dX15_worked_137 : decode cX15_worked 137 = .ok (.goto 4, 3) := dk_167 0 4 (dk_at dksX15_worked_4 9 rfl rfl)
theorem dX15_worked_140 : decode cX15_worked 140 = .ok (.iconst 0, 1) := dk_3 (dk_at dksX15_worked_4 12 rfl rfl)
theorem dX15_worked_141 : decode cX15_worked 141 = .ok (.ireturn, 1) := dk_172 (dk_at dksX15_worked_4 13 rfl rfl)
theorem q157 : (Jvm.Cond.initialized "BorrowedLives$Two") ∈ lw_all := lw_g (lw_at lw_m1 33 rfl) rfl
theorem q1005 : (Jvm.Cond.selects "BorrowedLives$Two" ({ cls := "java/lang/Object", name := "getClass", desc := "()Ljava/lang/Class;" } : Jvm.MethodName) ({ cls := "java/lang/Object", name := "getClass", desc := "()Ljava/lang/Class;" } : Jvm.MethodName)) ∈ lw_all := lw_g (lw_at lw_m4 161 rfl) rfl
theorem q1095 : (Jvm.Cond.instantiable "BorrowedLives$Two" (3 : Nat)) ∈ lw_all := lw_g (lw_at lw_m5 11 rfl) rfl
theorem q1097 : (Jvm.Cond.instanceMethod ({ cls := "BorrowedLives$Two", name := "<init>", desc := "(CLBorrowedLives$Expression;LBorrowedLives$Expression;)V" } : Jvm.MethodName)) ∈ lw_all := lw_g (lw_at lw_m5 13 rfl) rfl
theorem q1098 : (Jvm.Cond.code ({ cls := "BorrowedLives$Two", name := "<init>", desc := "(CLBorrowedLives$Expression;LBorrowedLives$Expression;)V" } : Jvm.MethodName) prog_27_method_1_code (4 : Nat) (Option.none : Option Jvm.ClassFile.FieldType)) ∈ lw_all := lw_g (lw_at lw_m5 14 rfl) rfl
theorem q1099 : (Jvm.Cond.methodLinkNest "BorrowedLives$Two" (1 : Nat) ({ cls := "BorrowedLives$Expression", name := "<init>", desc := "()V" } : Jvm.MethodName) "BorrowedLives") ∈ lw_tbl := lw_at lw_m5 15 rfl
theorem q1100 : (Jvm.Cond.fieldLink "BorrowedLives$Two" (7 : Nat) "BorrowedLives$Two" "way" "C") ∈ lw_all := lw_g (lw_at lw_m5 16 rfl) rfl
theorem q1101 : (Jvm.Cond.fieldLink "BorrowedLives$Two" (13 : Nat) "BorrowedLives$Two" "a" "LBorrowedLives$Expression;") ∈ lw_all := lw_g (lw_at lw_m5 17 rfl) rfl
theorem q1102 : (Jvm.Cond.fieldLink "BorrowedLives$Two" (17 : Nat) "BorrowedLives$Two" "b" "LBorrowedLives$Expression;") ∈ lw_all := lw_g (lw_at lw_m5 18 rfl) rfl
theorem q1103 : (Jvm.Cond.laysFinal "BorrowedLives$Two" "BorrowedLives$Two" "way" "C") ∈ lw_all := lw_g (lw_at lw_m5 19 rfl) rfl
theorem q1104 : (Jvm.Cond.soleField "BorrowedLives$Two" "way") ∈ lw_all := lw_g (lw_at lw_m5 20 rfl) rfl
theorem q1105 : (Jvm.Cond.laysFinal "BorrowedLives$Two" "BorrowedLives$Two" "a" "LBorrowedLives$Expression;") ∈ lw_all := lw_g (lw_at lw_m5 21 rfl) rfl
theorem q1106 : (Jvm.Cond.soleField "BorrowedLives$Two" "a") ∈ lw_all := lw_g (lw_at lw_m5 22 rfl) rfl
theorem q1107 : (Jvm.Cond.laysFinal "BorrowedLives$Two" "BorrowedLives$Two" "b" "LBorrowedLives$Expression;") ∈ lw_all := lw_g (lw_at lw_m5 23 rfl) rfl
theorem q1108 : (Jvm.Cond.soleField "BorrowedLives$Two" "b") ∈ lw_all := lw_g (lw_at lw_m5 24 rfl) rfl
theorem q1109 : (Jvm.Cond.superclass "BorrowedLives$Two" "BorrowedLives$Expression") ∈ lw_all := lw_g (lw_at lw_m5 25 rfl) rfl
theorem q1357 : (Jvm.Cond.instanceMethod ({ cls := "BorrowedLives$Two", name := "worked", desc := "([I)I" } : Jvm.MethodName)) ∈ lw_all := lw_g (lw_at lw_m6 33 rfl) rfl
theorem q1358 : (Jvm.Cond.code ({ cls := "BorrowedLives$Two", name := "worked", desc := "([I)I" } : Jvm.MethodName) prog_27_method_2_code (4 : Nat) (Option.some Jvm.ClassFile.FieldType.int)) ∈ lw_all := lw_g (lw_at lw_m6 34 rfl) rfl
theorem q1359 : (Jvm.Cond.methodLink "BorrowedLives$Two" (20 : Nat) ({ cls := "BorrowedLives$Expression", name := "worked", desc := "([I)I" } : Jvm.MethodName)) ∈ lw_all := lw_g (lw_at lw_m6 35 rfl) rfl
theorem q1360 : (Jvm.Cond.selects "BorrowedLives$Two" ({ cls := "BorrowedLives$Expression", name := "worked", desc := "([I)I" } : Jvm.MethodName) ({ cls := "BorrowedLives$Two", name := "worked", desc := "([I)I" } : Jvm.MethodName)) ∈ lw_all := lw_g (lw_at lw_m6 36 rfl) rfl
theorem q2430 : (Jvm.Cond.castable "BorrowedLives$Two" "java/lang/Object") ∈ lw_tbl := lw_at lw_m10 146 rfl
theorem in_X15 : ∀ w ∈ wsX150, w ∈ lw_all := lw_in wsX150 [1103, 1105, 1107] (by decide +kernel) (by decide +kernel)
/-! BorrowedLives$Line -/
set_option maxRecDepth 100000
def RX16 : String := "BorrowedLives$Line"
abbrev cX16_init : ByteArray := prog_13_method_1_code
def yX16_init : MethodName := ⟨RX16, "<init>", "()V"⟩
theorem dX16_init_0 : decode cX16_init 0 = .ok (.aload_n 0, 1) := by decide +kernel
theorem dX16_init_1 : decode cX16_init 1 = .ok (.invokespecial 1, 3) := by decide +kernel
theorem dX16_init_4 : decode cX16_init 4 = .ok (.return_, 1) := by decide +kernel
theorem q158 : (Jvm.Cond.initialized "BorrowedLives$Line") ∈ lw_all := lw_g (lw_at lw_m1 34 rfl) rfl
theorem q1133 : (Jvm.Cond.instanceMethod ({ cls := "BorrowedLives$Line", name := "<init>", desc := "()V" } : Jvm.MethodName)) ∈ lw_all := lw_g (lw_at lw_m5 49 rfl) rfl
theorem q1134 : (Jvm.Cond.code ({ cls := "BorrowedLives$Line", name := "<init>", desc := "()V" } : Jvm.MethodName) prog_13_method_1_code (1 : Nat) (Option.none : Option Jvm.ClassFile.FieldType)) ∈ lw_all := lw_g (lw_at lw_m5 50 rfl) rfl
theorem q1135 : (Jvm.Cond.methodLink "BorrowedLives$Line" (1 : Nat) ({ cls := "java/lang/Object", name := "<init>", desc := "()V" } : Jvm.MethodName)) ∈ lw_all := lw_g (lw_at lw_m5 51 rfl) rfl
theorem q1525 : (Jvm.Cond.declares ({ cls := "BorrowedLives$Line", name := "isDone", desc := "(LBorrowedLives;LBorrowedLives$State;)Z" } : Jvm.MethodName)) ∈ lw_tbl := lw_at lw_m6 201 rfl
theorem q1526 : (Jvm.Cond.sameMethod "BorrowedLives$Line" "BorrowedLives$Line" "isDone" "(LBorrowedLives;LBorrowedLives$State;)Z") ∈ lw_all := lw_g (lw_at lw_m6 202 rfl) rfl
/-! BorrowedLives$Drawn -/
set_option maxRecDepth 100000
def RX17 : String := "BorrowedLives$Drawn"
def TX17 : u_T := fun k => match k with
  | _ => ("BorrowedLives$Drawn", "seed", "I", true)
def tyX17 : Nat → FieldType := fun k => match k with
  | _ => .int
abbrev wsX170 : List Cond := u_ws RX17 TX17 1
theorem nmX17 : ∀ a, a < 1 → ∀ b, b < 1 → a ≠ b → (TX17 a).2.1 ≠ (TX17 b).2.1 := by decide +kernel
theorem tyX17_ok : ∀ k, k < 1 → parseFieldDescriptor (TX17 k).2.2.1 = some (tyX17 k) := by decide +kernel
abbrev cX17_init : ByteArray := prog_4_method_1_code
def yX17_init : MethodName := ⟨RX17, "<init>", "(I)V"⟩
def dkwX17_init_0 : List UInt8 := [42, 183, 0, 1, 42, 27, 181, 0, 7, 177]
abbrev dktX17_init_0 : List UInt8 := dkwX17_init_0 ++ []
theorem dksX17_init_0 : cX17_init.data.toList.drop 0 = dktX17_init_0 := by decide +kernel
theorem dX17_init_0 : decode cX17_init 0 = .ok (.aload_n 0, 1) := dk_42 (dk_at dksX17_init_0 0 rfl rfl)
theorem dX17_init_1 : decode cX17_init 1 = .ok (.invokespecial 1, 3) := dk_183 0 1 (dk_at dksX17_init_0 1 rfl rfl)
theorem dX17_init_4 : decode cX17_init 4 = .ok (.aload_n 0, 1) := dk_42 (dk_at dksX17_init_0 4 rfl rfl)
theorem dX17_init_5 : decode cX17_init 5 = .ok (.iload_n 1, 1) := dk_27 (dk_at dksX17_init_0 5 rfl rfl)
theorem dX17_init_6 : decode cX17_init 6 = .ok (.putfield 7, 3) := dk_181 0 7 (dk_at dksX17_init_0 6 rfl rfl)
theorem dX17_init_9 : decode cX17_init 9 = .ok (.return_, 1) := dk_177 (dk_at dksX17_init_0 9 rfl rfl)
abbrev cX17_isDone : ByteArray := prog_4_method_2_code
def yX17_isDone : MethodName := ⟨RX17, "isDone", "(LBorrowedLives;LBorrowedLives$State;)Z"⟩
def dkwX17_isDone_1 : List UInt8 := [4, 167, 0, 4, 3, 172]
abbrev dktX17_isDone_1 : List UInt8 := dkwX17_isDone_1 ++ []
def dkwX17_isDone_0 : List UInt8 := [43, 42, 180, 0, 7, 133, 181, 0, 13, 44, 180, 0, 19, 154, 0, 15, 43, 44, 182, 0, 25, 155, 0, 7]
abbrev dktX17_isDone_0 : List UInt8 := dkwX17_isDone_0 ++ dktX17_isDone_1
theorem dksX17_isDone_0 : cX17_isDone.data.toList.drop 0 = dktX17_isDone_0 := by decide +kernel
theorem dksX17_isDone_1 : cX17_isDone.data.toList.drop 24 = dktX17_isDone_1 := dk_seg dksX17_isDone_0 24 rfl rfl
theorem dX17_isDone_0 : decode cX17_isDone 0 = .ok (.aload_n 1, 1) := dk_43 (dk_at dksX17_isDone_0 0 rfl rfl)
theorem dX17_isDone_1 : decode cX17_isDone 1 = .ok (.aload_n 0, 1) := dk_42 (dk_at dksX17_isDone_0 1 rfl rfl)
theorem dX17_isDone_2 : decode cX17_isDone 2 = .ok (.getfield 7, 3) := dk_180 0 7 (dk_at dksX17_isDone_0 2 rfl rfl)
theorem dX17_isDone_5 : decode cX17_isDone 5 = .ok (.i2l, 1) := dk_133 (dk_at dksX17_isDone_0 5 rfl rfl)
theorem dX17_isDone_6 : decode cX17_isDone 6 = .ok (.putfield 13, 3) := dk_181 0 13 (dk_at dksX17_isDone_0 6 rfl rfl)
theorem dX17_isDone_9 : decode cX17_isDone 9 = .ok (.aload_n 2, 1) := dk_44 (dk_at dksX17_isDone_0 9 rfl rfl)
theorem dX17_isDone_10 : decode cX17_isDone 10 = .ok (.getfield 19, 3) := dk_180 0 19 (dk_at dksX17_isDone_0 10 rfl rfl)
theorem dX17_isDone_13 : decode cX17_isDone 13 = .ok (.ifCond .ne 15, 3) := dk_154 0 15 (dk_at dksX17_isDone_0 13 rfl rfl)
theorem dX17_isDone_16 : decode cX17_isDone 16 = .ok (.aload_n 1, 1) := dk_43 (dk_at dksX17_isDone_0 16 rfl rfl)
theorem dX17_isDone_17 : decode cX17_isDone 17 = .ok (.aload_n 2, 1) := dk_44 (dk_at dksX17_isDone_0 17 rfl rfl)
theorem dX17_isDone_18 : decode cX17_isDone 18 = .ok (.invokevirtual 25, 3) := dk_182 0 25 (dk_at dksX17_isDone_0 18 rfl rfl)
theorem dX17_isDone_21 : decode cX17_isDone 21 = .ok (.ifCond .lt 7, 3) := dk_155 0 7 (dk_at dksX17_isDone_0 21 rfl rfl)
theorem dX17_isDone_24 : decode cX17_isDone 24 = .ok (.iconst 1, 1) := dk_4 (dk_at dksX17_isDone_1 0 rfl rfl)
theorem dX17_isDone_25 : decode cX17_isDone 25 = .ok (.goto 4, 3) := dk_167 0 4 (dk_at dksX17_isDone_1 1 rfl rfl)
theorem dX17_isDone_28 : decode cX17_isDone 28 = .ok (.iconst 0, 1) := dk_3 (dk_at dksX17_isDone_1 4 rfl rfl)
theorem dX17_isDone_29 : decode cX17_isDone 29 = .ok (.ireturn, 1) := dk_172 (dk_at dksX17_isDone_1 5 rfl rfl)
theorem q159 : (Jvm.Cond.initialized "BorrowedLives$Drawn") ∈ lw_all := lw_g (lw_at lw_m1 35 rfl) rfl
theorem q307 : (Jvm.Cond.fieldLinkNest "BorrowedLives$Drawn" (19 : Nat) "BorrowedLives$State" "away" "Z" "BorrowedLives") ∈ lw_tbl := lw_at lw_m1 183 rfl
theorem q392 : (Jvm.Cond.fieldLinkNest "BorrowedLives$Drawn" (13 : Nat) "BorrowedLives" "g" "J" "BorrowedLives") ∈ lw_tbl := lw_at lw_m2 28 rfl
theorem q985 : (Jvm.Cond.selects "BorrowedLives$Drawn" ({ cls := "java/lang/Object", name := "getClass", desc := "()Ljava/lang/Class;" } : Jvm.MethodName) ({ cls := "java/lang/Object", name := "getClass", desc := "()Ljava/lang/Class;" } : Jvm.MethodName)) ∈ lw_all := lw_g (lw_at lw_m4 141 rfl) rfl
theorem q1128 : (Jvm.Cond.instantiable "BorrowedLives$Drawn" (1 : Nat)) ∈ lw_all := lw_g (lw_at lw_m5 44 rfl) rfl
theorem q1130 : (Jvm.Cond.instanceMethod ({ cls := "BorrowedLives$Drawn", name := "<init>", desc := "(I)V" } : Jvm.MethodName)) ∈ lw_all := lw_g (lw_at lw_m5 46 rfl) rfl
theorem q1131 : (Jvm.Cond.code ({ cls := "BorrowedLives$Drawn", name := "<init>", desc := "(I)V" } : Jvm.MethodName) prog_4_method_1_code (2 : Nat) (Option.none : Option Jvm.ClassFile.FieldType)) ∈ lw_all := lw_g (lw_at lw_m5 47 rfl) rfl
theorem q1132 : (Jvm.Cond.methodLinkNest "BorrowedLives$Drawn" (1 : Nat) ({ cls := "BorrowedLives$Line", name := "<init>", desc := "()V" } : Jvm.MethodName) "BorrowedLives") ∈ lw_tbl := lw_at lw_m5 48 rfl
theorem q1136 : (Jvm.Cond.fieldLink "BorrowedLives$Drawn" (7 : Nat) "BorrowedLives$Drawn" "seed" "I") ∈ lw_all := lw_g (lw_at lw_m5 52 rfl) rfl
theorem q1137 : (Jvm.Cond.laysFinal "BorrowedLives$Drawn" "BorrowedLives$Drawn" "seed" "I") ∈ lw_all := lw_g (lw_at lw_m5 53 rfl) rfl
theorem q1138 : (Jvm.Cond.soleField "BorrowedLives$Drawn" "seed") ∈ lw_all := lw_g (lw_at lw_m5 54 rfl) rfl
theorem q1139 : (Jvm.Cond.superclass "BorrowedLives$Drawn" "BorrowedLives$Line") ∈ lw_all := lw_g (lw_at lw_m5 55 rfl) rfl
theorem q1527 : (Jvm.Cond.selects "BorrowedLives$Drawn" ({ cls := "BorrowedLives$Line", name := "isDone", desc := "(LBorrowedLives;LBorrowedLives$State;)Z" } : Jvm.MethodName) ({ cls := "BorrowedLives$Drawn", name := "isDone", desc := "(LBorrowedLives;LBorrowedLives$State;)Z" } : Jvm.MethodName)) ∈ lw_all := lw_g (lw_at lw_m6 203 rfl) rfl
theorem q1528 : (Jvm.Cond.instanceMethod ({ cls := "BorrowedLives$Drawn", name := "isDone", desc := "(LBorrowedLives;LBorrowedLives$State;)Z" } : Jvm.MethodName)) ∈ lw_all := lw_g (lw_at lw_m6 204 rfl) rfl
theorem q1529 : (Jvm.Cond.code ({ cls := "BorrowedLives$Drawn", name := "isDone", desc := "(LBorrowedLives;LBorrowedLives$State;)Z" } : Jvm.MethodName) prog_4_method_2_code (3 : Nat) (Option.some Jvm.ClassFile.FieldType.boolean)) ∈ lw_all := lw_g (lw_at lw_m6 205 rfl) rfl
theorem q1530 : (Jvm.Cond.methodLinkNest "BorrowedLives$Drawn" (25 : Nat) ({ cls := "BorrowedLives", name := "drawsLot", desc := "(LBorrowedLives$State;)I" } : Jvm.MethodName) "BorrowedLives") ∈ lw_tbl := lw_at lw_m6 206 rfl
theorem q2408 : (Jvm.Cond.castable "BorrowedLives$Drawn" "BorrowedLives$Line") ∈ lw_tbl := lw_at lw_m10 124 rfl
theorem q2431 : (Jvm.Cond.castable "BorrowedLives$Drawn" "java/lang/Object") ∈ lw_tbl := lw_at lw_m10 147 rfl
theorem in_X17 : ∀ w ∈ wsX170, w ∈ lw_all := lw_in wsX170 [1137] (by decide +kernel) (by decide +kernel)
/-! BorrowedLives$Passed -/
set_option maxRecDepth 100000
def RX18 : String := "BorrowedLives$Passed"
abbrev cX18_init : ByteArray := prog_19_method_1_code
def yX18_init : MethodName := ⟨RX18, "<init>", "()V"⟩
theorem dX18_init_0 : decode cX18_init 0 = .ok (.aload_n 0, 1) := by decide +kernel
theorem dX18_init_1 : decode cX18_init 1 = .ok (.invokespecial 3, 3) := by decide +kernel
theorem dX18_init_4 : decode cX18_init 4 = .ok (.return_, 1) := by decide +kernel
abbrev cX18_isDone : ByteArray := prog_19_method_2_code
def yX18_isDone : MethodName := ⟨RX18, "isDone", "(LBorrowedLives;LBorrowedLives$State;)Z"⟩
def dkwX18_isDone_1 : List UInt8 := [182, 0, 23, 182, 0, 29, 4, 172]
abbrev dktX18_isDone_1 : List UInt8 := dkwX18_isDone_1 ++ []
def dkwX18_isDone_0 : List UInt8 := [44, 180, 0, 9, 153, 0, 12, 44, 180, 0, 15, 16, 7, 160, 0, 5, 3, 172, 43, 44, 43, 180, 0, 19]
abbrev dktX18_isDone_0 : List UInt8 := dkwX18_isDone_0 ++ dktX18_isDone_1
theorem dksX18_isDone_0 : cX18_isDone.data.toList.drop 0 = dktX18_isDone_0 := by decide +kernel
theorem dksX18_isDone_1 : cX18_isDone.data.toList.drop 24 = dktX18_isDone_1 := dk_seg dksX18_isDone_0 24 rfl rfl
theorem dX18_isDone_0 : decode cX18_isDone 0 = .ok (.aload_n 2, 1) := dk_44 (dk_at dksX18_isDone_0 0 rfl rfl)
theorem dX18_isDone_1 : decode cX18_isDone 1 = .ok (.getfield 9, 3) := dk_180 0 9 (dk_at dksX18_isDone_0 1 rfl rfl)
theorem dX18_isDone_4 : decode cX18_isDone 4 = .ok (.ifCond .eq 12, 3) := dk_153 0 12 (dk_at dksX18_isDone_0 4 rfl rfl)
theorem dX18_isDone_7 : decode cX18_isDone 7 = .ok (.aload_n 2, 1) := dk_44 (dk_at dksX18_isDone_0 7 rfl rfl)
theorem dX18_isDone_8 : decode cX18_isDone 8 = .ok (.getfield 15, 3) := dk_180 0 15 (dk_at dksX18_isDone_0 8 rfl rfl)
theorem dX18_isDone_11 : decode cX18_isDone 11 = .ok (.bipush 7, 2) := dk_16 7 (dk_at dksX18_isDone_0 11 rfl rfl)
theorem dX18_isDone_13 : decode cX18_isDone 13 = .ok (.if_icmp .ne 5, 3) := dk_160 0 5 (dk_at dksX18_isDone_0 13 rfl rfl)
theorem dX18_isDone_16 : decode cX18_isDone 16 = .ok (.iconst 0, 1) := dk_3 (dk_at dksX18_isDone_0 16 rfl rfl)
theorem dX18_isDone_17 : decode cX18_isDone 17 = .ok (.ireturn, 1) := dk_172 (dk_at dksX18_isDone_0 17 rfl rfl)
theorem dX18_isDone_18 : decode cX18_isDone 18 = .ok (.aload_n 1, 1) := dk_43 (dk_at dksX18_isDone_0 18 rfl rfl)
theorem dX18_isDone_19 : decode cX18_isDone 19 = .ok (.aload_n 2, 1) := dk_44 (dk_at dksX18_isDone_0 19 rfl rfl)
theorem dX18_isDone_20 : decode cX18_isDone 20 = .ok (.aload_n 1, 1) := dk_43 (dk_at dksX18_isDone_0 20 rfl rfl)
theorem dX18_isDone_21 : decode cX18_isDone 21 = .ok (.getfield 19, 3) := dk_180 0 19 (dk_at dksX18_isDone_0 21 rfl rfl)
theorem dX18_isDone_24 : decode cX18_isDone 24 = .ok (.invokevirtual 23, 3) := dk_182 0 23 (dk_at dksX18_isDone_1 0 rfl rfl)
theorem dX18_isDone_27 : decode cX18_isDone 27 = .ok (.invokevirtual 29, 3) := dk_182 0 29 (dk_at dksX18_isDone_1 3 rfl rfl)
theorem dX18_isDone_30 : decode cX18_isDone 30 = .ok (.iconst 1, 1) := dk_4 (dk_at dksX18_isDone_1 6 rfl rfl)
theorem dX18_isDone_31 : decode cX18_isDone 31 = .ok (.ireturn, 1) := dk_172 (dk_at dksX18_isDone_1 7 rfl rfl)
theorem q160 : (Jvm.Cond.initialized "BorrowedLives$Passed") ∈ lw_all := lw_g (lw_at lw_m1 36 rfl) rfl
theorem q306 : (Jvm.Cond.fieldLinkNest "BorrowedLives$Passed" (9 : Nat) "BorrowedLives$State" "away" "Z" "BorrowedLives") ∈ lw_tbl := lw_at lw_m1 182 rfl
theorem q310 : (Jvm.Cond.fieldLinkNest "BorrowedLives$Passed" (15 : Nat) "BorrowedLives$State" "days" "I" "BorrowedLives") ∈ lw_tbl := lw_at lw_m1 186 rfl
theorem q376 : (Jvm.Cond.fieldLinkNest "BorrowedLives$Passed" (19 : Nat) "BorrowedLives" "town" "LBorrowedLives$Town;" "BorrowedLives") ∈ lw_tbl := lw_at lw_m2 12 rfl
theorem q997 : (Jvm.Cond.selects "BorrowedLives$Passed" ({ cls := "java/lang/Object", name := "getClass", desc := "()Ljava/lang/Class;" } : Jvm.MethodName) ({ cls := "java/lang/Object", name := "getClass", desc := "()Ljava/lang/Class;" } : Jvm.MethodName)) ∈ lw_all := lw_g (lw_at lw_m4 153 rfl) rfl
theorem q1141 : (Jvm.Cond.instantiable "BorrowedLives$Passed" (0 : Nat)) ∈ lw_all := lw_g (lw_at lw_m5 57 rfl) rfl
theorem q1143 : (Jvm.Cond.instanceMethod ({ cls := "BorrowedLives$Passed", name := "<init>", desc := "()V" } : Jvm.MethodName)) ∈ lw_all := lw_g (lw_at lw_m5 59 rfl) rfl
theorem q1144 : (Jvm.Cond.code ({ cls := "BorrowedLives$Passed", name := "<init>", desc := "()V" } : Jvm.MethodName) prog_19_method_1_code (1 : Nat) (Option.none : Option Jvm.ClassFile.FieldType)) ∈ lw_all := lw_g (lw_at lw_m5 60 rfl) rfl
theorem q1145 : (Jvm.Cond.methodLinkNest "BorrowedLives$Passed" (3 : Nat) ({ cls := "BorrowedLives$Line", name := "<init>", desc := "()V" } : Jvm.MethodName) "BorrowedLives") ∈ lw_tbl := lw_at lw_m5 61 rfl
theorem q1146 : (Jvm.Cond.superclass "BorrowedLives$Passed" "BorrowedLives$Line") ∈ lw_all := lw_g (lw_at lw_m5 62 rfl) rfl
theorem q1538 : (Jvm.Cond.selects "BorrowedLives$Passed" ({ cls := "BorrowedLives$Line", name := "isDone", desc := "(LBorrowedLives;LBorrowedLives$State;)Z" } : Jvm.MethodName) ({ cls := "BorrowedLives$Passed", name := "isDone", desc := "(LBorrowedLives;LBorrowedLives$State;)Z" } : Jvm.MethodName)) ∈ lw_all := lw_g (lw_at lw_m6 214 rfl) rfl
theorem q1539 : (Jvm.Cond.instanceMethod ({ cls := "BorrowedLives$Passed", name := "isDone", desc := "(LBorrowedLives;LBorrowedLives$State;)Z" } : Jvm.MethodName)) ∈ lw_all := lw_g (lw_at lw_m6 215 rfl) rfl
theorem q1540 : (Jvm.Cond.code ({ cls := "BorrowedLives$Passed", name := "isDone", desc := "(LBorrowedLives;LBorrowedLives$State;)Z" } : Jvm.MethodName) prog_19_method_2_code (3 : Nat) (Option.some Jvm.ClassFile.FieldType.boolean)) ∈ lw_all := lw_g (lw_at lw_m6 216 rfl) rfl
theorem q1541 : (Jvm.Cond.methodLink "BorrowedLives$Passed" (23 : Nat) ({ cls := "BorrowedLives$Town", name := "sign", desc := "()I" } : Jvm.MethodName)) ∈ lw_all := lw_g (lw_at lw_m6 217 rfl) rfl
theorem q1542 : (Jvm.Cond.methodLinkNest "BorrowedLives$Passed" (29 : Nat) ({ cls := "BorrowedLives", name := "passes", desc := "(LBorrowedLives$State;I)V" } : Jvm.MethodName) "BorrowedLives") ∈ lw_tbl := lw_at lw_m6 218 rfl
theorem q2411 : (Jvm.Cond.castable "BorrowedLives$Passed" "BorrowedLives$Line") ∈ lw_tbl := lw_at lw_m10 127 rfl
theorem q2432 : (Jvm.Cond.castable "BorrowedLives$Passed" "java/lang/Object") ∈ lw_tbl := lw_at lw_m10 148 rfl
/-! BorrowedLives$Gone -/
set_option maxRecDepth 100000
def RX19 : String := "BorrowedLives$Gone"
abbrev cX19_init : ByteArray := prog_9_method_1_code
def yX19_init : MethodName := ⟨RX19, "<init>", "()V"⟩
theorem dX19_init_0 : decode cX19_init 0 = .ok (.aload_n 0, 1) := by decide +kernel
theorem dX19_init_1 : decode cX19_init 1 = .ok (.invokespecial 1, 3) := by decide +kernel
theorem dX19_init_4 : decode cX19_init 4 = .ok (.return_, 1) := by decide +kernel
abbrev cX19_isDone : ByteArray := prog_9_method_2_code
def yX19_isDone : MethodName := ⟨RX19, "isDone", "(LBorrowedLives;LBorrowedLives$State;)Z"⟩
def dkwX19_isDone_0 : List UInt8 := [44, 180, 0, 7, 154, 0, 5, 3, 172, 43, 44, 182, 0, 13, 87, 4, 172]
abbrev dktX19_isDone_0 : List UInt8 := dkwX19_isDone_0 ++ []
theorem dksX19_isDone_0 : cX19_isDone.data.toList.drop 0 = dktX19_isDone_0 := by decide +kernel
theorem dX19_isDone_0 : decode cX19_isDone 0 = .ok (.aload_n 2, 1) := dk_44 (dk_at dksX19_isDone_0 0 rfl rfl)
theorem dX19_isDone_1 : decode cX19_isDone 1 = .ok (.getfield 7, 3) := dk_180 0 7 (dk_at dksX19_isDone_0 1 rfl rfl)
theorem dX19_isDone_4 : decode cX19_isDone 4 = .ok (.ifCond .ne 5, 3) := dk_154 0 5 (dk_at dksX19_isDone_0 4 rfl rfl)
theorem dX19_isDone_7 : decode cX19_isDone 7 = .ok (.iconst 0, 1) := dk_3 (dk_at dksX19_isDone_0 7 rfl rfl)
theorem dX19_isDone_8 : decode cX19_isDone 8 = .ok (.ireturn, 1) := dk_172 (dk_at dksX19_isDone_0 8 rfl rfl)
theorem dX19_isDone_9 : decode cX19_isDone 9 = .ok (.aload_n 1, 1) := dk_43 (dk_at dksX19_isDone_0 9 rfl rfl)
theorem dX19_isDone_10 : decode cX19_isDone 10 = .ok (.aload_n 2, 1) := dk_44 (dk_at dksX19_isDone_0 10 rfl rfl)
theorem dX19_isDone_11 : decode cX19_isDone 11 = .ok (.invokevirtual 13, 3) := dk_182 0 13 (dk_at dksX19_isDone_0 11 rfl rfl)
theorem dX19_isDone_14 : decode cX19_isDone 14 = .ok (.pop, 1) := dk_87 (dk_at dksX19_isDone_0 14 rfl rfl)
theorem dX19_isDone_15 : decode cX19_isDone 15 = .ok (.iconst 1, 1) := dk_4 (dk_at dksX19_isDone_0 15 rfl rfl)
theorem dX19_isDone_16 : decode cX19_isDone 16 = .ok (.ireturn, 1) := dk_172 (dk_at dksX19_isDone_0 16 rfl rfl)
theorem q161 : (Jvm.Cond.initialized "BorrowedLives$Gone") ∈ lw_all := lw_g (lw_at lw_m1 37 rfl) rfl
theorem q304 : (Jvm.Cond.fieldLinkNest "BorrowedLives$Gone" (7 : Nat) "BorrowedLives$State" "away" "Z" "BorrowedLives") ∈ lw_tbl := lw_at lw_m1 180 rfl
theorem q989 : (Jvm.Cond.selects "BorrowedLives$Gone" ({ cls := "java/lang/Object", name := "getClass", desc := "()Ljava/lang/Class;" } : Jvm.MethodName) ({ cls := "java/lang/Object", name := "getClass", desc := "()Ljava/lang/Class;" } : Jvm.MethodName)) ∈ lw_all := lw_g (lw_at lw_m4 145 rfl) rfl
theorem q1148 : (Jvm.Cond.instantiable "BorrowedLives$Gone" (0 : Nat)) ∈ lw_all := lw_g (lw_at lw_m5 64 rfl) rfl
theorem q1150 : (Jvm.Cond.instanceMethod ({ cls := "BorrowedLives$Gone", name := "<init>", desc := "()V" } : Jvm.MethodName)) ∈ lw_all := lw_g (lw_at lw_m5 66 rfl) rfl
theorem q1151 : (Jvm.Cond.code ({ cls := "BorrowedLives$Gone", name := "<init>", desc := "()V" } : Jvm.MethodName) prog_9_method_1_code (1 : Nat) (Option.none : Option Jvm.ClassFile.FieldType)) ∈ lw_all := lw_g (lw_at lw_m5 67 rfl) rfl
theorem q1152 : (Jvm.Cond.methodLinkNest "BorrowedLives$Gone" (1 : Nat) ({ cls := "BorrowedLives$Line", name := "<init>", desc := "()V" } : Jvm.MethodName) "BorrowedLives") ∈ lw_tbl := lw_at lw_m5 68 rfl
theorem q1153 : (Jvm.Cond.superclass "BorrowedLives$Gone" "BorrowedLives$Line") ∈ lw_all := lw_g (lw_at lw_m5 69 rfl) rfl
theorem q1531 : (Jvm.Cond.selects "BorrowedLives$Gone" ({ cls := "BorrowedLives$Line", name := "isDone", desc := "(LBorrowedLives;LBorrowedLives$State;)Z" } : Jvm.MethodName) ({ cls := "BorrowedLives$Gone", name := "isDone", desc := "(LBorrowedLives;LBorrowedLives$State;)Z" } : Jvm.MethodName)) ∈ lw_all := lw_g (lw_at lw_m6 207 rfl) rfl
theorem q1532 : (Jvm.Cond.instanceMethod ({ cls := "BorrowedLives$Gone", name := "isDone", desc := "(LBorrowedLives;LBorrowedLives$State;)Z" } : Jvm.MethodName)) ∈ lw_all := lw_g (lw_at lw_m6 208 rfl) rfl
theorem q1533 : (Jvm.Cond.code ({ cls := "BorrowedLives$Gone", name := "isDone", desc := "(LBorrowedLives;LBorrowedLives$State;)Z" } : Jvm.MethodName) prog_9_method_2_code (3 : Nat) (Option.some Jvm.ClassFile.FieldType.boolean)) ∈ lw_all := lw_g (lw_at lw_m6 209 rfl) rfl
theorem q1534 : (Jvm.Cond.methodLinkNest "BorrowedLives$Gone" (13 : Nat) ({ cls := "BorrowedLives", name := "comesHome", desc := "(LBorrowedLives$State;)I" } : Jvm.MethodName) "BorrowedLives") ∈ lw_tbl := lw_at lw_m6 210 rfl
theorem q2409 : (Jvm.Cond.castable "BorrowedLives$Gone" "BorrowedLives$Line") ∈ lw_tbl := lw_at lw_m10 125 rfl
theorem q2433 : (Jvm.Cond.castable "BorrowedLives$Gone" "java/lang/Object") ∈ lw_tbl := lw_at lw_m10 149 rfl
/-! BorrowedLives$Hidden -/
set_option maxRecDepth 100000
def RX20 : String := "BorrowedLives$Hidden"
def TX20 : u_T := fun k => match k with
  | 0 => ("BorrowedLives$Hidden", "life", "I", true)
  | _ => ("BorrowedLives$Hidden", "coins", "I", true)
def tyX20 : Nat → FieldType := fun k => match k with
  | 0 => .int
  | _ => .int
abbrev wsX200 : List Cond := u_ws RX20 TX20 2
theorem nmX20 : ∀ a, a < 2 → ∀ b, b < 2 → a ≠ b → (TX20 a).2.1 ≠ (TX20 b).2.1 := by decide +kernel
theorem tyX20_ok : ∀ k, k < 2 → parseFieldDescriptor (TX20 k).2.2.1 = some (tyX20 k) := by decide +kernel
abbrev cX20_init : ByteArray := prog_11_method_1_code
def yX20_init : MethodName := ⟨RX20, "<init>", "(II)V"⟩
def dkwX20_init_0 : List UInt8 := [42, 183, 0, 1, 42, 27, 181, 0, 7, 42, 28, 181, 0, 13, 177]
abbrev dktX20_init_0 : List UInt8 := dkwX20_init_0 ++ []
theorem dksX20_init_0 : cX20_init.data.toList.drop 0 = dktX20_init_0 := by decide +kernel
theorem dX20_init_0 : decode cX20_init 0 = .ok (.aload_n 0, 1) := dk_42 (dk_at dksX20_init_0 0 rfl rfl)
theorem dX20_init_1 : decode cX20_init 1 = .ok (.invokespecial 1, 3) := dk_183 0 1 (dk_at dksX20_init_0 1 rfl rfl)
theorem dX20_init_4 : decode cX20_init 4 = .ok (.aload_n 0, 1) := dk_42 (dk_at dksX20_init_0 4 rfl rfl)
theorem dX20_init_5 : decode cX20_init 5 = .ok (.iload_n 1, 1) := dk_27 (dk_at dksX20_init_0 5 rfl rfl)
theorem dX20_init_6 : decode cX20_init 6 = .ok (.putfield 7, 3) := dk_181 0 7 (dk_at dksX20_init_0 6 rfl rfl)
theorem dX20_init_9 : decode cX20_init 9 = .ok (.aload_n 0, 1) := dk_42 (dk_at dksX20_init_0 9 rfl rfl)
theorem dX20_init_10 : decode cX20_init 10 = .ok (.iload_n 2, 1) := dk_28 (dk_at dksX20_init_0 10 rfl rfl)
theorem dX20_init_11 : decode cX20_init 11 = .ok (.putfield 13, 3) := dk_181 0 13 (dk_at dksX20_init_0 11 rfl rfl)
theorem dX20_init_14 : decode cX20_init 14 = .ok (.return_, 1) := dk_177 (dk_at dksX20_init_0 14 rfl rfl)
abbrev cX20_isDone : ByteArray := prog_11_method_2_code
def yX20_isDone : MethodName := ⟨RX20, "isDone", "(LBorrowedLives;LBorrowedLives$State;)Z"⟩
def dkwX20_isDone_1 : List UInt8 := [172, 44, 180, 0, 26, 42, 180, 0, 7, 42, 180, 0, 13, 79, 4, 172]
abbrev dktX20_isDone_1 : List UInt8 := dkwX20_isDone_1 ++ []
def dkwX20_isDone_0 : List UInt8 := [44, 180, 0, 16, 154, 0, 19, 44, 180, 0, 22, 42, 180, 0, 7, 46, 42, 180, 0, 13, 162, 0, 5, 3]
abbrev dktX20_isDone_0 : List UInt8 := dkwX20_isDone_0 ++ dktX20_isDone_1
theorem dksX20_isDone_0 : cX20_isDone.data.toList.drop 0 = dktX20_isDone_0 := by decide +kernel
theorem dksX20_isDone_1 : cX20_isDone.data.toList.drop 24 = dktX20_isDone_1 := dk_seg dksX20_isDone_0 24 rfl rfl
theorem dX20_isDone_0 : decode cX20_isDone 0 = .ok (.aload_n 2, 1) := dk_44 (dk_at dksX20_isDone_0 0 rfl rfl)
theorem dX20_isDone_1 : decode cX20_isDone 1 = .ok (.getfield 16, 3) := dk_180 0 16 (dk_at dksX20_isDone_0 1 rfl rfl)
theorem dX20_isDone_4 : decode cX20_isDone 4 = .ok (.ifCond .ne 19, 3) := dk_154 0 19 (dk_at dksX20_isDone_0 4 rfl rfl)
theorem dX20_isDone_7 : decode cX20_isDone 7 = .ok (.aload_n 2, 1) := dk_44 (dk_at dksX20_isDone_0 7 rfl rfl)
theorem dX20_isDone_8 : decode cX20_isDone 8 = .ok (.getfield 22, 3) := dk_180 0 22 (dk_at dksX20_isDone_0 8 rfl rfl)
theorem dX20_isDone_11 : decode cX20_isDone 11 = .ok (.aload_n 0, 1) := dk_42 (dk_at dksX20_isDone_0 11 rfl rfl)
theorem dX20_isDone_12 : decode cX20_isDone 12 = .ok (.getfield 7, 3) := dk_180 0 7 (dk_at dksX20_isDone_0 12 rfl rfl)
theorem dX20_isDone_15 : decode cX20_isDone 15 = .ok (.iaload, 1) := dk_46 (dk_at dksX20_isDone_0 15 rfl rfl)
theorem dX20_isDone_16 : decode cX20_isDone 16 = .ok (.aload_n 0, 1) := dk_42 (dk_at dksX20_isDone_0 16 rfl rfl)
theorem dX20_isDone_17 : decode cX20_isDone 17 = .ok (.getfield 13, 3) := dk_180 0 13 (dk_at dksX20_isDone_0 17 rfl rfl)
theorem dX20_isDone_20 : decode cX20_isDone 20 = .ok (.if_icmp .ge 5, 3) := dk_162 0 5 (dk_at dksX20_isDone_0 20 rfl rfl)
theorem dX20_isDone_23 : decode cX20_isDone 23 = .ok (.iconst 0, 1) := dk_3 (dk_at dksX20_isDone_0 23 rfl rfl)
theorem dX20_isDone_24 : decode cX20_isDone 24 = .ok (.ireturn, 1) := dk_172 (dk_at dksX20_isDone_1 0 rfl rfl)
theorem dX20_isDone_25 : decode cX20_isDone 25 = .ok (.aload_n 2, 1) := dk_44 (dk_at dksX20_isDone_1 1 rfl rfl)
theorem dX20_isDone_26 : decode cX20_isDone 26 = .ok (.getfield 26, 3) := dk_180 0 26 (dk_at dksX20_isDone_1 2 rfl rfl)
theorem dX20_isDone_29 : decode cX20_isDone 29 = .ok (.aload_n 0, 1) := dk_42 (dk_at dksX20_isDone_1 5 rfl rfl)
theorem dX20_isDone_30 : decode cX20_isDone 30 = .ok (.getfield 7, 3) := dk_180 0 7 (dk_at dksX20_isDone_1 6 rfl rfl)
theorem dX20_isDone_33 : decode cX20_isDone 33 = .ok (.aload_n 0, 1) := dk_42 (dk_at dksX20_isDone_1 9 rfl rfl)
theorem dX20_isDone_34 : decode cX20_isDone 34 = .ok (.getfield 13, 3) := dk_180 0 13 (dk_at dksX20_isDone_1 10 rfl rfl)
theorem dX20_isDone_37 : decode cX20_isDone 37 = .ok (.iastore, 1) := dk_79 (dk_at dksX20_isDone_1 13 rfl rfl)
theorem dX20_isDone_38 : decode cX20_isDone 38 = .ok (.iconst 1, 1) := dk_4 (dk_at dksX20_isDone_1 14 rfl rfl)
theorem dX20_isDone_39 : decode cX20_isDone 39 = .ok (.ireturn, 1) := dk_172 (dk_at dksX20_isDone_1 15 rfl rfl)
theorem q162 : (Jvm.Cond.initialized "BorrowedLives$Hidden") ∈ lw_all := lw_g (lw_at lw_m1 38 rfl) rfl
theorem q291 : (Jvm.Cond.fieldLinkNest "BorrowedLives$Hidden" (22 : Nat) "BorrowedLives$State" "purse" "[I" "BorrowedLives") ∈ lw_tbl := lw_at lw_m1 167 rfl
theorem q298 : (Jvm.Cond.fieldLinkNest "BorrowedLives$Hidden" (26 : Nat) "BorrowedLives$State" "hidden" "[I" "BorrowedLives") ∈ lw_tbl := lw_at lw_m1 174 rfl
theorem q305 : (Jvm.Cond.fieldLinkNest "BorrowedLives$Hidden" (16 : Nat) "BorrowedLives$State" "away" "Z" "BorrowedLives") ∈ lw_tbl := lw_at lw_m1 181 rfl
theorem q991 : (Jvm.Cond.selects "BorrowedLives$Hidden" ({ cls := "java/lang/Object", name := "getClass", desc := "()Ljava/lang/Class;" } : Jvm.MethodName) ({ cls := "java/lang/Object", name := "getClass", desc := "()Ljava/lang/Class;" } : Jvm.MethodName)) ∈ lw_all := lw_g (lw_at lw_m4 147 rfl) rfl
theorem q1155 : (Jvm.Cond.instantiable "BorrowedLives$Hidden" (2 : Nat)) ∈ lw_all := lw_g (lw_at lw_m5 71 rfl) rfl
theorem q1157 : (Jvm.Cond.instanceMethod ({ cls := "BorrowedLives$Hidden", name := "<init>", desc := "(II)V" } : Jvm.MethodName)) ∈ lw_all := lw_g (lw_at lw_m5 73 rfl) rfl
theorem q1158 : (Jvm.Cond.code ({ cls := "BorrowedLives$Hidden", name := "<init>", desc := "(II)V" } : Jvm.MethodName) prog_11_method_1_code (3 : Nat) (Option.none : Option Jvm.ClassFile.FieldType)) ∈ lw_all := lw_g (lw_at lw_m5 74 rfl) rfl
theorem q1159 : (Jvm.Cond.methodLinkNest "BorrowedLives$Hidden" (1 : Nat) ({ cls := "BorrowedLives$Line", name := "<init>", desc := "()V" } : Jvm.MethodName) "BorrowedLives") ∈ lw_tbl := lw_at lw_m5 75 rfl
theorem q1160 : (Jvm.Cond.fieldLink "BorrowedLives$Hidden" (7 : Nat) "BorrowedLives$Hidden" "life" "I") ∈ lw_all := lw_g (lw_at lw_m5 76 rfl) rfl
theorem q1161 : (Jvm.Cond.fieldLink "BorrowedLives$Hidden" (13 : Nat) "BorrowedLives$Hidden" "coins" "I") ∈ lw_all := lw_g (lw_at lw_m5 77 rfl) rfl
theorem q1162 : (Jvm.Cond.laysFinal "BorrowedLives$Hidden" "BorrowedLives$Hidden" "life" "I") ∈ lw_all := lw_g (lw_at lw_m5 78 rfl) rfl
theorem q1163 : (Jvm.Cond.soleField "BorrowedLives$Hidden" "life") ∈ lw_all := lw_g (lw_at lw_m5 79 rfl) rfl
theorem q1164 : (Jvm.Cond.laysFinal "BorrowedLives$Hidden" "BorrowedLives$Hidden" "coins" "I") ∈ lw_all := lw_g (lw_at lw_m5 80 rfl) rfl
theorem q1165 : (Jvm.Cond.soleField "BorrowedLives$Hidden" "coins") ∈ lw_all := lw_g (lw_at lw_m5 81 rfl) rfl
theorem q1166 : (Jvm.Cond.superclass "BorrowedLives$Hidden" "BorrowedLives$Line") ∈ lw_all := lw_g (lw_at lw_m5 82 rfl) rfl
theorem q1535 : (Jvm.Cond.selects "BorrowedLives$Hidden" ({ cls := "BorrowedLives$Line", name := "isDone", desc := "(LBorrowedLives;LBorrowedLives$State;)Z" } : Jvm.MethodName) ({ cls := "BorrowedLives$Hidden", name := "isDone", desc := "(LBorrowedLives;LBorrowedLives$State;)Z" } : Jvm.MethodName)) ∈ lw_all := lw_g (lw_at lw_m6 211 rfl) rfl
theorem q1536 : (Jvm.Cond.instanceMethod ({ cls := "BorrowedLives$Hidden", name := "isDone", desc := "(LBorrowedLives;LBorrowedLives$State;)Z" } : Jvm.MethodName)) ∈ lw_all := lw_g (lw_at lw_m6 212 rfl) rfl
theorem q1537 : (Jvm.Cond.code ({ cls := "BorrowedLives$Hidden", name := "isDone", desc := "(LBorrowedLives;LBorrowedLives$State;)Z" } : Jvm.MethodName) prog_11_method_2_code (3 : Nat) (Option.some Jvm.ClassFile.FieldType.boolean)) ∈ lw_all := lw_g (lw_at lw_m6 213 rfl) rfl
theorem q2410 : (Jvm.Cond.castable "BorrowedLives$Hidden" "BorrowedLives$Line") ∈ lw_tbl := lw_at lw_m10 126 rfl
theorem q2434 : (Jvm.Cond.castable "BorrowedLives$Hidden" "java/lang/Object") ∈ lw_tbl := lw_at lw_m10 150 rfl
theorem in_X20 : ∀ w ∈ wsX200, w ∈ lw_all := lw_in wsX200 [1162, 1164] (by decide +kernel) (by decide +kernel)
/-! BorrowedLives$Swapped -/
set_option maxRecDepth 100000
def RX21 : String := "BorrowedLives$Swapped"
def TX21 : u_T := fun k => match k with
  | 0 => ("BorrowedLives$Swapped", "one", "I", true)
  | _ => ("BorrowedLives$Swapped", "other", "I", true)
def tyX21 : Nat → FieldType := fun k => match k with
  | 0 => .int
  | _ => .int
abbrev wsX210 : List Cond := u_ws RX21 TX21 2
theorem nmX21 : ∀ a, a < 2 → ∀ b, b < 2 → a ≠ b → (TX21 a).2.1 ≠ (TX21 b).2.1 := by decide +kernel
theorem tyX21_ok : ∀ k, k < 2 → parseFieldDescriptor (TX21 k).2.2.1 = some (tyX21 k) := by decide +kernel
abbrev cX21_init : ByteArray := prog_23_method_1_code
def yX21_init : MethodName := ⟨RX21, "<init>", "(II)V"⟩
def dkwX21_init_0 : List UInt8 := [42, 183, 0, 1, 42, 27, 181, 0, 7, 42, 28, 181, 0, 13, 177]
abbrev dktX21_init_0 : List UInt8 := dkwX21_init_0 ++ []
theorem dksX21_init_0 : cX21_init.data.toList.drop 0 = dktX21_init_0 := by decide +kernel
theorem dX21_init_0 : decode cX21_init 0 = .ok (.aload_n 0, 1) := dk_42 (dk_at dksX21_init_0 0 rfl rfl)
theorem dX21_init_1 : decode cX21_init 1 = .ok (.invokespecial 1, 3) := dk_183 0 1 (dk_at dksX21_init_0 1 rfl rfl)
theorem dX21_init_4 : decode cX21_init 4 = .ok (.aload_n 0, 1) := dk_42 (dk_at dksX21_init_0 4 rfl rfl)
theorem dX21_init_5 : decode cX21_init 5 = .ok (.iload_n 1, 1) := dk_27 (dk_at dksX21_init_0 5 rfl rfl)
theorem dX21_init_6 : decode cX21_init 6 = .ok (.putfield 7, 3) := dk_181 0 7 (dk_at dksX21_init_0 6 rfl rfl)
theorem dX21_init_9 : decode cX21_init 9 = .ok (.aload_n 0, 1) := dk_42 (dk_at dksX21_init_0 9 rfl rfl)
theorem dX21_init_10 : decode cX21_init 10 = .ok (.iload_n 2, 1) := dk_28 (dk_at dksX21_init_0 10 rfl rfl)
theorem dX21_init_11 : decode cX21_init 11 = .ok (.putfield 13, 3) := dk_181 0 13 (dk_at dksX21_init_0 11 rfl rfl)
theorem dX21_init_14 : decode cX21_init 14 = .ok (.return_, 1) := dk_177 (dk_at dksX21_init_0 14 rfl rfl)
abbrev cX21_isDone : ByteArray := prog_23_method_2_code
def yX21_isDone : MethodName := ⟨RX21, "isDone", "(LBorrowedLives;LBorrowedLives$State;)Z"⟩
def dkwX21_isDone_1 : List UInt8 := [42, 180, 0, 13, 182, 0, 22, 4, 172]
abbrev dktX21_isDone_1 : List UInt8 := dkwX21_isDone_1 ++ []
def dkwX21_isDone_0 : List UInt8 := [43, 44, 42, 180, 0, 7, 42, 180, 0, 13, 182, 0, 16, 154, 0, 5, 3, 172, 43, 44, 42, 180, 0, 7]
abbrev dktX21_isDone_0 : List UInt8 := dkwX21_isDone_0 ++ dktX21_isDone_1
theorem dksX21_isDone_0 : cX21_isDone.data.toList.drop 0 = dktX21_isDone_0 := by decide +kernel
theorem dksX21_isDone_1 : cX21_isDone.data.toList.drop 24 = dktX21_isDone_1 := dk_seg dksX21_isDone_0 24 rfl rfl
theorem dX21_isDone_0 : decode cX21_isDone 0 = .ok (.aload_n 1, 1) := dk_43 (dk_at dksX21_isDone_0 0 rfl rfl)
theorem dX21_isDone_1 : decode cX21_isDone 1 = .ok (.aload_n 2, 1) := dk_44 (dk_at dksX21_isDone_0 1 rfl rfl)
theorem dX21_isDone_2 : decode cX21_isDone 2 = .ok (.aload_n 0, 1) := dk_42 (dk_at dksX21_isDone_0 2 rfl rfl)
theorem dX21_isDone_3 : decode cX21_isDone 3 = .ok (.getfield 7, 3) := dk_180 0 7 (dk_at dksX21_isDone_0 3 rfl rfl)
theorem dX21_isDone_6 : decode cX21_isDone 6 = .ok (.aload_n 0, 1) := dk_42 (dk_at dksX21_isDone_0 6 rfl rfl)
theorem dX21_isDone_7 : decode cX21_isDone 7 = .ok (.getfield 13, 3) := dk_180 0 13 (dk_at dksX21_isDone_0 7 rfl rfl)
theorem dX21_isDone_10 : decode cX21_isDone 10 = .ok (.invokevirtual 16, 3) := dk_182 0 16 (dk_at dksX21_isDone_0 10 rfl rfl)
theorem dX21_isDone_13 : decode cX21_isDone 13 = .ok (.ifCond .ne 5, 3) := dk_154 0 5 (dk_at dksX21_isDone_0 13 rfl rfl)
theorem dX21_isDone_16 : decode cX21_isDone 16 = .ok (.iconst 0, 1) := dk_3 (dk_at dksX21_isDone_0 16 rfl rfl)
theorem dX21_isDone_17 : decode cX21_isDone 17 = .ok (.ireturn, 1) := dk_172 (dk_at dksX21_isDone_0 17 rfl rfl)
theorem dX21_isDone_18 : decode cX21_isDone 18 = .ok (.aload_n 1, 1) := dk_43 (dk_at dksX21_isDone_0 18 rfl rfl)
theorem dX21_isDone_19 : decode cX21_isDone 19 = .ok (.aload_n 2, 1) := dk_44 (dk_at dksX21_isDone_0 19 rfl rfl)
theorem dX21_isDone_20 : decode cX21_isDone 20 = .ok (.aload_n 0, 1) := dk_42 (dk_at dksX21_isDone_0 20 rfl rfl)
theorem dX21_isDone_21 : decode cX21_isDone 21 = .ok (.getfield 7, 3) := dk_180 0 7 (dk_at dksX21_isDone_0 21 rfl rfl)
theorem dX21_isDone_24 : decode cX21_isDone 24 = .ok (.aload_n 0, 1) := dk_42 (dk_at dksX21_isDone_1 0 rfl rfl)
theorem dX21_isDone_25 : decode cX21_isDone 25 = .ok (.getfield 13, 3) := dk_180 0 13 (dk_at dksX21_isDone_1 1 rfl rfl)
theorem dX21_isDone_28 : decode cX21_isDone 28 = .ok (.invokevirtual 22, 3) := dk_182 0 22 (dk_at dksX21_isDone_1 4 rfl rfl)
theorem dX21_isDone_31 : decode cX21_isDone 31 = .ok (.iconst 1, 1) := dk_4 (dk_at dksX21_isDone_1 7 rfl rfl)
theorem dX21_isDone_32 : decode cX21_isDone 32 = .ok (.ireturn, 1) := dk_172 (dk_at dksX21_isDone_1 8 rfl rfl)
theorem q163 : (Jvm.Cond.initialized "BorrowedLives$Swapped") ∈ lw_all := lw_g (lw_at lw_m1 39 rfl) rfl
theorem q1001 : (Jvm.Cond.selects "BorrowedLives$Swapped" ({ cls := "java/lang/Object", name := "getClass", desc := "()Ljava/lang/Class;" } : Jvm.MethodName) ({ cls := "java/lang/Object", name := "getClass", desc := "()Ljava/lang/Class;" } : Jvm.MethodName)) ∈ lw_all := lw_g (lw_at lw_m4 157 rfl) rfl
theorem q1168 : (Jvm.Cond.instantiable "BorrowedLives$Swapped" (2 : Nat)) ∈ lw_all := lw_g (lw_at lw_m5 84 rfl) rfl
theorem q1174 : (Jvm.Cond.instanceMethod ({ cls := "BorrowedLives$Swapped", name := "<init>", desc := "(II)V" } : Jvm.MethodName)) ∈ lw_all := lw_g (lw_at lw_m5 90 rfl) rfl
theorem q1175 : (Jvm.Cond.code ({ cls := "BorrowedLives$Swapped", name := "<init>", desc := "(II)V" } : Jvm.MethodName) prog_23_method_1_code (3 : Nat) (Option.none : Option Jvm.ClassFile.FieldType)) ∈ lw_all := lw_g (lw_at lw_m5 91 rfl) rfl
theorem q1176 : (Jvm.Cond.methodLinkNest "BorrowedLives$Swapped" (1 : Nat) ({ cls := "BorrowedLives$Line", name := "<init>", desc := "()V" } : Jvm.MethodName) "BorrowedLives") ∈ lw_tbl := lw_at lw_m5 92 rfl
theorem q1177 : (Jvm.Cond.fieldLink "BorrowedLives$Swapped" (7 : Nat) "BorrowedLives$Swapped" "one" "I") ∈ lw_all := lw_g (lw_at lw_m5 93 rfl) rfl
theorem q1178 : (Jvm.Cond.fieldLink "BorrowedLives$Swapped" (13 : Nat) "BorrowedLives$Swapped" "other" "I") ∈ lw_all := lw_g (lw_at lw_m5 94 rfl) rfl
theorem q1179 : (Jvm.Cond.laysFinal "BorrowedLives$Swapped" "BorrowedLives$Swapped" "one" "I") ∈ lw_all := lw_g (lw_at lw_m5 95 rfl) rfl
theorem q1180 : (Jvm.Cond.soleField "BorrowedLives$Swapped" "one") ∈ lw_all := lw_g (lw_at lw_m5 96 rfl) rfl
theorem q1181 : (Jvm.Cond.laysFinal "BorrowedLives$Swapped" "BorrowedLives$Swapped" "other" "I") ∈ lw_all := lw_g (lw_at lw_m5 97 rfl) rfl
theorem q1182 : (Jvm.Cond.soleField "BorrowedLives$Swapped" "other") ∈ lw_all := lw_g (lw_at lw_m5 98 rfl) rfl
theorem q1183 : (Jvm.Cond.superclass "BorrowedLives$Swapped" "BorrowedLives$Line") ∈ lw_all := lw_g (lw_at lw_m5 99 rfl) rfl
theorem q1543 : (Jvm.Cond.selects "BorrowedLives$Swapped" ({ cls := "BorrowedLives$Line", name := "isDone", desc := "(LBorrowedLives;LBorrowedLives$State;)Z" } : Jvm.MethodName) ({ cls := "BorrowedLives$Swapped", name := "isDone", desc := "(LBorrowedLives;LBorrowedLives$State;)Z" } : Jvm.MethodName)) ∈ lw_all := lw_g (lw_at lw_m6 219 rfl) rfl
theorem q1544 : (Jvm.Cond.instanceMethod ({ cls := "BorrowedLives$Swapped", name := "isDone", desc := "(LBorrowedLives;LBorrowedLives$State;)Z" } : Jvm.MethodName)) ∈ lw_all := lw_g (lw_at lw_m6 220 rfl) rfl
theorem q1545 : (Jvm.Cond.code ({ cls := "BorrowedLives$Swapped", name := "isDone", desc := "(LBorrowedLives;LBorrowedLives$State;)Z" } : Jvm.MethodName) prog_23_method_2_code (3 : Nat) (Option.some Jvm.ClassFile.FieldType.boolean)) ∈ lw_all := lw_g (lw_at lw_m6 221 rfl) rfl
theorem q1546 : (Jvm.Cond.methodLinkNest "BorrowedLives$Swapped" (16 : Nat) ({ cls := "BorrowedLives", name := "canSwap", desc := "(LBorrowedLives$State;II)Z" } : Jvm.MethodName) "BorrowedLives") ∈ lw_tbl := lw_at lw_m6 222 rfl
theorem q1547 : (Jvm.Cond.methodLinkNest "BorrowedLives$Swapped" (22 : Nat) ({ cls := "BorrowedLives", name := "swaps", desc := "(LBorrowedLives$State;II)V" } : Jvm.MethodName) "BorrowedLives") ∈ lw_tbl := lw_at lw_m6 223 rfl
theorem q2412 : (Jvm.Cond.castable "BorrowedLives$Swapped" "BorrowedLives$Line") ∈ lw_tbl := lw_at lw_m10 128 rfl
theorem q2435 : (Jvm.Cond.castable "BorrowedLives$Swapped" "java/lang/Object") ∈ lw_tbl := lw_at lw_m10 151 rfl
theorem in_X21 : ∀ w ∈ wsX210, w ∈ lw_all := lw_in wsX210 [1179, 1181] (by decide +kernel) (by decide +kernel)
/-! BorrowedLives$Looker -/
set_option maxRecDepth 100000
def RX22 : String := "BorrowedLives$Looker"
abbrev cX22_init : ByteArray := prog_14_method_1_code
def yX22_init : MethodName := ⟨RX22, "<init>", "(LBorrowedLives;)V"⟩
def dkwX22_init_0 : List UInt8 := [42, 43, 181, 0, 3, 42, 183, 0, 9, 177]
abbrev dktX22_init_0 : List UInt8 := dkwX22_init_0 ++ []
theorem dksX22_init_0 : cX22_init.data.toList.drop 0 = dktX22_init_0 := by decide +kernel
theorem dX22_init_0 : decode cX22_init 0 = .ok (.aload_n 0, 1) := dk_42 (dk_at dksX22_init_0 0 rfl rfl)
theorem dX22_init_1 : decode cX22_init 1 = .ok (.aload_n 1, 1) := dk_43 (dk_at dksX22_init_0 1 rfl rfl)
theorem dX22_init_2 : decode cX22_init 2 = .ok (.putfield 3, 3) := dk_181 0 3 (dk_at dksX22_init_0 2 rfl rfl)
theorem dX22_init_5 : decode cX22_init 5 = .ok (.aload_n 0, 1) := dk_42 (dk_at dksX22_init_0 5 rfl rfl)
theorem dX22_init_6 : decode cX22_init 6 = .ok (.invokespecial 9, 3) := dk_183 0 9 (dk_at dksX22_init_0 6 rfl rfl)
theorem dX22_init_9 : decode cX22_init 9 = .ok (.return_, 1) := dk_177 (dk_at dksX22_init_0 9 rfl rfl)
abbrev cX22_lives : ByteArray := prog_14_method_3_code
def yX22_lives : MethodName := ⟨RX22, "lives", "(LBorrowedLives$State;[II)V"⟩
def dkwX22_lives_2 : List UInt8 := [132, 4, 1, 167, 255, 231, 177]
abbrev dktX22_lives_2 : List UInt8 := dkwX22_lives_2 ++ []
def dkwX22_lives_1 : List UInt8 := [54, 4, 21, 4, 16, 7, 162, 0, 24, 42, 180, 0, 3, 42, 180, 0, 3, 180, 0, 15, 29, 182, 0, 29]
abbrev dktX22_lives_1 : List UInt8 := dkwX22_lives_1 ++ dktX22_lives_2
def dkwX22_lives_0 : List UInt8 := [42, 180, 0, 3, 180, 0, 15, 43, 182, 0, 19, 42, 180, 0, 3, 180, 0, 15, 44, 182, 0, 25, 3]
abbrev dktX22_lives_0 : List UInt8 := dkwX22_lives_0 ++ dktX22_lives_1
theorem dksX22_lives_0 : cX22_lives.data.toList.drop 0 = dktX22_lives_0 := by decide +kernel
theorem dksX22_lives_1 : cX22_lives.data.toList.drop 23 = dktX22_lives_1 := dk_seg dksX22_lives_0 23 rfl rfl
theorem dksX22_lives_2 : cX22_lives.data.toList.drop 47 = dktX22_lives_2 := dk_seg dksX22_lives_1 24 rfl rfl
theorem dX22_lives_0 : decode cX22_lives 0 = .ok (.aload_n 0, 1) := dk_42 (dk_at dksX22_lives_0 0 rfl rfl)
theorem dX22_lives_1 : decode cX22_lives 1 = .ok (.getfield 3, 3) := dk_180 0 3 (dk_at dksX22_lives_0 1 rfl rfl)
theorem dX22_lives_4 : decode cX22_lives 4 = .ok (.getfield 15, 3) := dk_180 0 15 (dk_at dksX22_lives_0 4 rfl rfl)
theorem dX22_lives_7 : decode cX22_lives 7 = .ok (.aload_n 1, 1) := dk_43 (dk_at dksX22_lives_0 7 rfl rfl)
theorem dX22_lives_8 : decode cX22_lives 8 = .ok (.invokevirtual 19, 3) := dk_182 0 19 (dk_at dksX22_lives_0 8 rfl rfl)
theorem dX22_lives_11 : decode cX22_lives 11 = .ok (.aload_n 0, 1) := dk_42 (dk_at dksX22_lives_0 11 rfl rfl)
theorem dX22_lives_12 : decode cX22_lives 12 = .ok (.getfield 3, 3) := dk_180 0 3 (dk_at dksX22_lives_0 12 rfl rfl)
theorem dX22_lives_15 : decode cX22_lives 15 = .ok (.getfield 15, 3) := dk_180 0 15 (dk_at dksX22_lives_0 15 rfl rfl)
theorem dX22_lives_18 : decode cX22_lives 18 = .ok (.aload_n 2, 1) := dk_44 (dk_at dksX22_lives_0 18 rfl rfl)
theorem dX22_lives_19 : decode cX22_lives 19 = .ok (.invokevirtual 25, 3) := dk_182 0 25 (dk_at dksX22_lives_0 19 rfl rfl)
theorem dX22_lives_22 : decode cX22_lives 22 = .ok (.iconst 0, 1) := dk_3 (dk_at dksX22_lives_0 22 rfl rfl)
theorem dX22_lives_23 : decode cX22_lives 23 = .ok (.istore 4, 2) := dk_54 4 (dk_at dksX22_lives_1 0 rfl rfl)
theorem dX22_lives_25 : decode cX22_lives 25 = .ok (.iload 4, 2) := dk_21 4 (dk_at dksX22_lives_1 2 rfl rfl)
theorem dX22_lives_27 : decode cX22_lives 27 = .ok (.bipush 7, 2) := dk_16 7 (dk_at dksX22_lives_1 4 rfl rfl)
theorem dX22_lives_29 : decode cX22_lives 29 = .ok (.if_icmp .ge 24, 3) := dk_162 0 24 (dk_at dksX22_lives_1 6 rfl rfl)
theorem dX22_lives_32 : decode cX22_lives 32 = .ok (.aload_n 0, 1) := dk_42 (dk_at dksX22_lives_1 9 rfl rfl)
theorem dX22_lives_33 : decode cX22_lives 33 = .ok (.getfield 3, 3) := dk_180 0 3 (dk_at dksX22_lives_1 10 rfl rfl)
theorem dX22_lives_36 : decode cX22_lives 36 = .ok (.aload_n 0, 1) := dk_42 (dk_at dksX22_lives_1 13 rfl rfl)
theorem dX22_lives_37 : decode cX22_lives 37 = .ok (.getfield 3, 3) := dk_180 0 3 (dk_at dksX22_lives_1 14 rfl rfl)
theorem dX22_lives_40 : decode cX22_lives 40 = .ok (.getfield 15, 3) := dk_180 0 15 (dk_at dksX22_lives_1 17 rfl rfl)
theorem dX22_lives_43 : decode cX22_lives 43 = .ok (.iload_n 3, 1) := dk_29 (dk_at dksX22_lives_1 20 rfl rfl)
theorem dX22_lives_44 : decode cX22_lives 44 = .ok (.invokevirtual 29, 3) := dk_182 0 29 (dk_at dksX22_lives_1 21 rfl rfl)
theorem dX22_lives_47 : decode cX22_lives 47 = .ok (.iinc 4 1, 3) := dk_132 4 1 (dk_at dksX22_lives_2 0 rfl rfl)
theorem dX22_lives_50 : decode cX22_lives 50 = .ok (.goto (-25), 3) := dk_167 255 231 (dk_at dksX22_lives_2 3 rfl rfl)
theorem dX22_lives_53 : decode cX22_lives 53 = .ok (.return_, 1) := dk_177 (dk_at dksX22_lives_2 6 rfl rfl)
theorem q164 : (Jvm.Cond.initialized "BorrowedLives$Looker") ∈ lw_all := lw_g (lw_at lw_m1 40 rfl) rfl
theorem q385 : (Jvm.Cond.fieldLinkNest "BorrowedLives$Looker" (15 : Nat) "BorrowedLives" "week" "LBorrowedLives$State;" "BorrowedLives") ∈ lw_tbl := lw_at lw_m2 21 rfl
theorem q1256 : (Jvm.Cond.instanceMethod ({ cls := "BorrowedLives$Looker", name := "<init>", desc := "(LBorrowedLives;)V" } : Jvm.MethodName)) ∈ lw_all := lw_g (lw_at lw_m5 172 rfl) rfl
theorem q1257 : (Jvm.Cond.code ({ cls := "BorrowedLives$Looker", name := "<init>", desc := "(LBorrowedLives;)V" } : Jvm.MethodName) prog_14_method_1_code (2 : Nat) (Option.none : Option Jvm.ClassFile.FieldType)) ∈ lw_all := lw_g (lw_at lw_m5 173 rfl) rfl
theorem q1258 : (Jvm.Cond.methodLink "BorrowedLives$Looker" (9 : Nat) ({ cls := "java/lang/Object", name := "<init>", desc := "()V" } : Jvm.MethodName)) ∈ lw_all := lw_g (lw_at lw_m5 174 rfl) rfl
theorem q1274 : (Jvm.Cond.fieldLink "BorrowedLives$Looker" (3 : Nat) "BorrowedLives$Looker" "this$0" "LBorrowedLives;") ∈ lw_all := lw_g (lw_at lw_m5 190 rfl) rfl
theorem q1284 : (Jvm.Cond.soleField "BorrowedLives$Looker" "lots") ∈ lw_all := lw_g (lw_at lw_m5 200 rfl) rfl
theorem q1286 : (Jvm.Cond.soleField "BorrowedLives$Looker" "this$0") ∈ lw_all := lw_g (lw_at lw_m5 202 rfl) rfl
theorem q1297 : (Jvm.Cond.declares ({ cls := "BorrowedLives$Looker", name := "sees", desc := "([I)V" } : Jvm.MethodName)) ∈ lw_tbl := lw_at lw_m5 213 rfl
theorem q1298 : (Jvm.Cond.sameMethod "BorrowedLives$Looker" "BorrowedLives$Looker" "sees" "([I)V") ∈ lw_all := lw_g (lw_at lw_m5 214 rfl) rfl
theorem q1413 : (Jvm.Cond.declares ({ cls := "BorrowedLives$Looker", name := "lives", desc := "(LBorrowedLives$State;[II)V" } : Jvm.MethodName)) ∈ lw_tbl := lw_at lw_m6 89 rfl
theorem q1415 : (Jvm.Cond.instanceMethod ({ cls := "BorrowedLives$Looker", name := "lives", desc := "(LBorrowedLives$State;[II)V" } : Jvm.MethodName)) ∈ lw_all := lw_g (lw_at lw_m6 91 rfl) rfl
theorem q1416 : (Jvm.Cond.code ({ cls := "BorrowedLives$Looker", name := "lives", desc := "(LBorrowedLives$State;[II)V" } : Jvm.MethodName) prog_14_method_3_code (5 : Nat) (Option.none : Option Jvm.ClassFile.FieldType)) ∈ lw_all := lw_g (lw_at lw_m6 92 rfl) rfl
theorem q1417 : (Jvm.Cond.methodLink "BorrowedLives$Looker" (19 : Nat) ({ cls := "BorrowedLives$State", name := "be", desc := "(LBorrowedLives$State;)V" } : Jvm.MethodName)) ∈ lw_all := lw_g (lw_at lw_m6 93 rfl) rfl
theorem q1418 : (Jvm.Cond.methodLink "BorrowedLives$Looker" (25 : Nat) ({ cls := "BorrowedLives$State", name := "goes", desc := "([I)V" } : Jvm.MethodName)) ∈ lw_all := lw_g (lw_at lw_m6 94 rfl) rfl
theorem q1419 : (Jvm.Cond.methodLinkNest "BorrowedLives$Looker" (29 : Nat) ({ cls := "BorrowedLives", name := "passes", desc := "(LBorrowedLives$State;I)V" } : Jvm.MethodName) "BorrowedLives") ∈ lw_tbl := lw_at lw_m6 95 rfl
/-! BorrowedLives$Counts -/
set_option maxRecDepth 100000
def RX23 : String := "BorrowedLives$Counts"
def TX23 : u_T := fun k => match k with
  | 0 => ("BorrowedLives$Looker", "lots", "I", false)
  | 1 => ("BorrowedLives$Looker", "this$0", "LBorrowedLives;", true)
  | 2 => ("BorrowedLives$Counts", "person", "I", true)
  | 3 => ("BorrowedLives$Counts", "life", "I", true)
  | 4 => ("BorrowedLives$Counts", "hits", "I", false)
  | _ => ("BorrowedLives$Counts", "this$0", "LBorrowedLives;", true)
def tyX23 : Nat → FieldType := fun k => match k with
  | 0 => .int
  | 1 => .object "BorrowedLives"
  | 2 => .int
  | 3 => .int
  | 4 => .int
  | _ => .object "BorrowedLives"
abbrev wsX230 : List Cond := u_ws RX23 TX23 6
-- two fields of one name: no nmX23
theorem tyX23_ok : ∀ k, k < 6 → parseFieldDescriptor (TX23 k).2.2.1 = some (tyX23 k) := by decide +kernel
abbrev cX23_init : ByteArray := prog_3_method_1_code
def yX23_init : MethodName := ⟨RX23, "<init>", "(LBorrowedLives;II)V"⟩
def dkwX23_init_0 : List UInt8 := [42, 43, 181, 0, 1, 42, 43, 183, 0, 7, 42, 28, 181, 0, 13, 42, 29, 181, 0, 17, 177]
abbrev dktX23_init_0 : List UInt8 := dkwX23_init_0 ++ []
theorem dksX23_init_0 : cX23_init.data.toList.drop 0 = dktX23_init_0 := by decide +kernel
theorem dX23_init_0 : decode cX23_init 0 = .ok (.aload_n 0, 1) := dk_42 (dk_at dksX23_init_0 0 rfl rfl)
theorem dX23_init_1 : decode cX23_init 1 = .ok (.aload_n 1, 1) := dk_43 (dk_at dksX23_init_0 1 rfl rfl)
theorem dX23_init_2 : decode cX23_init 2 = .ok (.putfield 1, 3) := dk_181 0 1 (dk_at dksX23_init_0 2 rfl rfl)
theorem dX23_init_5 : decode cX23_init 5 = .ok (.aload_n 0, 1) := dk_42 (dk_at dksX23_init_0 5 rfl rfl)
theorem dX23_init_6 : decode cX23_init 6 = .ok (.aload_n 1, 1) := dk_43 (dk_at dksX23_init_0 6 rfl rfl)
theorem dX23_init_7 : decode cX23_init 7 = .ok (.invokespecial 7, 3) := dk_183 0 7 (dk_at dksX23_init_0 7 rfl rfl)
theorem dX23_init_10 : decode cX23_init 10 = .ok (.aload_n 0, 1) := dk_42 (dk_at dksX23_init_0 10 rfl rfl)
theorem dX23_init_11 : decode cX23_init 11 = .ok (.iload_n 2, 1) := dk_28 (dk_at dksX23_init_0 11 rfl rfl)
theorem dX23_init_12 : decode cX23_init 12 = .ok (.putfield 13, 3) := dk_181 0 13 (dk_at dksX23_init_0 12 rfl rfl)
theorem dX23_init_15 : decode cX23_init 15 = .ok (.aload_n 0, 1) := dk_42 (dk_at dksX23_init_0 15 rfl rfl)
theorem dX23_init_16 : decode cX23_init 16 = .ok (.iload_n 3, 1) := dk_29 (dk_at dksX23_init_0 16 rfl rfl)
theorem dX23_init_17 : decode cX23_init 17 = .ok (.putfield 17, 3) := dk_181 0 17 (dk_at dksX23_init_0 17 rfl rfl)
theorem dX23_init_20 : decode cX23_init 20 = .ok (.return_, 1) := dk_177 (dk_at dksX23_init_0 20 rfl rfl)
abbrev cX23_sees : ByteArray := prog_3_method_2_code
def yX23_sees : MethodName := ⟨RX23, "sees", "([I)V"⟩
def dkwX23_sees_1 : List UInt8 := [180, 0, 20, 4, 96, 181, 0, 20, 177]
abbrev dktX23_sees_1 : List UInt8 := dkwX23_sees_1 ++ []
def dkwX23_sees_0 : List UInt8 := [42, 180, 0, 17, 155, 0, 26, 43, 42, 180, 0, 17, 46, 42, 180, 0, 13, 160, 0, 13, 42, 89]
abbrev dktX23_sees_0 : List UInt8 := dkwX23_sees_0 ++ dktX23_sees_1
theorem dksX23_sees_0 : cX23_sees.data.toList.drop 0 = dktX23_sees_0 := by decide +kernel
theorem dksX23_sees_1 : cX23_sees.data.toList.drop 22 = dktX23_sees_1 := dk_seg dksX23_sees_0 22 rfl rfl
theorem dX23_sees_0 : decode cX23_sees 0 = .ok (.aload_n 0, 1) := dk_42 (dk_at dksX23_sees_0 0 rfl rfl)
theorem dX23_sees_1 : decode cX23_sees 1 = .ok (.getfield 17, 3) := dk_180 0 17 (dk_at dksX23_sees_0 1 rfl rfl)
theorem dX23_sees_4 : decode cX23_sees 4 = .ok (.ifCond .lt 26, 3) := dk_155 0 26 (dk_at dksX23_sees_0 4 rfl rfl)
theorem dX23_sees_7 : decode cX23_sees 7 = .ok (.aload_n 1, 1) := dk_43 (dk_at dksX23_sees_0 7 rfl rfl)
theorem dX23_sees_8 : decode cX23_sees 8 = .ok (.aload_n 0, 1) := dk_42 (dk_at dksX23_sees_0 8 rfl rfl)
theorem dX23_sees_9 : decode cX23_sees 9 = .ok (.getfield 17, 3) := dk_180 0 17 (dk_at dksX23_sees_0 9 rfl rfl)
theorem dX23_sees_12 : decode cX23_sees 12 = .ok (.iaload, 1) := dk_46 (dk_at dksX23_sees_0 12 rfl rfl)
theorem dX23_sees_13 : decode cX23_sees 13 = .ok (.aload_n 0, 1) := dk_42 (dk_at dksX23_sees_0 13 rfl rfl)
theorem dX23_sees_14 : decode cX23_sees 14 = .ok (.getfield 13, 3) := dk_180 0 13 (dk_at dksX23_sees_0 14 rfl rfl)
theorem dX23_sees_17 : decode cX23_sees 17 = .ok (.if_icmp .ne 13, 3) := dk_160 0 13 (dk_at dksX23_sees_0 17 rfl rfl)
theorem dX23_sees_20 : decode cX23_sees 20 = .ok (.aload_n 0, 1) := dk_42 (dk_at dksX23_sees_0 20 rfl rfl)
theorem dX23_sees_21 : decode cX23_sees 21 = .ok (.dup, 1) := dk_89 (dk_at dksX23_sees_0 21 rfl rfl)
theorem dX23_sees_22 : decode cX23_sees 22 = .ok (.getfield 20, 3) := dk_180 0 20 (dk_at dksX23_sees_1 0 rfl rfl)
theorem dX23_sees_25 : decode cX23_sees 25 = .ok (.iconst 1, 1) := dk_4 (dk_at dksX23_sees_1 3 rfl rfl)
theorem dX23_sees_26 : decode cX23_sees 26 = .ok (.iadd, 1) := dk_96 (dk_at dksX23_sees_1 4 rfl rfl)
theorem dX23_sees_27 : decode cX23_sees 27 = .ok (.putfield 20, 3) := dk_181 0 20 (dk_at dksX23_sees_1 5 rfl rfl)
theorem dX23_sees_30 : decode cX23_sees 30 = .ok (.return_, 1) := dk_177 (dk_at dksX23_sees_1 8 rfl rfl)
theorem q165 : (Jvm.Cond.initialized "BorrowedLives$Counts") ∈ lw_all := lw_g (lw_at lw_m1 41 rfl) rfl
theorem q984 : (Jvm.Cond.selects "BorrowedLives$Counts" ({ cls := "java/lang/Object", name := "getClass", desc := "()Ljava/lang/Class;" } : Jvm.MethodName) ({ cls := "java/lang/Object", name := "getClass", desc := "()Ljava/lang/Class;" } : Jvm.MethodName)) ∈ lw_all := lw_g (lw_at lw_m4 140 rfl) rfl
theorem q1251 : (Jvm.Cond.instantiable "BorrowedLives$Counts" (6 : Nat)) ∈ lw_all := lw_g (lw_at lw_m5 167 rfl) rfl
theorem q1253 : (Jvm.Cond.instanceMethod ({ cls := "BorrowedLives$Counts", name := "<init>", desc := "(LBorrowedLives;II)V" } : Jvm.MethodName)) ∈ lw_all := lw_g (lw_at lw_m5 169 rfl) rfl
theorem q1254 : (Jvm.Cond.code ({ cls := "BorrowedLives$Counts", name := "<init>", desc := "(LBorrowedLives;II)V" } : Jvm.MethodName) prog_3_method_1_code (4 : Nat) (Option.none : Option Jvm.ClassFile.FieldType)) ∈ lw_all := lw_g (lw_at lw_m5 170 rfl) rfl
theorem q1255 : (Jvm.Cond.methodLinkNest "BorrowedLives$Counts" (7 : Nat) ({ cls := "BorrowedLives$Looker", name := "<init>", desc := "(LBorrowedLives;)V" } : Jvm.MethodName) "BorrowedLives") ∈ lw_tbl := lw_at lw_m5 171 rfl
theorem q1259 : (Jvm.Cond.fieldLink "BorrowedLives$Counts" (13 : Nat) "BorrowedLives$Counts" "person" "I") ∈ lw_all := lw_g (lw_at lw_m5 175 rfl) rfl
theorem q1260 : (Jvm.Cond.fieldLink "BorrowedLives$Counts" (17 : Nat) "BorrowedLives$Counts" "life" "I") ∈ lw_all := lw_g (lw_at lw_m5 176 rfl) rfl
theorem q1261 : (Jvm.Cond.fieldLink "BorrowedLives$Counts" (20 : Nat) "BorrowedLives$Counts" "hits" "I") ∈ lw_all := lw_g (lw_at lw_m5 177 rfl) rfl
theorem q1263 : (Jvm.Cond.fieldLink "BorrowedLives$Counts" (1 : Nat) "BorrowedLives$Counts" "this$0" "LBorrowedLives;") ∈ lw_all := lw_g (lw_at lw_m5 179 rfl) rfl
theorem q1270 : (Jvm.Cond.sameField "BorrowedLives$Counts" "BorrowedLives$Looker" "lots" "I") ∈ lw_all := lw_g (lw_at lw_m5 186 rfl) rfl
theorem q1275 : (Jvm.Cond.laysFinal "BorrowedLives$Counts" "BorrowedLives$Counts" "person" "I") ∈ lw_all := lw_g (lw_at lw_m5 191 rfl) rfl
theorem q1276 : (Jvm.Cond.soleField "BorrowedLives$Counts" "person") ∈ lw_all := lw_g (lw_at lw_m5 192 rfl) rfl
theorem q1277 : (Jvm.Cond.laysFinal "BorrowedLives$Counts" "BorrowedLives$Counts" "life" "I") ∈ lw_all := lw_g (lw_at lw_m5 193 rfl) rfl
theorem q1278 : (Jvm.Cond.soleField "BorrowedLives$Counts" "life") ∈ lw_all := lw_g (lw_at lw_m5 194 rfl) rfl
theorem q1279 : (Jvm.Cond.lays "BorrowedLives$Counts" "BorrowedLives$Counts" "hits" "I") ∈ lw_all := lw_g (lw_at lw_m5 195 rfl) rfl
theorem q1280 : (Jvm.Cond.soleField "BorrowedLives$Counts" "hits") ∈ lw_all := lw_g (lw_at lw_m5 196 rfl) rfl
theorem q1281 : (Jvm.Cond.laysFinal "BorrowedLives$Counts" "BorrowedLives$Counts" "this$0" "LBorrowedLives;") ∈ lw_all := lw_g (lw_at lw_m5 197 rfl) rfl
theorem q1282 : (Jvm.Cond.soleField "BorrowedLives$Counts" "this$0") ∈ lw_all := lw_g (lw_at lw_m5 198 rfl) rfl
theorem q1283 : (Jvm.Cond.lays "BorrowedLives$Counts" "BorrowedLives$Looker" "lots" "I") ∈ lw_all := lw_g (lw_at lw_m5 199 rfl) rfl
theorem q1285 : (Jvm.Cond.laysFinal "BorrowedLives$Counts" "BorrowedLives$Looker" "this$0" "LBorrowedLives;") ∈ lw_all := lw_g (lw_at lw_m5 201 rfl) rfl
theorem q1287 : (Jvm.Cond.superclass "BorrowedLives$Counts" "BorrowedLives$Looker") ∈ lw_all := lw_g (lw_at lw_m5 203 rfl) rfl
theorem q1400 : (Jvm.Cond.selects "BorrowedLives$Counts" ({ cls := "BorrowedLives$Looker", name := "sees", desc := "([I)V" } : Jvm.MethodName) ({ cls := "BorrowedLives$Counts", name := "sees", desc := "([I)V" } : Jvm.MethodName)) ∈ lw_all := lw_g (lw_at lw_m6 76 rfl) rfl
theorem q1401 : (Jvm.Cond.instanceMethod ({ cls := "BorrowedLives$Counts", name := "sees", desc := "([I)V" } : Jvm.MethodName)) ∈ lw_all := lw_g (lw_at lw_m6 77 rfl) rfl
theorem q1402 : (Jvm.Cond.code ({ cls := "BorrowedLives$Counts", name := "sees", desc := "([I)V" } : Jvm.MethodName) prog_3_method_2_code (2 : Nat) (Option.none : Option Jvm.ClassFile.FieldType)) ∈ lw_all := lw_g (lw_at lw_m6 78 rfl) rfl
theorem q2436 : (Jvm.Cond.castable "BorrowedLives$Counts" "java/lang/Object") ∈ lw_tbl := lw_at lw_m10 152 rfl
theorem in_X23 : ∀ w ∈ wsX230, w ∈ lw_all := lw_in wsX230 [1283, 1285, 1275, 1277, 1279, 1281] (by decide +kernel) (by decide +kernel)
/-! BorrowedLives$Takes -/
set_option maxRecDepth 100000
def RX24 : String := "BorrowedLives$Takes"
def TX24 : u_T := fun k => match k with
  | 0 => ("BorrowedLives$Looker", "lots", "I", false)
  | 1 => ("BorrowedLives$Looker", "this$0", "LBorrowedLives;", true)
  | 2 => ("BorrowedLives$Takes", "place", "I", true)
  | 3 => ("BorrowedLives$Takes", "taken", "[I", true)
  | _ => ("BorrowedLives$Takes", "this$0", "LBorrowedLives;", true)
def tyX24 : Nat → FieldType := fun k => match k with
  | 0 => .int
  | 1 => .object "BorrowedLives"
  | 2 => .int
  | 3 => .array .int
  | _ => .object "BorrowedLives"
abbrev wsX240 : List Cond := u_ws RX24 TX24 5
-- two fields of one name: no nmX24
theorem tyX24_ok : ∀ k, k < 5 → parseFieldDescriptor (TX24 k).2.2.1 = some (tyX24 k) := by decide +kernel
abbrev cX24_sees : ByteArray := prog_24_method_2_code
def yX24_sees : MethodName := ⟨RX24, "sees", "([I)V"⟩
def dkwX24_sees_0 : List UInt8 := [42, 180, 0, 23, 42, 180, 0, 19, 4, 96, 160, 0, 11, 43, 42, 180, 0, 15, 184, 0, 26, 177]
abbrev dktX24_sees_0 : List UInt8 := dkwX24_sees_0 ++ []
theorem dksX24_sees_0 : cX24_sees.data.toList.drop 0 = dktX24_sees_0 := by decide +kernel
theorem dX24_sees_0 : decode cX24_sees 0 = .ok (.aload_n 0, 1) := dk_42 (dk_at dksX24_sees_0 0 rfl rfl)
theorem dX24_sees_1 : decode cX24_sees 1 = .ok (.getfield 23, 3) := dk_180 0 23 (dk_at dksX24_sees_0 1 rfl rfl)
theorem dX24_sees_4 : decode cX24_sees 4 = .ok (.aload_n 0, 1) := dk_42 (dk_at dksX24_sees_0 4 rfl rfl)
theorem dX24_sees_5 : decode cX24_sees 5 = .ok (.getfield 19, 3) := dk_180 0 19 (dk_at dksX24_sees_0 5 rfl rfl)
theorem dX24_sees_8 : decode cX24_sees 8 = .ok (.iconst 1, 1) := dk_4 (dk_at dksX24_sees_0 8 rfl rfl)
theorem dX24_sees_9 : decode cX24_sees 9 = .ok (.iadd, 1) := dk_96 (dk_at dksX24_sees_0 9 rfl rfl)
theorem dX24_sees_10 : decode cX24_sees 10 = .ok (.if_icmp .ne 11, 3) := dk_160 0 11 (dk_at dksX24_sees_0 10 rfl rfl)
theorem dX24_sees_13 : decode cX24_sees 13 = .ok (.aload_n 1, 1) := dk_43 (dk_at dksX24_sees_0 13 rfl rfl)
theorem dX24_sees_14 : decode cX24_sees 14 = .ok (.aload_n 0, 1) := dk_42 (dk_at dksX24_sees_0 14 rfl rfl)
theorem dX24_sees_15 : decode cX24_sees 15 = .ok (.getfield 15, 3) := dk_180 0 15 (dk_at dksX24_sees_0 15 rfl rfl)
theorem dX24_sees_18 : decode cX24_sees 18 = .ok (.invokestatic 26, 3) := dk_184 0 26 (dk_at dksX24_sees_0 18 rfl rfl)
theorem dX24_sees_21 : decode cX24_sees 21 = .ok (.return_, 1) := dk_177 (dk_at dksX24_sees_0 21 rfl rfl)
abbrev cX24_init : ByteArray := prog_24_method_1_code
def yX24_init : MethodName := ⟨RX24, "<init>", "(LBorrowedLives;I)V"⟩
def dkwX24_init_0 : List UInt8 := [42, 43, 181, 0, 3, 42, 43, 183, 0, 9, 42, 16, 6, 188, 10, 181, 0, 15, 42, 28, 181, 0, 19, 177]
abbrev dktX24_init_0 : List UInt8 := dkwX24_init_0 ++ []
theorem dksX24_init_0 : cX24_init.data.toList.drop 0 = dktX24_init_0 := by decide +kernel
theorem dX24_init_0 : decode cX24_init 0 = .ok (.aload_n 0, 1) := dk_42 (dk_at dksX24_init_0 0 rfl rfl)
theorem dX24_init_1 : decode cX24_init 1 = .ok (.aload_n 1, 1) := dk_43 (dk_at dksX24_init_0 1 rfl rfl)
theorem dX24_init_2 : decode cX24_init 2 = .ok (.putfield 3, 3) := dk_181 0 3 (dk_at dksX24_init_0 2 rfl rfl)
theorem dX24_init_5 : decode cX24_init 5 = .ok (.aload_n 0, 1) := dk_42 (dk_at dksX24_init_0 5 rfl rfl)
theorem dX24_init_6 : decode cX24_init 6 = .ok (.aload_n 1, 1) := dk_43 (dk_at dksX24_init_0 6 rfl rfl)
theorem dX24_init_7 : decode cX24_init 7 = .ok (.invokespecial 9, 3) := dk_183 0 9 (dk_at dksX24_init_0 7 rfl rfl)
theorem dX24_init_10 : decode cX24_init 10 = .ok (.aload_n 0, 1) := dk_42 (dk_at dksX24_init_0 10 rfl rfl)
theorem dX24_init_11 : decode cX24_init 11 = .ok (.bipush 6, 2) := dk_16 6 (dk_at dksX24_init_0 11 rfl rfl)
theorem dX24_init_13 : decode cX24_init 13 = .ok (.newarray .int, 2) := dk_188_10 (dk_at dksX24_init_0 13 rfl rfl)
theorem dX24_init_15 : decode cX24_init 15 = .ok (.putfield 15, 3) := dk_181 0 15 (dk_at dksX24_init_0 15 rfl rfl)
theorem dX24_init_18 : decode cX24_init 18 = .ok (.aload_n 0, 1) := dk_42 (dk_at dksX24_init_0 18 rfl rfl)
theorem dX24_init_19 : decode cX24_init 19 = .ok (.iload_n 2, 1) := dk_28 (dk_at dksX24_init_0 19 rfl rfl)
theorem dX24_init_20 : decode cX24_init 20 = .ok (.putfield 19, 3) := dk_181 0 19 (dk_at dksX24_init_0 20 rfl rfl)
theorem dX24_init_23 : decode cX24_init 23 = .ok (.return_, 1) := dk_177 (dk_at dksX24_init_0 23 rfl rfl)
theorem q166 : (Jvm.Cond.initialized "BorrowedLives$Takes") ∈ lw_all := lw_g (lw_at lw_m1 42 rfl) rfl
theorem q1002 : (Jvm.Cond.selects "BorrowedLives$Takes" ({ cls := "java/lang/Object", name := "getClass", desc := "()Ljava/lang/Class;" } : Jvm.MethodName) ({ cls := "java/lang/Object", name := "getClass", desc := "()Ljava/lang/Class;" } : Jvm.MethodName)) ∈ lw_all := lw_g (lw_at lw_m4 158 rfl) rfl
theorem q1264 : (Jvm.Cond.fieldLink "BorrowedLives$Takes" (23 : Nat) "BorrowedLives$Takes" "lots" "I") ∈ lw_all := lw_g (lw_at lw_m5 180 rfl) rfl
theorem q1265 : (Jvm.Cond.sameField "BorrowedLives$Takes" "BorrowedLives$Looker" "lots" "I") ∈ lw_all := lw_g (lw_at lw_m5 181 rfl) rfl
theorem q1435 : (Jvm.Cond.selects "BorrowedLives$Takes" ({ cls := "BorrowedLives$Looker", name := "sees", desc := "([I)V" } : Jvm.MethodName) ({ cls := "BorrowedLives$Takes", name := "sees", desc := "([I)V" } : Jvm.MethodName)) ∈ lw_all := lw_g (lw_at lw_m6 111 rfl) rfl
theorem q1436 : (Jvm.Cond.instanceMethod ({ cls := "BorrowedLives$Takes", name := "sees", desc := "([I)V" } : Jvm.MethodName)) ∈ lw_all := lw_g (lw_at lw_m6 112 rfl) rfl
theorem q1437 : (Jvm.Cond.code ({ cls := "BorrowedLives$Takes", name := "sees", desc := "([I)V" } : Jvm.MethodName) prog_24_method_2_code (2 : Nat) (Option.none : Option Jvm.ClassFile.FieldType)) ∈ lw_all := lw_g (lw_at lw_m6 113 rfl) rfl
theorem q1438 : (Jvm.Cond.methodLinkNest "BorrowedLives$Takes" (26 : Nat) ({ cls := "BorrowedLives", name := "copies", desc := "([I[I)V" } : Jvm.MethodName) "BorrowedLives") ∈ lw_tbl := lw_at lw_m6 114 rfl
theorem q1462 : (Jvm.Cond.instantiable "BorrowedLives$Takes" (5 : Nat)) ∈ lw_all := lw_g (lw_at lw_m6 138 rfl) rfl
theorem q1472 : (Jvm.Cond.instanceMethod ({ cls := "BorrowedLives$Takes", name := "<init>", desc := "(LBorrowedLives;I)V" } : Jvm.MethodName)) ∈ lw_all := lw_g (lw_at lw_m6 148 rfl) rfl
theorem q1473 : (Jvm.Cond.code ({ cls := "BorrowedLives$Takes", name := "<init>", desc := "(LBorrowedLives;I)V" } : Jvm.MethodName) prog_24_method_1_code (3 : Nat) (Option.none : Option Jvm.ClassFile.FieldType)) ∈ lw_all := lw_g (lw_at lw_m6 149 rfl) rfl
theorem q1474 : (Jvm.Cond.methodLinkNest "BorrowedLives$Takes" (9 : Nat) ({ cls := "BorrowedLives$Looker", name := "<init>", desc := "(LBorrowedLives;)V" } : Jvm.MethodName) "BorrowedLives") ∈ lw_tbl := lw_at lw_m6 150 rfl
theorem q1475 : (Jvm.Cond.fieldLink "BorrowedLives$Takes" (19 : Nat) "BorrowedLives$Takes" "place" "I") ∈ lw_all := lw_g (lw_at lw_m6 151 rfl) rfl
theorem q1477 : (Jvm.Cond.fieldLink "BorrowedLives$Takes" (15 : Nat) "BorrowedLives$Takes" "taken" "[I") ∈ lw_all := lw_g (lw_at lw_m6 153 rfl) rfl
theorem q1479 : (Jvm.Cond.fieldLink "BorrowedLives$Takes" (3 : Nat) "BorrowedLives$Takes" "this$0" "LBorrowedLives;") ∈ lw_all := lw_g (lw_at lw_m6 155 rfl) rfl
theorem q1480 : (Jvm.Cond.laysFinal "BorrowedLives$Takes" "BorrowedLives$Takes" "place" "I") ∈ lw_all := lw_g (lw_at lw_m6 156 rfl) rfl
theorem q1481 : (Jvm.Cond.soleField "BorrowedLives$Takes" "place") ∈ lw_all := lw_g (lw_at lw_m6 157 rfl) rfl
theorem q1482 : (Jvm.Cond.laysFinal "BorrowedLives$Takes" "BorrowedLives$Takes" "taken" "[I") ∈ lw_all := lw_g (lw_at lw_m6 158 rfl) rfl
theorem q1483 : (Jvm.Cond.soleField "BorrowedLives$Takes" "taken") ∈ lw_all := lw_g (lw_at lw_m6 159 rfl) rfl
theorem q1484 : (Jvm.Cond.laysFinal "BorrowedLives$Takes" "BorrowedLives$Takes" "this$0" "LBorrowedLives;") ∈ lw_all := lw_g (lw_at lw_m6 160 rfl) rfl
theorem q1485 : (Jvm.Cond.soleField "BorrowedLives$Takes" "this$0") ∈ lw_all := lw_g (lw_at lw_m6 161 rfl) rfl
theorem q1486 : (Jvm.Cond.lays "BorrowedLives$Takes" "BorrowedLives$Looker" "lots" "I") ∈ lw_all := lw_g (lw_at lw_m6 162 rfl) rfl
theorem q1487 : (Jvm.Cond.laysFinal "BorrowedLives$Takes" "BorrowedLives$Looker" "this$0" "LBorrowedLives;") ∈ lw_all := lw_g (lw_at lw_m6 163 rfl) rfl
theorem q1488 : (Jvm.Cond.superclass "BorrowedLives$Takes" "BorrowedLives$Looker") ∈ lw_all := lw_g (lw_at lw_m6 164 rfl) rfl
theorem q2437 : (Jvm.Cond.castable "BorrowedLives$Takes" "java/lang/Object") ∈ lw_tbl := lw_at lw_m10 153 rfl
theorem in_X24 : ∀ w ∈ wsX240, w ∈ lw_all := lw_in wsX240 [1486, 1487, 1480, 1482, 1484] (by decide +kernel) (by decide +kernel)
/-! BorrowedLives$Least -/
set_option maxRecDepth 100000
def RX25 : String := "BorrowedLives$Least"
def TX25 : u_T := fun k => match k with
  | 0 => ("BorrowedLives$Looker", "lots", "I", false)
  | 1 => ("BorrowedLives$Looker", "this$0", "LBorrowedLives;", true)
  | 2 => ("BorrowedLives$Least", "best", "[I", true)
  | 3 => ("BorrowedLives$Least", "harm", "I", false)
  | _ => ("BorrowedLives$Least", "this$0", "LBorrowedLives;", true)
def tyX25 : Nat → FieldType := fun k => match k with
  | 0 => .int
  | 1 => .object "BorrowedLives"
  | 2 => .array .int
  | 3 => .int
  | _ => .object "BorrowedLives"
abbrev wsX250 : List Cond := u_ws RX25 TX25 5
-- two fields of one name: no nmX25
theorem tyX25_ok : ∀ k, k < 5 → parseFieldDescriptor (TX25 k).2.2.1 = some (tyX25 k) := by decide +kernel
abbrev cX25_sees : ByteArray := prog_12_method_2_code
def yX25_sees : MethodName := ⟨RX25, "sees", "([I)V"⟩
def dkwX25_sees_2 : List UInt8 := [161, 0, 4, 177, 42, 28, 181, 0, 49, 43, 42, 180, 0, 15, 184, 0, 52, 177]
abbrev dktX25_sees_2 : List UInt8 := dkwX25_sees_2 ++ []
def dkwX25_sees_1 : List UInt8 := [180, 0, 3, 180, 0, 37, 182, 0, 40, 61, 42, 180, 0, 45, 4, 164, 0, 12, 28, 42, 180, 0, 49]
abbrev dktX25_sees_1 : List UInt8 := dkwX25_sees_1 ++ dktX25_sees_2
def dkwX25_sees_0 : List UInt8 := [42, 42, 180, 0, 3, 180, 0, 19, 43, 42, 180, 0, 3, 180, 0, 23, 182, 0, 27, 182, 0, 33, 42]
abbrev dktX25_sees_0 : List UInt8 := dkwX25_sees_0 ++ dktX25_sees_1
theorem dksX25_sees_0 : cX25_sees.data.toList.drop 0 = dktX25_sees_0 := by decide +kernel
theorem dksX25_sees_1 : cX25_sees.data.toList.drop 23 = dktX25_sees_1 := dk_seg dksX25_sees_0 23 rfl rfl
theorem dksX25_sees_2 : cX25_sees.data.toList.drop 46 = dktX25_sees_2 := dk_seg dksX25_sees_1 23 rfl rfl
theorem dX25_sees_0 : decode cX25_sees 0 = .ok (.aload_n 0, 1) := dk_42 (dk_at dksX25_sees_0 0 rfl rfl)
theorem dX25_sees_1 : decode cX25_sees 1 = .ok (.aload_n 0, 1) := dk_42 (dk_at dksX25_sees_0 1 rfl rfl)
theorem dX25_sees_2 : decode cX25_sees 2 = .ok (.getfield 3, 3) := dk_180 0 3 (dk_at dksX25_sees_0 2 rfl rfl)
theorem dX25_sees_5 : decode cX25_sees 5 = .ok (.getfield 19, 3) := dk_180 0 19 (dk_at dksX25_sees_0 5 rfl rfl)
theorem dX25_sees_8 : decode cX25_sees 8 = .ok (.aload_n 1, 1) := dk_43 (dk_at dksX25_sees_0 8 rfl rfl)
theorem dX25_sees_9 : decode cX25_sees 9 = .ok (.aload_n 0, 1) := dk_42 (dk_at dksX25_sees_0 9 rfl rfl)
theorem dX25_sees_10 : decode cX25_sees 10 = .ok (.getfield 3, 3) := dk_180 0 3 (dk_at dksX25_sees_0 10 rfl rfl)
theorem dX25_sees_13 : decode cX25_sees 13 = .ok (.getfield 23, 3) := dk_180 0 23 (dk_at dksX25_sees_0 13 rfl rfl)
theorem dX25_sees_16 : decode cX25_sees 16 = .ok (.invokevirtual 27, 3) := dk_182 0 27 (dk_at dksX25_sees_0 16 rfl rfl)
theorem dX25_sees_19 : decode cX25_sees 19 = .ok (.invokevirtual 33, 3) := dk_182 0 33 (dk_at dksX25_sees_0 19 rfl rfl)
theorem dX25_sees_22 : decode cX25_sees 22 = .ok (.aload_n 0, 1) := dk_42 (dk_at dksX25_sees_0 22 rfl rfl)
theorem dX25_sees_23 : decode cX25_sees 23 = .ok (.getfield 3, 3) := dk_180 0 3 (dk_at dksX25_sees_1 0 rfl rfl)
theorem dX25_sees_26 : decode cX25_sees 26 = .ok (.getfield 37, 3) := dk_180 0 37 (dk_at dksX25_sees_1 3 rfl rfl)
theorem dX25_sees_29 : decode cX25_sees 29 = .ok (.invokevirtual 40, 3) := dk_182 0 40 (dk_at dksX25_sees_1 6 rfl rfl)
theorem dX25_sees_32 : decode cX25_sees 32 = .ok (.istore_n 2, 1) := dk_61 (dk_at dksX25_sees_1 9 rfl rfl)
theorem dX25_sees_33 : decode cX25_sees 33 = .ok (.aload_n 0, 1) := dk_42 (dk_at dksX25_sees_1 10 rfl rfl)
theorem dX25_sees_34 : decode cX25_sees 34 = .ok (.getfield 45, 3) := dk_180 0 45 (dk_at dksX25_sees_1 11 rfl rfl)
theorem dX25_sees_37 : decode cX25_sees 37 = .ok (.iconst 1, 1) := dk_4 (dk_at dksX25_sees_1 14 rfl rfl)
theorem dX25_sees_38 : decode cX25_sees 38 = .ok (.if_icmp .le 12, 3) := dk_164 0 12 (dk_at dksX25_sees_1 15 rfl rfl)
theorem dX25_sees_41 : decode cX25_sees 41 = .ok (.iload_n 2, 1) := dk_28 (dk_at dksX25_sees_1 18 rfl rfl)
theorem dX25_sees_42 : decode cX25_sees 42 = .ok (.aload_n 0, 1) := dk_42 (dk_at dksX25_sees_1 19 rfl rfl)
theorem dX25_sees_43 : decode cX25_sees 43 = .ok (.getfield 49, 3) := dk_180 0 49 (dk_at dksX25_sees_1 20 rfl rfl)
theorem dX25_sees_46 : decode cX25_sees 46 = .ok (.if_icmp .lt 4, 3) := dk_161 0 4 (dk_at dksX25_sees_2 0 rfl rfl)
theorem dX25_sees_49 : decode cX25_sees 49 = .ok (.return_, 1) := dk_177 (dk_at dksX25_sees_2 3 rfl rfl)
theorem dX25_sees_50 : decode cX25_sees 50 = .ok (.aload_n 0, 1) := dk_42 (dk_at dksX25_sees_2 4 rfl rfl)
theorem dX25_sees_51 : decode cX25_sees 51 = .ok (.iload_n 2, 1) := dk_28 (dk_at dksX25_sees_2 5 rfl rfl)
theorem dX25_sees_52 : decode cX25_sees 52 = .ok (.putfield 49, 3) := dk_181 0 49 (dk_at dksX25_sees_2 6 rfl rfl)
theorem dX25_sees_55 : decode cX25_sees 55 = .ok (.aload_n 1, 1) := dk_43 (dk_at dksX25_sees_2 9 rfl rfl)
theorem dX25_sees_56 : decode cX25_sees 56 = .ok (.aload_n 0, 1) := dk_42 (dk_at dksX25_sees_2 10 rfl rfl)
theorem dX25_sees_57 : decode cX25_sees 57 = .ok (.getfield 15, 3) := dk_180 0 15 (dk_at dksX25_sees_2 11 rfl rfl)
theorem dX25_sees_60 : decode cX25_sees 60 = .ok (.invokestatic 52, 3) := dk_184 0 52 (dk_at dksX25_sees_2 14 rfl rfl)
theorem dX25_sees_63 : decode cX25_sees 63 = .ok (.return_, 1) := dk_177 (dk_at dksX25_sees_2 17 rfl rfl)
abbrev cX25_init : ByteArray := prog_12_method_1_code
def yX25_init : MethodName := ⟨RX25, "<init>", "(LBorrowedLives;)V"⟩
def dkwX25_init_0 : List UInt8 := [42, 43, 181, 0, 3, 42, 43, 183, 0, 9, 42, 16, 6, 188, 10, 181, 0, 15, 177]
abbrev dktX25_init_0 : List UInt8 := dkwX25_init_0 ++ []
theorem dksX25_init_0 : cX25_init.data.toList.drop 0 = dktX25_init_0 := by decide +kernel
theorem dX25_init_0 : decode cX25_init 0 = .ok (.aload_n 0, 1) := dk_42 (dk_at dksX25_init_0 0 rfl rfl)
theorem dX25_init_1 : decode cX25_init 1 = .ok (.aload_n 1, 1) := dk_43 (dk_at dksX25_init_0 1 rfl rfl)
theorem dX25_init_2 : decode cX25_init 2 = .ok (.putfield 3, 3) := dk_181 0 3 (dk_at dksX25_init_0 2 rfl rfl)
theorem dX25_init_5 : decode cX25_init 5 = .ok (.aload_n 0, 1) := dk_42 (dk_at dksX25_init_0 5 rfl rfl)
theorem dX25_init_6 : decode cX25_init 6 = .ok (.aload_n 1, 1) := dk_43 (dk_at dksX25_init_0 6 rfl rfl)
theorem dX25_init_7 : decode cX25_init 7 = .ok (.invokespecial 9, 3) := dk_183 0 9 (dk_at dksX25_init_0 7 rfl rfl)
theorem dX25_init_10 : decode cX25_init 10 = .ok (.aload_n 0, 1) := dk_42 (dk_at dksX25_init_0 10 rfl rfl)
theorem dX25_init_11 : decode cX25_init 11 = .ok (.bipush 6, 2) := dk_16 6 (dk_at dksX25_init_0 11 rfl rfl)
theorem dX25_init_13 : decode cX25_init 13 = .ok (.newarray .int, 2) := dk_188_10 (dk_at dksX25_init_0 13 rfl rfl)
theorem dX25_init_15 : decode cX25_init 15 = .ok (.putfield 15, 3) := dk_181 0 15 (dk_at dksX25_init_0 15 rfl rfl)
theorem dX25_init_18 : decode cX25_init 18 = .ok (.return_, 1) := dk_177 (dk_at dksX25_init_0 18 rfl rfl)
theorem q167 : (Jvm.Cond.initialized "BorrowedLives$Least") ∈ lw_all := lw_g (lw_at lw_m1 43 rfl) rfl
theorem q375 : (Jvm.Cond.fieldLinkNest "BorrowedLives$Least" (23 : Nat) "BorrowedLives" "town" "LBorrowedLives$Town;" "BorrowedLives") ∈ lw_tbl := lw_at lw_m2 11 rfl
theorem q379 : (Jvm.Cond.fieldLinkNest "BorrowedLives$Least" (19 : Nat) "BorrowedLives" "state" "LBorrowedLives$State;" "BorrowedLives") ∈ lw_tbl := lw_at lw_m2 15 rfl
theorem q383 : (Jvm.Cond.fieldLinkNest "BorrowedLives$Least" (37 : Nat) "BorrowedLives" "week" "LBorrowedLives$State;" "BorrowedLives") ∈ lw_tbl := lw_at lw_m2 19 rfl
theorem q992 : (Jvm.Cond.selects "BorrowedLives$Least" ({ cls := "java/lang/Object", name := "getClass", desc := "()Ljava/lang/Class;" } : Jvm.MethodName) ({ cls := "java/lang/Object", name := "getClass", desc := "()Ljava/lang/Class;" } : Jvm.MethodName)) ∈ lw_all := lw_g (lw_at lw_m4 148 rfl) rfl
theorem q1266 : (Jvm.Cond.fieldLink "BorrowedLives$Least" (45 : Nat) "BorrowedLives$Least" "lots" "I") ∈ lw_all := lw_g (lw_at lw_m5 182 rfl) rfl
theorem q1267 : (Jvm.Cond.sameField "BorrowedLives$Least" "BorrowedLives$Looker" "lots" "I") ∈ lw_all := lw_g (lw_at lw_m5 183 rfl) rfl
theorem q1426 : (Jvm.Cond.selects "BorrowedLives$Least" ({ cls := "BorrowedLives$Looker", name := "sees", desc := "([I)V" } : Jvm.MethodName) ({ cls := "BorrowedLives$Least", name := "sees", desc := "([I)V" } : Jvm.MethodName)) ∈ lw_all := lw_g (lw_at lw_m6 102 rfl) rfl
theorem q1427 : (Jvm.Cond.instanceMethod ({ cls := "BorrowedLives$Least", name := "sees", desc := "([I)V" } : Jvm.MethodName)) ∈ lw_all := lw_g (lw_at lw_m6 103 rfl) rfl
theorem q1428 : (Jvm.Cond.code ({ cls := "BorrowedLives$Least", name := "sees", desc := "([I)V" } : Jvm.MethodName) prog_12_method_2_code (3 : Nat) (Option.none : Option Jvm.ClassFile.FieldType)) ∈ lw_all := lw_g (lw_at lw_m6 104 rfl) rfl
theorem q1429 : (Jvm.Cond.methodLink "BorrowedLives$Least" (27 : Nat) ({ cls := "BorrowedLives$Town", name := "sign", desc := "()I" } : Jvm.MethodName)) ∈ lw_all := lw_g (lw_at lw_m6 105 rfl) rfl
theorem q1430 : (Jvm.Cond.methodLink "BorrowedLives$Least" (33 : Nat) ({ cls := "BorrowedLives$Least", name := "lives", desc := "(LBorrowedLives$State;[II)V" } : Jvm.MethodName)) ∈ lw_all := lw_g (lw_at lw_m6 106 rfl) rfl
theorem q1431 : (Jvm.Cond.sameMethod "BorrowedLives$Least" "BorrowedLives$Looker" "lives" "(LBorrowedLives$State;[II)V") ∈ lw_all := lw_g (lw_at lw_m6 107 rfl) rfl
theorem q1432 : (Jvm.Cond.selects "BorrowedLives$Least" ({ cls := "BorrowedLives$Least", name := "lives", desc := "(LBorrowedLives$State;[II)V" } : Jvm.MethodName) ({ cls := "BorrowedLives$Looker", name := "lives", desc := "(LBorrowedLives$State;[II)V" } : Jvm.MethodName)) ∈ lw_all := lw_g (lw_at lw_m6 108 rfl) rfl
theorem q1433 : (Jvm.Cond.methodLink "BorrowedLives$Least" (40 : Nat) ({ cls := "BorrowedLives$State", name := "harmOfAll", desc := "()I" } : Jvm.MethodName)) ∈ lw_all := lw_g (lw_at lw_m6 109 rfl) rfl
theorem q1434 : (Jvm.Cond.methodLinkNest "BorrowedLives$Least" (52 : Nat) ({ cls := "BorrowedLives", name := "copies", desc := "([I[I)V" } : Jvm.MethodName) "BorrowedLives") ∈ lw_tbl := lw_at lw_m6 110 rfl
theorem q1553 : (Jvm.Cond.instantiable "BorrowedLives$Least" (5 : Nat)) ∈ lw_all := lw_g (lw_at lw_m6 229 rfl) rfl
theorem q1555 : (Jvm.Cond.instanceMethod ({ cls := "BorrowedLives$Least", name := "<init>", desc := "(LBorrowedLives;)V" } : Jvm.MethodName)) ∈ lw_all := lw_g (lw_at lw_m6 231 rfl) rfl
theorem q1556 : (Jvm.Cond.code ({ cls := "BorrowedLives$Least", name := "<init>", desc := "(LBorrowedLives;)V" } : Jvm.MethodName) prog_12_method_1_code (2 : Nat) (Option.none : Option Jvm.ClassFile.FieldType)) ∈ lw_all := lw_g (lw_at lw_m6 232 rfl) rfl
theorem q1557 : (Jvm.Cond.methodLinkNest "BorrowedLives$Least" (9 : Nat) ({ cls := "BorrowedLives$Looker", name := "<init>", desc := "(LBorrowedLives;)V" } : Jvm.MethodName) "BorrowedLives") ∈ lw_tbl := lw_at lw_m6 233 rfl
theorem q1558 : (Jvm.Cond.fieldLink "BorrowedLives$Least" (15 : Nat) "BorrowedLives$Least" "best" "[I") ∈ lw_all := lw_g (lw_at lw_m6 234 rfl) rfl
theorem q1560 : (Jvm.Cond.fieldLink "BorrowedLives$Least" (49 : Nat) "BorrowedLives$Least" "harm" "I") ∈ lw_all := lw_g (lw_at lw_m6 236 rfl) rfl
theorem q1562 : (Jvm.Cond.fieldLink "BorrowedLives$Least" (3 : Nat) "BorrowedLives$Least" "this$0" "LBorrowedLives;") ∈ lw_all := lw_g (lw_at lw_m6 238 rfl) rfl
theorem q1563 : (Jvm.Cond.laysFinal "BorrowedLives$Least" "BorrowedLives$Least" "best" "[I") ∈ lw_all := lw_g (lw_at lw_m6 239 rfl) rfl
theorem q1564 : (Jvm.Cond.soleField "BorrowedLives$Least" "best") ∈ lw_all := lw_g (lw_at lw_m7 0 rfl) rfl
theorem q1565 : (Jvm.Cond.lays "BorrowedLives$Least" "BorrowedLives$Least" "harm" "I") ∈ lw_all := lw_g (lw_at lw_m7 1 rfl) rfl
theorem q1566 : (Jvm.Cond.soleField "BorrowedLives$Least" "harm") ∈ lw_all := lw_g (lw_at lw_m7 2 rfl) rfl
theorem q1567 : (Jvm.Cond.laysFinal "BorrowedLives$Least" "BorrowedLives$Least" "this$0" "LBorrowedLives;") ∈ lw_all := lw_g (lw_at lw_m7 3 rfl) rfl
theorem q1568 : (Jvm.Cond.soleField "BorrowedLives$Least" "this$0") ∈ lw_all := lw_g (lw_at lw_m7 4 rfl) rfl
theorem q1569 : (Jvm.Cond.lays "BorrowedLives$Least" "BorrowedLives$Looker" "lots" "I") ∈ lw_all := lw_g (lw_at lw_m7 5 rfl) rfl
theorem q1570 : (Jvm.Cond.laysFinal "BorrowedLives$Least" "BorrowedLives$Looker" "this$0" "LBorrowedLives;") ∈ lw_all := lw_g (lw_at lw_m7 6 rfl) rfl
theorem q1571 : (Jvm.Cond.superclass "BorrowedLives$Least" "BorrowedLives$Looker") ∈ lw_all := lw_g (lw_at lw_m7 7 rfl) rfl
theorem q2438 : (Jvm.Cond.castable "BorrowedLives$Least" "java/lang/Object") ∈ lw_tbl := lw_at lw_m10 154 rfl
theorem in_X25 : ∀ w ∈ wsX250, w ∈ lw_all := lw_in wsX250 [1569, 1570, 1563, 1565, 1567] (by decide +kernel) (by decide +kernel)
/-! BorrowedLives$Harms -/
set_option maxRecDepth 100000
def RX26 : String := "BorrowedLives$Harms"
def TX26 : u_T := fun k => match k with
  | 0 => ("BorrowedLives$Looker", "lots", "I", false)
  | 1 => ("BorrowedLives$Looker", "this$0", "LBorrowedLives;", true)
  | 2 => ("BorrowedLives$Harms", "life", "I", true)
  | 3 => ("BorrowedLives$Harms", "sign", "I", true)
  | 4 => ("BorrowedLives$Harms", "harm", "J", false)
  | _ => ("BorrowedLives$Harms", "this$0", "LBorrowedLives;", true)
def tyX26 : Nat → FieldType := fun k => match k with
  | 0 => .int
  | 1 => .object "BorrowedLives"
  | 2 => .int
  | 3 => .int
  | 4 => .long
  | _ => .object "BorrowedLives"
abbrev wsX260 : List Cond := u_ws RX26 TX26 6
-- two fields of one name: no nmX26
theorem tyX26_ok : ∀ k, k < 6 → parseFieldDescriptor (TX26 k).2.2.1 = some (tyX26 k) := by decide +kernel
abbrev cX26_sees : ByteArray := prog_10_method_2_code
def yX26_sees : MethodName := ⟨RX26, "sees", "([I)V"⟩
def dkwX26_sees_2 : List UInt8 := [180, 0, 34, 42, 180, 0, 13, 182, 0, 43, 133, 97, 181, 0, 30, 177]
abbrev dktX26_sees_2 : List UInt8 := dkwX26_sees_2 ++ []
def dkwX26_sees_1 : List UInt8 := [180, 0, 13, 156, 0, 17, 42, 180, 0, 1, 180, 0, 34, 182, 0, 37, 133, 167, 0, 18, 42, 180, 0, 1]
abbrev dktX26_sees_1 : List UInt8 := dkwX26_sees_1 ++ dktX26_sees_2
def dkwX26_sees_0 : List UInt8 := [42, 42, 180, 0, 1, 180, 0, 20, 43, 42, 180, 0, 17, 182, 0, 26, 42, 89, 180, 0, 30, 42]
abbrev dktX26_sees_0 : List UInt8 := dkwX26_sees_0 ++ dktX26_sees_1
theorem dksX26_sees_0 : cX26_sees.data.toList.drop 0 = dktX26_sees_0 := by decide +kernel
theorem dksX26_sees_1 : cX26_sees.data.toList.drop 22 = dktX26_sees_1 := dk_seg dksX26_sees_0 22 rfl rfl
theorem dksX26_sees_2 : cX26_sees.data.toList.drop 46 = dktX26_sees_2 := dk_seg dksX26_sees_1 24 rfl rfl
theorem dX26_sees_0 : decode cX26_sees 0 = .ok (.aload_n 0, 1) := dk_42 (dk_at dksX26_sees_0 0 rfl rfl)
theorem dX26_sees_1 : decode cX26_sees 1 = .ok (.aload_n 0, 1) := dk_42 (dk_at dksX26_sees_0 1 rfl rfl)
theorem dX26_sees_2 : decode cX26_sees 2 = .ok (.getfield 1, 3) := dk_180 0 1 (dk_at dksX26_sees_0 2 rfl rfl)
theorem dX26_sees_5 : decode cX26_sees 5 = .ok (.getfield 20, 3) := dk_180 0 20 (dk_at dksX26_sees_0 5 rfl rfl)
theorem dX26_sees_8 : decode cX26_sees 8 = .ok (.aload_n 1, 1) := dk_43 (dk_at dksX26_sees_0 8 rfl rfl)
theorem dX26_sees_9 : decode cX26_sees 9 = .ok (.aload_n 0, 1) := dk_42 (dk_at dksX26_sees_0 9 rfl rfl)
theorem dX26_sees_10 : decode cX26_sees 10 = .ok (.getfield 17, 3) := dk_180 0 17 (dk_at dksX26_sees_0 10 rfl rfl)
theorem dX26_sees_13 : decode cX26_sees 13 = .ok (.invokevirtual 26, 3) := dk_182 0 26 (dk_at dksX26_sees_0 13 rfl rfl)
theorem dX26_sees_16 : decode cX26_sees 16 = .ok (.aload_n 0, 1) := dk_42 (dk_at dksX26_sees_0 16 rfl rfl)
theorem dX26_sees_17 : decode cX26_sees 17 = .ok (.dup, 1) := dk_89 (dk_at dksX26_sees_0 17 rfl rfl)
theorem dX26_sees_18 : decode cX26_sees 18 = .ok (.getfield 30, 3) := dk_180 0 30 (dk_at dksX26_sees_0 18 rfl rfl)
theorem dX26_sees_21 : decode cX26_sees 21 = .ok (.aload_n 0, 1) := dk_42 (dk_at dksX26_sees_0 21 rfl rfl)
theorem dX26_sees_22 : decode cX26_sees 22 = .ok (.getfield 13, 3) := dk_180 0 13 (dk_at dksX26_sees_1 0 rfl rfl)
theorem dX26_sees_25 : decode cX26_sees 25 = .ok (.ifCond .ge 17, 3) := dk_156 0 17 (dk_at dksX26_sees_1 3 rfl rfl)
theorem dX26_sees_28 : decode cX26_sees 28 = .ok (.aload_n 0, 1) := dk_42 (dk_at dksX26_sees_1 6 rfl rfl)
theorem dX26_sees_29 : decode cX26_sees 29 = .ok (.getfield 1, 3) := dk_180 0 1 (dk_at dksX26_sees_1 7 rfl rfl)
theorem dX26_sees_32 : decode cX26_sees 32 = .ok (.getfield 34, 3) := dk_180 0 34 (dk_at dksX26_sees_1 10 rfl rfl)
theorem dX26_sees_35 : decode cX26_sees 35 = .ok (.invokevirtual 37, 3) := dk_182 0 37 (dk_at dksX26_sees_1 13 rfl rfl)
theorem dX26_sees_38 : decode cX26_sees 38 = .ok (.i2l, 1) := dk_133 (dk_at dksX26_sees_1 16 rfl rfl)
theorem dX26_sees_39 : decode cX26_sees 39 = .ok (.goto 18, 3) := dk_167 0 18 (dk_at dksX26_sees_1 17 rfl rfl)
theorem dX26_sees_42 : decode cX26_sees 42 = .ok (.aload_n 0, 1) := dk_42 (dk_at dksX26_sees_1 20 rfl rfl)
theorem dX26_sees_43 : decode cX26_sees 43 = .ok (.getfield 1, 3) := dk_180 0 1 (dk_at dksX26_sees_1 21 rfl rfl)
theorem dX26_sees_46 : decode cX26_sees 46 = .ok (.getfield 34, 3) := dk_180 0 34 (dk_at dksX26_sees_2 0 rfl rfl)
theorem dX26_sees_49 : decode cX26_sees 49 = .ok (.aload_n 0, 1) := dk_42 (dk_at dksX26_sees_2 3 rfl rfl)
theorem dX26_sees_50 : decode cX26_sees 50 = .ok (.getfield 13, 3) := dk_180 0 13 (dk_at dksX26_sees_2 4 rfl rfl)
theorem dX26_sees_53 : decode cX26_sees 53 = .ok (.invokevirtual 43, 3) := dk_182 0 43 (dk_at dksX26_sees_2 7 rfl rfl)
theorem dX26_sees_56 : decode cX26_sees 56 = .ok (.i2l, 1) := dk_133 (dk_at dksX26_sees_2 10 rfl rfl)
theorem dX26_sees_57 : decode cX26_sees 57 = .ok (.ladd, 1) := dk_97 (dk_at dksX26_sees_2 11 rfl rfl)
theorem dX26_sees_58 : decode cX26_sees 58 = .ok (.putfield 30, 3) := dk_181 0 30 (dk_at dksX26_sees_2 12 rfl rfl)
theorem dX26_sees_61 : decode cX26_sees 61 = .ok (.return_, 1) := dk_177 (dk_at dksX26_sees_2 15 rfl rfl)
abbrev cX26_init : ByteArray := prog_10_method_1_code
def yX26_init : MethodName := ⟨RX26, "<init>", "(LBorrowedLives;II)V"⟩
def dkwX26_init_0 : List UInt8 := [42, 43, 181, 0, 1, 42, 43, 183, 0, 7, 42, 28, 181, 0, 13, 42, 29, 181, 0, 17, 177]
abbrev dktX26_init_0 : List UInt8 := dkwX26_init_0 ++ []
theorem dksX26_init_0 : cX26_init.data.toList.drop 0 = dktX26_init_0 := by decide +kernel
theorem dX26_init_0 : decode cX26_init 0 = .ok (.aload_n 0, 1) := dk_42 (dk_at dksX26_init_0 0 rfl rfl)
theorem dX26_init_1 : decode cX26_init 1 = .ok (.aload_n 1, 1) := dk_43 (dk_at dksX26_init_0 1 rfl rfl)
theorem dX26_init_2 : decode cX26_init 2 = .ok (.putfield 1, 3) := dk_181 0 1 (dk_at dksX26_init_0 2 rfl rfl)
theorem dX26_init_5 : decode cX26_init 5 = .ok (.aload_n 0, 1) := dk_42 (dk_at dksX26_init_0 5 rfl rfl)
theorem dX26_init_6 : decode cX26_init 6 = .ok (.aload_n 1, 1) := dk_43 (dk_at dksX26_init_0 6 rfl rfl)
theorem dX26_init_7 : decode cX26_init 7 = .ok (.invokespecial 7, 3) := dk_183 0 7 (dk_at dksX26_init_0 7 rfl rfl)
theorem dX26_init_10 : decode cX26_init 10 = .ok (.aload_n 0, 1) := dk_42 (dk_at dksX26_init_0 10 rfl rfl)
theorem dX26_init_11 : decode cX26_init 11 = .ok (.iload_n 2, 1) := dk_28 (dk_at dksX26_init_0 11 rfl rfl)
theorem dX26_init_12 : decode cX26_init 12 = .ok (.putfield 13, 3) := dk_181 0 13 (dk_at dksX26_init_0 12 rfl rfl)
theorem dX26_init_15 : decode cX26_init 15 = .ok (.aload_n 0, 1) := dk_42 (dk_at dksX26_init_0 15 rfl rfl)
theorem dX26_init_16 : decode cX26_init 16 = .ok (.iload_n 3, 1) := dk_29 (dk_at dksX26_init_0 16 rfl rfl)
theorem dX26_init_17 : decode cX26_init 17 = .ok (.putfield 17, 3) := dk_181 0 17 (dk_at dksX26_init_0 17 rfl rfl)
theorem dX26_init_20 : decode cX26_init 20 = .ok (.return_, 1) := dk_177 (dk_at dksX26_init_0 20 rfl rfl)
theorem q168 : (Jvm.Cond.initialized "BorrowedLives$Harms") ∈ lw_all := lw_g (lw_at lw_m1 44 rfl) rfl
theorem q381 : (Jvm.Cond.fieldLinkNest "BorrowedLives$Harms" (20 : Nat) "BorrowedLives" "trial" "LBorrowedLives$State;" "BorrowedLives") ∈ lw_tbl := lw_at lw_m2 17 rfl
theorem q384 : (Jvm.Cond.fieldLinkNest "BorrowedLives$Harms" (34 : Nat) "BorrowedLives" "week" "LBorrowedLives$State;" "BorrowedLives") ∈ lw_tbl := lw_at lw_m2 20 rfl
theorem q990 : (Jvm.Cond.selects "BorrowedLives$Harms" ({ cls := "java/lang/Object", name := "getClass", desc := "()Ljava/lang/Class;" } : Jvm.MethodName) ({ cls := "java/lang/Object", name := "getClass", desc := "()Ljava/lang/Class;" } : Jvm.MethodName)) ∈ lw_all := lw_g (lw_at lw_m4 146 rfl) rfl
theorem q1273 : (Jvm.Cond.sameField "BorrowedLives$Harms" "BorrowedLives$Looker" "lots" "I") ∈ lw_all := lw_g (lw_at lw_m5 189 rfl) rfl
theorem q1408 : (Jvm.Cond.selects "BorrowedLives$Harms" ({ cls := "BorrowedLives$Looker", name := "sees", desc := "([I)V" } : Jvm.MethodName) ({ cls := "BorrowedLives$Harms", name := "sees", desc := "([I)V" } : Jvm.MethodName)) ∈ lw_all := lw_g (lw_at lw_m6 84 rfl) rfl
theorem q1409 : (Jvm.Cond.instanceMethod ({ cls := "BorrowedLives$Harms", name := "sees", desc := "([I)V" } : Jvm.MethodName)) ∈ lw_all := lw_g (lw_at lw_m6 85 rfl) rfl
theorem q1410 : (Jvm.Cond.code ({ cls := "BorrowedLives$Harms", name := "sees", desc := "([I)V" } : Jvm.MethodName) prog_10_method_2_code (2 : Nat) (Option.none : Option Jvm.ClassFile.FieldType)) ∈ lw_all := lw_g (lw_at lw_m6 86 rfl) rfl
theorem q1411 : (Jvm.Cond.methodLink "BorrowedLives$Harms" (26 : Nat) ({ cls := "BorrowedLives$Harms", name := "lives", desc := "(LBorrowedLives$State;[II)V" } : Jvm.MethodName)) ∈ lw_all := lw_g (lw_at lw_m6 87 rfl) rfl
theorem q1412 : (Jvm.Cond.sameMethod "BorrowedLives$Harms" "BorrowedLives$Looker" "lives" "(LBorrowedLives$State;[II)V") ∈ lw_all := lw_g (lw_at lw_m6 88 rfl) rfl
theorem q1414 : (Jvm.Cond.selects "BorrowedLives$Harms" ({ cls := "BorrowedLives$Harms", name := "lives", desc := "(LBorrowedLives$State;[II)V" } : Jvm.MethodName) ({ cls := "BorrowedLives$Looker", name := "lives", desc := "(LBorrowedLives$State;[II)V" } : Jvm.MethodName)) ∈ lw_all := lw_g (lw_at lw_m6 90 rfl) rfl
theorem q1420 : (Jvm.Cond.methodLink "BorrowedLives$Harms" (37 : Nat) ({ cls := "BorrowedLives$State", name := "harmOfAll", desc := "()I" } : Jvm.MethodName)) ∈ lw_all := lw_g (lw_at lw_m6 96 rfl) rfl
theorem q1425 : (Jvm.Cond.methodLink "BorrowedLives$Harms" (43 : Nat) ({ cls := "BorrowedLives$State", name := "harmOf", desc := "(I)I" } : Jvm.MethodName)) ∈ lw_all := lw_g (lw_at lw_m6 101 rfl) rfl
theorem q1577 : (Jvm.Cond.instantiable "BorrowedLives$Harms" (6 : Nat)) ∈ lw_all := lw_g (lw_at lw_m7 13 rfl) rfl
theorem q1579 : (Jvm.Cond.instanceMethod ({ cls := "BorrowedLives$Harms", name := "<init>", desc := "(LBorrowedLives;II)V" } : Jvm.MethodName)) ∈ lw_all := lw_g (lw_at lw_m7 15 rfl) rfl
theorem q1580 : (Jvm.Cond.code ({ cls := "BorrowedLives$Harms", name := "<init>", desc := "(LBorrowedLives;II)V" } : Jvm.MethodName) prog_10_method_1_code (4 : Nat) (Option.none : Option Jvm.ClassFile.FieldType)) ∈ lw_all := lw_g (lw_at lw_m7 16 rfl) rfl
theorem q1581 : (Jvm.Cond.methodLinkNest "BorrowedLives$Harms" (7 : Nat) ({ cls := "BorrowedLives$Looker", name := "<init>", desc := "(LBorrowedLives;)V" } : Jvm.MethodName) "BorrowedLives") ∈ lw_tbl := lw_at lw_m7 17 rfl
theorem q1582 : (Jvm.Cond.fieldLink "BorrowedLives$Harms" (13 : Nat) "BorrowedLives$Harms" "life" "I") ∈ lw_all := lw_g (lw_at lw_m7 18 rfl) rfl
theorem q1583 : (Jvm.Cond.fieldLink "BorrowedLives$Harms" (17 : Nat) "BorrowedLives$Harms" "sign" "I") ∈ lw_all := lw_g (lw_at lw_m7 19 rfl) rfl
theorem q1584 : (Jvm.Cond.fieldLink "BorrowedLives$Harms" (30 : Nat) "BorrowedLives$Harms" "harm" "J") ∈ lw_all := lw_g (lw_at lw_m7 20 rfl) rfl
theorem q1586 : (Jvm.Cond.fieldLink "BorrowedLives$Harms" (1 : Nat) "BorrowedLives$Harms" "this$0" "LBorrowedLives;") ∈ lw_all := lw_g (lw_at lw_m7 22 rfl) rfl
theorem q1587 : (Jvm.Cond.laysFinal "BorrowedLives$Harms" "BorrowedLives$Harms" "life" "I") ∈ lw_all := lw_g (lw_at lw_m7 23 rfl) rfl
theorem q1588 : (Jvm.Cond.soleField "BorrowedLives$Harms" "life") ∈ lw_all := lw_g (lw_at lw_m7 24 rfl) rfl
theorem q1589 : (Jvm.Cond.laysFinal "BorrowedLives$Harms" "BorrowedLives$Harms" "sign" "I") ∈ lw_all := lw_g (lw_at lw_m7 25 rfl) rfl
theorem q1590 : (Jvm.Cond.soleField "BorrowedLives$Harms" "sign") ∈ lw_all := lw_g (lw_at lw_m7 26 rfl) rfl
theorem q1591 : (Jvm.Cond.lays "BorrowedLives$Harms" "BorrowedLives$Harms" "harm" "J") ∈ lw_all := lw_g (lw_at lw_m7 27 rfl) rfl
theorem q1592 : (Jvm.Cond.soleField "BorrowedLives$Harms" "harm") ∈ lw_all := lw_g (lw_at lw_m7 28 rfl) rfl
theorem q1593 : (Jvm.Cond.laysFinal "BorrowedLives$Harms" "BorrowedLives$Harms" "this$0" "LBorrowedLives;") ∈ lw_all := lw_g (lw_at lw_m7 29 rfl) rfl
theorem q1594 : (Jvm.Cond.soleField "BorrowedLives$Harms" "this$0") ∈ lw_all := lw_g (lw_at lw_m7 30 rfl) rfl
theorem q1595 : (Jvm.Cond.lays "BorrowedLives$Harms" "BorrowedLives$Looker" "lots" "I") ∈ lw_all := lw_g (lw_at lw_m7 31 rfl) rfl
theorem q1596 : (Jvm.Cond.laysFinal "BorrowedLives$Harms" "BorrowedLives$Looker" "this$0" "LBorrowedLives;") ∈ lw_all := lw_g (lw_at lw_m7 32 rfl) rfl
theorem q1597 : (Jvm.Cond.superclass "BorrowedLives$Harms" "BorrowedLives$Looker") ∈ lw_all := lw_g (lw_at lw_m7 33 rfl) rfl
theorem q2439 : (Jvm.Cond.castable "BorrowedLives$Harms" "java/lang/Object") ∈ lw_tbl := lw_at lw_m10 155 rfl
theorem in_X26 : ∀ w ∈ wsX260, w ∈ lw_all := lw_in wsX260 [1595, 1596, 1587, 1589, 1591, 1593] (by decide +kernel) (by decide +kernel)
/-! BorrowedLives$Fits -/
set_option maxRecDepth 100000
def RX27 : String := "BorrowedLives$Fits"
def TX27 : u_T := fun k => match k with
  | 0 => ("BorrowedLives$Looker", "lots", "I", false)
  | 1 => ("BorrowedLives$Looker", "this$0", "LBorrowedLives;", true)
  | 2 => ("BorrowedLives$Fits", "selves", "[I", true)
  | 3 => ("BorrowedLives$Fits", "many", "I", false)
  | _ => ("BorrowedLives$Fits", "this$0", "LBorrowedLives;", true)
def tyX27 : Nat → FieldType := fun k => match k with
  | 0 => .int
  | 1 => .object "BorrowedLives"
  | 2 => .array .int
  | 3 => .int
  | _ => .object "BorrowedLives"
abbrev wsX270 : List Cond := u_ws RX27 TX27 5
-- two fields of one name: no nmX27
theorem tyX27_ok : ∀ k, k < 5 → parseFieldDescriptor (TX27 k).2.2.1 = some (tyX27 k) := by decide +kernel
abbrev cX27_sees : ByteArray := prog_7_method_2_code
def yX27_sees : MethodName := ⟨RX27, "sees", "([I)V"⟩
def dkwX27_sees_2 : List UInt8 := [79, 132, 2, 1, 167, 255, 228, 177]
abbrev dktX27_sees_2 : List UInt8 := dkwX27_sees_2 ++ []
def dkwX27_sees_1 : List UInt8 := [28, 42, 180, 0, 3, 182, 0, 27, 162, 0, 23, 42, 180, 0, 15, 28, 92, 46, 4, 43, 28, 46, 120, 128]
abbrev dktX27_sees_1 : List UInt8 := dkwX27_sees_1 ++ dktX27_sees_2
def dkwX27_sees_0 : List UInt8 := [42, 180, 0, 3, 43, 182, 0, 19, 154, 0, 4, 177, 42, 89, 180, 0, 23, 4, 96, 181, 0, 23, 3, 61]
abbrev dktX27_sees_0 : List UInt8 := dkwX27_sees_0 ++ dktX27_sees_1
theorem dksX27_sees_0 : cX27_sees.data.toList.drop 0 = dktX27_sees_0 := by decide +kernel
theorem dksX27_sees_1 : cX27_sees.data.toList.drop 24 = dktX27_sees_1 := dk_seg dksX27_sees_0 24 rfl rfl
theorem dksX27_sees_2 : cX27_sees.data.toList.drop 48 = dktX27_sees_2 := dk_seg dksX27_sees_1 24 rfl rfl
theorem dX27_sees_0 : decode cX27_sees 0 = .ok (.aload_n 0, 1) := dk_42 (dk_at dksX27_sees_0 0 rfl rfl)
theorem dX27_sees_1 : decode cX27_sees 1 = .ok (.getfield 3, 3) := dk_180 0 3 (dk_at dksX27_sees_0 1 rfl rfl)
theorem dX27_sees_4 : decode cX27_sees 4 = .ok (.aload_n 1, 1) := dk_43 (dk_at dksX27_sees_0 4 rfl rfl)
theorem dX27_sees_5 : decode cX27_sees 5 = .ok (.invokevirtual 19, 3) := dk_182 0 19 (dk_at dksX27_sees_0 5 rfl rfl)
theorem dX27_sees_8 : decode cX27_sees 8 = .ok (.ifCond .ne 4, 3) := dk_154 0 4 (dk_at dksX27_sees_0 8 rfl rfl)
theorem dX27_sees_11 : decode cX27_sees 11 = .ok (.return_, 1) := dk_177 (dk_at dksX27_sees_0 11 rfl rfl)
theorem dX27_sees_12 : decode cX27_sees 12 = .ok (.aload_n 0, 1) := dk_42 (dk_at dksX27_sees_0 12 rfl rfl)
theorem dX27_sees_13 : decode cX27_sees 13 = .ok (.dup, 1) := dk_89 (dk_at dksX27_sees_0 13 rfl rfl)
theorem dX27_sees_14 : decode cX27_sees 14 = .ok (.getfield 23, 3) := dk_180 0 23 (dk_at dksX27_sees_0 14 rfl rfl)
theorem dX27_sees_17 : decode cX27_sees 17 = .ok (.iconst 1, 1) := dk_4 (dk_at dksX27_sees_0 17 rfl rfl)
theorem dX27_sees_18 : decode cX27_sees 18 = .ok (.iadd, 1) := dk_96 (dk_at dksX27_sees_0 18 rfl rfl)
theorem dX27_sees_19 : decode cX27_sees 19 = .ok (.putfield 23, 3) := dk_181 0 23 (dk_at dksX27_sees_0 19 rfl rfl)
theorem dX27_sees_22 : decode cX27_sees 22 = .ok (.iconst 0, 1) := dk_3 (dk_at dksX27_sees_0 22 rfl rfl)
theorem dX27_sees_23 : decode cX27_sees 23 = .ok (.istore_n 2, 1) := dk_61 (dk_at dksX27_sees_0 23 rfl rfl)
theorem dX27_sees_24 : decode cX27_sees 24 = .ok (.iload_n 2, 1) := dk_28 (dk_at dksX27_sees_1 0 rfl rfl)
theorem dX27_sees_25 : decode cX27_sees 25 = .ok (.aload_n 0, 1) := dk_42 (dk_at dksX27_sees_1 1 rfl rfl)
theorem dX27_sees_26 : decode cX27_sees 26 = .ok (.getfield 3, 3) := dk_180 0 3 (dk_at dksX27_sees_1 2 rfl rfl)
theorem dX27_sees_29 : decode cX27_sees 29 = .ok (.invokevirtual 27, 3) := dk_182 0 27 (dk_at dksX27_sees_1 5 rfl rfl)
theorem dX27_sees_32 : decode cX27_sees 32 = .ok (.if_icmp .ge 23, 3) := dk_162 0 23 (dk_at dksX27_sees_1 8 rfl rfl)
theorem dX27_sees_35 : decode cX27_sees 35 = .ok (.aload_n 0, 1) := dk_42 (dk_at dksX27_sees_1 11 rfl rfl)
theorem dX27_sees_36 : decode cX27_sees 36 = .ok (.getfield 15, 3) := dk_180 0 15 (dk_at dksX27_sees_1 12 rfl rfl)
theorem dX27_sees_39 : decode cX27_sees 39 = .ok (.iload_n 2, 1) := dk_28 (dk_at dksX27_sees_1 15 rfl rfl)
theorem dX27_sees_40 : decode cX27_sees 40 = .ok (.dup2, 1) := dk_92 (dk_at dksX27_sees_1 16 rfl rfl)
theorem dX27_sees_41 : decode cX27_sees 41 = .ok (.iaload, 1) := dk_46 (dk_at dksX27_sees_1 17 rfl rfl)
theorem dX27_sees_42 : decode cX27_sees 42 = .ok (.iconst 1, 1) := dk_4 (dk_at dksX27_sees_1 18 rfl rfl)
theorem dX27_sees_43 : decode cX27_sees 43 = .ok (.aload_n 1, 1) := dk_43 (dk_at dksX27_sees_1 19 rfl rfl)
theorem dX27_sees_44 : decode cX27_sees 44 = .ok (.iload_n 2, 1) := dk_28 (dk_at dksX27_sees_1 20 rfl rfl)
theorem dX27_sees_45 : decode cX27_sees 45 = .ok (.iaload, 1) := dk_46 (dk_at dksX27_sees_1 21 rfl rfl)
theorem dX27_sees_46 : decode cX27_sees 46 = .ok (.ishl, 1) := dk_120 (dk_at dksX27_sees_1 22 rfl rfl)
theorem dX27_sees_47 : decode cX27_sees 47 = .ok (.ior, 1) := dk_128 (dk_at dksX27_sees_1 23 rfl rfl)
theorem dX27_sees_48 : decode cX27_sees 48 = .ok (.iastore, 1) := dk_79 (dk_at dksX27_sees_2 0 rfl rfl)
theorem dX27_sees_49 : decode cX27_sees 49 = .ok (.iinc 2 1, 3) := dk_132 2 1 (dk_at dksX27_sees_2 1 rfl rfl)
theorem dX27_sees_52 : decode cX27_sees 52 = .ok (.goto (-28), 3) := dk_167 255 228 (dk_at dksX27_sees_2 4 rfl rfl)
theorem dX27_sees_55 : decode cX27_sees 55 = .ok (.return_, 1) := dk_177 (dk_at dksX27_sees_2 7 rfl rfl)
abbrev cX27_init : ByteArray := prog_7_method_1_code
def yX27_init : MethodName := ⟨RX27, "<init>", "(LBorrowedLives;)V"⟩
def dkwX27_init_0 : List UInt8 := [42, 43, 181, 0, 3, 42, 43, 183, 0, 9, 42, 16, 6, 188, 10, 181, 0, 15, 177]
abbrev dktX27_init_0 : List UInt8 := dkwX27_init_0 ++ []
theorem dksX27_init_0 : cX27_init.data.toList.drop 0 = dktX27_init_0 := by decide +kernel
theorem dX27_init_0 : decode cX27_init 0 = .ok (.aload_n 0, 1) := dk_42 (dk_at dksX27_init_0 0 rfl rfl)
theorem dX27_init_1 : decode cX27_init 1 = .ok (.aload_n 1, 1) := dk_43 (dk_at dksX27_init_0 1 rfl rfl)
theorem dX27_init_2 : decode cX27_init 2 = .ok (.putfield 3, 3) := dk_181 0 3 (dk_at dksX27_init_0 2 rfl rfl)
theorem dX27_init_5 : decode cX27_init 5 = .ok (.aload_n 0, 1) := dk_42 (dk_at dksX27_init_0 5 rfl rfl)
theorem dX27_init_6 : decode cX27_init 6 = .ok (.aload_n 1, 1) := dk_43 (dk_at dksX27_init_0 6 rfl rfl)
theorem dX27_init_7 : decode cX27_init 7 = .ok (.invokespecial 9, 3) := dk_183 0 9 (dk_at dksX27_init_0 7 rfl rfl)
theorem dX27_init_10 : decode cX27_init 10 = .ok (.aload_n 0, 1) := dk_42 (dk_at dksX27_init_0 10 rfl rfl)
theorem dX27_init_11 : decode cX27_init 11 = .ok (.bipush 6, 2) := dk_16 6 (dk_at dksX27_init_0 11 rfl rfl)
theorem dX27_init_13 : decode cX27_init 13 = .ok (.newarray .int, 2) := dk_188_10 (dk_at dksX27_init_0 13 rfl rfl)
theorem dX27_init_15 : decode cX27_init 15 = .ok (.putfield 15, 3) := dk_181 0 15 (dk_at dksX27_init_0 15 rfl rfl)
theorem dX27_init_18 : decode cX27_init 18 = .ok (.return_, 1) := dk_177 (dk_at dksX27_init_0 18 rfl rfl)
theorem q170 : (Jvm.Cond.initialized "BorrowedLives$Fits") ∈ lw_all := lw_g (lw_at lw_m1 46 rfl) rfl
theorem q987 : (Jvm.Cond.selects "BorrowedLives$Fits" ({ cls := "java/lang/Object", name := "getClass", desc := "()Ljava/lang/Class;" } : Jvm.MethodName) ({ cls := "java/lang/Object", name := "getClass", desc := "()Ljava/lang/Class;" } : Jvm.MethodName)) ∈ lw_all := lw_g (lw_at lw_m4 143 rfl) rfl
theorem q1403 : (Jvm.Cond.selects "BorrowedLives$Fits" ({ cls := "BorrowedLives$Looker", name := "sees", desc := "([I)V" } : Jvm.MethodName) ({ cls := "BorrowedLives$Fits", name := "sees", desc := "([I)V" } : Jvm.MethodName)) ∈ lw_all := lw_g (lw_at lw_m6 79 rfl) rfl
theorem q1404 : (Jvm.Cond.instanceMethod ({ cls := "BorrowedLives$Fits", name := "sees", desc := "([I)V" } : Jvm.MethodName)) ∈ lw_all := lw_g (lw_at lw_m6 80 rfl) rfl
theorem q1405 : (Jvm.Cond.code ({ cls := "BorrowedLives$Fits", name := "sees", desc := "([I)V" } : Jvm.MethodName) prog_7_method_2_code (3 : Nat) (Option.none : Option Jvm.ClassFile.FieldType)) ∈ lw_all := lw_g (lw_at lw_m6 81 rfl) rfl
theorem q1406 : (Jvm.Cond.methodLinkNest "BorrowedLives$Fits" (19 : Nat) ({ cls := "BorrowedLives", name := "fits", desc := "([I)Z" } : Jvm.MethodName) "BorrowedLives") ∈ lw_tbl := lw_at lw_m6 82 rfl
theorem q1407 : (Jvm.Cond.methodLinkNest "BorrowedLives$Fits" (27 : Nat) ({ cls := "BorrowedLives", name := "people", desc := "()I" } : Jvm.MethodName) "BorrowedLives") ∈ lw_tbl := lw_at lw_m6 83 rfl
theorem q1628 : (Jvm.Cond.instantiable "BorrowedLives$Fits" (5 : Nat)) ∈ lw_all := lw_g (lw_at lw_m7 64 rfl) rfl
theorem q1630 : (Jvm.Cond.instanceMethod ({ cls := "BorrowedLives$Fits", name := "<init>", desc := "(LBorrowedLives;)V" } : Jvm.MethodName)) ∈ lw_all := lw_g (lw_at lw_m7 66 rfl) rfl
theorem q1631 : (Jvm.Cond.code ({ cls := "BorrowedLives$Fits", name := "<init>", desc := "(LBorrowedLives;)V" } : Jvm.MethodName) prog_7_method_1_code (2 : Nat) (Option.none : Option Jvm.ClassFile.FieldType)) ∈ lw_all := lw_g (lw_at lw_m7 67 rfl) rfl
theorem q1632 : (Jvm.Cond.methodLinkNest "BorrowedLives$Fits" (9 : Nat) ({ cls := "BorrowedLives$Looker", name := "<init>", desc := "(LBorrowedLives;)V" } : Jvm.MethodName) "BorrowedLives") ∈ lw_tbl := lw_at lw_m7 68 rfl
theorem q1633 : (Jvm.Cond.fieldLink "BorrowedLives$Fits" (15 : Nat) "BorrowedLives$Fits" "selves" "[I") ∈ lw_all := lw_g (lw_at lw_m7 69 rfl) rfl
theorem q1635 : (Jvm.Cond.fieldLink "BorrowedLives$Fits" (23 : Nat) "BorrowedLives$Fits" "many" "I") ∈ lw_all := lw_g (lw_at lw_m7 71 rfl) rfl
theorem q1637 : (Jvm.Cond.fieldLink "BorrowedLives$Fits" (3 : Nat) "BorrowedLives$Fits" "this$0" "LBorrowedLives;") ∈ lw_all := lw_g (lw_at lw_m7 73 rfl) rfl
theorem q1638 : (Jvm.Cond.laysFinal "BorrowedLives$Fits" "BorrowedLives$Fits" "selves" "[I") ∈ lw_all := lw_g (lw_at lw_m7 74 rfl) rfl
theorem q1639 : (Jvm.Cond.soleField "BorrowedLives$Fits" "selves") ∈ lw_all := lw_g (lw_at lw_m7 75 rfl) rfl
theorem q1640 : (Jvm.Cond.lays "BorrowedLives$Fits" "BorrowedLives$Fits" "many" "I") ∈ lw_all := lw_g (lw_at lw_m7 76 rfl) rfl
theorem q1641 : (Jvm.Cond.soleField "BorrowedLives$Fits" "many") ∈ lw_all := lw_g (lw_at lw_m7 77 rfl) rfl
theorem q1642 : (Jvm.Cond.laysFinal "BorrowedLives$Fits" "BorrowedLives$Fits" "this$0" "LBorrowedLives;") ∈ lw_all := lw_g (lw_at lw_m7 78 rfl) rfl
theorem q1643 : (Jvm.Cond.soleField "BorrowedLives$Fits" "this$0") ∈ lw_all := lw_g (lw_at lw_m7 79 rfl) rfl
theorem q1644 : (Jvm.Cond.lays "BorrowedLives$Fits" "BorrowedLives$Looker" "lots" "I") ∈ lw_all := lw_g (lw_at lw_m7 80 rfl) rfl
theorem q1645 : (Jvm.Cond.laysFinal "BorrowedLives$Fits" "BorrowedLives$Looker" "this$0" "LBorrowedLives;") ∈ lw_all := lw_g (lw_at lw_m7 81 rfl) rfl
theorem q1646 : (Jvm.Cond.superclass "BorrowedLives$Fits" "BorrowedLives$Looker") ∈ lw_all := lw_g (lw_at lw_m7 82 rfl) rfl
theorem q2441 : (Jvm.Cond.castable "BorrowedLives$Fits" "java/lang/Object") ∈ lw_tbl := lw_at lw_m10 157 rfl
theorem in_X27 : ∀ w ∈ wsX270, w ∈ lw_all := lw_in wsX270 [1644, 1645, 1638, 1640, 1642] (by decide +kernel) (by decide +kernel)
/-! BorrowedLives$Alike -/
set_option maxRecDepth 100000
def RX28 : String := "BorrowedLives$Alike"
def TX28 : u_T := fun k => match k with
  | 0 => ("BorrowedLives$Looker", "lots", "I", false)
  | 1 => ("BorrowedLives$Looker", "this$0", "LBorrowedLives;", true)
  | 2 => ("BorrowedLives$Alike", "life", "I", true)
  | 3 => ("BorrowedLives$Alike", "day", "I", true)
  | 4 => ("BorrowedLives$Alike", "most", "I", false)
  | _ => ("BorrowedLives$Alike", "this$0", "LBorrowedLives;", true)
def tyX28 : Nat → FieldType := fun k => match k with
  | 0 => .int
  | 1 => .object "BorrowedLives"
  | 2 => .int
  | 3 => .int
  | 4 => .int
  | _ => .object "BorrowedLives"
abbrev wsX280 : List Cond := u_ws RX28 TX28 6
-- two fields of one name: no nmX28
theorem tyX28_ok : ∀ k, k < 6 → parseFieldDescriptor (TX28 k).2.2.1 = some (tyX28 k) := by decide +kernel
abbrev cX28_sees : ByteArray := prog_2_method_2_code
def yX28_sees : MethodName := ⟨RX28, "sees", "([I)V"⟩
def dkwX28_sees_2 : List UInt8 := [184, 0, 37, 181, 0, 26, 177]
abbrev dktX28_sees_2 : List UInt8 := dkwX28_sees_2 ++ []
def dkwX28_sees_1 : List UInt8 := [180, 0, 1, 180, 0, 33, 42, 180, 0, 17, 50, 42, 180, 0, 13, 46, 92, 46, 4, 96, 91, 79]
abbrev dktX28_sees_1 : List UInt8 := dkwX28_sees_1 ++ dktX28_sees_2
def dkwX28_sees_0 : List UInt8 := [42, 180, 0, 1, 43, 182, 0, 20, 153, 0, 44, 42, 42, 180, 0, 26, 42, 180, 0, 1, 180, 0, 29, 42]
abbrev dktX28_sees_0 : List UInt8 := dkwX28_sees_0 ++ dktX28_sees_1
theorem dksX28_sees_0 : cX28_sees.data.toList.drop 0 = dktX28_sees_0 := by decide +kernel
theorem dksX28_sees_1 : cX28_sees.data.toList.drop 24 = dktX28_sees_1 := dk_seg dksX28_sees_0 24 rfl rfl
theorem dksX28_sees_2 : cX28_sees.data.toList.drop 46 = dktX28_sees_2 := dk_seg dksX28_sees_1 22 rfl rfl
theorem dX28_sees_0 : decode cX28_sees 0 = .ok (.aload_n 0, 1) := dk_42 (dk_at dksX28_sees_0 0 rfl rfl)
theorem dX28_sees_1 : decode cX28_sees 1 = .ok (.getfield 1, 3) := dk_180 0 1 (dk_at dksX28_sees_0 1 rfl rfl)
theorem dX28_sees_4 : decode cX28_sees 4 = .ok (.aload_n 1, 1) := dk_43 (dk_at dksX28_sees_0 4 rfl rfl)
theorem dX28_sees_5 : decode cX28_sees 5 = .ok (.invokevirtual 20, 3) := dk_182 0 20 (dk_at dksX28_sees_0 5 rfl rfl)
theorem dX28_sees_8 : decode cX28_sees 8 = .ok (.ifCond .eq 44, 3) := dk_153 0 44 (dk_at dksX28_sees_0 8 rfl rfl)
theorem dX28_sees_11 : decode cX28_sees 11 = .ok (.aload_n 0, 1) := dk_42 (dk_at dksX28_sees_0 11 rfl rfl)
theorem dX28_sees_12 : decode cX28_sees 12 = .ok (.aload_n 0, 1) := dk_42 (dk_at dksX28_sees_0 12 rfl rfl)
theorem dX28_sees_13 : decode cX28_sees 13 = .ok (.getfield 26, 3) := dk_180 0 26 (dk_at dksX28_sees_0 13 rfl rfl)
theorem dX28_sees_16 : decode cX28_sees 16 = .ok (.aload_n 0, 1) := dk_42 (dk_at dksX28_sees_0 16 rfl rfl)
theorem dX28_sees_17 : decode cX28_sees 17 = .ok (.getfield 1, 3) := dk_180 0 1 (dk_at dksX28_sees_0 17 rfl rfl)
theorem dX28_sees_20 : decode cX28_sees 20 = .ok (.getfield 29, 3) := dk_180 0 29 (dk_at dksX28_sees_0 20 rfl rfl)
theorem dX28_sees_23 : decode cX28_sees 23 = .ok (.aload_n 0, 1) := dk_42 (dk_at dksX28_sees_0 23 rfl rfl)
theorem dX28_sees_24 : decode cX28_sees 24 = .ok (.getfield 1, 3) := dk_180 0 1 (dk_at dksX28_sees_1 0 rfl rfl)
theorem dX28_sees_27 : decode cX28_sees 27 = .ok (.getfield 33, 3) := dk_180 0 33 (dk_at dksX28_sees_1 3 rfl rfl)
theorem dX28_sees_30 : decode cX28_sees 30 = .ok (.aload_n 0, 1) := dk_42 (dk_at dksX28_sees_1 6 rfl rfl)
theorem dX28_sees_31 : decode cX28_sees 31 = .ok (.getfield 17, 3) := dk_180 0 17 (dk_at dksX28_sees_1 7 rfl rfl)
theorem dX28_sees_34 : decode cX28_sees 34 = .ok (.aaload, 1) := dk_50 (dk_at dksX28_sees_1 10 rfl rfl)
theorem dX28_sees_35 : decode cX28_sees 35 = .ok (.aload_n 0, 1) := dk_42 (dk_at dksX28_sees_1 11 rfl rfl)
theorem dX28_sees_36 : decode cX28_sees 36 = .ok (.getfield 13, 3) := dk_180 0 13 (dk_at dksX28_sees_1 12 rfl rfl)
theorem dX28_sees_39 : decode cX28_sees 39 = .ok (.iaload, 1) := dk_46 (dk_at dksX28_sees_1 15 rfl rfl)
theorem dX28_sees_40 : decode cX28_sees 40 = .ok (.dup2, 1) := dk_92 (dk_at dksX28_sees_1 16 rfl rfl)
theorem dX28_sees_41 : decode cX28_sees 41 = .ok (.iaload, 1) := dk_46 (dk_at dksX28_sees_1 17 rfl rfl)
theorem dX28_sees_42 : decode cX28_sees 42 = .ok (.iconst 1, 1) := dk_4 (dk_at dksX28_sees_1 18 rfl rfl)
theorem dX28_sees_43 : decode cX28_sees 43 = .ok (.iadd, 1) := dk_96 (dk_at dksX28_sees_1 19 rfl rfl)
theorem dX28_sees_44 : decode cX28_sees 44 = .ok (.dup_x2, 1) := dk_91 (dk_at dksX28_sees_1 20 rfl rfl)
theorem dX28_sees_45 : decode cX28_sees 45 = .ok (.iastore, 1) := dk_79 (dk_at dksX28_sees_1 21 rfl rfl)
theorem dX28_sees_46 : decode cX28_sees 46 = .ok (.invokestatic 37, 3) := dk_184 0 37 (dk_at dksX28_sees_2 0 rfl rfl)
theorem dX28_sees_49 : decode cX28_sees 49 = .ok (.putfield 26, 3) := dk_181 0 26 (dk_at dksX28_sees_2 3 rfl rfl)
theorem dX28_sees_52 : decode cX28_sees 52 = .ok (.return_, 1) := dk_177 (dk_at dksX28_sees_2 6 rfl rfl)
abbrev cX28_init : ByteArray := prog_2_method_1_code
def yX28_init : MethodName := ⟨RX28, "<init>", "(LBorrowedLives;II)V"⟩
def dkwX28_init_0 : List UInt8 := [42, 43, 181, 0, 1, 42, 43, 183, 0, 7, 42, 28, 181, 0, 13, 42, 29, 181, 0, 17, 177]
abbrev dktX28_init_0 : List UInt8 := dkwX28_init_0 ++ []
theorem dksX28_init_0 : cX28_init.data.toList.drop 0 = dktX28_init_0 := by decide +kernel
theorem dX28_init_0 : decode cX28_init 0 = .ok (.aload_n 0, 1) := dk_42 (dk_at dksX28_init_0 0 rfl rfl)
theorem dX28_init_1 : decode cX28_init 1 = .ok (.aload_n 1, 1) := dk_43 (dk_at dksX28_init_0 1 rfl rfl)
theorem dX28_init_2 : decode cX28_init 2 = .ok (.putfield 1, 3) := dk_181 0 1 (dk_at dksX28_init_0 2 rfl rfl)
theorem dX28_init_5 : decode cX28_init 5 = .ok (.aload_n 0, 1) := dk_42 (dk_at dksX28_init_0 5 rfl rfl)
theorem dX28_init_6 : decode cX28_init 6 = .ok (.aload_n 1, 1) := dk_43 (dk_at dksX28_init_0 6 rfl rfl)
theorem dX28_init_7 : decode cX28_init 7 = .ok (.invokespecial 7, 3) := dk_183 0 7 (dk_at dksX28_init_0 7 rfl rfl)
theorem dX28_init_10 : decode cX28_init 10 = .ok (.aload_n 0, 1) := dk_42 (dk_at dksX28_init_0 10 rfl rfl)
theorem dX28_init_11 : decode cX28_init 11 = .ok (.iload_n 2, 1) := dk_28 (dk_at dksX28_init_0 11 rfl rfl)
theorem dX28_init_12 : decode cX28_init 12 = .ok (.putfield 13, 3) := dk_181 0 13 (dk_at dksX28_init_0 12 rfl rfl)
theorem dX28_init_15 : decode cX28_init 15 = .ok (.aload_n 0, 1) := dk_42 (dk_at dksX28_init_0 15 rfl rfl)
theorem dX28_init_16 : decode cX28_init 16 = .ok (.iload_n 3, 1) := dk_29 (dk_at dksX28_init_0 16 rfl rfl)
theorem dX28_init_17 : decode cX28_init 17 = .ok (.putfield 17, 3) := dk_181 0 17 (dk_at dksX28_init_0 17 rfl rfl)
theorem dX28_init_20 : decode cX28_init 20 = .ok (.return_, 1) := dk_177 (dk_at dksX28_init_0 20 rfl rfl)
theorem q172 : (Jvm.Cond.initialized "BorrowedLives$Alike") ∈ lw_all := lw_g (lw_at lw_m1 48 rfl) rfl
theorem q401 : (Jvm.Cond.fieldLinkNest "BorrowedLives$Alike" (33 : Nat) "BorrowedLives" "held" "[[I" "BorrowedLives") ∈ lw_tbl := lw_at lw_m2 37 rfl
theorem q403 : (Jvm.Cond.fieldLinkNest "BorrowedLives$Alike" (29 : Nat) "BorrowedLives" "like" "[I" "BorrowedLives") ∈ lw_tbl := lw_at lw_m2 39 rfl
theorem q983 : (Jvm.Cond.selects "BorrowedLives$Alike" ({ cls := "java/lang/Object", name := "getClass", desc := "()Ljava/lang/Class;" } : Jvm.MethodName) ({ cls := "java/lang/Object", name := "getClass", desc := "()Ljava/lang/Class;" } : Jvm.MethodName)) ∈ lw_all := lw_g (lw_at lw_m4 139 rfl) rfl
theorem q1299 : (Jvm.Cond.selects "BorrowedLives$Alike" ({ cls := "BorrowedLives$Looker", name := "sees", desc := "([I)V" } : Jvm.MethodName) ({ cls := "BorrowedLives$Alike", name := "sees", desc := "([I)V" } : Jvm.MethodName)) ∈ lw_all := lw_g (lw_at lw_m5 215 rfl) rfl
theorem q1300 : (Jvm.Cond.instanceMethod ({ cls := "BorrowedLives$Alike", name := "sees", desc := "([I)V" } : Jvm.MethodName)) ∈ lw_all := lw_g (lw_at lw_m5 216 rfl) rfl
theorem q1301 : (Jvm.Cond.code ({ cls := "BorrowedLives$Alike", name := "sees", desc := "([I)V" } : Jvm.MethodName) prog_2_method_2_code (2 : Nat) (Option.none : Option Jvm.ClassFile.FieldType)) ∈ lw_all := lw_g (lw_at lw_m5 217 rfl) rfl
theorem q1302 : (Jvm.Cond.methodLinkNest "BorrowedLives$Alike" (20 : Nat) ({ cls := "BorrowedLives", name := "fits", desc := "([I)Z" } : Jvm.MethodName) "BorrowedLives") ∈ lw_tbl := lw_at lw_m5 218 rfl
theorem q1399 : (Jvm.Cond.methodLink "BorrowedLives$Alike" (37 : Nat) ({ cls := "java/lang/Math", name := "max", desc := "(II)I" } : Jvm.MethodName)) ∈ lw_all := lw_g (lw_at lw_m6 75 rfl) rfl
theorem q1667 : (Jvm.Cond.instantiable "BorrowedLives$Alike" (6 : Nat)) ∈ lw_all := lw_g (lw_at lw_m7 103 rfl) rfl
theorem q1669 : (Jvm.Cond.instanceMethod ({ cls := "BorrowedLives$Alike", name := "<init>", desc := "(LBorrowedLives;II)V" } : Jvm.MethodName)) ∈ lw_all := lw_g (lw_at lw_m7 105 rfl) rfl
theorem q1670 : (Jvm.Cond.code ({ cls := "BorrowedLives$Alike", name := "<init>", desc := "(LBorrowedLives;II)V" } : Jvm.MethodName) prog_2_method_1_code (4 : Nat) (Option.none : Option Jvm.ClassFile.FieldType)) ∈ lw_all := lw_g (lw_at lw_m7 106 rfl) rfl
theorem q1671 : (Jvm.Cond.methodLinkNest "BorrowedLives$Alike" (7 : Nat) ({ cls := "BorrowedLives$Looker", name := "<init>", desc := "(LBorrowedLives;)V" } : Jvm.MethodName) "BorrowedLives") ∈ lw_tbl := lw_at lw_m7 107 rfl
theorem q1672 : (Jvm.Cond.fieldLink "BorrowedLives$Alike" (13 : Nat) "BorrowedLives$Alike" "life" "I") ∈ lw_all := lw_g (lw_at lw_m7 108 rfl) rfl
theorem q1673 : (Jvm.Cond.fieldLink "BorrowedLives$Alike" (17 : Nat) "BorrowedLives$Alike" "day" "I") ∈ lw_all := lw_g (lw_at lw_m7 109 rfl) rfl
theorem q1674 : (Jvm.Cond.fieldLink "BorrowedLives$Alike" (26 : Nat) "BorrowedLives$Alike" "most" "I") ∈ lw_all := lw_g (lw_at lw_m7 110 rfl) rfl
theorem q1676 : (Jvm.Cond.fieldLink "BorrowedLives$Alike" (1 : Nat) "BorrowedLives$Alike" "this$0" "LBorrowedLives;") ∈ lw_all := lw_g (lw_at lw_m7 112 rfl) rfl
theorem q1677 : (Jvm.Cond.laysFinal "BorrowedLives$Alike" "BorrowedLives$Alike" "life" "I") ∈ lw_all := lw_g (lw_at lw_m7 113 rfl) rfl
theorem q1678 : (Jvm.Cond.soleField "BorrowedLives$Alike" "life") ∈ lw_all := lw_g (lw_at lw_m7 114 rfl) rfl
theorem q1679 : (Jvm.Cond.laysFinal "BorrowedLives$Alike" "BorrowedLives$Alike" "day" "I") ∈ lw_all := lw_g (lw_at lw_m7 115 rfl) rfl
theorem q1680 : (Jvm.Cond.soleField "BorrowedLives$Alike" "day") ∈ lw_all := lw_g (lw_at lw_m7 116 rfl) rfl
theorem q1681 : (Jvm.Cond.lays "BorrowedLives$Alike" "BorrowedLives$Alike" "most" "I") ∈ lw_all := lw_g (lw_at lw_m7 117 rfl) rfl
theorem q1682 : (Jvm.Cond.soleField "BorrowedLives$Alike" "most") ∈ lw_all := lw_g (lw_at lw_m7 118 rfl) rfl
theorem q1683 : (Jvm.Cond.laysFinal "BorrowedLives$Alike" "BorrowedLives$Alike" "this$0" "LBorrowedLives;") ∈ lw_all := lw_g (lw_at lw_m7 119 rfl) rfl
theorem q1684 : (Jvm.Cond.soleField "BorrowedLives$Alike" "this$0") ∈ lw_all := lw_g (lw_at lw_m7 120 rfl) rfl
theorem q1685 : (Jvm.Cond.lays "BorrowedLives$Alike" "BorrowedLives$Looker" "lots" "I") ∈ lw_all := lw_g (lw_at lw_m7 121 rfl) rfl
theorem q1686 : (Jvm.Cond.laysFinal "BorrowedLives$Alike" "BorrowedLives$Looker" "this$0" "LBorrowedLives;") ∈ lw_all := lw_g (lw_at lw_m7 122 rfl) rfl
theorem q1687 : (Jvm.Cond.superclass "BorrowedLives$Alike" "BorrowedLives$Looker") ∈ lw_all := lw_g (lw_at lw_m7 123 rfl) rfl
theorem q2442 : (Jvm.Cond.castable "BorrowedLives$Alike" "java/lang/Object") ∈ lw_tbl := lw_at lw_m10 158 rfl
theorem in_X28 : ∀ w ∈ wsX280, w ∈ lw_all := lw_in wsX280 [1685, 1686, 1677, 1679, 1681, 1683] (by decide +kernel) (by decide +kernel)
/-! BorrowedLives$Mark -/
set_option maxRecDepth 100000
def RX29 : String := "BorrowedLives$Mark"
def TX29 : u_T := fun k => match k with
  | 0 => ("BorrowedLives$Mark", "state", "LBorrowedLives$State;", true)
  | 1 => ("BorrowedLives$Mark", "life", "[I", true)
  | 2 => ("BorrowedLives$Mark", "day", "[I", true)
  | 3 => ("BorrowedLives$Mark", "purse", "[I", true)
  | _ => ("BorrowedLives$Mark", "tales", "I", false)
def tyX29 : Nat → FieldType := fun k => match k with
  | 0 => .object "BorrowedLives$State"
  | 1 => .array .int
  | 2 => .array .int
  | 3 => .array .int
  | _ => .int
abbrev wsX290 : List Cond := u_ws RX29 TX29 5
theorem nmX29 : ∀ a, a < 5 → ∀ b, b < 5 → a ≠ b → (TX29 a).2.1 ≠ (TX29 b).2.1 := by decide +kernel
theorem tyX29_ok : ∀ k, k < 5 → parseFieldDescriptor (TX29 k).2.2.1 = some (tyX29 k) := by decide +kernel
abbrev cX29_init : ByteArray := prog_15_method_1_code
def yX29_init : MethodName := ⟨RX29, "<init>", "()V"⟩
def dkwX29_init_1 : List UInt8 := [16, 8, 188, 10, 181, 0, 22, 42, 16, 8, 188, 10, 181, 0, 25, 177]
abbrev dktX29_init_1 : List UInt8 := dkwX29_init_1 ++ []
def dkwX29_init_0 : List UInt8 := [42, 183, 0, 3, 42, 187, 0, 9, 89, 183, 0, 11, 181, 0, 12, 42, 16, 8, 188, 10, 181, 0, 18, 42]
abbrev dktX29_init_0 : List UInt8 := dkwX29_init_0 ++ dktX29_init_1
theorem dksX29_init_0 : cX29_init.data.toList.drop 0 = dktX29_init_0 := by decide +kernel
theorem dksX29_init_1 : cX29_init.data.toList.drop 24 = dktX29_init_1 := dk_seg dksX29_init_0 24 rfl rfl
theorem dX29_init_0 : decode cX29_init 0 = .ok (.aload_n 0, 1) := dk_42 (dk_at dksX29_init_0 0 rfl rfl)
theorem dX29_init_1 : decode cX29_init 1 = .ok (.invokespecial 3, 3) := dk_183 0 3 (dk_at dksX29_init_0 1 rfl rfl)
theorem dX29_init_4 : decode cX29_init 4 = .ok (.aload_n 0, 1) := dk_42 (dk_at dksX29_init_0 4 rfl rfl)
theorem dX29_init_5 : decode cX29_init 5 = .ok (.new 9, 3) := dk_187 0 9 (dk_at dksX29_init_0 5 rfl rfl)
theorem dX29_init_8 : decode cX29_init 8 = .ok (.dup, 1) := dk_89 (dk_at dksX29_init_0 8 rfl rfl)
theorem dX29_init_9 : decode cX29_init 9 = .ok (.invokespecial 11, 3) := dk_183 0 11 (dk_at dksX29_init_0 9 rfl rfl)
theorem dX29_init_12 : decode cX29_init 12 = .ok (.putfield 12, 3) := dk_181 0 12 (dk_at dksX29_init_0 12 rfl rfl)
theorem dX29_init_15 : decode cX29_init 15 = .ok (.aload_n 0, 1) := dk_42 (dk_at dksX29_init_0 15 rfl rfl)
theorem dX29_init_16 : decode cX29_init 16 = .ok (.bipush 8, 2) := dk_16 8 (dk_at dksX29_init_0 16 rfl rfl)
theorem dX29_init_18 : decode cX29_init 18 = .ok (.newarray .int, 2) := dk_188_10 (dk_at dksX29_init_0 18 rfl rfl)
theorem dX29_init_20 : decode cX29_init 20 = .ok (.putfield 18, 3) := dk_181 0 18 (dk_at dksX29_init_0 20 rfl rfl)
theorem dX29_init_23 : decode cX29_init 23 = .ok (.aload_n 0, 1) := dk_42 (dk_at dksX29_init_0 23 rfl rfl)
theorem dX29_init_24 : decode cX29_init 24 = .ok (.bipush 8, 2) := dk_16 8 (dk_at dksX29_init_1 0 rfl rfl)
theorem dX29_init_26 : decode cX29_init 26 = .ok (.newarray .int, 2) := dk_188_10 (dk_at dksX29_init_1 2 rfl rfl)
theorem dX29_init_28 : decode cX29_init 28 = .ok (.putfield 22, 3) := dk_181 0 22 (dk_at dksX29_init_1 4 rfl rfl)
theorem dX29_init_31 : decode cX29_init 31 = .ok (.aload_n 0, 1) := dk_42 (dk_at dksX29_init_1 7 rfl rfl)
theorem dX29_init_32 : decode cX29_init 32 = .ok (.bipush 8, 2) := dk_16 8 (dk_at dksX29_init_1 8 rfl rfl)
theorem dX29_init_34 : decode cX29_init 34 = .ok (.newarray .int, 2) := dk_188_10 (dk_at dksX29_init_1 10 rfl rfl)
theorem dX29_init_36 : decode cX29_init 36 = .ok (.putfield 25, 3) := dk_181 0 25 (dk_at dksX29_init_1 12 rfl rfl)
theorem dX29_init_39 : decode cX29_init 39 = .ok (.return_, 1) := dk_177 (dk_at dksX29_init_1 15 rfl rfl)
theorem q173 : (Jvm.Cond.initialized "BorrowedLives$Mark") ∈ lw_all := lw_g (lw_at lw_m1 49 rfl) rfl
theorem q993 : (Jvm.Cond.selects "BorrowedLives$Mark" ({ cls := "java/lang/Object", name := "getClass", desc := "()Ljava/lang/Class;" } : Jvm.MethodName) ({ cls := "java/lang/Object", name := "getClass", desc := "()Ljava/lang/Class;" } : Jvm.MethodName)) ∈ lw_all := lw_g (lw_at lw_m4 149 rfl) rfl
theorem q1704 : (Jvm.Cond.instantiable "BorrowedLives$Mark" (5 : Nat)) ∈ lw_all := lw_g (lw_at lw_m7 140 rfl) rfl
theorem q1706 : (Jvm.Cond.instanceMethod ({ cls := "BorrowedLives$Mark", name := "<init>", desc := "()V" } : Jvm.MethodName)) ∈ lw_all := lw_g (lw_at lw_m7 142 rfl) rfl
theorem q1707 : (Jvm.Cond.code ({ cls := "BorrowedLives$Mark", name := "<init>", desc := "()V" } : Jvm.MethodName) prog_15_method_1_code (1 : Nat) (Option.none : Option Jvm.ClassFile.FieldType)) ∈ lw_all := lw_g (lw_at lw_m7 143 rfl) rfl
theorem q1708 : (Jvm.Cond.methodLink "BorrowedLives$Mark" (3 : Nat) ({ cls := "java/lang/Object", name := "<init>", desc := "()V" } : Jvm.MethodName)) ∈ lw_all := lw_g (lw_at lw_m7 144 rfl) rfl
theorem q1709 : (Jvm.Cond.classLink "BorrowedLives$Mark" (9 : Nat) "BorrowedLives$State") ∈ lw_all := lw_g (lw_at lw_m7 145 rfl) rfl
theorem q1710 : (Jvm.Cond.methodLinkNest "BorrowedLives$Mark" (11 : Nat) ({ cls := "BorrowedLives$State", name := "<init>", desc := "()V" } : Jvm.MethodName) "BorrowedLives") ∈ lw_tbl := lw_at lw_m7 146 rfl
theorem q1711 : (Jvm.Cond.fieldLink "BorrowedLives$Mark" (12 : Nat) "BorrowedLives$Mark" "state" "LBorrowedLives$State;") ∈ lw_all := lw_g (lw_at lw_m7 147 rfl) rfl
theorem q1713 : (Jvm.Cond.fieldLink "BorrowedLives$Mark" (18 : Nat) "BorrowedLives$Mark" "life" "[I") ∈ lw_all := lw_g (lw_at lw_m7 149 rfl) rfl
theorem q1715 : (Jvm.Cond.fieldLink "BorrowedLives$Mark" (22 : Nat) "BorrowedLives$Mark" "day" "[I") ∈ lw_all := lw_g (lw_at lw_m7 151 rfl) rfl
theorem q1717 : (Jvm.Cond.fieldLink "BorrowedLives$Mark" (25 : Nat) "BorrowedLives$Mark" "purse" "[I") ∈ lw_all := lw_g (lw_at lw_m7 153 rfl) rfl
theorem q1720 : (Jvm.Cond.laysFinal "BorrowedLives$Mark" "BorrowedLives$Mark" "state" "LBorrowedLives$State;") ∈ lw_all := lw_g (lw_at lw_m7 156 rfl) rfl
theorem q1721 : (Jvm.Cond.soleField "BorrowedLives$Mark" "state") ∈ lw_all := lw_g (lw_at lw_m7 157 rfl) rfl
theorem q1722 : (Jvm.Cond.laysFinal "BorrowedLives$Mark" "BorrowedLives$Mark" "life" "[I") ∈ lw_all := lw_g (lw_at lw_m7 158 rfl) rfl
theorem q1723 : (Jvm.Cond.soleField "BorrowedLives$Mark" "life") ∈ lw_all := lw_g (lw_at lw_m7 159 rfl) rfl
theorem q1724 : (Jvm.Cond.laysFinal "BorrowedLives$Mark" "BorrowedLives$Mark" "day" "[I") ∈ lw_all := lw_g (lw_at lw_m7 160 rfl) rfl
theorem q1725 : (Jvm.Cond.soleField "BorrowedLives$Mark" "day") ∈ lw_all := lw_g (lw_at lw_m7 161 rfl) rfl
theorem q1726 : (Jvm.Cond.laysFinal "BorrowedLives$Mark" "BorrowedLives$Mark" "purse" "[I") ∈ lw_all := lw_g (lw_at lw_m7 162 rfl) rfl
theorem q1727 : (Jvm.Cond.soleField "BorrowedLives$Mark" "purse") ∈ lw_all := lw_g (lw_at lw_m7 163 rfl) rfl
theorem q1728 : (Jvm.Cond.lays "BorrowedLives$Mark" "BorrowedLives$Mark" "tales" "I") ∈ lw_all := lw_g (lw_at lw_m7 164 rfl) rfl
theorem q1729 : (Jvm.Cond.soleField "BorrowedLives$Mark" "tales") ∈ lw_all := lw_g (lw_at lw_m7 165 rfl) rfl
theorem q1730 : (Jvm.Cond.superclass "BorrowedLives$Mark" "java/lang/Object") ∈ lw_all := lw_g (lw_at lw_m7 166 rfl) rfl
theorem q2414 : (Jvm.Cond.castable "BorrowedLives$Mark" "java/lang/Object") ∈ lw_tbl := lw_at lw_m10 130 rfl
theorem in_X29 : ∀ w ∈ wsX290, w ∈ lw_all := lw_in wsX290 [1720, 1722, 1724, 1726, 1728] (by decide +kernel) (by decide +kernel)
