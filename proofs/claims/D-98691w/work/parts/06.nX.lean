/-! PulseRentLaw -/
set_option maxRecDepth 100000
def RX0 : String := "PulseRentLaw"
abbrev cX0_lease : ByteArray := method_3_code
def yX0_lease : MethodName := ⟨RX0, "lease", "(LPulseRent;II[J)I"⟩
def dkwX0_lease_0 : List UInt8 := [45, 3, 42, 27, 28, 182, 0, 7, 133, 80, 167, 0, 7, 58, 4, 4, 172, 3, 172]
abbrev dktX0_lease_0 : List UInt8 := dkwX0_lease_0 ++ []
theorem dksX0_lease_0 : cX0_lease.data.toList.drop 0 = dktX0_lease_0 := by decide +kernel
theorem dX0_lease_0 : decode cX0_lease 0 = .ok (.aload_n 3, 1) := dk_45 (dk_at dksX0_lease_0 0 rfl rfl)
theorem dX0_lease_1 : decode cX0_lease 1 = .ok (.iconst 0, 1) := dk_3 (dk_at dksX0_lease_0 1 rfl rfl)
theorem dX0_lease_2 : decode cX0_lease 2 = .ok (.aload_n 0, 1) := dk_42 (dk_at dksX0_lease_0 2 rfl rfl)
theorem dX0_lease_3 : decode cX0_lease 3 = .ok (.iload_n 1, 1) := dk_27 (dk_at dksX0_lease_0 3 rfl rfl)
theorem dX0_lease_4 : decode cX0_lease 4 = .ok (.iload_n 2, 1) := dk_28 (dk_at dksX0_lease_0 4 rfl rfl)
theorem dX0_lease_5 : decode cX0_lease 5 = .ok (.invokevirtual 7, 3) := dk_182 0 7 (dk_at dksX0_lease_0 5 rfl rfl)
theorem dX0_lease_8 : decode cX0_lease 8 = .ok (.i2l, 1) := dk_133 (dk_at dksX0_lease_0 8 rfl rfl)
theorem dX0_lease_9 : decode cX0_lease 9 = .ok (.lastore, 1) := dk_80 (dk_at dksX0_lease_0 9 rfl rfl)
theorem dX0_lease_10 : decode cX0_lease 10 = .ok (.goto 7, 3) := dk_167 0 7 (dk_at dksX0_lease_0 10 rfl rfl)
theorem dX0_lease_13 : decode cX0_lease 13 = .ok (.astore 4, 2) := dk_58 4 (dk_at dksX0_lease_0 13 rfl rfl)
theorem dX0_lease_15 : decode cX0_lease 15 = .ok (.iconst 1, 1) := dk_4 (dk_at dksX0_lease_0 15 rfl rfl)
theorem dX0_lease_16 : decode cX0_lease 16 = .ok (.ireturn, 1) := dk_172 (dk_at dksX0_lease_0 16 rfl rfl)
theorem dX0_lease_17 : decode cX0_lease 17 = .ok (.iconst 0, 1) := dk_3 (dk_at dksX0_lease_0 17 rfl rfl)
theorem dX0_lease_18 : decode cX0_lease 18 = .ok (.ireturn, 1) := dk_172 (dk_at dksX0_lease_0 18 rfl rfl)
abbrev cX0_share : ByteArray := method_4_code
def yX0_share : MethodName := ⟨RX0, "share", "(LPulseRent;II[J)I"⟩
def dkwX0_share_0 : List UInt8 := [45, 3, 42, 27, 28, 182, 0, 15, 133, 80, 167, 0, 7, 58, 4, 4, 172, 3, 172]
abbrev dktX0_share_0 : List UInt8 := dkwX0_share_0 ++ []
theorem dksX0_share_0 : cX0_share.data.toList.drop 0 = dktX0_share_0 := by decide +kernel
theorem dX0_share_0 : decode cX0_share 0 = .ok (.aload_n 3, 1) := dk_45 (dk_at dksX0_share_0 0 rfl rfl)
theorem dX0_share_1 : decode cX0_share 1 = .ok (.iconst 0, 1) := dk_3 (dk_at dksX0_share_0 1 rfl rfl)
theorem dX0_share_2 : decode cX0_share 2 = .ok (.aload_n 0, 1) := dk_42 (dk_at dksX0_share_0 2 rfl rfl)
theorem dX0_share_3 : decode cX0_share 3 = .ok (.iload_n 1, 1) := dk_27 (dk_at dksX0_share_0 3 rfl rfl)
theorem dX0_share_4 : decode cX0_share 4 = .ok (.iload_n 2, 1) := dk_28 (dk_at dksX0_share_0 4 rfl rfl)
theorem dX0_share_5 : decode cX0_share 5 = .ok (.invokevirtual 15, 3) := dk_182 0 15 (dk_at dksX0_share_0 5 rfl rfl)
theorem dX0_share_8 : decode cX0_share 8 = .ok (.i2l, 1) := dk_133 (dk_at dksX0_share_0 8 rfl rfl)
theorem dX0_share_9 : decode cX0_share 9 = .ok (.lastore, 1) := dk_80 (dk_at dksX0_share_0 9 rfl rfl)
theorem dX0_share_10 : decode cX0_share 10 = .ok (.goto 7, 3) := dk_167 0 7 (dk_at dksX0_share_0 10 rfl rfl)
theorem dX0_share_13 : decode cX0_share 13 = .ok (.astore 4, 2) := dk_58 4 (dk_at dksX0_share_0 13 rfl rfl)
theorem dX0_share_15 : decode cX0_share 15 = .ok (.iconst 1, 1) := dk_4 (dk_at dksX0_share_0 15 rfl rfl)
theorem dX0_share_16 : decode cX0_share 16 = .ok (.ireturn, 1) := dk_172 (dk_at dksX0_share_0 16 rfl rfl)
theorem dX0_share_17 : decode cX0_share 17 = .ok (.iconst 0, 1) := dk_3 (dk_at dksX0_share_0 17 rfl rfl)
theorem dX0_share_18 : decode cX0_share 18 = .ok (.ireturn, 1) := dk_172 (dk_at dksX0_share_0 18 rfl rfl)
theorem q134 : (Jvm.Cond.initialized "PulseRentLaw") ∈ lw_all := lw_g (lw_at lw_m1 0 rfl) rfl
theorem q180 : (Jvm.Cond.classLink "PulseRentLaw" (8 : Nat) "PulseRent") ∈ lw_all := lw_g (lw_at lw_m1 46 rfl) rfl
theorem q182 : (Jvm.Cond.methodLink "PulseRentLaw" (18 : Nat) ({ cls := "PulseRent", name := "<init>", desc := "()V" } : Jvm.MethodName)) ∈ lw_all := lw_g (lw_at lw_m1 48 rfl) rfl
theorem q445 : (Jvm.Cond.methodLink "PulseRentLaw" (24 : Nat) ({ cls := "PulseRent", name := "feed", desc := "(JJJ)I" } : Jvm.MethodName)) ∈ lw_all := lw_g (lw_at lw_m2 71 rfl) rfl
theorem q449 : (Jvm.Cond.methodLink "PulseRentLaw" (29 : Nat) ({ cls := "PulseRent", name := "house", desc := "()I" } : Jvm.MethodName)) ∈ lw_all := lw_g (lw_at lw_m2 75 rfl) rfl
theorem q1186 : (Jvm.Cond.methodLink "PulseRentLaw" (34 : Nat) ({ cls := "PulseRent", name := "months", desc := "()I" } : Jvm.MethodName)) ∈ lw_all := lw_g (lw_at lw_m5 92 rfl) rfl
theorem q1267 : (Jvm.Cond.methodLink "PulseRentLaw" (38 : Nat) ({ cls := "PulseRent", name := "room", desc := "(II)I" } : Jvm.MethodName)) ∈ lw_all := lw_g (lw_at lw_m5 173 rfl) rfl
theorem q1297 : (Jvm.Cond.methodLink "PulseRentLaw" (42 : Nat) ({ cls := "PulseRent", name := "tenant", desc := "(II)I" } : Jvm.MethodName)) ∈ lw_all := lw_g (lw_at lw_m5 203 rfl) rfl
theorem q1325 : (Jvm.Cond.methodLink "PulseRentLaw" (46 : Nat) ({ cls := "PulseRent", name := "pulse", desc := "(I)I" } : Jvm.MethodName)) ∈ lw_all := lw_g (lw_at lw_m5 231 rfl) rfl
theorem q1361 : (Jvm.Cond.methodLink "PulseRentLaw" (51 : Nat) ({ cls := "PulseRent", name := "climb", desc := "(I)I" } : Jvm.MethodName)) ∈ lw_all := lw_g (lw_at lw_m6 27 rfl) rfl
theorem q1390 : (Jvm.Cond.methodLink "PulseRentLaw" (55 : Nat) ({ cls := "PulseRent", name := "fright", desc := "(II)I" } : Jvm.MethodName)) ∈ lw_all := lw_g (lw_at lw_m6 56 rfl) rfl
theorem q1399 : (Jvm.Cond.methodLink "PulseRentLaw" (59 : Nat) ({ cls := "PulseRent", name := "drink", desc := "(I)Z" } : Jvm.MethodName)) ∈ lw_all := lw_g (lw_at lw_m6 65 rfl) rfl
theorem q1403 : (Jvm.Cond.methodLink "PulseRentLaw" (64 : Nat) ({ cls := "PulseRent", name := "minutes", desc := "(I)I" } : Jvm.MethodName)) ∈ lw_all := lw_g (lw_at lw_m6 69 rfl) rfl
theorem q1429 : (Jvm.Cond.methodLink "PulseRentLaw" (68 : Nat) ({ cls := "PulseRent", name := "noon", desc := "()I" } : Jvm.MethodName)) ∈ lw_all := lw_g (lw_at lw_m6 95 rfl) rfl
theorem q1475 : (Jvm.Cond.methodLink "PulseRentLaw" (72 : Nat) ({ cls := "PulseRent", name := "move", desc := "(II)Z" } : Jvm.MethodName)) ∈ lw_all := lw_g (lw_at lw_m6 141 rfl) rfl
theorem q1483 : (Jvm.Cond.methodLink "PulseRentLaw" (77 : Nat) ({ cls := "PulseRent", name := "undo", desc := "()Z" } : Jvm.MethodName)) ∈ lw_all := lw_g (lw_at lw_m6 149 rfl) rfl
theorem q1487 : (Jvm.Cond.methodLink "PulseRentLaw" (82 : Nat) ({ cls := "PulseRent", name := "judged", desc := "(I)I" } : Jvm.MethodName)) ∈ lw_all := lw_g (lw_at lw_m6 153 rfl) rfl
theorem q1527 : (Jvm.Cond.methodLink "PulseRentLaw" (86 : Nat) ({ cls := "PulseRent", name := "owed", desc := "(I)I" } : Jvm.MethodName)) ∈ lw_all := lw_g (lw_at lw_m6 193 rfl) rfl
theorem q1531 : (Jvm.Cond.methodLink "PulseRentLaw" (90 : Nat) ({ cls := "PulseRent", name := "will", desc := "(II)I" } : Jvm.MethodName)) ∈ lw_all := lw_g (lw_at lw_m6 197 rfl) rfl
theorem q1535 : (Jvm.Cond.methodLink "PulseRentLaw" (94 : Nat) ({ cls := "PulseRent", name := "last", desc := "(II)I" } : Jvm.MethodName)) ∈ lw_all := lw_g (lw_at lw_m6 201 rfl) rfl
theorem q1539 : (Jvm.Cond.methodLink "PulseRentLaw" (98 : Nat) ({ cls := "PulseRent", name := "errands", desc := "(II)I" } : Jvm.MethodName)) ∈ lw_all := lw_g (lw_at lw_m6 205 rfl) rfl
theorem q1549 : (Jvm.Cond.methodLink "PulseRentLaw" (102 : Nat) ({ cls := "PulseRent", name := "match", desc := "(I)I" } : Jvm.MethodName)) ∈ lw_all := lw_g (lw_at lw_m6 215 rfl) rfl
theorem q1579 : (Jvm.Cond.methodLink "PulseRentLaw" (106 : Nat) ({ cls := "PulseRent", name := "spare", desc := "(II)I" } : Jvm.MethodName)) ∈ lw_all := lw_g (lw_at lw_m7 5 rfl) rfl
theorem q1583 : (Jvm.Cond.methodLink "PulseRentLaw" (110 : Nat) ({ cls := "PulseRent", name := "sampled", desc := "(IIII)I" } : Jvm.MethodName)) ∈ lw_all := lw_g (lw_at lw_m7 9 rfl) rfl
theorem q1591 : (Jvm.Cond.methodLink "PulseRentLaw" (115 : Nat) ({ cls := "PulseRent", name := "haunt", desc := "(IIII)I" } : Jvm.MethodName)) ∈ lw_all := lw_g (lw_at lw_m7 17 rfl) rfl
theorem q1595 : (Jvm.Cond.methodLink "PulseRentLaw" (131 : Nat) ({ cls := "PulseRent", name := "law", desc := "(II)I" } : Jvm.MethodName)) ∈ lw_all := lw_g (lw_at lw_m7 21 rfl) rfl
theorem q1599 : (Jvm.Cond.methodLink "PulseRentLaw" (135 : Nat) ({ cls := "PulseRent", name := "sample", desc := "(II)Z" } : Jvm.MethodName)) ∈ lw_all := lw_g (lw_at lw_m7 25 rfl) rfl
theorem q1603 : (Jvm.Cond.methodLink "PulseRentLaw" (139 : Nat) ({ cls := "PulseRent", name := "days", desc := "(I)I" } : Jvm.MethodName)) ∈ lw_all := lw_g (lw_at lw_m7 29 rfl) rfl
theorem q1622 : (Jvm.Cond.methodLink "PulseRentLaw" (143 : Nat) ({ cls := "PulseRent", name := "did", desc := "(II)I" } : Jvm.MethodName)) ∈ lw_all := lw_g (lw_at lw_m7 48 rfl) rfl
theorem q1626 : (Jvm.Cond.methodLink "PulseRentLaw" (147 : Nat) ({ cls := "PulseRent", name := "next", desc := "(I)I" } : Jvm.MethodName)) ∈ lw_all := lw_g (lw_at lw_m7 52 rfl) rfl
theorem q1630 : (Jvm.Cond.methodLink "PulseRentLaw" (151 : Nat) ({ cls := "PulseRent", name := "years", desc := "(III)I" } : Jvm.MethodName)) ∈ lw_all := lw_g (lw_at lw_m7 56 rfl) rfl
theorem q1645 : (Jvm.Cond.methodLink "PulseRentLaw" (156 : Nat) ({ cls := "PulseRent", name := "mark", desc := "(IZ)Z" } : Jvm.MethodName)) ∈ lw_all := lw_g (lw_at lw_m7 71 rfl) rfl
theorem q1672 : (Jvm.Cond.methodLink "PulseRentLaw" (161 : Nat) ({ cls := "PulseRent", name := "count", desc := "(I)I" } : Jvm.MethodName)) ∈ lw_all := lw_g (lw_at lw_m7 98 rfl) rfl
theorem q1676 : (Jvm.Cond.methodLink "PulseRentLaw" (119 : Nat) ({ cls := "PulseRentLaw", name := "lease", desc := "(LPulseRent;II[J)I" } : Jvm.MethodName)) ∈ lw_all := lw_g (lw_at lw_m7 102 rfl) rfl
theorem q1677 : (Jvm.Cond.static ({ cls := "PulseRentLaw", name := "lease", desc := "(LPulseRent;II[J)I" } : Jvm.MethodName)) ∈ lw_all := lw_g (lw_at lw_m7 103 rfl) rfl
theorem q1678 : (Jvm.Cond.codeWith ({ cls := "PulseRentLaw", name := "lease", desc := "(LPulseRent;II[J)I" } : Jvm.MethodName) method_3_code (5 : Nat) (Option.some Jvm.ClassFile.FieldType.int) [((0 : Nat), (10 : Nat), (13 : Nat), (13 : Nat))]) ∈ lw_all := lw_g (lw_at lw_m7 104 rfl) rfl
theorem q1679 : (Jvm.Cond.classLink "PulseRentLaw" (13 : Nat) "java/util/NoSuchElementException") ∈ lw_all := lw_g (lw_at lw_m7 105 rfl) rfl
theorem q1680 : (Jvm.Cond.methodLink "PulseRentLaw" (7 : Nat) ({ cls := "PulseRent", name := "lease", desc := "(II)I" } : Jvm.MethodName)) ∈ lw_all := lw_g (lw_at lw_m7 106 rfl) rfl
theorem q1712 : (Jvm.Cond.methodLink "PulseRentLaw" (128 : Nat) ({ cls := "PulseRentLaw", name := "share", desc := "(LPulseRent;II[J)I" } : Jvm.MethodName)) ∈ lw_all := lw_g (lw_at lw_m7 138 rfl) rfl
theorem q1713 : (Jvm.Cond.static ({ cls := "PulseRentLaw", name := "share", desc := "(LPulseRent;II[J)I" } : Jvm.MethodName)) ∈ lw_all := lw_g (lw_at lw_m7 139 rfl) rfl
theorem q1714 : (Jvm.Cond.codeWith ({ cls := "PulseRentLaw", name := "share", desc := "(LPulseRent;II[J)I" } : Jvm.MethodName) method_4_code (5 : Nat) (Option.some Jvm.ClassFile.FieldType.int) [((0 : Nat), (10 : Nat), (13 : Nat), (13 : Nat))]) ∈ lw_all := lw_g (lw_at lw_m7 140 rfl) rfl
theorem q1715 : (Jvm.Cond.methodLink "PulseRentLaw" (15 : Nat) ({ cls := "PulseRent", name := "share", desc := "(II)I" } : Jvm.MethodName)) ∈ lw_all := lw_g (lw_at lw_m7 141 rfl) rfl
theorem q1719 : (Jvm.Cond.methodLink "PulseRentLaw" (125 : Nat) ({ cls := "PulseRentModel", name := "thrown", desc := "()I" } : Jvm.MethodName)) ∈ lw_all := lw_g (lw_at lw_m7 145 rfl) rfl
theorem q1723 : (Jvm.Cond.methodLink "PulseRentLaw" (28 : Nat) ({ cls := "PulseRentModel", name := "feed", desc := "(JJJ)I" } : Jvm.MethodName)) ∈ lw_all := lw_g (lw_at lw_m7 149 rfl) rfl
theorem q1732 : (Jvm.Cond.classLink "PulseRentLaw" (19 : Nat) "PulseRentModel") ∈ lw_all := lw_g (lw_at lw_m7 158 rfl) rfl
theorem q1733 : (Jvm.Cond.methodLink "PulseRentLaw" (21 : Nat) ({ cls := "PulseRentModel", name := "<init>", desc := "()V" } : Jvm.MethodName)) ∈ lw_all := lw_g (lw_at lw_m7 159 rfl) rfl
theorem q1917 : (Jvm.Cond.methodLink "PulseRentLaw" (33 : Nat) ({ cls := "PulseRentModel", name := "house", desc := "()I" } : Jvm.MethodName)) ∈ lw_all := lw_g (lw_at lw_m8 103 rfl) rfl
theorem q2055 : (Jvm.Cond.methodLink "PulseRentLaw" (37 : Nat) ({ cls := "PulseRentModel", name := "months", desc := "()I" } : Jvm.MethodName)) ∈ lw_all := lw_g (lw_at lw_m9 1 rfl) rfl
theorem q2063 : (Jvm.Cond.methodLink "PulseRentLaw" (41 : Nat) ({ cls := "PulseRentModel", name := "room", desc := "(II)I" } : Jvm.MethodName)) ∈ lw_all := lw_g (lw_at lw_m9 9 rfl) rfl
theorem q2083 : (Jvm.Cond.methodLink "PulseRentLaw" (45 : Nat) ({ cls := "PulseRentModel", name := "tenant", desc := "(II)I" } : Jvm.MethodName)) ∈ lw_all := lw_g (lw_at lw_m9 29 rfl) rfl
theorem q2091 : (Jvm.Cond.methodLink "PulseRentLaw" (50 : Nat) ({ cls := "PulseRentModel", name := "pulse", desc := "(I)I" } : Jvm.MethodName)) ∈ lw_all := lw_g (lw_at lw_m9 37 rfl) rfl
theorem q2111 : (Jvm.Cond.methodLink "PulseRentLaw" (54 : Nat) ({ cls := "PulseRentModel", name := "climb", desc := "(I)I" } : Jvm.MethodName)) ∈ lw_all := lw_g (lw_at lw_m9 57 rfl) rfl
theorem q2127 : (Jvm.Cond.methodLink "PulseRentLaw" (58 : Nat) ({ cls := "PulseRentModel", name := "fright", desc := "(II)I" } : Jvm.MethodName)) ∈ lw_all := lw_g (lw_at lw_m9 73 rfl) rfl
theorem q2139 : (Jvm.Cond.methodLink "PulseRentLaw" (63 : Nat) ({ cls := "PulseRentModel", name := "drink", desc := "(I)Z" } : Jvm.MethodName)) ∈ lw_all := lw_g (lw_at lw_m9 85 rfl) rfl
theorem q2143 : (Jvm.Cond.methodLink "PulseRentLaw" (67 : Nat) ({ cls := "PulseRentModel", name := "minutes", desc := "(I)I" } : Jvm.MethodName)) ∈ lw_all := lw_g (lw_at lw_m9 89 rfl) rfl
theorem q2155 : (Jvm.Cond.methodLink "PulseRentLaw" (71 : Nat) ({ cls := "PulseRentModel", name := "noon", desc := "()I" } : Jvm.MethodName)) ∈ lw_all := lw_g (lw_at lw_m9 101 rfl) rfl
theorem q2178 : (Jvm.Cond.methodLink "PulseRentLaw" (76 : Nat) ({ cls := "PulseRentModel", name := "move", desc := "(II)Z" } : Jvm.MethodName)) ∈ lw_all := lw_g (lw_at lw_m9 124 rfl) rfl
theorem q2186 : (Jvm.Cond.methodLink "PulseRentLaw" (81 : Nat) ({ cls := "PulseRentModel", name := "undo", desc := "()Z" } : Jvm.MethodName)) ∈ lw_all := lw_g (lw_at lw_m9 132 rfl) rfl
theorem q2190 : (Jvm.Cond.methodLink "PulseRentLaw" (85 : Nat) ({ cls := "PulseRentModel", name := "judged", desc := "(I)I" } : Jvm.MethodName)) ∈ lw_all := lw_g (lw_at lw_m9 136 rfl) rfl
theorem q2202 : (Jvm.Cond.methodLink "PulseRentLaw" (89 : Nat) ({ cls := "PulseRentModel", name := "owed", desc := "(I)I" } : Jvm.MethodName)) ∈ lw_all := lw_g (lw_at lw_m9 148 rfl) rfl
theorem q2206 : (Jvm.Cond.methodLink "PulseRentLaw" (93 : Nat) ({ cls := "PulseRentModel", name := "will", desc := "(II)I" } : Jvm.MethodName)) ∈ lw_all := lw_g (lw_at lw_m9 152 rfl) rfl
theorem q2210 : (Jvm.Cond.methodLink "PulseRentLaw" (97 : Nat) ({ cls := "PulseRentModel", name := "last", desc := "(II)I" } : Jvm.MethodName)) ∈ lw_all := lw_g (lw_at lw_m9 156 rfl) rfl
theorem q2214 : (Jvm.Cond.methodLink "PulseRentLaw" (101 : Nat) ({ cls := "PulseRentModel", name := "errands", desc := "(II)I" } : Jvm.MethodName)) ∈ lw_all := lw_g (lw_at lw_m9 160 rfl) rfl
theorem q2234 : (Jvm.Cond.methodLink "PulseRentLaw" (105 : Nat) ({ cls := "PulseRentModel", name := "match", desc := "(I)I" } : Jvm.MethodName)) ∈ lw_all := lw_g (lw_at lw_m9 180 rfl) rfl
theorem q2258 : (Jvm.Cond.methodLink "PulseRentLaw" (109 : Nat) ({ cls := "PulseRentModel", name := "spare", desc := "(II)I" } : Jvm.MethodName)) ∈ lw_all := lw_g (lw_at lw_m9 204 rfl) rfl
theorem q2262 : (Jvm.Cond.methodLink "PulseRentLaw" (114 : Nat) ({ cls := "PulseRentModel", name := "sampled", desc := "(IIII)I" } : Jvm.MethodName)) ∈ lw_all := lw_g (lw_at lw_m9 208 rfl) rfl
theorem q2270 : (Jvm.Cond.methodLink "PulseRentLaw" (118 : Nat) ({ cls := "PulseRentModel", name := "haunt", desc := "(IIII)I" } : Jvm.MethodName)) ∈ lw_all := lw_g (lw_at lw_m9 216 rfl) rfl
theorem q2281 : (Jvm.Cond.methodLink "PulseRentLaw" (124 : Nat) ({ cls := "PulseRentModel", name := "lease", desc := "(II)I" } : Jvm.MethodName)) ∈ lw_all := lw_g (lw_at lw_m9 227 rfl) rfl
theorem q2293 : (Jvm.Cond.methodLink "PulseRentLaw" (130 : Nat) ({ cls := "PulseRentModel", name := "share", desc := "(II)I" } : Jvm.MethodName)) ∈ lw_all := lw_g (lw_at lw_m9 239 rfl) rfl
theorem q2297 : (Jvm.Cond.methodLink "PulseRentLaw" (134 : Nat) ({ cls := "PulseRentModel", name := "law", desc := "(II)I" } : Jvm.MethodName)) ∈ lw_all := lw_g (lw_at lw_m10 3 rfl) rfl
theorem q2301 : (Jvm.Cond.methodLink "PulseRentLaw" (138 : Nat) ({ cls := "PulseRentModel", name := "sample", desc := "(II)Z" } : Jvm.MethodName)) ∈ lw_all := lw_g (lw_at lw_m10 7 rfl) rfl
theorem q2305 : (Jvm.Cond.methodLink "PulseRentLaw" (142 : Nat) ({ cls := "PulseRentModel", name := "days", desc := "(I)I" } : Jvm.MethodName)) ∈ lw_all := lw_g (lw_at lw_m10 11 rfl) rfl
theorem q2317 : (Jvm.Cond.methodLink "PulseRentLaw" (146 : Nat) ({ cls := "PulseRentModel", name := "did", desc := "(II)I" } : Jvm.MethodName)) ∈ lw_all := lw_g (lw_at lw_m10 23 rfl) rfl
theorem q2321 : (Jvm.Cond.methodLink "PulseRentLaw" (150 : Nat) ({ cls := "PulseRentModel", name := "next", desc := "(I)I" } : Jvm.MethodName)) ∈ lw_all := lw_g (lw_at lw_m10 27 rfl) rfl
theorem q2325 : (Jvm.Cond.methodLink "PulseRentLaw" (155 : Nat) ({ cls := "PulseRentModel", name := "years", desc := "(III)I" } : Jvm.MethodName)) ∈ lw_all := lw_g (lw_at lw_m10 31 rfl) rfl
theorem q2345 : (Jvm.Cond.methodLink "PulseRentLaw" (160 : Nat) ({ cls := "PulseRentModel", name := "mark", desc := "(IZ)Z" } : Jvm.MethodName)) ∈ lw_all := lw_g (lw_at lw_m10 51 rfl) rfl
theorem q2349 : (Jvm.Cond.methodLink "PulseRentLaw" (164 : Nat) ({ cls := "PulseRentModel", name := "count", desc := "(I)I" } : Jvm.MethodName)) ∈ lw_all := lw_g (lw_at lw_m10 55 rfl) rfl
theorem q2357 : (Jvm.Cond.constantLong "PulseRentLaw" (22 : Nat) (4294967295 : Int64)) ∈ lw_all := lw_g (lw_at lw_m10 63 rfl) rfl

/-! PulseRent$Runner -/
set_option maxRecDepth 100000
def RX10 : String := "PulseRent$Runner"
def TX10 : u_T := fun k => match k with
  | 0 => ("PulseRent$Tenant", "name", "Ljava/lang/String;", true)
  | 1 => ("PulseRent$Tenant", "told", "I", false)
  | 2 => ("PulseRent$Tenant", "calm", "I", false)
  | 3 => ("PulseRent$Tenant", "coins", "I", false)
  | 4 => ("PulseRent$Tenant", "room", "I", false)
  | _ => ("PulseRent$Tenant", "loves", "I", false)
def tyX10 : Nat → FieldType := fun k => match k with
  | 0 => .object "java/lang/String"
  | 1 => .int
  | 2 => .int
  | 3 => .int
  | 4 => .int
  | _ => .int
abbrev wsX100 : List Cond := u_ws RX10 TX10 6
theorem nmX10 : ∀ a, a < 6 → ∀ b, b < 6 → a ≠ b → (TX10 a).2.1 ≠ (TX10 b).2.1 := by decide +kernel
theorem tyX10_ok : ∀ k, k < 6 → parseFieldDescriptor (TX10 k).2.2.1 = some (tyX10 k) := by decide +kernel
abbrev cX10_init : ByteArray := prog_19_method_1_code
def yX10_init : MethodName := ⟨RX10, "<init>", "(Ljava/lang/String;)V"⟩
def dkwX10_init_0 : List UInt8 := [42, 43, 183, 0, 1, 177]
abbrev dktX10_init_0 : List UInt8 := dkwX10_init_0 ++ []
theorem dksX10_init_0 : cX10_init.data.toList.drop 0 = dktX10_init_0 := by decide +kernel
theorem dX10_init_0 : decode cX10_init 0 = .ok (.aload_n 0, 1) := dk_42 (dk_at dksX10_init_0 0 rfl rfl)
theorem dX10_init_1 : decode cX10_init 1 = .ok (.aload_n 1, 1) := dk_43 (dk_at dksX10_init_0 1 rfl rfl)
theorem dX10_init_2 : decode cX10_init 2 = .ok (.invokespecial 1, 3) := dk_183 0 1 (dk_at dksX10_init_0 2 rfl rfl)
theorem dX10_init_5 : decode cX10_init 5 = .ok (.return_, 1) := dk_177 (dk_at dksX10_init_0 5 rfl rfl)
abbrev cX10_kind : ByteArray := prog_19_method_2_code
def yX10_kind : MethodName := ⟨RX10, "kind", "()I"⟩
theorem dX10_kind_0 : decode cX10_kind 0 = .ok (.iconst 2, 1) := by decide +kernel
theorem dX10_kind_1 : decode cX10_kind 1 = .ok (.ireturn, 1) := by decide +kernel
abbrev cX10_climbs : ByteArray := prog_19_method_3_code
def yX10_climbs : MethodName := ⟨RX10, "climbs", "(I)I"⟩
def dkwX10_climbs_0 : List UInt8 := [27, 5, 108, 172]
abbrev dktX10_climbs_0 : List UInt8 := dkwX10_climbs_0 ++ []
theorem dksX10_climbs_0 : cX10_climbs.data.toList.drop 0 = dktX10_climbs_0 := by decide +kernel
theorem dX10_climbs_0 : decode cX10_climbs 0 = .ok (.iload_n 1, 1) := dk_27 (dk_at dksX10_climbs_0 0 rfl rfl)
theorem dX10_climbs_1 : decode cX10_climbs 1 = .ok (.iconst 2, 1) := dk_5 (dk_at dksX10_climbs_0 1 rfl rfl)
theorem dX10_climbs_2 : decode cX10_climbs 2 = .ok (.idiv, 1) := dk_108 (dk_at dksX10_climbs_0 2 rfl rfl)
theorem dX10_climbs_3 : decode cX10_climbs 3 = .ok (.ireturn, 1) := dk_172 (dk_at dksX10_climbs_0 3 rfl rfl)
abbrev cX10_wish : ByteArray := prog_19_method_4_code
def yX10_wish : MethodName := ⟨RX10, "wish", "(LPulseRent$Room;)I"⟩
def dkwX10_wish_0 : List UInt8 := [43, 180, 0, 7, 116, 6, 104, 43, 180, 0, 13, 100, 172]
abbrev dktX10_wish_0 : List UInt8 := dkwX10_wish_0 ++ []
theorem dksX10_wish_0 : cX10_wish.data.toList.drop 0 = dktX10_wish_0 := by decide +kernel
theorem dX10_wish_0 : decode cX10_wish 0 = .ok (.aload_n 1, 1) := dk_43 (dk_at dksX10_wish_0 0 rfl rfl)
theorem dX10_wish_1 : decode cX10_wish 1 = .ok (.getfield 7, 3) := dk_180 0 7 (dk_at dksX10_wish_0 1 rfl rfl)
theorem dX10_wish_4 : decode cX10_wish 4 = .ok (.ineg, 1) := dk_116 (dk_at dksX10_wish_0 4 rfl rfl)
theorem dX10_wish_5 : decode cX10_wish 5 = .ok (.iconst 3, 1) := dk_6 (dk_at dksX10_wish_0 5 rfl rfl)
theorem dX10_wish_6 : decode cX10_wish 6 = .ok (.imul, 1) := dk_104 (dk_at dksX10_wish_0 6 rfl rfl)
theorem dX10_wish_7 : decode cX10_wish 7 = .ok (.aload_n 1, 1) := dk_43 (dk_at dksX10_wish_0 7 rfl rfl)
theorem dX10_wish_8 : decode cX10_wish 8 = .ok (.getfield 13, 3) := dk_180 0 13 (dk_at dksX10_wish_0 8 rfl rfl)
theorem dX10_wish_11 : decode cX10_wish 11 = .ok (.isub, 1) := dk_100 (dk_at dksX10_wish_0 11 rfl rfl)
theorem dX10_wish_12 : decode cX10_wish 12 = .ok (.ireturn, 1) := dk_172 (dk_at dksX10_wish_0 12 rfl rfl)
theorem q162 : (Jvm.Cond.initialized "PulseRent$Runner") ∈ lw_all := lw_g (lw_at lw_m1 28 rfl) rfl
theorem q891 : (Jvm.Cond.fieldLinkNest "PulseRent$Runner" (7 : Nat) "PulseRent$Room" "noise" "I" "PulseRent") ∈ lw_tbl := lw_at lw_m4 37 rfl
theorem q895 : (Jvm.Cond.fieldLinkNest "PulseRent$Runner" (13 : Nat) "PulseRent$Room" "base" "I" "PulseRent") ∈ lw_tbl := lw_at lw_m4 41 rfl
theorem q948 : (Jvm.Cond.selects "PulseRent$Runner" ({ cls := "java/lang/Object", name := "getClass", desc := "()Ljava/lang/Class;" } : Jvm.MethodName) ({ cls := "java/lang/Object", name := "getClass", desc := "()Ljava/lang/Class;" } : Jvm.MethodName)) ∈ lw_all := lw_g (lw_at lw_m4 94 rfl) rfl
theorem q1025 : (Jvm.Cond.instantiable "PulseRent$Runner" (6 : Nat)) ∈ lw_all := lw_g (lw_at lw_m4 171 rfl) rfl
theorem q1027 : (Jvm.Cond.instanceMethod ({ cls := "PulseRent$Runner", name := "<init>", desc := "(Ljava/lang/String;)V" } : Jvm.MethodName)) ∈ lw_all := lw_g (lw_at lw_m4 173 rfl) rfl
theorem q1028 : (Jvm.Cond.code ({ cls := "PulseRent$Runner", name := "<init>", desc := "(Ljava/lang/String;)V" } : Jvm.MethodName) prog_19_method_1_code (2 : Nat) (Option.none : Option Jvm.ClassFile.FieldType)) ∈ lw_all := lw_g (lw_at lw_m4 174 rfl) rfl
theorem q1029 : (Jvm.Cond.methodLink "PulseRent$Runner" (1 : Nat) ({ cls := "PulseRent$Tenant", name := "<init>", desc := "(Ljava/lang/String;)V" } : Jvm.MethodName)) ∈ lw_all := lw_g (lw_at lw_m4 175 rfl) rfl
theorem q1030 : (Jvm.Cond.laysFinal "PulseRent$Runner" "PulseRent$Tenant" "name" "Ljava/lang/String;") ∈ lw_all := lw_g (lw_at lw_m4 176 rfl) rfl
theorem q1031 : (Jvm.Cond.lays "PulseRent$Runner" "PulseRent$Tenant" "told" "I") ∈ lw_all := lw_g (lw_at lw_m4 177 rfl) rfl
theorem q1032 : (Jvm.Cond.lays "PulseRent$Runner" "PulseRent$Tenant" "calm" "I") ∈ lw_all := lw_g (lw_at lw_m4 178 rfl) rfl
theorem q1033 : (Jvm.Cond.lays "PulseRent$Runner" "PulseRent$Tenant" "coins" "I") ∈ lw_all := lw_g (lw_at lw_m4 179 rfl) rfl
theorem q1034 : (Jvm.Cond.lays "PulseRent$Runner" "PulseRent$Tenant" "room" "I") ∈ lw_all := lw_g (lw_at lw_m4 180 rfl) rfl
theorem q1035 : (Jvm.Cond.lays "PulseRent$Runner" "PulseRent$Tenant" "loves" "I") ∈ lw_all := lw_g (lw_at lw_m4 181 rfl) rfl
theorem q1036 : (Jvm.Cond.superclass "PulseRent$Runner" "PulseRent$Tenant") ∈ lw_all := lw_g (lw_at lw_m4 182 rfl) rfl
theorem q1317 : (Jvm.Cond.selects "PulseRent$Runner" ({ cls := "PulseRent$Tenant", name := "kind", desc := "()I" } : Jvm.MethodName) ({ cls := "PulseRent$Runner", name := "kind", desc := "()I" } : Jvm.MethodName)) ∈ lw_all := lw_g (lw_at lw_m5 223 rfl) rfl
theorem q1318 : (Jvm.Cond.instanceMethod ({ cls := "PulseRent$Runner", name := "kind", desc := "()I" } : Jvm.MethodName)) ∈ lw_all := lw_g (lw_at lw_m5 224 rfl) rfl
theorem q1319 : (Jvm.Cond.code ({ cls := "PulseRent$Runner", name := "kind", desc := "()I" } : Jvm.MethodName) prog_19_method_2_code (1 : Nat) (Option.some Jvm.ClassFile.FieldType.int)) ∈ lw_all := lw_g (lw_at lw_m5 225 rfl) rfl
theorem q1350 : (Jvm.Cond.selects "PulseRent$Runner" ({ cls := "PulseRent$Tenant", name := "rest", desc := "()I" } : Jvm.MethodName) ({ cls := "PulseRent$Tenant", name := "rest", desc := "()I" } : Jvm.MethodName)) ∈ lw_all := lw_g (lw_at lw_m6 16 rfl) rfl
theorem q1385 : (Jvm.Cond.selects "PulseRent$Runner" ({ cls := "PulseRent$Tenant", name := "climbs", desc := "(I)I" } : Jvm.MethodName) ({ cls := "PulseRent$Runner", name := "climbs", desc := "(I)I" } : Jvm.MethodName)) ∈ lw_all := lw_g (lw_at lw_m6 51 rfl) rfl
theorem q1386 : (Jvm.Cond.instanceMethod ({ cls := "PulseRent$Runner", name := "climbs", desc := "(I)I" } : Jvm.MethodName)) ∈ lw_all := lw_g (lw_at lw_m6 52 rfl) rfl
theorem q1387 : (Jvm.Cond.code ({ cls := "PulseRent$Runner", name := "climbs", desc := "(I)I" } : Jvm.MethodName) prog_19_method_3_code (2 : Nat) (Option.some Jvm.ClassFile.FieldType.int)) ∈ lw_all := lw_g (lw_at lw_m6 53 rfl) rfl
theorem q1426 : (Jvm.Cond.selects "PulseRent$Runner" ({ cls := "PulseRent$Tenant", name := "settles", desc := "(I)I" } : Jvm.MethodName) ({ cls := "PulseRent$Tenant", name := "settles", desc := "(I)I" } : Jvm.MethodName)) ∈ lw_all := lw_g (lw_at lw_m6 92 rfl) rfl
theorem q1470 : (Jvm.Cond.selects "PulseRent$Runner" ({ cls := "PulseRent$Tenant", name := "mayLack", desc := "()I" } : Jvm.MethodName) ({ cls := "PulseRent$Tenant", name := "mayLack", desc := "()I" } : Jvm.MethodName)) ∈ lw_all := lw_g (lw_at lw_m6 136 rfl) rfl
theorem q1570 : (Jvm.Cond.selects "PulseRent$Runner" ({ cls := "PulseRent$Tenant", name := "wish", desc := "(LPulseRent$Room;)I" } : Jvm.MethodName) ({ cls := "PulseRent$Runner", name := "wish", desc := "(LPulseRent$Room;)I" } : Jvm.MethodName)) ∈ lw_all := lw_g (lw_at lw_m6 236 rfl) rfl
theorem q1571 : (Jvm.Cond.instanceMethod ({ cls := "PulseRent$Runner", name := "wish", desc := "(LPulseRent$Room;)I" } : Jvm.MethodName)) ∈ lw_all := lw_g (lw_at lw_m6 237 rfl) rfl
theorem q1572 : (Jvm.Cond.code ({ cls := "PulseRent$Runner", name := "wish", desc := "(LPulseRent$Room;)I" } : Jvm.MethodName) prog_19_method_4_code (2 : Nat) (Option.some Jvm.ClassFile.FieldType.int)) ∈ lw_all := lw_g (lw_at lw_m6 238 rfl) rfl
theorem q2365 : (Jvm.Cond.castable "PulseRent$Runner" "PulseRent$Tenant") ∈ lw_tbl := lw_at lw_m10 71 rfl
theorem q2386 : (Jvm.Cond.castable "PulseRent$Runner" "java/lang/Object") ∈ lw_tbl := lw_at lw_m10 92 rfl
theorem in_X10 : ∀ w ∈ wsX100, w ∈ lw_all := lw_in wsX100 [1030, 1031, 1032, 1033, 1034, 1035] (by decide +kernel) (by decide +kernel)

/-! PulseRent$Sick -/
set_option maxRecDepth 100000
def RX11 : String := "PulseRent$Sick"
def TX11 : u_T := fun k => match k with
  | 0 => ("PulseRent$Tenant", "name", "Ljava/lang/String;", true)
  | 1 => ("PulseRent$Tenant", "told", "I", false)
  | 2 => ("PulseRent$Tenant", "calm", "I", false)
  | 3 => ("PulseRent$Tenant", "coins", "I", false)
  | 4 => ("PulseRent$Tenant", "room", "I", false)
  | _ => ("PulseRent$Tenant", "loves", "I", false)
def tyX11 : Nat → FieldType := fun k => match k with
  | 0 => .object "java/lang/String"
  | 1 => .int
  | 2 => .int
  | 3 => .int
  | 4 => .int
  | _ => .int
abbrev wsX110 : List Cond := u_ws RX11 TX11 6
theorem nmX11 : ∀ a, a < 6 → ∀ b, b < 6 → a ≠ b → (TX11 a).2.1 ≠ (TX11 b).2.1 := by decide +kernel
theorem tyX11_ok : ∀ k, k < 6 → parseFieldDescriptor (TX11 k).2.2.1 = some (tyX11 k) := by decide +kernel
abbrev cX11_init : ByteArray := prog_20_method_1_code
def yX11_init : MethodName := ⟨RX11, "<init>", "(Ljava/lang/String;)V"⟩
def dkwX11_init_0 : List UInt8 := [42, 43, 183, 0, 3, 177]
abbrev dktX11_init_0 : List UInt8 := dkwX11_init_0 ++ []
theorem dksX11_init_0 : cX11_init.data.toList.drop 0 = dktX11_init_0 := by decide +kernel
theorem dX11_init_0 : decode cX11_init 0 = .ok (.aload_n 0, 1) := dk_42 (dk_at dksX11_init_0 0 rfl rfl)
theorem dX11_init_1 : decode cX11_init 1 = .ok (.aload_n 1, 1) := dk_43 (dk_at dksX11_init_0 1 rfl rfl)
theorem dX11_init_2 : decode cX11_init 2 = .ok (.invokespecial 3, 3) := dk_183 0 3 (dk_at dksX11_init_0 2 rfl rfl)
theorem dX11_init_5 : decode cX11_init 5 = .ok (.return_, 1) := dk_177 (dk_at dksX11_init_0 5 rfl rfl)
abbrev cX11_kind : ByteArray := prog_20_method_2_code
def yX11_kind : MethodName := ⟨RX11, "kind", "()I"⟩
theorem dX11_kind_0 : decode cX11_kind 0 = .ok (.iconst 3, 1) := by decide +kernel
theorem dX11_kind_1 : decode cX11_kind 1 = .ok (.ireturn, 1) := by decide +kernel
abbrev cX11_rest : ByteArray := prog_20_method_3_code
def yX11_rest : MethodName := ⟨RX11, "rest", "()I"⟩
def dkwX11_rest_0 : List UInt8 := [42, 180, 0, 9, 16, 20, 96, 172]
abbrev dktX11_rest_0 : List UInt8 := dkwX11_rest_0 ++ []
theorem dksX11_rest_0 : cX11_rest.data.toList.drop 0 = dktX11_rest_0 := by decide +kernel
theorem dX11_rest_0 : decode cX11_rest 0 = .ok (.aload_n 0, 1) := dk_42 (dk_at dksX11_rest_0 0 rfl rfl)
theorem dX11_rest_1 : decode cX11_rest 1 = .ok (.getfield 9, 3) := dk_180 0 9 (dk_at dksX11_rest_0 1 rfl rfl)
theorem dX11_rest_4 : decode cX11_rest 4 = .ok (.bipush 20, 2) := dk_16 20 (dk_at dksX11_rest_0 4 rfl rfl)
theorem dX11_rest_6 : decode cX11_rest 6 = .ok (.iadd, 1) := dk_96 (dk_at dksX11_rest_0 6 rfl rfl)
theorem dX11_rest_7 : decode cX11_rest 7 = .ok (.ireturn, 1) := dk_172 (dk_at dksX11_rest_0 7 rfl rfl)
abbrev cX11_mayLack : ByteArray := prog_20_method_4_code
def yX11_mayLack : MethodName := ⟨RX11, "mayLack", "()I"⟩
theorem dX11_mayLack_0 : decode cX11_mayLack 0 = .ok (.bipush 99, 2) := by decide +kernel
theorem dX11_mayLack_2 : decode cX11_mayLack 2 = .ok (.ireturn, 1) := by decide +kernel
theorem q163 : (Jvm.Cond.initialized "PulseRent$Sick") ∈ lw_all := lw_g (lw_at lw_m1 29 rfl) rfl
theorem q949 : (Jvm.Cond.selects "PulseRent$Sick" ({ cls := "java/lang/Object", name := "getClass", desc := "()Ljava/lang/Class;" } : Jvm.MethodName) ({ cls := "java/lang/Object", name := "getClass", desc := "()Ljava/lang/Class;" } : Jvm.MethodName)) ∈ lw_all := lw_g (lw_at lw_m4 95 rfl) rfl
theorem q984 : (Jvm.Cond.fieldLink "PulseRent$Sick" (9 : Nat) "PulseRent$Sick" "told" "I") ∈ lw_all := lw_g (lw_at lw_m4 130 rfl) rfl
theorem q985 : (Jvm.Cond.sameField "PulseRent$Sick" "PulseRent$Tenant" "told" "I") ∈ lw_all := lw_g (lw_at lw_m4 131 rfl) rfl
theorem q1038 : (Jvm.Cond.instantiable "PulseRent$Sick" (6 : Nat)) ∈ lw_all := lw_g (lw_at lw_m4 184 rfl) rfl
theorem q1040 : (Jvm.Cond.instanceMethod ({ cls := "PulseRent$Sick", name := "<init>", desc := "(Ljava/lang/String;)V" } : Jvm.MethodName)) ∈ lw_all := lw_g (lw_at lw_m4 186 rfl) rfl
theorem q1041 : (Jvm.Cond.code ({ cls := "PulseRent$Sick", name := "<init>", desc := "(Ljava/lang/String;)V" } : Jvm.MethodName) prog_20_method_1_code (2 : Nat) (Option.none : Option Jvm.ClassFile.FieldType)) ∈ lw_all := lw_g (lw_at lw_m4 187 rfl) rfl
theorem q1042 : (Jvm.Cond.methodLink "PulseRent$Sick" (3 : Nat) ({ cls := "PulseRent$Tenant", name := "<init>", desc := "(Ljava/lang/String;)V" } : Jvm.MethodName)) ∈ lw_all := lw_g (lw_at lw_m4 188 rfl) rfl
theorem q1043 : (Jvm.Cond.laysFinal "PulseRent$Sick" "PulseRent$Tenant" "name" "Ljava/lang/String;") ∈ lw_all := lw_g (lw_at lw_m4 189 rfl) rfl
theorem q1044 : (Jvm.Cond.lays "PulseRent$Sick" "PulseRent$Tenant" "told" "I") ∈ lw_all := lw_g (lw_at lw_m4 190 rfl) rfl
theorem q1045 : (Jvm.Cond.lays "PulseRent$Sick" "PulseRent$Tenant" "calm" "I") ∈ lw_all := lw_g (lw_at lw_m4 191 rfl) rfl
theorem q1046 : (Jvm.Cond.lays "PulseRent$Sick" "PulseRent$Tenant" "coins" "I") ∈ lw_all := lw_g (lw_at lw_m4 192 rfl) rfl
theorem q1047 : (Jvm.Cond.lays "PulseRent$Sick" "PulseRent$Tenant" "room" "I") ∈ lw_all := lw_g (lw_at lw_m4 193 rfl) rfl
theorem q1048 : (Jvm.Cond.lays "PulseRent$Sick" "PulseRent$Tenant" "loves" "I") ∈ lw_all := lw_g (lw_at lw_m4 194 rfl) rfl
theorem q1049 : (Jvm.Cond.superclass "PulseRent$Sick" "PulseRent$Tenant") ∈ lw_all := lw_g (lw_at lw_m4 195 rfl) rfl
theorem q1320 : (Jvm.Cond.selects "PulseRent$Sick" ({ cls := "PulseRent$Tenant", name := "kind", desc := "()I" } : Jvm.MethodName) ({ cls := "PulseRent$Sick", name := "kind", desc := "()I" } : Jvm.MethodName)) ∈ lw_all := lw_g (lw_at lw_m5 226 rfl) rfl
theorem q1321 : (Jvm.Cond.instanceMethod ({ cls := "PulseRent$Sick", name := "kind", desc := "()I" } : Jvm.MethodName)) ∈ lw_all := lw_g (lw_at lw_m5 227 rfl) rfl
theorem q1322 : (Jvm.Cond.code ({ cls := "PulseRent$Sick", name := "kind", desc := "()I" } : Jvm.MethodName) prog_20_method_2_code (1 : Nat) (Option.some Jvm.ClassFile.FieldType.int)) ∈ lw_all := lw_g (lw_at lw_m5 228 rfl) rfl
theorem q1351 : (Jvm.Cond.selects "PulseRent$Sick" ({ cls := "PulseRent$Tenant", name := "rest", desc := "()I" } : Jvm.MethodName) ({ cls := "PulseRent$Sick", name := "rest", desc := "()I" } : Jvm.MethodName)) ∈ lw_all := lw_g (lw_at lw_m6 17 rfl) rfl
theorem q1352 : (Jvm.Cond.instanceMethod ({ cls := "PulseRent$Sick", name := "rest", desc := "()I" } : Jvm.MethodName)) ∈ lw_all := lw_g (lw_at lw_m6 18 rfl) rfl
theorem q1353 : (Jvm.Cond.code ({ cls := "PulseRent$Sick", name := "rest", desc := "()I" } : Jvm.MethodName) prog_20_method_3_code (1 : Nat) (Option.some Jvm.ClassFile.FieldType.int)) ∈ lw_all := lw_g (lw_at lw_m6 19 rfl) rfl
theorem q1388 : (Jvm.Cond.selects "PulseRent$Sick" ({ cls := "PulseRent$Tenant", name := "climbs", desc := "(I)I" } : Jvm.MethodName) ({ cls := "PulseRent$Tenant", name := "climbs", desc := "(I)I" } : Jvm.MethodName)) ∈ lw_all := lw_g (lw_at lw_m6 54 rfl) rfl
theorem q1427 : (Jvm.Cond.selects "PulseRent$Sick" ({ cls := "PulseRent$Tenant", name := "settles", desc := "(I)I" } : Jvm.MethodName) ({ cls := "PulseRent$Tenant", name := "settles", desc := "(I)I" } : Jvm.MethodName)) ∈ lw_all := lw_g (lw_at lw_m6 93 rfl) rfl
theorem q1471 : (Jvm.Cond.selects "PulseRent$Sick" ({ cls := "PulseRent$Tenant", name := "mayLack", desc := "()I" } : Jvm.MethodName) ({ cls := "PulseRent$Sick", name := "mayLack", desc := "()I" } : Jvm.MethodName)) ∈ lw_all := lw_g (lw_at lw_m6 137 rfl) rfl
theorem q1472 : (Jvm.Cond.instanceMethod ({ cls := "PulseRent$Sick", name := "mayLack", desc := "()I" } : Jvm.MethodName)) ∈ lw_all := lw_g (lw_at lw_m6 138 rfl) rfl
theorem q1473 : (Jvm.Cond.code ({ cls := "PulseRent$Sick", name := "mayLack", desc := "()I" } : Jvm.MethodName) prog_20_method_4_code (1 : Nat) (Option.some Jvm.ClassFile.FieldType.int)) ∈ lw_all := lw_g (lw_at lw_m6 139 rfl) rfl
theorem q1573 : (Jvm.Cond.selects "PulseRent$Sick" ({ cls := "PulseRent$Tenant", name := "wish", desc := "(LPulseRent$Room;)I" } : Jvm.MethodName) ({ cls := "PulseRent$Tenant", name := "wish", desc := "(LPulseRent$Room;)I" } : Jvm.MethodName)) ∈ lw_all := lw_g (lw_at lw_m6 239 rfl) rfl
theorem q2366 : (Jvm.Cond.castable "PulseRent$Sick" "PulseRent$Tenant") ∈ lw_tbl := lw_at lw_m10 72 rfl
theorem q2387 : (Jvm.Cond.castable "PulseRent$Sick" "java/lang/Object") ∈ lw_tbl := lw_at lw_m10 93 rfl
theorem in_X11 : ∀ w ∈ wsX110, w ∈ lw_all := lw_in wsX110 [1043, 1044, 1045, 1046, 1047, 1048] (by decide +kernel) (by decide +kernel)

/-! PulseRent$Errand -/
set_option maxRecDepth 100000
def RX12 : String := "PulseRent$Errand"
def TX12 : u_T := fun k => match k with
  | 0 => ("PulseRent$Errand", "name", "Ljava/lang/String;", true)
  | 1 => ("PulseRent$Errand", "opens", "I", true)
  | 2 => ("PulseRent$Errand", "takes", "I", true)
  | _ => ("PulseRent$Errand", "adds", "I", true)
def tyX12 : Nat → FieldType := fun k => match k with
  | 0 => .object "java/lang/String"
  | 1 => .int
  | 2 => .int
  | _ => .int
abbrev wsX120 : List Cond := u_ws RX12 TX12 4
theorem nmX12 : ∀ a, a < 4 → ∀ b, b < 4 → a ≠ b → (TX12 a).2.1 ≠ (TX12 b).2.1 := by decide +kernel
theorem tyX12_ok : ∀ k, k < 4 → parseFieldDescriptor (TX12 k).2.2.1 = some (tyX12 k) := by decide +kernel
abbrev cX12_init : ByteArray := prog_4_method_1_code
def yX12_init : MethodName := ⟨RX12, "<init>", "(Ljava/lang/String;III)V"⟩
def dkwX12_init_1 : List UInt8 := [181, 0, 20, 177]
abbrev dktX12_init_1 : List UInt8 := dkwX12_init_1 ++ []
def dkwX12_init_0 : List UInt8 := [42, 183, 0, 1, 42, 43, 181, 0, 7, 42, 28, 181, 0, 13, 42, 29, 181, 0, 17, 42, 21, 4]
abbrev dktX12_init_0 : List UInt8 := dkwX12_init_0 ++ dktX12_init_1
theorem dksX12_init_0 : cX12_init.data.toList.drop 0 = dktX12_init_0 := by decide +kernel
theorem dksX12_init_1 : cX12_init.data.toList.drop 22 = dktX12_init_1 := dk_seg dksX12_init_0 22 rfl rfl
theorem dX12_init_0 : decode cX12_init 0 = .ok (.aload_n 0, 1) := dk_42 (dk_at dksX12_init_0 0 rfl rfl)
theorem dX12_init_1 : decode cX12_init 1 = .ok (.invokespecial 1, 3) := dk_183 0 1 (dk_at dksX12_init_0 1 rfl rfl)
theorem dX12_init_4 : decode cX12_init 4 = .ok (.aload_n 0, 1) := dk_42 (dk_at dksX12_init_0 4 rfl rfl)
theorem dX12_init_5 : decode cX12_init 5 = .ok (.aload_n 1, 1) := dk_43 (dk_at dksX12_init_0 5 rfl rfl)
theorem dX12_init_6 : decode cX12_init 6 = .ok (.putfield 7, 3) := dk_181 0 7 (dk_at dksX12_init_0 6 rfl rfl)
theorem dX12_init_9 : decode cX12_init 9 = .ok (.aload_n 0, 1) := dk_42 (dk_at dksX12_init_0 9 rfl rfl)
theorem dX12_init_10 : decode cX12_init 10 = .ok (.iload_n 2, 1) := dk_28 (dk_at dksX12_init_0 10 rfl rfl)
theorem dX12_init_11 : decode cX12_init 11 = .ok (.putfield 13, 3) := dk_181 0 13 (dk_at dksX12_init_0 11 rfl rfl)
theorem dX12_init_14 : decode cX12_init 14 = .ok (.aload_n 0, 1) := dk_42 (dk_at dksX12_init_0 14 rfl rfl)
theorem dX12_init_15 : decode cX12_init 15 = .ok (.iload_n 3, 1) := dk_29 (dk_at dksX12_init_0 15 rfl rfl)
theorem dX12_init_16 : decode cX12_init 16 = .ok (.putfield 17, 3) := dk_181 0 17 (dk_at dksX12_init_0 16 rfl rfl)
theorem dX12_init_19 : decode cX12_init 19 = .ok (.aload_n 0, 1) := dk_42 (dk_at dksX12_init_0 19 rfl rfl)
theorem dX12_init_20 : decode cX12_init 20 = .ok (.iload 4, 2) := dk_21 4 (dk_at dksX12_init_0 20 rfl rfl)
theorem dX12_init_22 : decode cX12_init 22 = .ok (.putfield 20, 3) := dk_181 0 20 (dk_at dksX12_init_1 0 rfl rfl)
theorem dX12_init_25 : decode cX12_init 25 = .ok (.return_, 1) := dk_177 (dk_at dksX12_init_1 3 rfl rfl)
theorem q164 : (Jvm.Cond.initialized "PulseRent$Errand") ∈ lw_all := lw_g (lw_at lw_m1 30 rfl) rfl
theorem q935 : (Jvm.Cond.selects "PulseRent$Errand" ({ cls := "java/lang/Object", name := "getClass", desc := "()Ljava/lang/Class;" } : Jvm.MethodName) ({ cls := "java/lang/Object", name := "getClass", desc := "()Ljava/lang/Class;" } : Jvm.MethodName)) ∈ lw_all := lw_g (lw_at lw_m4 81 rfl) rfl
theorem q1077 : (Jvm.Cond.instantiable "PulseRent$Errand" (4 : Nat)) ∈ lw_all := lw_g (lw_at lw_m4 223 rfl) rfl
theorem q1080 : (Jvm.Cond.instanceMethod ({ cls := "PulseRent$Errand", name := "<init>", desc := "(Ljava/lang/String;III)V" } : Jvm.MethodName)) ∈ lw_all := lw_g (lw_at lw_m4 226 rfl) rfl
theorem q1081 : (Jvm.Cond.code ({ cls := "PulseRent$Errand", name := "<init>", desc := "(Ljava/lang/String;III)V" } : Jvm.MethodName) prog_4_method_1_code (5 : Nat) (Option.none : Option Jvm.ClassFile.FieldType)) ∈ lw_all := lw_g (lw_at lw_m4 227 rfl) rfl
theorem q1082 : (Jvm.Cond.methodLink "PulseRent$Errand" (1 : Nat) ({ cls := "java/lang/Object", name := "<init>", desc := "()V" } : Jvm.MethodName)) ∈ lw_all := lw_g (lw_at lw_m4 228 rfl) rfl
theorem q1083 : (Jvm.Cond.fieldLink "PulseRent$Errand" (7 : Nat) "PulseRent$Errand" "name" "Ljava/lang/String;") ∈ lw_all := lw_g (lw_at lw_m4 229 rfl) rfl
theorem q1085 : (Jvm.Cond.fieldLink "PulseRent$Errand" (13 : Nat) "PulseRent$Errand" "opens" "I") ∈ lw_all := lw_g (lw_at lw_m4 231 rfl) rfl
theorem q1087 : (Jvm.Cond.fieldLink "PulseRent$Errand" (17 : Nat) "PulseRent$Errand" "takes" "I") ∈ lw_all := lw_g (lw_at lw_m4 233 rfl) rfl
theorem q1089 : (Jvm.Cond.fieldLink "PulseRent$Errand" (20 : Nat) "PulseRent$Errand" "adds" "I") ∈ lw_all := lw_g (lw_at lw_m4 235 rfl) rfl
theorem q1091 : (Jvm.Cond.laysFinal "PulseRent$Errand" "PulseRent$Errand" "name" "Ljava/lang/String;") ∈ lw_all := lw_g (lw_at lw_m4 237 rfl) rfl
theorem q1092 : (Jvm.Cond.soleField "PulseRent$Errand" "name") ∈ lw_all := lw_g (lw_at lw_m4 238 rfl) rfl
theorem q1093 : (Jvm.Cond.laysFinal "PulseRent$Errand" "PulseRent$Errand" "opens" "I") ∈ lw_all := lw_g (lw_at lw_m4 239 rfl) rfl
theorem q1094 : (Jvm.Cond.soleField "PulseRent$Errand" "opens") ∈ lw_all := lw_g (lw_at lw_m5 0 rfl) rfl
theorem q1095 : (Jvm.Cond.laysFinal "PulseRent$Errand" "PulseRent$Errand" "takes" "I") ∈ lw_all := lw_g (lw_at lw_m5 1 rfl) rfl
theorem q1096 : (Jvm.Cond.soleField "PulseRent$Errand" "takes") ∈ lw_all := lw_g (lw_at lw_m5 2 rfl) rfl
theorem q1097 : (Jvm.Cond.laysFinal "PulseRent$Errand" "PulseRent$Errand" "adds" "I") ∈ lw_all := lw_g (lw_at lw_m5 3 rfl) rfl
theorem q1098 : (Jvm.Cond.soleField "PulseRent$Errand" "adds") ∈ lw_all := lw_g (lw_at lw_m5 4 rfl) rfl
theorem q1099 : (Jvm.Cond.superclass "PulseRent$Errand" "java/lang/Object") ∈ lw_all := lw_g (lw_at lw_m5 5 rfl) rfl
theorem q2388 : (Jvm.Cond.castable "PulseRent$Errand" "java/lang/Object") ∈ lw_tbl := lw_at lw_m10 94 rfl
theorem in_X12 : ∀ w ∈ wsX120, w ∈ lw_all := lw_in wsX120 [1091, 1093, 1095, 1097] (by decide +kernel) (by decide +kernel)

/-! PulseRent$Expression -/
set_option maxRecDepth 100000
def RX13 : String := "PulseRent$Expression"
abbrev cX13_init : ByteArray := prog_5_method_1_code
def yX13_init : MethodName := ⟨RX13, "<init>", "()V"⟩
theorem dX13_init_0 : decode cX13_init 0 = .ok (.aload_n 0, 1) := by decide +kernel
theorem dX13_init_1 : decode cX13_init 1 = .ok (.invokespecial 1, 3) := by decide +kernel
theorem dX13_init_4 : decode cX13_init 4 = .ok (.return_, 1) := by decide +kernel
theorem q165 : (Jvm.Cond.initialized "PulseRent$Expression") ∈ lw_all := lw_g (lw_at lw_m1 31 rfl) rfl
theorem q1137 : (Jvm.Cond.instanceMethod ({ cls := "PulseRent$Expression", name := "<init>", desc := "()V" } : Jvm.MethodName)) ∈ lw_all := lw_g (lw_at lw_m5 43 rfl) rfl
theorem q1138 : (Jvm.Cond.code ({ cls := "PulseRent$Expression", name := "<init>", desc := "()V" } : Jvm.MethodName) prog_5_method_1_code (1 : Nat) (Option.none : Option Jvm.ClassFile.FieldType)) ∈ lw_all := lw_g (lw_at lw_m5 44 rfl) rfl
theorem q1139 : (Jvm.Cond.methodLink "PulseRent$Expression" (1 : Nat) ({ cls := "java/lang/Object", name := "<init>", desc := "()V" } : Jvm.MethodName)) ∈ lw_all := lw_g (lw_at lw_m5 45 rfl) rfl
theorem q1449 : (Jvm.Cond.declares ({ cls := "PulseRent$Expression", name := "worked", desc := "([I)I" } : Jvm.MethodName)) ∈ lw_tbl := lw_at lw_m6 115 rfl
theorem q1450 : (Jvm.Cond.sameMethod "PulseRent$Expression" "PulseRent$Expression" "worked" "([I)I") ∈ lw_all := lw_g (lw_at lw_m6 116 rfl) rfl

/-! PulseRent$Given -/
set_option maxRecDepth 100000
def RX14 : String := "PulseRent$Given"
def TX14 : u_T := fun k => match k with
  | _ => ("PulseRent$Given", "n", "I", true)
def tyX14 : Nat → FieldType := fun k => match k with
  | _ => .int
abbrev wsX140 : List Cond := u_ws RX14 TX14 1
theorem nmX14 : ∀ a, a < 1 → ∀ b, b < 1 → a ≠ b → (TX14 a).2.1 ≠ (TX14 b).2.1 := by decide +kernel
theorem tyX14_ok : ∀ k, k < 1 → parseFieldDescriptor (TX14 k).2.2.1 = some (tyX14 k) := by decide +kernel
abbrev cX14_init : ByteArray := prog_8_method_1_code
def yX14_init : MethodName := ⟨RX14, "<init>", "(I)V"⟩
def dkwX14_init_0 : List UInt8 := [42, 183, 0, 1, 42, 27, 181, 0, 7, 177]
abbrev dktX14_init_0 : List UInt8 := dkwX14_init_0 ++ []
theorem dksX14_init_0 : cX14_init.data.toList.drop 0 = dktX14_init_0 := by decide +kernel
theorem dX14_init_0 : decode cX14_init 0 = .ok (.aload_n 0, 1) := dk_42 (dk_at dksX14_init_0 0 rfl rfl)
theorem dX14_init_1 : decode cX14_init 1 = .ok (.invokespecial 1, 3) := dk_183 0 1 (dk_at dksX14_init_0 1 rfl rfl)
theorem dX14_init_4 : decode cX14_init 4 = .ok (.aload_n 0, 1) := dk_42 (dk_at dksX14_init_0 4 rfl rfl)
theorem dX14_init_5 : decode cX14_init 5 = .ok (.iload_n 1, 1) := dk_27 (dk_at dksX14_init_0 5 rfl rfl)
theorem dX14_init_6 : decode cX14_init 6 = .ok (.putfield 7, 3) := dk_181 0 7 (dk_at dksX14_init_0 6 rfl rfl)
theorem dX14_init_9 : decode cX14_init 9 = .ok (.return_, 1) := dk_177 (dk_at dksX14_init_0 9 rfl rfl)
abbrev cX14_worked : ByteArray := prog_8_method_2_code
def yX14_worked : MethodName := ⟨RX14, "worked", "([I)I"⟩
theorem dX14_worked_0 : decode cX14_worked 0 = .ok (.aload_n 0, 1) := by decide +kernel
theorem dX14_worked_1 : decode cX14_worked 1 = .ok (.getfield 7, 3) := by decide +kernel
theorem dX14_worked_4 : decode cX14_worked 4 = .ok (.ireturn, 1) := by decide +kernel
theorem q166 : (Jvm.Cond.initialized "PulseRent$Given") ∈ lw_all := lw_g (lw_at lw_m1 32 rfl) rfl
theorem q938 : (Jvm.Cond.selects "PulseRent$Given" ({ cls := "java/lang/Object", name := "getClass", desc := "()Ljava/lang/Class;" } : Jvm.MethodName) ({ cls := "java/lang/Object", name := "getClass", desc := "()Ljava/lang/Class;" } : Jvm.MethodName)) ∈ lw_all := lw_g (lw_at lw_m4 84 rfl) rfl
theorem q1132 : (Jvm.Cond.instantiable "PulseRent$Given" (1 : Nat)) ∈ lw_all := lw_g (lw_at lw_m5 38 rfl) rfl
theorem q1134 : (Jvm.Cond.instanceMethod ({ cls := "PulseRent$Given", name := "<init>", desc := "(I)V" } : Jvm.MethodName)) ∈ lw_all := lw_g (lw_at lw_m5 40 rfl) rfl
theorem q1135 : (Jvm.Cond.code ({ cls := "PulseRent$Given", name := "<init>", desc := "(I)V" } : Jvm.MethodName) prog_8_method_1_code (2 : Nat) (Option.none : Option Jvm.ClassFile.FieldType)) ∈ lw_all := lw_g (lw_at lw_m5 41 rfl) rfl
theorem q1136 : (Jvm.Cond.methodLinkNest "PulseRent$Given" (1 : Nat) ({ cls := "PulseRent$Expression", name := "<init>", desc := "()V" } : Jvm.MethodName) "PulseRent") ∈ lw_tbl := lw_at lw_m5 42 rfl
theorem q1140 : (Jvm.Cond.fieldLink "PulseRent$Given" (7 : Nat) "PulseRent$Given" "n" "I") ∈ lw_all := lw_g (lw_at lw_m5 46 rfl) rfl
theorem q1141 : (Jvm.Cond.laysFinal "PulseRent$Given" "PulseRent$Given" "n" "I") ∈ lw_all := lw_g (lw_at lw_m5 47 rfl) rfl
theorem q1142 : (Jvm.Cond.soleField "PulseRent$Given" "n") ∈ lw_all := lw_g (lw_at lw_m5 48 rfl) rfl
theorem q1143 : (Jvm.Cond.superclass "PulseRent$Given" "PulseRent$Expression") ∈ lw_all := lw_g (lw_at lw_m5 49 rfl) rfl
theorem q1454 : (Jvm.Cond.selects "PulseRent$Given" ({ cls := "PulseRent$Expression", name := "worked", desc := "([I)I" } : Jvm.MethodName) ({ cls := "PulseRent$Given", name := "worked", desc := "([I)I" } : Jvm.MethodName)) ∈ lw_all := lw_g (lw_at lw_m6 120 rfl) rfl
theorem q1455 : (Jvm.Cond.instanceMethod ({ cls := "PulseRent$Given", name := "worked", desc := "([I)I" } : Jvm.MethodName)) ∈ lw_all := lw_g (lw_at lw_m6 121 rfl) rfl
theorem q1456 : (Jvm.Cond.code ({ cls := "PulseRent$Given", name := "worked", desc := "([I)I" } : Jvm.MethodName) prog_8_method_2_code (2 : Nat) (Option.some Jvm.ClassFile.FieldType.int)) ∈ lw_all := lw_g (lw_at lw_m6 122 rfl) rfl
theorem q2389 : (Jvm.Cond.castable "PulseRent$Given" "java/lang/Object") ∈ lw_tbl := lw_at lw_m10 95 rfl
theorem in_X14 : ∀ w ∈ wsX140, w ∈ lw_all := lw_in wsX140 [1141] (by decide +kernel) (by decide +kernel)

/-! PulseRent$Fact -/
set_option maxRecDepth 100000
def RX15 : String := "PulseRent$Fact"
def TX15 : u_T := fun k => match k with
  | _ => ("PulseRent$Fact", "which", "I", true)
def tyX15 : Nat → FieldType := fun k => match k with
  | _ => .int
abbrev wsX150 : List Cond := u_ws RX15 TX15 1
theorem nmX15 : ∀ a, a < 1 → ∀ b, b < 1 → a ≠ b → (TX15 a).2.1 ≠ (TX15 b).2.1 := by decide +kernel
theorem tyX15_ok : ∀ k, k < 1 → parseFieldDescriptor (TX15 k).2.2.1 = some (tyX15 k) := by decide +kernel
abbrev cX15_init : ByteArray := prog_6_method_1_code
def yX15_init : MethodName := ⟨RX15, "<init>", "(I)V"⟩
def dkwX15_init_0 : List UInt8 := [42, 183, 0, 1, 42, 27, 181, 0, 7, 177]
abbrev dktX15_init_0 : List UInt8 := dkwX15_init_0 ++ []
theorem dksX15_init_0 : cX15_init.data.toList.drop 0 = dktX15_init_0 := by decide +kernel
theorem dX15_init_0 : decode cX15_init 0 = .ok (.aload_n 0, 1) := dk_42 (dk_at dksX15_init_0 0 rfl rfl)
theorem dX15_init_1 : decode cX15_init 1 = .ok (.invokespecial 1, 3) := dk_183 0 1 (dk_at dksX15_init_0 1 rfl rfl)
theorem dX15_init_4 : decode cX15_init 4 = .ok (.aload_n 0, 1) := dk_42 (dk_at dksX15_init_0 4 rfl rfl)
theorem dX15_init_5 : decode cX15_init 5 = .ok (.iload_n 1, 1) := dk_27 (dk_at dksX15_init_0 5 rfl rfl)
theorem dX15_init_6 : decode cX15_init 6 = .ok (.putfield 7, 3) := dk_181 0 7 (dk_at dksX15_init_0 6 rfl rfl)
theorem dX15_init_9 : decode cX15_init 9 = .ok (.return_, 1) := dk_177 (dk_at dksX15_init_0 9 rfl rfl)
abbrev cX15_worked : ByteArray := prog_6_method_2_code
def yX15_worked : MethodName := ⟨RX15, "worked", "([I)I"⟩
def dkwX15_worked_0 : List UInt8 := [43, 42, 180, 0, 7, 46, 172]
abbrev dktX15_worked_0 : List UInt8 := dkwX15_worked_0 ++ []
theorem dksX15_worked_0 : cX15_worked.data.toList.drop 0 = dktX15_worked_0 := by decide +kernel
theorem dX15_worked_0 : decode cX15_worked 0 = .ok (.aload_n 1, 1) := dk_43 (dk_at dksX15_worked_0 0 rfl rfl)
theorem dX15_worked_1 : decode cX15_worked 1 = .ok (.aload_n 0, 1) := dk_42 (dk_at dksX15_worked_0 1 rfl rfl)
theorem dX15_worked_2 : decode cX15_worked 2 = .ok (.getfield 7, 3) := dk_180 0 7 (dk_at dksX15_worked_0 2 rfl rfl)
theorem dX15_worked_5 : decode cX15_worked 5 = .ok (.iaload, 1) := dk_46 (dk_at dksX15_worked_0 5 rfl rfl)
theorem dX15_worked_6 : decode cX15_worked 6 = .ok (.ireturn, 1) := dk_172 (dk_at dksX15_worked_0 6 rfl rfl)
theorem q167 : (Jvm.Cond.initialized "PulseRent$Fact") ∈ lw_all := lw_g (lw_at lw_m1 33 rfl) rfl
theorem q936 : (Jvm.Cond.selects "PulseRent$Fact" ({ cls := "java/lang/Object", name := "getClass", desc := "()Ljava/lang/Class;" } : Jvm.MethodName) ({ cls := "java/lang/Object", name := "getClass", desc := "()Ljava/lang/Class;" } : Jvm.MethodName)) ∈ lw_all := lw_g (lw_at lw_m4 82 rfl) rfl
theorem q1145 : (Jvm.Cond.instantiable "PulseRent$Fact" (1 : Nat)) ∈ lw_all := lw_g (lw_at lw_m5 51 rfl) rfl
theorem q1147 : (Jvm.Cond.instanceMethod ({ cls := "PulseRent$Fact", name := "<init>", desc := "(I)V" } : Jvm.MethodName)) ∈ lw_all := lw_g (lw_at lw_m5 53 rfl) rfl
theorem q1148 : (Jvm.Cond.code ({ cls := "PulseRent$Fact", name := "<init>", desc := "(I)V" } : Jvm.MethodName) prog_6_method_1_code (2 : Nat) (Option.none : Option Jvm.ClassFile.FieldType)) ∈ lw_all := lw_g (lw_at lw_m5 54 rfl) rfl
theorem q1149 : (Jvm.Cond.methodLinkNest "PulseRent$Fact" (1 : Nat) ({ cls := "PulseRent$Expression", name := "<init>", desc := "()V" } : Jvm.MethodName) "PulseRent") ∈ lw_tbl := lw_at lw_m5 55 rfl
theorem q1150 : (Jvm.Cond.fieldLink "PulseRent$Fact" (7 : Nat) "PulseRent$Fact" "which" "I") ∈ lw_all := lw_g (lw_at lw_m5 56 rfl) rfl
theorem q1151 : (Jvm.Cond.laysFinal "PulseRent$Fact" "PulseRent$Fact" "which" "I") ∈ lw_all := lw_g (lw_at lw_m5 57 rfl) rfl
theorem q1152 : (Jvm.Cond.soleField "PulseRent$Fact" "which") ∈ lw_all := lw_g (lw_at lw_m5 58 rfl) rfl
theorem q1153 : (Jvm.Cond.superclass "PulseRent$Fact" "PulseRent$Expression") ∈ lw_all := lw_g (lw_at lw_m5 59 rfl) rfl
theorem q1451 : (Jvm.Cond.selects "PulseRent$Fact" ({ cls := "PulseRent$Expression", name := "worked", desc := "([I)I" } : Jvm.MethodName) ({ cls := "PulseRent$Fact", name := "worked", desc := "([I)I" } : Jvm.MethodName)) ∈ lw_all := lw_g (lw_at lw_m6 117 rfl) rfl
theorem q1452 : (Jvm.Cond.instanceMethod ({ cls := "PulseRent$Fact", name := "worked", desc := "([I)I" } : Jvm.MethodName)) ∈ lw_all := lw_g (lw_at lw_m6 118 rfl) rfl
theorem q1453 : (Jvm.Cond.code ({ cls := "PulseRent$Fact", name := "worked", desc := "([I)I" } : Jvm.MethodName) prog_6_method_2_code (2 : Nat) (Option.some Jvm.ClassFile.FieldType.int)) ∈ lw_all := lw_g (lw_at lw_m6 119 rfl) rfl
theorem q2390 : (Jvm.Cond.castable "PulseRent$Fact" "java/lang/Object") ∈ lw_tbl := lw_at lw_m10 96 rfl
theorem in_X15 : ∀ w ∈ wsX150, w ∈ lw_all := lw_in wsX150 [1151] (by decide +kernel) (by decide +kernel)

/-! PulseRent$Not -/
set_option maxRecDepth 100000
def RX16 : String := "PulseRent$Not"
def TX16 : u_T := fun k => match k with
  | _ => ("PulseRent$Not", "part", "LPulseRent$Expression;", true)
def tyX16 : Nat → FieldType := fun k => match k with
  | _ => .object "PulseRent$Expression"
abbrev wsX160 : List Cond := u_ws RX16 TX16 1
theorem nmX16 : ∀ a, a < 1 → ∀ b, b < 1 → a ≠ b → (TX16 a).2.1 ≠ (TX16 b).2.1 := by decide +kernel
theorem tyX16_ok : ∀ k, k < 1 → parseFieldDescriptor (TX16 k).2.2.1 = some (tyX16 k) := by decide +kernel
abbrev cX16_init : ByteArray := prog_15_method_1_code
def yX16_init : MethodName := ⟨RX16, "<init>", "(LPulseRent$Expression;)V"⟩
def dkwX16_init_0 : List UInt8 := [42, 183, 0, 1, 42, 43, 181, 0, 7, 177]
abbrev dktX16_init_0 : List UInt8 := dkwX16_init_0 ++ []
theorem dksX16_init_0 : cX16_init.data.toList.drop 0 = dktX16_init_0 := by decide +kernel
theorem dX16_init_0 : decode cX16_init 0 = .ok (.aload_n 0, 1) := dk_42 (dk_at dksX16_init_0 0 rfl rfl)
theorem dX16_init_1 : decode cX16_init 1 = .ok (.invokespecial 1, 3) := dk_183 0 1 (dk_at dksX16_init_0 1 rfl rfl)
theorem dX16_init_4 : decode cX16_init 4 = .ok (.aload_n 0, 1) := dk_42 (dk_at dksX16_init_0 4 rfl rfl)
theorem dX16_init_5 : decode cX16_init 5 = .ok (.aload_n 1, 1) := dk_43 (dk_at dksX16_init_0 5 rfl rfl)
theorem dX16_init_6 : decode cX16_init 6 = .ok (.putfield 7, 3) := dk_181 0 7 (dk_at dksX16_init_0 6 rfl rfl)
theorem dX16_init_9 : decode cX16_init 9 = .ok (.return_, 1) := dk_177 (dk_at dksX16_init_0 9 rfl rfl)
abbrev cX16_worked : ByteArray := prog_15_method_2_code
def yX16_worked : MethodName := ⟨RX16, "worked", "([I)I"⟩
def dkwX16_worked_0 : List UInt8 := [42, 180, 0, 7, 43, 182, 0, 13, 154, 0, 7, 4, 167, 0, 4, 3, 172]
abbrev dktX16_worked_0 : List UInt8 := dkwX16_worked_0 ++ []
theorem dksX16_worked_0 : cX16_worked.data.toList.drop 0 = dktX16_worked_0 := by decide +kernel
theorem dX16_worked_0 : decode cX16_worked 0 = .ok (.aload_n 0, 1) := dk_42 (dk_at dksX16_worked_0 0 rfl rfl)
theorem dX16_worked_1 : decode cX16_worked 1 = .ok (.getfield 7, 3) := dk_180 0 7 (dk_at dksX16_worked_0 1 rfl rfl)
theorem dX16_worked_4 : decode cX16_worked 4 = .ok (.aload_n 1, 1) := dk_43 (dk_at dksX16_worked_0 4 rfl rfl)
theorem dX16_worked_5 : decode cX16_worked 5 = .ok (.invokevirtual 13, 3) := dk_182 0 13 (dk_at dksX16_worked_0 5 rfl rfl)
theorem dX16_worked_8 : decode cX16_worked 8 = .ok (.ifCond .ne 7, 3) := dk_154 0 7 (dk_at dksX16_worked_0 8 rfl rfl)
theorem dX16_worked_11 : decode cX16_worked 11 = .ok (.iconst 1, 1) := dk_4 (dk_at dksX16_worked_0 11 rfl rfl)
theorem dX16_worked_12 : decode cX16_worked 12 = .ok (.goto 4, 3) := dk_167 0 4 (dk_at dksX16_worked_0 12 rfl rfl)
theorem dX16_worked_15 : decode cX16_worked 15 = .ok (.iconst 0, 1) := dk_3 (dk_at dksX16_worked_0 15 rfl rfl)
theorem dX16_worked_16 : decode cX16_worked 16 = .ok (.ireturn, 1) := dk_172 (dk_at dksX16_worked_0 16 rfl rfl)
theorem q168 : (Jvm.Cond.initialized "PulseRent$Not") ∈ lw_all := lw_g (lw_at lw_m1 34 rfl) rfl
theorem q944 : (Jvm.Cond.selects "PulseRent$Not" ({ cls := "java/lang/Object", name := "getClass", desc := "()Ljava/lang/Class;" } : Jvm.MethodName) ({ cls := "java/lang/Object", name := "getClass", desc := "()Ljava/lang/Class;" } : Jvm.MethodName)) ∈ lw_all := lw_g (lw_at lw_m4 90 rfl) rfl
theorem q1155 : (Jvm.Cond.instantiable "PulseRent$Not" (1 : Nat)) ∈ lw_all := lw_g (lw_at lw_m5 61 rfl) rfl
theorem q1157 : (Jvm.Cond.instanceMethod ({ cls := "PulseRent$Not", name := "<init>", desc := "(LPulseRent$Expression;)V" } : Jvm.MethodName)) ∈ lw_all := lw_g (lw_at lw_m5 63 rfl) rfl
theorem q1158 : (Jvm.Cond.code ({ cls := "PulseRent$Not", name := "<init>", desc := "(LPulseRent$Expression;)V" } : Jvm.MethodName) prog_15_method_1_code (2 : Nat) (Option.none : Option Jvm.ClassFile.FieldType)) ∈ lw_all := lw_g (lw_at lw_m5 64 rfl) rfl
theorem q1159 : (Jvm.Cond.methodLinkNest "PulseRent$Not" (1 : Nat) ({ cls := "PulseRent$Expression", name := "<init>", desc := "()V" } : Jvm.MethodName) "PulseRent") ∈ lw_tbl := lw_at lw_m5 65 rfl
theorem q1160 : (Jvm.Cond.fieldLink "PulseRent$Not" (7 : Nat) "PulseRent$Not" "part" "LPulseRent$Expression;") ∈ lw_all := lw_g (lw_at lw_m5 66 rfl) rfl
theorem q1161 : (Jvm.Cond.laysFinal "PulseRent$Not" "PulseRent$Not" "part" "LPulseRent$Expression;") ∈ lw_all := lw_g (lw_at lw_m5 67 rfl) rfl
theorem q1162 : (Jvm.Cond.soleField "PulseRent$Not" "part") ∈ lw_all := lw_g (lw_at lw_m5 68 rfl) rfl
theorem q1163 : (Jvm.Cond.superclass "PulseRent$Not" "PulseRent$Expression") ∈ lw_all := lw_g (lw_at lw_m5 69 rfl) rfl
theorem q1457 : (Jvm.Cond.selects "PulseRent$Not" ({ cls := "PulseRent$Expression", name := "worked", desc := "([I)I" } : Jvm.MethodName) ({ cls := "PulseRent$Not", name := "worked", desc := "([I)I" } : Jvm.MethodName)) ∈ lw_all := lw_g (lw_at lw_m6 123 rfl) rfl
theorem q1458 : (Jvm.Cond.instanceMethod ({ cls := "PulseRent$Not", name := "worked", desc := "([I)I" } : Jvm.MethodName)) ∈ lw_all := lw_g (lw_at lw_m6 124 rfl) rfl
theorem q1459 : (Jvm.Cond.code ({ cls := "PulseRent$Not", name := "worked", desc := "([I)I" } : Jvm.MethodName) prog_15_method_2_code (2 : Nat) (Option.some Jvm.ClassFile.FieldType.int)) ∈ lw_all := lw_g (lw_at lw_m6 125 rfl) rfl
theorem q1460 : (Jvm.Cond.methodLink "PulseRent$Not" (13 : Nat) ({ cls := "PulseRent$Expression", name := "worked", desc := "([I)I" } : Jvm.MethodName)) ∈ lw_all := lw_g (lw_at lw_m6 126 rfl) rfl
theorem q2391 : (Jvm.Cond.castable "PulseRent$Not" "java/lang/Object") ∈ lw_tbl := lw_at lw_m10 97 rfl
theorem in_X16 : ∀ w ∈ wsX160, w ∈ lw_all := lw_in wsX160 [1161] (by decide +kernel) (by decide +kernel)

/-! PulseRent$Two -/
set_option maxRecDepth 100000
def RX17 : String := "PulseRent$Two"
def TX17 : u_T := fun k => match k with
  | 0 => ("PulseRent$Two", "way", "C", true)
  | 1 => ("PulseRent$Two", "a", "LPulseRent$Expression;", true)
  | _ => ("PulseRent$Two", "b", "LPulseRent$Expression;", true)
def tyX17 : Nat → FieldType := fun k => match k with
  | 0 => .char
  | 1 => .object "PulseRent$Expression"
  | _ => .object "PulseRent$Expression"
abbrev wsX170 : List Cond := u_ws RX17 TX17 3
theorem nmX17 : ∀ a, a < 3 → ∀ b, b < 3 → a ≠ b → (TX17 a).2.1 ≠ (TX17 b).2.1 := by decide +kernel
theorem tyX17_ok : ∀ k, k < 3 → parseFieldDescriptor (TX17 k).2.2.1 = some (tyX17 k) := by decide +kernel
abbrev cX17_init : ByteArray := prog_23_method_1_code
def yX17_init : MethodName := ⟨RX17, "<init>", "(CLPulseRent$Expression;LPulseRent$Expression;)V"⟩
def dkwX17_init_0 : List UInt8 := [42, 183, 0, 1, 42, 27, 181, 0, 7, 42, 44, 181, 0, 13, 42, 45, 181, 0, 17, 177]
abbrev dktX17_init_0 : List UInt8 := dkwX17_init_0 ++ []
theorem dksX17_init_0 : cX17_init.data.toList.drop 0 = dktX17_init_0 := by decide +kernel
theorem dX17_init_0 : decode cX17_init 0 = .ok (.aload_n 0, 1) := dk_42 (dk_at dksX17_init_0 0 rfl rfl)
theorem dX17_init_1 : decode cX17_init 1 = .ok (.invokespecial 1, 3) := dk_183 0 1 (dk_at dksX17_init_0 1 rfl rfl)
theorem dX17_init_4 : decode cX17_init 4 = .ok (.aload_n 0, 1) := dk_42 (dk_at dksX17_init_0 4 rfl rfl)
theorem dX17_init_5 : decode cX17_init 5 = .ok (.iload_n 1, 1) := dk_27 (dk_at dksX17_init_0 5 rfl rfl)
theorem dX17_init_6 : decode cX17_init 6 = .ok (.putfield 7, 3) := dk_181 0 7 (dk_at dksX17_init_0 6 rfl rfl)
theorem dX17_init_9 : decode cX17_init 9 = .ok (.aload_n 0, 1) := dk_42 (dk_at dksX17_init_0 9 rfl rfl)
theorem dX17_init_10 : decode cX17_init 10 = .ok (.aload_n 2, 1) := dk_44 (dk_at dksX17_init_0 10 rfl rfl)
theorem dX17_init_11 : decode cX17_init 11 = .ok (.putfield 13, 3) := dk_181 0 13 (dk_at dksX17_init_0 11 rfl rfl)
theorem dX17_init_14 : decode cX17_init 14 = .ok (.aload_n 0, 1) := dk_42 (dk_at dksX17_init_0 14 rfl rfl)
theorem dX17_init_15 : decode cX17_init 15 = .ok (.aload_n 3, 1) := dk_45 (dk_at dksX17_init_0 15 rfl rfl)
theorem dX17_init_16 : decode cX17_init 16 = .ok (.putfield 17, 3) := dk_181 0 17 (dk_at dksX17_init_0 16 rfl rfl)
theorem dX17_init_19 : decode cX17_init 19 = .ok (.return_, 1) := dk_177 (dk_at dksX17_init_0 19 rfl rfl)
abbrev cX17_worked : ByteArray := prog_23_method_2_code
def yX17_worked : MethodName := ⟨RX17, "worked", "([I)I"⟩
def dkwX17_worked_4 : List UInt8 := [28, 154, 0, 7, 29, 153, 0, 7, 4, 167, 0, 4, 3, 172]
abbrev dktX17_worked_4 : List UInt8 := dkwX17_worked_4 ++ []
def dkwX17_worked_3 : List UInt8 := [29, 160, 0, 7, 4, 167, 0, 4, 3, 172, 28, 153, 0, 11, 29, 153, 0, 7, 4, 167, 0, 4, 3, 172]
abbrev dktX17_worked_3 : List UInt8 := dkwX17_worked_3 ++ dktX17_worked_4
def dkwX17_worked_2 : List UInt8 := [28, 29, 96, 172, 28, 29, 100, 172, 28, 29, 104, 172, 28, 29, 162, 0, 7, 4, 167, 0, 4, 3, 172, 28]
abbrev dktX17_worked_2 : List UInt8 := dkwX17_worked_2 ++ dktX17_worked_3
def dkwX17_worked_1 : List UInt8 := [171, 0, 0, 0, 0, 106, 0, 0, 0, 6, 0, 0, 0, 38, 0, 0, 0, 92, 0, 0, 0, 42, 0, 0, 0, 66, 0, 0, 0, 43, 0, 0, 0, 58, 0, 0, 0, 45, 0, 0, 0, 62, 0, 0, 0, 60, 0, 0, 0, 70, 0, 0, 0, 61, 0, 0, 0, 81]
abbrev dktX17_worked_1 : List UInt8 := dkwX17_worked_1 ++ dktX17_worked_2
def dkwX17_worked_0 : List UInt8 := [42, 180, 0, 13, 43, 182, 0, 20, 61, 42, 180, 0, 17, 43, 182, 0, 20, 62, 42, 180, 0, 7]
abbrev dktX17_worked_0 : List UInt8 := dkwX17_worked_0 ++ dktX17_worked_1
theorem dksX17_worked_0 : cX17_worked.data.toList.drop 0 = dktX17_worked_0 := by decide +kernel
theorem dksX17_worked_1 : cX17_worked.data.toList.drop 22 = dktX17_worked_1 := dk_seg dksX17_worked_0 22 rfl rfl
theorem dksX17_worked_2 : cX17_worked.data.toList.drop 80 = dktX17_worked_2 := dk_seg dksX17_worked_1 58 rfl rfl
theorem dksX17_worked_3 : cX17_worked.data.toList.drop 104 = dktX17_worked_3 := dk_seg dksX17_worked_2 24 rfl rfl
theorem dksX17_worked_4 : cX17_worked.data.toList.drop 128 = dktX17_worked_4 := dk_seg dksX17_worked_3 24 rfl rfl
theorem dX17_worked_0 : decode cX17_worked 0 = .ok (.aload_n 0, 1) := dk_42 (dk_at dksX17_worked_0 0 rfl rfl)
theorem dX17_worked_1 : decode cX17_worked 1 = .ok (.getfield 13, 3) := dk_180 0 13 (dk_at dksX17_worked_0 1 rfl rfl)
theorem dX17_worked_4 : decode cX17_worked 4 = .ok (.aload_n 1, 1) := dk_43 (dk_at dksX17_worked_0 4 rfl rfl)
theorem dX17_worked_5 : decode cX17_worked 5 = .ok (.invokevirtual 20, 3) := dk_182 0 20 (dk_at dksX17_worked_0 5 rfl rfl)
theorem dX17_worked_8 : decode cX17_worked 8 = .ok (.istore_n 2, 1) := dk_61 (dk_at dksX17_worked_0 8 rfl rfl)
theorem dX17_worked_9 : decode cX17_worked 9 = .ok (.aload_n 0, 1) := dk_42 (dk_at dksX17_worked_0 9 rfl rfl)
theorem dX17_worked_10 : decode cX17_worked 10 = .ok (.getfield 17, 3) := dk_180 0 17 (dk_at dksX17_worked_0 10 rfl rfl)
theorem dX17_worked_13 : decode cX17_worked 13 = .ok (.aload_n 1, 1) := dk_43 (dk_at dksX17_worked_0 13 rfl rfl)
theorem dX17_worked_14 : decode cX17_worked 14 = .ok (.invokevirtual 20, 3) := dk_182 0 20 (dk_at dksX17_worked_0 14 rfl rfl)
theorem dX17_worked_17 : decode cX17_worked 17 = .ok (.istore_n 3, 1) := dk_62 (dk_at dksX17_worked_0 17 rfl rfl)
theorem dX17_worked_18 : decode cX17_worked 18 = .ok (.aload_n 0, 1) := dk_42 (dk_at dksX17_worked_0 18 rfl rfl)
theorem dX17_worked_19 : decode cX17_worked 19 = .ok (.getfield 7, 3) := dk_180 0 7 (dk_at dksX17_worked_0 19 rfl rfl)
theorem dX17_worked_22 : decode cX17_worked 22 = .ok (.lookupswitch 106 #[(38, 92), (42, 66), (43, 58), (45, 62), (60, 70), (61, 81)], 58) := by decide +kernel
theorem dX17_worked_80 : decode cX17_worked 80 = .ok (.iload_n 2, 1) := dk_28 (dk_at dksX17_worked_2 0 rfl rfl)
theorem dX17_worked_81 : decode cX17_worked 81 = .ok (.iload_n 3, 1) := dk_29 (dk_at dksX17_worked_2 1 rfl rfl)
theorem dX17_worked_82 : decode cX17_worked 82 = .ok (.iadd, 1) := dk_96 (dk_at dksX17_worked_2 2 rfl rfl)
theorem dX17_worked_83 : decode cX17_worked 83 = .ok (.ireturn, 1) := dk_172 (dk_at dksX17_worked_2 3 rfl rfl)
theorem dX17_worked_84 : decode cX17_worked 84 = .ok (.iload_n 2, 1) := dk_28 (dk_at dksX17_worked_2 4 rfl rfl)
theorem dX17_worked_85 : decode cX17_worked 85 = .ok (.iload_n 3, 1) := dk_29 (dk_at dksX17_worked_2 5 rfl rfl)
theorem dX17_worked_86 : decode cX17_worked 86 = .ok (.isub, 1) := dk_100 (dk_at dksX17_worked_2 6 rfl rfl)
theorem dX17_worked_87 : decode cX17_worked 87 = .ok (.ireturn, 1) := dk_172 (dk_at dksX17_worked_2 7 rfl rfl)
theorem dX17_worked_88 : decode cX17_worked 88 = .ok (.iload_n 2, 1) := dk_28 (dk_at dksX17_worked_2 8 rfl rfl)
theorem dX17_worked_89 : decode cX17_worked 89 = .ok (.iload_n 3, 1) := dk_29 (dk_at dksX17_worked_2 9 rfl rfl)
theorem dX17_worked_90 : decode cX17_worked 90 = .ok (.imul, 1) := dk_104 (dk_at dksX17_worked_2 10 rfl rfl)
theorem dX17_worked_91 : decode cX17_worked 91 = .ok (.ireturn, 1) := dk_172 (dk_at dksX17_worked_2 11 rfl rfl)
theorem dX17_worked_92 : decode cX17_worked 92 = .ok (.iload_n 2, 1) := dk_28 (dk_at dksX17_worked_2 12 rfl rfl)
theorem dX17_worked_93 : decode cX17_worked 93 = .ok (.iload_n 3, 1) := dk_29 (dk_at dksX17_worked_2 13 rfl rfl)
theorem dX17_worked_94 : decode cX17_worked 94 = .ok (.if_icmp .ge 7, 3) := dk_162 0 7 (dk_at dksX17_worked_2 14 rfl rfl)
theorem dX17_worked_97 : decode cX17_worked 97 = .ok (.iconst 1, 1) := dk_4 (dk_at dksX17_worked_2 17 rfl rfl)
theorem dX17_worked_98 : decode cX17_worked 98 = .ok (.goto 4, 3) := dk_167 0 4 (dk_at dksX17_worked_2 18 rfl rfl)
theorem dX17_worked_101 : decode cX17_worked 101 = .ok (.iconst 0, 1) := dk_3 (dk_at dksX17_worked_2 21 rfl rfl)
theorem dX17_worked_102 : decode cX17_worked 102 = .ok (.ireturn, 1) := dk_172 (dk_at dksX17_worked_2 22 rfl rfl)
theorem dX17_worked_103 : decode cX17_worked 103 = .ok (.iload_n 2, 1) := dk_28 (dk_at dksX17_worked_2 23 rfl rfl)
theorem dX17_worked_104 : decode cX17_worked 104 = .ok (.iload_n 3, 1) := dk_29 (dk_at dksX17_worked_3 0 rfl rfl)
theorem dX17_worked_105 : decode cX17_worked 105 = .ok (.if_icmp .ne 7, 3) := dk_160 0 7 (dk_at dksX17_worked_3 1 rfl rfl)
theorem dX17_worked_108 : decode cX17_worked 108 = .ok (.iconst 1, 1) := dk_4 (dk_at dksX17_worked_3 4 rfl rfl)
theorem dX17_worked_109 : decode cX17_worked 109 = .ok (.goto 4, 3) := dk_167 0 4 (dk_at dksX17_worked_3 5 rfl rfl)
theorem dX17_worked_112 : decode cX17_worked 112 = .ok (.iconst 0, 1) := dk_3 (dk_at dksX17_worked_3 8 rfl rfl)
theorem dX17_worked_113 : decode cX17_worked 113 = .ok (.ireturn, 1) := dk_172 (dk_at dksX17_worked_3 9 rfl rfl)
theorem dX17_worked_114 : decode cX17_worked 114 = .ok (.iload_n 2, 1) := dk_28 (dk_at dksX17_worked_3 10 rfl rfl)
theorem dX17_worked_115 : decode cX17_worked 115 = .ok (.ifCond .eq 11, 3) := dk_153 0 11 (dk_at dksX17_worked_3 11 rfl rfl)
theorem dX17_worked_118 : decode cX17_worked 118 = .ok (.iload_n 3, 1) := dk_29 (dk_at dksX17_worked_3 14 rfl rfl)
theorem dX17_worked_119 : decode cX17_worked 119 = .ok (.ifCond .eq 7, 3) := dk_153 0 7 (dk_at dksX17_worked_3 15 rfl rfl)
theorem dX17_worked_122 : decode cX17_worked 122 = .ok (.iconst 1, 1) := dk_4 (dk_at dksX17_worked_3 18 rfl rfl)
theorem dX17_worked_123 : decode cX17_worked 123 = .ok (.goto 4, 3) := dk_167 0 4 (dk_at dksX17_worked_3 19 rfl rfl)
theorem dX17_worked_126 : decode cX17_worked 126 = .ok (.iconst 0, 1) := dk_3 (dk_at dksX17_worked_3 22 rfl rfl)
theorem dX17_worked_127 : decode cX17_worked 127 = .ok (.ireturn, 1) := dk_172 (dk_at dksX17_worked_3 23 rfl rfl)
theorem dX17_worked_128 : decode cX17_worked 128 = .ok (.iload_n 2, 1) := dk_28 (dk_at dksX17_worked_4 0 rfl rfl)
theorem dX17_worked_129 : decode cX17_worked 129 = .ok (.ifCond .ne 7, 3) := dk_154 0 7 (dk_at dksX17_worked_4 1 rfl rfl)
theorem dX17_worked_132 : decode cX17_worked 132 = .ok (.iload_n 3, 1) := dk_29 (dk_at dksX17_worked_4 4 rfl rfl)
theorem dX17_worked_133 : decode cX17_worked 133 = .ok (.ifCond .eq 7, 3) := dk_153 0 7 (dk_at dksX17_worked_4 5 rfl rfl)
theorem dX17_worked_136 : decode cX17_worked 136 = .ok (.iconst 1, 1) := dk_4 (dk_at dksX17_worked_4 8 rfl rfl)
theorem dX17_worked_137 : decode cX17_worked 137 = .ok (.goto 4, 3) := dk_167 0 4 (dk_at dksX17_worked_4 9 rfl rfl)
theorem dX17_worked_140 : decode cX17_worked 140 = .ok (.iconst 0, 1) := dk_3 (dk_at dksX17_worked_4 12 rfl rfl)
theorem dX17_worked_141 : decode cX17_worked 141 = .ok (.ireturn, 1) := dk_172 (dk_at dksX17_worked_4 13 rfl rfl)
theorem q169 : (Jvm.Cond.initialized "PulseRent$Two") ∈ lw_all := lw_g (lw_at lw_m1 35 rfl) rfl
theorem q952 : (Jvm.Cond.selects "PulseRent$Two" ({ cls := "java/lang/Object", name := "getClass", desc := "()Ljava/lang/Class;" } : Jvm.MethodName) ({ cls := "java/lang/Object", name := "getClass", desc := "()Ljava/lang/Class;" } : Jvm.MethodName)) ∈ lw_all := lw_g (lw_at lw_m4 98 rfl) rfl
theorem q1169 : (Jvm.Cond.instantiable "PulseRent$Two" (3 : Nat)) ∈ lw_all := lw_g (lw_at lw_m5 75 rfl) rfl
theorem q1171 : (Jvm.Cond.instanceMethod ({ cls := "PulseRent$Two", name := "<init>", desc := "(CLPulseRent$Expression;LPulseRent$Expression;)V" } : Jvm.MethodName)) ∈ lw_all := lw_g (lw_at lw_m5 77 rfl) rfl
theorem q1172 : (Jvm.Cond.code ({ cls := "PulseRent$Two", name := "<init>", desc := "(CLPulseRent$Expression;LPulseRent$Expression;)V" } : Jvm.MethodName) prog_23_method_1_code (4 : Nat) (Option.none : Option Jvm.ClassFile.FieldType)) ∈ lw_all := lw_g (lw_at lw_m5 78 rfl) rfl
theorem q1173 : (Jvm.Cond.methodLinkNest "PulseRent$Two" (1 : Nat) ({ cls := "PulseRent$Expression", name := "<init>", desc := "()V" } : Jvm.MethodName) "PulseRent") ∈ lw_tbl := lw_at lw_m5 79 rfl
theorem q1174 : (Jvm.Cond.fieldLink "PulseRent$Two" (7 : Nat) "PulseRent$Two" "way" "C") ∈ lw_all := lw_g (lw_at lw_m5 80 rfl) rfl
theorem q1175 : (Jvm.Cond.fieldLink "PulseRent$Two" (13 : Nat) "PulseRent$Two" "a" "LPulseRent$Expression;") ∈ lw_all := lw_g (lw_at lw_m5 81 rfl) rfl
theorem q1176 : (Jvm.Cond.fieldLink "PulseRent$Two" (17 : Nat) "PulseRent$Two" "b" "LPulseRent$Expression;") ∈ lw_all := lw_g (lw_at lw_m5 82 rfl) rfl
theorem q1177 : (Jvm.Cond.laysFinal "PulseRent$Two" "PulseRent$Two" "way" "C") ∈ lw_all := lw_g (lw_at lw_m5 83 rfl) rfl
theorem q1178 : (Jvm.Cond.soleField "PulseRent$Two" "way") ∈ lw_all := lw_g (lw_at lw_m5 84 rfl) rfl
theorem q1179 : (Jvm.Cond.laysFinal "PulseRent$Two" "PulseRent$Two" "a" "LPulseRent$Expression;") ∈ lw_all := lw_g (lw_at lw_m5 85 rfl) rfl
theorem q1180 : (Jvm.Cond.soleField "PulseRent$Two" "a") ∈ lw_all := lw_g (lw_at lw_m5 86 rfl) rfl
theorem q1181 : (Jvm.Cond.laysFinal "PulseRent$Two" "PulseRent$Two" "b" "LPulseRent$Expression;") ∈ lw_all := lw_g (lw_at lw_m5 87 rfl) rfl
theorem q1182 : (Jvm.Cond.soleField "PulseRent$Two" "b") ∈ lw_all := lw_g (lw_at lw_m5 88 rfl) rfl
theorem q1183 : (Jvm.Cond.superclass "PulseRent$Two" "PulseRent$Expression") ∈ lw_all := lw_g (lw_at lw_m5 89 rfl) rfl
theorem q1461 : (Jvm.Cond.instanceMethod ({ cls := "PulseRent$Two", name := "worked", desc := "([I)I" } : Jvm.MethodName)) ∈ lw_all := lw_g (lw_at lw_m6 127 rfl) rfl
theorem q1462 : (Jvm.Cond.code ({ cls := "PulseRent$Two", name := "worked", desc := "([I)I" } : Jvm.MethodName) prog_23_method_2_code (4 : Nat) (Option.some Jvm.ClassFile.FieldType.int)) ∈ lw_all := lw_g (lw_at lw_m6 128 rfl) rfl
theorem q1463 : (Jvm.Cond.methodLink "PulseRent$Two" (20 : Nat) ({ cls := "PulseRent$Expression", name := "worked", desc := "([I)I" } : Jvm.MethodName)) ∈ lw_all := lw_g (lw_at lw_m6 129 rfl) rfl
theorem q1464 : (Jvm.Cond.selects "PulseRent$Two" ({ cls := "PulseRent$Expression", name := "worked", desc := "([I)I" } : Jvm.MethodName) ({ cls := "PulseRent$Two", name := "worked", desc := "([I)I" } : Jvm.MethodName)) ∈ lw_all := lw_g (lw_at lw_m6 130 rfl) rfl
theorem q2392 : (Jvm.Cond.castable "PulseRent$Two" "java/lang/Object") ∈ lw_tbl := lw_at lw_m10 98 rfl
theorem in_X17 : ∀ w ∈ wsX170, w ∈ lw_all := lw_in wsX170 [1177, 1179, 1181] (by decide +kernel) (by decide +kernel)

/-! PulseRent$Line -/
set_option maxRecDepth 100000
def RX18 : String := "PulseRent$Line"
abbrev cX18_init : ByteArray := prog_10_method_1_code
def yX18_init : MethodName := ⟨RX18, "<init>", "()V"⟩
theorem dX18_init_0 : decode cX18_init 0 = .ok (.aload_n 0, 1) := by decide +kernel
theorem dX18_init_1 : decode cX18_init 1 = .ok (.invokespecial 1, 3) := by decide +kernel
theorem dX18_init_4 : decode cX18_init 4 = .ok (.return_, 1) := by decide +kernel
theorem q170 : (Jvm.Cond.initialized "PulseRent$Line") ∈ lw_all := lw_g (lw_at lw_m1 36 rfl) rfl
theorem q1207 : (Jvm.Cond.instanceMethod ({ cls := "PulseRent$Line", name := "<init>", desc := "()V" } : Jvm.MethodName)) ∈ lw_all := lw_g (lw_at lw_m5 113 rfl) rfl
theorem q1208 : (Jvm.Cond.code ({ cls := "PulseRent$Line", name := "<init>", desc := "()V" } : Jvm.MethodName) prog_10_method_1_code (1 : Nat) (Option.none : Option Jvm.ClassFile.FieldType)) ∈ lw_all := lw_g (lw_at lw_m5 114 rfl) rfl
theorem q1209 : (Jvm.Cond.methodLink "PulseRent$Line" (1 : Nat) ({ cls := "java/lang/Object", name := "<init>", desc := "()V" } : Jvm.MethodName)) ∈ lw_all := lw_g (lw_at lw_m5 115 rfl) rfl
theorem q1493 : (Jvm.Cond.declares ({ cls := "PulseRent$Line", name := "isDone", desc := "(LPulseRent;LPulseRent$State;)Z" } : Jvm.MethodName)) ∈ lw_tbl := lw_at lw_m6 159 rfl
theorem q1494 : (Jvm.Cond.sameMethod "PulseRent$Line" "PulseRent$Line" "isDone" "(LPulseRent;LPulseRent$State;)Z") ∈ lw_all := lw_g (lw_at lw_m6 160 rfl) rfl

/-! PulseRent$Passed -/
set_option maxRecDepth 100000
def RX19 : String := "PulseRent$Passed"
def TX19 : u_T := fun k => match k with
  | _ => ("PulseRent$Passed", "minutes", "I", true)
def tyX19 : Nat → FieldType := fun k => match k with
  | _ => .int
abbrev wsX190 : List Cond := u_ws RX19 TX19 1
theorem nmX19 : ∀ a, a < 1 → ∀ b, b < 1 → a ≠ b → (TX19 a).2.1 ≠ (TX19 b).2.1 := by decide +kernel
theorem tyX19_ok : ∀ k, k < 1 → parseFieldDescriptor (TX19 k).2.2.1 = some (tyX19 k) := by decide +kernel
abbrev cX19_init : ByteArray := prog_16_method_1_code
def yX19_init : MethodName := ⟨RX19, "<init>", "(I)V"⟩
def dkwX19_init_0 : List UInt8 := [42, 183, 0, 1, 42, 27, 181, 0, 7, 177]
abbrev dktX19_init_0 : List UInt8 := dkwX19_init_0 ++ []
theorem dksX19_init_0 : cX19_init.data.toList.drop 0 = dktX19_init_0 := by decide +kernel
theorem dX19_init_0 : decode cX19_init 0 = .ok (.aload_n 0, 1) := dk_42 (dk_at dksX19_init_0 0 rfl rfl)
theorem dX19_init_1 : decode cX19_init 1 = .ok (.invokespecial 1, 3) := dk_183 0 1 (dk_at dksX19_init_0 1 rfl rfl)
theorem dX19_init_4 : decode cX19_init 4 = .ok (.aload_n 0, 1) := dk_42 (dk_at dksX19_init_0 4 rfl rfl)
theorem dX19_init_5 : decode cX19_init 5 = .ok (.iload_n 1, 1) := dk_27 (dk_at dksX19_init_0 5 rfl rfl)
theorem dX19_init_6 : decode cX19_init 6 = .ok (.putfield 7, 3) := dk_181 0 7 (dk_at dksX19_init_0 6 rfl rfl)
theorem dX19_init_9 : decode cX19_init 9 = .ok (.return_, 1) := dk_177 (dk_at dksX19_init_0 9 rfl rfl)
abbrev cX19_isDone : ByteArray := prog_16_method_2_code
def yX19_isDone : MethodName := ⟨RX19, "isDone", "(LPulseRent;LPulseRent$State;)Z"⟩
def dkwX19_isDone_0 : List UInt8 := [43, 44, 42, 180, 0, 7, 182, 0, 13, 4, 172]
abbrev dktX19_isDone_0 : List UInt8 := dkwX19_isDone_0 ++ []
theorem dksX19_isDone_0 : cX19_isDone.data.toList.drop 0 = dktX19_isDone_0 := by decide +kernel
theorem dX19_isDone_0 : decode cX19_isDone 0 = .ok (.aload_n 1, 1) := dk_43 (dk_at dksX19_isDone_0 0 rfl rfl)
theorem dX19_isDone_1 : decode cX19_isDone 1 = .ok (.aload_n 2, 1) := dk_44 (dk_at dksX19_isDone_0 1 rfl rfl)
theorem dX19_isDone_2 : decode cX19_isDone 2 = .ok (.aload_n 0, 1) := dk_42 (dk_at dksX19_isDone_0 2 rfl rfl)
theorem dX19_isDone_3 : decode cX19_isDone 3 = .ok (.getfield 7, 3) := dk_180 0 7 (dk_at dksX19_isDone_0 3 rfl rfl)
theorem dX19_isDone_6 : decode cX19_isDone 6 = .ok (.invokevirtual 13, 3) := dk_182 0 13 (dk_at dksX19_isDone_0 6 rfl rfl)
theorem dX19_isDone_9 : decode cX19_isDone 9 = .ok (.iconst 1, 1) := dk_4 (dk_at dksX19_isDone_0 9 rfl rfl)
theorem dX19_isDone_10 : decode cX19_isDone 10 = .ok (.ireturn, 1) := dk_172 (dk_at dksX19_isDone_0 10 rfl rfl)
theorem q171 : (Jvm.Cond.initialized "PulseRent$Passed") ∈ lw_all := lw_g (lw_at lw_m1 37 rfl) rfl
theorem q945 : (Jvm.Cond.selects "PulseRent$Passed" ({ cls := "java/lang/Object", name := "getClass", desc := "()Ljava/lang/Class;" } : Jvm.MethodName) ({ cls := "java/lang/Object", name := "getClass", desc := "()Ljava/lang/Class;" } : Jvm.MethodName)) ∈ lw_all := lw_g (lw_at lw_m4 91 rfl) rfl
theorem q1202 : (Jvm.Cond.instantiable "PulseRent$Passed" (1 : Nat)) ∈ lw_all := lw_g (lw_at lw_m5 108 rfl) rfl
theorem q1204 : (Jvm.Cond.instanceMethod ({ cls := "PulseRent$Passed", name := "<init>", desc := "(I)V" } : Jvm.MethodName)) ∈ lw_all := lw_g (lw_at lw_m5 110 rfl) rfl
theorem q1205 : (Jvm.Cond.code ({ cls := "PulseRent$Passed", name := "<init>", desc := "(I)V" } : Jvm.MethodName) prog_16_method_1_code (2 : Nat) (Option.none : Option Jvm.ClassFile.FieldType)) ∈ lw_all := lw_g (lw_at lw_m5 111 rfl) rfl
theorem q1206 : (Jvm.Cond.methodLinkNest "PulseRent$Passed" (1 : Nat) ({ cls := "PulseRent$Line", name := "<init>", desc := "()V" } : Jvm.MethodName) "PulseRent") ∈ lw_tbl := lw_at lw_m5 112 rfl
theorem q1210 : (Jvm.Cond.fieldLink "PulseRent$Passed" (7 : Nat) "PulseRent$Passed" "minutes" "I") ∈ lw_all := lw_g (lw_at lw_m5 116 rfl) rfl
theorem q1211 : (Jvm.Cond.laysFinal "PulseRent$Passed" "PulseRent$Passed" "minutes" "I") ∈ lw_all := lw_g (lw_at lw_m5 117 rfl) rfl
theorem q1212 : (Jvm.Cond.soleField "PulseRent$Passed" "minutes") ∈ lw_all := lw_g (lw_at lw_m5 118 rfl) rfl
theorem q1213 : (Jvm.Cond.superclass "PulseRent$Passed" "PulseRent$Line") ∈ lw_all := lw_g (lw_at lw_m5 119 rfl) rfl
theorem q1517 : (Jvm.Cond.selects "PulseRent$Passed" ({ cls := "PulseRent$Line", name := "isDone", desc := "(LPulseRent;LPulseRent$State;)Z" } : Jvm.MethodName) ({ cls := "PulseRent$Passed", name := "isDone", desc := "(LPulseRent;LPulseRent$State;)Z" } : Jvm.MethodName)) ∈ lw_all := lw_g (lw_at lw_m6 183 rfl) rfl
theorem q1518 : (Jvm.Cond.instanceMethod ({ cls := "PulseRent$Passed", name := "isDone", desc := "(LPulseRent;LPulseRent$State;)Z" } : Jvm.MethodName)) ∈ lw_all := lw_g (lw_at lw_m6 184 rfl) rfl
theorem q1519 : (Jvm.Cond.code ({ cls := "PulseRent$Passed", name := "isDone", desc := "(LPulseRent;LPulseRent$State;)Z" } : Jvm.MethodName) prog_16_method_2_code (3 : Nat) (Option.some Jvm.ClassFile.FieldType.boolean)) ∈ lw_all := lw_g (lw_at lw_m6 185 rfl) rfl
theorem q1520 : (Jvm.Cond.methodLinkNest "PulseRent$Passed" (13 : Nat) ({ cls := "PulseRent", name := "pass", desc := "(LPulseRent$State;I)V" } : Jvm.MethodName) "PulseRent") ∈ lw_tbl := lw_at lw_m6 186 rfl
theorem q2372 : (Jvm.Cond.castable "PulseRent$Passed" "PulseRent$Line") ∈ lw_tbl := lw_at lw_m10 78 rfl
theorem q2393 : (Jvm.Cond.castable "PulseRent$Passed" "java/lang/Object") ∈ lw_tbl := lw_at lw_m10 99 rfl
theorem in_X19 : ∀ w ∈ wsX190, w ∈ lw_all := lw_in wsX190 [1211] (by decide +kernel) (by decide +kernel)

/-! PulseRent$Reader -/
set_option maxRecDepth 100000
def RX2 : String := "PulseRent$Reader"
def TX2 : u_T := fun k => match k with
  | 0 => ("PulseRent$Reader", "text", "[B", false)
  | 1 => ("PulseRent$Reader", "size", "I", false)
  | 2 => ("PulseRent$Reader", "to", "I", false)
  | 3 => ("PulseRent$Reader", "kind", "I", false)
  | 4 => ("PulseRent$Reader", "from", "I", false)
  | 5 => ("PulseRent$Reader", "value", "I", false)
  | 6 => ("PulseRent$Reader", "within", "I", false)
  | 7 => ("PulseRent$Reader", "house", "LPulseRent$House;", false)
  | _ => ("PulseRent$Reader", "factWords", "Ljava/lang/String;", false)
def tyX2 : Nat → FieldType := fun k => match k with
  | 0 => .array .byte
  | 1 => .int
  | 2 => .int
  | 3 => .int
  | 4 => .int
  | 5 => .int
  | 6 => .int
  | 7 => .object "PulseRent$House"
  | _ => .object "java/lang/String"
abbrev wsX20 : List Cond := u_ws RX2 TX2 9
theorem nmX2 : ∀ a, a < 9 → ∀ b, b < 9 → a ≠ b → (TX2 a).2.1 ≠ (TX2 b).2.1 := by decide +kernel
theorem tyX2_ok : ∀ k, k < 9 → parseFieldDescriptor (TX2 k).2.2.1 = some (tyX2 k) := by decide +kernel
abbrev cX2_init : ByteArray := prog_17_method_1_code
def yX2_init : MethodName := ⟨RX2, "<init>", "()V"⟩
theorem dX2_init_0 : decode cX2_init 0 = .ok (.aload_n 0, 1) := by decide +kernel
theorem dX2_init_1 : decode cX2_init 1 = .ok (.invokespecial 3, 3) := by decide +kernel
theorem dX2_init_4 : decode cX2_init 4 = .ok (.return_, 1) := by decide +kernel
abbrev cX2_begin : ByteArray := prog_17_method_2_code
def yX2_begin : MethodName := ⟨RX2, "begin", "([BI)V"⟩
def dkwX2_begin_1 : List UInt8 := [177]
abbrev dktX2_begin_1 : List UInt8 := dkwX2_begin_1 ++ []
def dkwX2_begin_0 : List UInt8 := [42, 43, 181, 0, 9, 42, 28, 181, 0, 15, 42, 3, 181, 0, 19, 42, 3, 181, 0, 22, 42, 182, 0, 25]
abbrev dktX2_begin_0 : List UInt8 := dkwX2_begin_0 ++ dktX2_begin_1
theorem dksX2_begin_0 : cX2_begin.data.toList.drop 0 = dktX2_begin_0 := by decide +kernel
theorem dksX2_begin_1 : cX2_begin.data.toList.drop 24 = dktX2_begin_1 := dk_seg dksX2_begin_0 24 rfl rfl
theorem dX2_begin_0 : decode cX2_begin 0 = .ok (.aload_n 0, 1) := dk_42 (dk_at dksX2_begin_0 0 rfl rfl)
theorem dX2_begin_1 : decode cX2_begin 1 = .ok (.aload_n 1, 1) := dk_43 (dk_at dksX2_begin_0 1 rfl rfl)
theorem dX2_begin_2 : decode cX2_begin 2 = .ok (.putfield 9, 3) := dk_181 0 9 (dk_at dksX2_begin_0 2 rfl rfl)
theorem dX2_begin_5 : decode cX2_begin 5 = .ok (.aload_n 0, 1) := dk_42 (dk_at dksX2_begin_0 5 rfl rfl)
theorem dX2_begin_6 : decode cX2_begin 6 = .ok (.iload_n 2, 1) := dk_28 (dk_at dksX2_begin_0 6 rfl rfl)
theorem dX2_begin_7 : decode cX2_begin 7 = .ok (.putfield 15, 3) := dk_181 0 15 (dk_at dksX2_begin_0 7 rfl rfl)
theorem dX2_begin_10 : decode cX2_begin 10 = .ok (.aload_n 0, 1) := dk_42 (dk_at dksX2_begin_0 10 rfl rfl)
theorem dX2_begin_11 : decode cX2_begin 11 = .ok (.iconst 0, 1) := dk_3 (dk_at dksX2_begin_0 11 rfl rfl)
theorem dX2_begin_12 : decode cX2_begin 12 = .ok (.putfield 19, 3) := dk_181 0 19 (dk_at dksX2_begin_0 12 rfl rfl)
theorem dX2_begin_15 : decode cX2_begin 15 = .ok (.aload_n 0, 1) := dk_42 (dk_at dksX2_begin_0 15 rfl rfl)
theorem dX2_begin_16 : decode cX2_begin 16 = .ok (.iconst 0, 1) := dk_3 (dk_at dksX2_begin_0 16 rfl rfl)
theorem dX2_begin_17 : decode cX2_begin 17 = .ok (.putfield 22, 3) := dk_181 0 22 (dk_at dksX2_begin_0 17 rfl rfl)
theorem dX2_begin_20 : decode cX2_begin 20 = .ok (.aload_n 0, 1) := dk_42 (dk_at dksX2_begin_0 20 rfl rfl)
theorem dX2_begin_21 : decode cX2_begin 21 = .ok (.invokevirtual 25, 3) := dk_182 0 25 (dk_at dksX2_begin_0 21 rfl rfl)
theorem dX2_begin_24 : decode cX2_begin 24 = .ok (.return_, 1) := dk_177 (dk_at dksX2_begin_1 0 rfl rfl)
abbrev cX2_next : ByteArray := prog_17_method_6_code
def yX2_next : MethodName := ⟨RX2, "next", "()V"⟩
def dkwX2_next_12 : List UInt8 := [6, 167, 0, 4, 7, 181, 0, 31, 42, 89, 180, 0, 19, 4, 96, 181, 0, 19, 177]
abbrev dktX2_next_12 : List UInt8 := dkwX2_next_12 ++ []
def dkwX2_next_11 : List UInt8 := [181, 0, 31, 167, 0, 39, 42, 18, 48, 42, 42, 180, 0, 19, 182, 0, 34, 146, 182, 0, 50, 155, 0, 7]
abbrev dktX2_next_11 : List UInt8 := dkwX2_next_11 ++ dktX2_next_12
def dkwX2_next_10 : List UInt8 := [167, 255, 189, 42, 42, 180, 0, 19, 42, 180, 0, 28, 100, 7, 164, 0, 7, 7, 167, 0, 4, 5]
abbrev dktX2_next_10 : List UInt8 := dkwX2_next_10 ++ dktX2_next_11
def dkwX2_next_9 : List UInt8 := [96, 16, 48, 100, 167, 0, 7, 42, 180, 0, 45, 181, 0, 45, 42, 89, 180, 0, 19, 4, 96, 181, 0, 19]
abbrev dktX2_next_9 : List UInt8 := dkwX2_next_9 ++ dktX2_next_10
def dkwX2_next_8 : List UInt8 := [42, 180, 0, 28, 100, 7, 162, 0, 25, 16, 10, 42, 180, 0, 45, 104, 42, 42, 180, 0, 19, 182, 0, 34]
abbrev dktX2_next_8 : List UInt8 := dkwX2_next_8 ++ dktX2_next_9
def dkwX2_next_7 : List UInt8 := [42, 3, 181, 0, 45, 42, 42, 180, 0, 19, 182, 0, 34, 184, 0, 42, 153, 0, 59, 42, 42, 180, 0, 19]
abbrev dktX2_next_7 : List UInt8 := dkwX2_next_7 ++ dktX2_next_8
def dkwX2_next_6 : List UInt8 := [167, 0, 4, 4, 181, 0, 31, 167, 0, 153, 42, 42, 180, 0, 19, 182, 0, 34, 184, 0, 42, 153, 0, 103]
abbrev dktX2_next_6 : List UInt8 := dkwX2_next_6 ++ dktX2_next_7
def dkwX2_next_5 : List UInt8 := [181, 0, 19, 167, 255, 232, 42, 42, 180, 0, 19, 42, 180, 0, 28, 100, 16, 8, 164, 0, 7, 7]
abbrev dktX2_next_5 : List UInt8 := dkwX2_next_5 ++ dktX2_next_6
def dkwX2_next_4 : List UInt8 := [153, 0, 56, 42, 42, 180, 0, 19, 182, 0, 34, 184, 0, 38, 153, 0, 16, 42, 89, 180, 0, 19, 4, 96]
abbrev dktX2_next_4 : List UInt8 := dkwX2_next_4 ++ dktX2_next_5
def dkwX2_next_3 : List UInt8 := [160, 0, 11, 42, 3, 181, 0, 31, 167, 0, 220, 42, 42, 180, 0, 19, 182, 0, 34, 184, 0, 38]
abbrev dktX2_next_3 : List UInt8 := dkwX2_next_3 ++ dktX2_next_4
def dkwX2_next_2 : List UInt8 := [181, 0, 19, 167, 255, 207, 42, 42, 180, 0, 19, 181, 0, 28, 42, 180, 0, 19, 42, 180, 0, 15]
abbrev dktX2_next_2 : List UInt8 := dkwX2_next_2 ++ dktX2_next_3
def dkwX2_next_1 : List UInt8 := [159, 0, 17, 42, 180, 0, 9, 42, 180, 0, 19, 51, 16, 32, 160, 0, 16, 42, 89, 180, 0, 19, 4, 96]
abbrev dktX2_next_1 : List UInt8 := dkwX2_next_1 ++ dktX2_next_2
def dkwX2_next_0 : List UInt8 := [42, 180, 0, 19, 42, 180, 0, 15, 162, 0, 44, 42, 180, 0, 9, 42, 180, 0, 19, 51, 16, 10]
abbrev dktX2_next_0 : List UInt8 := dkwX2_next_0 ++ dktX2_next_1
theorem dksX2_next_0 : cX2_next.data.toList.drop 0 = dktX2_next_0 := by decide +kernel
theorem dksX2_next_1 : cX2_next.data.toList.drop 22 = dktX2_next_1 := dk_seg dksX2_next_0 22 rfl rfl
theorem dksX2_next_2 : cX2_next.data.toList.drop 46 = dktX2_next_2 := dk_seg dksX2_next_1 24 rfl rfl
theorem dksX2_next_3 : cX2_next.data.toList.drop 68 = dktX2_next_3 := dk_seg dksX2_next_2 22 rfl rfl
theorem dksX2_next_4 : cX2_next.data.toList.drop 90 = dktX2_next_4 := dk_seg dksX2_next_3 22 rfl rfl
theorem dksX2_next_5 : cX2_next.data.toList.drop 114 = dktX2_next_5 := dk_seg dksX2_next_4 24 rfl rfl
theorem dksX2_next_6 : cX2_next.data.toList.drop 136 = dktX2_next_6 := dk_seg dksX2_next_5 22 rfl rfl
theorem dksX2_next_7 : cX2_next.data.toList.drop 160 = dktX2_next_7 := dk_seg dksX2_next_6 24 rfl rfl
theorem dksX2_next_8 : cX2_next.data.toList.drop 184 = dktX2_next_8 := dk_seg dksX2_next_7 24 rfl rfl
theorem dksX2_next_9 : cX2_next.data.toList.drop 208 = dktX2_next_9 := dk_seg dksX2_next_8 24 rfl rfl
theorem dksX2_next_10 : cX2_next.data.toList.drop 232 = dktX2_next_10 := dk_seg dksX2_next_9 24 rfl rfl
theorem dksX2_next_11 : cX2_next.data.toList.drop 254 = dktX2_next_11 := dk_seg dksX2_next_10 22 rfl rfl
theorem dksX2_next_12 : cX2_next.data.toList.drop 278 = dktX2_next_12 := dk_seg dksX2_next_11 24 rfl rfl
theorem dX2_next_0 : decode cX2_next 0 = .ok (.aload_n 0, 1) := dk_42 (dk_at dksX2_next_0 0 rfl rfl)
theorem dX2_next_1 : decode cX2_next 1 = .ok (.getfield 19, 3) := dk_180 0 19 (dk_at dksX2_next_0 1 rfl rfl)
theorem dX2_next_4 : decode cX2_next 4 = .ok (.aload_n 0, 1) := dk_42 (dk_at dksX2_next_0 4 rfl rfl)
theorem dX2_next_5 : decode cX2_next 5 = .ok (.getfield 15, 3) := dk_180 0 15 (dk_at dksX2_next_0 5 rfl rfl)
theorem dX2_next_8 : decode cX2_next 8 = .ok (.if_icmp .ge 44, 3) := dk_162 0 44 (dk_at dksX2_next_0 8 rfl rfl)
theorem dX2_next_11 : decode cX2_next 11 = .ok (.aload_n 0, 1) := dk_42 (dk_at dksX2_next_0 11 rfl rfl)
theorem dX2_next_12 : decode cX2_next 12 = .ok (.getfield 9, 3) := dk_180 0 9 (dk_at dksX2_next_0 12 rfl rfl)
theorem dX2_next_15 : decode cX2_next 15 = .ok (.aload_n 0, 1) := dk_42 (dk_at dksX2_next_0 15 rfl rfl)
theorem dX2_next_16 : decode cX2_next 16 = .ok (.getfield 19, 3) := dk_180 0 19 (dk_at dksX2_next_0 16 rfl rfl)
theorem dX2_next_19 : decode cX2_next 19 = .ok (.baload, 1) := dk_51 (dk_at dksX2_next_0 19 rfl rfl)
theorem dX2_next_20 : decode cX2_next 20 = .ok (.bipush 10, 2) := dk_16 10 (dk_at dksX2_next_0 20 rfl rfl)
theorem dX2_next_22 : decode cX2_next 22 = .ok (.if_icmp .eq 17, 3) := dk_159 0 17 (dk_at dksX2_next_1 0 rfl rfl)
theorem dX2_next_25 : decode cX2_next 25 = .ok (.aload_n 0, 1) := dk_42 (dk_at dksX2_next_1 3 rfl rfl)
theorem dX2_next_26 : decode cX2_next 26 = .ok (.getfield 9, 3) := dk_180 0 9 (dk_at dksX2_next_1 4 rfl rfl)
theorem dX2_next_29 : decode cX2_next 29 = .ok (.aload_n 0, 1) := dk_42 (dk_at dksX2_next_1 7 rfl rfl)
theorem dX2_next_30 : decode cX2_next 30 = .ok (.getfield 19, 3) := dk_180 0 19 (dk_at dksX2_next_1 8 rfl rfl)
theorem dX2_next_33 : decode cX2_next 33 = .ok (.baload, 1) := dk_51 (dk_at dksX2_next_1 11 rfl rfl)
theorem dX2_next_34 : decode cX2_next 34 = .ok (.bipush 32, 2) := dk_16 32 (dk_at dksX2_next_1 12 rfl rfl)
theorem dX2_next_36 : decode cX2_next 36 = .ok (.if_icmp .ne 16, 3) := dk_160 0 16 (dk_at dksX2_next_1 14 rfl rfl)
theorem dX2_next_39 : decode cX2_next 39 = .ok (.aload_n 0, 1) := dk_42 (dk_at dksX2_next_1 17 rfl rfl)
theorem dX2_next_40 : decode cX2_next 40 = .ok (.dup, 1) := dk_89 (dk_at dksX2_next_1 18 rfl rfl)
theorem dX2_next_41 : decode cX2_next 41 = .ok (.getfield 19, 3) := dk_180 0 19 (dk_at dksX2_next_1 19 rfl rfl)
theorem dX2_next_44 : decode cX2_next 44 = .ok (.iconst 1, 1) := dk_4 (dk_at dksX2_next_1 22 rfl rfl)
theorem dX2_next_45 : decode cX2_next 45 = .ok (.iadd, 1) := dk_96 (dk_at dksX2_next_1 23 rfl rfl)
theorem dX2_next_46 : decode cX2_next 46 = .ok (.putfield 19, 3) := dk_181 0 19 (dk_at dksX2_next_2 0 rfl rfl)
theorem dX2_next_49 : decode cX2_next 49 = .ok (.goto (-49), 3) := dk_167 255 207 (dk_at dksX2_next_2 3 rfl rfl)
theorem dX2_next_52 : decode cX2_next 52 = .ok (.aload_n 0, 1) := dk_42 (dk_at dksX2_next_2 6 rfl rfl)
theorem dX2_next_53 : decode cX2_next 53 = .ok (.aload_n 0, 1) := dk_42 (dk_at dksX2_next_2 7 rfl rfl)
theorem dX2_next_54 : decode cX2_next 54 = .ok (.getfield 19, 3) := dk_180 0 19 (dk_at dksX2_next_2 8 rfl rfl)
theorem dX2_next_57 : decode cX2_next 57 = .ok (.putfield 28, 3) := dk_181 0 28 (dk_at dksX2_next_2 11 rfl rfl)
theorem dX2_next_60 : decode cX2_next 60 = .ok (.aload_n 0, 1) := dk_42 (dk_at dksX2_next_2 14 rfl rfl)
theorem dX2_next_61 : decode cX2_next 61 = .ok (.getfield 19, 3) := dk_180 0 19 (dk_at dksX2_next_2 15 rfl rfl)
theorem dX2_next_64 : decode cX2_next 64 = .ok (.aload_n 0, 1) := dk_42 (dk_at dksX2_next_2 18 rfl rfl)
theorem dX2_next_65 : decode cX2_next 65 = .ok (.getfield 15, 3) := dk_180 0 15 (dk_at dksX2_next_2 19 rfl rfl)
theorem dX2_next_68 : decode cX2_next 68 = .ok (.if_icmp .ne 11, 3) := dk_160 0 11 (dk_at dksX2_next_3 0 rfl rfl)
theorem dX2_next_71 : decode cX2_next 71 = .ok (.aload_n 0, 1) := dk_42 (dk_at dksX2_next_3 3 rfl rfl)
theorem dX2_next_72 : decode cX2_next 72 = .ok (.iconst 0, 1) := dk_3 (dk_at dksX2_next_3 4 rfl rfl)
theorem dX2_next_73 : decode cX2_next 73 = .ok (.putfield 31, 3) := dk_181 0 31 (dk_at dksX2_next_3 5 rfl rfl)
theorem dX2_next_76 : decode cX2_next 76 = .ok (.goto 220, 3) := dk_167 0 220 (dk_at dksX2_next_3 8 rfl rfl)
theorem dX2_next_79 : decode cX2_next 79 = .ok (.aload_n 0, 1) := dk_42 (dk_at dksX2_next_3 11 rfl rfl)
theorem dX2_next_80 : decode cX2_next 80 = .ok (.aload_n 0, 1) := dk_42 (dk_at dksX2_next_3 12 rfl rfl)
theorem dX2_next_81 : decode cX2_next 81 = .ok (.getfield 19, 3) := dk_180 0 19 (dk_at dksX2_next_3 13 rfl rfl)
theorem dX2_next_84 : decode cX2_next 84 = .ok (.invokevirtual 34, 3) := dk_182 0 34 (dk_at dksX2_next_3 16 rfl rfl)
theorem dX2_next_87 : decode cX2_next 87 = .ok (.invokestatic 38, 3) := dk_184 0 38 (dk_at dksX2_next_3 19 rfl rfl)
theorem dX2_next_90 : decode cX2_next 90 = .ok (.ifCond .eq 56, 3) := dk_153 0 56 (dk_at dksX2_next_4 0 rfl rfl)
theorem dX2_next_93 : decode cX2_next 93 = .ok (.aload_n 0, 1) := dk_42 (dk_at dksX2_next_4 3 rfl rfl)
theorem dX2_next_94 : decode cX2_next 94 = .ok (.aload_n 0, 1) := dk_42 (dk_at dksX2_next_4 4 rfl rfl)
theorem dX2_next_95 : decode cX2_next 95 = .ok (.getfield 19, 3) := dk_180 0 19 (dk_at dksX2_next_4 5 rfl rfl)
theorem dX2_next_98 : decode cX2_next 98 = .ok (.invokevirtual 34, 3) := dk_182 0 34 (dk_at dksX2_next_4 8 rfl rfl)
theorem dX2_next_101 : decode cX2_next 101 = .ok (.invokestatic 38, 3) := dk_184 0 38 (dk_at dksX2_next_4 11 rfl rfl)
theorem dX2_next_104 : decode cX2_next 104 = .ok (.ifCond .eq 16, 3) := dk_153 0 16 (dk_at dksX2_next_4 14 rfl rfl)
theorem dX2_next_107 : decode cX2_next 107 = .ok (.aload_n 0, 1) := dk_42 (dk_at dksX2_next_4 17 rfl rfl)
theorem dX2_next_108 : decode cX2_next 108 = .ok (.dup, 1) := dk_89 (dk_at dksX2_next_4 18 rfl rfl)
theorem dX2_next_109 : decode cX2_next 109 = .ok (.getfield 19, 3) := dk_180 0 19 (dk_at dksX2_next_4 19 rfl rfl)
theorem dX2_next_112 : decode cX2_next 112 = .ok (.iconst 1, 1) := dk_4 (dk_at dksX2_next_4 22 rfl rfl)
theorem dX2_next_113 : decode cX2_next 113 = .ok (.iadd, 1) := dk_96 (dk_at dksX2_next_4 23 rfl rfl)
theorem dX2_next_114 : decode cX2_next 114 = .ok (.putfield 19, 3) := dk_181 0 19 (dk_at dksX2_next_5 0 rfl rfl)
theorem dX2_next_117 : decode cX2_next 117 = .ok (.goto (-24), 3) := dk_167 255 232 (dk_at dksX2_next_5 3 rfl rfl)
theorem dX2_next_120 : decode cX2_next 120 = .ok (.aload_n 0, 1) := dk_42 (dk_at dksX2_next_5 6 rfl rfl)
theorem dX2_next_121 : decode cX2_next 121 = .ok (.aload_n 0, 1) := dk_42 (dk_at dksX2_next_5 7 rfl rfl)
theorem dX2_next_122 : decode cX2_next 122 = .ok (.getfield 19, 3) := dk_180 0 19 (dk_at dksX2_next_5 8 rfl rfl)
theorem dX2_next_125 : decode cX2_next 125 = .ok (.aload_n 0, 1) := dk_42 (dk_at dksX2_next_5 11 rfl rfl)
theorem dX2_next_126 : decode cX2_next 126 = .ok (.getfield 28, 3) := dk_180 0 28 (dk_at dksX2_next_5 12 rfl rfl)
theorem dX2_next_129 : decode cX2_next 129 = .ok (.isub, 1) := dk_100 (dk_at dksX2_next_5 15 rfl rfl)
theorem dX2_next_130 : decode cX2_next 130 = .ok (.bipush 8, 2) := dk_16 8 (dk_at dksX2_next_5 16 rfl rfl)
theorem dX2_next_132 : decode cX2_next 132 = .ok (.if_icmp .le 7, 3) := dk_164 0 7 (dk_at dksX2_next_5 18 rfl rfl)
theorem dX2_next_135 : decode cX2_next 135 = .ok (.iconst 4, 1) := dk_7 (dk_at dksX2_next_5 21 rfl rfl)
theorem dX2_next_136 : decode cX2_next 136 = .ok (.goto 4, 3) := dk_167 0 4 (dk_at dksX2_next_6 0 rfl rfl)
theorem dX2_next_139 : decode cX2_next 139 = .ok (.iconst 1, 1) := dk_4 (dk_at dksX2_next_6 3 rfl rfl)
theorem dX2_next_140 : decode cX2_next 140 = .ok (.putfield 31, 3) := dk_181 0 31 (dk_at dksX2_next_6 4 rfl rfl)
theorem dX2_next_143 : decode cX2_next 143 = .ok (.goto 153, 3) := dk_167 0 153 (dk_at dksX2_next_6 7 rfl rfl)
theorem dX2_next_146 : decode cX2_next 146 = .ok (.aload_n 0, 1) := dk_42 (dk_at dksX2_next_6 10 rfl rfl)
theorem dX2_next_147 : decode cX2_next 147 = .ok (.aload_n 0, 1) := dk_42 (dk_at dksX2_next_6 11 rfl rfl)
theorem dX2_next_148 : decode cX2_next 148 = .ok (.getfield 19, 3) := dk_180 0 19 (dk_at dksX2_next_6 12 rfl rfl)
theorem dX2_next_151 : decode cX2_next 151 = .ok (.invokevirtual 34, 3) := dk_182 0 34 (dk_at dksX2_next_6 15 rfl rfl)
theorem dX2_next_154 : decode cX2_next 154 = .ok (.invokestatic 42, 3) := dk_184 0 42 (dk_at dksX2_next_6 18 rfl rfl)
theorem dX2_next_157 : decode cX2_next 157 = .ok (.ifCond .eq 103, 3) := dk_153 0 103 (dk_at dksX2_next_6 21 rfl rfl)
theorem dX2_next_160 : decode cX2_next 160 = .ok (.aload_n 0, 1) := dk_42 (dk_at dksX2_next_7 0 rfl rfl)
theorem dX2_next_161 : decode cX2_next 161 = .ok (.iconst 0, 1) := dk_3 (dk_at dksX2_next_7 1 rfl rfl)
theorem dX2_next_162 : decode cX2_next 162 = .ok (.putfield 45, 3) := dk_181 0 45 (dk_at dksX2_next_7 2 rfl rfl)
theorem dX2_next_165 : decode cX2_next 165 = .ok (.aload_n 0, 1) := dk_42 (dk_at dksX2_next_7 5 rfl rfl)
theorem dX2_next_166 : decode cX2_next 166 = .ok (.aload_n 0, 1) := dk_42 (dk_at dksX2_next_7 6 rfl rfl)
theorem dX2_next_167 : decode cX2_next 167 = .ok (.getfield 19, 3) := dk_180 0 19 (dk_at dksX2_next_7 7 rfl rfl)
theorem dX2_next_170 : decode cX2_next 170 = .ok (.invokevirtual 34, 3) := dk_182 0 34 (dk_at dksX2_next_7 10 rfl rfl)
theorem dX2_next_173 : decode cX2_next 173 = .ok (.invokestatic 42, 3) := dk_184 0 42 (dk_at dksX2_next_7 13 rfl rfl)
theorem dX2_next_176 : decode cX2_next 176 = .ok (.ifCond .eq 59, 3) := dk_153 0 59 (dk_at dksX2_next_7 16 rfl rfl)
theorem dX2_next_179 : decode cX2_next 179 = .ok (.aload_n 0, 1) := dk_42 (dk_at dksX2_next_7 19 rfl rfl)
theorem dX2_next_180 : decode cX2_next 180 = .ok (.aload_n 0, 1) := dk_42 (dk_at dksX2_next_7 20 rfl rfl)
theorem dX2_next_181 : decode cX2_next 181 = .ok (.getfield 19, 3) := dk_180 0 19 (dk_at dksX2_next_7 21 rfl rfl)
theorem dX2_next_184 : decode cX2_next 184 = .ok (.aload_n 0, 1) := dk_42 (dk_at dksX2_next_8 0 rfl rfl)
theorem dX2_next_185 : decode cX2_next 185 = .ok (.getfield 28, 3) := dk_180 0 28 (dk_at dksX2_next_8 1 rfl rfl)
theorem dX2_next_188 : decode cX2_next 188 = .ok (.isub, 1) := dk_100 (dk_at dksX2_next_8 4 rfl rfl)
theorem dX2_next_189 : decode cX2_next 189 = .ok (.iconst 4, 1) := dk_7 (dk_at dksX2_next_8 5 rfl rfl)
theorem dX2_next_190 : decode cX2_next 190 = .ok (.if_icmp .ge 25, 3) := dk_162 0 25 (dk_at dksX2_next_8 6 rfl rfl)
theorem dX2_next_193 : decode cX2_next 193 = .ok (.bipush 10, 2) := dk_16 10 (dk_at dksX2_next_8 9 rfl rfl)
theorem dX2_next_195 : decode cX2_next 195 = .ok (.aload_n 0, 1) := dk_42 (dk_at dksX2_next_8 11 rfl rfl)
theorem dX2_next_196 : decode cX2_next 196 = .ok (.getfield 45, 3) := dk_180 0 45 (dk_at dksX2_next_8 12 rfl rfl)
theorem dX2_next_199 : decode cX2_next 199 = .ok (.imul, 1) := dk_104 (dk_at dksX2_next_8 15 rfl rfl)
theorem dX2_next_200 : decode cX2_next 200 = .ok (.aload_n 0, 1) := dk_42 (dk_at dksX2_next_8 16 rfl rfl)
theorem dX2_next_201 : decode cX2_next 201 = .ok (.aload_n 0, 1) := dk_42 (dk_at dksX2_next_8 17 rfl rfl)
theorem dX2_next_202 : decode cX2_next 202 = .ok (.getfield 19, 3) := dk_180 0 19 (dk_at dksX2_next_8 18 rfl rfl)
theorem dX2_next_205 : decode cX2_next 205 = .ok (.invokevirtual 34, 3) := dk_182 0 34 (dk_at dksX2_next_8 21 rfl rfl)
theorem dX2_next_208 : decode cX2_next 208 = .ok (.iadd, 1) := dk_96 (dk_at dksX2_next_9 0 rfl rfl)
theorem dX2_next_209 : decode cX2_next 209 = .ok (.bipush 48, 2) := dk_16 48 (dk_at dksX2_next_9 1 rfl rfl)
theorem dX2_next_211 : decode cX2_next 211 = .ok (.isub, 1) := dk_100 (dk_at dksX2_next_9 3 rfl rfl)
theorem dX2_next_212 : decode cX2_next 212 = .ok (.goto 7, 3) := dk_167 0 7 (dk_at dksX2_next_9 4 rfl rfl)
theorem dX2_next_215 : decode cX2_next 215 = .ok (.aload_n 0, 1) := dk_42 (dk_at dksX2_next_9 7 rfl rfl)
theorem dX2_next_216 : decode cX2_next 216 = .ok (.getfield 45, 3) := dk_180 0 45 (dk_at dksX2_next_9 8 rfl rfl)
theorem dX2_next_219 : decode cX2_next 219 = .ok (.putfield 45, 3) := dk_181 0 45 (dk_at dksX2_next_9 11 rfl rfl)
theorem dX2_next_222 : decode cX2_next 222 = .ok (.aload_n 0, 1) := dk_42 (dk_at dksX2_next_9 14 rfl rfl)
theorem dX2_next_223 : decode cX2_next 223 = .ok (.dup, 1) := dk_89 (dk_at dksX2_next_9 15 rfl rfl)
theorem dX2_next_224 : decode cX2_next 224 = .ok (.getfield 19, 3) := dk_180 0 19 (dk_at dksX2_next_9 16 rfl rfl)
theorem dX2_next_227 : decode cX2_next 227 = .ok (.iconst 1, 1) := dk_4 (dk_at dksX2_next_9 19 rfl rfl)
theorem dX2_next_228 : decode cX2_next 228 = .ok (.iadd, 1) := dk_96 (dk_at dksX2_next_9 20 rfl rfl)
theorem dX2_next_229 : decode cX2_next 229 = .ok (.putfield 19, 3) := dk_181 0 19 (dk_at dksX2_next_9 21 rfl rfl)
theorem dX2_next_232 : decode cX2_next 232 = .ok (.goto (-67), 3) := dk_167 255 189 (dk_at dksX2_next_10 0 rfl rfl)
theorem dX2_next_235 : decode cX2_next 235 = .ok (.aload_n 0, 1) := dk_42 (dk_at dksX2_next_10 3 rfl rfl)
theorem dX2_next_236 : decode cX2_next 236 = .ok (.aload_n 0, 1) := dk_42 (dk_at dksX2_next_10 4 rfl rfl)
theorem dX2_next_237 : decode cX2_next 237 = .ok (.getfield 19, 3) := dk_180 0 19 (dk_at dksX2_next_10 5 rfl rfl)
theorem dX2_next_240 : decode cX2_next 240 = .ok (.aload_n 0, 1) := dk_42 (dk_at dksX2_next_10 8 rfl rfl)
theorem dX2_next_241 : decode cX2_next 241 = .ok (.getfield 28, 3) := dk_180 0 28 (dk_at dksX2_next_10 9 rfl rfl)
theorem dX2_next_244 : decode cX2_next 244 = .ok (.isub, 1) := dk_100 (dk_at dksX2_next_10 12 rfl rfl)
theorem dX2_next_245 : decode cX2_next 245 = .ok (.iconst 4, 1) := dk_7 (dk_at dksX2_next_10 13 rfl rfl)
theorem dX2_next_246 : decode cX2_next 246 = .ok (.if_icmp .le 7, 3) := dk_164 0 7 (dk_at dksX2_next_10 14 rfl rfl)
theorem dX2_next_249 : decode cX2_next 249 = .ok (.iconst 4, 1) := dk_7 (dk_at dksX2_next_10 17 rfl rfl)
theorem dX2_next_250 : decode cX2_next 250 = .ok (.goto 4, 3) := dk_167 0 4 (dk_at dksX2_next_10 18 rfl rfl)
theorem dX2_next_253 : decode cX2_next 253 = .ok (.iconst 2, 1) := dk_5 (dk_at dksX2_next_10 21 rfl rfl)
theorem dX2_next_254 : decode cX2_next 254 = .ok (.putfield 31, 3) := dk_181 0 31 (dk_at dksX2_next_11 0 rfl rfl)
theorem dX2_next_257 : decode cX2_next 257 = .ok (.goto 39, 3) := dk_167 0 39 (dk_at dksX2_next_11 3 rfl rfl)
theorem dX2_next_260 : decode cX2_next 260 = .ok (.aload_n 0, 1) := dk_42 (dk_at dksX2_next_11 6 rfl rfl)
theorem dX2_next_261 : decode cX2_next 261 = .ok (.ldc 48, 2) := dk_18 48 (dk_at dksX2_next_11 7 rfl rfl)
theorem dX2_next_263 : decode cX2_next 263 = .ok (.aload_n 0, 1) := dk_42 (dk_at dksX2_next_11 9 rfl rfl)
theorem dX2_next_264 : decode cX2_next 264 = .ok (.aload_n 0, 1) := dk_42 (dk_at dksX2_next_11 10 rfl rfl)
theorem dX2_next_265 : decode cX2_next 265 = .ok (.getfield 19, 3) := dk_180 0 19 (dk_at dksX2_next_11 11 rfl rfl)
theorem dX2_next_268 : decode cX2_next 268 = .ok (.invokevirtual 34, 3) := dk_182 0 34 (dk_at dksX2_next_11 14 rfl rfl)
theorem dX2_next_271 : decode cX2_next 271 = .ok (.i2c, 1) := dk_146 (dk_at dksX2_next_11 17 rfl rfl)
theorem dX2_next_272 : decode cX2_next 272 = .ok (.invokevirtual 50, 3) := dk_182 0 50 (dk_at dksX2_next_11 18 rfl rfl)
theorem dX2_next_275 : decode cX2_next 275 = .ok (.ifCond .lt 7, 3) := dk_155 0 7 (dk_at dksX2_next_11 21 rfl rfl)
theorem dX2_next_278 : decode cX2_next 278 = .ok (.iconst 3, 1) := dk_6 (dk_at dksX2_next_12 0 rfl rfl)
theorem dX2_next_279 : decode cX2_next 279 = .ok (.goto 4, 3) := dk_167 0 4 (dk_at dksX2_next_12 1 rfl rfl)
theorem dX2_next_282 : decode cX2_next 282 = .ok (.iconst 4, 1) := dk_7 (dk_at dksX2_next_12 4 rfl rfl)
theorem dX2_next_283 : decode cX2_next 283 = .ok (.putfield 31, 3) := dk_181 0 31 (dk_at dksX2_next_12 5 rfl rfl)
theorem dX2_next_286 : decode cX2_next 286 = .ok (.aload_n 0, 1) := dk_42 (dk_at dksX2_next_12 8 rfl rfl)
theorem dX2_next_287 : decode cX2_next 287 = .ok (.dup, 1) := dk_89 (dk_at dksX2_next_12 9 rfl rfl)
theorem dX2_next_288 : decode cX2_next 288 = .ok (.getfield 19, 3) := dk_180 0 19 (dk_at dksX2_next_12 10 rfl rfl)
theorem dX2_next_291 : decode cX2_next 291 = .ok (.iconst 1, 1) := dk_4 (dk_at dksX2_next_12 13 rfl rfl)
theorem dX2_next_292 : decode cX2_next 292 = .ok (.iadd, 1) := dk_96 (dk_at dksX2_next_12 14 rfl rfl)
theorem dX2_next_293 : decode cX2_next 293 = .ok (.putfield 19, 3) := dk_181 0 19 (dk_at dksX2_next_12 15 rfl rfl)
theorem dX2_next_296 : decode cX2_next 296 = .ok (.return_, 1) := dk_177 (dk_at dksX2_next_12 18 rfl rfl)
abbrev cX2_at : ByteArray := prog_17_method_3_code
def yX2_at : MethodName := ⟨RX2, "at", "(I)I"⟩
def dkwX2_at_0 : List UInt8 := [27, 42, 180, 0, 15, 162, 0, 12, 42, 180, 0, 9, 27, 51, 167, 0, 4, 3, 172]
abbrev dktX2_at_0 : List UInt8 := dkwX2_at_0 ++ []
theorem dksX2_at_0 : cX2_at.data.toList.drop 0 = dktX2_at_0 := by decide +kernel
theorem dX2_at_0 : decode cX2_at 0 = .ok (.iload_n 1, 1) := dk_27 (dk_at dksX2_at_0 0 rfl rfl)
theorem dX2_at_1 : decode cX2_at 1 = .ok (.aload_n 0, 1) := dk_42 (dk_at dksX2_at_0 1 rfl rfl)
theorem dX2_at_2 : decode cX2_at 2 = .ok (.getfield 15, 3) := dk_180 0 15 (dk_at dksX2_at_0 2 rfl rfl)
theorem dX2_at_5 : decode cX2_at 5 = .ok (.if_icmp .ge 12, 3) := dk_162 0 12 (dk_at dksX2_at_0 5 rfl rfl)
theorem dX2_at_8 : decode cX2_at 8 = .ok (.aload_n 0, 1) := dk_42 (dk_at dksX2_at_0 8 rfl rfl)
theorem dX2_at_9 : decode cX2_at 9 = .ok (.getfield 9, 3) := dk_180 0 9 (dk_at dksX2_at_0 9 rfl rfl)
theorem dX2_at_12 : decode cX2_at 12 = .ok (.iload_n 1, 1) := dk_27 (dk_at dksX2_at_0 12 rfl rfl)
theorem dX2_at_13 : decode cX2_at 13 = .ok (.baload, 1) := dk_51 (dk_at dksX2_at_0 13 rfl rfl)
theorem dX2_at_14 : decode cX2_at 14 = .ok (.goto 4, 3) := dk_167 0 4 (dk_at dksX2_at_0 14 rfl rfl)
theorem dX2_at_17 : decode cX2_at 17 = .ok (.iconst 0, 1) := dk_3 (dk_at dksX2_at_0 17 rfl rfl)
theorem dX2_at_18 : decode cX2_at 18 = .ok (.ireturn, 1) := dk_172 (dk_at dksX2_at_0 18 rfl rfl)
abbrev cX2_isLetter : ByteArray := prog_17_method_4_code
def yX2_isLetter : MethodName := ⟨RX2, "isLetter", "(I)Z"⟩
def dkwX2_isLetter_0 : List UInt8 := [26, 16, 97, 161, 0, 13, 26, 16, 122, 163, 0, 7, 4, 167, 0, 4, 3, 172]
abbrev dktX2_isLetter_0 : List UInt8 := dkwX2_isLetter_0 ++ []
theorem dksX2_isLetter_0 : cX2_isLetter.data.toList.drop 0 = dktX2_isLetter_0 := by decide +kernel
theorem dX2_isLetter_0 : decode cX2_isLetter 0 = .ok (.iload_n 0, 1) := dk_26 (dk_at dksX2_isLetter_0 0 rfl rfl)
theorem dX2_isLetter_1 : decode cX2_isLetter 1 = .ok (.bipush 97, 2) := dk_16 97 (dk_at dksX2_isLetter_0 1 rfl rfl)
theorem dX2_isLetter_3 : decode cX2_isLetter 3 = .ok (.if_icmp .lt 13, 3) := dk_161 0 13 (dk_at dksX2_isLetter_0 3 rfl rfl)
theorem dX2_isLetter_6 : decode cX2_isLetter 6 = .ok (.iload_n 0, 1) := dk_26 (dk_at dksX2_isLetter_0 6 rfl rfl)
theorem dX2_isLetter_7 : decode cX2_isLetter 7 = .ok (.bipush 122, 2) := dk_16 122 (dk_at dksX2_isLetter_0 7 rfl rfl)
theorem dX2_isLetter_9 : decode cX2_isLetter 9 = .ok (.if_icmp .gt 7, 3) := dk_163 0 7 (dk_at dksX2_isLetter_0 9 rfl rfl)
theorem dX2_isLetter_12 : decode cX2_isLetter 12 = .ok (.iconst 1, 1) := dk_4 (dk_at dksX2_isLetter_0 12 rfl rfl)
theorem dX2_isLetter_13 : decode cX2_isLetter 13 = .ok (.goto 4, 3) := dk_167 0 4 (dk_at dksX2_isLetter_0 13 rfl rfl)
theorem dX2_isLetter_16 : decode cX2_isLetter 16 = .ok (.iconst 0, 1) := dk_3 (dk_at dksX2_isLetter_0 16 rfl rfl)
theorem dX2_isLetter_17 : decode cX2_isLetter 17 = .ok (.ireturn, 1) := dk_172 (dk_at dksX2_isLetter_0 17 rfl rfl)
abbrev cX2_isDigit : ByteArray := prog_17_method_5_code
def yX2_isDigit : MethodName := ⟨RX2, "isDigit", "(I)Z"⟩
def dkwX2_isDigit_0 : List UInt8 := [26, 16, 48, 161, 0, 13, 26, 16, 57, 163, 0, 7, 4, 167, 0, 4, 3, 172]
abbrev dktX2_isDigit_0 : List UInt8 := dkwX2_isDigit_0 ++ []
theorem dksX2_isDigit_0 : cX2_isDigit.data.toList.drop 0 = dktX2_isDigit_0 := by decide +kernel
theorem dX2_isDigit_0 : decode cX2_isDigit 0 = .ok (.iload_n 0, 1) := dk_26 (dk_at dksX2_isDigit_0 0 rfl rfl)
theorem dX2_isDigit_1 : decode cX2_isDigit 1 = .ok (.bipush 48, 2) := dk_16 48 (dk_at dksX2_isDigit_0 1 rfl rfl)
theorem dX2_isDigit_3 : decode cX2_isDigit 3 = .ok (.if_icmp .lt 13, 3) := dk_161 0 13 (dk_at dksX2_isDigit_0 3 rfl rfl)
theorem dX2_isDigit_6 : decode cX2_isDigit 6 = .ok (.iload_n 0, 1) := dk_26 (dk_at dksX2_isDigit_0 6 rfl rfl)
theorem dX2_isDigit_7 : decode cX2_isDigit 7 = .ok (.bipush 57, 2) := dk_16 57 (dk_at dksX2_isDigit_0 7 rfl rfl)
theorem dX2_isDigit_9 : decode cX2_isDigit 9 = .ok (.if_icmp .gt 7, 3) := dk_163 0 7 (dk_at dksX2_isDigit_0 9 rfl rfl)
theorem dX2_isDigit_12 : decode cX2_isDigit 12 = .ok (.iconst 1, 1) := dk_4 (dk_at dksX2_isDigit_0 12 rfl rfl)
theorem dX2_isDigit_13 : decode cX2_isDigit 13 = .ok (.goto 4, 3) := dk_167 0 4 (dk_at dksX2_isDigit_0 13 rfl rfl)
theorem dX2_isDigit_16 : decode cX2_isDigit 16 = .ok (.iconst 0, 1) := dk_3 (dk_at dksX2_isDigit_0 16 rfl rfl)
theorem dX2_isDigit_17 : decode cX2_isDigit 17 = .ok (.ireturn, 1) := dk_172 (dk_at dksX2_isDigit_0 17 rfl rfl)
abbrev cX2_house : ByteArray := prog_17_method_20_code
def yX2_house : MethodName := ⟨RX2, "house", "()LPulseRent$House;"⟩
def dkwX2_house_8 : List UInt8 := [180, 0, 101, 176]
abbrev dktX2_house_8 : List UInt8 := dkwX2_house_8 ++ []
def dkwX2_house_7 : List UInt8 := [8, 182, 0, 75, 191, 42, 182, 0, 25, 42, 27, 182, 0, 162, 42, 16, 59, 182, 0, 165, 167, 255, 84, 42]
abbrev dktX2_house_7 : List UInt8 := dkwX2_house_7 ++ dktX2_house_8
def dkwX2_house_6 : List UInt8 := [159, 0, 23, 27, 6, 160, 0, 24, 42, 180, 0, 101, 180, 0, 159, 182, 0, 152, 16, 6, 160, 0, 9, 42]
abbrev dktX2_house_6 : List UInt8 := dkwX2_house_6 ++ dktX2_house_7
def dkwX2_house_5 : List UInt8 := [16, 6, 159, 0, 43, 27, 4, 160, 0, 18, 42, 180, 0, 101, 180, 0, 156, 182, 0, 152, 16, 6]
abbrev dktX2_house_5 : List UInt8 := dkwX2_house_5 ++ dktX2_house_6
def dkwX2_house_4 : List UInt8 := [198, 0, 9, 42, 6, 182, 0, 75, 191, 27, 154, 0, 18, 42, 180, 0, 101, 180, 0, 148, 182, 0, 152]
abbrev dktX2_house_4 : List UInt8 := dkwX2_house_4 ++ dktX2_house_5
def dkwX2_house_3 : List UInt8 := [42, 180, 0, 101, 180, 0, 141, 199, 0, 19, 27, 16, 7, 160, 0, 19, 42, 180, 0, 101, 180, 0, 145]
abbrev dktX2_house_3 : List UInt8 := dkwX2_house_3 ++ dktX2_house_4
def dkwX2_house_2 : List UInt8 := [156, 0, 50, 27, 8, 160, 0, 13, 42, 180, 0, 101, 180, 0, 138, 156, 0, 35, 27, 16, 6, 160, 0, 13]
abbrev dktX2_house_2 : List UInt8 := dkwX2_house_2 ++ dktX2_house_3
def dkwX2_house_1 : List UInt8 := [60, 27, 156, 0, 9, 42, 4, 182, 0, 75, 191, 27, 7, 160, 0, 13, 42, 180, 0, 101, 180, 0, 135]
abbrev dktX2_house_1 : List UInt8 := dkwX2_house_1 ++ dktX2_house_2
def dkwX2_house_0 : List UInt8 := [42, 187, 0, 106, 89, 183, 0, 132, 181, 0, 101, 42, 180, 0, 31, 153, 0, 171, 42, 18, 133, 182, 0, 71]
abbrev dktX2_house_0 : List UInt8 := dkwX2_house_0 ++ dktX2_house_1
theorem dksX2_house_0 : cX2_house.data.toList.drop 0 = dktX2_house_0 := by decide +kernel
theorem dksX2_house_1 : cX2_house.data.toList.drop 24 = dktX2_house_1 := dk_seg dksX2_house_0 24 rfl rfl
theorem dksX2_house_2 : cX2_house.data.toList.drop 47 = dktX2_house_2 := dk_seg dksX2_house_1 23 rfl rfl
theorem dksX2_house_3 : cX2_house.data.toList.drop 71 = dktX2_house_3 := dk_seg dksX2_house_2 24 rfl rfl
theorem dksX2_house_4 : cX2_house.data.toList.drop 94 = dktX2_house_4 := dk_seg dksX2_house_3 23 rfl rfl
theorem dksX2_house_5 : cX2_house.data.toList.drop 117 = dktX2_house_5 := dk_seg dksX2_house_4 23 rfl rfl
theorem dksX2_house_6 : cX2_house.data.toList.drop 139 = dktX2_house_6 := dk_seg dksX2_house_5 22 rfl rfl
theorem dksX2_house_7 : cX2_house.data.toList.drop 163 = dktX2_house_7 := dk_seg dksX2_house_6 24 rfl rfl
theorem dksX2_house_8 : cX2_house.data.toList.drop 187 = dktX2_house_8 := dk_seg dksX2_house_7 24 rfl rfl
theorem dX2_house_0 : decode cX2_house 0 = .ok (.aload_n 0, 1) := dk_42 (dk_at dksX2_house_0 0 rfl rfl)
theorem dX2_house_1 : decode cX2_house 1 = .ok (.new 106, 3) := dk_187 0 106 (dk_at dksX2_house_0 1 rfl rfl)
theorem dX2_house_4 : decode cX2_house 4 = .ok (.dup, 1) := dk_89 (dk_at dksX2_house_0 4 rfl rfl)
theorem dX2_house_5 : decode cX2_house 5 = .ok (.invokespecial 132, 3) := dk_183 0 132 (dk_at dksX2_house_0 5 rfl rfl)
theorem dX2_house_8 : decode cX2_house 8 = .ok (.putfield 101, 3) := dk_181 0 101 (dk_at dksX2_house_0 8 rfl rfl)
theorem dX2_house_11 : decode cX2_house 11 = .ok (.aload_n 0, 1) := dk_42 (dk_at dksX2_house_0 11 rfl rfl)
theorem dX2_house_12 : decode cX2_house 12 = .ok (.getfield 31, 3) := dk_180 0 31 (dk_at dksX2_house_0 12 rfl rfl)
theorem dX2_house_15 : decode cX2_house 15 = .ok (.ifCond .eq 171, 3) := dk_153 0 171 (dk_at dksX2_house_0 15 rfl rfl)
theorem dX2_house_18 : decode cX2_house 18 = .ok (.aload_n 0, 1) := dk_42 (dk_at dksX2_house_0 18 rfl rfl)
theorem dX2_house_19 : decode cX2_house 19 = .ok (.ldc 133, 2) := dk_18 133 (dk_at dksX2_house_0 19 rfl rfl)
theorem dX2_house_21 : decode cX2_house 21 = .ok (.invokevirtual 71, 3) := dk_182 0 71 (dk_at dksX2_house_0 21 rfl rfl)
theorem dX2_house_24 : decode cX2_house 24 = .ok (.istore_n 1, 1) := dk_60 (dk_at dksX2_house_1 0 rfl rfl)
theorem dX2_house_25 : decode cX2_house 25 = .ok (.iload_n 1, 1) := dk_27 (dk_at dksX2_house_1 1 rfl rfl)
theorem dX2_house_26 : decode cX2_house 26 = .ok (.ifCond .ge 9, 3) := dk_156 0 9 (dk_at dksX2_house_1 2 rfl rfl)
theorem dX2_house_29 : decode cX2_house 29 = .ok (.aload_n 0, 1) := dk_42 (dk_at dksX2_house_1 5 rfl rfl)
theorem dX2_house_30 : decode cX2_house 30 = .ok (.iconst 1, 1) := dk_4 (dk_at dksX2_house_1 6 rfl rfl)
theorem dX2_house_31 : decode cX2_house 31 = .ok (.invokevirtual 75, 3) := dk_182 0 75 (dk_at dksX2_house_1 7 rfl rfl)
theorem dX2_house_34 : decode cX2_house 34 = .ok (.athrow, 1) := dk_191 (dk_at dksX2_house_1 10 rfl rfl)
theorem dX2_house_35 : decode cX2_house 35 = .ok (.iload_n 1, 1) := dk_27 (dk_at dksX2_house_1 11 rfl rfl)
theorem dX2_house_36 : decode cX2_house 36 = .ok (.iconst 4, 1) := dk_7 (dk_at dksX2_house_1 12 rfl rfl)
theorem dX2_house_37 : decode cX2_house 37 = .ok (.if_icmp .ne 13, 3) := dk_160 0 13 (dk_at dksX2_house_1 13 rfl rfl)
theorem dX2_house_40 : decode cX2_house 40 = .ok (.aload_n 0, 1) := dk_42 (dk_at dksX2_house_1 16 rfl rfl)
theorem dX2_house_41 : decode cX2_house 41 = .ok (.getfield 101, 3) := dk_180 0 101 (dk_at dksX2_house_1 17 rfl rfl)
theorem dX2_house_44 : decode cX2_house 44 = .ok (.getfield 135, 3) := dk_180 0 135 (dk_at dksX2_house_1 20 rfl rfl)
theorem dX2_house_47 : decode cX2_house 47 = .ok (.ifCond .ge 50, 3) := dk_156 0 50 (dk_at dksX2_house_2 0 rfl rfl)
theorem dX2_house_50 : decode cX2_house 50 = .ok (.iload_n 1, 1) := dk_27 (dk_at dksX2_house_2 3 rfl rfl)
theorem dX2_house_51 : decode cX2_house 51 = .ok (.iconst 5, 1) := dk_8 (dk_at dksX2_house_2 4 rfl rfl)
theorem dX2_house_52 : decode cX2_house 52 = .ok (.if_icmp .ne 13, 3) := dk_160 0 13 (dk_at dksX2_house_2 5 rfl rfl)
theorem dX2_house_55 : decode cX2_house 55 = .ok (.aload_n 0, 1) := dk_42 (dk_at dksX2_house_2 8 rfl rfl)
theorem dX2_house_56 : decode cX2_house 56 = .ok (.getfield 101, 3) := dk_180 0 101 (dk_at dksX2_house_2 9 rfl rfl)
theorem dX2_house_59 : decode cX2_house 59 = .ok (.getfield 138, 3) := dk_180 0 138 (dk_at dksX2_house_2 12 rfl rfl)
theorem dX2_house_62 : decode cX2_house 62 = .ok (.ifCond .ge 35, 3) := dk_156 0 35 (dk_at dksX2_house_2 15 rfl rfl)
theorem dX2_house_65 : decode cX2_house 65 = .ok (.iload_n 1, 1) := dk_27 (dk_at dksX2_house_2 18 rfl rfl)
theorem dX2_house_66 : decode cX2_house 66 = .ok (.bipush 6, 2) := dk_16 6 (dk_at dksX2_house_2 19 rfl rfl)
theorem dX2_house_68 : decode cX2_house 68 = .ok (.if_icmp .ne 13, 3) := dk_160 0 13 (dk_at dksX2_house_2 21 rfl rfl)
theorem dX2_house_71 : decode cX2_house 71 = .ok (.aload_n 0, 1) := dk_42 (dk_at dksX2_house_3 0 rfl rfl)
theorem dX2_house_72 : decode cX2_house 72 = .ok (.getfield 101, 3) := dk_180 0 101 (dk_at dksX2_house_3 1 rfl rfl)
theorem dX2_house_75 : decode cX2_house 75 = .ok (.getfield 141, 3) := dk_180 0 141 (dk_at dksX2_house_3 4 rfl rfl)
theorem dX2_house_78 : decode cX2_house 78 = .ok (.ifnonnull 19, 3) := dk_199 0 19 (dk_at dksX2_house_3 7 rfl rfl)
theorem dX2_house_81 : decode cX2_house 81 = .ok (.iload_n 1, 1) := dk_27 (dk_at dksX2_house_3 10 rfl rfl)
theorem dX2_house_82 : decode cX2_house 82 = .ok (.bipush 7, 2) := dk_16 7 (dk_at dksX2_house_3 11 rfl rfl)
theorem dX2_house_84 : decode cX2_house 84 = .ok (.if_icmp .ne 19, 3) := dk_160 0 19 (dk_at dksX2_house_3 13 rfl rfl)
theorem dX2_house_87 : decode cX2_house 87 = .ok (.aload_n 0, 1) := dk_42 (dk_at dksX2_house_3 16 rfl rfl)
theorem dX2_house_88 : decode cX2_house 88 = .ok (.getfield 101, 3) := dk_180 0 101 (dk_at dksX2_house_3 17 rfl rfl)
theorem dX2_house_91 : decode cX2_house 91 = .ok (.getfield 145, 3) := dk_180 0 145 (dk_at dksX2_house_3 20 rfl rfl)
theorem dX2_house_94 : decode cX2_house 94 = .ok (.ifnull 9, 3) := dk_198 0 9 (dk_at dksX2_house_4 0 rfl rfl)
theorem dX2_house_97 : decode cX2_house 97 = .ok (.aload_n 0, 1) := dk_42 (dk_at dksX2_house_4 3 rfl rfl)
theorem dX2_house_98 : decode cX2_house 98 = .ok (.iconst 3, 1) := dk_6 (dk_at dksX2_house_4 4 rfl rfl)
theorem dX2_house_99 : decode cX2_house 99 = .ok (.invokevirtual 75, 3) := dk_182 0 75 (dk_at dksX2_house_4 5 rfl rfl)
theorem dX2_house_102 : decode cX2_house 102 = .ok (.athrow, 1) := dk_191 (dk_at dksX2_house_4 8 rfl rfl)
theorem dX2_house_103 : decode cX2_house 103 = .ok (.iload_n 1, 1) := dk_27 (dk_at dksX2_house_4 9 rfl rfl)
theorem dX2_house_104 : decode cX2_house 104 = .ok (.ifCond .ne 18, 3) := dk_154 0 18 (dk_at dksX2_house_4 10 rfl rfl)
theorem dX2_house_107 : decode cX2_house 107 = .ok (.aload_n 0, 1) := dk_42 (dk_at dksX2_house_4 13 rfl rfl)
theorem dX2_house_108 : decode cX2_house 108 = .ok (.getfield 101, 3) := dk_180 0 101 (dk_at dksX2_house_4 14 rfl rfl)
theorem dX2_house_111 : decode cX2_house 111 = .ok (.getfield 148, 3) := dk_180 0 148 (dk_at dksX2_house_4 17 rfl rfl)
theorem dX2_house_114 : decode cX2_house 114 = .ok (.invokevirtual 152, 3) := dk_182 0 152 (dk_at dksX2_house_4 20 rfl rfl)
theorem dX2_house_117 : decode cX2_house 117 = .ok (.bipush 6, 2) := dk_16 6 (dk_at dksX2_house_5 0 rfl rfl)
theorem dX2_house_119 : decode cX2_house 119 = .ok (.if_icmp .eq 43, 3) := dk_159 0 43 (dk_at dksX2_house_5 2 rfl rfl)
theorem dX2_house_122 : decode cX2_house 122 = .ok (.iload_n 1, 1) := dk_27 (dk_at dksX2_house_5 5 rfl rfl)
theorem dX2_house_123 : decode cX2_house 123 = .ok (.iconst 1, 1) := dk_4 (dk_at dksX2_house_5 6 rfl rfl)
theorem dX2_house_124 : decode cX2_house 124 = .ok (.if_icmp .ne 18, 3) := dk_160 0 18 (dk_at dksX2_house_5 7 rfl rfl)
theorem dX2_house_127 : decode cX2_house 127 = .ok (.aload_n 0, 1) := dk_42 (dk_at dksX2_house_5 10 rfl rfl)
theorem dX2_house_128 : decode cX2_house 128 = .ok (.getfield 101, 3) := dk_180 0 101 (dk_at dksX2_house_5 11 rfl rfl)
theorem dX2_house_131 : decode cX2_house 131 = .ok (.getfield 156, 3) := dk_180 0 156 (dk_at dksX2_house_5 14 rfl rfl)
theorem dX2_house_134 : decode cX2_house 134 = .ok (.invokevirtual 152, 3) := dk_182 0 152 (dk_at dksX2_house_5 17 rfl rfl)
theorem dX2_house_137 : decode cX2_house 137 = .ok (.bipush 6, 2) := dk_16 6 (dk_at dksX2_house_5 20 rfl rfl)
theorem dX2_house_139 : decode cX2_house 139 = .ok (.if_icmp .eq 23, 3) := dk_159 0 23 (dk_at dksX2_house_6 0 rfl rfl)
theorem dX2_house_142 : decode cX2_house 142 = .ok (.iload_n 1, 1) := dk_27 (dk_at dksX2_house_6 3 rfl rfl)
theorem dX2_house_143 : decode cX2_house 143 = .ok (.iconst 3, 1) := dk_6 (dk_at dksX2_house_6 4 rfl rfl)
theorem dX2_house_144 : decode cX2_house 144 = .ok (.if_icmp .ne 24, 3) := dk_160 0 24 (dk_at dksX2_house_6 5 rfl rfl)
theorem dX2_house_147 : decode cX2_house 147 = .ok (.aload_n 0, 1) := dk_42 (dk_at dksX2_house_6 8 rfl rfl)
theorem dX2_house_148 : decode cX2_house 148 = .ok (.getfield 101, 3) := dk_180 0 101 (dk_at dksX2_house_6 9 rfl rfl)
theorem dX2_house_151 : decode cX2_house 151 = .ok (.getfield 159, 3) := dk_180 0 159 (dk_at dksX2_house_6 12 rfl rfl)
theorem dX2_house_154 : decode cX2_house 154 = .ok (.invokevirtual 152, 3) := dk_182 0 152 (dk_at dksX2_house_6 15 rfl rfl)
theorem dX2_house_157 : decode cX2_house 157 = .ok (.bipush 6, 2) := dk_16 6 (dk_at dksX2_house_6 18 rfl rfl)
theorem dX2_house_159 : decode cX2_house 159 = .ok (.if_icmp .ne 9, 3) := dk_160 0 9 (dk_at dksX2_house_6 20 rfl rfl)
theorem dX2_house_162 : decode cX2_house 162 = .ok (.aload_n 0, 1) := dk_42 (dk_at dksX2_house_6 23 rfl rfl)
theorem dX2_house_163 : decode cX2_house 163 = .ok (.iconst 5, 1) := dk_8 (dk_at dksX2_house_7 0 rfl rfl)
theorem dX2_house_164 : decode cX2_house 164 = .ok (.invokevirtual 75, 3) := dk_182 0 75 (dk_at dksX2_house_7 1 rfl rfl)
theorem dX2_house_167 : decode cX2_house 167 = .ok (.athrow, 1) := dk_191 (dk_at dksX2_house_7 4 rfl rfl)
theorem dX2_house_168 : decode cX2_house 168 = .ok (.aload_n 0, 1) := dk_42 (dk_at dksX2_house_7 5 rfl rfl)
theorem dX2_house_169 : decode cX2_house 169 = .ok (.invokevirtual 25, 3) := dk_182 0 25 (dk_at dksX2_house_7 6 rfl rfl)
theorem dX2_house_172 : decode cX2_house 172 = .ok (.aload_n 0, 1) := dk_42 (dk_at dksX2_house_7 9 rfl rfl)
theorem dX2_house_173 : decode cX2_house 173 = .ok (.iload_n 1, 1) := dk_27 (dk_at dksX2_house_7 10 rfl rfl)
theorem dX2_house_174 : decode cX2_house 174 = .ok (.invokevirtual 162, 3) := dk_182 0 162 (dk_at dksX2_house_7 11 rfl rfl)
theorem dX2_house_177 : decode cX2_house 177 = .ok (.aload_n 0, 1) := dk_42 (dk_at dksX2_house_7 14 rfl rfl)
theorem dX2_house_178 : decode cX2_house 178 = .ok (.bipush 59, 2) := dk_16 59 (dk_at dksX2_house_7 15 rfl rfl)
theorem dX2_house_180 : decode cX2_house 180 = .ok (.invokevirtual 165, 3) := dk_182 0 165 (dk_at dksX2_house_7 17 rfl rfl)
theorem dX2_house_183 : decode cX2_house 183 = .ok (.goto (-172), 3) := dk_167 255 84 (dk_at dksX2_house_7 20 rfl rfl)
theorem dX2_house_186 : decode cX2_house 186 = .ok (.aload_n 0, 1) := dk_42 (dk_at dksX2_house_7 23 rfl rfl)
theorem dX2_house_187 : decode cX2_house 187 = .ok (.getfield 101, 3) := dk_180 0 101 (dk_at dksX2_house_8 0 rfl rfl)
theorem dX2_house_190 : decode cX2_house 190 = .ok (.areturn, 1) := dk_176 (dk_at dksX2_house_8 3 rfl rfl)
abbrev cX2_which : ByteArray := prog_17_method_8_code
def yX2_which : MethodName := ⟨RX2, "which", "(Ljava/lang/String;)I"⟩
def dkwX2_which_5 : List UInt8 := [96, 62, 132, 2, 1, 167, 255, 140, 2, 172]
abbrev dktX2_which_5 : List UInt8 := dkwX2_which_5 ++ []
def dkwX2_which_4 : List UInt8 := [167, 0, 4, 3, 54, 5, 132, 6, 1, 167, 255, 211, 21, 5, 153, 0, 5, 28, 172, 29, 21, 4, 4, 96]
abbrev dktX2_which_4 : List UInt8 := dkwX2_which_4 ++ dktX2_which_5
def dkwX2_which_3 : List UInt8 := [180, 0, 9, 42, 180, 0, 28, 21, 6, 96, 51, 43, 29, 21, 6, 96, 182, 0, 67, 160, 0, 7, 4]
abbrev dktX2_which_3 : List UInt8 := dkwX2_which_3 ++ dktX2_which_4
def dkwX2_which_2 : List UInt8 := [167, 0, 4, 3, 54, 5, 3, 54, 6, 21, 5, 153, 0, 46, 21, 6, 21, 4, 162, 0, 39, 42]
abbrev dktX2_which_2 : List UInt8 := dkwX2_which_2 ++ dktX2_which_3
def dkwX2_which_1 : List UInt8 := [182, 0, 64, 29, 100, 54, 4, 42, 180, 0, 19, 42, 180, 0, 28, 100, 21, 4, 160, 0, 7, 4]
abbrev dktX2_which_1 : List UInt8 := dkwX2_which_1 ++ dktX2_which_2
def dkwX2_which_0 : List UInt8 := [3, 61, 3, 62, 29, 43, 182, 0, 60, 162, 0, 114, 42, 180, 0, 31, 4, 160, 0, 106, 43, 16, 32, 29]
abbrev dktX2_which_0 : List UInt8 := dkwX2_which_0 ++ dktX2_which_1
theorem dksX2_which_0 : cX2_which.data.toList.drop 0 = dktX2_which_0 := by decide +kernel
theorem dksX2_which_1 : cX2_which.data.toList.drop 24 = dktX2_which_1 := dk_seg dksX2_which_0 24 rfl rfl
theorem dksX2_which_2 : cX2_which.data.toList.drop 46 = dktX2_which_2 := dk_seg dksX2_which_1 22 rfl rfl
theorem dksX2_which_3 : cX2_which.data.toList.drop 68 = dktX2_which_3 := dk_seg dksX2_which_2 22 rfl rfl
theorem dksX2_which_4 : cX2_which.data.toList.drop 91 = dktX2_which_4 := dk_seg dksX2_which_3 23 rfl rfl
theorem dksX2_which_5 : cX2_which.data.toList.drop 115 = dktX2_which_5 := dk_seg dksX2_which_4 24 rfl rfl
theorem dX2_which_0 : decode cX2_which 0 = .ok (.iconst 0, 1) := dk_3 (dk_at dksX2_which_0 0 rfl rfl)
theorem dX2_which_1 : decode cX2_which 1 = .ok (.istore_n 2, 1) := dk_61 (dk_at dksX2_which_0 1 rfl rfl)
theorem dX2_which_2 : decode cX2_which 2 = .ok (.iconst 0, 1) := dk_3 (dk_at dksX2_which_0 2 rfl rfl)
theorem dX2_which_3 : decode cX2_which 3 = .ok (.istore_n 3, 1) := dk_62 (dk_at dksX2_which_0 3 rfl rfl)
theorem dX2_which_4 : decode cX2_which 4 = .ok (.iload_n 3, 1) := dk_29 (dk_at dksX2_which_0 4 rfl rfl)
theorem dX2_which_5 : decode cX2_which 5 = .ok (.aload_n 1, 1) := dk_43 (dk_at dksX2_which_0 5 rfl rfl)
theorem dX2_which_6 : decode cX2_which 6 = .ok (.invokevirtual 60, 3) := dk_182 0 60 (dk_at dksX2_which_0 6 rfl rfl)
theorem dX2_which_9 : decode cX2_which 9 = .ok (.if_icmp .ge 114, 3) := dk_162 0 114 (dk_at dksX2_which_0 9 rfl rfl)
theorem dX2_which_12 : decode cX2_which 12 = .ok (.aload_n 0, 1) := dk_42 (dk_at dksX2_which_0 12 rfl rfl)
theorem dX2_which_13 : decode cX2_which 13 = .ok (.getfield 31, 3) := dk_180 0 31 (dk_at dksX2_which_0 13 rfl rfl)
theorem dX2_which_16 : decode cX2_which 16 = .ok (.iconst 1, 1) := dk_4 (dk_at dksX2_which_0 16 rfl rfl)
theorem dX2_which_17 : decode cX2_which 17 = .ok (.if_icmp .ne 106, 3) := dk_160 0 106 (dk_at dksX2_which_0 17 rfl rfl)
theorem dX2_which_20 : decode cX2_which 20 = .ok (.aload_n 1, 1) := dk_43 (dk_at dksX2_which_0 20 rfl rfl)
theorem dX2_which_21 : decode cX2_which 21 = .ok (.bipush 32, 2) := dk_16 32 (dk_at dksX2_which_0 21 rfl rfl)
theorem dX2_which_23 : decode cX2_which 23 = .ok (.iload_n 3, 1) := dk_29 (dk_at dksX2_which_0 23 rfl rfl)
theorem dX2_which_24 : decode cX2_which 24 = .ok (.invokevirtual 64, 3) := dk_182 0 64 (dk_at dksX2_which_1 0 rfl rfl)
theorem dX2_which_27 : decode cX2_which 27 = .ok (.iload_n 3, 1) := dk_29 (dk_at dksX2_which_1 3 rfl rfl)
theorem dX2_which_28 : decode cX2_which 28 = .ok (.isub, 1) := dk_100 (dk_at dksX2_which_1 4 rfl rfl)
theorem dX2_which_29 : decode cX2_which 29 = .ok (.istore 4, 2) := dk_54 4 (dk_at dksX2_which_1 5 rfl rfl)
theorem dX2_which_31 : decode cX2_which 31 = .ok (.aload_n 0, 1) := dk_42 (dk_at dksX2_which_1 7 rfl rfl)
theorem dX2_which_32 : decode cX2_which 32 = .ok (.getfield 19, 3) := dk_180 0 19 (dk_at dksX2_which_1 8 rfl rfl)
theorem dX2_which_35 : decode cX2_which 35 = .ok (.aload_n 0, 1) := dk_42 (dk_at dksX2_which_1 11 rfl rfl)
theorem dX2_which_36 : decode cX2_which 36 = .ok (.getfield 28, 3) := dk_180 0 28 (dk_at dksX2_which_1 12 rfl rfl)
theorem dX2_which_39 : decode cX2_which 39 = .ok (.isub, 1) := dk_100 (dk_at dksX2_which_1 15 rfl rfl)
theorem dX2_which_40 : decode cX2_which 40 = .ok (.iload 4, 2) := dk_21 4 (dk_at dksX2_which_1 16 rfl rfl)
theorem dX2_which_42 : decode cX2_which 42 = .ok (.if_icmp .ne 7, 3) := dk_160 0 7 (dk_at dksX2_which_1 18 rfl rfl)
theorem dX2_which_45 : decode cX2_which 45 = .ok (.iconst 1, 1) := dk_4 (dk_at dksX2_which_1 21 rfl rfl)
theorem dX2_which_46 : decode cX2_which 46 = .ok (.goto 4, 3) := dk_167 0 4 (dk_at dksX2_which_2 0 rfl rfl)
theorem dX2_which_49 : decode cX2_which 49 = .ok (.iconst 0, 1) := dk_3 (dk_at dksX2_which_2 3 rfl rfl)
theorem dX2_which_50 : decode cX2_which 50 = .ok (.istore 5, 2) := dk_54 5 (dk_at dksX2_which_2 4 rfl rfl)
theorem dX2_which_52 : decode cX2_which 52 = .ok (.iconst 0, 1) := dk_3 (dk_at dksX2_which_2 6 rfl rfl)
theorem dX2_which_53 : decode cX2_which 53 = .ok (.istore 6, 2) := dk_54 6 (dk_at dksX2_which_2 7 rfl rfl)
theorem dX2_which_55 : decode cX2_which 55 = .ok (.iload 5, 2) := dk_21 5 (dk_at dksX2_which_2 9 rfl rfl)
theorem dX2_which_57 : decode cX2_which 57 = .ok (.ifCond .eq 46, 3) := dk_153 0 46 (dk_at dksX2_which_2 11 rfl rfl)
theorem dX2_which_60 : decode cX2_which 60 = .ok (.iload 6, 2) := dk_21 6 (dk_at dksX2_which_2 14 rfl rfl)
theorem dX2_which_62 : decode cX2_which 62 = .ok (.iload 4, 2) := dk_21 4 (dk_at dksX2_which_2 16 rfl rfl)
theorem dX2_which_64 : decode cX2_which 64 = .ok (.if_icmp .ge 39, 3) := dk_162 0 39 (dk_at dksX2_which_2 18 rfl rfl)
theorem dX2_which_67 : decode cX2_which 67 = .ok (.aload_n 0, 1) := dk_42 (dk_at dksX2_which_2 21 rfl rfl)
theorem dX2_which_68 : decode cX2_which 68 = .ok (.getfield 9, 3) := dk_180 0 9 (dk_at dksX2_which_3 0 rfl rfl)
theorem dX2_which_71 : decode cX2_which 71 = .ok (.aload_n 0, 1) := dk_42 (dk_at dksX2_which_3 3 rfl rfl)
theorem dX2_which_72 : decode cX2_which 72 = .ok (.getfield 28, 3) := dk_180 0 28 (dk_at dksX2_which_3 4 rfl rfl)
theorem dX2_which_75 : decode cX2_which 75 = .ok (.iload 6, 2) := dk_21 6 (dk_at dksX2_which_3 7 rfl rfl)
theorem dX2_which_77 : decode cX2_which 77 = .ok (.iadd, 1) := dk_96 (dk_at dksX2_which_3 9 rfl rfl)
theorem dX2_which_78 : decode cX2_which 78 = .ok (.baload, 1) := dk_51 (dk_at dksX2_which_3 10 rfl rfl)
theorem dX2_which_79 : decode cX2_which 79 = .ok (.aload_n 1, 1) := dk_43 (dk_at dksX2_which_3 11 rfl rfl)
theorem dX2_which_80 : decode cX2_which 80 = .ok (.iload_n 3, 1) := dk_29 (dk_at dksX2_which_3 12 rfl rfl)
theorem dX2_which_81 : decode cX2_which 81 = .ok (.iload 6, 2) := dk_21 6 (dk_at dksX2_which_3 13 rfl rfl)
theorem dX2_which_83 : decode cX2_which 83 = .ok (.iadd, 1) := dk_96 (dk_at dksX2_which_3 15 rfl rfl)
theorem dX2_which_84 : decode cX2_which 84 = .ok (.invokevirtual 67, 3) := dk_182 0 67 (dk_at dksX2_which_3 16 rfl rfl)
theorem dX2_which_87 : decode cX2_which 87 = .ok (.if_icmp .ne 7, 3) := dk_160 0 7 (dk_at dksX2_which_3 19 rfl rfl)
theorem dX2_which_90 : decode cX2_which 90 = .ok (.iconst 1, 1) := dk_4 (dk_at dksX2_which_3 22 rfl rfl)
theorem dX2_which_91 : decode cX2_which 91 = .ok (.goto 4, 3) := dk_167 0 4 (dk_at dksX2_which_4 0 rfl rfl)
theorem dX2_which_94 : decode cX2_which 94 = .ok (.iconst 0, 1) := dk_3 (dk_at dksX2_which_4 3 rfl rfl)
theorem dX2_which_95 : decode cX2_which 95 = .ok (.istore 5, 2) := dk_54 5 (dk_at dksX2_which_4 4 rfl rfl)
theorem dX2_which_97 : decode cX2_which 97 = .ok (.iinc 6 1, 3) := dk_132 6 1 (dk_at dksX2_which_4 6 rfl rfl)
theorem dX2_which_100 : decode cX2_which 100 = .ok (.goto (-45), 3) := dk_167 255 211 (dk_at dksX2_which_4 9 rfl rfl)
theorem dX2_which_103 : decode cX2_which 103 = .ok (.iload 5, 2) := dk_21 5 (dk_at dksX2_which_4 12 rfl rfl)
theorem dX2_which_105 : decode cX2_which 105 = .ok (.ifCond .eq 5, 3) := dk_153 0 5 (dk_at dksX2_which_4 14 rfl rfl)
theorem dX2_which_108 : decode cX2_which 108 = .ok (.iload_n 2, 1) := dk_28 (dk_at dksX2_which_4 17 rfl rfl)
theorem dX2_which_109 : decode cX2_which 109 = .ok (.ireturn, 1) := dk_172 (dk_at dksX2_which_4 18 rfl rfl)
theorem dX2_which_110 : decode cX2_which 110 = .ok (.iload_n 3, 1) := dk_29 (dk_at dksX2_which_4 19 rfl rfl)
theorem dX2_which_111 : decode cX2_which 111 = .ok (.iload 4, 2) := dk_21 4 (dk_at dksX2_which_4 20 rfl rfl)
theorem dX2_which_113 : decode cX2_which 113 = .ok (.iconst 1, 1) := dk_4 (dk_at dksX2_which_4 22 rfl rfl)
theorem dX2_which_114 : decode cX2_which 114 = .ok (.iadd, 1) := dk_96 (dk_at dksX2_which_4 23 rfl rfl)
theorem dX2_which_115 : decode cX2_which 115 = .ok (.iadd, 1) := dk_96 (dk_at dksX2_which_5 0 rfl rfl)
theorem dX2_which_116 : decode cX2_which 116 = .ok (.istore_n 3, 1) := dk_62 (dk_at dksX2_which_5 1 rfl rfl)
theorem dX2_which_117 : decode cX2_which 117 = .ok (.iinc 2 1, 3) := dk_132 2 1 (dk_at dksX2_which_5 2 rfl rfl)
theorem dX2_which_120 : decode cX2_which 120 = .ok (.goto (-116), 3) := dk_167 255 140 (dk_at dksX2_which_5 5 rfl rfl)
theorem dX2_which_123 : decode cX2_which 123 = .ok (.iconst (-1), 1) := dk_2 (dk_at dksX2_which_5 8 rfl rfl)
theorem dX2_which_124 : decode cX2_which 124 = .ok (.ireturn, 1) := dk_172 (dk_at dksX2_which_5 9 rfl rfl)
abbrev cX2_wrong : ByteArray := prog_17_method_7_code
def yX2_wrong : MethodName := ⟨RX2, "wrong", "(I)LPulseRent$Wrong;"⟩
def dkwX2_wrong_0 : List UInt8 := [187, 0, 55, 89, 27, 42, 180, 0, 28, 183, 0, 57, 176]
abbrev dktX2_wrong_0 : List UInt8 := dkwX2_wrong_0 ++ []
theorem dksX2_wrong_0 : cX2_wrong.data.toList.drop 0 = dktX2_wrong_0 := by decide +kernel
theorem dX2_wrong_0 : decode cX2_wrong 0 = .ok (.new 55, 3) := dk_187 0 55 (dk_at dksX2_wrong_0 0 rfl rfl)
theorem dX2_wrong_3 : decode cX2_wrong 3 = .ok (.dup, 1) := dk_89 (dk_at dksX2_wrong_0 3 rfl rfl)
theorem dX2_wrong_4 : decode cX2_wrong 4 = .ok (.iload_n 1, 1) := dk_27 (dk_at dksX2_wrong_0 4 rfl rfl)
theorem dX2_wrong_5 : decode cX2_wrong 5 = .ok (.aload_n 0, 1) := dk_42 (dk_at dksX2_wrong_0 5 rfl rfl)
theorem dX2_wrong_6 : decode cX2_wrong 6 = .ok (.getfield 28, 3) := dk_180 0 28 (dk_at dksX2_wrong_0 6 rfl rfl)
theorem dX2_wrong_9 : decode cX2_wrong 9 = .ok (.invokespecial 57, 3) := dk_183 0 57 (dk_at dksX2_wrong_0 9 rfl rfl)
theorem dX2_wrong_12 : decode cX2_wrong 12 = .ok (.areturn, 1) := dk_176 (dk_at dksX2_wrong_0 12 rfl rfl)
abbrev cX2_line : ByteArray := prog_17_method_21_code
def yX2_line : MethodName := ⟨RX2, "line", "(I)V"⟩
def dkwX2_line_11 : List UInt8 := [181, 0, 145, 177]
abbrev dktX2_line_11 : List UInt8 := dkwX2_line_11 ++ []
def dkwX2_line_10 : List UInt8 := [42, 18, 209, 182, 0, 211, 181, 0, 141, 167, 0, 16, 42, 180, 0, 101, 42, 18, 215, 182, 0, 211]
abbrev dktX2_line_10 : List UInt8 := dkwX2_line_10 ++ dktX2_line_11
def dkwX2_line_9 : List UInt8 := [167, 0, 49, 42, 180, 0, 101, 42, 4, 16, 30, 182, 0, 121, 181, 0, 138, 167, 0, 32, 42, 180, 0, 101]
abbrev dktX2_line_9 : List UInt8 := dkwX2_line_9 ++ dktX2_line_10
def dkwX2_line_8 : List UInt8 := [180, 0, 101, 42, 18, 204, 4, 16, 120, 182, 0, 173, 181, 0, 206, 42, 180, 0, 101, 28, 181, 0, 135]
abbrev dktX2_line_8 : List UInt8 := dkwX2_line_8 ++ dktX2_line_9
def dkwX2_line_7 : List UInt8 := [16, 60, 182, 0, 173, 183, 0, 203, 182, 0, 185, 87, 167, 0, 84, 42, 3, 16, 60, 182, 0, 121, 61, 42]
abbrev dktX2_line_7 : List UInt8 := dkwX2_line_7 ++ dktX2_line_8
def dkwX2_line_6 : List UInt8 := [182, 0, 173, 54, 4, 42, 180, 0, 101, 180, 0, 159, 187, 0, 199, 89, 44, 29, 21, 4, 42, 18, 201, 3]
abbrev dktX2_line_6 : List UInt8 := dkwX2_line_6 ++ dktX2_line_7
def dkwX2_line_5 : List UInt8 := [167, 0, 144, 42, 182, 0, 168, 77, 42, 18, 195, 3, 16, 99, 182, 0, 173, 62, 42, 18, 197, 4, 16, 20]
abbrev dktX2_line_5 : List UInt8 := dkwX2_line_5 ++ dktX2_line_6
def dkwX2_line_4 : List UInt8 := [182, 0, 173, 183, 0, 182, 182, 0, 185, 87, 167, 0, 158, 42, 182, 0, 189, 167, 0, 151, 42, 182, 0, 192]
abbrev dktX2_line_4 : List UInt8 := dkwX2_line_4 ++ dktX2_line_5
def dkwX2_line_3 : List UInt8 := [54, 4, 42, 180, 0, 101, 180, 0, 148, 187, 0, 178, 89, 44, 29, 21, 4, 42, 18, 180, 3, 17, 3, 231]
abbrev dktX2_line_3 : List UInt8 := dkwX2_line_3 ++ dktX2_line_4
def dkwX2_line_2 : List UInt8 := [42, 182, 0, 168, 77, 42, 18, 171, 3, 16, 60, 182, 0, 173, 62, 42, 18, 176, 3, 16, 20, 182, 0, 173]
abbrev dktX2_line_2 : List UInt8 := dkwX2_line_2 ++ dktX2_line_3
def dkwX2_line_1 : List UInt8 := [170, 0, 0, 0, 0, 0, 246, 0, 0, 0, 0, 0, 0, 0, 6, 0, 0, 0, 43, 0, 0, 0, 104, 0, 0, 0, 111, 0, 0, 0, 118, 0, 0, 0, 178, 0, 0, 0, 213, 0, 0, 0, 230]
abbrev dktX2_line_1 : List UInt8 := dkwX2_line_1 ++ dktX2_line_2
def dkwX2_line_0 : List UInt8 := [27]
abbrev dktX2_line_0 : List UInt8 := dkwX2_line_0 ++ dktX2_line_1
theorem dksX2_line_0 : cX2_line.data.toList.drop 0 = dktX2_line_0 := by decide +kernel
theorem dksX2_line_1 : cX2_line.data.toList.drop 1 = dktX2_line_1 := dk_seg dksX2_line_0 1 rfl rfl
theorem dksX2_line_2 : cX2_line.data.toList.drop 44 = dktX2_line_2 := dk_seg dksX2_line_1 43 rfl rfl
theorem dksX2_line_3 : cX2_line.data.toList.drop 68 = dktX2_line_3 := dk_seg dksX2_line_2 24 rfl rfl
theorem dksX2_line_4 : cX2_line.data.toList.drop 92 = dktX2_line_4 := dk_seg dksX2_line_3 24 rfl rfl
theorem dksX2_line_5 : cX2_line.data.toList.drop 116 = dktX2_line_5 := dk_seg dksX2_line_4 24 rfl rfl
theorem dksX2_line_6 : cX2_line.data.toList.drop 140 = dktX2_line_6 := dk_seg dksX2_line_5 24 rfl rfl
theorem dksX2_line_7 : cX2_line.data.toList.drop 164 = dktX2_line_7 := dk_seg dksX2_line_6 24 rfl rfl
theorem dksX2_line_8 : cX2_line.data.toList.drop 188 = dktX2_line_8 := dk_seg dksX2_line_7 24 rfl rfl
theorem dksX2_line_9 : cX2_line.data.toList.drop 211 = dktX2_line_9 := dk_seg dksX2_line_8 23 rfl rfl
theorem dksX2_line_10 : cX2_line.data.toList.drop 235 = dktX2_line_10 := dk_seg dksX2_line_9 24 rfl rfl
theorem dksX2_line_11 : cX2_line.data.toList.drop 257 = dktX2_line_11 := dk_seg dksX2_line_10 22 rfl rfl
theorem dX2_line_0 : decode cX2_line 0 = .ok (.iload_n 1, 1) := dk_27 (dk_at dksX2_line_0 0 rfl rfl)
theorem dX2_line_1 : decode cX2_line 1 = .ok (.tableswitch 246 0 6 #[43, 104, 111, 118, 178, 213, 230], 43) := by decide +kernel
theorem dX2_line_44 : decode cX2_line 44 = .ok (.aload_n 0, 1) := dk_42 (dk_at dksX2_line_2 0 rfl rfl)
theorem dX2_line_45 : decode cX2_line 45 = .ok (.invokevirtual 168, 3) := dk_182 0 168 (dk_at dksX2_line_2 1 rfl rfl)
theorem dX2_line_48 : decode cX2_line 48 = .ok (.astore_n 2, 1) := dk_77 (dk_at dksX2_line_2 4 rfl rfl)
theorem dX2_line_49 : decode cX2_line 49 = .ok (.aload_n 0, 1) := dk_42 (dk_at dksX2_line_2 5 rfl rfl)
theorem dX2_line_50 : decode cX2_line 50 = .ok (.ldc 171, 2) := dk_18 171 (dk_at dksX2_line_2 6 rfl rfl)
theorem dX2_line_52 : decode cX2_line 52 = .ok (.iconst 0, 1) := dk_3 (dk_at dksX2_line_2 8 rfl rfl)
theorem dX2_line_53 : decode cX2_line 53 = .ok (.bipush 60, 2) := dk_16 60 (dk_at dksX2_line_2 9 rfl rfl)
theorem dX2_line_55 : decode cX2_line 55 = .ok (.invokevirtual 173, 3) := dk_182 0 173 (dk_at dksX2_line_2 11 rfl rfl)
theorem dX2_line_58 : decode cX2_line 58 = .ok (.istore_n 3, 1) := dk_62 (dk_at dksX2_line_2 14 rfl rfl)
theorem dX2_line_59 : decode cX2_line 59 = .ok (.aload_n 0, 1) := dk_42 (dk_at dksX2_line_2 15 rfl rfl)
theorem dX2_line_60 : decode cX2_line 60 = .ok (.ldc 176, 2) := dk_18 176 (dk_at dksX2_line_2 16 rfl rfl)
theorem dX2_line_62 : decode cX2_line 62 = .ok (.iconst 0, 1) := dk_3 (dk_at dksX2_line_2 18 rfl rfl)
theorem dX2_line_63 : decode cX2_line 63 = .ok (.bipush 20, 2) := dk_16 20 (dk_at dksX2_line_2 19 rfl rfl)
theorem dX2_line_65 : decode cX2_line 65 = .ok (.invokevirtual 173, 3) := dk_182 0 173 (dk_at dksX2_line_2 21 rfl rfl)
theorem dX2_line_68 : decode cX2_line 68 = .ok (.istore 4, 2) := dk_54 4 (dk_at dksX2_line_3 0 rfl rfl)
theorem dX2_line_70 : decode cX2_line 70 = .ok (.aload_n 0, 1) := dk_42 (dk_at dksX2_line_3 2 rfl rfl)
theorem dX2_line_71 : decode cX2_line 71 = .ok (.getfield 101, 3) := dk_180 0 101 (dk_at dksX2_line_3 3 rfl rfl)
theorem dX2_line_74 : decode cX2_line 74 = .ok (.getfield 148, 3) := dk_180 0 148 (dk_at dksX2_line_3 6 rfl rfl)
theorem dX2_line_77 : decode cX2_line 77 = .ok (.new 178, 3) := dk_187 0 178 (dk_at dksX2_line_3 9 rfl rfl)
theorem dX2_line_80 : decode cX2_line 80 = .ok (.dup, 1) := dk_89 (dk_at dksX2_line_3 12 rfl rfl)
theorem dX2_line_81 : decode cX2_line 81 = .ok (.aload_n 2, 1) := dk_44 (dk_at dksX2_line_3 13 rfl rfl)
theorem dX2_line_82 : decode cX2_line 82 = .ok (.iload_n 3, 1) := dk_29 (dk_at dksX2_line_3 14 rfl rfl)
theorem dX2_line_83 : decode cX2_line 83 = .ok (.iload 4, 2) := dk_21 4 (dk_at dksX2_line_3 15 rfl rfl)
theorem dX2_line_85 : decode cX2_line 85 = .ok (.aload_n 0, 1) := dk_42 (dk_at dksX2_line_3 17 rfl rfl)
theorem dX2_line_86 : decode cX2_line 86 = .ok (.ldc 180, 2) := dk_18 180 (dk_at dksX2_line_3 18 rfl rfl)
theorem dX2_line_88 : decode cX2_line 88 = .ok (.iconst 0, 1) := dk_3 (dk_at dksX2_line_3 20 rfl rfl)
theorem dX2_line_89 : decode cX2_line 89 = .ok (.sipush 999, 3) := dk_17 3 231 (dk_at dksX2_line_3 21 rfl rfl)
theorem dX2_line_92 : decode cX2_line 92 = .ok (.invokevirtual 173, 3) := dk_182 0 173 (dk_at dksX2_line_4 0 rfl rfl)
theorem dX2_line_95 : decode cX2_line 95 = .ok (.invokespecial 182, 3) := dk_183 0 182 (dk_at dksX2_line_4 3 rfl rfl)
theorem dX2_line_98 : decode cX2_line 98 = .ok (.invokevirtual 185, 3) := dk_182 0 185 (dk_at dksX2_line_4 6 rfl rfl)
theorem dX2_line_101 : decode cX2_line 101 = .ok (.pop, 1) := dk_87 (dk_at dksX2_line_4 9 rfl rfl)
theorem dX2_line_102 : decode cX2_line 102 = .ok (.goto 158, 3) := dk_167 0 158 (dk_at dksX2_line_4 10 rfl rfl)
theorem dX2_line_105 : decode cX2_line 105 = .ok (.aload_n 0, 1) := dk_42 (dk_at dksX2_line_4 13 rfl rfl)
theorem dX2_line_106 : decode cX2_line 106 = .ok (.invokevirtual 189, 3) := dk_182 0 189 (dk_at dksX2_line_4 14 rfl rfl)
theorem dX2_line_109 : decode cX2_line 109 = .ok (.goto 151, 3) := dk_167 0 151 (dk_at dksX2_line_4 17 rfl rfl)
theorem dX2_line_112 : decode cX2_line 112 = .ok (.aload_n 0, 1) := dk_42 (dk_at dksX2_line_4 20 rfl rfl)
theorem dX2_line_113 : decode cX2_line 113 = .ok (.invokevirtual 192, 3) := dk_182 0 192 (dk_at dksX2_line_4 21 rfl rfl)
theorem dX2_line_116 : decode cX2_line 116 = .ok (.goto 144, 3) := dk_167 0 144 (dk_at dksX2_line_5 0 rfl rfl)
theorem dX2_line_119 : decode cX2_line 119 = .ok (.aload_n 0, 1) := dk_42 (dk_at dksX2_line_5 3 rfl rfl)
theorem dX2_line_120 : decode cX2_line 120 = .ok (.invokevirtual 168, 3) := dk_182 0 168 (dk_at dksX2_line_5 4 rfl rfl)
theorem dX2_line_123 : decode cX2_line 123 = .ok (.astore_n 2, 1) := dk_77 (dk_at dksX2_line_5 7 rfl rfl)
theorem dX2_line_124 : decode cX2_line 124 = .ok (.aload_n 0, 1) := dk_42 (dk_at dksX2_line_5 8 rfl rfl)
theorem dX2_line_125 : decode cX2_line 125 = .ok (.ldc 195, 2) := dk_18 195 (dk_at dksX2_line_5 9 rfl rfl)
theorem dX2_line_127 : decode cX2_line 127 = .ok (.iconst 0, 1) := dk_3 (dk_at dksX2_line_5 11 rfl rfl)
theorem dX2_line_128 : decode cX2_line 128 = .ok (.bipush 99, 2) := dk_16 99 (dk_at dksX2_line_5 12 rfl rfl)
theorem dX2_line_130 : decode cX2_line 130 = .ok (.invokevirtual 173, 3) := dk_182 0 173 (dk_at dksX2_line_5 14 rfl rfl)
theorem dX2_line_133 : decode cX2_line 133 = .ok (.istore_n 3, 1) := dk_62 (dk_at dksX2_line_5 17 rfl rfl)
theorem dX2_line_134 : decode cX2_line 134 = .ok (.aload_n 0, 1) := dk_42 (dk_at dksX2_line_5 18 rfl rfl)
theorem dX2_line_135 : decode cX2_line 135 = .ok (.ldc 197, 2) := dk_18 197 (dk_at dksX2_line_5 19 rfl rfl)
theorem dX2_line_137 : decode cX2_line 137 = .ok (.iconst 1, 1) := dk_4 (dk_at dksX2_line_5 21 rfl rfl)
theorem dX2_line_138 : decode cX2_line 138 = .ok (.bipush 20, 2) := dk_16 20 (dk_at dksX2_line_5 22 rfl rfl)
theorem dX2_line_140 : decode cX2_line 140 = .ok (.invokevirtual 173, 3) := dk_182 0 173 (dk_at dksX2_line_6 0 rfl rfl)
theorem dX2_line_143 : decode cX2_line 143 = .ok (.istore 4, 2) := dk_54 4 (dk_at dksX2_line_6 3 rfl rfl)
theorem dX2_line_145 : decode cX2_line 145 = .ok (.aload_n 0, 1) := dk_42 (dk_at dksX2_line_6 5 rfl rfl)
theorem dX2_line_146 : decode cX2_line 146 = .ok (.getfield 101, 3) := dk_180 0 101 (dk_at dksX2_line_6 6 rfl rfl)
theorem dX2_line_149 : decode cX2_line 149 = .ok (.getfield 159, 3) := dk_180 0 159 (dk_at dksX2_line_6 9 rfl rfl)
theorem dX2_line_152 : decode cX2_line 152 = .ok (.new 199, 3) := dk_187 0 199 (dk_at dksX2_line_6 12 rfl rfl)
theorem dX2_line_155 : decode cX2_line 155 = .ok (.dup, 1) := dk_89 (dk_at dksX2_line_6 15 rfl rfl)
theorem dX2_line_156 : decode cX2_line 156 = .ok (.aload_n 2, 1) := dk_44 (dk_at dksX2_line_6 16 rfl rfl)
theorem dX2_line_157 : decode cX2_line 157 = .ok (.iload_n 3, 1) := dk_29 (dk_at dksX2_line_6 17 rfl rfl)
theorem dX2_line_158 : decode cX2_line 158 = .ok (.iload 4, 2) := dk_21 4 (dk_at dksX2_line_6 18 rfl rfl)
theorem dX2_line_160 : decode cX2_line 160 = .ok (.aload_n 0, 1) := dk_42 (dk_at dksX2_line_6 20 rfl rfl)
theorem dX2_line_161 : decode cX2_line 161 = .ok (.ldc 201, 2) := dk_18 201 (dk_at dksX2_line_6 21 rfl rfl)
theorem dX2_line_163 : decode cX2_line 163 = .ok (.iconst 0, 1) := dk_3 (dk_at dksX2_line_6 23 rfl rfl)
theorem dX2_line_164 : decode cX2_line 164 = .ok (.bipush 60, 2) := dk_16 60 (dk_at dksX2_line_7 0 rfl rfl)
theorem dX2_line_166 : decode cX2_line 166 = .ok (.invokevirtual 173, 3) := dk_182 0 173 (dk_at dksX2_line_7 2 rfl rfl)
theorem dX2_line_169 : decode cX2_line 169 = .ok (.invokespecial 203, 3) := dk_183 0 203 (dk_at dksX2_line_7 5 rfl rfl)
theorem dX2_line_172 : decode cX2_line 172 = .ok (.invokevirtual 185, 3) := dk_182 0 185 (dk_at dksX2_line_7 8 rfl rfl)
theorem dX2_line_175 : decode cX2_line 175 = .ok (.pop, 1) := dk_87 (dk_at dksX2_line_7 11 rfl rfl)
theorem dX2_line_176 : decode cX2_line 176 = .ok (.goto 84, 3) := dk_167 0 84 (dk_at dksX2_line_7 12 rfl rfl)
theorem dX2_line_179 : decode cX2_line 179 = .ok (.aload_n 0, 1) := dk_42 (dk_at dksX2_line_7 15 rfl rfl)
theorem dX2_line_180 : decode cX2_line 180 = .ok (.iconst 0, 1) := dk_3 (dk_at dksX2_line_7 16 rfl rfl)
theorem dX2_line_181 : decode cX2_line 181 = .ok (.bipush 60, 2) := dk_16 60 (dk_at dksX2_line_7 17 rfl rfl)
theorem dX2_line_183 : decode cX2_line 183 = .ok (.invokevirtual 121, 3) := dk_182 0 121 (dk_at dksX2_line_7 19 rfl rfl)
theorem dX2_line_186 : decode cX2_line 186 = .ok (.istore_n 2, 1) := dk_61 (dk_at dksX2_line_7 22 rfl rfl)
theorem dX2_line_187 : decode cX2_line 187 = .ok (.aload_n 0, 1) := dk_42 (dk_at dksX2_line_7 23 rfl rfl)
theorem dX2_line_188 : decode cX2_line 188 = .ok (.getfield 101, 3) := dk_180 0 101 (dk_at dksX2_line_8 0 rfl rfl)
theorem dX2_line_191 : decode cX2_line 191 = .ok (.aload_n 0, 1) := dk_42 (dk_at dksX2_line_8 3 rfl rfl)
theorem dX2_line_192 : decode cX2_line 192 = .ok (.ldc 204, 2) := dk_18 204 (dk_at dksX2_line_8 4 rfl rfl)
theorem dX2_line_194 : decode cX2_line 194 = .ok (.iconst 1, 1) := dk_4 (dk_at dksX2_line_8 6 rfl rfl)
theorem dX2_line_195 : decode cX2_line 195 = .ok (.bipush 120, 2) := dk_16 120 (dk_at dksX2_line_8 7 rfl rfl)
theorem dX2_line_197 : decode cX2_line 197 = .ok (.invokevirtual 173, 3) := dk_182 0 173 (dk_at dksX2_line_8 9 rfl rfl)
theorem dX2_line_200 : decode cX2_line 200 = .ok (.putfield 206, 3) := dk_181 0 206 (dk_at dksX2_line_8 12 rfl rfl)
theorem dX2_line_203 : decode cX2_line 203 = .ok (.aload_n 0, 1) := dk_42 (dk_at dksX2_line_8 15 rfl rfl)
theorem dX2_line_204 : decode cX2_line 204 = .ok (.getfield 101, 3) := dk_180 0 101 (dk_at dksX2_line_8 16 rfl rfl)
theorem dX2_line_207 : decode cX2_line 207 = .ok (.iload_n 2, 1) := dk_28 (dk_at dksX2_line_8 19 rfl rfl)
theorem dX2_line_208 : decode cX2_line 208 = .ok (.putfield 135, 3) := dk_181 0 135 (dk_at dksX2_line_8 20 rfl rfl)
theorem dX2_line_211 : decode cX2_line 211 = .ok (.goto 49, 3) := dk_167 0 49 (dk_at dksX2_line_9 0 rfl rfl)
theorem dX2_line_214 : decode cX2_line 214 = .ok (.aload_n 0, 1) := dk_42 (dk_at dksX2_line_9 3 rfl rfl)
theorem dX2_line_215 : decode cX2_line 215 = .ok (.getfield 101, 3) := dk_180 0 101 (dk_at dksX2_line_9 4 rfl rfl)
theorem dX2_line_218 : decode cX2_line 218 = .ok (.aload_n 0, 1) := dk_42 (dk_at dksX2_line_9 7 rfl rfl)
theorem dX2_line_219 : decode cX2_line 219 = .ok (.iconst 1, 1) := dk_4 (dk_at dksX2_line_9 8 rfl rfl)
theorem dX2_line_220 : decode cX2_line 220 = .ok (.bipush 30, 2) := dk_16 30 (dk_at dksX2_line_9 9 rfl rfl)
theorem dX2_line_222 : decode cX2_line 222 = .ok (.invokevirtual 121, 3) := dk_182 0 121 (dk_at dksX2_line_9 11 rfl rfl)
theorem dX2_line_225 : decode cX2_line 225 = .ok (.putfield 138, 3) := dk_181 0 138 (dk_at dksX2_line_9 14 rfl rfl)
theorem dX2_line_228 : decode cX2_line 228 = .ok (.goto 32, 3) := dk_167 0 32 (dk_at dksX2_line_9 17 rfl rfl)
theorem dX2_line_231 : decode cX2_line 231 = .ok (.aload_n 0, 1) := dk_42 (dk_at dksX2_line_9 20 rfl rfl)
theorem dX2_line_232 : decode cX2_line 232 = .ok (.getfield 101, 3) := dk_180 0 101 (dk_at dksX2_line_9 21 rfl rfl)
theorem dX2_line_235 : decode cX2_line 235 = .ok (.aload_n 0, 1) := dk_42 (dk_at dksX2_line_10 0 rfl rfl)
theorem dX2_line_236 : decode cX2_line 236 = .ok (.ldc 209, 2) := dk_18 209 (dk_at dksX2_line_10 1 rfl rfl)
theorem dX2_line_238 : decode cX2_line 238 = .ok (.invokevirtual 211, 3) := dk_182 0 211 (dk_at dksX2_line_10 3 rfl rfl)
theorem dX2_line_241 : decode cX2_line 241 = .ok (.putfield 141, 3) := dk_181 0 141 (dk_at dksX2_line_10 6 rfl rfl)
theorem dX2_line_244 : decode cX2_line 244 = .ok (.goto 16, 3) := dk_167 0 16 (dk_at dksX2_line_10 9 rfl rfl)
theorem dX2_line_247 : decode cX2_line 247 = .ok (.aload_n 0, 1) := dk_42 (dk_at dksX2_line_10 12 rfl rfl)
theorem dX2_line_248 : decode cX2_line 248 = .ok (.getfield 101, 3) := dk_180 0 101 (dk_at dksX2_line_10 13 rfl rfl)
theorem dX2_line_251 : decode cX2_line 251 = .ok (.aload_n 0, 1) := dk_42 (dk_at dksX2_line_10 16 rfl rfl)
theorem dX2_line_252 : decode cX2_line 252 = .ok (.ldc 215, 2) := dk_18 215 (dk_at dksX2_line_10 17 rfl rfl)
theorem dX2_line_254 : decode cX2_line 254 = .ok (.invokevirtual 211, 3) := dk_182 0 211 (dk_at dksX2_line_10 19 rfl rfl)
theorem dX2_line_257 : decode cX2_line 257 = .ok (.putfield 145, 3) := dk_181 0 145 (dk_at dksX2_line_11 0 rfl rfl)
theorem dX2_line_260 : decode cX2_line 260 = .ok (.return_, 1) := dk_177 (dk_at dksX2_line_11 3 rfl rfl)
abbrev cX2_fresh : ByteArray := prog_17_method_14_code
def yX2_fresh : MethodName := ⟨RX2, "fresh", "()Ljava/lang/String;"⟩
def dkwX2_fresh_2 : List UInt8 := [43, 176]
abbrev dktX2_fresh_2 : List UInt8 := dkwX2_fresh_2 ++ []
def dkwX2_fresh_1 : List UInt8 := [156, 0, 14, 42, 180, 0, 101, 43, 182, 0, 113, 153, 0, 9, 42, 6, 182, 0, 75, 191, 42, 182, 0, 25]
abbrev dktX2_fresh_1 : List UInt8 := dkwX2_fresh_1 ++ dktX2_fresh_2
def dkwX2_fresh_0 : List UInt8 := [42, 182, 0, 98, 76, 42, 180, 0, 101, 43, 182, 0, 105, 156, 0, 25, 42, 180, 0, 101, 43, 182, 0, 110]
abbrev dktX2_fresh_0 : List UInt8 := dkwX2_fresh_0 ++ dktX2_fresh_1
theorem dksX2_fresh_0 : cX2_fresh.data.toList.drop 0 = dktX2_fresh_0 := by decide +kernel
theorem dksX2_fresh_1 : cX2_fresh.data.toList.drop 24 = dktX2_fresh_1 := dk_seg dksX2_fresh_0 24 rfl rfl
theorem dksX2_fresh_2 : cX2_fresh.data.toList.drop 48 = dktX2_fresh_2 := dk_seg dksX2_fresh_1 24 rfl rfl
theorem dX2_fresh_0 : decode cX2_fresh 0 = .ok (.aload_n 0, 1) := dk_42 (dk_at dksX2_fresh_0 0 rfl rfl)
theorem dX2_fresh_1 : decode cX2_fresh 1 = .ok (.invokevirtual 98, 3) := dk_182 0 98 (dk_at dksX2_fresh_0 1 rfl rfl)
theorem dX2_fresh_4 : decode cX2_fresh 4 = .ok (.astore_n 1, 1) := dk_76 (dk_at dksX2_fresh_0 4 rfl rfl)
theorem dX2_fresh_5 : decode cX2_fresh 5 = .ok (.aload_n 0, 1) := dk_42 (dk_at dksX2_fresh_0 5 rfl rfl)
theorem dX2_fresh_6 : decode cX2_fresh 6 = .ok (.getfield 101, 3) := dk_180 0 101 (dk_at dksX2_fresh_0 6 rfl rfl)
theorem dX2_fresh_9 : decode cX2_fresh 9 = .ok (.aload_n 1, 1) := dk_43 (dk_at dksX2_fresh_0 9 rfl rfl)
theorem dX2_fresh_10 : decode cX2_fresh 10 = .ok (.invokevirtual 105, 3) := dk_182 0 105 (dk_at dksX2_fresh_0 10 rfl rfl)
theorem dX2_fresh_13 : decode cX2_fresh 13 = .ok (.ifCond .ge 25, 3) := dk_156 0 25 (dk_at dksX2_fresh_0 13 rfl rfl)
theorem dX2_fresh_16 : decode cX2_fresh 16 = .ok (.aload_n 0, 1) := dk_42 (dk_at dksX2_fresh_0 16 rfl rfl)
theorem dX2_fresh_17 : decode cX2_fresh 17 = .ok (.getfield 101, 3) := dk_180 0 101 (dk_at dksX2_fresh_0 17 rfl rfl)
theorem dX2_fresh_20 : decode cX2_fresh 20 = .ok (.aload_n 1, 1) := dk_43 (dk_at dksX2_fresh_0 20 rfl rfl)
theorem dX2_fresh_21 : decode cX2_fresh 21 = .ok (.invokevirtual 110, 3) := dk_182 0 110 (dk_at dksX2_fresh_0 21 rfl rfl)
theorem dX2_fresh_24 : decode cX2_fresh 24 = .ok (.ifCond .ge 14, 3) := dk_156 0 14 (dk_at dksX2_fresh_1 0 rfl rfl)
theorem dX2_fresh_27 : decode cX2_fresh 27 = .ok (.aload_n 0, 1) := dk_42 (dk_at dksX2_fresh_1 3 rfl rfl)
theorem dX2_fresh_28 : decode cX2_fresh 28 = .ok (.getfield 101, 3) := dk_180 0 101 (dk_at dksX2_fresh_1 4 rfl rfl)
theorem dX2_fresh_31 : decode cX2_fresh 31 = .ok (.aload_n 1, 1) := dk_43 (dk_at dksX2_fresh_1 7 rfl rfl)
theorem dX2_fresh_32 : decode cX2_fresh 32 = .ok (.invokevirtual 113, 3) := dk_182 0 113 (dk_at dksX2_fresh_1 8 rfl rfl)
theorem dX2_fresh_35 : decode cX2_fresh 35 = .ok (.ifCond .eq 9, 3) := dk_153 0 9 (dk_at dksX2_fresh_1 11 rfl rfl)
theorem dX2_fresh_38 : decode cX2_fresh 38 = .ok (.aload_n 0, 1) := dk_42 (dk_at dksX2_fresh_1 14 rfl rfl)
theorem dX2_fresh_39 : decode cX2_fresh 39 = .ok (.iconst 3, 1) := dk_6 (dk_at dksX2_fresh_1 15 rfl rfl)
theorem dX2_fresh_40 : decode cX2_fresh 40 = .ok (.invokevirtual 75, 3) := dk_182 0 75 (dk_at dksX2_fresh_1 16 rfl rfl)
theorem dX2_fresh_43 : decode cX2_fresh 43 = .ok (.athrow, 1) := dk_191 (dk_at dksX2_fresh_1 19 rfl rfl)
theorem dX2_fresh_44 : decode cX2_fresh 44 = .ok (.aload_n 0, 1) := dk_42 (dk_at dksX2_fresh_1 20 rfl rfl)
theorem dX2_fresh_45 : decode cX2_fresh 45 = .ok (.invokevirtual 25, 3) := dk_182 0 25 (dk_at dksX2_fresh_1 21 rfl rfl)
theorem dX2_fresh_48 : decode cX2_fresh 48 = .ok (.aload_n 1, 1) := dk_43 (dk_at dksX2_fresh_2 0 rfl rfl)
theorem dX2_fresh_49 : decode cX2_fresh 49 = .ok (.areturn, 1) := dk_176 (dk_at dksX2_fresh_2 1 rfl rfl)
abbrev cX2_name : ByteArray := prog_17_method_13_code
def yX2_name : MethodName := ⟨RX2, "name", "()Ljava/lang/String;"⟩
def dkwX2_name_2 : List UInt8 := [42, 180, 0, 9, 28, 51, 146, 182, 0, 90, 87, 132, 2, 1, 167, 255, 233, 43, 182, 0, 94, 176]
abbrev dktX2_name_2 : List UInt8 := dkwX2_name_2 ++ []
def dkwX2_name_1 : List UInt8 := [187, 0, 85, 89, 16, 8, 183, 0, 87, 76, 42, 180, 0, 28, 61, 28, 42, 180, 0, 19, 162, 0, 21, 43]
abbrev dktX2_name_1 : List UInt8 := dkwX2_name_1 ++ dktX2_name_2
def dkwX2_name_0 : List UInt8 := [42, 180, 0, 31, 4, 160, 0, 12, 42, 18, 83, 182, 0, 71, 155, 0, 9, 42, 4, 182, 0, 75, 191]
abbrev dktX2_name_0 : List UInt8 := dkwX2_name_0 ++ dktX2_name_1
theorem dksX2_name_0 : cX2_name.data.toList.drop 0 = dktX2_name_0 := by decide +kernel
theorem dksX2_name_1 : cX2_name.data.toList.drop 23 = dktX2_name_1 := dk_seg dksX2_name_0 23 rfl rfl
theorem dksX2_name_2 : cX2_name.data.toList.drop 47 = dktX2_name_2 := dk_seg dksX2_name_1 24 rfl rfl
theorem dX2_name_0 : decode cX2_name 0 = .ok (.aload_n 0, 1) := dk_42 (dk_at dksX2_name_0 0 rfl rfl)
theorem dX2_name_1 : decode cX2_name 1 = .ok (.getfield 31, 3) := dk_180 0 31 (dk_at dksX2_name_0 1 rfl rfl)
theorem dX2_name_4 : decode cX2_name 4 = .ok (.iconst 1, 1) := dk_4 (dk_at dksX2_name_0 4 rfl rfl)
theorem dX2_name_5 : decode cX2_name 5 = .ok (.if_icmp .ne 12, 3) := dk_160 0 12 (dk_at dksX2_name_0 5 rfl rfl)
theorem dX2_name_8 : decode cX2_name 8 = .ok (.aload_n 0, 1) := dk_42 (dk_at dksX2_name_0 8 rfl rfl)
theorem dX2_name_9 : decode cX2_name 9 = .ok (.ldc 83, 2) := dk_18 83 (dk_at dksX2_name_0 9 rfl rfl)
theorem dX2_name_11 : decode cX2_name 11 = .ok (.invokevirtual 71, 3) := dk_182 0 71 (dk_at dksX2_name_0 11 rfl rfl)
theorem dX2_name_14 : decode cX2_name 14 = .ok (.ifCond .lt 9, 3) := dk_155 0 9 (dk_at dksX2_name_0 14 rfl rfl)
theorem dX2_name_17 : decode cX2_name 17 = .ok (.aload_n 0, 1) := dk_42 (dk_at dksX2_name_0 17 rfl rfl)
theorem dX2_name_18 : decode cX2_name 18 = .ok (.iconst 1, 1) := dk_4 (dk_at dksX2_name_0 18 rfl rfl)
theorem dX2_name_19 : decode cX2_name 19 = .ok (.invokevirtual 75, 3) := dk_182 0 75 (dk_at dksX2_name_0 19 rfl rfl)
theorem dX2_name_22 : decode cX2_name 22 = .ok (.athrow, 1) := dk_191 (dk_at dksX2_name_0 22 rfl rfl)
theorem dX2_name_23 : decode cX2_name 23 = .ok (.new 85, 3) := dk_187 0 85 (dk_at dksX2_name_1 0 rfl rfl)
theorem dX2_name_26 : decode cX2_name 26 = .ok (.dup, 1) := dk_89 (dk_at dksX2_name_1 3 rfl rfl)
theorem dX2_name_27 : decode cX2_name 27 = .ok (.bipush 8, 2) := dk_16 8 (dk_at dksX2_name_1 4 rfl rfl)
theorem dX2_name_29 : decode cX2_name 29 = .ok (.invokespecial 87, 3) := dk_183 0 87 (dk_at dksX2_name_1 6 rfl rfl)
theorem dX2_name_32 : decode cX2_name 32 = .ok (.astore_n 1, 1) := dk_76 (dk_at dksX2_name_1 9 rfl rfl)
theorem dX2_name_33 : decode cX2_name 33 = .ok (.aload_n 0, 1) := dk_42 (dk_at dksX2_name_1 10 rfl rfl)
theorem dX2_name_34 : decode cX2_name 34 = .ok (.getfield 28, 3) := dk_180 0 28 (dk_at dksX2_name_1 11 rfl rfl)
theorem dX2_name_37 : decode cX2_name 37 = .ok (.istore_n 2, 1) := dk_61 (dk_at dksX2_name_1 14 rfl rfl)
theorem dX2_name_38 : decode cX2_name 38 = .ok (.iload_n 2, 1) := dk_28 (dk_at dksX2_name_1 15 rfl rfl)
theorem dX2_name_39 : decode cX2_name 39 = .ok (.aload_n 0, 1) := dk_42 (dk_at dksX2_name_1 16 rfl rfl)
theorem dX2_name_40 : decode cX2_name 40 = .ok (.getfield 19, 3) := dk_180 0 19 (dk_at dksX2_name_1 17 rfl rfl)
theorem dX2_name_43 : decode cX2_name 43 = .ok (.if_icmp .ge 21, 3) := dk_162 0 21 (dk_at dksX2_name_1 20 rfl rfl)
theorem dX2_name_46 : decode cX2_name 46 = .ok (.aload_n 1, 1) := dk_43 (dk_at dksX2_name_1 23 rfl rfl)
theorem dX2_name_47 : decode cX2_name 47 = .ok (.aload_n 0, 1) := dk_42 (dk_at dksX2_name_2 0 rfl rfl)
theorem dX2_name_48 : decode cX2_name 48 = .ok (.getfield 9, 3) := dk_180 0 9 (dk_at dksX2_name_2 1 rfl rfl)
theorem dX2_name_51 : decode cX2_name 51 = .ok (.iload_n 2, 1) := dk_28 (dk_at dksX2_name_2 4 rfl rfl)
theorem dX2_name_52 : decode cX2_name 52 = .ok (.baload, 1) := dk_51 (dk_at dksX2_name_2 5 rfl rfl)
theorem dX2_name_53 : decode cX2_name 53 = .ok (.i2c, 1) := dk_146 (dk_at dksX2_name_2 6 rfl rfl)
theorem dX2_name_54 : decode cX2_name 54 = .ok (.invokevirtual 90, 3) := dk_182 0 90 (dk_at dksX2_name_2 7 rfl rfl)
theorem dX2_name_57 : decode cX2_name 57 = .ok (.pop, 1) := dk_87 (dk_at dksX2_name_2 10 rfl rfl)
theorem dX2_name_58 : decode cX2_name 58 = .ok (.iinc 2 1, 3) := dk_132 2 1 (dk_at dksX2_name_2 11 rfl rfl)
theorem dX2_name_61 : decode cX2_name 61 = .ok (.goto (-23), 3) := dk_167 255 233 (dk_at dksX2_name_2 14 rfl rfl)
theorem dX2_name_64 : decode cX2_name 64 = .ok (.aload_n 1, 1) := dk_43 (dk_at dksX2_name_2 17 rfl rfl)
theorem dX2_name_65 : decode cX2_name 65 = .ok (.invokevirtual 94, 3) := dk_182 0 94 (dk_at dksX2_name_2 18 rfl rfl)
theorem dX2_name_68 : decode cX2_name 68 = .ok (.areturn, 1) := dk_176 (dk_at dksX2_name_2 21 rfl rfl)
abbrev cX2_number : ByteArray := prog_17_method_15_code
def yX2_number : MethodName := ⟨RX2, "number", "(Ljava/lang/String;II)I"⟩
def dkwX2_number_0 : List UInt8 := [42, 43, 182, 0, 117, 42, 28, 29, 182, 0, 121, 172]
abbrev dktX2_number_0 : List UInt8 := dkwX2_number_0 ++ []
theorem dksX2_number_0 : cX2_number.data.toList.drop 0 = dktX2_number_0 := by decide +kernel
theorem dX2_number_0 : decode cX2_number 0 = .ok (.aload_n 0, 1) := dk_42 (dk_at dksX2_number_0 0 rfl rfl)
theorem dX2_number_1 : decode cX2_number 1 = .ok (.aload_n 1, 1) := dk_43 (dk_at dksX2_number_0 1 rfl rfl)
theorem dX2_number_2 : decode cX2_number 2 = .ok (.invokevirtual 117, 3) := dk_182 0 117 (dk_at dksX2_number_0 2 rfl rfl)
theorem dX2_number_5 : decode cX2_number 5 = .ok (.aload_n 0, 1) := dk_42 (dk_at dksX2_number_0 5 rfl rfl)
theorem dX2_number_6 : decode cX2_number 6 = .ok (.iload_n 2, 1) := dk_28 (dk_at dksX2_number_0 6 rfl rfl)
theorem dX2_number_7 : decode cX2_number 7 = .ok (.iload_n 3, 1) := dk_29 (dk_at dksX2_number_0 7 rfl rfl)
theorem dX2_number_8 : decode cX2_number 8 = .ok (.invokevirtual 121, 3) := dk_182 0 121 (dk_at dksX2_number_0 8 rfl rfl)
theorem dX2_number_11 : decode cX2_number 11 = .ok (.ireturn, 1) := dk_172 (dk_at dksX2_number_0 11 rfl rfl)
abbrev cX2_need : ByteArray := prog_17_method_9_code
def yX2_need : MethodName := ⟨RX2, "need", "(Ljava/lang/String;)V"⟩
def dkwX2_need_0 : List UInt8 := [42, 43, 182, 0, 71, 156, 0, 9, 42, 4, 182, 0, 75, 191, 42, 182, 0, 25, 177]
abbrev dktX2_need_0 : List UInt8 := dkwX2_need_0 ++ []
theorem dksX2_need_0 : cX2_need.data.toList.drop 0 = dktX2_need_0 := by decide +kernel
theorem dX2_need_0 : decode cX2_need 0 = .ok (.aload_n 0, 1) := dk_42 (dk_at dksX2_need_0 0 rfl rfl)
theorem dX2_need_1 : decode cX2_need 1 = .ok (.aload_n 1, 1) := dk_43 (dk_at dksX2_need_0 1 rfl rfl)
theorem dX2_need_2 : decode cX2_need 2 = .ok (.invokevirtual 71, 3) := dk_182 0 71 (dk_at dksX2_need_0 2 rfl rfl)
theorem dX2_need_5 : decode cX2_need 5 = .ok (.ifCond .ge 9, 3) := dk_156 0 9 (dk_at dksX2_need_0 5 rfl rfl)
theorem dX2_need_8 : decode cX2_need 8 = .ok (.aload_n 0, 1) := dk_42 (dk_at dksX2_need_0 8 rfl rfl)
theorem dX2_need_9 : decode cX2_need 9 = .ok (.iconst 1, 1) := dk_4 (dk_at dksX2_need_0 9 rfl rfl)
theorem dX2_need_10 : decode cX2_need 10 = .ok (.invokevirtual 75, 3) := dk_182 0 75 (dk_at dksX2_need_0 10 rfl rfl)
theorem dX2_need_13 : decode cX2_need 13 = .ok (.athrow, 1) := dk_191 (dk_at dksX2_need_0 13 rfl rfl)
theorem dX2_need_14 : decode cX2_need 14 = .ok (.aload_n 0, 1) := dk_42 (dk_at dksX2_need_0 14 rfl rfl)
theorem dX2_need_15 : decode cX2_need 15 = .ok (.invokevirtual 25, 3) := dk_182 0 25 (dk_at dksX2_need_0 15 rfl rfl)
theorem dX2_need_18 : decode cX2_need 18 = .ok (.return_, 1) := dk_177 (dk_at dksX2_need_0 18 rfl rfl)
abbrev cX2_number_2 : ByteArray := prog_17_method_12_code
def yX2_number_2 : MethodName := ⟨RX2, "number", "(II)I"⟩
def dkwX2_number_2_1 : List UInt8 := [180, 0, 45, 28, 164, 0, 9, 42, 7, 182, 0, 75, 191, 42, 180, 0, 45, 62, 42, 182, 0, 25, 29, 172]
abbrev dktX2_number_2_1 : List UInt8 := dkwX2_number_2_1 ++ []
def dkwX2_number_2_0 : List UInt8 := [42, 180, 0, 31, 5, 159, 0, 9, 42, 4, 182, 0, 75, 191, 42, 180, 0, 45, 27, 161, 0, 11, 42]
abbrev dktX2_number_2_0 : List UInt8 := dkwX2_number_2_0 ++ dktX2_number_2_1
theorem dksX2_number_2_0 : cX2_number_2.data.toList.drop 0 = dktX2_number_2_0 := by decide +kernel
theorem dksX2_number_2_1 : cX2_number_2.data.toList.drop 23 = dktX2_number_2_1 := dk_seg dksX2_number_2_0 23 rfl rfl
theorem dX2_number_2_0 : decode cX2_number_2 0 = .ok (.aload_n 0, 1) := dk_42 (dk_at dksX2_number_2_0 0 rfl rfl)
theorem dX2_number_2_1 : decode cX2_number_2 1 = .ok (.getfield 31, 3) := dk_180 0 31 (dk_at dksX2_number_2_0 1 rfl rfl)
theorem dX2_number_2_4 : decode cX2_number_2 4 = .ok (.iconst 2, 1) := dk_5 (dk_at dksX2_number_2_0 4 rfl rfl)
theorem dX2_number_2_5 : decode cX2_number_2 5 = .ok (.if_icmp .eq 9, 3) := dk_159 0 9 (dk_at dksX2_number_2_0 5 rfl rfl)
theorem dX2_number_2_8 : decode cX2_number_2 8 = .ok (.aload_n 0, 1) := dk_42 (dk_at dksX2_number_2_0 8 rfl rfl)
theorem dX2_number_2_9 : decode cX2_number_2 9 = .ok (.iconst 1, 1) := dk_4 (dk_at dksX2_number_2_0 9 rfl rfl)
theorem dX2_number_2_10 : decode cX2_number_2 10 = .ok (.invokevirtual 75, 3) := dk_182 0 75 (dk_at dksX2_number_2_0 10 rfl rfl)
theorem dX2_number_2_13 : decode cX2_number_2 13 = .ok (.athrow, 1) := dk_191 (dk_at dksX2_number_2_0 13 rfl rfl)
theorem dX2_number_2_14 : decode cX2_number_2 14 = .ok (.aload_n 0, 1) := dk_42 (dk_at dksX2_number_2_0 14 rfl rfl)
theorem dX2_number_2_15 : decode cX2_number_2 15 = .ok (.getfield 45, 3) := dk_180 0 45 (dk_at dksX2_number_2_0 15 rfl rfl)
theorem dX2_number_2_18 : decode cX2_number_2 18 = .ok (.iload_n 1, 1) := dk_27 (dk_at dksX2_number_2_0 18 rfl rfl)
theorem dX2_number_2_19 : decode cX2_number_2 19 = .ok (.if_icmp .lt 11, 3) := dk_161 0 11 (dk_at dksX2_number_2_0 19 rfl rfl)
theorem dX2_number_2_22 : decode cX2_number_2 22 = .ok (.aload_n 0, 1) := dk_42 (dk_at dksX2_number_2_0 22 rfl rfl)
theorem dX2_number_2_23 : decode cX2_number_2 23 = .ok (.getfield 45, 3) := dk_180 0 45 (dk_at dksX2_number_2_1 0 rfl rfl)
theorem dX2_number_2_26 : decode cX2_number_2 26 = .ok (.iload_n 2, 1) := dk_28 (dk_at dksX2_number_2_1 3 rfl rfl)
theorem dX2_number_2_27 : decode cX2_number_2 27 = .ok (.if_icmp .le 9, 3) := dk_164 0 9 (dk_at dksX2_number_2_1 4 rfl rfl)
theorem dX2_number_2_30 : decode cX2_number_2 30 = .ok (.aload_n 0, 1) := dk_42 (dk_at dksX2_number_2_1 7 rfl rfl)
theorem dX2_number_2_31 : decode cX2_number_2 31 = .ok (.iconst 4, 1) := dk_7 (dk_at dksX2_number_2_1 8 rfl rfl)
theorem dX2_number_2_32 : decode cX2_number_2 32 = .ok (.invokevirtual 75, 3) := dk_182 0 75 (dk_at dksX2_number_2_1 9 rfl rfl)
theorem dX2_number_2_35 : decode cX2_number_2 35 = .ok (.athrow, 1) := dk_191 (dk_at dksX2_number_2_1 12 rfl rfl)
theorem dX2_number_2_36 : decode cX2_number_2 36 = .ok (.aload_n 0, 1) := dk_42 (dk_at dksX2_number_2_1 13 rfl rfl)
theorem dX2_number_2_37 : decode cX2_number_2 37 = .ok (.getfield 45, 3) := dk_180 0 45 (dk_at dksX2_number_2_1 14 rfl rfl)
theorem dX2_number_2_40 : decode cX2_number_2 40 = .ok (.istore_n 3, 1) := dk_62 (dk_at dksX2_number_2_1 17 rfl rfl)
theorem dX2_number_2_41 : decode cX2_number_2 41 = .ok (.aload_n 0, 1) := dk_42 (dk_at dksX2_number_2_1 18 rfl rfl)
theorem dX2_number_2_42 : decode cX2_number_2 42 = .ok (.invokevirtual 25, 3) := dk_182 0 25 (dk_at dksX2_number_2_1 19 rfl rfl)
theorem dX2_number_2_45 : decode cX2_number_2 45 = .ok (.iload_n 3, 1) := dk_29 (dk_at dksX2_number_2_1 22 rfl rfl)
theorem dX2_number_2_46 : decode cX2_number_2 46 = .ok (.ireturn, 1) := dk_172 (dk_at dksX2_number_2_1 23 rfl rfl)
abbrev cX2_comes : ByteArray := prog_17_method_22_code
def yX2_comes : MethodName := ⟨RX2, "comes", "()V"⟩
def dkwX2_comes_7 : List UInt8 := [87, 177]
abbrev dktX2_comes_7 : List UInt8 := dkwX2_comes_7 ++ []
def dkwX2_comes_6 : List UInt8 := [153, 0, 9, 42, 6, 182, 0, 75, 191, 42, 182, 0, 25, 42, 180, 0, 101, 180, 0, 156, 45, 182, 0, 185]
abbrev dktX2_comes_6 : List UInt8 := dkwX2_comes_6 ++ dktX2_comes_7
def dkwX2_comes_5 : List UInt8 := [182, 0, 25, 45, 42, 182, 0, 252, 181, 0, 254, 42, 180, 0, 101, 45, 180, 0, 254, 182, 1, 0]
abbrev dktX2_comes_5 : List UInt8 := dkwX2_comes_5 ++ dktX2_comes_6
def dkwX2_comes_4 : List UInt8 := [42, 18, 245, 3, 17, 39, 15, 182, 0, 173, 181, 0, 247, 42, 18, 250, 182, 0, 71, 155, 0, 39, 42]
abbrev dktX2_comes_4 : List UInt8 := dkwX2_comes_4 ++ dktX2_comes_5
def dkwX2_comes_3 : List UInt8 := [16, 40, 16, 99, 182, 0, 173, 181, 0, 237, 45, 42, 18, 240, 3, 16, 40, 182, 0, 173, 181, 0, 242, 45]
abbrev dktX2_comes_3 : List UInt8 := dkwX2_comes_3 ++ dktX2_comes_4
def dkwX2_comes_2 : List UInt8 := [187, 0, 229, 89, 43, 183, 0, 231, 167, 0, 11, 187, 0, 232, 89, 43, 183, 0, 234, 78, 45, 42, 18, 235]
abbrev dktX2_comes_2 : List UInt8 := dkwX2_comes_2 ++ dktX2_comes_3
def dkwX2_comes_1 : List UInt8 := [167, 0, 43, 28, 4, 160, 0, 14, 187, 0, 226, 89, 43, 183, 0, 228, 167, 0, 27, 28, 5, 160, 0, 14]
abbrev dktX2_comes_1 : List UInt8 := dkwX2_comes_1 ++ dktX2_comes_2
def dkwX2_comes_0 : List UInt8 := [42, 182, 0, 168, 76, 42, 18, 217, 182, 0, 219, 61, 28, 154, 0, 14, 187, 0, 222, 89, 43, 183, 0, 224]
abbrev dktX2_comes_0 : List UInt8 := dkwX2_comes_0 ++ dktX2_comes_1
theorem dksX2_comes_0 : cX2_comes.data.toList.drop 0 = dktX2_comes_0 := by decide +kernel
theorem dksX2_comes_1 : cX2_comes.data.toList.drop 24 = dktX2_comes_1 := dk_seg dksX2_comes_0 24 rfl rfl
theorem dksX2_comes_2 : cX2_comes.data.toList.drop 48 = dktX2_comes_2 := dk_seg dksX2_comes_1 24 rfl rfl
theorem dksX2_comes_3 : cX2_comes.data.toList.drop 72 = dktX2_comes_3 := dk_seg dksX2_comes_2 24 rfl rfl
theorem dksX2_comes_4 : cX2_comes.data.toList.drop 96 = dktX2_comes_4 := dk_seg dksX2_comes_3 24 rfl rfl
theorem dksX2_comes_5 : cX2_comes.data.toList.drop 119 = dktX2_comes_5 := dk_seg dksX2_comes_4 23 rfl rfl
theorem dksX2_comes_6 : cX2_comes.data.toList.drop 141 = dktX2_comes_6 := dk_seg dksX2_comes_5 22 rfl rfl
theorem dksX2_comes_7 : cX2_comes.data.toList.drop 165 = dktX2_comes_7 := dk_seg dksX2_comes_6 24 rfl rfl
theorem dX2_comes_0 : decode cX2_comes 0 = .ok (.aload_n 0, 1) := dk_42 (dk_at dksX2_comes_0 0 rfl rfl)
theorem dX2_comes_1 : decode cX2_comes 1 = .ok (.invokevirtual 168, 3) := dk_182 0 168 (dk_at dksX2_comes_0 1 rfl rfl)
theorem dX2_comes_4 : decode cX2_comes 4 = .ok (.astore_n 1, 1) := dk_76 (dk_at dksX2_comes_0 4 rfl rfl)
theorem dX2_comes_5 : decode cX2_comes 5 = .ok (.aload_n 0, 1) := dk_42 (dk_at dksX2_comes_0 5 rfl rfl)
theorem dX2_comes_6 : decode cX2_comes 6 = .ok (.ldc 217, 2) := dk_18 217 (dk_at dksX2_comes_0 6 rfl rfl)
theorem dX2_comes_8 : decode cX2_comes 8 = .ok (.invokevirtual 219, 3) := dk_182 0 219 (dk_at dksX2_comes_0 8 rfl rfl)
theorem dX2_comes_11 : decode cX2_comes 11 = .ok (.istore_n 2, 1) := dk_61 (dk_at dksX2_comes_0 11 rfl rfl)
theorem dX2_comes_12 : decode cX2_comes 12 = .ok (.iload_n 2, 1) := dk_28 (dk_at dksX2_comes_0 12 rfl rfl)
theorem dX2_comes_13 : decode cX2_comes 13 = .ok (.ifCond .ne 14, 3) := dk_154 0 14 (dk_at dksX2_comes_0 13 rfl rfl)
theorem dX2_comes_16 : decode cX2_comes 16 = .ok (.new 222, 3) := dk_187 0 222 (dk_at dksX2_comes_0 16 rfl rfl)
theorem dX2_comes_19 : decode cX2_comes 19 = .ok (.dup, 1) := dk_89 (dk_at dksX2_comes_0 19 rfl rfl)
theorem dX2_comes_20 : decode cX2_comes 20 = .ok (.aload_n 1, 1) := dk_43 (dk_at dksX2_comes_0 20 rfl rfl)
theorem dX2_comes_21 : decode cX2_comes 21 = .ok (.invokespecial 224, 3) := dk_183 0 224 (dk_at dksX2_comes_0 21 rfl rfl)
theorem dX2_comes_24 : decode cX2_comes 24 = .ok (.goto 43, 3) := dk_167 0 43 (dk_at dksX2_comes_1 0 rfl rfl)
theorem dX2_comes_27 : decode cX2_comes 27 = .ok (.iload_n 2, 1) := dk_28 (dk_at dksX2_comes_1 3 rfl rfl)
theorem dX2_comes_28 : decode cX2_comes 28 = .ok (.iconst 1, 1) := dk_4 (dk_at dksX2_comes_1 4 rfl rfl)
theorem dX2_comes_29 : decode cX2_comes 29 = .ok (.if_icmp .ne 14, 3) := dk_160 0 14 (dk_at dksX2_comes_1 5 rfl rfl)
theorem dX2_comes_32 : decode cX2_comes 32 = .ok (.new 226, 3) := dk_187 0 226 (dk_at dksX2_comes_1 8 rfl rfl)
theorem dX2_comes_35 : decode cX2_comes 35 = .ok (.dup, 1) := dk_89 (dk_at dksX2_comes_1 11 rfl rfl)
theorem dX2_comes_36 : decode cX2_comes 36 = .ok (.aload_n 1, 1) := dk_43 (dk_at dksX2_comes_1 12 rfl rfl)
theorem dX2_comes_37 : decode cX2_comes 37 = .ok (.invokespecial 228, 3) := dk_183 0 228 (dk_at dksX2_comes_1 13 rfl rfl)
theorem dX2_comes_40 : decode cX2_comes 40 = .ok (.goto 27, 3) := dk_167 0 27 (dk_at dksX2_comes_1 16 rfl rfl)
theorem dX2_comes_43 : decode cX2_comes 43 = .ok (.iload_n 2, 1) := dk_28 (dk_at dksX2_comes_1 19 rfl rfl)
theorem dX2_comes_44 : decode cX2_comes 44 = .ok (.iconst 2, 1) := dk_5 (dk_at dksX2_comes_1 20 rfl rfl)
theorem dX2_comes_45 : decode cX2_comes 45 = .ok (.if_icmp .ne 14, 3) := dk_160 0 14 (dk_at dksX2_comes_1 21 rfl rfl)
theorem dX2_comes_48 : decode cX2_comes 48 = .ok (.new 229, 3) := dk_187 0 229 (dk_at dksX2_comes_2 0 rfl rfl)
theorem dX2_comes_51 : decode cX2_comes 51 = .ok (.dup, 1) := dk_89 (dk_at dksX2_comes_2 3 rfl rfl)
theorem dX2_comes_52 : decode cX2_comes 52 = .ok (.aload_n 1, 1) := dk_43 (dk_at dksX2_comes_2 4 rfl rfl)
theorem dX2_comes_53 : decode cX2_comes 53 = .ok (.invokespecial 231, 3) := dk_183 0 231 (dk_at dksX2_comes_2 5 rfl rfl)
theorem dX2_comes_56 : decode cX2_comes 56 = .ok (.goto 11, 3) := dk_167 0 11 (dk_at dksX2_comes_2 8 rfl rfl)
theorem dX2_comes_59 : decode cX2_comes 59 = .ok (.new 232, 3) := dk_187 0 232 (dk_at dksX2_comes_2 11 rfl rfl)
theorem dX2_comes_62 : decode cX2_comes 62 = .ok (.dup, 1) := dk_89 (dk_at dksX2_comes_2 14 rfl rfl)
theorem dX2_comes_63 : decode cX2_comes 63 = .ok (.aload_n 1, 1) := dk_43 (dk_at dksX2_comes_2 15 rfl rfl)
theorem dX2_comes_64 : decode cX2_comes 64 = .ok (.invokespecial 234, 3) := dk_183 0 234 (dk_at dksX2_comes_2 16 rfl rfl)
theorem dX2_comes_67 : decode cX2_comes 67 = .ok (.astore_n 3, 1) := dk_78 (dk_at dksX2_comes_2 19 rfl rfl)
theorem dX2_comes_68 : decode cX2_comes 68 = .ok (.aload_n 3, 1) := dk_45 (dk_at dksX2_comes_2 20 rfl rfl)
theorem dX2_comes_69 : decode cX2_comes 69 = .ok (.aload_n 0, 1) := dk_42 (dk_at dksX2_comes_2 21 rfl rfl)
theorem dX2_comes_70 : decode cX2_comes 70 = .ok (.ldc 235, 2) := dk_18 235 (dk_at dksX2_comes_2 22 rfl rfl)
theorem dX2_comes_72 : decode cX2_comes 72 = .ok (.bipush 40, 2) := dk_16 40 (dk_at dksX2_comes_3 0 rfl rfl)
theorem dX2_comes_74 : decode cX2_comes 74 = .ok (.bipush 99, 2) := dk_16 99 (dk_at dksX2_comes_3 2 rfl rfl)
theorem dX2_comes_76 : decode cX2_comes 76 = .ok (.invokevirtual 173, 3) := dk_182 0 173 (dk_at dksX2_comes_3 4 rfl rfl)
theorem dX2_comes_79 : decode cX2_comes 79 = .ok (.putfield 237, 3) := dk_181 0 237 (dk_at dksX2_comes_3 7 rfl rfl)
theorem dX2_comes_82 : decode cX2_comes 82 = .ok (.aload_n 3, 1) := dk_45 (dk_at dksX2_comes_3 10 rfl rfl)
theorem dX2_comes_83 : decode cX2_comes 83 = .ok (.aload_n 0, 1) := dk_42 (dk_at dksX2_comes_3 11 rfl rfl)
theorem dX2_comes_84 : decode cX2_comes 84 = .ok (.ldc 240, 2) := dk_18 240 (dk_at dksX2_comes_3 12 rfl rfl)
theorem dX2_comes_86 : decode cX2_comes 86 = .ok (.iconst 0, 1) := dk_3 (dk_at dksX2_comes_3 14 rfl rfl)
theorem dX2_comes_87 : decode cX2_comes 87 = .ok (.bipush 40, 2) := dk_16 40 (dk_at dksX2_comes_3 15 rfl rfl)
theorem dX2_comes_89 : decode cX2_comes 89 = .ok (.invokevirtual 173, 3) := dk_182 0 173 (dk_at dksX2_comes_3 17 rfl rfl)
theorem dX2_comes_92 : decode cX2_comes 92 = .ok (.putfield 242, 3) := dk_181 0 242 (dk_at dksX2_comes_3 20 rfl rfl)
theorem dX2_comes_95 : decode cX2_comes 95 = .ok (.aload_n 3, 1) := dk_45 (dk_at dksX2_comes_3 23 rfl rfl)
theorem dX2_comes_96 : decode cX2_comes 96 = .ok (.aload_n 0, 1) := dk_42 (dk_at dksX2_comes_4 0 rfl rfl)
theorem dX2_comes_97 : decode cX2_comes 97 = .ok (.ldc 245, 2) := dk_18 245 (dk_at dksX2_comes_4 1 rfl rfl)
theorem dX2_comes_99 : decode cX2_comes 99 = .ok (.iconst 0, 1) := dk_3 (dk_at dksX2_comes_4 3 rfl rfl)
theorem dX2_comes_100 : decode cX2_comes 100 = .ok (.sipush 9999, 3) := dk_17 39 15 (dk_at dksX2_comes_4 4 rfl rfl)
theorem dX2_comes_103 : decode cX2_comes 103 = .ok (.invokevirtual 173, 3) := dk_182 0 173 (dk_at dksX2_comes_4 7 rfl rfl)
theorem dX2_comes_106 : decode cX2_comes 106 = .ok (.putfield 247, 3) := dk_181 0 247 (dk_at dksX2_comes_4 10 rfl rfl)
theorem dX2_comes_109 : decode cX2_comes 109 = .ok (.aload_n 0, 1) := dk_42 (dk_at dksX2_comes_4 13 rfl rfl)
theorem dX2_comes_110 : decode cX2_comes 110 = .ok (.ldc 250, 2) := dk_18 250 (dk_at dksX2_comes_4 14 rfl rfl)
theorem dX2_comes_112 : decode cX2_comes 112 = .ok (.invokevirtual 71, 3) := dk_182 0 71 (dk_at dksX2_comes_4 16 rfl rfl)
theorem dX2_comes_115 : decode cX2_comes 115 = .ok (.ifCond .lt 39, 3) := dk_155 0 39 (dk_at dksX2_comes_4 19 rfl rfl)
theorem dX2_comes_118 : decode cX2_comes 118 = .ok (.aload_n 0, 1) := dk_42 (dk_at dksX2_comes_4 22 rfl rfl)
theorem dX2_comes_119 : decode cX2_comes 119 = .ok (.invokevirtual 25, 3) := dk_182 0 25 (dk_at dksX2_comes_5 0 rfl rfl)
theorem dX2_comes_122 : decode cX2_comes 122 = .ok (.aload_n 3, 1) := dk_45 (dk_at dksX2_comes_5 3 rfl rfl)
theorem dX2_comes_123 : decode cX2_comes 123 = .ok (.aload_n 0, 1) := dk_42 (dk_at dksX2_comes_5 4 rfl rfl)
theorem dX2_comes_124 : decode cX2_comes 124 = .ok (.invokevirtual 252, 3) := dk_182 0 252 (dk_at dksX2_comes_5 5 rfl rfl)
theorem dX2_comes_127 : decode cX2_comes 127 = .ok (.putfield 254, 3) := dk_181 0 254 (dk_at dksX2_comes_5 8 rfl rfl)
theorem dX2_comes_130 : decode cX2_comes 130 = .ok (.aload_n 0, 1) := dk_42 (dk_at dksX2_comes_5 11 rfl rfl)
theorem dX2_comes_131 : decode cX2_comes 131 = .ok (.getfield 101, 3) := dk_180 0 101 (dk_at dksX2_comes_5 12 rfl rfl)
theorem dX2_comes_134 : decode cX2_comes 134 = .ok (.aload_n 3, 1) := dk_45 (dk_at dksX2_comes_5 15 rfl rfl)
theorem dX2_comes_135 : decode cX2_comes 135 = .ok (.getfield 254, 3) := dk_180 0 254 (dk_at dksX2_comes_5 16 rfl rfl)
theorem dX2_comes_138 : decode cX2_comes 138 = .ok (.invokevirtual 256, 3) := dk_182 1 0 (dk_at dksX2_comes_5 19 rfl rfl)
theorem dX2_comes_141 : decode cX2_comes 141 = .ok (.ifCond .eq 9, 3) := dk_153 0 9 (dk_at dksX2_comes_6 0 rfl rfl)
theorem dX2_comes_144 : decode cX2_comes 144 = .ok (.aload_n 0, 1) := dk_42 (dk_at dksX2_comes_6 3 rfl rfl)
theorem dX2_comes_145 : decode cX2_comes 145 = .ok (.iconst 3, 1) := dk_6 (dk_at dksX2_comes_6 4 rfl rfl)
theorem dX2_comes_146 : decode cX2_comes 146 = .ok (.invokevirtual 75, 3) := dk_182 0 75 (dk_at dksX2_comes_6 5 rfl rfl)
theorem dX2_comes_149 : decode cX2_comes 149 = .ok (.athrow, 1) := dk_191 (dk_at dksX2_comes_6 8 rfl rfl)
theorem dX2_comes_150 : decode cX2_comes 150 = .ok (.aload_n 0, 1) := dk_42 (dk_at dksX2_comes_6 9 rfl rfl)
theorem dX2_comes_151 : decode cX2_comes 151 = .ok (.invokevirtual 25, 3) := dk_182 0 25 (dk_at dksX2_comes_6 10 rfl rfl)
theorem dX2_comes_154 : decode cX2_comes 154 = .ok (.aload_n 0, 1) := dk_42 (dk_at dksX2_comes_6 13 rfl rfl)
theorem dX2_comes_155 : decode cX2_comes 155 = .ok (.getfield 101, 3) := dk_180 0 101 (dk_at dksX2_comes_6 14 rfl rfl)
theorem dX2_comes_158 : decode cX2_comes 158 = .ok (.getfield 156, 3) := dk_180 0 156 (dk_at dksX2_comes_6 17 rfl rfl)
theorem dX2_comes_161 : decode cX2_comes 161 = .ok (.aload_n 3, 1) := dk_45 (dk_at dksX2_comes_6 20 rfl rfl)
theorem dX2_comes_162 : decode cX2_comes 162 = .ok (.invokevirtual 185, 3) := dk_182 0 185 (dk_at dksX2_comes_6 21 rfl rfl)
theorem dX2_comes_165 : decode cX2_comes 165 = .ok (.pop, 1) := dk_87 (dk_at dksX2_comes_7 0 rfl rfl)
theorem dX2_comes_166 : decode cX2_comes 166 = .ok (.return_, 1) := dk_177 (dk_at dksX2_comes_7 1 rfl rfl)
abbrev cX2_one : ByteArray := prog_17_method_16_code
def yX2_one : MethodName := ⟨RX2, "one", "(Ljava/lang/String;)I"⟩
def dkwX2_one_0 : List UInt8 := [42, 43, 182, 0, 71, 61, 28, 156, 0, 9, 42, 4, 182, 0, 75, 191, 42, 182, 0, 25, 28, 172]
abbrev dktX2_one_0 : List UInt8 := dkwX2_one_0 ++ []
theorem dksX2_one_0 : cX2_one.data.toList.drop 0 = dktX2_one_0 := by decide +kernel
theorem dX2_one_0 : decode cX2_one 0 = .ok (.aload_n 0, 1) := dk_42 (dk_at dksX2_one_0 0 rfl rfl)
theorem dX2_one_1 : decode cX2_one 1 = .ok (.aload_n 1, 1) := dk_43 (dk_at dksX2_one_0 1 rfl rfl)
theorem dX2_one_2 : decode cX2_one 2 = .ok (.invokevirtual 71, 3) := dk_182 0 71 (dk_at dksX2_one_0 2 rfl rfl)
theorem dX2_one_5 : decode cX2_one 5 = .ok (.istore_n 2, 1) := dk_61 (dk_at dksX2_one_0 5 rfl rfl)
theorem dX2_one_6 : decode cX2_one 6 = .ok (.iload_n 2, 1) := dk_28 (dk_at dksX2_one_0 6 rfl rfl)
theorem dX2_one_7 : decode cX2_one 7 = .ok (.ifCond .ge 9, 3) := dk_156 0 9 (dk_at dksX2_one_0 7 rfl rfl)
theorem dX2_one_10 : decode cX2_one 10 = .ok (.aload_n 0, 1) := dk_42 (dk_at dksX2_one_0 10 rfl rfl)
theorem dX2_one_11 : decode cX2_one 11 = .ok (.iconst 1, 1) := dk_4 (dk_at dksX2_one_0 11 rfl rfl)
theorem dX2_one_12 : decode cX2_one 12 = .ok (.invokevirtual 75, 3) := dk_182 0 75 (dk_at dksX2_one_0 12 rfl rfl)
theorem dX2_one_15 : decode cX2_one 15 = .ok (.athrow, 1) := dk_191 (dk_at dksX2_one_0 15 rfl rfl)
theorem dX2_one_16 : decode cX2_one 16 = .ok (.aload_n 0, 1) := dk_42 (dk_at dksX2_one_0 16 rfl rfl)
theorem dX2_one_17 : decode cX2_one 17 = .ok (.invokevirtual 25, 3) := dk_182 0 25 (dk_at dksX2_one_0 17 rfl rfl)
theorem dX2_one_20 : decode cX2_one 20 = .ok (.iload_n 2, 1) := dk_28 (dk_at dksX2_one_0 20 rfl rfl)
theorem dX2_one_21 : decode cX2_one 21 = .ok (.ireturn, 1) := dk_172 (dk_at dksX2_one_0 21 rfl rfl)
abbrev cX2_room : ByteArray := prog_17_method_19_code
def yX2_room : MethodName := ⟨RX2, "room", "()I"⟩
def dkwX2_room_0 : List UInt8 := [42, 180, 0, 101, 42, 182, 0, 98, 182, 0, 105, 60, 27, 156, 0, 9, 42, 5, 182, 0, 75, 191, 27, 172]
abbrev dktX2_room_0 : List UInt8 := dkwX2_room_0 ++ []
theorem dksX2_room_0 : cX2_room.data.toList.drop 0 = dktX2_room_0 := by decide +kernel
theorem dX2_room_0 : decode cX2_room 0 = .ok (.aload_n 0, 1) := dk_42 (dk_at dksX2_room_0 0 rfl rfl)
theorem dX2_room_1 : decode cX2_room 1 = .ok (.getfield 101, 3) := dk_180 0 101 (dk_at dksX2_room_0 1 rfl rfl)
theorem dX2_room_4 : decode cX2_room 4 = .ok (.aload_n 0, 1) := dk_42 (dk_at dksX2_room_0 4 rfl rfl)
theorem dX2_room_5 : decode cX2_room 5 = .ok (.invokevirtual 98, 3) := dk_182 0 98 (dk_at dksX2_room_0 5 rfl rfl)
theorem dX2_room_8 : decode cX2_room 8 = .ok (.invokevirtual 105, 3) := dk_182 0 105 (dk_at dksX2_room_0 8 rfl rfl)
theorem dX2_room_11 : decode cX2_room 11 = .ok (.istore_n 1, 1) := dk_60 (dk_at dksX2_room_0 11 rfl rfl)
theorem dX2_room_12 : decode cX2_room 12 = .ok (.iload_n 1, 1) := dk_27 (dk_at dksX2_room_0 12 rfl rfl)
theorem dX2_room_13 : decode cX2_room 13 = .ok (.ifCond .ge 9, 3) := dk_156 0 9 (dk_at dksX2_room_0 13 rfl rfl)
theorem dX2_room_16 : decode cX2_room 16 = .ok (.aload_n 0, 1) := dk_42 (dk_at dksX2_room_0 16 rfl rfl)
theorem dX2_room_17 : decode cX2_room 17 = .ok (.iconst 2, 1) := dk_5 (dk_at dksX2_room_0 17 rfl rfl)
theorem dX2_room_18 : decode cX2_room 18 = .ok (.invokevirtual 75, 3) := dk_182 0 75 (dk_at dksX2_room_0 18 rfl rfl)
theorem dX2_room_21 : decode cX2_room 21 = .ok (.athrow, 1) := dk_191 (dk_at dksX2_room_0 21 rfl rfl)
theorem dX2_room_22 : decode cX2_room 22 = .ok (.iload_n 1, 1) := dk_27 (dk_at dksX2_room_0 22 rfl rfl)
theorem dX2_room_23 : decode cX2_room 23 = .ok (.ireturn, 1) := dk_172 (dk_at dksX2_room_0 23 rfl rfl)
abbrev cX2_loves : ByteArray := prog_17_method_23_code
def yX2_loves : MethodName := ⟨RX2, "loves", "()V"⟩
def dkwX2_loves_3 : List UInt8 := [180, 1, 9, 4, 28, 120, 128, 181, 1, 9, 177]
abbrev dktX2_loves_3 : List UInt8 := dkwX2_loves_3 ++ []
def dkwX2_loves_2 : List UInt8 := [182, 0, 75, 191, 42, 182, 0, 25, 42, 180, 0, 101, 180, 0, 156, 27, 182, 1, 5, 192, 0, 222, 89]
abbrev dktX2_loves_2 : List UInt8 := dkwX2_loves_2 ++ dktX2_loves_3
def dkwX2_loves_1 : List UInt8 := [180, 0, 156, 27, 182, 1, 5, 192, 0, 222, 180, 1, 9, 28, 184, 1, 11, 153, 0, 9, 42, 6]
abbrev dktX2_loves_1 : List UInt8 := dkwX2_loves_1 ++ dktX2_loves_2
def dkwX2_loves_0 : List UInt8 := [42, 182, 1, 3, 60, 42, 182, 0, 25, 42, 182, 1, 3, 61, 27, 28, 159, 0, 27, 42, 180, 0, 101]
abbrev dktX2_loves_0 : List UInt8 := dkwX2_loves_0 ++ dktX2_loves_1
theorem dksX2_loves_0 : cX2_loves.data.toList.drop 0 = dktX2_loves_0 := by decide +kernel
theorem dksX2_loves_1 : cX2_loves.data.toList.drop 23 = dktX2_loves_1 := dk_seg dksX2_loves_0 23 rfl rfl
theorem dksX2_loves_2 : cX2_loves.data.toList.drop 45 = dktX2_loves_2 := dk_seg dksX2_loves_1 22 rfl rfl
theorem dksX2_loves_3 : cX2_loves.data.toList.drop 68 = dktX2_loves_3 := dk_seg dksX2_loves_2 23 rfl rfl
theorem dX2_loves_0 : decode cX2_loves 0 = .ok (.aload_n 0, 1) := dk_42 (dk_at dksX2_loves_0 0 rfl rfl)
theorem dX2_loves_1 : decode cX2_loves 1 = .ok (.invokevirtual 259, 3) := dk_182 1 3 (dk_at dksX2_loves_0 1 rfl rfl)
theorem dX2_loves_4 : decode cX2_loves 4 = .ok (.istore_n 1, 1) := dk_60 (dk_at dksX2_loves_0 4 rfl rfl)
theorem dX2_loves_5 : decode cX2_loves 5 = .ok (.aload_n 0, 1) := dk_42 (dk_at dksX2_loves_0 5 rfl rfl)
theorem dX2_loves_6 : decode cX2_loves 6 = .ok (.invokevirtual 25, 3) := dk_182 0 25 (dk_at dksX2_loves_0 6 rfl rfl)
theorem dX2_loves_9 : decode cX2_loves 9 = .ok (.aload_n 0, 1) := dk_42 (dk_at dksX2_loves_0 9 rfl rfl)
theorem dX2_loves_10 : decode cX2_loves 10 = .ok (.invokevirtual 259, 3) := dk_182 1 3 (dk_at dksX2_loves_0 10 rfl rfl)
theorem dX2_loves_13 : decode cX2_loves 13 = .ok (.istore_n 2, 1) := dk_61 (dk_at dksX2_loves_0 13 rfl rfl)
theorem dX2_loves_14 : decode cX2_loves 14 = .ok (.iload_n 1, 1) := dk_27 (dk_at dksX2_loves_0 14 rfl rfl)
theorem dX2_loves_15 : decode cX2_loves 15 = .ok (.iload_n 2, 1) := dk_28 (dk_at dksX2_loves_0 15 rfl rfl)
theorem dX2_loves_16 : decode cX2_loves 16 = .ok (.if_icmp .eq 27, 3) := dk_159 0 27 (dk_at dksX2_loves_0 16 rfl rfl)
theorem dX2_loves_19 : decode cX2_loves 19 = .ok (.aload_n 0, 1) := dk_42 (dk_at dksX2_loves_0 19 rfl rfl)
theorem dX2_loves_20 : decode cX2_loves 20 = .ok (.getfield 101, 3) := dk_180 0 101 (dk_at dksX2_loves_0 20 rfl rfl)
theorem dX2_loves_23 : decode cX2_loves 23 = .ok (.getfield 156, 3) := dk_180 0 156 (dk_at dksX2_loves_1 0 rfl rfl)
theorem dX2_loves_26 : decode cX2_loves 26 = .ok (.iload_n 1, 1) := dk_27 (dk_at dksX2_loves_1 3 rfl rfl)
theorem dX2_loves_27 : decode cX2_loves 27 = .ok (.invokevirtual 261, 3) := dk_182 1 5 (dk_at dksX2_loves_1 4 rfl rfl)
theorem dX2_loves_30 : decode cX2_loves 30 = .ok (.checkcast 222, 3) := dk_192 0 222 (dk_at dksX2_loves_1 7 rfl rfl)
theorem dX2_loves_33 : decode cX2_loves 33 = .ok (.getfield 265, 3) := dk_180 1 9 (dk_at dksX2_loves_1 10 rfl rfl)
theorem dX2_loves_36 : decode cX2_loves 36 = .ok (.iload_n 2, 1) := dk_28 (dk_at dksX2_loves_1 13 rfl rfl)
theorem dX2_loves_37 : decode cX2_loves 37 = .ok (.invokestatic 267, 3) := dk_184 1 11 (dk_at dksX2_loves_1 14 rfl rfl)
theorem dX2_loves_40 : decode cX2_loves 40 = .ok (.ifCond .eq 9, 3) := dk_153 0 9 (dk_at dksX2_loves_1 17 rfl rfl)
theorem dX2_loves_43 : decode cX2_loves 43 = .ok (.aload_n 0, 1) := dk_42 (dk_at dksX2_loves_1 20 rfl rfl)
theorem dX2_loves_44 : decode cX2_loves 44 = .ok (.iconst 3, 1) := dk_6 (dk_at dksX2_loves_1 21 rfl rfl)
theorem dX2_loves_45 : decode cX2_loves 45 = .ok (.invokevirtual 75, 3) := dk_182 0 75 (dk_at dksX2_loves_2 0 rfl rfl)
theorem dX2_loves_48 : decode cX2_loves 48 = .ok (.athrow, 1) := dk_191 (dk_at dksX2_loves_2 3 rfl rfl)
theorem dX2_loves_49 : decode cX2_loves 49 = .ok (.aload_n 0, 1) := dk_42 (dk_at dksX2_loves_2 4 rfl rfl)
theorem dX2_loves_50 : decode cX2_loves 50 = .ok (.invokevirtual 25, 3) := dk_182 0 25 (dk_at dksX2_loves_2 5 rfl rfl)
theorem dX2_loves_53 : decode cX2_loves 53 = .ok (.aload_n 0, 1) := dk_42 (dk_at dksX2_loves_2 8 rfl rfl)
theorem dX2_loves_54 : decode cX2_loves 54 = .ok (.getfield 101, 3) := dk_180 0 101 (dk_at dksX2_loves_2 9 rfl rfl)
theorem dX2_loves_57 : decode cX2_loves 57 = .ok (.getfield 156, 3) := dk_180 0 156 (dk_at dksX2_loves_2 12 rfl rfl)
theorem dX2_loves_60 : decode cX2_loves 60 = .ok (.iload_n 1, 1) := dk_27 (dk_at dksX2_loves_2 15 rfl rfl)
theorem dX2_loves_61 : decode cX2_loves 61 = .ok (.invokevirtual 261, 3) := dk_182 1 5 (dk_at dksX2_loves_2 16 rfl rfl)
theorem dX2_loves_64 : decode cX2_loves 64 = .ok (.checkcast 222, 3) := dk_192 0 222 (dk_at dksX2_loves_2 19 rfl rfl)
theorem dX2_loves_67 : decode cX2_loves 67 = .ok (.dup, 1) := dk_89 (dk_at dksX2_loves_2 22 rfl rfl)
theorem dX2_loves_68 : decode cX2_loves 68 = .ok (.getfield 265, 3) := dk_180 1 9 (dk_at dksX2_loves_3 0 rfl rfl)
theorem dX2_loves_71 : decode cX2_loves 71 = .ok (.iconst 1, 1) := dk_4 (dk_at dksX2_loves_3 3 rfl rfl)
theorem dX2_loves_72 : decode cX2_loves 72 = .ok (.iload_n 2, 1) := dk_28 (dk_at dksX2_loves_3 4 rfl rfl)
theorem dX2_loves_73 : decode cX2_loves 73 = .ok (.ishl, 1) := dk_120 (dk_at dksX2_loves_3 5 rfl rfl)
theorem dX2_loves_74 : decode cX2_loves 74 = .ok (.ior, 1) := dk_128 (dk_at dksX2_loves_3 6 rfl rfl)
theorem dX2_loves_75 : decode cX2_loves 75 = .ok (.putfield 265, 3) := dk_181 1 9 (dk_at dksX2_loves_3 7 rfl rfl)
theorem dX2_loves_78 : decode cX2_loves 78 = .ok (.return_, 1) := dk_177 (dk_at dksX2_loves_3 10 rfl rfl)
abbrev cX2_tenant : ByteArray := prog_17_method_18_code
def yX2_tenant : MethodName := ⟨RX2, "tenant", "()I"⟩
def dkwX2_tenant_0 : List UInt8 := [42, 180, 0, 101, 42, 182, 0, 98, 182, 0, 110, 60, 27, 156, 0, 9, 42, 5, 182, 0, 75, 191, 27, 172]
abbrev dktX2_tenant_0 : List UInt8 := dkwX2_tenant_0 ++ []
theorem dksX2_tenant_0 : cX2_tenant.data.toList.drop 0 = dktX2_tenant_0 := by decide +kernel
theorem dX2_tenant_0 : decode cX2_tenant 0 = .ok (.aload_n 0, 1) := dk_42 (dk_at dksX2_tenant_0 0 rfl rfl)
theorem dX2_tenant_1 : decode cX2_tenant 1 = .ok (.getfield 101, 3) := dk_180 0 101 (dk_at dksX2_tenant_0 1 rfl rfl)
theorem dX2_tenant_4 : decode cX2_tenant 4 = .ok (.aload_n 0, 1) := dk_42 (dk_at dksX2_tenant_0 4 rfl rfl)
theorem dX2_tenant_5 : decode cX2_tenant 5 = .ok (.invokevirtual 98, 3) := dk_182 0 98 (dk_at dksX2_tenant_0 5 rfl rfl)
theorem dX2_tenant_8 : decode cX2_tenant 8 = .ok (.invokevirtual 110, 3) := dk_182 0 110 (dk_at dksX2_tenant_0 8 rfl rfl)
theorem dX2_tenant_11 : decode cX2_tenant 11 = .ok (.istore_n 1, 1) := dk_60 (dk_at dksX2_tenant_0 11 rfl rfl)
theorem dX2_tenant_12 : decode cX2_tenant 12 = .ok (.iload_n 1, 1) := dk_27 (dk_at dksX2_tenant_0 12 rfl rfl)
theorem dX2_tenant_13 : decode cX2_tenant 13 = .ok (.ifCond .ge 9, 3) := dk_156 0 9 (dk_at dksX2_tenant_0 13 rfl rfl)
theorem dX2_tenant_16 : decode cX2_tenant 16 = .ok (.aload_n 0, 1) := dk_42 (dk_at dksX2_tenant_0 16 rfl rfl)
theorem dX2_tenant_17 : decode cX2_tenant 17 = .ok (.iconst 2, 1) := dk_5 (dk_at dksX2_tenant_0 17 rfl rfl)
theorem dX2_tenant_18 : decode cX2_tenant 18 = .ok (.invokevirtual 75, 3) := dk_182 0 75 (dk_at dksX2_tenant_0 18 rfl rfl)
theorem dX2_tenant_21 : decode cX2_tenant 21 = .ok (.athrow, 1) := dk_191 (dk_at dksX2_tenant_0 21 rfl rfl)
theorem dX2_tenant_22 : decode cX2_tenant 22 = .ok (.iload_n 1, 1) := dk_27 (dk_at dksX2_tenant_0 22 rfl rfl)
theorem dX2_tenant_23 : decode cX2_tenant 23 = .ok (.ireturn, 1) := dk_172 (dk_at dksX2_tenant_0 23 rfl rfl)
abbrev cX2_worked : ByteArray := prog_17_method_17_code
def yX2_worked : MethodName := ⟨RX2, "worked", "(Ljava/lang/String;)LPulseRent$Expression;"⟩
def dkwX2_worked_0 : List UInt8 := [42, 43, 181, 0, 124, 42, 182, 0, 128, 176]
abbrev dktX2_worked_0 : List UInt8 := dkwX2_worked_0 ++ []
theorem dksX2_worked_0 : cX2_worked.data.toList.drop 0 = dktX2_worked_0 := by decide +kernel
theorem dX2_worked_0 : decode cX2_worked 0 = .ok (.aload_n 0, 1) := dk_42 (dk_at dksX2_worked_0 0 rfl rfl)
theorem dX2_worked_1 : decode cX2_worked 1 = .ok (.aload_n 1, 1) := dk_43 (dk_at dksX2_worked_0 1 rfl rfl)
theorem dX2_worked_2 : decode cX2_worked 2 = .ok (.putfield 124, 3) := dk_181 0 124 (dk_at dksX2_worked_0 2 rfl rfl)
theorem dX2_worked_5 : decode cX2_worked 5 = .ok (.aload_n 0, 1) := dk_42 (dk_at dksX2_worked_0 5 rfl rfl)
theorem dX2_worked_6 : decode cX2_worked 6 = .ok (.invokevirtual 128, 3) := dk_182 0 128 (dk_at dksX2_worked_0 6 rfl rfl)
theorem dX2_worked_9 : decode cX2_worked 9 = .ok (.areturn, 1) := dk_176 (dk_at dksX2_worked_0 9 rfl rfl)
abbrev cX2_expression : ByteArray := prog_17_method_26_code
def yX2_expression : MethodName := ⟨RX2, "expression", "()LPulseRent$Expression;"⟩
def dkwX2_expression_2 : List UInt8 := [167, 255, 214]
abbrev dktX2_expression_2 : List UInt8 := dkwX2_expression_2 ++ []
def dkwX2_expression_1 : List UInt8 := [187, 1, 44, 89, 28, 154, 0, 8, 16, 38, 167, 0, 5, 16, 124, 43, 42, 182, 1, 39, 183, 1, 46, 76]
abbrev dktX2_expression_1 : List UInt8 := dkwX2_expression_1 ++ dktX2_expression_2
def dkwX2_expression_0 : List UInt8 := [42, 182, 1, 39, 76, 42, 19, 1, 42, 182, 0, 71, 61, 28, 156, 0, 5, 43, 176, 42, 182, 0, 25]
abbrev dktX2_expression_0 : List UInt8 := dkwX2_expression_0 ++ dktX2_expression_1
theorem dksX2_expression_0 : cX2_expression.data.toList.drop 0 = dktX2_expression_0 := by decide +kernel
theorem dksX2_expression_1 : cX2_expression.data.toList.drop 23 = dktX2_expression_1 := dk_seg dksX2_expression_0 23 rfl rfl
theorem dksX2_expression_2 : cX2_expression.data.toList.drop 47 = dktX2_expression_2 := dk_seg dksX2_expression_1 24 rfl rfl
theorem dX2_expression_0 : decode cX2_expression 0 = .ok (.aload_n 0, 1) := dk_42 (dk_at dksX2_expression_0 0 rfl rfl)
theorem dX2_expression_1 : decode cX2_expression 1 = .ok (.invokevirtual 295, 3) := dk_182 1 39 (dk_at dksX2_expression_0 1 rfl rfl)
theorem dX2_expression_4 : decode cX2_expression 4 = .ok (.astore_n 1, 1) := dk_76 (dk_at dksX2_expression_0 4 rfl rfl)
theorem dX2_expression_5 : decode cX2_expression 5 = .ok (.aload_n 0, 1) := dk_42 (dk_at dksX2_expression_0 5 rfl rfl)
theorem dX2_expression_6 : decode cX2_expression 6 = .ok (.ldc_w 298, 3) := dk_19 1 42 (dk_at dksX2_expression_0 6 rfl rfl)
theorem dX2_expression_9 : decode cX2_expression 9 = .ok (.invokevirtual 71, 3) := dk_182 0 71 (dk_at dksX2_expression_0 9 rfl rfl)
theorem dX2_expression_12 : decode cX2_expression 12 = .ok (.istore_n 2, 1) := dk_61 (dk_at dksX2_expression_0 12 rfl rfl)
theorem dX2_expression_13 : decode cX2_expression 13 = .ok (.iload_n 2, 1) := dk_28 (dk_at dksX2_expression_0 13 rfl rfl)
theorem dX2_expression_14 : decode cX2_expression 14 = .ok (.ifCond .ge 5, 3) := dk_156 0 5 (dk_at dksX2_expression_0 14 rfl rfl)
theorem dX2_expression_17 : decode cX2_expression 17 = .ok (.aload_n 1, 1) := dk_43 (dk_at dksX2_expression_0 17 rfl rfl)
theorem dX2_expression_18 : decode cX2_expression 18 = .ok (.areturn, 1) := dk_176 (dk_at dksX2_expression_0 18 rfl rfl)
theorem dX2_expression_19 : decode cX2_expression 19 = .ok (.aload_n 0, 1) := dk_42 (dk_at dksX2_expression_0 19 rfl rfl)
theorem dX2_expression_20 : decode cX2_expression 20 = .ok (.invokevirtual 25, 3) := dk_182 0 25 (dk_at dksX2_expression_0 20 rfl rfl)
theorem dX2_expression_23 : decode cX2_expression 23 = .ok (.new 300, 3) := dk_187 1 44 (dk_at dksX2_expression_1 0 rfl rfl)
theorem dX2_expression_26 : decode cX2_expression 26 = .ok (.dup, 1) := dk_89 (dk_at dksX2_expression_1 3 rfl rfl)
theorem dX2_expression_27 : decode cX2_expression 27 = .ok (.iload_n 2, 1) := dk_28 (dk_at dksX2_expression_1 4 rfl rfl)
theorem dX2_expression_28 : decode cX2_expression 28 = .ok (.ifCond .ne 8, 3) := dk_154 0 8 (dk_at dksX2_expression_1 5 rfl rfl)
theorem dX2_expression_31 : decode cX2_expression 31 = .ok (.bipush 38, 2) := dk_16 38 (dk_at dksX2_expression_1 8 rfl rfl)
theorem dX2_expression_33 : decode cX2_expression 33 = .ok (.goto 5, 3) := dk_167 0 5 (dk_at dksX2_expression_1 10 rfl rfl)
theorem dX2_expression_36 : decode cX2_expression 36 = .ok (.bipush 124, 2) := dk_16 124 (dk_at dksX2_expression_1 13 rfl rfl)
theorem dX2_expression_38 : decode cX2_expression 38 = .ok (.aload_n 1, 1) := dk_43 (dk_at dksX2_expression_1 15 rfl rfl)
theorem dX2_expression_39 : decode cX2_expression 39 = .ok (.aload_n 0, 1) := dk_42 (dk_at dksX2_expression_1 16 rfl rfl)
theorem dX2_expression_40 : decode cX2_expression 40 = .ok (.invokevirtual 295, 3) := dk_182 1 39 (dk_at dksX2_expression_1 17 rfl rfl)
theorem dX2_expression_43 : decode cX2_expression 43 = .ok (.invokespecial 302, 3) := dk_183 1 46 (dk_at dksX2_expression_1 20 rfl rfl)
theorem dX2_expression_46 : decode cX2_expression 46 = .ok (.astore_n 1, 1) := dk_76 (dk_at dksX2_expression_1 23 rfl rfl)
theorem dX2_expression_47 : decode cX2_expression 47 = .ok (.goto (-42), 3) := dk_167 255 214 (dk_at dksX2_expression_2 0 rfl rfl)
abbrev cX2_test : ByteArray := prog_17_method_27_code
def yX2_test : MethodName := ⟨RX2, "test", "()LPulseRent$Expression;"⟩
def dkwX2_test_2 : List UInt8 := [182, 0, 25, 187, 1, 44, 89, 28, 43, 42, 182, 1, 49, 183, 1, 46, 176]
abbrev dktX2_test_2 : List UInt8 := dkwX2_test_2 ++ []
def dkwX2_test_1 : List UInt8 := [182, 0, 79, 153, 0, 8, 16, 61, 167, 0, 5, 16, 32, 61, 28, 16, 32, 160, 0, 5, 43, 176, 42]
abbrev dktX2_test_1 : List UInt8 := dkwX2_test_1 ++ dktX2_test_2
def dkwX2_test_0 : List UInt8 := [42, 182, 1, 49, 76, 42, 16, 60, 182, 0, 79, 153, 0, 8, 16, 60, 167, 0, 19, 42, 16, 61]
abbrev dktX2_test_0 : List UInt8 := dkwX2_test_0 ++ dktX2_test_1
theorem dksX2_test_0 : cX2_test.data.toList.drop 0 = dktX2_test_0 := by decide +kernel
theorem dksX2_test_1 : cX2_test.data.toList.drop 22 = dktX2_test_1 := dk_seg dksX2_test_0 22 rfl rfl
theorem dksX2_test_2 : cX2_test.data.toList.drop 45 = dktX2_test_2 := dk_seg dksX2_test_1 23 rfl rfl
theorem dX2_test_0 : decode cX2_test 0 = .ok (.aload_n 0, 1) := dk_42 (dk_at dksX2_test_0 0 rfl rfl)
theorem dX2_test_1 : decode cX2_test 1 = .ok (.invokevirtual 305, 3) := dk_182 1 49 (dk_at dksX2_test_0 1 rfl rfl)
theorem dX2_test_4 : decode cX2_test 4 = .ok (.astore_n 1, 1) := dk_76 (dk_at dksX2_test_0 4 rfl rfl)
theorem dX2_test_5 : decode cX2_test 5 = .ok (.aload_n 0, 1) := dk_42 (dk_at dksX2_test_0 5 rfl rfl)
theorem dX2_test_6 : decode cX2_test 6 = .ok (.bipush 60, 2) := dk_16 60 (dk_at dksX2_test_0 6 rfl rfl)
theorem dX2_test_8 : decode cX2_test 8 = .ok (.invokevirtual 79, 3) := dk_182 0 79 (dk_at dksX2_test_0 8 rfl rfl)
theorem dX2_test_11 : decode cX2_test 11 = .ok (.ifCond .eq 8, 3) := dk_153 0 8 (dk_at dksX2_test_0 11 rfl rfl)
theorem dX2_test_14 : decode cX2_test 14 = .ok (.bipush 60, 2) := dk_16 60 (dk_at dksX2_test_0 14 rfl rfl)
theorem dX2_test_16 : decode cX2_test 16 = .ok (.goto 19, 3) := dk_167 0 19 (dk_at dksX2_test_0 16 rfl rfl)
theorem dX2_test_19 : decode cX2_test 19 = .ok (.aload_n 0, 1) := dk_42 (dk_at dksX2_test_0 19 rfl rfl)
theorem dX2_test_20 : decode cX2_test 20 = .ok (.bipush 61, 2) := dk_16 61 (dk_at dksX2_test_0 20 rfl rfl)
theorem dX2_test_22 : decode cX2_test 22 = .ok (.invokevirtual 79, 3) := dk_182 0 79 (dk_at dksX2_test_1 0 rfl rfl)
theorem dX2_test_25 : decode cX2_test 25 = .ok (.ifCond .eq 8, 3) := dk_153 0 8 (dk_at dksX2_test_1 3 rfl rfl)
theorem dX2_test_28 : decode cX2_test 28 = .ok (.bipush 61, 2) := dk_16 61 (dk_at dksX2_test_1 6 rfl rfl)
theorem dX2_test_30 : decode cX2_test 30 = .ok (.goto 5, 3) := dk_167 0 5 (dk_at dksX2_test_1 8 rfl rfl)
theorem dX2_test_33 : decode cX2_test 33 = .ok (.bipush 32, 2) := dk_16 32 (dk_at dksX2_test_1 11 rfl rfl)
theorem dX2_test_35 : decode cX2_test 35 = .ok (.istore_n 2, 1) := dk_61 (dk_at dksX2_test_1 13 rfl rfl)
theorem dX2_test_36 : decode cX2_test 36 = .ok (.iload_n 2, 1) := dk_28 (dk_at dksX2_test_1 14 rfl rfl)
theorem dX2_test_37 : decode cX2_test 37 = .ok (.bipush 32, 2) := dk_16 32 (dk_at dksX2_test_1 15 rfl rfl)
theorem dX2_test_39 : decode cX2_test 39 = .ok (.if_icmp .ne 5, 3) := dk_160 0 5 (dk_at dksX2_test_1 17 rfl rfl)
theorem dX2_test_42 : decode cX2_test 42 = .ok (.aload_n 1, 1) := dk_43 (dk_at dksX2_test_1 20 rfl rfl)
theorem dX2_test_43 : decode cX2_test 43 = .ok (.areturn, 1) := dk_176 (dk_at dksX2_test_1 21 rfl rfl)
theorem dX2_test_44 : decode cX2_test 44 = .ok (.aload_n 0, 1) := dk_42 (dk_at dksX2_test_1 22 rfl rfl)
theorem dX2_test_45 : decode cX2_test 45 = .ok (.invokevirtual 25, 3) := dk_182 0 25 (dk_at dksX2_test_2 0 rfl rfl)
theorem dX2_test_48 : decode cX2_test 48 = .ok (.new 300, 3) := dk_187 1 44 (dk_at dksX2_test_2 3 rfl rfl)
theorem dX2_test_51 : decode cX2_test 51 = .ok (.dup, 1) := dk_89 (dk_at dksX2_test_2 6 rfl rfl)
theorem dX2_test_52 : decode cX2_test 52 = .ok (.iload_n 2, 1) := dk_28 (dk_at dksX2_test_2 7 rfl rfl)
theorem dX2_test_53 : decode cX2_test 53 = .ok (.aload_n 1, 1) := dk_43 (dk_at dksX2_test_2 8 rfl rfl)
theorem dX2_test_54 : decode cX2_test 54 = .ok (.aload_n 0, 1) := dk_42 (dk_at dksX2_test_2 9 rfl rfl)
theorem dX2_test_55 : decode cX2_test 55 = .ok (.invokevirtual 305, 3) := dk_182 1 49 (dk_at dksX2_test_2 10 rfl rfl)
theorem dX2_test_58 : decode cX2_test 58 = .ok (.invokespecial 302, 3) := dk_183 1 46 (dk_at dksX2_test_2 13 rfl rfl)
theorem dX2_test_61 : decode cX2_test 61 = .ok (.areturn, 1) := dk_176 (dk_at dksX2_test_2 16 rfl rfl)
abbrev cX2_sum : ByteArray := prog_17_method_28_code
def yX2_sum : MethodName := ⟨RX2, "sum", "()LPulseRent$Expression;"⟩
def dkwX2_sum_2 : List UInt8 := [28, 43, 42, 182, 1, 52, 183, 1, 46, 76, 167, 255, 203, 43, 176]
abbrev dktX2_sum_2 : List UInt8 := dkwX2_sum_2 ++ []
def dkwX2_sum_1 : List UInt8 := [16, 43, 182, 0, 79, 153, 0, 8, 16, 43, 167, 0, 5, 16, 45, 61, 42, 182, 0, 25, 187, 1, 44, 89]
abbrev dktX2_sum_1 : List UInt8 := dkwX2_sum_1 ++ dktX2_sum_2
def dkwX2_sum_0 : List UInt8 := [42, 182, 1, 52, 76, 42, 16, 43, 182, 0, 79, 154, 0, 12, 42, 16, 45, 182, 0, 79, 153, 0, 41, 42]
abbrev dktX2_sum_0 : List UInt8 := dkwX2_sum_0 ++ dktX2_sum_1
theorem dksX2_sum_0 : cX2_sum.data.toList.drop 0 = dktX2_sum_0 := by decide +kernel
theorem dksX2_sum_1 : cX2_sum.data.toList.drop 24 = dktX2_sum_1 := dk_seg dksX2_sum_0 24 rfl rfl
theorem dksX2_sum_2 : cX2_sum.data.toList.drop 48 = dktX2_sum_2 := dk_seg dksX2_sum_1 24 rfl rfl
theorem dX2_sum_0 : decode cX2_sum 0 = .ok (.aload_n 0, 1) := dk_42 (dk_at dksX2_sum_0 0 rfl rfl)
theorem dX2_sum_1 : decode cX2_sum 1 = .ok (.invokevirtual 308, 3) := dk_182 1 52 (dk_at dksX2_sum_0 1 rfl rfl)
theorem dX2_sum_4 : decode cX2_sum 4 = .ok (.astore_n 1, 1) := dk_76 (dk_at dksX2_sum_0 4 rfl rfl)
theorem dX2_sum_5 : decode cX2_sum 5 = .ok (.aload_n 0, 1) := dk_42 (dk_at dksX2_sum_0 5 rfl rfl)
theorem dX2_sum_6 : decode cX2_sum 6 = .ok (.bipush 43, 2) := dk_16 43 (dk_at dksX2_sum_0 6 rfl rfl)
theorem dX2_sum_8 : decode cX2_sum 8 = .ok (.invokevirtual 79, 3) := dk_182 0 79 (dk_at dksX2_sum_0 8 rfl rfl)
theorem dX2_sum_11 : decode cX2_sum 11 = .ok (.ifCond .ne 12, 3) := dk_154 0 12 (dk_at dksX2_sum_0 11 rfl rfl)
theorem dX2_sum_14 : decode cX2_sum 14 = .ok (.aload_n 0, 1) := dk_42 (dk_at dksX2_sum_0 14 rfl rfl)
theorem dX2_sum_15 : decode cX2_sum 15 = .ok (.bipush 45, 2) := dk_16 45 (dk_at dksX2_sum_0 15 rfl rfl)
theorem dX2_sum_17 : decode cX2_sum 17 = .ok (.invokevirtual 79, 3) := dk_182 0 79 (dk_at dksX2_sum_0 17 rfl rfl)
theorem dX2_sum_20 : decode cX2_sum 20 = .ok (.ifCond .eq 41, 3) := dk_153 0 41 (dk_at dksX2_sum_0 20 rfl rfl)
theorem dX2_sum_23 : decode cX2_sum 23 = .ok (.aload_n 0, 1) := dk_42 (dk_at dksX2_sum_0 23 rfl rfl)
theorem dX2_sum_24 : decode cX2_sum 24 = .ok (.bipush 43, 2) := dk_16 43 (dk_at dksX2_sum_1 0 rfl rfl)
theorem dX2_sum_26 : decode cX2_sum 26 = .ok (.invokevirtual 79, 3) := dk_182 0 79 (dk_at dksX2_sum_1 2 rfl rfl)
theorem dX2_sum_29 : decode cX2_sum 29 = .ok (.ifCond .eq 8, 3) := dk_153 0 8 (dk_at dksX2_sum_1 5 rfl rfl)
theorem dX2_sum_32 : decode cX2_sum 32 = .ok (.bipush 43, 2) := dk_16 43 (dk_at dksX2_sum_1 8 rfl rfl)
theorem dX2_sum_34 : decode cX2_sum 34 = .ok (.goto 5, 3) := dk_167 0 5 (dk_at dksX2_sum_1 10 rfl rfl)
theorem dX2_sum_37 : decode cX2_sum 37 = .ok (.bipush 45, 2) := dk_16 45 (dk_at dksX2_sum_1 13 rfl rfl)
theorem dX2_sum_39 : decode cX2_sum 39 = .ok (.istore_n 2, 1) := dk_61 (dk_at dksX2_sum_1 15 rfl rfl)
theorem dX2_sum_40 : decode cX2_sum 40 = .ok (.aload_n 0, 1) := dk_42 (dk_at dksX2_sum_1 16 rfl rfl)
theorem dX2_sum_41 : decode cX2_sum 41 = .ok (.invokevirtual 25, 3) := dk_182 0 25 (dk_at dksX2_sum_1 17 rfl rfl)
theorem dX2_sum_44 : decode cX2_sum 44 = .ok (.new 300, 3) := dk_187 1 44 (dk_at dksX2_sum_1 20 rfl rfl)
theorem dX2_sum_47 : decode cX2_sum 47 = .ok (.dup, 1) := dk_89 (dk_at dksX2_sum_1 23 rfl rfl)
theorem dX2_sum_48 : decode cX2_sum 48 = .ok (.iload_n 2, 1) := dk_28 (dk_at dksX2_sum_2 0 rfl rfl)
theorem dX2_sum_49 : decode cX2_sum 49 = .ok (.aload_n 1, 1) := dk_43 (dk_at dksX2_sum_2 1 rfl rfl)
theorem dX2_sum_50 : decode cX2_sum 50 = .ok (.aload_n 0, 1) := dk_42 (dk_at dksX2_sum_2 2 rfl rfl)
theorem dX2_sum_51 : decode cX2_sum 51 = .ok (.invokevirtual 308, 3) := dk_182 1 52 (dk_at dksX2_sum_2 3 rfl rfl)
theorem dX2_sum_54 : decode cX2_sum 54 = .ok (.invokespecial 302, 3) := dk_183 1 46 (dk_at dksX2_sum_2 6 rfl rfl)
theorem dX2_sum_57 : decode cX2_sum 57 = .ok (.astore_n 1, 1) := dk_76 (dk_at dksX2_sum_2 9 rfl rfl)
theorem dX2_sum_58 : decode cX2_sum 58 = .ok (.goto (-53), 3) := dk_167 255 203 (dk_at dksX2_sum_2 10 rfl rfl)
theorem dX2_sum_61 : decode cX2_sum 61 = .ok (.aload_n 1, 1) := dk_43 (dk_at dksX2_sum_2 13 rfl rfl)
theorem dX2_sum_62 : decode cX2_sum 62 = .ok (.areturn, 1) := dk_176 (dk_at dksX2_sum_2 14 rfl rfl)
abbrev cX2_product : ByteArray := prog_17_method_29_code
def yX2_product : MethodName := ⟨RX2, "product", "()LPulseRent$Expression;"⟩
def dkwX2_product_1 : List UInt8 := [43, 42, 182, 1, 55, 183, 1, 46, 76, 167, 255, 228, 43, 176]
abbrev dktX2_product_1 : List UInt8 := dkwX2_product_1 ++ []
def dkwX2_product_0 : List UInt8 := [42, 182, 1, 55, 76, 42, 16, 42, 182, 0, 79, 153, 0, 25, 42, 182, 0, 25, 187, 1, 44, 89, 16, 42]
abbrev dktX2_product_0 : List UInt8 := dkwX2_product_0 ++ dktX2_product_1
theorem dksX2_product_0 : cX2_product.data.toList.drop 0 = dktX2_product_0 := by decide +kernel
theorem dksX2_product_1 : cX2_product.data.toList.drop 24 = dktX2_product_1 := dk_seg dksX2_product_0 24 rfl rfl
theorem dX2_product_0 : decode cX2_product 0 = .ok (.aload_n 0, 1) := dk_42 (dk_at dksX2_product_0 0 rfl rfl)
theorem dX2_product_1 : decode cX2_product 1 = .ok (.invokevirtual 311, 3) := dk_182 1 55 (dk_at dksX2_product_0 1 rfl rfl)
theorem dX2_product_4 : decode cX2_product 4 = .ok (.astore_n 1, 1) := dk_76 (dk_at dksX2_product_0 4 rfl rfl)
theorem dX2_product_5 : decode cX2_product 5 = .ok (.aload_n 0, 1) := dk_42 (dk_at dksX2_product_0 5 rfl rfl)
theorem dX2_product_6 : decode cX2_product 6 = .ok (.bipush 42, 2) := dk_16 42 (dk_at dksX2_product_0 6 rfl rfl)
theorem dX2_product_8 : decode cX2_product 8 = .ok (.invokevirtual 79, 3) := dk_182 0 79 (dk_at dksX2_product_0 8 rfl rfl)
theorem dX2_product_11 : decode cX2_product 11 = .ok (.ifCond .eq 25, 3) := dk_153 0 25 (dk_at dksX2_product_0 11 rfl rfl)
theorem dX2_product_14 : decode cX2_product 14 = .ok (.aload_n 0, 1) := dk_42 (dk_at dksX2_product_0 14 rfl rfl)
theorem dX2_product_15 : decode cX2_product 15 = .ok (.invokevirtual 25, 3) := dk_182 0 25 (dk_at dksX2_product_0 15 rfl rfl)
theorem dX2_product_18 : decode cX2_product 18 = .ok (.new 300, 3) := dk_187 1 44 (dk_at dksX2_product_0 18 rfl rfl)
theorem dX2_product_21 : decode cX2_product 21 = .ok (.dup, 1) := dk_89 (dk_at dksX2_product_0 21 rfl rfl)
theorem dX2_product_22 : decode cX2_product 22 = .ok (.bipush 42, 2) := dk_16 42 (dk_at dksX2_product_0 22 rfl rfl)
theorem dX2_product_24 : decode cX2_product 24 = .ok (.aload_n 1, 1) := dk_43 (dk_at dksX2_product_1 0 rfl rfl)
theorem dX2_product_25 : decode cX2_product 25 = .ok (.aload_n 0, 1) := dk_42 (dk_at dksX2_product_1 1 rfl rfl)
theorem dX2_product_26 : decode cX2_product 26 = .ok (.invokevirtual 311, 3) := dk_182 1 55 (dk_at dksX2_product_1 2 rfl rfl)
theorem dX2_product_29 : decode cX2_product 29 = .ok (.invokespecial 302, 3) := dk_183 1 46 (dk_at dksX2_product_1 5 rfl rfl)
theorem dX2_product_32 : decode cX2_product 32 = .ok (.astore_n 1, 1) := dk_76 (dk_at dksX2_product_1 8 rfl rfl)
theorem dX2_product_33 : decode cX2_product 33 = .ok (.goto (-28), 3) := dk_167 255 228 (dk_at dksX2_product_1 9 rfl rfl)
theorem dX2_product_36 : decode cX2_product 36 = .ok (.aload_n 1, 1) := dk_43 (dk_at dksX2_product_1 12 rfl rfl)
theorem dX2_product_37 : decode cX2_product 37 = .ok (.areturn, 1) := dk_176 (dk_at dksX2_product_1 13 rfl rfl)
abbrev cX2_part : ByteArray := prog_17_method_30_code
def yX2_part : MethodName := ⟨RX2, "part", "()LPulseRent$Expression;"⟩
def dkwX2_part_7 : List UInt8 := [181, 0, 22, 25, 4, 176]
abbrev dktX2_part_7 : List UInt8 := dkwX2_part_7 ++ []
def dkwX2_part_6 : List UInt8 := [182, 0, 128, 58, 4, 29, 153, 0, 9, 42, 16, 41, 182, 0, 165, 42, 89, 180, 0, 22, 4, 100]
abbrev dktX2_part_6 : List UInt8 := dkwX2_part_6 ++ dktX2_part_7
def dkwX2_part_5 : List UInt8 := [181, 0, 22, 28, 153, 0, 17, 187, 1, 66, 89, 42, 182, 1, 55, 183, 1, 68, 167, 0, 7, 42]
abbrev dktX2_part_5 : List UInt8 := dkwX2_part_5 ++ dktX2_part_6
def dkwX2_part_4 : List UInt8 := [42, 182, 0, 25, 27, 155, 0, 12, 187, 1, 63, 89, 27, 183, 1, 65, 176, 42, 89, 180, 0, 22, 4, 96]
abbrev dktX2_part_4 : List UInt8 := dkwX2_part_4 ++ dktX2_part_5
def dkwX2_part_3 : List UInt8 := [42, 180, 0, 31, 5, 160, 0, 19, 187, 1, 60, 89, 42, 3, 17, 39, 15, 182, 0, 121, 183, 1, 62, 176]
abbrev dktX2_part_3 : List UInt8 := dkwX2_part_3 ++ dktX2_part_4
def dkwX2_part_2 : List UInt8 := [5, 159, 0, 9, 42, 4, 182, 0, 75, 191, 42, 180, 0, 22, 8, 160, 0, 9, 42, 8, 182, 0, 75, 191]
abbrev dktX2_part_2 : List UInt8 := dkwX2_part_2 ++ dktX2_part_3
def dkwX2_part_1 : List UInt8 := [61, 42, 16, 40, 182, 0, 79, 62, 27, 156, 0, 25, 28, 154, 0, 21, 29, 154, 0, 17, 42, 180, 0, 31]
abbrev dktX2_part_1 : List UInt8 := dkwX2_part_1 ++ dktX2_part_2
def dkwX2_part_0 : List UInt8 := [42, 42, 180, 0, 124, 182, 0, 71, 60, 42, 19, 1, 58, 182, 0, 71, 155, 0, 7, 4, 167, 0, 4, 3]
abbrev dktX2_part_0 : List UInt8 := dkwX2_part_0 ++ dktX2_part_1
theorem dksX2_part_0 : cX2_part.data.toList.drop 0 = dktX2_part_0 := by decide +kernel
theorem dksX2_part_1 : cX2_part.data.toList.drop 24 = dktX2_part_1 := dk_seg dksX2_part_0 24 rfl rfl
theorem dksX2_part_2 : cX2_part.data.toList.drop 48 = dktX2_part_2 := dk_seg dksX2_part_1 24 rfl rfl
theorem dksX2_part_3 : cX2_part.data.toList.drop 72 = dktX2_part_3 := dk_seg dksX2_part_2 24 rfl rfl
theorem dksX2_part_4 : cX2_part.data.toList.drop 96 = dktX2_part_4 := dk_seg dksX2_part_3 24 rfl rfl
theorem dksX2_part_5 : cX2_part.data.toList.drop 120 = dktX2_part_5 := dk_seg dksX2_part_4 24 rfl rfl
theorem dksX2_part_6 : cX2_part.data.toList.drop 142 = dktX2_part_6 := dk_seg dksX2_part_5 22 rfl rfl
theorem dksX2_part_7 : cX2_part.data.toList.drop 164 = dktX2_part_7 := dk_seg dksX2_part_6 22 rfl rfl
theorem dX2_part_0 : decode cX2_part 0 = .ok (.aload_n 0, 1) := dk_42 (dk_at dksX2_part_0 0 rfl rfl)
theorem dX2_part_1 : decode cX2_part 1 = .ok (.aload_n 0, 1) := dk_42 (dk_at dksX2_part_0 1 rfl rfl)
theorem dX2_part_2 : decode cX2_part 2 = .ok (.getfield 124, 3) := dk_180 0 124 (dk_at dksX2_part_0 2 rfl rfl)
theorem dX2_part_5 : decode cX2_part 5 = .ok (.invokevirtual 71, 3) := dk_182 0 71 (dk_at dksX2_part_0 5 rfl rfl)
theorem dX2_part_8 : decode cX2_part 8 = .ok (.istore_n 1, 1) := dk_60 (dk_at dksX2_part_0 8 rfl rfl)
theorem dX2_part_9 : decode cX2_part 9 = .ok (.aload_n 0, 1) := dk_42 (dk_at dksX2_part_0 9 rfl rfl)
theorem dX2_part_10 : decode cX2_part 10 = .ok (.ldc_w 314, 3) := dk_19 1 58 (dk_at dksX2_part_0 10 rfl rfl)
theorem dX2_part_13 : decode cX2_part 13 = .ok (.invokevirtual 71, 3) := dk_182 0 71 (dk_at dksX2_part_0 13 rfl rfl)
theorem dX2_part_16 : decode cX2_part 16 = .ok (.ifCond .lt 7, 3) := dk_155 0 7 (dk_at dksX2_part_0 16 rfl rfl)
theorem dX2_part_19 : decode cX2_part 19 = .ok (.iconst 1, 1) := dk_4 (dk_at dksX2_part_0 19 rfl rfl)
theorem dX2_part_20 : decode cX2_part 20 = .ok (.goto 4, 3) := dk_167 0 4 (dk_at dksX2_part_0 20 rfl rfl)
theorem dX2_part_23 : decode cX2_part 23 = .ok (.iconst 0, 1) := dk_3 (dk_at dksX2_part_0 23 rfl rfl)
theorem dX2_part_24 : decode cX2_part 24 = .ok (.istore_n 2, 1) := dk_61 (dk_at dksX2_part_1 0 rfl rfl)
theorem dX2_part_25 : decode cX2_part 25 = .ok (.aload_n 0, 1) := dk_42 (dk_at dksX2_part_1 1 rfl rfl)
theorem dX2_part_26 : decode cX2_part 26 = .ok (.bipush 40, 2) := dk_16 40 (dk_at dksX2_part_1 2 rfl rfl)
theorem dX2_part_28 : decode cX2_part 28 = .ok (.invokevirtual 79, 3) := dk_182 0 79 (dk_at dksX2_part_1 4 rfl rfl)
theorem dX2_part_31 : decode cX2_part 31 = .ok (.istore_n 3, 1) := dk_62 (dk_at dksX2_part_1 7 rfl rfl)
theorem dX2_part_32 : decode cX2_part 32 = .ok (.iload_n 1, 1) := dk_27 (dk_at dksX2_part_1 8 rfl rfl)
theorem dX2_part_33 : decode cX2_part 33 = .ok (.ifCond .ge 25, 3) := dk_156 0 25 (dk_at dksX2_part_1 9 rfl rfl)
theorem dX2_part_36 : decode cX2_part 36 = .ok (.iload_n 2, 1) := dk_28 (dk_at dksX2_part_1 12 rfl rfl)
theorem dX2_part_37 : decode cX2_part 37 = .ok (.ifCond .ne 21, 3) := dk_154 0 21 (dk_at dksX2_part_1 13 rfl rfl)
theorem dX2_part_40 : decode cX2_part 40 = .ok (.iload_n 3, 1) := dk_29 (dk_at dksX2_part_1 16 rfl rfl)
theorem dX2_part_41 : decode cX2_part 41 = .ok (.ifCond .ne 17, 3) := dk_154 0 17 (dk_at dksX2_part_1 17 rfl rfl)
theorem dX2_part_44 : decode cX2_part 44 = .ok (.aload_n 0, 1) := dk_42 (dk_at dksX2_part_1 20 rfl rfl)
theorem dX2_part_45 : decode cX2_part 45 = .ok (.getfield 31, 3) := dk_180 0 31 (dk_at dksX2_part_1 21 rfl rfl)
theorem dX2_part_48 : decode cX2_part 48 = .ok (.iconst 2, 1) := dk_5 (dk_at dksX2_part_2 0 rfl rfl)
theorem dX2_part_49 : decode cX2_part 49 = .ok (.if_icmp .eq 9, 3) := dk_159 0 9 (dk_at dksX2_part_2 1 rfl rfl)
theorem dX2_part_52 : decode cX2_part 52 = .ok (.aload_n 0, 1) := dk_42 (dk_at dksX2_part_2 4 rfl rfl)
theorem dX2_part_53 : decode cX2_part 53 = .ok (.iconst 1, 1) := dk_4 (dk_at dksX2_part_2 5 rfl rfl)
theorem dX2_part_54 : decode cX2_part 54 = .ok (.invokevirtual 75, 3) := dk_182 0 75 (dk_at dksX2_part_2 6 rfl rfl)
theorem dX2_part_57 : decode cX2_part 57 = .ok (.athrow, 1) := dk_191 (dk_at dksX2_part_2 9 rfl rfl)
theorem dX2_part_58 : decode cX2_part 58 = .ok (.aload_n 0, 1) := dk_42 (dk_at dksX2_part_2 10 rfl rfl)
theorem dX2_part_59 : decode cX2_part 59 = .ok (.getfield 22, 3) := dk_180 0 22 (dk_at dksX2_part_2 11 rfl rfl)
theorem dX2_part_62 : decode cX2_part 62 = .ok (.iconst 5, 1) := dk_8 (dk_at dksX2_part_2 14 rfl rfl)
theorem dX2_part_63 : decode cX2_part 63 = .ok (.if_icmp .ne 9, 3) := dk_160 0 9 (dk_at dksX2_part_2 15 rfl rfl)
theorem dX2_part_66 : decode cX2_part 66 = .ok (.aload_n 0, 1) := dk_42 (dk_at dksX2_part_2 18 rfl rfl)
theorem dX2_part_67 : decode cX2_part 67 = .ok (.iconst 5, 1) := dk_8 (dk_at dksX2_part_2 19 rfl rfl)
theorem dX2_part_68 : decode cX2_part 68 = .ok (.invokevirtual 75, 3) := dk_182 0 75 (dk_at dksX2_part_2 20 rfl rfl)
theorem dX2_part_71 : decode cX2_part 71 = .ok (.athrow, 1) := dk_191 (dk_at dksX2_part_2 23 rfl rfl)
theorem dX2_part_72 : decode cX2_part 72 = .ok (.aload_n 0, 1) := dk_42 (dk_at dksX2_part_3 0 rfl rfl)
theorem dX2_part_73 : decode cX2_part 73 = .ok (.getfield 31, 3) := dk_180 0 31 (dk_at dksX2_part_3 1 rfl rfl)
theorem dX2_part_76 : decode cX2_part 76 = .ok (.iconst 2, 1) := dk_5 (dk_at dksX2_part_3 4 rfl rfl)
theorem dX2_part_77 : decode cX2_part 77 = .ok (.if_icmp .ne 19, 3) := dk_160 0 19 (dk_at dksX2_part_3 5 rfl rfl)
theorem dX2_part_80 : decode cX2_part 80 = .ok (.new 316, 3) := dk_187 1 60 (dk_at dksX2_part_3 8 rfl rfl)
theorem dX2_part_83 : decode cX2_part 83 = .ok (.dup, 1) := dk_89 (dk_at dksX2_part_3 11 rfl rfl)
theorem dX2_part_84 : decode cX2_part 84 = .ok (.aload_n 0, 1) := dk_42 (dk_at dksX2_part_3 12 rfl rfl)
theorem dX2_part_85 : decode cX2_part 85 = .ok (.iconst 0, 1) := dk_3 (dk_at dksX2_part_3 13 rfl rfl)
theorem dX2_part_86 : decode cX2_part 86 = .ok (.sipush 9999, 3) := dk_17 39 15 (dk_at dksX2_part_3 14 rfl rfl)
theorem dX2_part_89 : decode cX2_part 89 = .ok (.invokevirtual 121, 3) := dk_182 0 121 (dk_at dksX2_part_3 17 rfl rfl)
theorem dX2_part_92 : decode cX2_part 92 = .ok (.invokespecial 318, 3) := dk_183 1 62 (dk_at dksX2_part_3 20 rfl rfl)
theorem dX2_part_95 : decode cX2_part 95 = .ok (.areturn, 1) := dk_176 (dk_at dksX2_part_3 23 rfl rfl)
theorem dX2_part_96 : decode cX2_part 96 = .ok (.aload_n 0, 1) := dk_42 (dk_at dksX2_part_4 0 rfl rfl)
theorem dX2_part_97 : decode cX2_part 97 = .ok (.invokevirtual 25, 3) := dk_182 0 25 (dk_at dksX2_part_4 1 rfl rfl)
theorem dX2_part_100 : decode cX2_part 100 = .ok (.iload_n 1, 1) := dk_27 (dk_at dksX2_part_4 4 rfl rfl)
theorem dX2_part_101 : decode cX2_part 101 = .ok (.ifCond .lt 12, 3) := dk_155 0 12 (dk_at dksX2_part_4 5 rfl rfl)
theorem dX2_part_104 : decode cX2_part 104 = .ok (.new 319, 3) := dk_187 1 63 (dk_at dksX2_part_4 8 rfl rfl)
theorem dX2_part_107 : decode cX2_part 107 = .ok (.dup, 1) := dk_89 (dk_at dksX2_part_4 11 rfl rfl)
theorem dX2_part_108 : decode cX2_part 108 = .ok (.iload_n 1, 1) := dk_27 (dk_at dksX2_part_4 12 rfl rfl)
theorem dX2_part_109 : decode cX2_part 109 = .ok (.invokespecial 321, 3) := dk_183 1 65 (dk_at dksX2_part_4 13 rfl rfl)
theorem dX2_part_112 : decode cX2_part 112 = .ok (.areturn, 1) := dk_176 (dk_at dksX2_part_4 16 rfl rfl)
theorem dX2_part_113 : decode cX2_part 113 = .ok (.aload_n 0, 1) := dk_42 (dk_at dksX2_part_4 17 rfl rfl)
theorem dX2_part_114 : decode cX2_part 114 = .ok (.dup, 1) := dk_89 (dk_at dksX2_part_4 18 rfl rfl)
theorem dX2_part_115 : decode cX2_part 115 = .ok (.getfield 22, 3) := dk_180 0 22 (dk_at dksX2_part_4 19 rfl rfl)
theorem dX2_part_118 : decode cX2_part 118 = .ok (.iconst 1, 1) := dk_4 (dk_at dksX2_part_4 22 rfl rfl)
theorem dX2_part_119 : decode cX2_part 119 = .ok (.iadd, 1) := dk_96 (dk_at dksX2_part_4 23 rfl rfl)
theorem dX2_part_120 : decode cX2_part 120 = .ok (.putfield 22, 3) := dk_181 0 22 (dk_at dksX2_part_5 0 rfl rfl)
theorem dX2_part_123 : decode cX2_part 123 = .ok (.iload_n 2, 1) := dk_28 (dk_at dksX2_part_5 3 rfl rfl)
theorem dX2_part_124 : decode cX2_part 124 = .ok (.ifCond .eq 17, 3) := dk_153 0 17 (dk_at dksX2_part_5 4 rfl rfl)
theorem dX2_part_127 : decode cX2_part 127 = .ok (.new 322, 3) := dk_187 1 66 (dk_at dksX2_part_5 7 rfl rfl)
theorem dX2_part_130 : decode cX2_part 130 = .ok (.dup, 1) := dk_89 (dk_at dksX2_part_5 10 rfl rfl)
theorem dX2_part_131 : decode cX2_part 131 = .ok (.aload_n 0, 1) := dk_42 (dk_at dksX2_part_5 11 rfl rfl)
theorem dX2_part_132 : decode cX2_part 132 = .ok (.invokevirtual 311, 3) := dk_182 1 55 (dk_at dksX2_part_5 12 rfl rfl)
theorem dX2_part_135 : decode cX2_part 135 = .ok (.invokespecial 324, 3) := dk_183 1 68 (dk_at dksX2_part_5 15 rfl rfl)
theorem dX2_part_138 : decode cX2_part 138 = .ok (.goto 7, 3) := dk_167 0 7 (dk_at dksX2_part_5 18 rfl rfl)
theorem dX2_part_141 : decode cX2_part 141 = .ok (.aload_n 0, 1) := dk_42 (dk_at dksX2_part_5 21 rfl rfl)
theorem dX2_part_142 : decode cX2_part 142 = .ok (.invokevirtual 128, 3) := dk_182 0 128 (dk_at dksX2_part_6 0 rfl rfl)
theorem dX2_part_145 : decode cX2_part 145 = .ok (.astore 4, 2) := dk_58 4 (dk_at dksX2_part_6 3 rfl rfl)
theorem dX2_part_147 : decode cX2_part 147 = .ok (.iload_n 3, 1) := dk_29 (dk_at dksX2_part_6 5 rfl rfl)
theorem dX2_part_148 : decode cX2_part 148 = .ok (.ifCond .eq 9, 3) := dk_153 0 9 (dk_at dksX2_part_6 6 rfl rfl)
theorem dX2_part_151 : decode cX2_part 151 = .ok (.aload_n 0, 1) := dk_42 (dk_at dksX2_part_6 9 rfl rfl)
theorem dX2_part_152 : decode cX2_part 152 = .ok (.bipush 41, 2) := dk_16 41 (dk_at dksX2_part_6 10 rfl rfl)
theorem dX2_part_154 : decode cX2_part 154 = .ok (.invokevirtual 165, 3) := dk_182 0 165 (dk_at dksX2_part_6 12 rfl rfl)
theorem dX2_part_157 : decode cX2_part 157 = .ok (.aload_n 0, 1) := dk_42 (dk_at dksX2_part_6 15 rfl rfl)
theorem dX2_part_158 : decode cX2_part 158 = .ok (.dup, 1) := dk_89 (dk_at dksX2_part_6 16 rfl rfl)
theorem dX2_part_159 : decode cX2_part 159 = .ok (.getfield 22, 3) := dk_180 0 22 (dk_at dksX2_part_6 17 rfl rfl)
theorem dX2_part_162 : decode cX2_part 162 = .ok (.iconst 1, 1) := dk_4 (dk_at dksX2_part_6 20 rfl rfl)
theorem dX2_part_163 : decode cX2_part 163 = .ok (.isub, 1) := dk_100 (dk_at dksX2_part_6 21 rfl rfl)
theorem dX2_part_164 : decode cX2_part 164 = .ok (.putfield 22, 3) := dk_181 0 22 (dk_at dksX2_part_7 0 rfl rfl)
theorem dX2_part_167 : decode cX2_part 167 = .ok (.aload 4, 2) := dk_25 4 (dk_at dksX2_part_7 3 rfl rfl)
theorem dX2_part_169 : decode cX2_part 169 = .ok (.areturn, 1) := dk_176 (dk_at dksX2_part_7 5 rfl rfl)
abbrev cX2_isSign : ByteArray := prog_17_method_10_code
def yX2_isSign : MethodName := ⟨RX2, "isSign", "(C)Z"⟩
def dkwX2_isSign_1 : List UInt8 := [167, 0, 4, 3, 172]
abbrev dktX2_isSign_1 : List UInt8 := dkwX2_isSign_1 ++ []
def dkwX2_isSign_0 : List UInt8 := [42, 180, 0, 31, 6, 160, 0, 20, 42, 180, 0, 9, 42, 180, 0, 28, 51, 27, 160, 0, 7, 4]
abbrev dktX2_isSign_0 : List UInt8 := dkwX2_isSign_0 ++ dktX2_isSign_1
theorem dksX2_isSign_0 : cX2_isSign.data.toList.drop 0 = dktX2_isSign_0 := by decide +kernel
theorem dksX2_isSign_1 : cX2_isSign.data.toList.drop 22 = dktX2_isSign_1 := dk_seg dksX2_isSign_0 22 rfl rfl
theorem dX2_isSign_0 : decode cX2_isSign 0 = .ok (.aload_n 0, 1) := dk_42 (dk_at dksX2_isSign_0 0 rfl rfl)
theorem dX2_isSign_1 : decode cX2_isSign 1 = .ok (.getfield 31, 3) := dk_180 0 31 (dk_at dksX2_isSign_0 1 rfl rfl)
theorem dX2_isSign_4 : decode cX2_isSign 4 = .ok (.iconst 3, 1) := dk_6 (dk_at dksX2_isSign_0 4 rfl rfl)
theorem dX2_isSign_5 : decode cX2_isSign 5 = .ok (.if_icmp .ne 20, 3) := dk_160 0 20 (dk_at dksX2_isSign_0 5 rfl rfl)
theorem dX2_isSign_8 : decode cX2_isSign 8 = .ok (.aload_n 0, 1) := dk_42 (dk_at dksX2_isSign_0 8 rfl rfl)
theorem dX2_isSign_9 : decode cX2_isSign 9 = .ok (.getfield 9, 3) := dk_180 0 9 (dk_at dksX2_isSign_0 9 rfl rfl)
theorem dX2_isSign_12 : decode cX2_isSign 12 = .ok (.aload_n 0, 1) := dk_42 (dk_at dksX2_isSign_0 12 rfl rfl)
theorem dX2_isSign_13 : decode cX2_isSign 13 = .ok (.getfield 28, 3) := dk_180 0 28 (dk_at dksX2_isSign_0 13 rfl rfl)
theorem dX2_isSign_16 : decode cX2_isSign 16 = .ok (.baload, 1) := dk_51 (dk_at dksX2_isSign_0 16 rfl rfl)
theorem dX2_isSign_17 : decode cX2_isSign 17 = .ok (.iload_n 1, 1) := dk_27 (dk_at dksX2_isSign_0 17 rfl rfl)
theorem dX2_isSign_18 : decode cX2_isSign 18 = .ok (.if_icmp .ne 7, 3) := dk_160 0 7 (dk_at dksX2_isSign_0 18 rfl rfl)
theorem dX2_isSign_21 : decode cX2_isSign 21 = .ok (.iconst 1, 1) := dk_4 (dk_at dksX2_isSign_0 21 rfl rfl)
theorem dX2_isSign_22 : decode cX2_isSign 22 = .ok (.goto 4, 3) := dk_167 0 4 (dk_at dksX2_isSign_1 0 rfl rfl)
theorem dX2_isSign_25 : decode cX2_isSign 25 = .ok (.iconst 0, 1) := dk_3 (dk_at dksX2_isSign_1 3 rfl rfl)
theorem dX2_isSign_26 : decode cX2_isSign 26 = .ok (.ireturn, 1) := dk_172 (dk_at dksX2_isSign_1 4 rfl rfl)
abbrev cX2_need_2 : ByteArray := prog_17_method_11_code
def yX2_need_2 : MethodName := ⟨RX2, "need", "(C)V"⟩
def dkwX2_need_2_0 : List UInt8 := [42, 27, 182, 0, 79, 154, 0, 9, 42, 4, 182, 0, 75, 191, 42, 182, 0, 25, 177]
abbrev dktX2_need_2_0 : List UInt8 := dkwX2_need_2_0 ++ []
theorem dksX2_need_2_0 : cX2_need_2.data.toList.drop 0 = dktX2_need_2_0 := by decide +kernel
theorem dX2_need_2_0 : decode cX2_need_2 0 = .ok (.aload_n 0, 1) := dk_42 (dk_at dksX2_need_2_0 0 rfl rfl)
theorem dX2_need_2_1 : decode cX2_need_2 1 = .ok (.iload_n 1, 1) := dk_27 (dk_at dksX2_need_2_0 1 rfl rfl)
theorem dX2_need_2_2 : decode cX2_need_2 2 = .ok (.invokevirtual 79, 3) := dk_182 0 79 (dk_at dksX2_need_2_0 2 rfl rfl)
theorem dX2_need_2_5 : decode cX2_need_2 5 = .ok (.ifCond .ne 9, 3) := dk_154 0 9 (dk_at dksX2_need_2_0 5 rfl rfl)
theorem dX2_need_2_8 : decode cX2_need_2 8 = .ok (.aload_n 0, 1) := dk_42 (dk_at dksX2_need_2_0 8 rfl rfl)
theorem dX2_need_2_9 : decode cX2_need_2 9 = .ok (.iconst 1, 1) := dk_4 (dk_at dksX2_need_2_0 9 rfl rfl)
theorem dX2_need_2_10 : decode cX2_need_2 10 = .ok (.invokevirtual 75, 3) := dk_182 0 75 (dk_at dksX2_need_2_0 10 rfl rfl)
theorem dX2_need_2_13 : decode cX2_need_2 13 = .ok (.athrow, 1) := dk_191 (dk_at dksX2_need_2_0 13 rfl rfl)
theorem dX2_need_2_14 : decode cX2_need_2 14 = .ok (.aload_n 0, 1) := dk_42 (dk_at dksX2_need_2_0 14 rfl rfl)
theorem dX2_need_2_15 : decode cX2_need_2 15 = .ok (.invokevirtual 25, 3) := dk_182 0 25 (dk_at dksX2_need_2_0 15 rfl rfl)
theorem dX2_need_2_18 : decode cX2_need_2 18 = .ok (.return_, 1) := dk_177 (dk_at dksX2_need_2_0 18 rfl rfl)
abbrev cX2_months : ByteArray := prog_17_method_24_code
def yX2_months : MethodName := ⟨RX2, "months", "(LPulseRent$House;)Ljava/util/ArrayList;"⟩
def dkwX2_months_3 : List UInt8 := [16, 59, 182, 0, 165, 167, 255, 196, 44, 176]
abbrev dktX2_months_3 : List UInt8 := dkwX2_months_3 ++ []
def dkwX2_months_2 : List UInt8 := [160, 0, 9, 42, 8, 182, 0, 75, 191, 42, 182, 0, 25, 44, 42, 29, 182, 1, 18, 182, 0, 185, 87, 42]
abbrev dktX2_months_2 : List UInt8 := dkwX2_months_2 ++ dktX2_months_3
def dkwX2_months_1 : List UInt8 := [19, 1, 16, 182, 0, 71, 62, 29, 156, 0, 9, 42, 4, 182, 0, 75, 191, 44, 182, 0, 152, 16, 30]
abbrev dktX2_months_1 : List UInt8 := dkwX2_months_1 ++ dktX2_months_2
def dkwX2_months_0 : List UInt8 := [42, 43, 181, 0, 101, 187, 0, 153, 89, 7, 183, 1, 15, 77, 42, 180, 0, 31, 153, 0, 59, 42]
abbrev dktX2_months_0 : List UInt8 := dkwX2_months_0 ++ dktX2_months_1
theorem dksX2_months_0 : cX2_months.data.toList.drop 0 = dktX2_months_0 := by decide +kernel
theorem dksX2_months_1 : cX2_months.data.toList.drop 22 = dktX2_months_1 := dk_seg dksX2_months_0 22 rfl rfl
theorem dksX2_months_2 : cX2_months.data.toList.drop 45 = dktX2_months_2 := dk_seg dksX2_months_1 23 rfl rfl
theorem dksX2_months_3 : cX2_months.data.toList.drop 69 = dktX2_months_3 := dk_seg dksX2_months_2 24 rfl rfl
theorem dX2_months_0 : decode cX2_months 0 = .ok (.aload_n 0, 1) := dk_42 (dk_at dksX2_months_0 0 rfl rfl)
theorem dX2_months_1 : decode cX2_months 1 = .ok (.aload_n 1, 1) := dk_43 (dk_at dksX2_months_0 1 rfl rfl)
theorem dX2_months_2 : decode cX2_months 2 = .ok (.putfield 101, 3) := dk_181 0 101 (dk_at dksX2_months_0 2 rfl rfl)
theorem dX2_months_5 : decode cX2_months 5 = .ok (.new 153, 3) := dk_187 0 153 (dk_at dksX2_months_0 5 rfl rfl)
theorem dX2_months_8 : decode cX2_months 8 = .ok (.dup, 1) := dk_89 (dk_at dksX2_months_0 8 rfl rfl)
theorem dX2_months_9 : decode cX2_months 9 = .ok (.iconst 4, 1) := dk_7 (dk_at dksX2_months_0 9 rfl rfl)
theorem dX2_months_10 : decode cX2_months 10 = .ok (.invokespecial 271, 3) := dk_183 1 15 (dk_at dksX2_months_0 10 rfl rfl)
theorem dX2_months_13 : decode cX2_months 13 = .ok (.astore_n 2, 1) := dk_77 (dk_at dksX2_months_0 13 rfl rfl)
theorem dX2_months_14 : decode cX2_months 14 = .ok (.aload_n 0, 1) := dk_42 (dk_at dksX2_months_0 14 rfl rfl)
theorem dX2_months_15 : decode cX2_months 15 = .ok (.getfield 31, 3) := dk_180 0 31 (dk_at dksX2_months_0 15 rfl rfl)
theorem dX2_months_18 : decode cX2_months 18 = .ok (.ifCond .eq 59, 3) := dk_153 0 59 (dk_at dksX2_months_0 18 rfl rfl)
theorem dX2_months_21 : decode cX2_months 21 = .ok (.aload_n 0, 1) := dk_42 (dk_at dksX2_months_0 21 rfl rfl)
theorem dX2_months_22 : decode cX2_months 22 = .ok (.ldc_w 272, 3) := dk_19 1 16 (dk_at dksX2_months_1 0 rfl rfl)
theorem dX2_months_25 : decode cX2_months 25 = .ok (.invokevirtual 71, 3) := dk_182 0 71 (dk_at dksX2_months_1 3 rfl rfl)
theorem dX2_months_28 : decode cX2_months 28 = .ok (.istore_n 3, 1) := dk_62 (dk_at dksX2_months_1 6 rfl rfl)
theorem dX2_months_29 : decode cX2_months 29 = .ok (.iload_n 3, 1) := dk_29 (dk_at dksX2_months_1 7 rfl rfl)
theorem dX2_months_30 : decode cX2_months 30 = .ok (.ifCond .ge 9, 3) := dk_156 0 9 (dk_at dksX2_months_1 8 rfl rfl)
theorem dX2_months_33 : decode cX2_months 33 = .ok (.aload_n 0, 1) := dk_42 (dk_at dksX2_months_1 11 rfl rfl)
theorem dX2_months_34 : decode cX2_months 34 = .ok (.iconst 1, 1) := dk_4 (dk_at dksX2_months_1 12 rfl rfl)
theorem dX2_months_35 : decode cX2_months 35 = .ok (.invokevirtual 75, 3) := dk_182 0 75 (dk_at dksX2_months_1 13 rfl rfl)
theorem dX2_months_38 : decode cX2_months 38 = .ok (.athrow, 1) := dk_191 (dk_at dksX2_months_1 16 rfl rfl)
theorem dX2_months_39 : decode cX2_months 39 = .ok (.aload_n 2, 1) := dk_44 (dk_at dksX2_months_1 17 rfl rfl)
theorem dX2_months_40 : decode cX2_months 40 = .ok (.invokevirtual 152, 3) := dk_182 0 152 (dk_at dksX2_months_1 18 rfl rfl)
theorem dX2_months_43 : decode cX2_months 43 = .ok (.bipush 30, 2) := dk_16 30 (dk_at dksX2_months_1 21 rfl rfl)
theorem dX2_months_45 : decode cX2_months 45 = .ok (.if_icmp .ne 9, 3) := dk_160 0 9 (dk_at dksX2_months_2 0 rfl rfl)
theorem dX2_months_48 : decode cX2_months 48 = .ok (.aload_n 0, 1) := dk_42 (dk_at dksX2_months_2 3 rfl rfl)
theorem dX2_months_49 : decode cX2_months 49 = .ok (.iconst 5, 1) := dk_8 (dk_at dksX2_months_2 4 rfl rfl)
theorem dX2_months_50 : decode cX2_months 50 = .ok (.invokevirtual 75, 3) := dk_182 0 75 (dk_at dksX2_months_2 5 rfl rfl)
theorem dX2_months_53 : decode cX2_months 53 = .ok (.athrow, 1) := dk_191 (dk_at dksX2_months_2 8 rfl rfl)
theorem dX2_months_54 : decode cX2_months 54 = .ok (.aload_n 0, 1) := dk_42 (dk_at dksX2_months_2 9 rfl rfl)
theorem dX2_months_55 : decode cX2_months 55 = .ok (.invokevirtual 25, 3) := dk_182 0 25 (dk_at dksX2_months_2 10 rfl rfl)
theorem dX2_months_58 : decode cX2_months 58 = .ok (.aload_n 2, 1) := dk_44 (dk_at dksX2_months_2 13 rfl rfl)
theorem dX2_months_59 : decode cX2_months 59 = .ok (.aload_n 0, 1) := dk_42 (dk_at dksX2_months_2 14 rfl rfl)
theorem dX2_months_60 : decode cX2_months 60 = .ok (.iload_n 3, 1) := dk_29 (dk_at dksX2_months_2 15 rfl rfl)
theorem dX2_months_61 : decode cX2_months 61 = .ok (.invokevirtual 274, 3) := dk_182 1 18 (dk_at dksX2_months_2 16 rfl rfl)
theorem dX2_months_64 : decode cX2_months 64 = .ok (.invokevirtual 185, 3) := dk_182 0 185 (dk_at dksX2_months_2 19 rfl rfl)
theorem dX2_months_67 : decode cX2_months 67 = .ok (.pop, 1) := dk_87 (dk_at dksX2_months_2 22 rfl rfl)
theorem dX2_months_68 : decode cX2_months 68 = .ok (.aload_n 0, 1) := dk_42 (dk_at dksX2_months_2 23 rfl rfl)
theorem dX2_months_69 : decode cX2_months 69 = .ok (.bipush 59, 2) := dk_16 59 (dk_at dksX2_months_3 0 rfl rfl)
theorem dX2_months_71 : decode cX2_months 71 = .ok (.invokevirtual 165, 3) := dk_182 0 165 (dk_at dksX2_months_3 2 rfl rfl)
theorem dX2_months_74 : decode cX2_months 74 = .ok (.goto (-60), 3) := dk_167 255 196 (dk_at dksX2_months_3 5 rfl rfl)
theorem dX2_months_77 : decode cX2_months 77 = .ok (.aload_n 2, 1) := dk_44 (dk_at dksX2_months_3 8 rfl rfl)
theorem dX2_months_78 : decode cX2_months 78 = .ok (.areturn, 1) := dk_176 (dk_at dksX2_months_3 9 rfl rfl)
abbrev cX2_told : ByteArray := prog_17_method_25_code
def yX2_told : MethodName := ⟨RX2, "told", "(I)LPulseRent$Line;"⟩
def dkwX2_told_4 : List UInt8 := [182, 0, 252, 62, 42, 182, 0, 25, 187, 1, 36, 89, 28, 29, 183, 1, 38, 176]
abbrev dktX2_told_4 : List UInt8 := dkwX2_told_4 ++ []
def dkwX2_told_3 : List UInt8 := [182, 0, 121, 183, 1, 32, 176, 27, 5, 160, 0, 12, 187, 1, 33, 89, 28, 183, 1, 35, 176, 42]
abbrev dktX2_told_3 : List UInt8 := dkwX2_told_3 ++ dktX2_told_4
def dkwX2_told_2 : List UInt8 := [187, 1, 27, 89, 28, 183, 1, 29, 176, 27, 4, 160, 0, 19, 187, 1, 30, 89, 28, 42, 4, 16, 99]
abbrev dktX2_told_2 : List UInt8 := dkwX2_told_2 ++ dktX2_told_3
def dkwX2_told_1 : List UInt8 := [160, 0, 11, 187, 1, 24, 89, 183, 1, 26, 176, 42, 182, 1, 3, 61, 42, 182, 0, 25, 27, 154, 0, 12]
abbrev dktX2_told_1 : List UInt8 := dkwX2_told_1 ++ dktX2_told_2
def dkwX2_told_0 : List UInt8 := [27, 6, 160, 0, 18, 187, 1, 21, 89, 42, 4, 16, 120, 182, 0, 121, 183, 1, 23, 176, 27, 7]
abbrev dktX2_told_0 : List UInt8 := dkwX2_told_0 ++ dktX2_told_1
theorem dksX2_told_0 : cX2_told.data.toList.drop 0 = dktX2_told_0 := by decide +kernel
theorem dksX2_told_1 : cX2_told.data.toList.drop 22 = dktX2_told_1 := dk_seg dksX2_told_0 22 rfl rfl
theorem dksX2_told_2 : cX2_told.data.toList.drop 46 = dktX2_told_2 := dk_seg dksX2_told_1 24 rfl rfl
theorem dksX2_told_3 : cX2_told.data.toList.drop 69 = dktX2_told_3 := dk_seg dksX2_told_2 23 rfl rfl
theorem dksX2_told_4 : cX2_told.data.toList.drop 91 = dktX2_told_4 := dk_seg dksX2_told_3 22 rfl rfl
theorem dX2_told_0 : decode cX2_told 0 = .ok (.iload_n 1, 1) := dk_27 (dk_at dksX2_told_0 0 rfl rfl)
theorem dX2_told_1 : decode cX2_told 1 = .ok (.iconst 3, 1) := dk_6 (dk_at dksX2_told_0 1 rfl rfl)
theorem dX2_told_2 : decode cX2_told 2 = .ok (.if_icmp .ne 18, 3) := dk_160 0 18 (dk_at dksX2_told_0 2 rfl rfl)
theorem dX2_told_5 : decode cX2_told 5 = .ok (.new 277, 3) := dk_187 1 21 (dk_at dksX2_told_0 5 rfl rfl)
theorem dX2_told_8 : decode cX2_told 8 = .ok (.dup, 1) := dk_89 (dk_at dksX2_told_0 8 rfl rfl)
theorem dX2_told_9 : decode cX2_told 9 = .ok (.aload_n 0, 1) := dk_42 (dk_at dksX2_told_0 9 rfl rfl)
theorem dX2_told_10 : decode cX2_told 10 = .ok (.iconst 1, 1) := dk_4 (dk_at dksX2_told_0 10 rfl rfl)
theorem dX2_told_11 : decode cX2_told 11 = .ok (.bipush 120, 2) := dk_16 120 (dk_at dksX2_told_0 11 rfl rfl)
theorem dX2_told_13 : decode cX2_told 13 = .ok (.invokevirtual 121, 3) := dk_182 0 121 (dk_at dksX2_told_0 13 rfl rfl)
theorem dX2_told_16 : decode cX2_told 16 = .ok (.invokespecial 279, 3) := dk_183 1 23 (dk_at dksX2_told_0 16 rfl rfl)
theorem dX2_told_19 : decode cX2_told 19 = .ok (.areturn, 1) := dk_176 (dk_at dksX2_told_0 19 rfl rfl)
theorem dX2_told_20 : decode cX2_told 20 = .ok (.iload_n 1, 1) := dk_27 (dk_at dksX2_told_0 20 rfl rfl)
theorem dX2_told_21 : decode cX2_told 21 = .ok (.iconst 4, 1) := dk_7 (dk_at dksX2_told_0 21 rfl rfl)
theorem dX2_told_22 : decode cX2_told 22 = .ok (.if_icmp .ne 11, 3) := dk_160 0 11 (dk_at dksX2_told_1 0 rfl rfl)
theorem dX2_told_25 : decode cX2_told 25 = .ok (.new 280, 3) := dk_187 1 24 (dk_at dksX2_told_1 3 rfl rfl)
theorem dX2_told_28 : decode cX2_told 28 = .ok (.dup, 1) := dk_89 (dk_at dksX2_told_1 6 rfl rfl)
theorem dX2_told_29 : decode cX2_told 29 = .ok (.invokespecial 282, 3) := dk_183 1 26 (dk_at dksX2_told_1 7 rfl rfl)
theorem dX2_told_32 : decode cX2_told 32 = .ok (.areturn, 1) := dk_176 (dk_at dksX2_told_1 10 rfl rfl)
theorem dX2_told_33 : decode cX2_told 33 = .ok (.aload_n 0, 1) := dk_42 (dk_at dksX2_told_1 11 rfl rfl)
theorem dX2_told_34 : decode cX2_told 34 = .ok (.invokevirtual 259, 3) := dk_182 1 3 (dk_at dksX2_told_1 12 rfl rfl)
theorem dX2_told_37 : decode cX2_told 37 = .ok (.istore_n 2, 1) := dk_61 (dk_at dksX2_told_1 15 rfl rfl)
theorem dX2_told_38 : decode cX2_told 38 = .ok (.aload_n 0, 1) := dk_42 (dk_at dksX2_told_1 16 rfl rfl)
theorem dX2_told_39 : decode cX2_told 39 = .ok (.invokevirtual 25, 3) := dk_182 0 25 (dk_at dksX2_told_1 17 rfl rfl)
theorem dX2_told_42 : decode cX2_told 42 = .ok (.iload_n 1, 1) := dk_27 (dk_at dksX2_told_1 20 rfl rfl)
theorem dX2_told_43 : decode cX2_told 43 = .ok (.ifCond .ne 12, 3) := dk_154 0 12 (dk_at dksX2_told_1 21 rfl rfl)
theorem dX2_told_46 : decode cX2_told 46 = .ok (.new 283, 3) := dk_187 1 27 (dk_at dksX2_told_2 0 rfl rfl)
theorem dX2_told_49 : decode cX2_told 49 = .ok (.dup, 1) := dk_89 (dk_at dksX2_told_2 3 rfl rfl)
theorem dX2_told_50 : decode cX2_told 50 = .ok (.iload_n 2, 1) := dk_28 (dk_at dksX2_told_2 4 rfl rfl)
theorem dX2_told_51 : decode cX2_told 51 = .ok (.invokespecial 285, 3) := dk_183 1 29 (dk_at dksX2_told_2 5 rfl rfl)
theorem dX2_told_54 : decode cX2_told 54 = .ok (.areturn, 1) := dk_176 (dk_at dksX2_told_2 8 rfl rfl)
theorem dX2_told_55 : decode cX2_told 55 = .ok (.iload_n 1, 1) := dk_27 (dk_at dksX2_told_2 9 rfl rfl)
theorem dX2_told_56 : decode cX2_told 56 = .ok (.iconst 1, 1) := dk_4 (dk_at dksX2_told_2 10 rfl rfl)
theorem dX2_told_57 : decode cX2_told 57 = .ok (.if_icmp .ne 19, 3) := dk_160 0 19 (dk_at dksX2_told_2 11 rfl rfl)
theorem dX2_told_60 : decode cX2_told 60 = .ok (.new 286, 3) := dk_187 1 30 (dk_at dksX2_told_2 14 rfl rfl)
theorem dX2_told_63 : decode cX2_told 63 = .ok (.dup, 1) := dk_89 (dk_at dksX2_told_2 17 rfl rfl)
theorem dX2_told_64 : decode cX2_told 64 = .ok (.iload_n 2, 1) := dk_28 (dk_at dksX2_told_2 18 rfl rfl)
theorem dX2_told_65 : decode cX2_told 65 = .ok (.aload_n 0, 1) := dk_42 (dk_at dksX2_told_2 19 rfl rfl)
theorem dX2_told_66 : decode cX2_told 66 = .ok (.iconst 1, 1) := dk_4 (dk_at dksX2_told_2 20 rfl rfl)
theorem dX2_told_67 : decode cX2_told 67 = .ok (.bipush 99, 2) := dk_16 99 (dk_at dksX2_told_2 21 rfl rfl)
theorem dX2_told_69 : decode cX2_told 69 = .ok (.invokevirtual 121, 3) := dk_182 0 121 (dk_at dksX2_told_3 0 rfl rfl)
theorem dX2_told_72 : decode cX2_told 72 = .ok (.invokespecial 288, 3) := dk_183 1 32 (dk_at dksX2_told_3 3 rfl rfl)
theorem dX2_told_75 : decode cX2_told 75 = .ok (.areturn, 1) := dk_176 (dk_at dksX2_told_3 6 rfl rfl)
theorem dX2_told_76 : decode cX2_told 76 = .ok (.iload_n 1, 1) := dk_27 (dk_at dksX2_told_3 7 rfl rfl)
theorem dX2_told_77 : decode cX2_told 77 = .ok (.iconst 2, 1) := dk_5 (dk_at dksX2_told_3 8 rfl rfl)
theorem dX2_told_78 : decode cX2_told 78 = .ok (.if_icmp .ne 12, 3) := dk_160 0 12 (dk_at dksX2_told_3 9 rfl rfl)
theorem dX2_told_81 : decode cX2_told 81 = .ok (.new 289, 3) := dk_187 1 33 (dk_at dksX2_told_3 12 rfl rfl)
theorem dX2_told_84 : decode cX2_told 84 = .ok (.dup, 1) := dk_89 (dk_at dksX2_told_3 15 rfl rfl)
theorem dX2_told_85 : decode cX2_told 85 = .ok (.iload_n 2, 1) := dk_28 (dk_at dksX2_told_3 16 rfl rfl)
theorem dX2_told_86 : decode cX2_told 86 = .ok (.invokespecial 291, 3) := dk_183 1 35 (dk_at dksX2_told_3 17 rfl rfl)
theorem dX2_told_89 : decode cX2_told 89 = .ok (.areturn, 1) := dk_176 (dk_at dksX2_told_3 20 rfl rfl)
theorem dX2_told_90 : decode cX2_told 90 = .ok (.aload_n 0, 1) := dk_42 (dk_at dksX2_told_3 21 rfl rfl)
theorem dX2_told_91 : decode cX2_told 91 = .ok (.invokevirtual 252, 3) := dk_182 0 252 (dk_at dksX2_told_4 0 rfl rfl)
theorem dX2_told_94 : decode cX2_told 94 = .ok (.istore_n 3, 1) := dk_62 (dk_at dksX2_told_4 3 rfl rfl)
theorem dX2_told_95 : decode cX2_told 95 = .ok (.aload_n 0, 1) := dk_42 (dk_at dksX2_told_4 4 rfl rfl)
theorem dX2_told_96 : decode cX2_told 96 = .ok (.invokevirtual 25, 3) := dk_182 0 25 (dk_at dksX2_told_4 5 rfl rfl)
theorem dX2_told_99 : decode cX2_told 99 = .ok (.new 292, 3) := dk_187 1 36 (dk_at dksX2_told_4 8 rfl rfl)
theorem dX2_told_102 : decode cX2_told 102 = .ok (.dup, 1) := dk_89 (dk_at dksX2_told_4 11 rfl rfl)
theorem dX2_told_103 : decode cX2_told 103 = .ok (.iload_n 2, 1) := dk_28 (dk_at dksX2_told_4 12 rfl rfl)
theorem dX2_told_104 : decode cX2_told 104 = .ok (.iload_n 3, 1) := dk_29 (dk_at dksX2_told_4 13 rfl rfl)
theorem dX2_told_105 : decode cX2_told 105 = .ok (.invokespecial 294, 3) := dk_183 1 38 (dk_at dksX2_told_4 14 rfl rfl)
theorem dX2_told_108 : decode cX2_told 108 = .ok (.areturn, 1) := dk_176 (dk_at dksX2_told_4 17 rfl rfl)
theorem q136 : (Jvm.Cond.initialized "PulseRent$Reader") ∈ lw_all := lw_g (lw_at lw_m1 2 rfl) rfl
theorem q189 : (Jvm.Cond.instantiable "PulseRent$Reader" (9 : Nat)) ∈ lw_all := lw_g (lw_at lw_m1 55 rfl) rfl
theorem q191 : (Jvm.Cond.instanceMethod ({ cls := "PulseRent$Reader", name := "<init>", desc := "()V" } : Jvm.MethodName)) ∈ lw_all := lw_g (lw_at lw_m1 57 rfl) rfl
theorem q192 : (Jvm.Cond.code ({ cls := "PulseRent$Reader", name := "<init>", desc := "()V" } : Jvm.MethodName) prog_17_method_1_code (1 : Nat) (Option.none : Option Jvm.ClassFile.FieldType)) ∈ lw_all := lw_g (lw_at lw_m1 58 rfl) rfl
theorem q193 : (Jvm.Cond.methodLink "PulseRent$Reader" (3 : Nat) ({ cls := "java/lang/Object", name := "<init>", desc := "()V" } : Jvm.MethodName)) ∈ lw_all := lw_g (lw_at lw_m1 59 rfl) rfl
theorem q194 : (Jvm.Cond.fieldLink "PulseRent$Reader" (9 : Nat) "PulseRent$Reader" "text" "[B") ∈ lw_all := lw_g (lw_at lw_m1 60 rfl) rfl
theorem q195 : (Jvm.Cond.fieldLink "PulseRent$Reader" (15 : Nat) "PulseRent$Reader" "size" "I") ∈ lw_all := lw_g (lw_at lw_m1 61 rfl) rfl
theorem q196 : (Jvm.Cond.fieldLink "PulseRent$Reader" (19 : Nat) "PulseRent$Reader" "to" "I") ∈ lw_all := lw_g (lw_at lw_m1 62 rfl) rfl
theorem q197 : (Jvm.Cond.fieldLink "PulseRent$Reader" (31 : Nat) "PulseRent$Reader" "kind" "I") ∈ lw_all := lw_g (lw_at lw_m1 63 rfl) rfl
theorem q198 : (Jvm.Cond.fieldLink "PulseRent$Reader" (28 : Nat) "PulseRent$Reader" "from" "I") ∈ lw_all := lw_g (lw_at lw_m1 64 rfl) rfl
theorem q199 : (Jvm.Cond.fieldLink "PulseRent$Reader" (45 : Nat) "PulseRent$Reader" "value" "I") ∈ lw_all := lw_g (lw_at lw_m1 65 rfl) rfl
theorem q200 : (Jvm.Cond.fieldLink "PulseRent$Reader" (22 : Nat) "PulseRent$Reader" "within" "I") ∈ lw_all := lw_g (lw_at lw_m1 66 rfl) rfl
theorem q201 : (Jvm.Cond.fieldLink "PulseRent$Reader" (101 : Nat) "PulseRent$Reader" "house" "LPulseRent$House;") ∈ lw_all := lw_g (lw_at lw_m1 67 rfl) rfl
theorem q202 : (Jvm.Cond.fieldLink "PulseRent$Reader" (124 : Nat) "PulseRent$Reader" "factWords" "Ljava/lang/String;") ∈ lw_all := lw_g (lw_at lw_m1 68 rfl) rfl
theorem q203 : (Jvm.Cond.lays "PulseRent$Reader" "PulseRent$Reader" "text" "[B") ∈ lw_all := lw_g (lw_at lw_m1 69 rfl) rfl
theorem q204 : (Jvm.Cond.soleField "PulseRent$Reader" "text") ∈ lw_all := lw_g (lw_at lw_m1 70 rfl) rfl
theorem q205 : (Jvm.Cond.lays "PulseRent$Reader" "PulseRent$Reader" "size" "I") ∈ lw_all := lw_g (lw_at lw_m1 71 rfl) rfl
theorem q206 : (Jvm.Cond.soleField "PulseRent$Reader" "size") ∈ lw_all := lw_g (lw_at lw_m1 72 rfl) rfl
theorem q207 : (Jvm.Cond.lays "PulseRent$Reader" "PulseRent$Reader" "to" "I") ∈ lw_all := lw_g (lw_at lw_m1 73 rfl) rfl
theorem q208 : (Jvm.Cond.soleField "PulseRent$Reader" "to") ∈ lw_all := lw_g (lw_at lw_m1 74 rfl) rfl
theorem q209 : (Jvm.Cond.lays "PulseRent$Reader" "PulseRent$Reader" "kind" "I") ∈ lw_all := lw_g (lw_at lw_m1 75 rfl) rfl
theorem q210 : (Jvm.Cond.soleField "PulseRent$Reader" "kind") ∈ lw_all := lw_g (lw_at lw_m1 76 rfl) rfl
theorem q211 : (Jvm.Cond.lays "PulseRent$Reader" "PulseRent$Reader" "from" "I") ∈ lw_all := lw_g (lw_at lw_m1 77 rfl) rfl
theorem q212 : (Jvm.Cond.soleField "PulseRent$Reader" "from") ∈ lw_all := lw_g (lw_at lw_m1 78 rfl) rfl
theorem q213 : (Jvm.Cond.lays "PulseRent$Reader" "PulseRent$Reader" "value" "I") ∈ lw_all := lw_g (lw_at lw_m1 79 rfl) rfl
theorem q214 : (Jvm.Cond.soleField "PulseRent$Reader" "value") ∈ lw_all := lw_g (lw_at lw_m1 80 rfl) rfl
theorem q215 : (Jvm.Cond.lays "PulseRent$Reader" "PulseRent$Reader" "within" "I") ∈ lw_all := lw_g (lw_at lw_m1 81 rfl) rfl
theorem q216 : (Jvm.Cond.soleField "PulseRent$Reader" "within") ∈ lw_all := lw_g (lw_at lw_m1 82 rfl) rfl
theorem q217 : (Jvm.Cond.lays "PulseRent$Reader" "PulseRent$Reader" "house" "LPulseRent$House;") ∈ lw_all := lw_g (lw_at lw_m1 83 rfl) rfl
theorem q218 : (Jvm.Cond.soleField "PulseRent$Reader" "house") ∈ lw_all := lw_g (lw_at lw_m1 84 rfl) rfl
theorem q219 : (Jvm.Cond.lays "PulseRent$Reader" "PulseRent$Reader" "factWords" "Ljava/lang/String;") ∈ lw_all := lw_g (lw_at lw_m1 85 rfl) rfl
theorem q220 : (Jvm.Cond.soleField "PulseRent$Reader" "factWords") ∈ lw_all := lw_g (lw_at lw_m1 86 rfl) rfl
theorem q221 : (Jvm.Cond.superclass "PulseRent$Reader" "java/lang/Object") ∈ lw_all := lw_g (lw_at lw_m1 87 rfl) rfl
theorem q259 : (Jvm.Cond.fieldLinkNest "PulseRent$Reader" (148 : Nat) "PulseRent$House" "rooms" "Ljava/util/ArrayList;" "PulseRent") ∈ lw_tbl := lw_at lw_m1 125 rfl
theorem q263 : (Jvm.Cond.fieldLinkNest "PulseRent$Reader" (156 : Nat) "PulseRent$House" "tenants" "Ljava/util/ArrayList;" "PulseRent") ∈ lw_tbl := lw_at lw_m1 129 rfl
theorem q265 : (Jvm.Cond.fieldLinkNest "PulseRent$Reader" (159 : Nat) "PulseRent$House" "errands" "Ljava/util/ArrayList;" "PulseRent") ∈ lw_tbl := lw_at lw_m1 131 rfl
theorem q268 : (Jvm.Cond.fieldLinkNest "PulseRent$Reader" (135 : Nat) "PulseRent$House" "brew" "I" "PulseRent") ∈ lw_tbl := lw_at lw_m1 134 rfl
theorem q271 : (Jvm.Cond.fieldLinkNest "PulseRent$Reader" (206 : Nat) "PulseRent$House" "lasts" "I" "PulseRent") ∈ lw_tbl := lw_at lw_m1 137 rfl
theorem q274 : (Jvm.Cond.fieldLinkNest "PulseRent$Reader" (138 : Nat) "PulseRent$House" "every" "I" "PulseRent") ∈ lw_tbl := lw_at lw_m1 140 rfl
theorem q275 : (Jvm.Cond.fieldLinkNest "PulseRent$Reader" (141 : Nat) "PulseRent$House" "due" "LPulseRent$Expression;" "PulseRent") ∈ lw_tbl := lw_at lw_m1 141 rfl
theorem q277 : (Jvm.Cond.fieldLinkNest "PulseRent$Reader" (145 : Nat) "PulseRent$House" "wish" "LPulseRent$Expression;" "PulseRent") ∈ lw_tbl := lw_at lw_m1 143 rfl
theorem q459 : (Jvm.Cond.instanceMethod ({ cls := "PulseRent$Reader", name := "begin", desc := "([BI)V" } : Jvm.MethodName)) ∈ lw_all := lw_g (lw_at lw_m2 85 rfl) rfl
theorem q460 : (Jvm.Cond.selects "PulseRent$Reader" ({ cls := "PulseRent$Reader", name := "begin", desc := "([BI)V" } : Jvm.MethodName) ({ cls := "PulseRent$Reader", name := "begin", desc := "([BI)V" } : Jvm.MethodName)) ∈ lw_all := lw_g (lw_at lw_m2 86 rfl) rfl
theorem q461 : (Jvm.Cond.code ({ cls := "PulseRent$Reader", name := "begin", desc := "([BI)V" } : Jvm.MethodName) prog_17_method_2_code (3 : Nat) (Option.none : Option Jvm.ClassFile.FieldType)) ∈ lw_all := lw_g (lw_at lw_m2 87 rfl) rfl
theorem q462 : (Jvm.Cond.methodLink "PulseRent$Reader" (25 : Nat) ({ cls := "PulseRent$Reader", name := "next", desc := "()V" } : Jvm.MethodName)) ∈ lw_all := lw_g (lw_at lw_m2 88 rfl) rfl
theorem q463 : (Jvm.Cond.privateMethod ({ cls := "PulseRent$Reader", name := "next", desc := "()V" } : Jvm.MethodName)) ∈ lw_tbl := lw_at lw_m2 89 rfl
theorem q464 : (Jvm.Cond.instanceMethod ({ cls := "PulseRent$Reader", name := "next", desc := "()V" } : Jvm.MethodName)) ∈ lw_all := lw_g (lw_at lw_m2 90 rfl) rfl
theorem q465 : (Jvm.Cond.code ({ cls := "PulseRent$Reader", name := "next", desc := "()V" } : Jvm.MethodName) prog_17_method_6_code (1 : Nat) (Option.none : Option Jvm.ClassFile.FieldType)) ∈ lw_all := lw_g (lw_at lw_m2 91 rfl) rfl
theorem q466 : (Jvm.Cond.methodLink "PulseRent$Reader" (34 : Nat) ({ cls := "PulseRent$Reader", name := "at", desc := "(I)I" } : Jvm.MethodName)) ∈ lw_all := lw_g (lw_at lw_m2 92 rfl) rfl
theorem q467 : (Jvm.Cond.privateMethod ({ cls := "PulseRent$Reader", name := "at", desc := "(I)I" } : Jvm.MethodName)) ∈ lw_tbl := lw_at lw_m2 93 rfl
theorem q468 : (Jvm.Cond.instanceMethod ({ cls := "PulseRent$Reader", name := "at", desc := "(I)I" } : Jvm.MethodName)) ∈ lw_all := lw_g (lw_at lw_m2 94 rfl) rfl
theorem q469 : (Jvm.Cond.code ({ cls := "PulseRent$Reader", name := "at", desc := "(I)I" } : Jvm.MethodName) prog_17_method_3_code (2 : Nat) (Option.some Jvm.ClassFile.FieldType.int)) ∈ lw_all := lw_g (lw_at lw_m2 95 rfl) rfl
theorem q470 : (Jvm.Cond.methodLink "PulseRent$Reader" (38 : Nat) ({ cls := "PulseRent$Reader", name := "isLetter", desc := "(I)Z" } : Jvm.MethodName)) ∈ lw_all := lw_g (lw_at lw_m2 96 rfl) rfl
theorem q471 : (Jvm.Cond.static ({ cls := "PulseRent$Reader", name := "isLetter", desc := "(I)Z" } : Jvm.MethodName)) ∈ lw_all := lw_g (lw_at lw_m2 97 rfl) rfl
theorem q472 : (Jvm.Cond.code ({ cls := "PulseRent$Reader", name := "isLetter", desc := "(I)Z" } : Jvm.MethodName) prog_17_method_4_code (1 : Nat) (Option.some Jvm.ClassFile.FieldType.boolean)) ∈ lw_all := lw_g (lw_at lw_m2 98 rfl) rfl
theorem q473 : (Jvm.Cond.methodLink "PulseRent$Reader" (42 : Nat) ({ cls := "PulseRent$Reader", name := "isDigit", desc := "(I)Z" } : Jvm.MethodName)) ∈ lw_all := lw_g (lw_at lw_m2 99 rfl) rfl
theorem q474 : (Jvm.Cond.static ({ cls := "PulseRent$Reader", name := "isDigit", desc := "(I)Z" } : Jvm.MethodName)) ∈ lw_all := lw_g (lw_at lw_m2 100 rfl) rfl
theorem q475 : (Jvm.Cond.code ({ cls := "PulseRent$Reader", name := "isDigit", desc := "(I)Z" } : Jvm.MethodName) prog_17_method_5_code (1 : Nat) (Option.some Jvm.ClassFile.FieldType.boolean)) ∈ lw_all := lw_g (lw_at lw_m2 101 rfl) rfl
theorem q476 : (Jvm.Cond.stringRef "PulseRent$Reader" (48 : Nat) "()<=+-*;") ∈ lw_tbl := lw_at lw_m2 102 rfl
theorem q477 : (Jvm.Cond.methodLink "PulseRent$Reader" (50 : Nat) ({ cls := "java/lang/String", name := "indexOf", desc := "(I)I" } : Jvm.MethodName)) ∈ lw_all := lw_g (lw_at lw_m2 103 rfl) rfl
theorem q564 : (Jvm.Cond.instanceMethod ({ cls := "PulseRent$Reader", name := "house", desc := "()LPulseRent$House;" } : Jvm.MethodName)) ∈ lw_all := lw_g (lw_at lw_m2 190 rfl) rfl
theorem q565 : (Jvm.Cond.selects "PulseRent$Reader" ({ cls := "PulseRent$Reader", name := "house", desc := "()LPulseRent$House;" } : Jvm.MethodName) ({ cls := "PulseRent$Reader", name := "house", desc := "()LPulseRent$House;" } : Jvm.MethodName)) ∈ lw_all := lw_g (lw_at lw_m2 191 rfl) rfl
theorem q566 : (Jvm.Cond.code ({ cls := "PulseRent$Reader", name := "house", desc := "()LPulseRent$House;" } : Jvm.MethodName) prog_17_method_20_code (2 : Nat) (Option.some (Jvm.ClassFile.FieldType.object "PulseRent$House"))) ∈ lw_all := lw_g (lw_at lw_m2 192 rfl) rfl
theorem q567 : (Jvm.Cond.classLink "PulseRent$Reader" (106 : Nat) "PulseRent$House") ∈ lw_all := lw_g (lw_at lw_m2 193 rfl) rfl
theorem q568 : (Jvm.Cond.methodLinkNest "PulseRent$Reader" (132 : Nat) ({ cls := "PulseRent$House", name := "<init>", desc := "()V" } : Jvm.MethodName) "PulseRent") ∈ lw_tbl := lw_at lw_m2 194 rfl
theorem q569 : (Jvm.Cond.stringRef "PulseRent$Reader" (133 : Nat) "room tenant loves errand coffee every due wish ") ∈ lw_tbl := lw_at lw_m2 195 rfl
theorem q570 : (Jvm.Cond.methodLink "PulseRent$Reader" (71 : Nat) ({ cls := "PulseRent$Reader", name := "which", desc := "(Ljava/lang/String;)I" } : Jvm.MethodName)) ∈ lw_all := lw_g (lw_at lw_m2 196 rfl) rfl
theorem q571 : (Jvm.Cond.privateMethod ({ cls := "PulseRent$Reader", name := "which", desc := "(Ljava/lang/String;)I" } : Jvm.MethodName)) ∈ lw_tbl := lw_at lw_m2 197 rfl
theorem q572 : (Jvm.Cond.instanceMethod ({ cls := "PulseRent$Reader", name := "which", desc := "(Ljava/lang/String;)I" } : Jvm.MethodName)) ∈ lw_all := lw_g (lw_at lw_m2 198 rfl) rfl
theorem q573 : (Jvm.Cond.code ({ cls := "PulseRent$Reader", name := "which", desc := "(Ljava/lang/String;)I" } : Jvm.MethodName) prog_17_method_8_code (7 : Nat) (Option.some Jvm.ClassFile.FieldType.int)) ∈ lw_all := lw_g (lw_at lw_m2 199 rfl) rfl
theorem q574 : (Jvm.Cond.methodLink "PulseRent$Reader" (60 : Nat) ({ cls := "java/lang/String", name := "length", desc := "()I" } : Jvm.MethodName)) ∈ lw_all := lw_g (lw_at lw_m2 200 rfl) rfl
theorem q575 : (Jvm.Cond.methodLink "PulseRent$Reader" (64 : Nat) ({ cls := "java/lang/String", name := "indexOf", desc := "(II)I" } : Jvm.MethodName)) ∈ lw_all := lw_g (lw_at lw_m2 201 rfl) rfl
theorem q576 : (Jvm.Cond.methodLink "PulseRent$Reader" (67 : Nat) ({ cls := "java/lang/String", name := "charAt", desc := "(I)C" } : Jvm.MethodName)) ∈ lw_all := lw_g (lw_at lw_m2 202 rfl) rfl
theorem q594 : (Jvm.Cond.methodLink "PulseRent$Reader" (75 : Nat) ({ cls := "PulseRent$Reader", name := "wrong", desc := "(I)LPulseRent$Wrong;" } : Jvm.MethodName)) ∈ lw_all := lw_g (lw_at lw_m2 220 rfl) rfl
theorem q595 : (Jvm.Cond.privateMethod ({ cls := "PulseRent$Reader", name := "wrong", desc := "(I)LPulseRent$Wrong;" } : Jvm.MethodName)) ∈ lw_tbl := lw_at lw_m2 221 rfl
theorem q596 : (Jvm.Cond.instanceMethod ({ cls := "PulseRent$Reader", name := "wrong", desc := "(I)LPulseRent$Wrong;" } : Jvm.MethodName)) ∈ lw_all := lw_g (lw_at lw_m2 222 rfl) rfl
theorem q597 : (Jvm.Cond.code ({ cls := "PulseRent$Reader", name := "wrong", desc := "(I)LPulseRent$Wrong;" } : Jvm.MethodName) prog_17_method_7_code (2 : Nat) (Option.some (Jvm.ClassFile.FieldType.object "PulseRent$Wrong"))) ∈ lw_all := lw_g (lw_at lw_m2 223 rfl) rfl
theorem q598 : (Jvm.Cond.classLink "PulseRent$Reader" (55 : Nat) "PulseRent$Wrong") ∈ lw_all := lw_g (lw_at lw_m2 224 rfl) rfl
theorem q638 : (Jvm.Cond.methodLink "PulseRent$Reader" (57 : Nat) ({ cls := "PulseRent$Wrong", name := "<init>", desc := "(II)V" } : Jvm.MethodName)) ∈ lw_all := lw_g (lw_at lw_m3 24 rfl) rfl
theorem q667 : (Jvm.Cond.methodLink "PulseRent$Reader" (152 : Nat) ({ cls := "java/util/ArrayList", name := "size", desc := "()I" } : Jvm.MethodName)) ∈ lw_all := lw_g (lw_at lw_m3 53 rfl) rfl
theorem q668 : (Jvm.Cond.methodLink "PulseRent$Reader" (162 : Nat) ({ cls := "PulseRent$Reader", name := "line", desc := "(I)V" } : Jvm.MethodName)) ∈ lw_all := lw_g (lw_at lw_m3 54 rfl) rfl
theorem q669 : (Jvm.Cond.privateMethod ({ cls := "PulseRent$Reader", name := "line", desc := "(I)V" } : Jvm.MethodName)) ∈ lw_tbl := lw_at lw_m3 55 rfl
theorem q670 : (Jvm.Cond.instanceMethod ({ cls := "PulseRent$Reader", name := "line", desc := "(I)V" } : Jvm.MethodName)) ∈ lw_all := lw_g (lw_at lw_m3 56 rfl) rfl
theorem q671 : (Jvm.Cond.code ({ cls := "PulseRent$Reader", name := "line", desc := "(I)V" } : Jvm.MethodName) prog_17_method_21_code (5 : Nat) (Option.none : Option Jvm.ClassFile.FieldType)) ∈ lw_all := lw_g (lw_at lw_m3 57 rfl) rfl
theorem q672 : (Jvm.Cond.methodLink "PulseRent$Reader" (168 : Nat) ({ cls := "PulseRent$Reader", name := "fresh", desc := "()Ljava/lang/String;" } : Jvm.MethodName)) ∈ lw_all := lw_g (lw_at lw_m3 58 rfl) rfl
theorem q673 : (Jvm.Cond.privateMethod ({ cls := "PulseRent$Reader", name := "fresh", desc := "()Ljava/lang/String;" } : Jvm.MethodName)) ∈ lw_tbl := lw_at lw_m3 59 rfl
theorem q674 : (Jvm.Cond.instanceMethod ({ cls := "PulseRent$Reader", name := "fresh", desc := "()Ljava/lang/String;" } : Jvm.MethodName)) ∈ lw_all := lw_g (lw_at lw_m3 60 rfl) rfl
theorem q675 : (Jvm.Cond.code ({ cls := "PulseRent$Reader", name := "fresh", desc := "()Ljava/lang/String;" } : Jvm.MethodName) prog_17_method_14_code (2 : Nat) (Option.some (Jvm.ClassFile.FieldType.object "java/lang/String"))) ∈ lw_all := lw_g (lw_at lw_m3 61 rfl) rfl
theorem q676 : (Jvm.Cond.methodLink "PulseRent$Reader" (98 : Nat) ({ cls := "PulseRent$Reader", name := "name", desc := "()Ljava/lang/String;" } : Jvm.MethodName)) ∈ lw_all := lw_g (lw_at lw_m3 62 rfl) rfl
theorem q677 : (Jvm.Cond.privateMethod ({ cls := "PulseRent$Reader", name := "name", desc := "()Ljava/lang/String;" } : Jvm.MethodName)) ∈ lw_tbl := lw_at lw_m3 63 rfl
theorem q678 : (Jvm.Cond.instanceMethod ({ cls := "PulseRent$Reader", name := "name", desc := "()Ljava/lang/String;" } : Jvm.MethodName)) ∈ lw_all := lw_g (lw_at lw_m3 64 rfl) rfl
theorem q679 : (Jvm.Cond.code ({ cls := "PulseRent$Reader", name := "name", desc := "()Ljava/lang/String;" } : Jvm.MethodName) prog_17_method_13_code (3 : Nat) (Option.some (Jvm.ClassFile.FieldType.object "java/lang/String"))) ∈ lw_all := lw_g (lw_at lw_m3 65 rfl) rfl
theorem q680 : (Jvm.Cond.stringRef "PulseRent$Reader" (83 : Nat) "room stairs noise base tenant rest calm coins in loves errand opens takes adds coffee lasts every due wish climb fright drink minutes noon move plain monk runner sick not and or ") ∈ lw_tbl := lw_at lw_m3 66 rfl
theorem q681 : (Jvm.Cond.classLink "PulseRent$Reader" (85 : Nat) "java/lang/StringBuilder") ∈ lw_all := lw_g (lw_at lw_m3 67 rfl) rfl
theorem q683 : (Jvm.Cond.methodLink "PulseRent$Reader" (87 : Nat) ({ cls := "java/lang/StringBuilder", name := "<init>", desc := "(I)V" } : Jvm.MethodName)) ∈ lw_all := lw_g (lw_at lw_m3 69 rfl) rfl
theorem q711 : (Jvm.Cond.methodLink "PulseRent$Reader" (90 : Nat) ({ cls := "java/lang/StringBuilder", name := "append", desc := "(C)Ljava/lang/StringBuilder;" } : Jvm.MethodName)) ∈ lw_all := lw_g (lw_at lw_m3 97 rfl) rfl
theorem q782 : (Jvm.Cond.methodLink "PulseRent$Reader" (94 : Nat) ({ cls := "java/lang/StringBuilder", name := "toString", desc := "()Ljava/lang/String;" } : Jvm.MethodName)) ∈ lw_all := lw_g (lw_at lw_m3 168 rfl) rfl
theorem q839 : (Jvm.Cond.methodLink "PulseRent$Reader" (105 : Nat) ({ cls := "PulseRent$House", name := "room", desc := "(Ljava/lang/String;)I" } : Jvm.MethodName)) ∈ lw_all := lw_g (lw_at lw_m3 225 rfl) rfl
theorem q854 : (Jvm.Cond.methodLink "PulseRent$Reader" (110 : Nat) ({ cls := "PulseRent$House", name := "tenant", desc := "(Ljava/lang/String;)I" } : Jvm.MethodName)) ∈ lw_all := lw_g (lw_at lw_m4 0 rfl) rfl
theorem q859 : (Jvm.Cond.methodLink "PulseRent$Reader" (113 : Nat) ({ cls := "PulseRent$House", name := "hasErrand", desc := "(Ljava/lang/String;)Z" } : Jvm.MethodName)) ∈ lw_all := lw_g (lw_at lw_m4 5 rfl) rfl
theorem q864 : (Jvm.Cond.stringRef "PulseRent$Reader" (171 : Nat) "stairs ") ∈ lw_tbl := lw_at lw_m4 10 rfl
theorem q865 : (Jvm.Cond.methodLink "PulseRent$Reader" (173 : Nat) ({ cls := "PulseRent$Reader", name := "number", desc := "(Ljava/lang/String;II)I" } : Jvm.MethodName)) ∈ lw_all := lw_g (lw_at lw_m4 11 rfl) rfl
theorem q866 : (Jvm.Cond.privateMethod ({ cls := "PulseRent$Reader", name := "number", desc := "(Ljava/lang/String;II)I" } : Jvm.MethodName)) ∈ lw_tbl := lw_at lw_m4 12 rfl
theorem q867 : (Jvm.Cond.instanceMethod ({ cls := "PulseRent$Reader", name := "number", desc := "(Ljava/lang/String;II)I" } : Jvm.MethodName)) ∈ lw_all := lw_g (lw_at lw_m4 13 rfl) rfl
theorem q868 : (Jvm.Cond.code ({ cls := "PulseRent$Reader", name := "number", desc := "(Ljava/lang/String;II)I" } : Jvm.MethodName) prog_17_method_15_code (4 : Nat) (Option.some Jvm.ClassFile.FieldType.int)) ∈ lw_all := lw_g (lw_at lw_m4 14 rfl) rfl
theorem q869 : (Jvm.Cond.methodLink "PulseRent$Reader" (117 : Nat) ({ cls := "PulseRent$Reader", name := "need", desc := "(Ljava/lang/String;)V" } : Jvm.MethodName)) ∈ lw_all := lw_g (lw_at lw_m4 15 rfl) rfl
theorem q870 : (Jvm.Cond.privateMethod ({ cls := "PulseRent$Reader", name := "need", desc := "(Ljava/lang/String;)V" } : Jvm.MethodName)) ∈ lw_tbl := lw_at lw_m4 16 rfl
theorem q871 : (Jvm.Cond.instanceMethod ({ cls := "PulseRent$Reader", name := "need", desc := "(Ljava/lang/String;)V" } : Jvm.MethodName)) ∈ lw_all := lw_g (lw_at lw_m4 17 rfl) rfl
theorem q872 : (Jvm.Cond.code ({ cls := "PulseRent$Reader", name := "need", desc := "(Ljava/lang/String;)V" } : Jvm.MethodName) prog_17_method_9_code (2 : Nat) (Option.none : Option Jvm.ClassFile.FieldType)) ∈ lw_all := lw_g (lw_at lw_m4 18 rfl) rfl
theorem q873 : (Jvm.Cond.methodLink "PulseRent$Reader" (121 : Nat) ({ cls := "PulseRent$Reader", name := "number", desc := "(II)I" } : Jvm.MethodName)) ∈ lw_all := lw_g (lw_at lw_m4 19 rfl) rfl
theorem q874 : (Jvm.Cond.privateMethod ({ cls := "PulseRent$Reader", name := "number", desc := "(II)I" } : Jvm.MethodName)) ∈ lw_tbl := lw_at lw_m4 20 rfl
theorem q875 : (Jvm.Cond.instanceMethod ({ cls := "PulseRent$Reader", name := "number", desc := "(II)I" } : Jvm.MethodName)) ∈ lw_all := lw_g (lw_at lw_m4 21 rfl) rfl
theorem q876 : (Jvm.Cond.code ({ cls := "PulseRent$Reader", name := "number", desc := "(II)I" } : Jvm.MethodName) prog_17_method_12_code (4 : Nat) (Option.some Jvm.ClassFile.FieldType.int)) ∈ lw_all := lw_g (lw_at lw_m4 22 rfl) rfl
theorem q877 : (Jvm.Cond.stringRef "PulseRent$Reader" (176 : Nat) "noise ") ∈ lw_tbl := lw_at lw_m4 23 rfl
theorem q878 : (Jvm.Cond.classLink "PulseRent$Reader" (178 : Nat) "PulseRent$Room") ∈ lw_all := lw_g (lw_at lw_m4 24 rfl) rfl
theorem q880 : (Jvm.Cond.stringRef "PulseRent$Reader" (180 : Nat) "base ") ∈ lw_tbl := lw_at lw_m4 26 rfl
theorem q881 : (Jvm.Cond.methodLink "PulseRent$Reader" (182 : Nat) ({ cls := "PulseRent$Room", name := "<init>", desc := "(Ljava/lang/String;III)V" } : Jvm.MethodName)) ∈ lw_all := lw_g (lw_at lw_m4 27 rfl) rfl
theorem q907 : (Jvm.Cond.methodLink "PulseRent$Reader" (185 : Nat) ({ cls := "java/util/ArrayList", name := "add", desc := "(Ljava/lang/Object;)Z" } : Jvm.MethodName)) ∈ lw_all := lw_g (lw_at lw_m4 53 rfl) rfl
theorem q946 : (Jvm.Cond.selects "PulseRent$Reader" ({ cls := "java/lang/Object", name := "getClass", desc := "()Ljava/lang/Class;" } : Jvm.MethodName) ({ cls := "java/lang/Object", name := "getClass", desc := "()Ljava/lang/Class;" } : Jvm.MethodName)) ∈ lw_all := lw_g (lw_at lw_m4 92 rfl) rfl
theorem q966 : (Jvm.Cond.methodLink "PulseRent$Reader" (189 : Nat) ({ cls := "PulseRent$Reader", name := "comes", desc := "()V" } : Jvm.MethodName)) ∈ lw_all := lw_g (lw_at lw_m4 112 rfl) rfl
theorem q967 : (Jvm.Cond.privateMethod ({ cls := "PulseRent$Reader", name := "comes", desc := "()V" } : Jvm.MethodName)) ∈ lw_tbl := lw_at lw_m4 113 rfl
theorem q968 : (Jvm.Cond.instanceMethod ({ cls := "PulseRent$Reader", name := "comes", desc := "()V" } : Jvm.MethodName)) ∈ lw_all := lw_g (lw_at lw_m4 114 rfl) rfl
theorem q969 : (Jvm.Cond.code ({ cls := "PulseRent$Reader", name := "comes", desc := "()V" } : Jvm.MethodName) prog_17_method_22_code (4 : Nat) (Option.none : Option Jvm.ClassFile.FieldType)) ∈ lw_all := lw_g (lw_at lw_m4 115 rfl) rfl
theorem q970 : (Jvm.Cond.stringRef "PulseRent$Reader" (217 : Nat) "plain monk runner sick ") ∈ lw_tbl := lw_at lw_m4 116 rfl
theorem q971 : (Jvm.Cond.methodLink "PulseRent$Reader" (219 : Nat) ({ cls := "PulseRent$Reader", name := "one", desc := "(Ljava/lang/String;)I" } : Jvm.MethodName)) ∈ lw_all := lw_g (lw_at lw_m4 117 rfl) rfl
theorem q972 : (Jvm.Cond.privateMethod ({ cls := "PulseRent$Reader", name := "one", desc := "(Ljava/lang/String;)I" } : Jvm.MethodName)) ∈ lw_tbl := lw_at lw_m4 118 rfl
theorem q973 : (Jvm.Cond.instanceMethod ({ cls := "PulseRent$Reader", name := "one", desc := "(Ljava/lang/String;)I" } : Jvm.MethodName)) ∈ lw_all := lw_g (lw_at lw_m4 119 rfl) rfl
theorem q974 : (Jvm.Cond.code ({ cls := "PulseRent$Reader", name := "one", desc := "(Ljava/lang/String;)I" } : Jvm.MethodName) prog_17_method_16_code (3 : Nat) (Option.some Jvm.ClassFile.FieldType.int)) ∈ lw_all := lw_g (lw_at lw_m4 120 rfl) rfl
theorem q975 : (Jvm.Cond.classLink "PulseRent$Reader" (222 : Nat) "PulseRent$Tenant") ∈ lw_all := lw_g (lw_at lw_m4 121 rfl) rfl
theorem q977 : (Jvm.Cond.methodLink "PulseRent$Reader" (224 : Nat) ({ cls := "PulseRent$Tenant", name := "<init>", desc := "(Ljava/lang/String;)V" } : Jvm.MethodName)) ∈ lw_all := lw_g (lw_at lw_m4 123 rfl) rfl
theorem q986 : (Jvm.Cond.fieldLink "PulseRent$Reader" (237 : Nat) "PulseRent$Tenant" "told" "I") ∈ lw_all := lw_g (lw_at lw_m4 132 rfl) rfl
theorem q988 : (Jvm.Cond.fieldLink "PulseRent$Reader" (242 : Nat) "PulseRent$Tenant" "calm" "I") ∈ lw_all := lw_g (lw_at lw_m4 134 rfl) rfl
theorem q991 : (Jvm.Cond.fieldLink "PulseRent$Reader" (247 : Nat) "PulseRent$Tenant" "coins" "I") ∈ lw_all := lw_g (lw_at lw_m4 137 rfl) rfl
theorem q995 : (Jvm.Cond.fieldLink "PulseRent$Reader" (254 : Nat) "PulseRent$Tenant" "room" "I") ∈ lw_all := lw_g (lw_at lw_m4 141 rfl) rfl
theorem q997 : (Jvm.Cond.fieldLink "PulseRent$Reader" (265 : Nat) "PulseRent$Tenant" "loves" "I") ∈ lw_all := lw_g (lw_at lw_m4 143 rfl) rfl
theorem q1011 : (Jvm.Cond.classLink "PulseRent$Reader" (226 : Nat) "PulseRent$Monk") ∈ lw_all := lw_g (lw_at lw_m4 157 rfl) rfl
theorem q1013 : (Jvm.Cond.methodLink "PulseRent$Reader" (228 : Nat) ({ cls := "PulseRent$Monk", name := "<init>", desc := "(Ljava/lang/String;)V" } : Jvm.MethodName)) ∈ lw_all := lw_g (lw_at lw_m4 159 rfl) rfl
theorem q1024 : (Jvm.Cond.classLink "PulseRent$Reader" (229 : Nat) "PulseRent$Runner") ∈ lw_all := lw_g (lw_at lw_m4 170 rfl) rfl
theorem q1026 : (Jvm.Cond.methodLink "PulseRent$Reader" (231 : Nat) ({ cls := "PulseRent$Runner", name := "<init>", desc := "(Ljava/lang/String;)V" } : Jvm.MethodName)) ∈ lw_all := lw_g (lw_at lw_m4 172 rfl) rfl
theorem q1037 : (Jvm.Cond.classLink "PulseRent$Reader" (232 : Nat) "PulseRent$Sick") ∈ lw_all := lw_g (lw_at lw_m4 183 rfl) rfl
theorem q1039 : (Jvm.Cond.methodLink "PulseRent$Reader" (234 : Nat) ({ cls := "PulseRent$Sick", name := "<init>", desc := "(Ljava/lang/String;)V" } : Jvm.MethodName)) ∈ lw_all := lw_g (lw_at lw_m4 185 rfl) rfl
theorem q1050 : (Jvm.Cond.stringRef "PulseRent$Reader" (235 : Nat) "rest ") ∈ lw_tbl := lw_at lw_m4 196 rfl
theorem q1051 : (Jvm.Cond.stringRef "PulseRent$Reader" (240 : Nat) "calm ") ∈ lw_tbl := lw_at lw_m4 197 rfl
theorem q1052 : (Jvm.Cond.stringRef "PulseRent$Reader" (245 : Nat) "coins ") ∈ lw_tbl := lw_at lw_m4 198 rfl
theorem q1053 : (Jvm.Cond.stringRef "PulseRent$Reader" (250 : Nat) "in ") ∈ lw_tbl := lw_at lw_m4 199 rfl
theorem q1054 : (Jvm.Cond.methodLink "PulseRent$Reader" (252 : Nat) ({ cls := "PulseRent$Reader", name := "room", desc := "()I" } : Jvm.MethodName)) ∈ lw_all := lw_g (lw_at lw_m4 200 rfl) rfl
theorem q1055 : (Jvm.Cond.privateMethod ({ cls := "PulseRent$Reader", name := "room", desc := "()I" } : Jvm.MethodName)) ∈ lw_tbl := lw_at lw_m4 201 rfl
theorem q1056 : (Jvm.Cond.instanceMethod ({ cls := "PulseRent$Reader", name := "room", desc := "()I" } : Jvm.MethodName)) ∈ lw_all := lw_g (lw_at lw_m4 202 rfl) rfl
theorem q1057 : (Jvm.Cond.code ({ cls := "PulseRent$Reader", name := "room", desc := "()I" } : Jvm.MethodName) prog_17_method_19_code (2 : Nat) (Option.some Jvm.ClassFile.FieldType.int)) ∈ lw_all := lw_g (lw_at lw_m4 203 rfl) rfl
theorem q1058 : (Jvm.Cond.methodLink "PulseRent$Reader" (256 : Nat) ({ cls := "PulseRent$House", name := "isLet", desc := "(I)Z" } : Jvm.MethodName)) ∈ lw_all := lw_g (lw_at lw_m4 204 rfl) rfl
theorem q1062 : (Jvm.Cond.methodLink "PulseRent$Reader" (192 : Nat) ({ cls := "PulseRent$Reader", name := "loves", desc := "()V" } : Jvm.MethodName)) ∈ lw_all := lw_g (lw_at lw_m4 208 rfl) rfl
theorem q1063 : (Jvm.Cond.privateMethod ({ cls := "PulseRent$Reader", name := "loves", desc := "()V" } : Jvm.MethodName)) ∈ lw_tbl := lw_at lw_m4 209 rfl
theorem q1064 : (Jvm.Cond.instanceMethod ({ cls := "PulseRent$Reader", name := "loves", desc := "()V" } : Jvm.MethodName)) ∈ lw_all := lw_g (lw_at lw_m4 210 rfl) rfl
theorem q1065 : (Jvm.Cond.code ({ cls := "PulseRent$Reader", name := "loves", desc := "()V" } : Jvm.MethodName) prog_17_method_23_code (3 : Nat) (Option.none : Option Jvm.ClassFile.FieldType)) ∈ lw_all := lw_g (lw_at lw_m4 211 rfl) rfl
theorem q1066 : (Jvm.Cond.methodLink "PulseRent$Reader" (259 : Nat) ({ cls := "PulseRent$Reader", name := "tenant", desc := "()I" } : Jvm.MethodName)) ∈ lw_all := lw_g (lw_at lw_m4 212 rfl) rfl
theorem q1067 : (Jvm.Cond.privateMethod ({ cls := "PulseRent$Reader", name := "tenant", desc := "()I" } : Jvm.MethodName)) ∈ lw_tbl := lw_at lw_m4 213 rfl
theorem q1068 : (Jvm.Cond.instanceMethod ({ cls := "PulseRent$Reader", name := "tenant", desc := "()I" } : Jvm.MethodName)) ∈ lw_all := lw_g (lw_at lw_m4 214 rfl) rfl
theorem q1069 : (Jvm.Cond.code ({ cls := "PulseRent$Reader", name := "tenant", desc := "()I" } : Jvm.MethodName) prog_17_method_18_code (2 : Nat) (Option.some Jvm.ClassFile.FieldType.int)) ∈ lw_all := lw_g (lw_at lw_m4 215 rfl) rfl
theorem q1070 : (Jvm.Cond.methodLink "PulseRent$Reader" (261 : Nat) ({ cls := "java/util/ArrayList", name := "get", desc := "(I)Ljava/lang/Object;" } : Jvm.MethodName)) ∈ lw_all := lw_g (lw_at lw_m4 216 rfl) rfl
theorem q1071 : (Jvm.Cond.methodLinkNest "PulseRent$Reader" (267 : Nat) ({ cls := "PulseRent", name := "isIn", desc := "(II)Z" } : Jvm.MethodName) "PulseRent") ∈ lw_tbl := lw_at lw_m4 217 rfl
theorem q1074 : (Jvm.Cond.stringRef "PulseRent$Reader" (195 : Nat) "opens ") ∈ lw_tbl := lw_at lw_m4 220 rfl
theorem q1075 : (Jvm.Cond.stringRef "PulseRent$Reader" (197 : Nat) "takes ") ∈ lw_tbl := lw_at lw_m4 221 rfl
theorem q1076 : (Jvm.Cond.classLink "PulseRent$Reader" (199 : Nat) "PulseRent$Errand") ∈ lw_all := lw_g (lw_at lw_m4 222 rfl) rfl
theorem q1078 : (Jvm.Cond.stringRef "PulseRent$Reader" (201 : Nat) "adds ") ∈ lw_tbl := lw_at lw_m4 224 rfl
theorem q1079 : (Jvm.Cond.methodLink "PulseRent$Reader" (203 : Nat) ({ cls := "PulseRent$Errand", name := "<init>", desc := "(Ljava/lang/String;III)V" } : Jvm.MethodName)) ∈ lw_all := lw_g (lw_at lw_m4 225 rfl) rfl
theorem q1100 : (Jvm.Cond.stringRef "PulseRent$Reader" (204 : Nat) "lasts ") ∈ lw_tbl := lw_at lw_m5 6 rfl
theorem q1101 : (Jvm.Cond.stringRef "PulseRent$Reader" (209 : Nat) "beats floor kind ") ∈ lw_tbl := lw_at lw_m5 7 rfl
theorem q1102 : (Jvm.Cond.methodLink "PulseRent$Reader" (211 : Nat) ({ cls := "PulseRent$Reader", name := "worked", desc := "(Ljava/lang/String;)LPulseRent$Expression;" } : Jvm.MethodName)) ∈ lw_all := lw_g (lw_at lw_m5 8 rfl) rfl
theorem q1103 : (Jvm.Cond.privateMethod ({ cls := "PulseRent$Reader", name := "worked", desc := "(Ljava/lang/String;)LPulseRent$Expression;" } : Jvm.MethodName)) ∈ lw_tbl := lw_at lw_m5 9 rfl
theorem q1104 : (Jvm.Cond.instanceMethod ({ cls := "PulseRent$Reader", name := "worked", desc := "(Ljava/lang/String;)LPulseRent$Expression;" } : Jvm.MethodName)) ∈ lw_all := lw_g (lw_at lw_m5 10 rfl) rfl
theorem q1105 : (Jvm.Cond.code ({ cls := "PulseRent$Reader", name := "worked", desc := "(Ljava/lang/String;)LPulseRent$Expression;" } : Jvm.MethodName) prog_17_method_17_code (2 : Nat) (Option.some (Jvm.ClassFile.FieldType.object "PulseRent$Expression"))) ∈ lw_all := lw_g (lw_at lw_m5 11 rfl) rfl
theorem q1106 : (Jvm.Cond.methodLink "PulseRent$Reader" (128 : Nat) ({ cls := "PulseRent$Reader", name := "expression", desc := "()LPulseRent$Expression;" } : Jvm.MethodName)) ∈ lw_all := lw_g (lw_at lw_m5 12 rfl) rfl
theorem q1107 : (Jvm.Cond.privateMethod ({ cls := "PulseRent$Reader", name := "expression", desc := "()LPulseRent$Expression;" } : Jvm.MethodName)) ∈ lw_tbl := lw_at lw_m5 13 rfl
theorem q1108 : (Jvm.Cond.instanceMethod ({ cls := "PulseRent$Reader", name := "expression", desc := "()LPulseRent$Expression;" } : Jvm.MethodName)) ∈ lw_all := lw_g (lw_at lw_m5 14 rfl) rfl
theorem q1109 : (Jvm.Cond.code ({ cls := "PulseRent$Reader", name := "expression", desc := "()LPulseRent$Expression;" } : Jvm.MethodName) prog_17_method_26_code (3 : Nat) (Option.some (Jvm.ClassFile.FieldType.object "PulseRent$Expression"))) ∈ lw_all := lw_g (lw_at lw_m5 15 rfl) rfl
theorem q1110 : (Jvm.Cond.methodLink "PulseRent$Reader" (295 : Nat) ({ cls := "PulseRent$Reader", name := "test", desc := "()LPulseRent$Expression;" } : Jvm.MethodName)) ∈ lw_all := lw_g (lw_at lw_m5 16 rfl) rfl
theorem q1111 : (Jvm.Cond.privateMethod ({ cls := "PulseRent$Reader", name := "test", desc := "()LPulseRent$Expression;" } : Jvm.MethodName)) ∈ lw_tbl := lw_at lw_m5 17 rfl
theorem q1112 : (Jvm.Cond.instanceMethod ({ cls := "PulseRent$Reader", name := "test", desc := "()LPulseRent$Expression;" } : Jvm.MethodName)) ∈ lw_all := lw_g (lw_at lw_m5 18 rfl) rfl
theorem q1113 : (Jvm.Cond.code ({ cls := "PulseRent$Reader", name := "test", desc := "()LPulseRent$Expression;" } : Jvm.MethodName) prog_17_method_27_code (3 : Nat) (Option.some (Jvm.ClassFile.FieldType.object "PulseRent$Expression"))) ∈ lw_all := lw_g (lw_at lw_m5 19 rfl) rfl
theorem q1114 : (Jvm.Cond.methodLink "PulseRent$Reader" (305 : Nat) ({ cls := "PulseRent$Reader", name := "sum", desc := "()LPulseRent$Expression;" } : Jvm.MethodName)) ∈ lw_all := lw_g (lw_at lw_m5 20 rfl) rfl
theorem q1115 : (Jvm.Cond.privateMethod ({ cls := "PulseRent$Reader", name := "sum", desc := "()LPulseRent$Expression;" } : Jvm.MethodName)) ∈ lw_tbl := lw_at lw_m5 21 rfl
theorem q1116 : (Jvm.Cond.instanceMethod ({ cls := "PulseRent$Reader", name := "sum", desc := "()LPulseRent$Expression;" } : Jvm.MethodName)) ∈ lw_all := lw_g (lw_at lw_m5 22 rfl) rfl
theorem q1117 : (Jvm.Cond.code ({ cls := "PulseRent$Reader", name := "sum", desc := "()LPulseRent$Expression;" } : Jvm.MethodName) prog_17_method_28_code (3 : Nat) (Option.some (Jvm.ClassFile.FieldType.object "PulseRent$Expression"))) ∈ lw_all := lw_g (lw_at lw_m5 23 rfl) rfl
theorem q1118 : (Jvm.Cond.methodLink "PulseRent$Reader" (308 : Nat) ({ cls := "PulseRent$Reader", name := "product", desc := "()LPulseRent$Expression;" } : Jvm.MethodName)) ∈ lw_all := lw_g (lw_at lw_m5 24 rfl) rfl
theorem q1119 : (Jvm.Cond.privateMethod ({ cls := "PulseRent$Reader", name := "product", desc := "()LPulseRent$Expression;" } : Jvm.MethodName)) ∈ lw_tbl := lw_at lw_m5 25 rfl
theorem q1120 : (Jvm.Cond.instanceMethod ({ cls := "PulseRent$Reader", name := "product", desc := "()LPulseRent$Expression;" } : Jvm.MethodName)) ∈ lw_all := lw_g (lw_at lw_m5 26 rfl) rfl
theorem q1121 : (Jvm.Cond.code ({ cls := "PulseRent$Reader", name := "product", desc := "()LPulseRent$Expression;" } : Jvm.MethodName) prog_17_method_29_code (2 : Nat) (Option.some (Jvm.ClassFile.FieldType.object "PulseRent$Expression"))) ∈ lw_all := lw_g (lw_at lw_m5 27 rfl) rfl
theorem q1122 : (Jvm.Cond.methodLink "PulseRent$Reader" (311 : Nat) ({ cls := "PulseRent$Reader", name := "part", desc := "()LPulseRent$Expression;" } : Jvm.MethodName)) ∈ lw_all := lw_g (lw_at lw_m5 28 rfl) rfl
theorem q1123 : (Jvm.Cond.privateMethod ({ cls := "PulseRent$Reader", name := "part", desc := "()LPulseRent$Expression;" } : Jvm.MethodName)) ∈ lw_tbl := lw_at lw_m5 29 rfl
theorem q1124 : (Jvm.Cond.instanceMethod ({ cls := "PulseRent$Reader", name := "part", desc := "()LPulseRent$Expression;" } : Jvm.MethodName)) ∈ lw_all := lw_g (lw_at lw_m5 30 rfl) rfl
theorem q1125 : (Jvm.Cond.code ({ cls := "PulseRent$Reader", name := "part", desc := "()LPulseRent$Expression;" } : Jvm.MethodName) prog_17_method_30_code (5 : Nat) (Option.some (Jvm.ClassFile.FieldType.object "PulseRent$Expression"))) ∈ lw_all := lw_g (lw_at lw_m5 31 rfl) rfl
theorem q1126 : (Jvm.Cond.stringRef "PulseRent$Reader" (314 : Nat) "not ") ∈ lw_tbl := lw_at lw_m5 32 rfl
theorem q1127 : (Jvm.Cond.methodLink "PulseRent$Reader" (79 : Nat) ({ cls := "PulseRent$Reader", name := "isSign", desc := "(C)Z" } : Jvm.MethodName)) ∈ lw_all := lw_g (lw_at lw_m5 33 rfl) rfl
theorem q1128 : (Jvm.Cond.privateMethod ({ cls := "PulseRent$Reader", name := "isSign", desc := "(C)Z" } : Jvm.MethodName)) ∈ lw_tbl := lw_at lw_m5 34 rfl
theorem q1129 : (Jvm.Cond.instanceMethod ({ cls := "PulseRent$Reader", name := "isSign", desc := "(C)Z" } : Jvm.MethodName)) ∈ lw_all := lw_g (lw_at lw_m5 35 rfl) rfl
theorem q1130 : (Jvm.Cond.code ({ cls := "PulseRent$Reader", name := "isSign", desc := "(C)Z" } : Jvm.MethodName) prog_17_method_10_code (2 : Nat) (Option.some Jvm.ClassFile.FieldType.boolean)) ∈ lw_all := lw_g (lw_at lw_m5 36 rfl) rfl
theorem q1131 : (Jvm.Cond.classLink "PulseRent$Reader" (316 : Nat) "PulseRent$Given") ∈ lw_all := lw_g (lw_at lw_m5 37 rfl) rfl
theorem q1133 : (Jvm.Cond.methodLink "PulseRent$Reader" (318 : Nat) ({ cls := "PulseRent$Given", name := "<init>", desc := "(I)V" } : Jvm.MethodName)) ∈ lw_all := lw_g (lw_at lw_m5 39 rfl) rfl
theorem q1144 : (Jvm.Cond.classLink "PulseRent$Reader" (319 : Nat) "PulseRent$Fact") ∈ lw_all := lw_g (lw_at lw_m5 50 rfl) rfl
theorem q1146 : (Jvm.Cond.methodLink "PulseRent$Reader" (321 : Nat) ({ cls := "PulseRent$Fact", name := "<init>", desc := "(I)V" } : Jvm.MethodName)) ∈ lw_all := lw_g (lw_at lw_m5 52 rfl) rfl
theorem q1154 : (Jvm.Cond.classLink "PulseRent$Reader" (322 : Nat) "PulseRent$Not") ∈ lw_all := lw_g (lw_at lw_m5 60 rfl) rfl
theorem q1156 : (Jvm.Cond.methodLink "PulseRent$Reader" (324 : Nat) ({ cls := "PulseRent$Not", name := "<init>", desc := "(LPulseRent$Expression;)V" } : Jvm.MethodName)) ∈ lw_all := lw_g (lw_at lw_m5 62 rfl) rfl
theorem q1164 : (Jvm.Cond.methodLink "PulseRent$Reader" (165 : Nat) ({ cls := "PulseRent$Reader", name := "need", desc := "(C)V" } : Jvm.MethodName)) ∈ lw_all := lw_g (lw_at lw_m5 70 rfl) rfl
theorem q1165 : (Jvm.Cond.privateMethod ({ cls := "PulseRent$Reader", name := "need", desc := "(C)V" } : Jvm.MethodName)) ∈ lw_tbl := lw_at lw_m5 71 rfl
theorem q1166 : (Jvm.Cond.instanceMethod ({ cls := "PulseRent$Reader", name := "need", desc := "(C)V" } : Jvm.MethodName)) ∈ lw_all := lw_g (lw_at lw_m5 72 rfl) rfl
theorem q1167 : (Jvm.Cond.code ({ cls := "PulseRent$Reader", name := "need", desc := "(C)V" } : Jvm.MethodName) prog_17_method_11_code (2 : Nat) (Option.none : Option Jvm.ClassFile.FieldType)) ∈ lw_all := lw_g (lw_at lw_m5 73 rfl) rfl
theorem q1168 : (Jvm.Cond.classLink "PulseRent$Reader" (300 : Nat) "PulseRent$Two") ∈ lw_all := lw_g (lw_at lw_m5 74 rfl) rfl
theorem q1170 : (Jvm.Cond.methodLink "PulseRent$Reader" (302 : Nat) ({ cls := "PulseRent$Two", name := "<init>", desc := "(CLPulseRent$Expression;LPulseRent$Expression;)V" } : Jvm.MethodName)) ∈ lw_all := lw_g (lw_at lw_m5 76 rfl) rfl
theorem q1184 : (Jvm.Cond.stringRef "PulseRent$Reader" (298 : Nat) "and or ") ∈ lw_tbl := lw_at lw_m5 90 rfl
theorem q1185 : (Jvm.Cond.stringRef "PulseRent$Reader" (215 : Nat) "steps loud floor kind ") ∈ lw_tbl := lw_at lw_m5 91 rfl
theorem q1191 : (Jvm.Cond.instanceMethod ({ cls := "PulseRent$Reader", name := "months", desc := "(LPulseRent$House;)Ljava/util/ArrayList;" } : Jvm.MethodName)) ∈ lw_all := lw_g (lw_at lw_m5 97 rfl) rfl
theorem q1192 : (Jvm.Cond.selects "PulseRent$Reader" ({ cls := "PulseRent$Reader", name := "months", desc := "(LPulseRent$House;)Ljava/util/ArrayList;" } : Jvm.MethodName) ({ cls := "PulseRent$Reader", name := "months", desc := "(LPulseRent$House;)Ljava/util/ArrayList;" } : Jvm.MethodName)) ∈ lw_all := lw_g (lw_at lw_m5 98 rfl) rfl
theorem q1193 : (Jvm.Cond.code ({ cls := "PulseRent$Reader", name := "months", desc := "(LPulseRent$House;)Ljava/util/ArrayList;" } : Jvm.MethodName) prog_17_method_24_code (4 : Nat) (Option.some (Jvm.ClassFile.FieldType.object "java/util/ArrayList"))) ∈ lw_all := lw_g (lw_at lw_m5 99 rfl) rfl
theorem q1194 : (Jvm.Cond.classLink "PulseRent$Reader" (153 : Nat) "java/util/ArrayList") ∈ lw_all := lw_g (lw_at lw_m5 100 rfl) rfl
theorem q1195 : (Jvm.Cond.methodLink "PulseRent$Reader" (271 : Nat) ({ cls := "java/util/ArrayList", name := "<init>", desc := "(I)V" } : Jvm.MethodName)) ∈ lw_all := lw_g (lw_at lw_m5 101 rfl) rfl
theorem q1196 : (Jvm.Cond.stringRef "PulseRent$Reader" (272 : Nat) "climb fright drink minutes noon move ") ∈ lw_tbl := lw_at lw_m5 102 rfl
theorem q1197 : (Jvm.Cond.methodLink "PulseRent$Reader" (274 : Nat) ({ cls := "PulseRent$Reader", name := "told", desc := "(I)LPulseRent$Line;" } : Jvm.MethodName)) ∈ lw_all := lw_g (lw_at lw_m5 103 rfl) rfl
theorem q1198 : (Jvm.Cond.privateMethod ({ cls := "PulseRent$Reader", name := "told", desc := "(I)LPulseRent$Line;" } : Jvm.MethodName)) ∈ lw_tbl := lw_at lw_m5 104 rfl
theorem q1199 : (Jvm.Cond.instanceMethod ({ cls := "PulseRent$Reader", name := "told", desc := "(I)LPulseRent$Line;" } : Jvm.MethodName)) ∈ lw_all := lw_g (lw_at lw_m5 105 rfl) rfl
theorem q1200 : (Jvm.Cond.code ({ cls := "PulseRent$Reader", name := "told", desc := "(I)LPulseRent$Line;" } : Jvm.MethodName) prog_17_method_25_code (4 : Nat) (Option.some (Jvm.ClassFile.FieldType.object "PulseRent$Line"))) ∈ lw_all := lw_g (lw_at lw_m5 106 rfl) rfl
theorem q1201 : (Jvm.Cond.classLink "PulseRent$Reader" (277 : Nat) "PulseRent$Passed") ∈ lw_all := lw_g (lw_at lw_m5 107 rfl) rfl
theorem q1203 : (Jvm.Cond.methodLink "PulseRent$Reader" (279 : Nat) ({ cls := "PulseRent$Passed", name := "<init>", desc := "(I)V" } : Jvm.MethodName)) ∈ lw_all := lw_g (lw_at lw_m5 109 rfl) rfl
theorem q1214 : (Jvm.Cond.classLink "PulseRent$Reader" (280 : Nat) "PulseRent$Noon") ∈ lw_all := lw_g (lw_at lw_m5 120 rfl) rfl
theorem q1216 : (Jvm.Cond.methodLinkNest "PulseRent$Reader" (282 : Nat) ({ cls := "PulseRent$Noon", name := "<init>", desc := "()V" } : Jvm.MethodName) "PulseRent") ∈ lw_tbl := lw_at lw_m5 122 rfl
theorem q1221 : (Jvm.Cond.classLink "PulseRent$Reader" (283 : Nat) "PulseRent$Climbed") ∈ lw_all := lw_g (lw_at lw_m5 127 rfl) rfl
theorem q1223 : (Jvm.Cond.methodLink "PulseRent$Reader" (285 : Nat) ({ cls := "PulseRent$Climbed", name := "<init>", desc := "(I)V" } : Jvm.MethodName)) ∈ lw_all := lw_g (lw_at lw_m5 129 rfl) rfl
theorem q1231 : (Jvm.Cond.classLink "PulseRent$Reader" (286 : Nat) "PulseRent$Frightened") ∈ lw_all := lw_g (lw_at lw_m5 137 rfl) rfl
theorem q1233 : (Jvm.Cond.methodLink "PulseRent$Reader" (288 : Nat) ({ cls := "PulseRent$Frightened", name := "<init>", desc := "(II)V" } : Jvm.MethodName)) ∈ lw_all := lw_g (lw_at lw_m5 139 rfl) rfl
theorem q1244 : (Jvm.Cond.classLink "PulseRent$Reader" (289 : Nat) "PulseRent$Drunk") ∈ lw_all := lw_g (lw_at lw_m5 150 rfl) rfl
theorem q1246 : (Jvm.Cond.methodLink "PulseRent$Reader" (291 : Nat) ({ cls := "PulseRent$Drunk", name := "<init>", desc := "(I)V" } : Jvm.MethodName)) ∈ lw_all := lw_g (lw_at lw_m5 152 rfl) rfl
theorem q1254 : (Jvm.Cond.classLink "PulseRent$Reader" (292 : Nat) "PulseRent$Moved") ∈ lw_all := lw_g (lw_at lw_m5 160 rfl) rfl
theorem q1256 : (Jvm.Cond.methodLink "PulseRent$Reader" (294 : Nat) ({ cls := "PulseRent$Moved", name := "<init>", desc := "(II)V" } : Jvm.MethodName)) ∈ lw_all := lw_g (lw_at lw_m5 162 rfl) rfl
theorem q2376 : (Jvm.Cond.castable "PulseRent$Reader" "java/lang/Object") ∈ lw_tbl := lw_at lw_m10 82 rfl
theorem in_X2 : ∀ w ∈ wsX20, w ∈ lw_all := lw_in wsX20 [203, 205, 207, 209, 211, 213, 215, 217, 219] (by decide +kernel) (by decide +kernel)

/-! PulseRent$Noon -/
set_option maxRecDepth 100000
def RX20 : String := "PulseRent$Noon"
abbrev cX20_init : ByteArray := prog_14_method_1_code
def yX20_init : MethodName := ⟨RX20, "<init>", "()V"⟩
theorem dX20_init_0 : decode cX20_init 0 = .ok (.aload_n 0, 1) := by decide +kernel
theorem dX20_init_1 : decode cX20_init 1 = .ok (.invokespecial 1, 3) := by decide +kernel
theorem dX20_init_4 : decode cX20_init 4 = .ok (.return_, 1) := by decide +kernel
abbrev cX20_isDone : ByteArray := prog_14_method_2_code
def yX20_isDone : MethodName := ⟨RX20, "isDone", "(LPulseRent;LPulseRent$State;)Z"⟩
def dkwX20_isDone_0 : List UInt8 := [43, 44, 182, 0, 7, 87, 4, 172]
abbrev dktX20_isDone_0 : List UInt8 := dkwX20_isDone_0 ++ []
theorem dksX20_isDone_0 : cX20_isDone.data.toList.drop 0 = dktX20_isDone_0 := by decide +kernel
theorem dX20_isDone_0 : decode cX20_isDone 0 = .ok (.aload_n 1, 1) := dk_43 (dk_at dksX20_isDone_0 0 rfl rfl)
theorem dX20_isDone_1 : decode cX20_isDone 1 = .ok (.aload_n 2, 1) := dk_44 (dk_at dksX20_isDone_0 1 rfl rfl)
theorem dX20_isDone_2 : decode cX20_isDone 2 = .ok (.invokevirtual 7, 3) := dk_182 0 7 (dk_at dksX20_isDone_0 2 rfl rfl)
theorem dX20_isDone_5 : decode cX20_isDone 5 = .ok (.pop, 1) := dk_87 (dk_at dksX20_isDone_0 5 rfl rfl)
theorem dX20_isDone_6 : decode cX20_isDone 6 = .ok (.iconst 1, 1) := dk_4 (dk_at dksX20_isDone_0 6 rfl rfl)
theorem dX20_isDone_7 : decode cX20_isDone 7 = .ok (.ireturn, 1) := dk_172 (dk_at dksX20_isDone_0 7 rfl rfl)
theorem q172 : (Jvm.Cond.initialized "PulseRent$Noon") ∈ lw_all := lw_g (lw_at lw_m1 38 rfl) rfl
theorem q943 : (Jvm.Cond.selects "PulseRent$Noon" ({ cls := "java/lang/Object", name := "getClass", desc := "()Ljava/lang/Class;" } : Jvm.MethodName) ({ cls := "java/lang/Object", name := "getClass", desc := "()Ljava/lang/Class;" } : Jvm.MethodName)) ∈ lw_all := lw_g (lw_at lw_m4 89 rfl) rfl
theorem q1215 : (Jvm.Cond.instantiable "PulseRent$Noon" (0 : Nat)) ∈ lw_all := lw_g (lw_at lw_m5 121 rfl) rfl
theorem q1217 : (Jvm.Cond.instanceMethod ({ cls := "PulseRent$Noon", name := "<init>", desc := "()V" } : Jvm.MethodName)) ∈ lw_all := lw_g (lw_at lw_m5 123 rfl) rfl
theorem q1218 : (Jvm.Cond.code ({ cls := "PulseRent$Noon", name := "<init>", desc := "()V" } : Jvm.MethodName) prog_14_method_1_code (1 : Nat) (Option.none : Option Jvm.ClassFile.FieldType)) ∈ lw_all := lw_g (lw_at lw_m5 124 rfl) rfl
theorem q1219 : (Jvm.Cond.methodLinkNest "PulseRent$Noon" (1 : Nat) ({ cls := "PulseRent$Line", name := "<init>", desc := "()V" } : Jvm.MethodName) "PulseRent") ∈ lw_tbl := lw_at lw_m5 125 rfl
theorem q1220 : (Jvm.Cond.superclass "PulseRent$Noon" "PulseRent$Line") ∈ lw_all := lw_g (lw_at lw_m5 126 rfl) rfl
theorem q1513 : (Jvm.Cond.selects "PulseRent$Noon" ({ cls := "PulseRent$Line", name := "isDone", desc := "(LPulseRent;LPulseRent$State;)Z" } : Jvm.MethodName) ({ cls := "PulseRent$Noon", name := "isDone", desc := "(LPulseRent;LPulseRent$State;)Z" } : Jvm.MethodName)) ∈ lw_all := lw_g (lw_at lw_m6 179 rfl) rfl
theorem q1514 : (Jvm.Cond.instanceMethod ({ cls := "PulseRent$Noon", name := "isDone", desc := "(LPulseRent;LPulseRent$State;)Z" } : Jvm.MethodName)) ∈ lw_all := lw_g (lw_at lw_m6 180 rfl) rfl
theorem q1515 : (Jvm.Cond.code ({ cls := "PulseRent$Noon", name := "isDone", desc := "(LPulseRent;LPulseRent$State;)Z" } : Jvm.MethodName) prog_14_method_2_code (3 : Nat) (Option.some Jvm.ClassFile.FieldType.boolean)) ∈ lw_all := lw_g (lw_at lw_m6 181 rfl) rfl
theorem q1516 : (Jvm.Cond.methodLinkNest "PulseRent$Noon" (7 : Nat) ({ cls := "PulseRent", name := "collects", desc := "(LPulseRent$State;)I" } : Jvm.MethodName) "PulseRent") ∈ lw_tbl := lw_at lw_m6 182 rfl
theorem q2371 : (Jvm.Cond.castable "PulseRent$Noon" "PulseRent$Line") ∈ lw_tbl := lw_at lw_m10 77 rfl
theorem q2394 : (Jvm.Cond.castable "PulseRent$Noon" "java/lang/Object") ∈ lw_tbl := lw_at lw_m10 100 rfl

/-! PulseRent$Climbed -/
set_option maxRecDepth 100000
def RX21 : String := "PulseRent$Climbed"
def TX21 : u_T := fun k => match k with
  | _ => ("PulseRent$Climbed", "tenant", "I", true)
def tyX21 : Nat → FieldType := fun k => match k with
  | _ => .int
abbrev wsX210 : List Cond := u_ws RX21 TX21 1
theorem nmX21 : ∀ a, a < 1 → ∀ b, b < 1 → a ≠ b → (TX21 a).2.1 ≠ (TX21 b).2.1 := by decide +kernel
theorem tyX21_ok : ∀ k, k < 1 → parseFieldDescriptor (TX21 k).2.2.1 = some (tyX21 k) := by decide +kernel
abbrev cX21_init : ByteArray := prog_2_method_1_code
def yX21_init : MethodName := ⟨RX21, "<init>", "(I)V"⟩
def dkwX21_init_0 : List UInt8 := [42, 183, 0, 1, 42, 27, 181, 0, 7, 177]
abbrev dktX21_init_0 : List UInt8 := dkwX21_init_0 ++ []
theorem dksX21_init_0 : cX21_init.data.toList.drop 0 = dktX21_init_0 := by decide +kernel
theorem dX21_init_0 : decode cX21_init 0 = .ok (.aload_n 0, 1) := dk_42 (dk_at dksX21_init_0 0 rfl rfl)
theorem dX21_init_1 : decode cX21_init 1 = .ok (.invokespecial 1, 3) := dk_183 0 1 (dk_at dksX21_init_0 1 rfl rfl)
theorem dX21_init_4 : decode cX21_init 4 = .ok (.aload_n 0, 1) := dk_42 (dk_at dksX21_init_0 4 rfl rfl)
theorem dX21_init_5 : decode cX21_init 5 = .ok (.iload_n 1, 1) := dk_27 (dk_at dksX21_init_0 5 rfl rfl)
theorem dX21_init_6 : decode cX21_init 6 = .ok (.putfield 7, 3) := dk_181 0 7 (dk_at dksX21_init_0 6 rfl rfl)
theorem dX21_init_9 : decode cX21_init 9 = .ok (.return_, 1) := dk_177 (dk_at dksX21_init_0 9 rfl rfl)
abbrev cX21_isDone : ByteArray := prog_2_method_2_code
def yX21_isDone : MethodName := ⟨RX21, "isDone", "(LPulseRent;LPulseRent$State;)Z"⟩
def dkwX21_isDone_0 : List UInt8 := [44, 42, 180, 0, 7, 182, 0, 13, 154, 0, 5, 3, 172, 43, 44, 42, 180, 0, 7, 182, 0, 19, 4, 172]
abbrev dktX21_isDone_0 : List UInt8 := dkwX21_isDone_0 ++ []
theorem dksX21_isDone_0 : cX21_isDone.data.toList.drop 0 = dktX21_isDone_0 := by decide +kernel
theorem dX21_isDone_0 : decode cX21_isDone 0 = .ok (.aload_n 2, 1) := dk_44 (dk_at dksX21_isDone_0 0 rfl rfl)
theorem dX21_isDone_1 : decode cX21_isDone 1 = .ok (.aload_n 0, 1) := dk_42 (dk_at dksX21_isDone_0 1 rfl rfl)
theorem dX21_isDone_2 : decode cX21_isDone 2 = .ok (.getfield 7, 3) := dk_180 0 7 (dk_at dksX21_isDone_0 2 rfl rfl)
theorem dX21_isDone_5 : decode cX21_isDone 5 = .ok (.invokevirtual 13, 3) := dk_182 0 13 (dk_at dksX21_isDone_0 5 rfl rfl)
theorem dX21_isDone_8 : decode cX21_isDone 8 = .ok (.ifCond .ne 5, 3) := dk_154 0 5 (dk_at dksX21_isDone_0 8 rfl rfl)
theorem dX21_isDone_11 : decode cX21_isDone 11 = .ok (.iconst 0, 1) := dk_3 (dk_at dksX21_isDone_0 11 rfl rfl)
theorem dX21_isDone_12 : decode cX21_isDone 12 = .ok (.ireturn, 1) := dk_172 (dk_at dksX21_isDone_0 12 rfl rfl)
theorem dX21_isDone_13 : decode cX21_isDone 13 = .ok (.aload_n 1, 1) := dk_43 (dk_at dksX21_isDone_0 13 rfl rfl)
theorem dX21_isDone_14 : decode cX21_isDone 14 = .ok (.aload_n 2, 1) := dk_44 (dk_at dksX21_isDone_0 14 rfl rfl)
theorem dX21_isDone_15 : decode cX21_isDone 15 = .ok (.aload_n 0, 1) := dk_42 (dk_at dksX21_isDone_0 15 rfl rfl)
theorem dX21_isDone_16 : decode cX21_isDone 16 = .ok (.getfield 7, 3) := dk_180 0 7 (dk_at dksX21_isDone_0 16 rfl rfl)
theorem dX21_isDone_19 : decode cX21_isDone 19 = .ok (.invokevirtual 19, 3) := dk_182 0 19 (dk_at dksX21_isDone_0 19 rfl rfl)
theorem dX21_isDone_22 : decode cX21_isDone 22 = .ok (.iconst 1, 1) := dk_4 (dk_at dksX21_isDone_0 22 rfl rfl)
theorem dX21_isDone_23 : decode cX21_isDone 23 = .ok (.ireturn, 1) := dk_172 (dk_at dksX21_isDone_0 23 rfl rfl)
theorem q173 : (Jvm.Cond.initialized "PulseRent$Climbed") ∈ lw_all := lw_g (lw_at lw_m1 39 rfl) rfl
theorem q933 : (Jvm.Cond.selects "PulseRent$Climbed" ({ cls := "java/lang/Object", name := "getClass", desc := "()Ljava/lang/Class;" } : Jvm.MethodName) ({ cls := "java/lang/Object", name := "getClass", desc := "()Ljava/lang/Class;" } : Jvm.MethodName)) ∈ lw_all := lw_g (lw_at lw_m4 79 rfl) rfl
theorem q1222 : (Jvm.Cond.instantiable "PulseRent$Climbed" (1 : Nat)) ∈ lw_all := lw_g (lw_at lw_m5 128 rfl) rfl
theorem q1224 : (Jvm.Cond.instanceMethod ({ cls := "PulseRent$Climbed", name := "<init>", desc := "(I)V" } : Jvm.MethodName)) ∈ lw_all := lw_g (lw_at lw_m5 130 rfl) rfl
theorem q1225 : (Jvm.Cond.code ({ cls := "PulseRent$Climbed", name := "<init>", desc := "(I)V" } : Jvm.MethodName) prog_2_method_1_code (2 : Nat) (Option.none : Option Jvm.ClassFile.FieldType)) ∈ lw_all := lw_g (lw_at lw_m5 131 rfl) rfl
theorem q1226 : (Jvm.Cond.methodLinkNest "PulseRent$Climbed" (1 : Nat) ({ cls := "PulseRent$Line", name := "<init>", desc := "()V" } : Jvm.MethodName) "PulseRent") ∈ lw_tbl := lw_at lw_m5 132 rfl
theorem q1227 : (Jvm.Cond.fieldLink "PulseRent$Climbed" (7 : Nat) "PulseRent$Climbed" "tenant" "I") ∈ lw_all := lw_g (lw_at lw_m5 133 rfl) rfl
theorem q1228 : (Jvm.Cond.laysFinal "PulseRent$Climbed" "PulseRent$Climbed" "tenant" "I") ∈ lw_all := lw_g (lw_at lw_m5 134 rfl) rfl
theorem q1229 : (Jvm.Cond.soleField "PulseRent$Climbed" "tenant") ∈ lw_all := lw_g (lw_at lw_m5 135 rfl) rfl
theorem q1230 : (Jvm.Cond.superclass "PulseRent$Climbed" "PulseRent$Line") ∈ lw_all := lw_g (lw_at lw_m5 136 rfl) rfl
theorem q1495 : (Jvm.Cond.selects "PulseRent$Climbed" ({ cls := "PulseRent$Line", name := "isDone", desc := "(LPulseRent;LPulseRent$State;)Z" } : Jvm.MethodName) ({ cls := "PulseRent$Climbed", name := "isDone", desc := "(LPulseRent;LPulseRent$State;)Z" } : Jvm.MethodName)) ∈ lw_all := lw_g (lw_at lw_m6 161 rfl) rfl
theorem q1496 : (Jvm.Cond.instanceMethod ({ cls := "PulseRent$Climbed", name := "isDone", desc := "(LPulseRent;LPulseRent$State;)Z" } : Jvm.MethodName)) ∈ lw_all := lw_g (lw_at lw_m6 162 rfl) rfl
theorem q1497 : (Jvm.Cond.code ({ cls := "PulseRent$Climbed", name := "isDone", desc := "(LPulseRent;LPulseRent$State;)Z" } : Jvm.MethodName) prog_2_method_2_code (3 : Nat) (Option.some Jvm.ClassFile.FieldType.boolean)) ∈ lw_all := lw_g (lw_at lw_m6 163 rfl) rfl
theorem q1498 : (Jvm.Cond.methodLink "PulseRent$Climbed" (13 : Nat) ({ cls := "PulseRent$State", name := "isIn", desc := "(I)Z" } : Jvm.MethodName)) ∈ lw_all := lw_g (lw_at lw_m6 164 rfl) rfl
theorem q1499 : (Jvm.Cond.methodLinkNest "PulseRent$Climbed" (19 : Nat) ({ cls := "PulseRent", name := "climbs", desc := "(LPulseRent$State;I)V" } : Jvm.MethodName) "PulseRent") ∈ lw_tbl := lw_at lw_m6 165 rfl
theorem q2367 : (Jvm.Cond.castable "PulseRent$Climbed" "PulseRent$Line") ∈ lw_tbl := lw_at lw_m10 73 rfl
theorem q2395 : (Jvm.Cond.castable "PulseRent$Climbed" "java/lang/Object") ∈ lw_tbl := lw_at lw_m10 101 rfl
theorem in_X21 : ∀ w ∈ wsX210, w ∈ lw_all := lw_in wsX210 [1228] (by decide +kernel) (by decide +kernel)

/-! PulseRent$Frightened -/
set_option maxRecDepth 100000
def RX22 : String := "PulseRent$Frightened"
def TX22 : u_T := fun k => match k with
  | 0 => ("PulseRent$Frightened", "tenant", "I", true)
  | _ => ("PulseRent$Frightened", "beats", "I", true)
def tyX22 : Nat → FieldType := fun k => match k with
  | 0 => .int
  | _ => .int
abbrev wsX220 : List Cond := u_ws RX22 TX22 2
theorem nmX22 : ∀ a, a < 2 → ∀ b, b < 2 → a ≠ b → (TX22 a).2.1 ≠ (TX22 b).2.1 := by decide +kernel
theorem tyX22_ok : ∀ k, k < 2 → parseFieldDescriptor (TX22 k).2.2.1 = some (tyX22 k) := by decide +kernel
abbrev cX22_init : ByteArray := prog_7_method_1_code
def yX22_init : MethodName := ⟨RX22, "<init>", "(II)V"⟩
def dkwX22_init_0 : List UInt8 := [42, 183, 0, 1, 42, 27, 181, 0, 7, 42, 28, 181, 0, 13, 177]
abbrev dktX22_init_0 : List UInt8 := dkwX22_init_0 ++ []
theorem dksX22_init_0 : cX22_init.data.toList.drop 0 = dktX22_init_0 := by decide +kernel
theorem dX22_init_0 : decode cX22_init 0 = .ok (.aload_n 0, 1) := dk_42 (dk_at dksX22_init_0 0 rfl rfl)
theorem dX22_init_1 : decode cX22_init 1 = .ok (.invokespecial 1, 3) := dk_183 0 1 (dk_at dksX22_init_0 1 rfl rfl)
theorem dX22_init_4 : decode cX22_init 4 = .ok (.aload_n 0, 1) := dk_42 (dk_at dksX22_init_0 4 rfl rfl)
theorem dX22_init_5 : decode cX22_init 5 = .ok (.iload_n 1, 1) := dk_27 (dk_at dksX22_init_0 5 rfl rfl)
theorem dX22_init_6 : decode cX22_init 6 = .ok (.putfield 7, 3) := dk_181 0 7 (dk_at dksX22_init_0 6 rfl rfl)
theorem dX22_init_9 : decode cX22_init 9 = .ok (.aload_n 0, 1) := dk_42 (dk_at dksX22_init_0 9 rfl rfl)
theorem dX22_init_10 : decode cX22_init 10 = .ok (.iload_n 2, 1) := dk_28 (dk_at dksX22_init_0 10 rfl rfl)
theorem dX22_init_11 : decode cX22_init 11 = .ok (.putfield 13, 3) := dk_181 0 13 (dk_at dksX22_init_0 11 rfl rfl)
theorem dX22_init_14 : decode cX22_init 14 = .ok (.return_, 1) := dk_177 (dk_at dksX22_init_0 14 rfl rfl)
abbrev cX22_isDone : ByteArray := prog_7_method_2_code
def yX22_isDone : MethodName := ⟨RX22, "isDone", "(LPulseRent;LPulseRent$State;)Z"⟩
def dkwX22_isDone_1 : List UInt8 := [182, 0, 22, 4, 172]
abbrev dktX22_isDone_1 : List UInt8 := dkwX22_isDone_1 ++ []
def dkwX22_isDone_0 : List UInt8 := [44, 42, 180, 0, 7, 182, 0, 16, 154, 0, 5, 3, 172, 43, 44, 42, 180, 0, 7, 42, 180, 0, 13]
abbrev dktX22_isDone_0 : List UInt8 := dkwX22_isDone_0 ++ dktX22_isDone_1
theorem dksX22_isDone_0 : cX22_isDone.data.toList.drop 0 = dktX22_isDone_0 := by decide +kernel
theorem dksX22_isDone_1 : cX22_isDone.data.toList.drop 23 = dktX22_isDone_1 := dk_seg dksX22_isDone_0 23 rfl rfl
theorem dX22_isDone_0 : decode cX22_isDone 0 = .ok (.aload_n 2, 1) := dk_44 (dk_at dksX22_isDone_0 0 rfl rfl)
theorem dX22_isDone_1 : decode cX22_isDone 1 = .ok (.aload_n 0, 1) := dk_42 (dk_at dksX22_isDone_0 1 rfl rfl)
theorem dX22_isDone_2 : decode cX22_isDone 2 = .ok (.getfield 7, 3) := dk_180 0 7 (dk_at dksX22_isDone_0 2 rfl rfl)
theorem dX22_isDone_5 : decode cX22_isDone 5 = .ok (.invokevirtual 16, 3) := dk_182 0 16 (dk_at dksX22_isDone_0 5 rfl rfl)
theorem dX22_isDone_8 : decode cX22_isDone 8 = .ok (.ifCond .ne 5, 3) := dk_154 0 5 (dk_at dksX22_isDone_0 8 rfl rfl)
theorem dX22_isDone_11 : decode cX22_isDone 11 = .ok (.iconst 0, 1) := dk_3 (dk_at dksX22_isDone_0 11 rfl rfl)
theorem dX22_isDone_12 : decode cX22_isDone 12 = .ok (.ireturn, 1) := dk_172 (dk_at dksX22_isDone_0 12 rfl rfl)
theorem dX22_isDone_13 : decode cX22_isDone 13 = .ok (.aload_n 1, 1) := dk_43 (dk_at dksX22_isDone_0 13 rfl rfl)
theorem dX22_isDone_14 : decode cX22_isDone 14 = .ok (.aload_n 2, 1) := dk_44 (dk_at dksX22_isDone_0 14 rfl rfl)
theorem dX22_isDone_15 : decode cX22_isDone 15 = .ok (.aload_n 0, 1) := dk_42 (dk_at dksX22_isDone_0 15 rfl rfl)
theorem dX22_isDone_16 : decode cX22_isDone 16 = .ok (.getfield 7, 3) := dk_180 0 7 (dk_at dksX22_isDone_0 16 rfl rfl)
theorem dX22_isDone_19 : decode cX22_isDone 19 = .ok (.aload_n 0, 1) := dk_42 (dk_at dksX22_isDone_0 19 rfl rfl)
theorem dX22_isDone_20 : decode cX22_isDone 20 = .ok (.getfield 13, 3) := dk_180 0 13 (dk_at dksX22_isDone_0 20 rfl rfl)
theorem dX22_isDone_23 : decode cX22_isDone 23 = .ok (.invokevirtual 22, 3) := dk_182 0 22 (dk_at dksX22_isDone_1 0 rfl rfl)
theorem dX22_isDone_26 : decode cX22_isDone 26 = .ok (.iconst 1, 1) := dk_4 (dk_at dksX22_isDone_1 3 rfl rfl)
theorem dX22_isDone_27 : decode cX22_isDone 27 = .ok (.ireturn, 1) := dk_172 (dk_at dksX22_isDone_1 4 rfl rfl)
theorem q174 : (Jvm.Cond.initialized "PulseRent$Frightened") ∈ lw_all := lw_g (lw_at lw_m1 40 rfl) rfl
theorem q937 : (Jvm.Cond.selects "PulseRent$Frightened" ({ cls := "java/lang/Object", name := "getClass", desc := "()Ljava/lang/Class;" } : Jvm.MethodName) ({ cls := "java/lang/Object", name := "getClass", desc := "()Ljava/lang/Class;" } : Jvm.MethodName)) ∈ lw_all := lw_g (lw_at lw_m4 83 rfl) rfl
theorem q1232 : (Jvm.Cond.instantiable "PulseRent$Frightened" (2 : Nat)) ∈ lw_all := lw_g (lw_at lw_m5 138 rfl) rfl
theorem q1234 : (Jvm.Cond.instanceMethod ({ cls := "PulseRent$Frightened", name := "<init>", desc := "(II)V" } : Jvm.MethodName)) ∈ lw_all := lw_g (lw_at lw_m5 140 rfl) rfl
theorem q1235 : (Jvm.Cond.code ({ cls := "PulseRent$Frightened", name := "<init>", desc := "(II)V" } : Jvm.MethodName) prog_7_method_1_code (3 : Nat) (Option.none : Option Jvm.ClassFile.FieldType)) ∈ lw_all := lw_g (lw_at lw_m5 141 rfl) rfl
theorem q1236 : (Jvm.Cond.methodLinkNest "PulseRent$Frightened" (1 : Nat) ({ cls := "PulseRent$Line", name := "<init>", desc := "()V" } : Jvm.MethodName) "PulseRent") ∈ lw_tbl := lw_at lw_m5 142 rfl
theorem q1237 : (Jvm.Cond.fieldLink "PulseRent$Frightened" (7 : Nat) "PulseRent$Frightened" "tenant" "I") ∈ lw_all := lw_g (lw_at lw_m5 143 rfl) rfl
theorem q1238 : (Jvm.Cond.fieldLink "PulseRent$Frightened" (13 : Nat) "PulseRent$Frightened" "beats" "I") ∈ lw_all := lw_g (lw_at lw_m5 144 rfl) rfl
theorem q1239 : (Jvm.Cond.laysFinal "PulseRent$Frightened" "PulseRent$Frightened" "tenant" "I") ∈ lw_all := lw_g (lw_at lw_m5 145 rfl) rfl
theorem q1240 : (Jvm.Cond.soleField "PulseRent$Frightened" "tenant") ∈ lw_all := lw_g (lw_at lw_m5 146 rfl) rfl
theorem q1241 : (Jvm.Cond.laysFinal "PulseRent$Frightened" "PulseRent$Frightened" "beats" "I") ∈ lw_all := lw_g (lw_at lw_m5 147 rfl) rfl
theorem q1242 : (Jvm.Cond.soleField "PulseRent$Frightened" "beats") ∈ lw_all := lw_g (lw_at lw_m5 148 rfl) rfl
theorem q1243 : (Jvm.Cond.superclass "PulseRent$Frightened" "PulseRent$Line") ∈ lw_all := lw_g (lw_at lw_m5 149 rfl) rfl
theorem q1504 : (Jvm.Cond.selects "PulseRent$Frightened" ({ cls := "PulseRent$Line", name := "isDone", desc := "(LPulseRent;LPulseRent$State;)Z" } : Jvm.MethodName) ({ cls := "PulseRent$Frightened", name := "isDone", desc := "(LPulseRent;LPulseRent$State;)Z" } : Jvm.MethodName)) ∈ lw_all := lw_g (lw_at lw_m6 170 rfl) rfl
theorem q1505 : (Jvm.Cond.instanceMethod ({ cls := "PulseRent$Frightened", name := "isDone", desc := "(LPulseRent;LPulseRent$State;)Z" } : Jvm.MethodName)) ∈ lw_all := lw_g (lw_at lw_m6 171 rfl) rfl
theorem q1506 : (Jvm.Cond.code ({ cls := "PulseRent$Frightened", name := "isDone", desc := "(LPulseRent;LPulseRent$State;)Z" } : Jvm.MethodName) prog_7_method_2_code (3 : Nat) (Option.some Jvm.ClassFile.FieldType.boolean)) ∈ lw_all := lw_g (lw_at lw_m6 172 rfl) rfl
theorem q1507 : (Jvm.Cond.methodLink "PulseRent$Frightened" (16 : Nat) ({ cls := "PulseRent$State", name := "isIn", desc := "(I)Z" } : Jvm.MethodName)) ∈ lw_all := lw_g (lw_at lw_m6 173 rfl) rfl
theorem q1508 : (Jvm.Cond.methodLinkNest "PulseRent$Frightened" (22 : Nat) ({ cls := "PulseRent", name := "frightens", desc := "(LPulseRent$State;II)V" } : Jvm.MethodName) "PulseRent") ∈ lw_tbl := lw_at lw_m6 174 rfl
theorem q2369 : (Jvm.Cond.castable "PulseRent$Frightened" "PulseRent$Line") ∈ lw_tbl := lw_at lw_m10 75 rfl
theorem q2396 : (Jvm.Cond.castable "PulseRent$Frightened" "java/lang/Object") ∈ lw_tbl := lw_at lw_m10 102 rfl
theorem in_X22 : ∀ w ∈ wsX220, w ∈ lw_all := lw_in wsX220 [1239, 1241] (by decide +kernel) (by decide +kernel)

/-! PulseRent$Drunk -/
set_option maxRecDepth 100000
def RX23 : String := "PulseRent$Drunk"
def TX23 : u_T := fun k => match k with
  | _ => ("PulseRent$Drunk", "tenant", "I", true)
def tyX23 : Nat → FieldType := fun k => match k with
  | _ => .int
abbrev wsX230 : List Cond := u_ws RX23 TX23 1
theorem nmX23 : ∀ a, a < 1 → ∀ b, b < 1 → a ≠ b → (TX23 a).2.1 ≠ (TX23 b).2.1 := by decide +kernel
theorem tyX23_ok : ∀ k, k < 1 → parseFieldDescriptor (TX23 k).2.2.1 = some (tyX23 k) := by decide +kernel
abbrev cX23_init : ByteArray := prog_3_method_1_code
def yX23_init : MethodName := ⟨RX23, "<init>", "(I)V"⟩
def dkwX23_init_0 : List UInt8 := [42, 183, 0, 1, 42, 27, 181, 0, 7, 177]
abbrev dktX23_init_0 : List UInt8 := dkwX23_init_0 ++ []
theorem dksX23_init_0 : cX23_init.data.toList.drop 0 = dktX23_init_0 := by decide +kernel
theorem dX23_init_0 : decode cX23_init 0 = .ok (.aload_n 0, 1) := dk_42 (dk_at dksX23_init_0 0 rfl rfl)
theorem dX23_init_1 : decode cX23_init 1 = .ok (.invokespecial 1, 3) := dk_183 0 1 (dk_at dksX23_init_0 1 rfl rfl)
theorem dX23_init_4 : decode cX23_init 4 = .ok (.aload_n 0, 1) := dk_42 (dk_at dksX23_init_0 4 rfl rfl)
theorem dX23_init_5 : decode cX23_init 5 = .ok (.iload_n 1, 1) := dk_27 (dk_at dksX23_init_0 5 rfl rfl)
theorem dX23_init_6 : decode cX23_init 6 = .ok (.putfield 7, 3) := dk_181 0 7 (dk_at dksX23_init_0 6 rfl rfl)
theorem dX23_init_9 : decode cX23_init 9 = .ok (.return_, 1) := dk_177 (dk_at dksX23_init_0 9 rfl rfl)
abbrev cX23_isDone : ByteArray := prog_3_method_2_code
def yX23_isDone : MethodName := ⟨RX23, "isDone", "(LPulseRent;LPulseRent$State;)Z"⟩
def dkwX23_isDone_1 : List UInt8 := [180, 0, 23, 180, 0, 29, 79, 4, 172]
abbrev dktX23_isDone_1 : List UInt8 := dkwX23_isDone_1 ++ []
def dkwX23_isDone_0 : List UInt8 := [44, 42, 180, 0, 7, 182, 0, 13, 154, 0, 5, 3, 172, 44, 180, 0, 19, 42, 180, 0, 7, 43]
abbrev dktX23_isDone_0 : List UInt8 := dkwX23_isDone_0 ++ dktX23_isDone_1
theorem dksX23_isDone_0 : cX23_isDone.data.toList.drop 0 = dktX23_isDone_0 := by decide +kernel
theorem dksX23_isDone_1 : cX23_isDone.data.toList.drop 22 = dktX23_isDone_1 := dk_seg dksX23_isDone_0 22 rfl rfl
theorem dX23_isDone_0 : decode cX23_isDone 0 = .ok (.aload_n 2, 1) := dk_44 (dk_at dksX23_isDone_0 0 rfl rfl)
theorem dX23_isDone_1 : decode cX23_isDone 1 = .ok (.aload_n 0, 1) := dk_42 (dk_at dksX23_isDone_0 1 rfl rfl)
theorem dX23_isDone_2 : decode cX23_isDone 2 = .ok (.getfield 7, 3) := dk_180 0 7 (dk_at dksX23_isDone_0 2 rfl rfl)
theorem dX23_isDone_5 : decode cX23_isDone 5 = .ok (.invokevirtual 13, 3) := dk_182 0 13 (dk_at dksX23_isDone_0 5 rfl rfl)
theorem dX23_isDone_8 : decode cX23_isDone 8 = .ok (.ifCond .ne 5, 3) := dk_154 0 5 (dk_at dksX23_isDone_0 8 rfl rfl)
theorem dX23_isDone_11 : decode cX23_isDone 11 = .ok (.iconst 0, 1) := dk_3 (dk_at dksX23_isDone_0 11 rfl rfl)
theorem dX23_isDone_12 : decode cX23_isDone 12 = .ok (.ireturn, 1) := dk_172 (dk_at dksX23_isDone_0 12 rfl rfl)
theorem dX23_isDone_13 : decode cX23_isDone 13 = .ok (.aload_n 2, 1) := dk_44 (dk_at dksX23_isDone_0 13 rfl rfl)
theorem dX23_isDone_14 : decode cX23_isDone 14 = .ok (.getfield 19, 3) := dk_180 0 19 (dk_at dksX23_isDone_0 14 rfl rfl)
theorem dX23_isDone_17 : decode cX23_isDone 17 = .ok (.aload_n 0, 1) := dk_42 (dk_at dksX23_isDone_0 17 rfl rfl)
theorem dX23_isDone_18 : decode cX23_isDone 18 = .ok (.getfield 7, 3) := dk_180 0 7 (dk_at dksX23_isDone_0 18 rfl rfl)
theorem dX23_isDone_21 : decode cX23_isDone 21 = .ok (.aload_n 1, 1) := dk_43 (dk_at dksX23_isDone_0 21 rfl rfl)
theorem dX23_isDone_22 : decode cX23_isDone 22 = .ok (.getfield 23, 3) := dk_180 0 23 (dk_at dksX23_isDone_1 0 rfl rfl)
theorem dX23_isDone_25 : decode cX23_isDone 25 = .ok (.getfield 29, 3) := dk_180 0 29 (dk_at dksX23_isDone_1 3 rfl rfl)
theorem dX23_isDone_28 : decode cX23_isDone 28 = .ok (.iastore, 1) := dk_79 (dk_at dksX23_isDone_1 6 rfl rfl)
theorem dX23_isDone_29 : decode cX23_isDone 29 = .ok (.iconst 1, 1) := dk_4 (dk_at dksX23_isDone_1 7 rfl rfl)
theorem dX23_isDone_30 : decode cX23_isDone 30 = .ok (.ireturn, 1) := dk_172 (dk_at dksX23_isDone_1 8 rfl rfl)
theorem q175 : (Jvm.Cond.initialized "PulseRent$Drunk") ∈ lw_all := lw_g (lw_at lw_m1 41 rfl) rfl
theorem q270 : (Jvm.Cond.fieldLinkNest "PulseRent$Drunk" (29 : Nat) "PulseRent$House" "lasts" "I" "PulseRent") ∈ lw_tbl := lw_at lw_m1 136 rfl
theorem q310 : (Jvm.Cond.fieldLinkNest "PulseRent$Drunk" (19 : Nat) "PulseRent$State" "coffee" "[I" "PulseRent") ∈ lw_tbl := lw_at lw_m1 176 rfl
theorem q370 : (Jvm.Cond.fieldLinkNest "PulseRent$Drunk" (23 : Nat) "PulseRent" "house" "LPulseRent$House;" "PulseRent") ∈ lw_tbl := lw_at lw_m1 236 rfl
theorem q934 : (Jvm.Cond.selects "PulseRent$Drunk" ({ cls := "java/lang/Object", name := "getClass", desc := "()Ljava/lang/Class;" } : Jvm.MethodName) ({ cls := "java/lang/Object", name := "getClass", desc := "()Ljava/lang/Class;" } : Jvm.MethodName)) ∈ lw_all := lw_g (lw_at lw_m4 80 rfl) rfl
theorem q1245 : (Jvm.Cond.instantiable "PulseRent$Drunk" (1 : Nat)) ∈ lw_all := lw_g (lw_at lw_m5 151 rfl) rfl
theorem q1247 : (Jvm.Cond.instanceMethod ({ cls := "PulseRent$Drunk", name := "<init>", desc := "(I)V" } : Jvm.MethodName)) ∈ lw_all := lw_g (lw_at lw_m5 153 rfl) rfl
theorem q1248 : (Jvm.Cond.code ({ cls := "PulseRent$Drunk", name := "<init>", desc := "(I)V" } : Jvm.MethodName) prog_3_method_1_code (2 : Nat) (Option.none : Option Jvm.ClassFile.FieldType)) ∈ lw_all := lw_g (lw_at lw_m5 154 rfl) rfl
theorem q1249 : (Jvm.Cond.methodLinkNest "PulseRent$Drunk" (1 : Nat) ({ cls := "PulseRent$Line", name := "<init>", desc := "()V" } : Jvm.MethodName) "PulseRent") ∈ lw_tbl := lw_at lw_m5 155 rfl
theorem q1250 : (Jvm.Cond.fieldLink "PulseRent$Drunk" (7 : Nat) "PulseRent$Drunk" "tenant" "I") ∈ lw_all := lw_g (lw_at lw_m5 156 rfl) rfl
theorem q1251 : (Jvm.Cond.laysFinal "PulseRent$Drunk" "PulseRent$Drunk" "tenant" "I") ∈ lw_all := lw_g (lw_at lw_m5 157 rfl) rfl
theorem q1252 : (Jvm.Cond.soleField "PulseRent$Drunk" "tenant") ∈ lw_all := lw_g (lw_at lw_m5 158 rfl) rfl
theorem q1253 : (Jvm.Cond.superclass "PulseRent$Drunk" "PulseRent$Line") ∈ lw_all := lw_g (lw_at lw_m5 159 rfl) rfl
theorem q1500 : (Jvm.Cond.selects "PulseRent$Drunk" ({ cls := "PulseRent$Line", name := "isDone", desc := "(LPulseRent;LPulseRent$State;)Z" } : Jvm.MethodName) ({ cls := "PulseRent$Drunk", name := "isDone", desc := "(LPulseRent;LPulseRent$State;)Z" } : Jvm.MethodName)) ∈ lw_all := lw_g (lw_at lw_m6 166 rfl) rfl
theorem q1501 : (Jvm.Cond.instanceMethod ({ cls := "PulseRent$Drunk", name := "isDone", desc := "(LPulseRent;LPulseRent$State;)Z" } : Jvm.MethodName)) ∈ lw_all := lw_g (lw_at lw_m6 167 rfl) rfl
theorem q1502 : (Jvm.Cond.code ({ cls := "PulseRent$Drunk", name := "isDone", desc := "(LPulseRent;LPulseRent$State;)Z" } : Jvm.MethodName) prog_3_method_2_code (3 : Nat) (Option.some Jvm.ClassFile.FieldType.boolean)) ∈ lw_all := lw_g (lw_at lw_m6 168 rfl) rfl
theorem q1503 : (Jvm.Cond.methodLink "PulseRent$Drunk" (13 : Nat) ({ cls := "PulseRent$State", name := "isIn", desc := "(I)Z" } : Jvm.MethodName)) ∈ lw_all := lw_g (lw_at lw_m6 169 rfl) rfl
theorem q2368 : (Jvm.Cond.castable "PulseRent$Drunk" "PulseRent$Line") ∈ lw_tbl := lw_at lw_m10 74 rfl
theorem q2397 : (Jvm.Cond.castable "PulseRent$Drunk" "java/lang/Object") ∈ lw_tbl := lw_at lw_m10 103 rfl
theorem in_X23 : ∀ w ∈ wsX230, w ∈ lw_all := lw_in wsX230 [1251] (by decide +kernel) (by decide +kernel)

/-! PulseRent$Moved -/
set_option maxRecDepth 100000
def RX24 : String := "PulseRent$Moved"
def TX24 : u_T := fun k => match k with
  | 0 => ("PulseRent$Moved", "tenant", "I", true)
  | _ => ("PulseRent$Moved", "room", "I", true)
def tyX24 : Nat → FieldType := fun k => match k with
  | 0 => .int
  | _ => .int
abbrev wsX240 : List Cond := u_ws RX24 TX24 2
theorem nmX24 : ∀ a, a < 2 → ∀ b, b < 2 → a ≠ b → (TX24 a).2.1 ≠ (TX24 b).2.1 := by decide +kernel
theorem tyX24_ok : ∀ k, k < 2 → parseFieldDescriptor (TX24 k).2.2.1 = some (tyX24 k) := by decide +kernel
abbrev cX24_init : ByteArray := prog_13_method_1_code
def yX24_init : MethodName := ⟨RX24, "<init>", "(II)V"⟩
def dkwX24_init_0 : List UInt8 := [42, 183, 0, 1, 42, 27, 181, 0, 7, 42, 28, 181, 0, 13, 177]
abbrev dktX24_init_0 : List UInt8 := dkwX24_init_0 ++ []
theorem dksX24_init_0 : cX24_init.data.toList.drop 0 = dktX24_init_0 := by decide +kernel
theorem dX24_init_0 : decode cX24_init 0 = .ok (.aload_n 0, 1) := dk_42 (dk_at dksX24_init_0 0 rfl rfl)
theorem dX24_init_1 : decode cX24_init 1 = .ok (.invokespecial 1, 3) := dk_183 0 1 (dk_at dksX24_init_0 1 rfl rfl)
theorem dX24_init_4 : decode cX24_init 4 = .ok (.aload_n 0, 1) := dk_42 (dk_at dksX24_init_0 4 rfl rfl)
theorem dX24_init_5 : decode cX24_init 5 = .ok (.iload_n 1, 1) := dk_27 (dk_at dksX24_init_0 5 rfl rfl)
theorem dX24_init_6 : decode cX24_init 6 = .ok (.putfield 7, 3) := dk_181 0 7 (dk_at dksX24_init_0 6 rfl rfl)
theorem dX24_init_9 : decode cX24_init 9 = .ok (.aload_n 0, 1) := dk_42 (dk_at dksX24_init_0 9 rfl rfl)
theorem dX24_init_10 : decode cX24_init 10 = .ok (.iload_n 2, 1) := dk_28 (dk_at dksX24_init_0 10 rfl rfl)
theorem dX24_init_11 : decode cX24_init 11 = .ok (.putfield 13, 3) := dk_181 0 13 (dk_at dksX24_init_0 11 rfl rfl)
theorem dX24_init_14 : decode cX24_init 14 = .ok (.return_, 1) := dk_177 (dk_at dksX24_init_0 14 rfl rfl)
abbrev cX24_isDone : ByteArray := prog_13_method_2_code
def yX24_isDone : MethodName := ⟨RX24, "isDone", "(LPulseRent;LPulseRent$State;)Z"⟩
def dkwX24_isDone_1 : List UInt8 := [180, 0, 7, 42, 180, 0, 13, 79, 4, 172]
abbrev dktX24_isDone_1 : List UInt8 := dkwX24_isDone_1 ++ []
def dkwX24_isDone_0 : List UInt8 := [43, 44, 42, 180, 0, 7, 42, 180, 0, 13, 182, 0, 16, 154, 0, 5, 3, 172, 44, 180, 0, 22, 42]
abbrev dktX24_isDone_0 : List UInt8 := dkwX24_isDone_0 ++ dktX24_isDone_1
theorem dksX24_isDone_0 : cX24_isDone.data.toList.drop 0 = dktX24_isDone_0 := by decide +kernel
theorem dksX24_isDone_1 : cX24_isDone.data.toList.drop 23 = dktX24_isDone_1 := dk_seg dksX24_isDone_0 23 rfl rfl
theorem dX24_isDone_0 : decode cX24_isDone 0 = .ok (.aload_n 1, 1) := dk_43 (dk_at dksX24_isDone_0 0 rfl rfl)
theorem dX24_isDone_1 : decode cX24_isDone 1 = .ok (.aload_n 2, 1) := dk_44 (dk_at dksX24_isDone_0 1 rfl rfl)
theorem dX24_isDone_2 : decode cX24_isDone 2 = .ok (.aload_n 0, 1) := dk_42 (dk_at dksX24_isDone_0 2 rfl rfl)
theorem dX24_isDone_3 : decode cX24_isDone 3 = .ok (.getfield 7, 3) := dk_180 0 7 (dk_at dksX24_isDone_0 3 rfl rfl)
theorem dX24_isDone_6 : decode cX24_isDone 6 = .ok (.aload_n 0, 1) := dk_42 (dk_at dksX24_isDone_0 6 rfl rfl)
theorem dX24_isDone_7 : decode cX24_isDone 7 = .ok (.getfield 13, 3) := dk_180 0 13 (dk_at dksX24_isDone_0 7 rfl rfl)
theorem dX24_isDone_10 : decode cX24_isDone 10 = .ok (.invokevirtual 16, 3) := dk_182 0 16 (dk_at dksX24_isDone_0 10 rfl rfl)
theorem dX24_isDone_13 : decode cX24_isDone 13 = .ok (.ifCond .ne 5, 3) := dk_154 0 5 (dk_at dksX24_isDone_0 13 rfl rfl)
theorem dX24_isDone_16 : decode cX24_isDone 16 = .ok (.iconst 0, 1) := dk_3 (dk_at dksX24_isDone_0 16 rfl rfl)
theorem dX24_isDone_17 : decode cX24_isDone 17 = .ok (.ireturn, 1) := dk_172 (dk_at dksX24_isDone_0 17 rfl rfl)
theorem dX24_isDone_18 : decode cX24_isDone 18 = .ok (.aload_n 2, 1) := dk_44 (dk_at dksX24_isDone_0 18 rfl rfl)
theorem dX24_isDone_19 : decode cX24_isDone 19 = .ok (.getfield 22, 3) := dk_180 0 22 (dk_at dksX24_isDone_0 19 rfl rfl)
theorem dX24_isDone_22 : decode cX24_isDone 22 = .ok (.aload_n 0, 1) := dk_42 (dk_at dksX24_isDone_0 22 rfl rfl)
theorem dX24_isDone_23 : decode cX24_isDone 23 = .ok (.getfield 7, 3) := dk_180 0 7 (dk_at dksX24_isDone_1 0 rfl rfl)
theorem dX24_isDone_26 : decode cX24_isDone 26 = .ok (.aload_n 0, 1) := dk_42 (dk_at dksX24_isDone_1 3 rfl rfl)
theorem dX24_isDone_27 : decode cX24_isDone 27 = .ok (.getfield 13, 3) := dk_180 0 13 (dk_at dksX24_isDone_1 4 rfl rfl)
theorem dX24_isDone_30 : decode cX24_isDone 30 = .ok (.iastore, 1) := dk_79 (dk_at dksX24_isDone_1 7 rfl rfl)
theorem dX24_isDone_31 : decode cX24_isDone 31 = .ok (.iconst 1, 1) := dk_4 (dk_at dksX24_isDone_1 8 rfl rfl)
theorem dX24_isDone_32 : decode cX24_isDone 32 = .ok (.ireturn, 1) := dk_172 (dk_at dksX24_isDone_1 9 rfl rfl)
theorem q176 : (Jvm.Cond.initialized "PulseRent$Moved") ∈ lw_all := lw_g (lw_at lw_m1 42 rfl) rfl
theorem q305 : (Jvm.Cond.fieldLinkNest "PulseRent$Moved" (22 : Nat) "PulseRent$State" "room" "[I" "PulseRent") ∈ lw_tbl := lw_at lw_m1 171 rfl
theorem q942 : (Jvm.Cond.selects "PulseRent$Moved" ({ cls := "java/lang/Object", name := "getClass", desc := "()Ljava/lang/Class;" } : Jvm.MethodName) ({ cls := "java/lang/Object", name := "getClass", desc := "()Ljava/lang/Class;" } : Jvm.MethodName)) ∈ lw_all := lw_g (lw_at lw_m4 88 rfl) rfl
theorem q1255 : (Jvm.Cond.instantiable "PulseRent$Moved" (2 : Nat)) ∈ lw_all := lw_g (lw_at lw_m5 161 rfl) rfl
theorem q1257 : (Jvm.Cond.instanceMethod ({ cls := "PulseRent$Moved", name := "<init>", desc := "(II)V" } : Jvm.MethodName)) ∈ lw_all := lw_g (lw_at lw_m5 163 rfl) rfl
theorem q1258 : (Jvm.Cond.code ({ cls := "PulseRent$Moved", name := "<init>", desc := "(II)V" } : Jvm.MethodName) prog_13_method_1_code (3 : Nat) (Option.none : Option Jvm.ClassFile.FieldType)) ∈ lw_all := lw_g (lw_at lw_m5 164 rfl) rfl
theorem q1259 : (Jvm.Cond.methodLinkNest "PulseRent$Moved" (1 : Nat) ({ cls := "PulseRent$Line", name := "<init>", desc := "()V" } : Jvm.MethodName) "PulseRent") ∈ lw_tbl := lw_at lw_m5 165 rfl
theorem q1260 : (Jvm.Cond.fieldLink "PulseRent$Moved" (7 : Nat) "PulseRent$Moved" "tenant" "I") ∈ lw_all := lw_g (lw_at lw_m5 166 rfl) rfl
theorem q1261 : (Jvm.Cond.fieldLink "PulseRent$Moved" (13 : Nat) "PulseRent$Moved" "room" "I") ∈ lw_all := lw_g (lw_at lw_m5 167 rfl) rfl
theorem q1262 : (Jvm.Cond.laysFinal "PulseRent$Moved" "PulseRent$Moved" "tenant" "I") ∈ lw_all := lw_g (lw_at lw_m5 168 rfl) rfl
theorem q1263 : (Jvm.Cond.soleField "PulseRent$Moved" "tenant") ∈ lw_all := lw_g (lw_at lw_m5 169 rfl) rfl
theorem q1264 : (Jvm.Cond.laysFinal "PulseRent$Moved" "PulseRent$Moved" "room" "I") ∈ lw_all := lw_g (lw_at lw_m5 170 rfl) rfl
theorem q1265 : (Jvm.Cond.soleField "PulseRent$Moved" "room") ∈ lw_all := lw_g (lw_at lw_m5 171 rfl) rfl
theorem q1266 : (Jvm.Cond.superclass "PulseRent$Moved" "PulseRent$Line") ∈ lw_all := lw_g (lw_at lw_m5 172 rfl) rfl
theorem q1509 : (Jvm.Cond.selects "PulseRent$Moved" ({ cls := "PulseRent$Line", name := "isDone", desc := "(LPulseRent;LPulseRent$State;)Z" } : Jvm.MethodName) ({ cls := "PulseRent$Moved", name := "isDone", desc := "(LPulseRent;LPulseRent$State;)Z" } : Jvm.MethodName)) ∈ lw_all := lw_g (lw_at lw_m6 175 rfl) rfl
theorem q1510 : (Jvm.Cond.instanceMethod ({ cls := "PulseRent$Moved", name := "isDone", desc := "(LPulseRent;LPulseRent$State;)Z" } : Jvm.MethodName)) ∈ lw_all := lw_g (lw_at lw_m6 176 rfl) rfl
theorem q1511 : (Jvm.Cond.code ({ cls := "PulseRent$Moved", name := "isDone", desc := "(LPulseRent;LPulseRent$State;)Z" } : Jvm.MethodName) prog_13_method_2_code (3 : Nat) (Option.some Jvm.ClassFile.FieldType.boolean)) ∈ lw_all := lw_g (lw_at lw_m6 177 rfl) rfl
theorem q1512 : (Jvm.Cond.methodLinkNest "PulseRent$Moved" (16 : Nat) ({ cls := "PulseRent", name := "canMove", desc := "(LPulseRent$State;II)Z" } : Jvm.MethodName) "PulseRent") ∈ lw_tbl := lw_at lw_m6 178 rfl
theorem q2370 : (Jvm.Cond.castable "PulseRent$Moved" "PulseRent$Line") ∈ lw_tbl := lw_at lw_m10 76 rfl
theorem q2398 : (Jvm.Cond.castable "PulseRent$Moved" "java/lang/Object") ∈ lw_tbl := lw_at lw_m10 104 rfl
theorem in_X24 : ∀ w ∈ wsX240, w ∈ lw_all := lw_in wsX240 [1262, 1264] (by decide +kernel) (by decide +kernel)

/-! PulseRent$Mark -/
set_option maxRecDepth 100000
def RX25 : String := "PulseRent$Mark"
def TX25 : u_T := fun k => match k with
  | 0 => ("PulseRent$Mark", "state", "LPulseRent$State;", true)
  | 1 => ("PulseRent$Mark", "minute", "[I", true)
  | 2 => ("PulseRent$Mark", "beats", "[I", true)
  | _ => ("PulseRent$Mark", "samples", "I", false)
def tyX25 : Nat → FieldType := fun k => match k with
  | 0 => .object "PulseRent$State"
  | 1 => .array .int
  | 2 => .array .int
  | _ => .int
abbrev wsX250 : List Cond := u_ws RX25 TX25 4
theorem nmX25 : ∀ a, a < 4 → ∀ b, b < 4 → a ≠ b → (TX25 a).2.1 ≠ (TX25 b).2.1 := by decide +kernel
theorem tyX25_ok : ∀ k, k < 4 → parseFieldDescriptor (TX25 k).2.2.1 = some (tyX25 k) := by decide +kernel
abbrev cX25_init : ByteArray := prog_11_method_1_code
def yX25_init : MethodName := ⟨RX25, "<init>", "()V"⟩
def dkwX25_init_1 : List UInt8 := [16, 6, 188, 10, 181, 0, 22, 177]
abbrev dktX25_init_1 : List UInt8 := dkwX25_init_1 ++ []
def dkwX25_init_0 : List UInt8 := [42, 183, 0, 3, 42, 187, 0, 9, 89, 183, 0, 11, 181, 0, 12, 42, 16, 6, 188, 10, 181, 0, 18, 42]
abbrev dktX25_init_0 : List UInt8 := dkwX25_init_0 ++ dktX25_init_1
theorem dksX25_init_0 : cX25_init.data.toList.drop 0 = dktX25_init_0 := by decide +kernel
theorem dksX25_init_1 : cX25_init.data.toList.drop 24 = dktX25_init_1 := dk_seg dksX25_init_0 24 rfl rfl
theorem dX25_init_0 : decode cX25_init 0 = .ok (.aload_n 0, 1) := dk_42 (dk_at dksX25_init_0 0 rfl rfl)
theorem dX25_init_1 : decode cX25_init 1 = .ok (.invokespecial 3, 3) := dk_183 0 3 (dk_at dksX25_init_0 1 rfl rfl)
theorem dX25_init_4 : decode cX25_init 4 = .ok (.aload_n 0, 1) := dk_42 (dk_at dksX25_init_0 4 rfl rfl)
theorem dX25_init_5 : decode cX25_init 5 = .ok (.new 9, 3) := dk_187 0 9 (dk_at dksX25_init_0 5 rfl rfl)
theorem dX25_init_8 : decode cX25_init 8 = .ok (.dup, 1) := dk_89 (dk_at dksX25_init_0 8 rfl rfl)
theorem dX25_init_9 : decode cX25_init 9 = .ok (.invokespecial 11, 3) := dk_183 0 11 (dk_at dksX25_init_0 9 rfl rfl)
theorem dX25_init_12 : decode cX25_init 12 = .ok (.putfield 12, 3) := dk_181 0 12 (dk_at dksX25_init_0 12 rfl rfl)
theorem dX25_init_15 : decode cX25_init 15 = .ok (.aload_n 0, 1) := dk_42 (dk_at dksX25_init_0 15 rfl rfl)
theorem dX25_init_16 : decode cX25_init 16 = .ok (.bipush 6, 2) := dk_16 6 (dk_at dksX25_init_0 16 rfl rfl)
theorem dX25_init_18 : decode cX25_init 18 = .ok (.newarray .int, 2) := dk_188_10 (dk_at dksX25_init_0 18 rfl rfl)
theorem dX25_init_20 : decode cX25_init 20 = .ok (.putfield 18, 3) := dk_181 0 18 (dk_at dksX25_init_0 20 rfl rfl)
theorem dX25_init_23 : decode cX25_init 23 = .ok (.aload_n 0, 1) := dk_42 (dk_at dksX25_init_0 23 rfl rfl)
theorem dX25_init_24 : decode cX25_init 24 = .ok (.bipush 6, 2) := dk_16 6 (dk_at dksX25_init_1 0 rfl rfl)
theorem dX25_init_26 : decode cX25_init 26 = .ok (.newarray .int, 2) := dk_188_10 (dk_at dksX25_init_1 2 rfl rfl)
theorem dX25_init_28 : decode cX25_init 28 = .ok (.putfield 22, 3) := dk_181 0 22 (dk_at dksX25_init_1 4 rfl rfl)
theorem dX25_init_31 : decode cX25_init 31 = .ok (.return_, 1) := dk_177 (dk_at dksX25_init_1 7 rfl rfl)
theorem q179 : (Jvm.Cond.initialized "PulseRent$Mark") ∈ lw_all := lw_g (lw_at lw_m1 45 rfl) rfl
theorem q940 : (Jvm.Cond.selects "PulseRent$Mark" ({ cls := "java/lang/Object", name := "getClass", desc := "()Ljava/lang/Class;" } : Jvm.MethodName) ({ cls := "java/lang/Object", name := "getClass", desc := "()Ljava/lang/Class;" } : Jvm.MethodName)) ∈ lw_all := lw_g (lw_at lw_m4 86 rfl) rfl
theorem q1649 : (Jvm.Cond.instantiable "PulseRent$Mark" (4 : Nat)) ∈ lw_all := lw_g (lw_at lw_m7 75 rfl) rfl
theorem q1651 : (Jvm.Cond.instanceMethod ({ cls := "PulseRent$Mark", name := "<init>", desc := "()V" } : Jvm.MethodName)) ∈ lw_all := lw_g (lw_at lw_m7 77 rfl) rfl
theorem q1652 : (Jvm.Cond.code ({ cls := "PulseRent$Mark", name := "<init>", desc := "()V" } : Jvm.MethodName) prog_11_method_1_code (1 : Nat) (Option.none : Option Jvm.ClassFile.FieldType)) ∈ lw_all := lw_g (lw_at lw_m7 78 rfl) rfl
theorem q1653 : (Jvm.Cond.methodLink "PulseRent$Mark" (3 : Nat) ({ cls := "java/lang/Object", name := "<init>", desc := "()V" } : Jvm.MethodName)) ∈ lw_all := lw_g (lw_at lw_m7 79 rfl) rfl
theorem q1654 : (Jvm.Cond.classLink "PulseRent$Mark" (9 : Nat) "PulseRent$State") ∈ lw_all := lw_g (lw_at lw_m7 80 rfl) rfl
theorem q1655 : (Jvm.Cond.methodLinkNest "PulseRent$Mark" (11 : Nat) ({ cls := "PulseRent$State", name := "<init>", desc := "()V" } : Jvm.MethodName) "PulseRent") ∈ lw_tbl := lw_at lw_m7 81 rfl
theorem q1656 : (Jvm.Cond.fieldLink "PulseRent$Mark" (12 : Nat) "PulseRent$Mark" "state" "LPulseRent$State;") ∈ lw_all := lw_g (lw_at lw_m7 82 rfl) rfl
theorem q1658 : (Jvm.Cond.fieldLink "PulseRent$Mark" (18 : Nat) "PulseRent$Mark" "minute" "[I") ∈ lw_all := lw_g (lw_at lw_m7 84 rfl) rfl
theorem q1660 : (Jvm.Cond.fieldLink "PulseRent$Mark" (22 : Nat) "PulseRent$Mark" "beats" "[I") ∈ lw_all := lw_g (lw_at lw_m7 86 rfl) rfl
theorem q1663 : (Jvm.Cond.laysFinal "PulseRent$Mark" "PulseRent$Mark" "state" "LPulseRent$State;") ∈ lw_all := lw_g (lw_at lw_m7 89 rfl) rfl
theorem q1664 : (Jvm.Cond.soleField "PulseRent$Mark" "state") ∈ lw_all := lw_g (lw_at lw_m7 90 rfl) rfl
theorem q1665 : (Jvm.Cond.laysFinal "PulseRent$Mark" "PulseRent$Mark" "minute" "[I") ∈ lw_all := lw_g (lw_at lw_m7 91 rfl) rfl
theorem q1666 : (Jvm.Cond.soleField "PulseRent$Mark" "minute") ∈ lw_all := lw_g (lw_at lw_m7 92 rfl) rfl
theorem q1667 : (Jvm.Cond.laysFinal "PulseRent$Mark" "PulseRent$Mark" "beats" "[I") ∈ lw_all := lw_g (lw_at lw_m7 93 rfl) rfl
theorem q1668 : (Jvm.Cond.soleField "PulseRent$Mark" "beats") ∈ lw_all := lw_g (lw_at lw_m7 94 rfl) rfl
theorem q1669 : (Jvm.Cond.lays "PulseRent$Mark" "PulseRent$Mark" "samples" "I") ∈ lw_all := lw_g (lw_at lw_m7 95 rfl) rfl
theorem q1670 : (Jvm.Cond.soleField "PulseRent$Mark" "samples") ∈ lw_all := lw_g (lw_at lw_m7 96 rfl) rfl
theorem q1671 : (Jvm.Cond.superclass "PulseRent$Mark" "java/lang/Object") ∈ lw_all := lw_g (lw_at lw_m7 97 rfl) rfl
theorem q2374 : (Jvm.Cond.castable "PulseRent$Mark" "java/lang/Object") ∈ lw_tbl := lw_at lw_m10 80 rfl
theorem in_X25 : ∀ w ∈ wsX250, w ∈ lw_all := lw_in wsX250 [1663, 1665, 1667, 1669] (by decide +kernel) (by decide +kernel)

/-! PulseRent$House -/
set_option maxRecDepth 100000
def RX3 : String := "PulseRent$House"
def TX3 : u_T := fun k => match k with
  | 0 => ("PulseRent$House", "rooms", "Ljava/util/ArrayList;", true)
  | 1 => ("PulseRent$House", "tenants", "Ljava/util/ArrayList;", true)
  | 2 => ("PulseRent$House", "errands", "Ljava/util/ArrayList;", true)
  | 3 => ("PulseRent$House", "brew", "I", false)
  | 4 => ("PulseRent$House", "lasts", "I", false)
  | 5 => ("PulseRent$House", "every", "I", false)
  | 6 => ("PulseRent$House", "due", "LPulseRent$Expression;", false)
  | _ => ("PulseRent$House", "wish", "LPulseRent$Expression;", false)
def tyX3 : Nat → FieldType := fun k => match k with
  | 0 => .object "java/util/ArrayList"
  | 1 => .object "java/util/ArrayList"
  | 2 => .object "java/util/ArrayList"
  | 3 => .int
  | 4 => .int
  | 5 => .int
  | 6 => .object "PulseRent$Expression"
  | _ => .object "PulseRent$Expression"
abbrev wsX30 : List Cond := u_ws RX3 TX3 8
theorem nmX3 : ∀ a, a < 8 → ∀ b, b < 8 → a ≠ b → (TX3 a).2.1 ≠ (TX3 b).2.1 := by decide +kernel
theorem tyX3_ok : ∀ k, k < 8 → parseFieldDescriptor (TX3 k).2.2.1 = some (tyX3 k) := by decide +kernel
abbrev cX3_init : ByteArray := prog_9_method_1_code
def yX3_init : MethodName := ⟨RX3, "<init>", "()V"⟩
def dkwX3_init_2 : List UInt8 := [16, 30, 181, 0, 30, 42, 2, 181, 0, 33, 177]
abbrev dktX3_init_2 : List UInt8 := dkwX3_init_2 ++ []
def dkwX3_init_1 : List UInt8 := [183, 0, 11, 181, 0, 20, 42, 187, 0, 9, 89, 5, 183, 0, 11, 181, 0, 23, 42, 2, 181, 0, 26, 42]
abbrev dktX3_init_1 : List UInt8 := dkwX3_init_1 ++ dktX3_init_2
def dkwX3_init_0 : List UInt8 := [42, 183, 0, 3, 42, 187, 0, 9, 89, 5, 183, 0, 11, 181, 0, 14, 42, 187, 0, 9, 89, 5]
abbrev dktX3_init_0 : List UInt8 := dkwX3_init_0 ++ dktX3_init_1
theorem dksX3_init_0 : cX3_init.data.toList.drop 0 = dktX3_init_0 := by decide +kernel
theorem dksX3_init_1 : cX3_init.data.toList.drop 22 = dktX3_init_1 := dk_seg dksX3_init_0 22 rfl rfl
theorem dksX3_init_2 : cX3_init.data.toList.drop 46 = dktX3_init_2 := dk_seg dksX3_init_1 24 rfl rfl
theorem dX3_init_0 : decode cX3_init 0 = .ok (.aload_n 0, 1) := dk_42 (dk_at dksX3_init_0 0 rfl rfl)
theorem dX3_init_1 : decode cX3_init 1 = .ok (.invokespecial 3, 3) := dk_183 0 3 (dk_at dksX3_init_0 1 rfl rfl)
theorem dX3_init_4 : decode cX3_init 4 = .ok (.aload_n 0, 1) := dk_42 (dk_at dksX3_init_0 4 rfl rfl)
theorem dX3_init_5 : decode cX3_init 5 = .ok (.new 9, 3) := dk_187 0 9 (dk_at dksX3_init_0 5 rfl rfl)
theorem dX3_init_8 : decode cX3_init 8 = .ok (.dup, 1) := dk_89 (dk_at dksX3_init_0 8 rfl rfl)
theorem dX3_init_9 : decode cX3_init 9 = .ok (.iconst 2, 1) := dk_5 (dk_at dksX3_init_0 9 rfl rfl)
theorem dX3_init_10 : decode cX3_init 10 = .ok (.invokespecial 11, 3) := dk_183 0 11 (dk_at dksX3_init_0 10 rfl rfl)
theorem dX3_init_13 : decode cX3_init 13 = .ok (.putfield 14, 3) := dk_181 0 14 (dk_at dksX3_init_0 13 rfl rfl)
theorem dX3_init_16 : decode cX3_init 16 = .ok (.aload_n 0, 1) := dk_42 (dk_at dksX3_init_0 16 rfl rfl)
theorem dX3_init_17 : decode cX3_init 17 = .ok (.new 9, 3) := dk_187 0 9 (dk_at dksX3_init_0 17 rfl rfl)
theorem dX3_init_20 : decode cX3_init 20 = .ok (.dup, 1) := dk_89 (dk_at dksX3_init_0 20 rfl rfl)
theorem dX3_init_21 : decode cX3_init 21 = .ok (.iconst 2, 1) := dk_5 (dk_at dksX3_init_0 21 rfl rfl)
theorem dX3_init_22 : decode cX3_init 22 = .ok (.invokespecial 11, 3) := dk_183 0 11 (dk_at dksX3_init_1 0 rfl rfl)
theorem dX3_init_25 : decode cX3_init 25 = .ok (.putfield 20, 3) := dk_181 0 20 (dk_at dksX3_init_1 3 rfl rfl)
theorem dX3_init_28 : decode cX3_init 28 = .ok (.aload_n 0, 1) := dk_42 (dk_at dksX3_init_1 6 rfl rfl)
theorem dX3_init_29 : decode cX3_init 29 = .ok (.new 9, 3) := dk_187 0 9 (dk_at dksX3_init_1 7 rfl rfl)
theorem dX3_init_32 : decode cX3_init 32 = .ok (.dup, 1) := dk_89 (dk_at dksX3_init_1 10 rfl rfl)
theorem dX3_init_33 : decode cX3_init 33 = .ok (.iconst 2, 1) := dk_5 (dk_at dksX3_init_1 11 rfl rfl)
theorem dX3_init_34 : decode cX3_init 34 = .ok (.invokespecial 11, 3) := dk_183 0 11 (dk_at dksX3_init_1 12 rfl rfl)
theorem dX3_init_37 : decode cX3_init 37 = .ok (.putfield 23, 3) := dk_181 0 23 (dk_at dksX3_init_1 15 rfl rfl)
theorem dX3_init_40 : decode cX3_init 40 = .ok (.aload_n 0, 1) := dk_42 (dk_at dksX3_init_1 18 rfl rfl)
theorem dX3_init_41 : decode cX3_init 41 = .ok (.iconst (-1), 1) := dk_2 (dk_at dksX3_init_1 19 rfl rfl)
theorem dX3_init_42 : decode cX3_init 42 = .ok (.putfield 26, 3) := dk_181 0 26 (dk_at dksX3_init_1 20 rfl rfl)
theorem dX3_init_45 : decode cX3_init 45 = .ok (.aload_n 0, 1) := dk_42 (dk_at dksX3_init_1 23 rfl rfl)
theorem dX3_init_46 : decode cX3_init 46 = .ok (.bipush 30, 2) := dk_16 30 (dk_at dksX3_init_2 0 rfl rfl)
theorem dX3_init_48 : decode cX3_init 48 = .ok (.putfield 30, 3) := dk_181 0 30 (dk_at dksX3_init_2 2 rfl rfl)
theorem dX3_init_51 : decode cX3_init 51 = .ok (.aload_n 0, 1) := dk_42 (dk_at dksX3_init_2 5 rfl rfl)
theorem dX3_init_52 : decode cX3_init 52 = .ok (.iconst (-1), 1) := dk_2 (dk_at dksX3_init_2 6 rfl rfl)
theorem dX3_init_53 : decode cX3_init 53 = .ok (.putfield 33, 3) := dk_181 0 33 (dk_at dksX3_init_2 7 rfl rfl)
theorem dX3_init_56 : decode cX3_init 56 = .ok (.return_, 1) := dk_177 (dk_at dksX3_init_2 10 rfl rfl)
abbrev cX3_room : ByteArray := prog_9_method_2_code
def yX3_room : MethodName := ⟨RX3, "room", "(Ljava/lang/String;)I"⟩
def dkwX3_room_1 : List UInt8 := [180, 0, 46, 43, 182, 0, 50, 153, 0, 5, 28, 172, 132, 2, 1, 167, 255, 219, 2, 172]
abbrev dktX3_room_1 : List UInt8 := dkwX3_room_1 ++ []
def dkwX3_room_0 : List UInt8 := [3, 61, 28, 42, 180, 0, 14, 182, 0, 36, 162, 0, 32, 42, 180, 0, 14, 28, 182, 0, 40, 192, 0, 44]
abbrev dktX3_room_0 : List UInt8 := dkwX3_room_0 ++ dktX3_room_1
theorem dksX3_room_0 : cX3_room.data.toList.drop 0 = dktX3_room_0 := by decide +kernel
theorem dksX3_room_1 : cX3_room.data.toList.drop 24 = dktX3_room_1 := dk_seg dksX3_room_0 24 rfl rfl
theorem dX3_room_0 : decode cX3_room 0 = .ok (.iconst 0, 1) := dk_3 (dk_at dksX3_room_0 0 rfl rfl)
theorem dX3_room_1 : decode cX3_room 1 = .ok (.istore_n 2, 1) := dk_61 (dk_at dksX3_room_0 1 rfl rfl)
theorem dX3_room_2 : decode cX3_room 2 = .ok (.iload_n 2, 1) := dk_28 (dk_at dksX3_room_0 2 rfl rfl)
theorem dX3_room_3 : decode cX3_room 3 = .ok (.aload_n 0, 1) := dk_42 (dk_at dksX3_room_0 3 rfl rfl)
theorem dX3_room_4 : decode cX3_room 4 = .ok (.getfield 14, 3) := dk_180 0 14 (dk_at dksX3_room_0 4 rfl rfl)
theorem dX3_room_7 : decode cX3_room 7 = .ok (.invokevirtual 36, 3) := dk_182 0 36 (dk_at dksX3_room_0 7 rfl rfl)
theorem dX3_room_10 : decode cX3_room 10 = .ok (.if_icmp .ge 32, 3) := dk_162 0 32 (dk_at dksX3_room_0 10 rfl rfl)
theorem dX3_room_13 : decode cX3_room 13 = .ok (.aload_n 0, 1) := dk_42 (dk_at dksX3_room_0 13 rfl rfl)
theorem dX3_room_14 : decode cX3_room 14 = .ok (.getfield 14, 3) := dk_180 0 14 (dk_at dksX3_room_0 14 rfl rfl)
theorem dX3_room_17 : decode cX3_room 17 = .ok (.iload_n 2, 1) := dk_28 (dk_at dksX3_room_0 17 rfl rfl)
theorem dX3_room_18 : decode cX3_room 18 = .ok (.invokevirtual 40, 3) := dk_182 0 40 (dk_at dksX3_room_0 18 rfl rfl)
theorem dX3_room_21 : decode cX3_room 21 = .ok (.checkcast 44, 3) := dk_192 0 44 (dk_at dksX3_room_0 21 rfl rfl)
theorem dX3_room_24 : decode cX3_room 24 = .ok (.getfield 46, 3) := dk_180 0 46 (dk_at dksX3_room_1 0 rfl rfl)
theorem dX3_room_27 : decode cX3_room 27 = .ok (.aload_n 1, 1) := dk_43 (dk_at dksX3_room_1 3 rfl rfl)
theorem dX3_room_28 : decode cX3_room 28 = .ok (.invokevirtual 50, 3) := dk_182 0 50 (dk_at dksX3_room_1 4 rfl rfl)
theorem dX3_room_31 : decode cX3_room 31 = .ok (.ifCond .eq 5, 3) := dk_153 0 5 (dk_at dksX3_room_1 7 rfl rfl)
theorem dX3_room_34 : decode cX3_room 34 = .ok (.iload_n 2, 1) := dk_28 (dk_at dksX3_room_1 10 rfl rfl)
theorem dX3_room_35 : decode cX3_room 35 = .ok (.ireturn, 1) := dk_172 (dk_at dksX3_room_1 11 rfl rfl)
theorem dX3_room_36 : decode cX3_room 36 = .ok (.iinc 2 1, 3) := dk_132 2 1 (dk_at dksX3_room_1 12 rfl rfl)
theorem dX3_room_39 : decode cX3_room 39 = .ok (.goto (-37), 3) := dk_167 255 219 (dk_at dksX3_room_1 15 rfl rfl)
theorem dX3_room_42 : decode cX3_room 42 = .ok (.iconst (-1), 1) := dk_2 (dk_at dksX3_room_1 18 rfl rfl)
theorem dX3_room_43 : decode cX3_room 43 = .ok (.ireturn, 1) := dk_172 (dk_at dksX3_room_1 19 rfl rfl)
abbrev cX3_tenant : ByteArray := prog_9_method_3_code
def yX3_tenant : MethodName := ⟨RX3, "tenant", "(Ljava/lang/String;)I"⟩
def dkwX3_tenant_1 : List UInt8 := [180, 0, 58, 43, 182, 0, 50, 153, 0, 5, 28, 172, 132, 2, 1, 167, 255, 219, 2, 172]
abbrev dktX3_tenant_1 : List UInt8 := dkwX3_tenant_1 ++ []
def dkwX3_tenant_0 : List UInt8 := [3, 61, 28, 42, 180, 0, 20, 182, 0, 36, 162, 0, 32, 42, 180, 0, 20, 28, 182, 0, 40, 192, 0, 56]
abbrev dktX3_tenant_0 : List UInt8 := dkwX3_tenant_0 ++ dktX3_tenant_1
theorem dksX3_tenant_0 : cX3_tenant.data.toList.drop 0 = dktX3_tenant_0 := by decide +kernel
theorem dksX3_tenant_1 : cX3_tenant.data.toList.drop 24 = dktX3_tenant_1 := dk_seg dksX3_tenant_0 24 rfl rfl
theorem dX3_tenant_0 : decode cX3_tenant 0 = .ok (.iconst 0, 1) := dk_3 (dk_at dksX3_tenant_0 0 rfl rfl)
theorem dX3_tenant_1 : decode cX3_tenant 1 = .ok (.istore_n 2, 1) := dk_61 (dk_at dksX3_tenant_0 1 rfl rfl)
theorem dX3_tenant_2 : decode cX3_tenant 2 = .ok (.iload_n 2, 1) := dk_28 (dk_at dksX3_tenant_0 2 rfl rfl)
theorem dX3_tenant_3 : decode cX3_tenant 3 = .ok (.aload_n 0, 1) := dk_42 (dk_at dksX3_tenant_0 3 rfl rfl)
theorem dX3_tenant_4 : decode cX3_tenant 4 = .ok (.getfield 20, 3) := dk_180 0 20 (dk_at dksX3_tenant_0 4 rfl rfl)
theorem dX3_tenant_7 : decode cX3_tenant 7 = .ok (.invokevirtual 36, 3) := dk_182 0 36 (dk_at dksX3_tenant_0 7 rfl rfl)
theorem dX3_tenant_10 : decode cX3_tenant 10 = .ok (.if_icmp .ge 32, 3) := dk_162 0 32 (dk_at dksX3_tenant_0 10 rfl rfl)
theorem dX3_tenant_13 : decode cX3_tenant 13 = .ok (.aload_n 0, 1) := dk_42 (dk_at dksX3_tenant_0 13 rfl rfl)
theorem dX3_tenant_14 : decode cX3_tenant 14 = .ok (.getfield 20, 3) := dk_180 0 20 (dk_at dksX3_tenant_0 14 rfl rfl)
theorem dX3_tenant_17 : decode cX3_tenant 17 = .ok (.iload_n 2, 1) := dk_28 (dk_at dksX3_tenant_0 17 rfl rfl)
theorem dX3_tenant_18 : decode cX3_tenant 18 = .ok (.invokevirtual 40, 3) := dk_182 0 40 (dk_at dksX3_tenant_0 18 rfl rfl)
theorem dX3_tenant_21 : decode cX3_tenant 21 = .ok (.checkcast 56, 3) := dk_192 0 56 (dk_at dksX3_tenant_0 21 rfl rfl)
theorem dX3_tenant_24 : decode cX3_tenant 24 = .ok (.getfield 58, 3) := dk_180 0 58 (dk_at dksX3_tenant_1 0 rfl rfl)
theorem dX3_tenant_27 : decode cX3_tenant 27 = .ok (.aload_n 1, 1) := dk_43 (dk_at dksX3_tenant_1 3 rfl rfl)
theorem dX3_tenant_28 : decode cX3_tenant 28 = .ok (.invokevirtual 50, 3) := dk_182 0 50 (dk_at dksX3_tenant_1 4 rfl rfl)
theorem dX3_tenant_31 : decode cX3_tenant 31 = .ok (.ifCond .eq 5, 3) := dk_153 0 5 (dk_at dksX3_tenant_1 7 rfl rfl)
theorem dX3_tenant_34 : decode cX3_tenant 34 = .ok (.iload_n 2, 1) := dk_28 (dk_at dksX3_tenant_1 10 rfl rfl)
theorem dX3_tenant_35 : decode cX3_tenant 35 = .ok (.ireturn, 1) := dk_172 (dk_at dksX3_tenant_1 11 rfl rfl)
theorem dX3_tenant_36 : decode cX3_tenant 36 = .ok (.iinc 2 1, 3) := dk_132 2 1 (dk_at dksX3_tenant_1 12 rfl rfl)
theorem dX3_tenant_39 : decode cX3_tenant 39 = .ok (.goto (-37), 3) := dk_167 255 219 (dk_at dksX3_tenant_1 15 rfl rfl)
theorem dX3_tenant_42 : decode cX3_tenant 42 = .ok (.iconst (-1), 1) := dk_2 (dk_at dksX3_tenant_1 18 rfl rfl)
theorem dX3_tenant_43 : decode cX3_tenant 43 = .ok (.ireturn, 1) := dk_172 (dk_at dksX3_tenant_1 19 rfl rfl)
abbrev cX3_hasErrand : ByteArray := prog_9_method_4_code
def yX3_hasErrand : MethodName := ⟨RX3, "hasErrand", "(Ljava/lang/String;)Z"⟩
def dkwX3_hasErrand_1 : List UInt8 := [180, 0, 61, 43, 182, 0, 50, 153, 0, 5, 4, 172, 132, 2, 1, 167, 255, 219, 3, 172]
abbrev dktX3_hasErrand_1 : List UInt8 := dkwX3_hasErrand_1 ++ []
def dkwX3_hasErrand_0 : List UInt8 := [3, 61, 28, 42, 180, 0, 23, 182, 0, 36, 162, 0, 32, 42, 180, 0, 23, 28, 182, 0, 40, 192, 0, 59]
abbrev dktX3_hasErrand_0 : List UInt8 := dkwX3_hasErrand_0 ++ dktX3_hasErrand_1
theorem dksX3_hasErrand_0 : cX3_hasErrand.data.toList.drop 0 = dktX3_hasErrand_0 := by decide +kernel
theorem dksX3_hasErrand_1 : cX3_hasErrand.data.toList.drop 24 = dktX3_hasErrand_1 := dk_seg dksX3_hasErrand_0 24 rfl rfl
theorem dX3_hasErrand_0 : decode cX3_hasErrand 0 = .ok (.iconst 0, 1) := dk_3 (dk_at dksX3_hasErrand_0 0 rfl rfl)
theorem dX3_hasErrand_1 : decode cX3_hasErrand 1 = .ok (.istore_n 2, 1) := dk_61 (dk_at dksX3_hasErrand_0 1 rfl rfl)
theorem dX3_hasErrand_2 : decode cX3_hasErrand 2 = .ok (.iload_n 2, 1) := dk_28 (dk_at dksX3_hasErrand_0 2 rfl rfl)
theorem dX3_hasErrand_3 : decode cX3_hasErrand 3 = .ok (.aload_n 0, 1) := dk_42 (dk_at dksX3_hasErrand_0 3 rfl rfl)
theorem dX3_hasErrand_4 : decode cX3_hasErrand 4 = .ok (.getfield 23, 3) := dk_180 0 23 (dk_at dksX3_hasErrand_0 4 rfl rfl)
theorem dX3_hasErrand_7 : decode cX3_hasErrand 7 = .ok (.invokevirtual 36, 3) := dk_182 0 36 (dk_at dksX3_hasErrand_0 7 rfl rfl)
theorem dX3_hasErrand_10 : decode cX3_hasErrand 10 = .ok (.if_icmp .ge 32, 3) := dk_162 0 32 (dk_at dksX3_hasErrand_0 10 rfl rfl)
theorem dX3_hasErrand_13 : decode cX3_hasErrand 13 = .ok (.aload_n 0, 1) := dk_42 (dk_at dksX3_hasErrand_0 13 rfl rfl)
theorem dX3_hasErrand_14 : decode cX3_hasErrand 14 = .ok (.getfield 23, 3) := dk_180 0 23 (dk_at dksX3_hasErrand_0 14 rfl rfl)
theorem dX3_hasErrand_17 : decode cX3_hasErrand 17 = .ok (.iload_n 2, 1) := dk_28 (dk_at dksX3_hasErrand_0 17 rfl rfl)
theorem dX3_hasErrand_18 : decode cX3_hasErrand 18 = .ok (.invokevirtual 40, 3) := dk_182 0 40 (dk_at dksX3_hasErrand_0 18 rfl rfl)
theorem dX3_hasErrand_21 : decode cX3_hasErrand 21 = .ok (.checkcast 59, 3) := dk_192 0 59 (dk_at dksX3_hasErrand_0 21 rfl rfl)
theorem dX3_hasErrand_24 : decode cX3_hasErrand 24 = .ok (.getfield 61, 3) := dk_180 0 61 (dk_at dksX3_hasErrand_1 0 rfl rfl)
theorem dX3_hasErrand_27 : decode cX3_hasErrand 27 = .ok (.aload_n 1, 1) := dk_43 (dk_at dksX3_hasErrand_1 3 rfl rfl)
theorem dX3_hasErrand_28 : decode cX3_hasErrand 28 = .ok (.invokevirtual 50, 3) := dk_182 0 50 (dk_at dksX3_hasErrand_1 4 rfl rfl)
theorem dX3_hasErrand_31 : decode cX3_hasErrand 31 = .ok (.ifCond .eq 5, 3) := dk_153 0 5 (dk_at dksX3_hasErrand_1 7 rfl rfl)
theorem dX3_hasErrand_34 : decode cX3_hasErrand 34 = .ok (.iconst 1, 1) := dk_4 (dk_at dksX3_hasErrand_1 10 rfl rfl)
theorem dX3_hasErrand_35 : decode cX3_hasErrand 35 = .ok (.ireturn, 1) := dk_172 (dk_at dksX3_hasErrand_1 11 rfl rfl)
theorem dX3_hasErrand_36 : decode cX3_hasErrand 36 = .ok (.iinc 2 1, 3) := dk_132 2 1 (dk_at dksX3_hasErrand_1 12 rfl rfl)
theorem dX3_hasErrand_39 : decode cX3_hasErrand 39 = .ok (.goto (-37), 3) := dk_167 255 219 (dk_at dksX3_hasErrand_1 15 rfl rfl)
theorem dX3_hasErrand_42 : decode cX3_hasErrand 42 = .ok (.iconst 0, 1) := dk_3 (dk_at dksX3_hasErrand_1 18 rfl rfl)
theorem dX3_hasErrand_43 : decode cX3_hasErrand 43 = .ok (.ireturn, 1) := dk_172 (dk_at dksX3_hasErrand_1 19 rfl rfl)
abbrev cX3_isLet : ByteArray := prog_9_method_5_code
def yX3_isLet : MethodName := ⟨RX3, "isLet", "(I)Z"⟩
def dkwX3_isLet_1 : List UInt8 := [180, 0, 62, 27, 160, 0, 5, 4, 172, 132, 2, 1, 167, 255, 222, 3, 172]
abbrev dktX3_isLet_1 : List UInt8 := dkwX3_isLet_1 ++ []
def dkwX3_isLet_0 : List UInt8 := [3, 61, 28, 42, 180, 0, 20, 182, 0, 36, 162, 0, 29, 42, 180, 0, 20, 28, 182, 0, 40, 192, 0, 56]
abbrev dktX3_isLet_0 : List UInt8 := dkwX3_isLet_0 ++ dktX3_isLet_1
theorem dksX3_isLet_0 : cX3_isLet.data.toList.drop 0 = dktX3_isLet_0 := by decide +kernel
theorem dksX3_isLet_1 : cX3_isLet.data.toList.drop 24 = dktX3_isLet_1 := dk_seg dksX3_isLet_0 24 rfl rfl
theorem dX3_isLet_0 : decode cX3_isLet 0 = .ok (.iconst 0, 1) := dk_3 (dk_at dksX3_isLet_0 0 rfl rfl)
theorem dX3_isLet_1 : decode cX3_isLet 1 = .ok (.istore_n 2, 1) := dk_61 (dk_at dksX3_isLet_0 1 rfl rfl)
theorem dX3_isLet_2 : decode cX3_isLet 2 = .ok (.iload_n 2, 1) := dk_28 (dk_at dksX3_isLet_0 2 rfl rfl)
theorem dX3_isLet_3 : decode cX3_isLet 3 = .ok (.aload_n 0, 1) := dk_42 (dk_at dksX3_isLet_0 3 rfl rfl)
theorem dX3_isLet_4 : decode cX3_isLet 4 = .ok (.getfield 20, 3) := dk_180 0 20 (dk_at dksX3_isLet_0 4 rfl rfl)
theorem dX3_isLet_7 : decode cX3_isLet 7 = .ok (.invokevirtual 36, 3) := dk_182 0 36 (dk_at dksX3_isLet_0 7 rfl rfl)
theorem dX3_isLet_10 : decode cX3_isLet 10 = .ok (.if_icmp .ge 29, 3) := dk_162 0 29 (dk_at dksX3_isLet_0 10 rfl rfl)
theorem dX3_isLet_13 : decode cX3_isLet 13 = .ok (.aload_n 0, 1) := dk_42 (dk_at dksX3_isLet_0 13 rfl rfl)
theorem dX3_isLet_14 : decode cX3_isLet 14 = .ok (.getfield 20, 3) := dk_180 0 20 (dk_at dksX3_isLet_0 14 rfl rfl)
theorem dX3_isLet_17 : decode cX3_isLet 17 = .ok (.iload_n 2, 1) := dk_28 (dk_at dksX3_isLet_0 17 rfl rfl)
theorem dX3_isLet_18 : decode cX3_isLet 18 = .ok (.invokevirtual 40, 3) := dk_182 0 40 (dk_at dksX3_isLet_0 18 rfl rfl)
theorem dX3_isLet_21 : decode cX3_isLet 21 = .ok (.checkcast 56, 3) := dk_192 0 56 (dk_at dksX3_isLet_0 21 rfl rfl)
theorem dX3_isLet_24 : decode cX3_isLet 24 = .ok (.getfield 62, 3) := dk_180 0 62 (dk_at dksX3_isLet_1 0 rfl rfl)
theorem dX3_isLet_27 : decode cX3_isLet 27 = .ok (.iload_n 1, 1) := dk_27 (dk_at dksX3_isLet_1 3 rfl rfl)
theorem dX3_isLet_28 : decode cX3_isLet 28 = .ok (.if_icmp .ne 5, 3) := dk_160 0 5 (dk_at dksX3_isLet_1 4 rfl rfl)
theorem dX3_isLet_31 : decode cX3_isLet 31 = .ok (.iconst 1, 1) := dk_4 (dk_at dksX3_isLet_1 7 rfl rfl)
theorem dX3_isLet_32 : decode cX3_isLet 32 = .ok (.ireturn, 1) := dk_172 (dk_at dksX3_isLet_1 8 rfl rfl)
theorem dX3_isLet_33 : decode cX3_isLet 33 = .ok (.iinc 2 1, 3) := dk_132 2 1 (dk_at dksX3_isLet_1 9 rfl rfl)
theorem dX3_isLet_36 : decode cX3_isLet 36 = .ok (.goto (-34), 3) := dk_167 255 222 (dk_at dksX3_isLet_1 12 rfl rfl)
theorem dX3_isLet_39 : decode cX3_isLet 39 = .ok (.iconst 0, 1) := dk_3 (dk_at dksX3_isLet_1 15 rfl rfl)
theorem dX3_isLet_40 : decode cX3_isLet 40 = .ok (.ireturn, 1) := dk_172 (dk_at dksX3_isLet_1 16 rfl rfl)
abbrev cX3_brew : ByteArray := prog_9_method_6_code
def yX3_brew : MethodName := ⟨RX3, "brew", "()I"⟩
def dkwX3_brew_0 : List UInt8 := [42, 180, 0, 26, 156, 0, 8, 16, 20, 167, 0, 7, 42, 180, 0, 26, 172]
abbrev dktX3_brew_0 : List UInt8 := dkwX3_brew_0 ++ []
theorem dksX3_brew_0 : cX3_brew.data.toList.drop 0 = dktX3_brew_0 := by decide +kernel
theorem dX3_brew_0 : decode cX3_brew 0 = .ok (.aload_n 0, 1) := dk_42 (dk_at dksX3_brew_0 0 rfl rfl)
theorem dX3_brew_1 : decode cX3_brew 1 = .ok (.getfield 26, 3) := dk_180 0 26 (dk_at dksX3_brew_0 1 rfl rfl)
theorem dX3_brew_4 : decode cX3_brew 4 = .ok (.ifCond .ge 8, 3) := dk_156 0 8 (dk_at dksX3_brew_0 4 rfl rfl)
theorem dX3_brew_7 : decode cX3_brew 7 = .ok (.bipush 20, 2) := dk_16 20 (dk_at dksX3_brew_0 7 rfl rfl)
theorem dX3_brew_9 : decode cX3_brew 9 = .ok (.goto 7, 3) := dk_167 0 7 (dk_at dksX3_brew_0 9 rfl rfl)
theorem dX3_brew_12 : decode cX3_brew 12 = .ok (.aload_n 0, 1) := dk_42 (dk_at dksX3_brew_0 12 rfl rfl)
theorem dX3_brew_13 : decode cX3_brew 13 = .ok (.getfield 26, 3) := dk_180 0 26 (dk_at dksX3_brew_0 13 rfl rfl)
theorem dX3_brew_16 : decode cX3_brew 16 = .ok (.ireturn, 1) := dk_172 (dk_at dksX3_brew_0 16 rfl rfl)
abbrev cX3_every : ByteArray := prog_9_method_7_code
def yX3_every : MethodName := ⟨RX3, "every", "()I"⟩
def dkwX3_every_0 : List UInt8 := [42, 180, 0, 33, 156, 0, 7, 4, 167, 0, 7, 42, 180, 0, 33, 172]
abbrev dktX3_every_0 : List UInt8 := dkwX3_every_0 ++ []
theorem dksX3_every_0 : cX3_every.data.toList.drop 0 = dktX3_every_0 := by decide +kernel
theorem dX3_every_0 : decode cX3_every 0 = .ok (.aload_n 0, 1) := dk_42 (dk_at dksX3_every_0 0 rfl rfl)
theorem dX3_every_1 : decode cX3_every 1 = .ok (.getfield 33, 3) := dk_180 0 33 (dk_at dksX3_every_0 1 rfl rfl)
theorem dX3_every_4 : decode cX3_every 4 = .ok (.ifCond .ge 7, 3) := dk_156 0 7 (dk_at dksX3_every_0 4 rfl rfl)
theorem dX3_every_7 : decode cX3_every 7 = .ok (.iconst 1, 1) := dk_4 (dk_at dksX3_every_0 7 rfl rfl)
theorem dX3_every_8 : decode cX3_every 8 = .ok (.goto 7, 3) := dk_167 0 7 (dk_at dksX3_every_0 8 rfl rfl)
theorem dX3_every_11 : decode cX3_every 11 = .ok (.aload_n 0, 1) := dk_42 (dk_at dksX3_every_0 11 rfl rfl)
theorem dX3_every_12 : decode cX3_every 12 = .ok (.getfield 33, 3) := dk_180 0 33 (dk_at dksX3_every_0 12 rfl rfl)
theorem dX3_every_15 : decode cX3_every 15 = .ok (.ireturn, 1) := dk_172 (dk_at dksX3_every_0 15 rfl rfl)
theorem q137 : (Jvm.Cond.initialized "PulseRent$House") ∈ lw_all := lw_g (lw_at lw_m1 3 rfl) rfl
theorem q224 : (Jvm.Cond.instantiable "PulseRent$House" (8 : Nat)) ∈ lw_all := lw_g (lw_at lw_m1 90 rfl) rfl
theorem q226 : (Jvm.Cond.instanceMethod ({ cls := "PulseRent$House", name := "<init>", desc := "()V" } : Jvm.MethodName)) ∈ lw_all := lw_g (lw_at lw_m1 92 rfl) rfl
theorem q227 : (Jvm.Cond.code ({ cls := "PulseRent$House", name := "<init>", desc := "()V" } : Jvm.MethodName) prog_9_method_1_code (1 : Nat) (Option.none : Option Jvm.ClassFile.FieldType)) ∈ lw_all := lw_g (lw_at lw_m1 93 rfl) rfl
theorem q228 : (Jvm.Cond.methodLink "PulseRent$House" (3 : Nat) ({ cls := "java/lang/Object", name := "<init>", desc := "()V" } : Jvm.MethodName)) ∈ lw_all := lw_g (lw_at lw_m1 94 rfl) rfl
theorem q229 : (Jvm.Cond.classLink "PulseRent$House" (9 : Nat) "java/util/ArrayList") ∈ lw_all := lw_g (lw_at lw_m1 95 rfl) rfl
theorem q231 : (Jvm.Cond.methodLink "PulseRent$House" (11 : Nat) ({ cls := "java/util/ArrayList", name := "<init>", desc := "(I)V" } : Jvm.MethodName)) ∈ lw_all := lw_g (lw_at lw_m1 97 rfl) rfl
theorem q257 : (Jvm.Cond.fieldLink "PulseRent$House" (14 : Nat) "PulseRent$House" "rooms" "Ljava/util/ArrayList;") ∈ lw_all := lw_g (lw_at lw_m1 123 rfl) rfl
theorem q260 : (Jvm.Cond.fieldLink "PulseRent$House" (20 : Nat) "PulseRent$House" "tenants" "Ljava/util/ArrayList;") ∈ lw_all := lw_g (lw_at lw_m1 126 rfl) rfl
theorem q264 : (Jvm.Cond.fieldLink "PulseRent$House" (23 : Nat) "PulseRent$House" "errands" "Ljava/util/ArrayList;") ∈ lw_all := lw_g (lw_at lw_m1 130 rfl) rfl
theorem q267 : (Jvm.Cond.fieldLink "PulseRent$House" (26 : Nat) "PulseRent$House" "brew" "I") ∈ lw_all := lw_g (lw_at lw_m1 133 rfl) rfl
theorem q269 : (Jvm.Cond.fieldLink "PulseRent$House" (30 : Nat) "PulseRent$House" "lasts" "I") ∈ lw_all := lw_g (lw_at lw_m1 135 rfl) rfl
theorem q273 : (Jvm.Cond.fieldLink "PulseRent$House" (33 : Nat) "PulseRent$House" "every" "I") ∈ lw_all := lw_g (lw_at lw_m1 139 rfl) rfl
theorem q279 : (Jvm.Cond.laysFinal "PulseRent$House" "PulseRent$House" "rooms" "Ljava/util/ArrayList;") ∈ lw_all := lw_g (lw_at lw_m1 145 rfl) rfl
theorem q280 : (Jvm.Cond.soleField "PulseRent$House" "rooms") ∈ lw_all := lw_g (lw_at lw_m1 146 rfl) rfl
theorem q281 : (Jvm.Cond.laysFinal "PulseRent$House" "PulseRent$House" "tenants" "Ljava/util/ArrayList;") ∈ lw_all := lw_g (lw_at lw_m1 147 rfl) rfl
theorem q282 : (Jvm.Cond.soleField "PulseRent$House" "tenants") ∈ lw_all := lw_g (lw_at lw_m1 148 rfl) rfl
theorem q283 : (Jvm.Cond.laysFinal "PulseRent$House" "PulseRent$House" "errands" "Ljava/util/ArrayList;") ∈ lw_all := lw_g (lw_at lw_m1 149 rfl) rfl
theorem q284 : (Jvm.Cond.soleField "PulseRent$House" "errands") ∈ lw_all := lw_g (lw_at lw_m1 150 rfl) rfl
theorem q285 : (Jvm.Cond.lays "PulseRent$House" "PulseRent$House" "brew" "I") ∈ lw_all := lw_g (lw_at lw_m1 151 rfl) rfl
theorem q286 : (Jvm.Cond.soleField "PulseRent$House" "brew") ∈ lw_all := lw_g (lw_at lw_m1 152 rfl) rfl
theorem q287 : (Jvm.Cond.lays "PulseRent$House" "PulseRent$House" "lasts" "I") ∈ lw_all := lw_g (lw_at lw_m1 153 rfl) rfl
theorem q288 : (Jvm.Cond.soleField "PulseRent$House" "lasts") ∈ lw_all := lw_g (lw_at lw_m1 154 rfl) rfl
theorem q289 : (Jvm.Cond.lays "PulseRent$House" "PulseRent$House" "every" "I") ∈ lw_all := lw_g (lw_at lw_m1 155 rfl) rfl
theorem q290 : (Jvm.Cond.soleField "PulseRent$House" "every") ∈ lw_all := lw_g (lw_at lw_m1 156 rfl) rfl
theorem q291 : (Jvm.Cond.lays "PulseRent$House" "PulseRent$House" "due" "LPulseRent$Expression;") ∈ lw_all := lw_g (lw_at lw_m1 157 rfl) rfl
theorem q292 : (Jvm.Cond.soleField "PulseRent$House" "due") ∈ lw_all := lw_g (lw_at lw_m1 158 rfl) rfl
theorem q293 : (Jvm.Cond.lays "PulseRent$House" "PulseRent$House" "wish" "LPulseRent$Expression;") ∈ lw_all := lw_g (lw_at lw_m1 159 rfl) rfl
theorem q294 : (Jvm.Cond.soleField "PulseRent$House" "wish") ∈ lw_all := lw_g (lw_at lw_m1 160 rfl) rfl
theorem q295 : (Jvm.Cond.superclass "PulseRent$House" "java/lang/Object") ∈ lw_all := lw_g (lw_at lw_m1 161 rfl) rfl
theorem q840 : (Jvm.Cond.instanceMethod ({ cls := "PulseRent$House", name := "room", desc := "(Ljava/lang/String;)I" } : Jvm.MethodName)) ∈ lw_all := lw_g (lw_at lw_m3 226 rfl) rfl
theorem q841 : (Jvm.Cond.selects "PulseRent$House" ({ cls := "PulseRent$House", name := "room", desc := "(Ljava/lang/String;)I" } : Jvm.MethodName) ({ cls := "PulseRent$House", name := "room", desc := "(Ljava/lang/String;)I" } : Jvm.MethodName)) ∈ lw_all := lw_g (lw_at lw_m3 227 rfl) rfl
theorem q842 : (Jvm.Cond.code ({ cls := "PulseRent$House", name := "room", desc := "(Ljava/lang/String;)I" } : Jvm.MethodName) prog_9_method_2_code (3 : Nat) (Option.some Jvm.ClassFile.FieldType.int)) ∈ lw_all := lw_g (lw_at lw_m3 228 rfl) rfl
theorem q843 : (Jvm.Cond.methodLink "PulseRent$House" (36 : Nat) ({ cls := "java/util/ArrayList", name := "size", desc := "()I" } : Jvm.MethodName)) ∈ lw_all := lw_g (lw_at lw_m3 229 rfl) rfl
theorem q844 : (Jvm.Cond.methodLink "PulseRent$House" (40 : Nat) ({ cls := "java/util/ArrayList", name := "get", desc := "(I)Ljava/lang/Object;" } : Jvm.MethodName)) ∈ lw_all := lw_g (lw_at lw_m3 230 rfl) rfl
theorem q845 : (Jvm.Cond.classLink "PulseRent$House" (44 : Nat) "PulseRent$Room") ∈ lw_all := lw_g (lw_at lw_m3 231 rfl) rfl
theorem q846 : (Jvm.Cond.methodLink "PulseRent$House" (50 : Nat) ({ cls := "java/lang/String", name := "equals", desc := "(Ljava/lang/Object;)Z" } : Jvm.MethodName)) ∈ lw_all := lw_g (lw_at lw_m3 232 rfl) rfl
theorem q855 : (Jvm.Cond.instanceMethod ({ cls := "PulseRent$House", name := "tenant", desc := "(Ljava/lang/String;)I" } : Jvm.MethodName)) ∈ lw_all := lw_g (lw_at lw_m4 1 rfl) rfl
theorem q856 : (Jvm.Cond.selects "PulseRent$House" ({ cls := "PulseRent$House", name := "tenant", desc := "(Ljava/lang/String;)I" } : Jvm.MethodName) ({ cls := "PulseRent$House", name := "tenant", desc := "(Ljava/lang/String;)I" } : Jvm.MethodName)) ∈ lw_all := lw_g (lw_at lw_m4 2 rfl) rfl
theorem q857 : (Jvm.Cond.code ({ cls := "PulseRent$House", name := "tenant", desc := "(Ljava/lang/String;)I" } : Jvm.MethodName) prog_9_method_3_code (3 : Nat) (Option.some Jvm.ClassFile.FieldType.int)) ∈ lw_all := lw_g (lw_at lw_m4 3 rfl) rfl
theorem q858 : (Jvm.Cond.classLink "PulseRent$House" (56 : Nat) "PulseRent$Tenant") ∈ lw_all := lw_g (lw_at lw_m4 4 rfl) rfl
theorem q860 : (Jvm.Cond.instanceMethod ({ cls := "PulseRent$House", name := "hasErrand", desc := "(Ljava/lang/String;)Z" } : Jvm.MethodName)) ∈ lw_all := lw_g (lw_at lw_m4 6 rfl) rfl
theorem q861 : (Jvm.Cond.selects "PulseRent$House" ({ cls := "PulseRent$House", name := "hasErrand", desc := "(Ljava/lang/String;)Z" } : Jvm.MethodName) ({ cls := "PulseRent$House", name := "hasErrand", desc := "(Ljava/lang/String;)Z" } : Jvm.MethodName)) ∈ lw_all := lw_g (lw_at lw_m4 7 rfl) rfl
theorem q862 : (Jvm.Cond.code ({ cls := "PulseRent$House", name := "hasErrand", desc := "(Ljava/lang/String;)Z" } : Jvm.MethodName) prog_9_method_4_code (3 : Nat) (Option.some Jvm.ClassFile.FieldType.boolean)) ∈ lw_all := lw_g (lw_at lw_m4 8 rfl) rfl
theorem q863 : (Jvm.Cond.classLink "PulseRent$House" (59 : Nat) "PulseRent$Errand") ∈ lw_all := lw_g (lw_at lw_m4 9 rfl) rfl
theorem q886 : (Jvm.Cond.fieldLinkNest "PulseRent$House" (46 : Nat) "PulseRent$Room" "name" "Ljava/lang/String;" "PulseRent") ∈ lw_tbl := lw_at lw_m4 32 rfl
theorem q939 : (Jvm.Cond.selects "PulseRent$House" ({ cls := "java/lang/Object", name := "getClass", desc := "()Ljava/lang/Class;" } : Jvm.MethodName) ({ cls := "java/lang/Object", name := "getClass", desc := "()Ljava/lang/Class;" } : Jvm.MethodName)) ∈ lw_all := lw_g (lw_at lw_m4 85 rfl) rfl
theorem q982 : (Jvm.Cond.fieldLink "PulseRent$House" (58 : Nat) "PulseRent$Tenant" "name" "Ljava/lang/String;") ∈ lw_all := lw_g (lw_at lw_m4 128 rfl) rfl
theorem q994 : (Jvm.Cond.fieldLink "PulseRent$House" (62 : Nat) "PulseRent$Tenant" "room" "I") ∈ lw_all := lw_g (lw_at lw_m4 140 rfl) rfl
theorem q1059 : (Jvm.Cond.instanceMethod ({ cls := "PulseRent$House", name := "isLet", desc := "(I)Z" } : Jvm.MethodName)) ∈ lw_all := lw_g (lw_at lw_m4 205 rfl) rfl
theorem q1060 : (Jvm.Cond.selects "PulseRent$House" ({ cls := "PulseRent$House", name := "isLet", desc := "(I)Z" } : Jvm.MethodName) ({ cls := "PulseRent$House", name := "isLet", desc := "(I)Z" } : Jvm.MethodName)) ∈ lw_all := lw_g (lw_at lw_m4 206 rfl) rfl
theorem q1061 : (Jvm.Cond.code ({ cls := "PulseRent$House", name := "isLet", desc := "(I)Z" } : Jvm.MethodName) prog_9_method_5_code (3 : Nat) (Option.some Jvm.ClassFile.FieldType.boolean)) ∈ lw_all := lw_g (lw_at lw_m4 207 rfl) rfl
theorem q1084 : (Jvm.Cond.fieldLinkNest "PulseRent$House" (61 : Nat) "PulseRent$Errand" "name" "Ljava/lang/String;" "PulseRent") ∈ lw_tbl := lw_at lw_m4 230 rfl
theorem q1338 : (Jvm.Cond.instanceMethod ({ cls := "PulseRent$House", name := "brew", desc := "()I" } : Jvm.MethodName)) ∈ lw_all := lw_g (lw_at lw_m6 4 rfl) rfl
theorem q1339 : (Jvm.Cond.selects "PulseRent$House" ({ cls := "PulseRent$House", name := "brew", desc := "()I" } : Jvm.MethodName) ({ cls := "PulseRent$House", name := "brew", desc := "()I" } : Jvm.MethodName)) ∈ lw_all := lw_g (lw_at lw_m6 5 rfl) rfl
theorem q1340 : (Jvm.Cond.code ({ cls := "PulseRent$House", name := "brew", desc := "()I" } : Jvm.MethodName) prog_9_method_6_code (1 : Nat) (Option.some Jvm.ClassFile.FieldType.int)) ∈ lw_all := lw_g (lw_at lw_m6 6 rfl) rfl
theorem q1416 : (Jvm.Cond.instanceMethod ({ cls := "PulseRent$House", name := "every", desc := "()I" } : Jvm.MethodName)) ∈ lw_all := lw_g (lw_at lw_m6 82 rfl) rfl
theorem q1417 : (Jvm.Cond.selects "PulseRent$House" ({ cls := "PulseRent$House", name := "every", desc := "()I" } : Jvm.MethodName) ({ cls := "PulseRent$House", name := "every", desc := "()I" } : Jvm.MethodName)) ∈ lw_all := lw_g (lw_at lw_m6 83 rfl) rfl
theorem q1418 : (Jvm.Cond.code ({ cls := "PulseRent$House", name := "every", desc := "()I" } : Jvm.MethodName) prog_9_method_7_code (1 : Nat) (Option.some Jvm.ClassFile.FieldType.int)) ∈ lw_all := lw_g (lw_at lw_m6 84 rfl) rfl
theorem q2377 : (Jvm.Cond.castable "PulseRent$House" "java/lang/Object") ∈ lw_tbl := lw_at lw_m10 83 rfl
theorem in_X3 : ∀ w ∈ wsX30, w ∈ lw_all := lw_in wsX30 [279, 281, 283, 285, 287, 289, 291, 293] (by decide +kernel) (by decide +kernel)

/-! PulseRent$State -/
set_option maxRecDepth 100000
def RX4 : String := "PulseRent$State"
def TX4 : u_T := fun k => match k with
  | 0 => ("PulseRent$State", "room", "[I", true)
  | 1 => ("PulseRent$State", "stirred", "[I", true)
  | 2 => ("PulseRent$State", "coffee", "[I", true)
  | 3 => ("PulseRent$State", "habit", "[I", true)
  | 4 => ("PulseRent$State", "counted", "[I", true)
  | 5 => ("PulseRent$State", "coins", "[I", true)
  | 6 => ("PulseRent$State", "minute", "I", false)
  | _ => ("PulseRent$State", "evicted", "I", false)
def tyX4 : Nat → FieldType := fun k => match k with
  | 0 => .array .int
  | 1 => .array .int
  | 2 => .array .int
  | 3 => .array .int
  | 4 => .array .int
  | 5 => .array .int
  | 6 => .int
  | _ => .int
abbrev wsX40 : List Cond := u_ws RX4 TX4 8
theorem nmX4 : ∀ a, a < 8 → ∀ b, b < 8 → a ≠ b → (TX4 a).2.1 ≠ (TX4 b).2.1 := by decide +kernel
theorem tyX4_ok : ∀ k, k < 8 → parseFieldDescriptor (TX4 k).2.2.1 = some (tyX4 k) := by decide +kernel
abbrev cX4_init : ByteArray := prog_21_method_1_code
def yX4_init : MethodName := ⟨RX4, "<init>", "()V"⟩
def dkwX4_init_2 : List UInt8 := [188, 10, 181, 0, 27, 177]
abbrev dktX4_init_2 : List UInt8 := dkwX4_init_2 ++ []
def dkwX4_init_1 : List UInt8 := [188, 10, 181, 0, 18, 42, 16, 6, 188, 10, 181, 0, 21, 42, 16, 6, 188, 10, 181, 0, 24, 42, 16, 6]
abbrev dktX4_init_1 : List UInt8 := dkwX4_init_1 ++ dktX4_init_2
def dkwX4_init_0 : List UInt8 := [42, 183, 0, 3, 42, 16, 6, 188, 10, 181, 0, 9, 42, 16, 6, 188, 10, 181, 0, 15, 42, 16, 6]
abbrev dktX4_init_0 : List UInt8 := dkwX4_init_0 ++ dktX4_init_1
theorem dksX4_init_0 : cX4_init.data.toList.drop 0 = dktX4_init_0 := by decide +kernel
theorem dksX4_init_1 : cX4_init.data.toList.drop 23 = dktX4_init_1 := dk_seg dksX4_init_0 23 rfl rfl
theorem dksX4_init_2 : cX4_init.data.toList.drop 47 = dktX4_init_2 := dk_seg dksX4_init_1 24 rfl rfl
theorem dX4_init_0 : decode cX4_init 0 = .ok (.aload_n 0, 1) := dk_42 (dk_at dksX4_init_0 0 rfl rfl)
theorem dX4_init_1 : decode cX4_init 1 = .ok (.invokespecial 3, 3) := dk_183 0 3 (dk_at dksX4_init_0 1 rfl rfl)
theorem dX4_init_4 : decode cX4_init 4 = .ok (.aload_n 0, 1) := dk_42 (dk_at dksX4_init_0 4 rfl rfl)
theorem dX4_init_5 : decode cX4_init 5 = .ok (.bipush 6, 2) := dk_16 6 (dk_at dksX4_init_0 5 rfl rfl)
theorem dX4_init_7 : decode cX4_init 7 = .ok (.newarray .int, 2) := dk_188_10 (dk_at dksX4_init_0 7 rfl rfl)
theorem dX4_init_9 : decode cX4_init 9 = .ok (.putfield 9, 3) := dk_181 0 9 (dk_at dksX4_init_0 9 rfl rfl)
theorem dX4_init_12 : decode cX4_init 12 = .ok (.aload_n 0, 1) := dk_42 (dk_at dksX4_init_0 12 rfl rfl)
theorem dX4_init_13 : decode cX4_init 13 = .ok (.bipush 6, 2) := dk_16 6 (dk_at dksX4_init_0 13 rfl rfl)
theorem dX4_init_15 : decode cX4_init 15 = .ok (.newarray .int, 2) := dk_188_10 (dk_at dksX4_init_0 15 rfl rfl)
theorem dX4_init_17 : decode cX4_init 17 = .ok (.putfield 15, 3) := dk_181 0 15 (dk_at dksX4_init_0 17 rfl rfl)
theorem dX4_init_20 : decode cX4_init 20 = .ok (.aload_n 0, 1) := dk_42 (dk_at dksX4_init_0 20 rfl rfl)
theorem dX4_init_21 : decode cX4_init 21 = .ok (.bipush 6, 2) := dk_16 6 (dk_at dksX4_init_0 21 rfl rfl)
theorem dX4_init_23 : decode cX4_init 23 = .ok (.newarray .int, 2) := dk_188_10 (dk_at dksX4_init_1 0 rfl rfl)
theorem dX4_init_25 : decode cX4_init 25 = .ok (.putfield 18, 3) := dk_181 0 18 (dk_at dksX4_init_1 2 rfl rfl)
theorem dX4_init_28 : decode cX4_init 28 = .ok (.aload_n 0, 1) := dk_42 (dk_at dksX4_init_1 5 rfl rfl)
theorem dX4_init_29 : decode cX4_init 29 = .ok (.bipush 6, 2) := dk_16 6 (dk_at dksX4_init_1 6 rfl rfl)
theorem dX4_init_31 : decode cX4_init 31 = .ok (.newarray .int, 2) := dk_188_10 (dk_at dksX4_init_1 8 rfl rfl)
theorem dX4_init_33 : decode cX4_init 33 = .ok (.putfield 21, 3) := dk_181 0 21 (dk_at dksX4_init_1 10 rfl rfl)
theorem dX4_init_36 : decode cX4_init 36 = .ok (.aload_n 0, 1) := dk_42 (dk_at dksX4_init_1 13 rfl rfl)
theorem dX4_init_37 : decode cX4_init 37 = .ok (.bipush 6, 2) := dk_16 6 (dk_at dksX4_init_1 14 rfl rfl)
theorem dX4_init_39 : decode cX4_init 39 = .ok (.newarray .int, 2) := dk_188_10 (dk_at dksX4_init_1 16 rfl rfl)
theorem dX4_init_41 : decode cX4_init 41 = .ok (.putfield 24, 3) := dk_181 0 24 (dk_at dksX4_init_1 18 rfl rfl)
theorem dX4_init_44 : decode cX4_init 44 = .ok (.aload_n 0, 1) := dk_42 (dk_at dksX4_init_1 21 rfl rfl)
theorem dX4_init_45 : decode cX4_init 45 = .ok (.bipush 6, 2) := dk_16 6 (dk_at dksX4_init_1 22 rfl rfl)
theorem dX4_init_47 : decode cX4_init 47 = .ok (.newarray .int, 2) := dk_188_10 (dk_at dksX4_init_2 0 rfl rfl)
theorem dX4_init_49 : decode cX4_init 49 = .ok (.putfield 27, 3) := dk_181 0 27 (dk_at dksX4_init_2 2 rfl rfl)
theorem dX4_init_52 : decode cX4_init 52 = .ok (.return_, 1) := dk_177 (dk_at dksX4_init_2 5 rfl rfl)
abbrev cX4_begin : ByteArray := prog_21_method_3_code
def yX4_begin : MethodName := ⟨RX4, "begin", "(LPulseRent$House;)V"⟩
def dkwX4_begin_5 : List UInt8 := [181, 0, 34, 42, 3, 181, 0, 38, 177]
abbrev dktX4_begin_5 : List UInt8 := dkwX4_begin_5 ++ []
def dkwX4_begin_4 : List UInt8 := [79, 42, 180, 0, 21, 28, 3, 79, 42, 180, 0, 24, 28, 3, 79, 132, 2, 1, 167, 255, 146, 42, 3]
abbrev dktX4_begin_4 : List UInt8 := dkwX4_begin_4 ++ dktX4_begin_5
def dkwX4_begin_3 : List UInt8 := [192, 0, 57, 180, 0, 61, 167, 0, 4, 3, 79, 42, 180, 0, 15, 28, 3, 79, 42, 180, 0, 18, 28, 3]
abbrev dktX4_begin_3 : List UInt8 := dkwX4_begin_3 ++ dktX4_begin_4
def dkwX4_begin_2 : List UInt8 := [167, 0, 4, 2, 79, 42, 180, 0, 27, 28, 29, 153, 0, 20, 43, 180, 0, 41, 28, 182, 0, 53]
abbrev dktX4_begin_2 : List UInt8 := dkwX4_begin_2 ++ dktX4_begin_3
def dkwX4_begin_1 : List UInt8 := [62, 42, 180, 0, 9, 28, 29, 153, 0, 20, 43, 180, 0, 41, 28, 182, 0, 53, 192, 0, 57, 180, 0, 59]
abbrev dktX4_begin_1 : List UInt8 := dkwX4_begin_1 ++ dktX4_begin_2
def dkwX4_begin_0 : List UInt8 := [3, 61, 28, 16, 6, 162, 0, 110, 28, 43, 180, 0, 41, 182, 0, 47, 162, 0, 7, 4, 167, 0, 4, 3]
abbrev dktX4_begin_0 : List UInt8 := dkwX4_begin_0 ++ dktX4_begin_1
theorem dksX4_begin_0 : cX4_begin.data.toList.drop 0 = dktX4_begin_0 := by decide +kernel
theorem dksX4_begin_1 : cX4_begin.data.toList.drop 24 = dktX4_begin_1 := dk_seg dksX4_begin_0 24 rfl rfl
theorem dksX4_begin_2 : cX4_begin.data.toList.drop 48 = dktX4_begin_2 := dk_seg dksX4_begin_1 24 rfl rfl
theorem dksX4_begin_3 : cX4_begin.data.toList.drop 70 = dktX4_begin_3 := dk_seg dksX4_begin_2 22 rfl rfl
theorem dksX4_begin_4 : cX4_begin.data.toList.drop 94 = dktX4_begin_4 := dk_seg dksX4_begin_3 24 rfl rfl
theorem dksX4_begin_5 : cX4_begin.data.toList.drop 117 = dktX4_begin_5 := dk_seg dksX4_begin_4 23 rfl rfl
theorem dX4_begin_0 : decode cX4_begin 0 = .ok (.iconst 0, 1) := dk_3 (dk_at dksX4_begin_0 0 rfl rfl)
theorem dX4_begin_1 : decode cX4_begin 1 = .ok (.istore_n 2, 1) := dk_61 (dk_at dksX4_begin_0 1 rfl rfl)
theorem dX4_begin_2 : decode cX4_begin 2 = .ok (.iload_n 2, 1) := dk_28 (dk_at dksX4_begin_0 2 rfl rfl)
theorem dX4_begin_3 : decode cX4_begin 3 = .ok (.bipush 6, 2) := dk_16 6 (dk_at dksX4_begin_0 3 rfl rfl)
theorem dX4_begin_5 : decode cX4_begin 5 = .ok (.if_icmp .ge 110, 3) := dk_162 0 110 (dk_at dksX4_begin_0 5 rfl rfl)
theorem dX4_begin_8 : decode cX4_begin 8 = .ok (.iload_n 2, 1) := dk_28 (dk_at dksX4_begin_0 8 rfl rfl)
theorem dX4_begin_9 : decode cX4_begin 9 = .ok (.aload_n 1, 1) := dk_43 (dk_at dksX4_begin_0 9 rfl rfl)
theorem dX4_begin_10 : decode cX4_begin 10 = .ok (.getfield 41, 3) := dk_180 0 41 (dk_at dksX4_begin_0 10 rfl rfl)
theorem dX4_begin_13 : decode cX4_begin 13 = .ok (.invokevirtual 47, 3) := dk_182 0 47 (dk_at dksX4_begin_0 13 rfl rfl)
theorem dX4_begin_16 : decode cX4_begin 16 = .ok (.if_icmp .ge 7, 3) := dk_162 0 7 (dk_at dksX4_begin_0 16 rfl rfl)
theorem dX4_begin_19 : decode cX4_begin 19 = .ok (.iconst 1, 1) := dk_4 (dk_at dksX4_begin_0 19 rfl rfl)
theorem dX4_begin_20 : decode cX4_begin 20 = .ok (.goto 4, 3) := dk_167 0 4 (dk_at dksX4_begin_0 20 rfl rfl)
theorem dX4_begin_23 : decode cX4_begin 23 = .ok (.iconst 0, 1) := dk_3 (dk_at dksX4_begin_0 23 rfl rfl)
theorem dX4_begin_24 : decode cX4_begin 24 = .ok (.istore_n 3, 1) := dk_62 (dk_at dksX4_begin_1 0 rfl rfl)
theorem dX4_begin_25 : decode cX4_begin 25 = .ok (.aload_n 0, 1) := dk_42 (dk_at dksX4_begin_1 1 rfl rfl)
theorem dX4_begin_26 : decode cX4_begin 26 = .ok (.getfield 9, 3) := dk_180 0 9 (dk_at dksX4_begin_1 2 rfl rfl)
theorem dX4_begin_29 : decode cX4_begin 29 = .ok (.iload_n 2, 1) := dk_28 (dk_at dksX4_begin_1 5 rfl rfl)
theorem dX4_begin_30 : decode cX4_begin 30 = .ok (.iload_n 3, 1) := dk_29 (dk_at dksX4_begin_1 6 rfl rfl)
theorem dX4_begin_31 : decode cX4_begin 31 = .ok (.ifCond .eq 20, 3) := dk_153 0 20 (dk_at dksX4_begin_1 7 rfl rfl)
theorem dX4_begin_34 : decode cX4_begin 34 = .ok (.aload_n 1, 1) := dk_43 (dk_at dksX4_begin_1 10 rfl rfl)
theorem dX4_begin_35 : decode cX4_begin 35 = .ok (.getfield 41, 3) := dk_180 0 41 (dk_at dksX4_begin_1 11 rfl rfl)
theorem dX4_begin_38 : decode cX4_begin 38 = .ok (.iload_n 2, 1) := dk_28 (dk_at dksX4_begin_1 14 rfl rfl)
theorem dX4_begin_39 : decode cX4_begin 39 = .ok (.invokevirtual 53, 3) := dk_182 0 53 (dk_at dksX4_begin_1 15 rfl rfl)
theorem dX4_begin_42 : decode cX4_begin 42 = .ok (.checkcast 57, 3) := dk_192 0 57 (dk_at dksX4_begin_1 18 rfl rfl)
theorem dX4_begin_45 : decode cX4_begin 45 = .ok (.getfield 59, 3) := dk_180 0 59 (dk_at dksX4_begin_1 21 rfl rfl)
theorem dX4_begin_48 : decode cX4_begin 48 = .ok (.goto 4, 3) := dk_167 0 4 (dk_at dksX4_begin_2 0 rfl rfl)
theorem dX4_begin_51 : decode cX4_begin 51 = .ok (.iconst (-1), 1) := dk_2 (dk_at dksX4_begin_2 3 rfl rfl)
theorem dX4_begin_52 : decode cX4_begin 52 = .ok (.iastore, 1) := dk_79 (dk_at dksX4_begin_2 4 rfl rfl)
theorem dX4_begin_53 : decode cX4_begin 53 = .ok (.aload_n 0, 1) := dk_42 (dk_at dksX4_begin_2 5 rfl rfl)
theorem dX4_begin_54 : decode cX4_begin 54 = .ok (.getfield 27, 3) := dk_180 0 27 (dk_at dksX4_begin_2 6 rfl rfl)
theorem dX4_begin_57 : decode cX4_begin 57 = .ok (.iload_n 2, 1) := dk_28 (dk_at dksX4_begin_2 9 rfl rfl)
theorem dX4_begin_58 : decode cX4_begin 58 = .ok (.iload_n 3, 1) := dk_29 (dk_at dksX4_begin_2 10 rfl rfl)
theorem dX4_begin_59 : decode cX4_begin 59 = .ok (.ifCond .eq 20, 3) := dk_153 0 20 (dk_at dksX4_begin_2 11 rfl rfl)
theorem dX4_begin_62 : decode cX4_begin 62 = .ok (.aload_n 1, 1) := dk_43 (dk_at dksX4_begin_2 14 rfl rfl)
theorem dX4_begin_63 : decode cX4_begin 63 = .ok (.getfield 41, 3) := dk_180 0 41 (dk_at dksX4_begin_2 15 rfl rfl)
theorem dX4_begin_66 : decode cX4_begin 66 = .ok (.iload_n 2, 1) := dk_28 (dk_at dksX4_begin_2 18 rfl rfl)
theorem dX4_begin_67 : decode cX4_begin 67 = .ok (.invokevirtual 53, 3) := dk_182 0 53 (dk_at dksX4_begin_2 19 rfl rfl)
theorem dX4_begin_70 : decode cX4_begin 70 = .ok (.checkcast 57, 3) := dk_192 0 57 (dk_at dksX4_begin_3 0 rfl rfl)
theorem dX4_begin_73 : decode cX4_begin 73 = .ok (.getfield 61, 3) := dk_180 0 61 (dk_at dksX4_begin_3 3 rfl rfl)
theorem dX4_begin_76 : decode cX4_begin 76 = .ok (.goto 4, 3) := dk_167 0 4 (dk_at dksX4_begin_3 6 rfl rfl)
theorem dX4_begin_79 : decode cX4_begin 79 = .ok (.iconst 0, 1) := dk_3 (dk_at dksX4_begin_3 9 rfl rfl)
theorem dX4_begin_80 : decode cX4_begin 80 = .ok (.iastore, 1) := dk_79 (dk_at dksX4_begin_3 10 rfl rfl)
theorem dX4_begin_81 : decode cX4_begin 81 = .ok (.aload_n 0, 1) := dk_42 (dk_at dksX4_begin_3 11 rfl rfl)
theorem dX4_begin_82 : decode cX4_begin 82 = .ok (.getfield 15, 3) := dk_180 0 15 (dk_at dksX4_begin_3 12 rfl rfl)
theorem dX4_begin_85 : decode cX4_begin 85 = .ok (.iload_n 2, 1) := dk_28 (dk_at dksX4_begin_3 15 rfl rfl)
theorem dX4_begin_86 : decode cX4_begin 86 = .ok (.iconst 0, 1) := dk_3 (dk_at dksX4_begin_3 16 rfl rfl)
theorem dX4_begin_87 : decode cX4_begin 87 = .ok (.iastore, 1) := dk_79 (dk_at dksX4_begin_3 17 rfl rfl)
theorem dX4_begin_88 : decode cX4_begin 88 = .ok (.aload_n 0, 1) := dk_42 (dk_at dksX4_begin_3 18 rfl rfl)
theorem dX4_begin_89 : decode cX4_begin 89 = .ok (.getfield 18, 3) := dk_180 0 18 (dk_at dksX4_begin_3 19 rfl rfl)
theorem dX4_begin_92 : decode cX4_begin 92 = .ok (.iload_n 2, 1) := dk_28 (dk_at dksX4_begin_3 22 rfl rfl)
theorem dX4_begin_93 : decode cX4_begin 93 = .ok (.iconst 0, 1) := dk_3 (dk_at dksX4_begin_3 23 rfl rfl)
theorem dX4_begin_94 : decode cX4_begin 94 = .ok (.iastore, 1) := dk_79 (dk_at dksX4_begin_4 0 rfl rfl)
theorem dX4_begin_95 : decode cX4_begin 95 = .ok (.aload_n 0, 1) := dk_42 (dk_at dksX4_begin_4 1 rfl rfl)
theorem dX4_begin_96 : decode cX4_begin 96 = .ok (.getfield 21, 3) := dk_180 0 21 (dk_at dksX4_begin_4 2 rfl rfl)
theorem dX4_begin_99 : decode cX4_begin 99 = .ok (.iload_n 2, 1) := dk_28 (dk_at dksX4_begin_4 5 rfl rfl)
theorem dX4_begin_100 : decode cX4_begin 100 = .ok (.iconst 0, 1) := dk_3 (dk_at dksX4_begin_4 6 rfl rfl)
theorem dX4_begin_101 : decode cX4_begin 101 = .ok (.iastore, 1) := dk_79 (dk_at dksX4_begin_4 7 rfl rfl)
theorem dX4_begin_102 : decode cX4_begin 102 = .ok (.aload_n 0, 1) := dk_42 (dk_at dksX4_begin_4 8 rfl rfl)
theorem dX4_begin_103 : decode cX4_begin 103 = .ok (.getfield 24, 3) := dk_180 0 24 (dk_at dksX4_begin_4 9 rfl rfl)
theorem dX4_begin_106 : decode cX4_begin 106 = .ok (.iload_n 2, 1) := dk_28 (dk_at dksX4_begin_4 12 rfl rfl)
theorem dX4_begin_107 : decode cX4_begin 107 = .ok (.iconst 0, 1) := dk_3 (dk_at dksX4_begin_4 13 rfl rfl)
theorem dX4_begin_108 : decode cX4_begin 108 = .ok (.iastore, 1) := dk_79 (dk_at dksX4_begin_4 14 rfl rfl)
theorem dX4_begin_109 : decode cX4_begin 109 = .ok (.iinc 2 1, 3) := dk_132 2 1 (dk_at dksX4_begin_4 15 rfl rfl)
theorem dX4_begin_112 : decode cX4_begin 112 = .ok (.goto (-110), 3) := dk_167 255 146 (dk_at dksX4_begin_4 18 rfl rfl)
theorem dX4_begin_115 : decode cX4_begin 115 = .ok (.aload_n 0, 1) := dk_42 (dk_at dksX4_begin_4 21 rfl rfl)
theorem dX4_begin_116 : decode cX4_begin 116 = .ok (.iconst 0, 1) := dk_3 (dk_at dksX4_begin_4 22 rfl rfl)
theorem dX4_begin_117 : decode cX4_begin 117 = .ok (.putfield 34, 3) := dk_181 0 34 (dk_at dksX4_begin_5 0 rfl rfl)
theorem dX4_begin_120 : decode cX4_begin 120 = .ok (.aload_n 0, 1) := dk_42 (dk_at dksX4_begin_5 3 rfl rfl)
theorem dX4_begin_121 : decode cX4_begin 121 = .ok (.iconst 0, 1) := dk_3 (dk_at dksX4_begin_5 4 rfl rfl)
theorem dX4_begin_122 : decode cX4_begin 122 = .ok (.putfield 38, 3) := dk_181 0 38 (dk_at dksX4_begin_5 5 rfl rfl)
theorem dX4_begin_125 : decode cX4_begin 125 = .ok (.return_, 1) := dk_177 (dk_at dksX4_begin_5 8 rfl rfl)
abbrev cX4_isIn : ByteArray := prog_21_method_4_code
def yX4_isIn : MethodName := ⟨RX4, "isIn", "(I)Z"⟩
def dkwX4_isIn_0 : List UInt8 := [42, 180, 0, 9, 27, 46, 155, 0, 7, 4, 167, 0, 4, 3, 172]
abbrev dktX4_isIn_0 : List UInt8 := dkwX4_isIn_0 ++ []
theorem dksX4_isIn_0 : cX4_isIn.data.toList.drop 0 = dktX4_isIn_0 := by decide +kernel
theorem dX4_isIn_0 : decode cX4_isIn 0 = .ok (.aload_n 0, 1) := dk_42 (dk_at dksX4_isIn_0 0 rfl rfl)
theorem dX4_isIn_1 : decode cX4_isIn 1 = .ok (.getfield 9, 3) := dk_180 0 9 (dk_at dksX4_isIn_0 1 rfl rfl)
theorem dX4_isIn_4 : decode cX4_isIn 4 = .ok (.iload_n 1, 1) := dk_27 (dk_at dksX4_isIn_0 4 rfl rfl)
theorem dX4_isIn_5 : decode cX4_isIn 5 = .ok (.iaload, 1) := dk_46 (dk_at dksX4_isIn_0 5 rfl rfl)
theorem dX4_isIn_6 : decode cX4_isIn 6 = .ok (.ifCond .lt 7, 3) := dk_155 0 7 (dk_at dksX4_isIn_0 6 rfl rfl)
theorem dX4_isIn_9 : decode cX4_isIn 9 = .ok (.iconst 1, 1) := dk_4 (dk_at dksX4_isIn_0 9 rfl rfl)
theorem dX4_isIn_10 : decode cX4_isIn 10 = .ok (.goto 4, 3) := dk_167 0 4 (dk_at dksX4_isIn_0 10 rfl rfl)
theorem dX4_isIn_13 : decode cX4_isIn 13 = .ok (.iconst 0, 1) := dk_3 (dk_at dksX4_isIn_0 13 rfl rfl)
theorem dX4_isIn_14 : decode cX4_isIn 14 = .ok (.ireturn, 1) := dk_172 (dk_at dksX4_isIn_0 14 rfl rfl)
abbrev cX4_in : ByteArray := prog_21_method_5_code
def yX4_in : MethodName := ⟨RX4, "in", "()I"⟩
def dkwX4_in_1 : List UInt8 := [132, 2, 1, 167, 255, 233, 27, 172]
abbrev dktX4_in_1 : List UInt8 := dkwX4_in_1 ++ []
def dkwX4_in_0 : List UInt8 := [3, 60, 3, 61, 28, 16, 6, 162, 0, 23, 42, 28, 182, 0, 63, 153, 0, 9, 27, 4, 28, 120, 128, 60]
abbrev dktX4_in_0 : List UInt8 := dkwX4_in_0 ++ dktX4_in_1
theorem dksX4_in_0 : cX4_in.data.toList.drop 0 = dktX4_in_0 := by decide +kernel
theorem dksX4_in_1 : cX4_in.data.toList.drop 24 = dktX4_in_1 := dk_seg dksX4_in_0 24 rfl rfl
theorem dX4_in_0 : decode cX4_in 0 = .ok (.iconst 0, 1) := dk_3 (dk_at dksX4_in_0 0 rfl rfl)
theorem dX4_in_1 : decode cX4_in 1 = .ok (.istore_n 1, 1) := dk_60 (dk_at dksX4_in_0 1 rfl rfl)
theorem dX4_in_2 : decode cX4_in 2 = .ok (.iconst 0, 1) := dk_3 (dk_at dksX4_in_0 2 rfl rfl)
theorem dX4_in_3 : decode cX4_in 3 = .ok (.istore_n 2, 1) := dk_61 (dk_at dksX4_in_0 3 rfl rfl)
theorem dX4_in_4 : decode cX4_in 4 = .ok (.iload_n 2, 1) := dk_28 (dk_at dksX4_in_0 4 rfl rfl)
theorem dX4_in_5 : decode cX4_in 5 = .ok (.bipush 6, 2) := dk_16 6 (dk_at dksX4_in_0 5 rfl rfl)
theorem dX4_in_7 : decode cX4_in 7 = .ok (.if_icmp .ge 23, 3) := dk_162 0 23 (dk_at dksX4_in_0 7 rfl rfl)
theorem dX4_in_10 : decode cX4_in 10 = .ok (.aload_n 0, 1) := dk_42 (dk_at dksX4_in_0 10 rfl rfl)
theorem dX4_in_11 : decode cX4_in 11 = .ok (.iload_n 2, 1) := dk_28 (dk_at dksX4_in_0 11 rfl rfl)
theorem dX4_in_12 : decode cX4_in 12 = .ok (.invokevirtual 63, 3) := dk_182 0 63 (dk_at dksX4_in_0 12 rfl rfl)
theorem dX4_in_15 : decode cX4_in 15 = .ok (.ifCond .eq 9, 3) := dk_153 0 9 (dk_at dksX4_in_0 15 rfl rfl)
theorem dX4_in_18 : decode cX4_in 18 = .ok (.iload_n 1, 1) := dk_27 (dk_at dksX4_in_0 18 rfl rfl)
theorem dX4_in_19 : decode cX4_in 19 = .ok (.iconst 1, 1) := dk_4 (dk_at dksX4_in_0 19 rfl rfl)
theorem dX4_in_20 : decode cX4_in 20 = .ok (.iload_n 2, 1) := dk_28 (dk_at dksX4_in_0 20 rfl rfl)
theorem dX4_in_21 : decode cX4_in 21 = .ok (.ishl, 1) := dk_120 (dk_at dksX4_in_0 21 rfl rfl)
theorem dX4_in_22 : decode cX4_in 22 = .ok (.ior, 1) := dk_128 (dk_at dksX4_in_0 22 rfl rfl)
theorem dX4_in_23 : decode cX4_in 23 = .ok (.istore_n 1, 1) := dk_60 (dk_at dksX4_in_0 23 rfl rfl)
theorem dX4_in_24 : decode cX4_in 24 = .ok (.iinc 2 1, 3) := dk_132 2 1 (dk_at dksX4_in_1 0 rfl rfl)
theorem dX4_in_27 : decode cX4_in 27 = .ok (.goto (-23), 3) := dk_167 255 233 (dk_at dksX4_in_1 3 rfl rfl)
theorem dX4_in_30 : decode cX4_in 30 = .ok (.iload_n 1, 1) := dk_27 (dk_at dksX4_in_1 6 rfl rfl)
theorem dX4_in_31 : decode cX4_in 31 = .ok (.ireturn, 1) := dk_172 (dk_at dksX4_in_1 7 rfl rfl)
abbrev cX4_be : ByteArray := prog_21_method_2_code
def yX4_be : MethodName := ⟨RX4, "be", "(LPulseRent$State;)V"⟩
def dkwX4_be_3 : List UInt8 := [180, 0, 34, 181, 0, 34, 42, 43, 180, 0, 38, 181, 0, 38, 177]
abbrev dktX4_be_3 : List UInt8 := dkwX4_be_3 ++ []
def dkwX4_be_2 : List UInt8 := [180, 0, 24, 42, 180, 0, 24, 184, 0, 30, 43, 180, 0, 27, 42, 180, 0, 27, 184, 0, 30, 42, 43]
abbrev dktX4_be_2 : List UInt8 := dkwX4_be_2 ++ dktX4_be_3
def dkwX4_be_1 : List UInt8 := [180, 0, 18, 42, 180, 0, 18, 184, 0, 30, 43, 180, 0, 21, 42, 180, 0, 21, 184, 0, 30, 43]
abbrev dktX4_be_1 : List UInt8 := dkwX4_be_1 ++ dktX4_be_2
def dkwX4_be_0 : List UInt8 := [43, 180, 0, 9, 42, 180, 0, 9, 184, 0, 30, 43, 180, 0, 15, 42, 180, 0, 15, 184, 0, 30, 43]
abbrev dktX4_be_0 : List UInt8 := dkwX4_be_0 ++ dktX4_be_1
theorem dksX4_be_0 : cX4_be.data.toList.drop 0 = dktX4_be_0 := by decide +kernel
theorem dksX4_be_1 : cX4_be.data.toList.drop 23 = dktX4_be_1 := dk_seg dksX4_be_0 23 rfl rfl
theorem dksX4_be_2 : cX4_be.data.toList.drop 45 = dktX4_be_2 := dk_seg dksX4_be_1 22 rfl rfl
theorem dksX4_be_3 : cX4_be.data.toList.drop 68 = dktX4_be_3 := dk_seg dksX4_be_2 23 rfl rfl
theorem dX4_be_0 : decode cX4_be 0 = .ok (.aload_n 1, 1) := dk_43 (dk_at dksX4_be_0 0 rfl rfl)
theorem dX4_be_1 : decode cX4_be 1 = .ok (.getfield 9, 3) := dk_180 0 9 (dk_at dksX4_be_0 1 rfl rfl)
theorem dX4_be_4 : decode cX4_be 4 = .ok (.aload_n 0, 1) := dk_42 (dk_at dksX4_be_0 4 rfl rfl)
theorem dX4_be_5 : decode cX4_be 5 = .ok (.getfield 9, 3) := dk_180 0 9 (dk_at dksX4_be_0 5 rfl rfl)
theorem dX4_be_8 : decode cX4_be 8 = .ok (.invokestatic 30, 3) := dk_184 0 30 (dk_at dksX4_be_0 8 rfl rfl)
theorem dX4_be_11 : decode cX4_be 11 = .ok (.aload_n 1, 1) := dk_43 (dk_at dksX4_be_0 11 rfl rfl)
theorem dX4_be_12 : decode cX4_be 12 = .ok (.getfield 15, 3) := dk_180 0 15 (dk_at dksX4_be_0 12 rfl rfl)
theorem dX4_be_15 : decode cX4_be 15 = .ok (.aload_n 0, 1) := dk_42 (dk_at dksX4_be_0 15 rfl rfl)
theorem dX4_be_16 : decode cX4_be 16 = .ok (.getfield 15, 3) := dk_180 0 15 (dk_at dksX4_be_0 16 rfl rfl)
theorem dX4_be_19 : decode cX4_be 19 = .ok (.invokestatic 30, 3) := dk_184 0 30 (dk_at dksX4_be_0 19 rfl rfl)
theorem dX4_be_22 : decode cX4_be 22 = .ok (.aload_n 1, 1) := dk_43 (dk_at dksX4_be_0 22 rfl rfl)
theorem dX4_be_23 : decode cX4_be 23 = .ok (.getfield 18, 3) := dk_180 0 18 (dk_at dksX4_be_1 0 rfl rfl)
theorem dX4_be_26 : decode cX4_be 26 = .ok (.aload_n 0, 1) := dk_42 (dk_at dksX4_be_1 3 rfl rfl)
theorem dX4_be_27 : decode cX4_be 27 = .ok (.getfield 18, 3) := dk_180 0 18 (dk_at dksX4_be_1 4 rfl rfl)
theorem dX4_be_30 : decode cX4_be 30 = .ok (.invokestatic 30, 3) := dk_184 0 30 (dk_at dksX4_be_1 7 rfl rfl)
theorem dX4_be_33 : decode cX4_be 33 = .ok (.aload_n 1, 1) := dk_43 (dk_at dksX4_be_1 10 rfl rfl)
theorem dX4_be_34 : decode cX4_be 34 = .ok (.getfield 21, 3) := dk_180 0 21 (dk_at dksX4_be_1 11 rfl rfl)
theorem dX4_be_37 : decode cX4_be 37 = .ok (.aload_n 0, 1) := dk_42 (dk_at dksX4_be_1 14 rfl rfl)
theorem dX4_be_38 : decode cX4_be 38 = .ok (.getfield 21, 3) := dk_180 0 21 (dk_at dksX4_be_1 15 rfl rfl)
theorem dX4_be_41 : decode cX4_be 41 = .ok (.invokestatic 30, 3) := dk_184 0 30 (dk_at dksX4_be_1 18 rfl rfl)
theorem dX4_be_44 : decode cX4_be 44 = .ok (.aload_n 1, 1) := dk_43 (dk_at dksX4_be_1 21 rfl rfl)
theorem dX4_be_45 : decode cX4_be 45 = .ok (.getfield 24, 3) := dk_180 0 24 (dk_at dksX4_be_2 0 rfl rfl)
theorem dX4_be_48 : decode cX4_be 48 = .ok (.aload_n 0, 1) := dk_42 (dk_at dksX4_be_2 3 rfl rfl)
theorem dX4_be_49 : decode cX4_be 49 = .ok (.getfield 24, 3) := dk_180 0 24 (dk_at dksX4_be_2 4 rfl rfl)
theorem dX4_be_52 : decode cX4_be 52 = .ok (.invokestatic 30, 3) := dk_184 0 30 (dk_at dksX4_be_2 7 rfl rfl)
theorem dX4_be_55 : decode cX4_be 55 = .ok (.aload_n 1, 1) := dk_43 (dk_at dksX4_be_2 10 rfl rfl)
theorem dX4_be_56 : decode cX4_be 56 = .ok (.getfield 27, 3) := dk_180 0 27 (dk_at dksX4_be_2 11 rfl rfl)
theorem dX4_be_59 : decode cX4_be 59 = .ok (.aload_n 0, 1) := dk_42 (dk_at dksX4_be_2 14 rfl rfl)
theorem dX4_be_60 : decode cX4_be 60 = .ok (.getfield 27, 3) := dk_180 0 27 (dk_at dksX4_be_2 15 rfl rfl)
theorem dX4_be_63 : decode cX4_be 63 = .ok (.invokestatic 30, 3) := dk_184 0 30 (dk_at dksX4_be_2 18 rfl rfl)
theorem dX4_be_66 : decode cX4_be 66 = .ok (.aload_n 0, 1) := dk_42 (dk_at dksX4_be_2 21 rfl rfl)
theorem dX4_be_67 : decode cX4_be 67 = .ok (.aload_n 1, 1) := dk_43 (dk_at dksX4_be_2 22 rfl rfl)
theorem dX4_be_68 : decode cX4_be 68 = .ok (.getfield 34, 3) := dk_180 0 34 (dk_at dksX4_be_3 0 rfl rfl)
theorem dX4_be_71 : decode cX4_be 71 = .ok (.putfield 34, 3) := dk_181 0 34 (dk_at dksX4_be_3 3 rfl rfl)
theorem dX4_be_74 : decode cX4_be 74 = .ok (.aload_n 0, 1) := dk_42 (dk_at dksX4_be_3 6 rfl rfl)
theorem dX4_be_75 : decode cX4_be 75 = .ok (.aload_n 1, 1) := dk_43 (dk_at dksX4_be_3 7 rfl rfl)
theorem dX4_be_76 : decode cX4_be 76 = .ok (.getfield 38, 3) := dk_180 0 38 (dk_at dksX4_be_3 8 rfl rfl)
theorem dX4_be_79 : decode cX4_be 79 = .ok (.putfield 38, 3) := dk_181 0 38 (dk_at dksX4_be_3 11 rfl rfl)
theorem dX4_be_82 : decode cX4_be 82 = .ok (.return_, 1) := dk_177 (dk_at dksX4_be_3 14 rfl rfl)
theorem q141 : (Jvm.Cond.initialized "PulseRent$State") ∈ lw_all := lw_g (lw_at lw_m1 7 rfl) rfl
theorem q261 : (Jvm.Cond.fieldLinkNest "PulseRent$State" (41 : Nat) "PulseRent$House" "tenants" "Ljava/util/ArrayList;" "PulseRent") ∈ lw_tbl := lw_at lw_m1 127 rfl
theorem q299 : (Jvm.Cond.instantiable "PulseRent$State" (8 : Nat)) ∈ lw_all := lw_g (lw_at lw_m1 165 rfl) rfl
theorem q301 : (Jvm.Cond.instanceMethod ({ cls := "PulseRent$State", name := "<init>", desc := "()V" } : Jvm.MethodName)) ∈ lw_all := lw_g (lw_at lw_m1 167 rfl) rfl
theorem q302 : (Jvm.Cond.code ({ cls := "PulseRent$State", name := "<init>", desc := "()V" } : Jvm.MethodName) prog_21_method_1_code (1 : Nat) (Option.none : Option Jvm.ClassFile.FieldType)) ∈ lw_all := lw_g (lw_at lw_m1 168 rfl) rfl
theorem q303 : (Jvm.Cond.methodLink "PulseRent$State" (3 : Nat) ({ cls := "java/lang/Object", name := "<init>", desc := "()V" } : Jvm.MethodName)) ∈ lw_all := lw_g (lw_at lw_m1 169 rfl) rfl
theorem q304 : (Jvm.Cond.fieldLink "PulseRent$State" (9 : Nat) "PulseRent$State" "room" "[I") ∈ lw_all := lw_g (lw_at lw_m1 170 rfl) rfl
theorem q307 : (Jvm.Cond.fieldLink "PulseRent$State" (15 : Nat) "PulseRent$State" "stirred" "[I") ∈ lw_all := lw_g (lw_at lw_m1 173 rfl) rfl
theorem q309 : (Jvm.Cond.fieldLink "PulseRent$State" (18 : Nat) "PulseRent$State" "coffee" "[I") ∈ lw_all := lw_g (lw_at lw_m1 175 rfl) rfl
theorem q312 : (Jvm.Cond.fieldLink "PulseRent$State" (21 : Nat) "PulseRent$State" "habit" "[I") ∈ lw_all := lw_g (lw_at lw_m1 178 rfl) rfl
theorem q314 : (Jvm.Cond.fieldLink "PulseRent$State" (24 : Nat) "PulseRent$State" "counted" "[I") ∈ lw_all := lw_g (lw_at lw_m1 180 rfl) rfl
theorem q316 : (Jvm.Cond.fieldLink "PulseRent$State" (27 : Nat) "PulseRent$State" "coins" "[I") ∈ lw_all := lw_g (lw_at lw_m1 182 rfl) rfl
theorem q318 : (Jvm.Cond.fieldLink "PulseRent$State" (34 : Nat) "PulseRent$State" "minute" "I") ∈ lw_all := lw_g (lw_at lw_m1 184 rfl) rfl
theorem q320 : (Jvm.Cond.fieldLink "PulseRent$State" (38 : Nat) "PulseRent$State" "evicted" "I") ∈ lw_all := lw_g (lw_at lw_m1 186 rfl) rfl
theorem q322 : (Jvm.Cond.laysFinal "PulseRent$State" "PulseRent$State" "room" "[I") ∈ lw_all := lw_g (lw_at lw_m1 188 rfl) rfl
theorem q323 : (Jvm.Cond.soleField "PulseRent$State" "room") ∈ lw_all := lw_g (lw_at lw_m1 189 rfl) rfl
theorem q324 : (Jvm.Cond.laysFinal "PulseRent$State" "PulseRent$State" "stirred" "[I") ∈ lw_all := lw_g (lw_at lw_m1 190 rfl) rfl
theorem q325 : (Jvm.Cond.soleField "PulseRent$State" "stirred") ∈ lw_all := lw_g (lw_at lw_m1 191 rfl) rfl
theorem q326 : (Jvm.Cond.laysFinal "PulseRent$State" "PulseRent$State" "coffee" "[I") ∈ lw_all := lw_g (lw_at lw_m1 192 rfl) rfl
theorem q327 : (Jvm.Cond.soleField "PulseRent$State" "coffee") ∈ lw_all := lw_g (lw_at lw_m1 193 rfl) rfl
theorem q328 : (Jvm.Cond.laysFinal "PulseRent$State" "PulseRent$State" "habit" "[I") ∈ lw_all := lw_g (lw_at lw_m1 194 rfl) rfl
theorem q329 : (Jvm.Cond.soleField "PulseRent$State" "habit") ∈ lw_all := lw_g (lw_at lw_m1 195 rfl) rfl
theorem q330 : (Jvm.Cond.laysFinal "PulseRent$State" "PulseRent$State" "counted" "[I") ∈ lw_all := lw_g (lw_at lw_m1 196 rfl) rfl
theorem q331 : (Jvm.Cond.soleField "PulseRent$State" "counted") ∈ lw_all := lw_g (lw_at lw_m1 197 rfl) rfl
theorem q332 : (Jvm.Cond.laysFinal "PulseRent$State" "PulseRent$State" "coins" "[I") ∈ lw_all := lw_g (lw_at lw_m1 198 rfl) rfl
theorem q333 : (Jvm.Cond.soleField "PulseRent$State" "coins") ∈ lw_all := lw_g (lw_at lw_m1 199 rfl) rfl
theorem q334 : (Jvm.Cond.lays "PulseRent$State" "PulseRent$State" "minute" "I") ∈ lw_all := lw_g (lw_at lw_m1 200 rfl) rfl
theorem q335 : (Jvm.Cond.soleField "PulseRent$State" "minute") ∈ lw_all := lw_g (lw_at lw_m1 201 rfl) rfl
theorem q336 : (Jvm.Cond.lays "PulseRent$State" "PulseRent$State" "evicted" "I") ∈ lw_all := lw_g (lw_at lw_m1 202 rfl) rfl
theorem q337 : (Jvm.Cond.soleField "PulseRent$State" "evicted") ∈ lw_all := lw_g (lw_at lw_m1 203 rfl) rfl
theorem q338 : (Jvm.Cond.superclass "PulseRent$State" "java/lang/Object") ∈ lw_all := lw_g (lw_at lw_m1 204 rfl) rfl
theorem q346 : (Jvm.Cond.instanceMethod ({ cls := "PulseRent$State", name := "begin", desc := "(LPulseRent$House;)V" } : Jvm.MethodName)) ∈ lw_all := lw_g (lw_at lw_m1 212 rfl) rfl
theorem q347 : (Jvm.Cond.selects "PulseRent$State" ({ cls := "PulseRent$State", name := "begin", desc := "(LPulseRent$House;)V" } : Jvm.MethodName) ({ cls := "PulseRent$State", name := "begin", desc := "(LPulseRent$House;)V" } : Jvm.MethodName)) ∈ lw_all := lw_g (lw_at lw_m1 213 rfl) rfl
theorem q348 : (Jvm.Cond.code ({ cls := "PulseRent$State", name := "begin", desc := "(LPulseRent$House;)V" } : Jvm.MethodName) prog_21_method_3_code (4 : Nat) (Option.none : Option Jvm.ClassFile.FieldType)) ∈ lw_all := lw_g (lw_at lw_m1 214 rfl) rfl
theorem q349 : (Jvm.Cond.methodLink "PulseRent$State" (47 : Nat) ({ cls := "java/util/ArrayList", name := "size", desc := "()I" } : Jvm.MethodName)) ∈ lw_all := lw_g (lw_at lw_m1 215 rfl) rfl
theorem q353 : (Jvm.Cond.methodLink "PulseRent$State" (53 : Nat) ({ cls := "java/util/ArrayList", name := "get", desc := "(I)Ljava/lang/Object;" } : Jvm.MethodName)) ∈ lw_all := lw_g (lw_at lw_m1 219 rfl) rfl
theorem q367 : (Jvm.Cond.classLink "PulseRent$State" (57 : Nat) "PulseRent$Tenant") ∈ lw_all := lw_g (lw_at lw_m1 233 rfl) rfl
theorem q950 : (Jvm.Cond.selects "PulseRent$State" ({ cls := "java/lang/Object", name := "getClass", desc := "()Ljava/lang/Class;" } : Jvm.MethodName) ({ cls := "java/lang/Object", name := "getClass", desc := "()Ljava/lang/Class;" } : Jvm.MethodName)) ∈ lw_all := lw_g (lw_at lw_m4 96 rfl) rfl
theorem q990 : (Jvm.Cond.fieldLink "PulseRent$State" (61 : Nat) "PulseRent$Tenant" "coins" "I") ∈ lw_all := lw_g (lw_at lw_m4 136 rfl) rfl
theorem q993 : (Jvm.Cond.fieldLink "PulseRent$State" (59 : Nat) "PulseRent$Tenant" "room" "I") ∈ lw_all := lw_g (lw_at lw_m4 139 rfl) rfl
theorem q1334 : (Jvm.Cond.instanceMethod ({ cls := "PulseRent$State", name := "isIn", desc := "(I)Z" } : Jvm.MethodName)) ∈ lw_all := lw_g (lw_at lw_m6 0 rfl) rfl
theorem q1335 : (Jvm.Cond.selects "PulseRent$State" ({ cls := "PulseRent$State", name := "isIn", desc := "(I)Z" } : Jvm.MethodName) ({ cls := "PulseRent$State", name := "isIn", desc := "(I)Z" } : Jvm.MethodName)) ∈ lw_all := lw_g (lw_at lw_m6 1 rfl) rfl
theorem q1336 : (Jvm.Cond.code ({ cls := "PulseRent$State", name := "isIn", desc := "(I)Z" } : Jvm.MethodName) prog_21_method_4_code (2 : Nat) (Option.some Jvm.ClassFile.FieldType.boolean)) ∈ lw_all := lw_g (lw_at lw_m6 2 rfl) rfl
theorem q1356 : (Jvm.Cond.instanceMethod ({ cls := "PulseRent$State", name := "in", desc := "()I" } : Jvm.MethodName)) ∈ lw_all := lw_g (lw_at lw_m6 22 rfl) rfl
theorem q1357 : (Jvm.Cond.selects "PulseRent$State" ({ cls := "PulseRent$State", name := "in", desc := "()I" } : Jvm.MethodName) ({ cls := "PulseRent$State", name := "in", desc := "()I" } : Jvm.MethodName)) ∈ lw_all := lw_g (lw_at lw_m6 23 rfl) rfl
theorem q1358 : (Jvm.Cond.code ({ cls := "PulseRent$State", name := "in", desc := "()I" } : Jvm.MethodName) prog_21_method_5_code (3 : Nat) (Option.some Jvm.ClassFile.FieldType.int)) ∈ lw_all := lw_g (lw_at lw_m6 24 rfl) rfl
theorem q1359 : (Jvm.Cond.methodLink "PulseRent$State" (63 : Nat) ({ cls := "PulseRent$State", name := "isIn", desc := "(I)Z" } : Jvm.MethodName)) ∈ lw_all := lw_g (lw_at lw_m6 25 rfl) rfl
theorem q1370 : (Jvm.Cond.instanceMethod ({ cls := "PulseRent$State", name := "be", desc := "(LPulseRent$State;)V" } : Jvm.MethodName)) ∈ lw_all := lw_g (lw_at lw_m6 36 rfl) rfl
theorem q1371 : (Jvm.Cond.selects "PulseRent$State" ({ cls := "PulseRent$State", name := "be", desc := "(LPulseRent$State;)V" } : Jvm.MethodName) ({ cls := "PulseRent$State", name := "be", desc := "(LPulseRent$State;)V" } : Jvm.MethodName)) ∈ lw_all := lw_g (lw_at lw_m6 37 rfl) rfl
theorem q1372 : (Jvm.Cond.code ({ cls := "PulseRent$State", name := "be", desc := "(LPulseRent$State;)V" } : Jvm.MethodName) prog_21_method_2_code (2 : Nat) (Option.none : Option Jvm.ClassFile.FieldType)) ∈ lw_all := lw_g (lw_at lw_m6 38 rfl) rfl
theorem q1373 : (Jvm.Cond.methodLinkNest "PulseRent$State" (30 : Nat) ({ cls := "PulseRent", name := "copies", desc := "([I[I)V" } : Jvm.MethodName) "PulseRent") ∈ lw_tbl := lw_at lw_m6 39 rfl
theorem q2373 : (Jvm.Cond.castable "PulseRent$State" "java/lang/Object") ∈ lw_tbl := lw_at lw_m10 79 rfl
theorem in_X4 : ∀ w ∈ wsX40, w ∈ lw_all := lw_in wsX40 [322, 324, 326, 328, 330, 332, 334, 336] (by decide +kernel) (by decide +kernel)

/-! PulseRent$Wrong -/
set_option maxRecDepth 100000
def RX6 : String := "PulseRent$Wrong"
def TX6 : u_T := fun k => match k with
  | 0 => ("java/lang/Throwable", "cause", "Ljava/lang/Throwable;", false)
  | 1 => ("java/lang/Throwable", "stackTrace", "[Ljava/lang/StackTraceElement;", false)
  | 2 => ("java/lang/Throwable", "suppressedExceptions", "Ljava/util/List;", false)
  | 3 => ("java/lang/Throwable", "detailMessage", "Ljava/lang/String;", false)
  | 4 => ("java/lang/Throwable", "backtrace", "Ljava/lang/Object;", false)
  | 5 => ("java/lang/Throwable", "depth", "I", false)
  | _ => ("PulseRent$Wrong", "fault", "I", true)
def tyX6 : Nat → FieldType := fun k => match k with
  | 0 => .object "java/lang/Throwable"
  | 1 => .array (.object "java/lang/StackTraceElement")
  | 2 => .object "java/util/List"
  | 3 => .object "java/lang/String"
  | 4 => .object "java/lang/Object"
  | 5 => .int
  | _ => .int
abbrev wsX60 : List Cond := u_ws RX6 TX6 7
theorem nmX6 : ∀ a, a < 7 → ∀ b, b < 7 → a ≠ b → (TX6 a).2.1 ≠ (TX6 b).2.1 := by decide +kernel
theorem tyX6_ok : ∀ k, k < 7 → parseFieldDescriptor (TX6 k).2.2.1 = some (tyX6 k) := by decide +kernel
abbrev cX6_init : ByteArray := prog_24_method_1_code
def yX6_init : MethodName := ⟨RX6, "<init>", "(II)V"⟩
def dkwX6_init_0 : List UInt8 := [42, 1, 1, 3, 3, 183, 0, 1, 42, 27, 16, 16, 28, 104, 96, 181, 0, 7, 177]
abbrev dktX6_init_0 : List UInt8 := dkwX6_init_0 ++ []
theorem dksX6_init_0 : cX6_init.data.toList.drop 0 = dktX6_init_0 := by decide +kernel
theorem dX6_init_0 : decode cX6_init 0 = .ok (.aload_n 0, 1) := dk_42 (dk_at dksX6_init_0 0 rfl rfl)
theorem dX6_init_1 : decode cX6_init 1 = .ok (.aconst_null, 1) := dk_1 (dk_at dksX6_init_0 1 rfl rfl)
theorem dX6_init_2 : decode cX6_init 2 = .ok (.aconst_null, 1) := dk_1 (dk_at dksX6_init_0 2 rfl rfl)
theorem dX6_init_3 : decode cX6_init 3 = .ok (.iconst 0, 1) := dk_3 (dk_at dksX6_init_0 3 rfl rfl)
theorem dX6_init_4 : decode cX6_init 4 = .ok (.iconst 0, 1) := dk_3 (dk_at dksX6_init_0 4 rfl rfl)
theorem dX6_init_5 : decode cX6_init 5 = .ok (.invokespecial 1, 3) := dk_183 0 1 (dk_at dksX6_init_0 5 rfl rfl)
theorem dX6_init_8 : decode cX6_init 8 = .ok (.aload_n 0, 1) := dk_42 (dk_at dksX6_init_0 8 rfl rfl)
theorem dX6_init_9 : decode cX6_init 9 = .ok (.iload_n 1, 1) := dk_27 (dk_at dksX6_init_0 9 rfl rfl)
theorem dX6_init_10 : decode cX6_init 10 = .ok (.bipush 16, 2) := dk_16 16 (dk_at dksX6_init_0 10 rfl rfl)
theorem dX6_init_12 : decode cX6_init 12 = .ok (.iload_n 2, 1) := dk_28 (dk_at dksX6_init_0 12 rfl rfl)
theorem dX6_init_13 : decode cX6_init 13 = .ok (.imul, 1) := dk_104 (dk_at dksX6_init_0 13 rfl rfl)
theorem dX6_init_14 : decode cX6_init 14 = .ok (.iadd, 1) := dk_96 (dk_at dksX6_init_0 14 rfl rfl)
theorem dX6_init_15 : decode cX6_init 15 = .ok (.putfield 7, 3) := dk_181 0 7 (dk_at dksX6_init_0 15 rfl rfl)
theorem dX6_init_18 : decode cX6_init 18 = .ok (.return_, 1) := dk_177 (dk_at dksX6_init_0 18 rfl rfl)
theorem q153 : (Jvm.Cond.initialized "PulseRent$Wrong") ∈ lw_all := lw_g (lw_at lw_m1 19 rfl) rfl
theorem q599 : (Jvm.Cond.instantiable "PulseRent$Wrong" (7 : Nat)) ∈ lw_all := lw_g (lw_at lw_m2 225 rfl) rfl
theorem q600 : (Jvm.Cond.castable "PulseRent$Wrong" "PulseRent$Wrong") ∈ lw_tbl := lw_at lw_m2 226 rfl
theorem q607 : (Jvm.Cond.selects "PulseRent$Wrong" ({ cls := "java/lang/Throwable", name := "fillInStackTrace", desc := "(I)Ljava/lang/Throwable;" } : Jvm.MethodName) ({ cls := "java/lang/Throwable", name := "fillInStackTrace", desc := "(I)Ljava/lang/Throwable;" } : Jvm.MethodName)) ∈ lw_all := lw_g (lw_at lw_m2 233 rfl) rfl
theorem q608 : (Jvm.Cond.selects "PulseRent$Wrong" ({ cls := "java/lang/Throwable", name := "fillInStackTrace", desc := "()Ljava/lang/Throwable;" } : Jvm.MethodName) ({ cls := "java/lang/Throwable", name := "fillInStackTrace", desc := "()Ljava/lang/Throwable;" } : Jvm.MethodName)) ∈ lw_all := lw_g (lw_at lw_m2 234 rfl) rfl
theorem q609 : (Jvm.Cond.lays "PulseRent$Wrong" "java/lang/Throwable" "cause" "Ljava/lang/Throwable;") ∈ lw_all := lw_g (lw_at lw_m2 235 rfl) rfl
theorem q611 : (Jvm.Cond.lays "PulseRent$Wrong" "java/lang/Throwable" "stackTrace" "[Ljava/lang/StackTraceElement;") ∈ lw_all := lw_g (lw_at lw_m2 237 rfl) rfl
theorem q613 : (Jvm.Cond.lays "PulseRent$Wrong" "java/lang/Throwable" "suppressedExceptions" "Ljava/util/List;") ∈ lw_all := lw_g (lw_at lw_m2 239 rfl) rfl
theorem q615 : (Jvm.Cond.lays "PulseRent$Wrong" "java/lang/Throwable" "detailMessage" "Ljava/lang/String;") ∈ lw_all := lw_g (lw_at lw_m3 1 rfl) rfl
theorem q617 : (Jvm.Cond.lays "PulseRent$Wrong" "java/lang/Throwable" "backtrace" "Ljava/lang/Object;") ∈ lw_all := lw_g (lw_at lw_m3 3 rfl) rfl
theorem q639 : (Jvm.Cond.instanceMethod ({ cls := "PulseRent$Wrong", name := "<init>", desc := "(II)V" } : Jvm.MethodName)) ∈ lw_all := lw_g (lw_at lw_m3 25 rfl) rfl
theorem q640 : (Jvm.Cond.code ({ cls := "PulseRent$Wrong", name := "<init>", desc := "(II)V" } : Jvm.MethodName) prog_24_method_1_code (3 : Nat) (Option.none : Option Jvm.ClassFile.FieldType)) ∈ lw_all := lw_g (lw_at lw_m3 26 rfl) rfl
theorem q641 : (Jvm.Cond.methodLink "PulseRent$Wrong" (1 : Nat) ({ cls := "java/lang/RuntimeException", name := "<init>", desc := "(Ljava/lang/String;Ljava/lang/Throwable;ZZ)V" } : Jvm.MethodName)) ∈ lw_all := lw_g (lw_at lw_m3 27 rfl) rfl
theorem q650 : (Jvm.Cond.fieldLink "PulseRent$Wrong" (7 : Nat) "PulseRent$Wrong" "fault" "I") ∈ lw_all := lw_g (lw_at lw_m3 36 rfl) rfl
theorem q657 : (Jvm.Cond.laysFinal "PulseRent$Wrong" "PulseRent$Wrong" "fault" "I") ∈ lw_all := lw_g (lw_at lw_m3 43 rfl) rfl
theorem q658 : (Jvm.Cond.soleField "PulseRent$Wrong" "fault") ∈ lw_all := lw_g (lw_at lw_m3 44 rfl) rfl
theorem q663 : (Jvm.Cond.lays "PulseRent$Wrong" "java/lang/Throwable" "depth" "I") ∈ lw_all := lw_g (lw_at lw_m3 49 rfl) rfl
theorem q666 : (Jvm.Cond.superclass "PulseRent$Wrong" "java/lang/RuntimeException") ∈ lw_all := lw_g (lw_at lw_m3 52 rfl) rfl
theorem q953 : (Jvm.Cond.selects "PulseRent$Wrong" ({ cls := "java/lang/Object", name := "getClass", desc := "()Ljava/lang/Class;" } : Jvm.MethodName) ({ cls := "java/lang/Object", name := "getClass", desc := "()Ljava/lang/Class;" } : Jvm.MethodName)) ∈ lw_all := lw_g (lw_at lw_m4 99 rfl) rfl
theorem q2380 : (Jvm.Cond.castable "PulseRent$Wrong" "java/lang/Object") ∈ lw_tbl := lw_at lw_m10 86 rfl
theorem in_X6 : ∀ w ∈ wsX60, w ∈ lw_all := lw_in wsX60 [609, 611, 613, 615, 617, 663, 657] (by decide +kernel) (by decide +kernel)

/-! PulseRent$Room -/
set_option maxRecDepth 100000
def RX7 : String := "PulseRent$Room"
def TX7 : u_T := fun k => match k with
  | 0 => ("PulseRent$Room", "name", "Ljava/lang/String;", true)
  | 1 => ("PulseRent$Room", "stairs", "I", true)
  | 2 => ("PulseRent$Room", "noise", "I", true)
  | _ => ("PulseRent$Room", "base", "I", true)
def tyX7 : Nat → FieldType := fun k => match k with
  | 0 => .object "java/lang/String"
  | 1 => .int
  | 2 => .int
  | _ => .int
abbrev wsX70 : List Cond := u_ws RX7 TX7 4
theorem nmX7 : ∀ a, a < 4 → ∀ b, b < 4 → a ≠ b → (TX7 a).2.1 ≠ (TX7 b).2.1 := by decide +kernel
theorem tyX7_ok : ∀ k, k < 4 → parseFieldDescriptor (TX7 k).2.2.1 = some (tyX7 k) := by decide +kernel
abbrev cX7_init : ByteArray := prog_18_method_1_code
def yX7_init : MethodName := ⟨RX7, "<init>", "(Ljava/lang/String;III)V"⟩
def dkwX7_init_1 : List UInt8 := [181, 0, 20, 177]
abbrev dktX7_init_1 : List UInt8 := dkwX7_init_1 ++ []
def dkwX7_init_0 : List UInt8 := [42, 183, 0, 1, 42, 43, 181, 0, 7, 42, 28, 181, 0, 13, 42, 29, 181, 0, 17, 42, 21, 4]
abbrev dktX7_init_0 : List UInt8 := dkwX7_init_0 ++ dktX7_init_1
theorem dksX7_init_0 : cX7_init.data.toList.drop 0 = dktX7_init_0 := by decide +kernel
theorem dksX7_init_1 : cX7_init.data.toList.drop 22 = dktX7_init_1 := dk_seg dksX7_init_0 22 rfl rfl
theorem dX7_init_0 : decode cX7_init 0 = .ok (.aload_n 0, 1) := dk_42 (dk_at dksX7_init_0 0 rfl rfl)
theorem dX7_init_1 : decode cX7_init 1 = .ok (.invokespecial 1, 3) := dk_183 0 1 (dk_at dksX7_init_0 1 rfl rfl)
theorem dX7_init_4 : decode cX7_init 4 = .ok (.aload_n 0, 1) := dk_42 (dk_at dksX7_init_0 4 rfl rfl)
theorem dX7_init_5 : decode cX7_init 5 = .ok (.aload_n 1, 1) := dk_43 (dk_at dksX7_init_0 5 rfl rfl)
theorem dX7_init_6 : decode cX7_init 6 = .ok (.putfield 7, 3) := dk_181 0 7 (dk_at dksX7_init_0 6 rfl rfl)
theorem dX7_init_9 : decode cX7_init 9 = .ok (.aload_n 0, 1) := dk_42 (dk_at dksX7_init_0 9 rfl rfl)
theorem dX7_init_10 : decode cX7_init 10 = .ok (.iload_n 2, 1) := dk_28 (dk_at dksX7_init_0 10 rfl rfl)
theorem dX7_init_11 : decode cX7_init 11 = .ok (.putfield 13, 3) := dk_181 0 13 (dk_at dksX7_init_0 11 rfl rfl)
theorem dX7_init_14 : decode cX7_init 14 = .ok (.aload_n 0, 1) := dk_42 (dk_at dksX7_init_0 14 rfl rfl)
theorem dX7_init_15 : decode cX7_init 15 = .ok (.iload_n 3, 1) := dk_29 (dk_at dksX7_init_0 15 rfl rfl)
theorem dX7_init_16 : decode cX7_init 16 = .ok (.putfield 17, 3) := dk_181 0 17 (dk_at dksX7_init_0 16 rfl rfl)
theorem dX7_init_19 : decode cX7_init 19 = .ok (.aload_n 0, 1) := dk_42 (dk_at dksX7_init_0 19 rfl rfl)
theorem dX7_init_20 : decode cX7_init 20 = .ok (.iload 4, 2) := dk_21 4 (dk_at dksX7_init_0 20 rfl rfl)
theorem dX7_init_22 : decode cX7_init 22 = .ok (.putfield 20, 3) := dk_181 0 20 (dk_at dksX7_init_1 0 rfl rfl)
theorem dX7_init_25 : decode cX7_init 25 = .ok (.return_, 1) := dk_177 (dk_at dksX7_init_1 3 rfl rfl)
theorem q159 : (Jvm.Cond.initialized "PulseRent$Room") ∈ lw_all := lw_g (lw_at lw_m1 25 rfl) rfl
theorem q879 : (Jvm.Cond.instantiable "PulseRent$Room" (4 : Nat)) ∈ lw_all := lw_g (lw_at lw_m4 25 rfl) rfl
theorem q882 : (Jvm.Cond.instanceMethod ({ cls := "PulseRent$Room", name := "<init>", desc := "(Ljava/lang/String;III)V" } : Jvm.MethodName)) ∈ lw_all := lw_g (lw_at lw_m4 28 rfl) rfl
theorem q883 : (Jvm.Cond.code ({ cls := "PulseRent$Room", name := "<init>", desc := "(Ljava/lang/String;III)V" } : Jvm.MethodName) prog_18_method_1_code (5 : Nat) (Option.none : Option Jvm.ClassFile.FieldType)) ∈ lw_all := lw_g (lw_at lw_m4 29 rfl) rfl
theorem q884 : (Jvm.Cond.methodLink "PulseRent$Room" (1 : Nat) ({ cls := "java/lang/Object", name := "<init>", desc := "()V" } : Jvm.MethodName)) ∈ lw_all := lw_g (lw_at lw_m4 30 rfl) rfl
theorem q885 : (Jvm.Cond.fieldLink "PulseRent$Room" (7 : Nat) "PulseRent$Room" "name" "Ljava/lang/String;") ∈ lw_all := lw_g (lw_at lw_m4 31 rfl) rfl
theorem q887 : (Jvm.Cond.fieldLink "PulseRent$Room" (13 : Nat) "PulseRent$Room" "stairs" "I") ∈ lw_all := lw_g (lw_at lw_m4 33 rfl) rfl
theorem q890 : (Jvm.Cond.fieldLink "PulseRent$Room" (17 : Nat) "PulseRent$Room" "noise" "I") ∈ lw_all := lw_g (lw_at lw_m4 36 rfl) rfl
theorem q894 : (Jvm.Cond.fieldLink "PulseRent$Room" (20 : Nat) "PulseRent$Room" "base" "I") ∈ lw_all := lw_g (lw_at lw_m4 40 rfl) rfl
theorem q898 : (Jvm.Cond.laysFinal "PulseRent$Room" "PulseRent$Room" "name" "Ljava/lang/String;") ∈ lw_all := lw_g (lw_at lw_m4 44 rfl) rfl
theorem q899 : (Jvm.Cond.soleField "PulseRent$Room" "name") ∈ lw_all := lw_g (lw_at lw_m4 45 rfl) rfl
theorem q900 : (Jvm.Cond.laysFinal "PulseRent$Room" "PulseRent$Room" "stairs" "I") ∈ lw_all := lw_g (lw_at lw_m4 46 rfl) rfl
theorem q901 : (Jvm.Cond.soleField "PulseRent$Room" "stairs") ∈ lw_all := lw_g (lw_at lw_m4 47 rfl) rfl
theorem q902 : (Jvm.Cond.laysFinal "PulseRent$Room" "PulseRent$Room" "noise" "I") ∈ lw_all := lw_g (lw_at lw_m4 48 rfl) rfl
theorem q903 : (Jvm.Cond.soleField "PulseRent$Room" "noise") ∈ lw_all := lw_g (lw_at lw_m4 49 rfl) rfl
theorem q904 : (Jvm.Cond.laysFinal "PulseRent$Room" "PulseRent$Room" "base" "I") ∈ lw_all := lw_g (lw_at lw_m4 50 rfl) rfl
theorem q905 : (Jvm.Cond.soleField "PulseRent$Room" "base") ∈ lw_all := lw_g (lw_at lw_m4 51 rfl) rfl
theorem q906 : (Jvm.Cond.superclass "PulseRent$Room" "java/lang/Object") ∈ lw_all := lw_g (lw_at lw_m4 52 rfl) rfl
theorem q947 : (Jvm.Cond.selects "PulseRent$Room" ({ cls := "java/lang/Object", name := "getClass", desc := "()Ljava/lang/Class;" } : Jvm.MethodName) ({ cls := "java/lang/Object", name := "getClass", desc := "()Ljava/lang/Class;" } : Jvm.MethodName)) ∈ lw_all := lw_g (lw_at lw_m4 93 rfl) rfl
theorem q2383 : (Jvm.Cond.castable "PulseRent$Room" "java/lang/Object") ∈ lw_tbl := lw_at lw_m10 89 rfl
theorem in_X7 : ∀ w ∈ wsX70, w ∈ lw_all := lw_in wsX70 [898, 900, 902, 904] (by decide +kernel) (by decide +kernel)

/-! PulseRent$Tenant -/
set_option maxRecDepth 100000
def RX8 : String := "PulseRent$Tenant"
def TX8 : u_T := fun k => match k with
  | 0 => ("PulseRent$Tenant", "name", "Ljava/lang/String;", true)
  | 1 => ("PulseRent$Tenant", "told", "I", false)
  | 2 => ("PulseRent$Tenant", "calm", "I", false)
  | 3 => ("PulseRent$Tenant", "coins", "I", false)
  | 4 => ("PulseRent$Tenant", "room", "I", false)
  | _ => ("PulseRent$Tenant", "loves", "I", false)
def tyX8 : Nat → FieldType := fun k => match k with
  | 0 => .object "java/lang/String"
  | 1 => .int
  | 2 => .int
  | 3 => .int
  | 4 => .int
  | _ => .int
abbrev wsX80 : List Cond := u_ws RX8 TX8 6
theorem nmX8 : ∀ a, a < 6 → ∀ b, b < 6 → a ≠ b → (TX8 a).2.1 ≠ (TX8 b).2.1 := by decide +kernel
theorem tyX8_ok : ∀ k, k < 6 → parseFieldDescriptor (TX8 k).2.2.1 = some (tyX8 k) := by decide +kernel
abbrev cX8_init : ByteArray := prog_22_method_1_code
def yX8_init : MethodName := ⟨RX8, "<init>", "(Ljava/lang/String;)V"⟩
def dkwX8_init_0 : List UInt8 := [42, 183, 0, 3, 42, 2, 181, 0, 9, 42, 43, 181, 0, 15, 177]
abbrev dktX8_init_0 : List UInt8 := dkwX8_init_0 ++ []
theorem dksX8_init_0 : cX8_init.data.toList.drop 0 = dktX8_init_0 := by decide +kernel
theorem dX8_init_0 : decode cX8_init 0 = .ok (.aload_n 0, 1) := dk_42 (dk_at dksX8_init_0 0 rfl rfl)
theorem dX8_init_1 : decode cX8_init 1 = .ok (.invokespecial 3, 3) := dk_183 0 3 (dk_at dksX8_init_0 1 rfl rfl)
theorem dX8_init_4 : decode cX8_init 4 = .ok (.aload_n 0, 1) := dk_42 (dk_at dksX8_init_0 4 rfl rfl)
theorem dX8_init_5 : decode cX8_init 5 = .ok (.iconst (-1), 1) := dk_2 (dk_at dksX8_init_0 5 rfl rfl)
theorem dX8_init_6 : decode cX8_init 6 = .ok (.putfield 9, 3) := dk_181 0 9 (dk_at dksX8_init_0 6 rfl rfl)
theorem dX8_init_9 : decode cX8_init 9 = .ok (.aload_n 0, 1) := dk_42 (dk_at dksX8_init_0 9 rfl rfl)
theorem dX8_init_10 : decode cX8_init 10 = .ok (.aload_n 1, 1) := dk_43 (dk_at dksX8_init_0 10 rfl rfl)
theorem dX8_init_11 : decode cX8_init 11 = .ok (.putfield 15, 3) := dk_181 0 15 (dk_at dksX8_init_0 11 rfl rfl)
theorem dX8_init_14 : decode cX8_init 14 = .ok (.return_, 1) := dk_177 (dk_at dksX8_init_0 14 rfl rfl)
abbrev cX8_kind : ByteArray := prog_22_method_2_code
def yX8_kind : MethodName := ⟨RX8, "kind", "()I"⟩
theorem dX8_kind_0 : decode cX8_kind 0 = .ok (.iconst 0, 1) := by decide +kernel
theorem dX8_kind_1 : decode cX8_kind 1 = .ok (.ireturn, 1) := by decide +kernel
abbrev cX8_rest : ByteArray := prog_22_method_3_code
def yX8_rest : MethodName := ⟨RX8, "rest", "()I"⟩
theorem dX8_rest_0 : decode cX8_rest 0 = .ok (.aload_n 0, 1) := by decide +kernel
theorem dX8_rest_1 : decode cX8_rest 1 = .ok (.getfield 19, 3) := by decide +kernel
theorem dX8_rest_4 : decode cX8_rest 4 = .ok (.ireturn, 1) := by decide +kernel
abbrev cX8_climbs : ByteArray := prog_22_method_5_code
def yX8_climbs : MethodName := ⟨RX8, "climbs", "(I)I"⟩
theorem dX8_climbs_0 : decode cX8_climbs 0 = .ok (.iload_n 1, 1) := by decide +kernel
theorem dX8_climbs_1 : decode cX8_climbs 1 = .ok (.ireturn, 1) := by decide +kernel
abbrev cX8_settles : ByteArray := prog_22_method_4_code
def yX8_settles : MethodName := ⟨RX8, "settles", "(I)I"⟩
def dkwX8_settles_0 : List UInt8 := [27, 5, 108, 172]
abbrev dktX8_settles_0 : List UInt8 := dkwX8_settles_0 ++ []
theorem dksX8_settles_0 : cX8_settles.data.toList.drop 0 = dktX8_settles_0 := by decide +kernel
theorem dX8_settles_0 : decode cX8_settles 0 = .ok (.iload_n 1, 1) := dk_27 (dk_at dksX8_settles_0 0 rfl rfl)
theorem dX8_settles_1 : decode cX8_settles 1 = .ok (.iconst 2, 1) := dk_5 (dk_at dksX8_settles_0 1 rfl rfl)
theorem dX8_settles_2 : decode cX8_settles 2 = .ok (.idiv, 1) := dk_108 (dk_at dksX8_settles_0 2 rfl rfl)
theorem dX8_settles_3 : decode cX8_settles 3 = .ok (.ireturn, 1) := dk_172 (dk_at dksX8_settles_0 3 rfl rfl)
abbrev cX8_mayLack : ByteArray := prog_22_method_7_code
def yX8_mayLack : MethodName := ⟨RX8, "mayLack", "()I"⟩
theorem dX8_mayLack_0 : decode cX8_mayLack 0 = .ok (.iconst 0, 1) := by decide +kernel
theorem dX8_mayLack_1 : decode cX8_mayLack 1 = .ok (.ireturn, 1) := by decide +kernel
abbrev cX8_wish : ByteArray := prog_22_method_6_code
def yX8_wish : MethodName := ⟨RX8, "wish", "(LPulseRent$Room;)I"⟩
def dkwX8_wish_0 : List UInt8 := [43, 180, 0, 22, 116, 6, 104, 43, 180, 0, 27, 100, 43, 180, 0, 30, 100, 172]
abbrev dktX8_wish_0 : List UInt8 := dkwX8_wish_0 ++ []
theorem dksX8_wish_0 : cX8_wish.data.toList.drop 0 = dktX8_wish_0 := by decide +kernel
theorem dX8_wish_0 : decode cX8_wish 0 = .ok (.aload_n 1, 1) := dk_43 (dk_at dksX8_wish_0 0 rfl rfl)
theorem dX8_wish_1 : decode cX8_wish 1 = .ok (.getfield 22, 3) := dk_180 0 22 (dk_at dksX8_wish_0 1 rfl rfl)
theorem dX8_wish_4 : decode cX8_wish 4 = .ok (.ineg, 1) := dk_116 (dk_at dksX8_wish_0 4 rfl rfl)
theorem dX8_wish_5 : decode cX8_wish 5 = .ok (.iconst 3, 1) := dk_6 (dk_at dksX8_wish_0 5 rfl rfl)
theorem dX8_wish_6 : decode cX8_wish 6 = .ok (.imul, 1) := dk_104 (dk_at dksX8_wish_0 6 rfl rfl)
theorem dX8_wish_7 : decode cX8_wish 7 = .ok (.aload_n 1, 1) := dk_43 (dk_at dksX8_wish_0 7 rfl rfl)
theorem dX8_wish_8 : decode cX8_wish 8 = .ok (.getfield 27, 3) := dk_180 0 27 (dk_at dksX8_wish_0 8 rfl rfl)
theorem dX8_wish_11 : decode cX8_wish 11 = .ok (.isub, 1) := dk_100 (dk_at dksX8_wish_0 11 rfl rfl)
theorem dX8_wish_12 : decode cX8_wish 12 = .ok (.aload_n 1, 1) := dk_43 (dk_at dksX8_wish_0 12 rfl rfl)
theorem dX8_wish_13 : decode cX8_wish 13 = .ok (.getfield 30, 3) := dk_180 0 30 (dk_at dksX8_wish_0 13 rfl rfl)
theorem dX8_wish_16 : decode cX8_wish 16 = .ok (.isub, 1) := dk_100 (dk_at dksX8_wish_0 16 rfl rfl)
theorem dX8_wish_17 : decode cX8_wish 17 = .ok (.ireturn, 1) := dk_172 (dk_at dksX8_wish_0 17 rfl rfl)
theorem q160 : (Jvm.Cond.initialized "PulseRent$Tenant") ∈ lw_all := lw_g (lw_at lw_m1 26 rfl) rfl
theorem q888 : (Jvm.Cond.fieldLinkNest "PulseRent$Tenant" (27 : Nat) "PulseRent$Room" "stairs" "I" "PulseRent") ∈ lw_tbl := lw_at lw_m4 34 rfl
theorem q892 : (Jvm.Cond.fieldLinkNest "PulseRent$Tenant" (22 : Nat) "PulseRent$Room" "noise" "I" "PulseRent") ∈ lw_tbl := lw_at lw_m4 38 rfl
theorem q896 : (Jvm.Cond.fieldLinkNest "PulseRent$Tenant" (30 : Nat) "PulseRent$Room" "base" "I" "PulseRent") ∈ lw_tbl := lw_at lw_m4 42 rfl
theorem q951 : (Jvm.Cond.selects "PulseRent$Tenant" ({ cls := "java/lang/Object", name := "getClass", desc := "()Ljava/lang/Class;" } : Jvm.MethodName) ({ cls := "java/lang/Object", name := "getClass", desc := "()Ljava/lang/Class;" } : Jvm.MethodName)) ∈ lw_all := lw_g (lw_at lw_m4 97 rfl) rfl
theorem q976 : (Jvm.Cond.instantiable "PulseRent$Tenant" (6 : Nat)) ∈ lw_all := lw_g (lw_at lw_m4 122 rfl) rfl
theorem q978 : (Jvm.Cond.instanceMethod ({ cls := "PulseRent$Tenant", name := "<init>", desc := "(Ljava/lang/String;)V" } : Jvm.MethodName)) ∈ lw_all := lw_g (lw_at lw_m4 124 rfl) rfl
theorem q979 : (Jvm.Cond.code ({ cls := "PulseRent$Tenant", name := "<init>", desc := "(Ljava/lang/String;)V" } : Jvm.MethodName) prog_22_method_1_code (2 : Nat) (Option.none : Option Jvm.ClassFile.FieldType)) ∈ lw_all := lw_g (lw_at lw_m4 125 rfl) rfl
theorem q980 : (Jvm.Cond.methodLink "PulseRent$Tenant" (3 : Nat) ({ cls := "java/lang/Object", name := "<init>", desc := "()V" } : Jvm.MethodName)) ∈ lw_all := lw_g (lw_at lw_m4 126 rfl) rfl
theorem q981 : (Jvm.Cond.fieldLink "PulseRent$Tenant" (15 : Nat) "PulseRent$Tenant" "name" "Ljava/lang/String;") ∈ lw_all := lw_g (lw_at lw_m4 127 rfl) rfl
theorem q983 : (Jvm.Cond.fieldLink "PulseRent$Tenant" (19 : Nat) "PulseRent$Tenant" "told" "I") ∈ lw_all := lw_g (lw_at lw_m4 129 rfl) rfl
theorem q992 : (Jvm.Cond.fieldLink "PulseRent$Tenant" (9 : Nat) "PulseRent$Tenant" "room" "I") ∈ lw_all := lw_g (lw_at lw_m4 138 rfl) rfl
theorem q998 : (Jvm.Cond.laysFinal "PulseRent$Tenant" "PulseRent$Tenant" "name" "Ljava/lang/String;") ∈ lw_all := lw_g (lw_at lw_m4 144 rfl) rfl
theorem q999 : (Jvm.Cond.soleField "PulseRent$Tenant" "name") ∈ lw_all := lw_g (lw_at lw_m4 145 rfl) rfl
theorem q1000 : (Jvm.Cond.lays "PulseRent$Tenant" "PulseRent$Tenant" "told" "I") ∈ lw_all := lw_g (lw_at lw_m4 146 rfl) rfl
theorem q1001 : (Jvm.Cond.soleField "PulseRent$Tenant" "told") ∈ lw_all := lw_g (lw_at lw_m4 147 rfl) rfl
theorem q1002 : (Jvm.Cond.lays "PulseRent$Tenant" "PulseRent$Tenant" "calm" "I") ∈ lw_all := lw_g (lw_at lw_m4 148 rfl) rfl
theorem q1003 : (Jvm.Cond.soleField "PulseRent$Tenant" "calm") ∈ lw_all := lw_g (lw_at lw_m4 149 rfl) rfl
theorem q1004 : (Jvm.Cond.lays "PulseRent$Tenant" "PulseRent$Tenant" "coins" "I") ∈ lw_all := lw_g (lw_at lw_m4 150 rfl) rfl
theorem q1005 : (Jvm.Cond.soleField "PulseRent$Tenant" "coins") ∈ lw_all := lw_g (lw_at lw_m4 151 rfl) rfl
theorem q1006 : (Jvm.Cond.lays "PulseRent$Tenant" "PulseRent$Tenant" "room" "I") ∈ lw_all := lw_g (lw_at lw_m4 152 rfl) rfl
theorem q1007 : (Jvm.Cond.soleField "PulseRent$Tenant" "room") ∈ lw_all := lw_g (lw_at lw_m4 153 rfl) rfl
theorem q1008 : (Jvm.Cond.lays "PulseRent$Tenant" "PulseRent$Tenant" "loves" "I") ∈ lw_all := lw_g (lw_at lw_m4 154 rfl) rfl
theorem q1009 : (Jvm.Cond.soleField "PulseRent$Tenant" "loves") ∈ lw_all := lw_g (lw_at lw_m4 155 rfl) rfl
theorem q1010 : (Jvm.Cond.superclass "PulseRent$Tenant" "java/lang/Object") ∈ lw_all := lw_g (lw_at lw_m4 156 rfl) rfl
theorem q1311 : (Jvm.Cond.instanceMethod ({ cls := "PulseRent$Tenant", name := "kind", desc := "()I" } : Jvm.MethodName)) ∈ lw_all := lw_g (lw_at lw_m5 217 rfl) rfl
theorem q1312 : (Jvm.Cond.selects "PulseRent$Tenant" ({ cls := "PulseRent$Tenant", name := "kind", desc := "()I" } : Jvm.MethodName) ({ cls := "PulseRent$Tenant", name := "kind", desc := "()I" } : Jvm.MethodName)) ∈ lw_all := lw_g (lw_at lw_m5 218 rfl) rfl
theorem q1313 : (Jvm.Cond.sameMethod "PulseRent$Tenant" "PulseRent$Tenant" "kind" "()I") ∈ lw_all := lw_g (lw_at lw_m5 219 rfl) rfl
theorem q1323 : (Jvm.Cond.code ({ cls := "PulseRent$Tenant", name := "kind", desc := "()I" } : Jvm.MethodName) prog_22_method_2_code (1 : Nat) (Option.some Jvm.ClassFile.FieldType.int)) ∈ lw_all := lw_g (lw_at lw_m5 229 rfl) rfl
theorem q1346 : (Jvm.Cond.instanceMethod ({ cls := "PulseRent$Tenant", name := "rest", desc := "()I" } : Jvm.MethodName)) ∈ lw_all := lw_g (lw_at lw_m6 12 rfl) rfl
theorem q1347 : (Jvm.Cond.selects "PulseRent$Tenant" ({ cls := "PulseRent$Tenant", name := "rest", desc := "()I" } : Jvm.MethodName) ({ cls := "PulseRent$Tenant", name := "rest", desc := "()I" } : Jvm.MethodName)) ∈ lw_all := lw_g (lw_at lw_m6 13 rfl) rfl
theorem q1348 : (Jvm.Cond.sameMethod "PulseRent$Tenant" "PulseRent$Tenant" "rest" "()I") ∈ lw_all := lw_g (lw_at lw_m6 14 rfl) rfl
theorem q1354 : (Jvm.Cond.code ({ cls := "PulseRent$Tenant", name := "rest", desc := "()I" } : Jvm.MethodName) prog_22_method_3_code (1 : Nat) (Option.some Jvm.ClassFile.FieldType.int)) ∈ lw_all := lw_g (lw_at lw_m6 20 rfl) rfl
theorem q1381 : (Jvm.Cond.instanceMethod ({ cls := "PulseRent$Tenant", name := "climbs", desc := "(I)I" } : Jvm.MethodName)) ∈ lw_all := lw_g (lw_at lw_m6 47 rfl) rfl
theorem q1382 : (Jvm.Cond.selects "PulseRent$Tenant" ({ cls := "PulseRent$Tenant", name := "climbs", desc := "(I)I" } : Jvm.MethodName) ({ cls := "PulseRent$Tenant", name := "climbs", desc := "(I)I" } : Jvm.MethodName)) ∈ lw_all := lw_g (lw_at lw_m6 48 rfl) rfl
theorem q1383 : (Jvm.Cond.sameMethod "PulseRent$Tenant" "PulseRent$Tenant" "climbs" "(I)I") ∈ lw_all := lw_g (lw_at lw_m6 49 rfl) rfl
theorem q1389 : (Jvm.Cond.code ({ cls := "PulseRent$Tenant", name := "climbs", desc := "(I)I" } : Jvm.MethodName) prog_22_method_5_code (2 : Nat) (Option.some Jvm.ClassFile.FieldType.int)) ∈ lw_all := lw_g (lw_at lw_m6 55 rfl) rfl
theorem q1420 : (Jvm.Cond.instanceMethod ({ cls := "PulseRent$Tenant", name := "settles", desc := "(I)I" } : Jvm.MethodName)) ∈ lw_all := lw_g (lw_at lw_m6 86 rfl) rfl
theorem q1421 : (Jvm.Cond.selects "PulseRent$Tenant" ({ cls := "PulseRent$Tenant", name := "settles", desc := "(I)I" } : Jvm.MethodName) ({ cls := "PulseRent$Tenant", name := "settles", desc := "(I)I" } : Jvm.MethodName)) ∈ lw_all := lw_g (lw_at lw_m6 87 rfl) rfl
theorem q1422 : (Jvm.Cond.sameMethod "PulseRent$Tenant" "PulseRent$Tenant" "settles" "(I)I") ∈ lw_all := lw_g (lw_at lw_m6 88 rfl) rfl
theorem q1428 : (Jvm.Cond.code ({ cls := "PulseRent$Tenant", name := "settles", desc := "(I)I" } : Jvm.MethodName) prog_22_method_4_code (2 : Nat) (Option.some Jvm.ClassFile.FieldType.int)) ∈ lw_all := lw_g (lw_at lw_m6 94 rfl) rfl
theorem q1466 : (Jvm.Cond.instanceMethod ({ cls := "PulseRent$Tenant", name := "mayLack", desc := "()I" } : Jvm.MethodName)) ∈ lw_all := lw_g (lw_at lw_m6 132 rfl) rfl
theorem q1467 : (Jvm.Cond.selects "PulseRent$Tenant" ({ cls := "PulseRent$Tenant", name := "mayLack", desc := "()I" } : Jvm.MethodName) ({ cls := "PulseRent$Tenant", name := "mayLack", desc := "()I" } : Jvm.MethodName)) ∈ lw_all := lw_g (lw_at lw_m6 133 rfl) rfl
theorem q1468 : (Jvm.Cond.sameMethod "PulseRent$Tenant" "PulseRent$Tenant" "mayLack" "()I") ∈ lw_all := lw_g (lw_at lw_m6 134 rfl) rfl
theorem q1474 : (Jvm.Cond.code ({ cls := "PulseRent$Tenant", name := "mayLack", desc := "()I" } : Jvm.MethodName) prog_22_method_7_code (1 : Nat) (Option.some Jvm.ClassFile.FieldType.int)) ∈ lw_all := lw_g (lw_at lw_m6 140 rfl) rfl
theorem q1566 : (Jvm.Cond.instanceMethod ({ cls := "PulseRent$Tenant", name := "wish", desc := "(LPulseRent$Room;)I" } : Jvm.MethodName)) ∈ lw_all := lw_g (lw_at lw_m6 232 rfl) rfl
theorem q1567 : (Jvm.Cond.selects "PulseRent$Tenant" ({ cls := "PulseRent$Tenant", name := "wish", desc := "(LPulseRent$Room;)I" } : Jvm.MethodName) ({ cls := "PulseRent$Tenant", name := "wish", desc := "(LPulseRent$Room;)I" } : Jvm.MethodName)) ∈ lw_all := lw_g (lw_at lw_m6 233 rfl) rfl
theorem q1568 : (Jvm.Cond.sameMethod "PulseRent$Tenant" "PulseRent$Tenant" "wish" "(LPulseRent$Room;)I") ∈ lw_all := lw_g (lw_at lw_m6 234 rfl) rfl
theorem q1574 : (Jvm.Cond.code ({ cls := "PulseRent$Tenant", name := "wish", desc := "(LPulseRent$Room;)I" } : Jvm.MethodName) prog_22_method_6_code (2 : Nat) (Option.some Jvm.ClassFile.FieldType.int)) ∈ lw_all := lw_g (lw_at lw_m7 0 rfl) rfl
theorem q2384 : (Jvm.Cond.castable "PulseRent$Tenant" "java/lang/Object") ∈ lw_tbl := lw_at lw_m10 90 rfl
theorem in_X8 : ∀ w ∈ wsX80, w ∈ lw_all := lw_in wsX80 [998, 1000, 1002, 1004, 1006, 1008] (by decide +kernel) (by decide +kernel)

/-! PulseRent$Monk -/
set_option maxRecDepth 100000
def RX9 : String := "PulseRent$Monk"
def TX9 : u_T := fun k => match k with
  | 0 => ("PulseRent$Tenant", "name", "Ljava/lang/String;", true)
  | 1 => ("PulseRent$Tenant", "told", "I", false)
  | 2 => ("PulseRent$Tenant", "calm", "I", false)
  | 3 => ("PulseRent$Tenant", "coins", "I", false)
  | 4 => ("PulseRent$Tenant", "room", "I", false)
  | _ => ("PulseRent$Tenant", "loves", "I", false)
def tyX9 : Nat → FieldType := fun k => match k with
  | 0 => .object "java/lang/String"
  | 1 => .int
  | 2 => .int
  | 3 => .int
  | 4 => .int
  | _ => .int
abbrev wsX90 : List Cond := u_ws RX9 TX9 6
theorem nmX9 : ∀ a, a < 6 → ∀ b, b < 6 → a ≠ b → (TX9 a).2.1 ≠ (TX9 b).2.1 := by decide +kernel
theorem tyX9_ok : ∀ k, k < 6 → parseFieldDescriptor (TX9 k).2.2.1 = some (tyX9 k) := by decide +kernel
abbrev cX9_init : ByteArray := prog_12_method_1_code
def yX9_init : MethodName := ⟨RX9, "<init>", "(Ljava/lang/String;)V"⟩
def dkwX9_init_0 : List UInt8 := [42, 43, 183, 0, 1, 177]
abbrev dktX9_init_0 : List UInt8 := dkwX9_init_0 ++ []
theorem dksX9_init_0 : cX9_init.data.toList.drop 0 = dktX9_init_0 := by decide +kernel
theorem dX9_init_0 : decode cX9_init 0 = .ok (.aload_n 0, 1) := dk_42 (dk_at dksX9_init_0 0 rfl rfl)
theorem dX9_init_1 : decode cX9_init 1 = .ok (.aload_n 1, 1) := dk_43 (dk_at dksX9_init_0 1 rfl rfl)
theorem dX9_init_2 : decode cX9_init 2 = .ok (.invokespecial 1, 3) := dk_183 0 1 (dk_at dksX9_init_0 2 rfl rfl)
theorem dX9_init_5 : decode cX9_init 5 = .ok (.return_, 1) := dk_177 (dk_at dksX9_init_0 5 rfl rfl)
abbrev cX9_kind : ByteArray := prog_12_method_2_code
def yX9_kind : MethodName := ⟨RX9, "kind", "()I"⟩
theorem dX9_kind_0 : decode cX9_kind 0 = .ok (.iconst 1, 1) := by decide +kernel
theorem dX9_kind_1 : decode cX9_kind 1 = .ok (.ireturn, 1) := by decide +kernel
abbrev cX9_settles : ByteArray := prog_12_method_3_code
def yX9_settles : MethodName := ⟨RX9, "settles", "(I)I"⟩
def dkwX9_settles_0 : List UInt8 := [27, 7, 108, 172]
abbrev dktX9_settles_0 : List UInt8 := dkwX9_settles_0 ++ []
theorem dksX9_settles_0 : cX9_settles.data.toList.drop 0 = dktX9_settles_0 := by decide +kernel
theorem dX9_settles_0 : decode cX9_settles 0 = .ok (.iload_n 1, 1) := dk_27 (dk_at dksX9_settles_0 0 rfl rfl)
theorem dX9_settles_1 : decode cX9_settles 1 = .ok (.iconst 4, 1) := dk_7 (dk_at dksX9_settles_0 1 rfl rfl)
theorem dX9_settles_2 : decode cX9_settles 2 = .ok (.idiv, 1) := dk_108 (dk_at dksX9_settles_0 2 rfl rfl)
theorem dX9_settles_3 : decode cX9_settles 3 = .ok (.ireturn, 1) := dk_172 (dk_at dksX9_settles_0 3 rfl rfl)
theorem q161 : (Jvm.Cond.initialized "PulseRent$Monk") ∈ lw_all := lw_g (lw_at lw_m1 27 rfl) rfl
theorem q941 : (Jvm.Cond.selects "PulseRent$Monk" ({ cls := "java/lang/Object", name := "getClass", desc := "()Ljava/lang/Class;" } : Jvm.MethodName) ({ cls := "java/lang/Object", name := "getClass", desc := "()Ljava/lang/Class;" } : Jvm.MethodName)) ∈ lw_all := lw_g (lw_at lw_m4 87 rfl) rfl
theorem q1012 : (Jvm.Cond.instantiable "PulseRent$Monk" (6 : Nat)) ∈ lw_all := lw_g (lw_at lw_m4 158 rfl) rfl
theorem q1014 : (Jvm.Cond.instanceMethod ({ cls := "PulseRent$Monk", name := "<init>", desc := "(Ljava/lang/String;)V" } : Jvm.MethodName)) ∈ lw_all := lw_g (lw_at lw_m4 160 rfl) rfl
theorem q1015 : (Jvm.Cond.code ({ cls := "PulseRent$Monk", name := "<init>", desc := "(Ljava/lang/String;)V" } : Jvm.MethodName) prog_12_method_1_code (2 : Nat) (Option.none : Option Jvm.ClassFile.FieldType)) ∈ lw_all := lw_g (lw_at lw_m4 161 rfl) rfl
theorem q1016 : (Jvm.Cond.methodLink "PulseRent$Monk" (1 : Nat) ({ cls := "PulseRent$Tenant", name := "<init>", desc := "(Ljava/lang/String;)V" } : Jvm.MethodName)) ∈ lw_all := lw_g (lw_at lw_m4 162 rfl) rfl
theorem q1017 : (Jvm.Cond.laysFinal "PulseRent$Monk" "PulseRent$Tenant" "name" "Ljava/lang/String;") ∈ lw_all := lw_g (lw_at lw_m4 163 rfl) rfl
theorem q1018 : (Jvm.Cond.lays "PulseRent$Monk" "PulseRent$Tenant" "told" "I") ∈ lw_all := lw_g (lw_at lw_m4 164 rfl) rfl
theorem q1019 : (Jvm.Cond.lays "PulseRent$Monk" "PulseRent$Tenant" "calm" "I") ∈ lw_all := lw_g (lw_at lw_m4 165 rfl) rfl
theorem q1020 : (Jvm.Cond.lays "PulseRent$Monk" "PulseRent$Tenant" "coins" "I") ∈ lw_all := lw_g (lw_at lw_m4 166 rfl) rfl
theorem q1021 : (Jvm.Cond.lays "PulseRent$Monk" "PulseRent$Tenant" "room" "I") ∈ lw_all := lw_g (lw_at lw_m4 167 rfl) rfl
theorem q1022 : (Jvm.Cond.lays "PulseRent$Monk" "PulseRent$Tenant" "loves" "I") ∈ lw_all := lw_g (lw_at lw_m4 168 rfl) rfl
theorem q1023 : (Jvm.Cond.superclass "PulseRent$Monk" "PulseRent$Tenant") ∈ lw_all := lw_g (lw_at lw_m4 169 rfl) rfl
theorem q1314 : (Jvm.Cond.selects "PulseRent$Monk" ({ cls := "PulseRent$Tenant", name := "kind", desc := "()I" } : Jvm.MethodName) ({ cls := "PulseRent$Monk", name := "kind", desc := "()I" } : Jvm.MethodName)) ∈ lw_all := lw_g (lw_at lw_m5 220 rfl) rfl
theorem q1315 : (Jvm.Cond.instanceMethod ({ cls := "PulseRent$Monk", name := "kind", desc := "()I" } : Jvm.MethodName)) ∈ lw_all := lw_g (lw_at lw_m5 221 rfl) rfl
theorem q1316 : (Jvm.Cond.code ({ cls := "PulseRent$Monk", name := "kind", desc := "()I" } : Jvm.MethodName) prog_12_method_2_code (1 : Nat) (Option.some Jvm.ClassFile.FieldType.int)) ∈ lw_all := lw_g (lw_at lw_m5 222 rfl) rfl
theorem q1349 : (Jvm.Cond.selects "PulseRent$Monk" ({ cls := "PulseRent$Tenant", name := "rest", desc := "()I" } : Jvm.MethodName) ({ cls := "PulseRent$Tenant", name := "rest", desc := "()I" } : Jvm.MethodName)) ∈ lw_all := lw_g (lw_at lw_m6 15 rfl) rfl
theorem q1384 : (Jvm.Cond.selects "PulseRent$Monk" ({ cls := "PulseRent$Tenant", name := "climbs", desc := "(I)I" } : Jvm.MethodName) ({ cls := "PulseRent$Tenant", name := "climbs", desc := "(I)I" } : Jvm.MethodName)) ∈ lw_all := lw_g (lw_at lw_m6 50 rfl) rfl
theorem q1423 : (Jvm.Cond.selects "PulseRent$Monk" ({ cls := "PulseRent$Tenant", name := "settles", desc := "(I)I" } : Jvm.MethodName) ({ cls := "PulseRent$Monk", name := "settles", desc := "(I)I" } : Jvm.MethodName)) ∈ lw_all := lw_g (lw_at lw_m6 89 rfl) rfl
theorem q1424 : (Jvm.Cond.instanceMethod ({ cls := "PulseRent$Monk", name := "settles", desc := "(I)I" } : Jvm.MethodName)) ∈ lw_all := lw_g (lw_at lw_m6 90 rfl) rfl
theorem q1425 : (Jvm.Cond.code ({ cls := "PulseRent$Monk", name := "settles", desc := "(I)I" } : Jvm.MethodName) prog_12_method_3_code (2 : Nat) (Option.some Jvm.ClassFile.FieldType.int)) ∈ lw_all := lw_g (lw_at lw_m6 91 rfl) rfl
theorem q1469 : (Jvm.Cond.selects "PulseRent$Monk" ({ cls := "PulseRent$Tenant", name := "mayLack", desc := "()I" } : Jvm.MethodName) ({ cls := "PulseRent$Tenant", name := "mayLack", desc := "()I" } : Jvm.MethodName)) ∈ lw_all := lw_g (lw_at lw_m6 135 rfl) rfl
theorem q1569 : (Jvm.Cond.selects "PulseRent$Monk" ({ cls := "PulseRent$Tenant", name := "wish", desc := "(LPulseRent$Room;)I" } : Jvm.MethodName) ({ cls := "PulseRent$Tenant", name := "wish", desc := "(LPulseRent$Room;)I" } : Jvm.MethodName)) ∈ lw_all := lw_g (lw_at lw_m6 235 rfl) rfl
theorem q2364 : (Jvm.Cond.castable "PulseRent$Monk" "PulseRent$Tenant") ∈ lw_tbl := lw_at lw_m10 70 rfl
theorem q2385 : (Jvm.Cond.castable "PulseRent$Monk" "java/lang/Object") ∈ lw_tbl := lw_at lw_m10 91 rfl
theorem in_X9 : ∀ w ∈ wsX90, w ∈ lw_all := lw_in wsX90 [1017, 1018, 1019, 1020, 1021, 1022] (by decide +kernel) (by decide +kernel)
