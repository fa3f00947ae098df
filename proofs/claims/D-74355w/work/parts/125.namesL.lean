/-! HomesQueueLaw -/
set_option maxRecDepth 100000
def RX0 : String := "HomesQueueLaw"
abbrev cX0_out : ByteArray := method_3_code
def yX0_out : MethodName := ⟨RX0, "out", "(LHomesQueue;I[J)I"⟩
def dkwX0_out_0 : List UInt8 := [44, 3, 42, 27, 182, 0, 7, 133, 80, 167, 0, 6, 78, 4, 172, 3, 172]
abbrev dktX0_out_0 : List UInt8 := dkwX0_out_0 ++ []
theorem dksX0_out_0 : cX0_out.data.toList.drop 0 = dktX0_out_0 := by decide +kernel
theorem dX0_out_0 : decode cX0_out 0 = .ok (.aload_n 2, 1) := dk_44 (dk_at dksX0_out_0 0 rfl rfl)
theorem dX0_out_1 : decode cX0_out 1 = .ok (.iconst 0, 1) := dk_3 (dk_at dksX0_out_0 1 rfl rfl)
theorem dX0_out_2 : decode cX0_out 2 = .ok (.aload_n 0, 1) := dk_42 (dk_at dksX0_out_0 2 rfl rfl)
theorem dX0_out_3 : decode cX0_out 3 = .ok (.iload_n 1, 1) := dk_27 (dk_at dksX0_out_0 3 rfl rfl)
theorem dX0_out_4 : decode cX0_out 4 = .ok (.invokevirtual 7, 3) := dk_182 0 7 (dk_at dksX0_out_0 4 rfl rfl)
theorem dX0_out_7 : decode cX0_out 7 = .ok (.i2l, 1) := dk_133 (dk_at dksX0_out_0 7 rfl rfl)
theorem dX0_out_8 : decode cX0_out 8 = .ok (.lastore, 1) := dk_80 (dk_at dksX0_out_0 8 rfl rfl)
theorem dX0_out_9 : decode cX0_out 9 = .ok (.goto 6, 3) := dk_167 0 6 (dk_at dksX0_out_0 9 rfl rfl)
theorem dX0_out_12 : decode cX0_out 12 = .ok (.astore_n 3, 1) := dk_78 (dk_at dksX0_out_0 12 rfl rfl)
theorem dX0_out_13 : decode cX0_out 13 = .ok (.iconst 1, 1) := dk_4 (dk_at dksX0_out_0 13 rfl rfl)
theorem dX0_out_14 : decode cX0_out 14 = .ok (.ireturn, 1) := dk_172 (dk_at dksX0_out_0 14 rfl rfl)
theorem dX0_out_15 : decode cX0_out 15 = .ok (.iconst 0, 1) := dk_3 (dk_at dksX0_out_0 15 rfl rfl)
theorem dX0_out_16 : decode cX0_out 16 = .ok (.ireturn, 1) := dk_172 (dk_at dksX0_out_0 16 rfl rfl)
theorem q173 : (Jvm.Cond.initialized "HomesQueueLaw") ∈ lw_all := lw_g (lw_at lw_m1 0 rfl) rfl
theorem q206 : (Jvm.Cond.classLink "HomesQueueLaw" (8 : Nat) "HomesQueue") ∈ lw_all := lw_g (lw_at lw_m1 33 rfl) rfl
theorem q208 : (Jvm.Cond.methodLink "HomesQueueLaw" (15 : Nat) ({ cls := "HomesQueue", name := "<init>", desc := "()V" } : Jvm.MethodName)) ∈ lw_all := lw_g (lw_at lw_m1 35 rfl) rfl
theorem q635 : (Jvm.Cond.methodLink "HomesQueueLaw" (19 : Nat) ({ cls := "HomesQueue", name := "status", desc := "()I" } : Jvm.MethodName)) ∈ lw_all := lw_g (lw_at lw_m2 222 rfl) rfl
theorem q639 : (Jvm.Cond.methodLink "HomesQueueLaw" (24 : Nat) ({ cls := "HomesQueue", name := "feed", desc := "(IIIII)I" } : Jvm.MethodName)) ∈ lw_all := lw_g (lw_at lw_m2 226 rfl) rfl
theorem q647 : (Jvm.Cond.methodLink "HomesQueueLaw" (29 : Nat) ({ cls := "HomesQueue", name := "load", desc := "(I)I" } : Jvm.MethodName)) ∈ lw_all := lw_g (lw_at lw_m2 234 rfl) rfl
theorem q1176 : (Jvm.Cond.methodLink "HomesQueueLaw" (33 : Nat) ({ cls := "HomesQueue", name := "fault", desc := "(I)I" } : Jvm.MethodName)) ∈ lw_all := lw_g (lw_at lw_m5 43 rfl) rfl
theorem q1180 : (Jvm.Cond.methodLink "HomesQueueLaw" (37 : Nat) ({ cls := "HomesQueue", name := "many", desc := "(I)I" } : Jvm.MethodName)) ∈ lw_all := lw_g (lw_at lw_m5 47 rfl) rfl
theorem q1208 : (Jvm.Cond.methodLink "HomesQueueLaw" (41 : Nat) ({ cls := "HomesQueue", name := "home", desc := "(II)I" } : Jvm.MethodName)) ∈ lw_all := lw_g (lw_at lw_m5 75 rfl) rfl
theorem q1231 : (Jvm.Cond.methodLink "HomesQueueLaw" (46 : Nat) ({ cls := "HomesQueue", name := "house", desc := "(II)I" } : Jvm.MethodName)) ∈ lw_all := lw_g (lw_at lw_m5 98 rfl) rfl
theorem q1248 : (Jvm.Cond.methodLink "HomesQueueLaw" (50 : Nat) ({ cls := "HomesQueue", name := "rule", desc := "(I)I" } : Jvm.MethodName)) ∈ lw_all := lw_g (lw_at lw_m5 115 rfl) rfl
theorem q1253 : (Jvm.Cond.methodLink "HomesQueueLaw" (54 : Nat) ({ cls := "HomesQueue", name := "why", desc := "(II)I" } : Jvm.MethodName)) ∈ lw_all := lw_g (lw_at lw_m5 120 rfl) rfl
theorem q1267 : (Jvm.Cond.methodLink "HomesQueueLaw" (58 : Nat) ({ cls := "HomesQueue", name := "bids", desc := "(II)I" } : Jvm.MethodName)) ∈ lw_all := lw_g (lw_at lw_m5 134 rfl) rfl
theorem q1271 : (Jvm.Cond.methodLink "HomesQueueLaw" (62 : Nat) ({ cls := "HomesQueue", name := "order", desc := "(II)I" } : Jvm.MethodName)) ∈ lw_all := lw_g (lw_at lw_m5 138 rfl) rfl
theorem q1294 : (Jvm.Cond.methodLink "HomesQueueLaw" (66 : Nat) ({ cls := "HomesQueue", name := "ahead", desc := "(II)I" } : Jvm.MethodName)) ∈ lw_all := lw_g (lw_at lw_m5 161 rfl) rfl
theorem q1311 : (Jvm.Cond.methodLink "HomesQueueLaw" (70 : Nat) ({ cls := "HomesQueue", name := "turn", desc := "(II)I" } : Jvm.MethodName)) ∈ lw_all := lw_g (lw_at lw_m5 178 rfl) rfl
theorem q1317 : (Jvm.Cond.methodLink "HomesQueueLaw" (74 : Nat) ({ cls := "HomesQueue", name := "let", desc := "(II)I" } : Jvm.MethodName)) ∈ lw_all := lw_g (lw_at lw_m5 184 rfl) rfl
theorem q1321 : (Jvm.Cond.methodLink "HomesQueueLaw" (78 : Nat) ({ cls := "HomesQueue", name := "offer", desc := "(II)I" } : Jvm.MethodName)) ∈ lw_all := lw_g (lw_at lw_m5 188 rfl) rfl
theorem q1327 : (Jvm.Cond.methodLink "HomesQueueLaw" (82 : Nat) ({ cls := "HomesQueue", name := "tally", desc := "(I)I" } : Jvm.MethodName)) ∈ lw_all := lw_g (lw_at lw_m5 194 rfl) rfl
theorem q1357 : (Jvm.Cond.methodLink "HomesQueueLaw" (86 : Nat) ({ cls := "HomesQueue", name := "lack", desc := "(I)I" } : Jvm.MethodName)) ∈ lw_all := lw_g (lw_at lw_m5 224 rfl) rfl
theorem q1367 : (Jvm.Cond.methodLink "HomesQueueLaw" (90 : Nat) ({ cls := "HomesQueue", name := "weeks", desc := "(II)I" } : Jvm.MethodName)) ∈ lw_all := lw_g (lw_at lw_m5 234 rfl) rfl
theorem q1498 : (Jvm.Cond.methodLink "HomesQueueLaw" (94 : Nat) ({ cls := "HomesQueue", name := "when", desc := "(IIZ)I" } : Jvm.MethodName)) ∈ lw_all := lw_g (lw_at lw_m6 125 rfl) rfl
theorem q1507 : (Jvm.Cond.methodLink "HomesQueueLaw" (99 : Nat) ({ cls := "HomesQueue", name := "tip", desc := "(I)I" } : Jvm.MethodName)) ∈ lw_all := lw_g (lw_at lw_m6 134 rfl) rfl
theorem q1539 : (Jvm.Cond.methodLink "HomesQueueLaw" (103 : Nat) ({ cls := "HomesQueue", name := "would", desc := "(II)I" } : Jvm.MethodName)) ∈ lw_all := lw_g (lw_at lw_m6 166 rfl) rfl
theorem q1544 : (Jvm.Cond.methodLink "HomesQueueLaw" (107 : Nat) ({ cls := "HomesQueue", name := "top", desc := "(I)I" } : Jvm.MethodName)) ∈ lw_all := lw_g (lw_at lw_m6 171 rfl) rfl
theorem q1551 : (Jvm.Cond.methodLink "HomesQueueLaw" (111 : Nat) ({ cls := "HomesQueue", name := "lot", desc := "(II)I" } : Jvm.MethodName)) ∈ lw_all := lw_g (lw_at lw_m6 178 rfl) rfl
theorem q1567 : (Jvm.Cond.methodLink "HomesQueueLaw" (115 : Nat) ({ cls := "HomesQueue", name := "fits", desc := "(II)I" } : Jvm.MethodName)) ∈ lw_all := lw_g (lw_at lw_m6 194 rfl) rfl
theorem q1575 : (Jvm.Cond.methodLink "HomesQueueLaw" (119 : Nat) ({ cls := "HomesQueue", name := "ward", desc := "(Z)I" } : Jvm.MethodName)) ∈ lw_all := lw_g (lw_at lw_m6 202 rfl) rfl
theorem q1598 : (Jvm.Cond.methodLink "HomesQueueLaw" (124 : Nat) ({ cls := "HomesQueue", name := "envy", desc := "(I)I" } : Jvm.MethodName)) ∈ lw_all := lw_g (lw_at lw_m6 225 rfl) rfl
theorem q1611 : (Jvm.Cond.methodLink "HomesQueueLaw" (128 : Nat) ({ cls := "HomesQueue", name := "lever", desc := "(II)I" } : Jvm.MethodName)) ∈ lw_all := lw_g (lw_at lw_m6 238 rfl) rfl
theorem q1621 : (Jvm.Cond.methodLink "HomesQueueLaw" (132 : Nat) ({ cls := "HomesQueue", name := "queue", desc := "(I)I" } : Jvm.MethodName)) ∈ lw_all := lw_g (lw_at lw_m7 8 rfl) rfl
theorem q1628 : (Jvm.Cond.methodLink "HomesQueueLaw" (136 : Nat) ({ cls := "HomesQueue", name := "most", desc := "()I" } : Jvm.MethodName)) ∈ lw_all := lw_g (lw_at lw_m7 15 rfl) rfl
theorem q1669 : (Jvm.Cond.methodLink "HomesQueueLaw" (140 : Nat) ({ cls := "HomesQueue", name := "gift", desc := "(I)I" } : Jvm.MethodName)) ∈ lw_all := lw_g (lw_at lw_m7 56 rfl) rfl
theorem q1673 : (Jvm.Cond.methodLink "HomesQueueLaw" (144 : Nat) ({ cls := "HomesQueue", name := "trade", desc := "(I)I" } : Jvm.MethodName)) ∈ lw_all := lw_g (lw_at lw_m7 60 rfl) rfl
theorem q1718 : (Jvm.Cond.methodLink "HomesQueueLaw" (148 : Nat) ({ cls := "HomesQueue", name := "trades", desc := "(I)I" } : Jvm.MethodName)) ∈ lw_all := lw_g (lw_at lw_m7 105 rfl) rfl
theorem q1725 : (Jvm.Cond.methodLink "HomesQueueLaw" (152 : Nat) ({ cls := "HomesQueue", name := "longest", desc := "(IZ)I" } : Jvm.MethodName)) ∈ lw_all := lw_g (lw_at lw_m7 112 rfl) rfl
theorem q1772 : (Jvm.Cond.methodLink "HomesQueueLaw" (157 : Nat) ({ cls := "HomesQueue", name := "gap", desc := "(II)I" } : Jvm.MethodName)) ∈ lw_all := lw_g (lw_at lw_m7 159 rfl) rfl
theorem q1784 : (Jvm.Cond.methodLink "HomesQueueLaw" (161 : Nat) ({ cls := "HomesQueue", name := "bid", desc := "(II)I" } : Jvm.MethodName)) ∈ lw_all := lw_g (lw_at lw_m7 171 rfl) rfl
theorem q1802 : (Jvm.Cond.methodLink "HomesQueueLaw" (165 : Nat) ({ cls := "HomesQueue", name := "unbid", desc := "(II)I" } : Jvm.MethodName)) ∈ lw_all := lw_g (lw_at lw_m7 189 rfl) rfl
theorem q1806 : (Jvm.Cond.methodLink "HomesQueueLaw" (169 : Nat) ({ cls := "HomesQueue", name := "auto", desc := "()I" } : Jvm.MethodName)) ∈ lw_all := lw_g (lw_at lw_m7 193 rfl) rfl
theorem q1811 : (Jvm.Cond.methodLink "HomesQueueLaw" (173 : Nat) ({ cls := "HomesQueue", name := "week", desc := "()I" } : Jvm.MethodName)) ∈ lw_all := lw_g (lw_at lw_m7 198 rfl) rfl
theorem q1815 : (Jvm.Cond.methodLink "HomesQueueLaw" (177 : Nat) ({ cls := "HomesQueue", name := "wish", desc := "(II)I" } : Jvm.MethodName)) ∈ lw_all := lw_g (lw_at lw_m7 202 rfl) rfl
theorem q1819 : (Jvm.Cond.methodLink "HomesQueueLaw" (181 : Nat) ({ cls := "HomesQueue", name := "unwish", desc := "(II)I" } : Jvm.MethodName)) ∈ lw_all := lw_g (lw_at lw_m7 206 rfl) rfl
theorem q1823 : (Jvm.Cond.methodLink "HomesQueueLaw" (185 : Nat) ({ cls := "HomesQueue", name := "leave", desc := "(I)I" } : Jvm.MethodName)) ∈ lw_all := lw_g (lw_at lw_m7 210 rfl) rfl
theorem q1831 : (Jvm.Cond.methodLink "HomesQueueLaw" (189 : Nat) ({ cls := "HomesQueue", name := "shut", desc := "(IZ)I" } : Jvm.MethodName)) ∈ lw_all := lw_g (lw_at lw_m7 218 rfl) rfl
theorem q1835 : (Jvm.Cond.methodLink "HomesQueueLaw" (193 : Nat) ({ cls := "HomesQueue", name := "need", desc := "(II)I" } : Jvm.MethodName)) ∈ lw_all := lw_g (lw_at lw_m7 222 rfl) rfl
theorem q1839 : (Jvm.Cond.methodLink "HomesQueueLaw" (197 : Nat) ({ cls := "HomesQueue", name := "rules", desc := "(II)I" } : Jvm.MethodName)) ∈ lw_all := lw_g (lw_at lw_m7 226 rfl) rfl
theorem q1843 : (Jvm.Cond.methodLink "HomesQueueLaw" (201 : Nat) ({ cls := "HomesQueue", name := "undo", desc := "()I" } : Jvm.MethodName)) ∈ lw_all := lw_g (lw_at lw_m7 230 rfl) rfl
theorem q1851 : (Jvm.Cond.methodLink "HomesQueueLaw" (205 : Nat) ({ cls := "HomesQueue", name := "print", desc := "()I" } : Jvm.MethodName)) ∈ lw_all := lw_g (lw_at lw_m7 238 rfl) rfl
theorem q1967 : (Jvm.Cond.methodLink "HomesQueueLaw" (209 : Nat) ({ cls := "HomesQueueLaw", name := "out", desc := "(LHomesQueue;I[J)I" } : Jvm.MethodName)) ∈ lw_all := lw_g (lw_at lw_m8 114 rfl) rfl
theorem q1968 : (Jvm.Cond.static ({ cls := "HomesQueueLaw", name := "out", desc := "(LHomesQueue;I[J)I" } : Jvm.MethodName)) ∈ lw_all := lw_g (lw_at lw_m8 115 rfl) rfl
theorem q1969 : (Jvm.Cond.codeWith ({ cls := "HomesQueueLaw", name := "out", desc := "(LHomesQueue;I[J)I" } : Jvm.MethodName) method_3_code (4 : Nat) (Option.some Jvm.ClassFile.FieldType.int) [((0 : Nat), (9 : Nat), (12 : Nat), (13 : Nat))]) ∈ lw_all := lw_g (lw_at lw_m8 116 rfl) rfl
theorem q1970 : (Jvm.Cond.classLink "HomesQueueLaw" (13 : Nat) "java/util/NoSuchElementException") ∈ lw_all := lw_g (lw_at lw_m8 117 rfl) rfl
theorem q1971 : (Jvm.Cond.methodLink "HomesQueueLaw" (7 : Nat) ({ cls := "HomesQueue", name := "out", desc := "(I)I" } : Jvm.MethodName)) ∈ lw_all := lw_g (lw_at lw_m8 118 rfl) rfl
theorem q1987 : (Jvm.Cond.classLink "HomesQueueLaw" (16 : Nat) "HomesQueueModel") ∈ lw_all := lw_g (lw_at lw_m8 134 rfl) rfl
theorem q1989 : (Jvm.Cond.methodLink "HomesQueueLaw" (18 : Nat) ({ cls := "HomesQueueModel", name := "<init>", desc := "()V" } : Jvm.MethodName)) ∈ lw_all := lw_g (lw_at lw_m8 136 rfl) rfl
theorem q2096 : (Jvm.Cond.methodLink "HomesQueueLaw" (215 : Nat) ({ cls := "HomesQueueModel", name := "thrown", desc := "()I" } : Jvm.MethodName)) ∈ lw_all := lw_g (lw_at lw_m9 3 rfl) rfl
theorem q2100 : (Jvm.Cond.methodLink "HomesQueueLaw" (23 : Nat) ({ cls := "HomesQueueModel", name := "status", desc := "()I" } : Jvm.MethodName)) ∈ lw_all := lw_g (lw_at lw_m9 7 rfl) rfl
theorem q2104 : (Jvm.Cond.methodLink "HomesQueueLaw" (28 : Nat) ({ cls := "HomesQueueModel", name := "feed", desc := "(IIIII)I" } : Jvm.MethodName)) ∈ lw_all := lw_g (lw_at lw_m9 11 rfl) rfl
theorem q2112 : (Jvm.Cond.methodLink "HomesQueueLaw" (32 : Nat) ({ cls := "HomesQueueModel", name := "load", desc := "(I)I" } : Jvm.MethodName)) ∈ lw_all := lw_g (lw_at lw_m9 19 rfl) rfl
theorem q2219 : (Jvm.Cond.methodLink "HomesQueueLaw" (36 : Nat) ({ cls := "HomesQueueModel", name := "fault", desc := "(I)I" } : Jvm.MethodName)) ∈ lw_all := lw_g (lw_at lw_m9 126 rfl) rfl
theorem q2223 : (Jvm.Cond.methodLink "HomesQueueLaw" (40 : Nat) ({ cls := "HomesQueueModel", name := "many", desc := "(I)I" } : Jvm.MethodName)) ∈ lw_all := lw_g (lw_at lw_m9 130 rfl) rfl
theorem q2258 : (Jvm.Cond.methodLink "HomesQueueLaw" (45 : Nat) ({ cls := "HomesQueueModel", name := "home", desc := "(II)I" } : Jvm.MethodName)) ∈ lw_all := lw_g (lw_at lw_m9 165 rfl) rfl
theorem q2274 : (Jvm.Cond.methodLink "HomesQueueLaw" (49 : Nat) ({ cls := "HomesQueueModel", name := "house", desc := "(II)I" } : Jvm.MethodName)) ∈ lw_all := lw_g (lw_at lw_m9 181 rfl) rfl
theorem q2287 : (Jvm.Cond.methodLink "HomesQueueLaw" (53 : Nat) ({ cls := "HomesQueueModel", name := "rule", desc := "(I)I" } : Jvm.MethodName)) ∈ lw_all := lw_g (lw_at lw_m9 194 rfl) rfl
theorem q2291 : (Jvm.Cond.methodLink "HomesQueueLaw" (57 : Nat) ({ cls := "HomesQueueModel", name := "why", desc := "(II)I" } : Jvm.MethodName)) ∈ lw_all := lw_g (lw_at lw_m9 198 rfl) rfl
theorem q2307 : (Jvm.Cond.methodLink "HomesQueueLaw" (61 : Nat) ({ cls := "HomesQueueModel", name := "bids", desc := "(II)I" } : Jvm.MethodName)) ∈ lw_all := lw_g (lw_at lw_m9 214 rfl) rfl
theorem q2311 : (Jvm.Cond.methodLink "HomesQueueLaw" (65 : Nat) ({ cls := "HomesQueueModel", name := "order", desc := "(II)I" } : Jvm.MethodName)) ∈ lw_all := lw_g (lw_at lw_m9 218 rfl) rfl
theorem q2347 : (Jvm.Cond.methodLink "HomesQueueLaw" (69 : Nat) ({ cls := "HomesQueueModel", name := "ahead", desc := "(II)I" } : Jvm.MethodName)) ∈ lw_all := lw_g (lw_at lw_m10 14 rfl) rfl
theorem q2359 : (Jvm.Cond.methodLink "HomesQueueLaw" (73 : Nat) ({ cls := "HomesQueueModel", name := "turn", desc := "(II)I" } : Jvm.MethodName)) ∈ lw_all := lw_g (lw_at lw_m10 26 rfl) rfl
theorem q2363 : (Jvm.Cond.methodLink "HomesQueueLaw" (160 : Nat) ({ cls := "HomesQueueModel", name := "gap", desc := "(II)I" } : Jvm.MethodName)) ∈ lw_all := lw_g (lw_at lw_m10 30 rfl) rfl
theorem q2367 : (Jvm.Cond.methodLink "HomesQueueLaw" (77 : Nat) ({ cls := "HomesQueueModel", name := "let", desc := "(II)I" } : Jvm.MethodName)) ∈ lw_all := lw_g (lw_at lw_m10 34 rfl) rfl
theorem q2371 : (Jvm.Cond.methodLink "HomesQueueLaw" (81 : Nat) ({ cls := "HomesQueueModel", name := "offer", desc := "(II)I" } : Jvm.MethodName)) ∈ lw_all := lw_g (lw_at lw_m10 38 rfl) rfl
theorem q2375 : (Jvm.Cond.methodLink "HomesQueueLaw" (85 : Nat) ({ cls := "HomesQueueModel", name := "tally", desc := "(I)I" } : Jvm.MethodName)) ∈ lw_all := lw_g (lw_at lw_m10 42 rfl) rfl
theorem q2387 : (Jvm.Cond.methodLink "HomesQueueLaw" (89 : Nat) ({ cls := "HomesQueueModel", name := "lack", desc := "(I)I" } : Jvm.MethodName)) ∈ lw_all := lw_g (lw_at lw_m10 54 rfl) rfl
theorem q2391 : (Jvm.Cond.methodLink "HomesQueueLaw" (93 : Nat) ({ cls := "HomesQueueModel", name := "weeks", desc := "(II)I" } : Jvm.MethodName)) ∈ lw_all := lw_g (lw_at lw_m10 58 rfl) rfl
theorem q2447 : (Jvm.Cond.methodLink "HomesQueueLaw" (98 : Nat) ({ cls := "HomesQueueModel", name := "when", desc := "(IIZ)I" } : Jvm.MethodName)) ∈ lw_all := lw_g (lw_at lw_m10 114 rfl) rfl
theorem q2451 : (Jvm.Cond.methodLink "HomesQueueLaw" (102 : Nat) ({ cls := "HomesQueueModel", name := "tip", desc := "(I)I" } : Jvm.MethodName)) ∈ lw_all := lw_g (lw_at lw_m10 118 rfl) rfl
theorem q2455 : (Jvm.Cond.methodLink "HomesQueueLaw" (106 : Nat) ({ cls := "HomesQueueModel", name := "would", desc := "(II)I" } : Jvm.MethodName)) ∈ lw_all := lw_g (lw_at lw_m10 122 rfl) rfl
theorem q2459 : (Jvm.Cond.methodLink "HomesQueueLaw" (135 : Nat) ({ cls := "HomesQueueModel", name := "queue", desc := "(I)I" } : Jvm.MethodName)) ∈ lw_all := lw_g (lw_at lw_m10 126 rfl) rfl
theorem q2467 : (Jvm.Cond.methodLink "HomesQueueLaw" (139 : Nat) ({ cls := "HomesQueueModel", name := "most", desc := "()I" } : Jvm.MethodName)) ∈ lw_all := lw_g (lw_at lw_m10 134 rfl) rfl
theorem q2487 : (Jvm.Cond.methodLink "HomesQueueLaw" (143 : Nat) ({ cls := "HomesQueueModel", name := "gift", desc := "(I)I" } : Jvm.MethodName)) ∈ lw_all := lw_g (lw_at lw_m10 154 rfl) rfl
theorem q2491 : (Jvm.Cond.methodLink "HomesQueueLaw" (110 : Nat) ({ cls := "HomesQueueModel", name := "top", desc := "(I)I" } : Jvm.MethodName)) ∈ lw_all := lw_g (lw_at lw_m10 158 rfl) rfl
theorem q2499 : (Jvm.Cond.methodLink "HomesQueueLaw" (114 : Nat) ({ cls := "HomesQueueModel", name := "lot", desc := "(II)I" } : Jvm.MethodName)) ∈ lw_all := lw_g (lw_at lw_m10 166 rfl) rfl
theorem q2509 : (Jvm.Cond.methodLink "HomesQueueLaw" (118 : Nat) ({ cls := "HomesQueueModel", name := "fits", desc := "(II)I" } : Jvm.MethodName)) ∈ lw_all := lw_g (lw_at lw_m10 176 rfl) rfl
theorem q2513 : (Jvm.Cond.methodLink "HomesQueueLaw" (123 : Nat) ({ cls := "HomesQueueModel", name := "ward", desc := "(Z)I" } : Jvm.MethodName)) ∈ lw_all := lw_g (lw_at lw_m10 180 rfl) rfl
theorem q2521 : (Jvm.Cond.methodLink "HomesQueueLaw" (127 : Nat) ({ cls := "HomesQueueModel", name := "envy", desc := "(I)I" } : Jvm.MethodName)) ∈ lw_all := lw_g (lw_at lw_m10 188 rfl) rfl
theorem q2529 : (Jvm.Cond.methodLink "HomesQueueLaw" (131 : Nat) ({ cls := "HomesQueueModel", name := "lever", desc := "(II)I" } : Jvm.MethodName)) ∈ lw_all := lw_g (lw_at lw_m10 196 rfl) rfl
theorem q2537 : (Jvm.Cond.methodLink "HomesQueueLaw" (147 : Nat) ({ cls := "HomesQueueModel", name := "trade", desc := "(I)I" } : Jvm.MethodName)) ∈ lw_all := lw_g (lw_at lw_m10 204 rfl) rfl
theorem q2550 : (Jvm.Cond.methodLink "HomesQueueLaw" (151 : Nat) ({ cls := "HomesQueueModel", name := "trades", desc := "(I)I" } : Jvm.MethodName)) ∈ lw_all := lw_g (lw_at lw_m10 217 rfl) rfl
theorem q2554 : (Jvm.Cond.methodLink "HomesQueueLaw" (156 : Nat) ({ cls := "HomesQueueModel", name := "longest", desc := "(IZ)I" } : Jvm.MethodName)) ∈ lw_all := lw_g (lw_at lw_m10 221 rfl) rfl
theorem q2562 : (Jvm.Cond.methodLink "HomesQueueLaw" (204 : Nat) ({ cls := "HomesQueueModel", name := "undo", desc := "()I" } : Jvm.MethodName)) ∈ lw_all := lw_g (lw_at lw_m10 229 rfl) rfl
theorem q2566 : (Jvm.Cond.methodLink "HomesQueueLaw" (164 : Nat) ({ cls := "HomesQueueModel", name := "bid", desc := "(II)I" } : Jvm.MethodName)) ∈ lw_all := lw_g (lw_at lw_m10 233 rfl) rfl
theorem q2574 : (Jvm.Cond.methodLink "HomesQueueLaw" (168 : Nat) ({ cls := "HomesQueueModel", name := "unbid", desc := "(II)I" } : Jvm.MethodName)) ∈ lw_all := lw_g (lw_at lw_m11 1 rfl) rfl
theorem q2578 : (Jvm.Cond.methodLink "HomesQueueLaw" (172 : Nat) ({ cls := "HomesQueueModel", name := "auto", desc := "()I" } : Jvm.MethodName)) ∈ lw_all := lw_g (lw_at lw_m11 5 rfl) rfl
theorem q2582 : (Jvm.Cond.methodLink "HomesQueueLaw" (176 : Nat) ({ cls := "HomesQueueModel", name := "week", desc := "()I" } : Jvm.MethodName)) ∈ lw_all := lw_g (lw_at lw_m11 9 rfl) rfl
theorem q2586 : (Jvm.Cond.methodLink "HomesQueueLaw" (180 : Nat) ({ cls := "HomesQueueModel", name := "wish", desc := "(II)I" } : Jvm.MethodName)) ∈ lw_all := lw_g (lw_at lw_m11 13 rfl) rfl
theorem q2590 : (Jvm.Cond.methodLink "HomesQueueLaw" (184 : Nat) ({ cls := "HomesQueueModel", name := "unwish", desc := "(II)I" } : Jvm.MethodName)) ∈ lw_all := lw_g (lw_at lw_m11 17 rfl) rfl
theorem q2594 : (Jvm.Cond.methodLink "HomesQueueLaw" (188 : Nat) ({ cls := "HomesQueueModel", name := "leave", desc := "(I)I" } : Jvm.MethodName)) ∈ lw_all := lw_g (lw_at lw_m11 21 rfl) rfl
theorem q2598 : (Jvm.Cond.methodLink "HomesQueueLaw" (192 : Nat) ({ cls := "HomesQueueModel", name := "shut", desc := "(IZ)I" } : Jvm.MethodName)) ∈ lw_all := lw_g (lw_at lw_m11 25 rfl) rfl
theorem q2606 : (Jvm.Cond.methodLink "HomesQueueLaw" (196 : Nat) ({ cls := "HomesQueueModel", name := "need", desc := "(II)I" } : Jvm.MethodName)) ∈ lw_all := lw_g (lw_at lw_m11 33 rfl) rfl
theorem q2610 : (Jvm.Cond.methodLink "HomesQueueLaw" (200 : Nat) ({ cls := "HomesQueueModel", name := "rules", desc := "(II)I" } : Jvm.MethodName)) ∈ lw_all := lw_g (lw_at lw_m11 37 rfl) rfl
theorem q2614 : (Jvm.Cond.methodLink "HomesQueueLaw" (208 : Nat) ({ cls := "HomesQueueModel", name := "print", desc := "()I" } : Jvm.MethodName)) ∈ lw_all := lw_g (lw_at lw_m11 41 rfl) rfl
theorem q2643 : (Jvm.Cond.methodLink "HomesQueueLaw" (214 : Nat) ({ cls := "HomesQueueModel", name := "out", desc := "(I)I" } : Jvm.MethodName)) ∈ lw_all := lw_g (lw_at lw_m11 70 rfl) rfl

/-! the law's own entry -/
set_option maxRecDepth 100000
abbrev cL_law : ByteArray := code
def dkwL_law_68 : List UInt8 := [21, 6, 133, 148, 153, 0, 5, 3, 172, 167, 0, 3, 132, 4, 6, 167, 249, 22, 4, 172]
abbrev dktL_law_68 : List UInt8 := dkwL_law_68 ++ []
def dkwL_law_67 : List UInt8 := [182, 0, 214, 54, 6, 44, 182, 0, 215, 21, 5, 159, 0, 5, 3, 172, 21, 5, 154, 0, 15, 45, 3, 47]
abbrev dktL_law_67 : List UInt8 := dkwL_law_67 ++ dktL_law_68
def dkwL_law_66 : List UInt8 := [3, 172, 43, 42, 21, 4, 4, 96, 46, 45, 184, 0, 209, 54, 5, 44, 42, 21, 4, 4, 96, 46]
abbrev dktL_law_66 : List UInt8 := dkwL_law_66 ++ dktL_law_67
def dkwL_law_65 : List UInt8 := [43, 182, 0, 201, 44, 182, 0, 204, 159, 0, 74, 3, 172, 43, 182, 0, 205, 44, 182, 0, 208, 159, 0, 61]
abbrev dktL_law_65 : List UInt8 := dkwL_law_65 ++ dktL_law_66
def dkwL_law_64 : List UInt8 := [182, 0, 197, 44, 42, 21, 4, 4, 96, 46, 42, 21, 4, 5, 96, 46, 182, 0, 200, 159, 0, 87, 3, 172]
abbrev dktL_law_64 : List UInt8 := dkwL_law_64 ++ dktL_law_65
def dkwL_law_63 : List UInt8 := [5, 96, 46, 182, 0, 196, 159, 0, 124, 3, 172, 43, 42, 21, 4, 4, 96, 46, 42, 21, 4, 5, 96, 46]
abbrev dktL_law_63 : List UInt8 := dkwL_law_63 ++ dktL_law_64
def dkwL_law_62 : List UInt8 := [21, 4, 4, 96, 46, 42, 21, 4, 5, 96, 46, 182, 0, 193, 44, 42, 21, 4, 4, 96, 46, 42, 21, 4]
abbrev dktL_law_62 : List UInt8 := dkwL_law_62 ++ dktL_law_63
def dkwL_law_61 : List UInt8 := [21, 4, 5, 96, 46, 153, 0, 7, 4, 167, 0, 4, 3, 182, 0, 192, 159, 0, 161, 3, 172, 43, 42]
abbrev dktL_law_61 : List UInt8 := dkwL_law_61 ++ dktL_law_62
def dkwL_law_60 : List UInt8 := [21, 4, 5, 96, 46, 153, 0, 7, 4, 167, 0, 4, 3, 182, 0, 189, 44, 42, 21, 4, 4, 96, 46, 42]
abbrev dktL_law_60 : List UInt8 := dkwL_law_60 ++ dktL_law_61
def dkwL_law_59 : List UInt8 := [44, 42, 21, 4, 4, 96, 46, 182, 0, 188, 159, 0, 214, 3, 172, 43, 42, 21, 4, 4, 96, 46, 42]
abbrev dktL_law_59 : List UInt8 := dkwL_law_59 ++ dktL_law_60
def dkwL_law_58 : List UInt8 := [42, 21, 4, 5, 96, 46, 182, 0, 184, 159, 0, 239, 3, 172, 43, 42, 21, 4, 4, 96, 46, 182, 0, 185]
abbrev dktL_law_58 : List UInt8 := dkwL_law_58 ++ dktL_law_59
def dkwL_law_57 : List UInt8 := [172, 43, 42, 21, 4, 4, 96, 46, 42, 21, 4, 5, 96, 46, 182, 0, 181, 44, 42, 21, 4, 4, 96, 46]
abbrev dktL_law_57 : List UInt8 := dkwL_law_57 ++ dktL_law_58
def dkwL_law_56 : List UInt8 := [46, 182, 0, 177, 44, 42, 21, 4, 4, 96, 46, 42, 21, 4, 5, 96, 46, 182, 0, 180, 159, 1, 20, 3]
abbrev dktL_law_56 : List UInt8 := dkwL_law_56 ++ dktL_law_57
def dkwL_law_55 : List UInt8 := [182, 0, 173, 44, 182, 0, 176, 159, 1, 57, 3, 172, 43, 42, 21, 4, 4, 96, 46, 42, 21, 4, 5, 96]
abbrev dktL_law_55 : List UInt8 := dkwL_law_55 ++ dktL_law_56
def dkwL_law_54 : List UInt8 := [182, 0, 168, 159, 1, 83, 3, 172, 43, 182, 0, 169, 44, 182, 0, 172, 159, 1, 70, 3, 172, 43]
abbrev dktL_law_54 : List UInt8 := dkwL_law_54 ++ dktL_law_55
def dkwL_law_53 : List UInt8 := [96, 46, 42, 21, 4, 5, 96, 46, 182, 0, 165, 44, 42, 21, 4, 4, 96, 46, 42, 21, 4, 5, 96, 46]
abbrev dktL_law_53 : List UInt8 := dkwL_law_53 ++ dktL_law_54
def dkwL_law_52 : List UInt8 := [21, 4, 4, 96, 46, 42, 21, 4, 5, 96, 46, 182, 0, 164, 159, 1, 120, 3, 172, 43, 42, 21, 4, 4]
abbrev dktL_law_52 : List UInt8 := dkwL_law_52 ++ dktL_law_53
def dkwL_law_51 : List UInt8 := [159, 1, 157, 3, 172, 43, 42, 21, 4, 4, 96, 46, 42, 21, 4, 5, 96, 46, 182, 0, 161, 44, 42]
abbrev dktL_law_51 : List UInt8 := dkwL_law_51 ++ dktL_law_52
def dkwL_law_50 : List UInt8 := [21, 4, 5, 96, 46, 182, 0, 157, 44, 42, 21, 4, 4, 96, 46, 42, 21, 4, 5, 96, 46, 182, 0, 160]
abbrev dktL_law_50 : List UInt8 := dkwL_law_50 ++ dktL_law_51
def dkwL_law_49 : List UInt8 := [153, 0, 7, 4, 167, 0, 4, 3, 182, 0, 156, 159, 1, 194, 3, 172, 43, 42, 21, 4, 4, 96, 46, 42]
abbrev dktL_law_49 : List UInt8 := dkwL_law_49 ++ dktL_law_50
def dkwL_law_48 : List UInt8 := [153, 0, 7, 4, 167, 0, 4, 3, 182, 0, 152, 44, 42, 21, 4, 4, 96, 46, 42, 21, 4, 5, 96, 46]
abbrev dktL_law_48 : List UInt8 := dkwL_law_48 ++ dktL_law_49
def dkwL_law_47 : List UInt8 := [96, 46, 182, 0, 151, 159, 1, 247, 3, 172, 43, 42, 21, 4, 4, 96, 46, 42, 21, 4, 5, 96, 46]
abbrev dktL_law_47 : List UInt8 := dkwL_law_47 ++ dktL_law_48
def dkwL_law_46 : List UInt8 := [46, 182, 0, 147, 159, 2, 16, 3, 172, 43, 42, 21, 4, 4, 96, 46, 182, 0, 148, 44, 42, 21, 4, 4]
abbrev dktL_law_46 : List UInt8 := dkwL_law_46 ++ dktL_law_47
def dkwL_law_45 : List UInt8 := [182, 0, 143, 159, 2, 41, 3, 172, 43, 42, 21, 4, 4, 96, 46, 182, 0, 144, 44, 42, 21, 4, 4, 96]
abbrev dktL_law_45 : List UInt8 := dkwL_law_45 ++ dktL_law_46
def dkwL_law_44 : List UInt8 := [159, 2, 66, 3, 172, 43, 42, 21, 4, 4, 96, 46, 182, 0, 140, 44, 42, 21, 4, 4, 96, 46]
abbrev dktL_law_44 : List UInt8 := dkwL_law_44 ++ dktL_law_45
def dkwL_law_43 : List UInt8 := [42, 21, 4, 4, 96, 46, 182, 0, 135, 159, 2, 79, 3, 172, 43, 182, 0, 136, 44, 182, 0, 139]
abbrev dktL_law_43 : List UInt8 := dkwL_law_43 ++ dktL_law_44
def dkwL_law_42 : List UInt8 := [21, 4, 5, 96, 46, 182, 0, 131, 159, 2, 104, 3, 172, 43, 42, 21, 4, 4, 96, 46, 182, 0, 132, 44]
abbrev dktL_law_42 : List UInt8 := dkwL_law_42 ++ dktL_law_43
def dkwL_law_41 : List UInt8 := [42, 21, 4, 4, 96, 46, 42, 21, 4, 5, 96, 46, 182, 0, 128, 44, 42, 21, 4, 4, 96, 46, 42]
abbrev dktL_law_41 : List UInt8 := dkwL_law_41 ++ dktL_law_42
def dkwL_law_40 : List UInt8 := [21, 4, 4, 96, 46, 182, 0, 124, 44, 42, 21, 4, 4, 96, 46, 182, 0, 127, 159, 2, 141, 3, 172, 43]
abbrev dktL_law_40 : List UInt8 := dkwL_law_40 ++ dktL_law_41
def dkwL_law_39 : List UInt8 := [42, 21, 4, 4, 96, 46, 153, 0, 7, 4, 167, 0, 4, 3, 182, 0, 123, 159, 2, 166, 3, 172, 43, 42]
abbrev dktL_law_39 : List UInt8 := dkwL_law_39 ++ dktL_law_40
def dkwL_law_38 : List UInt8 := [159, 2, 207, 3, 172, 43, 42, 21, 4, 4, 96, 46, 153, 0, 7, 4, 167, 0, 4, 3, 182, 0, 119, 44]
abbrev dktL_law_38 : List UInt8 := dkwL_law_38 ++ dktL_law_39
def dkwL_law_37 : List UInt8 := [5, 96, 46, 182, 0, 115, 44, 42, 21, 4, 4, 96, 46, 42, 21, 4, 5, 96, 46, 182, 0, 118]
abbrev dktL_law_37 : List UInt8 := dkwL_law_37 ++ dktL_law_38
def dkwL_law_36 : List UInt8 := [42, 21, 4, 5, 96, 46, 182, 0, 114, 159, 2, 244, 3, 172, 43, 42, 21, 4, 4, 96, 46, 42, 21, 4]
abbrev dktL_law_36 : List UInt8 := dkwL_law_36 ++ dktL_law_37
def dkwL_law_35 : List UInt8 := [172, 43, 42, 21, 4, 4, 96, 46, 42, 21, 4, 5, 96, 46, 182, 0, 111, 44, 42, 21, 4, 4, 96, 46]
abbrev dktL_law_35 : List UInt8 := dkwL_law_35 ++ dktL_law_36
def dkwL_law_34 : List UInt8 := [43, 42, 21, 4, 4, 96, 46, 182, 0, 107, 44, 42, 21, 4, 4, 96, 46, 182, 0, 110, 159, 3, 25, 3]
abbrev dktL_law_34 : List UInt8 := dkwL_law_34 ++ dktL_law_35
def dkwL_law_33 : List UInt8 := [182, 0, 103, 44, 42, 21, 4, 4, 96, 46, 42, 21, 4, 5, 96, 46, 182, 0, 106, 159, 3, 50, 3, 172]
abbrev dktL_law_33 : List UInt8 := dkwL_law_33 ++ dktL_law_34
def dkwL_law_32 : List UInt8 := [46, 182, 0, 102, 159, 3, 87, 3, 172, 43, 42, 21, 4, 4, 96, 46, 42, 21, 4, 5, 96, 46]
abbrev dktL_law_32 : List UInt8 := dkwL_law_32 ++ dktL_law_33
def dkwL_law_31 : List UInt8 := [182, 0, 98, 159, 3, 112, 3, 172, 43, 42, 21, 4, 4, 96, 46, 182, 0, 99, 44, 42, 21, 4, 4, 96]
abbrev dktL_law_31 : List UInt8 := dkwL_law_31 ++ dktL_law_32
def dkwL_law_30 : List UInt8 := [96, 46, 42, 21, 4, 5, 96, 46, 42, 21, 4, 6, 96, 46, 153, 0, 7, 4, 167, 0, 4, 3]
abbrev dktL_law_30 : List UInt8 := dkwL_law_30 ++ dktL_law_31
def dkwL_law_29 : List UInt8 := [96, 46, 42, 21, 4, 6, 96, 46, 153, 0, 7, 4, 167, 0, 4, 3, 182, 0, 94, 44, 42, 21, 4, 4]
abbrev dktL_law_29 : List UInt8 := dkwL_law_29 ++ dktL_law_30
def dkwL_law_28 : List UInt8 := [21, 4, 5, 96, 46, 182, 0, 93, 159, 3, 177, 3, 172, 43, 42, 21, 4, 4, 96, 46, 42, 21, 4, 5]
abbrev dktL_law_28 : List UInt8 := dkwL_law_28 ++ dktL_law_29
def dkwL_law_27 : List UInt8 := [43, 42, 21, 4, 4, 96, 46, 42, 21, 4, 5, 96, 46, 182, 0, 90, 44, 42, 21, 4, 4, 96, 46, 42]
abbrev dktL_law_27 : List UInt8 := dkwL_law_27 ++ dktL_law_28
def dkwL_law_26 : List UInt8 := [42, 21, 4, 4, 96, 46, 182, 0, 86, 44, 42, 21, 4, 4, 96, 46, 182, 0, 89, 159, 3, 214, 3, 172]
abbrev dktL_law_26 : List UInt8 := dkwL_law_26 ++ dktL_law_27
def dkwL_law_25 : List UInt8 := [21, 4, 4, 96, 46, 182, 0, 82, 44, 42, 21, 4, 4, 96, 46, 182, 0, 85, 159, 3, 239, 3, 172, 43]
abbrev dktL_law_25 : List UInt8 := dkwL_law_25 ++ dktL_law_26
def dkwL_law_24 : List UInt8 := [44, 42, 21, 4, 4, 96, 46, 42, 21, 4, 5, 96, 46, 182, 0, 81, 159, 4, 8, 3, 172, 43, 42]
abbrev dktL_law_24 : List UInt8 := dkwL_law_24 ++ dktL_law_25
def dkwL_law_23 : List UInt8 := [182, 0, 77, 159, 4, 45, 3, 172, 43, 42, 21, 4, 4, 96, 46, 42, 21, 4, 5, 96, 46, 182, 0, 78]
abbrev dktL_law_23 : List UInt8 := dkwL_law_23 ++ dktL_law_24
def dkwL_law_22 : List UInt8 := [96, 46, 42, 21, 4, 5, 96, 46, 182, 0, 74, 44, 42, 21, 4, 4, 96, 46, 42, 21, 4, 5, 96, 46]
abbrev dktL_law_22 : List UInt8 := dkwL_law_22 ++ dktL_law_23
def dkwL_law_21 : List UInt8 := [21, 4, 4, 96, 46, 42, 21, 4, 5, 96, 46, 182, 0, 73, 159, 4, 82, 3, 172, 43, 42, 21, 4, 4]
abbrev dktL_law_21 : List UInt8 := dkwL_law_21 ++ dktL_law_22
def dkwL_law_20 : List UInt8 := [159, 4, 119, 3, 172, 43, 42, 21, 4, 4, 96, 46, 42, 21, 4, 5, 96, 46, 182, 0, 70, 44, 42]
abbrev dktL_law_20 : List UInt8 := dkwL_law_20 ++ dktL_law_21
def dkwL_law_19 : List UInt8 := [21, 4, 5, 96, 46, 182, 0, 66, 44, 42, 21, 4, 4, 96, 46, 42, 21, 4, 5, 96, 46, 182, 0, 69]
abbrev dktL_law_19 : List UInt8 := dkwL_law_19 ++ dktL_law_20
def dkwL_law_18 : List UInt8 := [46, 42, 21, 4, 5, 96, 46, 182, 0, 65, 159, 4, 156, 3, 172, 43, 42, 21, 4, 4, 96, 46, 42]
abbrev dktL_law_18 : List UInt8 := dkwL_law_18 ++ dktL_law_19
def dkwL_law_17 : List UInt8 := [3, 172, 43, 42, 21, 4, 4, 96, 46, 42, 21, 4, 5, 96, 46, 182, 0, 62, 44, 42, 21, 4, 4, 96]
abbrev dktL_law_17 : List UInt8 := dkwL_law_17 ++ dktL_law_18
def dkwL_law_16 : List UInt8 := [96, 46, 182, 0, 58, 44, 42, 21, 4, 4, 96, 46, 42, 21, 4, 5, 96, 46, 182, 0, 61, 159, 4, 193]
abbrev dktL_law_16 : List UInt8 := dkwL_law_16 ++ dktL_law_17
def dkwL_law_15 : List UInt8 := [21, 4, 5, 96, 46, 182, 0, 57, 159, 4, 230, 3, 172, 43, 42, 21, 4, 4, 96, 46, 42, 21, 4, 5]
abbrev dktL_law_15 : List UInt8 := dkwL_law_15 ++ dktL_law_16
def dkwL_law_14 : List UInt8 := [42, 21, 4, 4, 96, 46, 42, 21, 4, 5, 96, 46, 182, 0, 54, 44, 42, 21, 4, 4, 96, 46, 42]
abbrev dktL_law_14 : List UInt8 := dkwL_law_14 ++ dktL_law_15
def dkwL_law_13 : List UInt8 := [21, 4, 4, 96, 46, 182, 0, 50, 44, 42, 21, 4, 4, 96, 46, 182, 0, 53, 159, 5, 11, 3, 172, 43]
abbrev dktL_law_13 : List UInt8 := dkwL_law_13 ++ dktL_law_14
def dkwL_law_12 : List UInt8 := [44, 42, 21, 4, 4, 96, 46, 42, 21, 4, 5, 96, 46, 182, 0, 49, 159, 5, 36, 3, 172, 43, 42]
abbrev dktL_law_12 : List UInt8 := dkwL_law_12 ++ dktL_law_13
def dkwL_law_11 : List UInt8 := [182, 0, 45, 159, 5, 73, 3, 172, 43, 42, 21, 4, 4, 96, 46, 42, 21, 4, 5, 96, 46, 182, 0, 46]
abbrev dktL_law_11 : List UInt8 := dkwL_law_11 ++ dktL_law_12
def dkwL_law_10 : List UInt8 := [96, 46, 42, 21, 4, 5, 96, 46, 182, 0, 41, 44, 42, 21, 4, 4, 96, 46, 42, 21, 4, 5, 96, 46]
abbrev dktL_law_10 : List UInt8 := dkwL_law_10 ++ dktL_law_11
def dkwL_law_9 : List UInt8 := [46, 182, 0, 37, 44, 42, 21, 4, 4, 96, 46, 182, 0, 40, 159, 5, 110, 3, 172, 43, 42, 21, 4, 4]
abbrev dktL_law_9 : List UInt8 := dkwL_law_9 ++ dktL_law_10
def dkwL_law_8 : List UInt8 := [182, 0, 33, 44, 42, 21, 4, 4, 96, 46, 182, 0, 36, 159, 5, 135, 3, 172, 43, 42, 21, 4, 4, 96]
abbrev dktL_law_8 : List UInt8 := dkwL_law_8 ++ dktL_law_9
def dkwL_law_7 : List UInt8 := [44, 42, 21, 4, 4, 96, 46, 182, 0, 32, 159, 5, 160, 3, 172, 43, 42, 21, 4, 4, 96, 46]
abbrev dktL_law_7 : List UInt8 := dkwL_law_7 ++ dktL_law_8
def dkwL_law_6 : List UInt8 := [42, 21, 4, 8, 96, 46, 182, 0, 28, 159, 5, 185, 3, 172, 43, 42, 21, 4, 4, 96, 46, 182, 0, 29]
abbrev dktL_law_6 : List UInt8 := dkwL_law_6 ++ dktL_law_7
def dkwL_law_5 : List UInt8 := [42, 21, 4, 4, 96, 46, 42, 21, 4, 5, 96, 46, 42, 21, 4, 6, 96, 46, 42, 21, 4, 7, 96, 46]
abbrev dktL_law_5 : List UInt8 := dkwL_law_5 ++ dktL_law_6
def dkwL_law_4 : List UInt8 := [96, 46, 42, 21, 4, 6, 96, 46, 42, 21, 4, 7, 96, 46, 42, 21, 4, 8, 96, 46, 182, 0, 24, 44]
abbrev dktL_law_4 : List UInt8 := dkwL_law_4 ++ dktL_law_5
def dkwL_law_3 : List UInt8 := [43, 182, 0, 19, 44, 182, 0, 23, 159, 6, 2, 3, 172, 43, 42, 21, 4, 4, 96, 46, 42, 21, 4, 5]
abbrev dktL_law_3 : List UInt8 := dkwL_law_3 ++ dktL_law_4
def dkwL_law_2 : List UInt8 := [170, 0, 0, 0, 0, 0, 6, 214, 0, 0, 0, 0, 0, 0, 0, 46, 0, 0, 0, 204, 0, 0, 0, 217, 0, 0, 1, 34, 0, 0, 1, 59, 0, 0, 1, 84, 0, 0, 1, 109, 0, 0, 1, 146, 0, 0, 1, 183, 0, 0, 1, 208, 0, 0, 1, 245, 0, 0, 2, 26, 0, 0, 2, 63, 0, 0, 2, 100, 0, 0, 2, 137, 0, 0, 2, 174, 0, 0, 2, 211, 0, 0, 2, 236, 0, 0, 3, 5, 0, 0, 3, 42, 0, 0, 3, 107, 0, 0, 3, 132, 0, 0, 3, 169, 0, 0, 3, 194, 0, 0, 3, 231, 0, 0, 4, 12, 0, 0, 4, 53, 0, 0, 4, 78, 0, 0, 4, 115, 0, 0, 4, 140, 0, 0, 4, 153, 0, 0, 4, 178, 0, 0, 4, 203, 0, 0, 4, 228, 0, 0, 5, 25, 0, 0, 5, 62, 0, 0, 5, 99, 0, 0, 5, 136, 0, 0, 5, 149, 0, 0, 5, 162, 0, 0, 5, 199, 0, 0, 5, 236, 0, 0, 6, 5, 0, 0, 6, 58, 0, 0, 6, 95, 0, 0, 6, 132, 0, 0, 6, 145, 0, 0, 6, 158]
abbrev dktL_law_2 : List UInt8 := dkwL_law_2 ++ dktL_law_3
def dkwL_law_1 : List UInt8 := [21, 4, 42, 190, 16, 6, 100, 163, 6, 230, 42, 21, 4, 46, 16, 63, 126]
abbrev dktL_law_1 : List UInt8 := dkwL_law_1 ++ dktL_law_2
def dkwL_law_0 : List UInt8 := [187, 0, 8, 89, 183, 0, 15, 76, 187, 0, 16, 89, 183, 0, 18, 77, 4, 188, 11, 78, 3, 54, 4]
abbrev dktL_law_0 : List UInt8 := dkwL_law_0 ++ dktL_law_1
theorem dksL_law_0 : cL_law.data.toList.drop 0 = dktL_law_0 := by decide +kernel
theorem dksL_law_1 : cL_law.data.toList.drop 23 = dktL_law_1 := dk_seg dksL_law_0 23 rfl rfl
theorem dksL_law_2 : cL_law.data.toList.drop 40 = dktL_law_2 := dk_seg dksL_law_1 17 rfl rfl
theorem dksL_law_3 : cL_law.data.toList.drop 244 = dktL_law_3 := dk_seg dksL_law_2 204 rfl rfl
theorem dksL_law_4 : cL_law.data.toList.drop 268 = dktL_law_4 := dk_seg dksL_law_3 24 rfl rfl
theorem dksL_law_5 : cL_law.data.toList.drop 292 = dktL_law_5 := dk_seg dksL_law_4 24 rfl rfl
theorem dksL_law_6 : cL_law.data.toList.drop 316 = dktL_law_6 := dk_seg dksL_law_5 24 rfl rfl
theorem dksL_law_7 : cL_law.data.toList.drop 340 = dktL_law_7 := dk_seg dksL_law_6 24 rfl rfl
theorem dksL_law_8 : cL_law.data.toList.drop 362 = dktL_law_8 := dk_seg dksL_law_7 22 rfl rfl
theorem dksL_law_9 : cL_law.data.toList.drop 386 = dktL_law_9 := dk_seg dksL_law_8 24 rfl rfl
theorem dksL_law_10 : cL_law.data.toList.drop 410 = dktL_law_10 := dk_seg dksL_law_9 24 rfl rfl
theorem dksL_law_11 : cL_law.data.toList.drop 434 = dktL_law_11 := dk_seg dksL_law_10 24 rfl rfl
theorem dksL_law_12 : cL_law.data.toList.drop 458 = dktL_law_12 := dk_seg dksL_law_11 24 rfl rfl
theorem dksL_law_13 : cL_law.data.toList.drop 481 = dktL_law_13 := dk_seg dksL_law_12 23 rfl rfl
theorem dksL_law_14 : cL_law.data.toList.drop 505 = dktL_law_14 := dk_seg dksL_law_13 24 rfl rfl
theorem dksL_law_15 : cL_law.data.toList.drop 528 = dktL_law_15 := dk_seg dksL_law_14 23 rfl rfl
theorem dksL_law_16 : cL_law.data.toList.drop 552 = dktL_law_16 := dk_seg dksL_law_15 24 rfl rfl
theorem dksL_law_17 : cL_law.data.toList.drop 576 = dktL_law_17 := dk_seg dksL_law_16 24 rfl rfl
theorem dksL_law_18 : cL_law.data.toList.drop 600 = dktL_law_18 := dk_seg dksL_law_17 24 rfl rfl
theorem dksL_law_19 : cL_law.data.toList.drop 623 = dktL_law_19 := dk_seg dksL_law_18 23 rfl rfl
theorem dksL_law_20 : cL_law.data.toList.drop 647 = dktL_law_20 := dk_seg dksL_law_19 24 rfl rfl
theorem dksL_law_21 : cL_law.data.toList.drop 670 = dktL_law_21 := dk_seg dksL_law_20 23 rfl rfl
theorem dksL_law_22 : cL_law.data.toList.drop 694 = dktL_law_22 := dk_seg dksL_law_21 24 rfl rfl
theorem dksL_law_23 : cL_law.data.toList.drop 718 = dktL_law_23 := dk_seg dksL_law_22 24 rfl rfl
theorem dksL_law_24 : cL_law.data.toList.drop 742 = dktL_law_24 := dk_seg dksL_law_23 24 rfl rfl
theorem dksL_law_25 : cL_law.data.toList.drop 765 = dktL_law_25 := dk_seg dksL_law_24 23 rfl rfl
theorem dksL_law_26 : cL_law.data.toList.drop 789 = dktL_law_26 := dk_seg dksL_law_25 24 rfl rfl
theorem dksL_law_27 : cL_law.data.toList.drop 813 = dktL_law_27 := dk_seg dksL_law_26 24 rfl rfl
theorem dksL_law_28 : cL_law.data.toList.drop 837 = dktL_law_28 := dk_seg dksL_law_27 24 rfl rfl
theorem dksL_law_29 : cL_law.data.toList.drop 861 = dktL_law_29 := dk_seg dksL_law_28 24 rfl rfl
theorem dksL_law_30 : cL_law.data.toList.drop 885 = dktL_law_30 := dk_seg dksL_law_29 24 rfl rfl
theorem dksL_law_31 : cL_law.data.toList.drop 907 = dktL_law_31 := dk_seg dksL_law_30 22 rfl rfl
theorem dksL_law_32 : cL_law.data.toList.drop 931 = dktL_law_32 := dk_seg dksL_law_31 24 rfl rfl
theorem dksL_law_33 : cL_law.data.toList.drop 953 = dktL_law_33 := dk_seg dksL_law_32 22 rfl rfl
theorem dksL_law_34 : cL_law.data.toList.drop 977 = dktL_law_34 := dk_seg dksL_law_33 24 rfl rfl
theorem dksL_law_35 : cL_law.data.toList.drop 1001 = dktL_law_35 := dk_seg dksL_law_34 24 rfl rfl
theorem dksL_law_36 : cL_law.data.toList.drop 1025 = dktL_law_36 := dk_seg dksL_law_35 24 rfl rfl
theorem dksL_law_37 : cL_law.data.toList.drop 1049 = dktL_law_37 := dk_seg dksL_law_36 24 rfl rfl
theorem dksL_law_38 : cL_law.data.toList.drop 1071 = dktL_law_38 := dk_seg dksL_law_37 22 rfl rfl
theorem dksL_law_39 : cL_law.data.toList.drop 1095 = dktL_law_39 := dk_seg dksL_law_38 24 rfl rfl
theorem dksL_law_40 : cL_law.data.toList.drop 1119 = dktL_law_40 := dk_seg dksL_law_39 24 rfl rfl
theorem dksL_law_41 : cL_law.data.toList.drop 1143 = dktL_law_41 := dk_seg dksL_law_40 24 rfl rfl
theorem dksL_law_42 : cL_law.data.toList.drop 1166 = dktL_law_42 := dk_seg dksL_law_41 23 rfl rfl
theorem dksL_law_43 : cL_law.data.toList.drop 1190 = dktL_law_43 := dk_seg dksL_law_42 24 rfl rfl
theorem dksL_law_44 : cL_law.data.toList.drop 1212 = dktL_law_44 := dk_seg dksL_law_43 22 rfl rfl
theorem dksL_law_45 : cL_law.data.toList.drop 1234 = dktL_law_45 := dk_seg dksL_law_44 22 rfl rfl
theorem dksL_law_46 : cL_law.data.toList.drop 1258 = dktL_law_46 := dk_seg dksL_law_45 24 rfl rfl
theorem dksL_law_47 : cL_law.data.toList.drop 1282 = dktL_law_47 := dk_seg dksL_law_46 24 rfl rfl
theorem dksL_law_48 : cL_law.data.toList.drop 1305 = dktL_law_48 := dk_seg dksL_law_47 23 rfl rfl
theorem dksL_law_49 : cL_law.data.toList.drop 1329 = dktL_law_49 := dk_seg dksL_law_48 24 rfl rfl
theorem dksL_law_50 : cL_law.data.toList.drop 1353 = dktL_law_50 := dk_seg dksL_law_49 24 rfl rfl
theorem dksL_law_51 : cL_law.data.toList.drop 1377 = dktL_law_51 := dk_seg dksL_law_50 24 rfl rfl
theorem dksL_law_52 : cL_law.data.toList.drop 1400 = dktL_law_52 := dk_seg dksL_law_51 23 rfl rfl
theorem dksL_law_53 : cL_law.data.toList.drop 1424 = dktL_law_53 := dk_seg dksL_law_52 24 rfl rfl
theorem dksL_law_54 : cL_law.data.toList.drop 1448 = dktL_law_54 := dk_seg dksL_law_53 24 rfl rfl
theorem dksL_law_55 : cL_law.data.toList.drop 1470 = dktL_law_55 := dk_seg dksL_law_54 22 rfl rfl
theorem dksL_law_56 : cL_law.data.toList.drop 1494 = dktL_law_56 := dk_seg dksL_law_55 24 rfl rfl
theorem dksL_law_57 : cL_law.data.toList.drop 1518 = dktL_law_57 := dk_seg dksL_law_56 24 rfl rfl
theorem dksL_law_58 : cL_law.data.toList.drop 1542 = dktL_law_58 := dk_seg dksL_law_57 24 rfl rfl
theorem dksL_law_59 : cL_law.data.toList.drop 1566 = dktL_law_59 := dk_seg dksL_law_58 24 rfl rfl
theorem dksL_law_60 : cL_law.data.toList.drop 1589 = dktL_law_60 := dk_seg dksL_law_59 23 rfl rfl
theorem dksL_law_61 : cL_law.data.toList.drop 1613 = dktL_law_61 := dk_seg dksL_law_60 24 rfl rfl
theorem dksL_law_62 : cL_law.data.toList.drop 1636 = dktL_law_62 := dk_seg dksL_law_61 23 rfl rfl
theorem dksL_law_63 : cL_law.data.toList.drop 1660 = dktL_law_63 := dk_seg dksL_law_62 24 rfl rfl
theorem dksL_law_64 : cL_law.data.toList.drop 1684 = dktL_law_64 := dk_seg dksL_law_63 24 rfl rfl
theorem dksL_law_65 : cL_law.data.toList.drop 1708 = dktL_law_65 := dk_seg dksL_law_64 24 rfl rfl
theorem dksL_law_66 : cL_law.data.toList.drop 1732 = dktL_law_66 := dk_seg dksL_law_65 24 rfl rfl
theorem dksL_law_67 : cL_law.data.toList.drop 1754 = dktL_law_67 := dk_seg dksL_law_66 22 rfl rfl
theorem dksL_law_68 : cL_law.data.toList.drop 1778 = dktL_law_68 := dk_seg dksL_law_67 24 rfl rfl
theorem dL_law_0 : decode cL_law 0 = .ok (.new 8, 3) := dk_187 0 8 (dk_at dksL_law_0 0 rfl rfl)
theorem dL_law_3 : decode cL_law 3 = .ok (.dup, 1) := dk_89 (dk_at dksL_law_0 3 rfl rfl)
theorem dL_law_4 : decode cL_law 4 = .ok (.invokespecial 15, 3) := dk_183 0 15 (dk_at dksL_law_0 4 rfl rfl)
theorem dL_law_7 : decode cL_law 7 = .ok (.astore_n 1, 1) := dk_76 (dk_at dksL_law_0 7 rfl rfl)
theorem dL_law_8 : decode cL_law 8 = .ok (.new 16, 3) := dk_187 0 16 (dk_at dksL_law_0 8 rfl rfl)
theorem dL_law_11 : decode cL_law 11 = .ok (.dup, 1) := dk_89 (dk_at dksL_law_0 11 rfl rfl)
theorem dL_law_12 : decode cL_law 12 = .ok (.invokespecial 18, 3) := dk_183 0 18 (dk_at dksL_law_0 12 rfl rfl)
theorem dL_law_15 : decode cL_law 15 = .ok (.astore_n 2, 1) := dk_77 (dk_at dksL_law_0 15 rfl rfl)
theorem dL_law_16 : decode cL_law 16 = .ok (.iconst 1, 1) := dk_4 (dk_at dksL_law_0 16 rfl rfl)
theorem dL_law_17 : decode cL_law 17 = .ok (.newarray .long, 2) := dk_188_11 (dk_at dksL_law_0 17 rfl rfl)
theorem dL_law_19 : decode cL_law 19 = .ok (.astore_n 3, 1) := dk_78 (dk_at dksL_law_0 19 rfl rfl)
theorem dL_law_20 : decode cL_law 20 = .ok (.iconst 0, 1) := dk_3 (dk_at dksL_law_0 20 rfl rfl)
theorem dL_law_21 : decode cL_law 21 = .ok (.istore 4, 2) := dk_54 4 (dk_at dksL_law_0 21 rfl rfl)
theorem dL_law_23 : decode cL_law 23 = .ok (.iload 4, 2) := dk_21 4 (dk_at dksL_law_1 0 rfl rfl)
theorem dL_law_25 : decode cL_law 25 = .ok (.aload_n 0, 1) := dk_42 (dk_at dksL_law_1 2 rfl rfl)
theorem dL_law_26 : decode cL_law 26 = .ok (.arraylength, 1) := dk_190 (dk_at dksL_law_1 3 rfl rfl)
theorem dL_law_27 : decode cL_law 27 = .ok (.bipush 6, 2) := dk_16 6 (dk_at dksL_law_1 4 rfl rfl)
theorem dL_law_29 : decode cL_law 29 = .ok (.isub, 1) := dk_100 (dk_at dksL_law_1 6 rfl rfl)
theorem dL_law_30 : decode cL_law 30 = .ok (.if_icmp .gt 1766, 3) := dk_163 6 230 (dk_at dksL_law_1 7 rfl rfl)
theorem dL_law_33 : decode cL_law 33 = .ok (.aload_n 0, 1) := dk_42 (dk_at dksL_law_1 10 rfl rfl)
theorem dL_law_34 : decode cL_law 34 = .ok (.iload 4, 2) := dk_21 4 (dk_at dksL_law_1 11 rfl rfl)
theorem dL_law_36 : decode cL_law 36 = .ok (.iaload, 1) := dk_46 (dk_at dksL_law_1 13 rfl rfl)
theorem dL_law_37 : decode cL_law 37 = .ok (.bipush 63, 2) := dk_16 63 (dk_at dksL_law_1 14 rfl rfl)
theorem dL_law_39 : decode cL_law 39 = .ok (.iand, 1) := dk_126 (dk_at dksL_law_1 16 rfl rfl)
theorem dL_law_40 : decode cL_law 40 = .ok (.tableswitch 1750 0 46 #[204, 217, 290, 315, 340, 365, 402, 439, 464, 501, 538, 575, 612, 649, 686, 723, 748, 773, 810, 875, 900, 937, 962, 999, 1036, 1077, 1102, 1139, 1164, 1177, 1202, 1227, 1252, 1305, 1342, 1379, 1416, 1429, 1442, 1479, 1516, 1541, 1594, 1631, 1668, 1681, 1694], 204) := by decide +kernel
theorem dL_law_244 : decode cL_law 244 = .ok (.aload_n 1, 1) := dk_43 (dk_at dksL_law_3 0 rfl rfl)
theorem dL_law_245 : decode cL_law 245 = .ok (.invokevirtual 19, 3) := dk_182 0 19 (dk_at dksL_law_3 1 rfl rfl)
theorem dL_law_248 : decode cL_law 248 = .ok (.aload_n 2, 1) := dk_44 (dk_at dksL_law_3 4 rfl rfl)
theorem dL_law_249 : decode cL_law 249 = .ok (.invokevirtual 23, 3) := dk_182 0 23 (dk_at dksL_law_3 5 rfl rfl)
theorem dL_law_252 : decode cL_law 252 = .ok (.if_icmp .eq 1538, 3) := dk_159 6 2 (dk_at dksL_law_3 8 rfl rfl)
theorem dL_law_255 : decode cL_law 255 = .ok (.iconst 0, 1) := dk_3 (dk_at dksL_law_3 11 rfl rfl)
theorem dL_law_256 : decode cL_law 256 = .ok (.ireturn, 1) := dk_172 (dk_at dksL_law_3 12 rfl rfl)
theorem dL_law_257 : decode cL_law 257 = .ok (.aload_n 1, 1) := dk_43 (dk_at dksL_law_3 13 rfl rfl)
theorem dL_law_258 : decode cL_law 258 = .ok (.aload_n 0, 1) := dk_42 (dk_at dksL_law_3 14 rfl rfl)
theorem dL_law_259 : decode cL_law 259 = .ok (.iload 4, 2) := dk_21 4 (dk_at dksL_law_3 15 rfl rfl)
theorem dL_law_261 : decode cL_law 261 = .ok (.iconst 1, 1) := dk_4 (dk_at dksL_law_3 17 rfl rfl)
theorem dL_law_262 : decode cL_law 262 = .ok (.iadd, 1) := dk_96 (dk_at dksL_law_3 18 rfl rfl)
theorem dL_law_263 : decode cL_law 263 = .ok (.iaload, 1) := dk_46 (dk_at dksL_law_3 19 rfl rfl)
theorem dL_law_264 : decode cL_law 264 = .ok (.aload_n 0, 1) := dk_42 (dk_at dksL_law_3 20 rfl rfl)
theorem dL_law_265 : decode cL_law 265 = .ok (.iload 4, 2) := dk_21 4 (dk_at dksL_law_3 21 rfl rfl)
theorem dL_law_267 : decode cL_law 267 = .ok (.iconst 2, 1) := dk_5 (dk_at dksL_law_3 23 rfl rfl)
theorem dL_law_268 : decode cL_law 268 = .ok (.iadd, 1) := dk_96 (dk_at dksL_law_4 0 rfl rfl)
theorem dL_law_269 : decode cL_law 269 = .ok (.iaload, 1) := dk_46 (dk_at dksL_law_4 1 rfl rfl)
theorem dL_law_270 : decode cL_law 270 = .ok (.aload_n 0, 1) := dk_42 (dk_at dksL_law_4 2 rfl rfl)
theorem dL_law_271 : decode cL_law 271 = .ok (.iload 4, 2) := dk_21 4 (dk_at dksL_law_4 3 rfl rfl)
theorem dL_law_273 : decode cL_law 273 = .ok (.iconst 3, 1) := dk_6 (dk_at dksL_law_4 5 rfl rfl)
theorem dL_law_274 : decode cL_law 274 = .ok (.iadd, 1) := dk_96 (dk_at dksL_law_4 6 rfl rfl)
theorem dL_law_275 : decode cL_law 275 = .ok (.iaload, 1) := dk_46 (dk_at dksL_law_4 7 rfl rfl)
theorem dL_law_276 : decode cL_law 276 = .ok (.aload_n 0, 1) := dk_42 (dk_at dksL_law_4 8 rfl rfl)
theorem dL_law_277 : decode cL_law 277 = .ok (.iload 4, 2) := dk_21 4 (dk_at dksL_law_4 9 rfl rfl)
theorem dL_law_279 : decode cL_law 279 = .ok (.iconst 4, 1) := dk_7 (dk_at dksL_law_4 11 rfl rfl)
theorem dL_law_280 : decode cL_law 280 = .ok (.iadd, 1) := dk_96 (dk_at dksL_law_4 12 rfl rfl)
theorem dL_law_281 : decode cL_law 281 = .ok (.iaload, 1) := dk_46 (dk_at dksL_law_4 13 rfl rfl)
theorem dL_law_282 : decode cL_law 282 = .ok (.aload_n 0, 1) := dk_42 (dk_at dksL_law_4 14 rfl rfl)
theorem dL_law_283 : decode cL_law 283 = .ok (.iload 4, 2) := dk_21 4 (dk_at dksL_law_4 15 rfl rfl)
theorem dL_law_285 : decode cL_law 285 = .ok (.iconst 5, 1) := dk_8 (dk_at dksL_law_4 17 rfl rfl)
theorem dL_law_286 : decode cL_law 286 = .ok (.iadd, 1) := dk_96 (dk_at dksL_law_4 18 rfl rfl)
theorem dL_law_287 : decode cL_law 287 = .ok (.iaload, 1) := dk_46 (dk_at dksL_law_4 19 rfl rfl)
theorem dL_law_288 : decode cL_law 288 = .ok (.invokevirtual 24, 3) := dk_182 0 24 (dk_at dksL_law_4 20 rfl rfl)
theorem dL_law_291 : decode cL_law 291 = .ok (.aload_n 2, 1) := dk_44 (dk_at dksL_law_4 23 rfl rfl)
theorem dL_law_292 : decode cL_law 292 = .ok (.aload_n 0, 1) := dk_42 (dk_at dksL_law_5 0 rfl rfl)
theorem dL_law_293 : decode cL_law 293 = .ok (.iload 4, 2) := dk_21 4 (dk_at dksL_law_5 1 rfl rfl)
theorem dL_law_295 : decode cL_law 295 = .ok (.iconst 1, 1) := dk_4 (dk_at dksL_law_5 3 rfl rfl)
theorem dL_law_296 : decode cL_law 296 = .ok (.iadd, 1) := dk_96 (dk_at dksL_law_5 4 rfl rfl)
theorem dL_law_297 : decode cL_law 297 = .ok (.iaload, 1) := dk_46 (dk_at dksL_law_5 5 rfl rfl)
theorem dL_law_298 : decode cL_law 298 = .ok (.aload_n 0, 1) := dk_42 (dk_at dksL_law_5 6 rfl rfl)
theorem dL_law_299 : decode cL_law 299 = .ok (.iload 4, 2) := dk_21 4 (dk_at dksL_law_5 7 rfl rfl)
theorem dL_law_301 : decode cL_law 301 = .ok (.iconst 2, 1) := dk_5 (dk_at dksL_law_5 9 rfl rfl)
theorem dL_law_302 : decode cL_law 302 = .ok (.iadd, 1) := dk_96 (dk_at dksL_law_5 10 rfl rfl)
theorem dL_law_303 : decode cL_law 303 = .ok (.iaload, 1) := dk_46 (dk_at dksL_law_5 11 rfl rfl)
theorem dL_law_304 : decode cL_law 304 = .ok (.aload_n 0, 1) := dk_42 (dk_at dksL_law_5 12 rfl rfl)
theorem dL_law_305 : decode cL_law 305 = .ok (.iload 4, 2) := dk_21 4 (dk_at dksL_law_5 13 rfl rfl)
theorem dL_law_307 : decode cL_law 307 = .ok (.iconst 3, 1) := dk_6 (dk_at dksL_law_5 15 rfl rfl)
theorem dL_law_308 : decode cL_law 308 = .ok (.iadd, 1) := dk_96 (dk_at dksL_law_5 16 rfl rfl)
theorem dL_law_309 : decode cL_law 309 = .ok (.iaload, 1) := dk_46 (dk_at dksL_law_5 17 rfl rfl)
theorem dL_law_310 : decode cL_law 310 = .ok (.aload_n 0, 1) := dk_42 (dk_at dksL_law_5 18 rfl rfl)
theorem dL_law_311 : decode cL_law 311 = .ok (.iload 4, 2) := dk_21 4 (dk_at dksL_law_5 19 rfl rfl)
theorem dL_law_313 : decode cL_law 313 = .ok (.iconst 4, 1) := dk_7 (dk_at dksL_law_5 21 rfl rfl)
theorem dL_law_314 : decode cL_law 314 = .ok (.iadd, 1) := dk_96 (dk_at dksL_law_5 22 rfl rfl)
theorem dL_law_315 : decode cL_law 315 = .ok (.iaload, 1) := dk_46 (dk_at dksL_law_5 23 rfl rfl)
theorem dL_law_316 : decode cL_law 316 = .ok (.aload_n 0, 1) := dk_42 (dk_at dksL_law_6 0 rfl rfl)
theorem dL_law_317 : decode cL_law 317 = .ok (.iload 4, 2) := dk_21 4 (dk_at dksL_law_6 1 rfl rfl)
theorem dL_law_319 : decode cL_law 319 = .ok (.iconst 5, 1) := dk_8 (dk_at dksL_law_6 3 rfl rfl)
theorem dL_law_320 : decode cL_law 320 = .ok (.iadd, 1) := dk_96 (dk_at dksL_law_6 4 rfl rfl)
theorem dL_law_321 : decode cL_law 321 = .ok (.iaload, 1) := dk_46 (dk_at dksL_law_6 5 rfl rfl)
theorem dL_law_322 : decode cL_law 322 = .ok (.invokevirtual 28, 3) := dk_182 0 28 (dk_at dksL_law_6 6 rfl rfl)
theorem dL_law_325 : decode cL_law 325 = .ok (.if_icmp .eq 1465, 3) := dk_159 5 185 (dk_at dksL_law_6 9 rfl rfl)
theorem dL_law_328 : decode cL_law 328 = .ok (.iconst 0, 1) := dk_3 (dk_at dksL_law_6 12 rfl rfl)
theorem dL_law_329 : decode cL_law 329 = .ok (.ireturn, 1) := dk_172 (dk_at dksL_law_6 13 rfl rfl)
theorem dL_law_330 : decode cL_law 330 = .ok (.aload_n 1, 1) := dk_43 (dk_at dksL_law_6 14 rfl rfl)
theorem dL_law_331 : decode cL_law 331 = .ok (.aload_n 0, 1) := dk_42 (dk_at dksL_law_6 15 rfl rfl)
theorem dL_law_332 : decode cL_law 332 = .ok (.iload 4, 2) := dk_21 4 (dk_at dksL_law_6 16 rfl rfl)
theorem dL_law_334 : decode cL_law 334 = .ok (.iconst 1, 1) := dk_4 (dk_at dksL_law_6 18 rfl rfl)
theorem dL_law_335 : decode cL_law 335 = .ok (.iadd, 1) := dk_96 (dk_at dksL_law_6 19 rfl rfl)
theorem dL_law_336 : decode cL_law 336 = .ok (.iaload, 1) := dk_46 (dk_at dksL_law_6 20 rfl rfl)
theorem dL_law_337 : decode cL_law 337 = .ok (.invokevirtual 29, 3) := dk_182 0 29 (dk_at dksL_law_6 21 rfl rfl)
theorem dL_law_340 : decode cL_law 340 = .ok (.aload_n 2, 1) := dk_44 (dk_at dksL_law_7 0 rfl rfl)
theorem dL_law_341 : decode cL_law 341 = .ok (.aload_n 0, 1) := dk_42 (dk_at dksL_law_7 1 rfl rfl)
theorem dL_law_342 : decode cL_law 342 = .ok (.iload 4, 2) := dk_21 4 (dk_at dksL_law_7 2 rfl rfl)
theorem dL_law_344 : decode cL_law 344 = .ok (.iconst 1, 1) := dk_4 (dk_at dksL_law_7 4 rfl rfl)
theorem dL_law_345 : decode cL_law 345 = .ok (.iadd, 1) := dk_96 (dk_at dksL_law_7 5 rfl rfl)
theorem dL_law_346 : decode cL_law 346 = .ok (.iaload, 1) := dk_46 (dk_at dksL_law_7 6 rfl rfl)
theorem dL_law_347 : decode cL_law 347 = .ok (.invokevirtual 32, 3) := dk_182 0 32 (dk_at dksL_law_7 7 rfl rfl)
theorem dL_law_350 : decode cL_law 350 = .ok (.if_icmp .eq 1440, 3) := dk_159 5 160 (dk_at dksL_law_7 10 rfl rfl)
theorem dL_law_353 : decode cL_law 353 = .ok (.iconst 0, 1) := dk_3 (dk_at dksL_law_7 13 rfl rfl)
theorem dL_law_354 : decode cL_law 354 = .ok (.ireturn, 1) := dk_172 (dk_at dksL_law_7 14 rfl rfl)
theorem dL_law_355 : decode cL_law 355 = .ok (.aload_n 1, 1) := dk_43 (dk_at dksL_law_7 15 rfl rfl)
theorem dL_law_356 : decode cL_law 356 = .ok (.aload_n 0, 1) := dk_42 (dk_at dksL_law_7 16 rfl rfl)
theorem dL_law_357 : decode cL_law 357 = .ok (.iload 4, 2) := dk_21 4 (dk_at dksL_law_7 17 rfl rfl)
theorem dL_law_359 : decode cL_law 359 = .ok (.iconst 1, 1) := dk_4 (dk_at dksL_law_7 19 rfl rfl)
theorem dL_law_360 : decode cL_law 360 = .ok (.iadd, 1) := dk_96 (dk_at dksL_law_7 20 rfl rfl)
theorem dL_law_361 : decode cL_law 361 = .ok (.iaload, 1) := dk_46 (dk_at dksL_law_7 21 rfl rfl)
theorem dL_law_362 : decode cL_law 362 = .ok (.invokevirtual 33, 3) := dk_182 0 33 (dk_at dksL_law_8 0 rfl rfl)
theorem dL_law_365 : decode cL_law 365 = .ok (.aload_n 2, 1) := dk_44 (dk_at dksL_law_8 3 rfl rfl)
theorem dL_law_366 : decode cL_law 366 = .ok (.aload_n 0, 1) := dk_42 (dk_at dksL_law_8 4 rfl rfl)
theorem dL_law_367 : decode cL_law 367 = .ok (.iload 4, 2) := dk_21 4 (dk_at dksL_law_8 5 rfl rfl)
theorem dL_law_369 : decode cL_law 369 = .ok (.iconst 1, 1) := dk_4 (dk_at dksL_law_8 7 rfl rfl)
theorem dL_law_370 : decode cL_law 370 = .ok (.iadd, 1) := dk_96 (dk_at dksL_law_8 8 rfl rfl)
theorem dL_law_371 : decode cL_law 371 = .ok (.iaload, 1) := dk_46 (dk_at dksL_law_8 9 rfl rfl)
theorem dL_law_372 : decode cL_law 372 = .ok (.invokevirtual 36, 3) := dk_182 0 36 (dk_at dksL_law_8 10 rfl rfl)
theorem dL_law_375 : decode cL_law 375 = .ok (.if_icmp .eq 1415, 3) := dk_159 5 135 (dk_at dksL_law_8 13 rfl rfl)
theorem dL_law_378 : decode cL_law 378 = .ok (.iconst 0, 1) := dk_3 (dk_at dksL_law_8 16 rfl rfl)
theorem dL_law_379 : decode cL_law 379 = .ok (.ireturn, 1) := dk_172 (dk_at dksL_law_8 17 rfl rfl)
theorem dL_law_380 : decode cL_law 380 = .ok (.aload_n 1, 1) := dk_43 (dk_at dksL_law_8 18 rfl rfl)
theorem dL_law_381 : decode cL_law 381 = .ok (.aload_n 0, 1) := dk_42 (dk_at dksL_law_8 19 rfl rfl)
theorem dL_law_382 : decode cL_law 382 = .ok (.iload 4, 2) := dk_21 4 (dk_at dksL_law_8 20 rfl rfl)
theorem dL_law_384 : decode cL_law 384 = .ok (.iconst 1, 1) := dk_4 (dk_at dksL_law_8 22 rfl rfl)
theorem dL_law_385 : decode cL_law 385 = .ok (.iadd, 1) := dk_96 (dk_at dksL_law_8 23 rfl rfl)
theorem dL_law_386 : decode cL_law 386 = .ok (.iaload, 1) := dk_46 (dk_at dksL_law_9 0 rfl rfl)
theorem dL_law_387 : decode cL_law 387 = .ok (.invokevirtual 37, 3) := dk_182 0 37 (dk_at dksL_law_9 1 rfl rfl)
theorem dL_law_390 : decode cL_law 390 = .ok (.aload_n 2, 1) := dk_44 (dk_at dksL_law_9 4 rfl rfl)
theorem dL_law_391 : decode cL_law 391 = .ok (.aload_n 0, 1) := dk_42 (dk_at dksL_law_9 5 rfl rfl)
theorem dL_law_392 : decode cL_law 392 = .ok (.iload 4, 2) := dk_21 4 (dk_at dksL_law_9 6 rfl rfl)
theorem dL_law_394 : decode cL_law 394 = .ok (.iconst 1, 1) := dk_4 (dk_at dksL_law_9 8 rfl rfl)
theorem dL_law_395 : decode cL_law 395 = .ok (.iadd, 1) := dk_96 (dk_at dksL_law_9 9 rfl rfl)
theorem dL_law_396 : decode cL_law 396 = .ok (.iaload, 1) := dk_46 (dk_at dksL_law_9 10 rfl rfl)
theorem dL_law_397 : decode cL_law 397 = .ok (.invokevirtual 40, 3) := dk_182 0 40 (dk_at dksL_law_9 11 rfl rfl)
theorem dL_law_400 : decode cL_law 400 = .ok (.if_icmp .eq 1390, 3) := dk_159 5 110 (dk_at dksL_law_9 14 rfl rfl)
theorem dL_law_403 : decode cL_law 403 = .ok (.iconst 0, 1) := dk_3 (dk_at dksL_law_9 17 rfl rfl)
theorem dL_law_404 : decode cL_law 404 = .ok (.ireturn, 1) := dk_172 (dk_at dksL_law_9 18 rfl rfl)
theorem dL_law_405 : decode cL_law 405 = .ok (.aload_n 1, 1) := dk_43 (dk_at dksL_law_9 19 rfl rfl)
theorem dL_law_406 : decode cL_law 406 = .ok (.aload_n 0, 1) := dk_42 (dk_at dksL_law_9 20 rfl rfl)
theorem dL_law_407 : decode cL_law 407 = .ok (.iload 4, 2) := dk_21 4 (dk_at dksL_law_9 21 rfl rfl)
theorem dL_law_409 : decode cL_law 409 = .ok (.iconst 1, 1) := dk_4 (dk_at dksL_law_9 23 rfl rfl)
theorem dL_law_410 : decode cL_law 410 = .ok (.iadd, 1) := dk_96 (dk_at dksL_law_10 0 rfl rfl)
theorem dL_law_411 : decode cL_law 411 = .ok (.iaload, 1) := dk_46 (dk_at dksL_law_10 1 rfl rfl)
theorem dL_law_412 : decode cL_law 412 = .ok (.aload_n 0, 1) := dk_42 (dk_at dksL_law_10 2 rfl rfl)
theorem dL_law_413 : decode cL_law 413 = .ok (.iload 4, 2) := dk_21 4 (dk_at dksL_law_10 3 rfl rfl)
theorem dL_law_415 : decode cL_law 415 = .ok (.iconst 2, 1) := dk_5 (dk_at dksL_law_10 5 rfl rfl)
theorem dL_law_416 : decode cL_law 416 = .ok (.iadd, 1) := dk_96 (dk_at dksL_law_10 6 rfl rfl)
theorem dL_law_417 : decode cL_law 417 = .ok (.iaload, 1) := dk_46 (dk_at dksL_law_10 7 rfl rfl)
theorem dL_law_418 : decode cL_law 418 = .ok (.invokevirtual 41, 3) := dk_182 0 41 (dk_at dksL_law_10 8 rfl rfl)
theorem dL_law_421 : decode cL_law 421 = .ok (.aload_n 2, 1) := dk_44 (dk_at dksL_law_10 11 rfl rfl)
theorem dL_law_422 : decode cL_law 422 = .ok (.aload_n 0, 1) := dk_42 (dk_at dksL_law_10 12 rfl rfl)
theorem dL_law_423 : decode cL_law 423 = .ok (.iload 4, 2) := dk_21 4 (dk_at dksL_law_10 13 rfl rfl)
theorem dL_law_425 : decode cL_law 425 = .ok (.iconst 1, 1) := dk_4 (dk_at dksL_law_10 15 rfl rfl)
theorem dL_law_426 : decode cL_law 426 = .ok (.iadd, 1) := dk_96 (dk_at dksL_law_10 16 rfl rfl)
theorem dL_law_427 : decode cL_law 427 = .ok (.iaload, 1) := dk_46 (dk_at dksL_law_10 17 rfl rfl)
theorem dL_law_428 : decode cL_law 428 = .ok (.aload_n 0, 1) := dk_42 (dk_at dksL_law_10 18 rfl rfl)
theorem dL_law_429 : decode cL_law 429 = .ok (.iload 4, 2) := dk_21 4 (dk_at dksL_law_10 19 rfl rfl)
theorem dL_law_431 : decode cL_law 431 = .ok (.iconst 2, 1) := dk_5 (dk_at dksL_law_10 21 rfl rfl)
theorem dL_law_432 : decode cL_law 432 = .ok (.iadd, 1) := dk_96 (dk_at dksL_law_10 22 rfl rfl)
theorem dL_law_433 : decode cL_law 433 = .ok (.iaload, 1) := dk_46 (dk_at dksL_law_10 23 rfl rfl)
theorem dL_law_434 : decode cL_law 434 = .ok (.invokevirtual 45, 3) := dk_182 0 45 (dk_at dksL_law_11 0 rfl rfl)
theorem dL_law_437 : decode cL_law 437 = .ok (.if_icmp .eq 1353, 3) := dk_159 5 73 (dk_at dksL_law_11 3 rfl rfl)
theorem dL_law_440 : decode cL_law 440 = .ok (.iconst 0, 1) := dk_3 (dk_at dksL_law_11 6 rfl rfl)
theorem dL_law_441 : decode cL_law 441 = .ok (.ireturn, 1) := dk_172 (dk_at dksL_law_11 7 rfl rfl)
theorem dL_law_442 : decode cL_law 442 = .ok (.aload_n 1, 1) := dk_43 (dk_at dksL_law_11 8 rfl rfl)
theorem dL_law_443 : decode cL_law 443 = .ok (.aload_n 0, 1) := dk_42 (dk_at dksL_law_11 9 rfl rfl)
theorem dL_law_444 : decode cL_law 444 = .ok (.iload 4, 2) := dk_21 4 (dk_at dksL_law_11 10 rfl rfl)
theorem dL_law_446 : decode cL_law 446 = .ok (.iconst 1, 1) := dk_4 (dk_at dksL_law_11 12 rfl rfl)
theorem dL_law_447 : decode cL_law 447 = .ok (.iadd, 1) := dk_96 (dk_at dksL_law_11 13 rfl rfl)
theorem dL_law_448 : decode cL_law 448 = .ok (.iaload, 1) := dk_46 (dk_at dksL_law_11 14 rfl rfl)
theorem dL_law_449 : decode cL_law 449 = .ok (.aload_n 0, 1) := dk_42 (dk_at dksL_law_11 15 rfl rfl)
theorem dL_law_450 : decode cL_law 450 = .ok (.iload 4, 2) := dk_21 4 (dk_at dksL_law_11 16 rfl rfl)
theorem dL_law_452 : decode cL_law 452 = .ok (.iconst 2, 1) := dk_5 (dk_at dksL_law_11 18 rfl rfl)
theorem dL_law_453 : decode cL_law 453 = .ok (.iadd, 1) := dk_96 (dk_at dksL_law_11 19 rfl rfl)
theorem dL_law_454 : decode cL_law 454 = .ok (.iaload, 1) := dk_46 (dk_at dksL_law_11 20 rfl rfl)
theorem dL_law_455 : decode cL_law 455 = .ok (.invokevirtual 46, 3) := dk_182 0 46 (dk_at dksL_law_11 21 rfl rfl)
theorem dL_law_458 : decode cL_law 458 = .ok (.aload_n 2, 1) := dk_44 (dk_at dksL_law_12 0 rfl rfl)
theorem dL_law_459 : decode cL_law 459 = .ok (.aload_n 0, 1) := dk_42 (dk_at dksL_law_12 1 rfl rfl)
theorem dL_law_460 : decode cL_law 460 = .ok (.iload 4, 2) := dk_21 4 (dk_at dksL_law_12 2 rfl rfl)
theorem dL_law_462 : decode cL_law 462 = .ok (.iconst 1, 1) := dk_4 (dk_at dksL_law_12 4 rfl rfl)
theorem dL_law_463 : decode cL_law 463 = .ok (.iadd, 1) := dk_96 (dk_at dksL_law_12 5 rfl rfl)
theorem dL_law_464 : decode cL_law 464 = .ok (.iaload, 1) := dk_46 (dk_at dksL_law_12 6 rfl rfl)
theorem dL_law_465 : decode cL_law 465 = .ok (.aload_n 0, 1) := dk_42 (dk_at dksL_law_12 7 rfl rfl)
theorem dL_law_466 : decode cL_law 466 = .ok (.iload 4, 2) := dk_21 4 (dk_at dksL_law_12 8 rfl rfl)
theorem dL_law_468 : decode cL_law 468 = .ok (.iconst 2, 1) := dk_5 (dk_at dksL_law_12 10 rfl rfl)
theorem dL_law_469 : decode cL_law 469 = .ok (.iadd, 1) := dk_96 (dk_at dksL_law_12 11 rfl rfl)
theorem dL_law_470 : decode cL_law 470 = .ok (.iaload, 1) := dk_46 (dk_at dksL_law_12 12 rfl rfl)
theorem dL_law_471 : decode cL_law 471 = .ok (.invokevirtual 49, 3) := dk_182 0 49 (dk_at dksL_law_12 13 rfl rfl)
theorem dL_law_474 : decode cL_law 474 = .ok (.if_icmp .eq 1316, 3) := dk_159 5 36 (dk_at dksL_law_12 16 rfl rfl)
theorem dL_law_477 : decode cL_law 477 = .ok (.iconst 0, 1) := dk_3 (dk_at dksL_law_12 19 rfl rfl)
theorem dL_law_478 : decode cL_law 478 = .ok (.ireturn, 1) := dk_172 (dk_at dksL_law_12 20 rfl rfl)
theorem dL_law_479 : decode cL_law 479 = .ok (.aload_n 1, 1) := dk_43 (dk_at dksL_law_12 21 rfl rfl)
theorem dL_law_480 : decode cL_law 480 = .ok (.aload_n 0, 1) := dk_42 (dk_at dksL_law_12 22 rfl rfl)
theorem dL_law_481 : decode cL_law 481 = .ok (.iload 4, 2) := dk_21 4 (dk_at dksL_law_13 0 rfl rfl)
theorem dL_law_483 : decode cL_law 483 = .ok (.iconst 1, 1) := dk_4 (dk_at dksL_law_13 2 rfl rfl)
theorem dL_law_484 : decode cL_law 484 = .ok (.iadd, 1) := dk_96 (dk_at dksL_law_13 3 rfl rfl)
theorem dL_law_485 : decode cL_law 485 = .ok (.iaload, 1) := dk_46 (dk_at dksL_law_13 4 rfl rfl)
theorem dL_law_486 : decode cL_law 486 = .ok (.invokevirtual 50, 3) := dk_182 0 50 (dk_at dksL_law_13 5 rfl rfl)
theorem dL_law_489 : decode cL_law 489 = .ok (.aload_n 2, 1) := dk_44 (dk_at dksL_law_13 8 rfl rfl)
theorem dL_law_490 : decode cL_law 490 = .ok (.aload_n 0, 1) := dk_42 (dk_at dksL_law_13 9 rfl rfl)
theorem dL_law_491 : decode cL_law 491 = .ok (.iload 4, 2) := dk_21 4 (dk_at dksL_law_13 10 rfl rfl)
theorem dL_law_493 : decode cL_law 493 = .ok (.iconst 1, 1) := dk_4 (dk_at dksL_law_13 12 rfl rfl)
theorem dL_law_494 : decode cL_law 494 = .ok (.iadd, 1) := dk_96 (dk_at dksL_law_13 13 rfl rfl)
theorem dL_law_495 : decode cL_law 495 = .ok (.iaload, 1) := dk_46 (dk_at dksL_law_13 14 rfl rfl)
theorem dL_law_496 : decode cL_law 496 = .ok (.invokevirtual 53, 3) := dk_182 0 53 (dk_at dksL_law_13 15 rfl rfl)
theorem dL_law_499 : decode cL_law 499 = .ok (.if_icmp .eq 1291, 3) := dk_159 5 11 (dk_at dksL_law_13 18 rfl rfl)
theorem dL_law_502 : decode cL_law 502 = .ok (.iconst 0, 1) := dk_3 (dk_at dksL_law_13 21 rfl rfl)
theorem dL_law_503 : decode cL_law 503 = .ok (.ireturn, 1) := dk_172 (dk_at dksL_law_13 22 rfl rfl)
theorem dL_law_504 : decode cL_law 504 = .ok (.aload_n 1, 1) := dk_43 (dk_at dksL_law_13 23 rfl rfl)
theorem dL_law_505 : decode cL_law 505 = .ok (.aload_n 0, 1) := dk_42 (dk_at dksL_law_14 0 rfl rfl)
theorem dL_law_506 : decode cL_law 506 = .ok (.iload 4, 2) := dk_21 4 (dk_at dksL_law_14 1 rfl rfl)
theorem dL_law_508 : decode cL_law 508 = .ok (.iconst 1, 1) := dk_4 (dk_at dksL_law_14 3 rfl rfl)
theorem dL_law_509 : decode cL_law 509 = .ok (.iadd, 1) := dk_96 (dk_at dksL_law_14 4 rfl rfl)
theorem dL_law_510 : decode cL_law 510 = .ok (.iaload, 1) := dk_46 (dk_at dksL_law_14 5 rfl rfl)
theorem dL_law_511 : decode cL_law 511 = .ok (.aload_n 0, 1) := dk_42 (dk_at dksL_law_14 6 rfl rfl)
theorem dL_law_512 : decode cL_law 512 = .ok (.iload 4, 2) := dk_21 4 (dk_at dksL_law_14 7 rfl rfl)
theorem dL_law_514 : decode cL_law 514 = .ok (.iconst 2, 1) := dk_5 (dk_at dksL_law_14 9 rfl rfl)
theorem dL_law_515 : decode cL_law 515 = .ok (.iadd, 1) := dk_96 (dk_at dksL_law_14 10 rfl rfl)
theorem dL_law_516 : decode cL_law 516 = .ok (.iaload, 1) := dk_46 (dk_at dksL_law_14 11 rfl rfl)
theorem dL_law_517 : decode cL_law 517 = .ok (.invokevirtual 54, 3) := dk_182 0 54 (dk_at dksL_law_14 12 rfl rfl)
theorem dL_law_520 : decode cL_law 520 = .ok (.aload_n 2, 1) := dk_44 (dk_at dksL_law_14 15 rfl rfl)
theorem dL_law_521 : decode cL_law 521 = .ok (.aload_n 0, 1) := dk_42 (dk_at dksL_law_14 16 rfl rfl)
theorem dL_law_522 : decode cL_law 522 = .ok (.iload 4, 2) := dk_21 4 (dk_at dksL_law_14 17 rfl rfl)
theorem dL_law_524 : decode cL_law 524 = .ok (.iconst 1, 1) := dk_4 (dk_at dksL_law_14 19 rfl rfl)
theorem dL_law_525 : decode cL_law 525 = .ok (.iadd, 1) := dk_96 (dk_at dksL_law_14 20 rfl rfl)
theorem dL_law_526 : decode cL_law 526 = .ok (.iaload, 1) := dk_46 (dk_at dksL_law_14 21 rfl rfl)
theorem dL_law_527 : decode cL_law 527 = .ok (.aload_n 0, 1) := dk_42 (dk_at dksL_law_14 22 rfl rfl)
theorem dL_law_528 : decode cL_law 528 = .ok (.iload 4, 2) := dk_21 4 (dk_at dksL_law_15 0 rfl rfl)
theorem dL_law_530 : decode cL_law 530 = .ok (.iconst 2, 1) := dk_5 (dk_at dksL_law_15 2 rfl rfl)
theorem dL_law_531 : decode cL_law 531 = .ok (.iadd, 1) := dk_96 (dk_at dksL_law_15 3 rfl rfl)
theorem dL_law_532 : decode cL_law 532 = .ok (.iaload, 1) := dk_46 (dk_at dksL_law_15 4 rfl rfl)
theorem dL_law_533 : decode cL_law 533 = .ok (.invokevirtual 57, 3) := dk_182 0 57 (dk_at dksL_law_15 5 rfl rfl)
theorem dL_law_536 : decode cL_law 536 = .ok (.if_icmp .eq 1254, 3) := dk_159 4 230 (dk_at dksL_law_15 8 rfl rfl)
theorem dL_law_539 : decode cL_law 539 = .ok (.iconst 0, 1) := dk_3 (dk_at dksL_law_15 11 rfl rfl)
theorem dL_law_540 : decode cL_law 540 = .ok (.ireturn, 1) := dk_172 (dk_at dksL_law_15 12 rfl rfl)
theorem dL_law_541 : decode cL_law 541 = .ok (.aload_n 1, 1) := dk_43 (dk_at dksL_law_15 13 rfl rfl)
theorem dL_law_542 : decode cL_law 542 = .ok (.aload_n 0, 1) := dk_42 (dk_at dksL_law_15 14 rfl rfl)
theorem dL_law_543 : decode cL_law 543 = .ok (.iload 4, 2) := dk_21 4 (dk_at dksL_law_15 15 rfl rfl)
theorem dL_law_545 : decode cL_law 545 = .ok (.iconst 1, 1) := dk_4 (dk_at dksL_law_15 17 rfl rfl)
theorem dL_law_546 : decode cL_law 546 = .ok (.iadd, 1) := dk_96 (dk_at dksL_law_15 18 rfl rfl)
theorem dL_law_547 : decode cL_law 547 = .ok (.iaload, 1) := dk_46 (dk_at dksL_law_15 19 rfl rfl)
theorem dL_law_548 : decode cL_law 548 = .ok (.aload_n 0, 1) := dk_42 (dk_at dksL_law_15 20 rfl rfl)
theorem dL_law_549 : decode cL_law 549 = .ok (.iload 4, 2) := dk_21 4 (dk_at dksL_law_15 21 rfl rfl)
theorem dL_law_551 : decode cL_law 551 = .ok (.iconst 2, 1) := dk_5 (dk_at dksL_law_15 23 rfl rfl)
theorem dL_law_552 : decode cL_law 552 = .ok (.iadd, 1) := dk_96 (dk_at dksL_law_16 0 rfl rfl)
theorem dL_law_553 : decode cL_law 553 = .ok (.iaload, 1) := dk_46 (dk_at dksL_law_16 1 rfl rfl)
theorem dL_law_554 : decode cL_law 554 = .ok (.invokevirtual 58, 3) := dk_182 0 58 (dk_at dksL_law_16 2 rfl rfl)
theorem dL_law_557 : decode cL_law 557 = .ok (.aload_n 2, 1) := dk_44 (dk_at dksL_law_16 5 rfl rfl)
theorem dL_law_558 : decode cL_law 558 = .ok (.aload_n 0, 1) := dk_42 (dk_at dksL_law_16 6 rfl rfl)
theorem dL_law_559 : decode cL_law 559 = .ok (.iload 4, 2) := dk_21 4 (dk_at dksL_law_16 7 rfl rfl)
theorem dL_law_561 : decode cL_law 561 = .ok (.iconst 1, 1) := dk_4 (dk_at dksL_law_16 9 rfl rfl)
theorem dL_law_562 : decode cL_law 562 = .ok (.iadd, 1) := dk_96 (dk_at dksL_law_16 10 rfl rfl)
theorem dL_law_563 : decode cL_law 563 = .ok (.iaload, 1) := dk_46 (dk_at dksL_law_16 11 rfl rfl)
theorem dL_law_564 : decode cL_law 564 = .ok (.aload_n 0, 1) := dk_42 (dk_at dksL_law_16 12 rfl rfl)
theorem dL_law_565 : decode cL_law 565 = .ok (.iload 4, 2) := dk_21 4 (dk_at dksL_law_16 13 rfl rfl)
theorem dL_law_567 : decode cL_law 567 = .ok (.iconst 2, 1) := dk_5 (dk_at dksL_law_16 15 rfl rfl)
theorem dL_law_568 : decode cL_law 568 = .ok (.iadd, 1) := dk_96 (dk_at dksL_law_16 16 rfl rfl)
theorem dL_law_569 : decode cL_law 569 = .ok (.iaload, 1) := dk_46 (dk_at dksL_law_16 17 rfl rfl)
theorem dL_law_570 : decode cL_law 570 = .ok (.invokevirtual 61, 3) := dk_182 0 61 (dk_at dksL_law_16 18 rfl rfl)
theorem dL_law_573 : decode cL_law 573 = .ok (.if_icmp .eq 1217, 3) := dk_159 4 193 (dk_at dksL_law_16 21 rfl rfl)
theorem dL_law_576 : decode cL_law 576 = .ok (.iconst 0, 1) := dk_3 (dk_at dksL_law_17 0 rfl rfl)
theorem dL_law_577 : decode cL_law 577 = .ok (.ireturn, 1) := dk_172 (dk_at dksL_law_17 1 rfl rfl)
theorem dL_law_578 : decode cL_law 578 = .ok (.aload_n 1, 1) := dk_43 (dk_at dksL_law_17 2 rfl rfl)
theorem dL_law_579 : decode cL_law 579 = .ok (.aload_n 0, 1) := dk_42 (dk_at dksL_law_17 3 rfl rfl)
theorem dL_law_580 : decode cL_law 580 = .ok (.iload 4, 2) := dk_21 4 (dk_at dksL_law_17 4 rfl rfl)
theorem dL_law_582 : decode cL_law 582 = .ok (.iconst 1, 1) := dk_4 (dk_at dksL_law_17 6 rfl rfl)
theorem dL_law_583 : decode cL_law 583 = .ok (.iadd, 1) := dk_96 (dk_at dksL_law_17 7 rfl rfl)
theorem dL_law_584 : decode cL_law 584 = .ok (.iaload, 1) := dk_46 (dk_at dksL_law_17 8 rfl rfl)
theorem dL_law_585 : decode cL_law 585 = .ok (.aload_n 0, 1) := dk_42 (dk_at dksL_law_17 9 rfl rfl)
theorem dL_law_586 : decode cL_law 586 = .ok (.iload 4, 2) := dk_21 4 (dk_at dksL_law_17 10 rfl rfl)
theorem dL_law_588 : decode cL_law 588 = .ok (.iconst 2, 1) := dk_5 (dk_at dksL_law_17 12 rfl rfl)
theorem dL_law_589 : decode cL_law 589 = .ok (.iadd, 1) := dk_96 (dk_at dksL_law_17 13 rfl rfl)
theorem dL_law_590 : decode cL_law 590 = .ok (.iaload, 1) := dk_46 (dk_at dksL_law_17 14 rfl rfl)
theorem dL_law_591 : decode cL_law 591 = .ok (.invokevirtual 62, 3) := dk_182 0 62 (dk_at dksL_law_17 15 rfl rfl)
theorem dL_law_594 : decode cL_law 594 = .ok (.aload_n 2, 1) := dk_44 (dk_at dksL_law_17 18 rfl rfl)
theorem dL_law_595 : decode cL_law 595 = .ok (.aload_n 0, 1) := dk_42 (dk_at dksL_law_17 19 rfl rfl)
theorem dL_law_596 : decode cL_law 596 = .ok (.iload 4, 2) := dk_21 4 (dk_at dksL_law_17 20 rfl rfl)
theorem dL_law_598 : decode cL_law 598 = .ok (.iconst 1, 1) := dk_4 (dk_at dksL_law_17 22 rfl rfl)
theorem dL_law_599 : decode cL_law 599 = .ok (.iadd, 1) := dk_96 (dk_at dksL_law_17 23 rfl rfl)
theorem dL_law_600 : decode cL_law 600 = .ok (.iaload, 1) := dk_46 (dk_at dksL_law_18 0 rfl rfl)
theorem dL_law_601 : decode cL_law 601 = .ok (.aload_n 0, 1) := dk_42 (dk_at dksL_law_18 1 rfl rfl)
theorem dL_law_602 : decode cL_law 602 = .ok (.iload 4, 2) := dk_21 4 (dk_at dksL_law_18 2 rfl rfl)
theorem dL_law_604 : decode cL_law 604 = .ok (.iconst 2, 1) := dk_5 (dk_at dksL_law_18 4 rfl rfl)
theorem dL_law_605 : decode cL_law 605 = .ok (.iadd, 1) := dk_96 (dk_at dksL_law_18 5 rfl rfl)
theorem dL_law_606 : decode cL_law 606 = .ok (.iaload, 1) := dk_46 (dk_at dksL_law_18 6 rfl rfl)
theorem dL_law_607 : decode cL_law 607 = .ok (.invokevirtual 65, 3) := dk_182 0 65 (dk_at dksL_law_18 7 rfl rfl)
theorem dL_law_610 : decode cL_law 610 = .ok (.if_icmp .eq 1180, 3) := dk_159 4 156 (dk_at dksL_law_18 10 rfl rfl)
theorem dL_law_613 : decode cL_law 613 = .ok (.iconst 0, 1) := dk_3 (dk_at dksL_law_18 13 rfl rfl)
theorem dL_law_614 : decode cL_law 614 = .ok (.ireturn, 1) := dk_172 (dk_at dksL_law_18 14 rfl rfl)
theorem dL_law_615 : decode cL_law 615 = .ok (.aload_n 1, 1) := dk_43 (dk_at dksL_law_18 15 rfl rfl)
theorem dL_law_616 : decode cL_law 616 = .ok (.aload_n 0, 1) := dk_42 (dk_at dksL_law_18 16 rfl rfl)
theorem dL_law_617 : decode cL_law 617 = .ok (.iload 4, 2) := dk_21 4 (dk_at dksL_law_18 17 rfl rfl)
theorem dL_law_619 : decode cL_law 619 = .ok (.iconst 1, 1) := dk_4 (dk_at dksL_law_18 19 rfl rfl)
theorem dL_law_620 : decode cL_law 620 = .ok (.iadd, 1) := dk_96 (dk_at dksL_law_18 20 rfl rfl)
theorem dL_law_621 : decode cL_law 621 = .ok (.iaload, 1) := dk_46 (dk_at dksL_law_18 21 rfl rfl)
theorem dL_law_622 : decode cL_law 622 = .ok (.aload_n 0, 1) := dk_42 (dk_at dksL_law_18 22 rfl rfl)
theorem dL_law_623 : decode cL_law 623 = .ok (.iload 4, 2) := dk_21 4 (dk_at dksL_law_19 0 rfl rfl)
theorem dL_law_625 : decode cL_law 625 = .ok (.iconst 2, 1) := dk_5 (dk_at dksL_law_19 2 rfl rfl)
theorem dL_law_626 : decode cL_law 626 = .ok (.iadd, 1) := dk_96 (dk_at dksL_law_19 3 rfl rfl)
theorem dL_law_627 : decode cL_law 627 = .ok (.iaload, 1) := dk_46 (dk_at dksL_law_19 4 rfl rfl)
theorem dL_law_628 : decode cL_law 628 = .ok (.invokevirtual 66, 3) := dk_182 0 66 (dk_at dksL_law_19 5 rfl rfl)
theorem dL_law_631 : decode cL_law 631 = .ok (.aload_n 2, 1) := dk_44 (dk_at dksL_law_19 8 rfl rfl)
theorem dL_law_632 : decode cL_law 632 = .ok (.aload_n 0, 1) := dk_42 (dk_at dksL_law_19 9 rfl rfl)
theorem dL_law_633 : decode cL_law 633 = .ok (.iload 4, 2) := dk_21 4 (dk_at dksL_law_19 10 rfl rfl)
theorem dL_law_635 : decode cL_law 635 = .ok (.iconst 1, 1) := dk_4 (dk_at dksL_law_19 12 rfl rfl)
theorem dL_law_636 : decode cL_law 636 = .ok (.iadd, 1) := dk_96 (dk_at dksL_law_19 13 rfl rfl)
theorem dL_law_637 : decode cL_law 637 = .ok (.iaload, 1) := dk_46 (dk_at dksL_law_19 14 rfl rfl)
theorem dL_law_638 : decode cL_law 638 = .ok (.aload_n 0, 1) := dk_42 (dk_at dksL_law_19 15 rfl rfl)
theorem dL_law_639 : decode cL_law 639 = .ok (.iload 4, 2) := dk_21 4 (dk_at dksL_law_19 16 rfl rfl)
theorem dL_law_641 : decode cL_law 641 = .ok (.iconst 2, 1) := dk_5 (dk_at dksL_law_19 18 rfl rfl)
theorem dL_law_642 : decode cL_law 642 = .ok (.iadd, 1) := dk_96 (dk_at dksL_law_19 19 rfl rfl)
theorem dL_law_643 : decode cL_law 643 = .ok (.iaload, 1) := dk_46 (dk_at dksL_law_19 20 rfl rfl)
theorem dL_law_644 : decode cL_law 644 = .ok (.invokevirtual 69, 3) := dk_182 0 69 (dk_at dksL_law_19 21 rfl rfl)
theorem dL_law_647 : decode cL_law 647 = .ok (.if_icmp .eq 1143, 3) := dk_159 4 119 (dk_at dksL_law_20 0 rfl rfl)
theorem dL_law_650 : decode cL_law 650 = .ok (.iconst 0, 1) := dk_3 (dk_at dksL_law_20 3 rfl rfl)
theorem dL_law_651 : decode cL_law 651 = .ok (.ireturn, 1) := dk_172 (dk_at dksL_law_20 4 rfl rfl)
theorem dL_law_652 : decode cL_law 652 = .ok (.aload_n 1, 1) := dk_43 (dk_at dksL_law_20 5 rfl rfl)
theorem dL_law_653 : decode cL_law 653 = .ok (.aload_n 0, 1) := dk_42 (dk_at dksL_law_20 6 rfl rfl)
theorem dL_law_654 : decode cL_law 654 = .ok (.iload 4, 2) := dk_21 4 (dk_at dksL_law_20 7 rfl rfl)
theorem dL_law_656 : decode cL_law 656 = .ok (.iconst 1, 1) := dk_4 (dk_at dksL_law_20 9 rfl rfl)
theorem dL_law_657 : decode cL_law 657 = .ok (.iadd, 1) := dk_96 (dk_at dksL_law_20 10 rfl rfl)
theorem dL_law_658 : decode cL_law 658 = .ok (.iaload, 1) := dk_46 (dk_at dksL_law_20 11 rfl rfl)
theorem dL_law_659 : decode cL_law 659 = .ok (.aload_n 0, 1) := dk_42 (dk_at dksL_law_20 12 rfl rfl)
theorem dL_law_660 : decode cL_law 660 = .ok (.iload 4, 2) := dk_21 4 (dk_at dksL_law_20 13 rfl rfl)
theorem dL_law_662 : decode cL_law 662 = .ok (.iconst 2, 1) := dk_5 (dk_at dksL_law_20 15 rfl rfl)
theorem dL_law_663 : decode cL_law 663 = .ok (.iadd, 1) := dk_96 (dk_at dksL_law_20 16 rfl rfl)
theorem dL_law_664 : decode cL_law 664 = .ok (.iaload, 1) := dk_46 (dk_at dksL_law_20 17 rfl rfl)
theorem dL_law_665 : decode cL_law 665 = .ok (.invokevirtual 70, 3) := dk_182 0 70 (dk_at dksL_law_20 18 rfl rfl)
theorem dL_law_668 : decode cL_law 668 = .ok (.aload_n 2, 1) := dk_44 (dk_at dksL_law_20 21 rfl rfl)
theorem dL_law_669 : decode cL_law 669 = .ok (.aload_n 0, 1) := dk_42 (dk_at dksL_law_20 22 rfl rfl)
theorem dL_law_670 : decode cL_law 670 = .ok (.iload 4, 2) := dk_21 4 (dk_at dksL_law_21 0 rfl rfl)
theorem dL_law_672 : decode cL_law 672 = .ok (.iconst 1, 1) := dk_4 (dk_at dksL_law_21 2 rfl rfl)
theorem dL_law_673 : decode cL_law 673 = .ok (.iadd, 1) := dk_96 (dk_at dksL_law_21 3 rfl rfl)
theorem dL_law_674 : decode cL_law 674 = .ok (.iaload, 1) := dk_46 (dk_at dksL_law_21 4 rfl rfl)
theorem dL_law_675 : decode cL_law 675 = .ok (.aload_n 0, 1) := dk_42 (dk_at dksL_law_21 5 rfl rfl)
theorem dL_law_676 : decode cL_law 676 = .ok (.iload 4, 2) := dk_21 4 (dk_at dksL_law_21 6 rfl rfl)
theorem dL_law_678 : decode cL_law 678 = .ok (.iconst 2, 1) := dk_5 (dk_at dksL_law_21 8 rfl rfl)
theorem dL_law_679 : decode cL_law 679 = .ok (.iadd, 1) := dk_96 (dk_at dksL_law_21 9 rfl rfl)
theorem dL_law_680 : decode cL_law 680 = .ok (.iaload, 1) := dk_46 (dk_at dksL_law_21 10 rfl rfl)
theorem dL_law_681 : decode cL_law 681 = .ok (.invokevirtual 73, 3) := dk_182 0 73 (dk_at dksL_law_21 11 rfl rfl)
theorem dL_law_684 : decode cL_law 684 = .ok (.if_icmp .eq 1106, 3) := dk_159 4 82 (dk_at dksL_law_21 14 rfl rfl)
theorem dL_law_687 : decode cL_law 687 = .ok (.iconst 0, 1) := dk_3 (dk_at dksL_law_21 17 rfl rfl)
theorem dL_law_688 : decode cL_law 688 = .ok (.ireturn, 1) := dk_172 (dk_at dksL_law_21 18 rfl rfl)
theorem dL_law_689 : decode cL_law 689 = .ok (.aload_n 1, 1) := dk_43 (dk_at dksL_law_21 19 rfl rfl)
theorem dL_law_690 : decode cL_law 690 = .ok (.aload_n 0, 1) := dk_42 (dk_at dksL_law_21 20 rfl rfl)
theorem dL_law_691 : decode cL_law 691 = .ok (.iload 4, 2) := dk_21 4 (dk_at dksL_law_21 21 rfl rfl)
theorem dL_law_693 : decode cL_law 693 = .ok (.iconst 1, 1) := dk_4 (dk_at dksL_law_21 23 rfl rfl)
theorem dL_law_694 : decode cL_law 694 = .ok (.iadd, 1) := dk_96 (dk_at dksL_law_22 0 rfl rfl)
theorem dL_law_695 : decode cL_law 695 = .ok (.iaload, 1) := dk_46 (dk_at dksL_law_22 1 rfl rfl)
theorem dL_law_696 : decode cL_law 696 = .ok (.aload_n 0, 1) := dk_42 (dk_at dksL_law_22 2 rfl rfl)
theorem dL_law_697 : decode cL_law 697 = .ok (.iload 4, 2) := dk_21 4 (dk_at dksL_law_22 3 rfl rfl)
theorem dL_law_699 : decode cL_law 699 = .ok (.iconst 2, 1) := dk_5 (dk_at dksL_law_22 5 rfl rfl)
theorem dL_law_700 : decode cL_law 700 = .ok (.iadd, 1) := dk_96 (dk_at dksL_law_22 6 rfl rfl)
theorem dL_law_701 : decode cL_law 701 = .ok (.iaload, 1) := dk_46 (dk_at dksL_law_22 7 rfl rfl)
theorem dL_law_702 : decode cL_law 702 = .ok (.invokevirtual 74, 3) := dk_182 0 74 (dk_at dksL_law_22 8 rfl rfl)
theorem dL_law_705 : decode cL_law 705 = .ok (.aload_n 2, 1) := dk_44 (dk_at dksL_law_22 11 rfl rfl)
theorem dL_law_706 : decode cL_law 706 = .ok (.aload_n 0, 1) := dk_42 (dk_at dksL_law_22 12 rfl rfl)
theorem dL_law_707 : decode cL_law 707 = .ok (.iload 4, 2) := dk_21 4 (dk_at dksL_law_22 13 rfl rfl)
theorem dL_law_709 : decode cL_law 709 = .ok (.iconst 1, 1) := dk_4 (dk_at dksL_law_22 15 rfl rfl)
theorem dL_law_710 : decode cL_law 710 = .ok (.iadd, 1) := dk_96 (dk_at dksL_law_22 16 rfl rfl)
theorem dL_law_711 : decode cL_law 711 = .ok (.iaload, 1) := dk_46 (dk_at dksL_law_22 17 rfl rfl)
theorem dL_law_712 : decode cL_law 712 = .ok (.aload_n 0, 1) := dk_42 (dk_at dksL_law_22 18 rfl rfl)
theorem dL_law_713 : decode cL_law 713 = .ok (.iload 4, 2) := dk_21 4 (dk_at dksL_law_22 19 rfl rfl)
theorem dL_law_715 : decode cL_law 715 = .ok (.iconst 2, 1) := dk_5 (dk_at dksL_law_22 21 rfl rfl)
theorem dL_law_716 : decode cL_law 716 = .ok (.iadd, 1) := dk_96 (dk_at dksL_law_22 22 rfl rfl)
theorem dL_law_717 : decode cL_law 717 = .ok (.iaload, 1) := dk_46 (dk_at dksL_law_22 23 rfl rfl)
theorem dL_law_718 : decode cL_law 718 = .ok (.invokevirtual 77, 3) := dk_182 0 77 (dk_at dksL_law_23 0 rfl rfl)
theorem dL_law_721 : decode cL_law 721 = .ok (.if_icmp .eq 1069, 3) := dk_159 4 45 (dk_at dksL_law_23 3 rfl rfl)
theorem dL_law_724 : decode cL_law 724 = .ok (.iconst 0, 1) := dk_3 (dk_at dksL_law_23 6 rfl rfl)
theorem dL_law_725 : decode cL_law 725 = .ok (.ireturn, 1) := dk_172 (dk_at dksL_law_23 7 rfl rfl)
theorem dL_law_726 : decode cL_law 726 = .ok (.aload_n 1, 1) := dk_43 (dk_at dksL_law_23 8 rfl rfl)
theorem dL_law_727 : decode cL_law 727 = .ok (.aload_n 0, 1) := dk_42 (dk_at dksL_law_23 9 rfl rfl)
theorem dL_law_728 : decode cL_law 728 = .ok (.iload 4, 2) := dk_21 4 (dk_at dksL_law_23 10 rfl rfl)
theorem dL_law_730 : decode cL_law 730 = .ok (.iconst 1, 1) := dk_4 (dk_at dksL_law_23 12 rfl rfl)
theorem dL_law_731 : decode cL_law 731 = .ok (.iadd, 1) := dk_96 (dk_at dksL_law_23 13 rfl rfl)
theorem dL_law_732 : decode cL_law 732 = .ok (.iaload, 1) := dk_46 (dk_at dksL_law_23 14 rfl rfl)
theorem dL_law_733 : decode cL_law 733 = .ok (.aload_n 0, 1) := dk_42 (dk_at dksL_law_23 15 rfl rfl)
theorem dL_law_734 : decode cL_law 734 = .ok (.iload 4, 2) := dk_21 4 (dk_at dksL_law_23 16 rfl rfl)
theorem dL_law_736 : decode cL_law 736 = .ok (.iconst 2, 1) := dk_5 (dk_at dksL_law_23 18 rfl rfl)
theorem dL_law_737 : decode cL_law 737 = .ok (.iadd, 1) := dk_96 (dk_at dksL_law_23 19 rfl rfl)
theorem dL_law_738 : decode cL_law 738 = .ok (.iaload, 1) := dk_46 (dk_at dksL_law_23 20 rfl rfl)
theorem dL_law_739 : decode cL_law 739 = .ok (.invokevirtual 78, 3) := dk_182 0 78 (dk_at dksL_law_23 21 rfl rfl)
theorem dL_law_742 : decode cL_law 742 = .ok (.aload_n 2, 1) := dk_44 (dk_at dksL_law_24 0 rfl rfl)
theorem dL_law_743 : decode cL_law 743 = .ok (.aload_n 0, 1) := dk_42 (dk_at dksL_law_24 1 rfl rfl)
theorem dL_law_744 : decode cL_law 744 = .ok (.iload 4, 2) := dk_21 4 (dk_at dksL_law_24 2 rfl rfl)
theorem dL_law_746 : decode cL_law 746 = .ok (.iconst 1, 1) := dk_4 (dk_at dksL_law_24 4 rfl rfl)
theorem dL_law_747 : decode cL_law 747 = .ok (.iadd, 1) := dk_96 (dk_at dksL_law_24 5 rfl rfl)
theorem dL_law_748 : decode cL_law 748 = .ok (.iaload, 1) := dk_46 (dk_at dksL_law_24 6 rfl rfl)
theorem dL_law_749 : decode cL_law 749 = .ok (.aload_n 0, 1) := dk_42 (dk_at dksL_law_24 7 rfl rfl)
theorem dL_law_750 : decode cL_law 750 = .ok (.iload 4, 2) := dk_21 4 (dk_at dksL_law_24 8 rfl rfl)
theorem dL_law_752 : decode cL_law 752 = .ok (.iconst 2, 1) := dk_5 (dk_at dksL_law_24 10 rfl rfl)
theorem dL_law_753 : decode cL_law 753 = .ok (.iadd, 1) := dk_96 (dk_at dksL_law_24 11 rfl rfl)
theorem dL_law_754 : decode cL_law 754 = .ok (.iaload, 1) := dk_46 (dk_at dksL_law_24 12 rfl rfl)
theorem dL_law_755 : decode cL_law 755 = .ok (.invokevirtual 81, 3) := dk_182 0 81 (dk_at dksL_law_24 13 rfl rfl)
theorem dL_law_758 : decode cL_law 758 = .ok (.if_icmp .eq 1032, 3) := dk_159 4 8 (dk_at dksL_law_24 16 rfl rfl)
theorem dL_law_761 : decode cL_law 761 = .ok (.iconst 0, 1) := dk_3 (dk_at dksL_law_24 19 rfl rfl)
theorem dL_law_762 : decode cL_law 762 = .ok (.ireturn, 1) := dk_172 (dk_at dksL_law_24 20 rfl rfl)
theorem dL_law_763 : decode cL_law 763 = .ok (.aload_n 1, 1) := dk_43 (dk_at dksL_law_24 21 rfl rfl)
theorem dL_law_764 : decode cL_law 764 = .ok (.aload_n 0, 1) := dk_42 (dk_at dksL_law_24 22 rfl rfl)
theorem dL_law_765 : decode cL_law 765 = .ok (.iload 4, 2) := dk_21 4 (dk_at dksL_law_25 0 rfl rfl)
theorem dL_law_767 : decode cL_law 767 = .ok (.iconst 1, 1) := dk_4 (dk_at dksL_law_25 2 rfl rfl)
theorem dL_law_768 : decode cL_law 768 = .ok (.iadd, 1) := dk_96 (dk_at dksL_law_25 3 rfl rfl)
theorem dL_law_769 : decode cL_law 769 = .ok (.iaload, 1) := dk_46 (dk_at dksL_law_25 4 rfl rfl)
theorem dL_law_770 : decode cL_law 770 = .ok (.invokevirtual 82, 3) := dk_182 0 82 (dk_at dksL_law_25 5 rfl rfl)
theorem dL_law_773 : decode cL_law 773 = .ok (.aload_n 2, 1) := dk_44 (dk_at dksL_law_25 8 rfl rfl)
theorem dL_law_774 : decode cL_law 774 = .ok (.aload_n 0, 1) := dk_42 (dk_at dksL_law_25 9 rfl rfl)
theorem dL_law_775 : decode cL_law 775 = .ok (.iload 4, 2) := dk_21 4 (dk_at dksL_law_25 10 rfl rfl)
theorem dL_law_777 : decode cL_law 777 = .ok (.iconst 1, 1) := dk_4 (dk_at dksL_law_25 12 rfl rfl)
theorem dL_law_778 : decode cL_law 778 = .ok (.iadd, 1) := dk_96 (dk_at dksL_law_25 13 rfl rfl)
theorem dL_law_779 : decode cL_law 779 = .ok (.iaload, 1) := dk_46 (dk_at dksL_law_25 14 rfl rfl)
theorem dL_law_780 : decode cL_law 780 = .ok (.invokevirtual 85, 3) := dk_182 0 85 (dk_at dksL_law_25 15 rfl rfl)
theorem dL_law_783 : decode cL_law 783 = .ok (.if_icmp .eq 1007, 3) := dk_159 3 239 (dk_at dksL_law_25 18 rfl rfl)
theorem dL_law_786 : decode cL_law 786 = .ok (.iconst 0, 1) := dk_3 (dk_at dksL_law_25 21 rfl rfl)
theorem dL_law_787 : decode cL_law 787 = .ok (.ireturn, 1) := dk_172 (dk_at dksL_law_25 22 rfl rfl)
theorem dL_law_788 : decode cL_law 788 = .ok (.aload_n 1, 1) := dk_43 (dk_at dksL_law_25 23 rfl rfl)
theorem dL_law_789 : decode cL_law 789 = .ok (.aload_n 0, 1) := dk_42 (dk_at dksL_law_26 0 rfl rfl)
theorem dL_law_790 : decode cL_law 790 = .ok (.iload 4, 2) := dk_21 4 (dk_at dksL_law_26 1 rfl rfl)
theorem dL_law_792 : decode cL_law 792 = .ok (.iconst 1, 1) := dk_4 (dk_at dksL_law_26 3 rfl rfl)
theorem dL_law_793 : decode cL_law 793 = .ok (.iadd, 1) := dk_96 (dk_at dksL_law_26 4 rfl rfl)
theorem dL_law_794 : decode cL_law 794 = .ok (.iaload, 1) := dk_46 (dk_at dksL_law_26 5 rfl rfl)
theorem dL_law_795 : decode cL_law 795 = .ok (.invokevirtual 86, 3) := dk_182 0 86 (dk_at dksL_law_26 6 rfl rfl)
theorem dL_law_798 : decode cL_law 798 = .ok (.aload_n 2, 1) := dk_44 (dk_at dksL_law_26 9 rfl rfl)
theorem dL_law_799 : decode cL_law 799 = .ok (.aload_n 0, 1) := dk_42 (dk_at dksL_law_26 10 rfl rfl)
theorem dL_law_800 : decode cL_law 800 = .ok (.iload 4, 2) := dk_21 4 (dk_at dksL_law_26 11 rfl rfl)
theorem dL_law_802 : decode cL_law 802 = .ok (.iconst 1, 1) := dk_4 (dk_at dksL_law_26 13 rfl rfl)
theorem dL_law_803 : decode cL_law 803 = .ok (.iadd, 1) := dk_96 (dk_at dksL_law_26 14 rfl rfl)
theorem dL_law_804 : decode cL_law 804 = .ok (.iaload, 1) := dk_46 (dk_at dksL_law_26 15 rfl rfl)
theorem dL_law_805 : decode cL_law 805 = .ok (.invokevirtual 89, 3) := dk_182 0 89 (dk_at dksL_law_26 16 rfl rfl)
theorem dL_law_808 : decode cL_law 808 = .ok (.if_icmp .eq 982, 3) := dk_159 3 214 (dk_at dksL_law_26 19 rfl rfl)
theorem dL_law_811 : decode cL_law 811 = .ok (.iconst 0, 1) := dk_3 (dk_at dksL_law_26 22 rfl rfl)
theorem dL_law_812 : decode cL_law 812 = .ok (.ireturn, 1) := dk_172 (dk_at dksL_law_26 23 rfl rfl)
theorem dL_law_813 : decode cL_law 813 = .ok (.aload_n 1, 1) := dk_43 (dk_at dksL_law_27 0 rfl rfl)
theorem dL_law_814 : decode cL_law 814 = .ok (.aload_n 0, 1) := dk_42 (dk_at dksL_law_27 1 rfl rfl)
theorem dL_law_815 : decode cL_law 815 = .ok (.iload 4, 2) := dk_21 4 (dk_at dksL_law_27 2 rfl rfl)
theorem dL_law_817 : decode cL_law 817 = .ok (.iconst 1, 1) := dk_4 (dk_at dksL_law_27 4 rfl rfl)
theorem dL_law_818 : decode cL_law 818 = .ok (.iadd, 1) := dk_96 (dk_at dksL_law_27 5 rfl rfl)
theorem dL_law_819 : decode cL_law 819 = .ok (.iaload, 1) := dk_46 (dk_at dksL_law_27 6 rfl rfl)
theorem dL_law_820 : decode cL_law 820 = .ok (.aload_n 0, 1) := dk_42 (dk_at dksL_law_27 7 rfl rfl)
theorem dL_law_821 : decode cL_law 821 = .ok (.iload 4, 2) := dk_21 4 (dk_at dksL_law_27 8 rfl rfl)
theorem dL_law_823 : decode cL_law 823 = .ok (.iconst 2, 1) := dk_5 (dk_at dksL_law_27 10 rfl rfl)
theorem dL_law_824 : decode cL_law 824 = .ok (.iadd, 1) := dk_96 (dk_at dksL_law_27 11 rfl rfl)
theorem dL_law_825 : decode cL_law 825 = .ok (.iaload, 1) := dk_46 (dk_at dksL_law_27 12 rfl rfl)
theorem dL_law_826 : decode cL_law 826 = .ok (.invokevirtual 90, 3) := dk_182 0 90 (dk_at dksL_law_27 13 rfl rfl)
theorem dL_law_829 : decode cL_law 829 = .ok (.aload_n 2, 1) := dk_44 (dk_at dksL_law_27 16 rfl rfl)
theorem dL_law_830 : decode cL_law 830 = .ok (.aload_n 0, 1) := dk_42 (dk_at dksL_law_27 17 rfl rfl)
theorem dL_law_831 : decode cL_law 831 = .ok (.iload 4, 2) := dk_21 4 (dk_at dksL_law_27 18 rfl rfl)
theorem dL_law_833 : decode cL_law 833 = .ok (.iconst 1, 1) := dk_4 (dk_at dksL_law_27 20 rfl rfl)
theorem dL_law_834 : decode cL_law 834 = .ok (.iadd, 1) := dk_96 (dk_at dksL_law_27 21 rfl rfl)
theorem dL_law_835 : decode cL_law 835 = .ok (.iaload, 1) := dk_46 (dk_at dksL_law_27 22 rfl rfl)
theorem dL_law_836 : decode cL_law 836 = .ok (.aload_n 0, 1) := dk_42 (dk_at dksL_law_27 23 rfl rfl)
theorem dL_law_837 : decode cL_law 837 = .ok (.iload 4, 2) := dk_21 4 (dk_at dksL_law_28 0 rfl rfl)
theorem dL_law_839 : decode cL_law 839 = .ok (.iconst 2, 1) := dk_5 (dk_at dksL_law_28 2 rfl rfl)
theorem dL_law_840 : decode cL_law 840 = .ok (.iadd, 1) := dk_96 (dk_at dksL_law_28 3 rfl rfl)
theorem dL_law_841 : decode cL_law 841 = .ok (.iaload, 1) := dk_46 (dk_at dksL_law_28 4 rfl rfl)
theorem dL_law_842 : decode cL_law 842 = .ok (.invokevirtual 93, 3) := dk_182 0 93 (dk_at dksL_law_28 5 rfl rfl)
theorem dL_law_845 : decode cL_law 845 = .ok (.if_icmp .eq 945, 3) := dk_159 3 177 (dk_at dksL_law_28 8 rfl rfl)
theorem dL_law_848 : decode cL_law 848 = .ok (.iconst 0, 1) := dk_3 (dk_at dksL_law_28 11 rfl rfl)
theorem dL_law_849 : decode cL_law 849 = .ok (.ireturn, 1) := dk_172 (dk_at dksL_law_28 12 rfl rfl)
theorem dL_law_850 : decode cL_law 850 = .ok (.aload_n 1, 1) := dk_43 (dk_at dksL_law_28 13 rfl rfl)
theorem dL_law_851 : decode cL_law 851 = .ok (.aload_n 0, 1) := dk_42 (dk_at dksL_law_28 14 rfl rfl)
theorem dL_law_852 : decode cL_law 852 = .ok (.iload 4, 2) := dk_21 4 (dk_at dksL_law_28 15 rfl rfl)
theorem dL_law_854 : decode cL_law 854 = .ok (.iconst 1, 1) := dk_4 (dk_at dksL_law_28 17 rfl rfl)
theorem dL_law_855 : decode cL_law 855 = .ok (.iadd, 1) := dk_96 (dk_at dksL_law_28 18 rfl rfl)
theorem dL_law_856 : decode cL_law 856 = .ok (.iaload, 1) := dk_46 (dk_at dksL_law_28 19 rfl rfl)
theorem dL_law_857 : decode cL_law 857 = .ok (.aload_n 0, 1) := dk_42 (dk_at dksL_law_28 20 rfl rfl)
theorem dL_law_858 : decode cL_law 858 = .ok (.iload 4, 2) := dk_21 4 (dk_at dksL_law_28 21 rfl rfl)
theorem dL_law_860 : decode cL_law 860 = .ok (.iconst 2, 1) := dk_5 (dk_at dksL_law_28 23 rfl rfl)
theorem dL_law_861 : decode cL_law 861 = .ok (.iadd, 1) := dk_96 (dk_at dksL_law_29 0 rfl rfl)
theorem dL_law_862 : decode cL_law 862 = .ok (.iaload, 1) := dk_46 (dk_at dksL_law_29 1 rfl rfl)
theorem dL_law_863 : decode cL_law 863 = .ok (.aload_n 0, 1) := dk_42 (dk_at dksL_law_29 2 rfl rfl)
theorem dL_law_864 : decode cL_law 864 = .ok (.iload 4, 2) := dk_21 4 (dk_at dksL_law_29 3 rfl rfl)
theorem dL_law_866 : decode cL_law 866 = .ok (.iconst 3, 1) := dk_6 (dk_at dksL_law_29 5 rfl rfl)
theorem dL_law_867 : decode cL_law 867 = .ok (.iadd, 1) := dk_96 (dk_at dksL_law_29 6 rfl rfl)
theorem dL_law_868 : decode cL_law 868 = .ok (.iaload, 1) := dk_46 (dk_at dksL_law_29 7 rfl rfl)
theorem dL_law_869 : decode cL_law 869 = .ok (.ifCond .eq 7, 3) := dk_153 0 7 (dk_at dksL_law_29 8 rfl rfl)
theorem dL_law_872 : decode cL_law 872 = .ok (.iconst 1, 1) := dk_4 (dk_at dksL_law_29 11 rfl rfl)
theorem dL_law_873 : decode cL_law 873 = .ok (.goto 4, 3) := dk_167 0 4 (dk_at dksL_law_29 12 rfl rfl)
theorem dL_law_876 : decode cL_law 876 = .ok (.iconst 0, 1) := dk_3 (dk_at dksL_law_29 15 rfl rfl)
theorem dL_law_877 : decode cL_law 877 = .ok (.invokevirtual 94, 3) := dk_182 0 94 (dk_at dksL_law_29 16 rfl rfl)
theorem dL_law_880 : decode cL_law 880 = .ok (.aload_n 2, 1) := dk_44 (dk_at dksL_law_29 19 rfl rfl)
theorem dL_law_881 : decode cL_law 881 = .ok (.aload_n 0, 1) := dk_42 (dk_at dksL_law_29 20 rfl rfl)
theorem dL_law_882 : decode cL_law 882 = .ok (.iload 4, 2) := dk_21 4 (dk_at dksL_law_29 21 rfl rfl)
theorem dL_law_884 : decode cL_law 884 = .ok (.iconst 1, 1) := dk_4 (dk_at dksL_law_29 23 rfl rfl)
theorem dL_law_885 : decode cL_law 885 = .ok (.iadd, 1) := dk_96 (dk_at dksL_law_30 0 rfl rfl)
theorem dL_law_886 : decode cL_law 886 = .ok (.iaload, 1) := dk_46 (dk_at dksL_law_30 1 rfl rfl)
theorem dL_law_887 : decode cL_law 887 = .ok (.aload_n 0, 1) := dk_42 (dk_at dksL_law_30 2 rfl rfl)
theorem dL_law_888 : decode cL_law 888 = .ok (.iload 4, 2) := dk_21 4 (dk_at dksL_law_30 3 rfl rfl)
theorem dL_law_890 : decode cL_law 890 = .ok (.iconst 2, 1) := dk_5 (dk_at dksL_law_30 5 rfl rfl)
theorem dL_law_891 : decode cL_law 891 = .ok (.iadd, 1) := dk_96 (dk_at dksL_law_30 6 rfl rfl)
theorem dL_law_892 : decode cL_law 892 = .ok (.iaload, 1) := dk_46 (dk_at dksL_law_30 7 rfl rfl)
theorem dL_law_893 : decode cL_law 893 = .ok (.aload_n 0, 1) := dk_42 (dk_at dksL_law_30 8 rfl rfl)
theorem dL_law_894 : decode cL_law 894 = .ok (.iload 4, 2) := dk_21 4 (dk_at dksL_law_30 9 rfl rfl)
theorem dL_law_896 : decode cL_law 896 = .ok (.iconst 3, 1) := dk_6 (dk_at dksL_law_30 11 rfl rfl)
theorem dL_law_897 : decode cL_law 897 = .ok (.iadd, 1) := dk_96 (dk_at dksL_law_30 12 rfl rfl)
theorem dL_law_898 : decode cL_law 898 = .ok (.iaload, 1) := dk_46 (dk_at dksL_law_30 13 rfl rfl)
theorem dL_law_899 : decode cL_law 899 = .ok (.ifCond .eq 7, 3) := dk_153 0 7 (dk_at dksL_law_30 14 rfl rfl)
theorem dL_law_902 : decode cL_law 902 = .ok (.iconst 1, 1) := dk_4 (dk_at dksL_law_30 17 rfl rfl)
theorem dL_law_903 : decode cL_law 903 = .ok (.goto 4, 3) := dk_167 0 4 (dk_at dksL_law_30 18 rfl rfl)
theorem dL_law_906 : decode cL_law 906 = .ok (.iconst 0, 1) := dk_3 (dk_at dksL_law_30 21 rfl rfl)
theorem dL_law_907 : decode cL_law 907 = .ok (.invokevirtual 98, 3) := dk_182 0 98 (dk_at dksL_law_31 0 rfl rfl)
theorem dL_law_910 : decode cL_law 910 = .ok (.if_icmp .eq 880, 3) := dk_159 3 112 (dk_at dksL_law_31 3 rfl rfl)
theorem dL_law_913 : decode cL_law 913 = .ok (.iconst 0, 1) := dk_3 (dk_at dksL_law_31 6 rfl rfl)
theorem dL_law_914 : decode cL_law 914 = .ok (.ireturn, 1) := dk_172 (dk_at dksL_law_31 7 rfl rfl)
theorem dL_law_915 : decode cL_law 915 = .ok (.aload_n 1, 1) := dk_43 (dk_at dksL_law_31 8 rfl rfl)
theorem dL_law_916 : decode cL_law 916 = .ok (.aload_n 0, 1) := dk_42 (dk_at dksL_law_31 9 rfl rfl)
theorem dL_law_917 : decode cL_law 917 = .ok (.iload 4, 2) := dk_21 4 (dk_at dksL_law_31 10 rfl rfl)
theorem dL_law_919 : decode cL_law 919 = .ok (.iconst 1, 1) := dk_4 (dk_at dksL_law_31 12 rfl rfl)
theorem dL_law_920 : decode cL_law 920 = .ok (.iadd, 1) := dk_96 (dk_at dksL_law_31 13 rfl rfl)
theorem dL_law_921 : decode cL_law 921 = .ok (.iaload, 1) := dk_46 (dk_at dksL_law_31 14 rfl rfl)
theorem dL_law_922 : decode cL_law 922 = .ok (.invokevirtual 99, 3) := dk_182 0 99 (dk_at dksL_law_31 15 rfl rfl)
theorem dL_law_925 : decode cL_law 925 = .ok (.aload_n 2, 1) := dk_44 (dk_at dksL_law_31 18 rfl rfl)
theorem dL_law_926 : decode cL_law 926 = .ok (.aload_n 0, 1) := dk_42 (dk_at dksL_law_31 19 rfl rfl)
theorem dL_law_927 : decode cL_law 927 = .ok (.iload 4, 2) := dk_21 4 (dk_at dksL_law_31 20 rfl rfl)
theorem dL_law_929 : decode cL_law 929 = .ok (.iconst 1, 1) := dk_4 (dk_at dksL_law_31 22 rfl rfl)
theorem dL_law_930 : decode cL_law 930 = .ok (.iadd, 1) := dk_96 (dk_at dksL_law_31 23 rfl rfl)
theorem dL_law_931 : decode cL_law 931 = .ok (.iaload, 1) := dk_46 (dk_at dksL_law_32 0 rfl rfl)
theorem dL_law_932 : decode cL_law 932 = .ok (.invokevirtual 102, 3) := dk_182 0 102 (dk_at dksL_law_32 1 rfl rfl)
theorem dL_law_935 : decode cL_law 935 = .ok (.if_icmp .eq 855, 3) := dk_159 3 87 (dk_at dksL_law_32 4 rfl rfl)
theorem dL_law_938 : decode cL_law 938 = .ok (.iconst 0, 1) := dk_3 (dk_at dksL_law_32 7 rfl rfl)
theorem dL_law_939 : decode cL_law 939 = .ok (.ireturn, 1) := dk_172 (dk_at dksL_law_32 8 rfl rfl)
theorem dL_law_940 : decode cL_law 940 = .ok (.aload_n 1, 1) := dk_43 (dk_at dksL_law_32 9 rfl rfl)
theorem dL_law_941 : decode cL_law 941 = .ok (.aload_n 0, 1) := dk_42 (dk_at dksL_law_32 10 rfl rfl)
theorem dL_law_942 : decode cL_law 942 = .ok (.iload 4, 2) := dk_21 4 (dk_at dksL_law_32 11 rfl rfl)
theorem dL_law_944 : decode cL_law 944 = .ok (.iconst 1, 1) := dk_4 (dk_at dksL_law_32 13 rfl rfl)
theorem dL_law_945 : decode cL_law 945 = .ok (.iadd, 1) := dk_96 (dk_at dksL_law_32 14 rfl rfl)
theorem dL_law_946 : decode cL_law 946 = .ok (.iaload, 1) := dk_46 (dk_at dksL_law_32 15 rfl rfl)
theorem dL_law_947 : decode cL_law 947 = .ok (.aload_n 0, 1) := dk_42 (dk_at dksL_law_32 16 rfl rfl)
theorem dL_law_948 : decode cL_law 948 = .ok (.iload 4, 2) := dk_21 4 (dk_at dksL_law_32 17 rfl rfl)
theorem dL_law_950 : decode cL_law 950 = .ok (.iconst 2, 1) := dk_5 (dk_at dksL_law_32 19 rfl rfl)
theorem dL_law_951 : decode cL_law 951 = .ok (.iadd, 1) := dk_96 (dk_at dksL_law_32 20 rfl rfl)
theorem dL_law_952 : decode cL_law 952 = .ok (.iaload, 1) := dk_46 (dk_at dksL_law_32 21 rfl rfl)
theorem dL_law_953 : decode cL_law 953 = .ok (.invokevirtual 103, 3) := dk_182 0 103 (dk_at dksL_law_33 0 rfl rfl)
theorem dL_law_956 : decode cL_law 956 = .ok (.aload_n 2, 1) := dk_44 (dk_at dksL_law_33 3 rfl rfl)
theorem dL_law_957 : decode cL_law 957 = .ok (.aload_n 0, 1) := dk_42 (dk_at dksL_law_33 4 rfl rfl)
theorem dL_law_958 : decode cL_law 958 = .ok (.iload 4, 2) := dk_21 4 (dk_at dksL_law_33 5 rfl rfl)
theorem dL_law_960 : decode cL_law 960 = .ok (.iconst 1, 1) := dk_4 (dk_at dksL_law_33 7 rfl rfl)
theorem dL_law_961 : decode cL_law 961 = .ok (.iadd, 1) := dk_96 (dk_at dksL_law_33 8 rfl rfl)
theorem dL_law_962 : decode cL_law 962 = .ok (.iaload, 1) := dk_46 (dk_at dksL_law_33 9 rfl rfl)
theorem dL_law_963 : decode cL_law 963 = .ok (.aload_n 0, 1) := dk_42 (dk_at dksL_law_33 10 rfl rfl)
theorem dL_law_964 : decode cL_law 964 = .ok (.iload 4, 2) := dk_21 4 (dk_at dksL_law_33 11 rfl rfl)
theorem dL_law_966 : decode cL_law 966 = .ok (.iconst 2, 1) := dk_5 (dk_at dksL_law_33 13 rfl rfl)
theorem dL_law_967 : decode cL_law 967 = .ok (.iadd, 1) := dk_96 (dk_at dksL_law_33 14 rfl rfl)
theorem dL_law_968 : decode cL_law 968 = .ok (.iaload, 1) := dk_46 (dk_at dksL_law_33 15 rfl rfl)
theorem dL_law_969 : decode cL_law 969 = .ok (.invokevirtual 106, 3) := dk_182 0 106 (dk_at dksL_law_33 16 rfl rfl)
theorem dL_law_972 : decode cL_law 972 = .ok (.if_icmp .eq 818, 3) := dk_159 3 50 (dk_at dksL_law_33 19 rfl rfl)
theorem dL_law_975 : decode cL_law 975 = .ok (.iconst 0, 1) := dk_3 (dk_at dksL_law_33 22 rfl rfl)
theorem dL_law_976 : decode cL_law 976 = .ok (.ireturn, 1) := dk_172 (dk_at dksL_law_33 23 rfl rfl)
theorem dL_law_977 : decode cL_law 977 = .ok (.aload_n 1, 1) := dk_43 (dk_at dksL_law_34 0 rfl rfl)
theorem dL_law_978 : decode cL_law 978 = .ok (.aload_n 0, 1) := dk_42 (dk_at dksL_law_34 1 rfl rfl)
theorem dL_law_979 : decode cL_law 979 = .ok (.iload 4, 2) := dk_21 4 (dk_at dksL_law_34 2 rfl rfl)
theorem dL_law_981 : decode cL_law 981 = .ok (.iconst 1, 1) := dk_4 (dk_at dksL_law_34 4 rfl rfl)
theorem dL_law_982 : decode cL_law 982 = .ok (.iadd, 1) := dk_96 (dk_at dksL_law_34 5 rfl rfl)
theorem dL_law_983 : decode cL_law 983 = .ok (.iaload, 1) := dk_46 (dk_at dksL_law_34 6 rfl rfl)
theorem dL_law_984 : decode cL_law 984 = .ok (.invokevirtual 107, 3) := dk_182 0 107 (dk_at dksL_law_34 7 rfl rfl)
theorem dL_law_987 : decode cL_law 987 = .ok (.aload_n 2, 1) := dk_44 (dk_at dksL_law_34 10 rfl rfl)
theorem dL_law_988 : decode cL_law 988 = .ok (.aload_n 0, 1) := dk_42 (dk_at dksL_law_34 11 rfl rfl)
theorem dL_law_989 : decode cL_law 989 = .ok (.iload 4, 2) := dk_21 4 (dk_at dksL_law_34 12 rfl rfl)
theorem dL_law_991 : decode cL_law 991 = .ok (.iconst 1, 1) := dk_4 (dk_at dksL_law_34 14 rfl rfl)
theorem dL_law_992 : decode cL_law 992 = .ok (.iadd, 1) := dk_96 (dk_at dksL_law_34 15 rfl rfl)
theorem dL_law_993 : decode cL_law 993 = .ok (.iaload, 1) := dk_46 (dk_at dksL_law_34 16 rfl rfl)
theorem dL_law_994 : decode cL_law 994 = .ok (.invokevirtual 110, 3) := dk_182 0 110 (dk_at dksL_law_34 17 rfl rfl)
theorem dL_law_997 : decode cL_law 997 = .ok (.if_icmp .eq 793, 3) := dk_159 3 25 (dk_at dksL_law_34 20 rfl rfl)
theorem dL_law_1000 : decode cL_law 1000 = .ok (.iconst 0, 1) := dk_3 (dk_at dksL_law_34 23 rfl rfl)
theorem dL_law_1001 : decode cL_law 1001 = .ok (.ireturn, 1) := dk_172 (dk_at dksL_law_35 0 rfl rfl)
theorem dL_law_1002 : decode cL_law 1002 = .ok (.aload_n 1, 1) := dk_43 (dk_at dksL_law_35 1 rfl rfl)
theorem dL_law_1003 : decode cL_law 1003 = .ok (.aload_n 0, 1) := dk_42 (dk_at dksL_law_35 2 rfl rfl)
theorem dL_law_1004 : decode cL_law 1004 = .ok (.iload 4, 2) := dk_21 4 (dk_at dksL_law_35 3 rfl rfl)
theorem dL_law_1006 : decode cL_law 1006 = .ok (.iconst 1, 1) := dk_4 (dk_at dksL_law_35 5 rfl rfl)
theorem dL_law_1007 : decode cL_law 1007 = .ok (.iadd, 1) := dk_96 (dk_at dksL_law_35 6 rfl rfl)
theorem dL_law_1008 : decode cL_law 1008 = .ok (.iaload, 1) := dk_46 (dk_at dksL_law_35 7 rfl rfl)
theorem dL_law_1009 : decode cL_law 1009 = .ok (.aload_n 0, 1) := dk_42 (dk_at dksL_law_35 8 rfl rfl)
theorem dL_law_1010 : decode cL_law 1010 = .ok (.iload 4, 2) := dk_21 4 (dk_at dksL_law_35 9 rfl rfl)
theorem dL_law_1012 : decode cL_law 1012 = .ok (.iconst 2, 1) := dk_5 (dk_at dksL_law_35 11 rfl rfl)
theorem dL_law_1013 : decode cL_law 1013 = .ok (.iadd, 1) := dk_96 (dk_at dksL_law_35 12 rfl rfl)
theorem dL_law_1014 : decode cL_law 1014 = .ok (.iaload, 1) := dk_46 (dk_at dksL_law_35 13 rfl rfl)
theorem dL_law_1015 : decode cL_law 1015 = .ok (.invokevirtual 111, 3) := dk_182 0 111 (dk_at dksL_law_35 14 rfl rfl)
theorem dL_law_1018 : decode cL_law 1018 = .ok (.aload_n 2, 1) := dk_44 (dk_at dksL_law_35 17 rfl rfl)
theorem dL_law_1019 : decode cL_law 1019 = .ok (.aload_n 0, 1) := dk_42 (dk_at dksL_law_35 18 rfl rfl)
theorem dL_law_1020 : decode cL_law 1020 = .ok (.iload 4, 2) := dk_21 4 (dk_at dksL_law_35 19 rfl rfl)
theorem dL_law_1022 : decode cL_law 1022 = .ok (.iconst 1, 1) := dk_4 (dk_at dksL_law_35 21 rfl rfl)
theorem dL_law_1023 : decode cL_law 1023 = .ok (.iadd, 1) := dk_96 (dk_at dksL_law_35 22 rfl rfl)
theorem dL_law_1024 : decode cL_law 1024 = .ok (.iaload, 1) := dk_46 (dk_at dksL_law_35 23 rfl rfl)
theorem dL_law_1025 : decode cL_law 1025 = .ok (.aload_n 0, 1) := dk_42 (dk_at dksL_law_36 0 rfl rfl)
theorem dL_law_1026 : decode cL_law 1026 = .ok (.iload 4, 2) := dk_21 4 (dk_at dksL_law_36 1 rfl rfl)
theorem dL_law_1028 : decode cL_law 1028 = .ok (.iconst 2, 1) := dk_5 (dk_at dksL_law_36 3 rfl rfl)
theorem dL_law_1029 : decode cL_law 1029 = .ok (.iadd, 1) := dk_96 (dk_at dksL_law_36 4 rfl rfl)
theorem dL_law_1030 : decode cL_law 1030 = .ok (.iaload, 1) := dk_46 (dk_at dksL_law_36 5 rfl rfl)
theorem dL_law_1031 : decode cL_law 1031 = .ok (.invokevirtual 114, 3) := dk_182 0 114 (dk_at dksL_law_36 6 rfl rfl)
theorem dL_law_1034 : decode cL_law 1034 = .ok (.if_icmp .eq 756, 3) := dk_159 2 244 (dk_at dksL_law_36 9 rfl rfl)
theorem dL_law_1037 : decode cL_law 1037 = .ok (.iconst 0, 1) := dk_3 (dk_at dksL_law_36 12 rfl rfl)
theorem dL_law_1038 : decode cL_law 1038 = .ok (.ireturn, 1) := dk_172 (dk_at dksL_law_36 13 rfl rfl)
theorem dL_law_1039 : decode cL_law 1039 = .ok (.aload_n 1, 1) := dk_43 (dk_at dksL_law_36 14 rfl rfl)
theorem dL_law_1040 : decode cL_law 1040 = .ok (.aload_n 0, 1) := dk_42 (dk_at dksL_law_36 15 rfl rfl)
theorem dL_law_1041 : decode cL_law 1041 = .ok (.iload 4, 2) := dk_21 4 (dk_at dksL_law_36 16 rfl rfl)
theorem dL_law_1043 : decode cL_law 1043 = .ok (.iconst 1, 1) := dk_4 (dk_at dksL_law_36 18 rfl rfl)
theorem dL_law_1044 : decode cL_law 1044 = .ok (.iadd, 1) := dk_96 (dk_at dksL_law_36 19 rfl rfl)
theorem dL_law_1045 : decode cL_law 1045 = .ok (.iaload, 1) := dk_46 (dk_at dksL_law_36 20 rfl rfl)
theorem dL_law_1046 : decode cL_law 1046 = .ok (.aload_n 0, 1) := dk_42 (dk_at dksL_law_36 21 rfl rfl)
theorem dL_law_1047 : decode cL_law 1047 = .ok (.iload 4, 2) := dk_21 4 (dk_at dksL_law_36 22 rfl rfl)
theorem dL_law_1049 : decode cL_law 1049 = .ok (.iconst 2, 1) := dk_5 (dk_at dksL_law_37 0 rfl rfl)
theorem dL_law_1050 : decode cL_law 1050 = .ok (.iadd, 1) := dk_96 (dk_at dksL_law_37 1 rfl rfl)
theorem dL_law_1051 : decode cL_law 1051 = .ok (.iaload, 1) := dk_46 (dk_at dksL_law_37 2 rfl rfl)
theorem dL_law_1052 : decode cL_law 1052 = .ok (.invokevirtual 115, 3) := dk_182 0 115 (dk_at dksL_law_37 3 rfl rfl)
theorem dL_law_1055 : decode cL_law 1055 = .ok (.aload_n 2, 1) := dk_44 (dk_at dksL_law_37 6 rfl rfl)
theorem dL_law_1056 : decode cL_law 1056 = .ok (.aload_n 0, 1) := dk_42 (dk_at dksL_law_37 7 rfl rfl)
theorem dL_law_1057 : decode cL_law 1057 = .ok (.iload 4, 2) := dk_21 4 (dk_at dksL_law_37 8 rfl rfl)
theorem dL_law_1059 : decode cL_law 1059 = .ok (.iconst 1, 1) := dk_4 (dk_at dksL_law_37 10 rfl rfl)
theorem dL_law_1060 : decode cL_law 1060 = .ok (.iadd, 1) := dk_96 (dk_at dksL_law_37 11 rfl rfl)
theorem dL_law_1061 : decode cL_law 1061 = .ok (.iaload, 1) := dk_46 (dk_at dksL_law_37 12 rfl rfl)
theorem dL_law_1062 : decode cL_law 1062 = .ok (.aload_n 0, 1) := dk_42 (dk_at dksL_law_37 13 rfl rfl)
theorem dL_law_1063 : decode cL_law 1063 = .ok (.iload 4, 2) := dk_21 4 (dk_at dksL_law_37 14 rfl rfl)
theorem dL_law_1065 : decode cL_law 1065 = .ok (.iconst 2, 1) := dk_5 (dk_at dksL_law_37 16 rfl rfl)
theorem dL_law_1066 : decode cL_law 1066 = .ok (.iadd, 1) := dk_96 (dk_at dksL_law_37 17 rfl rfl)
theorem dL_law_1067 : decode cL_law 1067 = .ok (.iaload, 1) := dk_46 (dk_at dksL_law_37 18 rfl rfl)
theorem dL_law_1068 : decode cL_law 1068 = .ok (.invokevirtual 118, 3) := dk_182 0 118 (dk_at dksL_law_37 19 rfl rfl)
theorem dL_law_1071 : decode cL_law 1071 = .ok (.if_icmp .eq 719, 3) := dk_159 2 207 (dk_at dksL_law_38 0 rfl rfl)
theorem dL_law_1074 : decode cL_law 1074 = .ok (.iconst 0, 1) := dk_3 (dk_at dksL_law_38 3 rfl rfl)
theorem dL_law_1075 : decode cL_law 1075 = .ok (.ireturn, 1) := dk_172 (dk_at dksL_law_38 4 rfl rfl)
theorem dL_law_1076 : decode cL_law 1076 = .ok (.aload_n 1, 1) := dk_43 (dk_at dksL_law_38 5 rfl rfl)
theorem dL_law_1077 : decode cL_law 1077 = .ok (.aload_n 0, 1) := dk_42 (dk_at dksL_law_38 6 rfl rfl)
theorem dL_law_1078 : decode cL_law 1078 = .ok (.iload 4, 2) := dk_21 4 (dk_at dksL_law_38 7 rfl rfl)
theorem dL_law_1080 : decode cL_law 1080 = .ok (.iconst 1, 1) := dk_4 (dk_at dksL_law_38 9 rfl rfl)
theorem dL_law_1081 : decode cL_law 1081 = .ok (.iadd, 1) := dk_96 (dk_at dksL_law_38 10 rfl rfl)
theorem dL_law_1082 : decode cL_law 1082 = .ok (.iaload, 1) := dk_46 (dk_at dksL_law_38 11 rfl rfl)
theorem dL_law_1083 : decode cL_law 1083 = .ok (.ifCond .eq 7, 3) := dk_153 0 7 (dk_at dksL_law_38 12 rfl rfl)
theorem dL_law_1086 : decode cL_law 1086 = .ok (.iconst 1, 1) := dk_4 (dk_at dksL_law_38 15 rfl rfl)
theorem dL_law_1087 : decode cL_law 1087 = .ok (.goto 4, 3) := dk_167 0 4 (dk_at dksL_law_38 16 rfl rfl)
theorem dL_law_1090 : decode cL_law 1090 = .ok (.iconst 0, 1) := dk_3 (dk_at dksL_law_38 19 rfl rfl)
theorem dL_law_1091 : decode cL_law 1091 = .ok (.invokevirtual 119, 3) := dk_182 0 119 (dk_at dksL_law_38 20 rfl rfl)
theorem dL_law_1094 : decode cL_law 1094 = .ok (.aload_n 2, 1) := dk_44 (dk_at dksL_law_38 23 rfl rfl)
theorem dL_law_1095 : decode cL_law 1095 = .ok (.aload_n 0, 1) := dk_42 (dk_at dksL_law_39 0 rfl rfl)
theorem dL_law_1096 : decode cL_law 1096 = .ok (.iload 4, 2) := dk_21 4 (dk_at dksL_law_39 1 rfl rfl)
theorem dL_law_1098 : decode cL_law 1098 = .ok (.iconst 1, 1) := dk_4 (dk_at dksL_law_39 3 rfl rfl)
theorem dL_law_1099 : decode cL_law 1099 = .ok (.iadd, 1) := dk_96 (dk_at dksL_law_39 4 rfl rfl)
theorem dL_law_1100 : decode cL_law 1100 = .ok (.iaload, 1) := dk_46 (dk_at dksL_law_39 5 rfl rfl)
theorem dL_law_1101 : decode cL_law 1101 = .ok (.ifCond .eq 7, 3) := dk_153 0 7 (dk_at dksL_law_39 6 rfl rfl)
theorem dL_law_1104 : decode cL_law 1104 = .ok (.iconst 1, 1) := dk_4 (dk_at dksL_law_39 9 rfl rfl)
theorem dL_law_1105 : decode cL_law 1105 = .ok (.goto 4, 3) := dk_167 0 4 (dk_at dksL_law_39 10 rfl rfl)
theorem dL_law_1108 : decode cL_law 1108 = .ok (.iconst 0, 1) := dk_3 (dk_at dksL_law_39 13 rfl rfl)
theorem dL_law_1109 : decode cL_law 1109 = .ok (.invokevirtual 123, 3) := dk_182 0 123 (dk_at dksL_law_39 14 rfl rfl)
theorem dL_law_1112 : decode cL_law 1112 = .ok (.if_icmp .eq 678, 3) := dk_159 2 166 (dk_at dksL_law_39 17 rfl rfl)
theorem dL_law_1115 : decode cL_law 1115 = .ok (.iconst 0, 1) := dk_3 (dk_at dksL_law_39 20 rfl rfl)
theorem dL_law_1116 : decode cL_law 1116 = .ok (.ireturn, 1) := dk_172 (dk_at dksL_law_39 21 rfl rfl)
theorem dL_law_1117 : decode cL_law 1117 = .ok (.aload_n 1, 1) := dk_43 (dk_at dksL_law_39 22 rfl rfl)
theorem dL_law_1118 : decode cL_law 1118 = .ok (.aload_n 0, 1) := dk_42 (dk_at dksL_law_39 23 rfl rfl)
theorem dL_law_1119 : decode cL_law 1119 = .ok (.iload 4, 2) := dk_21 4 (dk_at dksL_law_40 0 rfl rfl)
theorem dL_law_1121 : decode cL_law 1121 = .ok (.iconst 1, 1) := dk_4 (dk_at dksL_law_40 2 rfl rfl)
theorem dL_law_1122 : decode cL_law 1122 = .ok (.iadd, 1) := dk_96 (dk_at dksL_law_40 3 rfl rfl)
theorem dL_law_1123 : decode cL_law 1123 = .ok (.iaload, 1) := dk_46 (dk_at dksL_law_40 4 rfl rfl)
theorem dL_law_1124 : decode cL_law 1124 = .ok (.invokevirtual 124, 3) := dk_182 0 124 (dk_at dksL_law_40 5 rfl rfl)
theorem dL_law_1127 : decode cL_law 1127 = .ok (.aload_n 2, 1) := dk_44 (dk_at dksL_law_40 8 rfl rfl)
theorem dL_law_1128 : decode cL_law 1128 = .ok (.aload_n 0, 1) := dk_42 (dk_at dksL_law_40 9 rfl rfl)
theorem dL_law_1129 : decode cL_law 1129 = .ok (.iload 4, 2) := dk_21 4 (dk_at dksL_law_40 10 rfl rfl)
theorem dL_law_1131 : decode cL_law 1131 = .ok (.iconst 1, 1) := dk_4 (dk_at dksL_law_40 12 rfl rfl)
theorem dL_law_1132 : decode cL_law 1132 = .ok (.iadd, 1) := dk_96 (dk_at dksL_law_40 13 rfl rfl)
theorem dL_law_1133 : decode cL_law 1133 = .ok (.iaload, 1) := dk_46 (dk_at dksL_law_40 14 rfl rfl)
theorem dL_law_1134 : decode cL_law 1134 = .ok (.invokevirtual 127, 3) := dk_182 0 127 (dk_at dksL_law_40 15 rfl rfl)
theorem dL_law_1137 : decode cL_law 1137 = .ok (.if_icmp .eq 653, 3) := dk_159 2 141 (dk_at dksL_law_40 18 rfl rfl)
theorem dL_law_1140 : decode cL_law 1140 = .ok (.iconst 0, 1) := dk_3 (dk_at dksL_law_40 21 rfl rfl)
theorem dL_law_1141 : decode cL_law 1141 = .ok (.ireturn, 1) := dk_172 (dk_at dksL_law_40 22 rfl rfl)
theorem dL_law_1142 : decode cL_law 1142 = .ok (.aload_n 1, 1) := dk_43 (dk_at dksL_law_40 23 rfl rfl)
theorem dL_law_1143 : decode cL_law 1143 = .ok (.aload_n 0, 1) := dk_42 (dk_at dksL_law_41 0 rfl rfl)
theorem dL_law_1144 : decode cL_law 1144 = .ok (.iload 4, 2) := dk_21 4 (dk_at dksL_law_41 1 rfl rfl)
theorem dL_law_1146 : decode cL_law 1146 = .ok (.iconst 1, 1) := dk_4 (dk_at dksL_law_41 3 rfl rfl)
theorem dL_law_1147 : decode cL_law 1147 = .ok (.iadd, 1) := dk_96 (dk_at dksL_law_41 4 rfl rfl)
theorem dL_law_1148 : decode cL_law 1148 = .ok (.iaload, 1) := dk_46 (dk_at dksL_law_41 5 rfl rfl)
theorem dL_law_1149 : decode cL_law 1149 = .ok (.aload_n 0, 1) := dk_42 (dk_at dksL_law_41 6 rfl rfl)
theorem dL_law_1150 : decode cL_law 1150 = .ok (.iload 4, 2) := dk_21 4 (dk_at dksL_law_41 7 rfl rfl)
theorem dL_law_1152 : decode cL_law 1152 = .ok (.iconst 2, 1) := dk_5 (dk_at dksL_law_41 9 rfl rfl)
theorem dL_law_1153 : decode cL_law 1153 = .ok (.iadd, 1) := dk_96 (dk_at dksL_law_41 10 rfl rfl)
theorem dL_law_1154 : decode cL_law 1154 = .ok (.iaload, 1) := dk_46 (dk_at dksL_law_41 11 rfl rfl)
theorem dL_law_1155 : decode cL_law 1155 = .ok (.invokevirtual 128, 3) := dk_182 0 128 (dk_at dksL_law_41 12 rfl rfl)
theorem dL_law_1158 : decode cL_law 1158 = .ok (.aload_n 2, 1) := dk_44 (dk_at dksL_law_41 15 rfl rfl)
theorem dL_law_1159 : decode cL_law 1159 = .ok (.aload_n 0, 1) := dk_42 (dk_at dksL_law_41 16 rfl rfl)
theorem dL_law_1160 : decode cL_law 1160 = .ok (.iload 4, 2) := dk_21 4 (dk_at dksL_law_41 17 rfl rfl)
theorem dL_law_1162 : decode cL_law 1162 = .ok (.iconst 1, 1) := dk_4 (dk_at dksL_law_41 19 rfl rfl)
theorem dL_law_1163 : decode cL_law 1163 = .ok (.iadd, 1) := dk_96 (dk_at dksL_law_41 20 rfl rfl)
theorem dL_law_1164 : decode cL_law 1164 = .ok (.iaload, 1) := dk_46 (dk_at dksL_law_41 21 rfl rfl)
theorem dL_law_1165 : decode cL_law 1165 = .ok (.aload_n 0, 1) := dk_42 (dk_at dksL_law_41 22 rfl rfl)
theorem dL_law_1166 : decode cL_law 1166 = .ok (.iload 4, 2) := dk_21 4 (dk_at dksL_law_42 0 rfl rfl)
theorem dL_law_1168 : decode cL_law 1168 = .ok (.iconst 2, 1) := dk_5 (dk_at dksL_law_42 2 rfl rfl)
theorem dL_law_1169 : decode cL_law 1169 = .ok (.iadd, 1) := dk_96 (dk_at dksL_law_42 3 rfl rfl)
theorem dL_law_1170 : decode cL_law 1170 = .ok (.iaload, 1) := dk_46 (dk_at dksL_law_42 4 rfl rfl)
theorem dL_law_1171 : decode cL_law 1171 = .ok (.invokevirtual 131, 3) := dk_182 0 131 (dk_at dksL_law_42 5 rfl rfl)
theorem dL_law_1174 : decode cL_law 1174 = .ok (.if_icmp .eq 616, 3) := dk_159 2 104 (dk_at dksL_law_42 8 rfl rfl)
theorem dL_law_1177 : decode cL_law 1177 = .ok (.iconst 0, 1) := dk_3 (dk_at dksL_law_42 11 rfl rfl)
theorem dL_law_1178 : decode cL_law 1178 = .ok (.ireturn, 1) := dk_172 (dk_at dksL_law_42 12 rfl rfl)
theorem dL_law_1179 : decode cL_law 1179 = .ok (.aload_n 1, 1) := dk_43 (dk_at dksL_law_42 13 rfl rfl)
theorem dL_law_1180 : decode cL_law 1180 = .ok (.aload_n 0, 1) := dk_42 (dk_at dksL_law_42 14 rfl rfl)
theorem dL_law_1181 : decode cL_law 1181 = .ok (.iload 4, 2) := dk_21 4 (dk_at dksL_law_42 15 rfl rfl)
theorem dL_law_1183 : decode cL_law 1183 = .ok (.iconst 1, 1) := dk_4 (dk_at dksL_law_42 17 rfl rfl)
theorem dL_law_1184 : decode cL_law 1184 = .ok (.iadd, 1) := dk_96 (dk_at dksL_law_42 18 rfl rfl)
theorem dL_law_1185 : decode cL_law 1185 = .ok (.iaload, 1) := dk_46 (dk_at dksL_law_42 19 rfl rfl)
theorem dL_law_1186 : decode cL_law 1186 = .ok (.invokevirtual 132, 3) := dk_182 0 132 (dk_at dksL_law_42 20 rfl rfl)
theorem dL_law_1189 : decode cL_law 1189 = .ok (.aload_n 2, 1) := dk_44 (dk_at dksL_law_42 23 rfl rfl)
theorem dL_law_1190 : decode cL_law 1190 = .ok (.aload_n 0, 1) := dk_42 (dk_at dksL_law_43 0 rfl rfl)
theorem dL_law_1191 : decode cL_law 1191 = .ok (.iload 4, 2) := dk_21 4 (dk_at dksL_law_43 1 rfl rfl)
theorem dL_law_1193 : decode cL_law 1193 = .ok (.iconst 1, 1) := dk_4 (dk_at dksL_law_43 3 rfl rfl)
theorem dL_law_1194 : decode cL_law 1194 = .ok (.iadd, 1) := dk_96 (dk_at dksL_law_43 4 rfl rfl)
theorem dL_law_1195 : decode cL_law 1195 = .ok (.iaload, 1) := dk_46 (dk_at dksL_law_43 5 rfl rfl)
theorem dL_law_1196 : decode cL_law 1196 = .ok (.invokevirtual 135, 3) := dk_182 0 135 (dk_at dksL_law_43 6 rfl rfl)
theorem dL_law_1199 : decode cL_law 1199 = .ok (.if_icmp .eq 591, 3) := dk_159 2 79 (dk_at dksL_law_43 9 rfl rfl)
theorem dL_law_1202 : decode cL_law 1202 = .ok (.iconst 0, 1) := dk_3 (dk_at dksL_law_43 12 rfl rfl)
theorem dL_law_1203 : decode cL_law 1203 = .ok (.ireturn, 1) := dk_172 (dk_at dksL_law_43 13 rfl rfl)
theorem dL_law_1204 : decode cL_law 1204 = .ok (.aload_n 1, 1) := dk_43 (dk_at dksL_law_43 14 rfl rfl)
theorem dL_law_1205 : decode cL_law 1205 = .ok (.invokevirtual 136, 3) := dk_182 0 136 (dk_at dksL_law_43 15 rfl rfl)
theorem dL_law_1208 : decode cL_law 1208 = .ok (.aload_n 2, 1) := dk_44 (dk_at dksL_law_43 18 rfl rfl)
theorem dL_law_1209 : decode cL_law 1209 = .ok (.invokevirtual 139, 3) := dk_182 0 139 (dk_at dksL_law_43 19 rfl rfl)
theorem dL_law_1212 : decode cL_law 1212 = .ok (.if_icmp .eq 578, 3) := dk_159 2 66 (dk_at dksL_law_44 0 rfl rfl)
theorem dL_law_1215 : decode cL_law 1215 = .ok (.iconst 0, 1) := dk_3 (dk_at dksL_law_44 3 rfl rfl)
theorem dL_law_1216 : decode cL_law 1216 = .ok (.ireturn, 1) := dk_172 (dk_at dksL_law_44 4 rfl rfl)
theorem dL_law_1217 : decode cL_law 1217 = .ok (.aload_n 1, 1) := dk_43 (dk_at dksL_law_44 5 rfl rfl)
theorem dL_law_1218 : decode cL_law 1218 = .ok (.aload_n 0, 1) := dk_42 (dk_at dksL_law_44 6 rfl rfl)
theorem dL_law_1219 : decode cL_law 1219 = .ok (.iload 4, 2) := dk_21 4 (dk_at dksL_law_44 7 rfl rfl)
theorem dL_law_1221 : decode cL_law 1221 = .ok (.iconst 1, 1) := dk_4 (dk_at dksL_law_44 9 rfl rfl)
theorem dL_law_1222 : decode cL_law 1222 = .ok (.iadd, 1) := dk_96 (dk_at dksL_law_44 10 rfl rfl)
theorem dL_law_1223 : decode cL_law 1223 = .ok (.iaload, 1) := dk_46 (dk_at dksL_law_44 11 rfl rfl)
theorem dL_law_1224 : decode cL_law 1224 = .ok (.invokevirtual 140, 3) := dk_182 0 140 (dk_at dksL_law_44 12 rfl rfl)
theorem dL_law_1227 : decode cL_law 1227 = .ok (.aload_n 2, 1) := dk_44 (dk_at dksL_law_44 15 rfl rfl)
theorem dL_law_1228 : decode cL_law 1228 = .ok (.aload_n 0, 1) := dk_42 (dk_at dksL_law_44 16 rfl rfl)
theorem dL_law_1229 : decode cL_law 1229 = .ok (.iload 4, 2) := dk_21 4 (dk_at dksL_law_44 17 rfl rfl)
theorem dL_law_1231 : decode cL_law 1231 = .ok (.iconst 1, 1) := dk_4 (dk_at dksL_law_44 19 rfl rfl)
theorem dL_law_1232 : decode cL_law 1232 = .ok (.iadd, 1) := dk_96 (dk_at dksL_law_44 20 rfl rfl)
theorem dL_law_1233 : decode cL_law 1233 = .ok (.iaload, 1) := dk_46 (dk_at dksL_law_44 21 rfl rfl)
theorem dL_law_1234 : decode cL_law 1234 = .ok (.invokevirtual 143, 3) := dk_182 0 143 (dk_at dksL_law_45 0 rfl rfl)
theorem dL_law_1237 : decode cL_law 1237 = .ok (.if_icmp .eq 553, 3) := dk_159 2 41 (dk_at dksL_law_45 3 rfl rfl)
theorem dL_law_1240 : decode cL_law 1240 = .ok (.iconst 0, 1) := dk_3 (dk_at dksL_law_45 6 rfl rfl)
theorem dL_law_1241 : decode cL_law 1241 = .ok (.ireturn, 1) := dk_172 (dk_at dksL_law_45 7 rfl rfl)
theorem dL_law_1242 : decode cL_law 1242 = .ok (.aload_n 1, 1) := dk_43 (dk_at dksL_law_45 8 rfl rfl)
theorem dL_law_1243 : decode cL_law 1243 = .ok (.aload_n 0, 1) := dk_42 (dk_at dksL_law_45 9 rfl rfl)
theorem dL_law_1244 : decode cL_law 1244 = .ok (.iload 4, 2) := dk_21 4 (dk_at dksL_law_45 10 rfl rfl)
theorem dL_law_1246 : decode cL_law 1246 = .ok (.iconst 1, 1) := dk_4 (dk_at dksL_law_45 12 rfl rfl)
theorem dL_law_1247 : decode cL_law 1247 = .ok (.iadd, 1) := dk_96 (dk_at dksL_law_45 13 rfl rfl)
theorem dL_law_1248 : decode cL_law 1248 = .ok (.iaload, 1) := dk_46 (dk_at dksL_law_45 14 rfl rfl)
theorem dL_law_1249 : decode cL_law 1249 = .ok (.invokevirtual 144, 3) := dk_182 0 144 (dk_at dksL_law_45 15 rfl rfl)
theorem dL_law_1252 : decode cL_law 1252 = .ok (.aload_n 2, 1) := dk_44 (dk_at dksL_law_45 18 rfl rfl)
theorem dL_law_1253 : decode cL_law 1253 = .ok (.aload_n 0, 1) := dk_42 (dk_at dksL_law_45 19 rfl rfl)
theorem dL_law_1254 : decode cL_law 1254 = .ok (.iload 4, 2) := dk_21 4 (dk_at dksL_law_45 20 rfl rfl)
theorem dL_law_1256 : decode cL_law 1256 = .ok (.iconst 1, 1) := dk_4 (dk_at dksL_law_45 22 rfl rfl)
theorem dL_law_1257 : decode cL_law 1257 = .ok (.iadd, 1) := dk_96 (dk_at dksL_law_45 23 rfl rfl)
theorem dL_law_1258 : decode cL_law 1258 = .ok (.iaload, 1) := dk_46 (dk_at dksL_law_46 0 rfl rfl)
theorem dL_law_1259 : decode cL_law 1259 = .ok (.invokevirtual 147, 3) := dk_182 0 147 (dk_at dksL_law_46 1 rfl rfl)
theorem dL_law_1262 : decode cL_law 1262 = .ok (.if_icmp .eq 528, 3) := dk_159 2 16 (dk_at dksL_law_46 4 rfl rfl)
theorem dL_law_1265 : decode cL_law 1265 = .ok (.iconst 0, 1) := dk_3 (dk_at dksL_law_46 7 rfl rfl)
theorem dL_law_1266 : decode cL_law 1266 = .ok (.ireturn, 1) := dk_172 (dk_at dksL_law_46 8 rfl rfl)
theorem dL_law_1267 : decode cL_law 1267 = .ok (.aload_n 1, 1) := dk_43 (dk_at dksL_law_46 9 rfl rfl)
theorem dL_law_1268 : decode cL_law 1268 = .ok (.aload_n 0, 1) := dk_42 (dk_at dksL_law_46 10 rfl rfl)
theorem dL_law_1269 : decode cL_law 1269 = .ok (.iload 4, 2) := dk_21 4 (dk_at dksL_law_46 11 rfl rfl)
theorem dL_law_1271 : decode cL_law 1271 = .ok (.iconst 1, 1) := dk_4 (dk_at dksL_law_46 13 rfl rfl)
theorem dL_law_1272 : decode cL_law 1272 = .ok (.iadd, 1) := dk_96 (dk_at dksL_law_46 14 rfl rfl)
theorem dL_law_1273 : decode cL_law 1273 = .ok (.iaload, 1) := dk_46 (dk_at dksL_law_46 15 rfl rfl)
theorem dL_law_1274 : decode cL_law 1274 = .ok (.invokevirtual 148, 3) := dk_182 0 148 (dk_at dksL_law_46 16 rfl rfl)
theorem dL_law_1277 : decode cL_law 1277 = .ok (.aload_n 2, 1) := dk_44 (dk_at dksL_law_46 19 rfl rfl)
theorem dL_law_1278 : decode cL_law 1278 = .ok (.aload_n 0, 1) := dk_42 (dk_at dksL_law_46 20 rfl rfl)
theorem dL_law_1279 : decode cL_law 1279 = .ok (.iload 4, 2) := dk_21 4 (dk_at dksL_law_46 21 rfl rfl)
theorem dL_law_1281 : decode cL_law 1281 = .ok (.iconst 1, 1) := dk_4 (dk_at dksL_law_46 23 rfl rfl)
theorem dL_law_1282 : decode cL_law 1282 = .ok (.iadd, 1) := dk_96 (dk_at dksL_law_47 0 rfl rfl)
theorem dL_law_1283 : decode cL_law 1283 = .ok (.iaload, 1) := dk_46 (dk_at dksL_law_47 1 rfl rfl)
theorem dL_law_1284 : decode cL_law 1284 = .ok (.invokevirtual 151, 3) := dk_182 0 151 (dk_at dksL_law_47 2 rfl rfl)
theorem dL_law_1287 : decode cL_law 1287 = .ok (.if_icmp .eq 503, 3) := dk_159 1 247 (dk_at dksL_law_47 5 rfl rfl)
theorem dL_law_1290 : decode cL_law 1290 = .ok (.iconst 0, 1) := dk_3 (dk_at dksL_law_47 8 rfl rfl)
theorem dL_law_1291 : decode cL_law 1291 = .ok (.ireturn, 1) := dk_172 (dk_at dksL_law_47 9 rfl rfl)
theorem dL_law_1292 : decode cL_law 1292 = .ok (.aload_n 1, 1) := dk_43 (dk_at dksL_law_47 10 rfl rfl)
theorem dL_law_1293 : decode cL_law 1293 = .ok (.aload_n 0, 1) := dk_42 (dk_at dksL_law_47 11 rfl rfl)
theorem dL_law_1294 : decode cL_law 1294 = .ok (.iload 4, 2) := dk_21 4 (dk_at dksL_law_47 12 rfl rfl)
theorem dL_law_1296 : decode cL_law 1296 = .ok (.iconst 1, 1) := dk_4 (dk_at dksL_law_47 14 rfl rfl)
theorem dL_law_1297 : decode cL_law 1297 = .ok (.iadd, 1) := dk_96 (dk_at dksL_law_47 15 rfl rfl)
theorem dL_law_1298 : decode cL_law 1298 = .ok (.iaload, 1) := dk_46 (dk_at dksL_law_47 16 rfl rfl)
theorem dL_law_1299 : decode cL_law 1299 = .ok (.aload_n 0, 1) := dk_42 (dk_at dksL_law_47 17 rfl rfl)
theorem dL_law_1300 : decode cL_law 1300 = .ok (.iload 4, 2) := dk_21 4 (dk_at dksL_law_47 18 rfl rfl)
theorem dL_law_1302 : decode cL_law 1302 = .ok (.iconst 2, 1) := dk_5 (dk_at dksL_law_47 20 rfl rfl)
theorem dL_law_1303 : decode cL_law 1303 = .ok (.iadd, 1) := dk_96 (dk_at dksL_law_47 21 rfl rfl)
theorem dL_law_1304 : decode cL_law 1304 = .ok (.iaload, 1) := dk_46 (dk_at dksL_law_47 22 rfl rfl)
theorem dL_law_1305 : decode cL_law 1305 = .ok (.ifCond .eq 7, 3) := dk_153 0 7 (dk_at dksL_law_48 0 rfl rfl)
theorem dL_law_1308 : decode cL_law 1308 = .ok (.iconst 1, 1) := dk_4 (dk_at dksL_law_48 3 rfl rfl)
theorem dL_law_1309 : decode cL_law 1309 = .ok (.goto 4, 3) := dk_167 0 4 (dk_at dksL_law_48 4 rfl rfl)
theorem dL_law_1312 : decode cL_law 1312 = .ok (.iconst 0, 1) := dk_3 (dk_at dksL_law_48 7 rfl rfl)
theorem dL_law_1313 : decode cL_law 1313 = .ok (.invokevirtual 152, 3) := dk_182 0 152 (dk_at dksL_law_48 8 rfl rfl)
theorem dL_law_1316 : decode cL_law 1316 = .ok (.aload_n 2, 1) := dk_44 (dk_at dksL_law_48 11 rfl rfl)
theorem dL_law_1317 : decode cL_law 1317 = .ok (.aload_n 0, 1) := dk_42 (dk_at dksL_law_48 12 rfl rfl)
theorem dL_law_1318 : decode cL_law 1318 = .ok (.iload 4, 2) := dk_21 4 (dk_at dksL_law_48 13 rfl rfl)
theorem dL_law_1320 : decode cL_law 1320 = .ok (.iconst 1, 1) := dk_4 (dk_at dksL_law_48 15 rfl rfl)
theorem dL_law_1321 : decode cL_law 1321 = .ok (.iadd, 1) := dk_96 (dk_at dksL_law_48 16 rfl rfl)
theorem dL_law_1322 : decode cL_law 1322 = .ok (.iaload, 1) := dk_46 (dk_at dksL_law_48 17 rfl rfl)
theorem dL_law_1323 : decode cL_law 1323 = .ok (.aload_n 0, 1) := dk_42 (dk_at dksL_law_48 18 rfl rfl)
theorem dL_law_1324 : decode cL_law 1324 = .ok (.iload 4, 2) := dk_21 4 (dk_at dksL_law_48 19 rfl rfl)
theorem dL_law_1326 : decode cL_law 1326 = .ok (.iconst 2, 1) := dk_5 (dk_at dksL_law_48 21 rfl rfl)
theorem dL_law_1327 : decode cL_law 1327 = .ok (.iadd, 1) := dk_96 (dk_at dksL_law_48 22 rfl rfl)
theorem dL_law_1328 : decode cL_law 1328 = .ok (.iaload, 1) := dk_46 (dk_at dksL_law_48 23 rfl rfl)
theorem dL_law_1329 : decode cL_law 1329 = .ok (.ifCond .eq 7, 3) := dk_153 0 7 (dk_at dksL_law_49 0 rfl rfl)
theorem dL_law_1332 : decode cL_law 1332 = .ok (.iconst 1, 1) := dk_4 (dk_at dksL_law_49 3 rfl rfl)
theorem dL_law_1333 : decode cL_law 1333 = .ok (.goto 4, 3) := dk_167 0 4 (dk_at dksL_law_49 4 rfl rfl)
theorem dL_law_1336 : decode cL_law 1336 = .ok (.iconst 0, 1) := dk_3 (dk_at dksL_law_49 7 rfl rfl)
theorem dL_law_1337 : decode cL_law 1337 = .ok (.invokevirtual 156, 3) := dk_182 0 156 (dk_at dksL_law_49 8 rfl rfl)
theorem dL_law_1340 : decode cL_law 1340 = .ok (.if_icmp .eq 450, 3) := dk_159 1 194 (dk_at dksL_law_49 11 rfl rfl)
theorem dL_law_1343 : decode cL_law 1343 = .ok (.iconst 0, 1) := dk_3 (dk_at dksL_law_49 14 rfl rfl)
theorem dL_law_1344 : decode cL_law 1344 = .ok (.ireturn, 1) := dk_172 (dk_at dksL_law_49 15 rfl rfl)
theorem dL_law_1345 : decode cL_law 1345 = .ok (.aload_n 1, 1) := dk_43 (dk_at dksL_law_49 16 rfl rfl)
theorem dL_law_1346 : decode cL_law 1346 = .ok (.aload_n 0, 1) := dk_42 (dk_at dksL_law_49 17 rfl rfl)
theorem dL_law_1347 : decode cL_law 1347 = .ok (.iload 4, 2) := dk_21 4 (dk_at dksL_law_49 18 rfl rfl)
theorem dL_law_1349 : decode cL_law 1349 = .ok (.iconst 1, 1) := dk_4 (dk_at dksL_law_49 20 rfl rfl)
theorem dL_law_1350 : decode cL_law 1350 = .ok (.iadd, 1) := dk_96 (dk_at dksL_law_49 21 rfl rfl)
theorem dL_law_1351 : decode cL_law 1351 = .ok (.iaload, 1) := dk_46 (dk_at dksL_law_49 22 rfl rfl)
theorem dL_law_1352 : decode cL_law 1352 = .ok (.aload_n 0, 1) := dk_42 (dk_at dksL_law_49 23 rfl rfl)
theorem dL_law_1353 : decode cL_law 1353 = .ok (.iload 4, 2) := dk_21 4 (dk_at dksL_law_50 0 rfl rfl)
theorem dL_law_1355 : decode cL_law 1355 = .ok (.iconst 2, 1) := dk_5 (dk_at dksL_law_50 2 rfl rfl)
theorem dL_law_1356 : decode cL_law 1356 = .ok (.iadd, 1) := dk_96 (dk_at dksL_law_50 3 rfl rfl)
theorem dL_law_1357 : decode cL_law 1357 = .ok (.iaload, 1) := dk_46 (dk_at dksL_law_50 4 rfl rfl)
theorem dL_law_1358 : decode cL_law 1358 = .ok (.invokevirtual 157, 3) := dk_182 0 157 (dk_at dksL_law_50 5 rfl rfl)
theorem dL_law_1361 : decode cL_law 1361 = .ok (.aload_n 2, 1) := dk_44 (dk_at dksL_law_50 8 rfl rfl)
theorem dL_law_1362 : decode cL_law 1362 = .ok (.aload_n 0, 1) := dk_42 (dk_at dksL_law_50 9 rfl rfl)
theorem dL_law_1363 : decode cL_law 1363 = .ok (.iload 4, 2) := dk_21 4 (dk_at dksL_law_50 10 rfl rfl)
theorem dL_law_1365 : decode cL_law 1365 = .ok (.iconst 1, 1) := dk_4 (dk_at dksL_law_50 12 rfl rfl)
theorem dL_law_1366 : decode cL_law 1366 = .ok (.iadd, 1) := dk_96 (dk_at dksL_law_50 13 rfl rfl)
theorem dL_law_1367 : decode cL_law 1367 = .ok (.iaload, 1) := dk_46 (dk_at dksL_law_50 14 rfl rfl)
theorem dL_law_1368 : decode cL_law 1368 = .ok (.aload_n 0, 1) := dk_42 (dk_at dksL_law_50 15 rfl rfl)
theorem dL_law_1369 : decode cL_law 1369 = .ok (.iload 4, 2) := dk_21 4 (dk_at dksL_law_50 16 rfl rfl)
theorem dL_law_1371 : decode cL_law 1371 = .ok (.iconst 2, 1) := dk_5 (dk_at dksL_law_50 18 rfl rfl)
theorem dL_law_1372 : decode cL_law 1372 = .ok (.iadd, 1) := dk_96 (dk_at dksL_law_50 19 rfl rfl)
theorem dL_law_1373 : decode cL_law 1373 = .ok (.iaload, 1) := dk_46 (dk_at dksL_law_50 20 rfl rfl)
theorem dL_law_1374 : decode cL_law 1374 = .ok (.invokevirtual 160, 3) := dk_182 0 160 (dk_at dksL_law_50 21 rfl rfl)
theorem dL_law_1377 : decode cL_law 1377 = .ok (.if_icmp .eq 413, 3) := dk_159 1 157 (dk_at dksL_law_51 0 rfl rfl)
theorem dL_law_1380 : decode cL_law 1380 = .ok (.iconst 0, 1) := dk_3 (dk_at dksL_law_51 3 rfl rfl)
theorem dL_law_1381 : decode cL_law 1381 = .ok (.ireturn, 1) := dk_172 (dk_at dksL_law_51 4 rfl rfl)
theorem dL_law_1382 : decode cL_law 1382 = .ok (.aload_n 1, 1) := dk_43 (dk_at dksL_law_51 5 rfl rfl)
theorem dL_law_1383 : decode cL_law 1383 = .ok (.aload_n 0, 1) := dk_42 (dk_at dksL_law_51 6 rfl rfl)
theorem dL_law_1384 : decode cL_law 1384 = .ok (.iload 4, 2) := dk_21 4 (dk_at dksL_law_51 7 rfl rfl)
theorem dL_law_1386 : decode cL_law 1386 = .ok (.iconst 1, 1) := dk_4 (dk_at dksL_law_51 9 rfl rfl)
theorem dL_law_1387 : decode cL_law 1387 = .ok (.iadd, 1) := dk_96 (dk_at dksL_law_51 10 rfl rfl)
theorem dL_law_1388 : decode cL_law 1388 = .ok (.iaload, 1) := dk_46 (dk_at dksL_law_51 11 rfl rfl)
theorem dL_law_1389 : decode cL_law 1389 = .ok (.aload_n 0, 1) := dk_42 (dk_at dksL_law_51 12 rfl rfl)
theorem dL_law_1390 : decode cL_law 1390 = .ok (.iload 4, 2) := dk_21 4 (dk_at dksL_law_51 13 rfl rfl)
theorem dL_law_1392 : decode cL_law 1392 = .ok (.iconst 2, 1) := dk_5 (dk_at dksL_law_51 15 rfl rfl)
theorem dL_law_1393 : decode cL_law 1393 = .ok (.iadd, 1) := dk_96 (dk_at dksL_law_51 16 rfl rfl)
theorem dL_law_1394 : decode cL_law 1394 = .ok (.iaload, 1) := dk_46 (dk_at dksL_law_51 17 rfl rfl)
theorem dL_law_1395 : decode cL_law 1395 = .ok (.invokevirtual 161, 3) := dk_182 0 161 (dk_at dksL_law_51 18 rfl rfl)
theorem dL_law_1398 : decode cL_law 1398 = .ok (.aload_n 2, 1) := dk_44 (dk_at dksL_law_51 21 rfl rfl)
theorem dL_law_1399 : decode cL_law 1399 = .ok (.aload_n 0, 1) := dk_42 (dk_at dksL_law_51 22 rfl rfl)
theorem dL_law_1400 : decode cL_law 1400 = .ok (.iload 4, 2) := dk_21 4 (dk_at dksL_law_52 0 rfl rfl)
theorem dL_law_1402 : decode cL_law 1402 = .ok (.iconst 1, 1) := dk_4 (dk_at dksL_law_52 2 rfl rfl)
theorem dL_law_1403 : decode cL_law 1403 = .ok (.iadd, 1) := dk_96 (dk_at dksL_law_52 3 rfl rfl)
theorem dL_law_1404 : decode cL_law 1404 = .ok (.iaload, 1) := dk_46 (dk_at dksL_law_52 4 rfl rfl)
theorem dL_law_1405 : decode cL_law 1405 = .ok (.aload_n 0, 1) := dk_42 (dk_at dksL_law_52 5 rfl rfl)
theorem dL_law_1406 : decode cL_law 1406 = .ok (.iload 4, 2) := dk_21 4 (dk_at dksL_law_52 6 rfl rfl)
theorem dL_law_1408 : decode cL_law 1408 = .ok (.iconst 2, 1) := dk_5 (dk_at dksL_law_52 8 rfl rfl)
theorem dL_law_1409 : decode cL_law 1409 = .ok (.iadd, 1) := dk_96 (dk_at dksL_law_52 9 rfl rfl)
theorem dL_law_1410 : decode cL_law 1410 = .ok (.iaload, 1) := dk_46 (dk_at dksL_law_52 10 rfl rfl)
theorem dL_law_1411 : decode cL_law 1411 = .ok (.invokevirtual 164, 3) := dk_182 0 164 (dk_at dksL_law_52 11 rfl rfl)
theorem dL_law_1414 : decode cL_law 1414 = .ok (.if_icmp .eq 376, 3) := dk_159 1 120 (dk_at dksL_law_52 14 rfl rfl)
theorem dL_law_1417 : decode cL_law 1417 = .ok (.iconst 0, 1) := dk_3 (dk_at dksL_law_52 17 rfl rfl)
theorem dL_law_1418 : decode cL_law 1418 = .ok (.ireturn, 1) := dk_172 (dk_at dksL_law_52 18 rfl rfl)
theorem dL_law_1419 : decode cL_law 1419 = .ok (.aload_n 1, 1) := dk_43 (dk_at dksL_law_52 19 rfl rfl)
theorem dL_law_1420 : decode cL_law 1420 = .ok (.aload_n 0, 1) := dk_42 (dk_at dksL_law_52 20 rfl rfl)
theorem dL_law_1421 : decode cL_law 1421 = .ok (.iload 4, 2) := dk_21 4 (dk_at dksL_law_52 21 rfl rfl)
theorem dL_law_1423 : decode cL_law 1423 = .ok (.iconst 1, 1) := dk_4 (dk_at dksL_law_52 23 rfl rfl)
theorem dL_law_1424 : decode cL_law 1424 = .ok (.iadd, 1) := dk_96 (dk_at dksL_law_53 0 rfl rfl)
theorem dL_law_1425 : decode cL_law 1425 = .ok (.iaload, 1) := dk_46 (dk_at dksL_law_53 1 rfl rfl)
theorem dL_law_1426 : decode cL_law 1426 = .ok (.aload_n 0, 1) := dk_42 (dk_at dksL_law_53 2 rfl rfl)
theorem dL_law_1427 : decode cL_law 1427 = .ok (.iload 4, 2) := dk_21 4 (dk_at dksL_law_53 3 rfl rfl)
theorem dL_law_1429 : decode cL_law 1429 = .ok (.iconst 2, 1) := dk_5 (dk_at dksL_law_53 5 rfl rfl)
theorem dL_law_1430 : decode cL_law 1430 = .ok (.iadd, 1) := dk_96 (dk_at dksL_law_53 6 rfl rfl)
theorem dL_law_1431 : decode cL_law 1431 = .ok (.iaload, 1) := dk_46 (dk_at dksL_law_53 7 rfl rfl)
theorem dL_law_1432 : decode cL_law 1432 = .ok (.invokevirtual 165, 3) := dk_182 0 165 (dk_at dksL_law_53 8 rfl rfl)
theorem dL_law_1435 : decode cL_law 1435 = .ok (.aload_n 2, 1) := dk_44 (dk_at dksL_law_53 11 rfl rfl)
theorem dL_law_1436 : decode cL_law 1436 = .ok (.aload_n 0, 1) := dk_42 (dk_at dksL_law_53 12 rfl rfl)
theorem dL_law_1437 : decode cL_law 1437 = .ok (.iload 4, 2) := dk_21 4 (dk_at dksL_law_53 13 rfl rfl)
theorem dL_law_1439 : decode cL_law 1439 = .ok (.iconst 1, 1) := dk_4 (dk_at dksL_law_53 15 rfl rfl)
theorem dL_law_1440 : decode cL_law 1440 = .ok (.iadd, 1) := dk_96 (dk_at dksL_law_53 16 rfl rfl)
theorem dL_law_1441 : decode cL_law 1441 = .ok (.iaload, 1) := dk_46 (dk_at dksL_law_53 17 rfl rfl)
theorem dL_law_1442 : decode cL_law 1442 = .ok (.aload_n 0, 1) := dk_42 (dk_at dksL_law_53 18 rfl rfl)
theorem dL_law_1443 : decode cL_law 1443 = .ok (.iload 4, 2) := dk_21 4 (dk_at dksL_law_53 19 rfl rfl)
theorem dL_law_1445 : decode cL_law 1445 = .ok (.iconst 2, 1) := dk_5 (dk_at dksL_law_53 21 rfl rfl)
theorem dL_law_1446 : decode cL_law 1446 = .ok (.iadd, 1) := dk_96 (dk_at dksL_law_53 22 rfl rfl)
theorem dL_law_1447 : decode cL_law 1447 = .ok (.iaload, 1) := dk_46 (dk_at dksL_law_53 23 rfl rfl)
theorem dL_law_1448 : decode cL_law 1448 = .ok (.invokevirtual 168, 3) := dk_182 0 168 (dk_at dksL_law_54 0 rfl rfl)
theorem dL_law_1451 : decode cL_law 1451 = .ok (.if_icmp .eq 339, 3) := dk_159 1 83 (dk_at dksL_law_54 3 rfl rfl)
theorem dL_law_1454 : decode cL_law 1454 = .ok (.iconst 0, 1) := dk_3 (dk_at dksL_law_54 6 rfl rfl)
theorem dL_law_1455 : decode cL_law 1455 = .ok (.ireturn, 1) := dk_172 (dk_at dksL_law_54 7 rfl rfl)
theorem dL_law_1456 : decode cL_law 1456 = .ok (.aload_n 1, 1) := dk_43 (dk_at dksL_law_54 8 rfl rfl)
theorem dL_law_1457 : decode cL_law 1457 = .ok (.invokevirtual 169, 3) := dk_182 0 169 (dk_at dksL_law_54 9 rfl rfl)
theorem dL_law_1460 : decode cL_law 1460 = .ok (.aload_n 2, 1) := dk_44 (dk_at dksL_law_54 12 rfl rfl)
theorem dL_law_1461 : decode cL_law 1461 = .ok (.invokevirtual 172, 3) := dk_182 0 172 (dk_at dksL_law_54 13 rfl rfl)
theorem dL_law_1464 : decode cL_law 1464 = .ok (.if_icmp .eq 326, 3) := dk_159 1 70 (dk_at dksL_law_54 16 rfl rfl)
theorem dL_law_1467 : decode cL_law 1467 = .ok (.iconst 0, 1) := dk_3 (dk_at dksL_law_54 19 rfl rfl)
theorem dL_law_1468 : decode cL_law 1468 = .ok (.ireturn, 1) := dk_172 (dk_at dksL_law_54 20 rfl rfl)
theorem dL_law_1469 : decode cL_law 1469 = .ok (.aload_n 1, 1) := dk_43 (dk_at dksL_law_54 21 rfl rfl)
theorem dL_law_1470 : decode cL_law 1470 = .ok (.invokevirtual 173, 3) := dk_182 0 173 (dk_at dksL_law_55 0 rfl rfl)
theorem dL_law_1473 : decode cL_law 1473 = .ok (.aload_n 2, 1) := dk_44 (dk_at dksL_law_55 3 rfl rfl)
theorem dL_law_1474 : decode cL_law 1474 = .ok (.invokevirtual 176, 3) := dk_182 0 176 (dk_at dksL_law_55 4 rfl rfl)
theorem dL_law_1477 : decode cL_law 1477 = .ok (.if_icmp .eq 313, 3) := dk_159 1 57 (dk_at dksL_law_55 7 rfl rfl)
theorem dL_law_1480 : decode cL_law 1480 = .ok (.iconst 0, 1) := dk_3 (dk_at dksL_law_55 10 rfl rfl)
theorem dL_law_1481 : decode cL_law 1481 = .ok (.ireturn, 1) := dk_172 (dk_at dksL_law_55 11 rfl rfl)
theorem dL_law_1482 : decode cL_law 1482 = .ok (.aload_n 1, 1) := dk_43 (dk_at dksL_law_55 12 rfl rfl)
theorem dL_law_1483 : decode cL_law 1483 = .ok (.aload_n 0, 1) := dk_42 (dk_at dksL_law_55 13 rfl rfl)
theorem dL_law_1484 : decode cL_law 1484 = .ok (.iload 4, 2) := dk_21 4 (dk_at dksL_law_55 14 rfl rfl)
theorem dL_law_1486 : decode cL_law 1486 = .ok (.iconst 1, 1) := dk_4 (dk_at dksL_law_55 16 rfl rfl)
theorem dL_law_1487 : decode cL_law 1487 = .ok (.iadd, 1) := dk_96 (dk_at dksL_law_55 17 rfl rfl)
theorem dL_law_1488 : decode cL_law 1488 = .ok (.iaload, 1) := dk_46 (dk_at dksL_law_55 18 rfl rfl)
theorem dL_law_1489 : decode cL_law 1489 = .ok (.aload_n 0, 1) := dk_42 (dk_at dksL_law_55 19 rfl rfl)
theorem dL_law_1490 : decode cL_law 1490 = .ok (.iload 4, 2) := dk_21 4 (dk_at dksL_law_55 20 rfl rfl)
theorem dL_law_1492 : decode cL_law 1492 = .ok (.iconst 2, 1) := dk_5 (dk_at dksL_law_55 22 rfl rfl)
theorem dL_law_1493 : decode cL_law 1493 = .ok (.iadd, 1) := dk_96 (dk_at dksL_law_55 23 rfl rfl)
theorem dL_law_1494 : decode cL_law 1494 = .ok (.iaload, 1) := dk_46 (dk_at dksL_law_56 0 rfl rfl)
theorem dL_law_1495 : decode cL_law 1495 = .ok (.invokevirtual 177, 3) := dk_182 0 177 (dk_at dksL_law_56 1 rfl rfl)
theorem dL_law_1498 : decode cL_law 1498 = .ok (.aload_n 2, 1) := dk_44 (dk_at dksL_law_56 4 rfl rfl)
theorem dL_law_1499 : decode cL_law 1499 = .ok (.aload_n 0, 1) := dk_42 (dk_at dksL_law_56 5 rfl rfl)
theorem dL_law_1500 : decode cL_law 1500 = .ok (.iload 4, 2) := dk_21 4 (dk_at dksL_law_56 6 rfl rfl)
theorem dL_law_1502 : decode cL_law 1502 = .ok (.iconst 1, 1) := dk_4 (dk_at dksL_law_56 8 rfl rfl)
theorem dL_law_1503 : decode cL_law 1503 = .ok (.iadd, 1) := dk_96 (dk_at dksL_law_56 9 rfl rfl)
theorem dL_law_1504 : decode cL_law 1504 = .ok (.iaload, 1) := dk_46 (dk_at dksL_law_56 10 rfl rfl)
theorem dL_law_1505 : decode cL_law 1505 = .ok (.aload_n 0, 1) := dk_42 (dk_at dksL_law_56 11 rfl rfl)
theorem dL_law_1506 : decode cL_law 1506 = .ok (.iload 4, 2) := dk_21 4 (dk_at dksL_law_56 12 rfl rfl)
theorem dL_law_1508 : decode cL_law 1508 = .ok (.iconst 2, 1) := dk_5 (dk_at dksL_law_56 14 rfl rfl)
theorem dL_law_1509 : decode cL_law 1509 = .ok (.iadd, 1) := dk_96 (dk_at dksL_law_56 15 rfl rfl)
theorem dL_law_1510 : decode cL_law 1510 = .ok (.iaload, 1) := dk_46 (dk_at dksL_law_56 16 rfl rfl)
theorem dL_law_1511 : decode cL_law 1511 = .ok (.invokevirtual 180, 3) := dk_182 0 180 (dk_at dksL_law_56 17 rfl rfl)
theorem dL_law_1514 : decode cL_law 1514 = .ok (.if_icmp .eq 276, 3) := dk_159 1 20 (dk_at dksL_law_56 20 rfl rfl)
theorem dL_law_1517 : decode cL_law 1517 = .ok (.iconst 0, 1) := dk_3 (dk_at dksL_law_56 23 rfl rfl)
theorem dL_law_1518 : decode cL_law 1518 = .ok (.ireturn, 1) := dk_172 (dk_at dksL_law_57 0 rfl rfl)
theorem dL_law_1519 : decode cL_law 1519 = .ok (.aload_n 1, 1) := dk_43 (dk_at dksL_law_57 1 rfl rfl)
theorem dL_law_1520 : decode cL_law 1520 = .ok (.aload_n 0, 1) := dk_42 (dk_at dksL_law_57 2 rfl rfl)
theorem dL_law_1521 : decode cL_law 1521 = .ok (.iload 4, 2) := dk_21 4 (dk_at dksL_law_57 3 rfl rfl)
theorem dL_law_1523 : decode cL_law 1523 = .ok (.iconst 1, 1) := dk_4 (dk_at dksL_law_57 5 rfl rfl)
theorem dL_law_1524 : decode cL_law 1524 = .ok (.iadd, 1) := dk_96 (dk_at dksL_law_57 6 rfl rfl)
theorem dL_law_1525 : decode cL_law 1525 = .ok (.iaload, 1) := dk_46 (dk_at dksL_law_57 7 rfl rfl)
theorem dL_law_1526 : decode cL_law 1526 = .ok (.aload_n 0, 1) := dk_42 (dk_at dksL_law_57 8 rfl rfl)
theorem dL_law_1527 : decode cL_law 1527 = .ok (.iload 4, 2) := dk_21 4 (dk_at dksL_law_57 9 rfl rfl)
theorem dL_law_1529 : decode cL_law 1529 = .ok (.iconst 2, 1) := dk_5 (dk_at dksL_law_57 11 rfl rfl)
theorem dL_law_1530 : decode cL_law 1530 = .ok (.iadd, 1) := dk_96 (dk_at dksL_law_57 12 rfl rfl)
theorem dL_law_1531 : decode cL_law 1531 = .ok (.iaload, 1) := dk_46 (dk_at dksL_law_57 13 rfl rfl)
theorem dL_law_1532 : decode cL_law 1532 = .ok (.invokevirtual 181, 3) := dk_182 0 181 (dk_at dksL_law_57 14 rfl rfl)
theorem dL_law_1535 : decode cL_law 1535 = .ok (.aload_n 2, 1) := dk_44 (dk_at dksL_law_57 17 rfl rfl)
theorem dL_law_1536 : decode cL_law 1536 = .ok (.aload_n 0, 1) := dk_42 (dk_at dksL_law_57 18 rfl rfl)
theorem dL_law_1537 : decode cL_law 1537 = .ok (.iload 4, 2) := dk_21 4 (dk_at dksL_law_57 19 rfl rfl)
theorem dL_law_1539 : decode cL_law 1539 = .ok (.iconst 1, 1) := dk_4 (dk_at dksL_law_57 21 rfl rfl)
theorem dL_law_1540 : decode cL_law 1540 = .ok (.iadd, 1) := dk_96 (dk_at dksL_law_57 22 rfl rfl)
theorem dL_law_1541 : decode cL_law 1541 = .ok (.iaload, 1) := dk_46 (dk_at dksL_law_57 23 rfl rfl)
theorem dL_law_1542 : decode cL_law 1542 = .ok (.aload_n 0, 1) := dk_42 (dk_at dksL_law_58 0 rfl rfl)
theorem dL_law_1543 : decode cL_law 1543 = .ok (.iload 4, 2) := dk_21 4 (dk_at dksL_law_58 1 rfl rfl)
theorem dL_law_1545 : decode cL_law 1545 = .ok (.iconst 2, 1) := dk_5 (dk_at dksL_law_58 3 rfl rfl)
theorem dL_law_1546 : decode cL_law 1546 = .ok (.iadd, 1) := dk_96 (dk_at dksL_law_58 4 rfl rfl)
theorem dL_law_1547 : decode cL_law 1547 = .ok (.iaload, 1) := dk_46 (dk_at dksL_law_58 5 rfl rfl)
theorem dL_law_1548 : decode cL_law 1548 = .ok (.invokevirtual 184, 3) := dk_182 0 184 (dk_at dksL_law_58 6 rfl rfl)
theorem dL_law_1551 : decode cL_law 1551 = .ok (.if_icmp .eq 239, 3) := dk_159 0 239 (dk_at dksL_law_58 9 rfl rfl)
theorem dL_law_1554 : decode cL_law 1554 = .ok (.iconst 0, 1) := dk_3 (dk_at dksL_law_58 12 rfl rfl)
theorem dL_law_1555 : decode cL_law 1555 = .ok (.ireturn, 1) := dk_172 (dk_at dksL_law_58 13 rfl rfl)
theorem dL_law_1556 : decode cL_law 1556 = .ok (.aload_n 1, 1) := dk_43 (dk_at dksL_law_58 14 rfl rfl)
theorem dL_law_1557 : decode cL_law 1557 = .ok (.aload_n 0, 1) := dk_42 (dk_at dksL_law_58 15 rfl rfl)
theorem dL_law_1558 : decode cL_law 1558 = .ok (.iload 4, 2) := dk_21 4 (dk_at dksL_law_58 16 rfl rfl)
theorem dL_law_1560 : decode cL_law 1560 = .ok (.iconst 1, 1) := dk_4 (dk_at dksL_law_58 18 rfl rfl)
theorem dL_law_1561 : decode cL_law 1561 = .ok (.iadd, 1) := dk_96 (dk_at dksL_law_58 19 rfl rfl)
theorem dL_law_1562 : decode cL_law 1562 = .ok (.iaload, 1) := dk_46 (dk_at dksL_law_58 20 rfl rfl)
theorem dL_law_1563 : decode cL_law 1563 = .ok (.invokevirtual 185, 3) := dk_182 0 185 (dk_at dksL_law_58 21 rfl rfl)
theorem dL_law_1566 : decode cL_law 1566 = .ok (.aload_n 2, 1) := dk_44 (dk_at dksL_law_59 0 rfl rfl)
theorem dL_law_1567 : decode cL_law 1567 = .ok (.aload_n 0, 1) := dk_42 (dk_at dksL_law_59 1 rfl rfl)
theorem dL_law_1568 : decode cL_law 1568 = .ok (.iload 4, 2) := dk_21 4 (dk_at dksL_law_59 2 rfl rfl)
theorem dL_law_1570 : decode cL_law 1570 = .ok (.iconst 1, 1) := dk_4 (dk_at dksL_law_59 4 rfl rfl)
theorem dL_law_1571 : decode cL_law 1571 = .ok (.iadd, 1) := dk_96 (dk_at dksL_law_59 5 rfl rfl)
theorem dL_law_1572 : decode cL_law 1572 = .ok (.iaload, 1) := dk_46 (dk_at dksL_law_59 6 rfl rfl)
theorem dL_law_1573 : decode cL_law 1573 = .ok (.invokevirtual 188, 3) := dk_182 0 188 (dk_at dksL_law_59 7 rfl rfl)
theorem dL_law_1576 : decode cL_law 1576 = .ok (.if_icmp .eq 214, 3) := dk_159 0 214 (dk_at dksL_law_59 10 rfl rfl)
theorem dL_law_1579 : decode cL_law 1579 = .ok (.iconst 0, 1) := dk_3 (dk_at dksL_law_59 13 rfl rfl)
theorem dL_law_1580 : decode cL_law 1580 = .ok (.ireturn, 1) := dk_172 (dk_at dksL_law_59 14 rfl rfl)
theorem dL_law_1581 : decode cL_law 1581 = .ok (.aload_n 1, 1) := dk_43 (dk_at dksL_law_59 15 rfl rfl)
theorem dL_law_1582 : decode cL_law 1582 = .ok (.aload_n 0, 1) := dk_42 (dk_at dksL_law_59 16 rfl rfl)
theorem dL_law_1583 : decode cL_law 1583 = .ok (.iload 4, 2) := dk_21 4 (dk_at dksL_law_59 17 rfl rfl)
theorem dL_law_1585 : decode cL_law 1585 = .ok (.iconst 1, 1) := dk_4 (dk_at dksL_law_59 19 rfl rfl)
theorem dL_law_1586 : decode cL_law 1586 = .ok (.iadd, 1) := dk_96 (dk_at dksL_law_59 20 rfl rfl)
theorem dL_law_1587 : decode cL_law 1587 = .ok (.iaload, 1) := dk_46 (dk_at dksL_law_59 21 rfl rfl)
theorem dL_law_1588 : decode cL_law 1588 = .ok (.aload_n 0, 1) := dk_42 (dk_at dksL_law_59 22 rfl rfl)
theorem dL_law_1589 : decode cL_law 1589 = .ok (.iload 4, 2) := dk_21 4 (dk_at dksL_law_60 0 rfl rfl)
theorem dL_law_1591 : decode cL_law 1591 = .ok (.iconst 2, 1) := dk_5 (dk_at dksL_law_60 2 rfl rfl)
theorem dL_law_1592 : decode cL_law 1592 = .ok (.iadd, 1) := dk_96 (dk_at dksL_law_60 3 rfl rfl)
theorem dL_law_1593 : decode cL_law 1593 = .ok (.iaload, 1) := dk_46 (dk_at dksL_law_60 4 rfl rfl)
theorem dL_law_1594 : decode cL_law 1594 = .ok (.ifCond .eq 7, 3) := dk_153 0 7 (dk_at dksL_law_60 5 rfl rfl)
theorem dL_law_1597 : decode cL_law 1597 = .ok (.iconst 1, 1) := dk_4 (dk_at dksL_law_60 8 rfl rfl)
theorem dL_law_1598 : decode cL_law 1598 = .ok (.goto 4, 3) := dk_167 0 4 (dk_at dksL_law_60 9 rfl rfl)
theorem dL_law_1601 : decode cL_law 1601 = .ok (.iconst 0, 1) := dk_3 (dk_at dksL_law_60 12 rfl rfl)
theorem dL_law_1602 : decode cL_law 1602 = .ok (.invokevirtual 189, 3) := dk_182 0 189 (dk_at dksL_law_60 13 rfl rfl)
theorem dL_law_1605 : decode cL_law 1605 = .ok (.aload_n 2, 1) := dk_44 (dk_at dksL_law_60 16 rfl rfl)
theorem dL_law_1606 : decode cL_law 1606 = .ok (.aload_n 0, 1) := dk_42 (dk_at dksL_law_60 17 rfl rfl)
theorem dL_law_1607 : decode cL_law 1607 = .ok (.iload 4, 2) := dk_21 4 (dk_at dksL_law_60 18 rfl rfl)
theorem dL_law_1609 : decode cL_law 1609 = .ok (.iconst 1, 1) := dk_4 (dk_at dksL_law_60 20 rfl rfl)
theorem dL_law_1610 : decode cL_law 1610 = .ok (.iadd, 1) := dk_96 (dk_at dksL_law_60 21 rfl rfl)
theorem dL_law_1611 : decode cL_law 1611 = .ok (.iaload, 1) := dk_46 (dk_at dksL_law_60 22 rfl rfl)
theorem dL_law_1612 : decode cL_law 1612 = .ok (.aload_n 0, 1) := dk_42 (dk_at dksL_law_60 23 rfl rfl)
theorem dL_law_1613 : decode cL_law 1613 = .ok (.iload 4, 2) := dk_21 4 (dk_at dksL_law_61 0 rfl rfl)
theorem dL_law_1615 : decode cL_law 1615 = .ok (.iconst 2, 1) := dk_5 (dk_at dksL_law_61 2 rfl rfl)
theorem dL_law_1616 : decode cL_law 1616 = .ok (.iadd, 1) := dk_96 (dk_at dksL_law_61 3 rfl rfl)
theorem dL_law_1617 : decode cL_law 1617 = .ok (.iaload, 1) := dk_46 (dk_at dksL_law_61 4 rfl rfl)
theorem dL_law_1618 : decode cL_law 1618 = .ok (.ifCond .eq 7, 3) := dk_153 0 7 (dk_at dksL_law_61 5 rfl rfl)
theorem dL_law_1621 : decode cL_law 1621 = .ok (.iconst 1, 1) := dk_4 (dk_at dksL_law_61 8 rfl rfl)
theorem dL_law_1622 : decode cL_law 1622 = .ok (.goto 4, 3) := dk_167 0 4 (dk_at dksL_law_61 9 rfl rfl)
theorem dL_law_1625 : decode cL_law 1625 = .ok (.iconst 0, 1) := dk_3 (dk_at dksL_law_61 12 rfl rfl)
theorem dL_law_1626 : decode cL_law 1626 = .ok (.invokevirtual 192, 3) := dk_182 0 192 (dk_at dksL_law_61 13 rfl rfl)
theorem dL_law_1629 : decode cL_law 1629 = .ok (.if_icmp .eq 161, 3) := dk_159 0 161 (dk_at dksL_law_61 16 rfl rfl)
theorem dL_law_1632 : decode cL_law 1632 = .ok (.iconst 0, 1) := dk_3 (dk_at dksL_law_61 19 rfl rfl)
theorem dL_law_1633 : decode cL_law 1633 = .ok (.ireturn, 1) := dk_172 (dk_at dksL_law_61 20 rfl rfl)
theorem dL_law_1634 : decode cL_law 1634 = .ok (.aload_n 1, 1) := dk_43 (dk_at dksL_law_61 21 rfl rfl)
theorem dL_law_1635 : decode cL_law 1635 = .ok (.aload_n 0, 1) := dk_42 (dk_at dksL_law_61 22 rfl rfl)
theorem dL_law_1636 : decode cL_law 1636 = .ok (.iload 4, 2) := dk_21 4 (dk_at dksL_law_62 0 rfl rfl)
theorem dL_law_1638 : decode cL_law 1638 = .ok (.iconst 1, 1) := dk_4 (dk_at dksL_law_62 2 rfl rfl)
theorem dL_law_1639 : decode cL_law 1639 = .ok (.iadd, 1) := dk_96 (dk_at dksL_law_62 3 rfl rfl)
theorem dL_law_1640 : decode cL_law 1640 = .ok (.iaload, 1) := dk_46 (dk_at dksL_law_62 4 rfl rfl)
theorem dL_law_1641 : decode cL_law 1641 = .ok (.aload_n 0, 1) := dk_42 (dk_at dksL_law_62 5 rfl rfl)
theorem dL_law_1642 : decode cL_law 1642 = .ok (.iload 4, 2) := dk_21 4 (dk_at dksL_law_62 6 rfl rfl)
theorem dL_law_1644 : decode cL_law 1644 = .ok (.iconst 2, 1) := dk_5 (dk_at dksL_law_62 8 rfl rfl)
theorem dL_law_1645 : decode cL_law 1645 = .ok (.iadd, 1) := dk_96 (dk_at dksL_law_62 9 rfl rfl)
theorem dL_law_1646 : decode cL_law 1646 = .ok (.iaload, 1) := dk_46 (dk_at dksL_law_62 10 rfl rfl)
theorem dL_law_1647 : decode cL_law 1647 = .ok (.invokevirtual 193, 3) := dk_182 0 193 (dk_at dksL_law_62 11 rfl rfl)
theorem dL_law_1650 : decode cL_law 1650 = .ok (.aload_n 2, 1) := dk_44 (dk_at dksL_law_62 14 rfl rfl)
theorem dL_law_1651 : decode cL_law 1651 = .ok (.aload_n 0, 1) := dk_42 (dk_at dksL_law_62 15 rfl rfl)
theorem dL_law_1652 : decode cL_law 1652 = .ok (.iload 4, 2) := dk_21 4 (dk_at dksL_law_62 16 rfl rfl)
theorem dL_law_1654 : decode cL_law 1654 = .ok (.iconst 1, 1) := dk_4 (dk_at dksL_law_62 18 rfl rfl)
theorem dL_law_1655 : decode cL_law 1655 = .ok (.iadd, 1) := dk_96 (dk_at dksL_law_62 19 rfl rfl)
theorem dL_law_1656 : decode cL_law 1656 = .ok (.iaload, 1) := dk_46 (dk_at dksL_law_62 20 rfl rfl)
theorem dL_law_1657 : decode cL_law 1657 = .ok (.aload_n 0, 1) := dk_42 (dk_at dksL_law_62 21 rfl rfl)
theorem dL_law_1658 : decode cL_law 1658 = .ok (.iload 4, 2) := dk_21 4 (dk_at dksL_law_62 22 rfl rfl)
theorem dL_law_1660 : decode cL_law 1660 = .ok (.iconst 2, 1) := dk_5 (dk_at dksL_law_63 0 rfl rfl)
theorem dL_law_1661 : decode cL_law 1661 = .ok (.iadd, 1) := dk_96 (dk_at dksL_law_63 1 rfl rfl)
theorem dL_law_1662 : decode cL_law 1662 = .ok (.iaload, 1) := dk_46 (dk_at dksL_law_63 2 rfl rfl)
theorem dL_law_1663 : decode cL_law 1663 = .ok (.invokevirtual 196, 3) := dk_182 0 196 (dk_at dksL_law_63 3 rfl rfl)
theorem dL_law_1666 : decode cL_law 1666 = .ok (.if_icmp .eq 124, 3) := dk_159 0 124 (dk_at dksL_law_63 6 rfl rfl)
theorem dL_law_1669 : decode cL_law 1669 = .ok (.iconst 0, 1) := dk_3 (dk_at dksL_law_63 9 rfl rfl)
theorem dL_law_1670 : decode cL_law 1670 = .ok (.ireturn, 1) := dk_172 (dk_at dksL_law_63 10 rfl rfl)
theorem dL_law_1671 : decode cL_law 1671 = .ok (.aload_n 1, 1) := dk_43 (dk_at dksL_law_63 11 rfl rfl)
theorem dL_law_1672 : decode cL_law 1672 = .ok (.aload_n 0, 1) := dk_42 (dk_at dksL_law_63 12 rfl rfl)
theorem dL_law_1673 : decode cL_law 1673 = .ok (.iload 4, 2) := dk_21 4 (dk_at dksL_law_63 13 rfl rfl)
theorem dL_law_1675 : decode cL_law 1675 = .ok (.iconst 1, 1) := dk_4 (dk_at dksL_law_63 15 rfl rfl)
theorem dL_law_1676 : decode cL_law 1676 = .ok (.iadd, 1) := dk_96 (dk_at dksL_law_63 16 rfl rfl)
theorem dL_law_1677 : decode cL_law 1677 = .ok (.iaload, 1) := dk_46 (dk_at dksL_law_63 17 rfl rfl)
theorem dL_law_1678 : decode cL_law 1678 = .ok (.aload_n 0, 1) := dk_42 (dk_at dksL_law_63 18 rfl rfl)
theorem dL_law_1679 : decode cL_law 1679 = .ok (.iload 4, 2) := dk_21 4 (dk_at dksL_law_63 19 rfl rfl)
theorem dL_law_1681 : decode cL_law 1681 = .ok (.iconst 2, 1) := dk_5 (dk_at dksL_law_63 21 rfl rfl)
theorem dL_law_1682 : decode cL_law 1682 = .ok (.iadd, 1) := dk_96 (dk_at dksL_law_63 22 rfl rfl)
theorem dL_law_1683 : decode cL_law 1683 = .ok (.iaload, 1) := dk_46 (dk_at dksL_law_63 23 rfl rfl)
theorem dL_law_1684 : decode cL_law 1684 = .ok (.invokevirtual 197, 3) := dk_182 0 197 (dk_at dksL_law_64 0 rfl rfl)
theorem dL_law_1687 : decode cL_law 1687 = .ok (.aload_n 2, 1) := dk_44 (dk_at dksL_law_64 3 rfl rfl)
theorem dL_law_1688 : decode cL_law 1688 = .ok (.aload_n 0, 1) := dk_42 (dk_at dksL_law_64 4 rfl rfl)
theorem dL_law_1689 : decode cL_law 1689 = .ok (.iload 4, 2) := dk_21 4 (dk_at dksL_law_64 5 rfl rfl)
theorem dL_law_1691 : decode cL_law 1691 = .ok (.iconst 1, 1) := dk_4 (dk_at dksL_law_64 7 rfl rfl)
theorem dL_law_1692 : decode cL_law 1692 = .ok (.iadd, 1) := dk_96 (dk_at dksL_law_64 8 rfl rfl)
theorem dL_law_1693 : decode cL_law 1693 = .ok (.iaload, 1) := dk_46 (dk_at dksL_law_64 9 rfl rfl)
theorem dL_law_1694 : decode cL_law 1694 = .ok (.aload_n 0, 1) := dk_42 (dk_at dksL_law_64 10 rfl rfl)
theorem dL_law_1695 : decode cL_law 1695 = .ok (.iload 4, 2) := dk_21 4 (dk_at dksL_law_64 11 rfl rfl)
theorem dL_law_1697 : decode cL_law 1697 = .ok (.iconst 2, 1) := dk_5 (dk_at dksL_law_64 13 rfl rfl)
theorem dL_law_1698 : decode cL_law 1698 = .ok (.iadd, 1) := dk_96 (dk_at dksL_law_64 14 rfl rfl)
theorem dL_law_1699 : decode cL_law 1699 = .ok (.iaload, 1) := dk_46 (dk_at dksL_law_64 15 rfl rfl)
theorem dL_law_1700 : decode cL_law 1700 = .ok (.invokevirtual 200, 3) := dk_182 0 200 (dk_at dksL_law_64 16 rfl rfl)
theorem dL_law_1703 : decode cL_law 1703 = .ok (.if_icmp .eq 87, 3) := dk_159 0 87 (dk_at dksL_law_64 19 rfl rfl)
theorem dL_law_1706 : decode cL_law 1706 = .ok (.iconst 0, 1) := dk_3 (dk_at dksL_law_64 22 rfl rfl)
theorem dL_law_1707 : decode cL_law 1707 = .ok (.ireturn, 1) := dk_172 (dk_at dksL_law_64 23 rfl rfl)
theorem dL_law_1708 : decode cL_law 1708 = .ok (.aload_n 1, 1) := dk_43 (dk_at dksL_law_65 0 rfl rfl)
theorem dL_law_1709 : decode cL_law 1709 = .ok (.invokevirtual 201, 3) := dk_182 0 201 (dk_at dksL_law_65 1 rfl rfl)
theorem dL_law_1712 : decode cL_law 1712 = .ok (.aload_n 2, 1) := dk_44 (dk_at dksL_law_65 4 rfl rfl)
theorem dL_law_1713 : decode cL_law 1713 = .ok (.invokevirtual 204, 3) := dk_182 0 204 (dk_at dksL_law_65 5 rfl rfl)
theorem dL_law_1716 : decode cL_law 1716 = .ok (.if_icmp .eq 74, 3) := dk_159 0 74 (dk_at dksL_law_65 8 rfl rfl)
theorem dL_law_1719 : decode cL_law 1719 = .ok (.iconst 0, 1) := dk_3 (dk_at dksL_law_65 11 rfl rfl)
theorem dL_law_1720 : decode cL_law 1720 = .ok (.ireturn, 1) := dk_172 (dk_at dksL_law_65 12 rfl rfl)
theorem dL_law_1721 : decode cL_law 1721 = .ok (.aload_n 1, 1) := dk_43 (dk_at dksL_law_65 13 rfl rfl)
theorem dL_law_1722 : decode cL_law 1722 = .ok (.invokevirtual 205, 3) := dk_182 0 205 (dk_at dksL_law_65 14 rfl rfl)
theorem dL_law_1725 : decode cL_law 1725 = .ok (.aload_n 2, 1) := dk_44 (dk_at dksL_law_65 17 rfl rfl)
theorem dL_law_1726 : decode cL_law 1726 = .ok (.invokevirtual 208, 3) := dk_182 0 208 (dk_at dksL_law_65 18 rfl rfl)
theorem dL_law_1729 : decode cL_law 1729 = .ok (.if_icmp .eq 61, 3) := dk_159 0 61 (dk_at dksL_law_65 21 rfl rfl)
theorem dL_law_1732 : decode cL_law 1732 = .ok (.iconst 0, 1) := dk_3 (dk_at dksL_law_66 0 rfl rfl)
theorem dL_law_1733 : decode cL_law 1733 = .ok (.ireturn, 1) := dk_172 (dk_at dksL_law_66 1 rfl rfl)
theorem dL_law_1734 : decode cL_law 1734 = .ok (.aload_n 1, 1) := dk_43 (dk_at dksL_law_66 2 rfl rfl)
theorem dL_law_1735 : decode cL_law 1735 = .ok (.aload_n 0, 1) := dk_42 (dk_at dksL_law_66 3 rfl rfl)
theorem dL_law_1736 : decode cL_law 1736 = .ok (.iload 4, 2) := dk_21 4 (dk_at dksL_law_66 4 rfl rfl)
theorem dL_law_1738 : decode cL_law 1738 = .ok (.iconst 1, 1) := dk_4 (dk_at dksL_law_66 6 rfl rfl)
theorem dL_law_1739 : decode cL_law 1739 = .ok (.iadd, 1) := dk_96 (dk_at dksL_law_66 7 rfl rfl)
theorem dL_law_1740 : decode cL_law 1740 = .ok (.iaload, 1) := dk_46 (dk_at dksL_law_66 8 rfl rfl)
theorem dL_law_1741 : decode cL_law 1741 = .ok (.aload_n 3, 1) := dk_45 (dk_at dksL_law_66 9 rfl rfl)
theorem dL_law_1742 : decode cL_law 1742 = .ok (.invokestatic 209, 3) := dk_184 0 209 (dk_at dksL_law_66 10 rfl rfl)
theorem dL_law_1745 : decode cL_law 1745 = .ok (.istore 5, 2) := dk_54 5 (dk_at dksL_law_66 13 rfl rfl)
theorem dL_law_1747 : decode cL_law 1747 = .ok (.aload_n 2, 1) := dk_44 (dk_at dksL_law_66 15 rfl rfl)
theorem dL_law_1748 : decode cL_law 1748 = .ok (.aload_n 0, 1) := dk_42 (dk_at dksL_law_66 16 rfl rfl)
theorem dL_law_1749 : decode cL_law 1749 = .ok (.iload 4, 2) := dk_21 4 (dk_at dksL_law_66 17 rfl rfl)
theorem dL_law_1751 : decode cL_law 1751 = .ok (.iconst 1, 1) := dk_4 (dk_at dksL_law_66 19 rfl rfl)
theorem dL_law_1752 : decode cL_law 1752 = .ok (.iadd, 1) := dk_96 (dk_at dksL_law_66 20 rfl rfl)
theorem dL_law_1753 : decode cL_law 1753 = .ok (.iaload, 1) := dk_46 (dk_at dksL_law_66 21 rfl rfl)
theorem dL_law_1754 : decode cL_law 1754 = .ok (.invokevirtual 214, 3) := dk_182 0 214 (dk_at dksL_law_67 0 rfl rfl)
theorem dL_law_1757 : decode cL_law 1757 = .ok (.istore 6, 2) := dk_54 6 (dk_at dksL_law_67 3 rfl rfl)
theorem dL_law_1759 : decode cL_law 1759 = .ok (.aload_n 2, 1) := dk_44 (dk_at dksL_law_67 5 rfl rfl)
theorem dL_law_1760 : decode cL_law 1760 = .ok (.invokevirtual 215, 3) := dk_182 0 215 (dk_at dksL_law_67 6 rfl rfl)
theorem dL_law_1763 : decode cL_law 1763 = .ok (.iload 5, 2) := dk_21 5 (dk_at dksL_law_67 9 rfl rfl)
theorem dL_law_1765 : decode cL_law 1765 = .ok (.if_icmp .eq 5, 3) := dk_159 0 5 (dk_at dksL_law_67 11 rfl rfl)
theorem dL_law_1768 : decode cL_law 1768 = .ok (.iconst 0, 1) := dk_3 (dk_at dksL_law_67 14 rfl rfl)
theorem dL_law_1769 : decode cL_law 1769 = .ok (.ireturn, 1) := dk_172 (dk_at dksL_law_67 15 rfl rfl)
theorem dL_law_1770 : decode cL_law 1770 = .ok (.iload 5, 2) := dk_21 5 (dk_at dksL_law_67 16 rfl rfl)
theorem dL_law_1772 : decode cL_law 1772 = .ok (.ifCond .ne 15, 3) := dk_154 0 15 (dk_at dksL_law_67 18 rfl rfl)
theorem dL_law_1775 : decode cL_law 1775 = .ok (.aload_n 3, 1) := dk_45 (dk_at dksL_law_67 21 rfl rfl)
theorem dL_law_1776 : decode cL_law 1776 = .ok (.iconst 0, 1) := dk_3 (dk_at dksL_law_67 22 rfl rfl)
theorem dL_law_1777 : decode cL_law 1777 = .ok (.laload, 1) := dk_47 (dk_at dksL_law_67 23 rfl rfl)
theorem dL_law_1778 : decode cL_law 1778 = .ok (.iload 6, 2) := dk_21 6 (dk_at dksL_law_68 0 rfl rfl)
theorem dL_law_1780 : decode cL_law 1780 = .ok (.i2l, 1) := dk_133 (dk_at dksL_law_68 2 rfl rfl)
theorem dL_law_1781 : decode cL_law 1781 = .ok (.lcmp, 1) := dk_148 (dk_at dksL_law_68 3 rfl rfl)
theorem dL_law_1782 : decode cL_law 1782 = .ok (.ifCond .eq 5, 3) := dk_153 0 5 (dk_at dksL_law_68 4 rfl rfl)
theorem dL_law_1785 : decode cL_law 1785 = .ok (.iconst 0, 1) := dk_3 (dk_at dksL_law_68 7 rfl rfl)
theorem dL_law_1786 : decode cL_law 1786 = .ok (.ireturn, 1) := dk_172 (dk_at dksL_law_68 8 rfl rfl)
theorem dL_law_1787 : decode cL_law 1787 = .ok (.goto 3, 3) := dk_167 0 3 (dk_at dksL_law_68 9 rfl rfl)
theorem dL_law_1790 : decode cL_law 1790 = .ok (.iinc 4 6, 3) := dk_132 4 6 (dk_at dksL_law_68 12 rfl rfl)
theorem dL_law_1793 : decode cL_law 1793 = .ok (.goto (-1770), 3) := dk_167 249 22 (dk_at dksL_law_68 15 rfl rfl)
theorem dL_law_1796 : decode cL_law 1796 = .ok (.iconst 1, 1) := dk_4 (dk_at dksL_law_68 18 rfl rfl)
theorem dL_law_1797 : decode cL_law 1797 = .ok (.ireturn, 1) := dk_172 (dk_at dksL_law_68 19 rfl rfl)

