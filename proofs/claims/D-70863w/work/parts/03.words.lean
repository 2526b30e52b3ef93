set_option maxRecDepth 100000
theorem q67 : (Jvm.Cond.initialized "ChairRanksLaw") ∈ lw_all := lw_g (lw_at lw_m1 0 rfl) rfl
theorem q101 : (Jvm.Cond.classLink "ChairRanksLaw" (7 : Nat) "ChairRanks") ∈ lw_all := lw_g (lw_at lw_m1 34 rfl) rfl
theorem q103 : (Jvm.Cond.methodLink "ChairRanksLaw" (9 : Nat) ({ cls := "ChairRanks", name := "<init>", desc := "()V" } : Jvm.MethodName)) ∈ lw_all := lw_g (lw_at lw_m1 36 rfl) rfl
theorem q306 : (Jvm.Cond.methodLink "ChairRanksLaw" (13 : Nat) ({ cls := "ChairRanks", name := "row", desc := "(III)I" } : Jvm.MethodName)) ∈ lw_all := lw_g (lw_at lw_m1 239 rfl) rfl
theorem q411 : (Jvm.Cond.methodLink "ChairRanksLaw" (18 : Nat) ({ cls := "ChairRanks", name := "set", desc := "(III)I" } : Jvm.MethodName)) ∈ lw_all := lw_g (lw_at lw_m2 104 rfl) rfl
theorem q423 : (Jvm.Cond.methodLink "ChairRanksLaw" (22 : Nat) ({ cls := "ChairRanks", name := "copy", desc := "(IIIII)I" } : Jvm.MethodName)) ∈ lw_all := lw_g (lw_at lw_m2 116 rfl) rfl
theorem q464 : (Jvm.Cond.methodLink "ChairRanksLaw" (27 : Nat) ({ cls := "ChairRanks", name := "drop", desc := "(I)I" } : Jvm.MethodName)) ∈ lw_all := lw_g (lw_at lw_m2 157 rfl) rfl
theorem q468 : (Jvm.Cond.methodLink "ChairRanksLaw" (32 : Nat) ({ cls := "ChairRanks", name := "feed", desc := "(I)I" } : Jvm.MethodName)) ∈ lw_all := lw_g (lw_at lw_m2 161 rfl) rfl
theorem q474 : (Jvm.Cond.methodLink "ChairRanksLaw" (36 : Nat) ({ cls := "ChairRanks", name := "ministry", desc := "()I" } : Jvm.MethodName)) ∈ lw_all := lw_g (lw_at lw_m2 167 rfl) rfl
theorem q725 : (Jvm.Cond.methodLink "ChairRanksLaw" (41 : Nat) ({ cls := "ChairRanks", name := "fault", desc := "()I" } : Jvm.MethodName)) ∈ lw_all := lw_g (lw_at lw_m3 178 rfl) rfl
theorem q729 : (Jvm.Cond.methodLink "ChairRanksLaw" (45 : Nat) ({ cls := "ChairRanks", name := "undo", desc := "()I" } : Jvm.MethodName)) ∈ lw_all := lw_g (lw_at lw_m3 182 rfl) rfl
theorem q734 : (Jvm.Cond.methodLink "ChairRanksLaw" (49 : Nat) ({ cls := "ChairRanks", name := "nights", desc := "(I)I" } : Jvm.MethodName)) ∈ lw_all := lw_g (lw_at lw_m3 187 rfl) rfl
theorem q837 : (Jvm.Cond.methodLink "ChairRanksLaw" (53 : Nat) ({ cls := "ChairRanks", name := "cushions", desc := "(II)I" } : Jvm.MethodName)) ∈ lw_all := lw_g (lw_at lw_m4 50 rfl) rfl
theorem q850 : (Jvm.Cond.methodLink "ChairRanksLaw" (58 : Nat) ({ cls := "ChairRanks", name := "mend", desc := "(I)I" } : Jvm.MethodName)) ∈ lw_all := lw_g (lw_at lw_m4 63 rfl) rfl
theorem q859 : (Jvm.Cond.methodLink "ChairRanksLaw" (62 : Nat) ({ cls := "ChairRanks", name := "watch", desc := "(II)I" } : Jvm.MethodName)) ∈ lw_all := lw_g (lw_at lw_m4 72 rfl) rfl
theorem q872 : (Jvm.Cond.methodLink "ChairRanksLaw" (66 : Nat) ({ cls := "ChairRanks", name := "change", desc := "(II)I" } : Jvm.MethodName)) ∈ lw_all := lw_g (lw_at lw_m4 85 rfl) rfl
theorem q884 : (Jvm.Cond.methodLink "ChairRanksLaw" (70 : Nat) ({ cls := "ChairRanks", name := "saw", desc := "(II)I" } : Jvm.MethodName)) ∈ lw_all := lw_g (lw_at lw_m4 97 rfl) rfl
theorem q889 : (Jvm.Cond.methodLink "ChairRanksLaw" (74 : Nat) ({ cls := "ChairRanks", name := "chair", desc := "(II)I" } : Jvm.MethodName)) ∈ lw_all := lw_g (lw_at lw_m4 102 rfl) rfl
theorem q895 : (Jvm.Cond.methodLink "ChairRanksLaw" (78 : Nat) ({ cls := "ChairRanks", name := "ranked", desc := "(I)I" } : Jvm.MethodName)) ∈ lw_all := lw_g (lw_at lw_m4 108 rfl) rfl
theorem q899 : (Jvm.Cond.methodLink "ChairRanksLaw" (82 : Nat) ({ cls := "ChairRanks", name := "ahead", desc := "(III)I" } : Jvm.MethodName)) ∈ lw_all := lw_g (lw_at lw_m4 112 rfl) rfl
theorem q915 : (Jvm.Cond.methodLink "ChairRanksLaw" (86 : Nat) ({ cls := "ChairRanks", name := "minister", desc := "(I)I" } : Jvm.MethodName)) ∈ lw_all := lw_g (lw_at lw_m4 128 rfl) rfl
theorem q919 : (Jvm.Cond.methodLink "ChairRanksLaw" (90 : Nat) ({ cls := "ChairRanks", name := "floor", desc := "(I)I" } : Jvm.MethodName)) ∈ lw_all := lw_g (lw_at lw_m4 132 rfl) rfl
theorem q924 : (Jvm.Cond.methodLink "ChairRanksLaw" (94 : Nat) ({ cls := "ChairRanks", name := "rises", desc := "(II)I" } : Jvm.MethodName)) ∈ lw_all := lw_g (lw_at lw_m4 137 rfl) rfl
theorem q932 : (Jvm.Cond.methodLink "ChairRanksLaw" (98 : Nat) ({ cls := "ChairRanks", name := "calm", desc := "()I" } : Jvm.MethodName)) ∈ lw_all := lw_g (lw_at lw_m4 145 rfl) rfl
theorem q940 : (Jvm.Cond.methodLink "ChairRanksLaw" (102 : Nat) ({ cls := "ChairRanks", name := "cushionFor", desc := "(III)I" } : Jvm.MethodName)) ∈ lw_all := lw_g (lw_at lw_m4 153 rfl) rfl
theorem q952 : (Jvm.Cond.methodLink "ChairRanksLaw" (106 : Nat) ({ cls := "ChairRanks", name := "guard", desc := "(IIII)I" } : Jvm.MethodName)) ∈ lw_all := lw_g (lw_at lw_m4 165 rfl) rfl
theorem q959 : (Jvm.Cond.methodLink "ChairRanksLaw" (111 : Nat) ({ cls := "ChairRanks", name := "bestWatch", desc := "(II)I" } : Jvm.MethodName)) ∈ lw_all := lw_g (lw_at lw_m4 172 rfl) rfl
theorem q964 : (Jvm.Cond.methodLink "ChairRanksLaw" (115 : Nat) ({ cls := "ChairRanks", name := "sawdust", desc := "(II)I" } : Jvm.MethodName)) ∈ lw_all := lw_g (lw_at lw_m4 177 rfl) rfl
theorem q990 : (Jvm.Cond.methodLink "ChairRanksLaw" (119 : Nat) ({ cls := "ChairRanks", name := "pile", desc := "(II)I" } : Jvm.MethodName)) ∈ lw_all := lw_g (lw_at lw_m4 203 rfl) rfl
theorem q1002 : (Jvm.Cond.methodLink "ChairRanksLaw" (123 : Nat) ({ cls := "ChairRanks", name := "climb", desc := "(I)I" } : Jvm.MethodName)) ∈ lw_all := lw_g (lw_at lw_m4 215 rfl) rfl
theorem q1006 : (Jvm.Cond.methodLink "ChairRanksLaw" (127 : Nat) ({ cls := "ChairRanks", name := "coalition", desc := "(I)I" } : Jvm.MethodName)) ∈ lw_all := lw_g (lw_at lw_m4 219 rfl) rfl
theorem q1014 : (Jvm.Cond.methodLink "ChairRanksLaw" (131 : Nat) ({ cls := "ChairRanks", name := "sawnBy", desc := "(I)I" } : Jvm.MethodName)) ∈ lw_all := lw_g (lw_at lw_m4 227 rfl) rfl
theorem q1018 : (Jvm.Cond.methodLink "ChairRanksLaw" (135 : Nat) ({ cls := "ChairRanks", name := "round", desc := "()I" } : Jvm.MethodName)) ∈ lw_all := lw_g (lw_at lw_m4 231 rfl) rfl
theorem q1022 : (Jvm.Cond.methodLink "ChairRanksLaw" (139 : Nat) ({ cls := "ChairRanks", name := "enemy", desc := "(III)I" } : Jvm.MethodName)) ∈ lw_all := lw_g (lw_at lw_m4 235 rfl) rfl
theorem q1026 : (Jvm.Cond.methodLink "ChairRanksLaw" (143 : Nat) ({ cls := "ChairRanks", name := "who", desc := "(IIIIII)I" } : Jvm.MethodName)) ∈ lw_all := lw_g (lw_at lw_m4 239 rfl) rfl
theorem q1042 : (Jvm.Cond.methodLink "ChairRanksLaw" (148 : Nat) ({ cls := "ChairRanks", name := "guarded", desc := "(IIII)I" } : Jvm.MethodName)) ∈ lw_all := lw_g (lw_at lw_m5 15 rfl) rfl
theorem q1047 : (Jvm.Cond.methodLink "ChairRanksLaw" (152 : Nat) ({ cls := "ChairRanks", name := "doze", desc := "(IIIII)J" } : Jvm.MethodName)) ∈ lw_all := lw_g (lw_at lw_m5 20 rfl) rfl
theorem q1056 : (Jvm.Cond.methodLink "ChairRanksLaw" (157 : Nat) ({ cls := "ChairRanks", name := "drawn", desc := "(III)I" } : Jvm.MethodName)) ∈ lw_all := lw_g (lw_at lw_m5 29 rfl) rfl
theorem q1063 : (Jvm.Cond.methodLink "ChairRanksLaw" (161 : Nat) ({ cls := "ChairRanks", name := "image", desc := "(I)I" } : Jvm.MethodName)) ∈ lw_all := lw_g (lw_at lw_m5 36 rfl) rfl
theorem q1067 : (Jvm.Cond.methodLink "ChairRanksLaw" (165 : Nat) ({ cls := "ChairRanks", name := "restore", desc := "(I)I" } : Jvm.MethodName)) ∈ lw_all := lw_g (lw_at lw_m5 40 rfl) rfl
theorem q1071 : (Jvm.Cond.methodLink "ChairRanksLaw" (169 : Nat) ({ cls := "ChairRanks", name := "kind", desc := "(I)I" } : Jvm.MethodName)) ∈ lw_all := lw_g (lw_at lw_m5 44 rfl) rfl
theorem q1095 : (Jvm.Cond.methodLink "ChairRanksLaw" (173 : Nat) ({ cls := "ChairRanks", name := "as", desc := "(II)I" } : Jvm.MethodName)) ∈ lw_all := lw_g (lw_at lw_m5 68 rfl) rfl
theorem q1122 : (Jvm.Cond.methodLink "ChairRanksLaw" (177 : Nat) ({ cls := "ChairRanks", name := "ask", desc := "(II)I" } : Jvm.MethodName)) ∈ lw_all := lw_g (lw_at lw_m5 95 rfl) rfl
theorem q1208 : (Jvm.Cond.methodLink "ChairRanksLaw" (181 : Nat) ({ cls := "ChairRanks", name := "trace", desc := "(I)I" } : Jvm.MethodName)) ∈ lw_all := lw_g (lw_at lw_m5 181 rfl) rfl
theorem q1212 : (Jvm.Cond.methodLink "ChairRanksLaw" (185 : Nat) ({ cls := "ChairRanks", name := "count", desc := "(I)I" } : Jvm.MethodName)) ∈ lw_all := lw_g (lw_at lw_m5 185 rfl) rfl
theorem q1220 : (Jvm.Cond.methodLink "ChairRanksLaw" (189 : Nat) ({ cls := "ChairRanks", name := "status", desc := "()I" } : Jvm.MethodName)) ∈ lw_all := lw_g (lw_at lw_m5 193 rfl) rfl
theorem q1224 : (Jvm.Cond.classLink "ChairRanksLaw" (10 : Nat) "ChairRanksModel") ∈ lw_all := lw_g (lw_at lw_m5 197 rfl) rfl
theorem q1226 : (Jvm.Cond.methodLink "ChairRanksLaw" (12 : Nat) ({ cls := "ChairRanksModel", name := "<init>", desc := "()V" } : Jvm.MethodName)) ∈ lw_all := lw_g (lw_at lw_m5 199 rfl) rfl
theorem q1307 : (Jvm.Cond.methodLink "ChairRanksLaw" (17 : Nat) ({ cls := "ChairRanksModel", name := "row", desc := "(III)I" } : Jvm.MethodName)) ∈ lw_all := lw_g (lw_at lw_m6 40 rfl) rfl
theorem q1329 : (Jvm.Cond.methodLink "ChairRanksLaw" (21 : Nat) ({ cls := "ChairRanksModel", name := "set", desc := "(III)I" } : Jvm.MethodName)) ∈ lw_all := lw_g (lw_at lw_m6 62 rfl) rfl
theorem q1336 : (Jvm.Cond.methodLink "ChairRanksLaw" (26 : Nat) ({ cls := "ChairRanksModel", name := "copy", desc := "(IIIII)I" } : Jvm.MethodName)) ∈ lw_all := lw_g (lw_at lw_m6 69 rfl) rfl
theorem q1340 : (Jvm.Cond.methodLink "ChairRanksLaw" (31 : Nat) ({ cls := "ChairRanksModel", name := "drop", desc := "(I)I" } : Jvm.MethodName)) ∈ lw_all := lw_g (lw_at lw_m6 73 rfl) rfl
theorem q1344 : (Jvm.Cond.methodLink "ChairRanksLaw" (35 : Nat) ({ cls := "ChairRanksModel", name := "feed", desc := "(I)I" } : Jvm.MethodName)) ∈ lw_all := lw_g (lw_at lw_m6 77 rfl) rfl
theorem q1350 : (Jvm.Cond.methodLink "ChairRanksLaw" (40 : Nat) ({ cls := "ChairRanksModel", name := "ministry", desc := "()I" } : Jvm.MethodName)) ∈ lw_all := lw_g (lw_at lw_m6 83 rfl) rfl
theorem q1387 : (Jvm.Cond.methodLink "ChairRanksLaw" (44 : Nat) ({ cls := "ChairRanksModel", name := "fault", desc := "()I" } : Jvm.MethodName)) ∈ lw_all := lw_g (lw_at lw_m6 120 rfl) rfl
theorem q1391 : (Jvm.Cond.methodLink "ChairRanksLaw" (48 : Nat) ({ cls := "ChairRanksModel", name := "undo", desc := "()I" } : Jvm.MethodName)) ∈ lw_all := lw_g (lw_at lw_m6 124 rfl) rfl
theorem q1396 : (Jvm.Cond.methodLink "ChairRanksLaw" (52 : Nat) ({ cls := "ChairRanksModel", name := "nights", desc := "(I)I" } : Jvm.MethodName)) ∈ lw_all := lw_g (lw_at lw_m6 129 rfl) rfl
theorem q1436 : (Jvm.Cond.methodLink "ChairRanksLaw" (57 : Nat) ({ cls := "ChairRanksModel", name := "cushions", desc := "(II)I" } : Jvm.MethodName)) ∈ lw_all := lw_g (lw_at lw_m6 169 rfl) rfl
theorem q1445 : (Jvm.Cond.methodLink "ChairRanksLaw" (61 : Nat) ({ cls := "ChairRanksModel", name := "mend", desc := "(I)I" } : Jvm.MethodName)) ∈ lw_all := lw_g (lw_at lw_m6 178 rfl) rfl
theorem q1453 : (Jvm.Cond.methodLink "ChairRanksLaw" (65 : Nat) ({ cls := "ChairRanksModel", name := "watch", desc := "(II)I" } : Jvm.MethodName)) ∈ lw_all := lw_g (lw_at lw_m6 186 rfl) rfl
theorem q1460 : (Jvm.Cond.methodLink "ChairRanksLaw" (69 : Nat) ({ cls := "ChairRanksModel", name := "change", desc := "(II)I" } : Jvm.MethodName)) ∈ lw_all := lw_g (lw_at lw_m6 193 rfl) rfl
theorem q1468 : (Jvm.Cond.methodLink "ChairRanksLaw" (73 : Nat) ({ cls := "ChairRanksModel", name := "saw", desc := "(II)I" } : Jvm.MethodName)) ∈ lw_all := lw_g (lw_at lw_m6 201 rfl) rfl
theorem q1473 : (Jvm.Cond.methodLink "ChairRanksLaw" (77 : Nat) ({ cls := "ChairRanksModel", name := "chair", desc := "(II)I" } : Jvm.MethodName)) ∈ lw_all := lw_g (lw_at lw_m6 206 rfl) rfl
theorem q1477 : (Jvm.Cond.methodLink "ChairRanksLaw" (81 : Nat) ({ cls := "ChairRanksModel", name := "ranked", desc := "(I)I" } : Jvm.MethodName)) ∈ lw_all := lw_g (lw_at lw_m6 210 rfl) rfl
theorem q1481 : (Jvm.Cond.methodLink "ChairRanksLaw" (85 : Nat) ({ cls := "ChairRanksModel", name := "ahead", desc := "(III)I" } : Jvm.MethodName)) ∈ lw_all := lw_g (lw_at lw_m6 214 rfl) rfl
theorem q1498 : (Jvm.Cond.methodLink "ChairRanksLaw" (89 : Nat) ({ cls := "ChairRanksModel", name := "minister", desc := "(I)I" } : Jvm.MethodName)) ∈ lw_all := lw_g (lw_at lw_m6 231 rfl) rfl
theorem q1502 : (Jvm.Cond.methodLink "ChairRanksLaw" (93 : Nat) ({ cls := "ChairRanksModel", name := "floor", desc := "(I)I" } : Jvm.MethodName)) ∈ lw_all := lw_g (lw_at lw_m6 235 rfl) rfl
theorem q1506 : (Jvm.Cond.methodLink "ChairRanksLaw" (97 : Nat) ({ cls := "ChairRanksModel", name := "rises", desc := "(II)I" } : Jvm.MethodName)) ∈ lw_all := lw_g (lw_at lw_m6 239 rfl) rfl
theorem q1511 : (Jvm.Cond.methodLink "ChairRanksLaw" (101 : Nat) ({ cls := "ChairRanksModel", name := "calm", desc := "()I" } : Jvm.MethodName)) ∈ lw_all := lw_g (lw_at lw_m7 4 rfl) rfl
theorem q1519 : (Jvm.Cond.methodLink "ChairRanksLaw" (105 : Nat) ({ cls := "ChairRanksModel", name := "cushionFor", desc := "(III)I" } : Jvm.MethodName)) ∈ lw_all := lw_g (lw_at lw_m7 12 rfl) rfl
theorem q1528 : (Jvm.Cond.methodLink "ChairRanksLaw" (110 : Nat) ({ cls := "ChairRanksModel", name := "guard", desc := "(IIII)I" } : Jvm.MethodName)) ∈ lw_all := lw_g (lw_at lw_m7 21 rfl) rfl
theorem q1535 : (Jvm.Cond.methodLink "ChairRanksLaw" (114 : Nat) ({ cls := "ChairRanksModel", name := "bestWatch", desc := "(II)I" } : Jvm.MethodName)) ∈ lw_all := lw_g (lw_at lw_m7 28 rfl) rfl
theorem q1539 : (Jvm.Cond.methodLink "ChairRanksLaw" (118 : Nat) ({ cls := "ChairRanksModel", name := "sawdust", desc := "(II)I" } : Jvm.MethodName)) ∈ lw_all := lw_g (lw_at lw_m7 32 rfl) rfl
theorem q1554 : (Jvm.Cond.methodLink "ChairRanksLaw" (122 : Nat) ({ cls := "ChairRanksModel", name := "pile", desc := "(II)I" } : Jvm.MethodName)) ∈ lw_all := lw_g (lw_at lw_m7 47 rfl) rfl
theorem q1558 : (Jvm.Cond.methodLink "ChairRanksLaw" (126 : Nat) ({ cls := "ChairRanksModel", name := "climb", desc := "(I)I" } : Jvm.MethodName)) ∈ lw_all := lw_g (lw_at lw_m7 51 rfl) rfl
theorem q1562 : (Jvm.Cond.methodLink "ChairRanksLaw" (130 : Nat) ({ cls := "ChairRanksModel", name := "coalition", desc := "(I)I" } : Jvm.MethodName)) ∈ lw_all := lw_g (lw_at lw_m7 55 rfl) rfl
theorem q1566 : (Jvm.Cond.methodLink "ChairRanksLaw" (134 : Nat) ({ cls := "ChairRanksModel", name := "sawnBy", desc := "(I)I" } : Jvm.MethodName)) ∈ lw_all := lw_g (lw_at lw_m7 59 rfl) rfl
theorem q1570 : (Jvm.Cond.methodLink "ChairRanksLaw" (138 : Nat) ({ cls := "ChairRanksModel", name := "round", desc := "()I" } : Jvm.MethodName)) ∈ lw_all := lw_g (lw_at lw_m7 63 rfl) rfl
theorem q1574 : (Jvm.Cond.methodLink "ChairRanksLaw" (142 : Nat) ({ cls := "ChairRanksModel", name := "enemy", desc := "(III)I" } : Jvm.MethodName)) ∈ lw_all := lw_g (lw_at lw_m7 67 rfl) rfl
theorem q1578 : (Jvm.Cond.methodLink "ChairRanksLaw" (147 : Nat) ({ cls := "ChairRanksModel", name := "who", desc := "(IIIIII)I" } : Jvm.MethodName)) ∈ lw_all := lw_g (lw_at lw_m7 71 rfl) rfl
theorem q1587 : (Jvm.Cond.methodLink "ChairRanksLaw" (151 : Nat) ({ cls := "ChairRanksModel", name := "guarded", desc := "(IIII)I" } : Jvm.MethodName)) ∈ lw_all := lw_g (lw_at lw_m7 80 rfl) rfl
theorem q1591 : (Jvm.Cond.methodLink "ChairRanksLaw" (156 : Nat) ({ cls := "ChairRanksModel", name := "doze", desc := "(IIIII)J" } : Jvm.MethodName)) ∈ lw_all := lw_g (lw_at lw_m7 84 rfl) rfl
theorem q1597 : (Jvm.Cond.methodLink "ChairRanksLaw" (160 : Nat) ({ cls := "ChairRanksModel", name := "drawn", desc := "(III)I" } : Jvm.MethodName)) ∈ lw_all := lw_g (lw_at lw_m7 90 rfl) rfl
theorem q1604 : (Jvm.Cond.methodLink "ChairRanksLaw" (164 : Nat) ({ cls := "ChairRanksModel", name := "image", desc := "(I)I" } : Jvm.MethodName)) ∈ lw_all := lw_g (lw_at lw_m7 97 rfl) rfl
theorem q1608 : (Jvm.Cond.methodLink "ChairRanksLaw" (168 : Nat) ({ cls := "ChairRanksModel", name := "restore", desc := "(I)I" } : Jvm.MethodName)) ∈ lw_all := lw_g (lw_at lw_m7 101 rfl) rfl
theorem q1612 : (Jvm.Cond.methodLink "ChairRanksLaw" (172 : Nat) ({ cls := "ChairRanksModel", name := "kind", desc := "(I)I" } : Jvm.MethodName)) ∈ lw_all := lw_g (lw_at lw_m7 105 rfl) rfl
theorem q1616 : (Jvm.Cond.methodLink "ChairRanksLaw" (176 : Nat) ({ cls := "ChairRanksModel", name := "as", desc := "(II)I" } : Jvm.MethodName)) ∈ lw_all := lw_g (lw_at lw_m7 109 rfl) rfl
theorem q1623 : (Jvm.Cond.methodLink "ChairRanksLaw" (180 : Nat) ({ cls := "ChairRanksModel", name := "ask", desc := "(II)I" } : Jvm.MethodName)) ∈ lw_all := lw_g (lw_at lw_m7 116 rfl) rfl
theorem q1659 : (Jvm.Cond.methodLink "ChairRanksLaw" (184 : Nat) ({ cls := "ChairRanksModel", name := "trace", desc := "(I)I" } : Jvm.MethodName)) ∈ lw_all := lw_g (lw_at lw_m7 152 rfl) rfl
theorem q1663 : (Jvm.Cond.methodLink "ChairRanksLaw" (188 : Nat) ({ cls := "ChairRanksModel", name := "count", desc := "(I)I" } : Jvm.MethodName)) ∈ lw_all := lw_g (lw_at lw_m7 156 rfl) rfl
theorem q1667 : (Jvm.Cond.methodLink "ChairRanksLaw" (192 : Nat) ({ cls := "ChairRanksModel", name := "status", desc := "()I" } : Jvm.MethodName)) ∈ lw_all := lw_g (lw_at lw_m7 160 rfl) rfl

theorem q1710 : (Jvm.Cond.castable "[B" "java/lang/Object") ∈ lw_tbl := lw_at lw_m7 203 rfl
theorem q1711 : (Jvm.Cond.castable "[I" "java/lang/Object") ∈ lw_tbl := lw_at lw_m7 204 rfl
theorem q1713 : (Jvm.Cond.castable "[LChairRanks$Chair;" "java/lang/Object") ∈ lw_tbl := lw_at lw_m7 206 rfl
theorem q1712 : (Jvm.Cond.castable "[LChairRanks$Ministry;" "java/lang/Object") ∈ lw_tbl := lw_at lw_m7 205 rfl
theorem q1709 : (Jvm.Cond.castable "[LChairRanks$Row;" "java/lang/Object") ∈ lw_tbl := lw_at lw_m7 202 rfl
theorem q1706 : (Jvm.Cond.sameMethod "[Ljava/lang/Object;" "java/lang/Object" "getClass" "()Ljava/lang/Class;") ∈ lw_all := lw_g (lw_at lw_m7 199 rfl) rfl
theorem q1707 : (Jvm.Cond.selects "[Ljava/lang/Object;" ({ cls := "java/lang/Object", name := "getClass", desc := "()Ljava/lang/Class;" } : Jvm.MethodName) ({ cls := "java/lang/Object", name := "getClass", desc := "()Ljava/lang/Class;" } : Jvm.MethodName)) ∈ lw_all := lw_g (lw_at lw_m7 200 rfl) rfl
theorem q1714 : (Jvm.Cond.castable "[Ljava/lang/Object;" "java/lang/Object") ∈ lw_tbl := lw_at lw_m7 207 rfl
theorem q1715 : (Jvm.Cond.castable "[Z" "java/lang/Object") ∈ lw_tbl := lw_at lw_m7 208 rfl
theorem q89 : (Jvm.Cond.initialized "java/lang/System") ∈ lw_all := lw_g (lw_at lw_m1 22 rfl) rfl
theorem q462 : (Jvm.Cond.static ({ cls := "java/lang/System", name := "arraycopy", desc := "(Ljava/lang/Object;ILjava/lang/Object;II)V" } : Jvm.MethodName)) ∈ lw_all := lw_g (lw_at lw_m2 155 rfl) rfl
theorem q463 : (Jvm.Cond.native ({ cls := "java/lang/System", name := "arraycopy", desc := "(Ljava/lang/Object;ILjava/lang/Object;II)V" } : Jvm.MethodName)) ∈ lw_all := lw_g (lw_at lw_m2 156 rfl) rfl
theorem q637 : (Jvm.Cond.interfaceMethod "java/util/List" "java/util/List" "size" "()I") ∈ lw_tbl := lw_at lw_m3 90 rfl
theorem q638 : (Jvm.Cond.declares ({ cls := "java/util/List", name := "size", desc := "()I" } : Jvm.MethodName)) ∈ lw_tbl := lw_at lw_m3 91 rfl
theorem q654 : (Jvm.Cond.interfaceMethod "java/util/List" "java/util/List" "add" "(Ljava/lang/Object;)Z") ∈ lw_tbl := lw_at lw_m3 107 rfl
theorem q655 : (Jvm.Cond.declares ({ cls := "java/util/List", name := "add", desc := "(Ljava/lang/Object;)Z" } : Jvm.MethodName)) ∈ lw_tbl := lw_at lw_m3 108 rfl
theorem q778 : (Jvm.Cond.interfaceMethod "java/util/List" "java/util/List" "get" "(I)Ljava/lang/Object;") ∈ lw_tbl := lw_at lw_m3 231 rfl
theorem q779 : (Jvm.Cond.declares ({ cls := "java/util/List", name := "get", desc := "(I)Ljava/lang/Object;" } : Jvm.MethodName)) ∈ lw_tbl := lw_at lw_m3 232 rfl
theorem q110 : (Jvm.Cond.arrayOver (Jvm.ClassFile.FieldType.object "ChairRanks$Row")) ∈ lw_tbl := lw_at lw_m1 43 rfl
theorem q143 : (Jvm.Cond.arrayClass Jvm.ClassFile.FieldType.byte) ∈ lw_all := lw_g (lw_at lw_m1 76 rfl) rfl
theorem q205 : (Jvm.Cond.arrayClass Jvm.ClassFile.FieldType.int) ∈ lw_all := lw_g (lw_at lw_m1 138 rfl) rfl
theorem q206 : (Jvm.Cond.arrayOver (Jvm.ClassFile.FieldType.object "ChairRanks$Ministry")) ∈ lw_tbl := lw_at lw_m1 139 rfl
theorem q223 : (Jvm.Cond.arrayOver (Jvm.ClassFile.FieldType.object "ChairRanks$Chair")) ∈ lw_tbl := lw_at lw_m1 156 rfl
theorem q710 : (Jvm.Cond.arrayOver (Jvm.ClassFile.FieldType.object "java/lang/Object")) ∈ lw_tbl := lw_at lw_m3 163 rfl
theorem q1306 : (Jvm.Cond.arrayClass Jvm.ClassFile.FieldType.boolean) ∈ lw_all := lw_g (lw_at lw_m6 39 rfl) rfl
/-! java/lang/Object -/
def RJ18 : String := "java/lang/Object"
abbrev cJ18_init : ByteArray := object_method_1_code
def yJ18_init : MethodName := ⟨RJ18, "<init>", "()V"⟩
theorem dJ18_init_0 : decode cJ18_init 0 = .ok (.return_, 1) := by decide +kernel
theorem q107 : (Jvm.Cond.instanceMethod ({ cls := "java/lang/Object", name := "<init>", desc := "()V" } : Jvm.MethodName)) ∈ lw_all := lw_g (lw_at lw_m1 40 rfl) rfl
theorem q108 : (Jvm.Cond.code ({ cls := "java/lang/Object", name := "<init>", desc := "()V" } : Jvm.MethodName) object_method_1_code (1 : Nat) (Option.none : Option Jvm.ClassFile.FieldType)) ∈ lw_all := lw_g (lw_at lw_m1 41 rfl) rfl
theorem q687 : (Jvm.Cond.instanceMethod ({ cls := "java/lang/Object", name := "getClass", desc := "()Ljava/lang/Class;" } : Jvm.MethodName)) ∈ lw_all := lw_g (lw_at lw_m3 140 rfl) rfl
theorem q688 : (Jvm.Cond.sameMethod "java/lang/Object" "java/lang/Object" "getClass" "()Ljava/lang/Class;") ∈ lw_all := lw_g (lw_at lw_m3 141 rfl) rfl
theorem q705 : (Jvm.Cond.native ({ cls := "java/lang/Object", name := "getClass", desc := "()Ljava/lang/Class;" } : Jvm.MethodName)) ∈ lw_all := lw_g (lw_at lw_m3 158 rfl) rfl
theorem q1708 : (Jvm.Cond.declares ({ cls := "java/lang/Object", name := "getClass", desc := "()Ljava/lang/Class;" } : Jvm.MethodName)) ∈ lw_tbl := lw_at lw_m7 201 rfl
