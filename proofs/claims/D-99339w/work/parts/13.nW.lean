theorem q151 : (Jvm.Cond.initialized "MarginFolkLaw") ∈ lw_all := lw_g (lw_at lw_m1 0 rfl) rfl
set_option maxRecDepth 100000
theorem q190 : (Jvm.Cond.classLink "MarginFolkLaw" (7 : Nat) "MarginFolk") ∈ lw_all := lw_g (lw_at lw_m1 39 rfl) rfl
theorem q192 : (Jvm.Cond.methodLink "MarginFolkLaw" (9 : Nat) ({ cls := "MarginFolk", name := "<init>", desc := "()V" } : Jvm.MethodName)) ∈ lw_all := lw_g (lw_at lw_m1 41 rfl) rfl
theorem q553 : (Jvm.Cond.methodLink "MarginFolkLaw" (13 : Nat) ({ cls := "MarginFolk", name := "feed", desc := "(IIIII)I" } : Jvm.MethodName)) ∈ lw_all := lw_g (lw_at lw_m2 162 rfl) rfl
theorem q565 : (Jvm.Cond.methodLink "MarginFolkLaw" (18 : Nat) ({ cls := "MarginFolk", name := "end", desc := "(I)Z" } : Jvm.MethodName)) ∈ lw_all := lw_g (lw_at lw_m2 174 rfl) rfl
theorem q569 : (Jvm.Cond.methodLink "MarginFolkLaw" (23 : Nat) ({ cls := "MarginFolk", name := "folio", desc := "()I" } : Jvm.MethodName)) ∈ lw_all := lw_g (lw_at lw_m2 178 rfl) rfl
theorem q1244 : (Jvm.Cond.methodLink "MarginFolkLaw" (28 : Nat) ({ cls := "MarginFolk", name := "fault", desc := "(I)I" } : Jvm.MethodName)) ∈ lw_all := lw_g (lw_at lw_m5 133 rfl) rfl
theorem q1248 : (Jvm.Cond.methodLink "MarginFolkLaw" (33 : Nat) ({ cls := "MarginFolk", name := "has", desc := "(I)I" } : Jvm.MethodName)) ∈ lw_all := lw_g (lw_at lw_m5 137 rfl) rfl
theorem q1348 : (Jvm.Cond.methodLink "MarginFolkLaw" (37 : Nat) ({ cls := "MarginFolk", name := "letter", desc := "(II)I" } : Jvm.MethodName)) ∈ lw_all := lw_g (lw_at lw_m5 237 rfl) rfl
theorem q1374 : (Jvm.Cond.methodLink "MarginFolkLaw" (42 : Nat) ({ cls := "MarginFolk", name := "being", desc := "(II)I" } : Jvm.MethodName)) ∈ lw_all := lw_g (lw_at lw_m6 23 rfl) rfl
theorem q1378 : (Jvm.Cond.methodLink "MarginFolkLaw" (46 : Nat) ({ cls := "MarginFolk", name := "cell", desc := "(III)I" } : Jvm.MethodName)) ∈ lw_all := lw_g (lw_at lw_m6 27 rfl) rfl
theorem q1393 : (Jvm.Cond.methodLink "MarginFolkLaw" (51 : Nat) ({ cls := "MarginFolk", name := "kept", desc := "(II)I" } : Jvm.MethodName)) ∈ lw_all := lw_g (lw_at lw_m6 42 rfl) rfl
theorem q1397 : (Jvm.Cond.methodLink "MarginFolkLaw" (55 : Nat) ({ cls := "MarginFolk", name := "meets", desc := "(II)I" } : Jvm.MethodName)) ∈ lw_all := lw_g (lw_at lw_m6 46 rfl) rfl
theorem q1401 : (Jvm.Cond.methodLink "MarginFolkLaw" (59 : Nat) ({ cls := "MarginFolk", name := "pairs", desc := "(I)I" } : Jvm.MethodName)) ∈ lw_all := lw_g (lw_at lw_m6 50 rfl) rfl
theorem q1414 : (Jvm.Cond.methodLink "MarginFolkLaw" (63 : Nat) ({ cls := "MarginFolk", name := "apart", desc := "()I" } : Jvm.MethodName)) ∈ lw_all := lw_g (lw_at lw_m6 63 rfl) rfl
theorem q1418 : (Jvm.Cond.methodLink "MarginFolkLaw" (67 : Nat) ({ cls := "MarginFolk", name := "reading", desc := "(II)I" } : Jvm.MethodName)) ∈ lw_all := lw_g (lw_at lw_m6 67 rfl) rfl
theorem q1498 : (Jvm.Cond.methodLink "MarginFolkLaw" (71 : Nat) ({ cls := "MarginFolk", name := "later", desc := "(III)I" } : Jvm.MethodName)) ∈ lw_all := lw_g (lw_at lw_m6 147 rfl) rfl
theorem q1508 : (Jvm.Cond.methodLink "MarginFolkLaw" (75 : Nat) ({ cls := "MarginFolk", name := "opening", desc := "(I)I" } : Jvm.MethodName)) ∈ lw_all := lw_g (lw_at lw_m6 157 rfl) rfl
theorem q1512 : (Jvm.Cond.methodLink "MarginFolkLaw" (79 : Nat) ({ cls := "MarginFolk", name := "way", desc := "(III)I" } : Jvm.MethodName)) ∈ lw_all := lw_g (lw_at lw_m6 161 rfl) rfl
theorem q1524 : (Jvm.Cond.methodLink "MarginFolkLaw" (83 : Nat) ({ cls := "MarginFolk", name := "see", desc := "()I" } : Jvm.MethodName)) ∈ lw_all := lw_g (lw_at lw_m6 173 rfl) rfl
theorem q1532 : (Jvm.Cond.methodLink "MarginFolkLaw" (87 : Nat) ({ cls := "MarginFolk", name := "lay", desc := "(I)I" } : Jvm.MethodName)) ∈ lw_all := lw_g (lw_at lw_m6 181 rfl) rfl
theorem q1544 : (Jvm.Cond.methodLink "MarginFolkLaw" (91 : Nat) ({ cls := "MarginFolk", name := "after", desc := "(I)I" } : Jvm.MethodName)) ∈ lw_all := lw_g (lw_at lw_m6 193 rfl) rfl
theorem q1549 : (Jvm.Cond.methodLink "MarginFolkLaw" (95 : Nat) ({ cls := "MarginFolk", name := "trim", desc := "(II)I" } : Jvm.MethodName)) ∈ lw_all := lw_g (lw_at lw_m6 198 rfl) rfl
theorem q1559 : (Jvm.Cond.methodLink "MarginFolkLaw" (116 : Nat) ({ cls := "MarginFolk", name := "undo", desc := "()Z" } : Jvm.MethodName)) ∈ lw_all := lw_g (lw_at lw_m6 208 rfl) rfl
theorem q1563 : (Jvm.Cond.methodLink "MarginFolkLaw" (99 : Nat) ({ cls := "MarginFolk", name := "go", desc := "(III)Z" } : Jvm.MethodName)) ∈ lw_all := lw_g (lw_at lw_m6 212 rfl) rfl
theorem q1571 : (Jvm.Cond.methodLink "MarginFolkLaw" (104 : Nat) ({ cls := "MarginFolk", name := "gloss", desc := "(II)I" } : Jvm.MethodName)) ∈ lw_all := lw_g (lw_at lw_m6 220 rfl) rfl
theorem q1579 : (Jvm.Cond.methodLink "MarginFolkLaw" (108 : Nat) ({ cls := "MarginFolk", name := "days", desc := "(I)I" } : Jvm.MethodName)) ∈ lw_all := lw_g (lw_at lw_m6 228 rfl) rfl
theorem q1583 : (Jvm.Cond.methodLink "MarginFolkLaw" (112 : Nat) ({ cls := "MarginFolk", name := "chance", desc := "(I)I" } : Jvm.MethodName)) ∈ lw_all := lw_g (lw_at lw_m6 232 rfl) rfl
theorem q1595 : (Jvm.Cond.methodLink "MarginFolkLaw" (121 : Nat) ({ cls := "MarginFolk", name := "seed", desc := "(I)Z" } : Jvm.MethodName)) ∈ lw_all := lw_g (lw_at lw_m7 4 rfl) rfl
theorem q1599 : (Jvm.Cond.methodLink "MarginFolkLaw" (125 : Nat) ({ cls := "MarginFolk", name := "ask", desc := "()J" } : Jvm.MethodName)) ∈ lw_all := lw_g (lw_at lw_m7 8 rfl) rfl
theorem q1645 : (Jvm.Cond.methodLink "MarginFolkLaw" (130 : Nat) ({ cls := "MarginFolk", name := "image", desc := "()I" } : Jvm.MethodName)) ∈ lw_all := lw_g (lw_at lw_m7 54 rfl) rfl
theorem q1656 : (Jvm.Cond.methodLink "MarginFolkLaw" (134 : Nat) ({ cls := "MarginFolk", name := "octet", desc := "(I)I" } : Jvm.MethodName)) ∈ lw_all := lw_g (lw_at lw_m7 65 rfl) rfl
theorem q1660 : (Jvm.Cond.methodLink "MarginFolkLaw" (138 : Nat) ({ cls := "MarginFolk", name := "on", desc := "()Z" } : Jvm.MethodName)) ∈ lw_all := lw_g (lw_at lw_m7 69 rfl) rfl
theorem q1672 : (Jvm.Cond.methodLink "MarginFolkLaw" (142 : Nat) ({ cls := "MarginFolk", name := "status", desc := "(I)I" } : Jvm.MethodName)) ∈ lw_all := lw_g (lw_at lw_m7 81 rfl) rfl
theorem q1676 : (Jvm.Cond.classLink "MarginFolkLaw" (10 : Nat) "MarginFolkModel") ∈ lw_all := lw_g (lw_at lw_m7 85 rfl) rfl
theorem q1678 : (Jvm.Cond.methodLink "MarginFolkLaw" (12 : Nat) ({ cls := "MarginFolkModel", name := "<init>", desc := "()V" } : Jvm.MethodName)) ∈ lw_all := lw_g (lw_at lw_m7 87 rfl) rfl
theorem q2001 : (Jvm.Cond.methodLink "MarginFolkLaw" (17 : Nat) ({ cls := "MarginFolkModel", name := "feed", desc := "(IIIII)I" } : Jvm.MethodName)) ∈ lw_all := lw_g (lw_at lw_m8 170 rfl) rfl
theorem q2005 : (Jvm.Cond.methodLink "MarginFolkLaw" (22 : Nat) ({ cls := "MarginFolkModel", name := "end", desc := "(I)Z" } : Jvm.MethodName)) ∈ lw_all := lw_g (lw_at lw_m8 174 rfl) rfl
theorem q2009 : (Jvm.Cond.methodLink "MarginFolkLaw" (27 : Nat) ({ cls := "MarginFolkModel", name := "folio", desc := "()I" } : Jvm.MethodName)) ∈ lw_all := lw_g (lw_at lw_m8 178 rfl) rfl
theorem q2190 : (Jvm.Cond.methodLink "MarginFolkLaw" (32 : Nat) ({ cls := "MarginFolkModel", name := "fault", desc := "(I)I" } : Jvm.MethodName)) ∈ lw_all := lw_g (lw_at lw_m9 119 rfl) rfl
theorem q2194 : (Jvm.Cond.methodLink "MarginFolkLaw" (36 : Nat) ({ cls := "MarginFolkModel", name := "has", desc := "(I)I" } : Jvm.MethodName)) ∈ lw_all := lw_g (lw_at lw_m9 123 rfl) rfl
theorem q2260 : (Jvm.Cond.methodLink "MarginFolkLaw" (41 : Nat) ({ cls := "MarginFolkModel", name := "letter", desc := "(II)I" } : Jvm.MethodName)) ∈ lw_all := lw_g (lw_at lw_m9 189 rfl) rfl
theorem q2269 : (Jvm.Cond.methodLink "MarginFolkLaw" (45 : Nat) ({ cls := "MarginFolkModel", name := "being", desc := "(II)I" } : Jvm.MethodName)) ∈ lw_all := lw_g (lw_at lw_m9 198 rfl) rfl
theorem q2273 : (Jvm.Cond.methodLink "MarginFolkLaw" (50 : Nat) ({ cls := "MarginFolkModel", name := "cell", desc := "(III)I" } : Jvm.MethodName)) ∈ lw_all := lw_g (lw_at lw_m9 202 rfl) rfl
theorem q2293 : (Jvm.Cond.methodLink "MarginFolkLaw" (54 : Nat) ({ cls := "MarginFolkModel", name := "kept", desc := "(II)I" } : Jvm.MethodName)) ∈ lw_all := lw_g (lw_at lw_m9 222 rfl) rfl
theorem q2298 : (Jvm.Cond.methodLink "MarginFolkLaw" (58 : Nat) ({ cls := "MarginFolkModel", name := "meets", desc := "(II)I" } : Jvm.MethodName)) ∈ lw_all := lw_g (lw_at lw_m9 227 rfl) rfl
theorem q2306 : (Jvm.Cond.methodLink "MarginFolkLaw" (62 : Nat) ({ cls := "MarginFolkModel", name := "pairs", desc := "(I)I" } : Jvm.MethodName)) ∈ lw_all := lw_g (lw_at lw_m9 235 rfl) rfl
theorem q2315 : (Jvm.Cond.methodLink "MarginFolkLaw" (66 : Nat) ({ cls := "MarginFolkModel", name := "apart", desc := "()I" } : Jvm.MethodName)) ∈ lw_all := lw_g (lw_at lw_m10 4 rfl) rfl
theorem q2319 : (Jvm.Cond.methodLink "MarginFolkLaw" (70 : Nat) ({ cls := "MarginFolkModel", name := "reading", desc := "(II)I" } : Jvm.MethodName)) ∈ lw_all := lw_g (lw_at lw_m10 8 rfl) rfl
theorem q2374 : (Jvm.Cond.methodLink "MarginFolkLaw" (74 : Nat) ({ cls := "MarginFolkModel", name := "later", desc := "(III)I" } : Jvm.MethodName)) ∈ lw_all := lw_g (lw_at lw_m10 63 rfl) rfl
theorem q2382 : (Jvm.Cond.methodLink "MarginFolkLaw" (78 : Nat) ({ cls := "MarginFolkModel", name := "opening", desc := "(I)I" } : Jvm.MethodName)) ∈ lw_all := lw_g (lw_at lw_m10 71 rfl) rfl
theorem q2386 : (Jvm.Cond.methodLink "MarginFolkLaw" (82 : Nat) ({ cls := "MarginFolkModel", name := "way", desc := "(III)I" } : Jvm.MethodName)) ∈ lw_all := lw_g (lw_at lw_m10 75 rfl) rfl
theorem q2398 : (Jvm.Cond.methodLink "MarginFolkLaw" (86 : Nat) ({ cls := "MarginFolkModel", name := "see", desc := "()I" } : Jvm.MethodName)) ∈ lw_all := lw_g (lw_at lw_m10 87 rfl) rfl
theorem q2406 : (Jvm.Cond.methodLink "MarginFolkLaw" (90 : Nat) ({ cls := "MarginFolkModel", name := "lay", desc := "(I)I" } : Jvm.MethodName)) ∈ lw_all := lw_g (lw_at lw_m10 95 rfl) rfl
theorem q2418 : (Jvm.Cond.methodLink "MarginFolkLaw" (94 : Nat) ({ cls := "MarginFolkModel", name := "after", desc := "(I)I" } : Jvm.MethodName)) ∈ lw_all := lw_g (lw_at lw_m10 107 rfl) rfl
theorem q2422 : (Jvm.Cond.methodLink "MarginFolkLaw" (98 : Nat) ({ cls := "MarginFolkModel", name := "trim", desc := "(II)I" } : Jvm.MethodName)) ∈ lw_all := lw_g (lw_at lw_m10 111 rfl) rfl
theorem q2426 : (Jvm.Cond.methodLink "MarginFolkLaw" (120 : Nat) ({ cls := "MarginFolkModel", name := "undo", desc := "()Z" } : Jvm.MethodName)) ∈ lw_all := lw_g (lw_at lw_m10 115 rfl) rfl
theorem q2430 : (Jvm.Cond.methodLink "MarginFolkLaw" (103 : Nat) ({ cls := "MarginFolkModel", name := "go", desc := "(III)Z" } : Jvm.MethodName)) ∈ lw_all := lw_g (lw_at lw_m10 119 rfl) rfl
theorem q2438 : (Jvm.Cond.methodLink "MarginFolkLaw" (107 : Nat) ({ cls := "MarginFolkModel", name := "gloss", desc := "(II)I" } : Jvm.MethodName)) ∈ lw_all := lw_g (lw_at lw_m10 127 rfl) rfl
theorem q2450 : (Jvm.Cond.methodLink "MarginFolkLaw" (111 : Nat) ({ cls := "MarginFolkModel", name := "days", desc := "(I)I" } : Jvm.MethodName)) ∈ lw_all := lw_g (lw_at lw_m10 139 rfl) rfl
theorem q2454 : (Jvm.Cond.methodLink "MarginFolkLaw" (124 : Nat) ({ cls := "MarginFolkModel", name := "seed", desc := "(I)Z" } : Jvm.MethodName)) ∈ lw_all := lw_g (lw_at lw_m10 143 rfl) rfl
theorem q2458 : (Jvm.Cond.methodLink "MarginFolkLaw" (115 : Nat) ({ cls := "MarginFolkModel", name := "chance", desc := "(I)I" } : Jvm.MethodName)) ∈ lw_all := lw_g (lw_at lw_m10 147 rfl) rfl
theorem q2470 : (Jvm.Cond.methodLink "MarginFolkLaw" (129 : Nat) ({ cls := "MarginFolkModel", name := "ask", desc := "()J" } : Jvm.MethodName)) ∈ lw_all := lw_g (lw_at lw_m10 159 rfl) rfl
theorem q2491 : (Jvm.Cond.methodLink "MarginFolkLaw" (133 : Nat) ({ cls := "MarginFolkModel", name := "image", desc := "()I" } : Jvm.MethodName)) ∈ lw_all := lw_g (lw_at lw_m10 180 rfl) rfl
theorem q2506 : (Jvm.Cond.methodLink "MarginFolkLaw" (137 : Nat) ({ cls := "MarginFolkModel", name := "octet", desc := "(I)I" } : Jvm.MethodName)) ∈ lw_all := lw_g (lw_at lw_m10 195 rfl) rfl
theorem q2510 : (Jvm.Cond.methodLink "MarginFolkLaw" (141 : Nat) ({ cls := "MarginFolkModel", name := "on", desc := "()Z" } : Jvm.MethodName)) ∈ lw_all := lw_g (lw_at lw_m10 199 rfl) rfl
theorem q2526 : (Jvm.Cond.methodLink "MarginFolkLaw" (145 : Nat) ({ cls := "MarginFolkModel", name := "status", desc := "(I)I" } : Jvm.MethodName)) ∈ lw_all := lw_g (lw_at lw_m10 215 rfl) rfl
theorem q1115 : (Jvm.Cond.sameMethod "[B" "java/lang/Object" "clone" "()Ljava/lang/Object;") ∈ lw_all := lw_g (lw_at lw_m5 4 rfl) rfl
set_option maxRecDepth 100000
theorem q1118 : (Jvm.Cond.selects "[B" ({ cls := "[B", name := "clone", desc := "()Ljava/lang/Object;" } : Jvm.MethodName) ({ cls := "java/lang/Object", name := "clone", desc := "()Ljava/lang/Object;" } : Jvm.MethodName)) ∈ lw_all := lw_g (lw_at lw_m5 7 rfl) rfl
theorem q1119 : (Jvm.Cond.castable "[B" "java/lang/Cloneable") ∈ lw_tbl := lw_at lw_m5 8 rfl
theorem q2574 : (Jvm.Cond.castable "[B" "java/lang/Object") ∈ lw_tbl := lw_at lw_m11 23 rfl
theorem q2580 : (Jvm.Cond.castable "[C" "java/lang/Object") ∈ lw_tbl := lw_at lw_m11 29 rfl
set_option maxRecDepth 100000
theorem q2573 : (Jvm.Cond.castable "[I" "java/lang/Object") ∈ lw_tbl := lw_at lw_m11 22 rfl
set_option maxRecDepth 100000
theorem q2575 : (Jvm.Cond.castable "[J" "java/lang/Object") ∈ lw_tbl := lw_at lw_m11 24 rfl
set_option maxRecDepth 100000
theorem q2578 : (Jvm.Cond.castable "[LMarginFolk$State;" "java/lang/Object") ∈ lw_tbl := lw_at lw_m11 27 rfl
set_option maxRecDepth 100000
theorem q2569 : (Jvm.Cond.sameMethod "[Ljava/lang/Object;" "java/lang/Object" "getClass" "()Ljava/lang/Class;") ∈ lw_all := lw_g (lw_at lw_m11 18 rfl) rfl
set_option maxRecDepth 100000
theorem q2570 : (Jvm.Cond.selects "[Ljava/lang/Object;" ({ cls := "java/lang/Object", name := "getClass", desc := "()Ljava/lang/Class;" } : Jvm.MethodName) ({ cls := "java/lang/Object", name := "getClass", desc := "()Ljava/lang/Class;" } : Jvm.MethodName)) ∈ lw_all := lw_g (lw_at lw_m11 19 rfl) rfl
theorem q2572 : (Jvm.Cond.castable "[Ljava/lang/Object;" "java/lang/Object") ∈ lw_tbl := lw_at lw_m11 21 rfl
theorem q2581 : (Jvm.Cond.castable "[Ljava/lang/String;" "java/lang/Object") ∈ lw_tbl := lw_at lw_m11 30 rfl
set_option maxRecDepth 100000
theorem q2579 : (Jvm.Cond.castable "[Z" "java/lang/Object") ∈ lw_tbl := lw_at lw_m11 28 rfl
set_option maxRecDepth 100000
theorem q2576 : (Jvm.Cond.castable "[[I" "java/lang/Object") ∈ lw_tbl := lw_at lw_m11 25 rfl
set_option maxRecDepth 100000
theorem q2577 : (Jvm.Cond.castable "[[Z" "java/lang/Object") ∈ lw_tbl := lw_at lw_m11 26 rfl
set_option maxRecDepth 100000
theorem q174 : (Jvm.Cond.initialized "java/lang/System") ∈ lw_all := lw_g (lw_at lw_m1 23 rfl) rfl
set_option maxRecDepth 100000
theorem q950 : (Jvm.Cond.static ({ cls := "java/lang/System", name := "arraycopy", desc := "(Ljava/lang/Object;ILjava/lang/Object;II)V" } : Jvm.MethodName)) ∈ lw_all := lw_g (lw_at lw_m4 79 rfl) rfl
theorem q951 : (Jvm.Cond.native ({ cls := "java/lang/System", name := "arraycopy", desc := "(Ljava/lang/Object;ILjava/lang/Object;II)V" } : Jvm.MethodName)) ∈ lw_all := lw_g (lw_at lw_m4 80 rfl) rfl
theorem q797 : (Jvm.Cond.interfaceMethod "java/util/List" "java/util/List" "size" "()I") ∈ lw_tbl := lw_at lw_m3 166 rfl
set_option maxRecDepth 100000
theorem q798 : (Jvm.Cond.declares ({ cls := "java/util/List", name := "size", desc := "()I" } : Jvm.MethodName)) ∈ lw_tbl := lw_at lw_m3 167 rfl
theorem q807 : (Jvm.Cond.interfaceMethod "java/util/List" "java/util/List" "get" "(I)Ljava/lang/Object;") ∈ lw_tbl := lw_at lw_m3 176 rfl
theorem q808 : (Jvm.Cond.declares ({ cls := "java/util/List", name := "get", desc := "(I)Ljava/lang/Object;" } : Jvm.MethodName)) ∈ lw_tbl := lw_at lw_m3 177 rfl
theorem q881 : (Jvm.Cond.interfaceMethod "java/util/List" "java/util/List" "add" "(Ljava/lang/Object;)Z") ∈ lw_tbl := lw_at lw_m4 10 rfl
theorem q882 : (Jvm.Cond.declares ({ cls := "java/util/List", name := "add", desc := "(Ljava/lang/Object;)Z" } : Jvm.MethodName)) ∈ lw_tbl := lw_at lw_m4 11 rfl
theorem q749 : (Jvm.Cond.interfaceMethod "jdk/internal/access/JavaLangAccess" "jdk/internal/access/JavaLangAccess" "getUTF16Char" "([BI)C") ∈ lw_tbl := lw_at lw_m3 118 rfl
set_option maxRecDepth 100000
theorem q750 : (Jvm.Cond.declares ({ cls := "jdk/internal/access/JavaLangAccess", name := "getUTF16Char", desc := "([BI)C" } : Jvm.MethodName)) ∈ lw_tbl := lw_at lw_m3 119 rfl
theorem q217 : (Jvm.Cond.arrayOver (Jvm.ClassFile.FieldType.object "java/lang/Object")) ∈ lw_tbl := lw_at lw_m1 66 rfl
set_option maxRecDepth 100000
theorem q232 : (Jvm.Cond.arrayClass Jvm.ClassFile.FieldType.int) ∈ lw_all := lw_g (lw_at lw_m1 81 rfl) rfl
theorem q377 : (Jvm.Cond.arrayClass Jvm.ClassFile.FieldType.byte) ∈ lw_all := lw_g (lw_at lw_m1 226 rfl) rfl
theorem q416 : (Jvm.Cond.arrayClass Jvm.ClassFile.FieldType.long) ∈ lw_all := lw_g (lw_at lw_m2 25 rfl) rfl
theorem q424 : (Jvm.Cond.arrayOver (Jvm.ClassFile.FieldType.array Jvm.ClassFile.FieldType.int)) ∈ lw_tbl := lw_at lw_m2 33 rfl
theorem q470 : (Jvm.Cond.arrayOver (Jvm.ClassFile.FieldType.array Jvm.ClassFile.FieldType.boolean)) ∈ lw_tbl := lw_at lw_m2 79 rfl
theorem q472 : (Jvm.Cond.arrayOver (Jvm.ClassFile.FieldType.object "MarginFolk$State")) ∈ lw_tbl := lw_at lw_m2 81 rfl
theorem q552 : (Jvm.Cond.arrayClass Jvm.ClassFile.FieldType.boolean) ∈ lw_all := lw_g (lw_at lw_m2 161 rfl) rfl
theorem q692 : (Jvm.Cond.arrayClass Jvm.ClassFile.FieldType.char) ∈ lw_all := lw_g (lw_at lw_m3 61 rfl) rfl
theorem q2582 : (Jvm.Cond.arrayClass Jvm.ClassFile.FieldType.short) ∈ lw_all := lw_g (lw_at lw_m11 31 rfl) rfl
theorem q2611 : (Jvm.Cond.arrayOver (Jvm.ClassFile.FieldType.object "java/lang/String")) ∈ lw_tbl := lw_at lw_m11 60 rfl
