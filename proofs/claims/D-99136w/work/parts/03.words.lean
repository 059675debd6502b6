theorem q120 : (Jvm.Cond.initialized "DogsHourLaw") ∈ lw_all := lw_g (lw_at lw_m1 0 rfl) rfl
set_option maxRecDepth 100000
theorem q159 : (Jvm.Cond.classLink "DogsHourLaw" (7 : Nat) "DogsHour") ∈ lw_all := lw_g (lw_at lw_m1 39 rfl) rfl
theorem q161 : (Jvm.Cond.methodLink "DogsHourLaw" (9 : Nat) ({ cls := "DogsHour", name := "<init>", desc := "()V" } : Jvm.MethodName)) ∈ lw_all := lw_g (lw_at lw_m1 41 rfl) rfl
theorem q611 : (Jvm.Cond.methodLink "DogsHourLaw" (13 : Nat) ({ cls := "DogsHour", name := "feed", desc := "(IIIII)I" } : Jvm.MethodName)) ∈ lw_all := lw_g (lw_at lw_m3 11 rfl) rfl
theorem q619 : (Jvm.Cond.methodLink "DogsHourLaw" (18 : Nat) ({ cls := "DogsHour", name := "back", desc := "(I)I" } : Jvm.MethodName)) ∈ lw_all := lw_g (lw_at lw_m3 19 rfl) rfl
theorem q623 : (Jvm.Cond.methodLink "DogsHourLaw" (23 : Nat) ({ cls := "DogsHour", name := "read", desc := "()I" } : Jvm.MethodName)) ∈ lw_all := lw_g (lw_at lw_m3 23 rfl) rfl
theorem q1177 : (Jvm.Cond.methodLink "DogsHourLaw" (28 : Nat) ({ cls := "DogsHour", name := "place", desc := "()I" } : Jvm.MethodName)) ∈ lw_all := lw_g (lw_at lw_m5 97 rfl) rfl
theorem q1181 : (Jvm.Cond.methodLink "DogsHourLaw" (32 : Nat) ({ cls := "DogsHour", name := "spot", desc := "(II)I" } : Jvm.MethodName)) ∈ lw_all := lw_g (lw_at lw_m5 101 rfl) rfl
theorem q1211 : (Jvm.Cond.methodLink "DogsHourLaw" (37 : Nat) ({ cls := "DogsHour", name := "dog", desc := "(II)I" } : Jvm.MethodName)) ∈ lw_all := lw_g (lw_at lw_m5 131 rfl) rfl
theorem q1220 : (Jvm.Cond.methodLink "DogsHourLaw" (41 : Nat) ({ cls := "DogsHour", name := "person", desc := "(II)I" } : Jvm.MethodName)) ∈ lw_all := lw_g (lw_at lw_m5 140 rfl) rfl
theorem q1237 : (Jvm.Cond.methodLink "DogsHourLaw" (45 : Nat) ({ cls := "DogsHour", name := "mind", desc := "(III)I" } : Jvm.MethodName)) ∈ lw_all := lw_g (lw_at lw_m5 157 rfl) rfl
theorem q1285 : (Jvm.Cond.methodLink "DogsHourLaw" (50 : Nat) ({ cls := "DogsHour", name := "go", desc := "(II)Z" } : Jvm.MethodName)) ∈ lw_all := lw_g (lw_at lw_m5 205 rfl) rfl
theorem q1301 : (Jvm.Cond.methodLink "DogsHourLaw" (55 : Nat) ({ cls := "DogsHour", name := "give", desc := "(III)I" } : Jvm.MethodName)) ∈ lw_all := lw_g (lw_at lw_m5 221 rfl) rfl
theorem q1309 : (Jvm.Cond.methodLink "DogsHourLaw" (59 : Nat) ({ cls := "DogsHour", name := "kick", desc := "(II)I" } : Jvm.MethodName)) ∈ lw_all := lw_g (lw_at lw_m5 229 rfl) rfl
theorem q1313 : (Jvm.Cond.methodLink "DogsHourLaw" (63 : Nat) ({ cls := "DogsHour", name := "minutes", desc := "(I)I" } : Jvm.MethodName)) ∈ lw_all := lw_g (lw_at lw_m5 233 rfl) rfl
theorem q1372 : (Jvm.Cond.methodLink "DogsHourLaw" (67 : Nat) ({ cls := "DogsHour", name := "undo", desc := "()Z" } : Jvm.MethodName)) ∈ lw_all := lw_g (lw_at lw_m6 52 rfl) rfl
theorem q1376 : (Jvm.Cond.methodLink "DogsHourLaw" (72 : Nat) ({ cls := "DogsHour", name := "far", desc := "(II)I" } : Jvm.MethodName)) ∈ lw_all := lw_g (lw_at lw_m6 56 rfl) rfl
theorem q1381 : (Jvm.Cond.methodLink "DogsHourLaw" (76 : Nat) ({ cls := "DogsHour", name := "till", desc := "()I" } : Jvm.MethodName)) ∈ lw_all := lw_g (lw_at lw_m6 61 rfl) rfl
theorem q1390 : (Jvm.Cond.methodLink "DogsHourLaw" (80 : Nat) ({ cls := "DogsHour", name := "round", desc := "(II)I" } : Jvm.MethodName)) ∈ lw_all := lw_g (lw_at lw_m6 70 rfl) rfl
theorem q1403 : (Jvm.Cond.methodLink "DogsHourLaw" (84 : Nat) ({ cls := "DogsHour", name := "minds", desc := "(I)I" } : Jvm.MethodName)) ∈ lw_all := lw_g (lw_at lw_m6 83 rfl) rfl
theorem q1408 : (Jvm.Cond.methodLink "DogsHourLaw" (88 : Nat) ({ cls := "DogsHour", name := "feeding", desc := "(I)I" } : Jvm.MethodName)) ∈ lw_all := lw_g (lw_at lw_m6 88 rfl) rfl
theorem q1412 : (Jvm.Cond.methodLink "DogsHourLaw" (108 : Nat) ({ cls := "DogsHour", name := "held", desc := "(I)I" } : Jvm.MethodName)) ∈ lw_all := lw_g (lw_at lw_m6 92 rfl) rfl
theorem q1416 : (Jvm.Cond.methodLink "DogsHourLaw" (112 : Nat) ({ cls := "DogsHour", name := "grudge", desc := "(II)I" } : Jvm.MethodName)) ∈ lw_all := lw_g (lw_at lw_m6 96 rfl) rfl
theorem q1420 : (Jvm.Cond.methodLink "DogsHourLaw" (116 : Nat) ({ cls := "DogsHour", name := "share", desc := "(I)I" } : Jvm.MethodName)) ∈ lw_all := lw_g (lw_at lw_m6 100 rfl) rfl
theorem q1431 : (Jvm.Cond.methodLink "DogsHourLaw" (92 : Nat) ({ cls := "DogsHour", name := "safe", desc := "(I)I" } : Jvm.MethodName)) ∈ lw_all := lw_g (lw_at lw_m6 111 rfl) rfl
theorem q1449 : (Jvm.Cond.methodLink "DogsHourLaw" (96 : Nat) ({ cls := "DogsHour", name := "refuge", desc := "(II)I" } : Jvm.MethodName)) ∈ lw_all := lw_g (lw_at lw_m6 129 rfl) rfl
theorem q1453 : (Jvm.Cond.methodLink "DogsHourLaw" (100 : Nat) ({ cls := "DogsHour", name := "loses", desc := "(I)I" } : Jvm.MethodName)) ∈ lw_all := lw_g (lw_at lw_m6 133 rfl) rfl
theorem q1457 : (Jvm.Cond.methodLink "DogsHourLaw" (104 : Nat) ({ cls := "DogsHour", name := "fetched", desc := "()I" } : Jvm.MethodName)) ∈ lw_all := lw_g (lw_at lw_m6 137 rfl) rfl
theorem q1461 : (Jvm.Cond.methodLink "DogsHourLaw" (120 : Nat) ({ cls := "DogsHour", name := "then", desc := "(III)I" } : Jvm.MethodName)) ∈ lw_all := lw_g (lw_at lw_m6 141 rfl) rfl
theorem q1465 : (Jvm.Cond.methodLink "DogsHourLaw" (124 : Nat) ({ cls := "DogsHour", name := "dogIn", desc := "(II)I" } : Jvm.MethodName)) ∈ lw_all := lw_g (lw_at lw_m6 145 rfl) rfl
theorem q1469 : (Jvm.Cond.methodLink "DogsHourLaw" (128 : Nat) ({ cls := "DogsHour", name := "first", desc := "(I)I" } : Jvm.MethodName)) ∈ lw_all := lw_g (lw_at lw_m6 149 rfl) rfl
theorem q1473 : (Jvm.Cond.methodLink "DogsHourLaw" (132 : Nat) ({ cls := "DogsHour", name := "tell", desc := "(IZ)I" } : Jvm.MethodName)) ∈ lw_all := lw_g (lw_at lw_m6 153 rfl) rfl
theorem q1477 : (Jvm.Cond.methodLink "DogsHourLaw" (137 : Nat) ({ cls := "DogsHour", name := "forget", desc := "()I" } : Jvm.MethodName)) ∈ lw_all := lw_g (lw_at lw_m6 157 rfl) rfl
theorem q1481 : (Jvm.Cond.methodLink "DogsHourLaw" (141 : Nat) ({ cls := "DogsHour", name := "kicks", desc := "(I)I" } : Jvm.MethodName)) ∈ lw_all := lw_g (lw_at lw_m6 161 rfl) rfl
theorem q1499 : (Jvm.Cond.methodLink "DogsHourLaw" (145 : Nat) ({ cls := "DogsHour", name := "sure", desc := "(I)I" } : Jvm.MethodName)) ∈ lw_all := lw_g (lw_at lw_m6 179 rfl) rfl
theorem q1507 : (Jvm.Cond.methodLink "DogsHourLaw" (149 : Nat) ({ cls := "DogsHour", name := "ask", desc := "(I)I" } : Jvm.MethodName)) ∈ lw_all := lw_g (lw_at lw_m6 187 rfl) rfl
theorem q1511 : (Jvm.Cond.methodLink "DogsHourLaw" (153 : Nat) ({ cls := "DogsHour", name := "hold", desc := "(I)Z" } : Jvm.MethodName)) ∈ lw_all := lw_g (lw_at lw_m6 191 rfl) rfl
theorem q1515 : (Jvm.Cond.methodLink "DogsHourLaw" (158 : Nat) ({ cls := "DogsHour", name := "restore", desc := "(I)Z" } : Jvm.MethodName)) ∈ lw_all := lw_g (lw_at lw_m6 195 rfl) rfl
theorem q1519 : (Jvm.Cond.methodLink "DogsHourLaw" (162 : Nat) ({ cls := "DogsHour", name := "count", desc := "(I)I" } : Jvm.MethodName)) ∈ lw_all := lw_g (lw_at lw_m6 199 rfl) rfl
theorem q1523 : (Jvm.Cond.classLink "DogsHourLaw" (10 : Nat) "DogsHourModel") ∈ lw_all := lw_g (lw_at lw_m6 203 rfl) rfl
theorem q1525 : (Jvm.Cond.methodLink "DogsHourLaw" (12 : Nat) ({ cls := "DogsHourModel", name := "<init>", desc := "()V" } : Jvm.MethodName)) ∈ lw_all := lw_g (lw_at lw_m6 205 rfl) rfl
theorem q1750 : (Jvm.Cond.methodLink "DogsHourLaw" (17 : Nat) ({ cls := "DogsHourModel", name := "feed", desc := "(IIIII)I" } : Jvm.MethodName)) ∈ lw_all := lw_g (lw_at lw_m7 190 rfl) rfl
theorem q1758 : (Jvm.Cond.methodLink "DogsHourLaw" (22 : Nat) ({ cls := "DogsHourModel", name := "back", desc := "(I)I" } : Jvm.MethodName)) ∈ lw_all := lw_g (lw_at lw_m7 198 rfl) rfl
theorem q1762 : (Jvm.Cond.methodLink "DogsHourLaw" (27 : Nat) ({ cls := "DogsHourModel", name := "read", desc := "()I" } : Jvm.MethodName)) ∈ lw_all := lw_g (lw_at lw_m7 202 rfl) rfl
theorem q1880 : (Jvm.Cond.methodLink "DogsHourLaw" (31 : Nat) ({ cls := "DogsHourModel", name := "place", desc := "()I" } : Jvm.MethodName)) ∈ lw_all := lw_g (lw_at lw_m8 80 rfl) rfl
theorem q1884 : (Jvm.Cond.methodLink "DogsHourLaw" (36 : Nat) ({ cls := "DogsHourModel", name := "spot", desc := "(II)I" } : Jvm.MethodName)) ∈ lw_all := lw_g (lw_at lw_m8 84 rfl) rfl
theorem q1907 : (Jvm.Cond.methodLink "DogsHourLaw" (40 : Nat) ({ cls := "DogsHourModel", name := "dog", desc := "(II)I" } : Jvm.MethodName)) ∈ lw_all := lw_g (lw_at lw_m8 107 rfl) rfl
theorem q1915 : (Jvm.Cond.methodLink "DogsHourLaw" (44 : Nat) ({ cls := "DogsHourModel", name := "person", desc := "(II)I" } : Jvm.MethodName)) ∈ lw_all := lw_g (lw_at lw_m8 115 rfl) rfl
theorem q1923 : (Jvm.Cond.methodLink "DogsHourLaw" (49 : Nat) ({ cls := "DogsHourModel", name := "mind", desc := "(III)I" } : Jvm.MethodName)) ∈ lw_all := lw_g (lw_at lw_m8 123 rfl) rfl
theorem q1967 : (Jvm.Cond.methodLink "DogsHourLaw" (54 : Nat) ({ cls := "DogsHourModel", name := "go", desc := "(II)Z" } : Jvm.MethodName)) ∈ lw_all := lw_g (lw_at lw_m8 167 rfl) rfl
theorem q1975 : (Jvm.Cond.methodLink "DogsHourLaw" (58 : Nat) ({ cls := "DogsHourModel", name := "give", desc := "(III)I" } : Jvm.MethodName)) ∈ lw_all := lw_g (lw_at lw_m8 175 rfl) rfl
theorem q1983 : (Jvm.Cond.methodLink "DogsHourLaw" (62 : Nat) ({ cls := "DogsHourModel", name := "kick", desc := "(II)I" } : Jvm.MethodName)) ∈ lw_all := lw_g (lw_at lw_m8 183 rfl) rfl
theorem q1987 : (Jvm.Cond.methodLink "DogsHourLaw" (66 : Nat) ({ cls := "DogsHourModel", name := "minutes", desc := "(I)I" } : Jvm.MethodName)) ∈ lw_all := lw_g (lw_at lw_m8 187 rfl) rfl
theorem q2031 : (Jvm.Cond.methodLink "DogsHourLaw" (71 : Nat) ({ cls := "DogsHourModel", name := "undo", desc := "()Z" } : Jvm.MethodName)) ∈ lw_all := lw_g (lw_at lw_m8 231 rfl) rfl
theorem q2035 : (Jvm.Cond.methodLink "DogsHourLaw" (75 : Nat) ({ cls := "DogsHourModel", name := "far", desc := "(II)I" } : Jvm.MethodName)) ∈ lw_all := lw_g (lw_at lw_m8 235 rfl) rfl
theorem q2039 : (Jvm.Cond.methodLink "DogsHourLaw" (79 : Nat) ({ cls := "DogsHourModel", name := "till", desc := "()I" } : Jvm.MethodName)) ∈ lw_all := lw_g (lw_at lw_m8 239 rfl) rfl
theorem q2047 : (Jvm.Cond.methodLink "DogsHourLaw" (83 : Nat) ({ cls := "DogsHourModel", name := "round", desc := "(II)I" } : Jvm.MethodName)) ∈ lw_all := lw_g (lw_at lw_m9 7 rfl) rfl
theorem q2055 : (Jvm.Cond.methodLink "DogsHourLaw" (87 : Nat) ({ cls := "DogsHourModel", name := "minds", desc := "(I)I" } : Jvm.MethodName)) ∈ lw_all := lw_g (lw_at lw_m9 15 rfl) rfl
theorem q2059 : (Jvm.Cond.methodLink "DogsHourLaw" (91 : Nat) ({ cls := "DogsHourModel", name := "feeding", desc := "(I)I" } : Jvm.MethodName)) ∈ lw_all := lw_g (lw_at lw_m9 19 rfl) rfl
theorem q2063 : (Jvm.Cond.methodLink "DogsHourLaw" (95 : Nat) ({ cls := "DogsHourModel", name := "safe", desc := "(I)I" } : Jvm.MethodName)) ∈ lw_all := lw_g (lw_at lw_m9 23 rfl) rfl
theorem q2075 : (Jvm.Cond.methodLink "DogsHourLaw" (99 : Nat) ({ cls := "DogsHourModel", name := "refuge", desc := "(II)I" } : Jvm.MethodName)) ∈ lw_all := lw_g (lw_at lw_m9 35 rfl) rfl
theorem q2079 : (Jvm.Cond.methodLink "DogsHourLaw" (103 : Nat) ({ cls := "DogsHourModel", name := "loses", desc := "(I)I" } : Jvm.MethodName)) ∈ lw_all := lw_g (lw_at lw_m9 39 rfl) rfl
theorem q2083 : (Jvm.Cond.methodLink "DogsHourLaw" (107 : Nat) ({ cls := "DogsHourModel", name := "fetched", desc := "()I" } : Jvm.MethodName)) ∈ lw_all := lw_g (lw_at lw_m9 43 rfl) rfl
theorem q2087 : (Jvm.Cond.methodLink "DogsHourLaw" (111 : Nat) ({ cls := "DogsHourModel", name := "held", desc := "(I)I" } : Jvm.MethodName)) ∈ lw_all := lw_g (lw_at lw_m9 47 rfl) rfl
theorem q2091 : (Jvm.Cond.methodLink "DogsHourLaw" (115 : Nat) ({ cls := "DogsHourModel", name := "grudge", desc := "(II)I" } : Jvm.MethodName)) ∈ lw_all := lw_g (lw_at lw_m9 51 rfl) rfl
theorem q2095 : (Jvm.Cond.methodLink "DogsHourLaw" (119 : Nat) ({ cls := "DogsHourModel", name := "share", desc := "(I)I" } : Jvm.MethodName)) ∈ lw_all := lw_g (lw_at lw_m9 55 rfl) rfl
theorem q2103 : (Jvm.Cond.methodLink "DogsHourLaw" (123 : Nat) ({ cls := "DogsHourModel", name := "then", desc := "(III)I" } : Jvm.MethodName)) ∈ lw_all := lw_g (lw_at lw_m9 63 rfl) rfl
theorem q2110 : (Jvm.Cond.methodLink "DogsHourLaw" (127 : Nat) ({ cls := "DogsHourModel", name := "dogIn", desc := "(II)I" } : Jvm.MethodName)) ∈ lw_all := lw_g (lw_at lw_m9 70 rfl) rfl
theorem q2114 : (Jvm.Cond.methodLink "DogsHourLaw" (131 : Nat) ({ cls := "DogsHourModel", name := "first", desc := "(I)I" } : Jvm.MethodName)) ∈ lw_all := lw_g (lw_at lw_m9 74 rfl) rfl
theorem q2118 : (Jvm.Cond.methodLink "DogsHourLaw" (136 : Nat) ({ cls := "DogsHourModel", name := "tell", desc := "(IZ)I" } : Jvm.MethodName)) ∈ lw_all := lw_g (lw_at lw_m9 78 rfl) rfl
theorem q2122 : (Jvm.Cond.methodLink "DogsHourLaw" (140 : Nat) ({ cls := "DogsHourModel", name := "forget", desc := "()I" } : Jvm.MethodName)) ∈ lw_all := lw_g (lw_at lw_m9 82 rfl) rfl
theorem q2126 : (Jvm.Cond.methodLink "DogsHourLaw" (144 : Nat) ({ cls := "DogsHourModel", name := "kicks", desc := "(I)I" } : Jvm.MethodName)) ∈ lw_all := lw_g (lw_at lw_m9 86 rfl) rfl
theorem q2138 : (Jvm.Cond.methodLink "DogsHourLaw" (148 : Nat) ({ cls := "DogsHourModel", name := "sure", desc := "(I)I" } : Jvm.MethodName)) ∈ lw_all := lw_g (lw_at lw_m9 98 rfl) rfl
theorem q2142 : (Jvm.Cond.methodLink "DogsHourLaw" (152 : Nat) ({ cls := "DogsHourModel", name := "ask", desc := "(I)I" } : Jvm.MethodName)) ∈ lw_all := lw_g (lw_at lw_m9 102 rfl) rfl
theorem q2146 : (Jvm.Cond.methodLink "DogsHourLaw" (157 : Nat) ({ cls := "DogsHourModel", name := "hold", desc := "(I)Z" } : Jvm.MethodName)) ∈ lw_all := lw_g (lw_at lw_m9 106 rfl) rfl
theorem q2150 : (Jvm.Cond.methodLink "DogsHourLaw" (161 : Nat) ({ cls := "DogsHourModel", name := "restore", desc := "(I)Z" } : Jvm.MethodName)) ∈ lw_all := lw_g (lw_at lw_m9 110 rfl) rfl
theorem q2154 : (Jvm.Cond.methodLink "DogsHourLaw" (165 : Nat) ({ cls := "DogsHourModel", name := "count", desc := "(I)I" } : Jvm.MethodName)) ∈ lw_all := lw_g (lw_at lw_m9 114 rfl) rfl
theorem q910 : (Jvm.Cond.sameMethod "[B" "java/lang/Object" "clone" "()Ljava/lang/Object;") ∈ lw_all := lw_g (lw_at lw_m4 70 rfl) rfl
set_option maxRecDepth 100000
theorem q913 : (Jvm.Cond.selects "[B" ({ cls := "[B", name := "clone", desc := "()Ljava/lang/Object;" } : Jvm.MethodName) ({ cls := "java/lang/Object", name := "clone", desc := "()Ljava/lang/Object;" } : Jvm.MethodName)) ∈ lw_all := lw_g (lw_at lw_m4 73 rfl) rfl
theorem q914 : (Jvm.Cond.castable "[B" "java/lang/Cloneable") ∈ lw_tbl := lw_at lw_m4 74 rfl
theorem q2202 : (Jvm.Cond.castable "[B" "java/lang/Object") ∈ lw_tbl := lw_at lw_m9 162 rfl
theorem q2207 : (Jvm.Cond.castable "[I" "java/lang/Object") ∈ lw_tbl := lw_at lw_m9 167 rfl
set_option maxRecDepth 100000
theorem q2213 : (Jvm.Cond.castable "[J" "java/lang/Object") ∈ lw_tbl := lw_at lw_m9 173 rfl
set_option maxRecDepth 100000
theorem q2205 : (Jvm.Cond.castable "[LDogsHour$Law;" "java/lang/Object") ∈ lw_tbl := lw_at lw_m9 165 rfl
set_option maxRecDepth 100000
theorem q2211 : (Jvm.Cond.castable "[LDogsHour$Sum;" "java/lang/Object") ∈ lw_tbl := lw_at lw_m9 171 rfl
set_option maxRecDepth 100000
theorem q2209 : (Jvm.Cond.castable "[LDogsHour$Time;" "java/lang/Object") ∈ lw_tbl := lw_at lw_m9 169 rfl
set_option maxRecDepth 100000
theorem q2208 : (Jvm.Cond.castable "[LDogsHour$Town;" "java/lang/Object") ∈ lw_tbl := lw_at lw_m9 168 rfl
set_option maxRecDepth 100000
theorem q2199 : (Jvm.Cond.sameMethod "[Ljava/lang/Object;" "java/lang/Object" "getClass" "()Ljava/lang/Class;") ∈ lw_all := lw_g (lw_at lw_m9 159 rfl) rfl
set_option maxRecDepth 100000
theorem q2200 : (Jvm.Cond.selects "[Ljava/lang/Object;" ({ cls := "java/lang/Object", name := "getClass", desc := "()Ljava/lang/Class;" } : Jvm.MethodName) ({ cls := "java/lang/Object", name := "getClass", desc := "()Ljava/lang/Class;" } : Jvm.MethodName)) ∈ lw_all := lw_g (lw_at lw_m9 160 rfl) rfl
theorem q2212 : (Jvm.Cond.castable "[Ljava/lang/Object;" "java/lang/Object") ∈ lw_tbl := lw_at lw_m9 172 rfl
theorem q2203 : (Jvm.Cond.castable "[Ljava/lang/String;" "java/lang/Object") ∈ lw_tbl := lw_at lw_m9 163 rfl
set_option maxRecDepth 100000
theorem q2204 : (Jvm.Cond.castable "[S" "java/lang/Object") ∈ lw_tbl := lw_at lw_m9 164 rfl
set_option maxRecDepth 100000
theorem q2210 : (Jvm.Cond.castable "[Z" "java/lang/Object") ∈ lw_tbl := lw_at lw_m9 170 rfl
set_option maxRecDepth 100000
theorem q2206 : (Jvm.Cond.castable "[[I" "java/lang/Object") ∈ lw_tbl := lw_at lw_m9 166 rfl
set_option maxRecDepth 100000
theorem q155 : (Jvm.Cond.initialized "java/lang/System") ∈ lw_all := lw_g (lw_at lw_m1 35 rfl) rfl
set_option maxRecDepth 100000
theorem q920 : (Jvm.Cond.static ({ cls := "java/lang/System", name := "arraycopy", desc := "(Ljava/lang/Object;ILjava/lang/Object;II)V" } : Jvm.MethodName)) ∈ lw_all := lw_g (lw_at lw_m4 80 rfl) rfl
theorem q921 : (Jvm.Cond.native ({ cls := "java/lang/System", name := "arraycopy", desc := "(Ljava/lang/Object;ILjava/lang/Object;II)V" } : Jvm.MethodName)) ∈ lw_all := lw_g (lw_at lw_m4 81 rfl) rfl
theorem q240 : (Jvm.Cond.arrayClass Jvm.ClassFile.FieldType.byte) ∈ lw_all := lw_g (lw_at lw_m1 120 rfl) rfl
set_option maxRecDepth 100000
theorem q248 : (Jvm.Cond.arrayOver (Jvm.ClassFile.FieldType.object "java/lang/String")) ∈ lw_tbl := lw_at lw_m1 128 rfl
theorem q302 : (Jvm.Cond.arrayClass Jvm.ClassFile.FieldType.short) ∈ lw_all := lw_g (lw_at lw_m1 182 rfl) rfl
theorem q364 : (Jvm.Cond.arrayOver (Jvm.ClassFile.FieldType.object "DogsHour$Law")) ∈ lw_tbl := lw_at lw_m2 4 rfl
theorem q366 : (Jvm.Cond.arrayOver (Jvm.ClassFile.FieldType.array Jvm.ClassFile.FieldType.int)) ∈ lw_tbl := lw_at lw_m2 6 rfl
theorem q431 : (Jvm.Cond.arrayClass Jvm.ClassFile.FieldType.int) ∈ lw_all := lw_g (lw_at lw_m2 71 rfl) rfl
theorem q510 : (Jvm.Cond.arrayOver (Jvm.ClassFile.FieldType.object "DogsHour$Town")) ∈ lw_tbl := lw_at lw_m2 150 rfl
theorem q512 : (Jvm.Cond.arrayOver (Jvm.ClassFile.FieldType.object "DogsHour$Time")) ∈ lw_tbl := lw_at lw_m2 152 rfl
theorem q610 : (Jvm.Cond.arrayClass Jvm.ClassFile.FieldType.boolean) ∈ lw_all := lw_g (lw_at lw_m3 10 rfl) rfl
theorem q742 : (Jvm.Cond.arrayOver (Jvm.ClassFile.FieldType.object "DogsHour$Sum")) ∈ lw_tbl := lw_at lw_m3 142 rfl
theorem q1099 : (Jvm.Cond.arrayOver (Jvm.ClassFile.FieldType.object "java/lang/Object")) ∈ lw_tbl := lw_at lw_m5 19 rfl
theorem q1749 : (Jvm.Cond.arrayClass Jvm.ClassFile.FieldType.long) ∈ lw_all := lw_g (lw_at lw_m7 189 rfl) rfl
