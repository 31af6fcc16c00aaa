theorem q112 : (Jvm.Cond.initialized "RatSortersLaw") ∈ lw_all := lw_g (lw_at lw_m1 0 rfl) rfl
set_option maxRecDepth 100000
theorem q154 : (Jvm.Cond.classLink "RatSortersLaw" (7 : Nat) "RatSorters") ∈ lw_all := lw_g (lw_at lw_m1 42 rfl) rfl
theorem q156 : (Jvm.Cond.methodLink "RatSortersLaw" (9 : Nat) ({ cls := "RatSorters", name := "<init>", desc := "()V" } : Jvm.MethodName)) ∈ lw_all := lw_g (lw_at lw_m1 44 rfl) rfl
theorem q657 : (Jvm.Cond.methodLink "RatSortersLaw" (13 : Nat) ({ cls := "RatSorters", name := "feed", desc := "(IIIII)I" } : Jvm.MethodName)) ∈ lw_all := lw_g (lw_at lw_m3 65 rfl) rfl
theorem q665 : (Jvm.Cond.methodLink "RatSortersLaw" (18 : Nat) ({ cls := "RatSorters", name := "back", desc := "(I)I" } : Jvm.MethodName)) ∈ lw_all := lw_g (lw_at lw_m3 73 rfl) rfl
theorem q669 : (Jvm.Cond.methodLink "RatSortersLaw" (23 : Nat) ({ cls := "RatSorters", name := "read", desc := "()I" } : Jvm.MethodName)) ∈ lw_all := lw_g (lw_at lw_m3 77 rfl) rfl
theorem q1239 : (Jvm.Cond.methodLink "RatSortersLaw" (28 : Nat) ({ cls := "RatSorters", name := "place", desc := "()I" } : Jvm.MethodName)) ∈ lw_all := lw_g (lw_at lw_m5 167 rfl) rfl
theorem q1243 : (Jvm.Cond.methodLink "RatSortersLaw" (32 : Nat) ({ cls := "RatSorters", name := "heap", desc := "(I)I" } : Jvm.MethodName)) ∈ lw_all := lw_g (lw_at lw_m5 171 rfl) rfl
theorem q1259 : (Jvm.Cond.methodLink "RatSortersLaw" (36 : Nat) ({ cls := "RatSorters", name := "hole", desc := "(II)I" } : Jvm.MethodName)) ∈ lw_all := lw_g (lw_at lw_m5 187 rfl) rfl
theorem q1271 : (Jvm.Cond.methodLink "RatSortersLaw" (41 : Nat) ({ cls := "RatSorters", name := "rat", desc := "(II)I" } : Jvm.MethodName)) ∈ lw_all := lw_g (lw_at lw_m5 199 rfl) rfl
theorem q1283 : (Jvm.Cond.methodLink "RatSortersLaw" (45 : Nat) ({ cls := "RatSorters", name := "worth", desc := "(I)I" } : Jvm.MethodName)) ∈ lw_all := lw_g (lw_at lw_m5 211 rfl) rfl
theorem q1296 : (Jvm.Cond.methodLink "RatSortersLaw" (49 : Nat) ({ cls := "RatSorters", name := "pure", desc := "(IZ)I" } : Jvm.MethodName)) ∈ lw_all := lw_g (lw_at lw_m5 224 rfl) rfl
theorem q1304 : (Jvm.Cond.methodLink "RatSortersLaw" (54 : Nat) ({ cls := "RatSorters", name := "minutes", desc := "(I)I" } : Jvm.MethodName)) ∈ lw_all := lw_g (lw_at lw_m5 232 rfl) rfl
theorem q1405 : (Jvm.Cond.methodLink "RatSortersLaw" (58 : Nat) ({ cls := "RatSorters", name := "pour", desc := "(II)I" } : Jvm.MethodName)) ∈ lw_all := lw_g (lw_at lw_m6 93 rfl) rfl
theorem q1409 : (Jvm.Cond.methodLink "RatSortersLaw" (62 : Nat) ({ cls := "RatSorters", name := "swap", desc := "(II)Z" } : Jvm.MethodName)) ∈ lw_all := lw_g (lw_at lw_m6 97 rfl) rfl
theorem q1416 : (Jvm.Cond.methodLink "RatSortersLaw" (67 : Nat) ({ cls := "RatSorters", name := "teach", desc := "(II)Z" } : Jvm.MethodName)) ∈ lw_all := lw_g (lw_at lw_m6 104 rfl) rfl
theorem q1420 : (Jvm.Cond.methodLink "RatSortersLaw" (71 : Nat) ({ cls := "RatSorters", name := "give", desc := "(III)Z" } : Jvm.MethodName)) ∈ lw_all := lw_g (lw_at lw_m6 108 rfl) rfl
theorem q1425 : (Jvm.Cond.methodLink "RatSortersLaw" (76 : Nat) ({ cls := "RatSorters", name := "send", desc := "(IZ)Z" } : Jvm.MethodName)) ∈ lw_all := lw_g (lw_at lw_m6 113 rfl) rfl
theorem q1436 : (Jvm.Cond.methodLink "RatSortersLaw" (81 : Nat) ({ cls := "RatSorters", name := "cat", desc := "(I)I" } : Jvm.MethodName)) ∈ lw_all := lw_g (lw_at lw_m6 124 rfl) rfl
theorem q1440 : (Jvm.Cond.methodLink "RatSortersLaw" (85 : Nat) ({ cls := "RatSorters", name := "sell", desc := "(I)Z" } : Jvm.MethodName)) ∈ lw_all := lw_g (lw_at lw_m6 128 rfl) rfl
theorem q1457 : (Jvm.Cond.methodLink "RatSortersLaw" (90 : Nat) ({ cls := "RatSorters", name := "undo", desc := "()Z" } : Jvm.MethodName)) ∈ lw_all := lw_g (lw_at lw_m6 145 rfl) rfl
theorem q1461 : (Jvm.Cond.methodLink "RatSortersLaw" (95 : Nat) ({ cls := "RatSorters", name := "isClean", desc := "()Z" } : Jvm.MethodName)) ∈ lw_all := lw_g (lw_at lw_m6 149 rfl) rfl
theorem q1477 : (Jvm.Cond.methodLink "RatSortersLaw" (99 : Nat) ({ cls := "RatSorters", name := "clean", desc := "()I" } : Jvm.MethodName)) ∈ lw_all := lw_g (lw_at lw_m6 165 rfl) rfl
theorem q1485 : (Jvm.Cond.methodLink "RatSortersLaw" (103 : Nat) ({ cls := "RatSorters", name := "then", desc := "(II)I" } : Jvm.MethodName)) ∈ lw_all := lw_g (lw_at lw_m6 173 rfl) rfl
theorem q1502 : (Jvm.Cond.methodLink "RatSortersLaw" (107 : Nat) ({ cls := "RatSorters", name := "lies", desc := "(III)I" } : Jvm.MethodName)) ∈ lw_all := lw_g (lw_at lw_m6 190 rfl) rfl
theorem q1506 : (Jvm.Cond.methodLink "RatSortersLaw" (112 : Nat) ({ cls := "RatSorters", name := "hire", desc := "(II)I" } : Jvm.MethodName)) ∈ lw_all := lw_g (lw_at lw_m6 194 rfl) rfl
theorem q1526 : (Jvm.Cond.methodLink "RatSortersLaw" (116 : Nat) ({ cls := "RatSorters", name := "taught", desc := "(II)I" } : Jvm.MethodName)) ∈ lw_all := lw_g (lw_at lw_m6 214 rfl) rfl
theorem q1543 : (Jvm.Cond.methodLink "RatSortersLaw" (120 : Nat) ({ cls := "RatSorters", name := "taughtAt", desc := "(III)I" } : Jvm.MethodName)) ∈ lw_all := lw_g (lw_at lw_m6 231 rfl) rfl
theorem q1547 : (Jvm.Cond.methodLink "RatSortersLaw" (124 : Nat) ({ cls := "RatSorters", name := "bestSwap", desc := "(I)I" } : Jvm.MethodName)) ∈ lw_all := lw_g (lw_at lw_m6 235 rfl) rfl
theorem q1552 : (Jvm.Cond.methodLink "RatSortersLaw" (128 : Nat) ({ cls := "RatSorters", name := "missed", desc := "(II)I" } : Jvm.MethodName)) ∈ lw_all := lw_g (lw_at lw_m7 0 rfl) rfl
theorem q1556 : (Jvm.Cond.methodLink "RatSortersLaw" (132 : Nat) ({ cls := "RatSorters", name := "catAt", desc := "(II)I" } : Jvm.MethodName)) ∈ lw_all := lw_g (lw_at lw_m7 4 rfl) rfl
theorem q1560 : (Jvm.Cond.methodLink "RatSortersLaw" (136 : Nat) ({ cls := "RatSorters", name := "starves", desc := "(I)I" } : Jvm.MethodName)) ∈ lw_all := lw_g (lw_at lw_m7 8 rfl) rfl
theorem q1564 : (Jvm.Cond.methodLink "RatSortersLaw" (140 : Nat) ({ cls := "RatSorters", name := "mean", desc := "(II)I" } : Jvm.MethodName)) ∈ lw_all := lw_g (lw_at lw_m7 12 rfl) rfl
theorem q1568 : (Jvm.Cond.methodLink "RatSortersLaw" (144 : Nat) ({ cls := "RatSorters", name := "sales", desc := "(I)I" } : Jvm.MethodName)) ∈ lw_all := lw_g (lw_at lw_m7 16 rfl) rfl
theorem q1576 : (Jvm.Cond.methodLink "RatSortersLaw" (148 : Nat) ({ cls := "RatSorters", name := "tell", desc := "(IIII)I" } : Jvm.MethodName)) ∈ lw_all := lw_g (lw_at lw_m7 24 rfl) rfl
theorem q1580 : (Jvm.Cond.methodLink "RatSortersLaw" (153 : Nat) ({ cls := "RatSorters", name := "forget", desc := "()I" } : Jvm.MethodName)) ∈ lw_all := lw_g (lw_at lw_m7 28 rfl) rfl
theorem q1584 : (Jvm.Cond.methodLink "RatSortersLaw" (157 : Nat) ({ cls := "RatSorters", name := "jokes", desc := "(II)I" } : Jvm.MethodName)) ∈ lw_all := lw_g (lw_at lw_m7 32 rfl) rfl
theorem q1592 : (Jvm.Cond.methodLink "RatSortersLaw" (161 : Nat) ({ cls := "RatSorters", name := "hold", desc := "(I)Z" } : Jvm.MethodName)) ∈ lw_all := lw_g (lw_at lw_m7 40 rfl) rfl
theorem q1596 : (Jvm.Cond.methodLink "RatSortersLaw" (165 : Nat) ({ cls := "RatSorters", name := "restore", desc := "(I)Z" } : Jvm.MethodName)) ∈ lw_all := lw_g (lw_at lw_m7 44 rfl) rfl
theorem q1600 : (Jvm.Cond.methodLink "RatSortersLaw" (169 : Nat) ({ cls := "RatSorters", name := "count", desc := "(I)I" } : Jvm.MethodName)) ∈ lw_all := lw_g (lw_at lw_m7 48 rfl) rfl
theorem q1608 : (Jvm.Cond.classLink "RatSortersLaw" (10 : Nat) "RatSortersModel") ∈ lw_all := lw_g (lw_at lw_m7 56 rfl) rfl
theorem q1610 : (Jvm.Cond.methodLink "RatSortersLaw" (12 : Nat) ({ cls := "RatSortersModel", name := "<init>", desc := "()V" } : Jvm.MethodName)) ∈ lw_all := lw_g (lw_at lw_m7 58 rfl) rfl
theorem q1863 : (Jvm.Cond.methodLink "RatSortersLaw" (17 : Nat) ({ cls := "RatSortersModel", name := "feed", desc := "(IIIII)I" } : Jvm.MethodName)) ∈ lw_all := lw_g (lw_at lw_m8 71 rfl) rfl
theorem q1871 : (Jvm.Cond.methodLink "RatSortersLaw" (22 : Nat) ({ cls := "RatSortersModel", name := "back", desc := "(I)I" } : Jvm.MethodName)) ∈ lw_all := lw_g (lw_at lw_m8 79 rfl) rfl
theorem q1875 : (Jvm.Cond.methodLink "RatSortersLaw" (27 : Nat) ({ cls := "RatSortersModel", name := "read", desc := "()I" } : Jvm.MethodName)) ∈ lw_all := lw_g (lw_at lw_m8 83 rfl) rfl
theorem q1985 : (Jvm.Cond.methodLink "RatSortersLaw" (31 : Nat) ({ cls := "RatSortersModel", name := "place", desc := "()I" } : Jvm.MethodName)) ∈ lw_all := lw_g (lw_at lw_m8 193 rfl) rfl
theorem q1989 : (Jvm.Cond.methodLink "RatSortersLaw" (35 : Nat) ({ cls := "RatSortersModel", name := "heap", desc := "(I)I" } : Jvm.MethodName)) ∈ lw_all := lw_g (lw_at lw_m8 197 rfl) rfl
theorem q2000 : (Jvm.Cond.methodLink "RatSortersLaw" (40 : Nat) ({ cls := "RatSortersModel", name := "hole", desc := "(II)I" } : Jvm.MethodName)) ∈ lw_all := lw_g (lw_at lw_m8 208 rfl) rfl
theorem q2008 : (Jvm.Cond.methodLink "RatSortersLaw" (44 : Nat) ({ cls := "RatSortersModel", name := "rat", desc := "(II)I" } : Jvm.MethodName)) ∈ lw_all := lw_g (lw_at lw_m8 216 rfl) rfl
theorem q2016 : (Jvm.Cond.methodLink "RatSortersLaw" (48 : Nat) ({ cls := "RatSortersModel", name := "worth", desc := "(I)I" } : Jvm.MethodName)) ∈ lw_all := lw_g (lw_at lw_m8 224 rfl) rfl
theorem q2028 : (Jvm.Cond.methodLink "RatSortersLaw" (53 : Nat) ({ cls := "RatSortersModel", name := "pure", desc := "(IZ)I" } : Jvm.MethodName)) ∈ lw_all := lw_g (lw_at lw_m8 236 rfl) rfl
theorem q2035 : (Jvm.Cond.methodLink "RatSortersLaw" (57 : Nat) ({ cls := "RatSortersModel", name := "minutes", desc := "(I)I" } : Jvm.MethodName)) ∈ lw_all := lw_g (lw_at lw_m9 3 rfl) rfl
theorem q2082 : (Jvm.Cond.methodLink "RatSortersLaw" (61 : Nat) ({ cls := "RatSortersModel", name := "pour", desc := "(II)I" } : Jvm.MethodName)) ∈ lw_all := lw_g (lw_at lw_m9 50 rfl) rfl
theorem q2086 : (Jvm.Cond.methodLink "RatSortersLaw" (66 : Nat) ({ cls := "RatSortersModel", name := "swap", desc := "(II)Z" } : Jvm.MethodName)) ∈ lw_all := lw_g (lw_at lw_m9 54 rfl) rfl
theorem q2094 : (Jvm.Cond.methodLink "RatSortersLaw" (70 : Nat) ({ cls := "RatSortersModel", name := "teach", desc := "(II)Z" } : Jvm.MethodName)) ∈ lw_all := lw_g (lw_at lw_m9 62 rfl) rfl
theorem q2098 : (Jvm.Cond.methodLink "RatSortersLaw" (75 : Nat) ({ cls := "RatSortersModel", name := "give", desc := "(III)Z" } : Jvm.MethodName)) ∈ lw_all := lw_g (lw_at lw_m9 66 rfl) rfl
theorem q2102 : (Jvm.Cond.methodLink "RatSortersLaw" (80 : Nat) ({ cls := "RatSortersModel", name := "send", desc := "(IZ)Z" } : Jvm.MethodName)) ∈ lw_all := lw_g (lw_at lw_m9 70 rfl) rfl
theorem q2110 : (Jvm.Cond.methodLink "RatSortersLaw" (84 : Nat) ({ cls := "RatSortersModel", name := "cat", desc := "(I)I" } : Jvm.MethodName)) ∈ lw_all := lw_g (lw_at lw_m9 78 rfl) rfl
theorem q2114 : (Jvm.Cond.methodLink "RatSortersLaw" (89 : Nat) ({ cls := "RatSortersModel", name := "sell", desc := "(I)Z" } : Jvm.MethodName)) ∈ lw_all := lw_g (lw_at lw_m9 82 rfl) rfl
theorem q2126 : (Jvm.Cond.methodLink "RatSortersLaw" (147 : Nat) ({ cls := "RatSortersModel", name := "sales", desc := "(I)I" } : Jvm.MethodName)) ∈ lw_all := lw_g (lw_at lw_m9 94 rfl) rfl
theorem q2134 : (Jvm.Cond.methodLink "RatSortersLaw" (94 : Nat) ({ cls := "RatSortersModel", name := "undo", desc := "()Z" } : Jvm.MethodName)) ∈ lw_all := lw_g (lw_at lw_m9 102 rfl) rfl
theorem q2138 : (Jvm.Cond.methodLink "RatSortersLaw" (98 : Nat) ({ cls := "RatSortersModel", name := "isClean", desc := "()Z" } : Jvm.MethodName)) ∈ lw_all := lw_g (lw_at lw_m9 106 rfl) rfl
theorem q2146 : (Jvm.Cond.methodLink "RatSortersLaw" (102 : Nat) ({ cls := "RatSortersModel", name := "clean", desc := "()I" } : Jvm.MethodName)) ∈ lw_all := lw_g (lw_at lw_m9 114 rfl) rfl
theorem q2154 : (Jvm.Cond.methodLink "RatSortersLaw" (106 : Nat) ({ cls := "RatSortersModel", name := "then", desc := "(II)I" } : Jvm.MethodName)) ∈ lw_all := lw_g (lw_at lw_m9 122 rfl) rfl
theorem q2173 : (Jvm.Cond.methodLink "RatSortersLaw" (111 : Nat) ({ cls := "RatSortersModel", name := "lies", desc := "(III)I" } : Jvm.MethodName)) ∈ lw_all := lw_g (lw_at lw_m9 141 rfl) rfl
theorem q2177 : (Jvm.Cond.methodLink "RatSortersLaw" (115 : Nat) ({ cls := "RatSortersModel", name := "hire", desc := "(II)I" } : Jvm.MethodName)) ∈ lw_all := lw_g (lw_at lw_m9 145 rfl) rfl
theorem q2192 : (Jvm.Cond.methodLink "RatSortersLaw" (119 : Nat) ({ cls := "RatSortersModel", name := "taught", desc := "(II)I" } : Jvm.MethodName)) ∈ lw_all := lw_g (lw_at lw_m9 160 rfl) rfl
theorem q2204 : (Jvm.Cond.methodLink "RatSortersLaw" (123 : Nat) ({ cls := "RatSortersModel", name := "taughtAt", desc := "(III)I" } : Jvm.MethodName)) ∈ lw_all := lw_g (lw_at lw_m9 172 rfl) rfl
theorem q2208 : (Jvm.Cond.methodLink "RatSortersLaw" (127 : Nat) ({ cls := "RatSortersModel", name := "bestSwap", desc := "(I)I" } : Jvm.MethodName)) ∈ lw_all := lw_g (lw_at lw_m9 176 rfl) rfl
theorem q2212 : (Jvm.Cond.methodLink "RatSortersLaw" (131 : Nat) ({ cls := "RatSortersModel", name := "missed", desc := "(II)I" } : Jvm.MethodName)) ∈ lw_all := lw_g (lw_at lw_m9 180 rfl) rfl
theorem q2216 : (Jvm.Cond.methodLink "RatSortersLaw" (135 : Nat) ({ cls := "RatSortersModel", name := "catAt", desc := "(II)I" } : Jvm.MethodName)) ∈ lw_all := lw_g (lw_at lw_m9 184 rfl) rfl
theorem q2220 : (Jvm.Cond.methodLink "RatSortersLaw" (139 : Nat) ({ cls := "RatSortersModel", name := "starves", desc := "(I)I" } : Jvm.MethodName)) ∈ lw_all := lw_g (lw_at lw_m9 188 rfl) rfl
theorem q2224 : (Jvm.Cond.methodLink "RatSortersLaw" (143 : Nat) ({ cls := "RatSortersModel", name := "mean", desc := "(II)I" } : Jvm.MethodName)) ∈ lw_all := lw_g (lw_at lw_m9 192 rfl) rfl
theorem q2228 : (Jvm.Cond.methodLink "RatSortersLaw" (152 : Nat) ({ cls := "RatSortersModel", name := "tell", desc := "(IIII)I" } : Jvm.MethodName)) ∈ lw_all := lw_g (lw_at lw_m9 196 rfl) rfl
theorem q2232 : (Jvm.Cond.methodLink "RatSortersLaw" (156 : Nat) ({ cls := "RatSortersModel", name := "forget", desc := "()I" } : Jvm.MethodName)) ∈ lw_all := lw_g (lw_at lw_m9 200 rfl) rfl
theorem q2236 : (Jvm.Cond.methodLink "RatSortersLaw" (160 : Nat) ({ cls := "RatSortersModel", name := "jokes", desc := "(II)I" } : Jvm.MethodName)) ∈ lw_all := lw_g (lw_at lw_m9 204 rfl) rfl
theorem q2244 : (Jvm.Cond.methodLink "RatSortersLaw" (164 : Nat) ({ cls := "RatSortersModel", name := "hold", desc := "(I)Z" } : Jvm.MethodName)) ∈ lw_all := lw_g (lw_at lw_m9 212 rfl) rfl
theorem q2248 : (Jvm.Cond.methodLink "RatSortersLaw" (168 : Nat) ({ cls := "RatSortersModel", name := "restore", desc := "(I)Z" } : Jvm.MethodName)) ∈ lw_all := lw_g (lw_at lw_m9 216 rfl) rfl
theorem q2252 : (Jvm.Cond.methodLink "RatSortersLaw" (172 : Nat) ({ cls := "RatSortersModel", name := "count", desc := "(I)I" } : Jvm.MethodName)) ∈ lw_all := lw_g (lw_at lw_m9 220 rfl) rfl
theorem q856 : (Jvm.Cond.sameMethod "[B" "java/lang/Object" "clone" "()Ljava/lang/Object;") ∈ lw_all := lw_g (lw_at lw_m4 24 rfl) rfl
set_option maxRecDepth 100000
theorem q859 : (Jvm.Cond.selects "[B" ({ cls := "[B", name := "clone", desc := "()Ljava/lang/Object;" } : Jvm.MethodName) ({ cls := "java/lang/Object", name := "clone", desc := "()Ljava/lang/Object;" } : Jvm.MethodName)) ∈ lw_all := lw_g (lw_at lw_m4 27 rfl) rfl
theorem q860 : (Jvm.Cond.castable "[B" "java/lang/Cloneable") ∈ lw_tbl := lw_at lw_m4 28 rfl
theorem q2300 : (Jvm.Cond.castable "[B" "java/lang/Object") ∈ lw_tbl := lw_at lw_m10 28 rfl
theorem q2304 : (Jvm.Cond.castable "[I" "java/lang/Object") ∈ lw_tbl := lw_at lw_m10 32 rfl
set_option maxRecDepth 100000
theorem q2310 : (Jvm.Cond.castable "[J" "java/lang/Object") ∈ lw_tbl := lw_at lw_m10 38 rfl
set_option maxRecDepth 100000
theorem q2305 : (Jvm.Cond.castable "[LRatSorters$Doing;" "java/lang/Object") ∈ lw_tbl := lw_at lw_m10 33 rfl
set_option maxRecDepth 100000
theorem q2306 : (Jvm.Cond.castable "[LRatSorters$House;" "java/lang/Object") ∈ lw_tbl := lw_at lw_m10 34 rfl
set_option maxRecDepth 100000
theorem q2309 : (Jvm.Cond.castable "[LRatSorters$Sum;" "java/lang/Object") ∈ lw_tbl := lw_at lw_m10 37 rfl
set_option maxRecDepth 100000
theorem q2297 : (Jvm.Cond.sameMethod "[Ljava/lang/Object;" "java/lang/Object" "getClass" "()Ljava/lang/Class;") ∈ lw_all := lw_g (lw_at lw_m10 25 rfl) rfl
set_option maxRecDepth 100000
theorem q2298 : (Jvm.Cond.selects "[Ljava/lang/Object;" ({ cls := "java/lang/Object", name := "getClass", desc := "()Ljava/lang/Class;" } : Jvm.MethodName) ({ cls := "java/lang/Object", name := "getClass", desc := "()Ljava/lang/Class;" } : Jvm.MethodName)) ∈ lw_all := lw_g (lw_at lw_m10 26 rfl) rfl
theorem q2308 : (Jvm.Cond.castable "[Ljava/lang/Object;" "java/lang/Object") ∈ lw_tbl := lw_at lw_m10 36 rfl
theorem q2301 : (Jvm.Cond.castable "[Ljava/lang/String;" "java/lang/Object") ∈ lw_tbl := lw_at lw_m10 29 rfl
set_option maxRecDepth 100000
theorem q2302 : (Jvm.Cond.castable "[S" "java/lang/Object") ∈ lw_tbl := lw_at lw_m10 30 rfl
set_option maxRecDepth 100000
theorem q2307 : (Jvm.Cond.castable "[Z" "java/lang/Object") ∈ lw_tbl := lw_at lw_m10 35 rfl
set_option maxRecDepth 100000
theorem q2303 : (Jvm.Cond.castable "[[I" "java/lang/Object") ∈ lw_tbl := lw_at lw_m10 31 rfl
set_option maxRecDepth 100000
theorem q144 : (Jvm.Cond.initialized "java/lang/System") ∈ lw_all := lw_g (lw_at lw_m1 32 rfl) rfl
set_option maxRecDepth 100000
theorem q866 : (Jvm.Cond.static ({ cls := "java/lang/System", name := "arraycopy", desc := "(Ljava/lang/Object;ILjava/lang/Object;II)V" } : Jvm.MethodName)) ∈ lw_all := lw_g (lw_at lw_m4 34 rfl) rfl
theorem q867 : (Jvm.Cond.native ({ cls := "java/lang/System", name := "arraycopy", desc := "(Ljava/lang/Object;ILjava/lang/Object;II)V" } : Jvm.MethodName)) ∈ lw_all := lw_g (lw_at lw_m4 35 rfl) rfl
theorem q235 : (Jvm.Cond.arrayClass Jvm.ClassFile.FieldType.byte) ∈ lw_all := lw_g (lw_at lw_m1 123 rfl) rfl
set_option maxRecDepth 100000
theorem q243 : (Jvm.Cond.arrayOver (Jvm.ClassFile.FieldType.object "java/lang/String")) ∈ lw_tbl := lw_at lw_m1 131 rfl
theorem q294 : (Jvm.Cond.arrayClass Jvm.ClassFile.FieldType.short) ∈ lw_all := lw_g (lw_at lw_m1 182 rfl) rfl
theorem q413 : (Jvm.Cond.arrayOver (Jvm.ClassFile.FieldType.array Jvm.ClassFile.FieldType.int)) ∈ lw_tbl := lw_at lw_m2 61 rfl
theorem q430 : (Jvm.Cond.arrayClass Jvm.ClassFile.FieldType.int) ∈ lw_all := lw_g (lw_at lw_m2 78 rfl) rfl
theorem q432 : (Jvm.Cond.arrayOver (Jvm.ClassFile.FieldType.object "RatSorters$Doing")) ∈ lw_tbl := lw_at lw_m2 80 rfl
theorem q560 : (Jvm.Cond.arrayOver (Jvm.ClassFile.FieldType.object "RatSorters$House")) ∈ lw_tbl := lw_at lw_m2 208 rfl
theorem q656 : (Jvm.Cond.arrayClass Jvm.ClassFile.FieldType.boolean) ∈ lw_all := lw_g (lw_at lw_m3 64 rfl) rfl
theorem q1059 : (Jvm.Cond.arrayOver (Jvm.ClassFile.FieldType.object "java/lang/Object")) ∈ lw_tbl := lw_at lw_m4 227 rfl
theorem q1120 : (Jvm.Cond.arrayOver (Jvm.ClassFile.FieldType.object "RatSorters$Sum")) ∈ lw_tbl := lw_at lw_m5 48 rfl
theorem q1862 : (Jvm.Cond.arrayClass Jvm.ClassFile.FieldType.long) ∈ lw_all := lw_g (lw_at lw_m8 70 rfl) rfl
