section
theorem q147 : (Jvm.Cond.initialized "BallotFruitLaw") ∈ lw_all := lw_g (lw_at lw_m1 0 rfl) rfl
set_option maxRecDepth 100000
theorem q183 : (Jvm.Cond.classLink "BallotFruitLaw" (7 : Nat) "BallotFruit") ∈ lw_all := lw_g (lw_at lw_m1 36 rfl) rfl
theorem q185 : (Jvm.Cond.methodLink "BallotFruitLaw" (9 : Nat) ({ cls := "BallotFruit", name := "<init>", desc := "()V" } : Jvm.MethodName)) ∈ lw_all := lw_g (lw_at lw_m1 38 rfl) rfl
theorem q461 : (Jvm.Cond.methodLink "BallotFruitLaw" (54 : Nat) ({ cls := "BallotFruit", name := "feed", desc := "(IIIII)I" } : Jvm.MethodName)) ∈ lw_all := lw_g (lw_at lw_m2 74 rfl) rfl
theorem q469 : (Jvm.Cond.methodLink "BallotFruitLaw" (59 : Nat) ({ cls := "BallotFruit", name := "end", desc := "(I)Z" } : Jvm.MethodName)) ∈ lw_all := lw_g (lw_at lw_m2 82 rfl) rfl
theorem q476 : (Jvm.Cond.methodLink "BallotFruitLaw" (64 : Nat) ({ cls := "BallotFruit", name := "text", desc := "(I)I" } : Jvm.MethodName)) ∈ lw_all := lw_g (lw_at lw_m2 89 rfl) rfl
theorem q970 : (Jvm.Cond.methodLink "BallotFruitLaw" (68 : Nat) ({ cls := "BallotFruit", name := "fault", desc := "(I)I" } : Jvm.MethodName)) ∈ lw_all := lw_g (lw_at lw_m4 103 rfl) rfl
theorem q974 : (Jvm.Cond.methodLink "BallotFruitLaw" (144 : Nat) ({ cls := "BallotFruit", name := "undo", desc := "()Z" } : Jvm.MethodName)) ∈ lw_all := lw_g (lw_at lw_m4 107 rfl) rfl
theorem q994 : (Jvm.Cond.methodLink "BallotFruitLaw" (13 : Nat) ({ cls := "BallotFruit", name := "state", desc := "(I)I" } : Jvm.MethodName)) ∈ lw_all := lw_g (lw_at lw_m4 127 rfl) rfl
theorem q998 : (Jvm.Cond.methodLink "BallotFruitLaw" (18 : Nat) ({ cls := "BallotFruit", name := "party", desc := "(I)I" } : Jvm.MethodName)) ∈ lw_all := lw_g (lw_at lw_m4 131 rfl) rfl
theorem q1002 : (Jvm.Cond.methodLink "BallotFruitLaw" (22 : Nat) ({ cls := "BallotFruit", name := "eater", desc := "(I)I" } : Jvm.MethodName)) ∈ lw_all := lw_g (lw_at lw_m4 135 rfl) rfl
theorem q1006 : (Jvm.Cond.methodLink "BallotFruitLaw" (26 : Nat) ({ cls := "BallotFruit", name := "taste", desc := "(III)Z" } : Jvm.MethodName)) ∈ lw_all := lw_g (lw_at lw_m4 139 rfl) rfl
theorem q1018 : (Jvm.Cond.methodLink "BallotFruitLaw" (31 : Nat) ({ cls := "BallotFruit", name := "set", desc := "(III)Z" } : Jvm.MethodName)) ∈ lw_all := lw_g (lw_at lw_m4 151 rfl) rfl
theorem q1026 : (Jvm.Cond.methodLink "BallotFruitLaw" (35 : Nat) ({ cls := "BallotFruit", name := "plant", desc := "(III)I" } : Jvm.MethodName)) ∈ lw_all := lw_g (lw_at lw_m4 159 rfl) rfl
theorem q1045 : (Jvm.Cond.methodLink "BallotFruitLaw" (40 : Nat) ({ cls := "BallotFruit", name := "fence", desc := "(IZ)Z" } : Jvm.MethodName)) ∈ lw_all := lw_g (lw_at lw_m4 178 rfl) rfl
theorem q1057 : (Jvm.Cond.methodLink "BallotFruitLaw" (45 : Nat) ({ cls := "BallotFruit", name := "boil", desc := "(II)I" } : Jvm.MethodName)) ∈ lw_all := lw_g (lw_at lw_m4 190 rfl) rfl
theorem q1066 : (Jvm.Cond.methodLink "BallotFruitLaw" (50 : Nat) ({ cls := "BallotFruit", name := "weeks", desc := "(I)I" } : Jvm.MethodName)) ∈ lw_all := lw_g (lw_at lw_m4 199 rfl) rfl
theorem q1231 : (Jvm.Cond.methodLink "BallotFruitLaw" (72 : Nat) ({ cls := "BallotFruit", name := "of", desc := "(II)I" } : Jvm.MethodName)) ∈ lw_all := lw_g (lw_at lw_m5 124 rfl) rfl
theorem q1239 : (Jvm.Cond.methodLink "BallotFruitLaw" (76 : Nat) ({ cls := "BallotFruit", name := "tree", desc := "(II)I" } : Jvm.MethodName)) ∈ lw_all := lw_g (lw_at lw_m5 132 rfl) rfl
theorem q1244 : (Jvm.Cond.methodLink "BallotFruitLaw" (80 : Nat) ({ cls := "BallotFruit", name := "who", desc := "(II)I" } : Jvm.MethodName)) ∈ lw_all := lw_g (lw_at lw_m5 137 rfl) rfl
theorem q1253 : (Jvm.Cond.methodLink "BallotFruitLaw" (84 : Nat) ({ cls := "BallotFruit", name := "at", desc := "(I)I" } : Jvm.MethodName)) ∈ lw_all := lw_g (lw_at lw_m5 146 rfl) rfl
theorem q1257 : (Jvm.Cond.methodLink "BallotFruitLaw" (88 : Nat) ({ cls := "BallotFruit", name := "book", desc := "(II)I" } : Jvm.MethodName)) ∈ lw_all := lw_g (lw_at lw_m5 150 rfl) rfl
theorem q1261 : (Jvm.Cond.methodLink "BallotFruitLaw" (92 : Nat) ({ cls := "BallotFruit", name := "goes", desc := "(III)I" } : Jvm.MethodName)) ∈ lw_all := lw_g (lw_at lw_m5 154 rfl) rfl
theorem q1274 : (Jvm.Cond.methodLink "BallotFruitLaw" (96 : Nat) ({ cls := "BallotFruit", name := "falls", desc := "(I)I" } : Jvm.MethodName)) ∈ lw_all := lw_g (lw_at lw_m5 167 rfl) rfl
theorem q1279 : (Jvm.Cond.methodLink "BallotFruitLaw" (100 : Nat) ({ cls := "BallotFruit", name := "brings", desc := "(III)I" } : Jvm.MethodName)) ∈ lw_all := lw_g (lw_at lw_m5 172 rfl) rfl
theorem q1283 : (Jvm.Cond.methodLink "BallotFruitLaw" (104 : Nat) ({ cls := "BallotFruit", name := "swings", desc := "(II)I" } : Jvm.MethodName)) ∈ lw_all := lw_g (lw_at lw_m5 176 rfl) rfl
theorem q1292 : (Jvm.Cond.methodLink "BallotFruitLaw" (108 : Nat) ({ cls := "BallotFruit", name := "feeds", desc := "(I)I" } : Jvm.MethodName)) ∈ lw_all := lw_g (lw_at lw_m5 185 rfl) rfl
theorem q1314 : (Jvm.Cond.methodLink "BallotFruitLaw" (112 : Nat) ({ cls := "BallotFruit", name := "core", desc := "(II)I" } : Jvm.MethodName)) ∈ lw_all := lw_g (lw_at lw_m5 207 rfl) rfl
theorem q1318 : (Jvm.Cond.methodLink "BallotFruitLaw" (116 : Nat) ({ cls := "BallotFruit", name := "whose", desc := "(I)I" } : Jvm.MethodName)) ∈ lw_all := lw_g (lw_at lw_m5 211 rfl) rfl
theorem q1331 : (Jvm.Cond.methodLink "BallotFruitLaw" (120 : Nat) ({ cls := "BallotFruit", name := "left", desc := "(I)I" } : Jvm.MethodName)) ∈ lw_all := lw_g (lw_at lw_m5 224 rfl) rfl
theorem q1336 : (Jvm.Cond.methodLink "BallotFruitLaw" (124 : Nat) ({ cls := "BallotFruit", name := "rules", desc := "(I)I" } : Jvm.MethodName)) ∈ lw_all := lw_g (lw_at lw_m5 229 rfl) rfl
theorem q1348 : (Jvm.Cond.methodLink "BallotFruitLaw" (128 : Nat) ({ cls := "BallotFruit", name := "weighs", desc := "(I)I" } : Jvm.MethodName)) ∈ lw_all := lw_g (lw_at lw_m6 1 rfl) rfl
theorem q1352 : (Jvm.Cond.methodLink "BallotFruitLaw" (132 : Nat) ({ cls := "BallotFruit", name := "lasts", desc := "(I)I" } : Jvm.MethodName)) ∈ lw_all := lw_g (lw_at lw_m6 5 rfl) rfl
theorem q1356 : (Jvm.Cond.methodLink "BallotFruitLaw" (136 : Nat) ({ cls := "BallotFruit", name := "meets", desc := "(II)I" } : Jvm.MethodName)) ∈ lw_all := lw_g (lw_at lw_m6 9 rfl) rfl
theorem q1360 : (Jvm.Cond.methodLink "BallotFruitLaw" (140 : Nat) ({ cls := "BallotFruit", name := "game", desc := "(I)I" } : Jvm.MethodName)) ∈ lw_all := lw_g (lw_at lw_m6 13 rfl) rfl
theorem q1364 : (Jvm.Cond.methodLink "BallotFruitLaw" (149 : Nat) ({ cls := "BallotFruit", name := "image", desc := "(Z)Z" } : Jvm.MethodName)) ∈ lw_all := lw_g (lw_at lw_m6 17 rfl) rfl
theorem q1373 : (Jvm.Cond.methodLink "BallotFruitLaw" (154 : Nat) ({ cls := "BallotFruit", name := "look", desc := "(I)I" } : Jvm.MethodName)) ∈ lw_all := lw_g (lw_at lw_m6 26 rfl) rfl
theorem q1377 : (Jvm.Cond.classLink "BallotFruitLaw" (10 : Nat) "BallotFruitModel") ∈ lw_all := lw_g (lw_at lw_m6 30 rfl) rfl
theorem q1379 : (Jvm.Cond.methodLink "BallotFruitLaw" (12 : Nat) ({ cls := "BallotFruitModel", name := "<init>", desc := "()V" } : Jvm.MethodName)) ∈ lw_all := lw_g (lw_at lw_m6 32 rfl) rfl
theorem q1552 : (Jvm.Cond.methodLink "BallotFruitLaw" (148 : Nat) ({ cls := "BallotFruitModel", name := "undo", desc := "()Z" } : Jvm.MethodName)) ∈ lw_all := lw_g (lw_at lw_m6 205 rfl) rfl
theorem q1556 : (Jvm.Cond.methodLink "BallotFruitLaw" (17 : Nat) ({ cls := "BallotFruitModel", name := "state", desc := "(I)I" } : Jvm.MethodName)) ∈ lw_all := lw_g (lw_at lw_m6 209 rfl) rfl
theorem q1560 : (Jvm.Cond.methodLink "BallotFruitLaw" (21 : Nat) ({ cls := "BallotFruitModel", name := "party", desc := "(I)I" } : Jvm.MethodName)) ∈ lw_all := lw_g (lw_at lw_m6 213 rfl) rfl
theorem q1568 : (Jvm.Cond.methodLink "BallotFruitLaw" (25 : Nat) ({ cls := "BallotFruitModel", name := "eater", desc := "(I)I" } : Jvm.MethodName)) ∈ lw_all := lw_g (lw_at lw_m6 221 rfl) rfl
theorem q1572 : (Jvm.Cond.methodLink "BallotFruitLaw" (30 : Nat) ({ cls := "BallotFruitModel", name := "taste", desc := "(III)Z" } : Jvm.MethodName)) ∈ lw_all := lw_g (lw_at lw_m6 225 rfl) rfl
theorem q1592 : (Jvm.Cond.methodLink "BallotFruitLaw" (34 : Nat) ({ cls := "BallotFruitModel", name := "set", desc := "(III)Z" } : Jvm.MethodName)) ∈ lw_all := lw_g (lw_at lw_m7 5 rfl) rfl
theorem q1604 : (Jvm.Cond.methodLink "BallotFruitLaw" (58 : Nat) ({ cls := "BallotFruitModel", name := "feed", desc := "(IIIII)I" } : Jvm.MethodName)) ∈ lw_all := lw_g (lw_at lw_m7 17 rfl) rfl
theorem q1612 : (Jvm.Cond.methodLink "BallotFruitLaw" (63 : Nat) ({ cls := "BallotFruitModel", name := "end", desc := "(I)Z" } : Jvm.MethodName)) ∈ lw_all := lw_g (lw_at lw_m7 25 rfl) rfl
theorem q1616 : (Jvm.Cond.methodLink "BallotFruitLaw" (67 : Nat) ({ cls := "BallotFruitModel", name := "text", desc := "(I)I" } : Jvm.MethodName)) ∈ lw_all := lw_g (lw_at lw_m7 29 rfl) rfl
theorem q1744 : (Jvm.Cond.methodLink "BallotFruitLaw" (71 : Nat) ({ cls := "BallotFruitModel", name := "fault", desc := "(I)I" } : Jvm.MethodName)) ∈ lw_all := lw_g (lw_at lw_m7 157 rfl) rfl
theorem q1748 : (Jvm.Cond.methodLink "BallotFruitLaw" (39 : Nat) ({ cls := "BallotFruitModel", name := "plant", desc := "(III)I" } : Jvm.MethodName)) ∈ lw_all := lw_g (lw_at lw_m7 161 rfl) rfl
theorem q1768 : (Jvm.Cond.methodLink "BallotFruitLaw" (44 : Nat) ({ cls := "BallotFruitModel", name := "fence", desc := "(IZ)Z" } : Jvm.MethodName)) ∈ lw_all := lw_g (lw_at lw_m7 181 rfl) rfl
theorem q1784 : (Jvm.Cond.methodLink "BallotFruitLaw" (49 : Nat) ({ cls := "BallotFruitModel", name := "boil", desc := "(II)I" } : Jvm.MethodName)) ∈ lw_all := lw_g (lw_at lw_m7 197 rfl) rfl
theorem q1796 : (Jvm.Cond.methodLink "BallotFruitLaw" (53 : Nat) ({ cls := "BallotFruitModel", name := "weeks", desc := "(I)I" } : Jvm.MethodName)) ∈ lw_all := lw_g (lw_at lw_m7 209 rfl) rfl
theorem q1910 : (Jvm.Cond.methodLink "BallotFruitLaw" (75 : Nat) ({ cls := "BallotFruitModel", name := "of", desc := "(II)I" } : Jvm.MethodName)) ∈ lw_all := lw_g (lw_at lw_m8 83 rfl) rfl
theorem q1914 : (Jvm.Cond.methodLink "BallotFruitLaw" (79 : Nat) ({ cls := "BallotFruitModel", name := "tree", desc := "(II)I" } : Jvm.MethodName)) ∈ lw_all := lw_g (lw_at lw_m8 87 rfl) rfl
theorem q1918 : (Jvm.Cond.methodLink "BallotFruitLaw" (83 : Nat) ({ cls := "BallotFruitModel", name := "who", desc := "(II)I" } : Jvm.MethodName)) ∈ lw_all := lw_g (lw_at lw_m8 91 rfl) rfl
theorem q1922 : (Jvm.Cond.methodLink "BallotFruitLaw" (87 : Nat) ({ cls := "BallotFruitModel", name := "at", desc := "(I)I" } : Jvm.MethodName)) ∈ lw_all := lw_g (lw_at lw_m8 95 rfl) rfl
theorem q1926 : (Jvm.Cond.methodLink "BallotFruitLaw" (91 : Nat) ({ cls := "BallotFruitModel", name := "book", desc := "(II)I" } : Jvm.MethodName)) ∈ lw_all := lw_g (lw_at lw_m8 99 rfl) rfl
theorem q1930 : (Jvm.Cond.methodLink "BallotFruitLaw" (95 : Nat) ({ cls := "BallotFruitModel", name := "goes", desc := "(III)I" } : Jvm.MethodName)) ∈ lw_all := lw_g (lw_at lw_m8 103 rfl) rfl
theorem q1950 : (Jvm.Cond.methodLink "BallotFruitLaw" (99 : Nat) ({ cls := "BallotFruitModel", name := "falls", desc := "(I)I" } : Jvm.MethodName)) ∈ lw_all := lw_g (lw_at lw_m8 123 rfl) rfl
theorem q1954 : (Jvm.Cond.methodLink "BallotFruitLaw" (103 : Nat) ({ cls := "BallotFruitModel", name := "brings", desc := "(III)I" } : Jvm.MethodName)) ∈ lw_all := lw_g (lw_at lw_m8 127 rfl) rfl
theorem q1962 : (Jvm.Cond.methodLink "BallotFruitLaw" (107 : Nat) ({ cls := "BallotFruitModel", name := "swings", desc := "(II)I" } : Jvm.MethodName)) ∈ lw_all := lw_g (lw_at lw_m8 135 rfl) rfl
theorem q1970 : (Jvm.Cond.methodLink "BallotFruitLaw" (111 : Nat) ({ cls := "BallotFruitModel", name := "feeds", desc := "(I)I" } : Jvm.MethodName)) ∈ lw_all := lw_g (lw_at lw_m8 143 rfl) rfl
theorem q1986 : (Jvm.Cond.methodLink "BallotFruitLaw" (115 : Nat) ({ cls := "BallotFruitModel", name := "core", desc := "(II)I" } : Jvm.MethodName)) ∈ lw_all := lw_g (lw_at lw_m8 159 rfl) rfl
theorem q1990 : (Jvm.Cond.methodLink "BallotFruitLaw" (119 : Nat) ({ cls := "BallotFruitModel", name := "whose", desc := "(I)I" } : Jvm.MethodName)) ∈ lw_all := lw_g (lw_at lw_m8 163 rfl) rfl
theorem q2003 : (Jvm.Cond.methodLink "BallotFruitLaw" (123 : Nat) ({ cls := "BallotFruitModel", name := "left", desc := "(I)I" } : Jvm.MethodName)) ∈ lw_all := lw_g (lw_at lw_m8 176 rfl) rfl
theorem q2008 : (Jvm.Cond.methodLink "BallotFruitLaw" (127 : Nat) ({ cls := "BallotFruitModel", name := "rules", desc := "(I)I" } : Jvm.MethodName)) ∈ lw_all := lw_g (lw_at lw_m8 181 rfl) rfl
theorem q2020 : (Jvm.Cond.methodLink "BallotFruitLaw" (131 : Nat) ({ cls := "BallotFruitModel", name := "weighs", desc := "(I)I" } : Jvm.MethodName)) ∈ lw_all := lw_g (lw_at lw_m8 193 rfl) rfl
theorem q2024 : (Jvm.Cond.methodLink "BallotFruitLaw" (135 : Nat) ({ cls := "BallotFruitModel", name := "lasts", desc := "(I)I" } : Jvm.MethodName)) ∈ lw_all := lw_g (lw_at lw_m8 197 rfl) rfl
theorem q2028 : (Jvm.Cond.methodLink "BallotFruitLaw" (139 : Nat) ({ cls := "BallotFruitModel", name := "meets", desc := "(II)I" } : Jvm.MethodName)) ∈ lw_all := lw_g (lw_at lw_m8 201 rfl) rfl
theorem q2032 : (Jvm.Cond.methodLink "BallotFruitLaw" (143 : Nat) ({ cls := "BallotFruitModel", name := "game", desc := "(I)I" } : Jvm.MethodName)) ∈ lw_all := lw_g (lw_at lw_m8 205 rfl) rfl
theorem q2036 : (Jvm.Cond.methodLink "BallotFruitLaw" (153 : Nat) ({ cls := "BallotFruitModel", name := "image", desc := "(Z)Z" } : Jvm.MethodName)) ∈ lw_all := lw_g (lw_at lw_m8 209 rfl) rfl
theorem q2052 : (Jvm.Cond.methodLink "BallotFruitLaw" (157 : Nat) ({ cls := "BallotFruitModel", name := "look", desc := "(I)I" } : Jvm.MethodName)) ∈ lw_all := lw_g (lw_at lw_m8 225 rfl) rfl
end

section
theorem q1158 : (Jvm.Cond.interfaceMethod "BallotFruit$Asker" "BallotFruit$Asker" "fact" "(I)I") ∈ lw_tbl := lw_at lw_m5 51 rfl
set_option maxRecDepth 100000
theorem q1159 : (Jvm.Cond.declares ({ cls := "BallotFruit$Asker", name := "fact", desc := "(I)I" } : Jvm.MethodName)) ∈ lw_tbl := lw_at lw_m5 52 rfl
end

section
theorem q2091 : (Jvm.Cond.castable "[B" "java/lang/Object") ∈ lw_tbl := lw_at lw_m9 24 rfl
set_option maxRecDepth 100000
end

section
theorem q2092 : (Jvm.Cond.castable "[I" "java/lang/Object") ∈ lw_tbl := lw_at lw_m9 25 rfl
set_option maxRecDepth 100000
end

section
theorem q2093 : (Jvm.Cond.castable "[LBallotFruit$Commune;" "java/lang/Object") ∈ lw_tbl := lw_at lw_m9 26 rfl
set_option maxRecDepth 100000
end

section
theorem q2088 : (Jvm.Cond.castable "[LBallotFruit$Eater;" "java/lang/Object") ∈ lw_tbl := lw_at lw_m9 21 rfl
set_option maxRecDepth 100000
end

section
theorem q2086 : (Jvm.Cond.castable "[LBallotFruit$Party;" "java/lang/Object") ∈ lw_tbl := lw_at lw_m9 19 rfl
set_option maxRecDepth 100000
end

section
theorem q2090 : (Jvm.Cond.castable "[LBallotFruit$Path;" "java/lang/Object") ∈ lw_tbl := lw_at lw_m9 23 rfl
set_option maxRecDepth 100000
end

section
theorem q2087 : (Jvm.Cond.castable "[LBallotFruit$Tree;" "java/lang/Object") ∈ lw_tbl := lw_at lw_m9 20 rfl
set_option maxRecDepth 100000
end

section
theorem q2083 : (Jvm.Cond.sameMethod "[Ljava/lang/Object;" "java/lang/Object" "getClass" "()Ljava/lang/Class;") ∈ lw_all := lw_g (lw_at lw_m9 16 rfl) rfl
set_option maxRecDepth 100000
theorem q2084 : (Jvm.Cond.selects "[Ljava/lang/Object;" ({ cls := "java/lang/Object", name := "getClass", desc := "()Ljava/lang/Class;" } : Jvm.MethodName) ({ cls := "java/lang/Object", name := "getClass", desc := "()Ljava/lang/Class;" } : Jvm.MethodName)) ∈ lw_all := lw_g (lw_at lw_m9 17 rfl) rfl
theorem q2094 : (Jvm.Cond.castable "[Ljava/lang/Object;" "java/lang/Object") ∈ lw_tbl := lw_at lw_m9 27 rfl
end

section
theorem q2089 : (Jvm.Cond.castable "[[I" "java/lang/Object") ∈ lw_tbl := lw_at lw_m9 22 rfl
set_option maxRecDepth 100000
end

section
theorem q175 : (Jvm.Cond.initialized "java/lang/System") ∈ lw_all := lw_g (lw_at lw_m1 28 rfl) rfl
set_option maxRecDepth 100000
theorem q878 : (Jvm.Cond.static ({ cls := "java/lang/System", name := "arraycopy", desc := "(Ljava/lang/Object;ILjava/lang/Object;II)V" } : Jvm.MethodName)) ∈ lw_all := lw_g (lw_at lw_m4 11 rfl) rfl
theorem q879 : (Jvm.Cond.native ({ cls := "java/lang/System", name := "arraycopy", desc := "(Ljava/lang/Object;ILjava/lang/Object;II)V" } : Jvm.MethodName)) ∈ lw_all := lw_g (lw_at lw_m4 12 rfl) rfl
end

section
theorem q198 : (Jvm.Cond.arrayOver (Jvm.ClassFile.FieldType.object "BallotFruit$Party")) ∈ lw_tbl := lw_at lw_m1 51 rfl
set_option maxRecDepth 100000
theorem q200 : (Jvm.Cond.arrayOver (Jvm.ClassFile.FieldType.object "BallotFruit$Tree")) ∈ lw_tbl := lw_at lw_m1 53 rfl
theorem q202 : (Jvm.Cond.arrayOver (Jvm.ClassFile.FieldType.object "BallotFruit$Eater")) ∈ lw_tbl := lw_at lw_m1 55 rfl
theorem q204 : (Jvm.Cond.arrayOver (Jvm.ClassFile.FieldType.array Jvm.ClassFile.FieldType.int)) ∈ lw_tbl := lw_at lw_m1 57 rfl
theorem q206 : (Jvm.Cond.arrayOver (Jvm.ClassFile.FieldType.object "BallotFruit$Path")) ∈ lw_tbl := lw_at lw_m1 59 rfl
theorem q233 : (Jvm.Cond.arrayClass Jvm.ClassFile.FieldType.byte) ∈ lw_all := lw_g (lw_at lw_m1 86 rfl) rfl
theorem q234 : (Jvm.Cond.arrayClass Jvm.ClassFile.FieldType.int) ∈ lw_all := lw_g (lw_at lw_m1 87 rfl) rfl
theorem q423 : (Jvm.Cond.arrayOver (Jvm.ClassFile.FieldType.object "BallotFruit$Commune")) ∈ lw_tbl := lw_at lw_m2 36 rfl
theorem q872 : (Jvm.Cond.arrayOver (Jvm.ClassFile.FieldType.object "java/lang/Object")) ∈ lw_tbl := lw_at lw_m4 5 rfl
end
