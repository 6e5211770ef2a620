theorem q104 : (Jvm.Cond.initialized "FrostRingLaw") ∈ lw_all := lw_g (lw_at lw_m1 0 rfl) rfl
set_option maxRecDepth 100000
theorem q141 : (Jvm.Cond.methodLink "FrostRingLaw" (148 : Nat) ({ cls := "FrostRing", name := "row", desc := "(III)I" } : Jvm.MethodName)) ∈ lw_all := lw_g (lw_at lw_m1 37 rfl) rfl
theorem q247 : (Jvm.Cond.methodLink "FrostRingLaw" (154 : Nat) ({ cls := "FrostRing", name := "write", desc := "(IIJ)I" } : Jvm.MethodName)) ∈ lw_all := lw_g (lw_at lw_m1 143 rfl) rfl
theorem q326 : (Jvm.Cond.methodLink "FrostRingLaw" (159 : Nat) ({ cls := "FrostRing", name := "paste", desc := "(IIIII)I" } : Jvm.MethodName)) ∈ lw_all := lw_g (lw_at lw_m1 222 rfl) rfl
theorem q342 : (Jvm.Cond.classLink "FrostRingLaw" (7 : Nat) "FrostRing") ∈ lw_all := lw_g (lw_at lw_m1 238 rfl) rfl
theorem q344 : (Jvm.Cond.methodLink "FrostRingLaw" (9 : Nat) ({ cls := "FrostRing", name := "<init>", desc := "()V" } : Jvm.MethodName)) ∈ lw_all := lw_g (lw_at lw_m2 0 rfl) rfl
theorem q789 : (Jvm.Cond.methodLink "FrostRingLaw" (13 : Nat) ({ cls := "FrostRing", name := "feed", desc := "(IIIII)I" } : Jvm.MethodName)) ∈ lw_all := lw_g (lw_at lw_m3 205 rfl) rfl
theorem q797 : (Jvm.Cond.methodLink "FrostRingLaw" (18 : Nat) ({ cls := "FrostRing", name := "end", desc := "(I)I" } : Jvm.MethodName)) ∈ lw_all := lw_g (lw_at lw_m3 213 rfl) rfl
theorem q801 : (Jvm.Cond.methodLink "FrostRingLaw" (23 : Nat) ({ cls := "FrostRing", name := "text", desc := "()I" } : Jvm.MethodName)) ∈ lw_all := lw_g (lw_at lw_m3 217 rfl) rfl
theorem q1095 : (Jvm.Cond.methodLink "FrostRingLaw" (28 : Nat) ({ cls := "FrostRing", name := "fault", desc := "(I)I" } : Jvm.MethodName)) ∈ lw_all := lw_g (lw_at lw_m5 31 rfl) rfl
theorem q1099 : (Jvm.Cond.methodLink "FrostRingLaw" (32 : Nat) ({ cls := "FrostRing", name := "tick", desc := "(I)I" } : Jvm.MethodName)) ∈ lw_all := lw_g (lw_at lw_m5 35 rfl) rfl
theorem q1177 : (Jvm.Cond.methodLink "FrostRingLaw" (36 : Nat) ({ cls := "FrostRing", name := "cell", desc := "(III)I" } : Jvm.MethodName)) ∈ lw_all := lw_g (lw_at lw_m5 113 rfl) rfl
theorem q1197 : (Jvm.Cond.methodLink "FrostRingLaw" (41 : Nat) ({ cls := "FrostRing", name := "heat", desc := "(I)I" } : Jvm.MethodName)) ∈ lw_all := lw_g (lw_at lw_m5 133 rfl) rfl
theorem q1205 : (Jvm.Cond.methodLink "FrostRingLaw" (45 : Nat) ({ cls := "FrostRing", name := "run", desc := "(IZ)Z" } : Jvm.MethodName)) ∈ lw_all := lw_g (lw_at lw_m5 141 rfl) rfl
theorem q1213 : (Jvm.Cond.methodLink "FrostRingLaw" (50 : Nat) ({ cls := "FrostRing", name := "pipe", desc := "(II)I" } : Jvm.MethodName)) ∈ lw_all := lw_g (lw_at lw_m5 149 rfl) rfl
theorem q1217 : (Jvm.Cond.methodLink "FrostRingLaw" (55 : Nat) ({ cls := "FrostRing", name := "cold", desc := "(I)I" } : Jvm.MethodName)) ∈ lw_all := lw_g (lw_at lw_m5 153 rfl) rfl
theorem q1222 : (Jvm.Cond.methodLink "FrostRingLaw" (59 : Nat) ({ cls := "FrostRing", name := "shut", desc := "()I" } : Jvm.MethodName)) ∈ lw_all := lw_g (lw_at lw_m5 158 rfl) rfl
theorem q1232 : (Jvm.Cond.methodLink "FrostRingLaw" (63 : Nat) ({ cls := "FrostRing", name := "way", desc := "()I" } : Jvm.MethodName)) ∈ lw_all := lw_g (lw_at lw_m5 168 rfl) rfl
theorem q1237 : (Jvm.Cond.methodLink "FrostRingLaw" (67 : Nat) ({ cls := "FrostRing", name := "gaps", desc := "()I" } : Jvm.MethodName)) ∈ lw_all := lw_g (lw_at lw_m5 173 rfl) rfl
theorem q1314 : (Jvm.Cond.methodLink "FrostRingLaw" (71 : Nat) ({ cls := "FrostRing", name := "gap", desc := "(I)I" } : Jvm.MethodName)) ∈ lw_all := lw_g (lw_at lw_m6 10 rfl) rfl
theorem q1318 : (Jvm.Cond.methodLink "FrostRingLaw" (75 : Nat) ({ cls := "FrostRing", name := "thick", desc := "()I" } : Jvm.MethodName)) ∈ lw_all := lw_g (lw_at lw_m6 14 rfl) rfl
theorem q1330 : (Jvm.Cond.methodLink "FrostRingLaw" (79 : Nat) ({ cls := "FrostRing", name := "dig", desc := "(II)I" } : Jvm.MethodName)) ∈ lw_all := lw_g (lw_at lw_m6 26 rfl) rfl
theorem q1373 : (Jvm.Cond.methodLink "FrostRingLaw" (83 : Nat) ({ cls := "FrostRing", name := "lacks", desc := "(I)I" } : Jvm.MethodName)) ∈ lw_all := lw_g (lw_at lw_m6 69 rfl) rfl
theorem q1377 : (Jvm.Cond.methodLink "FrostRingLaw" (87 : Nat) ({ cls := "FrostRing", name := "pump", desc := "()I" } : Jvm.MethodName)) ∈ lw_all := lw_g (lw_at lw_m6 73 rfl) rfl
theorem q1381 : (Jvm.Cond.methodLink "FrostRingLaw" (91 : Nat) ({ cls := "FrostRing", name := "lift", desc := "(I)I" } : Jvm.MethodName)) ∈ lw_all := lw_g (lw_at lw_m6 77 rfl) rfl
theorem q1385 : (Jvm.Cond.methodLink "FrostRingLaw" (95 : Nat) ({ cls := "FrostRing", name := "cracks", desc := "()I" } : Jvm.MethodName)) ∈ lw_all := lw_g (lw_at lw_m6 81 rfl) rfl
theorem q1390 : (Jvm.Cond.methodLink "FrostRingLaw" (99 : Nat) ({ cls := "FrostRing", name := "house", desc := "(II)I" } : Jvm.MethodName)) ∈ lw_all := lw_g (lw_at lw_m6 86 rfl) rfl
theorem q1394 : (Jvm.Cond.methodLink "FrostRingLaw" (103 : Nat) ({ cls := "FrostRing", name := "foretell", desc := "()I" } : Jvm.MethodName)) ∈ lw_all := lw_g (lw_at lw_m6 90 rfl) rfl
theorem q1403 : (Jvm.Cond.methodLink "FrostRingLaw" (107 : Nat) ({ cls := "FrostRing", name := "off", desc := "()I" } : Jvm.MethodName)) ∈ lw_all := lw_g (lw_at lw_m6 99 rfl) rfl
theorem q1407 : (Jvm.Cond.methodLink "FrostRingLaw" (111 : Nat) ({ cls := "FrostRing", name := "more", desc := "(II)I" } : Jvm.MethodName)) ∈ lw_all := lw_g (lw_at lw_m6 103 rfl) rfl
theorem q1441 : (Jvm.Cond.methodLink "FrostRingLaw" (115 : Nat) ({ cls := "FrostRing", name := "chosen", desc := "()I" } : Jvm.MethodName)) ∈ lw_all := lw_g (lw_at lw_m6 137 rfl) rfl
theorem q1445 : (Jvm.Cond.methodLink "FrostRingLaw" (119 : Nat) ({ cls := "FrostRing", name := "gauge", desc := "(IIII)I" } : Jvm.MethodName)) ∈ lw_all := lw_g (lw_at lw_m6 141 rfl) rfl
theorem q1452 : (Jvm.Cond.methodLink "FrostRingLaw" (124 : Nat) ({ cls := "FrostRing", name := "lies", desc := "(I)I" } : Jvm.MethodName)) ∈ lw_all := lw_g (lw_at lw_m6 148 rfl) rfl
theorem q1458 : (Jvm.Cond.methodLink "FrostRingLaw" (128 : Nat) ({ cls := "FrostRing", name := "most", desc := "(I)I" } : Jvm.MethodName)) ∈ lw_all := lw_g (lw_at lw_m6 154 rfl) rfl
theorem q1462 : (Jvm.Cond.methodLink "FrostRingLaw" (132 : Nat) ({ cls := "FrostRing", name := "frost", desc := "(I)I" } : Jvm.MethodName)) ∈ lw_all := lw_g (lw_at lw_m6 158 rfl) rfl
theorem q1466 : (Jvm.Cond.methodLink "FrostRingLaw" (136 : Nat) ({ cls := "FrostRing", name := "count", desc := "(I)I" } : Jvm.MethodName)) ∈ lw_all := lw_g (lw_at lw_m6 162 rfl) rfl
theorem q1470 : (Jvm.Cond.methodLink "FrostRingLaw" (140 : Nat) ({ cls := "FrostRing", name := "keep", desc := "(I)I" } : Jvm.MethodName)) ∈ lw_all := lw_g (lw_at lw_m6 166 rfl) rfl
theorem q1475 : (Jvm.Cond.methodLink "FrostRingLaw" (144 : Nat) ({ cls := "FrostRing", name := "back", desc := "(I)I" } : Jvm.MethodName)) ∈ lw_all := lw_g (lw_at lw_m6 171 rfl) rfl
theorem q1479 : (Jvm.Cond.classLink "FrostRingLaw" (10 : Nat) "FrostRingModel") ∈ lw_all := lw_g (lw_at lw_m6 175 rfl) rfl
theorem q1481 : (Jvm.Cond.methodLink "FrostRingLaw" (12 : Nat) ({ cls := "FrostRingModel", name := "<init>", desc := "()V" } : Jvm.MethodName)) ∈ lw_all := lw_g (lw_at lw_m6 177 rfl) rfl
theorem q1620 : (Jvm.Cond.methodLink "FrostRingLaw" (143 : Nat) ({ cls := "FrostRingModel", name := "keep", desc := "(I)I" } : Jvm.MethodName)) ∈ lw_all := lw_g (lw_at lw_m7 76 rfl) rfl
theorem q1628 : (Jvm.Cond.methodLink "FrostRingLaw" (147 : Nat) ({ cls := "FrostRingModel", name := "back", desc := "(I)I" } : Jvm.MethodName)) ∈ lw_all := lw_g (lw_at lw_m7 84 rfl) rfl
theorem q1632 : (Jvm.Cond.methodLink "FrostRingLaw" (17 : Nat) ({ cls := "FrostRingModel", name := "feed", desc := "(IIIII)I" } : Jvm.MethodName)) ∈ lw_all := lw_g (lw_at lw_m7 88 rfl) rfl
theorem q1636 : (Jvm.Cond.methodLink "FrostRingLaw" (22 : Nat) ({ cls := "FrostRingModel", name := "end", desc := "(I)I" } : Jvm.MethodName)) ∈ lw_all := lw_g (lw_at lw_m7 92 rfl) rfl
theorem q1640 : (Jvm.Cond.methodLink "FrostRingLaw" (27 : Nat) ({ cls := "FrostRingModel", name := "text", desc := "()I" } : Jvm.MethodName)) ∈ lw_all := lw_g (lw_at lw_m7 96 rfl) rfl
theorem q1758 : (Jvm.Cond.methodLink "FrostRingLaw" (31 : Nat) ({ cls := "FrostRingModel", name := "fault", desc := "(I)I" } : Jvm.MethodName)) ∈ lw_all := lw_g (lw_at lw_m7 214 rfl) rfl
theorem q1762 : (Jvm.Cond.methodLink "FrostRingLaw" (35 : Nat) ({ cls := "FrostRingModel", name := "tick", desc := "(I)I" } : Jvm.MethodName)) ∈ lw_all := lw_g (lw_at lw_m7 218 rfl) rfl
theorem q1838 : (Jvm.Cond.methodLink "FrostRingLaw" (40 : Nat) ({ cls := "FrostRingModel", name := "cell", desc := "(III)I" } : Jvm.MethodName)) ∈ lw_all := lw_g (lw_at lw_m8 54 rfl) rfl
theorem q1847 : (Jvm.Cond.methodLink "FrostRingLaw" (44 : Nat) ({ cls := "FrostRingModel", name := "heat", desc := "(I)I" } : Jvm.MethodName)) ∈ lw_all := lw_g (lw_at lw_m8 63 rfl) rfl
theorem q1852 : (Jvm.Cond.methodLink "FrostRingLaw" (49 : Nat) ({ cls := "FrostRingModel", name := "run", desc := "(IZ)Z" } : Jvm.MethodName)) ∈ lw_all := lw_g (lw_at lw_m8 68 rfl) rfl
theorem q1860 : (Jvm.Cond.methodLink "FrostRingLaw" (54 : Nat) ({ cls := "FrostRingModel", name := "pipe", desc := "(II)I" } : Jvm.MethodName)) ∈ lw_all := lw_g (lw_at lw_m8 76 rfl) rfl
theorem q1864 : (Jvm.Cond.methodLink "FrostRingLaw" (58 : Nat) ({ cls := "FrostRingModel", name := "cold", desc := "(I)I" } : Jvm.MethodName)) ∈ lw_all := lw_g (lw_at lw_m8 80 rfl) rfl
theorem q1869 : (Jvm.Cond.methodLink "FrostRingLaw" (62 : Nat) ({ cls := "FrostRingModel", name := "shut", desc := "()I" } : Jvm.MethodName)) ∈ lw_all := lw_g (lw_at lw_m8 85 rfl) rfl
theorem q1877 : (Jvm.Cond.methodLink "FrostRingLaw" (66 : Nat) ({ cls := "FrostRingModel", name := "way", desc := "()I" } : Jvm.MethodName)) ∈ lw_all := lw_g (lw_at lw_m8 93 rfl) rfl
theorem q1881 : (Jvm.Cond.methodLink "FrostRingLaw" (78 : Nat) ({ cls := "FrostRingModel", name := "thick", desc := "()I" } : Jvm.MethodName)) ∈ lw_all := lw_g (lw_at lw_m8 97 rfl) rfl
theorem q1885 : (Jvm.Cond.methodLink "FrostRingLaw" (70 : Nat) ({ cls := "FrostRingModel", name := "gaps", desc := "()I" } : Jvm.MethodName)) ∈ lw_all := lw_g (lw_at lw_m8 101 rfl) rfl
theorem q1912 : (Jvm.Cond.methodLink "FrostRingLaw" (74 : Nat) ({ cls := "FrostRingModel", name := "gap", desc := "(I)I" } : Jvm.MethodName)) ∈ lw_all := lw_g (lw_at lw_m8 128 rfl) rfl
theorem q1916 : (Jvm.Cond.methodLink "FrostRingLaw" (86 : Nat) ({ cls := "FrostRingModel", name := "lacks", desc := "(I)I" } : Jvm.MethodName)) ∈ lw_all := lw_g (lw_at lw_m8 132 rfl) rfl
theorem q1928 : (Jvm.Cond.methodLink "FrostRingLaw" (82 : Nat) ({ cls := "FrostRingModel", name := "dig", desc := "(II)I" } : Jvm.MethodName)) ∈ lw_all := lw_g (lw_at lw_m8 144 rfl) rfl
theorem q1937 : (Jvm.Cond.methodLink "FrostRingLaw" (90 : Nat) ({ cls := "FrostRingModel", name := "pump", desc := "()I" } : Jvm.MethodName)) ∈ lw_all := lw_g (lw_at lw_m8 153 rfl) rfl
theorem q1941 : (Jvm.Cond.methodLink "FrostRingLaw" (94 : Nat) ({ cls := "FrostRingModel", name := "lift", desc := "(I)I" } : Jvm.MethodName)) ∈ lw_all := lw_g (lw_at lw_m8 157 rfl) rfl
theorem q1945 : (Jvm.Cond.methodLink "FrostRingLaw" (98 : Nat) ({ cls := "FrostRingModel", name := "cracks", desc := "()I" } : Jvm.MethodName)) ∈ lw_all := lw_g (lw_at lw_m8 161 rfl) rfl
theorem q1949 : (Jvm.Cond.methodLink "FrostRingLaw" (102 : Nat) ({ cls := "FrostRingModel", name := "house", desc := "(II)I" } : Jvm.MethodName)) ∈ lw_all := lw_g (lw_at lw_m8 165 rfl) rfl
theorem q1953 : (Jvm.Cond.methodLink "FrostRingLaw" (106 : Nat) ({ cls := "FrostRingModel", name := "foretell", desc := "()I" } : Jvm.MethodName)) ∈ lw_all := lw_g (lw_at lw_m8 169 rfl) rfl
theorem q1965 : (Jvm.Cond.methodLink "FrostRingLaw" (110 : Nat) ({ cls := "FrostRingModel", name := "off", desc := "()I" } : Jvm.MethodName)) ∈ lw_all := lw_g (lw_at lw_m8 181 rfl) rfl
theorem q1969 : (Jvm.Cond.methodLink "FrostRingLaw" (114 : Nat) ({ cls := "FrostRingModel", name := "more", desc := "(II)I" } : Jvm.MethodName)) ∈ lw_all := lw_g (lw_at lw_m8 185 rfl) rfl
theorem q1992 : (Jvm.Cond.methodLink "FrostRingLaw" (118 : Nat) ({ cls := "FrostRingModel", name := "chosen", desc := "()I" } : Jvm.MethodName)) ∈ lw_all := lw_g (lw_at lw_m8 208 rfl) rfl
theorem q1996 : (Jvm.Cond.methodLink "FrostRingLaw" (123 : Nat) ({ cls := "FrostRingModel", name := "gauge", desc := "(IIII)I" } : Jvm.MethodName)) ∈ lw_all := lw_g (lw_at lw_m8 212 rfl) rfl
theorem q2003 : (Jvm.Cond.methodLink "FrostRingLaw" (127 : Nat) ({ cls := "FrostRingModel", name := "lies", desc := "(I)I" } : Jvm.MethodName)) ∈ lw_all := lw_g (lw_at lw_m8 219 rfl) rfl
theorem q2008 : (Jvm.Cond.methodLink "FrostRingLaw" (131 : Nat) ({ cls := "FrostRingModel", name := "most", desc := "(I)I" } : Jvm.MethodName)) ∈ lw_all := lw_g (lw_at lw_m8 224 rfl) rfl
theorem q2012 : (Jvm.Cond.methodLink "FrostRingLaw" (135 : Nat) ({ cls := "FrostRingModel", name := "frost", desc := "(I)I" } : Jvm.MethodName)) ∈ lw_all := lw_g (lw_at lw_m8 228 rfl) rfl
theorem q2016 : (Jvm.Cond.methodLink "FrostRingLaw" (139 : Nat) ({ cls := "FrostRingModel", name := "count", desc := "(I)I" } : Jvm.MethodName)) ∈ lw_all := lw_g (lw_at lw_m8 232 rfl) rfl
theorem q2020 : (Jvm.Cond.methodLink "FrostRingLaw" (151 : Nat) ({ cls := "FrostRingModel", name := "row", desc := "(III)I" } : Jvm.MethodName)) ∈ lw_all := lw_g (lw_at lw_m8 236 rfl) rfl
theorem q2024 : (Jvm.Cond.methodLink "FrostRingLaw" (158 : Nat) ({ cls := "FrostRingModel", name := "write", desc := "(IIJ)I" } : Jvm.MethodName)) ∈ lw_all := lw_g (lw_at lw_m9 0 rfl) rfl
theorem q2031 : (Jvm.Cond.methodLink "FrostRingLaw" (162 : Nat) ({ cls := "FrostRingModel", name := "paste", desc := "(IIIII)I" } : Jvm.MethodName)) ∈ lw_all := lw_g (lw_at lw_m9 7 rfl) rfl
theorem q2035 : (Jvm.Cond.constantLong "FrostRingLaw" (152 : Nat) (4294967295 : Int64)) ∈ lw_all := lw_g (lw_at lw_m9 11 rfl) rfl
theorem q2065 : (Jvm.Cond.castable "[B" "java/lang/Object") ∈ lw_tbl := lw_at lw_m9 41 rfl
set_option maxRecDepth 100000
theorem q2067 : (Jvm.Cond.castable "[I" "java/lang/Object") ∈ lw_tbl := lw_at lw_m9 43 rfl
set_option maxRecDepth 100000
theorem q2068 : (Jvm.Cond.castable "[J" "java/lang/Object") ∈ lw_tbl := lw_at lw_m9 44 rfl
set_option maxRecDepth 100000
theorem q2075 : (Jvm.Cond.castable "[LFrostRing$Cond;" "java/lang/Object") ∈ lw_tbl := lw_at lw_m9 51 rfl
set_option maxRecDepth 100000
theorem q2073 : (Jvm.Cond.castable "[LFrostRing$Field;" "java/lang/Object") ∈ lw_tbl := lw_at lw_m9 49 rfl
set_option maxRecDepth 100000
theorem q2070 : (Jvm.Cond.castable "[LFrostRing$Ground;" "java/lang/Object") ∈ lw_tbl := lw_at lw_m9 46 rfl
set_option maxRecDepth 100000
theorem q2069 : (Jvm.Cond.castable "[LFrostRing$Slot;" "java/lang/Object") ∈ lw_tbl := lw_at lw_m9 45 rfl
set_option maxRecDepth 100000
theorem q2062 : (Jvm.Cond.sameMethod "[Ljava/lang/Object;" "java/lang/Object" "getClass" "()Ljava/lang/Class;") ∈ lw_all := lw_g (lw_at lw_m9 38 rfl) rfl
set_option maxRecDepth 100000
theorem q2063 : (Jvm.Cond.selects "[Ljava/lang/Object;" ({ cls := "java/lang/Object", name := "getClass", desc := "()Ljava/lang/Class;" } : Jvm.MethodName) ({ cls := "java/lang/Object", name := "getClass", desc := "()Ljava/lang/Class;" } : Jvm.MethodName)) ∈ lw_all := lw_g (lw_at lw_m9 39 rfl) rfl
theorem q2071 : (Jvm.Cond.castable "[Ljava/lang/Object;" "java/lang/Object") ∈ lw_tbl := lw_at lw_m9 47 rfl
theorem q2074 : (Jvm.Cond.castable "[Ljava/lang/String;" "java/lang/Object") ∈ lw_tbl := lw_at lw_m9 50 rfl
set_option maxRecDepth 100000
theorem q2066 : (Jvm.Cond.castable "[S" "java/lang/Object") ∈ lw_tbl := lw_at lw_m9 42 rfl
set_option maxRecDepth 100000
theorem q2072 : (Jvm.Cond.castable "[Z" "java/lang/Object") ∈ lw_tbl := lw_at lw_m9 48 rfl
set_option maxRecDepth 100000
theorem q2076 : (Jvm.Cond.castable "[[Z" "java/lang/Object") ∈ lw_tbl := lw_at lw_m9 52 rfl
set_option maxRecDepth 100000
theorem q119 : (Jvm.Cond.initialized "java/lang/System") ∈ lw_all := lw_g (lw_at lw_m1 15 rfl) rfl
set_option maxRecDepth 100000
theorem q340 : (Jvm.Cond.static ({ cls := "java/lang/System", name := "arraycopy", desc := "(Ljava/lang/Object;ILjava/lang/Object;II)V" } : Jvm.MethodName)) ∈ lw_all := lw_g (lw_at lw_m1 236 rfl) rfl
theorem q341 : (Jvm.Cond.native ({ cls := "java/lang/System", name := "arraycopy", desc := "(Ljava/lang/Object;ILjava/lang/Object;II)V" } : Jvm.MethodName)) ∈ lw_all := lw_g (lw_at lw_m1 237 rfl) rfl
theorem q488 : (Jvm.Cond.interfaceMethod "java/util/List" "java/util/List" "clear" "()V") ∈ lw_tbl := lw_at lw_m2 144 rfl
set_option maxRecDepth 100000
theorem q489 : (Jvm.Cond.declares ({ cls := "java/util/List", name := "clear", desc := "()V" } : Jvm.MethodName)) ∈ lw_tbl := lw_at lw_m2 145 rfl
theorem q498 : (Jvm.Cond.interfaceMethod "java/util/List" "java/util/List" "size" "()I") ∈ lw_tbl := lw_at lw_m2 154 rfl
theorem q499 : (Jvm.Cond.declares ({ cls := "java/util/List", name := "size", desc := "()I" } : Jvm.MethodName)) ∈ lw_tbl := lw_at lw_m2 155 rfl
theorem q507 : (Jvm.Cond.interfaceMethod "java/util/List" "java/util/List" "get" "(I)Ljava/lang/Object;") ∈ lw_tbl := lw_at lw_m2 163 rfl
theorem q508 : (Jvm.Cond.declares ({ cls := "java/util/List", name := "get", desc := "(I)Ljava/lang/Object;" } : Jvm.MethodName)) ∈ lw_tbl := lw_at lw_m2 164 rfl
theorem q570 : (Jvm.Cond.interfaceMethod "java/util/List" "java/util/List" "add" "(Ljava/lang/Object;)Z") ∈ lw_tbl := lw_at lw_m2 226 rfl
theorem q571 : (Jvm.Cond.declares ({ cls := "java/util/List", name := "add", desc := "(Ljava/lang/Object;)Z" } : Jvm.MethodName)) ∈ lw_tbl := lw_at lw_m2 227 rfl
theorem q1340 : (Jvm.Cond.interfaceMethod "java/util/List" "java/util/List" "isEmpty" "()Z") ∈ lw_tbl := lw_at lw_m6 36 rfl
theorem q1341 : (Jvm.Cond.declares ({ cls := "java/util/List", name := "isEmpty", desc := "()Z" } : Jvm.MethodName)) ∈ lw_tbl := lw_at lw_m6 37 rfl
theorem q239 : (Jvm.Cond.arrayClass Jvm.ClassFile.FieldType.byte) ∈ lw_all := lw_g (lw_at lw_m1 135 rfl) rfl
set_option maxRecDepth 100000
theorem q244 : (Jvm.Cond.arrayClass Jvm.ClassFile.FieldType.short) ∈ lw_all := lw_g (lw_at lw_m1 140 rfl) rfl
theorem q245 : (Jvm.Cond.arrayClass Jvm.ClassFile.FieldType.int) ∈ lw_all := lw_g (lw_at lw_m1 141 rfl) rfl
theorem q246 : (Jvm.Cond.arrayClass Jvm.ClassFile.FieldType.long) ∈ lw_all := lw_g (lw_at lw_m1 142 rfl) rfl
theorem q349 : (Jvm.Cond.arrayOver (Jvm.ClassFile.FieldType.object "FrostRing$Slot")) ∈ lw_tbl := lw_at lw_m2 5 rfl
theorem q359 : (Jvm.Cond.arrayOver (Jvm.ClassFile.FieldType.object "FrostRing$Ground")) ∈ lw_tbl := lw_at lw_m2 15 rfl
theorem q373 : (Jvm.Cond.arrayOver (Jvm.ClassFile.FieldType.object "java/lang/Object")) ∈ lw_tbl := lw_at lw_m2 29 rfl
theorem q567 : (Jvm.Cond.arrayClass Jvm.ClassFile.FieldType.boolean) ∈ lw_all := lw_g (lw_at lw_m2 223 rfl) rfl
theorem q744 : (Jvm.Cond.arrayOver (Jvm.ClassFile.FieldType.object "FrostRing$Field")) ∈ lw_tbl := lw_at lw_m3 160 rfl
theorem q813 : (Jvm.Cond.arrayOver (Jvm.ClassFile.FieldType.object "java/lang/String")) ∈ lw_tbl := lw_at lw_m3 229 rfl
theorem q1051 : (Jvm.Cond.arrayOver (Jvm.ClassFile.FieldType.object "FrostRing$Cond")) ∈ lw_tbl := lw_at lw_m4 227 rfl
theorem q1248 : (Jvm.Cond.arrayOver (Jvm.ClassFile.FieldType.array Jvm.ClassFile.FieldType.boolean)) ∈ lw_tbl := lw_at lw_m5 184 rfl
