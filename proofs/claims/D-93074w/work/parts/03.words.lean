theorem q90 : (Jvm.Cond.initialized "NineDemandsLaw") ∈ lw_all := lw_g (lw_at lw_m1 0 rfl) rfl
set_option maxRecDepth 100000
theorem q138 : (Jvm.Cond.classLink "NineDemandsLaw" (7 : Nat) "NineDemands") ∈ lw_all := lw_g (lw_at lw_m1 48 rfl) rfl
theorem q140 : (Jvm.Cond.methodLink "NineDemandsLaw" (9 : Nat) ({ cls := "NineDemands", name := "<init>", desc := "()V" } : Jvm.MethodName)) ∈ lw_all := lw_g (lw_at lw_m1 50 rfl) rfl
theorem q406 : (Jvm.Cond.methodLink "NineDemandsLaw" (13 : Nat) ({ cls := "NineDemands", name := "hall", desc := "(II)I" } : Jvm.MethodName)) ∈ lw_all := lw_g (lw_at lw_m2 76 rfl) rfl
theorem q438 : (Jvm.Cond.methodLink "NineDemandsLaw" (18 : Nat) ({ cls := "NineDemands", name := "moved", desc := "(II)I" } : Jvm.MethodName)) ∈ lw_all := lw_g (lw_at lw_m2 108 rfl) rfl
theorem q445 : (Jvm.Cond.methodLink "NineDemandsLaw" (22 : Nat) ({ cls := "NineDemands", name := "choose", desc := "(II)I" } : Jvm.MethodName)) ∈ lw_all := lw_g (lw_at lw_m2 115 rfl) rfl
theorem q452 : (Jvm.Cond.methodLink "NineDemandsLaw" (26 : Nat) ({ cls := "NineDemands", name := "chosen", desc := "(I)I" } : Jvm.MethodName)) ∈ lw_all := lw_g (lw_at lw_m2 122 rfl) rfl
theorem q456 : (Jvm.Cond.methodLink "NineDemandsLaw" (31 : Nat) ({ cls := "NineDemands", name := "block", desc := "(I)I" } : Jvm.MethodName)) ∈ lw_all := lw_g (lw_at lw_m2 126 rfl) rfl
theorem q495 : (Jvm.Cond.methodLink "NineDemandsLaw" (35 : Nat) ({ cls := "NineDemands", name := "form", desc := "(I)I" } : Jvm.MethodName)) ∈ lw_all := lw_g (lw_at lw_m2 165 rfl) rfl
theorem q505 : (Jvm.Cond.methodLink "NineDemandsLaw" (41 : Nat) ({ cls := "NineDemands", name := "feed", desc := "(JI)I" } : Jvm.MethodName)) ∈ lw_all := lw_g (lw_at lw_m2 175 rfl) rfl
theorem q509 : (Jvm.Cond.methodLink "NineDemandsLaw" (46 : Nat) ({ cls := "NineDemands", name := "law", desc := "(II)I" } : Jvm.MethodName)) ∈ lw_all := lw_g (lw_at lw_m2 179 rfl) rfl
theorem q1321 : (Jvm.Cond.methodLink "NineDemandsLaw" (50 : Nat) ({ cls := "NineDemands", name := "price", desc := "(II)I" } : Jvm.MethodName)) ∈ lw_all := lw_g (lw_at lw_m6 31 rfl) rfl
theorem q1343 : (Jvm.Cond.methodLink "NineDemandsLaw" (54 : Nat) ({ cls := "NineDemands", name := "as", desc := "(II)I" } : Jvm.MethodName)) ∈ lw_all := lw_g (lw_at lw_m6 53 rfl) rfl
theorem q1372 : (Jvm.Cond.methodLink "NineDemandsLaw" (58 : Nat) ({ cls := "NineDemands", name := "part", desc := "(III)I" } : Jvm.MethodName)) ∈ lw_all := lw_g (lw_at lw_m6 82 rfl) rfl
theorem q1384 : (Jvm.Cond.methodLink "NineDemandsLaw" (63 : Nat) ({ cls := "NineDemands", name := "so", desc := "(IIII)I" } : Jvm.MethodName)) ∈ lw_all := lw_g (lw_at lw_m6 94 rfl) rfl
theorem q1398 : (Jvm.Cond.methodLink "NineDemandsLaw" (68 : Nat) ({ cls := "NineDemands", name := "breach", desc := "(I)I" } : Jvm.MethodName)) ∈ lw_all := lw_g (lw_at lw_m6 108 rfl) rfl
theorem q1407 : (Jvm.Cond.methodLink "NineDemandsLaw" (72 : Nat) ({ cls := "NineDemands", name := "kept", desc := "()I" } : Jvm.MethodName)) ∈ lw_all := lw_g (lw_at lw_m6 117 rfl) rfl
theorem q1411 : (Jvm.Cond.methodLink "NineDemandsLaw" (77 : Nat) ({ cls := "NineDemands", name := "find", desc := "(II)I" } : Jvm.MethodName)) ∈ lw_all := lw_g (lw_at lw_m6 121 rfl) rfl
theorem q1475 : (Jvm.Cond.methodLink "NineDemandsLaw" (81 : Nat) ({ cls := "NineDemands", name := "write", desc := "(I)I" } : Jvm.MethodName)) ∈ lw_all := lw_g (lw_at lw_m6 185 rfl) rfl
theorem q1484 : (Jvm.Cond.methodLink "NineDemandsLaw" (85 : Nat) ({ cls := "NineDemands", name := "rules", desc := "(I)J" } : Jvm.MethodName)) ∈ lw_all := lw_g (lw_at lw_m6 194 rfl) rfl
theorem q1502 : (Jvm.Cond.methodLink "NineDemandsLaw" (90 : Nat) ({ cls := "NineDemands", name := "may", desc := "(II)I" } : Jvm.MethodName)) ∈ lw_all := lw_g (lw_at lw_m6 212 rfl) rfl
theorem q1510 : (Jvm.Cond.methodLink "NineDemandsLaw" (94 : Nat) ({ cls := "NineDemands", name := "near", desc := "(I)I" } : Jvm.MethodName)) ∈ lw_all := lw_g (lw_at lw_m6 220 rfl) rfl
theorem q1522 : (Jvm.Cond.methodLink "NineDemandsLaw" (98 : Nat) ({ cls := "NineDemands", name := "word", desc := "(I)I" } : Jvm.MethodName)) ∈ lw_all := lw_g (lw_at lw_m6 232 rfl) rfl
theorem q1539 : (Jvm.Cond.methodLink "NineDemandsLaw" (102 : Nat) ({ cls := "NineDemands", name := "show", desc := "(II)I" } : Jvm.MethodName)) ∈ lw_all := lw_g (lw_at lw_m7 9 rfl) rfl
theorem q1581 : (Jvm.Cond.methodLink "NineDemandsLaw" (106 : Nat) ({ cls := "NineDemands", name := "check", desc := "(II)I" } : Jvm.MethodName)) ∈ lw_all := lw_g (lw_at lw_m7 51 rfl) rfl
theorem q1595 : (Jvm.Cond.methodLink "NineDemandsLaw" (110 : Nat) ({ cls := "NineDemands", name := "small", desc := "(I)I" } : Jvm.MethodName)) ∈ lw_all := lw_g (lw_at lw_m7 65 rfl) rfl
theorem q1609 : (Jvm.Cond.methodLink "NineDemandsLaw" (114 : Nat) ({ cls := "NineDemands", name := "few", desc := "(I)I" } : Jvm.MethodName)) ∈ lw_all := lw_g (lw_at lw_m7 79 rfl) rfl
theorem q1617 : (Jvm.Cond.methodLink "NineDemandsLaw" (118 : Nat) ({ cls := "NineDemands", name := "give", desc := "(II)I" } : Jvm.MethodName)) ∈ lw_all := lw_g (lw_at lw_m7 87 rfl) rfl
theorem q1629 : (Jvm.Cond.methodLink "NineDemandsLaw" (122 : Nat) ({ cls := "NineDemands", name := "follows", desc := "(II)I" } : Jvm.MethodName)) ∈ lw_all := lw_g (lw_at lw_m7 99 rfl) rfl
theorem q1641 : (Jvm.Cond.methodLink "NineDemandsLaw" (126 : Nat) ({ cls := "NineDemands", name := "spare", desc := "(I)I" } : Jvm.MethodName)) ∈ lw_all := lw_g (lw_at lw_m7 111 rfl) rfl
theorem q1645 : (Jvm.Cond.methodLink "NineDemandsLaw" (130 : Nat) ({ cls := "NineDemands", name := "same", desc := "(II)I" } : Jvm.MethodName)) ∈ lw_all := lw_g (lw_at lw_m7 115 rfl) rfl
theorem q1653 : (Jvm.Cond.methodLink "NineDemandsLaw" (134 : Nat) ({ cls := "NineDemands", name := "voice", desc := "(III)I" } : Jvm.MethodName)) ∈ lw_all := lw_g (lw_at lw_m7 123 rfl) rfl
theorem q1817 : (Jvm.Cond.methodLink "NineDemandsLaw" (138 : Nat) ({ cls := "NineDemands", name := "trace", desc := "(I)I" } : Jvm.MethodName)) ∈ lw_all := lw_g (lw_at lw_m8 47 rfl) rfl
theorem q1821 : (Jvm.Cond.methodLink "NineDemandsLaw" (142 : Nat) ({ cls := "NineDemands", name := "sheet", desc := "(III)I" } : Jvm.MethodName)) ∈ lw_all := lw_g (lw_at lw_m8 51 rfl) rfl
theorem q1862 : (Jvm.Cond.methodLink "NineDemandsLaw" (146 : Nat) ({ cls := "NineDemands", name := "put", desc := "(III)I" } : Jvm.MethodName)) ∈ lw_all := lw_g (lw_at lw_m8 92 rfl) rfl
theorem q1878 : (Jvm.Cond.methodLink "NineDemandsLaw" (150 : Nat) ({ cls := "NineDemands", name := "move", desc := "(IIIII)I" } : Jvm.MethodName)) ∈ lw_all := lw_g (lw_at lw_m8 108 rfl) rfl
theorem q1903 : (Jvm.Cond.methodLink "NineDemandsLaw" (155 : Nat) ({ cls := "NineDemands", name := "image", desc := "()I" } : Jvm.MethodName)) ∈ lw_all := lw_g (lw_at lw_m8 133 rfl) rfl
theorem q1957 : (Jvm.Cond.methodLink "NineDemandsLaw" (159 : Nat) ({ cls := "NineDemands", name := "restore", desc := "()I" } : Jvm.MethodName)) ∈ lw_all := lw_g (lw_at lw_m8 187 rfl) rfl
theorem q1961 : (Jvm.Cond.methodLink "NineDemandsLaw" (163 : Nat) ({ cls := "NineDemands", name := "tell", desc := "(I)I" } : Jvm.MethodName)) ∈ lw_all := lw_g (lw_at lw_m8 191 rfl) rfl
theorem q1965 : (Jvm.Cond.methodLink "NineDemandsLaw" (167 : Nat) ({ cls := "NineDemands", name := "learn", desc := "(I)I" } : Jvm.MethodName)) ∈ lw_all := lw_g (lw_at lw_m8 195 rfl) rfl
theorem q1969 : (Jvm.Cond.methodLink "NineDemandsLaw" (171 : Nat) ({ cls := "NineDemands", name := "count", desc := "(I)I" } : Jvm.MethodName)) ∈ lw_all := lw_g (lw_at lw_m8 199 rfl) rfl
theorem q1973 : (Jvm.Cond.methodLink "NineDemandsLaw" (175 : Nat) ({ cls := "NineDemands", name := "told", desc := "(I)I" } : Jvm.MethodName)) ∈ lw_all := lw_g (lw_at lw_m8 203 rfl) rfl
theorem q1977 : (Jvm.Cond.classLink "NineDemandsLaw" (10 : Nat) "NineDemandsModel") ∈ lw_all := lw_g (lw_at lw_m8 207 rfl) rfl
theorem q1979 : (Jvm.Cond.methodLink "NineDemandsLaw" (12 : Nat) ({ cls := "NineDemandsModel", name := "<init>", desc := "()V" } : Jvm.MethodName)) ∈ lw_all := lw_g (lw_at lw_m8 209 rfl) rfl
theorem q2100 : (Jvm.Cond.methodLink "NineDemandsLaw" (17 : Nat) ({ cls := "NineDemandsModel", name := "hall", desc := "(II)I" } : Jvm.MethodName)) ∈ lw_all := lw_g (lw_at lw_m9 90 rfl) rfl
theorem q2119 : (Jvm.Cond.methodLink "NineDemandsLaw" (21 : Nat) ({ cls := "NineDemandsModel", name := "moved", desc := "(II)I" } : Jvm.MethodName)) ∈ lw_all := lw_g (lw_at lw_m9 109 rfl) rfl
theorem q2124 : (Jvm.Cond.methodLink "NineDemandsLaw" (25 : Nat) ({ cls := "NineDemandsModel", name := "choose", desc := "(II)I" } : Jvm.MethodName)) ∈ lw_all := lw_g (lw_at lw_m9 114 rfl) rfl
theorem q2131 : (Jvm.Cond.methodLink "NineDemandsLaw" (30 : Nat) ({ cls := "NineDemandsModel", name := "chosen", desc := "(I)I" } : Jvm.MethodName)) ∈ lw_all := lw_g (lw_at lw_m9 121 rfl) rfl
theorem q2135 : (Jvm.Cond.methodLink "NineDemandsLaw" (34 : Nat) ({ cls := "NineDemandsModel", name := "block", desc := "(I)I" } : Jvm.MethodName)) ∈ lw_all := lw_g (lw_at lw_m9 125 rfl) rfl
theorem q2144 : (Jvm.Cond.methodLink "NineDemandsLaw" (38 : Nat) ({ cls := "NineDemandsModel", name := "form", desc := "(I)I" } : Jvm.MethodName)) ∈ lw_all := lw_g (lw_at lw_m9 134 rfl) rfl
theorem q2151 : (Jvm.Cond.methodLink "NineDemandsLaw" (45 : Nat) ({ cls := "NineDemandsModel", name := "feed", desc := "(JI)I" } : Jvm.MethodName)) ∈ lw_all := lw_g (lw_at lw_m9 141 rfl) rfl
theorem q2157 : (Jvm.Cond.methodLink "NineDemandsLaw" (49 : Nat) ({ cls := "NineDemandsModel", name := "law", desc := "(II)I" } : Jvm.MethodName)) ∈ lw_all := lw_g (lw_at lw_m9 147 rfl) rfl
theorem q2219 : (Jvm.Cond.methodLink "NineDemandsLaw" (53 : Nat) ({ cls := "NineDemandsModel", name := "price", desc := "(II)I" } : Jvm.MethodName)) ∈ lw_all := lw_g (lw_at lw_m9 209 rfl) rfl
theorem q2227 : (Jvm.Cond.methodLink "NineDemandsLaw" (57 : Nat) ({ cls := "NineDemandsModel", name := "as", desc := "(II)I" } : Jvm.MethodName)) ∈ lw_all := lw_g (lw_at lw_m9 217 rfl) rfl
theorem q2242 : (Jvm.Cond.methodLink "NineDemandsLaw" (62 : Nat) ({ cls := "NineDemandsModel", name := "part", desc := "(III)I" } : Jvm.MethodName)) ∈ lw_all := lw_g (lw_at lw_m9 232 rfl) rfl
theorem q2262 : (Jvm.Cond.methodLink "NineDemandsLaw" (67 : Nat) ({ cls := "NineDemandsModel", name := "so", desc := "(IIII)I" } : Jvm.MethodName)) ∈ lw_all := lw_g (lw_at lw_m10 12 rfl) rfl
theorem q2273 : (Jvm.Cond.methodLink "NineDemandsLaw" (71 : Nat) ({ cls := "NineDemandsModel", name := "breach", desc := "(I)I" } : Jvm.MethodName)) ∈ lw_all := lw_g (lw_at lw_m10 23 rfl) rfl
theorem q2281 : (Jvm.Cond.methodLink "NineDemandsLaw" (76 : Nat) ({ cls := "NineDemandsModel", name := "kept", desc := "()I" } : Jvm.MethodName)) ∈ lw_all := lw_g (lw_at lw_m10 31 rfl) rfl
theorem q2285 : (Jvm.Cond.methodLink "NineDemandsLaw" (80 : Nat) ({ cls := "NineDemandsModel", name := "find", desc := "(II)I" } : Jvm.MethodName)) ∈ lw_all := lw_g (lw_at lw_m10 35 rfl) rfl
theorem q2312 : (Jvm.Cond.methodLink "NineDemandsLaw" (84 : Nat) ({ cls := "NineDemandsModel", name := "write", desc := "(I)I" } : Jvm.MethodName)) ∈ lw_all := lw_g (lw_at lw_m10 62 rfl) rfl
theorem q2316 : (Jvm.Cond.methodLink "NineDemandsLaw" (89 : Nat) ({ cls := "NineDemandsModel", name := "rules", desc := "(I)J" } : Jvm.MethodName)) ∈ lw_all := lw_g (lw_at lw_m10 66 rfl) rfl
theorem q2328 : (Jvm.Cond.methodLink "NineDemandsLaw" (93 : Nat) ({ cls := "NineDemandsModel", name := "may", desc := "(II)I" } : Jvm.MethodName)) ∈ lw_all := lw_g (lw_at lw_m10 78 rfl) rfl
theorem q2332 : (Jvm.Cond.methodLink "NineDemandsLaw" (97 : Nat) ({ cls := "NineDemandsModel", name := "near", desc := "(I)I" } : Jvm.MethodName)) ∈ lw_all := lw_g (lw_at lw_m10 82 rfl) rfl
theorem q2340 : (Jvm.Cond.methodLink "NineDemandsLaw" (101 : Nat) ({ cls := "NineDemandsModel", name := "word", desc := "(I)I" } : Jvm.MethodName)) ∈ lw_all := lw_g (lw_at lw_m10 90 rfl) rfl
theorem q2344 : (Jvm.Cond.methodLink "NineDemandsLaw" (105 : Nat) ({ cls := "NineDemandsModel", name := "show", desc := "(II)I" } : Jvm.MethodName)) ∈ lw_all := lw_g (lw_at lw_m10 94 rfl) rfl
theorem q2368 : (Jvm.Cond.methodLink "NineDemandsLaw" (109 : Nat) ({ cls := "NineDemandsModel", name := "check", desc := "(II)I" } : Jvm.MethodName)) ∈ lw_all := lw_g (lw_at lw_m10 118 rfl) rfl
theorem q2376 : (Jvm.Cond.methodLink "NineDemandsLaw" (113 : Nat) ({ cls := "NineDemandsModel", name := "small", desc := "(I)I" } : Jvm.MethodName)) ∈ lw_all := lw_g (lw_at lw_m10 126 rfl) rfl
theorem q2384 : (Jvm.Cond.methodLink "NineDemandsLaw" (117 : Nat) ({ cls := "NineDemandsModel", name := "few", desc := "(I)I" } : Jvm.MethodName)) ∈ lw_all := lw_g (lw_at lw_m10 134 rfl) rfl
theorem q2388 : (Jvm.Cond.methodLink "NineDemandsLaw" (121 : Nat) ({ cls := "NineDemandsModel", name := "give", desc := "(II)I" } : Jvm.MethodName)) ∈ lw_all := lw_g (lw_at lw_m10 138 rfl) rfl
theorem q2396 : (Jvm.Cond.methodLink "NineDemandsLaw" (125 : Nat) ({ cls := "NineDemandsModel", name := "follows", desc := "(II)I" } : Jvm.MethodName)) ∈ lw_all := lw_g (lw_at lw_m10 146 rfl) rfl
theorem q2405 : (Jvm.Cond.methodLink "NineDemandsLaw" (129 : Nat) ({ cls := "NineDemandsModel", name := "spare", desc := "(I)I" } : Jvm.MethodName)) ∈ lw_all := lw_g (lw_at lw_m10 155 rfl) rfl
theorem q2409 : (Jvm.Cond.methodLink "NineDemandsLaw" (133 : Nat) ({ cls := "NineDemandsModel", name := "same", desc := "(II)I" } : Jvm.MethodName)) ∈ lw_all := lw_g (lw_at lw_m10 159 rfl) rfl
theorem q2417 : (Jvm.Cond.methodLink "NineDemandsLaw" (137 : Nat) ({ cls := "NineDemandsModel", name := "voice", desc := "(III)I" } : Jvm.MethodName)) ∈ lw_all := lw_g (lw_at lw_m10 167 rfl) rfl
theorem q2440 : (Jvm.Cond.methodLink "NineDemandsLaw" (141 : Nat) ({ cls := "NineDemandsModel", name := "trace", desc := "(I)I" } : Jvm.MethodName)) ∈ lw_all := lw_g (lw_at lw_m10 190 rfl) rfl
theorem q2444 : (Jvm.Cond.methodLink "NineDemandsLaw" (145 : Nat) ({ cls := "NineDemandsModel", name := "sheet", desc := "(III)I" } : Jvm.MethodName)) ∈ lw_all := lw_g (lw_at lw_m10 194 rfl) rfl
theorem q2448 : (Jvm.Cond.methodLink "NineDemandsLaw" (149 : Nat) ({ cls := "NineDemandsModel", name := "put", desc := "(III)I" } : Jvm.MethodName)) ∈ lw_all := lw_g (lw_at lw_m10 198 rfl) rfl
theorem q2452 : (Jvm.Cond.methodLink "NineDemandsLaw" (154 : Nat) ({ cls := "NineDemandsModel", name := "move", desc := "(IIIII)I" } : Jvm.MethodName)) ∈ lw_all := lw_g (lw_at lw_m10 202 rfl) rfl
theorem q2456 : (Jvm.Cond.methodLink "NineDemandsLaw" (158 : Nat) ({ cls := "NineDemandsModel", name := "image", desc := "()I" } : Jvm.MethodName)) ∈ lw_all := lw_g (lw_at lw_m10 206 rfl) rfl
theorem q2460 : (Jvm.Cond.methodLink "NineDemandsLaw" (162 : Nat) ({ cls := "NineDemandsModel", name := "restore", desc := "()I" } : Jvm.MethodName)) ∈ lw_all := lw_g (lw_at lw_m10 210 rfl) rfl
theorem q2464 : (Jvm.Cond.methodLink "NineDemandsLaw" (166 : Nat) ({ cls := "NineDemandsModel", name := "tell", desc := "(I)I" } : Jvm.MethodName)) ∈ lw_all := lw_g (lw_at lw_m10 214 rfl) rfl
theorem q2468 : (Jvm.Cond.methodLink "NineDemandsLaw" (170 : Nat) ({ cls := "NineDemandsModel", name := "learn", desc := "(I)I" } : Jvm.MethodName)) ∈ lw_all := lw_g (lw_at lw_m10 218 rfl) rfl
theorem q2472 : (Jvm.Cond.methodLink "NineDemandsLaw" (174 : Nat) ({ cls := "NineDemandsModel", name := "count", desc := "(I)I" } : Jvm.MethodName)) ∈ lw_all := lw_g (lw_at lw_m10 222 rfl) rfl
theorem q2476 : (Jvm.Cond.methodLink "NineDemandsLaw" (178 : Nat) ({ cls := "NineDemandsModel", name := "told", desc := "(I)I" } : Jvm.MethodName)) ∈ lw_all := lw_g (lw_at lw_m10 226 rfl) rfl
theorem q2480 : (Jvm.Cond.constantLong "NineDemandsLaw" (39 : Nat) (4294967295 : Int64)) ∈ lw_all := lw_g (lw_at lw_m10 230 rfl) rfl
theorem q1701 : (Jvm.Cond.interfaceMethod "NineDemands$Bars" "NineDemands$Bars" "bars" "(I)I") ∈ lw_tbl := lw_at lw_m7 171 rfl
set_option maxRecDepth 100000
theorem q1702 : (Jvm.Cond.declares ({ cls := "NineDemands$Bars", name := "bars", desc := "(I)I" } : Jvm.MethodName)) ∈ lw_tbl := lw_at lw_m7 172 rfl
theorem q1660 : (Jvm.Cond.interfaceMethod "NineDemands$Bids" "NineDemands$Bids" "bids" "(I)I") ∈ lw_tbl := lw_at lw_m7 130 rfl
set_option maxRecDepth 100000
theorem q1661 : (Jvm.Cond.declares ({ cls := "NineDemands$Bids", name := "bids", desc := "(I)I" } : Jvm.MethodName)) ∈ lw_tbl := lw_at lw_m7 131 rfl
theorem q1779 : (Jvm.Cond.interfaceMethod "NineDemands$Stands" "NineDemands$Stands" "stands" "(I)I") ∈ lw_tbl := lw_at lw_m8 9 rfl
set_option maxRecDepth 100000
theorem q1780 : (Jvm.Cond.declares ({ cls := "NineDemands$Stands", name := "stands", desc := "(I)I" } : Jvm.MethodName)) ∈ lw_tbl := lw_at lw_m8 10 rfl
theorem q1750 : (Jvm.Cond.interfaceMethod "NineDemands$Yields" "NineDemands$Yields" "yields" "(I)I") ∈ lw_tbl := lw_at lw_m7 220 rfl
set_option maxRecDepth 100000
theorem q1751 : (Jvm.Cond.declares ({ cls := "NineDemands$Yields", name := "yields", desc := "(I)I" } : Jvm.MethodName)) ∈ lw_tbl := lw_at lw_m7 221 rfl
theorem q755 : (Jvm.Cond.sameMethod "[B" "java/lang/Object" "clone" "()Ljava/lang/Object;") ∈ lw_all := lw_g (lw_at lw_m3 185 rfl) rfl
set_option maxRecDepth 100000
theorem q758 : (Jvm.Cond.selects "[B" ({ cls := "[B", name := "clone", desc := "()Ljava/lang/Object;" } : Jvm.MethodName) ({ cls := "java/lang/Object", name := "clone", desc := "()Ljava/lang/Object;" } : Jvm.MethodName)) ∈ lw_all := lw_g (lw_at lw_m3 188 rfl) rfl
theorem q759 : (Jvm.Cond.castable "[B" "java/lang/Cloneable") ∈ lw_tbl := lw_at lw_m3 189 rfl
theorem q2556 : (Jvm.Cond.castable "[B" "java/lang/Object") ∈ lw_tbl := lw_at lw_m11 66 rfl
theorem q2555 : (Jvm.Cond.castable "[I" "java/lang/Object") ∈ lw_tbl := lw_at lw_m11 65 rfl
set_option maxRecDepth 100000
theorem q2557 : (Jvm.Cond.castable "[LNineDemands$Shelf;" "java/lang/Object") ∈ lw_tbl := lw_at lw_m11 67 rfl
set_option maxRecDepth 100000
theorem q2552 : (Jvm.Cond.sameMethod "[Ljava/lang/Object;" "java/lang/Object" "getClass" "()Ljava/lang/Class;") ∈ lw_all := lw_g (lw_at lw_m11 62 rfl) rfl
set_option maxRecDepth 100000
theorem q2553 : (Jvm.Cond.selects "[Ljava/lang/Object;" ({ cls := "java/lang/Object", name := "getClass", desc := "()Ljava/lang/Class;" } : Jvm.MethodName) ({ cls := "java/lang/Object", name := "getClass", desc := "()Ljava/lang/Class;" } : Jvm.MethodName)) ∈ lw_all := lw_g (lw_at lw_m11 63 rfl) rfl
theorem q2558 : (Jvm.Cond.castable "[Ljava/lang/Object;" "java/lang/Object") ∈ lw_tbl := lw_at lw_m11 68 rfl
theorem q2559 : (Jvm.Cond.castable "[S" "java/lang/Object") ∈ lw_tbl := lw_at lw_m11 69 rfl
set_option maxRecDepth 100000
theorem q121 : (Jvm.Cond.initialized "java/lang/System") ∈ lw_all := lw_g (lw_at lw_m1 31 rfl) rfl
set_option maxRecDepth 100000
theorem q763 : (Jvm.Cond.static ({ cls := "java/lang/System", name := "arraycopy", desc := "(Ljava/lang/Object;ILjava/lang/Object;II)V" } : Jvm.MethodName)) ∈ lw_all := lw_g (lw_at lw_m3 193 rfl) rfl
theorem q764 : (Jvm.Cond.native ({ cls := "java/lang/System", name := "arraycopy", desc := "(Ljava/lang/Object;ILjava/lang/Object;II)V" } : Jvm.MethodName)) ∈ lw_all := lw_g (lw_at lw_m3 194 rfl) rfl
theorem q247 : (Jvm.Cond.arrayClass Jvm.ClassFile.FieldType.int) ∈ lw_all := lw_g (lw_at lw_m1 157 rfl) rfl
set_option maxRecDepth 100000
theorem q273 : (Jvm.Cond.arrayClass Jvm.ClassFile.FieldType.byte) ∈ lw_all := lw_g (lw_at lw_m1 183 rfl) rfl
theorem q362 : (Jvm.Cond.arrayOver (Jvm.ClassFile.FieldType.object "NineDemands$Shelf")) ∈ lw_tbl := lw_at lw_m2 32 rfl
theorem q1317 : (Jvm.Cond.arrayOver (Jvm.ClassFile.FieldType.object "java/lang/Object")) ∈ lw_tbl := lw_at lw_m6 27 rfl
theorem q1851 : (Jvm.Cond.arrayClass Jvm.ClassFile.FieldType.short) ∈ lw_all := lw_g (lw_at lw_m8 81 rfl) rfl
