theorem q80 : (Jvm.Cond.initialized "ThreeStrangersLaw") ∈ lw_all := lw_g (lw_at lw_m1 0 rfl) rfl
set_option maxRecDepth 100000
theorem q117 : (Jvm.Cond.classLink "ThreeStrangersLaw" (7 : Nat) "ThreeStrangers") ∈ lw_all := lw_g (lw_at lw_m1 37 rfl) rfl
theorem q119 : (Jvm.Cond.methodLink "ThreeStrangersLaw" (9 : Nat) ({ cls := "ThreeStrangers", name := "<init>", desc := "()V" } : Jvm.MethodName)) ∈ lw_all := lw_g (lw_at lw_m1 39 rfl) rfl
theorem q298 : (Jvm.Cond.methodLink "ThreeStrangersLaw" (13 : Nat) ({ cls := "ThreeStrangers", name := "row", desc := "(III)I" } : Jvm.MethodName)) ∈ lw_all := lw_g (lw_at lw_m1 218 rfl) rfl
theorem q406 : (Jvm.Cond.methodLink "ThreeStrangersLaw" (20 : Nat) ({ cls := "ThreeStrangers", name := "set", desc := "(IIJ)I" } : Jvm.MethodName)) ∈ lw_all := lw_g (lw_at lw_m2 86 rfl) rfl
theorem q472 : (Jvm.Cond.methodLink "ThreeStrangersLaw" (25 : Nat) ({ cls := "ThreeStrangers", name := "copy", desc := "(IIIII)I" } : Jvm.MethodName)) ∈ lw_all := lw_g (lw_at lw_m2 152 rfl) rfl
theorem q519 : (Jvm.Cond.methodLink "ThreeStrangersLaw" (30 : Nat) ({ cls := "ThreeStrangers", name := "element", desc := "(II)J" } : Jvm.MethodName)) ∈ lw_all := lw_g (lw_at lw_m2 199 rfl) rfl
theorem q526 : (Jvm.Cond.methodLink "ThreeStrangersLaw" (35 : Nat) ({ cls := "ThreeStrangers", name := "holds", desc := "(I)I" } : Jvm.MethodName)) ∈ lw_all := lw_g (lw_at lw_m2 206 rfl) rfl
theorem q549 : (Jvm.Cond.methodLink "ThreeStrangersLaw" (40 : Nat) ({ cls := "ThreeStrangers", name := "coachman", desc := "(III)I" } : Jvm.MethodName)) ∈ lw_all := lw_g (lw_at lw_m2 229 rfl) rfl
theorem q604 : (Jvm.Cond.methodLink "ThreeStrangersLaw" (44 : Nat) ({ cls := "ThreeStrangers", name := "says", desc := "(II)I" } : Jvm.MethodName)) ∈ lw_all := lw_g (lw_at lw_m3 44 rfl) rfl
theorem q739 : (Jvm.Cond.methodLink "ThreeStrangersLaw" (49 : Nat) ({ cls := "ThreeStrangers", name := "person", desc := "(II)I" } : Jvm.MethodName)) ∈ lw_all := lw_g (lw_at lw_m3 179 rfl) rfl
theorem q751 : (Jvm.Cond.methodLink "ThreeStrangersLaw" (53 : Nat) ({ cls := "ThreeStrangers", name := "change", desc := "(III)I" } : Jvm.MethodName)) ∈ lw_all := lw_g (lw_at lw_m3 191 rfl) rfl
theorem q760 : (Jvm.Cond.methodLink "ThreeStrangersLaw" (57 : Nat) ({ cls := "ThreeStrangers", name := "know", desc := "(III)I" } : Jvm.MethodName)) ∈ lw_all := lw_g (lw_at lw_m3 200 rfl) rfl
theorem q770 : (Jvm.Cond.methodLink "ThreeStrangersLaw" (61 : Nat) ({ cls := "ThreeStrangers", name := "ask", desc := "(II)I" } : Jvm.MethodName)) ∈ lw_all := lw_g (lw_at lw_m3 210 rfl) rfl
theorem q774 : (Jvm.Cond.methodLink "ThreeStrangersLaw" (65 : Nat) ({ cls := "ThreeStrangers", name := "feed", desc := "(I)I" } : Jvm.MethodName)) ∈ lw_all := lw_g (lw_at lw_m3 214 rfl) rfl
theorem q778 : (Jvm.Cond.methodLink "ThreeStrangersLaw" (69 : Nat) ({ cls := "ThreeStrangers", name := "wipe", desc := "()I" } : Jvm.MethodName)) ∈ lw_all := lw_g (lw_at lw_m3 218 rfl) rfl
theorem q782 : (Jvm.Cond.methodLink "ThreeStrangersLaw" (74 : Nat) ({ cls := "ThreeStrangers", name := "town", desc := "()I" } : Jvm.MethodName)) ∈ lw_all := lw_g (lw_at lw_m3 222 rfl) rfl
theorem q1154 : (Jvm.Cond.methodLink "ThreeStrangersLaw" (78 : Nat) ({ cls := "ThreeStrangers", name := "personOf", desc := "(II)I" } : Jvm.MethodName)) ∈ lw_all := lw_g (lw_at lw_m5 114 rfl) rfl
theorem q1160 : (Jvm.Cond.methodLink "ThreeStrangersLaw" (82 : Nat) ({ cls := "ThreeStrangers", name := "knownOf", desc := "(II)I" } : Jvm.MethodName)) ∈ lw_all := lw_g (lw_at lw_m5 120 rfl) rfl
theorem q1164 : (Jvm.Cond.methodLink "ThreeStrangersLaw" (86 : Nat) ({ cls := "ThreeStrangers", name := "isGroup", desc := "(I)I" } : Jvm.MethodName)) ∈ lw_all := lw_g (lw_at lw_m5 124 rfl) rfl
theorem q1177 : (Jvm.Cond.methodLink "ThreeStrangersLaw" (90 : Nat) ({ cls := "ThreeStrangers", name := "groups", desc := "(I)I" } : Jvm.MethodName)) ∈ lw_all := lw_g (lw_at lw_m5 137 rfl) rfl
theorem q1185 : (Jvm.Cond.methodLink "ThreeStrangersLaw" (94 : Nat) ({ cls := "ThreeStrangers", name := "firstOf", desc := "(I)I" } : Jvm.MethodName)) ∈ lw_all := lw_g (lw_at lw_m5 145 rfl) rfl
theorem q1190 : (Jvm.Cond.methodLink "ThreeStrangersLaw" (98 : Nat) ({ cls := "ThreeStrangers", name := "most", desc := "(I)I" } : Jvm.MethodName)) ∈ lw_all := lw_g (lw_at lw_m5 150 rfl) rfl
theorem q1198 : (Jvm.Cond.methodLink "ThreeStrangersLaw" (102 : Nat) ({ cls := "ThreeStrangers", name := "mostOf", desc := "(II)I" } : Jvm.MethodName)) ∈ lw_all := lw_g (lw_at lw_m5 158 rfl) rfl
theorem q1203 : (Jvm.Cond.methodLink "ThreeStrangersLaw" (106 : Nat) ({ cls := "ThreeStrangers", name := "sends", desc := "(III)I" } : Jvm.MethodName)) ∈ lw_all := lw_g (lw_at lw_m5 163 rfl) rfl
theorem q1220 : (Jvm.Cond.methodLink "ThreeStrangersLaw" (110 : Nat) ({ cls := "ThreeStrangers", name := "run", desc := "(I)I" } : Jvm.MethodName)) ∈ lw_all := lw_g (lw_at lw_m5 180 rfl) rfl
theorem q1246 : (Jvm.Cond.methodLink "ThreeStrangersLaw" (114 : Nat) ({ cls := "ThreeStrangers", name := "coach", desc := "(II)I" } : Jvm.MethodName)) ∈ lw_all := lw_g (lw_at lw_m5 206 rfl) rfl
theorem q1250 : (Jvm.Cond.methodLink "ThreeStrangersLaw" (118 : Nat) ({ cls := "ThreeStrangers", name := "left", desc := "(I)I" } : Jvm.MethodName)) ∈ lw_all := lw_g (lw_at lw_m5 210 rfl) rfl
theorem q1254 : (Jvm.Cond.methodLink "ThreeStrangersLaw" (122 : Nat) ({ cls := "ThreeStrangers", name := "waits", desc := "(II)I" } : Jvm.MethodName)) ∈ lw_all := lw_g (lw_at lw_m5 214 rfl) rfl
theorem q1262 : (Jvm.Cond.methodLink "ThreeStrangersLaw" (126 : Nat) ({ cls := "ThreeStrangers", name := "least", desc := "(I)I" } : Jvm.MethodName)) ∈ lw_all := lw_g (lw_at lw_m5 222 rfl) rfl
theorem q1280 : (Jvm.Cond.methodLink "ThreeStrangersLaw" (130 : Nat) ({ cls := "ThreeStrangers", name := "head", desc := "()I" } : Jvm.MethodName)) ∈ lw_all := lw_g (lw_at lw_m6 0 rfl) rfl
theorem q1284 : (Jvm.Cond.methodLink "ThreeStrangersLaw" (134 : Nat) ({ cls := "ThreeStrangers", name := "days", desc := "(I)I" } : Jvm.MethodName)) ∈ lw_all := lw_g (lw_at lw_m6 4 rfl) rfl
theorem q1294 : (Jvm.Cond.methodLink "ThreeStrangersLaw" (138 : Nat) ({ cls := "ThreeStrangers", name := "ever", desc := "(I)I" } : Jvm.MethodName)) ∈ lw_all := lw_g (lw_at lw_m6 14 rfl) rfl
theorem q1307 : (Jvm.Cond.methodLink "ThreeStrangersLaw" (142 : Nat) ({ cls := "ThreeStrangers", name := "hire", desc := "()I" } : Jvm.MethodName)) ∈ lw_all := lw_g (lw_at lw_m6 27 rfl) rfl
theorem q1316 : (Jvm.Cond.methodLink "ThreeStrangersLaw" (146 : Nat) ({ cls := "ThreeStrangers", name := "feast", desc := "(I)I" } : Jvm.MethodName)) ∈ lw_all := lw_g (lw_at lw_m6 36 rfl) rfl
theorem q1321 : (Jvm.Cond.methodLink "ThreeStrangersLaw" (150 : Nat) ({ cls := "ThreeStrangers", name := "closes", desc := "(II)I" } : Jvm.MethodName)) ∈ lw_all := lw_g (lw_at lw_m6 41 rfl) rfl
theorem q1329 : (Jvm.Cond.methodLink "ThreeStrangersLaw" (154 : Nat) ({ cls := "ThreeStrangers", name := "worst", desc := "()I" } : Jvm.MethodName)) ∈ lw_all := lw_g (lw_at lw_m6 49 rfl) rfl
theorem q1333 : (Jvm.Cond.methodLink "ThreeStrangersLaw" (158 : Nat) ({ cls := "ThreeStrangers", name := "fits", desc := "(I)I" } : Jvm.MethodName)) ∈ lw_all := lw_g (lw_at lw_m6 53 rfl) rfl
theorem q1381 : (Jvm.Cond.methodLink "ThreeStrangersLaw" (162 : Nat) ({ cls := "ThreeStrangers", name := "sure", desc := "(I)I" } : Jvm.MethodName)) ∈ lw_all := lw_g (lw_at lw_m6 101 rfl) rfl
theorem q1389 : (Jvm.Cond.methodLink "ThreeStrangersLaw" (166 : Nat) ({ cls := "ThreeStrangers", name := "judge", desc := "(II)I" } : Jvm.MethodName)) ∈ lw_all := lw_g (lw_at lw_m6 109 rfl) rfl
theorem q1401 : (Jvm.Cond.methodLink "ThreeStrangersLaw" (170 : Nat) ({ cls := "ThreeStrangers", name := "behind", desc := "(III)I" } : Jvm.MethodName)) ∈ lw_all := lw_g (lw_at lw_m6 121 rfl) rfl
theorem q1412 : (Jvm.Cond.methodLink "ThreeStrangersLaw" (174 : Nat) ({ cls := "ThreeStrangers", name := "rides", desc := "(II)I" } : Jvm.MethodName)) ∈ lw_all := lw_g (lw_at lw_m6 132 rfl) rfl
theorem q1416 : (Jvm.Cond.methodLink "ThreeStrangersLaw" (178 : Nat) ({ cls := "ThreeStrangers", name := "day", desc := "(I)I" } : Jvm.MethodName)) ∈ lw_all := lw_g (lw_at lw_m6 136 rfl) rfl
theorem q1420 : (Jvm.Cond.methodLink "ThreeStrangersLaw" (182 : Nat) ({ cls := "ThreeStrangers", name := "meet", desc := "(I)I" } : Jvm.MethodName)) ∈ lw_all := lw_g (lw_at lw_m6 140 rfl) rfl
theorem q1424 : (Jvm.Cond.methodLink "ThreeStrangersLaw" (186 : Nat) ({ cls := "ThreeStrangers", name := "year", desc := "()I" } : Jvm.MethodName)) ∈ lw_all := lw_g (lw_at lw_m6 144 rfl) rfl
theorem q1433 : (Jvm.Cond.methodLink "ThreeStrangersLaw" (190 : Nat) ({ cls := "ThreeStrangers", name := "come", desc := "(I)I" } : Jvm.MethodName)) ∈ lw_all := lw_g (lw_at lw_m6 153 rfl) rfl
theorem q1442 : (Jvm.Cond.methodLink "ThreeStrangersLaw" (194 : Nat) ({ cls := "ThreeStrangers", name := "seed", desc := "(I)I" } : Jvm.MethodName)) ∈ lw_all := lw_g (lw_at lw_m6 162 rfl) rfl
theorem q1446 : (Jvm.Cond.methodLink "ThreeStrangersLaw" (198 : Nat) ({ cls := "ThreeStrangers", name := "image", desc := "()I" } : Jvm.MethodName)) ∈ lw_all := lw_g (lw_at lw_m6 166 rfl) rfl
theorem q1450 : (Jvm.Cond.methodLink "ThreeStrangersLaw" (202 : Nat) ({ cls := "ThreeStrangers", name := "back", desc := "()I" } : Jvm.MethodName)) ∈ lw_all := lw_g (lw_at lw_m6 170 rfl) rfl
theorem q1454 : (Jvm.Cond.methodLink "ThreeStrangersLaw" (206 : Nat) ({ cls := "ThreeStrangers", name := "status", desc := "(I)I" } : Jvm.MethodName)) ∈ lw_all := lw_g (lw_at lw_m6 174 rfl) rfl
theorem q1468 : (Jvm.Cond.classLink "ThreeStrangersLaw" (10 : Nat) "ThreeStrangersModel") ∈ lw_all := lw_g (lw_at lw_m6 188 rfl) rfl
theorem q1470 : (Jvm.Cond.methodLink "ThreeStrangersLaw" (12 : Nat) ({ cls := "ThreeStrangersModel", name := "<init>", desc := "()V" } : Jvm.MethodName)) ∈ lw_all := lw_g (lw_at lw_m6 190 rfl) rfl
theorem q1614 : (Jvm.Cond.methodLink "ThreeStrangersLaw" (17 : Nat) ({ cls := "ThreeStrangersModel", name := "row", desc := "(III)I" } : Jvm.MethodName)) ∈ lw_all := lw_g (lw_at lw_m7 94 rfl) rfl
theorem q1628 : (Jvm.Cond.methodLink "ThreeStrangersLaw" (24 : Nat) ({ cls := "ThreeStrangersModel", name := "set", desc := "(IIJ)I" } : Jvm.MethodName)) ∈ lw_all := lw_g (lw_at lw_m7 108 rfl) rfl
theorem q1639 : (Jvm.Cond.methodLink "ThreeStrangersLaw" (29 : Nat) ({ cls := "ThreeStrangersModel", name := "copy", desc := "(IIIII)I" } : Jvm.MethodName)) ∈ lw_all := lw_g (lw_at lw_m7 119 rfl) rfl
theorem q1643 : (Jvm.Cond.methodLink "ThreeStrangersLaw" (34 : Nat) ({ cls := "ThreeStrangersModel", name := "element", desc := "(II)J" } : Jvm.MethodName)) ∈ lw_all := lw_g (lw_at lw_m7 123 rfl) rfl
theorem q1647 : (Jvm.Cond.methodLink "ThreeStrangersLaw" (39 : Nat) ({ cls := "ThreeStrangersModel", name := "holds", desc := "(I)I" } : Jvm.MethodName)) ∈ lw_all := lw_g (lw_at lw_m7 127 rfl) rfl
theorem q1651 : (Jvm.Cond.methodLink "ThreeStrangersLaw" (43 : Nat) ({ cls := "ThreeStrangersModel", name := "coachman", desc := "(III)I" } : Jvm.MethodName)) ∈ lw_all := lw_g (lw_at lw_m7 131 rfl) rfl
theorem q1657 : (Jvm.Cond.methodLink "ThreeStrangersLaw" (48 : Nat) ({ cls := "ThreeStrangersModel", name := "says", desc := "(II)I" } : Jvm.MethodName)) ∈ lw_all := lw_g (lw_at lw_m7 137 rfl) rfl
theorem q1710 : (Jvm.Cond.methodLink "ThreeStrangersLaw" (52 : Nat) ({ cls := "ThreeStrangersModel", name := "person", desc := "(II)I" } : Jvm.MethodName)) ∈ lw_all := lw_g (lw_at lw_m7 190 rfl) rfl
theorem q1719 : (Jvm.Cond.methodLink "ThreeStrangersLaw" (56 : Nat) ({ cls := "ThreeStrangersModel", name := "change", desc := "(III)I" } : Jvm.MethodName)) ∈ lw_all := lw_g (lw_at lw_m7 199 rfl) rfl
theorem q1727 : (Jvm.Cond.methodLink "ThreeStrangersLaw" (60 : Nat) ({ cls := "ThreeStrangersModel", name := "know", desc := "(III)I" } : Jvm.MethodName)) ∈ lw_all := lw_g (lw_at lw_m7 207 rfl) rfl
theorem q1741 : (Jvm.Cond.methodLink "ThreeStrangersLaw" (64 : Nat) ({ cls := "ThreeStrangersModel", name := "ask", desc := "(II)I" } : Jvm.MethodName)) ∈ lw_all := lw_g (lw_at lw_m7 221 rfl) rfl
theorem q1746 : (Jvm.Cond.methodLink "ThreeStrangersLaw" (68 : Nat) ({ cls := "ThreeStrangersModel", name := "feed", desc := "(I)I" } : Jvm.MethodName)) ∈ lw_all := lw_g (lw_at lw_m7 226 rfl) rfl
theorem q1751 : (Jvm.Cond.methodLink "ThreeStrangersLaw" (73 : Nat) ({ cls := "ThreeStrangersModel", name := "wipe", desc := "()I" } : Jvm.MethodName)) ∈ lw_all := lw_g (lw_at lw_m7 231 rfl) rfl
theorem q1755 : (Jvm.Cond.methodLink "ThreeStrangersLaw" (77 : Nat) ({ cls := "ThreeStrangersModel", name := "town", desc := "()I" } : Jvm.MethodName)) ∈ lw_all := lw_g (lw_at lw_m7 235 rfl) rfl
theorem q1849 : (Jvm.Cond.methodLink "ThreeStrangersLaw" (81 : Nat) ({ cls := "ThreeStrangersModel", name := "personOf", desc := "(II)I" } : Jvm.MethodName)) ∈ lw_all := lw_g (lw_at lw_m8 89 rfl) rfl
theorem q1854 : (Jvm.Cond.methodLink "ThreeStrangersLaw" (85 : Nat) ({ cls := "ThreeStrangersModel", name := "knownOf", desc := "(II)I" } : Jvm.MethodName)) ∈ lw_all := lw_g (lw_at lw_m8 94 rfl) rfl
theorem q1858 : (Jvm.Cond.methodLink "ThreeStrangersLaw" (89 : Nat) ({ cls := "ThreeStrangersModel", name := "isGroup", desc := "(I)I" } : Jvm.MethodName)) ∈ lw_all := lw_g (lw_at lw_m8 98 rfl) rfl
theorem q1870 : (Jvm.Cond.methodLink "ThreeStrangersLaw" (93 : Nat) ({ cls := "ThreeStrangersModel", name := "groups", desc := "(I)I" } : Jvm.MethodName)) ∈ lw_all := lw_g (lw_at lw_m8 110 rfl) rfl
theorem q1878 : (Jvm.Cond.methodLink "ThreeStrangersLaw" (97 : Nat) ({ cls := "ThreeStrangersModel", name := "firstOf", desc := "(I)I" } : Jvm.MethodName)) ∈ lw_all := lw_g (lw_at lw_m8 118 rfl) rfl
theorem q1882 : (Jvm.Cond.methodLink "ThreeStrangersLaw" (101 : Nat) ({ cls := "ThreeStrangersModel", name := "most", desc := "(I)I" } : Jvm.MethodName)) ∈ lw_all := lw_g (lw_at lw_m8 122 rfl) rfl
theorem q1886 : (Jvm.Cond.methodLink "ThreeStrangersLaw" (105 : Nat) ({ cls := "ThreeStrangersModel", name := "mostOf", desc := "(II)I" } : Jvm.MethodName)) ∈ lw_all := lw_g (lw_at lw_m8 126 rfl) rfl
theorem q1890 : (Jvm.Cond.methodLink "ThreeStrangersLaw" (109 : Nat) ({ cls := "ThreeStrangersModel", name := "sends", desc := "(III)I" } : Jvm.MethodName)) ∈ lw_all := lw_g (lw_at lw_m8 130 rfl) rfl
theorem q1898 : (Jvm.Cond.methodLink "ThreeStrangersLaw" (113 : Nat) ({ cls := "ThreeStrangersModel", name := "run", desc := "(I)I" } : Jvm.MethodName)) ∈ lw_all := lw_g (lw_at lw_m8 138 rfl) rfl
theorem q1910 : (Jvm.Cond.methodLink "ThreeStrangersLaw" (117 : Nat) ({ cls := "ThreeStrangersModel", name := "coach", desc := "(II)I" } : Jvm.MethodName)) ∈ lw_all := lw_g (lw_at lw_m8 150 rfl) rfl
theorem q1914 : (Jvm.Cond.methodLink "ThreeStrangersLaw" (121 : Nat) ({ cls := "ThreeStrangersModel", name := "left", desc := "(I)I" } : Jvm.MethodName)) ∈ lw_all := lw_g (lw_at lw_m8 154 rfl) rfl
theorem q1918 : (Jvm.Cond.methodLink "ThreeStrangersLaw" (125 : Nat) ({ cls := "ThreeStrangersModel", name := "waits", desc := "(II)I" } : Jvm.MethodName)) ∈ lw_all := lw_g (lw_at lw_m8 158 rfl) rfl
theorem q1926 : (Jvm.Cond.methodLink "ThreeStrangersLaw" (129 : Nat) ({ cls := "ThreeStrangersModel", name := "least", desc := "(I)I" } : Jvm.MethodName)) ∈ lw_all := lw_g (lw_at lw_m8 166 rfl) rfl
theorem q1934 : (Jvm.Cond.methodLink "ThreeStrangersLaw" (133 : Nat) ({ cls := "ThreeStrangersModel", name := "head", desc := "()I" } : Jvm.MethodName)) ∈ lw_all := lw_g (lw_at lw_m8 174 rfl) rfl
theorem q1938 : (Jvm.Cond.methodLink "ThreeStrangersLaw" (137 : Nat) ({ cls := "ThreeStrangersModel", name := "days", desc := "(I)I" } : Jvm.MethodName)) ∈ lw_all := lw_g (lw_at lw_m8 178 rfl) rfl
theorem q1946 : (Jvm.Cond.methodLink "ThreeStrangersLaw" (141 : Nat) ({ cls := "ThreeStrangersModel", name := "ever", desc := "(I)I" } : Jvm.MethodName)) ∈ lw_all := lw_g (lw_at lw_m8 186 rfl) rfl
theorem q1965 : (Jvm.Cond.methodLink "ThreeStrangersLaw" (145 : Nat) ({ cls := "ThreeStrangersModel", name := "hire", desc := "()I" } : Jvm.MethodName)) ∈ lw_all := lw_g (lw_at lw_m8 205 rfl) rfl
theorem q1969 : (Jvm.Cond.methodLink "ThreeStrangersLaw" (149 : Nat) ({ cls := "ThreeStrangersModel", name := "feast", desc := "(I)I" } : Jvm.MethodName)) ∈ lw_all := lw_g (lw_at lw_m8 209 rfl) rfl
theorem q1973 : (Jvm.Cond.methodLink "ThreeStrangersLaw" (153 : Nat) ({ cls := "ThreeStrangersModel", name := "closes", desc := "(II)I" } : Jvm.MethodName)) ∈ lw_all := lw_g (lw_at lw_m8 213 rfl) rfl
theorem q1981 : (Jvm.Cond.methodLink "ThreeStrangersLaw" (157 : Nat) ({ cls := "ThreeStrangersModel", name := "worst", desc := "()I" } : Jvm.MethodName)) ∈ lw_all := lw_g (lw_at lw_m8 221 rfl) rfl
theorem q1985 : (Jvm.Cond.methodLink "ThreeStrangersLaw" (161 : Nat) ({ cls := "ThreeStrangersModel", name := "fits", desc := "(I)I" } : Jvm.MethodName)) ∈ lw_all := lw_g (lw_at lw_m8 225 rfl) rfl
theorem q1993 : (Jvm.Cond.methodLink "ThreeStrangersLaw" (165 : Nat) ({ cls := "ThreeStrangersModel", name := "sure", desc := "(I)I" } : Jvm.MethodName)) ∈ lw_all := lw_g (lw_at lw_m8 233 rfl) rfl
theorem q1997 : (Jvm.Cond.methodLink "ThreeStrangersLaw" (169 : Nat) ({ cls := "ThreeStrangersModel", name := "judge", desc := "(II)I" } : Jvm.MethodName)) ∈ lw_all := lw_g (lw_at lw_m8 237 rfl) rfl
theorem q2009 : (Jvm.Cond.methodLink "ThreeStrangersLaw" (173 : Nat) ({ cls := "ThreeStrangersModel", name := "behind", desc := "(III)I" } : Jvm.MethodName)) ∈ lw_all := lw_g (lw_at lw_m9 9 rfl) rfl
theorem q2013 : (Jvm.Cond.methodLink "ThreeStrangersLaw" (177 : Nat) ({ cls := "ThreeStrangersModel", name := "rides", desc := "(II)I" } : Jvm.MethodName)) ∈ lw_all := lw_g (lw_at lw_m9 13 rfl) rfl
theorem q2017 : (Jvm.Cond.methodLink "ThreeStrangersLaw" (181 : Nat) ({ cls := "ThreeStrangersModel", name := "day", desc := "(I)I" } : Jvm.MethodName)) ∈ lw_all := lw_g (lw_at lw_m9 17 rfl) rfl
theorem q2021 : (Jvm.Cond.methodLink "ThreeStrangersLaw" (185 : Nat) ({ cls := "ThreeStrangersModel", name := "meet", desc := "(I)I" } : Jvm.MethodName)) ∈ lw_all := lw_g (lw_at lw_m9 21 rfl) rfl
theorem q2025 : (Jvm.Cond.methodLink "ThreeStrangersLaw" (189 : Nat) ({ cls := "ThreeStrangersModel", name := "year", desc := "()I" } : Jvm.MethodName)) ∈ lw_all := lw_g (lw_at lw_m9 25 rfl) rfl
theorem q2029 : (Jvm.Cond.methodLink "ThreeStrangersLaw" (193 : Nat) ({ cls := "ThreeStrangersModel", name := "come", desc := "(I)I" } : Jvm.MethodName)) ∈ lw_all := lw_g (lw_at lw_m9 29 rfl) rfl
theorem q2038 : (Jvm.Cond.methodLink "ThreeStrangersLaw" (197 : Nat) ({ cls := "ThreeStrangersModel", name := "seed", desc := "(I)I" } : Jvm.MethodName)) ∈ lw_all := lw_g (lw_at lw_m9 38 rfl) rfl
theorem q2042 : (Jvm.Cond.methodLink "ThreeStrangersLaw" (201 : Nat) ({ cls := "ThreeStrangersModel", name := "image", desc := "()I" } : Jvm.MethodName)) ∈ lw_all := lw_g (lw_at lw_m9 42 rfl) rfl
theorem q2046 : (Jvm.Cond.methodLink "ThreeStrangersLaw" (205 : Nat) ({ cls := "ThreeStrangersModel", name := "back", desc := "()I" } : Jvm.MethodName)) ∈ lw_all := lw_g (lw_at lw_m9 46 rfl) rfl
theorem q2050 : (Jvm.Cond.methodLink "ThreeStrangersLaw" (209 : Nat) ({ cls := "ThreeStrangersModel", name := "status", desc := "(I)I" } : Jvm.MethodName)) ∈ lw_all := lw_g (lw_at lw_m9 50 rfl) rfl
theorem q2056 : (Jvm.Cond.constantLong "ThreeStrangersLaw" (18 : Nat) (4294967295 : Int64)) ∈ lw_all := lw_g (lw_at lw_m9 56 rfl) rfl
theorem q903 : (Jvm.Cond.sameMethod "[B" "java/lang/Object" "clone" "()Ljava/lang/Object;") ∈ lw_all := lw_g (lw_at lw_m4 103 rfl) rfl
set_option maxRecDepth 100000
theorem q906 : (Jvm.Cond.selects "[B" ({ cls := "[B", name := "clone", desc := "()Ljava/lang/Object;" } : Jvm.MethodName) ({ cls := "java/lang/Object", name := "clone", desc := "()Ljava/lang/Object;" } : Jvm.MethodName)) ∈ lw_all := lw_g (lw_at lw_m4 106 rfl) rfl
theorem q907 : (Jvm.Cond.castable "[B" "java/lang/Cloneable") ∈ lw_tbl := lw_at lw_m4 107 rfl
theorem q97 : (Jvm.Cond.initialized "java/lang/System") ∈ lw_all := lw_g (lw_at lw_m1 17 rfl) rfl
set_option maxRecDepth 100000
theorem q517 : (Jvm.Cond.static ({ cls := "java/lang/System", name := "arraycopy", desc := "(Ljava/lang/Object;ILjava/lang/Object;II)V" } : Jvm.MethodName)) ∈ lw_all := lw_g (lw_at lw_m2 197 rfl) rfl
theorem q518 : (Jvm.Cond.native ({ cls := "java/lang/System", name := "arraycopy", desc := "(Ljava/lang/Object;ILjava/lang/Object;II)V" } : Jvm.MethodName)) ∈ lw_all := lw_g (lw_at lw_m2 198 rfl) rfl
theorem q1078 : (Jvm.Cond.interfaceMethod "jdk/internal/access/JavaLangAccess" "jdk/internal/access/JavaLangAccess" "getUTF16Char" "([BI)C") ∈ lw_tbl := lw_at lw_m5 38 rfl
set_option maxRecDepth 100000
theorem q1079 : (Jvm.Cond.declares ({ cls := "jdk/internal/access/JavaLangAccess", name := "getUTF16Char", desc := "([BI)C" } : Jvm.MethodName)) ∈ lw_tbl := lw_at lw_m5 39 rfl
theorem q181 : (Jvm.Cond.arrayClass Jvm.ClassFile.FieldType.int) ∈ lw_all := lw_g (lw_at lw_m1 101 rfl) rfl
set_option maxRecDepth 100000
theorem q252 : (Jvm.Cond.arrayOver (Jvm.ClassFile.FieldType.object "ThreeStrangers$Sheet")) ∈ lw_tbl := lw_at lw_m1 172 rfl
theorem q385 : (Jvm.Cond.arrayClass Jvm.ClassFile.FieldType.byte) ∈ lw_all := lw_g (lw_at lw_m2 65 rfl) rfl
theorem q403 : (Jvm.Cond.arrayClass Jvm.ClassFile.FieldType.short) ∈ lw_all := lw_g (lw_at lw_m2 83 rfl) rfl
theorem q404 : (Jvm.Cond.arrayClass Jvm.ClassFile.FieldType.long) ∈ lw_all := lw_g (lw_at lw_m2 84 rfl) rfl
theorem q405 : (Jvm.Cond.arrayClass Jvm.ClassFile.FieldType.boolean) ∈ lw_all := lw_g (lw_at lw_m2 85 rfl) rfl
theorem q1475 : (Jvm.Cond.arrayOver (Jvm.ClassFile.FieldType.array Jvm.ClassFile.FieldType.long)) ∈ lw_tbl := lw_at lw_m6 195 rfl
theorem q1477 : (Jvm.Cond.arrayOver (Jvm.ClassFile.FieldType.array Jvm.ClassFile.FieldType.int)) ∈ lw_tbl := lw_at lw_m6 197 rfl
theorem q2074 : (Jvm.Cond.arrayClass Jvm.ClassFile.FieldType.char) ∈ lw_all := lw_g (lw_at lw_m9 74 rfl) rfl
/-! ThreeStrangersModel -/
set_option maxRecDepth 100000
def RX5 : String := "ThreeStrangersModel"
def TX5 : u_T := fun k => match k with
  | 0 => ("ThreeStrangersModel", "shelf", "[I", true)
  | 1 => ("ThreeStrangersModel", "rowSort", "[I", true)
  | 2 => ("ThreeStrangersModel", "rowSize", "[I", true)
  | 3 => ("ThreeStrangersModel", "rows", "[[J", true)
  | 4 => ("ThreeStrangersModel", "moved", "[J", true)
  | 5 => ("ThreeStrangersModel", "manKind", "[I", true)
  | 6 => ("ThreeStrangersModel", "manBy", "[I", true)
  | 7 => ("ThreeStrangersModel", "tape", "[I", true)
  | 8 => ("ThreeStrangersModel", "tapeSize", "I", false)
  | 9 => ("ThreeStrangersModel", "refused", "[I", true)
  | 10 => ("ThreeStrangersModel", "people", "I", false)
  | 11 => ("ThreeStrangersModel", "hour", "[I", true)
  | 12 => ("ThreeStrangersModel", "cost", "[I", true)
  | 13 => ("ThreeStrangersModel", "known", "[[I", true)
  | 14 => ("ThreeStrangersModel", "seats", "I", false)
  | 15 => ("ThreeStrangersModel", "memory", "I", false)
  | 16 => ("ThreeStrangersModel", "coaches", "I", false)
  | 17 => ("ThreeStrangersModel", "days", "I", false)
  | 18 => ("ThreeStrangersModel", "years", "I", false)
  | 19 => ("ThreeStrangersModel", "seed", "I", false)
  | 20 => ("ThreeStrangersModel", "kept", "LThreeStrangersModel;", false)
  | 21 => ("ThreeStrangersModel", "tried", "LThreeStrangersModel;", false)
  | 22 => ("ThreeStrangersModel", "at", "I", false)
  | 23 => ("ThreeStrangersModel", "token", "I", false)
  | 24 => ("ThreeStrangersModel", "from", "I", false)
  | 25 => ("ThreeStrangersModel", "figures", "I", false)
  | 26 => ("ThreeStrangersModel", "fault", "I", false)
  | 27 => ("ThreeStrangersModel", "told", "[I", true)
  | 28 => ("ThreeStrangersModel", "statements", "I", false)
  | 29 => ("ThreeStrangersModel", "list", "[I", true)
  | 30 => ("ThreeStrangersModel", "listed", "I", false)
  | 31 => ("ThreeStrangersModel", "coming", "[I", true)
  | 32 => ("ThreeStrangersModel", "coach", "[I", true)
  | 33 => ("ThreeStrangersModel", "went", "I", false)
  | 34 => ("ThreeStrangersModel", "leftNow", "I", false)
  | 35 => ("ThreeStrangersModel", "waited", "[I", true)
  | 36 => ("ThreeStrangersModel", "leastKnown", "[I", true)
  | 37 => ("ThreeStrangersModel", "longest", "I", false)
  | 38 => ("ThreeStrangersModel", "soonest", "I", false)
  | 39 => ("ThreeStrangersModel", "pairP", "[I", true)
  | 40 => ("ThreeStrangersModel", "pairQ", "[I", true)
  | 41 => ("ThreeStrangersModel", "pairWays", "[I", true)
  | 42 => ("ThreeStrangersModel", "pairs", "I", false)
  | 43 => ("ThreeStrangersModel", "ways", "I", false)
  | _ => ("ThreeStrangersModel", "rodeNow", "I", false)
def tyX5 : Nat → FieldType := fun k => match k with
  | 0 => .array .int
  | 1 => .array .int
  | 2 => .array .int
  | 3 => .array (.array .long)
  | 4 => .array .long
  | 5 => .array .int
  | 6 => .array .int
  | 7 => .array .int
  | 8 => .int
  | 9 => .array .int
  | 10 => .int
  | 11 => .array .int
  | 12 => .array .int
  | 13 => .array (.array .int)
  | 14 => .int
  | 15 => .int
  | 16 => .int
  | 17 => .int
  | 18 => .int
  | 19 => .int
  | 20 => .object "ThreeStrangersModel"
  | 21 => .object "ThreeStrangersModel"
  | 22 => .int
  | 23 => .int
  | 24 => .int
  | 25 => .int
  | 26 => .int
  | 27 => .array .int
  | 28 => .int
  | 29 => .array .int
  | 30 => .int
  | 31 => .array .int
  | 32 => .array .int
  | 33 => .int
  | 34 => .int
  | 35 => .array .int
  | 36 => .array .int
  | 37 => .int
  | 38 => .int
  | 39 => .array .int
  | 40 => .array .int
  | 41 => .array .int
  | 42 => .int
  | 43 => .int
  | _ => .int
abbrev wsX50 : List Cond := u_ws RX5 TX5 45
set_option maxRecDepth 100000 in
theorem nmX5 : ∀ a, a < 45 → ∀ b, b < 45 → a ≠ b → (TX5 a).2.1 ≠ (TX5 b).2.1 := by decide +kernel
set_option maxRecDepth 100000 in
theorem tyX5_ok : ∀ k, k < 45 → parseFieldDescriptor (TX5 k).2.2.1 = some (tyX5 k) := by decide +kernel
abbrev cX5_init : ByteArray := prog_18_method_1_code
def yX5_init : MethodName := ⟨RX5, "<init>", "()V"⟩
def dkwX5_init_8 : List UInt8 := [188, 10, 181, 0, 82, 177]
abbrev dktX5_init_8 : List UInt8 := dkwX5_init_8 ++ []
def dkwX5_init_7 : List UInt8 := [188, 10, 181, 0, 73, 42, 16, 10, 188, 10, 181, 0, 76, 42, 16, 10, 188, 10, 181, 0, 79, 42, 16, 10]
abbrev dktX5_init_7 : List UInt8 := dkwX5_init_7 ++ dktX5_init_8
def dkwX5_init_6 : List UInt8 := [181, 0, 64, 42, 16, 7, 188, 10, 181, 0, 67, 42, 16, 7, 188, 10, 181, 0, 70, 42, 17, 4, 0]
abbrev dktX5_init_6 : List UInt8 := dkwX5_init_6 ++ dktX5_init_7
def dkwX5_init_5 : List UInt8 := [181, 0, 55, 42, 5, 188, 10, 181, 0, 58, 42, 16, 70, 188, 10, 181, 0, 61, 42, 16, 7, 188, 10]
abbrev dktX5_init_5 : List UInt8 := dkwX5_init_5 ++ dktX5_init_6
def dkwX5_init_4 : List UInt8 := [188, 10, 181, 0, 43, 42, 16, 8, 16, 8, 197, 0, 46, 2, 181, 0, 48, 42, 6, 181, 0, 51, 42, 4]
abbrev dktX5_init_4 : List UInt8 := dkwX5_init_4 ++ dktX5_init_5
def dkwX5_init_3 : List UInt8 := [188, 10, 181, 0, 34, 42, 16, 8, 188, 10, 181, 0, 37, 42, 16, 8, 188, 10, 181, 0, 40, 42, 16, 8]
abbrev dktX5_init_3 : List UInt8 := dkwX5_init_3 ++ dktX5_init_4
def dkwX5_init_2 : List UInt8 := [181, 0, 24, 42, 16, 8, 188, 10, 181, 0, 28, 42, 16, 8, 188, 10, 181, 0, 31, 42, 17, 0, 250]
abbrev dktX5_init_2 : List UInt8 := dkwX5_init_2 ++ dktX5_init_3
def dkwX5_init_1 : List UInt8 := [188, 10, 181, 0, 16, 42, 16, 8, 16, 40, 197, 0, 19, 2, 181, 0, 21, 42, 16, 40, 188, 11]
abbrev dktX5_init_1 : List UInt8 := dkwX5_init_1 ++ dktX5_init_2
def dkwX5_init_0 : List UInt8 := [42, 183, 0, 1, 42, 16, 8, 188, 10, 181, 0, 7, 42, 16, 8, 188, 10, 181, 0, 13, 42, 16, 8]
abbrev dktX5_init_0 : List UInt8 := dkwX5_init_0 ++ dktX5_init_1
theorem dksX5_init_0 : cX5_init.data.toList.drop 0 = dktX5_init_0 := by decide +kernel
theorem dksX5_init_1 : cX5_init.data.toList.drop 23 = dktX5_init_1 := dk_seg dksX5_init_0 23 rfl rfl
theorem dksX5_init_2 : cX5_init.data.toList.drop 45 = dktX5_init_2 := dk_seg dksX5_init_1 22 rfl rfl
theorem dksX5_init_3 : cX5_init.data.toList.drop 68 = dktX5_init_3 := dk_seg dksX5_init_2 23 rfl rfl
theorem dksX5_init_4 : cX5_init.data.toList.drop 92 = dktX5_init_4 := dk_seg dksX5_init_3 24 rfl rfl
theorem dksX5_init_5 : cX5_init.data.toList.drop 116 = dktX5_init_5 := dk_seg dksX5_init_4 24 rfl rfl
theorem dksX5_init_6 : cX5_init.data.toList.drop 139 = dktX5_init_6 := dk_seg dksX5_init_5 23 rfl rfl
theorem dksX5_init_7 : cX5_init.data.toList.drop 162 = dktX5_init_7 := dk_seg dksX5_init_6 23 rfl rfl
theorem dksX5_init_8 : cX5_init.data.toList.drop 186 = dktX5_init_8 := dk_seg dksX5_init_7 24 rfl rfl
theorem dX5_init_0 : decode cX5_init 0 = .ok (.aload_n 0, 1) := dk_42 (dk_at dksX5_init_0 0 rfl rfl)
theorem dX5_init_1 : decode cX5_init 1 = .ok (.invokespecial 1, 3) := dk_183 0 1 (dk_at dksX5_init_0 1 rfl rfl)
theorem dX5_init_4 : decode cX5_init 4 = .ok (.aload_n 0, 1) := dk_42 (dk_at dksX5_init_0 4 rfl rfl)
theorem dX5_init_5 : decode cX5_init 5 = .ok (.bipush 8, 2) := dk_16 8 (dk_at dksX5_init_0 5 rfl rfl)
theorem dX5_init_7 : decode cX5_init 7 = .ok (.newarray .int, 2) := dk_188_10 (dk_at dksX5_init_0 7 rfl rfl)
theorem dX5_init_9 : decode cX5_init 9 = .ok (.putfield 7, 3) := dk_181 0 7 (dk_at dksX5_init_0 9 rfl rfl)
theorem dX5_init_12 : decode cX5_init 12 = .ok (.aload_n 0, 1) := dk_42 (dk_at dksX5_init_0 12 rfl rfl)
theorem dX5_init_13 : decode cX5_init 13 = .ok (.bipush 8, 2) := dk_16 8 (dk_at dksX5_init_0 13 rfl rfl)
theorem dX5_init_15 : decode cX5_init 15 = .ok (.newarray .int, 2) := dk_188_10 (dk_at dksX5_init_0 15 rfl rfl)
theorem dX5_init_17 : decode cX5_init 17 = .ok (.putfield 13, 3) := dk_181 0 13 (dk_at dksX5_init_0 17 rfl rfl)
theorem dX5_init_20 : decode cX5_init 20 = .ok (.aload_n 0, 1) := dk_42 (dk_at dksX5_init_0 20 rfl rfl)
theorem dX5_init_21 : decode cX5_init 21 = .ok (.bipush 8, 2) := dk_16 8 (dk_at dksX5_init_0 21 rfl rfl)
theorem dX5_init_23 : decode cX5_init 23 = .ok (.newarray .int, 2) := dk_188_10 (dk_at dksX5_init_1 0 rfl rfl)
theorem dX5_init_25 : decode cX5_init 25 = .ok (.putfield 16, 3) := dk_181 0 16 (dk_at dksX5_init_1 2 rfl rfl)
theorem dX5_init_28 : decode cX5_init 28 = .ok (.aload_n 0, 1) := dk_42 (dk_at dksX5_init_1 5 rfl rfl)
theorem dX5_init_29 : decode cX5_init 29 = .ok (.bipush 8, 2) := dk_16 8 (dk_at dksX5_init_1 6 rfl rfl)
theorem dX5_init_31 : decode cX5_init 31 = .ok (.bipush 40, 2) := dk_16 40 (dk_at dksX5_init_1 8 rfl rfl)
theorem dX5_init_33 : decode cX5_init 33 = .ok (.multianewarray 19 2, 4) := by decide +kernel
theorem dX5_init_37 : decode cX5_init 37 = .ok (.putfield 21, 3) := dk_181 0 21 (dk_at dksX5_init_1 14 rfl rfl)
theorem dX5_init_40 : decode cX5_init 40 = .ok (.aload_n 0, 1) := dk_42 (dk_at dksX5_init_1 17 rfl rfl)
theorem dX5_init_41 : decode cX5_init 41 = .ok (.bipush 40, 2) := dk_16 40 (dk_at dksX5_init_1 18 rfl rfl)
theorem dX5_init_43 : decode cX5_init 43 = .ok (.newarray .long, 2) := dk_188_11 (dk_at dksX5_init_1 20 rfl rfl)
theorem dX5_init_45 : decode cX5_init 45 = .ok (.putfield 24, 3) := dk_181 0 24 (dk_at dksX5_init_2 0 rfl rfl)
theorem dX5_init_48 : decode cX5_init 48 = .ok (.aload_n 0, 1) := dk_42 (dk_at dksX5_init_2 3 rfl rfl)
theorem dX5_init_49 : decode cX5_init 49 = .ok (.bipush 8, 2) := dk_16 8 (dk_at dksX5_init_2 4 rfl rfl)
theorem dX5_init_51 : decode cX5_init 51 = .ok (.newarray .int, 2) := dk_188_10 (dk_at dksX5_init_2 6 rfl rfl)
theorem dX5_init_53 : decode cX5_init 53 = .ok (.putfield 28, 3) := dk_181 0 28 (dk_at dksX5_init_2 8 rfl rfl)
theorem dX5_init_56 : decode cX5_init 56 = .ok (.aload_n 0, 1) := dk_42 (dk_at dksX5_init_2 11 rfl rfl)
theorem dX5_init_57 : decode cX5_init 57 = .ok (.bipush 8, 2) := dk_16 8 (dk_at dksX5_init_2 12 rfl rfl)
theorem dX5_init_59 : decode cX5_init 59 = .ok (.newarray .int, 2) := dk_188_10 (dk_at dksX5_init_2 14 rfl rfl)
theorem dX5_init_61 : decode cX5_init 61 = .ok (.putfield 31, 3) := dk_181 0 31 (dk_at dksX5_init_2 16 rfl rfl)
theorem dX5_init_64 : decode cX5_init 64 = .ok (.aload_n 0, 1) := dk_42 (dk_at dksX5_init_2 19 rfl rfl)
theorem dX5_init_65 : decode cX5_init 65 = .ok (.sipush 250, 3) := dk_17 0 250 (dk_at dksX5_init_2 20 rfl rfl)
theorem dX5_init_68 : decode cX5_init 68 = .ok (.newarray .int, 2) := dk_188_10 (dk_at dksX5_init_3 0 rfl rfl)
theorem dX5_init_70 : decode cX5_init 70 = .ok (.putfield 34, 3) := dk_181 0 34 (dk_at dksX5_init_3 2 rfl rfl)
theorem dX5_init_73 : decode cX5_init 73 = .ok (.aload_n 0, 1) := dk_42 (dk_at dksX5_init_3 5 rfl rfl)
theorem dX5_init_74 : decode cX5_init 74 = .ok (.bipush 8, 2) := dk_16 8 (dk_at dksX5_init_3 6 rfl rfl)
theorem dX5_init_76 : decode cX5_init 76 = .ok (.newarray .int, 2) := dk_188_10 (dk_at dksX5_init_3 8 rfl rfl)
theorem dX5_init_78 : decode cX5_init 78 = .ok (.putfield 37, 3) := dk_181 0 37 (dk_at dksX5_init_3 10 rfl rfl)
theorem dX5_init_81 : decode cX5_init 81 = .ok (.aload_n 0, 1) := dk_42 (dk_at dksX5_init_3 13 rfl rfl)
theorem dX5_init_82 : decode cX5_init 82 = .ok (.bipush 8, 2) := dk_16 8 (dk_at dksX5_init_3 14 rfl rfl)
theorem dX5_init_84 : decode cX5_init 84 = .ok (.newarray .int, 2) := dk_188_10 (dk_at dksX5_init_3 16 rfl rfl)
theorem dX5_init_86 : decode cX5_init 86 = .ok (.putfield 40, 3) := dk_181 0 40 (dk_at dksX5_init_3 18 rfl rfl)
theorem dX5_init_89 : decode cX5_init 89 = .ok (.aload_n 0, 1) := dk_42 (dk_at dksX5_init_3 21 rfl rfl)
theorem dX5_init_90 : decode cX5_init 90 = .ok (.bipush 8, 2) := dk_16 8 (dk_at dksX5_init_3 22 rfl rfl)
theorem dX5_init_92 : decode cX5_init 92 = .ok (.newarray .int, 2) := dk_188_10 (dk_at dksX5_init_4 0 rfl rfl)
theorem dX5_init_94 : decode cX5_init 94 = .ok (.putfield 43, 3) := dk_181 0 43 (dk_at dksX5_init_4 2 rfl rfl)
theorem dX5_init_97 : decode cX5_init 97 = .ok (.aload_n 0, 1) := dk_42 (dk_at dksX5_init_4 5 rfl rfl)
theorem dX5_init_98 : decode cX5_init 98 = .ok (.bipush 8, 2) := dk_16 8 (dk_at dksX5_init_4 6 rfl rfl)
theorem dX5_init_100 : decode cX5_init 100 = .ok (.bipush 8, 2) := dk_16 8 (dk_at dksX5_init_4 8 rfl rfl)
theorem dX5_init_102 : decode cX5_init 102 = .ok (.multianewarray 46 2, 4) := by decide +kernel
theorem dX5_init_106 : decode cX5_init 106 = .ok (.putfield 48, 3) := dk_181 0 48 (dk_at dksX5_init_4 14 rfl rfl)
theorem dX5_init_109 : decode cX5_init 109 = .ok (.aload_n 0, 1) := dk_42 (dk_at dksX5_init_4 17 rfl rfl)
theorem dX5_init_110 : decode cX5_init 110 = .ok (.iconst 3, 1) := dk_6 (dk_at dksX5_init_4 18 rfl rfl)
theorem dX5_init_111 : decode cX5_init 111 = .ok (.putfield 51, 3) := dk_181 0 51 (dk_at dksX5_init_4 19 rfl rfl)
theorem dX5_init_114 : decode cX5_init 114 = .ok (.aload_n 0, 1) := dk_42 (dk_at dksX5_init_4 22 rfl rfl)
theorem dX5_init_115 : decode cX5_init 115 = .ok (.iconst 1, 1) := dk_4 (dk_at dksX5_init_4 23 rfl rfl)
theorem dX5_init_116 : decode cX5_init 116 = .ok (.putfield 55, 3) := dk_181 0 55 (dk_at dksX5_init_5 0 rfl rfl)
theorem dX5_init_119 : decode cX5_init 119 = .ok (.aload_n 0, 1) := dk_42 (dk_at dksX5_init_5 3 rfl rfl)
theorem dX5_init_120 : decode cX5_init 120 = .ok (.iconst 2, 1) := dk_5 (dk_at dksX5_init_5 4 rfl rfl)
theorem dX5_init_121 : decode cX5_init 121 = .ok (.newarray .int, 2) := dk_188_10 (dk_at dksX5_init_5 5 rfl rfl)
theorem dX5_init_123 : decode cX5_init 123 = .ok (.putfield 58, 3) := dk_181 0 58 (dk_at dksX5_init_5 7 rfl rfl)
theorem dX5_init_126 : decode cX5_init 126 = .ok (.aload_n 0, 1) := dk_42 (dk_at dksX5_init_5 10 rfl rfl)
theorem dX5_init_127 : decode cX5_init 127 = .ok (.bipush 70, 2) := dk_16 70 (dk_at dksX5_init_5 11 rfl rfl)
theorem dX5_init_129 : decode cX5_init 129 = .ok (.newarray .int, 2) := dk_188_10 (dk_at dksX5_init_5 13 rfl rfl)
theorem dX5_init_131 : decode cX5_init 131 = .ok (.putfield 61, 3) := dk_181 0 61 (dk_at dksX5_init_5 15 rfl rfl)
theorem dX5_init_134 : decode cX5_init 134 = .ok (.aload_n 0, 1) := dk_42 (dk_at dksX5_init_5 18 rfl rfl)
theorem dX5_init_135 : decode cX5_init 135 = .ok (.bipush 7, 2) := dk_16 7 (dk_at dksX5_init_5 19 rfl rfl)
theorem dX5_init_137 : decode cX5_init 137 = .ok (.newarray .int, 2) := dk_188_10 (dk_at dksX5_init_5 21 rfl rfl)
theorem dX5_init_139 : decode cX5_init 139 = .ok (.putfield 64, 3) := dk_181 0 64 (dk_at dksX5_init_6 0 rfl rfl)
theorem dX5_init_142 : decode cX5_init 142 = .ok (.aload_n 0, 1) := dk_42 (dk_at dksX5_init_6 3 rfl rfl)
theorem dX5_init_143 : decode cX5_init 143 = .ok (.bipush 7, 2) := dk_16 7 (dk_at dksX5_init_6 4 rfl rfl)
theorem dX5_init_145 : decode cX5_init 145 = .ok (.newarray .int, 2) := dk_188_10 (dk_at dksX5_init_6 6 rfl rfl)
theorem dX5_init_147 : decode cX5_init 147 = .ok (.putfield 67, 3) := dk_181 0 67 (dk_at dksX5_init_6 8 rfl rfl)
theorem dX5_init_150 : decode cX5_init 150 = .ok (.aload_n 0, 1) := dk_42 (dk_at dksX5_init_6 11 rfl rfl)
theorem dX5_init_151 : decode cX5_init 151 = .ok (.bipush 7, 2) := dk_16 7 (dk_at dksX5_init_6 12 rfl rfl)
theorem dX5_init_153 : decode cX5_init 153 = .ok (.newarray .int, 2) := dk_188_10 (dk_at dksX5_init_6 14 rfl rfl)
theorem dX5_init_155 : decode cX5_init 155 = .ok (.putfield 70, 3) := dk_181 0 70 (dk_at dksX5_init_6 16 rfl rfl)
theorem dX5_init_158 : decode cX5_init 158 = .ok (.aload_n 0, 1) := dk_42 (dk_at dksX5_init_6 19 rfl rfl)
theorem dX5_init_159 : decode cX5_init 159 = .ok (.sipush 1024, 3) := dk_17 4 0 (dk_at dksX5_init_6 20 rfl rfl)
theorem dX5_init_162 : decode cX5_init 162 = .ok (.newarray .int, 2) := dk_188_10 (dk_at dksX5_init_7 0 rfl rfl)
theorem dX5_init_164 : decode cX5_init 164 = .ok (.putfield 73, 3) := dk_181 0 73 (dk_at dksX5_init_7 2 rfl rfl)
theorem dX5_init_167 : decode cX5_init 167 = .ok (.aload_n 0, 1) := dk_42 (dk_at dksX5_init_7 5 rfl rfl)
theorem dX5_init_168 : decode cX5_init 168 = .ok (.bipush 10, 2) := dk_16 10 (dk_at dksX5_init_7 6 rfl rfl)
theorem dX5_init_170 : decode cX5_init 170 = .ok (.newarray .int, 2) := dk_188_10 (dk_at dksX5_init_7 8 rfl rfl)
theorem dX5_init_172 : decode cX5_init 172 = .ok (.putfield 76, 3) := dk_181 0 76 (dk_at dksX5_init_7 10 rfl rfl)
theorem dX5_init_175 : decode cX5_init 175 = .ok (.aload_n 0, 1) := dk_42 (dk_at dksX5_init_7 13 rfl rfl)
theorem dX5_init_176 : decode cX5_init 176 = .ok (.bipush 10, 2) := dk_16 10 (dk_at dksX5_init_7 14 rfl rfl)
theorem dX5_init_178 : decode cX5_init 178 = .ok (.newarray .int, 2) := dk_188_10 (dk_at dksX5_init_7 16 rfl rfl)
theorem dX5_init_180 : decode cX5_init 180 = .ok (.putfield 79, 3) := dk_181 0 79 (dk_at dksX5_init_7 18 rfl rfl)
theorem dX5_init_183 : decode cX5_init 183 = .ok (.aload_n 0, 1) := dk_42 (dk_at dksX5_init_7 21 rfl rfl)
theorem dX5_init_184 : decode cX5_init 184 = .ok (.bipush 10, 2) := dk_16 10 (dk_at dksX5_init_7 22 rfl rfl)
theorem dX5_init_186 : decode cX5_init 186 = .ok (.newarray .int, 2) := dk_188_10 (dk_at dksX5_init_8 0 rfl rfl)
theorem dX5_init_188 : decode cX5_init 188 = .ok (.putfield 82, 3) := dk_181 0 82 (dk_at dksX5_init_8 2 rfl rfl)
theorem dX5_init_191 : decode cX5_init 191 = .ok (.return_, 1) := dk_177 (dk_at dksX5_init_8 5 rfl rfl)
abbrev cX5_row : ByteArray := prog_18_method_9_code
def yX5_row : MethodName := ⟨RX5, "row", "(III)I"⟩
def dkwX5_row_3 : List UInt8 := [162, 0, 19, 42, 180, 0, 21, 27, 50, 21, 4, 9, 80, 132, 4, 1, 167, 255, 236, 4, 172]
abbrev dktX5_row_3 : List UInt8 := dkwX5_row_3 ++ []
def dkwX5_row_2 : List UInt8 := [4, 79, 42, 180, 0, 13, 27, 28, 79, 42, 180, 0, 16, 27, 29, 79, 3, 54, 4, 21, 4, 16, 40]
abbrev dktX5_row_2 : List UInt8 := dkwX5_row_2 ++ dktX5_row_3
def dkwX5_row_1 : List UInt8 := [29, 133, 9, 20, 0, 100, 184, 0, 88, 154, 0, 10, 42, 16, 254, 182, 0, 102, 172, 42, 180, 0, 7, 27]
abbrev dktX5_row_1 : List UInt8 := dkwX5_row_1 ++ dktX5_row_2
def dkwX5_row_0 : List UInt8 := [27, 133, 9, 20, 0, 96, 184, 0, 88, 153, 0, 27, 28, 133, 9, 20, 0, 98, 184, 0, 88, 153, 0, 15]
abbrev dktX5_row_0 : List UInt8 := dkwX5_row_0 ++ dktX5_row_1
theorem dksX5_row_0 : cX5_row.data.toList.drop 0 = dktX5_row_0 := by decide +kernel
theorem dksX5_row_1 : cX5_row.data.toList.drop 24 = dktX5_row_1 := dk_seg dksX5_row_0 24 rfl rfl
theorem dksX5_row_2 : cX5_row.data.toList.drop 48 = dktX5_row_2 := dk_seg dksX5_row_1 24 rfl rfl
theorem dksX5_row_3 : cX5_row.data.toList.drop 71 = dktX5_row_3 := dk_seg dksX5_row_2 23 rfl rfl
theorem dX5_row_0 : decode cX5_row 0 = .ok (.iload_n 1, 1) := dk_27 (dk_at dksX5_row_0 0 rfl rfl)
theorem dX5_row_1 : decode cX5_row 1 = .ok (.i2l, 1) := dk_133 (dk_at dksX5_row_0 1 rfl rfl)
theorem dX5_row_2 : decode cX5_row 2 = .ok (.lconst 0, 1) := dk_9 (dk_at dksX5_row_0 2 rfl rfl)
theorem dX5_row_3 : decode cX5_row 3 = .ok (.ldc2_w 96, 3) := dk_20 0 96 (dk_at dksX5_row_0 3 rfl rfl)
theorem dX5_row_6 : decode cX5_row 6 = .ok (.invokestatic 88, 3) := dk_184 0 88 (dk_at dksX5_row_0 6 rfl rfl)
theorem dX5_row_9 : decode cX5_row 9 = .ok (.ifCond .eq 27, 3) := dk_153 0 27 (dk_at dksX5_row_0 9 rfl rfl)
theorem dX5_row_12 : decode cX5_row 12 = .ok (.iload_n 2, 1) := dk_28 (dk_at dksX5_row_0 12 rfl rfl)
theorem dX5_row_13 : decode cX5_row 13 = .ok (.i2l, 1) := dk_133 (dk_at dksX5_row_0 13 rfl rfl)
theorem dX5_row_14 : decode cX5_row 14 = .ok (.lconst 0, 1) := dk_9 (dk_at dksX5_row_0 14 rfl rfl)
theorem dX5_row_15 : decode cX5_row 15 = .ok (.ldc2_w 98, 3) := dk_20 0 98 (dk_at dksX5_row_0 15 rfl rfl)
theorem dX5_row_18 : decode cX5_row 18 = .ok (.invokestatic 88, 3) := dk_184 0 88 (dk_at dksX5_row_0 18 rfl rfl)
theorem dX5_row_21 : decode cX5_row 21 = .ok (.ifCond .eq 15, 3) := dk_153 0 15 (dk_at dksX5_row_0 21 rfl rfl)
theorem dX5_row_24 : decode cX5_row 24 = .ok (.iload_n 3, 1) := dk_29 (dk_at dksX5_row_1 0 rfl rfl)
theorem dX5_row_25 : decode cX5_row 25 = .ok (.i2l, 1) := dk_133 (dk_at dksX5_row_1 1 rfl rfl)
theorem dX5_row_26 : decode cX5_row 26 = .ok (.lconst 0, 1) := dk_9 (dk_at dksX5_row_1 2 rfl rfl)
theorem dX5_row_27 : decode cX5_row 27 = .ok (.ldc2_w 100, 3) := dk_20 0 100 (dk_at dksX5_row_1 3 rfl rfl)
theorem dX5_row_30 : decode cX5_row 30 = .ok (.invokestatic 88, 3) := dk_184 0 88 (dk_at dksX5_row_1 6 rfl rfl)
theorem dX5_row_33 : decode cX5_row 33 = .ok (.ifCond .ne 10, 3) := dk_154 0 10 (dk_at dksX5_row_1 9 rfl rfl)
theorem dX5_row_36 : decode cX5_row 36 = .ok (.aload_n 0, 1) := dk_42 (dk_at dksX5_row_1 12 rfl rfl)
theorem dX5_row_37 : decode cX5_row 37 = .ok (.bipush (-2), 2) := dk_16 254 (dk_at dksX5_row_1 13 rfl rfl)
theorem dX5_row_39 : decode cX5_row 39 = .ok (.invokevirtual 102, 3) := dk_182 0 102 (dk_at dksX5_row_1 15 rfl rfl)
theorem dX5_row_42 : decode cX5_row 42 = .ok (.ireturn, 1) := dk_172 (dk_at dksX5_row_1 18 rfl rfl)
theorem dX5_row_43 : decode cX5_row 43 = .ok (.aload_n 0, 1) := dk_42 (dk_at dksX5_row_1 19 rfl rfl)
theorem dX5_row_44 : decode cX5_row 44 = .ok (.getfield 7, 3) := dk_180 0 7 (dk_at dksX5_row_1 20 rfl rfl)
theorem dX5_row_47 : decode cX5_row 47 = .ok (.iload_n 1, 1) := dk_27 (dk_at dksX5_row_1 23 rfl rfl)
theorem dX5_row_48 : decode cX5_row 48 = .ok (.iconst 1, 1) := dk_4 (dk_at dksX5_row_2 0 rfl rfl)
theorem dX5_row_49 : decode cX5_row 49 = .ok (.iastore, 1) := dk_79 (dk_at dksX5_row_2 1 rfl rfl)
theorem dX5_row_50 : decode cX5_row 50 = .ok (.aload_n 0, 1) := dk_42 (dk_at dksX5_row_2 2 rfl rfl)
theorem dX5_row_51 : decode cX5_row 51 = .ok (.getfield 13, 3) := dk_180 0 13 (dk_at dksX5_row_2 3 rfl rfl)
theorem dX5_row_54 : decode cX5_row 54 = .ok (.iload_n 1, 1) := dk_27 (dk_at dksX5_row_2 6 rfl rfl)
theorem dX5_row_55 : decode cX5_row 55 = .ok (.iload_n 2, 1) := dk_28 (dk_at dksX5_row_2 7 rfl rfl)
theorem dX5_row_56 : decode cX5_row 56 = .ok (.iastore, 1) := dk_79 (dk_at dksX5_row_2 8 rfl rfl)
theorem dX5_row_57 : decode cX5_row 57 = .ok (.aload_n 0, 1) := dk_42 (dk_at dksX5_row_2 9 rfl rfl)
theorem dX5_row_58 : decode cX5_row 58 = .ok (.getfield 16, 3) := dk_180 0 16 (dk_at dksX5_row_2 10 rfl rfl)
theorem dX5_row_61 : decode cX5_row 61 = .ok (.iload_n 1, 1) := dk_27 (dk_at dksX5_row_2 13 rfl rfl)
theorem dX5_row_62 : decode cX5_row 62 = .ok (.iload_n 3, 1) := dk_29 (dk_at dksX5_row_2 14 rfl rfl)
theorem dX5_row_63 : decode cX5_row 63 = .ok (.iastore, 1) := dk_79 (dk_at dksX5_row_2 15 rfl rfl)
theorem dX5_row_64 : decode cX5_row 64 = .ok (.iconst 0, 1) := dk_3 (dk_at dksX5_row_2 16 rfl rfl)
theorem dX5_row_65 : decode cX5_row 65 = .ok (.istore 4, 2) := dk_54 4 (dk_at dksX5_row_2 17 rfl rfl)
theorem dX5_row_67 : decode cX5_row 67 = .ok (.iload 4, 2) := dk_21 4 (dk_at dksX5_row_2 19 rfl rfl)
theorem dX5_row_69 : decode cX5_row 69 = .ok (.bipush 40, 2) := dk_16 40 (dk_at dksX5_row_2 21 rfl rfl)
theorem dX5_row_71 : decode cX5_row 71 = .ok (.if_icmp .ge 19, 3) := dk_162 0 19 (dk_at dksX5_row_3 0 rfl rfl)
theorem dX5_row_74 : decode cX5_row 74 = .ok (.aload_n 0, 1) := dk_42 (dk_at dksX5_row_3 3 rfl rfl)
theorem dX5_row_75 : decode cX5_row 75 = .ok (.getfield 21, 3) := dk_180 0 21 (dk_at dksX5_row_3 4 rfl rfl)
theorem dX5_row_78 : decode cX5_row 78 = .ok (.iload_n 1, 1) := dk_27 (dk_at dksX5_row_3 7 rfl rfl)
theorem dX5_row_79 : decode cX5_row 79 = .ok (.aaload, 1) := dk_50 (dk_at dksX5_row_3 8 rfl rfl)
theorem dX5_row_80 : decode cX5_row 80 = .ok (.iload 4, 2) := dk_21 4 (dk_at dksX5_row_3 9 rfl rfl)
theorem dX5_row_82 : decode cX5_row 82 = .ok (.lconst 0, 1) := dk_9 (dk_at dksX5_row_3 11 rfl rfl)
theorem dX5_row_83 : decode cX5_row 83 = .ok (.lastore, 1) := dk_80 (dk_at dksX5_row_3 12 rfl rfl)
theorem dX5_row_84 : decode cX5_row 84 = .ok (.iinc 4 1, 3) := dk_132 4 1 (dk_at dksX5_row_3 13 rfl rfl)
theorem dX5_row_87 : decode cX5_row 87 = .ok (.goto (-20), 3) := dk_167 255 236 (dk_at dksX5_row_3 16 rfl rfl)
theorem dX5_row_90 : decode cX5_row 90 = .ok (.iconst 1, 1) := dk_4 (dk_at dksX5_row_3 19 rfl rfl)
theorem dX5_row_91 : decode cX5_row 91 = .ok (.ireturn, 1) := dk_172 (dk_at dksX5_row_3 20 rfl rfl)
abbrev cX5_in : ByteArray := prog_18_method_3_code
def yX5_in : MethodName := ⟨RX5, "in", "(JJJ)Z"⟩
def dkwX5_in_0 : List UInt8 := [30, 32, 148, 155, 0, 14, 30, 22, 4, 148, 157, 0, 7, 4, 167, 0, 4, 3, 172]
abbrev dktX5_in_0 : List UInt8 := dkwX5_in_0 ++ []
theorem dksX5_in_0 : cX5_in.data.toList.drop 0 = dktX5_in_0 := by decide +kernel
theorem dX5_in_0 : decode cX5_in 0 = .ok (.lload_n 0, 1) := dk_30 (dk_at dksX5_in_0 0 rfl rfl)
theorem dX5_in_1 : decode cX5_in 1 = .ok (.lload_n 2, 1) := dk_32 (dk_at dksX5_in_0 1 rfl rfl)
theorem dX5_in_2 : decode cX5_in 2 = .ok (.lcmp, 1) := dk_148 (dk_at dksX5_in_0 2 rfl rfl)
theorem dX5_in_3 : decode cX5_in 3 = .ok (.ifCond .lt 14, 3) := dk_155 0 14 (dk_at dksX5_in_0 3 rfl rfl)
theorem dX5_in_6 : decode cX5_in 6 = .ok (.lload_n 0, 1) := dk_30 (dk_at dksX5_in_0 6 rfl rfl)
theorem dX5_in_7 : decode cX5_in 7 = .ok (.lload 4, 2) := dk_22 4 (dk_at dksX5_in_0 7 rfl rfl)
theorem dX5_in_9 : decode cX5_in 9 = .ok (.lcmp, 1) := dk_148 (dk_at dksX5_in_0 9 rfl rfl)
theorem dX5_in_10 : decode cX5_in 10 = .ok (.ifCond .gt 7, 3) := dk_157 0 7 (dk_at dksX5_in_0 10 rfl rfl)
theorem dX5_in_13 : decode cX5_in 13 = .ok (.iconst 1, 1) := dk_4 (dk_at dksX5_in_0 13 rfl rfl)
theorem dX5_in_14 : decode cX5_in 14 = .ok (.goto 4, 3) := dk_167 0 4 (dk_at dksX5_in_0 14 rfl rfl)
theorem dX5_in_17 : decode cX5_in 17 = .ok (.iconst 0, 1) := dk_3 (dk_at dksX5_in_0 17 rfl rfl)
theorem dX5_in_18 : decode cX5_in 18 = .ok (.ireturn, 1) := dk_172 (dk_at dksX5_in_0 18 rfl rfl)
abbrev cX5_refuse : ByteArray := prog_18_method_2_code
def yX5_refuse : MethodName := ⟨RX5, "refuse", "(I)I"⟩
def dkwX5_refuse_0 : List UInt8 := [42, 180, 0, 37, 27, 116, 92, 46, 4, 96, 79, 27, 172]
abbrev dktX5_refuse_0 : List UInt8 := dkwX5_refuse_0 ++ []
theorem dksX5_refuse_0 : cX5_refuse.data.toList.drop 0 = dktX5_refuse_0 := by decide +kernel
theorem dX5_refuse_0 : decode cX5_refuse 0 = .ok (.aload_n 0, 1) := dk_42 (dk_at dksX5_refuse_0 0 rfl rfl)
theorem dX5_refuse_1 : decode cX5_refuse 1 = .ok (.getfield 37, 3) := dk_180 0 37 (dk_at dksX5_refuse_0 1 rfl rfl)
theorem dX5_refuse_4 : decode cX5_refuse 4 = .ok (.iload_n 1, 1) := dk_27 (dk_at dksX5_refuse_0 4 rfl rfl)
theorem dX5_refuse_5 : decode cX5_refuse 5 = .ok (.ineg, 1) := dk_116 (dk_at dksX5_refuse_0 5 rfl rfl)
theorem dX5_refuse_6 : decode cX5_refuse 6 = .ok (.dup2, 1) := dk_92 (dk_at dksX5_refuse_0 6 rfl rfl)
theorem dX5_refuse_7 : decode cX5_refuse 7 = .ok (.iaload, 1) := dk_46 (dk_at dksX5_refuse_0 7 rfl rfl)
theorem dX5_refuse_8 : decode cX5_refuse 8 = .ok (.iconst 1, 1) := dk_4 (dk_at dksX5_refuse_0 8 rfl rfl)
theorem dX5_refuse_9 : decode cX5_refuse 9 = .ok (.iadd, 1) := dk_96 (dk_at dksX5_refuse_0 9 rfl rfl)
theorem dX5_refuse_10 : decode cX5_refuse 10 = .ok (.iastore, 1) := dk_79 (dk_at dksX5_refuse_0 10 rfl rfl)
theorem dX5_refuse_11 : decode cX5_refuse 11 = .ok (.iload_n 1, 1) := dk_27 (dk_at dksX5_refuse_0 11 rfl rfl)
theorem dX5_refuse_12 : decode cX5_refuse 12 = .ok (.ireturn, 1) := dk_172 (dk_at dksX5_refuse_0 12 rfl rfl)
abbrev cX5_set : ByteArray := prog_18_method_13_code
def yX5_set : MethodName := ⟨RX5, "set", "(IIJ)I"⟩
def dkwX5_set_2 : List UInt8 := [180, 0, 13, 27, 46, 33, 184, 0, 109, 80, 4, 172]
abbrev dktX5_set_2 : List UInt8 := dkwX5_set_2 ++ []
def dkwX5_set_1 : List UInt8 := [4, 100, 133, 184, 0, 88, 154, 0, 10, 42, 16, 254, 182, 0, 102, 172, 42, 180, 0, 21, 27, 50, 28, 42]
abbrev dktX5_set_1 : List UInt8 := dkwX5_set_1 ++ dktX5_set_2
def dkwX5_set_0 : List UInt8 := [42, 27, 182, 0, 106, 54, 5, 21, 5, 153, 0, 6, 21, 5, 172, 28, 133, 9, 42, 180, 0, 16, 27, 46]
abbrev dktX5_set_0 : List UInt8 := dkwX5_set_0 ++ dktX5_set_1
theorem dksX5_set_0 : cX5_set.data.toList.drop 0 = dktX5_set_0 := by decide +kernel
theorem dksX5_set_1 : cX5_set.data.toList.drop 24 = dktX5_set_1 := dk_seg dksX5_set_0 24 rfl rfl
theorem dksX5_set_2 : cX5_set.data.toList.drop 48 = dktX5_set_2 := dk_seg dksX5_set_1 24 rfl rfl
theorem dX5_set_0 : decode cX5_set 0 = .ok (.aload_n 0, 1) := dk_42 (dk_at dksX5_set_0 0 rfl rfl)
theorem dX5_set_1 : decode cX5_set 1 = .ok (.iload_n 1, 1) := dk_27 (dk_at dksX5_set_0 1 rfl rfl)
theorem dX5_set_2 : decode cX5_set 2 = .ok (.invokevirtual 106, 3) := dk_182 0 106 (dk_at dksX5_set_0 2 rfl rfl)
theorem dX5_set_5 : decode cX5_set 5 = .ok (.istore 5, 2) := dk_54 5 (dk_at dksX5_set_0 5 rfl rfl)
theorem dX5_set_7 : decode cX5_set 7 = .ok (.iload 5, 2) := dk_21 5 (dk_at dksX5_set_0 7 rfl rfl)
theorem dX5_set_9 : decode cX5_set 9 = .ok (.ifCond .eq 6, 3) := dk_153 0 6 (dk_at dksX5_set_0 9 rfl rfl)
theorem dX5_set_12 : decode cX5_set 12 = .ok (.iload 5, 2) := dk_21 5 (dk_at dksX5_set_0 12 rfl rfl)
theorem dX5_set_14 : decode cX5_set 14 = .ok (.ireturn, 1) := dk_172 (dk_at dksX5_set_0 14 rfl rfl)
theorem dX5_set_15 : decode cX5_set 15 = .ok (.iload_n 2, 1) := dk_28 (dk_at dksX5_set_0 15 rfl rfl)
theorem dX5_set_16 : decode cX5_set 16 = .ok (.i2l, 1) := dk_133 (dk_at dksX5_set_0 16 rfl rfl)
theorem dX5_set_17 : decode cX5_set 17 = .ok (.lconst 0, 1) := dk_9 (dk_at dksX5_set_0 17 rfl rfl)
theorem dX5_set_18 : decode cX5_set 18 = .ok (.aload_n 0, 1) := dk_42 (dk_at dksX5_set_0 18 rfl rfl)
theorem dX5_set_19 : decode cX5_set 19 = .ok (.getfield 16, 3) := dk_180 0 16 (dk_at dksX5_set_0 19 rfl rfl)
theorem dX5_set_22 : decode cX5_set 22 = .ok (.iload_n 1, 1) := dk_27 (dk_at dksX5_set_0 22 rfl rfl)
theorem dX5_set_23 : decode cX5_set 23 = .ok (.iaload, 1) := dk_46 (dk_at dksX5_set_0 23 rfl rfl)
theorem dX5_set_24 : decode cX5_set 24 = .ok (.iconst 1, 1) := dk_4 (dk_at dksX5_set_1 0 rfl rfl)
theorem dX5_set_25 : decode cX5_set 25 = .ok (.isub, 1) := dk_100 (dk_at dksX5_set_1 1 rfl rfl)
theorem dX5_set_26 : decode cX5_set 26 = .ok (.i2l, 1) := dk_133 (dk_at dksX5_set_1 2 rfl rfl)
theorem dX5_set_27 : decode cX5_set 27 = .ok (.invokestatic 88, 3) := dk_184 0 88 (dk_at dksX5_set_1 3 rfl rfl)
theorem dX5_set_30 : decode cX5_set 30 = .ok (.ifCond .ne 10, 3) := dk_154 0 10 (dk_at dksX5_set_1 6 rfl rfl)
theorem dX5_set_33 : decode cX5_set 33 = .ok (.aload_n 0, 1) := dk_42 (dk_at dksX5_set_1 9 rfl rfl)
theorem dX5_set_34 : decode cX5_set 34 = .ok (.bipush (-2), 2) := dk_16 254 (dk_at dksX5_set_1 10 rfl rfl)
theorem dX5_set_36 : decode cX5_set 36 = .ok (.invokevirtual 102, 3) := dk_182 0 102 (dk_at dksX5_set_1 12 rfl rfl)
theorem dX5_set_39 : decode cX5_set 39 = .ok (.ireturn, 1) := dk_172 (dk_at dksX5_set_1 15 rfl rfl)
theorem dX5_set_40 : decode cX5_set 40 = .ok (.aload_n 0, 1) := dk_42 (dk_at dksX5_set_1 16 rfl rfl)
theorem dX5_set_41 : decode cX5_set 41 = .ok (.getfield 21, 3) := dk_180 0 21 (dk_at dksX5_set_1 17 rfl rfl)
theorem dX5_set_44 : decode cX5_set 44 = .ok (.iload_n 1, 1) := dk_27 (dk_at dksX5_set_1 20 rfl rfl)
theorem dX5_set_45 : decode cX5_set 45 = .ok (.aaload, 1) := dk_50 (dk_at dksX5_set_1 21 rfl rfl)
theorem dX5_set_46 : decode cX5_set 46 = .ok (.iload_n 2, 1) := dk_28 (dk_at dksX5_set_1 22 rfl rfl)
theorem dX5_set_47 : decode cX5_set 47 = .ok (.aload_n 0, 1) := dk_42 (dk_at dksX5_set_1 23 rfl rfl)
theorem dX5_set_48 : decode cX5_set 48 = .ok (.getfield 13, 3) := dk_180 0 13 (dk_at dksX5_set_2 0 rfl rfl)
theorem dX5_set_51 : decode cX5_set 51 = .ok (.iload_n 1, 1) := dk_27 (dk_at dksX5_set_2 3 rfl rfl)
theorem dX5_set_52 : decode cX5_set 52 = .ok (.iaload, 1) := dk_46 (dk_at dksX5_set_2 4 rfl rfl)
theorem dX5_set_53 : decode cX5_set 53 = .ok (.lload_n 3, 1) := dk_33 (dk_at dksX5_set_2 5 rfl rfl)
theorem dX5_set_54 : decode cX5_set 54 = .ok (.invokestatic 109, 3) := dk_184 0 109 (dk_at dksX5_set_2 6 rfl rfl)
theorem dX5_set_57 : decode cX5_set 57 = .ok (.lastore, 1) := dk_80 (dk_at dksX5_set_2 9 rfl rfl)
theorem dX5_set_58 : decode cX5_set 58 = .ok (.iconst 1, 1) := dk_4 (dk_at dksX5_set_2 10 rfl rfl)
theorem dX5_set_59 : decode cX5_set 59 = .ok (.ireturn, 1) := dk_172 (dk_at dksX5_set_2 11 rfl rfl)
abbrev cX5_noRow : ByteArray := prog_18_method_11_code
def yX5_noRow : MethodName := ⟨RX5, "noRow", "(I)I"⟩
def dkwX5_noRow_2 : List UInt8 := [182, 0, 102, 167, 0, 4, 3, 172]
abbrev dktX5_noRow_2 : List UInt8 := dkwX5_noRow_2 ++ []
def dkwX5_noRow_1 : List UInt8 := [46, 5, 160, 0, 10, 42, 16, 253, 182, 0, 102, 172, 42, 180, 0, 7, 27, 46, 154, 0, 12, 42, 16, 252]
abbrev dktX5_noRow_1 : List UInt8 := dkwX5_noRow_1 ++ dktX5_noRow_2
def dkwX5_noRow_0 : List UInt8 := [27, 133, 9, 20, 0, 96, 184, 0, 88, 154, 0, 10, 42, 16, 254, 182, 0, 102, 172, 42, 180, 0, 7, 27]
abbrev dktX5_noRow_0 : List UInt8 := dkwX5_noRow_0 ++ dktX5_noRow_1
theorem dksX5_noRow_0 : cX5_noRow.data.toList.drop 0 = dktX5_noRow_0 := by decide +kernel
theorem dksX5_noRow_1 : cX5_noRow.data.toList.drop 24 = dktX5_noRow_1 := dk_seg dksX5_noRow_0 24 rfl rfl
theorem dksX5_noRow_2 : cX5_noRow.data.toList.drop 48 = dktX5_noRow_2 := dk_seg dksX5_noRow_1 24 rfl rfl
theorem dX5_noRow_0 : decode cX5_noRow 0 = .ok (.iload_n 1, 1) := dk_27 (dk_at dksX5_noRow_0 0 rfl rfl)
theorem dX5_noRow_1 : decode cX5_noRow 1 = .ok (.i2l, 1) := dk_133 (dk_at dksX5_noRow_0 1 rfl rfl)
theorem dX5_noRow_2 : decode cX5_noRow 2 = .ok (.lconst 0, 1) := dk_9 (dk_at dksX5_noRow_0 2 rfl rfl)
theorem dX5_noRow_3 : decode cX5_noRow 3 = .ok (.ldc2_w 96, 3) := dk_20 0 96 (dk_at dksX5_noRow_0 3 rfl rfl)
theorem dX5_noRow_6 : decode cX5_noRow 6 = .ok (.invokestatic 88, 3) := dk_184 0 88 (dk_at dksX5_noRow_0 6 rfl rfl)
theorem dX5_noRow_9 : decode cX5_noRow 9 = .ok (.ifCond .ne 10, 3) := dk_154 0 10 (dk_at dksX5_noRow_0 9 rfl rfl)
theorem dX5_noRow_12 : decode cX5_noRow 12 = .ok (.aload_n 0, 1) := dk_42 (dk_at dksX5_noRow_0 12 rfl rfl)
theorem dX5_noRow_13 : decode cX5_noRow 13 = .ok (.bipush (-2), 2) := dk_16 254 (dk_at dksX5_noRow_0 13 rfl rfl)
theorem dX5_noRow_15 : decode cX5_noRow 15 = .ok (.invokevirtual 102, 3) := dk_182 0 102 (dk_at dksX5_noRow_0 15 rfl rfl)
theorem dX5_noRow_18 : decode cX5_noRow 18 = .ok (.ireturn, 1) := dk_172 (dk_at dksX5_noRow_0 18 rfl rfl)
theorem dX5_noRow_19 : decode cX5_noRow 19 = .ok (.aload_n 0, 1) := dk_42 (dk_at dksX5_noRow_0 19 rfl rfl)
theorem dX5_noRow_20 : decode cX5_noRow 20 = .ok (.getfield 7, 3) := dk_180 0 7 (dk_at dksX5_noRow_0 20 rfl rfl)
theorem dX5_noRow_23 : decode cX5_noRow 23 = .ok (.iload_n 1, 1) := dk_27 (dk_at dksX5_noRow_0 23 rfl rfl)
theorem dX5_noRow_24 : decode cX5_noRow 24 = .ok (.iaload, 1) := dk_46 (dk_at dksX5_noRow_1 0 rfl rfl)
theorem dX5_noRow_25 : decode cX5_noRow 25 = .ok (.iconst 2, 1) := dk_5 (dk_at dksX5_noRow_1 1 rfl rfl)
theorem dX5_noRow_26 : decode cX5_noRow 26 = .ok (.if_icmp .ne 10, 3) := dk_160 0 10 (dk_at dksX5_noRow_1 2 rfl rfl)
theorem dX5_noRow_29 : decode cX5_noRow 29 = .ok (.aload_n 0, 1) := dk_42 (dk_at dksX5_noRow_1 5 rfl rfl)
theorem dX5_noRow_30 : decode cX5_noRow 30 = .ok (.bipush (-3), 2) := dk_16 253 (dk_at dksX5_noRow_1 6 rfl rfl)
theorem dX5_noRow_32 : decode cX5_noRow 32 = .ok (.invokevirtual 102, 3) := dk_182 0 102 (dk_at dksX5_noRow_1 8 rfl rfl)
theorem dX5_noRow_35 : decode cX5_noRow 35 = .ok (.ireturn, 1) := dk_172 (dk_at dksX5_noRow_1 11 rfl rfl)
theorem dX5_noRow_36 : decode cX5_noRow 36 = .ok (.aload_n 0, 1) := dk_42 (dk_at dksX5_noRow_1 12 rfl rfl)
theorem dX5_noRow_37 : decode cX5_noRow 37 = .ok (.getfield 7, 3) := dk_180 0 7 (dk_at dksX5_noRow_1 13 rfl rfl)
theorem dX5_noRow_40 : decode cX5_noRow 40 = .ok (.iload_n 1, 1) := dk_27 (dk_at dksX5_noRow_1 16 rfl rfl)
theorem dX5_noRow_41 : decode cX5_noRow 41 = .ok (.iaload, 1) := dk_46 (dk_at dksX5_noRow_1 17 rfl rfl)
theorem dX5_noRow_42 : decode cX5_noRow 42 = .ok (.ifCond .ne 12, 3) := dk_154 0 12 (dk_at dksX5_noRow_1 18 rfl rfl)
theorem dX5_noRow_45 : decode cX5_noRow 45 = .ok (.aload_n 0, 1) := dk_42 (dk_at dksX5_noRow_1 21 rfl rfl)
theorem dX5_noRow_46 : decode cX5_noRow 46 = .ok (.bipush (-4), 2) := dk_16 252 (dk_at dksX5_noRow_1 22 rfl rfl)
theorem dX5_noRow_48 : decode cX5_noRow 48 = .ok (.invokevirtual 102, 3) := dk_182 0 102 (dk_at dksX5_noRow_2 0 rfl rfl)
theorem dX5_noRow_51 : decode cX5_noRow 51 = .ok (.goto 4, 3) := dk_167 0 4 (dk_at dksX5_noRow_2 3 rfl rfl)
theorem dX5_noRow_54 : decode cX5_noRow 54 = .ok (.iconst 0, 1) := dk_3 (dk_at dksX5_noRow_2 6 rfl rfl)
theorem dX5_noRow_55 : decode cX5_noRow 55 = .ok (.ireturn, 1) := dk_172 (dk_at dksX5_noRow_2 7 rfl rfl)
abbrev cX5_fit : ByteArray := prog_18_method_10_code
def yX5_fit : MethodName := ⟨RX5, "fit", "(IJ)J"⟩
def dkwX5_fit_3 : List UInt8 := [167, 0, 4, 9, 173]
abbrev dktX5_fit_3 : List UInt8 := dkwX5_fit_3 ++ []
def dkwX5_fit_2 : List UInt8 := [31, 136, 145, 133, 173, 31, 136, 147, 133, 173, 31, 136, 133, 173, 31, 173, 31, 9, 148, 153, 0, 7, 10]
abbrev dktX5_fit_2 : List UInt8 := dkwX5_fit_2 ++ dktX5_fit_3
def dkwX5_fit_1 : List UInt8 := [170, 0, 0, 0, 0, 0, 47, 0, 0, 0, 0, 0, 0, 0, 3, 0, 0, 0, 31, 0, 0, 0, 36, 0, 0, 0, 41, 0, 0, 0, 45]
abbrev dktX5_fit_1 : List UInt8 := dkwX5_fit_1 ++ dktX5_fit_2
def dkwX5_fit_0 : List UInt8 := [26]
abbrev dktX5_fit_0 : List UInt8 := dkwX5_fit_0 ++ dktX5_fit_1
theorem dksX5_fit_0 : cX5_fit.data.toList.drop 0 = dktX5_fit_0 := by decide +kernel
theorem dksX5_fit_1 : cX5_fit.data.toList.drop 1 = dktX5_fit_1 := dk_seg dksX5_fit_0 1 rfl rfl
theorem dksX5_fit_2 : cX5_fit.data.toList.drop 32 = dktX5_fit_2 := dk_seg dksX5_fit_1 31 rfl rfl
theorem dksX5_fit_3 : cX5_fit.data.toList.drop 55 = dktX5_fit_3 := dk_seg dksX5_fit_2 23 rfl rfl
theorem dX5_fit_0 : decode cX5_fit 0 = .ok (.iload_n 0, 1) := dk_26 (dk_at dksX5_fit_0 0 rfl rfl)
theorem dX5_fit_1 : decode cX5_fit 1 = .ok (.tableswitch 47 0 3 #[31, 36, 41, 45], 31) := by decide +kernel
theorem dX5_fit_32 : decode cX5_fit 32 = .ok (.lload_n 1, 1) := dk_31 (dk_at dksX5_fit_2 0 rfl rfl)
theorem dX5_fit_33 : decode cX5_fit 33 = .ok (.l2i, 1) := dk_136 (dk_at dksX5_fit_2 1 rfl rfl)
theorem dX5_fit_34 : decode cX5_fit 34 = .ok (.i2b, 1) := dk_145 (dk_at dksX5_fit_2 2 rfl rfl)
theorem dX5_fit_35 : decode cX5_fit 35 = .ok (.i2l, 1) := dk_133 (dk_at dksX5_fit_2 3 rfl rfl)
theorem dX5_fit_36 : decode cX5_fit 36 = .ok (.lreturn, 1) := dk_173 (dk_at dksX5_fit_2 4 rfl rfl)
theorem dX5_fit_37 : decode cX5_fit 37 = .ok (.lload_n 1, 1) := dk_31 (dk_at dksX5_fit_2 5 rfl rfl)
theorem dX5_fit_38 : decode cX5_fit 38 = .ok (.l2i, 1) := dk_136 (dk_at dksX5_fit_2 6 rfl rfl)
theorem dX5_fit_39 : decode cX5_fit 39 = .ok (.i2s, 1) := dk_147 (dk_at dksX5_fit_2 7 rfl rfl)
theorem dX5_fit_40 : decode cX5_fit 40 = .ok (.i2l, 1) := dk_133 (dk_at dksX5_fit_2 8 rfl rfl)
theorem dX5_fit_41 : decode cX5_fit 41 = .ok (.lreturn, 1) := dk_173 (dk_at dksX5_fit_2 9 rfl rfl)
theorem dX5_fit_42 : decode cX5_fit 42 = .ok (.lload_n 1, 1) := dk_31 (dk_at dksX5_fit_2 10 rfl rfl)
theorem dX5_fit_43 : decode cX5_fit 43 = .ok (.l2i, 1) := dk_136 (dk_at dksX5_fit_2 11 rfl rfl)
theorem dX5_fit_44 : decode cX5_fit 44 = .ok (.i2l, 1) := dk_133 (dk_at dksX5_fit_2 12 rfl rfl)
theorem dX5_fit_45 : decode cX5_fit 45 = .ok (.lreturn, 1) := dk_173 (dk_at dksX5_fit_2 13 rfl rfl)
theorem dX5_fit_46 : decode cX5_fit 46 = .ok (.lload_n 1, 1) := dk_31 (dk_at dksX5_fit_2 14 rfl rfl)
theorem dX5_fit_47 : decode cX5_fit 47 = .ok (.lreturn, 1) := dk_173 (dk_at dksX5_fit_2 15 rfl rfl)
theorem dX5_fit_48 : decode cX5_fit 48 = .ok (.lload_n 1, 1) := dk_31 (dk_at dksX5_fit_2 16 rfl rfl)
theorem dX5_fit_49 : decode cX5_fit 49 = .ok (.lconst 0, 1) := dk_9 (dk_at dksX5_fit_2 17 rfl rfl)
theorem dX5_fit_50 : decode cX5_fit 50 = .ok (.lcmp, 1) := dk_148 (dk_at dksX5_fit_2 18 rfl rfl)
theorem dX5_fit_51 : decode cX5_fit 51 = .ok (.ifCond .eq 7, 3) := dk_153 0 7 (dk_at dksX5_fit_2 19 rfl rfl)
theorem dX5_fit_54 : decode cX5_fit 54 = .ok (.lconst 1, 1) := dk_10 (dk_at dksX5_fit_2 22 rfl rfl)
theorem dX5_fit_55 : decode cX5_fit 55 = .ok (.goto 4, 3) := dk_167 0 4 (dk_at dksX5_fit_3 0 rfl rfl)
theorem dX5_fit_58 : decode cX5_fit 58 = .ok (.lconst 0, 1) := dk_9 (dk_at dksX5_fit_3 3 rfl rfl)
theorem dX5_fit_59 : decode cX5_fit 59 = .ok (.lreturn, 1) := dk_173 (dk_at dksX5_fit_3 4 rfl rfl)
abbrev cX5_copy : ByteArray := prog_18_method_14_code
def yX5_copy : MethodName := ⟨RX5, "copy", "(IIIII)I"⟩
def dkwX5_copy_11 : List UInt8 := [21, 5, 172]
abbrev dktX5_copy_11 : List UInt8 := dkwX5_copy_11 ++ []
def dkwX5_copy_10 : List UInt8 := [180, 0, 21, 28, 50, 21, 4, 21, 6, 96, 42, 180, 0, 24, 21, 6, 47, 80, 132, 6, 1, 167, 255, 227]
abbrev dktX5_copy_10 : List UInt8 := dkwX5_copy_10 ++ dktX5_copy_11
def dkwX5_copy_9 : List UInt8 := [21, 6, 96, 47, 80, 132, 6, 1, 167, 255, 228, 3, 54, 6, 21, 6, 21, 5, 162, 0, 28, 42]
abbrev dktX5_copy_9 : List UInt8 := dkwX5_copy_9 ++ dktX5_copy_10
def dkwX5_copy_8 : List UInt8 := [3, 54, 6, 21, 6, 21, 5, 162, 0, 27, 42, 180, 0, 24, 21, 6, 42, 180, 0, 21, 27, 50, 29]
abbrev dktX5_copy_8 : List UInt8 := dkwX5_copy_8 ++ dktX5_copy_9
def dkwX5_copy_7 : List UInt8 := [163, 0, 17, 21, 4, 42, 180, 0, 16, 28, 46, 21, 5, 100, 164, 0, 10, 42, 16, 254, 182, 0, 102, 172]
abbrev dktX5_copy_7 : List UInt8 := dkwX5_copy_7 ++ dktX5_copy_8
def dkwX5_copy_6 : List UInt8 := [163, 0, 41, 21, 5, 42, 180, 0, 16, 28, 46, 163, 0, 30, 29, 42, 180, 0, 16, 27, 46, 21, 5, 100]
abbrev dktX5_copy_6 : List UInt8 := dkwX5_copy_6 ++ dktX5_copy_7
def dkwX5_copy_5 : List UInt8 := [21, 5, 155, 0, 61, 29, 155, 0, 57, 21, 4, 155, 0, 52, 21, 5, 42, 180, 0, 16, 27, 46]
abbrev dktX5_copy_5 : List UInt8 := dkwX5_copy_5 ++ dktX5_copy_6
def dkwX5_copy_4 : List UInt8 := [180, 0, 7, 27, 46, 153, 0, 12, 42, 180, 0, 7, 28, 46, 154, 0, 10, 42, 16, 252, 182, 0, 102, 172]
abbrev dktX5_copy_4 : List UInt8 := dkwX5_copy_4 ++ dktX5_copy_5
def dkwX5_copy_3 : List UInt8 := [180, 0, 13, 27, 46, 42, 180, 0, 13, 28, 46, 159, 0, 10, 42, 16, 253, 182, 0, 102, 172, 42]
abbrev dktX5_copy_3 : List UInt8 := dkwX5_copy_3 ++ dktX5_copy_4
def dkwX5_copy_2 : List UInt8 := [159, 0, 38, 42, 180, 0, 7, 27, 46, 4, 160, 0, 35, 42, 180, 0, 7, 28, 46, 4, 160, 0, 25, 42]
abbrev dktX5_copy_2 : List UInt8 := dkwX5_copy_2 ++ dktX5_copy_3
def dkwX5_copy_1 : List UInt8 := [42, 16, 254, 182, 0, 102, 172, 42, 180, 0, 7, 27, 46, 5, 159, 0, 48, 42, 180, 0, 7, 28, 46, 5]
abbrev dktX5_copy_1 : List UInt8 := dkwX5_copy_1 ++ dktX5_copy_2
def dkwX5_copy_0 : List UInt8 := [27, 133, 9, 20, 0, 96, 184, 0, 88, 153, 0, 15, 28, 133, 9, 20, 0, 96, 184, 0, 88, 154, 0, 10]
abbrev dktX5_copy_0 : List UInt8 := dkwX5_copy_0 ++ dktX5_copy_1
theorem dksX5_copy_0 : cX5_copy.data.toList.drop 0 = dktX5_copy_0 := by decide +kernel
theorem dksX5_copy_1 : cX5_copy.data.toList.drop 24 = dktX5_copy_1 := dk_seg dksX5_copy_0 24 rfl rfl
theorem dksX5_copy_2 : cX5_copy.data.toList.drop 48 = dktX5_copy_2 := dk_seg dksX5_copy_1 24 rfl rfl
theorem dksX5_copy_3 : cX5_copy.data.toList.drop 72 = dktX5_copy_3 := dk_seg dksX5_copy_2 24 rfl rfl
theorem dksX5_copy_4 : cX5_copy.data.toList.drop 94 = dktX5_copy_4 := dk_seg dksX5_copy_3 22 rfl rfl
theorem dksX5_copy_5 : cX5_copy.data.toList.drop 118 = dktX5_copy_5 := dk_seg dksX5_copy_4 24 rfl rfl
theorem dksX5_copy_6 : cX5_copy.data.toList.drop 140 = dktX5_copy_6 := dk_seg dksX5_copy_5 22 rfl rfl
theorem dksX5_copy_7 : cX5_copy.data.toList.drop 164 = dktX5_copy_7 := dk_seg dksX5_copy_6 24 rfl rfl
theorem dksX5_copy_8 : cX5_copy.data.toList.drop 188 = dktX5_copy_8 := dk_seg dksX5_copy_7 24 rfl rfl
theorem dksX5_copy_9 : cX5_copy.data.toList.drop 211 = dktX5_copy_9 := dk_seg dksX5_copy_8 23 rfl rfl
theorem dksX5_copy_10 : cX5_copy.data.toList.drop 233 = dktX5_copy_10 := dk_seg dksX5_copy_9 22 rfl rfl
theorem dksX5_copy_11 : cX5_copy.data.toList.drop 257 = dktX5_copy_11 := dk_seg dksX5_copy_10 24 rfl rfl
theorem dX5_copy_0 : decode cX5_copy 0 = .ok (.iload_n 1, 1) := dk_27 (dk_at dksX5_copy_0 0 rfl rfl)
theorem dX5_copy_1 : decode cX5_copy 1 = .ok (.i2l, 1) := dk_133 (dk_at dksX5_copy_0 1 rfl rfl)
theorem dX5_copy_2 : decode cX5_copy 2 = .ok (.lconst 0, 1) := dk_9 (dk_at dksX5_copy_0 2 rfl rfl)
theorem dX5_copy_3 : decode cX5_copy 3 = .ok (.ldc2_w 96, 3) := dk_20 0 96 (dk_at dksX5_copy_0 3 rfl rfl)
theorem dX5_copy_6 : decode cX5_copy 6 = .ok (.invokestatic 88, 3) := dk_184 0 88 (dk_at dksX5_copy_0 6 rfl rfl)
theorem dX5_copy_9 : decode cX5_copy 9 = .ok (.ifCond .eq 15, 3) := dk_153 0 15 (dk_at dksX5_copy_0 9 rfl rfl)
theorem dX5_copy_12 : decode cX5_copy 12 = .ok (.iload_n 2, 1) := dk_28 (dk_at dksX5_copy_0 12 rfl rfl)
theorem dX5_copy_13 : decode cX5_copy 13 = .ok (.i2l, 1) := dk_133 (dk_at dksX5_copy_0 13 rfl rfl)
theorem dX5_copy_14 : decode cX5_copy 14 = .ok (.lconst 0, 1) := dk_9 (dk_at dksX5_copy_0 14 rfl rfl)
theorem dX5_copy_15 : decode cX5_copy 15 = .ok (.ldc2_w 96, 3) := dk_20 0 96 (dk_at dksX5_copy_0 15 rfl rfl)
theorem dX5_copy_18 : decode cX5_copy 18 = .ok (.invokestatic 88, 3) := dk_184 0 88 (dk_at dksX5_copy_0 18 rfl rfl)
theorem dX5_copy_21 : decode cX5_copy 21 = .ok (.ifCond .ne 10, 3) := dk_154 0 10 (dk_at dksX5_copy_0 21 rfl rfl)
theorem dX5_copy_24 : decode cX5_copy 24 = .ok (.aload_n 0, 1) := dk_42 (dk_at dksX5_copy_1 0 rfl rfl)
theorem dX5_copy_25 : decode cX5_copy 25 = .ok (.bipush (-2), 2) := dk_16 254 (dk_at dksX5_copy_1 1 rfl rfl)
theorem dX5_copy_27 : decode cX5_copy 27 = .ok (.invokevirtual 102, 3) := dk_182 0 102 (dk_at dksX5_copy_1 3 rfl rfl)
theorem dX5_copy_30 : decode cX5_copy 30 = .ok (.ireturn, 1) := dk_172 (dk_at dksX5_copy_1 6 rfl rfl)
theorem dX5_copy_31 : decode cX5_copy 31 = .ok (.aload_n 0, 1) := dk_42 (dk_at dksX5_copy_1 7 rfl rfl)
theorem dX5_copy_32 : decode cX5_copy 32 = .ok (.getfield 7, 3) := dk_180 0 7 (dk_at dksX5_copy_1 8 rfl rfl)
theorem dX5_copy_35 : decode cX5_copy 35 = .ok (.iload_n 1, 1) := dk_27 (dk_at dksX5_copy_1 11 rfl rfl)
theorem dX5_copy_36 : decode cX5_copy 36 = .ok (.iaload, 1) := dk_46 (dk_at dksX5_copy_1 12 rfl rfl)
theorem dX5_copy_37 : decode cX5_copy 37 = .ok (.iconst 2, 1) := dk_5 (dk_at dksX5_copy_1 13 rfl rfl)
theorem dX5_copy_38 : decode cX5_copy 38 = .ok (.if_icmp .eq 48, 3) := dk_159 0 48 (dk_at dksX5_copy_1 14 rfl rfl)
theorem dX5_copy_41 : decode cX5_copy 41 = .ok (.aload_n 0, 1) := dk_42 (dk_at dksX5_copy_1 17 rfl rfl)
theorem dX5_copy_42 : decode cX5_copy 42 = .ok (.getfield 7, 3) := dk_180 0 7 (dk_at dksX5_copy_1 18 rfl rfl)
theorem dX5_copy_45 : decode cX5_copy 45 = .ok (.iload_n 2, 1) := dk_28 (dk_at dksX5_copy_1 21 rfl rfl)
theorem dX5_copy_46 : decode cX5_copy 46 = .ok (.iaload, 1) := dk_46 (dk_at dksX5_copy_1 22 rfl rfl)
theorem dX5_copy_47 : decode cX5_copy 47 = .ok (.iconst 2, 1) := dk_5 (dk_at dksX5_copy_1 23 rfl rfl)
theorem dX5_copy_48 : decode cX5_copy 48 = .ok (.if_icmp .eq 38, 3) := dk_159 0 38 (dk_at dksX5_copy_2 0 rfl rfl)
theorem dX5_copy_51 : decode cX5_copy 51 = .ok (.aload_n 0, 1) := dk_42 (dk_at dksX5_copy_2 3 rfl rfl)
theorem dX5_copy_52 : decode cX5_copy 52 = .ok (.getfield 7, 3) := dk_180 0 7 (dk_at dksX5_copy_2 4 rfl rfl)
theorem dX5_copy_55 : decode cX5_copy 55 = .ok (.iload_n 1, 1) := dk_27 (dk_at dksX5_copy_2 7 rfl rfl)
theorem dX5_copy_56 : decode cX5_copy 56 = .ok (.iaload, 1) := dk_46 (dk_at dksX5_copy_2 8 rfl rfl)
theorem dX5_copy_57 : decode cX5_copy 57 = .ok (.iconst 1, 1) := dk_4 (dk_at dksX5_copy_2 9 rfl rfl)
theorem dX5_copy_58 : decode cX5_copy 58 = .ok (.if_icmp .ne 35, 3) := dk_160 0 35 (dk_at dksX5_copy_2 10 rfl rfl)
theorem dX5_copy_61 : decode cX5_copy 61 = .ok (.aload_n 0, 1) := dk_42 (dk_at dksX5_copy_2 13 rfl rfl)
theorem dX5_copy_62 : decode cX5_copy 62 = .ok (.getfield 7, 3) := dk_180 0 7 (dk_at dksX5_copy_2 14 rfl rfl)
theorem dX5_copy_65 : decode cX5_copy 65 = .ok (.iload_n 2, 1) := dk_28 (dk_at dksX5_copy_2 17 rfl rfl)
theorem dX5_copy_66 : decode cX5_copy 66 = .ok (.iaload, 1) := dk_46 (dk_at dksX5_copy_2 18 rfl rfl)
theorem dX5_copy_67 : decode cX5_copy 67 = .ok (.iconst 1, 1) := dk_4 (dk_at dksX5_copy_2 19 rfl rfl)
theorem dX5_copy_68 : decode cX5_copy 68 = .ok (.if_icmp .ne 25, 3) := dk_160 0 25 (dk_at dksX5_copy_2 20 rfl rfl)
theorem dX5_copy_71 : decode cX5_copy 71 = .ok (.aload_n 0, 1) := dk_42 (dk_at dksX5_copy_2 23 rfl rfl)
theorem dX5_copy_72 : decode cX5_copy 72 = .ok (.getfield 13, 3) := dk_180 0 13 (dk_at dksX5_copy_3 0 rfl rfl)
theorem dX5_copy_75 : decode cX5_copy 75 = .ok (.iload_n 1, 1) := dk_27 (dk_at dksX5_copy_3 3 rfl rfl)
theorem dX5_copy_76 : decode cX5_copy 76 = .ok (.iaload, 1) := dk_46 (dk_at dksX5_copy_3 4 rfl rfl)
theorem dX5_copy_77 : decode cX5_copy 77 = .ok (.aload_n 0, 1) := dk_42 (dk_at dksX5_copy_3 5 rfl rfl)
theorem dX5_copy_78 : decode cX5_copy 78 = .ok (.getfield 13, 3) := dk_180 0 13 (dk_at dksX5_copy_3 6 rfl rfl)
theorem dX5_copy_81 : decode cX5_copy 81 = .ok (.iload_n 2, 1) := dk_28 (dk_at dksX5_copy_3 9 rfl rfl)
theorem dX5_copy_82 : decode cX5_copy 82 = .ok (.iaload, 1) := dk_46 (dk_at dksX5_copy_3 10 rfl rfl)
theorem dX5_copy_83 : decode cX5_copy 83 = .ok (.if_icmp .eq 10, 3) := dk_159 0 10 (dk_at dksX5_copy_3 11 rfl rfl)
theorem dX5_copy_86 : decode cX5_copy 86 = .ok (.aload_n 0, 1) := dk_42 (dk_at dksX5_copy_3 14 rfl rfl)
theorem dX5_copy_87 : decode cX5_copy 87 = .ok (.bipush (-3), 2) := dk_16 253 (dk_at dksX5_copy_3 15 rfl rfl)
theorem dX5_copy_89 : decode cX5_copy 89 = .ok (.invokevirtual 102, 3) := dk_182 0 102 (dk_at dksX5_copy_3 17 rfl rfl)
theorem dX5_copy_92 : decode cX5_copy 92 = .ok (.ireturn, 1) := dk_172 (dk_at dksX5_copy_3 20 rfl rfl)
theorem dX5_copy_93 : decode cX5_copy 93 = .ok (.aload_n 0, 1) := dk_42 (dk_at dksX5_copy_3 21 rfl rfl)
theorem dX5_copy_94 : decode cX5_copy 94 = .ok (.getfield 7, 3) := dk_180 0 7 (dk_at dksX5_copy_4 0 rfl rfl)
theorem dX5_copy_97 : decode cX5_copy 97 = .ok (.iload_n 1, 1) := dk_27 (dk_at dksX5_copy_4 3 rfl rfl)
theorem dX5_copy_98 : decode cX5_copy 98 = .ok (.iaload, 1) := dk_46 (dk_at dksX5_copy_4 4 rfl rfl)
theorem dX5_copy_99 : decode cX5_copy 99 = .ok (.ifCond .eq 12, 3) := dk_153 0 12 (dk_at dksX5_copy_4 5 rfl rfl)
theorem dX5_copy_102 : decode cX5_copy 102 = .ok (.aload_n 0, 1) := dk_42 (dk_at dksX5_copy_4 8 rfl rfl)
theorem dX5_copy_103 : decode cX5_copy 103 = .ok (.getfield 7, 3) := dk_180 0 7 (dk_at dksX5_copy_4 9 rfl rfl)
theorem dX5_copy_106 : decode cX5_copy 106 = .ok (.iload_n 2, 1) := dk_28 (dk_at dksX5_copy_4 12 rfl rfl)
theorem dX5_copy_107 : decode cX5_copy 107 = .ok (.iaload, 1) := dk_46 (dk_at dksX5_copy_4 13 rfl rfl)
theorem dX5_copy_108 : decode cX5_copy 108 = .ok (.ifCond .ne 10, 3) := dk_154 0 10 (dk_at dksX5_copy_4 14 rfl rfl)
theorem dX5_copy_111 : decode cX5_copy 111 = .ok (.aload_n 0, 1) := dk_42 (dk_at dksX5_copy_4 17 rfl rfl)
theorem dX5_copy_112 : decode cX5_copy 112 = .ok (.bipush (-4), 2) := dk_16 252 (dk_at dksX5_copy_4 18 rfl rfl)
theorem dX5_copy_114 : decode cX5_copy 114 = .ok (.invokevirtual 102, 3) := dk_182 0 102 (dk_at dksX5_copy_4 20 rfl rfl)
theorem dX5_copy_117 : decode cX5_copy 117 = .ok (.ireturn, 1) := dk_172 (dk_at dksX5_copy_4 23 rfl rfl)
theorem dX5_copy_118 : decode cX5_copy 118 = .ok (.iload 5, 2) := dk_21 5 (dk_at dksX5_copy_5 0 rfl rfl)
theorem dX5_copy_120 : decode cX5_copy 120 = .ok (.ifCond .lt 61, 3) := dk_155 0 61 (dk_at dksX5_copy_5 2 rfl rfl)
theorem dX5_copy_123 : decode cX5_copy 123 = .ok (.iload_n 3, 1) := dk_29 (dk_at dksX5_copy_5 5 rfl rfl)
theorem dX5_copy_124 : decode cX5_copy 124 = .ok (.ifCond .lt 57, 3) := dk_155 0 57 (dk_at dksX5_copy_5 6 rfl rfl)
theorem dX5_copy_127 : decode cX5_copy 127 = .ok (.iload 4, 2) := dk_21 4 (dk_at dksX5_copy_5 9 rfl rfl)
theorem dX5_copy_129 : decode cX5_copy 129 = .ok (.ifCond .lt 52, 3) := dk_155 0 52 (dk_at dksX5_copy_5 11 rfl rfl)
theorem dX5_copy_132 : decode cX5_copy 132 = .ok (.iload 5, 2) := dk_21 5 (dk_at dksX5_copy_5 14 rfl rfl)
theorem dX5_copy_134 : decode cX5_copy 134 = .ok (.aload_n 0, 1) := dk_42 (dk_at dksX5_copy_5 16 rfl rfl)
theorem dX5_copy_135 : decode cX5_copy 135 = .ok (.getfield 16, 3) := dk_180 0 16 (dk_at dksX5_copy_5 17 rfl rfl)
theorem dX5_copy_138 : decode cX5_copy 138 = .ok (.iload_n 1, 1) := dk_27 (dk_at dksX5_copy_5 20 rfl rfl)
theorem dX5_copy_139 : decode cX5_copy 139 = .ok (.iaload, 1) := dk_46 (dk_at dksX5_copy_5 21 rfl rfl)
theorem dX5_copy_140 : decode cX5_copy 140 = .ok (.if_icmp .gt 41, 3) := dk_163 0 41 (dk_at dksX5_copy_6 0 rfl rfl)
theorem dX5_copy_143 : decode cX5_copy 143 = .ok (.iload 5, 2) := dk_21 5 (dk_at dksX5_copy_6 3 rfl rfl)
theorem dX5_copy_145 : decode cX5_copy 145 = .ok (.aload_n 0, 1) := dk_42 (dk_at dksX5_copy_6 5 rfl rfl)
theorem dX5_copy_146 : decode cX5_copy 146 = .ok (.getfield 16, 3) := dk_180 0 16 (dk_at dksX5_copy_6 6 rfl rfl)
theorem dX5_copy_149 : decode cX5_copy 149 = .ok (.iload_n 2, 1) := dk_28 (dk_at dksX5_copy_6 9 rfl rfl)
theorem dX5_copy_150 : decode cX5_copy 150 = .ok (.iaload, 1) := dk_46 (dk_at dksX5_copy_6 10 rfl rfl)
theorem dX5_copy_151 : decode cX5_copy 151 = .ok (.if_icmp .gt 30, 3) := dk_163 0 30 (dk_at dksX5_copy_6 11 rfl rfl)
theorem dX5_copy_154 : decode cX5_copy 154 = .ok (.iload_n 3, 1) := dk_29 (dk_at dksX5_copy_6 14 rfl rfl)
theorem dX5_copy_155 : decode cX5_copy 155 = .ok (.aload_n 0, 1) := dk_42 (dk_at dksX5_copy_6 15 rfl rfl)
theorem dX5_copy_156 : decode cX5_copy 156 = .ok (.getfield 16, 3) := dk_180 0 16 (dk_at dksX5_copy_6 16 rfl rfl)
theorem dX5_copy_159 : decode cX5_copy 159 = .ok (.iload_n 1, 1) := dk_27 (dk_at dksX5_copy_6 19 rfl rfl)
theorem dX5_copy_160 : decode cX5_copy 160 = .ok (.iaload, 1) := dk_46 (dk_at dksX5_copy_6 20 rfl rfl)
theorem dX5_copy_161 : decode cX5_copy 161 = .ok (.iload 5, 2) := dk_21 5 (dk_at dksX5_copy_6 21 rfl rfl)
theorem dX5_copy_163 : decode cX5_copy 163 = .ok (.isub, 1) := dk_100 (dk_at dksX5_copy_6 23 rfl rfl)
theorem dX5_copy_164 : decode cX5_copy 164 = .ok (.if_icmp .gt 17, 3) := dk_163 0 17 (dk_at dksX5_copy_7 0 rfl rfl)
theorem dX5_copy_167 : decode cX5_copy 167 = .ok (.iload 4, 2) := dk_21 4 (dk_at dksX5_copy_7 3 rfl rfl)
theorem dX5_copy_169 : decode cX5_copy 169 = .ok (.aload_n 0, 1) := dk_42 (dk_at dksX5_copy_7 5 rfl rfl)
theorem dX5_copy_170 : decode cX5_copy 170 = .ok (.getfield 16, 3) := dk_180 0 16 (dk_at dksX5_copy_7 6 rfl rfl)
theorem dX5_copy_173 : decode cX5_copy 173 = .ok (.iload_n 2, 1) := dk_28 (dk_at dksX5_copy_7 9 rfl rfl)
theorem dX5_copy_174 : decode cX5_copy 174 = .ok (.iaload, 1) := dk_46 (dk_at dksX5_copy_7 10 rfl rfl)
theorem dX5_copy_175 : decode cX5_copy 175 = .ok (.iload 5, 2) := dk_21 5 (dk_at dksX5_copy_7 11 rfl rfl)
theorem dX5_copy_177 : decode cX5_copy 177 = .ok (.isub, 1) := dk_100 (dk_at dksX5_copy_7 13 rfl rfl)
theorem dX5_copy_178 : decode cX5_copy 178 = .ok (.if_icmp .le 10, 3) := dk_164 0 10 (dk_at dksX5_copy_7 14 rfl rfl)
theorem dX5_copy_181 : decode cX5_copy 181 = .ok (.aload_n 0, 1) := dk_42 (dk_at dksX5_copy_7 17 rfl rfl)
theorem dX5_copy_182 : decode cX5_copy 182 = .ok (.bipush (-2), 2) := dk_16 254 (dk_at dksX5_copy_7 18 rfl rfl)
theorem dX5_copy_184 : decode cX5_copy 184 = .ok (.invokevirtual 102, 3) := dk_182 0 102 (dk_at dksX5_copy_7 20 rfl rfl)
theorem dX5_copy_187 : decode cX5_copy 187 = .ok (.ireturn, 1) := dk_172 (dk_at dksX5_copy_7 23 rfl rfl)
theorem dX5_copy_188 : decode cX5_copy 188 = .ok (.iconst 0, 1) := dk_3 (dk_at dksX5_copy_8 0 rfl rfl)
theorem dX5_copy_189 : decode cX5_copy 189 = .ok (.istore 6, 2) := dk_54 6 (dk_at dksX5_copy_8 1 rfl rfl)
theorem dX5_copy_191 : decode cX5_copy 191 = .ok (.iload 6, 2) := dk_21 6 (dk_at dksX5_copy_8 3 rfl rfl)
theorem dX5_copy_193 : decode cX5_copy 193 = .ok (.iload 5, 2) := dk_21 5 (dk_at dksX5_copy_8 5 rfl rfl)
theorem dX5_copy_195 : decode cX5_copy 195 = .ok (.if_icmp .ge 27, 3) := dk_162 0 27 (dk_at dksX5_copy_8 7 rfl rfl)
theorem dX5_copy_198 : decode cX5_copy 198 = .ok (.aload_n 0, 1) := dk_42 (dk_at dksX5_copy_8 10 rfl rfl)
theorem dX5_copy_199 : decode cX5_copy 199 = .ok (.getfield 24, 3) := dk_180 0 24 (dk_at dksX5_copy_8 11 rfl rfl)
theorem dX5_copy_202 : decode cX5_copy 202 = .ok (.iload 6, 2) := dk_21 6 (dk_at dksX5_copy_8 14 rfl rfl)
theorem dX5_copy_204 : decode cX5_copy 204 = .ok (.aload_n 0, 1) := dk_42 (dk_at dksX5_copy_8 16 rfl rfl)
theorem dX5_copy_205 : decode cX5_copy 205 = .ok (.getfield 21, 3) := dk_180 0 21 (dk_at dksX5_copy_8 17 rfl rfl)
theorem dX5_copy_208 : decode cX5_copy 208 = .ok (.iload_n 1, 1) := dk_27 (dk_at dksX5_copy_8 20 rfl rfl)
theorem dX5_copy_209 : decode cX5_copy 209 = .ok (.aaload, 1) := dk_50 (dk_at dksX5_copy_8 21 rfl rfl)
theorem dX5_copy_210 : decode cX5_copy 210 = .ok (.iload_n 3, 1) := dk_29 (dk_at dksX5_copy_8 22 rfl rfl)
theorem dX5_copy_211 : decode cX5_copy 211 = .ok (.iload 6, 2) := dk_21 6 (dk_at dksX5_copy_9 0 rfl rfl)
theorem dX5_copy_213 : decode cX5_copy 213 = .ok (.iadd, 1) := dk_96 (dk_at dksX5_copy_9 2 rfl rfl)
theorem dX5_copy_214 : decode cX5_copy 214 = .ok (.laload, 1) := dk_47 (dk_at dksX5_copy_9 3 rfl rfl)
theorem dX5_copy_215 : decode cX5_copy 215 = .ok (.lastore, 1) := dk_80 (dk_at dksX5_copy_9 4 rfl rfl)
theorem dX5_copy_216 : decode cX5_copy 216 = .ok (.iinc 6 1, 3) := dk_132 6 1 (dk_at dksX5_copy_9 5 rfl rfl)
theorem dX5_copy_219 : decode cX5_copy 219 = .ok (.goto (-28), 3) := dk_167 255 228 (dk_at dksX5_copy_9 8 rfl rfl)
theorem dX5_copy_222 : decode cX5_copy 222 = .ok (.iconst 0, 1) := dk_3 (dk_at dksX5_copy_9 11 rfl rfl)
theorem dX5_copy_223 : decode cX5_copy 223 = .ok (.istore 6, 2) := dk_54 6 (dk_at dksX5_copy_9 12 rfl rfl)
theorem dX5_copy_225 : decode cX5_copy 225 = .ok (.iload 6, 2) := dk_21 6 (dk_at dksX5_copy_9 14 rfl rfl)
theorem dX5_copy_227 : decode cX5_copy 227 = .ok (.iload 5, 2) := dk_21 5 (dk_at dksX5_copy_9 16 rfl rfl)
theorem dX5_copy_229 : decode cX5_copy 229 = .ok (.if_icmp .ge 28, 3) := dk_162 0 28 (dk_at dksX5_copy_9 18 rfl rfl)
theorem dX5_copy_232 : decode cX5_copy 232 = .ok (.aload_n 0, 1) := dk_42 (dk_at dksX5_copy_9 21 rfl rfl)
theorem dX5_copy_233 : decode cX5_copy 233 = .ok (.getfield 21, 3) := dk_180 0 21 (dk_at dksX5_copy_10 0 rfl rfl)
theorem dX5_copy_236 : decode cX5_copy 236 = .ok (.iload_n 2, 1) := dk_28 (dk_at dksX5_copy_10 3 rfl rfl)
theorem dX5_copy_237 : decode cX5_copy 237 = .ok (.aaload, 1) := dk_50 (dk_at dksX5_copy_10 4 rfl rfl)
theorem dX5_copy_238 : decode cX5_copy 238 = .ok (.iload 4, 2) := dk_21 4 (dk_at dksX5_copy_10 5 rfl rfl)
theorem dX5_copy_240 : decode cX5_copy 240 = .ok (.iload 6, 2) := dk_21 6 (dk_at dksX5_copy_10 7 rfl rfl)
theorem dX5_copy_242 : decode cX5_copy 242 = .ok (.iadd, 1) := dk_96 (dk_at dksX5_copy_10 9 rfl rfl)
theorem dX5_copy_243 : decode cX5_copy 243 = .ok (.aload_n 0, 1) := dk_42 (dk_at dksX5_copy_10 10 rfl rfl)
theorem dX5_copy_244 : decode cX5_copy 244 = .ok (.getfield 24, 3) := dk_180 0 24 (dk_at dksX5_copy_10 11 rfl rfl)
theorem dX5_copy_247 : decode cX5_copy 247 = .ok (.iload 6, 2) := dk_21 6 (dk_at dksX5_copy_10 14 rfl rfl)
theorem dX5_copy_249 : decode cX5_copy 249 = .ok (.laload, 1) := dk_47 (dk_at dksX5_copy_10 16 rfl rfl)
theorem dX5_copy_250 : decode cX5_copy 250 = .ok (.lastore, 1) := dk_80 (dk_at dksX5_copy_10 17 rfl rfl)
theorem dX5_copy_251 : decode cX5_copy 251 = .ok (.iinc 6 1, 3) := dk_132 6 1 (dk_at dksX5_copy_10 18 rfl rfl)
theorem dX5_copy_254 : decode cX5_copy 254 = .ok (.goto (-29), 3) := dk_167 255 227 (dk_at dksX5_copy_10 21 rfl rfl)
theorem dX5_copy_257 : decode cX5_copy 257 = .ok (.iload 5, 2) := dk_21 5 (dk_at dksX5_copy_11 0 rfl rfl)
theorem dX5_copy_259 : decode cX5_copy 259 = .ok (.ireturn, 1) := dk_172 (dk_at dksX5_copy_11 2 rfl rfl)
abbrev cX5_element : ByteArray := prog_18_method_15_code
def yX5_element : MethodName := ⟨RX5, "element", "(II)J"⟩
def dkwX5_element_2 : List UInt8 := [167, 0, 4, 9, 173]
abbrev dktX5_element_2 : List UInt8 := dkwX5_element_2 ++ []
def dkwX5_element_1 : List UInt8 := [9, 42, 180, 0, 16, 27, 46, 4, 100, 133, 184, 0, 88, 153, 0, 14, 42, 180, 0, 21, 27, 50, 28, 47]
abbrev dktX5_element_1 : List UInt8 := dkwX5_element_1 ++ dktX5_element_2
def dkwX5_element_0 : List UInt8 := [27, 133, 9, 20, 0, 96, 184, 0, 88, 153, 0, 42, 42, 180, 0, 7, 27, 46, 4, 160, 0, 32, 28, 133]
abbrev dktX5_element_0 : List UInt8 := dkwX5_element_0 ++ dktX5_element_1
theorem dksX5_element_0 : cX5_element.data.toList.drop 0 = dktX5_element_0 := by decide +kernel
theorem dksX5_element_1 : cX5_element.data.toList.drop 24 = dktX5_element_1 := dk_seg dksX5_element_0 24 rfl rfl
theorem dksX5_element_2 : cX5_element.data.toList.drop 48 = dktX5_element_2 := dk_seg dksX5_element_1 24 rfl rfl
theorem dX5_element_0 : decode cX5_element 0 = .ok (.iload_n 1, 1) := dk_27 (dk_at dksX5_element_0 0 rfl rfl)
theorem dX5_element_1 : decode cX5_element 1 = .ok (.i2l, 1) := dk_133 (dk_at dksX5_element_0 1 rfl rfl)
theorem dX5_element_2 : decode cX5_element 2 = .ok (.lconst 0, 1) := dk_9 (dk_at dksX5_element_0 2 rfl rfl)
theorem dX5_element_3 : decode cX5_element 3 = .ok (.ldc2_w 96, 3) := dk_20 0 96 (dk_at dksX5_element_0 3 rfl rfl)
theorem dX5_element_6 : decode cX5_element 6 = .ok (.invokestatic 88, 3) := dk_184 0 88 (dk_at dksX5_element_0 6 rfl rfl)
theorem dX5_element_9 : decode cX5_element 9 = .ok (.ifCond .eq 42, 3) := dk_153 0 42 (dk_at dksX5_element_0 9 rfl rfl)
theorem dX5_element_12 : decode cX5_element 12 = .ok (.aload_n 0, 1) := dk_42 (dk_at dksX5_element_0 12 rfl rfl)
theorem dX5_element_13 : decode cX5_element 13 = .ok (.getfield 7, 3) := dk_180 0 7 (dk_at dksX5_element_0 13 rfl rfl)
theorem dX5_element_16 : decode cX5_element 16 = .ok (.iload_n 1, 1) := dk_27 (dk_at dksX5_element_0 16 rfl rfl)
theorem dX5_element_17 : decode cX5_element 17 = .ok (.iaload, 1) := dk_46 (dk_at dksX5_element_0 17 rfl rfl)
theorem dX5_element_18 : decode cX5_element 18 = .ok (.iconst 1, 1) := dk_4 (dk_at dksX5_element_0 18 rfl rfl)
theorem dX5_element_19 : decode cX5_element 19 = .ok (.if_icmp .ne 32, 3) := dk_160 0 32 (dk_at dksX5_element_0 19 rfl rfl)
theorem dX5_element_22 : decode cX5_element 22 = .ok (.iload_n 2, 1) := dk_28 (dk_at dksX5_element_0 22 rfl rfl)
theorem dX5_element_23 : decode cX5_element 23 = .ok (.i2l, 1) := dk_133 (dk_at dksX5_element_0 23 rfl rfl)
theorem dX5_element_24 : decode cX5_element 24 = .ok (.lconst 0, 1) := dk_9 (dk_at dksX5_element_1 0 rfl rfl)
theorem dX5_element_25 : decode cX5_element 25 = .ok (.aload_n 0, 1) := dk_42 (dk_at dksX5_element_1 1 rfl rfl)
theorem dX5_element_26 : decode cX5_element 26 = .ok (.getfield 16, 3) := dk_180 0 16 (dk_at dksX5_element_1 2 rfl rfl)
theorem dX5_element_29 : decode cX5_element 29 = .ok (.iload_n 1, 1) := dk_27 (dk_at dksX5_element_1 5 rfl rfl)
theorem dX5_element_30 : decode cX5_element 30 = .ok (.iaload, 1) := dk_46 (dk_at dksX5_element_1 6 rfl rfl)
theorem dX5_element_31 : decode cX5_element 31 = .ok (.iconst 1, 1) := dk_4 (dk_at dksX5_element_1 7 rfl rfl)
theorem dX5_element_32 : decode cX5_element 32 = .ok (.isub, 1) := dk_100 (dk_at dksX5_element_1 8 rfl rfl)
theorem dX5_element_33 : decode cX5_element 33 = .ok (.i2l, 1) := dk_133 (dk_at dksX5_element_1 9 rfl rfl)
theorem dX5_element_34 : decode cX5_element 34 = .ok (.invokestatic 88, 3) := dk_184 0 88 (dk_at dksX5_element_1 10 rfl rfl)
theorem dX5_element_37 : decode cX5_element 37 = .ok (.ifCond .eq 14, 3) := dk_153 0 14 (dk_at dksX5_element_1 13 rfl rfl)
theorem dX5_element_40 : decode cX5_element 40 = .ok (.aload_n 0, 1) := dk_42 (dk_at dksX5_element_1 16 rfl rfl)
theorem dX5_element_41 : decode cX5_element 41 = .ok (.getfield 21, 3) := dk_180 0 21 (dk_at dksX5_element_1 17 rfl rfl)
theorem dX5_element_44 : decode cX5_element 44 = .ok (.iload_n 1, 1) := dk_27 (dk_at dksX5_element_1 20 rfl rfl)
theorem dX5_element_45 : decode cX5_element 45 = .ok (.aaload, 1) := dk_50 (dk_at dksX5_element_1 21 rfl rfl)
theorem dX5_element_46 : decode cX5_element 46 = .ok (.iload_n 2, 1) := dk_28 (dk_at dksX5_element_1 22 rfl rfl)
theorem dX5_element_47 : decode cX5_element 47 = .ok (.laload, 1) := dk_47 (dk_at dksX5_element_1 23 rfl rfl)
theorem dX5_element_48 : decode cX5_element 48 = .ok (.goto 4, 3) := dk_167 0 4 (dk_at dksX5_element_2 0 rfl rfl)
theorem dX5_element_51 : decode cX5_element 51 = .ok (.lconst 0, 1) := dk_9 (dk_at dksX5_element_2 3 rfl rfl)
theorem dX5_element_52 : decode cX5_element 52 = .ok (.lreturn, 1) := dk_173 (dk_at dksX5_element_2 4 rfl rfl)
abbrev cX5_holds : ByteArray := prog_18_method_16_code
def yX5_holds : MethodName := ⟨RX5, "holds", "(I)I"⟩
def dkwX5_holds_2 : List UInt8 := [27, 46, 96, 172]
abbrev dktX5_holds_2 : List UInt8 := dkwX5_holds_2 ++ []
def dkwX5_holds_1 : List UInt8 := [180, 0, 7, 27, 46, 4, 160, 0, 12, 42, 180, 0, 13, 27, 46, 167, 0, 12, 16, 10, 42, 180, 0, 28]
abbrev dktX5_holds_1 : List UInt8 := dkwX5_holds_1 ++ dktX5_holds_2
def dkwX5_holds_0 : List UInt8 := [27, 133, 9, 20, 0, 96, 184, 0, 88, 153, 0, 12, 42, 180, 0, 7, 27, 46, 154, 0, 5, 2, 172, 42]
abbrev dktX5_holds_0 : List UInt8 := dkwX5_holds_0 ++ dktX5_holds_1
theorem dksX5_holds_0 : cX5_holds.data.toList.drop 0 = dktX5_holds_0 := by decide +kernel
theorem dksX5_holds_1 : cX5_holds.data.toList.drop 24 = dktX5_holds_1 := dk_seg dksX5_holds_0 24 rfl rfl
theorem dksX5_holds_2 : cX5_holds.data.toList.drop 48 = dktX5_holds_2 := dk_seg dksX5_holds_1 24 rfl rfl
theorem dX5_holds_0 : decode cX5_holds 0 = .ok (.iload_n 1, 1) := dk_27 (dk_at dksX5_holds_0 0 rfl rfl)
theorem dX5_holds_1 : decode cX5_holds 1 = .ok (.i2l, 1) := dk_133 (dk_at dksX5_holds_0 1 rfl rfl)
theorem dX5_holds_2 : decode cX5_holds 2 = .ok (.lconst 0, 1) := dk_9 (dk_at dksX5_holds_0 2 rfl rfl)
theorem dX5_holds_3 : decode cX5_holds 3 = .ok (.ldc2_w 96, 3) := dk_20 0 96 (dk_at dksX5_holds_0 3 rfl rfl)
theorem dX5_holds_6 : decode cX5_holds 6 = .ok (.invokestatic 88, 3) := dk_184 0 88 (dk_at dksX5_holds_0 6 rfl rfl)
theorem dX5_holds_9 : decode cX5_holds 9 = .ok (.ifCond .eq 12, 3) := dk_153 0 12 (dk_at dksX5_holds_0 9 rfl rfl)
theorem dX5_holds_12 : decode cX5_holds 12 = .ok (.aload_n 0, 1) := dk_42 (dk_at dksX5_holds_0 12 rfl rfl)
theorem dX5_holds_13 : decode cX5_holds 13 = .ok (.getfield 7, 3) := dk_180 0 7 (dk_at dksX5_holds_0 13 rfl rfl)
theorem dX5_holds_16 : decode cX5_holds 16 = .ok (.iload_n 1, 1) := dk_27 (dk_at dksX5_holds_0 16 rfl rfl)
theorem dX5_holds_17 : decode cX5_holds 17 = .ok (.iaload, 1) := dk_46 (dk_at dksX5_holds_0 17 rfl rfl)
theorem dX5_holds_18 : decode cX5_holds 18 = .ok (.ifCond .ne 5, 3) := dk_154 0 5 (dk_at dksX5_holds_0 18 rfl rfl)
theorem dX5_holds_21 : decode cX5_holds 21 = .ok (.iconst (-1), 1) := dk_2 (dk_at dksX5_holds_0 21 rfl rfl)
theorem dX5_holds_22 : decode cX5_holds 22 = .ok (.ireturn, 1) := dk_172 (dk_at dksX5_holds_0 22 rfl rfl)
theorem dX5_holds_23 : decode cX5_holds 23 = .ok (.aload_n 0, 1) := dk_42 (dk_at dksX5_holds_0 23 rfl rfl)
theorem dX5_holds_24 : decode cX5_holds 24 = .ok (.getfield 7, 3) := dk_180 0 7 (dk_at dksX5_holds_1 0 rfl rfl)
theorem dX5_holds_27 : decode cX5_holds 27 = .ok (.iload_n 1, 1) := dk_27 (dk_at dksX5_holds_1 3 rfl rfl)
theorem dX5_holds_28 : decode cX5_holds 28 = .ok (.iaload, 1) := dk_46 (dk_at dksX5_holds_1 4 rfl rfl)
theorem dX5_holds_29 : decode cX5_holds 29 = .ok (.iconst 1, 1) := dk_4 (dk_at dksX5_holds_1 5 rfl rfl)
theorem dX5_holds_30 : decode cX5_holds 30 = .ok (.if_icmp .ne 12, 3) := dk_160 0 12 (dk_at dksX5_holds_1 6 rfl rfl)
theorem dX5_holds_33 : decode cX5_holds 33 = .ok (.aload_n 0, 1) := dk_42 (dk_at dksX5_holds_1 9 rfl rfl)
theorem dX5_holds_34 : decode cX5_holds 34 = .ok (.getfield 13, 3) := dk_180 0 13 (dk_at dksX5_holds_1 10 rfl rfl)
theorem dX5_holds_37 : decode cX5_holds 37 = .ok (.iload_n 1, 1) := dk_27 (dk_at dksX5_holds_1 13 rfl rfl)
theorem dX5_holds_38 : decode cX5_holds 38 = .ok (.iaload, 1) := dk_46 (dk_at dksX5_holds_1 14 rfl rfl)
theorem dX5_holds_39 : decode cX5_holds 39 = .ok (.goto 12, 3) := dk_167 0 12 (dk_at dksX5_holds_1 15 rfl rfl)
theorem dX5_holds_42 : decode cX5_holds 42 = .ok (.bipush 10, 2) := dk_16 10 (dk_at dksX5_holds_1 18 rfl rfl)
theorem dX5_holds_44 : decode cX5_holds 44 = .ok (.aload_n 0, 1) := dk_42 (dk_at dksX5_holds_1 20 rfl rfl)
theorem dX5_holds_45 : decode cX5_holds 45 = .ok (.getfield 28, 3) := dk_180 0 28 (dk_at dksX5_holds_1 21 rfl rfl)
theorem dX5_holds_48 : decode cX5_holds 48 = .ok (.iload_n 1, 1) := dk_27 (dk_at dksX5_holds_2 0 rfl rfl)
theorem dX5_holds_49 : decode cX5_holds 49 = .ok (.iaload, 1) := dk_46 (dk_at dksX5_holds_2 1 rfl rfl)
theorem dX5_holds_50 : decode cX5_holds 50 = .ok (.iadd, 1) := dk_96 (dk_at dksX5_holds_2 2 rfl rfl)
theorem dX5_holds_51 : decode cX5_holds 51 = .ok (.ireturn, 1) := dk_172 (dk_at dksX5_holds_2 3 rfl rfl)
abbrev cX5_coachman : ByteArray := prog_18_method_17_code
def yX5_coachman : MethodName := ⟨RX5, "coachman", "(III)I"⟩
def dkwX5_coachman_2 : List UInt8 := [5, 79, 42, 180, 0, 28, 27, 28, 79, 42, 180, 0, 31, 27, 29, 79, 4, 172]
abbrev dktX5_coachman_2 : List UInt8 := dkwX5_coachman_2 ++ []
def dkwX5_coachman_1 : List UInt8 := [29, 133, 9, 20, 0, 115, 184, 0, 88, 154, 0, 10, 42, 16, 254, 182, 0, 102, 172, 42, 180, 0, 7, 27]
abbrev dktX5_coachman_1 : List UInt8 := dkwX5_coachman_1 ++ dktX5_coachman_2
def dkwX5_coachman_0 : List UInt8 := [27, 133, 9, 20, 0, 96, 184, 0, 88, 153, 0, 27, 28, 133, 10, 20, 0, 113, 184, 0, 88, 153, 0, 15]
abbrev dktX5_coachman_0 : List UInt8 := dkwX5_coachman_0 ++ dktX5_coachman_1
theorem dksX5_coachman_0 : cX5_coachman.data.toList.drop 0 = dktX5_coachman_0 := by decide +kernel
theorem dksX5_coachman_1 : cX5_coachman.data.toList.drop 24 = dktX5_coachman_1 := dk_seg dksX5_coachman_0 24 rfl rfl
theorem dksX5_coachman_2 : cX5_coachman.data.toList.drop 48 = dktX5_coachman_2 := dk_seg dksX5_coachman_1 24 rfl rfl
theorem dX5_coachman_0 : decode cX5_coachman 0 = .ok (.iload_n 1, 1) := dk_27 (dk_at dksX5_coachman_0 0 rfl rfl)
theorem dX5_coachman_1 : decode cX5_coachman 1 = .ok (.i2l, 1) := dk_133 (dk_at dksX5_coachman_0 1 rfl rfl)
theorem dX5_coachman_2 : decode cX5_coachman 2 = .ok (.lconst 0, 1) := dk_9 (dk_at dksX5_coachman_0 2 rfl rfl)
theorem dX5_coachman_3 : decode cX5_coachman 3 = .ok (.ldc2_w 96, 3) := dk_20 0 96 (dk_at dksX5_coachman_0 3 rfl rfl)
theorem dX5_coachman_6 : decode cX5_coachman 6 = .ok (.invokestatic 88, 3) := dk_184 0 88 (dk_at dksX5_coachman_0 6 rfl rfl)
theorem dX5_coachman_9 : decode cX5_coachman 9 = .ok (.ifCond .eq 27, 3) := dk_153 0 27 (dk_at dksX5_coachman_0 9 rfl rfl)
theorem dX5_coachman_12 : decode cX5_coachman 12 = .ok (.iload_n 2, 1) := dk_28 (dk_at dksX5_coachman_0 12 rfl rfl)
theorem dX5_coachman_13 : decode cX5_coachman 13 = .ok (.i2l, 1) := dk_133 (dk_at dksX5_coachman_0 13 rfl rfl)
theorem dX5_coachman_14 : decode cX5_coachman 14 = .ok (.lconst 1, 1) := dk_10 (dk_at dksX5_coachman_0 14 rfl rfl)
theorem dX5_coachman_15 : decode cX5_coachman 15 = .ok (.ldc2_w 113, 3) := dk_20 0 113 (dk_at dksX5_coachman_0 15 rfl rfl)
theorem dX5_coachman_18 : decode cX5_coachman 18 = .ok (.invokestatic 88, 3) := dk_184 0 88 (dk_at dksX5_coachman_0 18 rfl rfl)
theorem dX5_coachman_21 : decode cX5_coachman 21 = .ok (.ifCond .eq 15, 3) := dk_153 0 15 (dk_at dksX5_coachman_0 21 rfl rfl)
theorem dX5_coachman_24 : decode cX5_coachman 24 = .ok (.iload_n 3, 1) := dk_29 (dk_at dksX5_coachman_1 0 rfl rfl)
theorem dX5_coachman_25 : decode cX5_coachman 25 = .ok (.i2l, 1) := dk_133 (dk_at dksX5_coachman_1 1 rfl rfl)
theorem dX5_coachman_26 : decode cX5_coachman 26 = .ok (.lconst 0, 1) := dk_9 (dk_at dksX5_coachman_1 2 rfl rfl)
theorem dX5_coachman_27 : decode cX5_coachman 27 = .ok (.ldc2_w 115, 3) := dk_20 0 115 (dk_at dksX5_coachman_1 3 rfl rfl)
theorem dX5_coachman_30 : decode cX5_coachman 30 = .ok (.invokestatic 88, 3) := dk_184 0 88 (dk_at dksX5_coachman_1 6 rfl rfl)
theorem dX5_coachman_33 : decode cX5_coachman 33 = .ok (.ifCond .ne 10, 3) := dk_154 0 10 (dk_at dksX5_coachman_1 9 rfl rfl)
theorem dX5_coachman_36 : decode cX5_coachman 36 = .ok (.aload_n 0, 1) := dk_42 (dk_at dksX5_coachman_1 12 rfl rfl)
theorem dX5_coachman_37 : decode cX5_coachman 37 = .ok (.bipush (-2), 2) := dk_16 254 (dk_at dksX5_coachman_1 13 rfl rfl)
theorem dX5_coachman_39 : decode cX5_coachman 39 = .ok (.invokevirtual 102, 3) := dk_182 0 102 (dk_at dksX5_coachman_1 15 rfl rfl)
theorem dX5_coachman_42 : decode cX5_coachman 42 = .ok (.ireturn, 1) := dk_172 (dk_at dksX5_coachman_1 18 rfl rfl)
theorem dX5_coachman_43 : decode cX5_coachman 43 = .ok (.aload_n 0, 1) := dk_42 (dk_at dksX5_coachman_1 19 rfl rfl)
theorem dX5_coachman_44 : decode cX5_coachman 44 = .ok (.getfield 7, 3) := dk_180 0 7 (dk_at dksX5_coachman_1 20 rfl rfl)
theorem dX5_coachman_47 : decode cX5_coachman 47 = .ok (.iload_n 1, 1) := dk_27 (dk_at dksX5_coachman_1 23 rfl rfl)
theorem dX5_coachman_48 : decode cX5_coachman 48 = .ok (.iconst 2, 1) := dk_5 (dk_at dksX5_coachman_2 0 rfl rfl)
theorem dX5_coachman_49 : decode cX5_coachman 49 = .ok (.iastore, 1) := dk_79 (dk_at dksX5_coachman_2 1 rfl rfl)
theorem dX5_coachman_50 : decode cX5_coachman 50 = .ok (.aload_n 0, 1) := dk_42 (dk_at dksX5_coachman_2 2 rfl rfl)
theorem dX5_coachman_51 : decode cX5_coachman 51 = .ok (.getfield 28, 3) := dk_180 0 28 (dk_at dksX5_coachman_2 3 rfl rfl)
theorem dX5_coachman_54 : decode cX5_coachman 54 = .ok (.iload_n 1, 1) := dk_27 (dk_at dksX5_coachman_2 6 rfl rfl)
theorem dX5_coachman_55 : decode cX5_coachman 55 = .ok (.iload_n 2, 1) := dk_28 (dk_at dksX5_coachman_2 7 rfl rfl)
theorem dX5_coachman_56 : decode cX5_coachman 56 = .ok (.iastore, 1) := dk_79 (dk_at dksX5_coachman_2 8 rfl rfl)
theorem dX5_coachman_57 : decode cX5_coachman 57 = .ok (.aload_n 0, 1) := dk_42 (dk_at dksX5_coachman_2 9 rfl rfl)
theorem dX5_coachman_58 : decode cX5_coachman 58 = .ok (.getfield 31, 3) := dk_180 0 31 (dk_at dksX5_coachman_2 10 rfl rfl)
theorem dX5_coachman_61 : decode cX5_coachman 61 = .ok (.iload_n 1, 1) := dk_27 (dk_at dksX5_coachman_2 13 rfl rfl)
theorem dX5_coachman_62 : decode cX5_coachman 62 = .ok (.iload_n 3, 1) := dk_29 (dk_at dksX5_coachman_2 14 rfl rfl)
theorem dX5_coachman_63 : decode cX5_coachman 63 = .ok (.iastore, 1) := dk_79 (dk_at dksX5_coachman_2 15 rfl rfl)
theorem dX5_coachman_64 : decode cX5_coachman 64 = .ok (.iconst 1, 1) := dk_4 (dk_at dksX5_coachman_2 16 rfl rfl)
theorem dX5_coachman_65 : decode cX5_coachman 65 = .ok (.ireturn, 1) := dk_172 (dk_at dksX5_coachman_2 17 rfl rfl)
abbrev cX5_says : ByteArray := prog_18_method_19_code
def yX5_says : MethodName := ⟨RX5, "says", "(II)I"⟩
def dkwX5_says_5 : List UInt8 := [182, 0, 121, 172]
abbrev dktX5_says_5 : List UInt8 := dkwX5_says_5 ++ []
def dkwX5_says_4 : List UInt8 := [46, 167, 0, 24, 42, 42, 180, 0, 28, 27, 46, 42, 180, 0, 31, 27, 46, 42, 182, 0, 92, 3]
abbrev dktX5_says_4 : List UInt8 := dkwX5_says_4 ++ dktX5_says_5
def dkwX5_says_3 : List UInt8 := [180, 0, 7, 27, 46, 154, 0, 10, 42, 16, 252, 182, 0, 102, 172, 28, 154, 0, 12, 42, 180, 0, 31, 27]
abbrev dktX5_says_3 : List UInt8 := dkwX5_says_3 ++ dktX5_says_4
def dkwX5_says_2 : List UInt8 := [160, 0, 23, 42, 180, 0, 28, 27, 46, 28, 184, 0, 117, 154, 0, 10, 42, 16, 253, 182, 0, 102, 172, 42]
abbrev dktX5_says_2 : List UInt8 := dkwX5_says_2 ++ dktX5_says_3
def dkwX5_says_1 : List UInt8 := [42, 16, 254, 182, 0, 102, 172, 42, 180, 0, 7, 27, 46, 4, 159, 0, 26, 42, 180, 0, 7, 27, 46, 5]
abbrev dktX5_says_1 : List UInt8 := dkwX5_says_1 ++ dktX5_says_2
def dkwX5_says_0 : List UInt8 := [27, 133, 9, 20, 0, 96, 184, 0, 88, 153, 0, 15, 28, 133, 9, 20, 0, 113, 184, 0, 88, 154, 0, 10]
abbrev dktX5_says_0 : List UInt8 := dkwX5_says_0 ++ dktX5_says_1
theorem dksX5_says_0 : cX5_says.data.toList.drop 0 = dktX5_says_0 := by decide +kernel
theorem dksX5_says_1 : cX5_says.data.toList.drop 24 = dktX5_says_1 := dk_seg dksX5_says_0 24 rfl rfl
theorem dksX5_says_2 : cX5_says.data.toList.drop 48 = dktX5_says_2 := dk_seg dksX5_says_1 24 rfl rfl
theorem dksX5_says_3 : cX5_says.data.toList.drop 72 = dktX5_says_3 := dk_seg dksX5_says_2 24 rfl rfl
theorem dksX5_says_4 : cX5_says.data.toList.drop 96 = dktX5_says_4 := dk_seg dksX5_says_3 24 rfl rfl
theorem dksX5_says_5 : cX5_says.data.toList.drop 118 = dktX5_says_5 := dk_seg dksX5_says_4 22 rfl rfl
theorem dX5_says_0 : decode cX5_says 0 = .ok (.iload_n 1, 1) := dk_27 (dk_at dksX5_says_0 0 rfl rfl)
theorem dX5_says_1 : decode cX5_says 1 = .ok (.i2l, 1) := dk_133 (dk_at dksX5_says_0 1 rfl rfl)
theorem dX5_says_2 : decode cX5_says 2 = .ok (.lconst 0, 1) := dk_9 (dk_at dksX5_says_0 2 rfl rfl)
theorem dX5_says_3 : decode cX5_says 3 = .ok (.ldc2_w 96, 3) := dk_20 0 96 (dk_at dksX5_says_0 3 rfl rfl)
theorem dX5_says_6 : decode cX5_says 6 = .ok (.invokestatic 88, 3) := dk_184 0 88 (dk_at dksX5_says_0 6 rfl rfl)
theorem dX5_says_9 : decode cX5_says 9 = .ok (.ifCond .eq 15, 3) := dk_153 0 15 (dk_at dksX5_says_0 9 rfl rfl)
theorem dX5_says_12 : decode cX5_says 12 = .ok (.iload_n 2, 1) := dk_28 (dk_at dksX5_says_0 12 rfl rfl)
theorem dX5_says_13 : decode cX5_says 13 = .ok (.i2l, 1) := dk_133 (dk_at dksX5_says_0 13 rfl rfl)
theorem dX5_says_14 : decode cX5_says 14 = .ok (.lconst 0, 1) := dk_9 (dk_at dksX5_says_0 14 rfl rfl)
theorem dX5_says_15 : decode cX5_says 15 = .ok (.ldc2_w 113, 3) := dk_20 0 113 (dk_at dksX5_says_0 15 rfl rfl)
theorem dX5_says_18 : decode cX5_says 18 = .ok (.invokestatic 88, 3) := dk_184 0 88 (dk_at dksX5_says_0 18 rfl rfl)
theorem dX5_says_21 : decode cX5_says 21 = .ok (.ifCond .ne 10, 3) := dk_154 0 10 (dk_at dksX5_says_0 21 rfl rfl)
theorem dX5_says_24 : decode cX5_says 24 = .ok (.aload_n 0, 1) := dk_42 (dk_at dksX5_says_1 0 rfl rfl)
theorem dX5_says_25 : decode cX5_says 25 = .ok (.bipush (-2), 2) := dk_16 254 (dk_at dksX5_says_1 1 rfl rfl)
theorem dX5_says_27 : decode cX5_says 27 = .ok (.invokevirtual 102, 3) := dk_182 0 102 (dk_at dksX5_says_1 3 rfl rfl)
theorem dX5_says_30 : decode cX5_says 30 = .ok (.ireturn, 1) := dk_172 (dk_at dksX5_says_1 6 rfl rfl)
theorem dX5_says_31 : decode cX5_says 31 = .ok (.aload_n 0, 1) := dk_42 (dk_at dksX5_says_1 7 rfl rfl)
theorem dX5_says_32 : decode cX5_says 32 = .ok (.getfield 7, 3) := dk_180 0 7 (dk_at dksX5_says_1 8 rfl rfl)
theorem dX5_says_35 : decode cX5_says 35 = .ok (.iload_n 1, 1) := dk_27 (dk_at dksX5_says_1 11 rfl rfl)
theorem dX5_says_36 : decode cX5_says 36 = .ok (.iaload, 1) := dk_46 (dk_at dksX5_says_1 12 rfl rfl)
theorem dX5_says_37 : decode cX5_says 37 = .ok (.iconst 1, 1) := dk_4 (dk_at dksX5_says_1 13 rfl rfl)
theorem dX5_says_38 : decode cX5_says 38 = .ok (.if_icmp .eq 26, 3) := dk_159 0 26 (dk_at dksX5_says_1 14 rfl rfl)
theorem dX5_says_41 : decode cX5_says 41 = .ok (.aload_n 0, 1) := dk_42 (dk_at dksX5_says_1 17 rfl rfl)
theorem dX5_says_42 : decode cX5_says 42 = .ok (.getfield 7, 3) := dk_180 0 7 (dk_at dksX5_says_1 18 rfl rfl)
theorem dX5_says_45 : decode cX5_says 45 = .ok (.iload_n 1, 1) := dk_27 (dk_at dksX5_says_1 21 rfl rfl)
theorem dX5_says_46 : decode cX5_says 46 = .ok (.iaload, 1) := dk_46 (dk_at dksX5_says_1 22 rfl rfl)
theorem dX5_says_47 : decode cX5_says 47 = .ok (.iconst 2, 1) := dk_5 (dk_at dksX5_says_1 23 rfl rfl)
theorem dX5_says_48 : decode cX5_says 48 = .ok (.if_icmp .ne 23, 3) := dk_160 0 23 (dk_at dksX5_says_2 0 rfl rfl)
theorem dX5_says_51 : decode cX5_says 51 = .ok (.aload_n 0, 1) := dk_42 (dk_at dksX5_says_2 3 rfl rfl)
theorem dX5_says_52 : decode cX5_says 52 = .ok (.getfield 28, 3) := dk_180 0 28 (dk_at dksX5_says_2 4 rfl rfl)
theorem dX5_says_55 : decode cX5_says 55 = .ok (.iload_n 1, 1) := dk_27 (dk_at dksX5_says_2 7 rfl rfl)
theorem dX5_says_56 : decode cX5_says 56 = .ok (.iaload, 1) := dk_46 (dk_at dksX5_says_2 8 rfl rfl)
theorem dX5_says_57 : decode cX5_says 57 = .ok (.iload_n 2, 1) := dk_28 (dk_at dksX5_says_2 9 rfl rfl)
theorem dX5_says_58 : decode cX5_says 58 = .ok (.invokestatic 117, 3) := dk_184 0 117 (dk_at dksX5_says_2 10 rfl rfl)
theorem dX5_says_61 : decode cX5_says 61 = .ok (.ifCond .ne 10, 3) := dk_154 0 10 (dk_at dksX5_says_2 13 rfl rfl)
theorem dX5_says_64 : decode cX5_says 64 = .ok (.aload_n 0, 1) := dk_42 (dk_at dksX5_says_2 16 rfl rfl)
theorem dX5_says_65 : decode cX5_says 65 = .ok (.bipush (-3), 2) := dk_16 253 (dk_at dksX5_says_2 17 rfl rfl)
theorem dX5_says_67 : decode cX5_says 67 = .ok (.invokevirtual 102, 3) := dk_182 0 102 (dk_at dksX5_says_2 19 rfl rfl)
theorem dX5_says_70 : decode cX5_says 70 = .ok (.ireturn, 1) := dk_172 (dk_at dksX5_says_2 22 rfl rfl)
theorem dX5_says_71 : decode cX5_says 71 = .ok (.aload_n 0, 1) := dk_42 (dk_at dksX5_says_2 23 rfl rfl)
theorem dX5_says_72 : decode cX5_says 72 = .ok (.getfield 7, 3) := dk_180 0 7 (dk_at dksX5_says_3 0 rfl rfl)
theorem dX5_says_75 : decode cX5_says 75 = .ok (.iload_n 1, 1) := dk_27 (dk_at dksX5_says_3 3 rfl rfl)
theorem dX5_says_76 : decode cX5_says 76 = .ok (.iaload, 1) := dk_46 (dk_at dksX5_says_3 4 rfl rfl)
theorem dX5_says_77 : decode cX5_says 77 = .ok (.ifCond .ne 10, 3) := dk_154 0 10 (dk_at dksX5_says_3 5 rfl rfl)
theorem dX5_says_80 : decode cX5_says 80 = .ok (.aload_n 0, 1) := dk_42 (dk_at dksX5_says_3 8 rfl rfl)
theorem dX5_says_81 : decode cX5_says 81 = .ok (.bipush (-4), 2) := dk_16 252 (dk_at dksX5_says_3 9 rfl rfl)
theorem dX5_says_83 : decode cX5_says 83 = .ok (.invokevirtual 102, 3) := dk_182 0 102 (dk_at dksX5_says_3 11 rfl rfl)
theorem dX5_says_86 : decode cX5_says 86 = .ok (.ireturn, 1) := dk_172 (dk_at dksX5_says_3 14 rfl rfl)
theorem dX5_says_87 : decode cX5_says 87 = .ok (.iload_n 2, 1) := dk_28 (dk_at dksX5_says_3 15 rfl rfl)
theorem dX5_says_88 : decode cX5_says 88 = .ok (.ifCond .ne 12, 3) := dk_154 0 12 (dk_at dksX5_says_3 16 rfl rfl)
theorem dX5_says_91 : decode cX5_says 91 = .ok (.aload_n 0, 1) := dk_42 (dk_at dksX5_says_3 19 rfl rfl)
theorem dX5_says_92 : decode cX5_says 92 = .ok (.getfield 31, 3) := dk_180 0 31 (dk_at dksX5_says_3 20 rfl rfl)
theorem dX5_says_95 : decode cX5_says 95 = .ok (.iload_n 1, 1) := dk_27 (dk_at dksX5_says_3 23 rfl rfl)
theorem dX5_says_96 : decode cX5_says 96 = .ok (.iaload, 1) := dk_46 (dk_at dksX5_says_4 0 rfl rfl)
theorem dX5_says_97 : decode cX5_says 97 = .ok (.goto 24, 3) := dk_167 0 24 (dk_at dksX5_says_4 1 rfl rfl)
theorem dX5_says_100 : decode cX5_says 100 = .ok (.aload_n 0, 1) := dk_42 (dk_at dksX5_says_4 4 rfl rfl)
theorem dX5_says_101 : decode cX5_says 101 = .ok (.aload_n 0, 1) := dk_42 (dk_at dksX5_says_4 5 rfl rfl)
theorem dX5_says_102 : decode cX5_says 102 = .ok (.getfield 28, 3) := dk_180 0 28 (dk_at dksX5_says_4 6 rfl rfl)
theorem dX5_says_105 : decode cX5_says 105 = .ok (.iload_n 1, 1) := dk_27 (dk_at dksX5_says_4 9 rfl rfl)
theorem dX5_says_106 : decode cX5_says 106 = .ok (.iaload, 1) := dk_46 (dk_at dksX5_says_4 10 rfl rfl)
theorem dX5_says_107 : decode cX5_says 107 = .ok (.aload_n 0, 1) := dk_42 (dk_at dksX5_says_4 11 rfl rfl)
theorem dX5_says_108 : decode cX5_says 108 = .ok (.getfield 31, 3) := dk_180 0 31 (dk_at dksX5_says_4 12 rfl rfl)
theorem dX5_says_111 : decode cX5_says 111 = .ok (.iload_n 1, 1) := dk_27 (dk_at dksX5_says_4 15 rfl rfl)
theorem dX5_says_112 : decode cX5_says 112 = .ok (.iaload, 1) := dk_46 (dk_at dksX5_says_4 16 rfl rfl)
theorem dX5_says_113 : decode cX5_says 113 = .ok (.aload_n 0, 1) := dk_42 (dk_at dksX5_says_4 17 rfl rfl)
theorem dX5_says_114 : decode cX5_says 114 = .ok (.invokevirtual 92, 3) := dk_182 0 92 (dk_at dksX5_says_4 18 rfl rfl)
theorem dX5_says_117 : decode cX5_says 117 = .ok (.iconst 0, 1) := dk_3 (dk_at dksX5_says_4 21 rfl rfl)
theorem dX5_says_118 : decode cX5_says 118 = .ok (.invokevirtual 121, 3) := dk_182 0 121 (dk_at dksX5_says_5 0 rfl rfl)
theorem dX5_says_121 : decode cX5_says 121 = .ok (.ireturn, 1) := dk_172 (dk_at dksX5_says_5 3 rfl rfl)
abbrev cX5_isUnder : ByteArray := prog_18_method_18_code
def yX5_isUnder : MethodName := ⟨RX5, "isUnder", "(II)Z"⟩
def dkwX5_isUnder_1 : List UInt8 := [167, 0, 22, 3, 167, 0, 18, 27, 5, 160, 0, 12, 26, 7, 161, 0, 7, 4, 167, 0, 4, 3, 172]
abbrev dktX5_isUnder_1 : List UInt8 := dkwX5_isUnder_1 ++ []
def dkwX5_isUnder_0 : List UInt8 := [27, 153, 0, 8, 26, 27, 160, 0, 5, 4, 172, 27, 4, 160, 0, 16, 26, 6, 160, 0, 7, 4]
abbrev dktX5_isUnder_0 : List UInt8 := dkwX5_isUnder_0 ++ dktX5_isUnder_1
theorem dksX5_isUnder_0 : cX5_isUnder.data.toList.drop 0 = dktX5_isUnder_0 := by decide +kernel
theorem dksX5_isUnder_1 : cX5_isUnder.data.toList.drop 22 = dktX5_isUnder_1 := dk_seg dksX5_isUnder_0 22 rfl rfl
theorem dX5_isUnder_0 : decode cX5_isUnder 0 = .ok (.iload_n 1, 1) := dk_27 (dk_at dksX5_isUnder_0 0 rfl rfl)
theorem dX5_isUnder_1 : decode cX5_isUnder 1 = .ok (.ifCond .eq 8, 3) := dk_153 0 8 (dk_at dksX5_isUnder_0 1 rfl rfl)
theorem dX5_isUnder_4 : decode cX5_isUnder 4 = .ok (.iload_n 0, 1) := dk_26 (dk_at dksX5_isUnder_0 4 rfl rfl)
theorem dX5_isUnder_5 : decode cX5_isUnder 5 = .ok (.iload_n 1, 1) := dk_27 (dk_at dksX5_isUnder_0 5 rfl rfl)
theorem dX5_isUnder_6 : decode cX5_isUnder 6 = .ok (.if_icmp .ne 5, 3) := dk_160 0 5 (dk_at dksX5_isUnder_0 6 rfl rfl)
theorem dX5_isUnder_9 : decode cX5_isUnder 9 = .ok (.iconst 1, 1) := dk_4 (dk_at dksX5_isUnder_0 9 rfl rfl)
theorem dX5_isUnder_10 : decode cX5_isUnder 10 = .ok (.ireturn, 1) := dk_172 (dk_at dksX5_isUnder_0 10 rfl rfl)
theorem dX5_isUnder_11 : decode cX5_isUnder 11 = .ok (.iload_n 1, 1) := dk_27 (dk_at dksX5_isUnder_0 11 rfl rfl)
theorem dX5_isUnder_12 : decode cX5_isUnder 12 = .ok (.iconst 1, 1) := dk_4 (dk_at dksX5_isUnder_0 12 rfl rfl)
theorem dX5_isUnder_13 : decode cX5_isUnder 13 = .ok (.if_icmp .ne 16, 3) := dk_160 0 16 (dk_at dksX5_isUnder_0 13 rfl rfl)
theorem dX5_isUnder_16 : decode cX5_isUnder 16 = .ok (.iload_n 0, 1) := dk_26 (dk_at dksX5_isUnder_0 16 rfl rfl)
theorem dX5_isUnder_17 : decode cX5_isUnder 17 = .ok (.iconst 3, 1) := dk_6 (dk_at dksX5_isUnder_0 17 rfl rfl)
theorem dX5_isUnder_18 : decode cX5_isUnder 18 = .ok (.if_icmp .ne 7, 3) := dk_160 0 7 (dk_at dksX5_isUnder_0 18 rfl rfl)
theorem dX5_isUnder_21 : decode cX5_isUnder 21 = .ok (.iconst 1, 1) := dk_4 (dk_at dksX5_isUnder_0 21 rfl rfl)
theorem dX5_isUnder_22 : decode cX5_isUnder 22 = .ok (.goto 22, 3) := dk_167 0 22 (dk_at dksX5_isUnder_1 0 rfl rfl)
theorem dX5_isUnder_25 : decode cX5_isUnder 25 = .ok (.iconst 0, 1) := dk_3 (dk_at dksX5_isUnder_1 3 rfl rfl)
theorem dX5_isUnder_26 : decode cX5_isUnder 26 = .ok (.goto 18, 3) := dk_167 0 18 (dk_at dksX5_isUnder_1 4 rfl rfl)
theorem dX5_isUnder_29 : decode cX5_isUnder 29 = .ok (.iload_n 1, 1) := dk_27 (dk_at dksX5_isUnder_1 7 rfl rfl)
theorem dX5_isUnder_30 : decode cX5_isUnder 30 = .ok (.iconst 2, 1) := dk_5 (dk_at dksX5_isUnder_1 8 rfl rfl)
theorem dX5_isUnder_31 : decode cX5_isUnder 31 = .ok (.if_icmp .ne 12, 3) := dk_160 0 12 (dk_at dksX5_isUnder_1 9 rfl rfl)
theorem dX5_isUnder_34 : decode cX5_isUnder 34 = .ok (.iload_n 0, 1) := dk_26 (dk_at dksX5_isUnder_1 12 rfl rfl)
theorem dX5_isUnder_35 : decode cX5_isUnder 35 = .ok (.iconst 4, 1) := dk_7 (dk_at dksX5_isUnder_1 13 rfl rfl)
theorem dX5_isUnder_36 : decode cX5_isUnder 36 = .ok (.if_icmp .lt 7, 3) := dk_161 0 7 (dk_at dksX5_isUnder_1 14 rfl rfl)
theorem dX5_isUnder_39 : decode cX5_isUnder 39 = .ok (.iconst 1, 1) := dk_4 (dk_at dksX5_isUnder_1 17 rfl rfl)
theorem dX5_isUnder_40 : decode cX5_isUnder 40 = .ok (.goto 4, 3) := dk_167 0 4 (dk_at dksX5_isUnder_1 18 rfl rfl)
theorem dX5_isUnder_43 : decode cX5_isUnder 43 = .ok (.iconst 0, 1) := dk_3 (dk_at dksX5_isUnder_1 21 rfl rfl)
theorem dX5_isUnder_44 : decode cX5_isUnder 44 = .ok (.ireturn, 1) := dk_172 (dk_at dksX5_isUnder_1 22 rfl rfl)
abbrev cX5_all : ByteArray := prog_18_method_5_code
def yX5_all : MethodName := ⟨RX5, "all", "()I"⟩
def dkwX5_all_0 : List UInt8 := [4, 42, 180, 0, 85, 120, 4, 100, 172]
abbrev dktX5_all_0 : List UInt8 := dkwX5_all_0 ++ []
theorem dksX5_all_0 : cX5_all.data.toList.drop 0 = dktX5_all_0 := by decide +kernel
theorem dX5_all_0 : decode cX5_all 0 = .ok (.iconst 1, 1) := dk_4 (dk_at dksX5_all_0 0 rfl rfl)
theorem dX5_all_1 : decode cX5_all 1 = .ok (.aload_n 0, 1) := dk_42 (dk_at dksX5_all_0 1 rfl rfl)
theorem dX5_all_2 : decode cX5_all 2 = .ok (.getfield 85, 3) := dk_180 0 85 (dk_at dksX5_all_0 2 rfl rfl)
theorem dX5_all_5 : decode cX5_all 5 = .ok (.ishl, 1) := dk_120 (dk_at dksX5_all_0 5 rfl rfl)
theorem dX5_all_6 : decode cX5_all 6 = .ok (.iconst 1, 1) := dk_4 (dk_at dksX5_all_0 6 rfl rfl)
theorem dX5_all_7 : decode cX5_all 7 = .ok (.isub, 1) := dk_100 (dk_at dksX5_all_0 7 rfl rfl)
theorem dX5_all_8 : decode cX5_all 8 = .ok (.ireturn, 1) := dk_172 (dk_at dksX5_all_0 8 rfl rfl)
abbrev cX5_sentBy : ByteArray := prog_18_method_60_code
def yX5_sentBy : MethodName := ⟨RX5, "sentBy", "(IIII)I"⟩
def dkwX5_sentBy_7 : List UInt8 := [54, 5, 132, 6, 1, 167, 255, 146, 21, 5, 172]
abbrev dktX5_sentBy_7 : List UInt8 := dkwX5_sentBy_7 ++ []
def dkwX5_sentBy_6 : List UInt8 := [54, 7, 21, 5, 153, 0, 8, 21, 7, 153, 0, 13, 42, 180, 0, 61, 21, 6, 46, 167, 0, 5, 21, 5]
abbrev dktX5_sentBy_6 : List UInt8 := dkwX5_sentBy_6 ++ dktX5_sentBy_7
def dkwX5_sentBy_5 : List UInt8 := [42, 180, 0, 61, 21, 6, 46, 182, 1, 31, 42, 21, 5, 182, 1, 31, 162, 0, 7, 4, 167, 0, 4, 3]
abbrev dktX5_sentBy_5 : List UInt8 := dkwX5_sentBy_5 ++ dktX5_sentBy_6
def dkwX5_sentBy_4 : List UInt8 := [21, 6, 46, 182, 1, 28, 42, 21, 5, 182, 1, 28, 164, 0, 7, 4, 167, 0, 32, 3, 167, 0, 28, 42]
abbrev dktX5_sentBy_4 : List UInt8 := dkwX5_sentBy_4 ++ dktX5_sentBy_5
def dkwX5_sentBy_3 : List UInt8 := [42, 180, 0, 61, 21, 6, 46, 29, 2, 130, 126, 154, 0, 87, 27, 5, 160, 0, 31, 42, 42, 180, 0, 61]
abbrev dktX5_sentBy_3 : List UInt8 := dkwX5_sentBy_3 ++ dktX5_sentBy_4
def dkwX5_sentBy_2 : List UInt8 := [159, 0, 9, 42, 29, 182, 1, 25, 172, 3, 54, 5, 3, 54, 6, 21, 6, 42, 180, 1, 1, 162, 0, 107]
abbrev dktX5_sentBy_2 : List UInt8 := dkwX5_sentBy_2 ++ dktX5_sentBy_3
def dkwX5_sentBy_1 : List UInt8 := [27, 4, 159, 0, 8, 27, 6, 160, 0, 9, 42, 29, 182, 1, 19, 172, 27, 5, 159, 0, 14, 27, 7]
abbrev dktX5_sentBy_1 : List UInt8 := dkwX5_sentBy_1 ++ dktX5_sentBy_2
def dkwX5_sentBy_0 : List UInt8 := [42, 182, 1, 13, 27, 6, 160, 0, 18, 21, 4, 158, 0, 13, 29, 184, 0, 254, 28, 162, 0, 5, 3, 172]
abbrev dktX5_sentBy_0 : List UInt8 := dkwX5_sentBy_0 ++ dktX5_sentBy_1
theorem dksX5_sentBy_0 : cX5_sentBy.data.toList.drop 0 = dktX5_sentBy_0 := by decide +kernel
theorem dksX5_sentBy_1 : cX5_sentBy.data.toList.drop 24 = dktX5_sentBy_1 := dk_seg dksX5_sentBy_0 24 rfl rfl
theorem dksX5_sentBy_2 : cX5_sentBy.data.toList.drop 47 = dktX5_sentBy_2 := dk_seg dksX5_sentBy_1 23 rfl rfl
theorem dksX5_sentBy_3 : cX5_sentBy.data.toList.drop 71 = dktX5_sentBy_3 := dk_seg dksX5_sentBy_2 24 rfl rfl
theorem dksX5_sentBy_4 : cX5_sentBy.data.toList.drop 95 = dktX5_sentBy_4 := dk_seg dksX5_sentBy_3 24 rfl rfl
theorem dksX5_sentBy_5 : cX5_sentBy.data.toList.drop 119 = dktX5_sentBy_5 := dk_seg dksX5_sentBy_4 24 rfl rfl
theorem dksX5_sentBy_6 : cX5_sentBy.data.toList.drop 143 = dktX5_sentBy_6 := dk_seg dksX5_sentBy_5 24 rfl rfl
theorem dksX5_sentBy_7 : cX5_sentBy.data.toList.drop 167 = dktX5_sentBy_7 := dk_seg dksX5_sentBy_6 24 rfl rfl
theorem dX5_sentBy_0 : decode cX5_sentBy 0 = .ok (.aload_n 0, 1) := dk_42 (dk_at dksX5_sentBy_0 0 rfl rfl)
theorem dX5_sentBy_1 : decode cX5_sentBy 1 = .ok (.invokevirtual 269, 3) := dk_182 1 13 (dk_at dksX5_sentBy_0 1 rfl rfl)
theorem dX5_sentBy_4 : decode cX5_sentBy 4 = .ok (.iload_n 1, 1) := dk_27 (dk_at dksX5_sentBy_0 4 rfl rfl)
theorem dX5_sentBy_5 : decode cX5_sentBy 5 = .ok (.iconst 3, 1) := dk_6 (dk_at dksX5_sentBy_0 5 rfl rfl)
theorem dX5_sentBy_6 : decode cX5_sentBy 6 = .ok (.if_icmp .ne 18, 3) := dk_160 0 18 (dk_at dksX5_sentBy_0 6 rfl rfl)
theorem dX5_sentBy_9 : decode cX5_sentBy 9 = .ok (.iload 4, 2) := dk_21 4 (dk_at dksX5_sentBy_0 9 rfl rfl)
theorem dX5_sentBy_11 : decode cX5_sentBy 11 = .ok (.ifCond .le 13, 3) := dk_158 0 13 (dk_at dksX5_sentBy_0 11 rfl rfl)
theorem dX5_sentBy_14 : decode cX5_sentBy 14 = .ok (.iload_n 3, 1) := dk_29 (dk_at dksX5_sentBy_0 14 rfl rfl)
theorem dX5_sentBy_15 : decode cX5_sentBy 15 = .ok (.invokestatic 254, 3) := dk_184 0 254 (dk_at dksX5_sentBy_0 15 rfl rfl)
theorem dX5_sentBy_18 : decode cX5_sentBy 18 = .ok (.iload_n 2, 1) := dk_28 (dk_at dksX5_sentBy_0 18 rfl rfl)
theorem dX5_sentBy_19 : decode cX5_sentBy 19 = .ok (.if_icmp .ge 5, 3) := dk_162 0 5 (dk_at dksX5_sentBy_0 19 rfl rfl)
theorem dX5_sentBy_22 : decode cX5_sentBy 22 = .ok (.iconst 0, 1) := dk_3 (dk_at dksX5_sentBy_0 22 rfl rfl)
theorem dX5_sentBy_23 : decode cX5_sentBy 23 = .ok (.ireturn, 1) := dk_172 (dk_at dksX5_sentBy_0 23 rfl rfl)
theorem dX5_sentBy_24 : decode cX5_sentBy 24 = .ok (.iload_n 1, 1) := dk_27 (dk_at dksX5_sentBy_1 0 rfl rfl)
theorem dX5_sentBy_25 : decode cX5_sentBy 25 = .ok (.iconst 1, 1) := dk_4 (dk_at dksX5_sentBy_1 1 rfl rfl)
theorem dX5_sentBy_26 : decode cX5_sentBy 26 = .ok (.if_icmp .eq 8, 3) := dk_159 0 8 (dk_at dksX5_sentBy_1 2 rfl rfl)
theorem dX5_sentBy_29 : decode cX5_sentBy 29 = .ok (.iload_n 1, 1) := dk_27 (dk_at dksX5_sentBy_1 5 rfl rfl)
theorem dX5_sentBy_30 : decode cX5_sentBy 30 = .ok (.iconst 3, 1) := dk_6 (dk_at dksX5_sentBy_1 6 rfl rfl)
theorem dX5_sentBy_31 : decode cX5_sentBy 31 = .ok (.if_icmp .ne 9, 3) := dk_160 0 9 (dk_at dksX5_sentBy_1 7 rfl rfl)
theorem dX5_sentBy_34 : decode cX5_sentBy 34 = .ok (.aload_n 0, 1) := dk_42 (dk_at dksX5_sentBy_1 10 rfl rfl)
theorem dX5_sentBy_35 : decode cX5_sentBy 35 = .ok (.iload_n 3, 1) := dk_29 (dk_at dksX5_sentBy_1 11 rfl rfl)
theorem dX5_sentBy_36 : decode cX5_sentBy 36 = .ok (.invokevirtual 275, 3) := dk_182 1 19 (dk_at dksX5_sentBy_1 12 rfl rfl)
theorem dX5_sentBy_39 : decode cX5_sentBy 39 = .ok (.ireturn, 1) := dk_172 (dk_at dksX5_sentBy_1 15 rfl rfl)
theorem dX5_sentBy_40 : decode cX5_sentBy 40 = .ok (.iload_n 1, 1) := dk_27 (dk_at dksX5_sentBy_1 16 rfl rfl)
theorem dX5_sentBy_41 : decode cX5_sentBy 41 = .ok (.iconst 2, 1) := dk_5 (dk_at dksX5_sentBy_1 17 rfl rfl)
theorem dX5_sentBy_42 : decode cX5_sentBy 42 = .ok (.if_icmp .eq 14, 3) := dk_159 0 14 (dk_at dksX5_sentBy_1 18 rfl rfl)
theorem dX5_sentBy_45 : decode cX5_sentBy 45 = .ok (.iload_n 1, 1) := dk_27 (dk_at dksX5_sentBy_1 21 rfl rfl)
theorem dX5_sentBy_46 : decode cX5_sentBy 46 = .ok (.iconst 4, 1) := dk_7 (dk_at dksX5_sentBy_1 22 rfl rfl)
theorem dX5_sentBy_47 : decode cX5_sentBy 47 = .ok (.if_icmp .eq 9, 3) := dk_159 0 9 (dk_at dksX5_sentBy_2 0 rfl rfl)
theorem dX5_sentBy_50 : decode cX5_sentBy 50 = .ok (.aload_n 0, 1) := dk_42 (dk_at dksX5_sentBy_2 3 rfl rfl)
theorem dX5_sentBy_51 : decode cX5_sentBy 51 = .ok (.iload_n 3, 1) := dk_29 (dk_at dksX5_sentBy_2 4 rfl rfl)
theorem dX5_sentBy_52 : decode cX5_sentBy 52 = .ok (.invokevirtual 281, 3) := dk_182 1 25 (dk_at dksX5_sentBy_2 5 rfl rfl)
theorem dX5_sentBy_55 : decode cX5_sentBy 55 = .ok (.ireturn, 1) := dk_172 (dk_at dksX5_sentBy_2 8 rfl rfl)
theorem dX5_sentBy_56 : decode cX5_sentBy 56 = .ok (.iconst 0, 1) := dk_3 (dk_at dksX5_sentBy_2 9 rfl rfl)
theorem dX5_sentBy_57 : decode cX5_sentBy 57 = .ok (.istore 5, 2) := dk_54 5 (dk_at dksX5_sentBy_2 10 rfl rfl)
theorem dX5_sentBy_59 : decode cX5_sentBy 59 = .ok (.iconst 0, 1) := dk_3 (dk_at dksX5_sentBy_2 12 rfl rfl)
theorem dX5_sentBy_60 : decode cX5_sentBy 60 = .ok (.istore 6, 2) := dk_54 6 (dk_at dksX5_sentBy_2 13 rfl rfl)
theorem dX5_sentBy_62 : decode cX5_sentBy 62 = .ok (.iload 6, 2) := dk_21 6 (dk_at dksX5_sentBy_2 15 rfl rfl)
theorem dX5_sentBy_64 : decode cX5_sentBy 64 = .ok (.aload_n 0, 1) := dk_42 (dk_at dksX5_sentBy_2 17 rfl rfl)
theorem dX5_sentBy_65 : decode cX5_sentBy 65 = .ok (.getfield 257, 3) := dk_180 1 1 (dk_at dksX5_sentBy_2 18 rfl rfl)
theorem dX5_sentBy_68 : decode cX5_sentBy 68 = .ok (.if_icmp .ge 107, 3) := dk_162 0 107 (dk_at dksX5_sentBy_2 21 rfl rfl)
theorem dX5_sentBy_71 : decode cX5_sentBy 71 = .ok (.aload_n 0, 1) := dk_42 (dk_at dksX5_sentBy_3 0 rfl rfl)
theorem dX5_sentBy_72 : decode cX5_sentBy 72 = .ok (.getfield 61, 3) := dk_180 0 61 (dk_at dksX5_sentBy_3 1 rfl rfl)
theorem dX5_sentBy_75 : decode cX5_sentBy 75 = .ok (.iload 6, 2) := dk_21 6 (dk_at dksX5_sentBy_3 4 rfl rfl)
theorem dX5_sentBy_77 : decode cX5_sentBy 77 = .ok (.iaload, 1) := dk_46 (dk_at dksX5_sentBy_3 6 rfl rfl)
theorem dX5_sentBy_78 : decode cX5_sentBy 78 = .ok (.iload_n 3, 1) := dk_29 (dk_at dksX5_sentBy_3 7 rfl rfl)
theorem dX5_sentBy_79 : decode cX5_sentBy 79 = .ok (.iconst (-1), 1) := dk_2 (dk_at dksX5_sentBy_3 8 rfl rfl)
theorem dX5_sentBy_80 : decode cX5_sentBy 80 = .ok (.ixor, 1) := dk_130 (dk_at dksX5_sentBy_3 9 rfl rfl)
theorem dX5_sentBy_81 : decode cX5_sentBy 81 = .ok (.iand, 1) := dk_126 (dk_at dksX5_sentBy_3 10 rfl rfl)
theorem dX5_sentBy_82 : decode cX5_sentBy 82 = .ok (.ifCond .ne 87, 3) := dk_154 0 87 (dk_at dksX5_sentBy_3 11 rfl rfl)
theorem dX5_sentBy_85 : decode cX5_sentBy 85 = .ok (.iload_n 1, 1) := dk_27 (dk_at dksX5_sentBy_3 14 rfl rfl)
theorem dX5_sentBy_86 : decode cX5_sentBy 86 = .ok (.iconst 2, 1) := dk_5 (dk_at dksX5_sentBy_3 15 rfl rfl)
theorem dX5_sentBy_87 : decode cX5_sentBy 87 = .ok (.if_icmp .ne 31, 3) := dk_160 0 31 (dk_at dksX5_sentBy_3 16 rfl rfl)
theorem dX5_sentBy_90 : decode cX5_sentBy 90 = .ok (.aload_n 0, 1) := dk_42 (dk_at dksX5_sentBy_3 19 rfl rfl)
theorem dX5_sentBy_91 : decode cX5_sentBy 91 = .ok (.aload_n 0, 1) := dk_42 (dk_at dksX5_sentBy_3 20 rfl rfl)
theorem dX5_sentBy_92 : decode cX5_sentBy 92 = .ok (.getfield 61, 3) := dk_180 0 61 (dk_at dksX5_sentBy_3 21 rfl rfl)
theorem dX5_sentBy_95 : decode cX5_sentBy 95 = .ok (.iload 6, 2) := dk_21 6 (dk_at dksX5_sentBy_4 0 rfl rfl)
theorem dX5_sentBy_97 : decode cX5_sentBy 97 = .ok (.iaload, 1) := dk_46 (dk_at dksX5_sentBy_4 2 rfl rfl)
theorem dX5_sentBy_98 : decode cX5_sentBy 98 = .ok (.invokevirtual 284, 3) := dk_182 1 28 (dk_at dksX5_sentBy_4 3 rfl rfl)
theorem dX5_sentBy_101 : decode cX5_sentBy 101 = .ok (.aload_n 0, 1) := dk_42 (dk_at dksX5_sentBy_4 6 rfl rfl)
theorem dX5_sentBy_102 : decode cX5_sentBy 102 = .ok (.iload 5, 2) := dk_21 5 (dk_at dksX5_sentBy_4 7 rfl rfl)
theorem dX5_sentBy_104 : decode cX5_sentBy 104 = .ok (.invokevirtual 284, 3) := dk_182 1 28 (dk_at dksX5_sentBy_4 9 rfl rfl)
theorem dX5_sentBy_107 : decode cX5_sentBy 107 = .ok (.if_icmp .le 7, 3) := dk_164 0 7 (dk_at dksX5_sentBy_4 12 rfl rfl)
theorem dX5_sentBy_110 : decode cX5_sentBy 110 = .ok (.iconst 1, 1) := dk_4 (dk_at dksX5_sentBy_4 15 rfl rfl)
theorem dX5_sentBy_111 : decode cX5_sentBy 111 = .ok (.goto 32, 3) := dk_167 0 32 (dk_at dksX5_sentBy_4 16 rfl rfl)
theorem dX5_sentBy_114 : decode cX5_sentBy 114 = .ok (.iconst 0, 1) := dk_3 (dk_at dksX5_sentBy_4 19 rfl rfl)
theorem dX5_sentBy_115 : decode cX5_sentBy 115 = .ok (.goto 28, 3) := dk_167 0 28 (dk_at dksX5_sentBy_4 20 rfl rfl)
theorem dX5_sentBy_118 : decode cX5_sentBy 118 = .ok (.aload_n 0, 1) := dk_42 (dk_at dksX5_sentBy_4 23 rfl rfl)
theorem dX5_sentBy_119 : decode cX5_sentBy 119 = .ok (.aload_n 0, 1) := dk_42 (dk_at dksX5_sentBy_5 0 rfl rfl)
theorem dX5_sentBy_120 : decode cX5_sentBy 120 = .ok (.getfield 61, 3) := dk_180 0 61 (dk_at dksX5_sentBy_5 1 rfl rfl)
theorem dX5_sentBy_123 : decode cX5_sentBy 123 = .ok (.iload 6, 2) := dk_21 6 (dk_at dksX5_sentBy_5 4 rfl rfl)
theorem dX5_sentBy_125 : decode cX5_sentBy 125 = .ok (.iaload, 1) := dk_46 (dk_at dksX5_sentBy_5 6 rfl rfl)
theorem dX5_sentBy_126 : decode cX5_sentBy 126 = .ok (.invokevirtual 287, 3) := dk_182 1 31 (dk_at dksX5_sentBy_5 7 rfl rfl)
theorem dX5_sentBy_129 : decode cX5_sentBy 129 = .ok (.aload_n 0, 1) := dk_42 (dk_at dksX5_sentBy_5 10 rfl rfl)
theorem dX5_sentBy_130 : decode cX5_sentBy 130 = .ok (.iload 5, 2) := dk_21 5 (dk_at dksX5_sentBy_5 11 rfl rfl)
theorem dX5_sentBy_132 : decode cX5_sentBy 132 = .ok (.invokevirtual 287, 3) := dk_182 1 31 (dk_at dksX5_sentBy_5 13 rfl rfl)
theorem dX5_sentBy_135 : decode cX5_sentBy 135 = .ok (.if_icmp .ge 7, 3) := dk_162 0 7 (dk_at dksX5_sentBy_5 16 rfl rfl)
theorem dX5_sentBy_138 : decode cX5_sentBy 138 = .ok (.iconst 1, 1) := dk_4 (dk_at dksX5_sentBy_5 19 rfl rfl)
theorem dX5_sentBy_139 : decode cX5_sentBy 139 = .ok (.goto 4, 3) := dk_167 0 4 (dk_at dksX5_sentBy_5 20 rfl rfl)
theorem dX5_sentBy_142 : decode cX5_sentBy 142 = .ok (.iconst 0, 1) := dk_3 (dk_at dksX5_sentBy_5 23 rfl rfl)
theorem dX5_sentBy_143 : decode cX5_sentBy 143 = .ok (.istore 7, 2) := dk_54 7 (dk_at dksX5_sentBy_6 0 rfl rfl)
theorem dX5_sentBy_145 : decode cX5_sentBy 145 = .ok (.iload 5, 2) := dk_21 5 (dk_at dksX5_sentBy_6 2 rfl rfl)
theorem dX5_sentBy_147 : decode cX5_sentBy 147 = .ok (.ifCond .eq 8, 3) := dk_153 0 8 (dk_at dksX5_sentBy_6 4 rfl rfl)
theorem dX5_sentBy_150 : decode cX5_sentBy 150 = .ok (.iload 7, 2) := dk_21 7 (dk_at dksX5_sentBy_6 7 rfl rfl)
theorem dX5_sentBy_152 : decode cX5_sentBy 152 = .ok (.ifCond .eq 13, 3) := dk_153 0 13 (dk_at dksX5_sentBy_6 9 rfl rfl)
theorem dX5_sentBy_155 : decode cX5_sentBy 155 = .ok (.aload_n 0, 1) := dk_42 (dk_at dksX5_sentBy_6 12 rfl rfl)
theorem dX5_sentBy_156 : decode cX5_sentBy 156 = .ok (.getfield 61, 3) := dk_180 0 61 (dk_at dksX5_sentBy_6 13 rfl rfl)
theorem dX5_sentBy_159 : decode cX5_sentBy 159 = .ok (.iload 6, 2) := dk_21 6 (dk_at dksX5_sentBy_6 16 rfl rfl)
theorem dX5_sentBy_161 : decode cX5_sentBy 161 = .ok (.iaload, 1) := dk_46 (dk_at dksX5_sentBy_6 18 rfl rfl)
theorem dX5_sentBy_162 : decode cX5_sentBy 162 = .ok (.goto 5, 3) := dk_167 0 5 (dk_at dksX5_sentBy_6 19 rfl rfl)
theorem dX5_sentBy_165 : decode cX5_sentBy 165 = .ok (.iload 5, 2) := dk_21 5 (dk_at dksX5_sentBy_6 22 rfl rfl)
theorem dX5_sentBy_167 : decode cX5_sentBy 167 = .ok (.istore 5, 2) := dk_54 5 (dk_at dksX5_sentBy_7 0 rfl rfl)
theorem dX5_sentBy_169 : decode cX5_sentBy 169 = .ok (.iinc 6 1, 3) := dk_132 6 1 (dk_at dksX5_sentBy_7 2 rfl rfl)
theorem dX5_sentBy_172 : decode cX5_sentBy 172 = .ok (.goto (-110), 3) := dk_167 255 146 (dk_at dksX5_sentBy_7 5 rfl rfl)
theorem dX5_sentBy_175 : decode cX5_sentBy 175 = .ok (.iload 5, 2) := dk_21 5 (dk_at dksX5_sentBy_7 8 rfl rfl)
theorem dX5_sentBy_177 : decode cX5_sentBy 177 = .ok (.ireturn, 1) := dk_172 (dk_at dksX5_sentBy_7 10 rfl rfl)
abbrev cX5_listAll : ByteArray := prog_18_method_48_code
def yX5_listAll : MethodName := ⟨RX5, "listAll", "()V"⟩
def dkwX5_listAll_0 : List UInt8 := [42, 3, 181, 1, 1, 42, 3, 3, 3, 182, 1, 4, 177]
abbrev dktX5_listAll_0 : List UInt8 := dkwX5_listAll_0 ++ []
theorem dksX5_listAll_0 : cX5_listAll.data.toList.drop 0 = dktX5_listAll_0 := by decide +kernel
theorem dX5_listAll_0 : decode cX5_listAll 0 = .ok (.aload_n 0, 1) := dk_42 (dk_at dksX5_listAll_0 0 rfl rfl)
theorem dX5_listAll_1 : decode cX5_listAll 1 = .ok (.iconst 0, 1) := dk_3 (dk_at dksX5_listAll_0 1 rfl rfl)
theorem dX5_listAll_2 : decode cX5_listAll 2 = .ok (.putfield 257, 3) := dk_181 1 1 (dk_at dksX5_listAll_0 2 rfl rfl)
theorem dX5_listAll_5 : decode cX5_listAll 5 = .ok (.aload_n 0, 1) := dk_42 (dk_at dksX5_listAll_0 5 rfl rfl)
theorem dX5_listAll_6 : decode cX5_listAll 6 = .ok (.iconst 0, 1) := dk_3 (dk_at dksX5_listAll_0 6 rfl rfl)
theorem dX5_listAll_7 : decode cX5_listAll 7 = .ok (.iconst 0, 1) := dk_3 (dk_at dksX5_listAll_0 7 rfl rfl)
theorem dX5_listAll_8 : decode cX5_listAll 8 = .ok (.iconst 0, 1) := dk_3 (dk_at dksX5_listAll_0 8 rfl rfl)
theorem dX5_listAll_9 : decode cX5_listAll 9 = .ok (.invokevirtual 260, 3) := dk_182 1 4 (dk_at dksX5_listAll_0 9 rfl rfl)
theorem dX5_listAll_12 : decode cX5_listAll 12 = .ok (.return_, 1) := dk_177 (dk_at dksX5_listAll_0 12 rfl rfl)
abbrev cX5_listFrom : ByteArray := prog_18_method_47_code
def yX5_listFrom : MethodName := ⟨RX5, "listFrom", "(III)V"⟩
def dkwX5_listFrom_4 : List UInt8 := [27, 4, 21, 4, 120, 128, 21, 4, 4, 96, 29, 4, 96, 182, 1, 4, 132, 4, 1, 167, 255, 170, 177]
abbrev dktX5_listFrom_4 : List UInt8 := dkwX5_listFrom_4 ++ []
def dkwX5_listFrom_3 : List UInt8 := [2, 160, 0, 7, 4, 167, 0, 4, 3, 126, 54, 5, 132, 6, 1, 167, 255, 213, 21, 5, 153, 0, 20, 42]
abbrev dktX5_listFrom_3 : List UInt8 := dkwX5_listFrom_3 ++ dktX5_listFrom_4
def dkwX5_listFrom_2 : List UInt8 := [162, 0, 42, 21, 5, 27, 21, 6, 184, 0, 151, 153, 0, 17, 42, 180, 0, 48, 21, 4, 50, 21, 6, 46]
abbrev dktX5_listFrom_2 : List UInt8 := dkwX5_listFrom_2 ++ dktX5_listFrom_3
def dkwX5_listFrom_1 : List UInt8 := [79, 177, 28, 54, 4, 21, 4, 42, 180, 0, 85, 162, 0, 83, 4, 54, 5, 3, 54, 6, 21, 6, 21, 4]
abbrev dktX5_listFrom_1 : List UInt8 := dkwX5_listFrom_1 ++ dktX5_listFrom_2
def dkwX5_listFrom_0 : List UInt8 := [29, 42, 180, 0, 51, 160, 0, 21, 42, 180, 0, 61, 42, 89, 180, 1, 1, 90, 4, 96, 181, 1, 1, 27]
abbrev dktX5_listFrom_0 : List UInt8 := dkwX5_listFrom_0 ++ dktX5_listFrom_1
theorem dksX5_listFrom_0 : cX5_listFrom.data.toList.drop 0 = dktX5_listFrom_0 := by decide +kernel
theorem dksX5_listFrom_1 : cX5_listFrom.data.toList.drop 24 = dktX5_listFrom_1 := dk_seg dksX5_listFrom_0 24 rfl rfl
theorem dksX5_listFrom_2 : cX5_listFrom.data.toList.drop 48 = dktX5_listFrom_2 := dk_seg dksX5_listFrom_1 24 rfl rfl
theorem dksX5_listFrom_3 : cX5_listFrom.data.toList.drop 72 = dktX5_listFrom_3 := dk_seg dksX5_listFrom_2 24 rfl rfl
theorem dksX5_listFrom_4 : cX5_listFrom.data.toList.drop 96 = dktX5_listFrom_4 := dk_seg dksX5_listFrom_3 24 rfl rfl
theorem dX5_listFrom_0 : decode cX5_listFrom 0 = .ok (.iload_n 3, 1) := dk_29 (dk_at dksX5_listFrom_0 0 rfl rfl)
theorem dX5_listFrom_1 : decode cX5_listFrom 1 = .ok (.aload_n 0, 1) := dk_42 (dk_at dksX5_listFrom_0 1 rfl rfl)
theorem dX5_listFrom_2 : decode cX5_listFrom 2 = .ok (.getfield 51, 3) := dk_180 0 51 (dk_at dksX5_listFrom_0 2 rfl rfl)
theorem dX5_listFrom_5 : decode cX5_listFrom 5 = .ok (.if_icmp .ne 21, 3) := dk_160 0 21 (dk_at dksX5_listFrom_0 5 rfl rfl)
theorem dX5_listFrom_8 : decode cX5_listFrom 8 = .ok (.aload_n 0, 1) := dk_42 (dk_at dksX5_listFrom_0 8 rfl rfl)
theorem dX5_listFrom_9 : decode cX5_listFrom 9 = .ok (.getfield 61, 3) := dk_180 0 61 (dk_at dksX5_listFrom_0 9 rfl rfl)
theorem dX5_listFrom_12 : decode cX5_listFrom 12 = .ok (.aload_n 0, 1) := dk_42 (dk_at dksX5_listFrom_0 12 rfl rfl)
theorem dX5_listFrom_13 : decode cX5_listFrom 13 = .ok (.dup, 1) := dk_89 (dk_at dksX5_listFrom_0 13 rfl rfl)
theorem dX5_listFrom_14 : decode cX5_listFrom 14 = .ok (.getfield 257, 3) := dk_180 1 1 (dk_at dksX5_listFrom_0 14 rfl rfl)
theorem dX5_listFrom_17 : decode cX5_listFrom 17 = .ok (.dup_x1, 1) := dk_90 (dk_at dksX5_listFrom_0 17 rfl rfl)
theorem dX5_listFrom_18 : decode cX5_listFrom 18 = .ok (.iconst 1, 1) := dk_4 (dk_at dksX5_listFrom_0 18 rfl rfl)
theorem dX5_listFrom_19 : decode cX5_listFrom 19 = .ok (.iadd, 1) := dk_96 (dk_at dksX5_listFrom_0 19 rfl rfl)
theorem dX5_listFrom_20 : decode cX5_listFrom 20 = .ok (.putfield 257, 3) := dk_181 1 1 (dk_at dksX5_listFrom_0 20 rfl rfl)
theorem dX5_listFrom_23 : decode cX5_listFrom 23 = .ok (.iload_n 1, 1) := dk_27 (dk_at dksX5_listFrom_0 23 rfl rfl)
theorem dX5_listFrom_24 : decode cX5_listFrom 24 = .ok (.iastore, 1) := dk_79 (dk_at dksX5_listFrom_1 0 rfl rfl)
theorem dX5_listFrom_25 : decode cX5_listFrom 25 = .ok (.return_, 1) := dk_177 (dk_at dksX5_listFrom_1 1 rfl rfl)
theorem dX5_listFrom_26 : decode cX5_listFrom 26 = .ok (.iload_n 2, 1) := dk_28 (dk_at dksX5_listFrom_1 2 rfl rfl)
theorem dX5_listFrom_27 : decode cX5_listFrom 27 = .ok (.istore 4, 2) := dk_54 4 (dk_at dksX5_listFrom_1 3 rfl rfl)
theorem dX5_listFrom_29 : decode cX5_listFrom 29 = .ok (.iload 4, 2) := dk_21 4 (dk_at dksX5_listFrom_1 5 rfl rfl)
theorem dX5_listFrom_31 : decode cX5_listFrom 31 = .ok (.aload_n 0, 1) := dk_42 (dk_at dksX5_listFrom_1 7 rfl rfl)
theorem dX5_listFrom_32 : decode cX5_listFrom 32 = .ok (.getfield 85, 3) := dk_180 0 85 (dk_at dksX5_listFrom_1 8 rfl rfl)
theorem dX5_listFrom_35 : decode cX5_listFrom 35 = .ok (.if_icmp .ge 83, 3) := dk_162 0 83 (dk_at dksX5_listFrom_1 11 rfl rfl)
theorem dX5_listFrom_38 : decode cX5_listFrom 38 = .ok (.iconst 1, 1) := dk_4 (dk_at dksX5_listFrom_1 14 rfl rfl)
theorem dX5_listFrom_39 : decode cX5_listFrom 39 = .ok (.istore 5, 2) := dk_54 5 (dk_at dksX5_listFrom_1 15 rfl rfl)
theorem dX5_listFrom_41 : decode cX5_listFrom 41 = .ok (.iconst 0, 1) := dk_3 (dk_at dksX5_listFrom_1 17 rfl rfl)
theorem dX5_listFrom_42 : decode cX5_listFrom 42 = .ok (.istore 6, 2) := dk_54 6 (dk_at dksX5_listFrom_1 18 rfl rfl)
theorem dX5_listFrom_44 : decode cX5_listFrom 44 = .ok (.iload 6, 2) := dk_21 6 (dk_at dksX5_listFrom_1 20 rfl rfl)
theorem dX5_listFrom_46 : decode cX5_listFrom 46 = .ok (.iload 4, 2) := dk_21 4 (dk_at dksX5_listFrom_1 22 rfl rfl)
theorem dX5_listFrom_48 : decode cX5_listFrom 48 = .ok (.if_icmp .ge 42, 3) := dk_162 0 42 (dk_at dksX5_listFrom_2 0 rfl rfl)
theorem dX5_listFrom_51 : decode cX5_listFrom 51 = .ok (.iload 5, 2) := dk_21 5 (dk_at dksX5_listFrom_2 3 rfl rfl)
theorem dX5_listFrom_53 : decode cX5_listFrom 53 = .ok (.iload_n 1, 1) := dk_27 (dk_at dksX5_listFrom_2 5 rfl rfl)
theorem dX5_listFrom_54 : decode cX5_listFrom 54 = .ok (.iload 6, 2) := dk_21 6 (dk_at dksX5_listFrom_2 6 rfl rfl)
theorem dX5_listFrom_56 : decode cX5_listFrom 56 = .ok (.invokestatic 151, 3) := dk_184 0 151 (dk_at dksX5_listFrom_2 8 rfl rfl)
theorem dX5_listFrom_59 : decode cX5_listFrom 59 = .ok (.ifCond .eq 17, 3) := dk_153 0 17 (dk_at dksX5_listFrom_2 11 rfl rfl)
theorem dX5_listFrom_62 : decode cX5_listFrom 62 = .ok (.aload_n 0, 1) := dk_42 (dk_at dksX5_listFrom_2 14 rfl rfl)
theorem dX5_listFrom_63 : decode cX5_listFrom 63 = .ok (.getfield 48, 3) := dk_180 0 48 (dk_at dksX5_listFrom_2 15 rfl rfl)
theorem dX5_listFrom_66 : decode cX5_listFrom 66 = .ok (.iload 4, 2) := dk_21 4 (dk_at dksX5_listFrom_2 18 rfl rfl)
theorem dX5_listFrom_68 : decode cX5_listFrom 68 = .ok (.aaload, 1) := dk_50 (dk_at dksX5_listFrom_2 20 rfl rfl)
theorem dX5_listFrom_69 : decode cX5_listFrom 69 = .ok (.iload 6, 2) := dk_21 6 (dk_at dksX5_listFrom_2 21 rfl rfl)
theorem dX5_listFrom_71 : decode cX5_listFrom 71 = .ok (.iaload, 1) := dk_46 (dk_at dksX5_listFrom_2 23 rfl rfl)
theorem dX5_listFrom_72 : decode cX5_listFrom 72 = .ok (.iconst (-1), 1) := dk_2 (dk_at dksX5_listFrom_3 0 rfl rfl)
theorem dX5_listFrom_73 : decode cX5_listFrom 73 = .ok (.if_icmp .ne 7, 3) := dk_160 0 7 (dk_at dksX5_listFrom_3 1 rfl rfl)
theorem dX5_listFrom_76 : decode cX5_listFrom 76 = .ok (.iconst 1, 1) := dk_4 (dk_at dksX5_listFrom_3 4 rfl rfl)
theorem dX5_listFrom_77 : decode cX5_listFrom 77 = .ok (.goto 4, 3) := dk_167 0 4 (dk_at dksX5_listFrom_3 5 rfl rfl)
theorem dX5_listFrom_80 : decode cX5_listFrom 80 = .ok (.iconst 0, 1) := dk_3 (dk_at dksX5_listFrom_3 8 rfl rfl)
theorem dX5_listFrom_81 : decode cX5_listFrom 81 = .ok (.iand, 1) := dk_126 (dk_at dksX5_listFrom_3 9 rfl rfl)
theorem dX5_listFrom_82 : decode cX5_listFrom 82 = .ok (.istore 5, 2) := dk_54 5 (dk_at dksX5_listFrom_3 10 rfl rfl)
theorem dX5_listFrom_84 : decode cX5_listFrom 84 = .ok (.iinc 6 1, 3) := dk_132 6 1 (dk_at dksX5_listFrom_3 12 rfl rfl)
theorem dX5_listFrom_87 : decode cX5_listFrom 87 = .ok (.goto (-43), 3) := dk_167 255 213 (dk_at dksX5_listFrom_3 15 rfl rfl)
theorem dX5_listFrom_90 : decode cX5_listFrom 90 = .ok (.iload 5, 2) := dk_21 5 (dk_at dksX5_listFrom_3 18 rfl rfl)
theorem dX5_listFrom_92 : decode cX5_listFrom 92 = .ok (.ifCond .eq 20, 3) := dk_153 0 20 (dk_at dksX5_listFrom_3 20 rfl rfl)
theorem dX5_listFrom_95 : decode cX5_listFrom 95 = .ok (.aload_n 0, 1) := dk_42 (dk_at dksX5_listFrom_3 23 rfl rfl)
theorem dX5_listFrom_96 : decode cX5_listFrom 96 = .ok (.iload_n 1, 1) := dk_27 (dk_at dksX5_listFrom_4 0 rfl rfl)
theorem dX5_listFrom_97 : decode cX5_listFrom 97 = .ok (.iconst 1, 1) := dk_4 (dk_at dksX5_listFrom_4 1 rfl rfl)
theorem dX5_listFrom_98 : decode cX5_listFrom 98 = .ok (.iload 4, 2) := dk_21 4 (dk_at dksX5_listFrom_4 2 rfl rfl)
theorem dX5_listFrom_100 : decode cX5_listFrom 100 = .ok (.ishl, 1) := dk_120 (dk_at dksX5_listFrom_4 4 rfl rfl)
theorem dX5_listFrom_101 : decode cX5_listFrom 101 = .ok (.ior, 1) := dk_128 (dk_at dksX5_listFrom_4 5 rfl rfl)
theorem dX5_listFrom_102 : decode cX5_listFrom 102 = .ok (.iload 4, 2) := dk_21 4 (dk_at dksX5_listFrom_4 6 rfl rfl)
theorem dX5_listFrom_104 : decode cX5_listFrom 104 = .ok (.iconst 1, 1) := dk_4 (dk_at dksX5_listFrom_4 8 rfl rfl)
theorem dX5_listFrom_105 : decode cX5_listFrom 105 = .ok (.iadd, 1) := dk_96 (dk_at dksX5_listFrom_4 9 rfl rfl)
theorem dX5_listFrom_106 : decode cX5_listFrom 106 = .ok (.iload_n 3, 1) := dk_29 (dk_at dksX5_listFrom_4 10 rfl rfl)
theorem dX5_listFrom_107 : decode cX5_listFrom 107 = .ok (.iconst 1, 1) := dk_4 (dk_at dksX5_listFrom_4 11 rfl rfl)
theorem dX5_listFrom_108 : decode cX5_listFrom 108 = .ok (.iadd, 1) := dk_96 (dk_at dksX5_listFrom_4 12 rfl rfl)
theorem dX5_listFrom_109 : decode cX5_listFrom 109 = .ok (.invokevirtual 260, 3) := dk_182 1 4 (dk_at dksX5_listFrom_4 13 rfl rfl)
theorem dX5_listFrom_112 : decode cX5_listFrom 112 = .ok (.iinc 4 1, 3) := dk_132 4 1 (dk_at dksX5_listFrom_4 16 rfl rfl)
theorem dX5_listFrom_115 : decode cX5_listFrom 115 = .ok (.goto (-86), 3) := dk_167 255 170 (dk_at dksX5_listFrom_4 19 rfl rfl)
theorem dX5_listFrom_118 : decode cX5_listFrom 118 = .ok (.return_, 1) := dk_177 (dk_at dksX5_listFrom_4 22 rfl rfl)
abbrev cX5_has : ByteArray := prog_18_method_7_code
def yX5_has : MethodName := ⟨RX5, "has", "(II)Z"⟩
def dkwX5_has_0 : List UInt8 := [26, 27, 122, 4, 126, 153, 0, 7, 4, 167, 0, 4, 3, 172]
abbrev dktX5_has_0 : List UInt8 := dkwX5_has_0 ++ []
theorem dksX5_has_0 : cX5_has.data.toList.drop 0 = dktX5_has_0 := by decide +kernel
theorem dX5_has_0 : decode cX5_has 0 = .ok (.iload_n 0, 1) := dk_26 (dk_at dksX5_has_0 0 rfl rfl)
theorem dX5_has_1 : decode cX5_has 1 = .ok (.iload_n 1, 1) := dk_27 (dk_at dksX5_has_0 1 rfl rfl)
theorem dX5_has_2 : decode cX5_has 2 = .ok (.ishr, 1) := dk_122 (dk_at dksX5_has_0 2 rfl rfl)
theorem dX5_has_3 : decode cX5_has 3 = .ok (.iconst 1, 1) := dk_4 (dk_at dksX5_has_0 3 rfl rfl)
theorem dX5_has_4 : decode cX5_has 4 = .ok (.iand, 1) := dk_126 (dk_at dksX5_has_0 4 rfl rfl)
theorem dX5_has_5 : decode cX5_has 5 = .ok (.ifCond .eq 7, 3) := dk_153 0 7 (dk_at dksX5_has_0 5 rfl rfl)
theorem dX5_has_8 : decode cX5_has 8 = .ok (.iconst 1, 1) := dk_4 (dk_at dksX5_has_0 8 rfl rfl)
theorem dX5_has_9 : decode cX5_has 9 = .ok (.goto 4, 3) := dk_167 0 4 (dk_at dksX5_has_0 9 rfl rfl)
theorem dX5_has_12 : decode cX5_has 12 = .ok (.iconst 0, 1) := dk_3 (dk_at dksX5_has_0 12 rfl rfl)
theorem dX5_has_13 : decode cX5_has 13 = .ok (.ireturn, 1) := dk_172 (dk_at dksX5_has_0 13 rfl rfl)
abbrev cX5_bits : ByteArray := prog_18_method_8_code
def yX5_bits : MethodName := ⟨RX5, "bits", "(I)I"⟩
def dkwX5_bits_1 : List UInt8 := [27, 172]
abbrev dktX5_bits_1 : List UInt8 := dkwX5_bits_1 ++ []
def dkwX5_bits_0 : List UInt8 := [3, 60, 3, 61, 28, 16, 8, 162, 0, 17, 27, 26, 28, 122, 4, 126, 96, 60, 132, 2, 1, 167, 255, 239]
abbrev dktX5_bits_0 : List UInt8 := dkwX5_bits_0 ++ dktX5_bits_1
theorem dksX5_bits_0 : cX5_bits.data.toList.drop 0 = dktX5_bits_0 := by decide +kernel
theorem dksX5_bits_1 : cX5_bits.data.toList.drop 24 = dktX5_bits_1 := dk_seg dksX5_bits_0 24 rfl rfl
theorem dX5_bits_0 : decode cX5_bits 0 = .ok (.iconst 0, 1) := dk_3 (dk_at dksX5_bits_0 0 rfl rfl)
theorem dX5_bits_1 : decode cX5_bits 1 = .ok (.istore_n 1, 1) := dk_60 (dk_at dksX5_bits_0 1 rfl rfl)
theorem dX5_bits_2 : decode cX5_bits 2 = .ok (.iconst 0, 1) := dk_3 (dk_at dksX5_bits_0 2 rfl rfl)
theorem dX5_bits_3 : decode cX5_bits 3 = .ok (.istore_n 2, 1) := dk_61 (dk_at dksX5_bits_0 3 rfl rfl)
theorem dX5_bits_4 : decode cX5_bits 4 = .ok (.iload_n 2, 1) := dk_28 (dk_at dksX5_bits_0 4 rfl rfl)
theorem dX5_bits_5 : decode cX5_bits 5 = .ok (.bipush 8, 2) := dk_16 8 (dk_at dksX5_bits_0 5 rfl rfl)
theorem dX5_bits_7 : decode cX5_bits 7 = .ok (.if_icmp .ge 17, 3) := dk_162 0 17 (dk_at dksX5_bits_0 7 rfl rfl)
theorem dX5_bits_10 : decode cX5_bits 10 = .ok (.iload_n 1, 1) := dk_27 (dk_at dksX5_bits_0 10 rfl rfl)
theorem dX5_bits_11 : decode cX5_bits 11 = .ok (.iload_n 0, 1) := dk_26 (dk_at dksX5_bits_0 11 rfl rfl)
theorem dX5_bits_12 : decode cX5_bits 12 = .ok (.iload_n 2, 1) := dk_28 (dk_at dksX5_bits_0 12 rfl rfl)
theorem dX5_bits_13 : decode cX5_bits 13 = .ok (.ishr, 1) := dk_122 (dk_at dksX5_bits_0 13 rfl rfl)
theorem dX5_bits_14 : decode cX5_bits 14 = .ok (.iconst 1, 1) := dk_4 (dk_at dksX5_bits_0 14 rfl rfl)
theorem dX5_bits_15 : decode cX5_bits 15 = .ok (.iand, 1) := dk_126 (dk_at dksX5_bits_0 15 rfl rfl)
theorem dX5_bits_16 : decode cX5_bits 16 = .ok (.iadd, 1) := dk_96 (dk_at dksX5_bits_0 16 rfl rfl)
theorem dX5_bits_17 : decode cX5_bits 17 = .ok (.istore_n 1, 1) := dk_60 (dk_at dksX5_bits_0 17 rfl rfl)
theorem dX5_bits_18 : decode cX5_bits 18 = .ok (.iinc 2 1, 3) := dk_132 2 1 (dk_at dksX5_bits_0 18 rfl rfl)
theorem dX5_bits_21 : decode cX5_bits 21 = .ok (.goto (-17), 3) := dk_167 255 239 (dk_at dksX5_bits_0 21 rfl rfl)
theorem dX5_bits_24 : decode cX5_bits 24 = .ok (.iload_n 1, 1) := dk_27 (dk_at dksX5_bits_1 0 rfl rfl)
theorem dX5_bits_25 : decode cX5_bits 25 = .ok (.ireturn, 1) := dk_172 (dk_at dksX5_bits_1 1 rfl rfl)
abbrev cX5_firstIn : ByteArray := prog_18_method_52_code
def yX5_firstIn : MethodName := ⟨RX5, "firstIn", "(I)I"⟩
def dkwX5_firstIn_1 : List UInt8 := [180, 0, 61, 28, 46, 172, 132, 2, 1, 167, 255, 225, 3, 172]
abbrev dktX5_firstIn_1 : List UInt8 := dkwX5_firstIn_1 ++ []
def dkwX5_firstIn_0 : List UInt8 := [3, 61, 28, 42, 180, 1, 1, 162, 0, 29, 42, 180, 0, 61, 28, 46, 27, 2, 130, 126, 154, 0, 10, 42]
abbrev dktX5_firstIn_0 : List UInt8 := dkwX5_firstIn_0 ++ dktX5_firstIn_1
theorem dksX5_firstIn_0 : cX5_firstIn.data.toList.drop 0 = dktX5_firstIn_0 := by decide +kernel
theorem dksX5_firstIn_1 : cX5_firstIn.data.toList.drop 24 = dktX5_firstIn_1 := dk_seg dksX5_firstIn_0 24 rfl rfl
theorem dX5_firstIn_0 : decode cX5_firstIn 0 = .ok (.iconst 0, 1) := dk_3 (dk_at dksX5_firstIn_0 0 rfl rfl)
theorem dX5_firstIn_1 : decode cX5_firstIn 1 = .ok (.istore_n 2, 1) := dk_61 (dk_at dksX5_firstIn_0 1 rfl rfl)
theorem dX5_firstIn_2 : decode cX5_firstIn 2 = .ok (.iload_n 2, 1) := dk_28 (dk_at dksX5_firstIn_0 2 rfl rfl)
theorem dX5_firstIn_3 : decode cX5_firstIn 3 = .ok (.aload_n 0, 1) := dk_42 (dk_at dksX5_firstIn_0 3 rfl rfl)
theorem dX5_firstIn_4 : decode cX5_firstIn 4 = .ok (.getfield 257, 3) := dk_180 1 1 (dk_at dksX5_firstIn_0 4 rfl rfl)
theorem dX5_firstIn_7 : decode cX5_firstIn 7 = .ok (.if_icmp .ge 29, 3) := dk_162 0 29 (dk_at dksX5_firstIn_0 7 rfl rfl)
theorem dX5_firstIn_10 : decode cX5_firstIn 10 = .ok (.aload_n 0, 1) := dk_42 (dk_at dksX5_firstIn_0 10 rfl rfl)
theorem dX5_firstIn_11 : decode cX5_firstIn 11 = .ok (.getfield 61, 3) := dk_180 0 61 (dk_at dksX5_firstIn_0 11 rfl rfl)
theorem dX5_firstIn_14 : decode cX5_firstIn 14 = .ok (.iload_n 2, 1) := dk_28 (dk_at dksX5_firstIn_0 14 rfl rfl)
theorem dX5_firstIn_15 : decode cX5_firstIn 15 = .ok (.iaload, 1) := dk_46 (dk_at dksX5_firstIn_0 15 rfl rfl)
theorem dX5_firstIn_16 : decode cX5_firstIn 16 = .ok (.iload_n 1, 1) := dk_27 (dk_at dksX5_firstIn_0 16 rfl rfl)
theorem dX5_firstIn_17 : decode cX5_firstIn 17 = .ok (.iconst (-1), 1) := dk_2 (dk_at dksX5_firstIn_0 17 rfl rfl)
theorem dX5_firstIn_18 : decode cX5_firstIn 18 = .ok (.ixor, 1) := dk_130 (dk_at dksX5_firstIn_0 18 rfl rfl)
theorem dX5_firstIn_19 : decode cX5_firstIn 19 = .ok (.iand, 1) := dk_126 (dk_at dksX5_firstIn_0 19 rfl rfl)
theorem dX5_firstIn_20 : decode cX5_firstIn 20 = .ok (.ifCond .ne 10, 3) := dk_154 0 10 (dk_at dksX5_firstIn_0 20 rfl rfl)
theorem dX5_firstIn_23 : decode cX5_firstIn 23 = .ok (.aload_n 0, 1) := dk_42 (dk_at dksX5_firstIn_0 23 rfl rfl)
theorem dX5_firstIn_24 : decode cX5_firstIn 24 = .ok (.getfield 61, 3) := dk_180 0 61 (dk_at dksX5_firstIn_1 0 rfl rfl)
theorem dX5_firstIn_27 : decode cX5_firstIn 27 = .ok (.iload_n 2, 1) := dk_28 (dk_at dksX5_firstIn_1 3 rfl rfl)
theorem dX5_firstIn_28 : decode cX5_firstIn 28 = .ok (.iaload, 1) := dk_46 (dk_at dksX5_firstIn_1 4 rfl rfl)
theorem dX5_firstIn_29 : decode cX5_firstIn 29 = .ok (.ireturn, 1) := dk_172 (dk_at dksX5_firstIn_1 5 rfl rfl)
theorem dX5_firstIn_30 : decode cX5_firstIn 30 = .ok (.iinc 2 1, 3) := dk_132 2 1 (dk_at dksX5_firstIn_1 6 rfl rfl)
theorem dX5_firstIn_33 : decode cX5_firstIn 33 = .ok (.goto (-31), 3) := dk_167 255 225 (dk_at dksX5_firstIn_1 9 rfl rfl)
theorem dX5_firstIn_36 : decode cX5_firstIn 36 = .ok (.iconst 0, 1) := dk_3 (dk_at dksX5_firstIn_1 12 rfl rfl)
theorem dX5_firstIn_37 : decode cX5_firstIn 37 = .ok (.ireturn, 1) := dk_172 (dk_at dksX5_firstIn_1 13 rfl rfl)
abbrev cX5_bestIn : ByteArray := prog_18_method_56_code
def yX5_bestIn : MethodName := ⟨RX5, "bestIn", "(I)I"⟩
def dkwX5_bestIn_2 : List UInt8 := [160, 0, 10, 42, 180, 0, 61, 29, 46, 172, 132, 3, 1, 167, 255, 205, 3, 172]
abbrev dktX5_bestIn_2 : List UInt8 := dkwX5_bestIn_2 ++ []
def dkwX5_bestIn_1 : List UInt8 := [130, 126, 154, 0, 30, 42, 27, 42, 180, 0, 61, 29, 46, 2, 130, 126, 182, 1, 22, 28, 4, 100]
abbrev dktX5_bestIn_1 : List UInt8 := dkwX5_bestIn_1 ++ dktX5_bestIn_2
def dkwX5_bestIn_0 : List UInt8 := [42, 27, 182, 1, 22, 61, 3, 62, 29, 42, 180, 1, 1, 162, 0, 49, 42, 180, 0, 61, 29, 46, 27, 2]
abbrev dktX5_bestIn_0 : List UInt8 := dkwX5_bestIn_0 ++ dktX5_bestIn_1
theorem dksX5_bestIn_0 : cX5_bestIn.data.toList.drop 0 = dktX5_bestIn_0 := by decide +kernel
theorem dksX5_bestIn_1 : cX5_bestIn.data.toList.drop 24 = dktX5_bestIn_1 := dk_seg dksX5_bestIn_0 24 rfl rfl
theorem dksX5_bestIn_2 : cX5_bestIn.data.toList.drop 46 = dktX5_bestIn_2 := dk_seg dksX5_bestIn_1 22 rfl rfl
theorem dX5_bestIn_0 : decode cX5_bestIn 0 = .ok (.aload_n 0, 1) := dk_42 (dk_at dksX5_bestIn_0 0 rfl rfl)
theorem dX5_bestIn_1 : decode cX5_bestIn 1 = .ok (.iload_n 1, 1) := dk_27 (dk_at dksX5_bestIn_0 1 rfl rfl)
theorem dX5_bestIn_2 : decode cX5_bestIn 2 = .ok (.invokevirtual 278, 3) := dk_182 1 22 (dk_at dksX5_bestIn_0 2 rfl rfl)
theorem dX5_bestIn_5 : decode cX5_bestIn 5 = .ok (.istore_n 2, 1) := dk_61 (dk_at dksX5_bestIn_0 5 rfl rfl)
theorem dX5_bestIn_6 : decode cX5_bestIn 6 = .ok (.iconst 0, 1) := dk_3 (dk_at dksX5_bestIn_0 6 rfl rfl)
theorem dX5_bestIn_7 : decode cX5_bestIn 7 = .ok (.istore_n 3, 1) := dk_62 (dk_at dksX5_bestIn_0 7 rfl rfl)
theorem dX5_bestIn_8 : decode cX5_bestIn 8 = .ok (.iload_n 3, 1) := dk_29 (dk_at dksX5_bestIn_0 8 rfl rfl)
theorem dX5_bestIn_9 : decode cX5_bestIn 9 = .ok (.aload_n 0, 1) := dk_42 (dk_at dksX5_bestIn_0 9 rfl rfl)
theorem dX5_bestIn_10 : decode cX5_bestIn 10 = .ok (.getfield 257, 3) := dk_180 1 1 (dk_at dksX5_bestIn_0 10 rfl rfl)
theorem dX5_bestIn_13 : decode cX5_bestIn 13 = .ok (.if_icmp .ge 49, 3) := dk_162 0 49 (dk_at dksX5_bestIn_0 13 rfl rfl)
theorem dX5_bestIn_16 : decode cX5_bestIn 16 = .ok (.aload_n 0, 1) := dk_42 (dk_at dksX5_bestIn_0 16 rfl rfl)
theorem dX5_bestIn_17 : decode cX5_bestIn 17 = .ok (.getfield 61, 3) := dk_180 0 61 (dk_at dksX5_bestIn_0 17 rfl rfl)
theorem dX5_bestIn_20 : decode cX5_bestIn 20 = .ok (.iload_n 3, 1) := dk_29 (dk_at dksX5_bestIn_0 20 rfl rfl)
theorem dX5_bestIn_21 : decode cX5_bestIn 21 = .ok (.iaload, 1) := dk_46 (dk_at dksX5_bestIn_0 21 rfl rfl)
theorem dX5_bestIn_22 : decode cX5_bestIn 22 = .ok (.iload_n 1, 1) := dk_27 (dk_at dksX5_bestIn_0 22 rfl rfl)
theorem dX5_bestIn_23 : decode cX5_bestIn 23 = .ok (.iconst (-1), 1) := dk_2 (dk_at dksX5_bestIn_0 23 rfl rfl)
theorem dX5_bestIn_24 : decode cX5_bestIn 24 = .ok (.ixor, 1) := dk_130 (dk_at dksX5_bestIn_1 0 rfl rfl)
theorem dX5_bestIn_25 : decode cX5_bestIn 25 = .ok (.iand, 1) := dk_126 (dk_at dksX5_bestIn_1 1 rfl rfl)
theorem dX5_bestIn_26 : decode cX5_bestIn 26 = .ok (.ifCond .ne 30, 3) := dk_154 0 30 (dk_at dksX5_bestIn_1 2 rfl rfl)
theorem dX5_bestIn_29 : decode cX5_bestIn 29 = .ok (.aload_n 0, 1) := dk_42 (dk_at dksX5_bestIn_1 5 rfl rfl)
theorem dX5_bestIn_30 : decode cX5_bestIn 30 = .ok (.iload_n 1, 1) := dk_27 (dk_at dksX5_bestIn_1 6 rfl rfl)
theorem dX5_bestIn_31 : decode cX5_bestIn 31 = .ok (.aload_n 0, 1) := dk_42 (dk_at dksX5_bestIn_1 7 rfl rfl)
theorem dX5_bestIn_32 : decode cX5_bestIn 32 = .ok (.getfield 61, 3) := dk_180 0 61 (dk_at dksX5_bestIn_1 8 rfl rfl)
theorem dX5_bestIn_35 : decode cX5_bestIn 35 = .ok (.iload_n 3, 1) := dk_29 (dk_at dksX5_bestIn_1 11 rfl rfl)
theorem dX5_bestIn_36 : decode cX5_bestIn 36 = .ok (.iaload, 1) := dk_46 (dk_at dksX5_bestIn_1 12 rfl rfl)
theorem dX5_bestIn_37 : decode cX5_bestIn 37 = .ok (.iconst (-1), 1) := dk_2 (dk_at dksX5_bestIn_1 13 rfl rfl)
theorem dX5_bestIn_38 : decode cX5_bestIn 38 = .ok (.ixor, 1) := dk_130 (dk_at dksX5_bestIn_1 14 rfl rfl)
theorem dX5_bestIn_39 : decode cX5_bestIn 39 = .ok (.iand, 1) := dk_126 (dk_at dksX5_bestIn_1 15 rfl rfl)
theorem dX5_bestIn_40 : decode cX5_bestIn 40 = .ok (.invokevirtual 278, 3) := dk_182 1 22 (dk_at dksX5_bestIn_1 16 rfl rfl)
theorem dX5_bestIn_43 : decode cX5_bestIn 43 = .ok (.iload_n 2, 1) := dk_28 (dk_at dksX5_bestIn_1 19 rfl rfl)
theorem dX5_bestIn_44 : decode cX5_bestIn 44 = .ok (.iconst 1, 1) := dk_4 (dk_at dksX5_bestIn_1 20 rfl rfl)
theorem dX5_bestIn_45 : decode cX5_bestIn 45 = .ok (.isub, 1) := dk_100 (dk_at dksX5_bestIn_1 21 rfl rfl)
theorem dX5_bestIn_46 : decode cX5_bestIn 46 = .ok (.if_icmp .ne 10, 3) := dk_160 0 10 (dk_at dksX5_bestIn_2 0 rfl rfl)
theorem dX5_bestIn_49 : decode cX5_bestIn 49 = .ok (.aload_n 0, 1) := dk_42 (dk_at dksX5_bestIn_2 3 rfl rfl)
theorem dX5_bestIn_50 : decode cX5_bestIn 50 = .ok (.getfield 61, 3) := dk_180 0 61 (dk_at dksX5_bestIn_2 4 rfl rfl)
theorem dX5_bestIn_53 : decode cX5_bestIn 53 = .ok (.iload_n 3, 1) := dk_29 (dk_at dksX5_bestIn_2 7 rfl rfl)
theorem dX5_bestIn_54 : decode cX5_bestIn 54 = .ok (.iaload, 1) := dk_46 (dk_at dksX5_bestIn_2 8 rfl rfl)
theorem dX5_bestIn_55 : decode cX5_bestIn 55 = .ok (.ireturn, 1) := dk_172 (dk_at dksX5_bestIn_2 9 rfl rfl)
theorem dX5_bestIn_56 : decode cX5_bestIn 56 = .ok (.iinc 3 1, 3) := dk_132 3 1 (dk_at dksX5_bestIn_2 10 rfl rfl)
theorem dX5_bestIn_59 : decode cX5_bestIn 59 = .ok (.goto (-51), 3) := dk_167 255 205 (dk_at dksX5_bestIn_2 13 rfl rfl)
theorem dX5_bestIn_62 : decode cX5_bestIn 62 = .ok (.iconst 0, 1) := dk_3 (dk_at dksX5_bestIn_2 16 rfl rfl)
theorem dX5_bestIn_63 : decode cX5_bestIn 63 = .ok (.ireturn, 1) := dk_172 (dk_at dksX5_bestIn_2 17 rfl rfl)
abbrev cX5_mostIn : ByteArray := prog_18_method_54_code
def yX5_mostIn : MethodName := ⟨RX5, "mostIn", "(I)I"⟩
def dkwX5_mostIn_2 : List UInt8 := [164, 0, 8, 21, 4, 167, 0, 4, 28, 61, 132, 3, 1, 167, 255, 201, 28, 172]
abbrev dktX5_mostIn_2 : List UInt8 := dkwX5_mostIn_2 ++ []
def dkwX5_mostIn_1 : List UInt8 := [154, 0, 34, 4, 42, 27, 42, 180, 0, 61, 29, 46, 2, 130, 126, 182, 1, 22, 96, 54, 4, 21, 4, 28]
abbrev dktX5_mostIn_1 : List UInt8 := dkwX5_mostIn_1 ++ dktX5_mostIn_2
def dkwX5_mostIn_0 : List UInt8 := [3, 61, 3, 62, 29, 42, 180, 1, 1, 162, 0, 53, 42, 180, 0, 61, 29, 46, 27, 2, 130, 126]
abbrev dktX5_mostIn_0 : List UInt8 := dkwX5_mostIn_0 ++ dktX5_mostIn_1
theorem dksX5_mostIn_0 : cX5_mostIn.data.toList.drop 0 = dktX5_mostIn_0 := by decide +kernel
theorem dksX5_mostIn_1 : cX5_mostIn.data.toList.drop 22 = dktX5_mostIn_1 := dk_seg dksX5_mostIn_0 22 rfl rfl
theorem dksX5_mostIn_2 : cX5_mostIn.data.toList.drop 46 = dktX5_mostIn_2 := dk_seg dksX5_mostIn_1 24 rfl rfl
theorem dX5_mostIn_0 : decode cX5_mostIn 0 = .ok (.iconst 0, 1) := dk_3 (dk_at dksX5_mostIn_0 0 rfl rfl)
theorem dX5_mostIn_1 : decode cX5_mostIn 1 = .ok (.istore_n 2, 1) := dk_61 (dk_at dksX5_mostIn_0 1 rfl rfl)
theorem dX5_mostIn_2 : decode cX5_mostIn 2 = .ok (.iconst 0, 1) := dk_3 (dk_at dksX5_mostIn_0 2 rfl rfl)
theorem dX5_mostIn_3 : decode cX5_mostIn 3 = .ok (.istore_n 3, 1) := dk_62 (dk_at dksX5_mostIn_0 3 rfl rfl)
theorem dX5_mostIn_4 : decode cX5_mostIn 4 = .ok (.iload_n 3, 1) := dk_29 (dk_at dksX5_mostIn_0 4 rfl rfl)
theorem dX5_mostIn_5 : decode cX5_mostIn 5 = .ok (.aload_n 0, 1) := dk_42 (dk_at dksX5_mostIn_0 5 rfl rfl)
theorem dX5_mostIn_6 : decode cX5_mostIn 6 = .ok (.getfield 257, 3) := dk_180 1 1 (dk_at dksX5_mostIn_0 6 rfl rfl)
theorem dX5_mostIn_9 : decode cX5_mostIn 9 = .ok (.if_icmp .ge 53, 3) := dk_162 0 53 (dk_at dksX5_mostIn_0 9 rfl rfl)
theorem dX5_mostIn_12 : decode cX5_mostIn 12 = .ok (.aload_n 0, 1) := dk_42 (dk_at dksX5_mostIn_0 12 rfl rfl)
theorem dX5_mostIn_13 : decode cX5_mostIn 13 = .ok (.getfield 61, 3) := dk_180 0 61 (dk_at dksX5_mostIn_0 13 rfl rfl)
theorem dX5_mostIn_16 : decode cX5_mostIn 16 = .ok (.iload_n 3, 1) := dk_29 (dk_at dksX5_mostIn_0 16 rfl rfl)
theorem dX5_mostIn_17 : decode cX5_mostIn 17 = .ok (.iaload, 1) := dk_46 (dk_at dksX5_mostIn_0 17 rfl rfl)
theorem dX5_mostIn_18 : decode cX5_mostIn 18 = .ok (.iload_n 1, 1) := dk_27 (dk_at dksX5_mostIn_0 18 rfl rfl)
theorem dX5_mostIn_19 : decode cX5_mostIn 19 = .ok (.iconst (-1), 1) := dk_2 (dk_at dksX5_mostIn_0 19 rfl rfl)
theorem dX5_mostIn_20 : decode cX5_mostIn 20 = .ok (.ixor, 1) := dk_130 (dk_at dksX5_mostIn_0 20 rfl rfl)
theorem dX5_mostIn_21 : decode cX5_mostIn 21 = .ok (.iand, 1) := dk_126 (dk_at dksX5_mostIn_0 21 rfl rfl)
theorem dX5_mostIn_22 : decode cX5_mostIn 22 = .ok (.ifCond .ne 34, 3) := dk_154 0 34 (dk_at dksX5_mostIn_1 0 rfl rfl)
theorem dX5_mostIn_25 : decode cX5_mostIn 25 = .ok (.iconst 1, 1) := dk_4 (dk_at dksX5_mostIn_1 3 rfl rfl)
theorem dX5_mostIn_26 : decode cX5_mostIn 26 = .ok (.aload_n 0, 1) := dk_42 (dk_at dksX5_mostIn_1 4 rfl rfl)
theorem dX5_mostIn_27 : decode cX5_mostIn 27 = .ok (.iload_n 1, 1) := dk_27 (dk_at dksX5_mostIn_1 5 rfl rfl)
theorem dX5_mostIn_28 : decode cX5_mostIn 28 = .ok (.aload_n 0, 1) := dk_42 (dk_at dksX5_mostIn_1 6 rfl rfl)
theorem dX5_mostIn_29 : decode cX5_mostIn 29 = .ok (.getfield 61, 3) := dk_180 0 61 (dk_at dksX5_mostIn_1 7 rfl rfl)
theorem dX5_mostIn_32 : decode cX5_mostIn 32 = .ok (.iload_n 3, 1) := dk_29 (dk_at dksX5_mostIn_1 10 rfl rfl)
theorem dX5_mostIn_33 : decode cX5_mostIn 33 = .ok (.iaload, 1) := dk_46 (dk_at dksX5_mostIn_1 11 rfl rfl)
theorem dX5_mostIn_34 : decode cX5_mostIn 34 = .ok (.iconst (-1), 1) := dk_2 (dk_at dksX5_mostIn_1 12 rfl rfl)
theorem dX5_mostIn_35 : decode cX5_mostIn 35 = .ok (.ixor, 1) := dk_130 (dk_at dksX5_mostIn_1 13 rfl rfl)
theorem dX5_mostIn_36 : decode cX5_mostIn 36 = .ok (.iand, 1) := dk_126 (dk_at dksX5_mostIn_1 14 rfl rfl)
theorem dX5_mostIn_37 : decode cX5_mostIn 37 = .ok (.invokevirtual 278, 3) := dk_182 1 22 (dk_at dksX5_mostIn_1 15 rfl rfl)
theorem dX5_mostIn_40 : decode cX5_mostIn 40 = .ok (.iadd, 1) := dk_96 (dk_at dksX5_mostIn_1 18 rfl rfl)
theorem dX5_mostIn_41 : decode cX5_mostIn 41 = .ok (.istore 4, 2) := dk_54 4 (dk_at dksX5_mostIn_1 19 rfl rfl)
theorem dX5_mostIn_43 : decode cX5_mostIn 43 = .ok (.iload 4, 2) := dk_21 4 (dk_at dksX5_mostIn_1 21 rfl rfl)
theorem dX5_mostIn_45 : decode cX5_mostIn 45 = .ok (.iload_n 2, 1) := dk_28 (dk_at dksX5_mostIn_1 23 rfl rfl)
theorem dX5_mostIn_46 : decode cX5_mostIn 46 = .ok (.if_icmp .le 8, 3) := dk_164 0 8 (dk_at dksX5_mostIn_2 0 rfl rfl)
theorem dX5_mostIn_49 : decode cX5_mostIn 49 = .ok (.iload 4, 2) := dk_21 4 (dk_at dksX5_mostIn_2 3 rfl rfl)
theorem dX5_mostIn_51 : decode cX5_mostIn 51 = .ok (.goto 4, 3) := dk_167 0 4 (dk_at dksX5_mostIn_2 5 rfl rfl)
theorem dX5_mostIn_54 : decode cX5_mostIn 54 = .ok (.iload_n 2, 1) := dk_28 (dk_at dksX5_mostIn_2 8 rfl rfl)
theorem dX5_mostIn_55 : decode cX5_mostIn 55 = .ok (.istore_n 2, 1) := dk_61 (dk_at dksX5_mostIn_2 9 rfl rfl)
theorem dX5_mostIn_56 : decode cX5_mostIn 56 = .ok (.iinc 3 1, 3) := dk_132 3 1 (dk_at dksX5_mostIn_2 10 rfl rfl)
theorem dX5_mostIn_59 : decode cX5_mostIn 59 = .ok (.goto (-55), 3) := dk_167 255 201 (dk_at dksX5_mostIn_2 13 rfl rfl)
theorem dX5_mostIn_62 : decode cX5_mostIn 62 = .ok (.iload_n 2, 1) := dk_28 (dk_at dksX5_mostIn_2 16 rfl rfl)
theorem dX5_mostIn_63 : decode cX5_mostIn 63 = .ok (.ireturn, 1) := dk_172 (dk_at dksX5_mostIn_2 17 rfl rfl)
abbrev cX5_costOf : ByteArray := prog_18_method_58_code
def yX5_costOf : MethodName := ⟨RX5, "costOf", "(I)I"⟩
def dkwX5_costOf_1 : List UInt8 := [180, 0, 43, 29, 46, 167, 0, 4, 3, 96, 61, 132, 3, 1, 167, 255, 224, 28, 172]
abbrev dktX5_costOf_1 : List UInt8 := dkwX5_costOf_1 ++ []
def dkwX5_costOf_0 : List UInt8 := [3, 61, 3, 62, 29, 42, 180, 0, 85, 162, 0, 30, 28, 27, 29, 184, 0, 151, 153, 0, 12, 42]
abbrev dktX5_costOf_0 : List UInt8 := dkwX5_costOf_0 ++ dktX5_costOf_1
theorem dksX5_costOf_0 : cX5_costOf.data.toList.drop 0 = dktX5_costOf_0 := by decide +kernel
theorem dksX5_costOf_1 : cX5_costOf.data.toList.drop 22 = dktX5_costOf_1 := dk_seg dksX5_costOf_0 22 rfl rfl
theorem dX5_costOf_0 : decode cX5_costOf 0 = .ok (.iconst 0, 1) := dk_3 (dk_at dksX5_costOf_0 0 rfl rfl)
theorem dX5_costOf_1 : decode cX5_costOf 1 = .ok (.istore_n 2, 1) := dk_61 (dk_at dksX5_costOf_0 1 rfl rfl)
theorem dX5_costOf_2 : decode cX5_costOf 2 = .ok (.iconst 0, 1) := dk_3 (dk_at dksX5_costOf_0 2 rfl rfl)
theorem dX5_costOf_3 : decode cX5_costOf 3 = .ok (.istore_n 3, 1) := dk_62 (dk_at dksX5_costOf_0 3 rfl rfl)
theorem dX5_costOf_4 : decode cX5_costOf 4 = .ok (.iload_n 3, 1) := dk_29 (dk_at dksX5_costOf_0 4 rfl rfl)
theorem dX5_costOf_5 : decode cX5_costOf 5 = .ok (.aload_n 0, 1) := dk_42 (dk_at dksX5_costOf_0 5 rfl rfl)
theorem dX5_costOf_6 : decode cX5_costOf 6 = .ok (.getfield 85, 3) := dk_180 0 85 (dk_at dksX5_costOf_0 6 rfl rfl)
theorem dX5_costOf_9 : decode cX5_costOf 9 = .ok (.if_icmp .ge 30, 3) := dk_162 0 30 (dk_at dksX5_costOf_0 9 rfl rfl)
theorem dX5_costOf_12 : decode cX5_costOf 12 = .ok (.iload_n 2, 1) := dk_28 (dk_at dksX5_costOf_0 12 rfl rfl)
theorem dX5_costOf_13 : decode cX5_costOf 13 = .ok (.iload_n 1, 1) := dk_27 (dk_at dksX5_costOf_0 13 rfl rfl)
theorem dX5_costOf_14 : decode cX5_costOf 14 = .ok (.iload_n 3, 1) := dk_29 (dk_at dksX5_costOf_0 14 rfl rfl)
theorem dX5_costOf_15 : decode cX5_costOf 15 = .ok (.invokestatic 151, 3) := dk_184 0 151 (dk_at dksX5_costOf_0 15 rfl rfl)
theorem dX5_costOf_18 : decode cX5_costOf 18 = .ok (.ifCond .eq 12, 3) := dk_153 0 12 (dk_at dksX5_costOf_0 18 rfl rfl)
theorem dX5_costOf_21 : decode cX5_costOf 21 = .ok (.aload_n 0, 1) := dk_42 (dk_at dksX5_costOf_0 21 rfl rfl)
theorem dX5_costOf_22 : decode cX5_costOf 22 = .ok (.getfield 43, 3) := dk_180 0 43 (dk_at dksX5_costOf_1 0 rfl rfl)
theorem dX5_costOf_25 : decode cX5_costOf 25 = .ok (.iload_n 3, 1) := dk_29 (dk_at dksX5_costOf_1 3 rfl rfl)
theorem dX5_costOf_26 : decode cX5_costOf 26 = .ok (.iaload, 1) := dk_46 (dk_at dksX5_costOf_1 4 rfl rfl)
theorem dX5_costOf_27 : decode cX5_costOf 27 = .ok (.goto 4, 3) := dk_167 0 4 (dk_at dksX5_costOf_1 5 rfl rfl)
theorem dX5_costOf_30 : decode cX5_costOf 30 = .ok (.iconst 0, 1) := dk_3 (dk_at dksX5_costOf_1 8 rfl rfl)
theorem dX5_costOf_31 : decode cX5_costOf 31 = .ok (.iadd, 1) := dk_96 (dk_at dksX5_costOf_1 9 rfl rfl)
theorem dX5_costOf_32 : decode cX5_costOf 32 = .ok (.istore_n 2, 1) := dk_61 (dk_at dksX5_costOf_1 10 rfl rfl)
theorem dX5_costOf_33 : decode cX5_costOf 33 = .ok (.iinc 3 1, 3) := dk_132 3 1 (dk_at dksX5_costOf_1 11 rfl rfl)
theorem dX5_costOf_36 : decode cX5_costOf 36 = .ok (.goto (-32), 3) := dk_167 255 224 (dk_at dksX5_costOf_1 14 rfl rfl)
theorem dX5_costOf_39 : decode cX5_costOf 39 = .ok (.iload_n 2, 1) := dk_28 (dk_at dksX5_costOf_1 17 rfl rfl)
theorem dX5_costOf_40 : decode cX5_costOf 40 = .ok (.ireturn, 1) := dk_172 (dk_at dksX5_costOf_1 18 rfl rfl)
abbrev cX5_meetsOf : ByteArray := prog_18_method_59_code
def yX5_meetsOf : MethodName := ⟨RX5, "meetsOf", "(I)I"⟩
def dkwX5_meetsOf_1 : List UInt8 := [182, 0, 251, 184, 0, 254, 167, 0, 4, 3, 96, 61, 132, 3, 1, 167, 255, 222, 28, 172]
abbrev dktX5_meetsOf_1 : List UInt8 := dkwX5_meetsOf_1 ++ []
def dkwX5_meetsOf_0 : List UInt8 := [3, 61, 3, 62, 29, 42, 180, 0, 85, 162, 0, 32, 28, 27, 29, 184, 0, 151, 153, 0, 14, 42, 29]
abbrev dktX5_meetsOf_0 : List UInt8 := dkwX5_meetsOf_0 ++ dktX5_meetsOf_1
theorem dksX5_meetsOf_0 : cX5_meetsOf.data.toList.drop 0 = dktX5_meetsOf_0 := by decide +kernel
theorem dksX5_meetsOf_1 : cX5_meetsOf.data.toList.drop 23 = dktX5_meetsOf_1 := dk_seg dksX5_meetsOf_0 23 rfl rfl
theorem dX5_meetsOf_0 : decode cX5_meetsOf 0 = .ok (.iconst 0, 1) := dk_3 (dk_at dksX5_meetsOf_0 0 rfl rfl)
theorem dX5_meetsOf_1 : decode cX5_meetsOf 1 = .ok (.istore_n 2, 1) := dk_61 (dk_at dksX5_meetsOf_0 1 rfl rfl)
theorem dX5_meetsOf_2 : decode cX5_meetsOf 2 = .ok (.iconst 0, 1) := dk_3 (dk_at dksX5_meetsOf_0 2 rfl rfl)
theorem dX5_meetsOf_3 : decode cX5_meetsOf 3 = .ok (.istore_n 3, 1) := dk_62 (dk_at dksX5_meetsOf_0 3 rfl rfl)
theorem dX5_meetsOf_4 : decode cX5_meetsOf 4 = .ok (.iload_n 3, 1) := dk_29 (dk_at dksX5_meetsOf_0 4 rfl rfl)
theorem dX5_meetsOf_5 : decode cX5_meetsOf 5 = .ok (.aload_n 0, 1) := dk_42 (dk_at dksX5_meetsOf_0 5 rfl rfl)
theorem dX5_meetsOf_6 : decode cX5_meetsOf 6 = .ok (.getfield 85, 3) := dk_180 0 85 (dk_at dksX5_meetsOf_0 6 rfl rfl)
theorem dX5_meetsOf_9 : decode cX5_meetsOf 9 = .ok (.if_icmp .ge 32, 3) := dk_162 0 32 (dk_at dksX5_meetsOf_0 9 rfl rfl)
theorem dX5_meetsOf_12 : decode cX5_meetsOf 12 = .ok (.iload_n 2, 1) := dk_28 (dk_at dksX5_meetsOf_0 12 rfl rfl)
theorem dX5_meetsOf_13 : decode cX5_meetsOf 13 = .ok (.iload_n 1, 1) := dk_27 (dk_at dksX5_meetsOf_0 13 rfl rfl)
theorem dX5_meetsOf_14 : decode cX5_meetsOf 14 = .ok (.iload_n 3, 1) := dk_29 (dk_at dksX5_meetsOf_0 14 rfl rfl)
theorem dX5_meetsOf_15 : decode cX5_meetsOf 15 = .ok (.invokestatic 151, 3) := dk_184 0 151 (dk_at dksX5_meetsOf_0 15 rfl rfl)
theorem dX5_meetsOf_18 : decode cX5_meetsOf 18 = .ok (.ifCond .eq 14, 3) := dk_153 0 14 (dk_at dksX5_meetsOf_0 18 rfl rfl)
theorem dX5_meetsOf_21 : decode cX5_meetsOf 21 = .ok (.aload_n 0, 1) := dk_42 (dk_at dksX5_meetsOf_0 21 rfl rfl)
theorem dX5_meetsOf_22 : decode cX5_meetsOf 22 = .ok (.iload_n 3, 1) := dk_29 (dk_at dksX5_meetsOf_0 22 rfl rfl)
theorem dX5_meetsOf_23 : decode cX5_meetsOf 23 = .ok (.invokevirtual 251, 3) := dk_182 0 251 (dk_at dksX5_meetsOf_1 0 rfl rfl)
theorem dX5_meetsOf_26 : decode cX5_meetsOf 26 = .ok (.invokestatic 254, 3) := dk_184 0 254 (dk_at dksX5_meetsOf_1 3 rfl rfl)
theorem dX5_meetsOf_29 : decode cX5_meetsOf 29 = .ok (.goto 4, 3) := dk_167 0 4 (dk_at dksX5_meetsOf_1 6 rfl rfl)
theorem dX5_meetsOf_32 : decode cX5_meetsOf 32 = .ok (.iconst 0, 1) := dk_3 (dk_at dksX5_meetsOf_1 9 rfl rfl)
theorem dX5_meetsOf_33 : decode cX5_meetsOf 33 = .ok (.iadd, 1) := dk_96 (dk_at dksX5_meetsOf_1 10 rfl rfl)
theorem dX5_meetsOf_34 : decode cX5_meetsOf 34 = .ok (.istore_n 2, 1) := dk_61 (dk_at dksX5_meetsOf_1 11 rfl rfl)
theorem dX5_meetsOf_35 : decode cX5_meetsOf 35 = .ok (.iinc 3 1, 3) := dk_132 3 1 (dk_at dksX5_meetsOf_1 12 rfl rfl)
theorem dX5_meetsOf_38 : decode cX5_meetsOf 38 = .ok (.goto (-34), 3) := dk_167 255 222 (dk_at dksX5_meetsOf_1 15 rfl rfl)
theorem dX5_meetsOf_41 : decode cX5_meetsOf 41 = .ok (.iload_n 2, 1) := dk_28 (dk_at dksX5_meetsOf_1 18 rfl rfl)
theorem dX5_meetsOf_42 : decode cX5_meetsOf 42 = .ok (.ireturn, 1) := dk_172 (dk_at dksX5_meetsOf_1 19 rfl rfl)
abbrev cX5_strangersOf : ByteArray := prog_18_method_43_code
def yX5_strangersOf : MethodName := ⟨RX5, "strangersOf", "(I)I"⟩
def dkwX5_strangersOf_1 : List UInt8 := [29, 46, 2, 160, 0, 9, 4, 29, 120, 167, 0, 4, 3, 128, 61, 132, 3, 1, 167, 255, 218, 28, 172]
abbrev dktX5_strangersOf_1 : List UInt8 := dkwX5_strangersOf_1 ++ []
def dkwX5_strangersOf_0 : List UInt8 := [3, 61, 3, 62, 29, 42, 180, 0, 85, 162, 0, 36, 28, 29, 27, 159, 0, 21, 42, 180, 0, 48, 27, 50]
abbrev dktX5_strangersOf_0 : List UInt8 := dkwX5_strangersOf_0 ++ dktX5_strangersOf_1
theorem dksX5_strangersOf_0 : cX5_strangersOf.data.toList.drop 0 = dktX5_strangersOf_0 := by decide +kernel
theorem dksX5_strangersOf_1 : cX5_strangersOf.data.toList.drop 24 = dktX5_strangersOf_1 := dk_seg dksX5_strangersOf_0 24 rfl rfl
theorem dX5_strangersOf_0 : decode cX5_strangersOf 0 = .ok (.iconst 0, 1) := dk_3 (dk_at dksX5_strangersOf_0 0 rfl rfl)
theorem dX5_strangersOf_1 : decode cX5_strangersOf 1 = .ok (.istore_n 2, 1) := dk_61 (dk_at dksX5_strangersOf_0 1 rfl rfl)
theorem dX5_strangersOf_2 : decode cX5_strangersOf 2 = .ok (.iconst 0, 1) := dk_3 (dk_at dksX5_strangersOf_0 2 rfl rfl)
theorem dX5_strangersOf_3 : decode cX5_strangersOf 3 = .ok (.istore_n 3, 1) := dk_62 (dk_at dksX5_strangersOf_0 3 rfl rfl)
theorem dX5_strangersOf_4 : decode cX5_strangersOf 4 = .ok (.iload_n 3, 1) := dk_29 (dk_at dksX5_strangersOf_0 4 rfl rfl)
theorem dX5_strangersOf_5 : decode cX5_strangersOf 5 = .ok (.aload_n 0, 1) := dk_42 (dk_at dksX5_strangersOf_0 5 rfl rfl)
theorem dX5_strangersOf_6 : decode cX5_strangersOf 6 = .ok (.getfield 85, 3) := dk_180 0 85 (dk_at dksX5_strangersOf_0 6 rfl rfl)
theorem dX5_strangersOf_9 : decode cX5_strangersOf 9 = .ok (.if_icmp .ge 36, 3) := dk_162 0 36 (dk_at dksX5_strangersOf_0 9 rfl rfl)
theorem dX5_strangersOf_12 : decode cX5_strangersOf 12 = .ok (.iload_n 2, 1) := dk_28 (dk_at dksX5_strangersOf_0 12 rfl rfl)
theorem dX5_strangersOf_13 : decode cX5_strangersOf 13 = .ok (.iload_n 3, 1) := dk_29 (dk_at dksX5_strangersOf_0 13 rfl rfl)
theorem dX5_strangersOf_14 : decode cX5_strangersOf 14 = .ok (.iload_n 1, 1) := dk_27 (dk_at dksX5_strangersOf_0 14 rfl rfl)
theorem dX5_strangersOf_15 : decode cX5_strangersOf 15 = .ok (.if_icmp .eq 21, 3) := dk_159 0 21 (dk_at dksX5_strangersOf_0 15 rfl rfl)
theorem dX5_strangersOf_18 : decode cX5_strangersOf 18 = .ok (.aload_n 0, 1) := dk_42 (dk_at dksX5_strangersOf_0 18 rfl rfl)
theorem dX5_strangersOf_19 : decode cX5_strangersOf 19 = .ok (.getfield 48, 3) := dk_180 0 48 (dk_at dksX5_strangersOf_0 19 rfl rfl)
theorem dX5_strangersOf_22 : decode cX5_strangersOf 22 = .ok (.iload_n 1, 1) := dk_27 (dk_at dksX5_strangersOf_0 22 rfl rfl)
theorem dX5_strangersOf_23 : decode cX5_strangersOf 23 = .ok (.aaload, 1) := dk_50 (dk_at dksX5_strangersOf_0 23 rfl rfl)
theorem dX5_strangersOf_24 : decode cX5_strangersOf 24 = .ok (.iload_n 3, 1) := dk_29 (dk_at dksX5_strangersOf_1 0 rfl rfl)
theorem dX5_strangersOf_25 : decode cX5_strangersOf 25 = .ok (.iaload, 1) := dk_46 (dk_at dksX5_strangersOf_1 1 rfl rfl)
theorem dX5_strangersOf_26 : decode cX5_strangersOf 26 = .ok (.iconst (-1), 1) := dk_2 (dk_at dksX5_strangersOf_1 2 rfl rfl)
theorem dX5_strangersOf_27 : decode cX5_strangersOf 27 = .ok (.if_icmp .ne 9, 3) := dk_160 0 9 (dk_at dksX5_strangersOf_1 3 rfl rfl)
theorem dX5_strangersOf_30 : decode cX5_strangersOf 30 = .ok (.iconst 1, 1) := dk_4 (dk_at dksX5_strangersOf_1 6 rfl rfl)
theorem dX5_strangersOf_31 : decode cX5_strangersOf 31 = .ok (.iload_n 3, 1) := dk_29 (dk_at dksX5_strangersOf_1 7 rfl rfl)
theorem dX5_strangersOf_32 : decode cX5_strangersOf 32 = .ok (.ishl, 1) := dk_120 (dk_at dksX5_strangersOf_1 8 rfl rfl)
theorem dX5_strangersOf_33 : decode cX5_strangersOf 33 = .ok (.goto 4, 3) := dk_167 0 4 (dk_at dksX5_strangersOf_1 9 rfl rfl)
theorem dX5_strangersOf_36 : decode cX5_strangersOf 36 = .ok (.iconst 0, 1) := dk_3 (dk_at dksX5_strangersOf_1 12 rfl rfl)
theorem dX5_strangersOf_37 : decode cX5_strangersOf 37 = .ok (.ior, 1) := dk_128 (dk_at dksX5_strangersOf_1 13 rfl rfl)
theorem dX5_strangersOf_38 : decode cX5_strangersOf 38 = .ok (.istore_n 2, 1) := dk_61 (dk_at dksX5_strangersOf_1 14 rfl rfl)
theorem dX5_strangersOf_39 : decode cX5_strangersOf 39 = .ok (.iinc 3 1, 3) := dk_132 3 1 (dk_at dksX5_strangersOf_1 15 rfl rfl)
theorem dX5_strangersOf_42 : decode cX5_strangersOf 42 = .ok (.goto (-38), 3) := dk_167 255 218 (dk_at dksX5_strangersOf_1 18 rfl rfl)
theorem dX5_strangersOf_45 : decode cX5_strangersOf 45 = .ok (.iload_n 2, 1) := dk_28 (dk_at dksX5_strangersOf_1 21 rfl rfl)
theorem dX5_strangersOf_46 : decode cX5_strangersOf 46 = .ok (.ireturn, 1) := dk_172 (dk_at dksX5_strangersOf_1 22 rfl rfl)
abbrev cX5_person : ByteArray := prog_18_method_21_code
def yX5_person : MethodName := ⟨RX5, "person", "(II)I"⟩
def dkwX5_person_2 : List UInt8 := [27, 28, 182, 0, 127, 42, 180, 0, 85, 4, 100, 172]
abbrev dktX5_person_2 : List UInt8 := dkwX5_person_2 ++ []
def dkwX5_person_1 : List UInt8 := [42, 16, 254, 182, 0, 102, 172, 42, 180, 0, 85, 16, 7, 160, 0, 10, 42, 16, 250, 182, 0, 102, 172, 42]
abbrev dktX5_person_1 : List UInt8 := dkwX5_person_1 ++ dktX5_person_2
def dkwX5_person_0 : List UInt8 := [27, 133, 9, 20, 0, 125, 184, 0, 88, 153, 0, 15, 28, 133, 9, 20, 0, 115, 184, 0, 88, 154, 0, 10]
abbrev dktX5_person_0 : List UInt8 := dkwX5_person_0 ++ dktX5_person_1
theorem dksX5_person_0 : cX5_person.data.toList.drop 0 = dktX5_person_0 := by decide +kernel
theorem dksX5_person_1 : cX5_person.data.toList.drop 24 = dktX5_person_1 := dk_seg dksX5_person_0 24 rfl rfl
theorem dksX5_person_2 : cX5_person.data.toList.drop 48 = dktX5_person_2 := dk_seg dksX5_person_1 24 rfl rfl
theorem dX5_person_0 : decode cX5_person 0 = .ok (.iload_n 1, 1) := dk_27 (dk_at dksX5_person_0 0 rfl rfl)
theorem dX5_person_1 : decode cX5_person 1 = .ok (.i2l, 1) := dk_133 (dk_at dksX5_person_0 1 rfl rfl)
theorem dX5_person_2 : decode cX5_person 2 = .ok (.lconst 0, 1) := dk_9 (dk_at dksX5_person_0 2 rfl rfl)
theorem dX5_person_3 : decode cX5_person 3 = .ok (.ldc2_w 125, 3) := dk_20 0 125 (dk_at dksX5_person_0 3 rfl rfl)
theorem dX5_person_6 : decode cX5_person 6 = .ok (.invokestatic 88, 3) := dk_184 0 88 (dk_at dksX5_person_0 6 rfl rfl)
theorem dX5_person_9 : decode cX5_person 9 = .ok (.ifCond .eq 15, 3) := dk_153 0 15 (dk_at dksX5_person_0 9 rfl rfl)
theorem dX5_person_12 : decode cX5_person 12 = .ok (.iload_n 2, 1) := dk_28 (dk_at dksX5_person_0 12 rfl rfl)
theorem dX5_person_13 : decode cX5_person 13 = .ok (.i2l, 1) := dk_133 (dk_at dksX5_person_0 13 rfl rfl)
theorem dX5_person_14 : decode cX5_person 14 = .ok (.lconst 0, 1) := dk_9 (dk_at dksX5_person_0 14 rfl rfl)
theorem dX5_person_15 : decode cX5_person 15 = .ok (.ldc2_w 115, 3) := dk_20 0 115 (dk_at dksX5_person_0 15 rfl rfl)
theorem dX5_person_18 : decode cX5_person 18 = .ok (.invokestatic 88, 3) := dk_184 0 88 (dk_at dksX5_person_0 18 rfl rfl)
theorem dX5_person_21 : decode cX5_person 21 = .ok (.ifCond .ne 10, 3) := dk_154 0 10 (dk_at dksX5_person_0 21 rfl rfl)
theorem dX5_person_24 : decode cX5_person 24 = .ok (.aload_n 0, 1) := dk_42 (dk_at dksX5_person_1 0 rfl rfl)
theorem dX5_person_25 : decode cX5_person 25 = .ok (.bipush (-2), 2) := dk_16 254 (dk_at dksX5_person_1 1 rfl rfl)
theorem dX5_person_27 : decode cX5_person 27 = .ok (.invokevirtual 102, 3) := dk_182 0 102 (dk_at dksX5_person_1 3 rfl rfl)
theorem dX5_person_30 : decode cX5_person 30 = .ok (.ireturn, 1) := dk_172 (dk_at dksX5_person_1 6 rfl rfl)
theorem dX5_person_31 : decode cX5_person 31 = .ok (.aload_n 0, 1) := dk_42 (dk_at dksX5_person_1 7 rfl rfl)
theorem dX5_person_32 : decode cX5_person 32 = .ok (.getfield 85, 3) := dk_180 0 85 (dk_at dksX5_person_1 8 rfl rfl)
theorem dX5_person_35 : decode cX5_person 35 = .ok (.bipush 7, 2) := dk_16 7 (dk_at dksX5_person_1 11 rfl rfl)
theorem dX5_person_37 : decode cX5_person 37 = .ok (.if_icmp .ne 10, 3) := dk_160 0 10 (dk_at dksX5_person_1 13 rfl rfl)
theorem dX5_person_40 : decode cX5_person 40 = .ok (.aload_n 0, 1) := dk_42 (dk_at dksX5_person_1 16 rfl rfl)
theorem dX5_person_41 : decode cX5_person 41 = .ok (.bipush (-6), 2) := dk_16 250 (dk_at dksX5_person_1 17 rfl rfl)
theorem dX5_person_43 : decode cX5_person 43 = .ok (.invokevirtual 102, 3) := dk_182 0 102 (dk_at dksX5_person_1 19 rfl rfl)
theorem dX5_person_46 : decode cX5_person 46 = .ok (.ireturn, 1) := dk_172 (dk_at dksX5_person_1 22 rfl rfl)
theorem dX5_person_47 : decode cX5_person 47 = .ok (.aload_n 0, 1) := dk_42 (dk_at dksX5_person_1 23 rfl rfl)
theorem dX5_person_48 : decode cX5_person 48 = .ok (.iload_n 1, 1) := dk_27 (dk_at dksX5_person_2 0 rfl rfl)
theorem dX5_person_49 : decode cX5_person 49 = .ok (.iload_n 2, 1) := dk_28 (dk_at dksX5_person_2 1 rfl rfl)
theorem dX5_person_50 : decode cX5_person 50 = .ok (.invokevirtual 127, 3) := dk_182 0 127 (dk_at dksX5_person_2 2 rfl rfl)
theorem dX5_person_53 : decode cX5_person 53 = .ok (.aload_n 0, 1) := dk_42 (dk_at dksX5_person_2 5 rfl rfl)
theorem dX5_person_54 : decode cX5_person 54 = .ok (.getfield 85, 3) := dk_180 0 85 (dk_at dksX5_person_2 6 rfl rfl)
theorem dX5_person_57 : decode cX5_person 57 = .ok (.iconst 1, 1) := dk_4 (dk_at dksX5_person_2 9 rfl rfl)
theorem dX5_person_58 : decode cX5_person 58 = .ok (.isub, 1) := dk_100 (dk_at dksX5_person_2 10 rfl rfl)
theorem dX5_person_59 : decode cX5_person 59 = .ok (.ireturn, 1) := dk_172 (dk_at dksX5_person_2 11 rfl rfl)
abbrev cX5_addOne : ByteArray := prog_18_method_20_code
def yX5_addOne : MethodName := ⟨RX5, "addOne", "(II)V"⟩
def dkwX5_addOne_2 : List UInt8 := [42, 180, 0, 85, 2, 79, 132, 3, 1, 167, 255, 221, 42, 89, 180, 0, 85, 4, 96, 181, 0, 85, 177]
abbrev dktX5_addOne_2 : List UInt8 := dkwX5_addOne_2 ++ []
def dkwX5_addOne_1 : List UInt8 := [180, 0, 85, 162, 0, 33, 42, 180, 0, 48, 42, 180, 0, 85, 50, 29, 2, 79, 42, 180, 0, 48, 29, 50]
abbrev dktX5_addOne_1 : List UInt8 := dkwX5_addOne_1 ++ dktX5_addOne_2
def dkwX5_addOne_0 : List UInt8 := [42, 180, 0, 40, 42, 180, 0, 85, 27, 79, 42, 180, 0, 43, 42, 180, 0, 85, 28, 79, 3, 62, 29, 42]
abbrev dktX5_addOne_0 : List UInt8 := dkwX5_addOne_0 ++ dktX5_addOne_1
theorem dksX5_addOne_0 : cX5_addOne.data.toList.drop 0 = dktX5_addOne_0 := by decide +kernel
theorem dksX5_addOne_1 : cX5_addOne.data.toList.drop 24 = dktX5_addOne_1 := dk_seg dksX5_addOne_0 24 rfl rfl
theorem dksX5_addOne_2 : cX5_addOne.data.toList.drop 48 = dktX5_addOne_2 := dk_seg dksX5_addOne_1 24 rfl rfl
theorem dX5_addOne_0 : decode cX5_addOne 0 = .ok (.aload_n 0, 1) := dk_42 (dk_at dksX5_addOne_0 0 rfl rfl)
theorem dX5_addOne_1 : decode cX5_addOne 1 = .ok (.getfield 40, 3) := dk_180 0 40 (dk_at dksX5_addOne_0 1 rfl rfl)
theorem dX5_addOne_4 : decode cX5_addOne 4 = .ok (.aload_n 0, 1) := dk_42 (dk_at dksX5_addOne_0 4 rfl rfl)
theorem dX5_addOne_5 : decode cX5_addOne 5 = .ok (.getfield 85, 3) := dk_180 0 85 (dk_at dksX5_addOne_0 5 rfl rfl)
theorem dX5_addOne_8 : decode cX5_addOne 8 = .ok (.iload_n 1, 1) := dk_27 (dk_at dksX5_addOne_0 8 rfl rfl)
theorem dX5_addOne_9 : decode cX5_addOne 9 = .ok (.iastore, 1) := dk_79 (dk_at dksX5_addOne_0 9 rfl rfl)
theorem dX5_addOne_10 : decode cX5_addOne 10 = .ok (.aload_n 0, 1) := dk_42 (dk_at dksX5_addOne_0 10 rfl rfl)
theorem dX5_addOne_11 : decode cX5_addOne 11 = .ok (.getfield 43, 3) := dk_180 0 43 (dk_at dksX5_addOne_0 11 rfl rfl)
theorem dX5_addOne_14 : decode cX5_addOne 14 = .ok (.aload_n 0, 1) := dk_42 (dk_at dksX5_addOne_0 14 rfl rfl)
theorem dX5_addOne_15 : decode cX5_addOne 15 = .ok (.getfield 85, 3) := dk_180 0 85 (dk_at dksX5_addOne_0 15 rfl rfl)
theorem dX5_addOne_18 : decode cX5_addOne 18 = .ok (.iload_n 2, 1) := dk_28 (dk_at dksX5_addOne_0 18 rfl rfl)
theorem dX5_addOne_19 : decode cX5_addOne 19 = .ok (.iastore, 1) := dk_79 (dk_at dksX5_addOne_0 19 rfl rfl)
theorem dX5_addOne_20 : decode cX5_addOne 20 = .ok (.iconst 0, 1) := dk_3 (dk_at dksX5_addOne_0 20 rfl rfl)
theorem dX5_addOne_21 : decode cX5_addOne 21 = .ok (.istore_n 3, 1) := dk_62 (dk_at dksX5_addOne_0 21 rfl rfl)
theorem dX5_addOne_22 : decode cX5_addOne 22 = .ok (.iload_n 3, 1) := dk_29 (dk_at dksX5_addOne_0 22 rfl rfl)
theorem dX5_addOne_23 : decode cX5_addOne 23 = .ok (.aload_n 0, 1) := dk_42 (dk_at dksX5_addOne_0 23 rfl rfl)
theorem dX5_addOne_24 : decode cX5_addOne 24 = .ok (.getfield 85, 3) := dk_180 0 85 (dk_at dksX5_addOne_1 0 rfl rfl)
theorem dX5_addOne_27 : decode cX5_addOne 27 = .ok (.if_icmp .ge 33, 3) := dk_162 0 33 (dk_at dksX5_addOne_1 3 rfl rfl)
theorem dX5_addOne_30 : decode cX5_addOne 30 = .ok (.aload_n 0, 1) := dk_42 (dk_at dksX5_addOne_1 6 rfl rfl)
theorem dX5_addOne_31 : decode cX5_addOne 31 = .ok (.getfield 48, 3) := dk_180 0 48 (dk_at dksX5_addOne_1 7 rfl rfl)
theorem dX5_addOne_34 : decode cX5_addOne 34 = .ok (.aload_n 0, 1) := dk_42 (dk_at dksX5_addOne_1 10 rfl rfl)
theorem dX5_addOne_35 : decode cX5_addOne 35 = .ok (.getfield 85, 3) := dk_180 0 85 (dk_at dksX5_addOne_1 11 rfl rfl)
theorem dX5_addOne_38 : decode cX5_addOne 38 = .ok (.aaload, 1) := dk_50 (dk_at dksX5_addOne_1 14 rfl rfl)
theorem dX5_addOne_39 : decode cX5_addOne 39 = .ok (.iload_n 3, 1) := dk_29 (dk_at dksX5_addOne_1 15 rfl rfl)
theorem dX5_addOne_40 : decode cX5_addOne 40 = .ok (.iconst (-1), 1) := dk_2 (dk_at dksX5_addOne_1 16 rfl rfl)
theorem dX5_addOne_41 : decode cX5_addOne 41 = .ok (.iastore, 1) := dk_79 (dk_at dksX5_addOne_1 17 rfl rfl)
theorem dX5_addOne_42 : decode cX5_addOne 42 = .ok (.aload_n 0, 1) := dk_42 (dk_at dksX5_addOne_1 18 rfl rfl)
theorem dX5_addOne_43 : decode cX5_addOne 43 = .ok (.getfield 48, 3) := dk_180 0 48 (dk_at dksX5_addOne_1 19 rfl rfl)
theorem dX5_addOne_46 : decode cX5_addOne 46 = .ok (.iload_n 3, 1) := dk_29 (dk_at dksX5_addOne_1 22 rfl rfl)
theorem dX5_addOne_47 : decode cX5_addOne 47 = .ok (.aaload, 1) := dk_50 (dk_at dksX5_addOne_1 23 rfl rfl)
theorem dX5_addOne_48 : decode cX5_addOne 48 = .ok (.aload_n 0, 1) := dk_42 (dk_at dksX5_addOne_2 0 rfl rfl)
theorem dX5_addOne_49 : decode cX5_addOne 49 = .ok (.getfield 85, 3) := dk_180 0 85 (dk_at dksX5_addOne_2 1 rfl rfl)
theorem dX5_addOne_52 : decode cX5_addOne 52 = .ok (.iconst (-1), 1) := dk_2 (dk_at dksX5_addOne_2 4 rfl rfl)
theorem dX5_addOne_53 : decode cX5_addOne 53 = .ok (.iastore, 1) := dk_79 (dk_at dksX5_addOne_2 5 rfl rfl)
theorem dX5_addOne_54 : decode cX5_addOne 54 = .ok (.iinc 3 1, 3) := dk_132 3 1 (dk_at dksX5_addOne_2 6 rfl rfl)
theorem dX5_addOne_57 : decode cX5_addOne 57 = .ok (.goto (-35), 3) := dk_167 255 221 (dk_at dksX5_addOne_2 9 rfl rfl)
theorem dX5_addOne_60 : decode cX5_addOne 60 = .ok (.aload_n 0, 1) := dk_42 (dk_at dksX5_addOne_2 12 rfl rfl)
theorem dX5_addOne_61 : decode cX5_addOne 61 = .ok (.dup, 1) := dk_89 (dk_at dksX5_addOne_2 13 rfl rfl)
theorem dX5_addOne_62 : decode cX5_addOne 62 = .ok (.getfield 85, 3) := dk_180 0 85 (dk_at dksX5_addOne_2 14 rfl rfl)
theorem dX5_addOne_65 : decode cX5_addOne 65 = .ok (.iconst 1, 1) := dk_4 (dk_at dksX5_addOne_2 17 rfl rfl)
theorem dX5_addOne_66 : decode cX5_addOne 66 = .ok (.iadd, 1) := dk_96 (dk_at dksX5_addOne_2 18 rfl rfl)
theorem dX5_addOne_67 : decode cX5_addOne 67 = .ok (.putfield 85, 3) := dk_181 0 85 (dk_at dksX5_addOne_2 19 rfl rfl)
theorem dX5_addOne_70 : decode cX5_addOne 70 = .ok (.return_, 1) := dk_177 (dk_at dksX5_addOne_2 22 rfl rfl)
abbrev cX5_change : ByteArray := prog_18_method_22_code
def yX5_change : MethodName := ⟨RX5, "change", "(III)I"⟩
def dkwX5_change_3 : List UInt8 := [154, 0, 13, 42, 180, 0, 40, 27, 29, 79, 167, 0, 10, 42, 180, 0, 43, 27, 29, 79, 21, 4, 172]
abbrev dktX5_change_3 : List UInt8 := dkwX5_change_3 ++ []
def dkwX5_change_2 : List UInt8 := [172, 28, 154, 0, 12, 42, 180, 0, 40, 27, 46, 167, 0, 9, 42, 180, 0, 43, 27, 46, 54, 4, 28]
abbrev dktX5_change_2 : List UInt8 := dkwX5_change_2 ++ dktX5_change_3
def dkwX5_change_1 : List UInt8 := [154, 0, 9, 20, 0, 125, 167, 0, 6, 20, 0, 115, 184, 0, 88, 154, 0, 10, 42, 16, 254, 182, 0, 102]
abbrev dktX5_change_1 : List UInt8 := dkwX5_change_1 ++ dktX5_change_2
def dkwX5_change_0 : List UInt8 := [42, 27, 182, 0, 131, 153, 0, 35, 28, 133, 9, 10, 184, 0, 88, 153, 0, 25, 29, 133, 9, 28]
abbrev dktX5_change_0 : List UInt8 := dkwX5_change_0 ++ dktX5_change_1
theorem dksX5_change_0 : cX5_change.data.toList.drop 0 = dktX5_change_0 := by decide +kernel
theorem dksX5_change_1 : cX5_change.data.toList.drop 22 = dktX5_change_1 := dk_seg dksX5_change_0 22 rfl rfl
theorem dksX5_change_2 : cX5_change.data.toList.drop 46 = dktX5_change_2 := dk_seg dksX5_change_1 24 rfl rfl
theorem dksX5_change_3 : cX5_change.data.toList.drop 69 = dktX5_change_3 := dk_seg dksX5_change_2 23 rfl rfl
theorem dX5_change_0 : decode cX5_change 0 = .ok (.aload_n 0, 1) := dk_42 (dk_at dksX5_change_0 0 rfl rfl)
theorem dX5_change_1 : decode cX5_change 1 = .ok (.iload_n 1, 1) := dk_27 (dk_at dksX5_change_0 1 rfl rfl)
theorem dX5_change_2 : decode cX5_change 2 = .ok (.invokevirtual 131, 3) := dk_182 0 131 (dk_at dksX5_change_0 2 rfl rfl)
theorem dX5_change_5 : decode cX5_change 5 = .ok (.ifCond .eq 35, 3) := dk_153 0 35 (dk_at dksX5_change_0 5 rfl rfl)
theorem dX5_change_8 : decode cX5_change 8 = .ok (.iload_n 2, 1) := dk_28 (dk_at dksX5_change_0 8 rfl rfl)
theorem dX5_change_9 : decode cX5_change 9 = .ok (.i2l, 1) := dk_133 (dk_at dksX5_change_0 9 rfl rfl)
theorem dX5_change_10 : decode cX5_change 10 = .ok (.lconst 0, 1) := dk_9 (dk_at dksX5_change_0 10 rfl rfl)
theorem dX5_change_11 : decode cX5_change 11 = .ok (.lconst 1, 1) := dk_10 (dk_at dksX5_change_0 11 rfl rfl)
theorem dX5_change_12 : decode cX5_change 12 = .ok (.invokestatic 88, 3) := dk_184 0 88 (dk_at dksX5_change_0 12 rfl rfl)
theorem dX5_change_15 : decode cX5_change 15 = .ok (.ifCond .eq 25, 3) := dk_153 0 25 (dk_at dksX5_change_0 15 rfl rfl)
theorem dX5_change_18 : decode cX5_change 18 = .ok (.iload_n 3, 1) := dk_29 (dk_at dksX5_change_0 18 rfl rfl)
theorem dX5_change_19 : decode cX5_change 19 = .ok (.i2l, 1) := dk_133 (dk_at dksX5_change_0 19 rfl rfl)
theorem dX5_change_20 : decode cX5_change 20 = .ok (.lconst 0, 1) := dk_9 (dk_at dksX5_change_0 20 rfl rfl)
theorem dX5_change_21 : decode cX5_change 21 = .ok (.iload_n 2, 1) := dk_28 (dk_at dksX5_change_0 21 rfl rfl)
theorem dX5_change_22 : decode cX5_change 22 = .ok (.ifCond .ne 9, 3) := dk_154 0 9 (dk_at dksX5_change_1 0 rfl rfl)
theorem dX5_change_25 : decode cX5_change 25 = .ok (.ldc2_w 125, 3) := dk_20 0 125 (dk_at dksX5_change_1 3 rfl rfl)
theorem dX5_change_28 : decode cX5_change 28 = .ok (.goto 6, 3) := dk_167 0 6 (dk_at dksX5_change_1 6 rfl rfl)
theorem dX5_change_31 : decode cX5_change 31 = .ok (.ldc2_w 115, 3) := dk_20 0 115 (dk_at dksX5_change_1 9 rfl rfl)
theorem dX5_change_34 : decode cX5_change 34 = .ok (.invokestatic 88, 3) := dk_184 0 88 (dk_at dksX5_change_1 12 rfl rfl)
theorem dX5_change_37 : decode cX5_change 37 = .ok (.ifCond .ne 10, 3) := dk_154 0 10 (dk_at dksX5_change_1 15 rfl rfl)
theorem dX5_change_40 : decode cX5_change 40 = .ok (.aload_n 0, 1) := dk_42 (dk_at dksX5_change_1 18 rfl rfl)
theorem dX5_change_41 : decode cX5_change 41 = .ok (.bipush (-2), 2) := dk_16 254 (dk_at dksX5_change_1 19 rfl rfl)
theorem dX5_change_43 : decode cX5_change 43 = .ok (.invokevirtual 102, 3) := dk_182 0 102 (dk_at dksX5_change_1 21 rfl rfl)
theorem dX5_change_46 : decode cX5_change 46 = .ok (.ireturn, 1) := dk_172 (dk_at dksX5_change_2 0 rfl rfl)
theorem dX5_change_47 : decode cX5_change 47 = .ok (.iload_n 2, 1) := dk_28 (dk_at dksX5_change_2 1 rfl rfl)
theorem dX5_change_48 : decode cX5_change 48 = .ok (.ifCond .ne 12, 3) := dk_154 0 12 (dk_at dksX5_change_2 2 rfl rfl)
theorem dX5_change_51 : decode cX5_change 51 = .ok (.aload_n 0, 1) := dk_42 (dk_at dksX5_change_2 5 rfl rfl)
theorem dX5_change_52 : decode cX5_change 52 = .ok (.getfield 40, 3) := dk_180 0 40 (dk_at dksX5_change_2 6 rfl rfl)
theorem dX5_change_55 : decode cX5_change 55 = .ok (.iload_n 1, 1) := dk_27 (dk_at dksX5_change_2 9 rfl rfl)
theorem dX5_change_56 : decode cX5_change 56 = .ok (.iaload, 1) := dk_46 (dk_at dksX5_change_2 10 rfl rfl)
theorem dX5_change_57 : decode cX5_change 57 = .ok (.goto 9, 3) := dk_167 0 9 (dk_at dksX5_change_2 11 rfl rfl)
theorem dX5_change_60 : decode cX5_change 60 = .ok (.aload_n 0, 1) := dk_42 (dk_at dksX5_change_2 14 rfl rfl)
theorem dX5_change_61 : decode cX5_change 61 = .ok (.getfield 43, 3) := dk_180 0 43 (dk_at dksX5_change_2 15 rfl rfl)
theorem dX5_change_64 : decode cX5_change 64 = .ok (.iload_n 1, 1) := dk_27 (dk_at dksX5_change_2 18 rfl rfl)
theorem dX5_change_65 : decode cX5_change 65 = .ok (.iaload, 1) := dk_46 (dk_at dksX5_change_2 19 rfl rfl)
theorem dX5_change_66 : decode cX5_change 66 = .ok (.istore 4, 2) := dk_54 4 (dk_at dksX5_change_2 20 rfl rfl)
theorem dX5_change_68 : decode cX5_change 68 = .ok (.iload_n 2, 1) := dk_28 (dk_at dksX5_change_2 22 rfl rfl)
theorem dX5_change_69 : decode cX5_change 69 = .ok (.ifCond .ne 13, 3) := dk_154 0 13 (dk_at dksX5_change_3 0 rfl rfl)
theorem dX5_change_72 : decode cX5_change 72 = .ok (.aload_n 0, 1) := dk_42 (dk_at dksX5_change_3 3 rfl rfl)
theorem dX5_change_73 : decode cX5_change 73 = .ok (.getfield 40, 3) := dk_180 0 40 (dk_at dksX5_change_3 4 rfl rfl)
theorem dX5_change_76 : decode cX5_change 76 = .ok (.iload_n 1, 1) := dk_27 (dk_at dksX5_change_3 7 rfl rfl)
theorem dX5_change_77 : decode cX5_change 77 = .ok (.iload_n 3, 1) := dk_29 (dk_at dksX5_change_3 8 rfl rfl)
theorem dX5_change_78 : decode cX5_change 78 = .ok (.iastore, 1) := dk_79 (dk_at dksX5_change_3 9 rfl rfl)
theorem dX5_change_79 : decode cX5_change 79 = .ok (.goto 10, 3) := dk_167 0 10 (dk_at dksX5_change_3 10 rfl rfl)
theorem dX5_change_82 : decode cX5_change 82 = .ok (.aload_n 0, 1) := dk_42 (dk_at dksX5_change_3 13 rfl rfl)
theorem dX5_change_83 : decode cX5_change 83 = .ok (.getfield 43, 3) := dk_180 0 43 (dk_at dksX5_change_3 14 rfl rfl)
theorem dX5_change_86 : decode cX5_change 86 = .ok (.iload_n 1, 1) := dk_27 (dk_at dksX5_change_3 17 rfl rfl)
theorem dX5_change_87 : decode cX5_change 87 = .ok (.iload_n 3, 1) := dk_29 (dk_at dksX5_change_3 18 rfl rfl)
theorem dX5_change_88 : decode cX5_change 88 = .ok (.iastore, 1) := dk_79 (dk_at dksX5_change_3 19 rfl rfl)
theorem dX5_change_89 : decode cX5_change 89 = .ok (.iload 4, 2) := dk_21 4 (dk_at dksX5_change_3 20 rfl rfl)
theorem dX5_change_91 : decode cX5_change 91 = .ok (.ireturn, 1) := dk_172 (dk_at dksX5_change_3 22 rfl rfl)
abbrev cX5_isOne : ByteArray := prog_18_method_4_code
def yX5_isOne : MethodName := ⟨RX5, "isOne", "(I)Z"⟩
def dkwX5_isOne_0 : List UInt8 := [27, 133, 9, 42, 180, 0, 85, 4, 100, 133, 184, 0, 88, 172]
abbrev dktX5_isOne_0 : List UInt8 := dkwX5_isOne_0 ++ []
theorem dksX5_isOne_0 : cX5_isOne.data.toList.drop 0 = dktX5_isOne_0 := by decide +kernel
theorem dX5_isOne_0 : decode cX5_isOne 0 = .ok (.iload_n 1, 1) := dk_27 (dk_at dksX5_isOne_0 0 rfl rfl)
theorem dX5_isOne_1 : decode cX5_isOne 1 = .ok (.i2l, 1) := dk_133 (dk_at dksX5_isOne_0 1 rfl rfl)
theorem dX5_isOne_2 : decode cX5_isOne 2 = .ok (.lconst 0, 1) := dk_9 (dk_at dksX5_isOne_0 2 rfl rfl)
theorem dX5_isOne_3 : decode cX5_isOne 3 = .ok (.aload_n 0, 1) := dk_42 (dk_at dksX5_isOne_0 3 rfl rfl)
theorem dX5_isOne_4 : decode cX5_isOne 4 = .ok (.getfield 85, 3) := dk_180 0 85 (dk_at dksX5_isOne_0 4 rfl rfl)
theorem dX5_isOne_7 : decode cX5_isOne 7 = .ok (.iconst 1, 1) := dk_4 (dk_at dksX5_isOne_0 7 rfl rfl)
theorem dX5_isOne_8 : decode cX5_isOne 8 = .ok (.isub, 1) := dk_100 (dk_at dksX5_isOne_0 8 rfl rfl)
theorem dX5_isOne_9 : decode cX5_isOne 9 = .ok (.i2l, 1) := dk_133 (dk_at dksX5_isOne_0 9 rfl rfl)
theorem dX5_isOne_10 : decode cX5_isOne 10 = .ok (.invokestatic 88, 3) := dk_184 0 88 (dk_at dksX5_isOne_0 10 rfl rfl)
theorem dX5_isOne_13 : decode cX5_isOne 13 = .ok (.ireturn, 1) := dk_172 (dk_at dksX5_isOne_0 13 rfl rfl)
abbrev cX5_know : ByteArray := prog_18_method_25_code
def yX5_know : MethodName := ⟨RX5, "know", "(III)I"⟩
def dkwX5_know_2 : List UInt8 := [21, 4, 172]
abbrev dktX5_know_2 : List UInt8 := dkwX5_know_2 ++ []
def dkwX5_know_1 : List UInt8 := [16, 254, 182, 0, 102, 172, 42, 180, 0, 48, 27, 50, 28, 46, 54, 4, 42, 27, 28, 29, 182, 0, 142]
abbrev dktX5_know_1 : List UInt8 := dkwX5_know_1 ++ dktX5_know_2
def dkwX5_know_0 : List UInt8 := [42, 27, 28, 182, 0, 135, 153, 0, 17, 29, 133, 20, 0, 138, 20, 0, 140, 184, 0, 88, 154, 0, 10, 42]
abbrev dktX5_know_0 : List UInt8 := dkwX5_know_0 ++ dktX5_know_1
theorem dksX5_know_0 : cX5_know.data.toList.drop 0 = dktX5_know_0 := by decide +kernel
theorem dksX5_know_1 : cX5_know.data.toList.drop 24 = dktX5_know_1 := dk_seg dksX5_know_0 24 rfl rfl
theorem dksX5_know_2 : cX5_know.data.toList.drop 47 = dktX5_know_2 := dk_seg dksX5_know_1 23 rfl rfl
theorem dX5_know_0 : decode cX5_know 0 = .ok (.aload_n 0, 1) := dk_42 (dk_at dksX5_know_0 0 rfl rfl)
theorem dX5_know_1 : decode cX5_know 1 = .ok (.iload_n 1, 1) := dk_27 (dk_at dksX5_know_0 1 rfl rfl)
theorem dX5_know_2 : decode cX5_know 2 = .ok (.iload_n 2, 1) := dk_28 (dk_at dksX5_know_0 2 rfl rfl)
theorem dX5_know_3 : decode cX5_know 3 = .ok (.invokevirtual 135, 3) := dk_182 0 135 (dk_at dksX5_know_0 3 rfl rfl)
theorem dX5_know_6 : decode cX5_know 6 = .ok (.ifCond .eq 17, 3) := dk_153 0 17 (dk_at dksX5_know_0 6 rfl rfl)
theorem dX5_know_9 : decode cX5_know 9 = .ok (.iload_n 3, 1) := dk_29 (dk_at dksX5_know_0 9 rfl rfl)
theorem dX5_know_10 : decode cX5_know 10 = .ok (.i2l, 1) := dk_133 (dk_at dksX5_know_0 10 rfl rfl)
theorem dX5_know_11 : decode cX5_know 11 = .ok (.ldc2_w 138, 3) := dk_20 0 138 (dk_at dksX5_know_0 11 rfl rfl)
theorem dX5_know_14 : decode cX5_know 14 = .ok (.ldc2_w 140, 3) := dk_20 0 140 (dk_at dksX5_know_0 14 rfl rfl)
theorem dX5_know_17 : decode cX5_know 17 = .ok (.invokestatic 88, 3) := dk_184 0 88 (dk_at dksX5_know_0 17 rfl rfl)
theorem dX5_know_20 : decode cX5_know 20 = .ok (.ifCond .ne 10, 3) := dk_154 0 10 (dk_at dksX5_know_0 20 rfl rfl)
theorem dX5_know_23 : decode cX5_know 23 = .ok (.aload_n 0, 1) := dk_42 (dk_at dksX5_know_0 23 rfl rfl)
theorem dX5_know_24 : decode cX5_know 24 = .ok (.bipush (-2), 2) := dk_16 254 (dk_at dksX5_know_1 0 rfl rfl)
theorem dX5_know_26 : decode cX5_know 26 = .ok (.invokevirtual 102, 3) := dk_182 0 102 (dk_at dksX5_know_1 2 rfl rfl)
theorem dX5_know_29 : decode cX5_know 29 = .ok (.ireturn, 1) := dk_172 (dk_at dksX5_know_1 5 rfl rfl)
theorem dX5_know_30 : decode cX5_know 30 = .ok (.aload_n 0, 1) := dk_42 (dk_at dksX5_know_1 6 rfl rfl)
theorem dX5_know_31 : decode cX5_know 31 = .ok (.getfield 48, 3) := dk_180 0 48 (dk_at dksX5_know_1 7 rfl rfl)
theorem dX5_know_34 : decode cX5_know 34 = .ok (.iload_n 1, 1) := dk_27 (dk_at dksX5_know_1 10 rfl rfl)
theorem dX5_know_35 : decode cX5_know 35 = .ok (.aaload, 1) := dk_50 (dk_at dksX5_know_1 11 rfl rfl)
theorem dX5_know_36 : decode cX5_know 36 = .ok (.iload_n 2, 1) := dk_28 (dk_at dksX5_know_1 12 rfl rfl)
theorem dX5_know_37 : decode cX5_know 37 = .ok (.iaload, 1) := dk_46 (dk_at dksX5_know_1 13 rfl rfl)
theorem dX5_know_38 : decode cX5_know 38 = .ok (.istore 4, 2) := dk_54 4 (dk_at dksX5_know_1 14 rfl rfl)
theorem dX5_know_40 : decode cX5_know 40 = .ok (.aload_n 0, 1) := dk_42 (dk_at dksX5_know_1 16 rfl rfl)
theorem dX5_know_41 : decode cX5_know 41 = .ok (.iload_n 1, 1) := dk_27 (dk_at dksX5_know_1 17 rfl rfl)
theorem dX5_know_42 : decode cX5_know 42 = .ok (.iload_n 2, 1) := dk_28 (dk_at dksX5_know_1 18 rfl rfl)
theorem dX5_know_43 : decode cX5_know 43 = .ok (.iload_n 3, 1) := dk_29 (dk_at dksX5_know_1 19 rfl rfl)
theorem dX5_know_44 : decode cX5_know 44 = .ok (.invokevirtual 142, 3) := dk_182 0 142 (dk_at dksX5_know_1 20 rfl rfl)
theorem dX5_know_47 : decode cX5_know 47 = .ok (.iload 4, 2) := dk_21 4 (dk_at dksX5_know_2 0 rfl rfl)
theorem dX5_know_49 : decode cX5_know 49 = .ok (.ireturn, 1) := dk_172 (dk_at dksX5_know_2 2 rfl rfl)
abbrev cX5_areTwo : ByteArray := prog_18_method_24_code
def yX5_areTwo : MethodName := ⟨RX5, "areTwo", "(II)Z"⟩
def dkwX5_areTwo_1 : List UInt8 := [167, 0, 4, 3, 172]
abbrev dktX5_areTwo_1 : List UInt8 := dkwX5_areTwo_1 ++ []
def dkwX5_areTwo_0 : List UInt8 := [42, 27, 182, 0, 131, 153, 0, 20, 42, 28, 182, 0, 131, 153, 0, 12, 27, 28, 159, 0, 7, 4]
abbrev dktX5_areTwo_0 : List UInt8 := dkwX5_areTwo_0 ++ dktX5_areTwo_1
theorem dksX5_areTwo_0 : cX5_areTwo.data.toList.drop 0 = dktX5_areTwo_0 := by decide +kernel
theorem dksX5_areTwo_1 : cX5_areTwo.data.toList.drop 22 = dktX5_areTwo_1 := dk_seg dksX5_areTwo_0 22 rfl rfl
theorem dX5_areTwo_0 : decode cX5_areTwo 0 = .ok (.aload_n 0, 1) := dk_42 (dk_at dksX5_areTwo_0 0 rfl rfl)
theorem dX5_areTwo_1 : decode cX5_areTwo 1 = .ok (.iload_n 1, 1) := dk_27 (dk_at dksX5_areTwo_0 1 rfl rfl)
theorem dX5_areTwo_2 : decode cX5_areTwo 2 = .ok (.invokevirtual 131, 3) := dk_182 0 131 (dk_at dksX5_areTwo_0 2 rfl rfl)
theorem dX5_areTwo_5 : decode cX5_areTwo 5 = .ok (.ifCond .eq 20, 3) := dk_153 0 20 (dk_at dksX5_areTwo_0 5 rfl rfl)
theorem dX5_areTwo_8 : decode cX5_areTwo 8 = .ok (.aload_n 0, 1) := dk_42 (dk_at dksX5_areTwo_0 8 rfl rfl)
theorem dX5_areTwo_9 : decode cX5_areTwo 9 = .ok (.iload_n 2, 1) := dk_28 (dk_at dksX5_areTwo_0 9 rfl rfl)
theorem dX5_areTwo_10 : decode cX5_areTwo 10 = .ok (.invokevirtual 131, 3) := dk_182 0 131 (dk_at dksX5_areTwo_0 10 rfl rfl)
theorem dX5_areTwo_13 : decode cX5_areTwo 13 = .ok (.ifCond .eq 12, 3) := dk_153 0 12 (dk_at dksX5_areTwo_0 13 rfl rfl)
theorem dX5_areTwo_16 : decode cX5_areTwo 16 = .ok (.iload_n 1, 1) := dk_27 (dk_at dksX5_areTwo_0 16 rfl rfl)
theorem dX5_areTwo_17 : decode cX5_areTwo 17 = .ok (.iload_n 2, 1) := dk_28 (dk_at dksX5_areTwo_0 17 rfl rfl)
theorem dX5_areTwo_18 : decode cX5_areTwo 18 = .ok (.if_icmp .eq 7, 3) := dk_159 0 7 (dk_at dksX5_areTwo_0 18 rfl rfl)
theorem dX5_areTwo_21 : decode cX5_areTwo 21 = .ok (.iconst 1, 1) := dk_4 (dk_at dksX5_areTwo_0 21 rfl rfl)
theorem dX5_areTwo_22 : decode cX5_areTwo 22 = .ok (.goto 4, 3) := dk_167 0 4 (dk_at dksX5_areTwo_1 0 rfl rfl)
theorem dX5_areTwo_25 : decode cX5_areTwo 25 = .ok (.iconst 0, 1) := dk_3 (dk_at dksX5_areTwo_1 3 rfl rfl)
theorem dX5_areTwo_26 : decode cX5_areTwo 26 = .ok (.ireturn, 1) := dk_172 (dk_at dksX5_areTwo_1 4 rfl rfl)
abbrev cX5_knows : ByteArray := prog_18_method_23_code
def yX5_knows : MethodName := ⟨RX5, "knows", "(III)V"⟩
def dkwX5_knows_0 : List UInt8 := [42, 180, 0, 48, 27, 50, 28, 29, 79, 42, 180, 0, 48, 28, 50, 27, 29, 79, 177]
abbrev dktX5_knows_0 : List UInt8 := dkwX5_knows_0 ++ []
theorem dksX5_knows_0 : cX5_knows.data.toList.drop 0 = dktX5_knows_0 := by decide +kernel
theorem dX5_knows_0 : decode cX5_knows 0 = .ok (.aload_n 0, 1) := dk_42 (dk_at dksX5_knows_0 0 rfl rfl)
theorem dX5_knows_1 : decode cX5_knows 1 = .ok (.getfield 48, 3) := dk_180 0 48 (dk_at dksX5_knows_0 1 rfl rfl)
theorem dX5_knows_4 : decode cX5_knows 4 = .ok (.iload_n 1, 1) := dk_27 (dk_at dksX5_knows_0 4 rfl rfl)
theorem dX5_knows_5 : decode cX5_knows 5 = .ok (.aaload, 1) := dk_50 (dk_at dksX5_knows_0 5 rfl rfl)
theorem dX5_knows_6 : decode cX5_knows 6 = .ok (.iload_n 2, 1) := dk_28 (dk_at dksX5_knows_0 6 rfl rfl)
theorem dX5_knows_7 : decode cX5_knows 7 = .ok (.iload_n 3, 1) := dk_29 (dk_at dksX5_knows_0 7 rfl rfl)
theorem dX5_knows_8 : decode cX5_knows 8 = .ok (.iastore, 1) := dk_79 (dk_at dksX5_knows_0 8 rfl rfl)
theorem dX5_knows_9 : decode cX5_knows 9 = .ok (.aload_n 0, 1) := dk_42 (dk_at dksX5_knows_0 9 rfl rfl)
theorem dX5_knows_10 : decode cX5_knows 10 = .ok (.getfield 48, 3) := dk_180 0 48 (dk_at dksX5_knows_0 10 rfl rfl)
theorem dX5_knows_13 : decode cX5_knows 13 = .ok (.iload_n 2, 1) := dk_28 (dk_at dksX5_knows_0 13 rfl rfl)
theorem dX5_knows_14 : decode cX5_knows 14 = .ok (.aaload, 1) := dk_50 (dk_at dksX5_knows_0 14 rfl rfl)
theorem dX5_knows_15 : decode cX5_knows 15 = .ok (.iload_n 1, 1) := dk_27 (dk_at dksX5_knows_0 15 rfl rfl)
theorem dX5_knows_16 : decode cX5_knows 16 = .ok (.iload_n 3, 1) := dk_29 (dk_at dksX5_knows_0 16 rfl rfl)
theorem dX5_knows_17 : decode cX5_knows 17 = .ok (.iastore, 1) := dk_79 (dk_at dksX5_knows_0 17 rfl rfl)
theorem dX5_knows_18 : decode cX5_knows 18 = .ok (.return_, 1) := dk_177 (dk_at dksX5_knows_0 18 rfl rfl)
abbrev cX5_ask : ByteArray := prog_18_method_26_code
def yX5_ask : MethodName := ⟨RX5, "ask", "(II)I"⟩
def dkwX5_ask_3 : List UInt8 := [181, 0, 51, 167, 0, 8, 42, 28, 181, 0, 148, 29, 172]
abbrev dktX5_ask_3 : List UInt8 := dkwX5_ask_3 ++ []
def dkwX5_ask_2 : List UInt8 := [172, 27, 154, 0, 10, 42, 180, 0, 51, 167, 0, 7, 42, 180, 0, 148, 62, 27, 154, 0, 11, 42, 28]
abbrev dktX5_ask_2 : List UInt8 := dkwX5_ask_2 ++ dktX5_ask_3
def dkwX5_ask_1 : List UInt8 := [154, 0, 9, 20, 0, 98, 167, 0, 6, 20, 0, 140, 184, 0, 88, 154, 0, 10, 42, 16, 254, 182, 0, 102]
abbrev dktX5_ask_1 : List UInt8 := dkwX5_ask_1 ++ dktX5_ask_2
def dkwX5_ask_0 : List UInt8 := [27, 133, 9, 10, 184, 0, 88, 153, 0, 35, 28, 133, 27, 154, 0, 9, 20, 0, 146, 167, 0, 4, 9, 27]
abbrev dktX5_ask_0 : List UInt8 := dkwX5_ask_0 ++ dktX5_ask_1
theorem dksX5_ask_0 : cX5_ask.data.toList.drop 0 = dktX5_ask_0 := by decide +kernel
theorem dksX5_ask_1 : cX5_ask.data.toList.drop 24 = dktX5_ask_1 := dk_seg dksX5_ask_0 24 rfl rfl
theorem dksX5_ask_2 : cX5_ask.data.toList.drop 48 = dktX5_ask_2 := dk_seg dksX5_ask_1 24 rfl rfl
theorem dksX5_ask_3 : cX5_ask.data.toList.drop 71 = dktX5_ask_3 := dk_seg dksX5_ask_2 23 rfl rfl
theorem dX5_ask_0 : decode cX5_ask 0 = .ok (.iload_n 1, 1) := dk_27 (dk_at dksX5_ask_0 0 rfl rfl)
theorem dX5_ask_1 : decode cX5_ask 1 = .ok (.i2l, 1) := dk_133 (dk_at dksX5_ask_0 1 rfl rfl)
theorem dX5_ask_2 : decode cX5_ask 2 = .ok (.lconst 0, 1) := dk_9 (dk_at dksX5_ask_0 2 rfl rfl)
theorem dX5_ask_3 : decode cX5_ask 3 = .ok (.lconst 1, 1) := dk_10 (dk_at dksX5_ask_0 3 rfl rfl)
theorem dX5_ask_4 : decode cX5_ask 4 = .ok (.invokestatic 88, 3) := dk_184 0 88 (dk_at dksX5_ask_0 4 rfl rfl)
theorem dX5_ask_7 : decode cX5_ask 7 = .ok (.ifCond .eq 35, 3) := dk_153 0 35 (dk_at dksX5_ask_0 7 rfl rfl)
theorem dX5_ask_10 : decode cX5_ask 10 = .ok (.iload_n 2, 1) := dk_28 (dk_at dksX5_ask_0 10 rfl rfl)
theorem dX5_ask_11 : decode cX5_ask 11 = .ok (.i2l, 1) := dk_133 (dk_at dksX5_ask_0 11 rfl rfl)
theorem dX5_ask_12 : decode cX5_ask 12 = .ok (.iload_n 1, 1) := dk_27 (dk_at dksX5_ask_0 12 rfl rfl)
theorem dX5_ask_13 : decode cX5_ask 13 = .ok (.ifCond .ne 9, 3) := dk_154 0 9 (dk_at dksX5_ask_0 13 rfl rfl)
theorem dX5_ask_16 : decode cX5_ask 16 = .ok (.ldc2_w 146, 3) := dk_20 0 146 (dk_at dksX5_ask_0 16 rfl rfl)
theorem dX5_ask_19 : decode cX5_ask 19 = .ok (.goto 4, 3) := dk_167 0 4 (dk_at dksX5_ask_0 19 rfl rfl)
theorem dX5_ask_22 : decode cX5_ask 22 = .ok (.lconst 0, 1) := dk_9 (dk_at dksX5_ask_0 22 rfl rfl)
theorem dX5_ask_23 : decode cX5_ask 23 = .ok (.iload_n 1, 1) := dk_27 (dk_at dksX5_ask_0 23 rfl rfl)
theorem dX5_ask_24 : decode cX5_ask 24 = .ok (.ifCond .ne 9, 3) := dk_154 0 9 (dk_at dksX5_ask_1 0 rfl rfl)
theorem dX5_ask_27 : decode cX5_ask 27 = .ok (.ldc2_w 98, 3) := dk_20 0 98 (dk_at dksX5_ask_1 3 rfl rfl)
theorem dX5_ask_30 : decode cX5_ask 30 = .ok (.goto 6, 3) := dk_167 0 6 (dk_at dksX5_ask_1 6 rfl rfl)
theorem dX5_ask_33 : decode cX5_ask 33 = .ok (.ldc2_w 140, 3) := dk_20 0 140 (dk_at dksX5_ask_1 9 rfl rfl)
theorem dX5_ask_36 : decode cX5_ask 36 = .ok (.invokestatic 88, 3) := dk_184 0 88 (dk_at dksX5_ask_1 12 rfl rfl)
theorem dX5_ask_39 : decode cX5_ask 39 = .ok (.ifCond .ne 10, 3) := dk_154 0 10 (dk_at dksX5_ask_1 15 rfl rfl)
theorem dX5_ask_42 : decode cX5_ask 42 = .ok (.aload_n 0, 1) := dk_42 (dk_at dksX5_ask_1 18 rfl rfl)
theorem dX5_ask_43 : decode cX5_ask 43 = .ok (.bipush (-2), 2) := dk_16 254 (dk_at dksX5_ask_1 19 rfl rfl)
theorem dX5_ask_45 : decode cX5_ask 45 = .ok (.invokevirtual 102, 3) := dk_182 0 102 (dk_at dksX5_ask_1 21 rfl rfl)
theorem dX5_ask_48 : decode cX5_ask 48 = .ok (.ireturn, 1) := dk_172 (dk_at dksX5_ask_2 0 rfl rfl)
theorem dX5_ask_49 : decode cX5_ask 49 = .ok (.iload_n 1, 1) := dk_27 (dk_at dksX5_ask_2 1 rfl rfl)
theorem dX5_ask_50 : decode cX5_ask 50 = .ok (.ifCond .ne 10, 3) := dk_154 0 10 (dk_at dksX5_ask_2 2 rfl rfl)
theorem dX5_ask_53 : decode cX5_ask 53 = .ok (.aload_n 0, 1) := dk_42 (dk_at dksX5_ask_2 5 rfl rfl)
theorem dX5_ask_54 : decode cX5_ask 54 = .ok (.getfield 51, 3) := dk_180 0 51 (dk_at dksX5_ask_2 6 rfl rfl)
theorem dX5_ask_57 : decode cX5_ask 57 = .ok (.goto 7, 3) := dk_167 0 7 (dk_at dksX5_ask_2 9 rfl rfl)
theorem dX5_ask_60 : decode cX5_ask 60 = .ok (.aload_n 0, 1) := dk_42 (dk_at dksX5_ask_2 12 rfl rfl)
theorem dX5_ask_61 : decode cX5_ask 61 = .ok (.getfield 148, 3) := dk_180 0 148 (dk_at dksX5_ask_2 13 rfl rfl)
theorem dX5_ask_64 : decode cX5_ask 64 = .ok (.istore_n 3, 1) := dk_62 (dk_at dksX5_ask_2 16 rfl rfl)
theorem dX5_ask_65 : decode cX5_ask 65 = .ok (.iload_n 1, 1) := dk_27 (dk_at dksX5_ask_2 17 rfl rfl)
theorem dX5_ask_66 : decode cX5_ask 66 = .ok (.ifCond .ne 11, 3) := dk_154 0 11 (dk_at dksX5_ask_2 18 rfl rfl)
theorem dX5_ask_69 : decode cX5_ask 69 = .ok (.aload_n 0, 1) := dk_42 (dk_at dksX5_ask_2 21 rfl rfl)
theorem dX5_ask_70 : decode cX5_ask 70 = .ok (.iload_n 2, 1) := dk_28 (dk_at dksX5_ask_2 22 rfl rfl)
theorem dX5_ask_71 : decode cX5_ask 71 = .ok (.putfield 51, 3) := dk_181 0 51 (dk_at dksX5_ask_3 0 rfl rfl)
theorem dX5_ask_74 : decode cX5_ask 74 = .ok (.goto 8, 3) := dk_167 0 8 (dk_at dksX5_ask_3 3 rfl rfl)
theorem dX5_ask_77 : decode cX5_ask 77 = .ok (.aload_n 0, 1) := dk_42 (dk_at dksX5_ask_3 6 rfl rfl)
theorem dX5_ask_78 : decode cX5_ask 78 = .ok (.iload_n 2, 1) := dk_28 (dk_at dksX5_ask_3 7 rfl rfl)
theorem dX5_ask_79 : decode cX5_ask 79 = .ok (.putfield 148, 3) := dk_181 0 148 (dk_at dksX5_ask_3 8 rfl rfl)
theorem dX5_ask_82 : decode cX5_ask 82 = .ok (.iload_n 3, 1) := dk_29 (dk_at dksX5_ask_3 11 rfl rfl)
theorem dX5_ask_83 : decode cX5_ask 83 = .ok (.ireturn, 1) := dk_172 (dk_at dksX5_ask_3 12 rfl rfl)
abbrev cX5_feed : ByteArray := prog_18_method_28_code
def yX5_feed : MethodName := ⟨RX5, "feed", "(I)I"⟩
def dkwX5_feed_2 : List UInt8 := [96, 181, 0, 156, 27, 79, 42, 180, 0, 156, 172]
abbrev dktX5_feed_2 : List UInt8 := dkwX5_feed_2 ++ []
def dkwX5_feed_1 : List UInt8 := [17, 0, 250, 160, 0, 10, 42, 16, 250, 182, 0, 102, 172, 42, 180, 0, 34, 42, 89, 180, 0, 156, 90, 4]
abbrev dktX5_feed_1 : List UInt8 := dkwX5_feed_1 ++ dktX5_feed_2
def dkwX5_feed_0 : List UInt8 := [27, 133, 9, 20, 0, 154, 184, 0, 88, 154, 0, 10, 42, 16, 254, 182, 0, 102, 172, 42, 180, 0, 156]
abbrev dktX5_feed_0 : List UInt8 := dkwX5_feed_0 ++ dktX5_feed_1
theorem dksX5_feed_0 : cX5_feed.data.toList.drop 0 = dktX5_feed_0 := by decide +kernel
theorem dksX5_feed_1 : cX5_feed.data.toList.drop 23 = dktX5_feed_1 := dk_seg dksX5_feed_0 23 rfl rfl
theorem dksX5_feed_2 : cX5_feed.data.toList.drop 47 = dktX5_feed_2 := dk_seg dksX5_feed_1 24 rfl rfl
theorem dX5_feed_0 : decode cX5_feed 0 = .ok (.iload_n 1, 1) := dk_27 (dk_at dksX5_feed_0 0 rfl rfl)
theorem dX5_feed_1 : decode cX5_feed 1 = .ok (.i2l, 1) := dk_133 (dk_at dksX5_feed_0 1 rfl rfl)
theorem dX5_feed_2 : decode cX5_feed 2 = .ok (.lconst 0, 1) := dk_9 (dk_at dksX5_feed_0 2 rfl rfl)
theorem dX5_feed_3 : decode cX5_feed 3 = .ok (.ldc2_w 154, 3) := dk_20 0 154 (dk_at dksX5_feed_0 3 rfl rfl)
theorem dX5_feed_6 : decode cX5_feed 6 = .ok (.invokestatic 88, 3) := dk_184 0 88 (dk_at dksX5_feed_0 6 rfl rfl)
theorem dX5_feed_9 : decode cX5_feed 9 = .ok (.ifCond .ne 10, 3) := dk_154 0 10 (dk_at dksX5_feed_0 9 rfl rfl)
theorem dX5_feed_12 : decode cX5_feed 12 = .ok (.aload_n 0, 1) := dk_42 (dk_at dksX5_feed_0 12 rfl rfl)
theorem dX5_feed_13 : decode cX5_feed 13 = .ok (.bipush (-2), 2) := dk_16 254 (dk_at dksX5_feed_0 13 rfl rfl)
theorem dX5_feed_15 : decode cX5_feed 15 = .ok (.invokevirtual 102, 3) := dk_182 0 102 (dk_at dksX5_feed_0 15 rfl rfl)
theorem dX5_feed_18 : decode cX5_feed 18 = .ok (.ireturn, 1) := dk_172 (dk_at dksX5_feed_0 18 rfl rfl)
theorem dX5_feed_19 : decode cX5_feed 19 = .ok (.aload_n 0, 1) := dk_42 (dk_at dksX5_feed_0 19 rfl rfl)
theorem dX5_feed_20 : decode cX5_feed 20 = .ok (.getfield 156, 3) := dk_180 0 156 (dk_at dksX5_feed_0 20 rfl rfl)
theorem dX5_feed_23 : decode cX5_feed 23 = .ok (.sipush 250, 3) := dk_17 0 250 (dk_at dksX5_feed_1 0 rfl rfl)
theorem dX5_feed_26 : decode cX5_feed 26 = .ok (.if_icmp .ne 10, 3) := dk_160 0 10 (dk_at dksX5_feed_1 3 rfl rfl)
theorem dX5_feed_29 : decode cX5_feed 29 = .ok (.aload_n 0, 1) := dk_42 (dk_at dksX5_feed_1 6 rfl rfl)
theorem dX5_feed_30 : decode cX5_feed 30 = .ok (.bipush (-6), 2) := dk_16 250 (dk_at dksX5_feed_1 7 rfl rfl)
theorem dX5_feed_32 : decode cX5_feed 32 = .ok (.invokevirtual 102, 3) := dk_182 0 102 (dk_at dksX5_feed_1 9 rfl rfl)
theorem dX5_feed_35 : decode cX5_feed 35 = .ok (.ireturn, 1) := dk_172 (dk_at dksX5_feed_1 12 rfl rfl)
theorem dX5_feed_36 : decode cX5_feed 36 = .ok (.aload_n 0, 1) := dk_42 (dk_at dksX5_feed_1 13 rfl rfl)
theorem dX5_feed_37 : decode cX5_feed 37 = .ok (.getfield 34, 3) := dk_180 0 34 (dk_at dksX5_feed_1 14 rfl rfl)
theorem dX5_feed_40 : decode cX5_feed 40 = .ok (.aload_n 0, 1) := dk_42 (dk_at dksX5_feed_1 17 rfl rfl)
theorem dX5_feed_41 : decode cX5_feed 41 = .ok (.dup, 1) := dk_89 (dk_at dksX5_feed_1 18 rfl rfl)
theorem dX5_feed_42 : decode cX5_feed 42 = .ok (.getfield 156, 3) := dk_180 0 156 (dk_at dksX5_feed_1 19 rfl rfl)
theorem dX5_feed_45 : decode cX5_feed 45 = .ok (.dup_x1, 1) := dk_90 (dk_at dksX5_feed_1 22 rfl rfl)
theorem dX5_feed_46 : decode cX5_feed 46 = .ok (.iconst 1, 1) := dk_4 (dk_at dksX5_feed_1 23 rfl rfl)
theorem dX5_feed_47 : decode cX5_feed 47 = .ok (.iadd, 1) := dk_96 (dk_at dksX5_feed_2 0 rfl rfl)
theorem dX5_feed_48 : decode cX5_feed 48 = .ok (.putfield 156, 3) := dk_181 0 156 (dk_at dksX5_feed_2 1 rfl rfl)
theorem dX5_feed_51 : decode cX5_feed 51 = .ok (.iload_n 1, 1) := dk_27 (dk_at dksX5_feed_2 4 rfl rfl)
theorem dX5_feed_52 : decode cX5_feed 52 = .ok (.iastore, 1) := dk_79 (dk_at dksX5_feed_2 5 rfl rfl)
theorem dX5_feed_53 : decode cX5_feed 53 = .ok (.aload_n 0, 1) := dk_42 (dk_at dksX5_feed_2 6 rfl rfl)
theorem dX5_feed_54 : decode cX5_feed 54 = .ok (.getfield 156, 3) := dk_180 0 156 (dk_at dksX5_feed_2 7 rfl rfl)
theorem dX5_feed_57 : decode cX5_feed 57 = .ok (.ireturn, 1) := dk_172 (dk_at dksX5_feed_2 10 rfl rfl)
abbrev cX5_wipe : ByteArray := prog_18_method_29_code
def yX5_wipe : MethodName := ⟨RX5, "wipe", "()I"⟩
def dkwX5_wipe_0 : List UInt8 := [42, 180, 0, 156, 60, 42, 3, 181, 0, 156, 27, 172]
abbrev dktX5_wipe_0 : List UInt8 := dkwX5_wipe_0 ++ []
theorem dksX5_wipe_0 : cX5_wipe.data.toList.drop 0 = dktX5_wipe_0 := by decide +kernel
theorem dX5_wipe_0 : decode cX5_wipe 0 = .ok (.aload_n 0, 1) := dk_42 (dk_at dksX5_wipe_0 0 rfl rfl)
theorem dX5_wipe_1 : decode cX5_wipe 1 = .ok (.getfield 156, 3) := dk_180 0 156 (dk_at dksX5_wipe_0 1 rfl rfl)
theorem dX5_wipe_4 : decode cX5_wipe 4 = .ok (.istore_n 1, 1) := dk_60 (dk_at dksX5_wipe_0 4 rfl rfl)
theorem dX5_wipe_5 : decode cX5_wipe 5 = .ok (.aload_n 0, 1) := dk_42 (dk_at dksX5_wipe_0 5 rfl rfl)
theorem dX5_wipe_6 : decode cX5_wipe 6 = .ok (.iconst 0, 1) := dk_3 (dk_at dksX5_wipe_0 6 rfl rfl)
theorem dX5_wipe_7 : decode cX5_wipe 7 = .ok (.putfield 156, 3) := dk_181 0 156 (dk_at dksX5_wipe_0 7 rfl rfl)
theorem dX5_wipe_10 : decode cX5_wipe 10 = .ok (.iload_n 1, 1) := dk_27 (dk_at dksX5_wipe_0 10 rfl rfl)
theorem dX5_wipe_11 : decode cX5_wipe 11 = .ok (.ireturn, 1) := dk_172 (dk_at dksX5_wipe_0 11 rfl rfl)
abbrev cX5_town : ByteArray := prog_18_method_42_code
def yX5_town : MethodName := ⟨RX5, "town", "()I"⟩
def dkwX5_town_1 : List UInt8 := [42, 16, 254, 182, 0, 102, 87, 16, 236, 42, 180, 0, 178, 100, 172, 42, 180, 0, 232, 172]
abbrev dktX5_town_1 : List UInt8 := dkwX5_town_1 ++ []
def dkwX5_town_0 : List UInt8 := [42, 182, 0, 238, 76, 42, 182, 0, 242, 61, 42, 3, 181, 0, 156, 28, 154, 0, 23, 42, 43, 182, 0, 245]
abbrev dktX5_town_0 : List UInt8 := dkwX5_town_0 ++ dktX5_town_1
theorem dksX5_town_0 : cX5_town.data.toList.drop 0 = dktX5_town_0 := by decide +kernel
theorem dksX5_town_1 : cX5_town.data.toList.drop 24 = dktX5_town_1 := dk_seg dksX5_town_0 24 rfl rfl
theorem dX5_town_0 : decode cX5_town 0 = .ok (.aload_n 0, 1) := dk_42 (dk_at dksX5_town_0 0 rfl rfl)
theorem dX5_town_1 : decode cX5_town 1 = .ok (.invokevirtual 238, 3) := dk_182 0 238 (dk_at dksX5_town_0 1 rfl rfl)
theorem dX5_town_4 : decode cX5_town 4 = .ok (.astore_n 1, 1) := dk_76 (dk_at dksX5_town_0 4 rfl rfl)
theorem dX5_town_5 : decode cX5_town 5 = .ok (.aload_n 0, 1) := dk_42 (dk_at dksX5_town_0 5 rfl rfl)
theorem dX5_town_6 : decode cX5_town 6 = .ok (.invokevirtual 242, 3) := dk_182 0 242 (dk_at dksX5_town_0 6 rfl rfl)
theorem dX5_town_9 : decode cX5_town 9 = .ok (.istore_n 2, 1) := dk_61 (dk_at dksX5_town_0 9 rfl rfl)
theorem dX5_town_10 : decode cX5_town 10 = .ok (.aload_n 0, 1) := dk_42 (dk_at dksX5_town_0 10 rfl rfl)
theorem dX5_town_11 : decode cX5_town 11 = .ok (.iconst 0, 1) := dk_3 (dk_at dksX5_town_0 11 rfl rfl)
theorem dX5_town_12 : decode cX5_town 12 = .ok (.putfield 156, 3) := dk_181 0 156 (dk_at dksX5_town_0 12 rfl rfl)
theorem dX5_town_15 : decode cX5_town 15 = .ok (.iload_n 2, 1) := dk_28 (dk_at dksX5_town_0 15 rfl rfl)
theorem dX5_town_16 : decode cX5_town 16 = .ok (.ifCond .ne 23, 3) := dk_154 0 23 (dk_at dksX5_town_0 16 rfl rfl)
theorem dX5_town_19 : decode cX5_town 19 = .ok (.aload_n 0, 1) := dk_42 (dk_at dksX5_town_0 19 rfl rfl)
theorem dX5_town_20 : decode cX5_town 20 = .ok (.aload_n 1, 1) := dk_43 (dk_at dksX5_town_0 20 rfl rfl)
theorem dX5_town_21 : decode cX5_town 21 = .ok (.invokevirtual 245, 3) := dk_182 0 245 (dk_at dksX5_town_0 21 rfl rfl)
theorem dX5_town_24 : decode cX5_town 24 = .ok (.aload_n 0, 1) := dk_42 (dk_at dksX5_town_1 0 rfl rfl)
theorem dX5_town_25 : decode cX5_town 25 = .ok (.bipush (-2), 2) := dk_16 254 (dk_at dksX5_town_1 1 rfl rfl)
theorem dX5_town_27 : decode cX5_town 27 = .ok (.invokevirtual 102, 3) := dk_182 0 102 (dk_at dksX5_town_1 3 rfl rfl)
theorem dX5_town_30 : decode cX5_town 30 = .ok (.pop, 1) := dk_87 (dk_at dksX5_town_1 6 rfl rfl)
theorem dX5_town_31 : decode cX5_town 31 = .ok (.bipush (-20), 2) := dk_16 236 (dk_at dksX5_town_1 7 rfl rfl)
theorem dX5_town_33 : decode cX5_town 33 = .ok (.aload_n 0, 1) := dk_42 (dk_at dksX5_town_1 9 rfl rfl)
theorem dX5_town_34 : decode cX5_town 34 = .ok (.getfield 178, 3) := dk_180 0 178 (dk_at dksX5_town_1 10 rfl rfl)
theorem dX5_town_37 : decode cX5_town 37 = .ok (.isub, 1) := dk_100 (dk_at dksX5_town_1 13 rfl rfl)
theorem dX5_town_38 : decode cX5_town 38 = .ok (.ireturn, 1) := dk_172 (dk_at dksX5_town_1 14 rfl rfl)
theorem dX5_town_39 : decode cX5_town 39 = .ok (.aload_n 0, 1) := dk_42 (dk_at dksX5_town_1 15 rfl rfl)
theorem dX5_town_40 : decode cX5_town 40 = .ok (.getfield 232, 3) := dk_180 0 232 (dk_at dksX5_town_1 16 rfl rfl)
theorem dX5_town_43 : decode cX5_town 43 = .ok (.ireturn, 1) := dk_172 (dk_at dksX5_town_1 19 rfl rfl)
abbrev cX5_fresh : ByteArray := prog_18_method_98_code
def yX5_fresh : MethodName := ⟨RX5, "fresh", "()LThreeStrangersModel;"⟩
def dkwX5_fresh_1 : List UInt8 := [182, 0, 245, 42, 180, 1, 115, 176]
abbrev dktX5_fresh_1 : List UInt8 := dkwX5_fresh_1 ++ []
def dkwX5_fresh_0 : List UInt8 := [42, 180, 1, 115, 199, 0, 14, 42, 187, 0, 8, 89, 183, 1, 119, 181, 1, 115, 42, 180, 1, 115, 42]
abbrev dktX5_fresh_0 : List UInt8 := dkwX5_fresh_0 ++ dktX5_fresh_1
theorem dksX5_fresh_0 : cX5_fresh.data.toList.drop 0 = dktX5_fresh_0 := by decide +kernel
theorem dksX5_fresh_1 : cX5_fresh.data.toList.drop 23 = dktX5_fresh_1 := dk_seg dksX5_fresh_0 23 rfl rfl
theorem dX5_fresh_0 : decode cX5_fresh 0 = .ok (.aload_n 0, 1) := dk_42 (dk_at dksX5_fresh_0 0 rfl rfl)
theorem dX5_fresh_1 : decode cX5_fresh 1 = .ok (.getfield 371, 3) := dk_180 1 115 (dk_at dksX5_fresh_0 1 rfl rfl)
theorem dX5_fresh_4 : decode cX5_fresh 4 = .ok (.ifnonnull 14, 3) := dk_199 0 14 (dk_at dksX5_fresh_0 4 rfl rfl)
theorem dX5_fresh_7 : decode cX5_fresh 7 = .ok (.aload_n 0, 1) := dk_42 (dk_at dksX5_fresh_0 7 rfl rfl)
theorem dX5_fresh_8 : decode cX5_fresh 8 = .ok (.new 8, 3) := dk_187 0 8 (dk_at dksX5_fresh_0 8 rfl rfl)
theorem dX5_fresh_11 : decode cX5_fresh 11 = .ok (.dup, 1) := dk_89 (dk_at dksX5_fresh_0 11 rfl rfl)
theorem dX5_fresh_12 : decode cX5_fresh 12 = .ok (.invokespecial 375, 3) := dk_183 1 119 (dk_at dksX5_fresh_0 12 rfl rfl)
theorem dX5_fresh_15 : decode cX5_fresh 15 = .ok (.putfield 371, 3) := dk_181 1 115 (dk_at dksX5_fresh_0 15 rfl rfl)
theorem dX5_fresh_18 : decode cX5_fresh 18 = .ok (.aload_n 0, 1) := dk_42 (dk_at dksX5_fresh_0 18 rfl rfl)
theorem dX5_fresh_19 : decode cX5_fresh 19 = .ok (.getfield 371, 3) := dk_180 1 115 (dk_at dksX5_fresh_0 19 rfl rfl)
theorem dX5_fresh_22 : decode cX5_fresh 22 = .ok (.aload_n 0, 1) := dk_42 (dk_at dksX5_fresh_0 22 rfl rfl)
theorem dX5_fresh_23 : decode cX5_fresh 23 = .ok (.invokevirtual 245, 3) := dk_182 0 245 (dk_at dksX5_fresh_1 0 rfl rfl)
theorem dX5_fresh_26 : decode cX5_fresh 26 = .ok (.aload_n 0, 1) := dk_42 (dk_at dksX5_fresh_1 3 rfl rfl)
theorem dX5_fresh_27 : decode cX5_fresh 27 = .ok (.getfield 371, 3) := dk_180 1 115 (dk_at dksX5_fresh_1 4 rfl rfl)
theorem dX5_fresh_30 : decode cX5_fresh 30 = .ok (.areturn, 1) := dk_176 (dk_at dksX5_fresh_1 7 rfl rfl)
abbrev cX5_takeFrom : ByteArray := prog_18_method_100_code
def yX5_takeFrom : MethodName := ⟨RX5, "takeFrom", "(LThreeStrangersModel;)V"⟩
def dkwX5_takeFrom_4 : List UInt8 := [181, 1, 108, 42, 43, 180, 0, 55, 181, 0, 55, 177]
abbrev dktX5_takeFrom_4 : List UInt8 := dkwX5_takeFrom_4 ++ []
def dkwX5_takeFrom_3 : List UInt8 := [181, 0, 148, 42, 43, 180, 1, 102, 181, 1, 102, 42, 43, 180, 1, 105, 181, 1, 105, 42, 43, 180, 1, 108]
abbrev dktX5_takeFrom_3 : List UInt8 := dkwX5_takeFrom_3 ++ dktX5_takeFrom_4
def dkwX5_takeFrom_2 : List UInt8 := [28, 50, 184, 1, 120, 132, 2, 1, 167, 255, 232, 42, 43, 180, 0, 51, 181, 0, 51, 42, 43, 180, 0, 148]
abbrev dktX5_takeFrom_2 : List UInt8 := dkwX5_takeFrom_2 ++ dktX5_takeFrom_3
def dkwX5_takeFrom_1 : List UInt8 := [180, 0, 43, 184, 1, 120, 3, 61, 28, 16, 7, 163, 0, 24, 43, 180, 0, 48, 28, 50, 42, 180, 0, 48]
abbrev dktX5_takeFrom_1 : List UInt8 := dkwX5_takeFrom_1 ++ dktX5_takeFrom_2
def dkwX5_takeFrom_0 : List UInt8 := [42, 43, 180, 0, 85, 181, 0, 85, 43, 180, 0, 40, 42, 180, 0, 40, 184, 1, 120, 43, 180, 0, 43, 42]
abbrev dktX5_takeFrom_0 : List UInt8 := dkwX5_takeFrom_0 ++ dktX5_takeFrom_1
theorem dksX5_takeFrom_0 : cX5_takeFrom.data.toList.drop 0 = dktX5_takeFrom_0 := by decide +kernel
theorem dksX5_takeFrom_1 : cX5_takeFrom.data.toList.drop 24 = dktX5_takeFrom_1 := dk_seg dksX5_takeFrom_0 24 rfl rfl
theorem dksX5_takeFrom_2 : cX5_takeFrom.data.toList.drop 48 = dktX5_takeFrom_2 := dk_seg dksX5_takeFrom_1 24 rfl rfl
theorem dksX5_takeFrom_3 : cX5_takeFrom.data.toList.drop 72 = dktX5_takeFrom_3 := dk_seg dksX5_takeFrom_2 24 rfl rfl
theorem dksX5_takeFrom_4 : cX5_takeFrom.data.toList.drop 96 = dktX5_takeFrom_4 := dk_seg dksX5_takeFrom_3 24 rfl rfl
theorem dX5_takeFrom_0 : decode cX5_takeFrom 0 = .ok (.aload_n 0, 1) := dk_42 (dk_at dksX5_takeFrom_0 0 rfl rfl)
theorem dX5_takeFrom_1 : decode cX5_takeFrom 1 = .ok (.aload_n 1, 1) := dk_43 (dk_at dksX5_takeFrom_0 1 rfl rfl)
theorem dX5_takeFrom_2 : decode cX5_takeFrom 2 = .ok (.getfield 85, 3) := dk_180 0 85 (dk_at dksX5_takeFrom_0 2 rfl rfl)
theorem dX5_takeFrom_5 : decode cX5_takeFrom 5 = .ok (.putfield 85, 3) := dk_181 0 85 (dk_at dksX5_takeFrom_0 5 rfl rfl)
theorem dX5_takeFrom_8 : decode cX5_takeFrom 8 = .ok (.aload_n 1, 1) := dk_43 (dk_at dksX5_takeFrom_0 8 rfl rfl)
theorem dX5_takeFrom_9 : decode cX5_takeFrom 9 = .ok (.getfield 40, 3) := dk_180 0 40 (dk_at dksX5_takeFrom_0 9 rfl rfl)
theorem dX5_takeFrom_12 : decode cX5_takeFrom 12 = .ok (.aload_n 0, 1) := dk_42 (dk_at dksX5_takeFrom_0 12 rfl rfl)
theorem dX5_takeFrom_13 : decode cX5_takeFrom 13 = .ok (.getfield 40, 3) := dk_180 0 40 (dk_at dksX5_takeFrom_0 13 rfl rfl)
theorem dX5_takeFrom_16 : decode cX5_takeFrom 16 = .ok (.invokestatic 376, 3) := dk_184 1 120 (dk_at dksX5_takeFrom_0 16 rfl rfl)
theorem dX5_takeFrom_19 : decode cX5_takeFrom 19 = .ok (.aload_n 1, 1) := dk_43 (dk_at dksX5_takeFrom_0 19 rfl rfl)
theorem dX5_takeFrom_20 : decode cX5_takeFrom 20 = .ok (.getfield 43, 3) := dk_180 0 43 (dk_at dksX5_takeFrom_0 20 rfl rfl)
theorem dX5_takeFrom_23 : decode cX5_takeFrom 23 = .ok (.aload_n 0, 1) := dk_42 (dk_at dksX5_takeFrom_0 23 rfl rfl)
theorem dX5_takeFrom_24 : decode cX5_takeFrom 24 = .ok (.getfield 43, 3) := dk_180 0 43 (dk_at dksX5_takeFrom_1 0 rfl rfl)
theorem dX5_takeFrom_27 : decode cX5_takeFrom 27 = .ok (.invokestatic 376, 3) := dk_184 1 120 (dk_at dksX5_takeFrom_1 3 rfl rfl)
theorem dX5_takeFrom_30 : decode cX5_takeFrom 30 = .ok (.iconst 0, 1) := dk_3 (dk_at dksX5_takeFrom_1 6 rfl rfl)
theorem dX5_takeFrom_31 : decode cX5_takeFrom 31 = .ok (.istore_n 2, 1) := dk_61 (dk_at dksX5_takeFrom_1 7 rfl rfl)
theorem dX5_takeFrom_32 : decode cX5_takeFrom 32 = .ok (.iload_n 2, 1) := dk_28 (dk_at dksX5_takeFrom_1 8 rfl rfl)
theorem dX5_takeFrom_33 : decode cX5_takeFrom 33 = .ok (.bipush 7, 2) := dk_16 7 (dk_at dksX5_takeFrom_1 9 rfl rfl)
theorem dX5_takeFrom_35 : decode cX5_takeFrom 35 = .ok (.if_icmp .gt 24, 3) := dk_163 0 24 (dk_at dksX5_takeFrom_1 11 rfl rfl)
theorem dX5_takeFrom_38 : decode cX5_takeFrom 38 = .ok (.aload_n 1, 1) := dk_43 (dk_at dksX5_takeFrom_1 14 rfl rfl)
theorem dX5_takeFrom_39 : decode cX5_takeFrom 39 = .ok (.getfield 48, 3) := dk_180 0 48 (dk_at dksX5_takeFrom_1 15 rfl rfl)
theorem dX5_takeFrom_42 : decode cX5_takeFrom 42 = .ok (.iload_n 2, 1) := dk_28 (dk_at dksX5_takeFrom_1 18 rfl rfl)
theorem dX5_takeFrom_43 : decode cX5_takeFrom 43 = .ok (.aaload, 1) := dk_50 (dk_at dksX5_takeFrom_1 19 rfl rfl)
theorem dX5_takeFrom_44 : decode cX5_takeFrom 44 = .ok (.aload_n 0, 1) := dk_42 (dk_at dksX5_takeFrom_1 20 rfl rfl)
theorem dX5_takeFrom_45 : decode cX5_takeFrom 45 = .ok (.getfield 48, 3) := dk_180 0 48 (dk_at dksX5_takeFrom_1 21 rfl rfl)
theorem dX5_takeFrom_48 : decode cX5_takeFrom 48 = .ok (.iload_n 2, 1) := dk_28 (dk_at dksX5_takeFrom_2 0 rfl rfl)
theorem dX5_takeFrom_49 : decode cX5_takeFrom 49 = .ok (.aaload, 1) := dk_50 (dk_at dksX5_takeFrom_2 1 rfl rfl)
theorem dX5_takeFrom_50 : decode cX5_takeFrom 50 = .ok (.invokestatic 376, 3) := dk_184 1 120 (dk_at dksX5_takeFrom_2 2 rfl rfl)
theorem dX5_takeFrom_53 : decode cX5_takeFrom 53 = .ok (.iinc 2 1, 3) := dk_132 2 1 (dk_at dksX5_takeFrom_2 5 rfl rfl)
theorem dX5_takeFrom_56 : decode cX5_takeFrom 56 = .ok (.goto (-24), 3) := dk_167 255 232 (dk_at dksX5_takeFrom_2 8 rfl rfl)
theorem dX5_takeFrom_59 : decode cX5_takeFrom 59 = .ok (.aload_n 0, 1) := dk_42 (dk_at dksX5_takeFrom_2 11 rfl rfl)
theorem dX5_takeFrom_60 : decode cX5_takeFrom 60 = .ok (.aload_n 1, 1) := dk_43 (dk_at dksX5_takeFrom_2 12 rfl rfl)
theorem dX5_takeFrom_61 : decode cX5_takeFrom 61 = .ok (.getfield 51, 3) := dk_180 0 51 (dk_at dksX5_takeFrom_2 13 rfl rfl)
theorem dX5_takeFrom_64 : decode cX5_takeFrom 64 = .ok (.putfield 51, 3) := dk_181 0 51 (dk_at dksX5_takeFrom_2 16 rfl rfl)
theorem dX5_takeFrom_67 : decode cX5_takeFrom 67 = .ok (.aload_n 0, 1) := dk_42 (dk_at dksX5_takeFrom_2 19 rfl rfl)
theorem dX5_takeFrom_68 : decode cX5_takeFrom 68 = .ok (.aload_n 1, 1) := dk_43 (dk_at dksX5_takeFrom_2 20 rfl rfl)
theorem dX5_takeFrom_69 : decode cX5_takeFrom 69 = .ok (.getfield 148, 3) := dk_180 0 148 (dk_at dksX5_takeFrom_2 21 rfl rfl)
theorem dX5_takeFrom_72 : decode cX5_takeFrom 72 = .ok (.putfield 148, 3) := dk_181 0 148 (dk_at dksX5_takeFrom_3 0 rfl rfl)
theorem dX5_takeFrom_75 : decode cX5_takeFrom 75 = .ok (.aload_n 0, 1) := dk_42 (dk_at dksX5_takeFrom_3 3 rfl rfl)
theorem dX5_takeFrom_76 : decode cX5_takeFrom 76 = .ok (.aload_n 1, 1) := dk_43 (dk_at dksX5_takeFrom_3 4 rfl rfl)
theorem dX5_takeFrom_77 : decode cX5_takeFrom 77 = .ok (.getfield 358, 3) := dk_180 1 102 (dk_at dksX5_takeFrom_3 5 rfl rfl)
theorem dX5_takeFrom_80 : decode cX5_takeFrom 80 = .ok (.putfield 358, 3) := dk_181 1 102 (dk_at dksX5_takeFrom_3 8 rfl rfl)
theorem dX5_takeFrom_83 : decode cX5_takeFrom 83 = .ok (.aload_n 0, 1) := dk_42 (dk_at dksX5_takeFrom_3 11 rfl rfl)
theorem dX5_takeFrom_84 : decode cX5_takeFrom 84 = .ok (.aload_n 1, 1) := dk_43 (dk_at dksX5_takeFrom_3 12 rfl rfl)
theorem dX5_takeFrom_85 : decode cX5_takeFrom 85 = .ok (.getfield 361, 3) := dk_180 1 105 (dk_at dksX5_takeFrom_3 13 rfl rfl)
theorem dX5_takeFrom_88 : decode cX5_takeFrom 88 = .ok (.putfield 361, 3) := dk_181 1 105 (dk_at dksX5_takeFrom_3 16 rfl rfl)
theorem dX5_takeFrom_91 : decode cX5_takeFrom 91 = .ok (.aload_n 0, 1) := dk_42 (dk_at dksX5_takeFrom_3 19 rfl rfl)
theorem dX5_takeFrom_92 : decode cX5_takeFrom 92 = .ok (.aload_n 1, 1) := dk_43 (dk_at dksX5_takeFrom_3 20 rfl rfl)
theorem dX5_takeFrom_93 : decode cX5_takeFrom 93 = .ok (.getfield 364, 3) := dk_180 1 108 (dk_at dksX5_takeFrom_3 21 rfl rfl)
theorem dX5_takeFrom_96 : decode cX5_takeFrom 96 = .ok (.putfield 364, 3) := dk_181 1 108 (dk_at dksX5_takeFrom_4 0 rfl rfl)
theorem dX5_takeFrom_99 : decode cX5_takeFrom 99 = .ok (.aload_n 0, 1) := dk_42 (dk_at dksX5_takeFrom_4 3 rfl rfl)
theorem dX5_takeFrom_100 : decode cX5_takeFrom 100 = .ok (.aload_n 1, 1) := dk_43 (dk_at dksX5_takeFrom_4 4 rfl rfl)
theorem dX5_takeFrom_101 : decode cX5_takeFrom 101 = .ok (.getfield 55, 3) := dk_180 0 55 (dk_at dksX5_takeFrom_4 5 rfl rfl)
theorem dX5_takeFrom_104 : decode cX5_takeFrom 104 = .ok (.putfield 55, 3) := dk_181 0 55 (dk_at dksX5_takeFrom_4 8 rfl rfl)
theorem dX5_takeFrom_107 : decode cX5_takeFrom 107 = .ok (.return_, 1) := dk_177 (dk_at dksX5_takeFrom_4 11 rfl rfl)
abbrev cX5_over : ByteArray := prog_18_method_99_code
def yX5_over : MethodName := ⟨RX5, "over", "([I[I)V"⟩
def dkwX5_over_0 : List UInt8 := [3, 61, 28, 42, 190, 162, 0, 15, 43, 28, 42, 28, 46, 79, 132, 2, 1, 167, 255, 241, 177]
abbrev dktX5_over_0 : List UInt8 := dkwX5_over_0 ++ []
theorem dksX5_over_0 : cX5_over.data.toList.drop 0 = dktX5_over_0 := by decide +kernel
theorem dX5_over_0 : decode cX5_over 0 = .ok (.iconst 0, 1) := dk_3 (dk_at dksX5_over_0 0 rfl rfl)
theorem dX5_over_1 : decode cX5_over 1 = .ok (.istore_n 2, 1) := dk_61 (dk_at dksX5_over_0 1 rfl rfl)
theorem dX5_over_2 : decode cX5_over 2 = .ok (.iload_n 2, 1) := dk_28 (dk_at dksX5_over_0 2 rfl rfl)
theorem dX5_over_3 : decode cX5_over 3 = .ok (.aload_n 0, 1) := dk_42 (dk_at dksX5_over_0 3 rfl rfl)
theorem dX5_over_4 : decode cX5_over 4 = .ok (.arraylength, 1) := dk_190 (dk_at dksX5_over_0 4 rfl rfl)
theorem dX5_over_5 : decode cX5_over 5 = .ok (.if_icmp .ge 15, 3) := dk_162 0 15 (dk_at dksX5_over_0 5 rfl rfl)
theorem dX5_over_8 : decode cX5_over 8 = .ok (.aload_n 1, 1) := dk_43 (dk_at dksX5_over_0 8 rfl rfl)
theorem dX5_over_9 : decode cX5_over 9 = .ok (.iload_n 2, 1) := dk_28 (dk_at dksX5_over_0 9 rfl rfl)
theorem dX5_over_10 : decode cX5_over 10 = .ok (.aload_n 0, 1) := dk_42 (dk_at dksX5_over_0 10 rfl rfl)
theorem dX5_over_11 : decode cX5_over 11 = .ok (.iload_n 2, 1) := dk_28 (dk_at dksX5_over_0 11 rfl rfl)
theorem dX5_over_12 : decode cX5_over 12 = .ok (.iaload, 1) := dk_46 (dk_at dksX5_over_0 12 rfl rfl)
theorem dX5_over_13 : decode cX5_over 13 = .ok (.iastore, 1) := dk_79 (dk_at dksX5_over_0 13 rfl rfl)
theorem dX5_over_14 : decode cX5_over 14 = .ok (.iinc 2 1, 3) := dk_132 2 1 (dk_at dksX5_over_0 14 rfl rfl)
theorem dX5_over_17 : decode cX5_over 17 = .ok (.goto (-15), 3) := dk_167 255 241 (dk_at dksX5_over_0 17 rfl rfl)
theorem dX5_over_20 : decode cX5_over 20 = .ok (.return_, 1) := dk_177 (dk_at dksX5_over_0 20 rfl rfl)
abbrev cX5_readAll : ByteArray := prog_18_method_41_code
def yX5_readAll : MethodName := ⟨RX5, "readAll", "()Z"⟩
def dkwX5_readAll_2 : List UInt8 := [182, 0, 235, 154, 0, 5, 3, 172, 42, 89, 180, 0, 232, 4, 96, 181, 0, 232, 167, 255, 213, 4, 172]
abbrev dktX5_readAll_2 : List UInt8 := dkwX5_readAll_2 ++ []
def dkwX5_readAll_1 : List UInt8 := [180, 0, 168, 153, 0, 42, 42, 180, 0, 168, 6, 159, 0, 8, 42, 182, 0, 190, 172, 42, 182, 0, 194, 42]
abbrev dktX5_readAll_1 : List UInt8 := dkwX5_readAll_1 ++ dktX5_readAll_2
def dkwX5_readAll_0 : List UInt8 := [42, 4, 181, 0, 232, 42, 3, 181, 0, 159, 42, 182, 0, 194, 42, 182, 0, 235, 154, 0, 5, 3, 172, 42]
abbrev dktX5_readAll_0 : List UInt8 := dkwX5_readAll_0 ++ dktX5_readAll_1
theorem dksX5_readAll_0 : cX5_readAll.data.toList.drop 0 = dktX5_readAll_0 := by decide +kernel
theorem dksX5_readAll_1 : cX5_readAll.data.toList.drop 24 = dktX5_readAll_1 := dk_seg dksX5_readAll_0 24 rfl rfl
theorem dksX5_readAll_2 : cX5_readAll.data.toList.drop 48 = dktX5_readAll_2 := dk_seg dksX5_readAll_1 24 rfl rfl
theorem dX5_readAll_0 : decode cX5_readAll 0 = .ok (.aload_n 0, 1) := dk_42 (dk_at dksX5_readAll_0 0 rfl rfl)
theorem dX5_readAll_1 : decode cX5_readAll 1 = .ok (.iconst 1, 1) := dk_4 (dk_at dksX5_readAll_0 1 rfl rfl)
theorem dX5_readAll_2 : decode cX5_readAll 2 = .ok (.putfield 232, 3) := dk_181 0 232 (dk_at dksX5_readAll_0 2 rfl rfl)
theorem dX5_readAll_5 : decode cX5_readAll 5 = .ok (.aload_n 0, 1) := dk_42 (dk_at dksX5_readAll_0 5 rfl rfl)
theorem dX5_readAll_6 : decode cX5_readAll 6 = .ok (.iconst 0, 1) := dk_3 (dk_at dksX5_readAll_0 6 rfl rfl)
theorem dX5_readAll_7 : decode cX5_readAll 7 = .ok (.putfield 159, 3) := dk_181 0 159 (dk_at dksX5_readAll_0 7 rfl rfl)
theorem dX5_readAll_10 : decode cX5_readAll 10 = .ok (.aload_n 0, 1) := dk_42 (dk_at dksX5_readAll_0 10 rfl rfl)
theorem dX5_readAll_11 : decode cX5_readAll 11 = .ok (.invokevirtual 194, 3) := dk_182 0 194 (dk_at dksX5_readAll_0 11 rfl rfl)
theorem dX5_readAll_14 : decode cX5_readAll 14 = .ok (.aload_n 0, 1) := dk_42 (dk_at dksX5_readAll_0 14 rfl rfl)
theorem dX5_readAll_15 : decode cX5_readAll 15 = .ok (.invokevirtual 235, 3) := dk_182 0 235 (dk_at dksX5_readAll_0 15 rfl rfl)
theorem dX5_readAll_18 : decode cX5_readAll 18 = .ok (.ifCond .ne 5, 3) := dk_154 0 5 (dk_at dksX5_readAll_0 18 rfl rfl)
theorem dX5_readAll_21 : decode cX5_readAll 21 = .ok (.iconst 0, 1) := dk_3 (dk_at dksX5_readAll_0 21 rfl rfl)
theorem dX5_readAll_22 : decode cX5_readAll 22 = .ok (.ireturn, 1) := dk_172 (dk_at dksX5_readAll_0 22 rfl rfl)
theorem dX5_readAll_23 : decode cX5_readAll 23 = .ok (.aload_n 0, 1) := dk_42 (dk_at dksX5_readAll_0 23 rfl rfl)
theorem dX5_readAll_24 : decode cX5_readAll 24 = .ok (.getfield 168, 3) := dk_180 0 168 (dk_at dksX5_readAll_1 0 rfl rfl)
theorem dX5_readAll_27 : decode cX5_readAll 27 = .ok (.ifCond .eq 42, 3) := dk_153 0 42 (dk_at dksX5_readAll_1 3 rfl rfl)
theorem dX5_readAll_30 : decode cX5_readAll 30 = .ok (.aload_n 0, 1) := dk_42 (dk_at dksX5_readAll_1 6 rfl rfl)
theorem dX5_readAll_31 : decode cX5_readAll 31 = .ok (.getfield 168, 3) := dk_180 0 168 (dk_at dksX5_readAll_1 7 rfl rfl)
theorem dX5_readAll_34 : decode cX5_readAll 34 = .ok (.iconst 3, 1) := dk_6 (dk_at dksX5_readAll_1 10 rfl rfl)
theorem dX5_readAll_35 : decode cX5_readAll 35 = .ok (.if_icmp .eq 8, 3) := dk_159 0 8 (dk_at dksX5_readAll_1 11 rfl rfl)
theorem dX5_readAll_38 : decode cX5_readAll 38 = .ok (.aload_n 0, 1) := dk_42 (dk_at dksX5_readAll_1 14 rfl rfl)
theorem dX5_readAll_39 : decode cX5_readAll 39 = .ok (.invokevirtual 190, 3) := dk_182 0 190 (dk_at dksX5_readAll_1 15 rfl rfl)
theorem dX5_readAll_42 : decode cX5_readAll 42 = .ok (.ireturn, 1) := dk_172 (dk_at dksX5_readAll_1 18 rfl rfl)
theorem dX5_readAll_43 : decode cX5_readAll 43 = .ok (.aload_n 0, 1) := dk_42 (dk_at dksX5_readAll_1 19 rfl rfl)
theorem dX5_readAll_44 : decode cX5_readAll 44 = .ok (.invokevirtual 194, 3) := dk_182 0 194 (dk_at dksX5_readAll_1 20 rfl rfl)
theorem dX5_readAll_47 : decode cX5_readAll 47 = .ok (.aload_n 0, 1) := dk_42 (dk_at dksX5_readAll_1 23 rfl rfl)
theorem dX5_readAll_48 : decode cX5_readAll 48 = .ok (.invokevirtual 235, 3) := dk_182 0 235 (dk_at dksX5_readAll_2 0 rfl rfl)
theorem dX5_readAll_51 : decode cX5_readAll 51 = .ok (.ifCond .ne 5, 3) := dk_154 0 5 (dk_at dksX5_readAll_2 3 rfl rfl)
theorem dX5_readAll_54 : decode cX5_readAll 54 = .ok (.iconst 0, 1) := dk_3 (dk_at dksX5_readAll_2 6 rfl rfl)
theorem dX5_readAll_55 : decode cX5_readAll 55 = .ok (.ireturn, 1) := dk_172 (dk_at dksX5_readAll_2 7 rfl rfl)
theorem dX5_readAll_56 : decode cX5_readAll 56 = .ok (.aload_n 0, 1) := dk_42 (dk_at dksX5_readAll_2 8 rfl rfl)
theorem dX5_readAll_57 : decode cX5_readAll 57 = .ok (.dup, 1) := dk_89 (dk_at dksX5_readAll_2 9 rfl rfl)
theorem dX5_readAll_58 : decode cX5_readAll 58 = .ok (.getfield 232, 3) := dk_180 0 232 (dk_at dksX5_readAll_2 10 rfl rfl)
theorem dX5_readAll_61 : decode cX5_readAll 61 = .ok (.iconst 1, 1) := dk_4 (dk_at dksX5_readAll_2 13 rfl rfl)
theorem dX5_readAll_62 : decode cX5_readAll 62 = .ok (.iadd, 1) := dk_96 (dk_at dksX5_readAll_2 14 rfl rfl)
theorem dX5_readAll_63 : decode cX5_readAll 63 = .ok (.putfield 232, 3) := dk_181 0 232 (dk_at dksX5_readAll_2 15 rfl rfl)
theorem dX5_readAll_66 : decode cX5_readAll 66 = .ok (.goto (-43), 3) := dk_167 255 213 (dk_at dksX5_readAll_2 18 rfl rfl)
theorem dX5_readAll_69 : decode cX5_readAll 69 = .ok (.iconst 1, 1) := dk_4 (dk_at dksX5_readAll_2 21 rfl rfl)
theorem dX5_readAll_70 : decode cX5_readAll 70 = .ok (.ireturn, 1) := dk_172 (dk_at dksX5_readAll_2 22 rfl rfl)
abbrev cX5_look : ByteArray := prog_18_method_32_code
def yX5_look : MethodName := ⟨RX5, "look", "()V"⟩
def dkwX5_look_11 : List UInt8 := [181, 0, 159, 177]
abbrev dktX5_look_11 : List UInt8 := dkwX5_look_11 ++ []
def dkwX5_look_10 : List UInt8 := [180, 0, 159, 46, 16, 59, 160, 0, 7, 6, 167, 0, 4, 7, 181, 0, 168, 42, 89, 180, 0, 159, 4, 96]
abbrev dktX5_look_10 : List UInt8 := dkwX5_look_10 ++ dktX5_look_11
def dkwX5_look_9 : List UInt8 := [18, 177, 181, 0, 165, 42, 89, 180, 0, 159, 4, 96, 181, 0, 159, 167, 255, 178, 42, 42, 180, 0, 34, 42]
abbrev dktX5_look_9 : List UInt8 := dkwX5_look_9 ++ dktX5_look_10
def dkwX5_look_8 : List UInt8 := [42, 180, 0, 165, 16, 10, 104, 42, 180, 0, 34, 42, 180, 0, 159, 46, 96, 16, 48, 100, 167, 0, 5]
abbrev dktX5_look_8 : List UInt8 := dkwX5_look_8 ++ dktX5_look_9
def dkwX5_look_7 : List UInt8 := [180, 0, 159, 46, 184, 0, 174, 153, 0, 91, 42, 42, 180, 0, 159, 42, 180, 0, 162, 100, 5, 162, 0, 26]
abbrev dktX5_look_7 : List UInt8 := dkwX5_look_7 ++ dktX5_look_8
def dkwX5_look_6 : List UInt8 := [153, 0, 89, 42, 5, 181, 0, 168, 42, 180, 0, 159, 42, 180, 0, 156, 162, 0, 106, 42, 180, 0, 34, 42]
abbrev dktX5_look_6 : List UInt8 := dkwX5_look_6 ++ dktX5_look_7
def dkwX5_look_5 : List UInt8 := [180, 0, 159, 4, 96, 181, 0, 159, 167, 255, 220, 42, 180, 0, 34, 42, 180, 0, 159, 46, 184, 0, 174]
abbrev dktX5_look_5 : List UInt8 := dkwX5_look_5 ++ dktX5_look_6
def dkwX5_look_4 : List UInt8 := [42, 180, 0, 156, 162, 0, 165, 42, 180, 0, 34, 42, 180, 0, 159, 46, 184, 0, 171, 153, 0, 150, 42, 89]
abbrev dktX5_look_4 : List UInt8 := dkwX5_look_4 ++ dktX5_look_5
def dkwX5_look_3 : List UInt8 := [42, 180, 0, 34, 42, 180, 0, 159, 46, 184, 0, 171, 153, 0, 47, 42, 4, 181, 0, 168, 42, 180, 0, 159]
abbrev dktX5_look_3 : List UInt8 := dkwX5_look_3 ++ dktX5_look_4
def dkwX5_look_2 : List UInt8 := [42, 3, 181, 0, 165, 42, 180, 0, 159, 42, 180, 0, 156, 160, 0, 11, 42, 3, 181, 0, 168, 167, 0, 196]
abbrev dktX5_look_2 : List UInt8 := dkwX5_look_2 ++ dktX5_look_3
def dkwX5_look_1 : List UInt8 := [160, 0, 16, 42, 89, 180, 0, 159, 4, 96, 181, 0, 159, 167, 255, 221, 42, 42, 180, 0, 159, 181, 0, 162]
abbrev dktX5_look_1 : List UInt8 := dkwX5_look_1 ++ dktX5_look_2
def dkwX5_look_0 : List UInt8 := [42, 180, 0, 159, 42, 180, 0, 156, 162, 0, 30, 42, 180, 0, 34, 42, 180, 0, 159, 46, 16, 32]
abbrev dktX5_look_0 : List UInt8 := dkwX5_look_0 ++ dktX5_look_1
theorem dksX5_look_0 : cX5_look.data.toList.drop 0 = dktX5_look_0 := by decide +kernel
theorem dksX5_look_1 : cX5_look.data.toList.drop 22 = dktX5_look_1 := dk_seg dksX5_look_0 22 rfl rfl
theorem dksX5_look_2 : cX5_look.data.toList.drop 46 = dktX5_look_2 := dk_seg dksX5_look_1 24 rfl rfl
theorem dksX5_look_3 : cX5_look.data.toList.drop 70 = dktX5_look_3 := dk_seg dksX5_look_2 24 rfl rfl
theorem dksX5_look_4 : cX5_look.data.toList.drop 94 = dktX5_look_4 := dk_seg dksX5_look_3 24 rfl rfl
theorem dksX5_look_5 : cX5_look.data.toList.drop 118 = dktX5_look_5 := dk_seg dksX5_look_4 24 rfl rfl
theorem dksX5_look_6 : cX5_look.data.toList.drop 141 = dktX5_look_6 := dk_seg dksX5_look_5 23 rfl rfl
theorem dksX5_look_7 : cX5_look.data.toList.drop 165 = dktX5_look_7 := dk_seg dksX5_look_6 24 rfl rfl
theorem dksX5_look_8 : cX5_look.data.toList.drop 189 = dktX5_look_8 := dk_seg dksX5_look_7 24 rfl rfl
theorem dksX5_look_9 : cX5_look.data.toList.drop 212 = dktX5_look_9 := dk_seg dksX5_look_8 23 rfl rfl
theorem dksX5_look_10 : cX5_look.data.toList.drop 236 = dktX5_look_10 := dk_seg dksX5_look_9 24 rfl rfl
theorem dksX5_look_11 : cX5_look.data.toList.drop 260 = dktX5_look_11 := dk_seg dksX5_look_10 24 rfl rfl
theorem dX5_look_0 : decode cX5_look 0 = .ok (.aload_n 0, 1) := dk_42 (dk_at dksX5_look_0 0 rfl rfl)
theorem dX5_look_1 : decode cX5_look 1 = .ok (.getfield 159, 3) := dk_180 0 159 (dk_at dksX5_look_0 1 rfl rfl)
theorem dX5_look_4 : decode cX5_look 4 = .ok (.aload_n 0, 1) := dk_42 (dk_at dksX5_look_0 4 rfl rfl)
theorem dX5_look_5 : decode cX5_look 5 = .ok (.getfield 156, 3) := dk_180 0 156 (dk_at dksX5_look_0 5 rfl rfl)
theorem dX5_look_8 : decode cX5_look 8 = .ok (.if_icmp .ge 30, 3) := dk_162 0 30 (dk_at dksX5_look_0 8 rfl rfl)
theorem dX5_look_11 : decode cX5_look 11 = .ok (.aload_n 0, 1) := dk_42 (dk_at dksX5_look_0 11 rfl rfl)
theorem dX5_look_12 : decode cX5_look 12 = .ok (.getfield 34, 3) := dk_180 0 34 (dk_at dksX5_look_0 12 rfl rfl)
theorem dX5_look_15 : decode cX5_look 15 = .ok (.aload_n 0, 1) := dk_42 (dk_at dksX5_look_0 15 rfl rfl)
theorem dX5_look_16 : decode cX5_look 16 = .ok (.getfield 159, 3) := dk_180 0 159 (dk_at dksX5_look_0 16 rfl rfl)
theorem dX5_look_19 : decode cX5_look 19 = .ok (.iaload, 1) := dk_46 (dk_at dksX5_look_0 19 rfl rfl)
theorem dX5_look_20 : decode cX5_look 20 = .ok (.bipush 32, 2) := dk_16 32 (dk_at dksX5_look_0 20 rfl rfl)
theorem dX5_look_22 : decode cX5_look 22 = .ok (.if_icmp .ne 16, 3) := dk_160 0 16 (dk_at dksX5_look_1 0 rfl rfl)
theorem dX5_look_25 : decode cX5_look 25 = .ok (.aload_n 0, 1) := dk_42 (dk_at dksX5_look_1 3 rfl rfl)
theorem dX5_look_26 : decode cX5_look 26 = .ok (.dup, 1) := dk_89 (dk_at dksX5_look_1 4 rfl rfl)
theorem dX5_look_27 : decode cX5_look 27 = .ok (.getfield 159, 3) := dk_180 0 159 (dk_at dksX5_look_1 5 rfl rfl)
theorem dX5_look_30 : decode cX5_look 30 = .ok (.iconst 1, 1) := dk_4 (dk_at dksX5_look_1 8 rfl rfl)
theorem dX5_look_31 : decode cX5_look 31 = .ok (.iadd, 1) := dk_96 (dk_at dksX5_look_1 9 rfl rfl)
theorem dX5_look_32 : decode cX5_look 32 = .ok (.putfield 159, 3) := dk_181 0 159 (dk_at dksX5_look_1 10 rfl rfl)
theorem dX5_look_35 : decode cX5_look 35 = .ok (.goto (-35), 3) := dk_167 255 221 (dk_at dksX5_look_1 13 rfl rfl)
theorem dX5_look_38 : decode cX5_look 38 = .ok (.aload_n 0, 1) := dk_42 (dk_at dksX5_look_1 16 rfl rfl)
theorem dX5_look_39 : decode cX5_look 39 = .ok (.aload_n 0, 1) := dk_42 (dk_at dksX5_look_1 17 rfl rfl)
theorem dX5_look_40 : decode cX5_look 40 = .ok (.getfield 159, 3) := dk_180 0 159 (dk_at dksX5_look_1 18 rfl rfl)
theorem dX5_look_43 : decode cX5_look 43 = .ok (.putfield 162, 3) := dk_181 0 162 (dk_at dksX5_look_1 21 rfl rfl)
theorem dX5_look_46 : decode cX5_look 46 = .ok (.aload_n 0, 1) := dk_42 (dk_at dksX5_look_2 0 rfl rfl)
theorem dX5_look_47 : decode cX5_look 47 = .ok (.iconst 0, 1) := dk_3 (dk_at dksX5_look_2 1 rfl rfl)
theorem dX5_look_48 : decode cX5_look 48 = .ok (.putfield 165, 3) := dk_181 0 165 (dk_at dksX5_look_2 2 rfl rfl)
theorem dX5_look_51 : decode cX5_look 51 = .ok (.aload_n 0, 1) := dk_42 (dk_at dksX5_look_2 5 rfl rfl)
theorem dX5_look_52 : decode cX5_look 52 = .ok (.getfield 159, 3) := dk_180 0 159 (dk_at dksX5_look_2 6 rfl rfl)
theorem dX5_look_55 : decode cX5_look 55 = .ok (.aload_n 0, 1) := dk_42 (dk_at dksX5_look_2 9 rfl rfl)
theorem dX5_look_56 : decode cX5_look 56 = .ok (.getfield 156, 3) := dk_180 0 156 (dk_at dksX5_look_2 10 rfl rfl)
theorem dX5_look_59 : decode cX5_look 59 = .ok (.if_icmp .ne 11, 3) := dk_160 0 11 (dk_at dksX5_look_2 13 rfl rfl)
theorem dX5_look_62 : decode cX5_look 62 = .ok (.aload_n 0, 1) := dk_42 (dk_at dksX5_look_2 16 rfl rfl)
theorem dX5_look_63 : decode cX5_look 63 = .ok (.iconst 0, 1) := dk_3 (dk_at dksX5_look_2 17 rfl rfl)
theorem dX5_look_64 : decode cX5_look 64 = .ok (.putfield 168, 3) := dk_181 0 168 (dk_at dksX5_look_2 18 rfl rfl)
theorem dX5_look_67 : decode cX5_look 67 = .ok (.goto 196, 3) := dk_167 0 196 (dk_at dksX5_look_2 21 rfl rfl)
theorem dX5_look_70 : decode cX5_look 70 = .ok (.aload_n 0, 1) := dk_42 (dk_at dksX5_look_3 0 rfl rfl)
theorem dX5_look_71 : decode cX5_look 71 = .ok (.getfield 34, 3) := dk_180 0 34 (dk_at dksX5_look_3 1 rfl rfl)
theorem dX5_look_74 : decode cX5_look 74 = .ok (.aload_n 0, 1) := dk_42 (dk_at dksX5_look_3 4 rfl rfl)
theorem dX5_look_75 : decode cX5_look 75 = .ok (.getfield 159, 3) := dk_180 0 159 (dk_at dksX5_look_3 5 rfl rfl)
theorem dX5_look_78 : decode cX5_look 78 = .ok (.iaload, 1) := dk_46 (dk_at dksX5_look_3 8 rfl rfl)
theorem dX5_look_79 : decode cX5_look 79 = .ok (.invokestatic 171, 3) := dk_184 0 171 (dk_at dksX5_look_3 9 rfl rfl)
theorem dX5_look_82 : decode cX5_look 82 = .ok (.ifCond .eq 47, 3) := dk_153 0 47 (dk_at dksX5_look_3 12 rfl rfl)
theorem dX5_look_85 : decode cX5_look 85 = .ok (.aload_n 0, 1) := dk_42 (dk_at dksX5_look_3 15 rfl rfl)
theorem dX5_look_86 : decode cX5_look 86 = .ok (.iconst 1, 1) := dk_4 (dk_at dksX5_look_3 16 rfl rfl)
theorem dX5_look_87 : decode cX5_look 87 = .ok (.putfield 168, 3) := dk_181 0 168 (dk_at dksX5_look_3 17 rfl rfl)
theorem dX5_look_90 : decode cX5_look 90 = .ok (.aload_n 0, 1) := dk_42 (dk_at dksX5_look_3 20 rfl rfl)
theorem dX5_look_91 : decode cX5_look 91 = .ok (.getfield 159, 3) := dk_180 0 159 (dk_at dksX5_look_3 21 rfl rfl)
theorem dX5_look_94 : decode cX5_look 94 = .ok (.aload_n 0, 1) := dk_42 (dk_at dksX5_look_4 0 rfl rfl)
theorem dX5_look_95 : decode cX5_look 95 = .ok (.getfield 156, 3) := dk_180 0 156 (dk_at dksX5_look_4 1 rfl rfl)
theorem dX5_look_98 : decode cX5_look 98 = .ok (.if_icmp .ge 165, 3) := dk_162 0 165 (dk_at dksX5_look_4 4 rfl rfl)
theorem dX5_look_101 : decode cX5_look 101 = .ok (.aload_n 0, 1) := dk_42 (dk_at dksX5_look_4 7 rfl rfl)
theorem dX5_look_102 : decode cX5_look 102 = .ok (.getfield 34, 3) := dk_180 0 34 (dk_at dksX5_look_4 8 rfl rfl)
theorem dX5_look_105 : decode cX5_look 105 = .ok (.aload_n 0, 1) := dk_42 (dk_at dksX5_look_4 11 rfl rfl)
theorem dX5_look_106 : decode cX5_look 106 = .ok (.getfield 159, 3) := dk_180 0 159 (dk_at dksX5_look_4 12 rfl rfl)
theorem dX5_look_109 : decode cX5_look 109 = .ok (.iaload, 1) := dk_46 (dk_at dksX5_look_4 15 rfl rfl)
theorem dX5_look_110 : decode cX5_look 110 = .ok (.invokestatic 171, 3) := dk_184 0 171 (dk_at dksX5_look_4 16 rfl rfl)
theorem dX5_look_113 : decode cX5_look 113 = .ok (.ifCond .eq 150, 3) := dk_153 0 150 (dk_at dksX5_look_4 19 rfl rfl)
theorem dX5_look_116 : decode cX5_look 116 = .ok (.aload_n 0, 1) := dk_42 (dk_at dksX5_look_4 22 rfl rfl)
theorem dX5_look_117 : decode cX5_look 117 = .ok (.dup, 1) := dk_89 (dk_at dksX5_look_4 23 rfl rfl)
theorem dX5_look_118 : decode cX5_look 118 = .ok (.getfield 159, 3) := dk_180 0 159 (dk_at dksX5_look_5 0 rfl rfl)
theorem dX5_look_121 : decode cX5_look 121 = .ok (.iconst 1, 1) := dk_4 (dk_at dksX5_look_5 3 rfl rfl)
theorem dX5_look_122 : decode cX5_look 122 = .ok (.iadd, 1) := dk_96 (dk_at dksX5_look_5 4 rfl rfl)
theorem dX5_look_123 : decode cX5_look 123 = .ok (.putfield 159, 3) := dk_181 0 159 (dk_at dksX5_look_5 5 rfl rfl)
theorem dX5_look_126 : decode cX5_look 126 = .ok (.goto (-36), 3) := dk_167 255 220 (dk_at dksX5_look_5 8 rfl rfl)
theorem dX5_look_129 : decode cX5_look 129 = .ok (.aload_n 0, 1) := dk_42 (dk_at dksX5_look_5 11 rfl rfl)
theorem dX5_look_130 : decode cX5_look 130 = .ok (.getfield 34, 3) := dk_180 0 34 (dk_at dksX5_look_5 12 rfl rfl)
theorem dX5_look_133 : decode cX5_look 133 = .ok (.aload_n 0, 1) := dk_42 (dk_at dksX5_look_5 15 rfl rfl)
theorem dX5_look_134 : decode cX5_look 134 = .ok (.getfield 159, 3) := dk_180 0 159 (dk_at dksX5_look_5 16 rfl rfl)
theorem dX5_look_137 : decode cX5_look 137 = .ok (.iaload, 1) := dk_46 (dk_at dksX5_look_5 19 rfl rfl)
theorem dX5_look_138 : decode cX5_look 138 = .ok (.invokestatic 174, 3) := dk_184 0 174 (dk_at dksX5_look_5 20 rfl rfl)
theorem dX5_look_141 : decode cX5_look 141 = .ok (.ifCond .eq 89, 3) := dk_153 0 89 (dk_at dksX5_look_6 0 rfl rfl)
theorem dX5_look_144 : decode cX5_look 144 = .ok (.aload_n 0, 1) := dk_42 (dk_at dksX5_look_6 3 rfl rfl)
theorem dX5_look_145 : decode cX5_look 145 = .ok (.iconst 2, 1) := dk_5 (dk_at dksX5_look_6 4 rfl rfl)
theorem dX5_look_146 : decode cX5_look 146 = .ok (.putfield 168, 3) := dk_181 0 168 (dk_at dksX5_look_6 5 rfl rfl)
theorem dX5_look_149 : decode cX5_look 149 = .ok (.aload_n 0, 1) := dk_42 (dk_at dksX5_look_6 8 rfl rfl)
theorem dX5_look_150 : decode cX5_look 150 = .ok (.getfield 159, 3) := dk_180 0 159 (dk_at dksX5_look_6 9 rfl rfl)
theorem dX5_look_153 : decode cX5_look 153 = .ok (.aload_n 0, 1) := dk_42 (dk_at dksX5_look_6 12 rfl rfl)
theorem dX5_look_154 : decode cX5_look 154 = .ok (.getfield 156, 3) := dk_180 0 156 (dk_at dksX5_look_6 13 rfl rfl)
theorem dX5_look_157 : decode cX5_look 157 = .ok (.if_icmp .ge 106, 3) := dk_162 0 106 (dk_at dksX5_look_6 16 rfl rfl)
theorem dX5_look_160 : decode cX5_look 160 = .ok (.aload_n 0, 1) := dk_42 (dk_at dksX5_look_6 19 rfl rfl)
theorem dX5_look_161 : decode cX5_look 161 = .ok (.getfield 34, 3) := dk_180 0 34 (dk_at dksX5_look_6 20 rfl rfl)
theorem dX5_look_164 : decode cX5_look 164 = .ok (.aload_n 0, 1) := dk_42 (dk_at dksX5_look_6 23 rfl rfl)
theorem dX5_look_165 : decode cX5_look 165 = .ok (.getfield 159, 3) := dk_180 0 159 (dk_at dksX5_look_7 0 rfl rfl)
theorem dX5_look_168 : decode cX5_look 168 = .ok (.iaload, 1) := dk_46 (dk_at dksX5_look_7 3 rfl rfl)
theorem dX5_look_169 : decode cX5_look 169 = .ok (.invokestatic 174, 3) := dk_184 0 174 (dk_at dksX5_look_7 4 rfl rfl)
theorem dX5_look_172 : decode cX5_look 172 = .ok (.ifCond .eq 91, 3) := dk_153 0 91 (dk_at dksX5_look_7 7 rfl rfl)
theorem dX5_look_175 : decode cX5_look 175 = .ok (.aload_n 0, 1) := dk_42 (dk_at dksX5_look_7 10 rfl rfl)
theorem dX5_look_176 : decode cX5_look 176 = .ok (.aload_n 0, 1) := dk_42 (dk_at dksX5_look_7 11 rfl rfl)
theorem dX5_look_177 : decode cX5_look 177 = .ok (.getfield 159, 3) := dk_180 0 159 (dk_at dksX5_look_7 12 rfl rfl)
theorem dX5_look_180 : decode cX5_look 180 = .ok (.aload_n 0, 1) := dk_42 (dk_at dksX5_look_7 15 rfl rfl)
theorem dX5_look_181 : decode cX5_look 181 = .ok (.getfield 162, 3) := dk_180 0 162 (dk_at dksX5_look_7 16 rfl rfl)
theorem dX5_look_184 : decode cX5_look 184 = .ok (.isub, 1) := dk_100 (dk_at dksX5_look_7 19 rfl rfl)
theorem dX5_look_185 : decode cX5_look 185 = .ok (.iconst 2, 1) := dk_5 (dk_at dksX5_look_7 20 rfl rfl)
theorem dX5_look_186 : decode cX5_look 186 = .ok (.if_icmp .ge 26, 3) := dk_162 0 26 (dk_at dksX5_look_7 21 rfl rfl)
theorem dX5_look_189 : decode cX5_look 189 = .ok (.aload_n 0, 1) := dk_42 (dk_at dksX5_look_8 0 rfl rfl)
theorem dX5_look_190 : decode cX5_look 190 = .ok (.getfield 165, 3) := dk_180 0 165 (dk_at dksX5_look_8 1 rfl rfl)
theorem dX5_look_193 : decode cX5_look 193 = .ok (.bipush 10, 2) := dk_16 10 (dk_at dksX5_look_8 4 rfl rfl)
theorem dX5_look_195 : decode cX5_look 195 = .ok (.imul, 1) := dk_104 (dk_at dksX5_look_8 6 rfl rfl)
theorem dX5_look_196 : decode cX5_look 196 = .ok (.aload_n 0, 1) := dk_42 (dk_at dksX5_look_8 7 rfl rfl)
theorem dX5_look_197 : decode cX5_look 197 = .ok (.getfield 34, 3) := dk_180 0 34 (dk_at dksX5_look_8 8 rfl rfl)
theorem dX5_look_200 : decode cX5_look 200 = .ok (.aload_n 0, 1) := dk_42 (dk_at dksX5_look_8 11 rfl rfl)
theorem dX5_look_201 : decode cX5_look 201 = .ok (.getfield 159, 3) := dk_180 0 159 (dk_at dksX5_look_8 12 rfl rfl)
theorem dX5_look_204 : decode cX5_look 204 = .ok (.iaload, 1) := dk_46 (dk_at dksX5_look_8 15 rfl rfl)
theorem dX5_look_205 : decode cX5_look 205 = .ok (.iadd, 1) := dk_96 (dk_at dksX5_look_8 16 rfl rfl)
theorem dX5_look_206 : decode cX5_look 206 = .ok (.bipush 48, 2) := dk_16 48 (dk_at dksX5_look_8 17 rfl rfl)
theorem dX5_look_208 : decode cX5_look 208 = .ok (.isub, 1) := dk_100 (dk_at dksX5_look_8 19 rfl rfl)
theorem dX5_look_209 : decode cX5_look 209 = .ok (.goto 5, 3) := dk_167 0 5 (dk_at dksX5_look_8 20 rfl rfl)
theorem dX5_look_212 : decode cX5_look 212 = .ok (.ldc 177, 2) := dk_18 177 (dk_at dksX5_look_9 0 rfl rfl)
theorem dX5_look_214 : decode cX5_look 214 = .ok (.putfield 165, 3) := dk_181 0 165 (dk_at dksX5_look_9 2 rfl rfl)
theorem dX5_look_217 : decode cX5_look 217 = .ok (.aload_n 0, 1) := dk_42 (dk_at dksX5_look_9 5 rfl rfl)
theorem dX5_look_218 : decode cX5_look 218 = .ok (.dup, 1) := dk_89 (dk_at dksX5_look_9 6 rfl rfl)
theorem dX5_look_219 : decode cX5_look 219 = .ok (.getfield 159, 3) := dk_180 0 159 (dk_at dksX5_look_9 7 rfl rfl)
theorem dX5_look_222 : decode cX5_look 222 = .ok (.iconst 1, 1) := dk_4 (dk_at dksX5_look_9 10 rfl rfl)
theorem dX5_look_223 : decode cX5_look 223 = .ok (.iadd, 1) := dk_96 (dk_at dksX5_look_9 11 rfl rfl)
theorem dX5_look_224 : decode cX5_look 224 = .ok (.putfield 159, 3) := dk_181 0 159 (dk_at dksX5_look_9 12 rfl rfl)
theorem dX5_look_227 : decode cX5_look 227 = .ok (.goto (-78), 3) := dk_167 255 178 (dk_at dksX5_look_9 15 rfl rfl)
theorem dX5_look_230 : decode cX5_look 230 = .ok (.aload_n 0, 1) := dk_42 (dk_at dksX5_look_9 18 rfl rfl)
theorem dX5_look_231 : decode cX5_look 231 = .ok (.aload_n 0, 1) := dk_42 (dk_at dksX5_look_9 19 rfl rfl)
theorem dX5_look_232 : decode cX5_look 232 = .ok (.getfield 34, 3) := dk_180 0 34 (dk_at dksX5_look_9 20 rfl rfl)
theorem dX5_look_235 : decode cX5_look 235 = .ok (.aload_n 0, 1) := dk_42 (dk_at dksX5_look_9 23 rfl rfl)
theorem dX5_look_236 : decode cX5_look 236 = .ok (.getfield 159, 3) := dk_180 0 159 (dk_at dksX5_look_10 0 rfl rfl)
theorem dX5_look_239 : decode cX5_look 239 = .ok (.iaload, 1) := dk_46 (dk_at dksX5_look_10 3 rfl rfl)
theorem dX5_look_240 : decode cX5_look 240 = .ok (.bipush 59, 2) := dk_16 59 (dk_at dksX5_look_10 4 rfl rfl)
theorem dX5_look_242 : decode cX5_look 242 = .ok (.if_icmp .ne 7, 3) := dk_160 0 7 (dk_at dksX5_look_10 6 rfl rfl)
theorem dX5_look_245 : decode cX5_look 245 = .ok (.iconst 3, 1) := dk_6 (dk_at dksX5_look_10 9 rfl rfl)
theorem dX5_look_246 : decode cX5_look 246 = .ok (.goto 4, 3) := dk_167 0 4 (dk_at dksX5_look_10 10 rfl rfl)
theorem dX5_look_249 : decode cX5_look 249 = .ok (.iconst 4, 1) := dk_7 (dk_at dksX5_look_10 13 rfl rfl)
theorem dX5_look_250 : decode cX5_look 250 = .ok (.putfield 168, 3) := dk_181 0 168 (dk_at dksX5_look_10 14 rfl rfl)
theorem dX5_look_253 : decode cX5_look 253 = .ok (.aload_n 0, 1) := dk_42 (dk_at dksX5_look_10 17 rfl rfl)
theorem dX5_look_254 : decode cX5_look 254 = .ok (.dup, 1) := dk_89 (dk_at dksX5_look_10 18 rfl rfl)
theorem dX5_look_255 : decode cX5_look 255 = .ok (.getfield 159, 3) := dk_180 0 159 (dk_at dksX5_look_10 19 rfl rfl)
theorem dX5_look_258 : decode cX5_look 258 = .ok (.iconst 1, 1) := dk_4 (dk_at dksX5_look_10 22 rfl rfl)
theorem dX5_look_259 : decode cX5_look 259 = .ok (.iadd, 1) := dk_96 (dk_at dksX5_look_10 23 rfl rfl)
theorem dX5_look_260 : decode cX5_look 260 = .ok (.putfield 159, 3) := dk_181 0 159 (dk_at dksX5_look_11 0 rfl rfl)
theorem dX5_look_263 : decode cX5_look 263 = .ok (.return_, 1) := dk_177 (dk_at dksX5_look_11 3 rfl rfl)
abbrev cX5_isLetter : ByteArray := prog_18_method_30_code
def yX5_isLetter : MethodName := ⟨RX5, "isLetter", "(I)Z"⟩
def dkwX5_isLetter_0 : List UInt8 := [26, 16, 97, 161, 0, 13, 26, 16, 122, 163, 0, 7, 4, 167, 0, 4, 3, 172]
abbrev dktX5_isLetter_0 : List UInt8 := dkwX5_isLetter_0 ++ []
theorem dksX5_isLetter_0 : cX5_isLetter.data.toList.drop 0 = dktX5_isLetter_0 := by decide +kernel
theorem dX5_isLetter_0 : decode cX5_isLetter 0 = .ok (.iload_n 0, 1) := dk_26 (dk_at dksX5_isLetter_0 0 rfl rfl)
theorem dX5_isLetter_1 : decode cX5_isLetter 1 = .ok (.bipush 97, 2) := dk_16 97 (dk_at dksX5_isLetter_0 1 rfl rfl)
theorem dX5_isLetter_3 : decode cX5_isLetter 3 = .ok (.if_icmp .lt 13, 3) := dk_161 0 13 (dk_at dksX5_isLetter_0 3 rfl rfl)
theorem dX5_isLetter_6 : decode cX5_isLetter 6 = .ok (.iload_n 0, 1) := dk_26 (dk_at dksX5_isLetter_0 6 rfl rfl)
theorem dX5_isLetter_7 : decode cX5_isLetter 7 = .ok (.bipush 122, 2) := dk_16 122 (dk_at dksX5_isLetter_0 7 rfl rfl)
theorem dX5_isLetter_9 : decode cX5_isLetter 9 = .ok (.if_icmp .gt 7, 3) := dk_163 0 7 (dk_at dksX5_isLetter_0 9 rfl rfl)
theorem dX5_isLetter_12 : decode cX5_isLetter 12 = .ok (.iconst 1, 1) := dk_4 (dk_at dksX5_isLetter_0 12 rfl rfl)
theorem dX5_isLetter_13 : decode cX5_isLetter 13 = .ok (.goto 4, 3) := dk_167 0 4 (dk_at dksX5_isLetter_0 13 rfl rfl)
theorem dX5_isLetter_16 : decode cX5_isLetter 16 = .ok (.iconst 0, 1) := dk_3 (dk_at dksX5_isLetter_0 16 rfl rfl)
theorem dX5_isLetter_17 : decode cX5_isLetter 17 = .ok (.ireturn, 1) := dk_172 (dk_at dksX5_isLetter_0 17 rfl rfl)
abbrev cX5_isDigit : ByteArray := prog_18_method_31_code
def yX5_isDigit : MethodName := ⟨RX5, "isDigit", "(I)Z"⟩
def dkwX5_isDigit_0 : List UInt8 := [26, 16, 48, 161, 0, 13, 26, 16, 57, 163, 0, 7, 4, 167, 0, 4, 3, 172]
abbrev dktX5_isDigit_0 : List UInt8 := dkwX5_isDigit_0 ++ []
theorem dksX5_isDigit_0 : cX5_isDigit.data.toList.drop 0 = dktX5_isDigit_0 := by decide +kernel
theorem dX5_isDigit_0 : decode cX5_isDigit 0 = .ok (.iload_n 0, 1) := dk_26 (dk_at dksX5_isDigit_0 0 rfl rfl)
theorem dX5_isDigit_1 : decode cX5_isDigit 1 = .ok (.bipush 48, 2) := dk_16 48 (dk_at dksX5_isDigit_0 1 rfl rfl)
theorem dX5_isDigit_3 : decode cX5_isDigit 3 = .ok (.if_icmp .lt 13, 3) := dk_161 0 13 (dk_at dksX5_isDigit_0 3 rfl rfl)
theorem dX5_isDigit_6 : decode cX5_isDigit 6 = .ok (.iload_n 0, 1) := dk_26 (dk_at dksX5_isDigit_0 6 rfl rfl)
theorem dX5_isDigit_7 : decode cX5_isDigit 7 = .ok (.bipush 57, 2) := dk_16 57 (dk_at dksX5_isDigit_0 7 rfl rfl)
theorem dX5_isDigit_9 : decode cX5_isDigit 9 = .ok (.if_icmp .gt 7, 3) := dk_163 0 7 (dk_at dksX5_isDigit_0 9 rfl rfl)
theorem dX5_isDigit_12 : decode cX5_isDigit 12 = .ok (.iconst 1, 1) := dk_4 (dk_at dksX5_isDigit_0 12 rfl rfl)
theorem dX5_isDigit_13 : decode cX5_isDigit 13 = .ok (.goto 4, 3) := dk_167 0 4 (dk_at dksX5_isDigit_0 13 rfl rfl)
theorem dX5_isDigit_16 : decode cX5_isDigit 16 = .ok (.iconst 0, 1) := dk_3 (dk_at dksX5_isDigit_0 16 rfl rfl)
theorem dX5_isDigit_17 : decode cX5_isDigit 17 = .ok (.ireturn, 1) := dk_172 (dk_at dksX5_isDigit_0 17 rfl rfl)
abbrev cX5_statement : ByteArray := prog_18_method_40_code
def yX5_statement : MethodName := ⟨RX5, "statement", "()Z"⟩
def dkwX5_statement_9 : List UInt8 := [182, 0, 190, 172]
abbrev dktX5_statement_9 : List UInt8 := dkwX5_statement_9 ++ []
def dkwX5_statement_8 : List UInt8 := [181, 0, 148, 27, 172, 42, 18, 227, 182, 0, 209, 153, 0, 10, 42, 182, 0, 229, 167, 0, 7, 42]
abbrev dktX5_statement_8 : List UInt8 := dkwX5_statement_8 ++ dktX5_statement_9
def dkwX5_statement_7 : List UInt8 := [182, 0, 201, 60, 42, 27, 153, 0, 12, 42, 180, 0, 58, 3, 46, 167, 0, 7, 42, 180, 0, 148]
abbrev dktX5_statement_7 : List UInt8 := dkwX5_statement_7 ++ dktX5_statement_8
def dkwX5_statement_6 : List UInt8 := [42, 180, 0, 51, 181, 0, 51, 27, 172, 42, 18, 226, 182, 0, 209, 153, 0, 34, 42, 3, 16, 99]
abbrev dktX5_statement_6 : List UInt8 := dkwX5_statement_6 ++ dktX5_statement_7
def dkwX5_statement_5 : List UInt8 := [153, 0, 33, 42, 5, 7, 182, 0, 201, 60, 42, 27, 153, 0, 12, 42, 180, 0, 58, 3, 46, 167, 0, 7]
abbrev dktX5_statement_5 : List UInt8 := dkwX5_statement_5 ++ dktX5_statement_6
def dkwX5_statement_4 : List UInt8 := [180, 0, 58, 3, 46, 42, 180, 0, 58, 4, 46, 2, 182, 0, 142, 27, 172, 42, 18, 225, 182, 0, 209]
abbrev dktX5_statement_4 : List UInt8 := dkwX5_statement_4 ++ dktX5_statement_5
def dkwX5_statement_3 : List UInt8 := [182, 0, 220, 172, 42, 18, 223, 182, 0, 209, 153, 0, 31, 42, 182, 0, 204, 60, 27, 153, 0, 20, 42, 42]
abbrev dktX5_statement_3 : List UInt8 := dkwX5_statement_3 ++ dktX5_statement_4
def dkwX5_statement_2 : List UInt8 := [3, 46, 42, 180, 0, 58, 4, 46, 182, 0, 127, 4, 172, 42, 18, 218, 182, 0, 209, 153, 0, 8, 42]
abbrev dktX5_statement_2 : List UInt8 := dkwX5_statement_2 ++ dktX5_statement_3
def dkwX5_statement_1 : List UInt8 := [182, 0, 201, 153, 0, 14, 42, 4, 3, 16, 9, 182, 0, 197, 154, 0, 5, 3, 172, 42, 42, 180, 0, 58]
abbrev dktX5_statement_1 : List UInt8 := dkwX5_statement_1 ++ dktX5_statement_2
def dkwX5_statement_0 : List UInt8 := [42, 18, 216, 182, 0, 209, 153, 0, 53, 42, 180, 0, 85, 16, 7, 162, 0, 44, 42, 3, 16, 23]
abbrev dktX5_statement_0 : List UInt8 := dkwX5_statement_0 ++ dktX5_statement_1
theorem dksX5_statement_0 : cX5_statement.data.toList.drop 0 = dktX5_statement_0 := by decide +kernel
theorem dksX5_statement_1 : cX5_statement.data.toList.drop 22 = dktX5_statement_1 := dk_seg dksX5_statement_0 22 rfl rfl
theorem dksX5_statement_2 : cX5_statement.data.toList.drop 46 = dktX5_statement_2 := dk_seg dksX5_statement_1 24 rfl rfl
theorem dksX5_statement_3 : cX5_statement.data.toList.drop 69 = dktX5_statement_3 := dk_seg dksX5_statement_2 23 rfl rfl
theorem dksX5_statement_4 : cX5_statement.data.toList.drop 93 = dktX5_statement_4 := dk_seg dksX5_statement_3 24 rfl rfl
theorem dksX5_statement_5 : cX5_statement.data.toList.drop 116 = dktX5_statement_5 := dk_seg dksX5_statement_4 23 rfl rfl
theorem dksX5_statement_6 : cX5_statement.data.toList.drop 140 = dktX5_statement_6 := dk_seg dksX5_statement_5 24 rfl rfl
theorem dksX5_statement_7 : cX5_statement.data.toList.drop 162 = dktX5_statement_7 := dk_seg dksX5_statement_6 22 rfl rfl
theorem dksX5_statement_8 : cX5_statement.data.toList.drop 184 = dktX5_statement_8 := dk_seg dksX5_statement_7 22 rfl rfl
theorem dksX5_statement_9 : cX5_statement.data.toList.drop 206 = dktX5_statement_9 := dk_seg dksX5_statement_8 22 rfl rfl
theorem dX5_statement_0 : decode cX5_statement 0 = .ok (.aload_n 0, 1) := dk_42 (dk_at dksX5_statement_0 0 rfl rfl)
theorem dX5_statement_1 : decode cX5_statement 1 = .ok (.ldc 216, 2) := dk_18 216 (dk_at dksX5_statement_0 1 rfl rfl)
theorem dX5_statement_3 : decode cX5_statement 3 = .ok (.invokevirtual 209, 3) := dk_182 0 209 (dk_at dksX5_statement_0 3 rfl rfl)
theorem dX5_statement_6 : decode cX5_statement 6 = .ok (.ifCond .eq 53, 3) := dk_153 0 53 (dk_at dksX5_statement_0 6 rfl rfl)
theorem dX5_statement_9 : decode cX5_statement 9 = .ok (.aload_n 0, 1) := dk_42 (dk_at dksX5_statement_0 9 rfl rfl)
theorem dX5_statement_10 : decode cX5_statement 10 = .ok (.getfield 85, 3) := dk_180 0 85 (dk_at dksX5_statement_0 10 rfl rfl)
theorem dX5_statement_13 : decode cX5_statement 13 = .ok (.bipush 7, 2) := dk_16 7 (dk_at dksX5_statement_0 13 rfl rfl)
theorem dX5_statement_15 : decode cX5_statement 15 = .ok (.if_icmp .ge 44, 3) := dk_162 0 44 (dk_at dksX5_statement_0 15 rfl rfl)
theorem dX5_statement_18 : decode cX5_statement 18 = .ok (.aload_n 0, 1) := dk_42 (dk_at dksX5_statement_0 18 rfl rfl)
theorem dX5_statement_19 : decode cX5_statement 19 = .ok (.iconst 0, 1) := dk_3 (dk_at dksX5_statement_0 19 rfl rfl)
theorem dX5_statement_20 : decode cX5_statement 20 = .ok (.bipush 23, 2) := dk_16 23 (dk_at dksX5_statement_0 20 rfl rfl)
theorem dX5_statement_22 : decode cX5_statement 22 = .ok (.invokevirtual 201, 3) := dk_182 0 201 (dk_at dksX5_statement_1 0 rfl rfl)
theorem dX5_statement_25 : decode cX5_statement 25 = .ok (.ifCond .eq 14, 3) := dk_153 0 14 (dk_at dksX5_statement_1 3 rfl rfl)
theorem dX5_statement_28 : decode cX5_statement 28 = .ok (.aload_n 0, 1) := dk_42 (dk_at dksX5_statement_1 6 rfl rfl)
theorem dX5_statement_29 : decode cX5_statement 29 = .ok (.iconst 1, 1) := dk_4 (dk_at dksX5_statement_1 7 rfl rfl)
theorem dX5_statement_30 : decode cX5_statement 30 = .ok (.iconst 0, 1) := dk_3 (dk_at dksX5_statement_1 8 rfl rfl)
theorem dX5_statement_31 : decode cX5_statement 31 = .ok (.bipush 9, 2) := dk_16 9 (dk_at dksX5_statement_1 9 rfl rfl)
theorem dX5_statement_33 : decode cX5_statement 33 = .ok (.invokevirtual 197, 3) := dk_182 0 197 (dk_at dksX5_statement_1 11 rfl rfl)
theorem dX5_statement_36 : decode cX5_statement 36 = .ok (.ifCond .ne 5, 3) := dk_154 0 5 (dk_at dksX5_statement_1 14 rfl rfl)
theorem dX5_statement_39 : decode cX5_statement 39 = .ok (.iconst 0, 1) := dk_3 (dk_at dksX5_statement_1 17 rfl rfl)
theorem dX5_statement_40 : decode cX5_statement 40 = .ok (.ireturn, 1) := dk_172 (dk_at dksX5_statement_1 18 rfl rfl)
theorem dX5_statement_41 : decode cX5_statement 41 = .ok (.aload_n 0, 1) := dk_42 (dk_at dksX5_statement_1 19 rfl rfl)
theorem dX5_statement_42 : decode cX5_statement 42 = .ok (.aload_n 0, 1) := dk_42 (dk_at dksX5_statement_1 20 rfl rfl)
theorem dX5_statement_43 : decode cX5_statement 43 = .ok (.getfield 58, 3) := dk_180 0 58 (dk_at dksX5_statement_1 21 rfl rfl)
theorem dX5_statement_46 : decode cX5_statement 46 = .ok (.iconst 0, 1) := dk_3 (dk_at dksX5_statement_2 0 rfl rfl)
theorem dX5_statement_47 : decode cX5_statement 47 = .ok (.iaload, 1) := dk_46 (dk_at dksX5_statement_2 1 rfl rfl)
theorem dX5_statement_48 : decode cX5_statement 48 = .ok (.aload_n 0, 1) := dk_42 (dk_at dksX5_statement_2 2 rfl rfl)
theorem dX5_statement_49 : decode cX5_statement 49 = .ok (.getfield 58, 3) := dk_180 0 58 (dk_at dksX5_statement_2 3 rfl rfl)
theorem dX5_statement_52 : decode cX5_statement 52 = .ok (.iconst 1, 1) := dk_4 (dk_at dksX5_statement_2 6 rfl rfl)
theorem dX5_statement_53 : decode cX5_statement 53 = .ok (.iaload, 1) := dk_46 (dk_at dksX5_statement_2 7 rfl rfl)
theorem dX5_statement_54 : decode cX5_statement 54 = .ok (.invokevirtual 127, 3) := dk_182 0 127 (dk_at dksX5_statement_2 8 rfl rfl)
theorem dX5_statement_57 : decode cX5_statement 57 = .ok (.iconst 1, 1) := dk_4 (dk_at dksX5_statement_2 11 rfl rfl)
theorem dX5_statement_58 : decode cX5_statement 58 = .ok (.ireturn, 1) := dk_172 (dk_at dksX5_statement_2 12 rfl rfl)
theorem dX5_statement_59 : decode cX5_statement 59 = .ok (.aload_n 0, 1) := dk_42 (dk_at dksX5_statement_2 13 rfl rfl)
theorem dX5_statement_60 : decode cX5_statement 60 = .ok (.ldc 218, 2) := dk_18 218 (dk_at dksX5_statement_2 14 rfl rfl)
theorem dX5_statement_62 : decode cX5_statement 62 = .ok (.invokevirtual 209, 3) := dk_182 0 209 (dk_at dksX5_statement_2 16 rfl rfl)
theorem dX5_statement_65 : decode cX5_statement 65 = .ok (.ifCond .eq 8, 3) := dk_153 0 8 (dk_at dksX5_statement_2 19 rfl rfl)
theorem dX5_statement_68 : decode cX5_statement 68 = .ok (.aload_n 0, 1) := dk_42 (dk_at dksX5_statement_2 22 rfl rfl)
theorem dX5_statement_69 : decode cX5_statement 69 = .ok (.invokevirtual 220, 3) := dk_182 0 220 (dk_at dksX5_statement_3 0 rfl rfl)
theorem dX5_statement_72 : decode cX5_statement 72 = .ok (.ireturn, 1) := dk_172 (dk_at dksX5_statement_3 3 rfl rfl)
theorem dX5_statement_73 : decode cX5_statement 73 = .ok (.aload_n 0, 1) := dk_42 (dk_at dksX5_statement_3 4 rfl rfl)
theorem dX5_statement_74 : decode cX5_statement 74 = .ok (.ldc 223, 2) := dk_18 223 (dk_at dksX5_statement_3 5 rfl rfl)
theorem dX5_statement_76 : decode cX5_statement 76 = .ok (.invokevirtual 209, 3) := dk_182 0 209 (dk_at dksX5_statement_3 7 rfl rfl)
theorem dX5_statement_79 : decode cX5_statement 79 = .ok (.ifCond .eq 31, 3) := dk_153 0 31 (dk_at dksX5_statement_3 10 rfl rfl)
theorem dX5_statement_82 : decode cX5_statement 82 = .ok (.aload_n 0, 1) := dk_42 (dk_at dksX5_statement_3 13 rfl rfl)
theorem dX5_statement_83 : decode cX5_statement 83 = .ok (.invokevirtual 204, 3) := dk_182 0 204 (dk_at dksX5_statement_3 14 rfl rfl)
theorem dX5_statement_86 : decode cX5_statement 86 = .ok (.istore_n 1, 1) := dk_60 (dk_at dksX5_statement_3 17 rfl rfl)
theorem dX5_statement_87 : decode cX5_statement 87 = .ok (.iload_n 1, 1) := dk_27 (dk_at dksX5_statement_3 18 rfl rfl)
theorem dX5_statement_88 : decode cX5_statement 88 = .ok (.ifCond .eq 20, 3) := dk_153 0 20 (dk_at dksX5_statement_3 19 rfl rfl)
theorem dX5_statement_91 : decode cX5_statement 91 = .ok (.aload_n 0, 1) := dk_42 (dk_at dksX5_statement_3 22 rfl rfl)
theorem dX5_statement_92 : decode cX5_statement 92 = .ok (.aload_n 0, 1) := dk_42 (dk_at dksX5_statement_3 23 rfl rfl)
theorem dX5_statement_93 : decode cX5_statement 93 = .ok (.getfield 58, 3) := dk_180 0 58 (dk_at dksX5_statement_4 0 rfl rfl)
theorem dX5_statement_96 : decode cX5_statement 96 = .ok (.iconst 0, 1) := dk_3 (dk_at dksX5_statement_4 3 rfl rfl)
theorem dX5_statement_97 : decode cX5_statement 97 = .ok (.iaload, 1) := dk_46 (dk_at dksX5_statement_4 4 rfl rfl)
theorem dX5_statement_98 : decode cX5_statement 98 = .ok (.aload_n 0, 1) := dk_42 (dk_at dksX5_statement_4 5 rfl rfl)
theorem dX5_statement_99 : decode cX5_statement 99 = .ok (.getfield 58, 3) := dk_180 0 58 (dk_at dksX5_statement_4 6 rfl rfl)
theorem dX5_statement_102 : decode cX5_statement 102 = .ok (.iconst 1, 1) := dk_4 (dk_at dksX5_statement_4 9 rfl rfl)
theorem dX5_statement_103 : decode cX5_statement 103 = .ok (.iaload, 1) := dk_46 (dk_at dksX5_statement_4 10 rfl rfl)
theorem dX5_statement_104 : decode cX5_statement 104 = .ok (.iconst (-1), 1) := dk_2 (dk_at dksX5_statement_4 11 rfl rfl)
theorem dX5_statement_105 : decode cX5_statement 105 = .ok (.invokevirtual 142, 3) := dk_182 0 142 (dk_at dksX5_statement_4 12 rfl rfl)
theorem dX5_statement_108 : decode cX5_statement 108 = .ok (.iload_n 1, 1) := dk_27 (dk_at dksX5_statement_4 15 rfl rfl)
theorem dX5_statement_109 : decode cX5_statement 109 = .ok (.ireturn, 1) := dk_172 (dk_at dksX5_statement_4 16 rfl rfl)
theorem dX5_statement_110 : decode cX5_statement 110 = .ok (.aload_n 0, 1) := dk_42 (dk_at dksX5_statement_4 17 rfl rfl)
theorem dX5_statement_111 : decode cX5_statement 111 = .ok (.ldc 225, 2) := dk_18 225 (dk_at dksX5_statement_4 18 rfl rfl)
theorem dX5_statement_113 : decode cX5_statement 113 = .ok (.invokevirtual 209, 3) := dk_182 0 209 (dk_at dksX5_statement_4 20 rfl rfl)
theorem dX5_statement_116 : decode cX5_statement 116 = .ok (.ifCond .eq 33, 3) := dk_153 0 33 (dk_at dksX5_statement_5 0 rfl rfl)
theorem dX5_statement_119 : decode cX5_statement 119 = .ok (.aload_n 0, 1) := dk_42 (dk_at dksX5_statement_5 3 rfl rfl)
theorem dX5_statement_120 : decode cX5_statement 120 = .ok (.iconst 2, 1) := dk_5 (dk_at dksX5_statement_5 4 rfl rfl)
theorem dX5_statement_121 : decode cX5_statement 121 = .ok (.iconst 4, 1) := dk_7 (dk_at dksX5_statement_5 5 rfl rfl)
theorem dX5_statement_122 : decode cX5_statement 122 = .ok (.invokevirtual 201, 3) := dk_182 0 201 (dk_at dksX5_statement_5 6 rfl rfl)
theorem dX5_statement_125 : decode cX5_statement 125 = .ok (.istore_n 1, 1) := dk_60 (dk_at dksX5_statement_5 9 rfl rfl)
theorem dX5_statement_126 : decode cX5_statement 126 = .ok (.aload_n 0, 1) := dk_42 (dk_at dksX5_statement_5 10 rfl rfl)
theorem dX5_statement_127 : decode cX5_statement 127 = .ok (.iload_n 1, 1) := dk_27 (dk_at dksX5_statement_5 11 rfl rfl)
theorem dX5_statement_128 : decode cX5_statement 128 = .ok (.ifCond .eq 12, 3) := dk_153 0 12 (dk_at dksX5_statement_5 12 rfl rfl)
theorem dX5_statement_131 : decode cX5_statement 131 = .ok (.aload_n 0, 1) := dk_42 (dk_at dksX5_statement_5 15 rfl rfl)
theorem dX5_statement_132 : decode cX5_statement 132 = .ok (.getfield 58, 3) := dk_180 0 58 (dk_at dksX5_statement_5 16 rfl rfl)
theorem dX5_statement_135 : decode cX5_statement 135 = .ok (.iconst 0, 1) := dk_3 (dk_at dksX5_statement_5 19 rfl rfl)
theorem dX5_statement_136 : decode cX5_statement 136 = .ok (.iaload, 1) := dk_46 (dk_at dksX5_statement_5 20 rfl rfl)
theorem dX5_statement_137 : decode cX5_statement 137 = .ok (.goto 7, 3) := dk_167 0 7 (dk_at dksX5_statement_5 21 rfl rfl)
theorem dX5_statement_140 : decode cX5_statement 140 = .ok (.aload_n 0, 1) := dk_42 (dk_at dksX5_statement_6 0 rfl rfl)
theorem dX5_statement_141 : decode cX5_statement 141 = .ok (.getfield 51, 3) := dk_180 0 51 (dk_at dksX5_statement_6 1 rfl rfl)
theorem dX5_statement_144 : decode cX5_statement 144 = .ok (.putfield 51, 3) := dk_181 0 51 (dk_at dksX5_statement_6 4 rfl rfl)
theorem dX5_statement_147 : decode cX5_statement 147 = .ok (.iload_n 1, 1) := dk_27 (dk_at dksX5_statement_6 7 rfl rfl)
theorem dX5_statement_148 : decode cX5_statement 148 = .ok (.ireturn, 1) := dk_172 (dk_at dksX5_statement_6 8 rfl rfl)
theorem dX5_statement_149 : decode cX5_statement 149 = .ok (.aload_n 0, 1) := dk_42 (dk_at dksX5_statement_6 9 rfl rfl)
theorem dX5_statement_150 : decode cX5_statement 150 = .ok (.ldc 226, 2) := dk_18 226 (dk_at dksX5_statement_6 10 rfl rfl)
theorem dX5_statement_152 : decode cX5_statement 152 = .ok (.invokevirtual 209, 3) := dk_182 0 209 (dk_at dksX5_statement_6 12 rfl rfl)
theorem dX5_statement_155 : decode cX5_statement 155 = .ok (.ifCond .eq 34, 3) := dk_153 0 34 (dk_at dksX5_statement_6 15 rfl rfl)
theorem dX5_statement_158 : decode cX5_statement 158 = .ok (.aload_n 0, 1) := dk_42 (dk_at dksX5_statement_6 18 rfl rfl)
theorem dX5_statement_159 : decode cX5_statement 159 = .ok (.iconst 0, 1) := dk_3 (dk_at dksX5_statement_6 19 rfl rfl)
theorem dX5_statement_160 : decode cX5_statement 160 = .ok (.bipush 99, 2) := dk_16 99 (dk_at dksX5_statement_6 20 rfl rfl)
theorem dX5_statement_162 : decode cX5_statement 162 = .ok (.invokevirtual 201, 3) := dk_182 0 201 (dk_at dksX5_statement_7 0 rfl rfl)
theorem dX5_statement_165 : decode cX5_statement 165 = .ok (.istore_n 1, 1) := dk_60 (dk_at dksX5_statement_7 3 rfl rfl)
theorem dX5_statement_166 : decode cX5_statement 166 = .ok (.aload_n 0, 1) := dk_42 (dk_at dksX5_statement_7 4 rfl rfl)
theorem dX5_statement_167 : decode cX5_statement 167 = .ok (.iload_n 1, 1) := dk_27 (dk_at dksX5_statement_7 5 rfl rfl)
theorem dX5_statement_168 : decode cX5_statement 168 = .ok (.ifCond .eq 12, 3) := dk_153 0 12 (dk_at dksX5_statement_7 6 rfl rfl)
theorem dX5_statement_171 : decode cX5_statement 171 = .ok (.aload_n 0, 1) := dk_42 (dk_at dksX5_statement_7 9 rfl rfl)
theorem dX5_statement_172 : decode cX5_statement 172 = .ok (.getfield 58, 3) := dk_180 0 58 (dk_at dksX5_statement_7 10 rfl rfl)
theorem dX5_statement_175 : decode cX5_statement 175 = .ok (.iconst 0, 1) := dk_3 (dk_at dksX5_statement_7 13 rfl rfl)
theorem dX5_statement_176 : decode cX5_statement 176 = .ok (.iaload, 1) := dk_46 (dk_at dksX5_statement_7 14 rfl rfl)
theorem dX5_statement_177 : decode cX5_statement 177 = .ok (.goto 7, 3) := dk_167 0 7 (dk_at dksX5_statement_7 15 rfl rfl)
theorem dX5_statement_180 : decode cX5_statement 180 = .ok (.aload_n 0, 1) := dk_42 (dk_at dksX5_statement_7 18 rfl rfl)
theorem dX5_statement_181 : decode cX5_statement 181 = .ok (.getfield 148, 3) := dk_180 0 148 (dk_at dksX5_statement_7 19 rfl rfl)
theorem dX5_statement_184 : decode cX5_statement 184 = .ok (.putfield 148, 3) := dk_181 0 148 (dk_at dksX5_statement_8 0 rfl rfl)
theorem dX5_statement_187 : decode cX5_statement 187 = .ok (.iload_n 1, 1) := dk_27 (dk_at dksX5_statement_8 3 rfl rfl)
theorem dX5_statement_188 : decode cX5_statement 188 = .ok (.ireturn, 1) := dk_172 (dk_at dksX5_statement_8 4 rfl rfl)
theorem dX5_statement_189 : decode cX5_statement 189 = .ok (.aload_n 0, 1) := dk_42 (dk_at dksX5_statement_8 5 rfl rfl)
theorem dX5_statement_190 : decode cX5_statement 190 = .ok (.ldc 227, 2) := dk_18 227 (dk_at dksX5_statement_8 6 rfl rfl)
theorem dX5_statement_192 : decode cX5_statement 192 = .ok (.invokevirtual 209, 3) := dk_182 0 209 (dk_at dksX5_statement_8 8 rfl rfl)
theorem dX5_statement_195 : decode cX5_statement 195 = .ok (.ifCond .eq 10, 3) := dk_153 0 10 (dk_at dksX5_statement_8 11 rfl rfl)
theorem dX5_statement_198 : decode cX5_statement 198 = .ok (.aload_n 0, 1) := dk_42 (dk_at dksX5_statement_8 14 rfl rfl)
theorem dX5_statement_199 : decode cX5_statement 199 = .ok (.invokevirtual 229, 3) := dk_182 0 229 (dk_at dksX5_statement_8 15 rfl rfl)
theorem dX5_statement_202 : decode cX5_statement 202 = .ok (.goto 7, 3) := dk_167 0 7 (dk_at dksX5_statement_8 18 rfl rfl)
theorem dX5_statement_205 : decode cX5_statement 205 = .ok (.aload_n 0, 1) := dk_42 (dk_at dksX5_statement_8 21 rfl rfl)
theorem dX5_statement_206 : decode cX5_statement 206 = .ok (.invokevirtual 190, 3) := dk_182 0 190 (dk_at dksX5_statement_9 0 rfl rfl)
theorem dX5_statement_209 : decode cX5_statement 209 = .ok (.ireturn, 1) := dk_172 (dk_at dksX5_statement_9 3 rfl rfl)
abbrev cX5_isWord : ByteArray := prog_18_method_34_code
def yX5_isWord : MethodName := ⟨RX5, "isWord", "(Ljava/lang/String;)Z"⟩
def dkwX5_isWord_2 : List UInt8 := [28, 182, 0, 186, 159, 0, 5, 3, 172, 132, 2, 1, 167, 255, 224, 4, 172]
abbrev dktX5_isWord_2 : List UInt8 := dkwX5_isWord_2 ++ []
def dkwX5_isWord_1 : List UInt8 := [3, 172, 3, 61, 28, 43, 182, 0, 181, 162, 0, 30, 42, 180, 0, 34, 42, 180, 0, 162, 28, 96, 46, 43]
abbrev dktX5_isWord_1 : List UInt8 := dkwX5_isWord_1 ++ dktX5_isWord_2
def dkwX5_isWord_0 : List UInt8 := [42, 180, 0, 168, 4, 160, 0, 19, 42, 180, 0, 159, 42, 180, 0, 162, 100, 43, 182, 0, 181, 159, 0, 5]
abbrev dktX5_isWord_0 : List UInt8 := dkwX5_isWord_0 ++ dktX5_isWord_1
theorem dksX5_isWord_0 : cX5_isWord.data.toList.drop 0 = dktX5_isWord_0 := by decide +kernel
theorem dksX5_isWord_1 : cX5_isWord.data.toList.drop 24 = dktX5_isWord_1 := dk_seg dksX5_isWord_0 24 rfl rfl
theorem dksX5_isWord_2 : cX5_isWord.data.toList.drop 48 = dktX5_isWord_2 := dk_seg dksX5_isWord_1 24 rfl rfl
theorem dX5_isWord_0 : decode cX5_isWord 0 = .ok (.aload_n 0, 1) := dk_42 (dk_at dksX5_isWord_0 0 rfl rfl)
theorem dX5_isWord_1 : decode cX5_isWord 1 = .ok (.getfield 168, 3) := dk_180 0 168 (dk_at dksX5_isWord_0 1 rfl rfl)
theorem dX5_isWord_4 : decode cX5_isWord 4 = .ok (.iconst 1, 1) := dk_4 (dk_at dksX5_isWord_0 4 rfl rfl)
theorem dX5_isWord_5 : decode cX5_isWord 5 = .ok (.if_icmp .ne 19, 3) := dk_160 0 19 (dk_at dksX5_isWord_0 5 rfl rfl)
theorem dX5_isWord_8 : decode cX5_isWord 8 = .ok (.aload_n 0, 1) := dk_42 (dk_at dksX5_isWord_0 8 rfl rfl)
theorem dX5_isWord_9 : decode cX5_isWord 9 = .ok (.getfield 159, 3) := dk_180 0 159 (dk_at dksX5_isWord_0 9 rfl rfl)
theorem dX5_isWord_12 : decode cX5_isWord 12 = .ok (.aload_n 0, 1) := dk_42 (dk_at dksX5_isWord_0 12 rfl rfl)
theorem dX5_isWord_13 : decode cX5_isWord 13 = .ok (.getfield 162, 3) := dk_180 0 162 (dk_at dksX5_isWord_0 13 rfl rfl)
theorem dX5_isWord_16 : decode cX5_isWord 16 = .ok (.isub, 1) := dk_100 (dk_at dksX5_isWord_0 16 rfl rfl)
theorem dX5_isWord_17 : decode cX5_isWord 17 = .ok (.aload_n 1, 1) := dk_43 (dk_at dksX5_isWord_0 17 rfl rfl)
theorem dX5_isWord_18 : decode cX5_isWord 18 = .ok (.invokevirtual 181, 3) := dk_182 0 181 (dk_at dksX5_isWord_0 18 rfl rfl)
theorem dX5_isWord_21 : decode cX5_isWord 21 = .ok (.if_icmp .eq 5, 3) := dk_159 0 5 (dk_at dksX5_isWord_0 21 rfl rfl)
theorem dX5_isWord_24 : decode cX5_isWord 24 = .ok (.iconst 0, 1) := dk_3 (dk_at dksX5_isWord_1 0 rfl rfl)
theorem dX5_isWord_25 : decode cX5_isWord 25 = .ok (.ireturn, 1) := dk_172 (dk_at dksX5_isWord_1 1 rfl rfl)
theorem dX5_isWord_26 : decode cX5_isWord 26 = .ok (.iconst 0, 1) := dk_3 (dk_at dksX5_isWord_1 2 rfl rfl)
theorem dX5_isWord_27 : decode cX5_isWord 27 = .ok (.istore_n 2, 1) := dk_61 (dk_at dksX5_isWord_1 3 rfl rfl)
theorem dX5_isWord_28 : decode cX5_isWord 28 = .ok (.iload_n 2, 1) := dk_28 (dk_at dksX5_isWord_1 4 rfl rfl)
theorem dX5_isWord_29 : decode cX5_isWord 29 = .ok (.aload_n 1, 1) := dk_43 (dk_at dksX5_isWord_1 5 rfl rfl)
theorem dX5_isWord_30 : decode cX5_isWord 30 = .ok (.invokevirtual 181, 3) := dk_182 0 181 (dk_at dksX5_isWord_1 6 rfl rfl)
theorem dX5_isWord_33 : decode cX5_isWord 33 = .ok (.if_icmp .ge 30, 3) := dk_162 0 30 (dk_at dksX5_isWord_1 9 rfl rfl)
theorem dX5_isWord_36 : decode cX5_isWord 36 = .ok (.aload_n 0, 1) := dk_42 (dk_at dksX5_isWord_1 12 rfl rfl)
theorem dX5_isWord_37 : decode cX5_isWord 37 = .ok (.getfield 34, 3) := dk_180 0 34 (dk_at dksX5_isWord_1 13 rfl rfl)
theorem dX5_isWord_40 : decode cX5_isWord 40 = .ok (.aload_n 0, 1) := dk_42 (dk_at dksX5_isWord_1 16 rfl rfl)
theorem dX5_isWord_41 : decode cX5_isWord 41 = .ok (.getfield 162, 3) := dk_180 0 162 (dk_at dksX5_isWord_1 17 rfl rfl)
theorem dX5_isWord_44 : decode cX5_isWord 44 = .ok (.iload_n 2, 1) := dk_28 (dk_at dksX5_isWord_1 20 rfl rfl)
theorem dX5_isWord_45 : decode cX5_isWord 45 = .ok (.iadd, 1) := dk_96 (dk_at dksX5_isWord_1 21 rfl rfl)
theorem dX5_isWord_46 : decode cX5_isWord 46 = .ok (.iaload, 1) := dk_46 (dk_at dksX5_isWord_1 22 rfl rfl)
theorem dX5_isWord_47 : decode cX5_isWord 47 = .ok (.aload_n 1, 1) := dk_43 (dk_at dksX5_isWord_1 23 rfl rfl)
theorem dX5_isWord_48 : decode cX5_isWord 48 = .ok (.iload_n 2, 1) := dk_28 (dk_at dksX5_isWord_2 0 rfl rfl)
theorem dX5_isWord_49 : decode cX5_isWord 49 = .ok (.invokevirtual 186, 3) := dk_182 0 186 (dk_at dksX5_isWord_2 1 rfl rfl)
theorem dX5_isWord_52 : decode cX5_isWord 52 = .ok (.if_icmp .eq 5, 3) := dk_159 0 5 (dk_at dksX5_isWord_2 4 rfl rfl)
theorem dX5_isWord_55 : decode cX5_isWord 55 = .ok (.iconst 0, 1) := dk_3 (dk_at dksX5_isWord_2 7 rfl rfl)
theorem dX5_isWord_56 : decode cX5_isWord 56 = .ok (.ireturn, 1) := dk_172 (dk_at dksX5_isWord_2 8 rfl rfl)
theorem dX5_isWord_57 : decode cX5_isWord 57 = .ok (.iinc 2 1, 3) := dk_132 2 1 (dk_at dksX5_isWord_2 9 rfl rfl)
theorem dX5_isWord_60 : decode cX5_isWord 60 = .ok (.goto (-32), 3) := dk_167 255 224 (dk_at dksX5_isWord_2 12 rfl rfl)
theorem dX5_isWord_63 : decode cX5_isWord 63 = .ok (.iconst 1, 1) := dk_4 (dk_at dksX5_isWord_2 15 rfl rfl)
theorem dX5_isWord_64 : decode cX5_isWord 64 = .ok (.ireturn, 1) := dk_172 (dk_at dksX5_isWord_2 16 rfl rfl)
abbrev cX5_tells : ByteArray := prog_18_method_36_code
def yX5_tells : MethodName := ⟨RX5, "tells", "(II)Z"⟩
def dkwX5_tells_0 : List UInt8 := [42, 182, 0, 194, 42, 3, 27, 28, 182, 0, 197, 172]
abbrev dktX5_tells_0 : List UInt8 := dkwX5_tells_0 ++ []
theorem dksX5_tells_0 : cX5_tells.data.toList.drop 0 = dktX5_tells_0 := by decide +kernel
theorem dX5_tells_0 : decode cX5_tells 0 = .ok (.aload_n 0, 1) := dk_42 (dk_at dksX5_tells_0 0 rfl rfl)
theorem dX5_tells_1 : decode cX5_tells 1 = .ok (.invokevirtual 194, 3) := dk_182 0 194 (dk_at dksX5_tells_0 1 rfl rfl)
theorem dX5_tells_4 : decode cX5_tells 4 = .ok (.aload_n 0, 1) := dk_42 (dk_at dksX5_tells_0 4 rfl rfl)
theorem dX5_tells_5 : decode cX5_tells 5 = .ok (.iconst 0, 1) := dk_3 (dk_at dksX5_tells_0 5 rfl rfl)
theorem dX5_tells_6 : decode cX5_tells 6 = .ok (.iload_n 1, 1) := dk_27 (dk_at dksX5_tells_0 6 rfl rfl)
theorem dX5_tells_7 : decode cX5_tells 7 = .ok (.iload_n 2, 1) := dk_28 (dk_at dksX5_tells_0 7 rfl rfl)
theorem dX5_tells_8 : decode cX5_tells 8 = .ok (.invokevirtual 197, 3) := dk_182 0 197 (dk_at dksX5_tells_0 8 rfl rfl)
theorem dX5_tells_11 : decode cX5_tells 11 = .ok (.ireturn, 1) := dk_172 (dk_at dksX5_tells_0 11 rfl rfl)
abbrev cX5_number : ByteArray := prog_18_method_35_code
def yX5_number : MethodName := ⟨RX5, "number", "(III)Z"⟩
def dkwX5_number_1 : List UInt8 := [182, 0, 190, 172, 42, 180, 0, 58, 27, 42, 180, 0, 165, 79, 42, 182, 0, 194, 4, 172]
abbrev dktX5_number_1 : List UInt8 := dkwX5_number_1 ++ []
def dkwX5_number_0 : List UInt8 := [42, 180, 0, 168, 5, 160, 0, 18, 42, 180, 0, 165, 133, 28, 133, 29, 133, 184, 0, 88, 154, 0, 8, 42]
abbrev dktX5_number_0 : List UInt8 := dkwX5_number_0 ++ dktX5_number_1
theorem dksX5_number_0 : cX5_number.data.toList.drop 0 = dktX5_number_0 := by decide +kernel
theorem dksX5_number_1 : cX5_number.data.toList.drop 24 = dktX5_number_1 := dk_seg dksX5_number_0 24 rfl rfl
theorem dX5_number_0 : decode cX5_number 0 = .ok (.aload_n 0, 1) := dk_42 (dk_at dksX5_number_0 0 rfl rfl)
theorem dX5_number_1 : decode cX5_number 1 = .ok (.getfield 168, 3) := dk_180 0 168 (dk_at dksX5_number_0 1 rfl rfl)
theorem dX5_number_4 : decode cX5_number 4 = .ok (.iconst 2, 1) := dk_5 (dk_at dksX5_number_0 4 rfl rfl)
theorem dX5_number_5 : decode cX5_number 5 = .ok (.if_icmp .ne 18, 3) := dk_160 0 18 (dk_at dksX5_number_0 5 rfl rfl)
theorem dX5_number_8 : decode cX5_number 8 = .ok (.aload_n 0, 1) := dk_42 (dk_at dksX5_number_0 8 rfl rfl)
theorem dX5_number_9 : decode cX5_number 9 = .ok (.getfield 165, 3) := dk_180 0 165 (dk_at dksX5_number_0 9 rfl rfl)
theorem dX5_number_12 : decode cX5_number 12 = .ok (.i2l, 1) := dk_133 (dk_at dksX5_number_0 12 rfl rfl)
theorem dX5_number_13 : decode cX5_number 13 = .ok (.iload_n 2, 1) := dk_28 (dk_at dksX5_number_0 13 rfl rfl)
theorem dX5_number_14 : decode cX5_number 14 = .ok (.i2l, 1) := dk_133 (dk_at dksX5_number_0 14 rfl rfl)
theorem dX5_number_15 : decode cX5_number 15 = .ok (.iload_n 3, 1) := dk_29 (dk_at dksX5_number_0 15 rfl rfl)
theorem dX5_number_16 : decode cX5_number 16 = .ok (.i2l, 1) := dk_133 (dk_at dksX5_number_0 16 rfl rfl)
theorem dX5_number_17 : decode cX5_number 17 = .ok (.invokestatic 88, 3) := dk_184 0 88 (dk_at dksX5_number_0 17 rfl rfl)
theorem dX5_number_20 : decode cX5_number 20 = .ok (.ifCond .ne 8, 3) := dk_154 0 8 (dk_at dksX5_number_0 20 rfl rfl)
theorem dX5_number_23 : decode cX5_number 23 = .ok (.aload_n 0, 1) := dk_42 (dk_at dksX5_number_0 23 rfl rfl)
theorem dX5_number_24 : decode cX5_number 24 = .ok (.invokevirtual 190, 3) := dk_182 0 190 (dk_at dksX5_number_1 0 rfl rfl)
theorem dX5_number_27 : decode cX5_number 27 = .ok (.ireturn, 1) := dk_172 (dk_at dksX5_number_1 3 rfl rfl)
theorem dX5_number_28 : decode cX5_number 28 = .ok (.aload_n 0, 1) := dk_42 (dk_at dksX5_number_1 4 rfl rfl)
theorem dX5_number_29 : decode cX5_number 29 = .ok (.getfield 58, 3) := dk_180 0 58 (dk_at dksX5_number_1 5 rfl rfl)
theorem dX5_number_32 : decode cX5_number 32 = .ok (.iload_n 1, 1) := dk_27 (dk_at dksX5_number_1 8 rfl rfl)
theorem dX5_number_33 : decode cX5_number 33 = .ok (.aload_n 0, 1) := dk_42 (dk_at dksX5_number_1 9 rfl rfl)
theorem dX5_number_34 : decode cX5_number 34 = .ok (.getfield 165, 3) := dk_180 0 165 (dk_at dksX5_number_1 10 rfl rfl)
theorem dX5_number_37 : decode cX5_number 37 = .ok (.iastore, 1) := dk_79 (dk_at dksX5_number_1 13 rfl rfl)
theorem dX5_number_38 : decode cX5_number 38 = .ok (.aload_n 0, 1) := dk_42 (dk_at dksX5_number_1 14 rfl rfl)
theorem dX5_number_39 : decode cX5_number 39 = .ok (.invokevirtual 194, 3) := dk_182 0 194 (dk_at dksX5_number_1 15 rfl rfl)
theorem dX5_number_42 : decode cX5_number 42 = .ok (.iconst 1, 1) := dk_4 (dk_at dksX5_number_1 18 rfl rfl)
theorem dX5_number_43 : decode cX5_number 43 = .ok (.ireturn, 1) := dk_172 (dk_at dksX5_number_1 19 rfl rfl)
abbrev cX5_wrong : ByteArray := prog_18_method_33_code
def yX5_wrong : MethodName := ⟨RX5, "wrong", "()Z"⟩
def dkwX5_wrong_0 : List UInt8 := [42, 42, 180, 0, 162, 181, 0, 178, 3, 172]
abbrev dktX5_wrong_0 : List UInt8 := dkwX5_wrong_0 ++ []
theorem dksX5_wrong_0 : cX5_wrong.data.toList.drop 0 = dktX5_wrong_0 := by decide +kernel
theorem dX5_wrong_0 : decode cX5_wrong 0 = .ok (.aload_n 0, 1) := dk_42 (dk_at dksX5_wrong_0 0 rfl rfl)
theorem dX5_wrong_1 : decode cX5_wrong 1 = .ok (.aload_n 0, 1) := dk_42 (dk_at dksX5_wrong_0 1 rfl rfl)
theorem dX5_wrong_2 : decode cX5_wrong 2 = .ok (.getfield 162, 3) := dk_180 0 162 (dk_at dksX5_wrong_0 2 rfl rfl)
theorem dX5_wrong_5 : decode cX5_wrong 5 = .ok (.putfield 178, 3) := dk_181 0 178 (dk_at dksX5_wrong_0 5 rfl rfl)
theorem dX5_wrong_8 : decode cX5_wrong 8 = .ok (.iconst 0, 1) := dk_3 (dk_at dksX5_wrong_0 8 rfl rfl)
theorem dX5_wrong_9 : decode cX5_wrong 9 = .ok (.ireturn, 1) := dk_172 (dk_at dksX5_wrong_0 9 rfl rfl)
abbrev cX5_knowTold : ByteArray := prog_18_method_38_code
def yX5_knowTold : MethodName := ⟨RX5, "knowTold", "()Z"⟩
def dkwX5_knowTold_2 : List UInt8 := [180, 0, 58, 3, 46, 62, 42, 27, 28, 29, 182, 0, 142, 4, 172]
abbrev dktX5_knowTold_2 : List UInt8 := dkwX5_knowTold_2 ++ []
def dkwX5_knowTold_1 : List UInt8 := [62, 42, 18, 207, 182, 0, 209, 153, 0, 22, 42, 3, 16, 99, 182, 0, 201, 154, 0, 5, 3, 172, 42]
abbrev dktX5_knowTold_1 : List UInt8 := dkwX5_knowTold_1 ++ dktX5_knowTold_2
def dkwX5_knowTold_0 : List UInt8 := [42, 182, 0, 204, 154, 0, 5, 3, 172, 42, 180, 0, 58, 3, 46, 60, 42, 180, 0, 58, 4, 46, 61, 3]
abbrev dktX5_knowTold_0 : List UInt8 := dkwX5_knowTold_0 ++ dktX5_knowTold_1
theorem dksX5_knowTold_0 : cX5_knowTold.data.toList.drop 0 = dktX5_knowTold_0 := by decide +kernel
theorem dksX5_knowTold_1 : cX5_knowTold.data.toList.drop 24 = dktX5_knowTold_1 := dk_seg dksX5_knowTold_0 24 rfl rfl
theorem dksX5_knowTold_2 : cX5_knowTold.data.toList.drop 47 = dktX5_knowTold_2 := dk_seg dksX5_knowTold_1 23 rfl rfl
theorem dX5_knowTold_0 : decode cX5_knowTold 0 = .ok (.aload_n 0, 1) := dk_42 (dk_at dksX5_knowTold_0 0 rfl rfl)
theorem dX5_knowTold_1 : decode cX5_knowTold 1 = .ok (.invokevirtual 204, 3) := dk_182 0 204 (dk_at dksX5_knowTold_0 1 rfl rfl)
theorem dX5_knowTold_4 : decode cX5_knowTold 4 = .ok (.ifCond .ne 5, 3) := dk_154 0 5 (dk_at dksX5_knowTold_0 4 rfl rfl)
theorem dX5_knowTold_7 : decode cX5_knowTold 7 = .ok (.iconst 0, 1) := dk_3 (dk_at dksX5_knowTold_0 7 rfl rfl)
theorem dX5_knowTold_8 : decode cX5_knowTold 8 = .ok (.ireturn, 1) := dk_172 (dk_at dksX5_knowTold_0 8 rfl rfl)
theorem dX5_knowTold_9 : decode cX5_knowTold 9 = .ok (.aload_n 0, 1) := dk_42 (dk_at dksX5_knowTold_0 9 rfl rfl)
theorem dX5_knowTold_10 : decode cX5_knowTold 10 = .ok (.getfield 58, 3) := dk_180 0 58 (dk_at dksX5_knowTold_0 10 rfl rfl)
theorem dX5_knowTold_13 : decode cX5_knowTold 13 = .ok (.iconst 0, 1) := dk_3 (dk_at dksX5_knowTold_0 13 rfl rfl)
theorem dX5_knowTold_14 : decode cX5_knowTold 14 = .ok (.iaload, 1) := dk_46 (dk_at dksX5_knowTold_0 14 rfl rfl)
theorem dX5_knowTold_15 : decode cX5_knowTold 15 = .ok (.istore_n 1, 1) := dk_60 (dk_at dksX5_knowTold_0 15 rfl rfl)
theorem dX5_knowTold_16 : decode cX5_knowTold 16 = .ok (.aload_n 0, 1) := dk_42 (dk_at dksX5_knowTold_0 16 rfl rfl)
theorem dX5_knowTold_17 : decode cX5_knowTold 17 = .ok (.getfield 58, 3) := dk_180 0 58 (dk_at dksX5_knowTold_0 17 rfl rfl)
theorem dX5_knowTold_20 : decode cX5_knowTold 20 = .ok (.iconst 1, 1) := dk_4 (dk_at dksX5_knowTold_0 20 rfl rfl)
theorem dX5_knowTold_21 : decode cX5_knowTold 21 = .ok (.iaload, 1) := dk_46 (dk_at dksX5_knowTold_0 21 rfl rfl)
theorem dX5_knowTold_22 : decode cX5_knowTold 22 = .ok (.istore_n 2, 1) := dk_61 (dk_at dksX5_knowTold_0 22 rfl rfl)
theorem dX5_knowTold_23 : decode cX5_knowTold 23 = .ok (.iconst 0, 1) := dk_3 (dk_at dksX5_knowTold_0 23 rfl rfl)
theorem dX5_knowTold_24 : decode cX5_knowTold 24 = .ok (.istore_n 3, 1) := dk_62 (dk_at dksX5_knowTold_1 0 rfl rfl)
theorem dX5_knowTold_25 : decode cX5_knowTold 25 = .ok (.aload_n 0, 1) := dk_42 (dk_at dksX5_knowTold_1 1 rfl rfl)
theorem dX5_knowTold_26 : decode cX5_knowTold 26 = .ok (.ldc 207, 2) := dk_18 207 (dk_at dksX5_knowTold_1 2 rfl rfl)
theorem dX5_knowTold_28 : decode cX5_knowTold 28 = .ok (.invokevirtual 209, 3) := dk_182 0 209 (dk_at dksX5_knowTold_1 4 rfl rfl)
theorem dX5_knowTold_31 : decode cX5_knowTold 31 = .ok (.ifCond .eq 22, 3) := dk_153 0 22 (dk_at dksX5_knowTold_1 7 rfl rfl)
theorem dX5_knowTold_34 : decode cX5_knowTold 34 = .ok (.aload_n 0, 1) := dk_42 (dk_at dksX5_knowTold_1 10 rfl rfl)
theorem dX5_knowTold_35 : decode cX5_knowTold 35 = .ok (.iconst 0, 1) := dk_3 (dk_at dksX5_knowTold_1 11 rfl rfl)
theorem dX5_knowTold_36 : decode cX5_knowTold 36 = .ok (.bipush 99, 2) := dk_16 99 (dk_at dksX5_knowTold_1 12 rfl rfl)
theorem dX5_knowTold_38 : decode cX5_knowTold 38 = .ok (.invokevirtual 201, 3) := dk_182 0 201 (dk_at dksX5_knowTold_1 14 rfl rfl)
theorem dX5_knowTold_41 : decode cX5_knowTold 41 = .ok (.ifCond .ne 5, 3) := dk_154 0 5 (dk_at dksX5_knowTold_1 17 rfl rfl)
theorem dX5_knowTold_44 : decode cX5_knowTold 44 = .ok (.iconst 0, 1) := dk_3 (dk_at dksX5_knowTold_1 20 rfl rfl)
theorem dX5_knowTold_45 : decode cX5_knowTold 45 = .ok (.ireturn, 1) := dk_172 (dk_at dksX5_knowTold_1 21 rfl rfl)
theorem dX5_knowTold_46 : decode cX5_knowTold 46 = .ok (.aload_n 0, 1) := dk_42 (dk_at dksX5_knowTold_1 22 rfl rfl)
theorem dX5_knowTold_47 : decode cX5_knowTold 47 = .ok (.getfield 58, 3) := dk_180 0 58 (dk_at dksX5_knowTold_2 0 rfl rfl)
theorem dX5_knowTold_50 : decode cX5_knowTold 50 = .ok (.iconst 0, 1) := dk_3 (dk_at dksX5_knowTold_2 3 rfl rfl)
theorem dX5_knowTold_51 : decode cX5_knowTold 51 = .ok (.iaload, 1) := dk_46 (dk_at dksX5_knowTold_2 4 rfl rfl)
theorem dX5_knowTold_52 : decode cX5_knowTold 52 = .ok (.istore_n 3, 1) := dk_62 (dk_at dksX5_knowTold_2 5 rfl rfl)
theorem dX5_knowTold_53 : decode cX5_knowTold 53 = .ok (.aload_n 0, 1) := dk_42 (dk_at dksX5_knowTold_2 6 rfl rfl)
theorem dX5_knowTold_54 : decode cX5_knowTold 54 = .ok (.iload_n 1, 1) := dk_27 (dk_at dksX5_knowTold_2 7 rfl rfl)
theorem dX5_knowTold_55 : decode cX5_knowTold 55 = .ok (.iload_n 2, 1) := dk_28 (dk_at dksX5_knowTold_2 8 rfl rfl)
theorem dX5_knowTold_56 : decode cX5_knowTold 56 = .ok (.iload_n 3, 1) := dk_29 (dk_at dksX5_knowTold_2 9 rfl rfl)
theorem dX5_knowTold_57 : decode cX5_knowTold 57 = .ok (.invokevirtual 142, 3) := dk_182 0 142 (dk_at dksX5_knowTold_2 10 rfl rfl)
theorem dX5_knowTold_60 : decode cX5_knowTold 60 = .ok (.iconst 1, 1) := dk_4 (dk_at dksX5_knowTold_2 13 rfl rfl)
theorem dX5_knowTold_61 : decode cX5_knowTold 61 = .ok (.ireturn, 1) := dk_172 (dk_at dksX5_knowTold_2 14 rfl rfl)
abbrev cX5_twoTold : ByteArray := prog_18_method_37_code
def yX5_twoTold : MethodName := ⟨RX5, "twoTold", "()Z"⟩
def dkwX5_twoTold_2 : List UInt8 := [180, 0, 85, 4, 100, 182, 0, 197, 172]
abbrev dktX5_twoTold_2 : List UInt8 := dkwX5_twoTold_2 ++ []
def dkwX5_twoTold_1 : List UInt8 := [42, 180, 0, 165, 42, 180, 0, 58, 3, 46, 160, 0, 8, 42, 182, 0, 190, 172, 42, 4, 3, 42]
abbrev dktX5_twoTold_1 : List UInt8 := dkwX5_twoTold_1 ++ dktX5_twoTold_2
def dkwX5_twoTold_0 : List UInt8 := [42, 3, 42, 180, 0, 85, 4, 100, 182, 0, 201, 154, 0, 5, 3, 172, 42, 180, 0, 168, 5, 160, 0, 21]
abbrev dktX5_twoTold_0 : List UInt8 := dkwX5_twoTold_0 ++ dktX5_twoTold_1
theorem dksX5_twoTold_0 : cX5_twoTold.data.toList.drop 0 = dktX5_twoTold_0 := by decide +kernel
theorem dksX5_twoTold_1 : cX5_twoTold.data.toList.drop 24 = dktX5_twoTold_1 := dk_seg dksX5_twoTold_0 24 rfl rfl
theorem dksX5_twoTold_2 : cX5_twoTold.data.toList.drop 46 = dktX5_twoTold_2 := dk_seg dksX5_twoTold_1 22 rfl rfl
theorem dX5_twoTold_0 : decode cX5_twoTold 0 = .ok (.aload_n 0, 1) := dk_42 (dk_at dksX5_twoTold_0 0 rfl rfl)
theorem dX5_twoTold_1 : decode cX5_twoTold 1 = .ok (.iconst 0, 1) := dk_3 (dk_at dksX5_twoTold_0 1 rfl rfl)
theorem dX5_twoTold_2 : decode cX5_twoTold 2 = .ok (.aload_n 0, 1) := dk_42 (dk_at dksX5_twoTold_0 2 rfl rfl)
theorem dX5_twoTold_3 : decode cX5_twoTold 3 = .ok (.getfield 85, 3) := dk_180 0 85 (dk_at dksX5_twoTold_0 3 rfl rfl)
theorem dX5_twoTold_6 : decode cX5_twoTold 6 = .ok (.iconst 1, 1) := dk_4 (dk_at dksX5_twoTold_0 6 rfl rfl)
theorem dX5_twoTold_7 : decode cX5_twoTold 7 = .ok (.isub, 1) := dk_100 (dk_at dksX5_twoTold_0 7 rfl rfl)
theorem dX5_twoTold_8 : decode cX5_twoTold 8 = .ok (.invokevirtual 201, 3) := dk_182 0 201 (dk_at dksX5_twoTold_0 8 rfl rfl)
theorem dX5_twoTold_11 : decode cX5_twoTold 11 = .ok (.ifCond .ne 5, 3) := dk_154 0 5 (dk_at dksX5_twoTold_0 11 rfl rfl)
theorem dX5_twoTold_14 : decode cX5_twoTold 14 = .ok (.iconst 0, 1) := dk_3 (dk_at dksX5_twoTold_0 14 rfl rfl)
theorem dX5_twoTold_15 : decode cX5_twoTold 15 = .ok (.ireturn, 1) := dk_172 (dk_at dksX5_twoTold_0 15 rfl rfl)
theorem dX5_twoTold_16 : decode cX5_twoTold 16 = .ok (.aload_n 0, 1) := dk_42 (dk_at dksX5_twoTold_0 16 rfl rfl)
theorem dX5_twoTold_17 : decode cX5_twoTold 17 = .ok (.getfield 168, 3) := dk_180 0 168 (dk_at dksX5_twoTold_0 17 rfl rfl)
theorem dX5_twoTold_20 : decode cX5_twoTold 20 = .ok (.iconst 2, 1) := dk_5 (dk_at dksX5_twoTold_0 20 rfl rfl)
theorem dX5_twoTold_21 : decode cX5_twoTold 21 = .ok (.if_icmp .ne 21, 3) := dk_160 0 21 (dk_at dksX5_twoTold_0 21 rfl rfl)
theorem dX5_twoTold_24 : decode cX5_twoTold 24 = .ok (.aload_n 0, 1) := dk_42 (dk_at dksX5_twoTold_1 0 rfl rfl)
theorem dX5_twoTold_25 : decode cX5_twoTold 25 = .ok (.getfield 165, 3) := dk_180 0 165 (dk_at dksX5_twoTold_1 1 rfl rfl)
theorem dX5_twoTold_28 : decode cX5_twoTold 28 = .ok (.aload_n 0, 1) := dk_42 (dk_at dksX5_twoTold_1 4 rfl rfl)
theorem dX5_twoTold_29 : decode cX5_twoTold 29 = .ok (.getfield 58, 3) := dk_180 0 58 (dk_at dksX5_twoTold_1 5 rfl rfl)
theorem dX5_twoTold_32 : decode cX5_twoTold 32 = .ok (.iconst 0, 1) := dk_3 (dk_at dksX5_twoTold_1 8 rfl rfl)
theorem dX5_twoTold_33 : decode cX5_twoTold 33 = .ok (.iaload, 1) := dk_46 (dk_at dksX5_twoTold_1 9 rfl rfl)
theorem dX5_twoTold_34 : decode cX5_twoTold 34 = .ok (.if_icmp .ne 8, 3) := dk_160 0 8 (dk_at dksX5_twoTold_1 10 rfl rfl)
theorem dX5_twoTold_37 : decode cX5_twoTold 37 = .ok (.aload_n 0, 1) := dk_42 (dk_at dksX5_twoTold_1 13 rfl rfl)
theorem dX5_twoTold_38 : decode cX5_twoTold 38 = .ok (.invokevirtual 190, 3) := dk_182 0 190 (dk_at dksX5_twoTold_1 14 rfl rfl)
theorem dX5_twoTold_41 : decode cX5_twoTold 41 = .ok (.ireturn, 1) := dk_172 (dk_at dksX5_twoTold_1 17 rfl rfl)
theorem dX5_twoTold_42 : decode cX5_twoTold 42 = .ok (.aload_n 0, 1) := dk_42 (dk_at dksX5_twoTold_1 18 rfl rfl)
theorem dX5_twoTold_43 : decode cX5_twoTold 43 = .ok (.iconst 1, 1) := dk_4 (dk_at dksX5_twoTold_1 19 rfl rfl)
theorem dX5_twoTold_44 : decode cX5_twoTold 44 = .ok (.iconst 0, 1) := dk_3 (dk_at dksX5_twoTold_1 20 rfl rfl)
theorem dX5_twoTold_45 : decode cX5_twoTold 45 = .ok (.aload_n 0, 1) := dk_42 (dk_at dksX5_twoTold_1 21 rfl rfl)
theorem dX5_twoTold_46 : decode cX5_twoTold 46 = .ok (.getfield 85, 3) := dk_180 0 85 (dk_at dksX5_twoTold_2 0 rfl rfl)
theorem dX5_twoTold_49 : decode cX5_twoTold 49 = .ok (.iconst 1, 1) := dk_4 (dk_at dksX5_twoTold_2 3 rfl rfl)
theorem dX5_twoTold_50 : decode cX5_twoTold 50 = .ok (.isub, 1) := dk_100 (dk_at dksX5_twoTold_2 4 rfl rfl)
theorem dX5_twoTold_51 : decode cX5_twoTold 51 = .ok (.invokevirtual 197, 3) := dk_182 0 197 (dk_at dksX5_twoTold_2 5 rfl rfl)
theorem dX5_twoTold_54 : decode cX5_twoTold 54 = .ok (.ireturn, 1) := dk_172 (dk_at dksX5_twoTold_2 8 rfl rfl)
abbrev cX5_metTold : ByteArray := prog_18_method_39_code
def yX5_metTold : MethodName := ⟨RX5, "metTold", "()Z"⟩
def dkwX5_metTold_4 : List UInt8 := [182, 0, 213, 87, 4, 172]
abbrev dktX5_metTold_4 : List UInt8 := dkwX5_metTold_4 ++ []
def dkwX5_metTold_3 : List UInt8 := [182, 0, 197, 154, 0, 5, 3, 172, 27, 4, 42, 180, 0, 58, 3, 46, 120, 128, 60, 167, 255, 193, 42, 27]
abbrev dktX5_metTold_3 : List UInt8 := dkwX5_metTold_3 ++ dktX5_metTold_4
def dkwX5_metTold_2 : List UInt8 := [180, 0, 165, 184, 0, 151, 153, 0, 8, 42, 182, 0, 190, 172, 42, 3, 3, 42, 180, 0, 85, 4, 100]
abbrev dktX5_metTold_2 : List UInt8 := dkwX5_metTold_2 ++ dktX5_metTold_3
def dkwX5_metTold_1 : List UInt8 := [60, 42, 180, 0, 168, 5, 160, 0, 61, 42, 180, 0, 165, 42, 180, 0, 85, 162, 0, 19, 27, 42]
abbrev dktX5_metTold_1 : List UInt8 := dkwX5_metTold_1 ++ dktX5_metTold_2
def dkwX5_metTold_0 : List UInt8 := [42, 3, 42, 180, 0, 85, 4, 100, 182, 0, 201, 154, 0, 5, 3, 172, 4, 42, 180, 0, 58, 3, 46, 120]
abbrev dktX5_metTold_0 : List UInt8 := dkwX5_metTold_0 ++ dktX5_metTold_1
theorem dksX5_metTold_0 : cX5_metTold.data.toList.drop 0 = dktX5_metTold_0 := by decide +kernel
theorem dksX5_metTold_1 : cX5_metTold.data.toList.drop 24 = dktX5_metTold_1 := dk_seg dksX5_metTold_0 24 rfl rfl
theorem dksX5_metTold_2 : cX5_metTold.data.toList.drop 46 = dktX5_metTold_2 := dk_seg dksX5_metTold_1 22 rfl rfl
theorem dksX5_metTold_3 : cX5_metTold.data.toList.drop 69 = dktX5_metTold_3 := dk_seg dksX5_metTold_2 23 rfl rfl
theorem dksX5_metTold_4 : cX5_metTold.data.toList.drop 93 = dktX5_metTold_4 := dk_seg dksX5_metTold_3 24 rfl rfl
theorem dX5_metTold_0 : decode cX5_metTold 0 = .ok (.aload_n 0, 1) := dk_42 (dk_at dksX5_metTold_0 0 rfl rfl)
theorem dX5_metTold_1 : decode cX5_metTold 1 = .ok (.iconst 0, 1) := dk_3 (dk_at dksX5_metTold_0 1 rfl rfl)
theorem dX5_metTold_2 : decode cX5_metTold 2 = .ok (.aload_n 0, 1) := dk_42 (dk_at dksX5_metTold_0 2 rfl rfl)
theorem dX5_metTold_3 : decode cX5_metTold 3 = .ok (.getfield 85, 3) := dk_180 0 85 (dk_at dksX5_metTold_0 3 rfl rfl)
theorem dX5_metTold_6 : decode cX5_metTold 6 = .ok (.iconst 1, 1) := dk_4 (dk_at dksX5_metTold_0 6 rfl rfl)
theorem dX5_metTold_7 : decode cX5_metTold 7 = .ok (.isub, 1) := dk_100 (dk_at dksX5_metTold_0 7 rfl rfl)
theorem dX5_metTold_8 : decode cX5_metTold 8 = .ok (.invokevirtual 201, 3) := dk_182 0 201 (dk_at dksX5_metTold_0 8 rfl rfl)
theorem dX5_metTold_11 : decode cX5_metTold 11 = .ok (.ifCond .ne 5, 3) := dk_154 0 5 (dk_at dksX5_metTold_0 11 rfl rfl)
theorem dX5_metTold_14 : decode cX5_metTold 14 = .ok (.iconst 0, 1) := dk_3 (dk_at dksX5_metTold_0 14 rfl rfl)
theorem dX5_metTold_15 : decode cX5_metTold 15 = .ok (.ireturn, 1) := dk_172 (dk_at dksX5_metTold_0 15 rfl rfl)
theorem dX5_metTold_16 : decode cX5_metTold 16 = .ok (.iconst 1, 1) := dk_4 (dk_at dksX5_metTold_0 16 rfl rfl)
theorem dX5_metTold_17 : decode cX5_metTold 17 = .ok (.aload_n 0, 1) := dk_42 (dk_at dksX5_metTold_0 17 rfl rfl)
theorem dX5_metTold_18 : decode cX5_metTold 18 = .ok (.getfield 58, 3) := dk_180 0 58 (dk_at dksX5_metTold_0 18 rfl rfl)
theorem dX5_metTold_21 : decode cX5_metTold 21 = .ok (.iconst 0, 1) := dk_3 (dk_at dksX5_metTold_0 21 rfl rfl)
theorem dX5_metTold_22 : decode cX5_metTold 22 = .ok (.iaload, 1) := dk_46 (dk_at dksX5_metTold_0 22 rfl rfl)
theorem dX5_metTold_23 : decode cX5_metTold 23 = .ok (.ishl, 1) := dk_120 (dk_at dksX5_metTold_0 23 rfl rfl)
theorem dX5_metTold_24 : decode cX5_metTold 24 = .ok (.istore_n 1, 1) := dk_60 (dk_at dksX5_metTold_1 0 rfl rfl)
theorem dX5_metTold_25 : decode cX5_metTold 25 = .ok (.aload_n 0, 1) := dk_42 (dk_at dksX5_metTold_1 1 rfl rfl)
theorem dX5_metTold_26 : decode cX5_metTold 26 = .ok (.getfield 168, 3) := dk_180 0 168 (dk_at dksX5_metTold_1 2 rfl rfl)
theorem dX5_metTold_29 : decode cX5_metTold 29 = .ok (.iconst 2, 1) := dk_5 (dk_at dksX5_metTold_1 5 rfl rfl)
theorem dX5_metTold_30 : decode cX5_metTold 30 = .ok (.if_icmp .ne 61, 3) := dk_160 0 61 (dk_at dksX5_metTold_1 6 rfl rfl)
theorem dX5_metTold_33 : decode cX5_metTold 33 = .ok (.aload_n 0, 1) := dk_42 (dk_at dksX5_metTold_1 9 rfl rfl)
theorem dX5_metTold_34 : decode cX5_metTold 34 = .ok (.getfield 165, 3) := dk_180 0 165 (dk_at dksX5_metTold_1 10 rfl rfl)
theorem dX5_metTold_37 : decode cX5_metTold 37 = .ok (.aload_n 0, 1) := dk_42 (dk_at dksX5_metTold_1 13 rfl rfl)
theorem dX5_metTold_38 : decode cX5_metTold 38 = .ok (.getfield 85, 3) := dk_180 0 85 (dk_at dksX5_metTold_1 14 rfl rfl)
theorem dX5_metTold_41 : decode cX5_metTold 41 = .ok (.if_icmp .ge 19, 3) := dk_162 0 19 (dk_at dksX5_metTold_1 17 rfl rfl)
theorem dX5_metTold_44 : decode cX5_metTold 44 = .ok (.iload_n 1, 1) := dk_27 (dk_at dksX5_metTold_1 20 rfl rfl)
theorem dX5_metTold_45 : decode cX5_metTold 45 = .ok (.aload_n 0, 1) := dk_42 (dk_at dksX5_metTold_1 21 rfl rfl)
theorem dX5_metTold_46 : decode cX5_metTold 46 = .ok (.getfield 165, 3) := dk_180 0 165 (dk_at dksX5_metTold_2 0 rfl rfl)
theorem dX5_metTold_49 : decode cX5_metTold 49 = .ok (.invokestatic 151, 3) := dk_184 0 151 (dk_at dksX5_metTold_2 3 rfl rfl)
theorem dX5_metTold_52 : decode cX5_metTold 52 = .ok (.ifCond .eq 8, 3) := dk_153 0 8 (dk_at dksX5_metTold_2 6 rfl rfl)
theorem dX5_metTold_55 : decode cX5_metTold 55 = .ok (.aload_n 0, 1) := dk_42 (dk_at dksX5_metTold_2 9 rfl rfl)
theorem dX5_metTold_56 : decode cX5_metTold 56 = .ok (.invokevirtual 190, 3) := dk_182 0 190 (dk_at dksX5_metTold_2 10 rfl rfl)
theorem dX5_metTold_59 : decode cX5_metTold 59 = .ok (.ireturn, 1) := dk_172 (dk_at dksX5_metTold_2 13 rfl rfl)
theorem dX5_metTold_60 : decode cX5_metTold 60 = .ok (.aload_n 0, 1) := dk_42 (dk_at dksX5_metTold_2 14 rfl rfl)
theorem dX5_metTold_61 : decode cX5_metTold 61 = .ok (.iconst 0, 1) := dk_3 (dk_at dksX5_metTold_2 15 rfl rfl)
theorem dX5_metTold_62 : decode cX5_metTold 62 = .ok (.iconst 0, 1) := dk_3 (dk_at dksX5_metTold_2 16 rfl rfl)
theorem dX5_metTold_63 : decode cX5_metTold 63 = .ok (.aload_n 0, 1) := dk_42 (dk_at dksX5_metTold_2 17 rfl rfl)
theorem dX5_metTold_64 : decode cX5_metTold 64 = .ok (.getfield 85, 3) := dk_180 0 85 (dk_at dksX5_metTold_2 18 rfl rfl)
theorem dX5_metTold_67 : decode cX5_metTold 67 = .ok (.iconst 1, 1) := dk_4 (dk_at dksX5_metTold_2 21 rfl rfl)
theorem dX5_metTold_68 : decode cX5_metTold 68 = .ok (.isub, 1) := dk_100 (dk_at dksX5_metTold_2 22 rfl rfl)
theorem dX5_metTold_69 : decode cX5_metTold 69 = .ok (.invokevirtual 197, 3) := dk_182 0 197 (dk_at dksX5_metTold_3 0 rfl rfl)
theorem dX5_metTold_72 : decode cX5_metTold 72 = .ok (.ifCond .ne 5, 3) := dk_154 0 5 (dk_at dksX5_metTold_3 3 rfl rfl)
theorem dX5_metTold_75 : decode cX5_metTold 75 = .ok (.iconst 0, 1) := dk_3 (dk_at dksX5_metTold_3 6 rfl rfl)
theorem dX5_metTold_76 : decode cX5_metTold 76 = .ok (.ireturn, 1) := dk_172 (dk_at dksX5_metTold_3 7 rfl rfl)
theorem dX5_metTold_77 : decode cX5_metTold 77 = .ok (.iload_n 1, 1) := dk_27 (dk_at dksX5_metTold_3 8 rfl rfl)
theorem dX5_metTold_78 : decode cX5_metTold 78 = .ok (.iconst 1, 1) := dk_4 (dk_at dksX5_metTold_3 9 rfl rfl)
theorem dX5_metTold_79 : decode cX5_metTold 79 = .ok (.aload_n 0, 1) := dk_42 (dk_at dksX5_metTold_3 10 rfl rfl)
theorem dX5_metTold_80 : decode cX5_metTold 80 = .ok (.getfield 58, 3) := dk_180 0 58 (dk_at dksX5_metTold_3 11 rfl rfl)
theorem dX5_metTold_83 : decode cX5_metTold 83 = .ok (.iconst 0, 1) := dk_3 (dk_at dksX5_metTold_3 14 rfl rfl)
theorem dX5_metTold_84 : decode cX5_metTold 84 = .ok (.iaload, 1) := dk_46 (dk_at dksX5_metTold_3 15 rfl rfl)
theorem dX5_metTold_85 : decode cX5_metTold 85 = .ok (.ishl, 1) := dk_120 (dk_at dksX5_metTold_3 16 rfl rfl)
theorem dX5_metTold_86 : decode cX5_metTold 86 = .ok (.ior, 1) := dk_128 (dk_at dksX5_metTold_3 17 rfl rfl)
theorem dX5_metTold_87 : decode cX5_metTold 87 = .ok (.istore_n 1, 1) := dk_60 (dk_at dksX5_metTold_3 18 rfl rfl)
theorem dX5_metTold_88 : decode cX5_metTold 88 = .ok (.goto (-63), 3) := dk_167 255 193 (dk_at dksX5_metTold_3 19 rfl rfl)
theorem dX5_metTold_91 : decode cX5_metTold 91 = .ok (.aload_n 0, 1) := dk_42 (dk_at dksX5_metTold_3 22 rfl rfl)
theorem dX5_metTold_92 : decode cX5_metTold 92 = .ok (.iload_n 1, 1) := dk_27 (dk_at dksX5_metTold_3 23 rfl rfl)
theorem dX5_metTold_93 : decode cX5_metTold 93 = .ok (.invokevirtual 213, 3) := dk_182 0 213 (dk_at dksX5_metTold_4 0 rfl rfl)
theorem dX5_metTold_96 : decode cX5_metTold 96 = .ok (.pop, 1) := dk_87 (dk_at dksX5_metTold_4 3 rfl rfl)
theorem dX5_metTold_97 : decode cX5_metTold 97 = .ok (.iconst 1, 1) := dk_4 (dk_at dksX5_metTold_4 4 rfl rfl)
theorem dX5_metTold_98 : decode cX5_metTold 98 = .ok (.ireturn, 1) := dk_172 (dk_at dksX5_metTold_4 5 rfl rfl)
abbrev cX5_meets : ByteArray := prog_18_method_27_code
def yX5_meets : MethodName := ⟨RX5, "meets", "(I)I"⟩
def dkwX5_meets_3 : List UInt8 := [167, 255, 201, 132, 3, 1, 167, 255, 184, 28, 172]
abbrev dktX5_meets_3 : List UInt8 := dkwX5_meets_3 ++ []
def dkwX5_meets_2 : List UInt8 := [46, 2, 160, 0, 7, 4, 167, 0, 4, 3, 96, 61, 42, 29, 21, 4, 3, 182, 0, 142, 132, 4, 1]
abbrev dktX5_meets_2 : List UInt8 := dkwX5_meets_2 ++ dktX5_meets_3
def dkwX5_meets_1 : List UInt8 := [184, 0, 151, 153, 0, 41, 27, 21, 4, 184, 0, 151, 153, 0, 32, 28, 42, 180, 0, 48, 29, 50, 21, 4]
abbrev dktX5_meets_1 : List UInt8 := dkwX5_meets_1 ++ dktX5_meets_2
def dkwX5_meets_0 : List UInt8 := [3, 61, 3, 62, 29, 42, 180, 0, 85, 162, 0, 70, 3, 54, 4, 21, 4, 29, 162, 0, 55, 27, 29]
abbrev dktX5_meets_0 : List UInt8 := dkwX5_meets_0 ++ dktX5_meets_1
theorem dksX5_meets_0 : cX5_meets.data.toList.drop 0 = dktX5_meets_0 := by decide +kernel
theorem dksX5_meets_1 : cX5_meets.data.toList.drop 23 = dktX5_meets_1 := dk_seg dksX5_meets_0 23 rfl rfl
theorem dksX5_meets_2 : cX5_meets.data.toList.drop 47 = dktX5_meets_2 := dk_seg dksX5_meets_1 24 rfl rfl
theorem dksX5_meets_3 : cX5_meets.data.toList.drop 70 = dktX5_meets_3 := dk_seg dksX5_meets_2 23 rfl rfl
theorem dX5_meets_0 : decode cX5_meets 0 = .ok (.iconst 0, 1) := dk_3 (dk_at dksX5_meets_0 0 rfl rfl)
theorem dX5_meets_1 : decode cX5_meets 1 = .ok (.istore_n 2, 1) := dk_61 (dk_at dksX5_meets_0 1 rfl rfl)
theorem dX5_meets_2 : decode cX5_meets 2 = .ok (.iconst 0, 1) := dk_3 (dk_at dksX5_meets_0 2 rfl rfl)
theorem dX5_meets_3 : decode cX5_meets 3 = .ok (.istore_n 3, 1) := dk_62 (dk_at dksX5_meets_0 3 rfl rfl)
theorem dX5_meets_4 : decode cX5_meets 4 = .ok (.iload_n 3, 1) := dk_29 (dk_at dksX5_meets_0 4 rfl rfl)
theorem dX5_meets_5 : decode cX5_meets 5 = .ok (.aload_n 0, 1) := dk_42 (dk_at dksX5_meets_0 5 rfl rfl)
theorem dX5_meets_6 : decode cX5_meets 6 = .ok (.getfield 85, 3) := dk_180 0 85 (dk_at dksX5_meets_0 6 rfl rfl)
theorem dX5_meets_9 : decode cX5_meets 9 = .ok (.if_icmp .ge 70, 3) := dk_162 0 70 (dk_at dksX5_meets_0 9 rfl rfl)
theorem dX5_meets_12 : decode cX5_meets 12 = .ok (.iconst 0, 1) := dk_3 (dk_at dksX5_meets_0 12 rfl rfl)
theorem dX5_meets_13 : decode cX5_meets 13 = .ok (.istore 4, 2) := dk_54 4 (dk_at dksX5_meets_0 13 rfl rfl)
theorem dX5_meets_15 : decode cX5_meets 15 = .ok (.iload 4, 2) := dk_21 4 (dk_at dksX5_meets_0 15 rfl rfl)
theorem dX5_meets_17 : decode cX5_meets 17 = .ok (.iload_n 3, 1) := dk_29 (dk_at dksX5_meets_0 17 rfl rfl)
theorem dX5_meets_18 : decode cX5_meets 18 = .ok (.if_icmp .ge 55, 3) := dk_162 0 55 (dk_at dksX5_meets_0 18 rfl rfl)
theorem dX5_meets_21 : decode cX5_meets 21 = .ok (.iload_n 1, 1) := dk_27 (dk_at dksX5_meets_0 21 rfl rfl)
theorem dX5_meets_22 : decode cX5_meets 22 = .ok (.iload_n 3, 1) := dk_29 (dk_at dksX5_meets_0 22 rfl rfl)
theorem dX5_meets_23 : decode cX5_meets 23 = .ok (.invokestatic 151, 3) := dk_184 0 151 (dk_at dksX5_meets_1 0 rfl rfl)
theorem dX5_meets_26 : decode cX5_meets 26 = .ok (.ifCond .eq 41, 3) := dk_153 0 41 (dk_at dksX5_meets_1 3 rfl rfl)
theorem dX5_meets_29 : decode cX5_meets 29 = .ok (.iload_n 1, 1) := dk_27 (dk_at dksX5_meets_1 6 rfl rfl)
theorem dX5_meets_30 : decode cX5_meets 30 = .ok (.iload 4, 2) := dk_21 4 (dk_at dksX5_meets_1 7 rfl rfl)
theorem dX5_meets_32 : decode cX5_meets 32 = .ok (.invokestatic 151, 3) := dk_184 0 151 (dk_at dksX5_meets_1 9 rfl rfl)
theorem dX5_meets_35 : decode cX5_meets 35 = .ok (.ifCond .eq 32, 3) := dk_153 0 32 (dk_at dksX5_meets_1 12 rfl rfl)
theorem dX5_meets_38 : decode cX5_meets 38 = .ok (.iload_n 2, 1) := dk_28 (dk_at dksX5_meets_1 15 rfl rfl)
theorem dX5_meets_39 : decode cX5_meets 39 = .ok (.aload_n 0, 1) := dk_42 (dk_at dksX5_meets_1 16 rfl rfl)
theorem dX5_meets_40 : decode cX5_meets 40 = .ok (.getfield 48, 3) := dk_180 0 48 (dk_at dksX5_meets_1 17 rfl rfl)
theorem dX5_meets_43 : decode cX5_meets 43 = .ok (.iload_n 3, 1) := dk_29 (dk_at dksX5_meets_1 20 rfl rfl)
theorem dX5_meets_44 : decode cX5_meets 44 = .ok (.aaload, 1) := dk_50 (dk_at dksX5_meets_1 21 rfl rfl)
theorem dX5_meets_45 : decode cX5_meets 45 = .ok (.iload 4, 2) := dk_21 4 (dk_at dksX5_meets_1 22 rfl rfl)
theorem dX5_meets_47 : decode cX5_meets 47 = .ok (.iaload, 1) := dk_46 (dk_at dksX5_meets_2 0 rfl rfl)
theorem dX5_meets_48 : decode cX5_meets 48 = .ok (.iconst (-1), 1) := dk_2 (dk_at dksX5_meets_2 1 rfl rfl)
theorem dX5_meets_49 : decode cX5_meets 49 = .ok (.if_icmp .ne 7, 3) := dk_160 0 7 (dk_at dksX5_meets_2 2 rfl rfl)
theorem dX5_meets_52 : decode cX5_meets 52 = .ok (.iconst 1, 1) := dk_4 (dk_at dksX5_meets_2 5 rfl rfl)
theorem dX5_meets_53 : decode cX5_meets 53 = .ok (.goto 4, 3) := dk_167 0 4 (dk_at dksX5_meets_2 6 rfl rfl)
theorem dX5_meets_56 : decode cX5_meets 56 = .ok (.iconst 0, 1) := dk_3 (dk_at dksX5_meets_2 9 rfl rfl)
theorem dX5_meets_57 : decode cX5_meets 57 = .ok (.iadd, 1) := dk_96 (dk_at dksX5_meets_2 10 rfl rfl)
theorem dX5_meets_58 : decode cX5_meets 58 = .ok (.istore_n 2, 1) := dk_61 (dk_at dksX5_meets_2 11 rfl rfl)
theorem dX5_meets_59 : decode cX5_meets 59 = .ok (.aload_n 0, 1) := dk_42 (dk_at dksX5_meets_2 12 rfl rfl)
theorem dX5_meets_60 : decode cX5_meets 60 = .ok (.iload_n 3, 1) := dk_29 (dk_at dksX5_meets_2 13 rfl rfl)
theorem dX5_meets_61 : decode cX5_meets 61 = .ok (.iload 4, 2) := dk_21 4 (dk_at dksX5_meets_2 14 rfl rfl)
theorem dX5_meets_63 : decode cX5_meets 63 = .ok (.iconst 0, 1) := dk_3 (dk_at dksX5_meets_2 16 rfl rfl)
theorem dX5_meets_64 : decode cX5_meets 64 = .ok (.invokevirtual 142, 3) := dk_182 0 142 (dk_at dksX5_meets_2 17 rfl rfl)
theorem dX5_meets_67 : decode cX5_meets 67 = .ok (.iinc 4 1, 3) := dk_132 4 1 (dk_at dksX5_meets_2 20 rfl rfl)
theorem dX5_meets_70 : decode cX5_meets 70 = .ok (.goto (-55), 3) := dk_167 255 201 (dk_at dksX5_meets_3 0 rfl rfl)
theorem dX5_meets_73 : decode cX5_meets 73 = .ok (.iinc 3 1, 3) := dk_132 3 1 (dk_at dksX5_meets_3 3 rfl rfl)
theorem dX5_meets_76 : decode cX5_meets 76 = .ok (.goto (-72), 3) := dk_167 255 184 (dk_at dksX5_meets_3 6 rfl rfl)
theorem dX5_meets_79 : decode cX5_meets 79 = .ok (.iload_n 2, 1) := dk_28 (dk_at dksX5_meets_3 9 rfl rfl)
theorem dX5_meets_80 : decode cX5_meets 80 = .ok (.ireturn, 1) := dk_172 (dk_at dksX5_meets_3 10 rfl rfl)
abbrev cX5_personOf : ByteArray := prog_18_method_44_code
def yX5_personOf : MethodName := ⟨RX5, "personOf", "(II)I"⟩
def dkwX5_personOf_4 : List UInt8 := [182, 0, 251, 184, 0, 254, 172]
abbrev dktX5_personOf_4 : List UInt8 := dkwX5_personOf_4 ++ []
def dkwX5_personOf_3 : List UInt8 := [42, 180, 0, 40, 27, 46, 172, 42, 180, 0, 43, 27, 46, 172, 42, 27, 182, 0, 251, 172, 42, 27]
abbrev dktX5_personOf_3 : List UInt8 := dkwX5_personOf_3 ++ dktX5_personOf_4
def dkwX5_personOf_2 : List UInt8 := [170, 0, 0, 0, 0, 0, 0, 48, 0, 0, 0, 0, 0, 0, 0, 2, 0, 0, 0, 28, 0, 0, 0, 35, 0, 0, 0, 42]
abbrev dktX5_personOf_2 : List UInt8 := dkwX5_personOf_2 ++ dktX5_personOf_3
def dkwX5_personOf_1 : List UInt8 := [182, 0, 102, 172, 28]
abbrev dktX5_personOf_1 : List UInt8 := dkwX5_personOf_1 ++ dktX5_personOf_2
def dkwX5_personOf_0 : List UInt8 := [42, 27, 182, 0, 131, 153, 0, 15, 28, 133, 9, 20, 0, 249, 184, 0, 88, 154, 0, 10, 42, 16, 254]
abbrev dktX5_personOf_0 : List UInt8 := dkwX5_personOf_0 ++ dktX5_personOf_1
theorem dksX5_personOf_0 : cX5_personOf.data.toList.drop 0 = dktX5_personOf_0 := by decide +kernel
theorem dksX5_personOf_1 : cX5_personOf.data.toList.drop 23 = dktX5_personOf_1 := dk_seg dksX5_personOf_0 23 rfl rfl
theorem dksX5_personOf_2 : cX5_personOf.data.toList.drop 28 = dktX5_personOf_2 := dk_seg dksX5_personOf_1 5 rfl rfl
theorem dksX5_personOf_3 : cX5_personOf.data.toList.drop 56 = dktX5_personOf_3 := dk_seg dksX5_personOf_2 28 rfl rfl
theorem dksX5_personOf_4 : cX5_personOf.data.toList.drop 78 = dktX5_personOf_4 := dk_seg dksX5_personOf_3 22 rfl rfl
theorem dX5_personOf_0 : decode cX5_personOf 0 = .ok (.aload_n 0, 1) := dk_42 (dk_at dksX5_personOf_0 0 rfl rfl)
theorem dX5_personOf_1 : decode cX5_personOf 1 = .ok (.iload_n 1, 1) := dk_27 (dk_at dksX5_personOf_0 1 rfl rfl)
theorem dX5_personOf_2 : decode cX5_personOf 2 = .ok (.invokevirtual 131, 3) := dk_182 0 131 (dk_at dksX5_personOf_0 2 rfl rfl)
theorem dX5_personOf_5 : decode cX5_personOf 5 = .ok (.ifCond .eq 15, 3) := dk_153 0 15 (dk_at dksX5_personOf_0 5 rfl rfl)
theorem dX5_personOf_8 : decode cX5_personOf 8 = .ok (.iload_n 2, 1) := dk_28 (dk_at dksX5_personOf_0 8 rfl rfl)
theorem dX5_personOf_9 : decode cX5_personOf 9 = .ok (.i2l, 1) := dk_133 (dk_at dksX5_personOf_0 9 rfl rfl)
theorem dX5_personOf_10 : decode cX5_personOf 10 = .ok (.lconst 0, 1) := dk_9 (dk_at dksX5_personOf_0 10 rfl rfl)
theorem dX5_personOf_11 : decode cX5_personOf 11 = .ok (.ldc2_w 249, 3) := dk_20 0 249 (dk_at dksX5_personOf_0 11 rfl rfl)
theorem dX5_personOf_14 : decode cX5_personOf 14 = .ok (.invokestatic 88, 3) := dk_184 0 88 (dk_at dksX5_personOf_0 14 rfl rfl)
theorem dX5_personOf_17 : decode cX5_personOf 17 = .ok (.ifCond .ne 10, 3) := dk_154 0 10 (dk_at dksX5_personOf_0 17 rfl rfl)
theorem dX5_personOf_20 : decode cX5_personOf 20 = .ok (.aload_n 0, 1) := dk_42 (dk_at dksX5_personOf_0 20 rfl rfl)
theorem dX5_personOf_21 : decode cX5_personOf 21 = .ok (.bipush (-2), 2) := dk_16 254 (dk_at dksX5_personOf_0 21 rfl rfl)
theorem dX5_personOf_23 : decode cX5_personOf 23 = .ok (.invokevirtual 102, 3) := dk_182 0 102 (dk_at dksX5_personOf_1 0 rfl rfl)
theorem dX5_personOf_26 : decode cX5_personOf 26 = .ok (.ireturn, 1) := dk_172 (dk_at dksX5_personOf_1 3 rfl rfl)
theorem dX5_personOf_27 : decode cX5_personOf 27 = .ok (.iload_n 2, 1) := dk_28 (dk_at dksX5_personOf_1 4 rfl rfl)
theorem dX5_personOf_28 : decode cX5_personOf 28 = .ok (.tableswitch 48 0 2 #[28, 35, 42], 28) := by decide +kernel
theorem dX5_personOf_56 : decode cX5_personOf 56 = .ok (.aload_n 0, 1) := dk_42 (dk_at dksX5_personOf_3 0 rfl rfl)
theorem dX5_personOf_57 : decode cX5_personOf 57 = .ok (.getfield 40, 3) := dk_180 0 40 (dk_at dksX5_personOf_3 1 rfl rfl)
theorem dX5_personOf_60 : decode cX5_personOf 60 = .ok (.iload_n 1, 1) := dk_27 (dk_at dksX5_personOf_3 4 rfl rfl)
theorem dX5_personOf_61 : decode cX5_personOf 61 = .ok (.iaload, 1) := dk_46 (dk_at dksX5_personOf_3 5 rfl rfl)
theorem dX5_personOf_62 : decode cX5_personOf 62 = .ok (.ireturn, 1) := dk_172 (dk_at dksX5_personOf_3 6 rfl rfl)
theorem dX5_personOf_63 : decode cX5_personOf 63 = .ok (.aload_n 0, 1) := dk_42 (dk_at dksX5_personOf_3 7 rfl rfl)
theorem dX5_personOf_64 : decode cX5_personOf 64 = .ok (.getfield 43, 3) := dk_180 0 43 (dk_at dksX5_personOf_3 8 rfl rfl)
theorem dX5_personOf_67 : decode cX5_personOf 67 = .ok (.iload_n 1, 1) := dk_27 (dk_at dksX5_personOf_3 11 rfl rfl)
theorem dX5_personOf_68 : decode cX5_personOf 68 = .ok (.iaload, 1) := dk_46 (dk_at dksX5_personOf_3 12 rfl rfl)
theorem dX5_personOf_69 : decode cX5_personOf 69 = .ok (.ireturn, 1) := dk_172 (dk_at dksX5_personOf_3 13 rfl rfl)
theorem dX5_personOf_70 : decode cX5_personOf 70 = .ok (.aload_n 0, 1) := dk_42 (dk_at dksX5_personOf_3 14 rfl rfl)
theorem dX5_personOf_71 : decode cX5_personOf 71 = .ok (.iload_n 1, 1) := dk_27 (dk_at dksX5_personOf_3 15 rfl rfl)
theorem dX5_personOf_72 : decode cX5_personOf 72 = .ok (.invokevirtual 251, 3) := dk_182 0 251 (dk_at dksX5_personOf_3 16 rfl rfl)
theorem dX5_personOf_75 : decode cX5_personOf 75 = .ok (.ireturn, 1) := dk_172 (dk_at dksX5_personOf_3 19 rfl rfl)
theorem dX5_personOf_76 : decode cX5_personOf 76 = .ok (.aload_n 0, 1) := dk_42 (dk_at dksX5_personOf_3 20 rfl rfl)
theorem dX5_personOf_77 : decode cX5_personOf 77 = .ok (.iload_n 1, 1) := dk_27 (dk_at dksX5_personOf_3 21 rfl rfl)
theorem dX5_personOf_78 : decode cX5_personOf 78 = .ok (.invokevirtual 251, 3) := dk_182 0 251 (dk_at dksX5_personOf_4 0 rfl rfl)
theorem dX5_personOf_81 : decode cX5_personOf 81 = .ok (.invokestatic 254, 3) := dk_184 0 254 (dk_at dksX5_personOf_4 3 rfl rfl)
theorem dX5_personOf_84 : decode cX5_personOf 84 = .ok (.ireturn, 1) := dk_172 (dk_at dksX5_personOf_4 6 rfl rfl)
abbrev cX5_knownOf : ByteArray := prog_18_method_45_code
def yX5_knownOf : MethodName := ⟨RX5, "knownOf", "(II)I"⟩
def dkwX5_knownOf_1 : List UInt8 := [182, 0, 102, 172]
abbrev dktX5_knownOf_1 : List UInt8 := dkwX5_knownOf_1 ++ []
def dkwX5_knownOf_0 : List UInt8 := [42, 27, 28, 182, 0, 135, 153, 0, 14, 42, 180, 0, 48, 27, 50, 28, 46, 167, 0, 9, 42, 16, 254]
abbrev dktX5_knownOf_0 : List UInt8 := dkwX5_knownOf_0 ++ dktX5_knownOf_1
theorem dksX5_knownOf_0 : cX5_knownOf.data.toList.drop 0 = dktX5_knownOf_0 := by decide +kernel
theorem dksX5_knownOf_1 : cX5_knownOf.data.toList.drop 23 = dktX5_knownOf_1 := dk_seg dksX5_knownOf_0 23 rfl rfl
theorem dX5_knownOf_0 : decode cX5_knownOf 0 = .ok (.aload_n 0, 1) := dk_42 (dk_at dksX5_knownOf_0 0 rfl rfl)
theorem dX5_knownOf_1 : decode cX5_knownOf 1 = .ok (.iload_n 1, 1) := dk_27 (dk_at dksX5_knownOf_0 1 rfl rfl)
theorem dX5_knownOf_2 : decode cX5_knownOf 2 = .ok (.iload_n 2, 1) := dk_28 (dk_at dksX5_knownOf_0 2 rfl rfl)
theorem dX5_knownOf_3 : decode cX5_knownOf 3 = .ok (.invokevirtual 135, 3) := dk_182 0 135 (dk_at dksX5_knownOf_0 3 rfl rfl)
theorem dX5_knownOf_6 : decode cX5_knownOf 6 = .ok (.ifCond .eq 14, 3) := dk_153 0 14 (dk_at dksX5_knownOf_0 6 rfl rfl)
theorem dX5_knownOf_9 : decode cX5_knownOf 9 = .ok (.aload_n 0, 1) := dk_42 (dk_at dksX5_knownOf_0 9 rfl rfl)
theorem dX5_knownOf_10 : decode cX5_knownOf 10 = .ok (.getfield 48, 3) := dk_180 0 48 (dk_at dksX5_knownOf_0 10 rfl rfl)
theorem dX5_knownOf_13 : decode cX5_knownOf 13 = .ok (.iload_n 1, 1) := dk_27 (dk_at dksX5_knownOf_0 13 rfl rfl)
theorem dX5_knownOf_14 : decode cX5_knownOf 14 = .ok (.aaload, 1) := dk_50 (dk_at dksX5_knownOf_0 14 rfl rfl)
theorem dX5_knownOf_15 : decode cX5_knownOf 15 = .ok (.iload_n 2, 1) := dk_28 (dk_at dksX5_knownOf_0 15 rfl rfl)
theorem dX5_knownOf_16 : decode cX5_knownOf 16 = .ok (.iaload, 1) := dk_46 (dk_at dksX5_knownOf_0 16 rfl rfl)
theorem dX5_knownOf_17 : decode cX5_knownOf 17 = .ok (.goto 9, 3) := dk_167 0 9 (dk_at dksX5_knownOf_0 17 rfl rfl)
theorem dX5_knownOf_20 : decode cX5_knownOf 20 = .ok (.aload_n 0, 1) := dk_42 (dk_at dksX5_knownOf_0 20 rfl rfl)
theorem dX5_knownOf_21 : decode cX5_knownOf 21 = .ok (.bipush (-2), 2) := dk_16 254 (dk_at dksX5_knownOf_0 21 rfl rfl)
theorem dX5_knownOf_23 : decode cX5_knownOf 23 = .ok (.invokevirtual 102, 3) := dk_182 0 102 (dk_at dksX5_knownOf_1 0 rfl rfl)
theorem dX5_knownOf_26 : decode cX5_knownOf 26 = .ok (.ireturn, 1) := dk_172 (dk_at dksX5_knownOf_1 3 rfl rfl)
abbrev cX5_isGroup : ByteArray := prog_18_method_49_code
def yX5_isGroup : MethodName := ⟨RX5, "isGroup", "(I)I"⟩
def dkwX5_isGroup_1 : List UInt8 := [167, 0, 4, 3, 172]
abbrev dktX5_isGroup_1 : List UInt8 := dkwX5_isGroup_1 ++ []
def dkwX5_isGroup_0 : List UInt8 := [42, 27, 182, 1, 7, 154, 0, 10, 42, 16, 254, 182, 0, 102, 172, 42, 27, 182, 1, 10, 153, 0, 7, 4]
abbrev dktX5_isGroup_0 : List UInt8 := dkwX5_isGroup_0 ++ dktX5_isGroup_1
theorem dksX5_isGroup_0 : cX5_isGroup.data.toList.drop 0 = dktX5_isGroup_0 := by decide +kernel
theorem dksX5_isGroup_1 : cX5_isGroup.data.toList.drop 24 = dktX5_isGroup_1 := dk_seg dksX5_isGroup_0 24 rfl rfl
theorem dX5_isGroup_0 : decode cX5_isGroup 0 = .ok (.aload_n 0, 1) := dk_42 (dk_at dksX5_isGroup_0 0 rfl rfl)
theorem dX5_isGroup_1 : decode cX5_isGroup 1 = .ok (.iload_n 1, 1) := dk_27 (dk_at dksX5_isGroup_0 1 rfl rfl)
theorem dX5_isGroup_2 : decode cX5_isGroup 2 = .ok (.invokevirtual 263, 3) := dk_182 1 7 (dk_at dksX5_isGroup_0 2 rfl rfl)
theorem dX5_isGroup_5 : decode cX5_isGroup 5 = .ok (.ifCond .ne 10, 3) := dk_154 0 10 (dk_at dksX5_isGroup_0 5 rfl rfl)
theorem dX5_isGroup_8 : decode cX5_isGroup 8 = .ok (.aload_n 0, 1) := dk_42 (dk_at dksX5_isGroup_0 8 rfl rfl)
theorem dX5_isGroup_9 : decode cX5_isGroup 9 = .ok (.bipush (-2), 2) := dk_16 254 (dk_at dksX5_isGroup_0 9 rfl rfl)
theorem dX5_isGroup_11 : decode cX5_isGroup 11 = .ok (.invokevirtual 102, 3) := dk_182 0 102 (dk_at dksX5_isGroup_0 11 rfl rfl)
theorem dX5_isGroup_14 : decode cX5_isGroup 14 = .ok (.ireturn, 1) := dk_172 (dk_at dksX5_isGroup_0 14 rfl rfl)
theorem dX5_isGroup_15 : decode cX5_isGroup 15 = .ok (.aload_n 0, 1) := dk_42 (dk_at dksX5_isGroup_0 15 rfl rfl)
theorem dX5_isGroup_16 : decode cX5_isGroup 16 = .ok (.iload_n 1, 1) := dk_27 (dk_at dksX5_isGroup_0 16 rfl rfl)
theorem dX5_isGroup_17 : decode cX5_isGroup 17 = .ok (.invokevirtual 266, 3) := dk_182 1 10 (dk_at dksX5_isGroup_0 17 rfl rfl)
theorem dX5_isGroup_20 : decode cX5_isGroup 20 = .ok (.ifCond .eq 7, 3) := dk_153 0 7 (dk_at dksX5_isGroup_0 20 rfl rfl)
theorem dX5_isGroup_23 : decode cX5_isGroup 23 = .ok (.iconst 1, 1) := dk_4 (dk_at dksX5_isGroup_0 23 rfl rfl)
theorem dX5_isGroup_24 : decode cX5_isGroup 24 = .ok (.goto 4, 3) := dk_167 0 4 (dk_at dksX5_isGroup_1 0 rfl rfl)
theorem dX5_isGroup_27 : decode cX5_isGroup 27 = .ok (.iconst 0, 1) := dk_3 (dk_at dksX5_isGroup_1 3 rfl rfl)
theorem dX5_isGroup_28 : decode cX5_isGroup 28 = .ok (.ireturn, 1) := dk_172 (dk_at dksX5_isGroup_1 4 rfl rfl)
abbrev cX5_isSet : ByteArray := prog_18_method_6_code
def yX5_isSet : MethodName := ⟨RX5, "isSet", "(I)Z"⟩
def dkwX5_isSet_0 : List UInt8 := [27, 133, 9, 42, 182, 0, 92, 133, 184, 0, 88, 172]
abbrev dktX5_isSet_0 : List UInt8 := dkwX5_isSet_0 ++ []
theorem dksX5_isSet_0 : cX5_isSet.data.toList.drop 0 = dktX5_isSet_0 := by decide +kernel
theorem dX5_isSet_0 : decode cX5_isSet 0 = .ok (.iload_n 1, 1) := dk_27 (dk_at dksX5_isSet_0 0 rfl rfl)
theorem dX5_isSet_1 : decode cX5_isSet 1 = .ok (.i2l, 1) := dk_133 (dk_at dksX5_isSet_0 1 rfl rfl)
theorem dX5_isSet_2 : decode cX5_isSet 2 = .ok (.lconst 0, 1) := dk_9 (dk_at dksX5_isSet_0 2 rfl rfl)
theorem dX5_isSet_3 : decode cX5_isSet 3 = .ok (.aload_n 0, 1) := dk_42 (dk_at dksX5_isSet_0 3 rfl rfl)
theorem dX5_isSet_4 : decode cX5_isSet 4 = .ok (.invokevirtual 92, 3) := dk_182 0 92 (dk_at dksX5_isSet_0 4 rfl rfl)
theorem dX5_isSet_7 : decode cX5_isSet 7 = .ok (.i2l, 1) := dk_133 (dk_at dksX5_isSet_0 7 rfl rfl)
theorem dX5_isSet_8 : decode cX5_isSet 8 = .ok (.invokestatic 88, 3) := dk_184 0 88 (dk_at dksX5_isSet_0 8 rfl rfl)
theorem dX5_isSet_11 : decode cX5_isSet 11 = .ok (.ireturn, 1) := dk_172 (dk_at dksX5_isSet_0 11 rfl rfl)
abbrev cX5_isGroupNow : ByteArray := prog_18_method_46_code
def yX5_isGroupNow : MethodName := ⟨RX5, "isGroupNow", "(I)Z"⟩
def dkwX5_isGroupNow_3 : List UInt8 := [167, 255, 202, 4, 172]
abbrev dktX5_isGroupNow_3 : List UInt8 := dkwX5_isGroupNow_3 ++ []
def dkwX5_isGroupNow_2 : List UInt8 := [180, 0, 48, 28, 50, 29, 46, 2, 159, 0, 5, 3, 172, 132, 3, 1, 167, 255, 218, 132, 2, 1]
abbrev dktX5_isGroupNow_2 : List UInt8 := dkwX5_isGroupNow_2 ++ dktX5_isGroupNow_3
def dkwX5_isGroupNow_1 : List UInt8 := [62, 29, 28, 162, 0, 39, 27, 28, 184, 0, 151, 153, 0, 25, 27, 29, 184, 0, 151, 153, 0, 17, 42]
abbrev dktX5_isGroupNow_1 : List UInt8 := dkwX5_isGroupNow_1 ++ dktX5_isGroupNow_2
def dkwX5_isGroupNow_0 : List UInt8 := [27, 184, 0, 254, 42, 180, 0, 51, 159, 0, 5, 3, 172, 3, 61, 28, 42, 180, 0, 85, 162, 0, 52, 3]
abbrev dktX5_isGroupNow_0 : List UInt8 := dkwX5_isGroupNow_0 ++ dktX5_isGroupNow_1
theorem dksX5_isGroupNow_0 : cX5_isGroupNow.data.toList.drop 0 = dktX5_isGroupNow_0 := by decide +kernel
theorem dksX5_isGroupNow_1 : cX5_isGroupNow.data.toList.drop 24 = dktX5_isGroupNow_1 := dk_seg dksX5_isGroupNow_0 24 rfl rfl
theorem dksX5_isGroupNow_2 : cX5_isGroupNow.data.toList.drop 47 = dktX5_isGroupNow_2 := dk_seg dksX5_isGroupNow_1 23 rfl rfl
theorem dksX5_isGroupNow_3 : cX5_isGroupNow.data.toList.drop 69 = dktX5_isGroupNow_3 := dk_seg dksX5_isGroupNow_2 22 rfl rfl
theorem dX5_isGroupNow_0 : decode cX5_isGroupNow 0 = .ok (.iload_n 1, 1) := dk_27 (dk_at dksX5_isGroupNow_0 0 rfl rfl)
theorem dX5_isGroupNow_1 : decode cX5_isGroupNow 1 = .ok (.invokestatic 254, 3) := dk_184 0 254 (dk_at dksX5_isGroupNow_0 1 rfl rfl)
theorem dX5_isGroupNow_4 : decode cX5_isGroupNow 4 = .ok (.aload_n 0, 1) := dk_42 (dk_at dksX5_isGroupNow_0 4 rfl rfl)
theorem dX5_isGroupNow_5 : decode cX5_isGroupNow 5 = .ok (.getfield 51, 3) := dk_180 0 51 (dk_at dksX5_isGroupNow_0 5 rfl rfl)
theorem dX5_isGroupNow_8 : decode cX5_isGroupNow 8 = .ok (.if_icmp .eq 5, 3) := dk_159 0 5 (dk_at dksX5_isGroupNow_0 8 rfl rfl)
theorem dX5_isGroupNow_11 : decode cX5_isGroupNow 11 = .ok (.iconst 0, 1) := dk_3 (dk_at dksX5_isGroupNow_0 11 rfl rfl)
theorem dX5_isGroupNow_12 : decode cX5_isGroupNow 12 = .ok (.ireturn, 1) := dk_172 (dk_at dksX5_isGroupNow_0 12 rfl rfl)
theorem dX5_isGroupNow_13 : decode cX5_isGroupNow 13 = .ok (.iconst 0, 1) := dk_3 (dk_at dksX5_isGroupNow_0 13 rfl rfl)
theorem dX5_isGroupNow_14 : decode cX5_isGroupNow 14 = .ok (.istore_n 2, 1) := dk_61 (dk_at dksX5_isGroupNow_0 14 rfl rfl)
theorem dX5_isGroupNow_15 : decode cX5_isGroupNow 15 = .ok (.iload_n 2, 1) := dk_28 (dk_at dksX5_isGroupNow_0 15 rfl rfl)
theorem dX5_isGroupNow_16 : decode cX5_isGroupNow 16 = .ok (.aload_n 0, 1) := dk_42 (dk_at dksX5_isGroupNow_0 16 rfl rfl)
theorem dX5_isGroupNow_17 : decode cX5_isGroupNow 17 = .ok (.getfield 85, 3) := dk_180 0 85 (dk_at dksX5_isGroupNow_0 17 rfl rfl)
theorem dX5_isGroupNow_20 : decode cX5_isGroupNow 20 = .ok (.if_icmp .ge 52, 3) := dk_162 0 52 (dk_at dksX5_isGroupNow_0 20 rfl rfl)
theorem dX5_isGroupNow_23 : decode cX5_isGroupNow 23 = .ok (.iconst 0, 1) := dk_3 (dk_at dksX5_isGroupNow_0 23 rfl rfl)
theorem dX5_isGroupNow_24 : decode cX5_isGroupNow 24 = .ok (.istore_n 3, 1) := dk_62 (dk_at dksX5_isGroupNow_1 0 rfl rfl)
theorem dX5_isGroupNow_25 : decode cX5_isGroupNow 25 = .ok (.iload_n 3, 1) := dk_29 (dk_at dksX5_isGroupNow_1 1 rfl rfl)
theorem dX5_isGroupNow_26 : decode cX5_isGroupNow 26 = .ok (.iload_n 2, 1) := dk_28 (dk_at dksX5_isGroupNow_1 2 rfl rfl)
theorem dX5_isGroupNow_27 : decode cX5_isGroupNow 27 = .ok (.if_icmp .ge 39, 3) := dk_162 0 39 (dk_at dksX5_isGroupNow_1 3 rfl rfl)
theorem dX5_isGroupNow_30 : decode cX5_isGroupNow 30 = .ok (.iload_n 1, 1) := dk_27 (dk_at dksX5_isGroupNow_1 6 rfl rfl)
theorem dX5_isGroupNow_31 : decode cX5_isGroupNow 31 = .ok (.iload_n 2, 1) := dk_28 (dk_at dksX5_isGroupNow_1 7 rfl rfl)
theorem dX5_isGroupNow_32 : decode cX5_isGroupNow 32 = .ok (.invokestatic 151, 3) := dk_184 0 151 (dk_at dksX5_isGroupNow_1 8 rfl rfl)
theorem dX5_isGroupNow_35 : decode cX5_isGroupNow 35 = .ok (.ifCond .eq 25, 3) := dk_153 0 25 (dk_at dksX5_isGroupNow_1 11 rfl rfl)
theorem dX5_isGroupNow_38 : decode cX5_isGroupNow 38 = .ok (.iload_n 1, 1) := dk_27 (dk_at dksX5_isGroupNow_1 14 rfl rfl)
theorem dX5_isGroupNow_39 : decode cX5_isGroupNow 39 = .ok (.iload_n 3, 1) := dk_29 (dk_at dksX5_isGroupNow_1 15 rfl rfl)
theorem dX5_isGroupNow_40 : decode cX5_isGroupNow 40 = .ok (.invokestatic 151, 3) := dk_184 0 151 (dk_at dksX5_isGroupNow_1 16 rfl rfl)
theorem dX5_isGroupNow_43 : decode cX5_isGroupNow 43 = .ok (.ifCond .eq 17, 3) := dk_153 0 17 (dk_at dksX5_isGroupNow_1 19 rfl rfl)
theorem dX5_isGroupNow_46 : decode cX5_isGroupNow 46 = .ok (.aload_n 0, 1) := dk_42 (dk_at dksX5_isGroupNow_1 22 rfl rfl)
theorem dX5_isGroupNow_47 : decode cX5_isGroupNow 47 = .ok (.getfield 48, 3) := dk_180 0 48 (dk_at dksX5_isGroupNow_2 0 rfl rfl)
theorem dX5_isGroupNow_50 : decode cX5_isGroupNow 50 = .ok (.iload_n 2, 1) := dk_28 (dk_at dksX5_isGroupNow_2 3 rfl rfl)
theorem dX5_isGroupNow_51 : decode cX5_isGroupNow 51 = .ok (.aaload, 1) := dk_50 (dk_at dksX5_isGroupNow_2 4 rfl rfl)
theorem dX5_isGroupNow_52 : decode cX5_isGroupNow 52 = .ok (.iload_n 3, 1) := dk_29 (dk_at dksX5_isGroupNow_2 5 rfl rfl)
theorem dX5_isGroupNow_53 : decode cX5_isGroupNow 53 = .ok (.iaload, 1) := dk_46 (dk_at dksX5_isGroupNow_2 6 rfl rfl)
theorem dX5_isGroupNow_54 : decode cX5_isGroupNow 54 = .ok (.iconst (-1), 1) := dk_2 (dk_at dksX5_isGroupNow_2 7 rfl rfl)
theorem dX5_isGroupNow_55 : decode cX5_isGroupNow 55 = .ok (.if_icmp .eq 5, 3) := dk_159 0 5 (dk_at dksX5_isGroupNow_2 8 rfl rfl)
theorem dX5_isGroupNow_58 : decode cX5_isGroupNow 58 = .ok (.iconst 0, 1) := dk_3 (dk_at dksX5_isGroupNow_2 11 rfl rfl)
theorem dX5_isGroupNow_59 : decode cX5_isGroupNow 59 = .ok (.ireturn, 1) := dk_172 (dk_at dksX5_isGroupNow_2 12 rfl rfl)
theorem dX5_isGroupNow_60 : decode cX5_isGroupNow 60 = .ok (.iinc 3 1, 3) := dk_132 3 1 (dk_at dksX5_isGroupNow_2 13 rfl rfl)
theorem dX5_isGroupNow_63 : decode cX5_isGroupNow 63 = .ok (.goto (-38), 3) := dk_167 255 218 (dk_at dksX5_isGroupNow_2 16 rfl rfl)
theorem dX5_isGroupNow_66 : decode cX5_isGroupNow 66 = .ok (.iinc 2 1, 3) := dk_132 2 1 (dk_at dksX5_isGroupNow_2 19 rfl rfl)
theorem dX5_isGroupNow_69 : decode cX5_isGroupNow 69 = .ok (.goto (-54), 3) := dk_167 255 202 (dk_at dksX5_isGroupNow_3 0 rfl rfl)
theorem dX5_isGroupNow_72 : decode cX5_isGroupNow 72 = .ok (.iconst 1, 1) := dk_4 (dk_at dksX5_isGroupNow_3 3 rfl rfl)
theorem dX5_isGroupNow_73 : decode cX5_isGroupNow 73 = .ok (.ireturn, 1) := dk_172 (dk_at dksX5_isGroupNow_3 4 rfl rfl)
abbrev cX5_groups : ByteArray := prog_18_method_51_code
def yX5_groups : MethodName := ⟨RX5, "groups", "(I)I"⟩
def dkwX5_groups_0 : List UInt8 := [42, 27, 182, 1, 7, 153, 0, 11, 42, 27, 182, 1, 16, 167, 0, 9, 42, 16, 254, 182, 0, 102, 172]
abbrev dktX5_groups_0 : List UInt8 := dkwX5_groups_0 ++ []
theorem dksX5_groups_0 : cX5_groups.data.toList.drop 0 = dktX5_groups_0 := by decide +kernel
theorem dX5_groups_0 : decode cX5_groups 0 = .ok (.aload_n 0, 1) := dk_42 (dk_at dksX5_groups_0 0 rfl rfl)
theorem dX5_groups_1 : decode cX5_groups 1 = .ok (.iload_n 1, 1) := dk_27 (dk_at dksX5_groups_0 1 rfl rfl)
theorem dX5_groups_2 : decode cX5_groups 2 = .ok (.invokevirtual 263, 3) := dk_182 1 7 (dk_at dksX5_groups_0 2 rfl rfl)
theorem dX5_groups_5 : decode cX5_groups 5 = .ok (.ifCond .eq 11, 3) := dk_153 0 11 (dk_at dksX5_groups_0 5 rfl rfl)
theorem dX5_groups_8 : decode cX5_groups 8 = .ok (.aload_n 0, 1) := dk_42 (dk_at dksX5_groups_0 8 rfl rfl)
theorem dX5_groups_9 : decode cX5_groups 9 = .ok (.iload_n 1, 1) := dk_27 (dk_at dksX5_groups_0 9 rfl rfl)
theorem dX5_groups_10 : decode cX5_groups 10 = .ok (.invokevirtual 272, 3) := dk_182 1 16 (dk_at dksX5_groups_0 10 rfl rfl)
theorem dX5_groups_13 : decode cX5_groups 13 = .ok (.goto 9, 3) := dk_167 0 9 (dk_at dksX5_groups_0 13 rfl rfl)
theorem dX5_groups_16 : decode cX5_groups 16 = .ok (.aload_n 0, 1) := dk_42 (dk_at dksX5_groups_0 16 rfl rfl)
theorem dX5_groups_17 : decode cX5_groups 17 = .ok (.bipush (-2), 2) := dk_16 254 (dk_at dksX5_groups_0 17 rfl rfl)
theorem dX5_groups_19 : decode cX5_groups 19 = .ok (.invokevirtual 102, 3) := dk_182 0 102 (dk_at dksX5_groups_0 19 rfl rfl)
theorem dX5_groups_22 : decode cX5_groups 22 = .ok (.ireturn, 1) := dk_172 (dk_at dksX5_groups_0 22 rfl rfl)
abbrev cX5_groupsOf : ByteArray := prog_18_method_50_code
def yX5_groupsOf : MethodName := ⟨RX5, "groupsOf", "(I)I"⟩
def dkwX5_groupsOf_1 : List UInt8 := [2, 130, 126, 154, 0, 7, 4, 167, 0, 4, 3, 96, 61, 132, 3, 1, 167, 255, 224, 28, 172]
abbrev dktX5_groupsOf_1 : List UInt8 := dkwX5_groupsOf_1 ++ []
def dkwX5_groupsOf_0 : List UInt8 := [42, 182, 1, 13, 3, 61, 3, 62, 29, 42, 180, 1, 1, 162, 0, 30, 28, 42, 180, 0, 61, 29, 46, 27]
abbrev dktX5_groupsOf_0 : List UInt8 := dkwX5_groupsOf_0 ++ dktX5_groupsOf_1
theorem dksX5_groupsOf_0 : cX5_groupsOf.data.toList.drop 0 = dktX5_groupsOf_0 := by decide +kernel
theorem dksX5_groupsOf_1 : cX5_groupsOf.data.toList.drop 24 = dktX5_groupsOf_1 := dk_seg dksX5_groupsOf_0 24 rfl rfl
theorem dX5_groupsOf_0 : decode cX5_groupsOf 0 = .ok (.aload_n 0, 1) := dk_42 (dk_at dksX5_groupsOf_0 0 rfl rfl)
theorem dX5_groupsOf_1 : decode cX5_groupsOf 1 = .ok (.invokevirtual 269, 3) := dk_182 1 13 (dk_at dksX5_groupsOf_0 1 rfl rfl)
theorem dX5_groupsOf_4 : decode cX5_groupsOf 4 = .ok (.iconst 0, 1) := dk_3 (dk_at dksX5_groupsOf_0 4 rfl rfl)
theorem dX5_groupsOf_5 : decode cX5_groupsOf 5 = .ok (.istore_n 2, 1) := dk_61 (dk_at dksX5_groupsOf_0 5 rfl rfl)
theorem dX5_groupsOf_6 : decode cX5_groupsOf 6 = .ok (.iconst 0, 1) := dk_3 (dk_at dksX5_groupsOf_0 6 rfl rfl)
theorem dX5_groupsOf_7 : decode cX5_groupsOf 7 = .ok (.istore_n 3, 1) := dk_62 (dk_at dksX5_groupsOf_0 7 rfl rfl)
theorem dX5_groupsOf_8 : decode cX5_groupsOf 8 = .ok (.iload_n 3, 1) := dk_29 (dk_at dksX5_groupsOf_0 8 rfl rfl)
theorem dX5_groupsOf_9 : decode cX5_groupsOf 9 = .ok (.aload_n 0, 1) := dk_42 (dk_at dksX5_groupsOf_0 9 rfl rfl)
theorem dX5_groupsOf_10 : decode cX5_groupsOf 10 = .ok (.getfield 257, 3) := dk_180 1 1 (dk_at dksX5_groupsOf_0 10 rfl rfl)
theorem dX5_groupsOf_13 : decode cX5_groupsOf 13 = .ok (.if_icmp .ge 30, 3) := dk_162 0 30 (dk_at dksX5_groupsOf_0 13 rfl rfl)
theorem dX5_groupsOf_16 : decode cX5_groupsOf 16 = .ok (.iload_n 2, 1) := dk_28 (dk_at dksX5_groupsOf_0 16 rfl rfl)
theorem dX5_groupsOf_17 : decode cX5_groupsOf 17 = .ok (.aload_n 0, 1) := dk_42 (dk_at dksX5_groupsOf_0 17 rfl rfl)
theorem dX5_groupsOf_18 : decode cX5_groupsOf 18 = .ok (.getfield 61, 3) := dk_180 0 61 (dk_at dksX5_groupsOf_0 18 rfl rfl)
theorem dX5_groupsOf_21 : decode cX5_groupsOf 21 = .ok (.iload_n 3, 1) := dk_29 (dk_at dksX5_groupsOf_0 21 rfl rfl)
theorem dX5_groupsOf_22 : decode cX5_groupsOf 22 = .ok (.iaload, 1) := dk_46 (dk_at dksX5_groupsOf_0 22 rfl rfl)
theorem dX5_groupsOf_23 : decode cX5_groupsOf 23 = .ok (.iload_n 1, 1) := dk_27 (dk_at dksX5_groupsOf_0 23 rfl rfl)
theorem dX5_groupsOf_24 : decode cX5_groupsOf 24 = .ok (.iconst (-1), 1) := dk_2 (dk_at dksX5_groupsOf_1 0 rfl rfl)
theorem dX5_groupsOf_25 : decode cX5_groupsOf 25 = .ok (.ixor, 1) := dk_130 (dk_at dksX5_groupsOf_1 1 rfl rfl)
theorem dX5_groupsOf_26 : decode cX5_groupsOf 26 = .ok (.iand, 1) := dk_126 (dk_at dksX5_groupsOf_1 2 rfl rfl)
theorem dX5_groupsOf_27 : decode cX5_groupsOf 27 = .ok (.ifCond .ne 7, 3) := dk_154 0 7 (dk_at dksX5_groupsOf_1 3 rfl rfl)
theorem dX5_groupsOf_30 : decode cX5_groupsOf 30 = .ok (.iconst 1, 1) := dk_4 (dk_at dksX5_groupsOf_1 6 rfl rfl)
theorem dX5_groupsOf_31 : decode cX5_groupsOf 31 = .ok (.goto 4, 3) := dk_167 0 4 (dk_at dksX5_groupsOf_1 7 rfl rfl)
theorem dX5_groupsOf_34 : decode cX5_groupsOf 34 = .ok (.iconst 0, 1) := dk_3 (dk_at dksX5_groupsOf_1 10 rfl rfl)
theorem dX5_groupsOf_35 : decode cX5_groupsOf 35 = .ok (.iadd, 1) := dk_96 (dk_at dksX5_groupsOf_1 11 rfl rfl)
theorem dX5_groupsOf_36 : decode cX5_groupsOf 36 = .ok (.istore_n 2, 1) := dk_61 (dk_at dksX5_groupsOf_1 12 rfl rfl)
theorem dX5_groupsOf_37 : decode cX5_groupsOf 37 = .ok (.iinc 3 1, 3) := dk_132 3 1 (dk_at dksX5_groupsOf_1 13 rfl rfl)
theorem dX5_groupsOf_40 : decode cX5_groupsOf 40 = .ok (.goto (-32), 3) := dk_167 255 224 (dk_at dksX5_groupsOf_1 16 rfl rfl)
theorem dX5_groupsOf_43 : decode cX5_groupsOf 43 = .ok (.iload_n 2, 1) := dk_28 (dk_at dksX5_groupsOf_1 19 rfl rfl)
theorem dX5_groupsOf_44 : decode cX5_groupsOf 44 = .ok (.ireturn, 1) := dk_172 (dk_at dksX5_groupsOf_1 20 rfl rfl)
abbrev cX5_firstOf : ByteArray := prog_18_method_53_code
def yX5_firstOf : MethodName := ⟨RX5, "firstOf", "(I)I"⟩
def dkwX5_firstOf_1 : List UInt8 := [172]
abbrev dktX5_firstOf_1 : List UInt8 := dkwX5_firstOf_1 ++ []
def dkwX5_firstOf_0 : List UInt8 := [42, 27, 182, 1, 7, 154, 0, 10, 42, 16, 254, 182, 0, 102, 172, 42, 182, 1, 13, 42, 27, 182, 1, 19]
abbrev dktX5_firstOf_0 : List UInt8 := dkwX5_firstOf_0 ++ dktX5_firstOf_1
theorem dksX5_firstOf_0 : cX5_firstOf.data.toList.drop 0 = dktX5_firstOf_0 := by decide +kernel
theorem dksX5_firstOf_1 : cX5_firstOf.data.toList.drop 24 = dktX5_firstOf_1 := dk_seg dksX5_firstOf_0 24 rfl rfl
theorem dX5_firstOf_0 : decode cX5_firstOf 0 = .ok (.aload_n 0, 1) := dk_42 (dk_at dksX5_firstOf_0 0 rfl rfl)
theorem dX5_firstOf_1 : decode cX5_firstOf 1 = .ok (.iload_n 1, 1) := dk_27 (dk_at dksX5_firstOf_0 1 rfl rfl)
theorem dX5_firstOf_2 : decode cX5_firstOf 2 = .ok (.invokevirtual 263, 3) := dk_182 1 7 (dk_at dksX5_firstOf_0 2 rfl rfl)
theorem dX5_firstOf_5 : decode cX5_firstOf 5 = .ok (.ifCond .ne 10, 3) := dk_154 0 10 (dk_at dksX5_firstOf_0 5 rfl rfl)
theorem dX5_firstOf_8 : decode cX5_firstOf 8 = .ok (.aload_n 0, 1) := dk_42 (dk_at dksX5_firstOf_0 8 rfl rfl)
theorem dX5_firstOf_9 : decode cX5_firstOf 9 = .ok (.bipush (-2), 2) := dk_16 254 (dk_at dksX5_firstOf_0 9 rfl rfl)
theorem dX5_firstOf_11 : decode cX5_firstOf 11 = .ok (.invokevirtual 102, 3) := dk_182 0 102 (dk_at dksX5_firstOf_0 11 rfl rfl)
theorem dX5_firstOf_14 : decode cX5_firstOf 14 = .ok (.ireturn, 1) := dk_172 (dk_at dksX5_firstOf_0 14 rfl rfl)
theorem dX5_firstOf_15 : decode cX5_firstOf 15 = .ok (.aload_n 0, 1) := dk_42 (dk_at dksX5_firstOf_0 15 rfl rfl)
theorem dX5_firstOf_16 : decode cX5_firstOf 16 = .ok (.invokevirtual 269, 3) := dk_182 1 13 (dk_at dksX5_firstOf_0 16 rfl rfl)
theorem dX5_firstOf_19 : decode cX5_firstOf 19 = .ok (.aload_n 0, 1) := dk_42 (dk_at dksX5_firstOf_0 19 rfl rfl)
theorem dX5_firstOf_20 : decode cX5_firstOf 20 = .ok (.iload_n 1, 1) := dk_27 (dk_at dksX5_firstOf_0 20 rfl rfl)
theorem dX5_firstOf_21 : decode cX5_firstOf 21 = .ok (.invokevirtual 275, 3) := dk_182 1 19 (dk_at dksX5_firstOf_0 21 rfl rfl)
theorem dX5_firstOf_24 : decode cX5_firstOf 24 = .ok (.ireturn, 1) := dk_172 (dk_at dksX5_firstOf_1 0 rfl rfl)
abbrev cX5_most : ByteArray := prog_18_method_55_code
def yX5_most : MethodName := ⟨RX5, "most", "(I)I"⟩
def dkwX5_most_1 : List UInt8 := [172]
abbrev dktX5_most_1 : List UInt8 := dkwX5_most_1 ++ []
def dkwX5_most_0 : List UInt8 := [42, 27, 182, 1, 7, 154, 0, 10, 42, 16, 254, 182, 0, 102, 172, 42, 182, 1, 13, 42, 27, 182, 1, 22]
abbrev dktX5_most_0 : List UInt8 := dkwX5_most_0 ++ dktX5_most_1
theorem dksX5_most_0 : cX5_most.data.toList.drop 0 = dktX5_most_0 := by decide +kernel
theorem dksX5_most_1 : cX5_most.data.toList.drop 24 = dktX5_most_1 := dk_seg dksX5_most_0 24 rfl rfl
theorem dX5_most_0 : decode cX5_most 0 = .ok (.aload_n 0, 1) := dk_42 (dk_at dksX5_most_0 0 rfl rfl)
theorem dX5_most_1 : decode cX5_most 1 = .ok (.iload_n 1, 1) := dk_27 (dk_at dksX5_most_0 1 rfl rfl)
theorem dX5_most_2 : decode cX5_most 2 = .ok (.invokevirtual 263, 3) := dk_182 1 7 (dk_at dksX5_most_0 2 rfl rfl)
theorem dX5_most_5 : decode cX5_most 5 = .ok (.ifCond .ne 10, 3) := dk_154 0 10 (dk_at dksX5_most_0 5 rfl rfl)
theorem dX5_most_8 : decode cX5_most 8 = .ok (.aload_n 0, 1) := dk_42 (dk_at dksX5_most_0 8 rfl rfl)
theorem dX5_most_9 : decode cX5_most 9 = .ok (.bipush (-2), 2) := dk_16 254 (dk_at dksX5_most_0 9 rfl rfl)
theorem dX5_most_11 : decode cX5_most 11 = .ok (.invokevirtual 102, 3) := dk_182 0 102 (dk_at dksX5_most_0 11 rfl rfl)
theorem dX5_most_14 : decode cX5_most 14 = .ok (.ireturn, 1) := dk_172 (dk_at dksX5_most_0 14 rfl rfl)
theorem dX5_most_15 : decode cX5_most 15 = .ok (.aload_n 0, 1) := dk_42 (dk_at dksX5_most_0 15 rfl rfl)
theorem dX5_most_16 : decode cX5_most 16 = .ok (.invokevirtual 269, 3) := dk_182 1 13 (dk_at dksX5_most_0 16 rfl rfl)
theorem dX5_most_19 : decode cX5_most 19 = .ok (.aload_n 0, 1) := dk_42 (dk_at dksX5_most_0 19 rfl rfl)
theorem dX5_most_20 : decode cX5_most 20 = .ok (.iload_n 1, 1) := dk_27 (dk_at dksX5_most_0 20 rfl rfl)
theorem dX5_most_21 : decode cX5_most 21 = .ok (.invokevirtual 278, 3) := dk_182 1 22 (dk_at dksX5_most_0 21 rfl rfl)
theorem dX5_most_24 : decode cX5_most 24 = .ok (.ireturn, 1) := dk_172 (dk_at dksX5_most_1 0 rfl rfl)
abbrev cX5_mostOf : ByteArray := prog_18_method_57_code
def yX5_mostOf : MethodName := ⟨RX5, "mostOf", "(II)I"⟩
def dkwX5_mostOf_3 : List UInt8 := [182, 1, 25, 172]
abbrev dktX5_mostOf_3 : List UInt8 := dkwX5_mostOf_3 ++ []
def dkwX5_mostOf_2 : List UInt8 := [21, 4, 28, 162, 0, 19, 29, 42, 29, 182, 1, 25, 2, 130, 126, 62, 132, 4, 1, 167, 255, 237, 42, 29]
abbrev dktX5_mostOf_2 : List UInt8 := dkwX5_mostOf_2 ++ dktX5_mostOf_3
def dkwX5_mostOf_1 : List UInt8 := [182, 1, 22, 4, 100, 133, 184, 0, 88, 154, 0, 10, 42, 16, 251, 182, 0, 102, 172, 27, 62, 3, 54, 4]
abbrev dktX5_mostOf_1 : List UInt8 := dkwX5_mostOf_1 ++ dktX5_mostOf_2
def dkwX5_mostOf_0 : List UInt8 := [42, 27, 182, 1, 7, 154, 0, 10, 42, 16, 254, 182, 0, 102, 172, 42, 182, 1, 13, 28, 133, 9, 42, 27]
abbrev dktX5_mostOf_0 : List UInt8 := dkwX5_mostOf_0 ++ dktX5_mostOf_1
theorem dksX5_mostOf_0 : cX5_mostOf.data.toList.drop 0 = dktX5_mostOf_0 := by decide +kernel
theorem dksX5_mostOf_1 : cX5_mostOf.data.toList.drop 24 = dktX5_mostOf_1 := dk_seg dksX5_mostOf_0 24 rfl rfl
theorem dksX5_mostOf_2 : cX5_mostOf.data.toList.drop 48 = dktX5_mostOf_2 := dk_seg dksX5_mostOf_1 24 rfl rfl
theorem dksX5_mostOf_3 : cX5_mostOf.data.toList.drop 72 = dktX5_mostOf_3 := dk_seg dksX5_mostOf_2 24 rfl rfl
theorem dX5_mostOf_0 : decode cX5_mostOf 0 = .ok (.aload_n 0, 1) := dk_42 (dk_at dksX5_mostOf_0 0 rfl rfl)
theorem dX5_mostOf_1 : decode cX5_mostOf 1 = .ok (.iload_n 1, 1) := dk_27 (dk_at dksX5_mostOf_0 1 rfl rfl)
theorem dX5_mostOf_2 : decode cX5_mostOf 2 = .ok (.invokevirtual 263, 3) := dk_182 1 7 (dk_at dksX5_mostOf_0 2 rfl rfl)
theorem dX5_mostOf_5 : decode cX5_mostOf 5 = .ok (.ifCond .ne 10, 3) := dk_154 0 10 (dk_at dksX5_mostOf_0 5 rfl rfl)
theorem dX5_mostOf_8 : decode cX5_mostOf 8 = .ok (.aload_n 0, 1) := dk_42 (dk_at dksX5_mostOf_0 8 rfl rfl)
theorem dX5_mostOf_9 : decode cX5_mostOf 9 = .ok (.bipush (-2), 2) := dk_16 254 (dk_at dksX5_mostOf_0 9 rfl rfl)
theorem dX5_mostOf_11 : decode cX5_mostOf 11 = .ok (.invokevirtual 102, 3) := dk_182 0 102 (dk_at dksX5_mostOf_0 11 rfl rfl)
theorem dX5_mostOf_14 : decode cX5_mostOf 14 = .ok (.ireturn, 1) := dk_172 (dk_at dksX5_mostOf_0 14 rfl rfl)
theorem dX5_mostOf_15 : decode cX5_mostOf 15 = .ok (.aload_n 0, 1) := dk_42 (dk_at dksX5_mostOf_0 15 rfl rfl)
theorem dX5_mostOf_16 : decode cX5_mostOf 16 = .ok (.invokevirtual 269, 3) := dk_182 1 13 (dk_at dksX5_mostOf_0 16 rfl rfl)
theorem dX5_mostOf_19 : decode cX5_mostOf 19 = .ok (.iload_n 2, 1) := dk_28 (dk_at dksX5_mostOf_0 19 rfl rfl)
theorem dX5_mostOf_20 : decode cX5_mostOf 20 = .ok (.i2l, 1) := dk_133 (dk_at dksX5_mostOf_0 20 rfl rfl)
theorem dX5_mostOf_21 : decode cX5_mostOf 21 = .ok (.lconst 0, 1) := dk_9 (dk_at dksX5_mostOf_0 21 rfl rfl)
theorem dX5_mostOf_22 : decode cX5_mostOf 22 = .ok (.aload_n 0, 1) := dk_42 (dk_at dksX5_mostOf_0 22 rfl rfl)
theorem dX5_mostOf_23 : decode cX5_mostOf 23 = .ok (.iload_n 1, 1) := dk_27 (dk_at dksX5_mostOf_0 23 rfl rfl)
theorem dX5_mostOf_24 : decode cX5_mostOf 24 = .ok (.invokevirtual 278, 3) := dk_182 1 22 (dk_at dksX5_mostOf_1 0 rfl rfl)
theorem dX5_mostOf_27 : decode cX5_mostOf 27 = .ok (.iconst 1, 1) := dk_4 (dk_at dksX5_mostOf_1 3 rfl rfl)
theorem dX5_mostOf_28 : decode cX5_mostOf 28 = .ok (.isub, 1) := dk_100 (dk_at dksX5_mostOf_1 4 rfl rfl)
theorem dX5_mostOf_29 : decode cX5_mostOf 29 = .ok (.i2l, 1) := dk_133 (dk_at dksX5_mostOf_1 5 rfl rfl)
theorem dX5_mostOf_30 : decode cX5_mostOf 30 = .ok (.invokestatic 88, 3) := dk_184 0 88 (dk_at dksX5_mostOf_1 6 rfl rfl)
theorem dX5_mostOf_33 : decode cX5_mostOf 33 = .ok (.ifCond .ne 10, 3) := dk_154 0 10 (dk_at dksX5_mostOf_1 9 rfl rfl)
theorem dX5_mostOf_36 : decode cX5_mostOf 36 = .ok (.aload_n 0, 1) := dk_42 (dk_at dksX5_mostOf_1 12 rfl rfl)
theorem dX5_mostOf_37 : decode cX5_mostOf 37 = .ok (.bipush (-5), 2) := dk_16 251 (dk_at dksX5_mostOf_1 13 rfl rfl)
theorem dX5_mostOf_39 : decode cX5_mostOf 39 = .ok (.invokevirtual 102, 3) := dk_182 0 102 (dk_at dksX5_mostOf_1 15 rfl rfl)
theorem dX5_mostOf_42 : decode cX5_mostOf 42 = .ok (.ireturn, 1) := dk_172 (dk_at dksX5_mostOf_1 18 rfl rfl)
theorem dX5_mostOf_43 : decode cX5_mostOf 43 = .ok (.iload_n 1, 1) := dk_27 (dk_at dksX5_mostOf_1 19 rfl rfl)
theorem dX5_mostOf_44 : decode cX5_mostOf 44 = .ok (.istore_n 3, 1) := dk_62 (dk_at dksX5_mostOf_1 20 rfl rfl)
theorem dX5_mostOf_45 : decode cX5_mostOf 45 = .ok (.iconst 0, 1) := dk_3 (dk_at dksX5_mostOf_1 21 rfl rfl)
theorem dX5_mostOf_46 : decode cX5_mostOf 46 = .ok (.istore 4, 2) := dk_54 4 (dk_at dksX5_mostOf_1 22 rfl rfl)
theorem dX5_mostOf_48 : decode cX5_mostOf 48 = .ok (.iload 4, 2) := dk_21 4 (dk_at dksX5_mostOf_2 0 rfl rfl)
theorem dX5_mostOf_50 : decode cX5_mostOf 50 = .ok (.iload_n 2, 1) := dk_28 (dk_at dksX5_mostOf_2 2 rfl rfl)
theorem dX5_mostOf_51 : decode cX5_mostOf 51 = .ok (.if_icmp .ge 19, 3) := dk_162 0 19 (dk_at dksX5_mostOf_2 3 rfl rfl)
theorem dX5_mostOf_54 : decode cX5_mostOf 54 = .ok (.iload_n 3, 1) := dk_29 (dk_at dksX5_mostOf_2 6 rfl rfl)
theorem dX5_mostOf_55 : decode cX5_mostOf 55 = .ok (.aload_n 0, 1) := dk_42 (dk_at dksX5_mostOf_2 7 rfl rfl)
theorem dX5_mostOf_56 : decode cX5_mostOf 56 = .ok (.iload_n 3, 1) := dk_29 (dk_at dksX5_mostOf_2 8 rfl rfl)
theorem dX5_mostOf_57 : decode cX5_mostOf 57 = .ok (.invokevirtual 281, 3) := dk_182 1 25 (dk_at dksX5_mostOf_2 9 rfl rfl)
theorem dX5_mostOf_60 : decode cX5_mostOf 60 = .ok (.iconst (-1), 1) := dk_2 (dk_at dksX5_mostOf_2 12 rfl rfl)
theorem dX5_mostOf_61 : decode cX5_mostOf 61 = .ok (.ixor, 1) := dk_130 (dk_at dksX5_mostOf_2 13 rfl rfl)
theorem dX5_mostOf_62 : decode cX5_mostOf 62 = .ok (.iand, 1) := dk_126 (dk_at dksX5_mostOf_2 14 rfl rfl)
theorem dX5_mostOf_63 : decode cX5_mostOf 63 = .ok (.istore_n 3, 1) := dk_62 (dk_at dksX5_mostOf_2 15 rfl rfl)
theorem dX5_mostOf_64 : decode cX5_mostOf 64 = .ok (.iinc 4 1, 3) := dk_132 4 1 (dk_at dksX5_mostOf_2 16 rfl rfl)
theorem dX5_mostOf_67 : decode cX5_mostOf 67 = .ok (.goto (-19), 3) := dk_167 255 237 (dk_at dksX5_mostOf_2 19 rfl rfl)
theorem dX5_mostOf_70 : decode cX5_mostOf 70 = .ok (.aload_n 0, 1) := dk_42 (dk_at dksX5_mostOf_2 22 rfl rfl)
theorem dX5_mostOf_71 : decode cX5_mostOf 71 = .ok (.iload_n 3, 1) := dk_29 (dk_at dksX5_mostOf_2 23 rfl rfl)
theorem dX5_mostOf_72 : decode cX5_mostOf 72 = .ok (.invokevirtual 281, 3) := dk_182 1 25 (dk_at dksX5_mostOf_3 0 rfl rfl)
theorem dX5_mostOf_75 : decode cX5_mostOf 75 = .ok (.ireturn, 1) := dk_172 (dk_at dksX5_mostOf_3 3 rfl rfl)
abbrev cX5_sends : ByteArray := prog_18_method_61_code
def yX5_sends : MethodName := ⟨RX5, "sends", "(III)I"⟩
def dkwX5_sends_3 : List UInt8 := [29, 182, 0, 121, 172]
abbrev dktX5_sends_3 : List UInt8 := dkwX5_sends_3 ++ []
def dkwX5_sends_2 : List UInt8 := [21, 4, 153, 0, 8, 21, 4, 167, 0, 21, 42, 42, 180, 0, 28, 27, 46, 42, 180, 0, 31, 27, 46, 28]
abbrev dktX5_sends_2 : List UInt8 := dkwX5_sends_2 ++ dktX5_sends_3
def dkwX5_sends_1 : List UInt8 := [20, 0, 96, 184, 0, 88, 154, 0, 10, 42, 16, 254, 182, 0, 102, 172, 42, 27, 182, 1, 34, 54, 4]
abbrev dktX5_sends_1 : List UInt8 := dkwX5_sends_1 ++ dktX5_sends_2
def dkwX5_sends_0 : List UInt8 := [27, 133, 9, 20, 0, 96, 184, 0, 88, 153, 0, 23, 42, 28, 182, 1, 7, 153, 0, 15, 29, 133, 9]
abbrev dktX5_sends_0 : List UInt8 := dkwX5_sends_0 ++ dktX5_sends_1
theorem dksX5_sends_0 : cX5_sends.data.toList.drop 0 = dktX5_sends_0 := by decide +kernel
theorem dksX5_sends_1 : cX5_sends.data.toList.drop 23 = dktX5_sends_1 := dk_seg dksX5_sends_0 23 rfl rfl
theorem dksX5_sends_2 : cX5_sends.data.toList.drop 46 = dktX5_sends_2 := dk_seg dksX5_sends_1 23 rfl rfl
theorem dksX5_sends_3 : cX5_sends.data.toList.drop 70 = dktX5_sends_3 := dk_seg dksX5_sends_2 24 rfl rfl
theorem dX5_sends_0 : decode cX5_sends 0 = .ok (.iload_n 1, 1) := dk_27 (dk_at dksX5_sends_0 0 rfl rfl)
theorem dX5_sends_1 : decode cX5_sends 1 = .ok (.i2l, 1) := dk_133 (dk_at dksX5_sends_0 1 rfl rfl)
theorem dX5_sends_2 : decode cX5_sends 2 = .ok (.lconst 0, 1) := dk_9 (dk_at dksX5_sends_0 2 rfl rfl)
theorem dX5_sends_3 : decode cX5_sends 3 = .ok (.ldc2_w 96, 3) := dk_20 0 96 (dk_at dksX5_sends_0 3 rfl rfl)
theorem dX5_sends_6 : decode cX5_sends 6 = .ok (.invokestatic 88, 3) := dk_184 0 88 (dk_at dksX5_sends_0 6 rfl rfl)
theorem dX5_sends_9 : decode cX5_sends 9 = .ok (.ifCond .eq 23, 3) := dk_153 0 23 (dk_at dksX5_sends_0 9 rfl rfl)
theorem dX5_sends_12 : decode cX5_sends 12 = .ok (.aload_n 0, 1) := dk_42 (dk_at dksX5_sends_0 12 rfl rfl)
theorem dX5_sends_13 : decode cX5_sends 13 = .ok (.iload_n 2, 1) := dk_28 (dk_at dksX5_sends_0 13 rfl rfl)
theorem dX5_sends_14 : decode cX5_sends 14 = .ok (.invokevirtual 263, 3) := dk_182 1 7 (dk_at dksX5_sends_0 14 rfl rfl)
theorem dX5_sends_17 : decode cX5_sends 17 = .ok (.ifCond .eq 15, 3) := dk_153 0 15 (dk_at dksX5_sends_0 17 rfl rfl)
theorem dX5_sends_20 : decode cX5_sends 20 = .ok (.iload_n 3, 1) := dk_29 (dk_at dksX5_sends_0 20 rfl rfl)
theorem dX5_sends_21 : decode cX5_sends 21 = .ok (.i2l, 1) := dk_133 (dk_at dksX5_sends_0 21 rfl rfl)
theorem dX5_sends_22 : decode cX5_sends 22 = .ok (.lconst 0, 1) := dk_9 (dk_at dksX5_sends_0 22 rfl rfl)
theorem dX5_sends_23 : decode cX5_sends 23 = .ok (.ldc2_w 96, 3) := dk_20 0 96 (dk_at dksX5_sends_1 0 rfl rfl)
theorem dX5_sends_26 : decode cX5_sends 26 = .ok (.invokestatic 88, 3) := dk_184 0 88 (dk_at dksX5_sends_1 3 rfl rfl)
theorem dX5_sends_29 : decode cX5_sends 29 = .ok (.ifCond .ne 10, 3) := dk_154 0 10 (dk_at dksX5_sends_1 6 rfl rfl)
theorem dX5_sends_32 : decode cX5_sends 32 = .ok (.aload_n 0, 1) := dk_42 (dk_at dksX5_sends_1 9 rfl rfl)
theorem dX5_sends_33 : decode cX5_sends 33 = .ok (.bipush (-2), 2) := dk_16 254 (dk_at dksX5_sends_1 10 rfl rfl)
theorem dX5_sends_35 : decode cX5_sends 35 = .ok (.invokevirtual 102, 3) := dk_182 0 102 (dk_at dksX5_sends_1 12 rfl rfl)
theorem dX5_sends_38 : decode cX5_sends 38 = .ok (.ireturn, 1) := dk_172 (dk_at dksX5_sends_1 15 rfl rfl)
theorem dX5_sends_39 : decode cX5_sends 39 = .ok (.aload_n 0, 1) := dk_42 (dk_at dksX5_sends_1 16 rfl rfl)
theorem dX5_sends_40 : decode cX5_sends 40 = .ok (.iload_n 1, 1) := dk_27 (dk_at dksX5_sends_1 17 rfl rfl)
theorem dX5_sends_41 : decode cX5_sends 41 = .ok (.invokevirtual 290, 3) := dk_182 1 34 (dk_at dksX5_sends_1 18 rfl rfl)
theorem dX5_sends_44 : decode cX5_sends 44 = .ok (.istore 4, 2) := dk_54 4 (dk_at dksX5_sends_1 21 rfl rfl)
theorem dX5_sends_46 : decode cX5_sends 46 = .ok (.iload 4, 2) := dk_21 4 (dk_at dksX5_sends_2 0 rfl rfl)
theorem dX5_sends_48 : decode cX5_sends 48 = .ok (.ifCond .eq 8, 3) := dk_153 0 8 (dk_at dksX5_sends_2 2 rfl rfl)
theorem dX5_sends_51 : decode cX5_sends 51 = .ok (.iload 4, 2) := dk_21 4 (dk_at dksX5_sends_2 5 rfl rfl)
theorem dX5_sends_53 : decode cX5_sends 53 = .ok (.goto 21, 3) := dk_167 0 21 (dk_at dksX5_sends_2 7 rfl rfl)
theorem dX5_sends_56 : decode cX5_sends 56 = .ok (.aload_n 0, 1) := dk_42 (dk_at dksX5_sends_2 10 rfl rfl)
theorem dX5_sends_57 : decode cX5_sends 57 = .ok (.aload_n 0, 1) := dk_42 (dk_at dksX5_sends_2 11 rfl rfl)
theorem dX5_sends_58 : decode cX5_sends 58 = .ok (.getfield 28, 3) := dk_180 0 28 (dk_at dksX5_sends_2 12 rfl rfl)
theorem dX5_sends_61 : decode cX5_sends 61 = .ok (.iload_n 1, 1) := dk_27 (dk_at dksX5_sends_2 15 rfl rfl)
theorem dX5_sends_62 : decode cX5_sends 62 = .ok (.iaload, 1) := dk_46 (dk_at dksX5_sends_2 16 rfl rfl)
theorem dX5_sends_63 : decode cX5_sends 63 = .ok (.aload_n 0, 1) := dk_42 (dk_at dksX5_sends_2 17 rfl rfl)
theorem dX5_sends_64 : decode cX5_sends 64 = .ok (.getfield 31, 3) := dk_180 0 31 (dk_at dksX5_sends_2 18 rfl rfl)
theorem dX5_sends_67 : decode cX5_sends 67 = .ok (.iload_n 1, 1) := dk_27 (dk_at dksX5_sends_2 21 rfl rfl)
theorem dX5_sends_68 : decode cX5_sends 68 = .ok (.iaload, 1) := dk_46 (dk_at dksX5_sends_2 22 rfl rfl)
theorem dX5_sends_69 : decode cX5_sends 69 = .ok (.iload_n 2, 1) := dk_28 (dk_at dksX5_sends_2 23 rfl rfl)
theorem dX5_sends_70 : decode cX5_sends 70 = .ok (.iload_n 3, 1) := dk_29 (dk_at dksX5_sends_3 0 rfl rfl)
theorem dX5_sends_71 : decode cX5_sends 71 = .ok (.invokevirtual 121, 3) := dk_182 0 121 (dk_at dksX5_sends_3 1 rfl rfl)
theorem dX5_sends_74 : decode cX5_sends 74 = .ok (.ireturn, 1) := dk_172 (dk_at dksX5_sends_3 4 rfl rfl)
abbrev cX5_noMan : ByteArray := prog_18_method_12_code
def yX5_noMan : MethodName := ⟨RX5, "noMan", "(I)I"⟩
def dkwX5_noMan_2 : List UInt8 := [182, 0, 102, 167, 0, 4, 3, 172]
abbrev dktX5_noMan_2 : List UInt8 := dkwX5_noMan_2 ++ []
def dkwX5_noMan_1 : List UInt8 := [46, 4, 160, 0, 10, 42, 16, 253, 182, 0, 102, 172, 42, 180, 0, 7, 27, 46, 154, 0, 12, 42, 16, 252]
abbrev dktX5_noMan_1 : List UInt8 := dkwX5_noMan_1 ++ dktX5_noMan_2
def dkwX5_noMan_0 : List UInt8 := [27, 133, 9, 20, 0, 96, 184, 0, 88, 154, 0, 10, 42, 16, 254, 182, 0, 102, 172, 42, 180, 0, 7, 27]
abbrev dktX5_noMan_0 : List UInt8 := dkwX5_noMan_0 ++ dktX5_noMan_1
theorem dksX5_noMan_0 : cX5_noMan.data.toList.drop 0 = dktX5_noMan_0 := by decide +kernel
theorem dksX5_noMan_1 : cX5_noMan.data.toList.drop 24 = dktX5_noMan_1 := dk_seg dksX5_noMan_0 24 rfl rfl
theorem dksX5_noMan_2 : cX5_noMan.data.toList.drop 48 = dktX5_noMan_2 := dk_seg dksX5_noMan_1 24 rfl rfl
theorem dX5_noMan_0 : decode cX5_noMan 0 = .ok (.iload_n 1, 1) := dk_27 (dk_at dksX5_noMan_0 0 rfl rfl)
theorem dX5_noMan_1 : decode cX5_noMan 1 = .ok (.i2l, 1) := dk_133 (dk_at dksX5_noMan_0 1 rfl rfl)
theorem dX5_noMan_2 : decode cX5_noMan 2 = .ok (.lconst 0, 1) := dk_9 (dk_at dksX5_noMan_0 2 rfl rfl)
theorem dX5_noMan_3 : decode cX5_noMan 3 = .ok (.ldc2_w 96, 3) := dk_20 0 96 (dk_at dksX5_noMan_0 3 rfl rfl)
theorem dX5_noMan_6 : decode cX5_noMan 6 = .ok (.invokestatic 88, 3) := dk_184 0 88 (dk_at dksX5_noMan_0 6 rfl rfl)
theorem dX5_noMan_9 : decode cX5_noMan 9 = .ok (.ifCond .ne 10, 3) := dk_154 0 10 (dk_at dksX5_noMan_0 9 rfl rfl)
theorem dX5_noMan_12 : decode cX5_noMan 12 = .ok (.aload_n 0, 1) := dk_42 (dk_at dksX5_noMan_0 12 rfl rfl)
theorem dX5_noMan_13 : decode cX5_noMan 13 = .ok (.bipush (-2), 2) := dk_16 254 (dk_at dksX5_noMan_0 13 rfl rfl)
theorem dX5_noMan_15 : decode cX5_noMan 15 = .ok (.invokevirtual 102, 3) := dk_182 0 102 (dk_at dksX5_noMan_0 15 rfl rfl)
theorem dX5_noMan_18 : decode cX5_noMan 18 = .ok (.ireturn, 1) := dk_172 (dk_at dksX5_noMan_0 18 rfl rfl)
theorem dX5_noMan_19 : decode cX5_noMan 19 = .ok (.aload_n 0, 1) := dk_42 (dk_at dksX5_noMan_0 19 rfl rfl)
theorem dX5_noMan_20 : decode cX5_noMan 20 = .ok (.getfield 7, 3) := dk_180 0 7 (dk_at dksX5_noMan_0 20 rfl rfl)
theorem dX5_noMan_23 : decode cX5_noMan 23 = .ok (.iload_n 1, 1) := dk_27 (dk_at dksX5_noMan_0 23 rfl rfl)
theorem dX5_noMan_24 : decode cX5_noMan 24 = .ok (.iaload, 1) := dk_46 (dk_at dksX5_noMan_1 0 rfl rfl)
theorem dX5_noMan_25 : decode cX5_noMan 25 = .ok (.iconst 1, 1) := dk_4 (dk_at dksX5_noMan_1 1 rfl rfl)
theorem dX5_noMan_26 : decode cX5_noMan 26 = .ok (.if_icmp .ne 10, 3) := dk_160 0 10 (dk_at dksX5_noMan_1 2 rfl rfl)
theorem dX5_noMan_29 : decode cX5_noMan 29 = .ok (.aload_n 0, 1) := dk_42 (dk_at dksX5_noMan_1 5 rfl rfl)
theorem dX5_noMan_30 : decode cX5_noMan 30 = .ok (.bipush (-3), 2) := dk_16 253 (dk_at dksX5_noMan_1 6 rfl rfl)
theorem dX5_noMan_32 : decode cX5_noMan 32 = .ok (.invokevirtual 102, 3) := dk_182 0 102 (dk_at dksX5_noMan_1 8 rfl rfl)
theorem dX5_noMan_35 : decode cX5_noMan 35 = .ok (.ireturn, 1) := dk_172 (dk_at dksX5_noMan_1 11 rfl rfl)
theorem dX5_noMan_36 : decode cX5_noMan 36 = .ok (.aload_n 0, 1) := dk_42 (dk_at dksX5_noMan_1 12 rfl rfl)
theorem dX5_noMan_37 : decode cX5_noMan 37 = .ok (.getfield 7, 3) := dk_180 0 7 (dk_at dksX5_noMan_1 13 rfl rfl)
theorem dX5_noMan_40 : decode cX5_noMan 40 = .ok (.iload_n 1, 1) := dk_27 (dk_at dksX5_noMan_1 16 rfl rfl)
theorem dX5_noMan_41 : decode cX5_noMan 41 = .ok (.iaload, 1) := dk_46 (dk_at dksX5_noMan_1 17 rfl rfl)
theorem dX5_noMan_42 : decode cX5_noMan 42 = .ok (.ifCond .ne 12, 3) := dk_154 0 12 (dk_at dksX5_noMan_1 18 rfl rfl)
theorem dX5_noMan_45 : decode cX5_noMan 45 = .ok (.aload_n 0, 1) := dk_42 (dk_at dksX5_noMan_1 21 rfl rfl)
theorem dX5_noMan_46 : decode cX5_noMan 46 = .ok (.bipush (-4), 2) := dk_16 252 (dk_at dksX5_noMan_1 22 rfl rfl)
theorem dX5_noMan_48 : decode cX5_noMan 48 = .ok (.invokevirtual 102, 3) := dk_182 0 102 (dk_at dksX5_noMan_2 0 rfl rfl)
theorem dX5_noMan_51 : decode cX5_noMan 51 = .ok (.goto 4, 3) := dk_167 0 4 (dk_at dksX5_noMan_2 3 rfl rfl)
theorem dX5_noMan_54 : decode cX5_noMan 54 = .ok (.iconst 0, 1) := dk_3 (dk_at dksX5_noMan_2 6 rfl rfl)
theorem dX5_noMan_55 : decode cX5_noMan 55 = .ok (.ireturn, 1) := dk_172 (dk_at dksX5_noMan_2 7 rfl rfl)
abbrev cX5_run : ByteArray := prog_18_method_65_code
def yX5_run : MethodName := ⟨RX5, "run", "(I)I"⟩
def dkwX5_run_1 : List UInt8 := [46, 182, 1, 46, 42, 180, 1, 40, 172]
abbrev dktX5_run_1 : List UInt8 := dkwX5_run_1 ++ []
def dkwX5_run_0 : List UInt8 := [42, 27, 182, 1, 34, 61, 28, 153, 0, 5, 28, 172, 42, 42, 180, 0, 28, 27, 46, 42, 180, 0, 31, 27]
abbrev dktX5_run_0 : List UInt8 := dkwX5_run_0 ++ dktX5_run_1
theorem dksX5_run_0 : cX5_run.data.toList.drop 0 = dktX5_run_0 := by decide +kernel
theorem dksX5_run_1 : cX5_run.data.toList.drop 24 = dktX5_run_1 := dk_seg dksX5_run_0 24 rfl rfl
theorem dX5_run_0 : decode cX5_run 0 = .ok (.aload_n 0, 1) := dk_42 (dk_at dksX5_run_0 0 rfl rfl)
theorem dX5_run_1 : decode cX5_run 1 = .ok (.iload_n 1, 1) := dk_27 (dk_at dksX5_run_0 1 rfl rfl)
theorem dX5_run_2 : decode cX5_run 2 = .ok (.invokevirtual 290, 3) := dk_182 1 34 (dk_at dksX5_run_0 2 rfl rfl)
theorem dX5_run_5 : decode cX5_run 5 = .ok (.istore_n 2, 1) := dk_61 (dk_at dksX5_run_0 5 rfl rfl)
theorem dX5_run_6 : decode cX5_run 6 = .ok (.iload_n 2, 1) := dk_28 (dk_at dksX5_run_0 6 rfl rfl)
theorem dX5_run_7 : decode cX5_run 7 = .ok (.ifCond .eq 5, 3) := dk_153 0 5 (dk_at dksX5_run_0 7 rfl rfl)
theorem dX5_run_10 : decode cX5_run 10 = .ok (.iload_n 2, 1) := dk_28 (dk_at dksX5_run_0 10 rfl rfl)
theorem dX5_run_11 : decode cX5_run 11 = .ok (.ireturn, 1) := dk_172 (dk_at dksX5_run_0 11 rfl rfl)
theorem dX5_run_12 : decode cX5_run 12 = .ok (.aload_n 0, 1) := dk_42 (dk_at dksX5_run_0 12 rfl rfl)
theorem dX5_run_13 : decode cX5_run 13 = .ok (.aload_n 0, 1) := dk_42 (dk_at dksX5_run_0 13 rfl rfl)
theorem dX5_run_14 : decode cX5_run 14 = .ok (.getfield 28, 3) := dk_180 0 28 (dk_at dksX5_run_0 14 rfl rfl)
theorem dX5_run_17 : decode cX5_run 17 = .ok (.iload_n 1, 1) := dk_27 (dk_at dksX5_run_0 17 rfl rfl)
theorem dX5_run_18 : decode cX5_run 18 = .ok (.iaload, 1) := dk_46 (dk_at dksX5_run_0 18 rfl rfl)
theorem dX5_run_19 : decode cX5_run 19 = .ok (.aload_n 0, 1) := dk_42 (dk_at dksX5_run_0 19 rfl rfl)
theorem dX5_run_20 : decode cX5_run 20 = .ok (.getfield 31, 3) := dk_180 0 31 (dk_at dksX5_run_0 20 rfl rfl)
theorem dX5_run_23 : decode cX5_run 23 = .ok (.iload_n 1, 1) := dk_27 (dk_at dksX5_run_0 23 rfl rfl)
theorem dX5_run_24 : decode cX5_run 24 = .ok (.iaload, 1) := dk_46 (dk_at dksX5_run_1 0 rfl rfl)
theorem dX5_run_25 : decode cX5_run 25 = .ok (.invokevirtual 302, 3) := dk_182 1 46 (dk_at dksX5_run_1 1 rfl rfl)
theorem dX5_run_28 : decode cX5_run 28 = .ok (.aload_n 0, 1) := dk_42 (dk_at dksX5_run_1 4 rfl rfl)
theorem dX5_run_29 : decode cX5_run 29 = .ok (.getfield 296, 3) := dk_180 1 40 (dk_at dksX5_run_1 5 rfl rfl)
theorem dX5_run_32 : decode cX5_run 32 = .ok (.ireturn, 1) := dk_172 (dk_at dksX5_run_1 8 rfl rfl)
abbrev cX5_goesBy : ByteArray := prog_18_method_63_code
def yX5_goesBy : MethodName := ⟨RX5, "goesBy", "(II)V"⟩
def dkwX5_goesBy_10 : List UInt8 := [167, 0, 10, 42, 180, 0, 70, 21, 4, 46, 79, 132, 4, 1, 167, 255, 200, 177]
abbrev dktX5_goesBy_10 : List UInt8 := dkwX5_goesBy_10 ++ []
def dkwX5_goesBy_9 : List UInt8 := [184, 0, 151, 153, 0, 24, 42, 180, 0, 43, 21, 4, 46, 16, 24, 42, 180, 0, 40, 21, 4, 46, 100, 104]
abbrev dktX5_goesBy_9 : List UInt8 := dkwX5_goesBy_9 ++ dktX5_goesBy_10
def dkwX5_goesBy_8 : List UInt8 := [181, 1, 43, 3, 54, 4, 21, 4, 42, 180, 0, 85, 162, 0, 53, 42, 180, 0, 70, 21, 4, 29, 21, 4]
abbrev dktX5_goesBy_8 : List UInt8 := dkwX5_goesBy_8 ++ dktX5_goesBy_9
def dkwX5_goesBy_7 : List UInt8 := [180, 0, 85, 4, 100, 21, 4, 100, 182, 0, 121, 54, 6, 167, 255, 145, 132, 4, 1, 167, 255, 86, 42, 29]
abbrev dktX5_goesBy_7 : List UInt8 := dkwX5_goesBy_7 ++ dktX5_goesBy_8
def dkwX5_goesBy_6 : List UInt8 := [100, 104, 167, 0, 10, 42, 180, 0, 70, 21, 7, 46, 79, 132, 7, 1, 167, 255, 199, 42, 27, 28, 29, 42]
abbrev dktX5_goesBy_6 : List UInt8 := dkwX5_goesBy_6 ++ dktX5_goesBy_7
def dkwX5_goesBy_5 : List UInt8 := [21, 7, 184, 0, 151, 153, 0, 24, 42, 180, 0, 43, 21, 7, 46, 21, 5, 42, 180, 0, 40, 21, 7, 46]
abbrev dktX5_goesBy_5 : List UInt8 := dkwX5_goesBy_5 ++ dktX5_goesBy_6
def dkwX5_goesBy_4 : List UInt8 := [2, 130, 126, 62, 3, 54, 7, 21, 7, 42, 180, 0, 85, 162, 0, 54, 42, 180, 0, 70, 21, 7, 21, 6]
abbrev dktX5_goesBy_4 : List UInt8 := dkwX5_goesBy_4 ++ dktX5_goesBy_5
def dkwX5_goesBy_3 : List UInt8 := [153, 0, 112, 42, 180, 0, 67, 42, 89, 180, 1, 40, 90, 4, 96, 181, 1, 40, 21, 6, 79, 29, 21, 6]
abbrev dktX5_goesBy_3 : List UInt8 := dkwX5_goesBy_3 ++ dktX5_goesBy_4
def dkwX5_goesBy_2 : List UInt8 := [54, 5, 42, 27, 28, 29, 42, 180, 0, 85, 4, 100, 21, 4, 100, 182, 0, 121, 54, 6, 21, 6]
abbrev dktX5_goesBy_2 : List UInt8 := dkwX5_goesBy_2 ++ dktX5_goesBy_3
def dkwX5_goesBy_1 : List UInt8 := [4, 42, 180, 0, 64, 21, 4, 46, 120, 128, 62, 42, 180, 0, 40, 42, 180, 0, 64, 21, 4, 46, 46]
abbrev dktX5_goesBy_1 : List UInt8 := dkwX5_goesBy_1 ++ dktX5_goesBy_2
def dkwX5_goesBy_0 : List UInt8 := [42, 182, 1, 37, 42, 3, 181, 1, 40, 3, 62, 3, 54, 4, 21, 4, 42, 180, 0, 85, 162, 0, 167, 29]
abbrev dktX5_goesBy_0 : List UInt8 := dkwX5_goesBy_0 ++ dktX5_goesBy_1
theorem dksX5_goesBy_0 : cX5_goesBy.data.toList.drop 0 = dktX5_goesBy_0 := by decide +kernel
theorem dksX5_goesBy_1 : cX5_goesBy.data.toList.drop 24 = dktX5_goesBy_1 := dk_seg dksX5_goesBy_0 24 rfl rfl
theorem dksX5_goesBy_2 : cX5_goesBy.data.toList.drop 47 = dktX5_goesBy_2 := dk_seg dksX5_goesBy_1 23 rfl rfl
theorem dksX5_goesBy_3 : cX5_goesBy.data.toList.drop 69 = dktX5_goesBy_3 := dk_seg dksX5_goesBy_2 22 rfl rfl
theorem dksX5_goesBy_4 : cX5_goesBy.data.toList.drop 93 = dktX5_goesBy_4 := dk_seg dksX5_goesBy_3 24 rfl rfl
theorem dksX5_goesBy_5 : cX5_goesBy.data.toList.drop 117 = dktX5_goesBy_5 := dk_seg dksX5_goesBy_4 24 rfl rfl
theorem dksX5_goesBy_6 : cX5_goesBy.data.toList.drop 141 = dktX5_goesBy_6 := dk_seg dksX5_goesBy_5 24 rfl rfl
theorem dksX5_goesBy_7 : cX5_goesBy.data.toList.drop 165 = dktX5_goesBy_7 := dk_seg dksX5_goesBy_6 24 rfl rfl
theorem dksX5_goesBy_8 : cX5_goesBy.data.toList.drop 189 = dktX5_goesBy_8 := dk_seg dksX5_goesBy_7 24 rfl rfl
theorem dksX5_goesBy_9 : cX5_goesBy.data.toList.drop 213 = dktX5_goesBy_9 := dk_seg dksX5_goesBy_8 24 rfl rfl
theorem dksX5_goesBy_10 : cX5_goesBy.data.toList.drop 237 = dktX5_goesBy_10 := dk_seg dksX5_goesBy_9 24 rfl rfl
theorem dX5_goesBy_0 : decode cX5_goesBy 0 = .ok (.aload_n 0, 1) := dk_42 (dk_at dksX5_goesBy_0 0 rfl rfl)
theorem dX5_goesBy_1 : decode cX5_goesBy 1 = .ok (.invokevirtual 293, 3) := dk_182 1 37 (dk_at dksX5_goesBy_0 1 rfl rfl)
theorem dX5_goesBy_4 : decode cX5_goesBy 4 = .ok (.aload_n 0, 1) := dk_42 (dk_at dksX5_goesBy_0 4 rfl rfl)
theorem dX5_goesBy_5 : decode cX5_goesBy 5 = .ok (.iconst 0, 1) := dk_3 (dk_at dksX5_goesBy_0 5 rfl rfl)
theorem dX5_goesBy_6 : decode cX5_goesBy 6 = .ok (.putfield 296, 3) := dk_181 1 40 (dk_at dksX5_goesBy_0 6 rfl rfl)
theorem dX5_goesBy_9 : decode cX5_goesBy 9 = .ok (.iconst 0, 1) := dk_3 (dk_at dksX5_goesBy_0 9 rfl rfl)
theorem dX5_goesBy_10 : decode cX5_goesBy 10 = .ok (.istore_n 3, 1) := dk_62 (dk_at dksX5_goesBy_0 10 rfl rfl)
theorem dX5_goesBy_11 : decode cX5_goesBy 11 = .ok (.iconst 0, 1) := dk_3 (dk_at dksX5_goesBy_0 11 rfl rfl)
theorem dX5_goesBy_12 : decode cX5_goesBy 12 = .ok (.istore 4, 2) := dk_54 4 (dk_at dksX5_goesBy_0 12 rfl rfl)
theorem dX5_goesBy_14 : decode cX5_goesBy 14 = .ok (.iload 4, 2) := dk_21 4 (dk_at dksX5_goesBy_0 14 rfl rfl)
theorem dX5_goesBy_16 : decode cX5_goesBy 16 = .ok (.aload_n 0, 1) := dk_42 (dk_at dksX5_goesBy_0 16 rfl rfl)
theorem dX5_goesBy_17 : decode cX5_goesBy 17 = .ok (.getfield 85, 3) := dk_180 0 85 (dk_at dksX5_goesBy_0 17 rfl rfl)
theorem dX5_goesBy_20 : decode cX5_goesBy 20 = .ok (.if_icmp .ge 167, 3) := dk_162 0 167 (dk_at dksX5_goesBy_0 20 rfl rfl)
theorem dX5_goesBy_23 : decode cX5_goesBy 23 = .ok (.iload_n 3, 1) := dk_29 (dk_at dksX5_goesBy_0 23 rfl rfl)
theorem dX5_goesBy_24 : decode cX5_goesBy 24 = .ok (.iconst 1, 1) := dk_4 (dk_at dksX5_goesBy_1 0 rfl rfl)
theorem dX5_goesBy_25 : decode cX5_goesBy 25 = .ok (.aload_n 0, 1) := dk_42 (dk_at dksX5_goesBy_1 1 rfl rfl)
theorem dX5_goesBy_26 : decode cX5_goesBy 26 = .ok (.getfield 64, 3) := dk_180 0 64 (dk_at dksX5_goesBy_1 2 rfl rfl)
theorem dX5_goesBy_29 : decode cX5_goesBy 29 = .ok (.iload 4, 2) := dk_21 4 (dk_at dksX5_goesBy_1 5 rfl rfl)
theorem dX5_goesBy_31 : decode cX5_goesBy 31 = .ok (.iaload, 1) := dk_46 (dk_at dksX5_goesBy_1 7 rfl rfl)
theorem dX5_goesBy_32 : decode cX5_goesBy 32 = .ok (.ishl, 1) := dk_120 (dk_at dksX5_goesBy_1 8 rfl rfl)
theorem dX5_goesBy_33 : decode cX5_goesBy 33 = .ok (.ior, 1) := dk_128 (dk_at dksX5_goesBy_1 9 rfl rfl)
theorem dX5_goesBy_34 : decode cX5_goesBy 34 = .ok (.istore_n 3, 1) := dk_62 (dk_at dksX5_goesBy_1 10 rfl rfl)
theorem dX5_goesBy_35 : decode cX5_goesBy 35 = .ok (.aload_n 0, 1) := dk_42 (dk_at dksX5_goesBy_1 11 rfl rfl)
theorem dX5_goesBy_36 : decode cX5_goesBy 36 = .ok (.getfield 40, 3) := dk_180 0 40 (dk_at dksX5_goesBy_1 12 rfl rfl)
theorem dX5_goesBy_39 : decode cX5_goesBy 39 = .ok (.aload_n 0, 1) := dk_42 (dk_at dksX5_goesBy_1 15 rfl rfl)
theorem dX5_goesBy_40 : decode cX5_goesBy 40 = .ok (.getfield 64, 3) := dk_180 0 64 (dk_at dksX5_goesBy_1 16 rfl rfl)
theorem dX5_goesBy_43 : decode cX5_goesBy 43 = .ok (.iload 4, 2) := dk_21 4 (dk_at dksX5_goesBy_1 19 rfl rfl)
theorem dX5_goesBy_45 : decode cX5_goesBy 45 = .ok (.iaload, 1) := dk_46 (dk_at dksX5_goesBy_1 21 rfl rfl)
theorem dX5_goesBy_46 : decode cX5_goesBy 46 = .ok (.iaload, 1) := dk_46 (dk_at dksX5_goesBy_1 22 rfl rfl)
theorem dX5_goesBy_47 : decode cX5_goesBy 47 = .ok (.istore 5, 2) := dk_54 5 (dk_at dksX5_goesBy_2 0 rfl rfl)
theorem dX5_goesBy_49 : decode cX5_goesBy 49 = .ok (.aload_n 0, 1) := dk_42 (dk_at dksX5_goesBy_2 2 rfl rfl)
theorem dX5_goesBy_50 : decode cX5_goesBy 50 = .ok (.iload_n 1, 1) := dk_27 (dk_at dksX5_goesBy_2 3 rfl rfl)
theorem dX5_goesBy_51 : decode cX5_goesBy 51 = .ok (.iload_n 2, 1) := dk_28 (dk_at dksX5_goesBy_2 4 rfl rfl)
theorem dX5_goesBy_52 : decode cX5_goesBy 52 = .ok (.iload_n 3, 1) := dk_29 (dk_at dksX5_goesBy_2 5 rfl rfl)
theorem dX5_goesBy_53 : decode cX5_goesBy 53 = .ok (.aload_n 0, 1) := dk_42 (dk_at dksX5_goesBy_2 6 rfl rfl)
theorem dX5_goesBy_54 : decode cX5_goesBy 54 = .ok (.getfield 85, 3) := dk_180 0 85 (dk_at dksX5_goesBy_2 7 rfl rfl)
theorem dX5_goesBy_57 : decode cX5_goesBy 57 = .ok (.iconst 1, 1) := dk_4 (dk_at dksX5_goesBy_2 10 rfl rfl)
theorem dX5_goesBy_58 : decode cX5_goesBy 58 = .ok (.isub, 1) := dk_100 (dk_at dksX5_goesBy_2 11 rfl rfl)
theorem dX5_goesBy_59 : decode cX5_goesBy 59 = .ok (.iload 4, 2) := dk_21 4 (dk_at dksX5_goesBy_2 12 rfl rfl)
theorem dX5_goesBy_61 : decode cX5_goesBy 61 = .ok (.isub, 1) := dk_100 (dk_at dksX5_goesBy_2 14 rfl rfl)
theorem dX5_goesBy_62 : decode cX5_goesBy 62 = .ok (.invokevirtual 121, 3) := dk_182 0 121 (dk_at dksX5_goesBy_2 15 rfl rfl)
theorem dX5_goesBy_65 : decode cX5_goesBy 65 = .ok (.istore 6, 2) := dk_54 6 (dk_at dksX5_goesBy_2 18 rfl rfl)
theorem dX5_goesBy_67 : decode cX5_goesBy 67 = .ok (.iload 6, 2) := dk_21 6 (dk_at dksX5_goesBy_2 20 rfl rfl)
theorem dX5_goesBy_69 : decode cX5_goesBy 69 = .ok (.ifCond .eq 112, 3) := dk_153 0 112 (dk_at dksX5_goesBy_3 0 rfl rfl)
theorem dX5_goesBy_72 : decode cX5_goesBy 72 = .ok (.aload_n 0, 1) := dk_42 (dk_at dksX5_goesBy_3 3 rfl rfl)
theorem dX5_goesBy_73 : decode cX5_goesBy 73 = .ok (.getfield 67, 3) := dk_180 0 67 (dk_at dksX5_goesBy_3 4 rfl rfl)
theorem dX5_goesBy_76 : decode cX5_goesBy 76 = .ok (.aload_n 0, 1) := dk_42 (dk_at dksX5_goesBy_3 7 rfl rfl)
theorem dX5_goesBy_77 : decode cX5_goesBy 77 = .ok (.dup, 1) := dk_89 (dk_at dksX5_goesBy_3 8 rfl rfl)
theorem dX5_goesBy_78 : decode cX5_goesBy 78 = .ok (.getfield 296, 3) := dk_180 1 40 (dk_at dksX5_goesBy_3 9 rfl rfl)
theorem dX5_goesBy_81 : decode cX5_goesBy 81 = .ok (.dup_x1, 1) := dk_90 (dk_at dksX5_goesBy_3 12 rfl rfl)
theorem dX5_goesBy_82 : decode cX5_goesBy 82 = .ok (.iconst 1, 1) := dk_4 (dk_at dksX5_goesBy_3 13 rfl rfl)
theorem dX5_goesBy_83 : decode cX5_goesBy 83 = .ok (.iadd, 1) := dk_96 (dk_at dksX5_goesBy_3 14 rfl rfl)
theorem dX5_goesBy_84 : decode cX5_goesBy 84 = .ok (.putfield 296, 3) := dk_181 1 40 (dk_at dksX5_goesBy_3 15 rfl rfl)
theorem dX5_goesBy_87 : decode cX5_goesBy 87 = .ok (.iload 6, 2) := dk_21 6 (dk_at dksX5_goesBy_3 18 rfl rfl)
theorem dX5_goesBy_89 : decode cX5_goesBy 89 = .ok (.iastore, 1) := dk_79 (dk_at dksX5_goesBy_3 20 rfl rfl)
theorem dX5_goesBy_90 : decode cX5_goesBy 90 = .ok (.iload_n 3, 1) := dk_29 (dk_at dksX5_goesBy_3 21 rfl rfl)
theorem dX5_goesBy_91 : decode cX5_goesBy 91 = .ok (.iload 6, 2) := dk_21 6 (dk_at dksX5_goesBy_3 22 rfl rfl)
theorem dX5_goesBy_93 : decode cX5_goesBy 93 = .ok (.iconst (-1), 1) := dk_2 (dk_at dksX5_goesBy_4 0 rfl rfl)
theorem dX5_goesBy_94 : decode cX5_goesBy 94 = .ok (.ixor, 1) := dk_130 (dk_at dksX5_goesBy_4 1 rfl rfl)
theorem dX5_goesBy_95 : decode cX5_goesBy 95 = .ok (.iand, 1) := dk_126 (dk_at dksX5_goesBy_4 2 rfl rfl)
theorem dX5_goesBy_96 : decode cX5_goesBy 96 = .ok (.istore_n 3, 1) := dk_62 (dk_at dksX5_goesBy_4 3 rfl rfl)
theorem dX5_goesBy_97 : decode cX5_goesBy 97 = .ok (.iconst 0, 1) := dk_3 (dk_at dksX5_goesBy_4 4 rfl rfl)
theorem dX5_goesBy_98 : decode cX5_goesBy 98 = .ok (.istore 7, 2) := dk_54 7 (dk_at dksX5_goesBy_4 5 rfl rfl)
theorem dX5_goesBy_100 : decode cX5_goesBy 100 = .ok (.iload 7, 2) := dk_21 7 (dk_at dksX5_goesBy_4 7 rfl rfl)
theorem dX5_goesBy_102 : decode cX5_goesBy 102 = .ok (.aload_n 0, 1) := dk_42 (dk_at dksX5_goesBy_4 9 rfl rfl)
theorem dX5_goesBy_103 : decode cX5_goesBy 103 = .ok (.getfield 85, 3) := dk_180 0 85 (dk_at dksX5_goesBy_4 10 rfl rfl)
theorem dX5_goesBy_106 : decode cX5_goesBy 106 = .ok (.if_icmp .ge 54, 3) := dk_162 0 54 (dk_at dksX5_goesBy_4 13 rfl rfl)
theorem dX5_goesBy_109 : decode cX5_goesBy 109 = .ok (.aload_n 0, 1) := dk_42 (dk_at dksX5_goesBy_4 16 rfl rfl)
theorem dX5_goesBy_110 : decode cX5_goesBy 110 = .ok (.getfield 70, 3) := dk_180 0 70 (dk_at dksX5_goesBy_4 17 rfl rfl)
theorem dX5_goesBy_113 : decode cX5_goesBy 113 = .ok (.iload 7, 2) := dk_21 7 (dk_at dksX5_goesBy_4 20 rfl rfl)
theorem dX5_goesBy_115 : decode cX5_goesBy 115 = .ok (.iload 6, 2) := dk_21 6 (dk_at dksX5_goesBy_4 22 rfl rfl)
theorem dX5_goesBy_117 : decode cX5_goesBy 117 = .ok (.iload 7, 2) := dk_21 7 (dk_at dksX5_goesBy_5 0 rfl rfl)
theorem dX5_goesBy_119 : decode cX5_goesBy 119 = .ok (.invokestatic 151, 3) := dk_184 0 151 (dk_at dksX5_goesBy_5 2 rfl rfl)
theorem dX5_goesBy_122 : decode cX5_goesBy 122 = .ok (.ifCond .eq 24, 3) := dk_153 0 24 (dk_at dksX5_goesBy_5 5 rfl rfl)
theorem dX5_goesBy_125 : decode cX5_goesBy 125 = .ok (.aload_n 0, 1) := dk_42 (dk_at dksX5_goesBy_5 8 rfl rfl)
theorem dX5_goesBy_126 : decode cX5_goesBy 126 = .ok (.getfield 43, 3) := dk_180 0 43 (dk_at dksX5_goesBy_5 9 rfl rfl)
theorem dX5_goesBy_129 : decode cX5_goesBy 129 = .ok (.iload 7, 2) := dk_21 7 (dk_at dksX5_goesBy_5 12 rfl rfl)
theorem dX5_goesBy_131 : decode cX5_goesBy 131 = .ok (.iaload, 1) := dk_46 (dk_at dksX5_goesBy_5 14 rfl rfl)
theorem dX5_goesBy_132 : decode cX5_goesBy 132 = .ok (.iload 5, 2) := dk_21 5 (dk_at dksX5_goesBy_5 15 rfl rfl)
theorem dX5_goesBy_134 : decode cX5_goesBy 134 = .ok (.aload_n 0, 1) := dk_42 (dk_at dksX5_goesBy_5 17 rfl rfl)
theorem dX5_goesBy_135 : decode cX5_goesBy 135 = .ok (.getfield 40, 3) := dk_180 0 40 (dk_at dksX5_goesBy_5 18 rfl rfl)
theorem dX5_goesBy_138 : decode cX5_goesBy 138 = .ok (.iload 7, 2) := dk_21 7 (dk_at dksX5_goesBy_5 21 rfl rfl)
theorem dX5_goesBy_140 : decode cX5_goesBy 140 = .ok (.iaload, 1) := dk_46 (dk_at dksX5_goesBy_5 23 rfl rfl)
theorem dX5_goesBy_141 : decode cX5_goesBy 141 = .ok (.isub, 1) := dk_100 (dk_at dksX5_goesBy_6 0 rfl rfl)
theorem dX5_goesBy_142 : decode cX5_goesBy 142 = .ok (.imul, 1) := dk_104 (dk_at dksX5_goesBy_6 1 rfl rfl)
theorem dX5_goesBy_143 : decode cX5_goesBy 143 = .ok (.goto 10, 3) := dk_167 0 10 (dk_at dksX5_goesBy_6 2 rfl rfl)
theorem dX5_goesBy_146 : decode cX5_goesBy 146 = .ok (.aload_n 0, 1) := dk_42 (dk_at dksX5_goesBy_6 5 rfl rfl)
theorem dX5_goesBy_147 : decode cX5_goesBy 147 = .ok (.getfield 70, 3) := dk_180 0 70 (dk_at dksX5_goesBy_6 6 rfl rfl)
theorem dX5_goesBy_150 : decode cX5_goesBy 150 = .ok (.iload 7, 2) := dk_21 7 (dk_at dksX5_goesBy_6 9 rfl rfl)
theorem dX5_goesBy_152 : decode cX5_goesBy 152 = .ok (.iaload, 1) := dk_46 (dk_at dksX5_goesBy_6 11 rfl rfl)
theorem dX5_goesBy_153 : decode cX5_goesBy 153 = .ok (.iastore, 1) := dk_79 (dk_at dksX5_goesBy_6 12 rfl rfl)
theorem dX5_goesBy_154 : decode cX5_goesBy 154 = .ok (.iinc 7 1, 3) := dk_132 7 1 (dk_at dksX5_goesBy_6 13 rfl rfl)
theorem dX5_goesBy_157 : decode cX5_goesBy 157 = .ok (.goto (-57), 3) := dk_167 255 199 (dk_at dksX5_goesBy_6 16 rfl rfl)
theorem dX5_goesBy_160 : decode cX5_goesBy 160 = .ok (.aload_n 0, 1) := dk_42 (dk_at dksX5_goesBy_6 19 rfl rfl)
theorem dX5_goesBy_161 : decode cX5_goesBy 161 = .ok (.iload_n 1, 1) := dk_27 (dk_at dksX5_goesBy_6 20 rfl rfl)
theorem dX5_goesBy_162 : decode cX5_goesBy 162 = .ok (.iload_n 2, 1) := dk_28 (dk_at dksX5_goesBy_6 21 rfl rfl)
theorem dX5_goesBy_163 : decode cX5_goesBy 163 = .ok (.iload_n 3, 1) := dk_29 (dk_at dksX5_goesBy_6 22 rfl rfl)
theorem dX5_goesBy_164 : decode cX5_goesBy 164 = .ok (.aload_n 0, 1) := dk_42 (dk_at dksX5_goesBy_6 23 rfl rfl)
theorem dX5_goesBy_165 : decode cX5_goesBy 165 = .ok (.getfield 85, 3) := dk_180 0 85 (dk_at dksX5_goesBy_7 0 rfl rfl)
theorem dX5_goesBy_168 : decode cX5_goesBy 168 = .ok (.iconst 1, 1) := dk_4 (dk_at dksX5_goesBy_7 3 rfl rfl)
theorem dX5_goesBy_169 : decode cX5_goesBy 169 = .ok (.isub, 1) := dk_100 (dk_at dksX5_goesBy_7 4 rfl rfl)
theorem dX5_goesBy_170 : decode cX5_goesBy 170 = .ok (.iload 4, 2) := dk_21 4 (dk_at dksX5_goesBy_7 5 rfl rfl)
theorem dX5_goesBy_172 : decode cX5_goesBy 172 = .ok (.isub, 1) := dk_100 (dk_at dksX5_goesBy_7 7 rfl rfl)
theorem dX5_goesBy_173 : decode cX5_goesBy 173 = .ok (.invokevirtual 121, 3) := dk_182 0 121 (dk_at dksX5_goesBy_7 8 rfl rfl)
theorem dX5_goesBy_176 : decode cX5_goesBy 176 = .ok (.istore 6, 2) := dk_54 6 (dk_at dksX5_goesBy_7 11 rfl rfl)
theorem dX5_goesBy_178 : decode cX5_goesBy 178 = .ok (.goto (-111), 3) := dk_167 255 145 (dk_at dksX5_goesBy_7 13 rfl rfl)
theorem dX5_goesBy_181 : decode cX5_goesBy 181 = .ok (.iinc 4 1, 3) := dk_132 4 1 (dk_at dksX5_goesBy_7 16 rfl rfl)
theorem dX5_goesBy_184 : decode cX5_goesBy 184 = .ok (.goto (-170), 3) := dk_167 255 86 (dk_at dksX5_goesBy_7 19 rfl rfl)
theorem dX5_goesBy_187 : decode cX5_goesBy 187 = .ok (.aload_n 0, 1) := dk_42 (dk_at dksX5_goesBy_7 22 rfl rfl)
theorem dX5_goesBy_188 : decode cX5_goesBy 188 = .ok (.iload_n 3, 1) := dk_29 (dk_at dksX5_goesBy_7 23 rfl rfl)
theorem dX5_goesBy_189 : decode cX5_goesBy 189 = .ok (.putfield 299, 3) := dk_181 1 43 (dk_at dksX5_goesBy_8 0 rfl rfl)
theorem dX5_goesBy_192 : decode cX5_goesBy 192 = .ok (.iconst 0, 1) := dk_3 (dk_at dksX5_goesBy_8 3 rfl rfl)
theorem dX5_goesBy_193 : decode cX5_goesBy 193 = .ok (.istore 4, 2) := dk_54 4 (dk_at dksX5_goesBy_8 4 rfl rfl)
theorem dX5_goesBy_195 : decode cX5_goesBy 195 = .ok (.iload 4, 2) := dk_21 4 (dk_at dksX5_goesBy_8 6 rfl rfl)
theorem dX5_goesBy_197 : decode cX5_goesBy 197 = .ok (.aload_n 0, 1) := dk_42 (dk_at dksX5_goesBy_8 8 rfl rfl)
theorem dX5_goesBy_198 : decode cX5_goesBy 198 = .ok (.getfield 85, 3) := dk_180 0 85 (dk_at dksX5_goesBy_8 9 rfl rfl)
theorem dX5_goesBy_201 : decode cX5_goesBy 201 = .ok (.if_icmp .ge 53, 3) := dk_162 0 53 (dk_at dksX5_goesBy_8 12 rfl rfl)
theorem dX5_goesBy_204 : decode cX5_goesBy 204 = .ok (.aload_n 0, 1) := dk_42 (dk_at dksX5_goesBy_8 15 rfl rfl)
theorem dX5_goesBy_205 : decode cX5_goesBy 205 = .ok (.getfield 70, 3) := dk_180 0 70 (dk_at dksX5_goesBy_8 16 rfl rfl)
theorem dX5_goesBy_208 : decode cX5_goesBy 208 = .ok (.iload 4, 2) := dk_21 4 (dk_at dksX5_goesBy_8 19 rfl rfl)
theorem dX5_goesBy_210 : decode cX5_goesBy 210 = .ok (.iload_n 3, 1) := dk_29 (dk_at dksX5_goesBy_8 21 rfl rfl)
theorem dX5_goesBy_211 : decode cX5_goesBy 211 = .ok (.iload 4, 2) := dk_21 4 (dk_at dksX5_goesBy_8 22 rfl rfl)
theorem dX5_goesBy_213 : decode cX5_goesBy 213 = .ok (.invokestatic 151, 3) := dk_184 0 151 (dk_at dksX5_goesBy_9 0 rfl rfl)
theorem dX5_goesBy_216 : decode cX5_goesBy 216 = .ok (.ifCond .eq 24, 3) := dk_153 0 24 (dk_at dksX5_goesBy_9 3 rfl rfl)
theorem dX5_goesBy_219 : decode cX5_goesBy 219 = .ok (.aload_n 0, 1) := dk_42 (dk_at dksX5_goesBy_9 6 rfl rfl)
theorem dX5_goesBy_220 : decode cX5_goesBy 220 = .ok (.getfield 43, 3) := dk_180 0 43 (dk_at dksX5_goesBy_9 7 rfl rfl)
theorem dX5_goesBy_223 : decode cX5_goesBy 223 = .ok (.iload 4, 2) := dk_21 4 (dk_at dksX5_goesBy_9 10 rfl rfl)
theorem dX5_goesBy_225 : decode cX5_goesBy 225 = .ok (.iaload, 1) := dk_46 (dk_at dksX5_goesBy_9 12 rfl rfl)
theorem dX5_goesBy_226 : decode cX5_goesBy 226 = .ok (.bipush 24, 2) := dk_16 24 (dk_at dksX5_goesBy_9 13 rfl rfl)
theorem dX5_goesBy_228 : decode cX5_goesBy 228 = .ok (.aload_n 0, 1) := dk_42 (dk_at dksX5_goesBy_9 15 rfl rfl)
theorem dX5_goesBy_229 : decode cX5_goesBy 229 = .ok (.getfield 40, 3) := dk_180 0 40 (dk_at dksX5_goesBy_9 16 rfl rfl)
theorem dX5_goesBy_232 : decode cX5_goesBy 232 = .ok (.iload 4, 2) := dk_21 4 (dk_at dksX5_goesBy_9 19 rfl rfl)
theorem dX5_goesBy_234 : decode cX5_goesBy 234 = .ok (.iaload, 1) := dk_46 (dk_at dksX5_goesBy_9 21 rfl rfl)
theorem dX5_goesBy_235 : decode cX5_goesBy 235 = .ok (.isub, 1) := dk_100 (dk_at dksX5_goesBy_9 22 rfl rfl)
theorem dX5_goesBy_236 : decode cX5_goesBy 236 = .ok (.imul, 1) := dk_104 (dk_at dksX5_goesBy_9 23 rfl rfl)
theorem dX5_goesBy_237 : decode cX5_goesBy 237 = .ok (.goto 10, 3) := dk_167 0 10 (dk_at dksX5_goesBy_10 0 rfl rfl)
theorem dX5_goesBy_240 : decode cX5_goesBy 240 = .ok (.aload_n 0, 1) := dk_42 (dk_at dksX5_goesBy_10 3 rfl rfl)
theorem dX5_goesBy_241 : decode cX5_goesBy 241 = .ok (.getfield 70, 3) := dk_180 0 70 (dk_at dksX5_goesBy_10 4 rfl rfl)
theorem dX5_goesBy_244 : decode cX5_goesBy 244 = .ok (.iload 4, 2) := dk_21 4 (dk_at dksX5_goesBy_10 7 rfl rfl)
theorem dX5_goesBy_246 : decode cX5_goesBy 246 = .ok (.iaload, 1) := dk_46 (dk_at dksX5_goesBy_10 9 rfl rfl)
theorem dX5_goesBy_247 : decode cX5_goesBy 247 = .ok (.iastore, 1) := dk_79 (dk_at dksX5_goesBy_10 10 rfl rfl)
theorem dX5_goesBy_248 : decode cX5_goesBy 248 = .ok (.iinc 4 1, 3) := dk_132 4 1 (dk_at dksX5_goesBy_10 11 rfl rfl)
theorem dX5_goesBy_251 : decode cX5_goesBy 251 = .ok (.goto (-56), 3) := dk_167 255 200 (dk_at dksX5_goesBy_10 14 rfl rfl)
theorem dX5_goesBy_254 : decode cX5_goesBy 254 = .ok (.return_, 1) := dk_177 (dk_at dksX5_goesBy_10 17 rfl rfl)
abbrev cX5_findComing : ByteArray := prog_18_method_62_code
def yX5_findComing : MethodName := ⟨RX5, "findComing", "()V"⟩
def dkwX5_findComing_2 : List UInt8 := [132, 2, 1, 167, 255, 211, 177]
abbrev dktX5_findComing_2 : List UInt8 := dkwX5_findComing_2 ++ []
def dkwX5_findComing_1 : List UInt8 := [29, 46, 28, 160, 0, 13, 42, 180, 0, 64, 27, 132, 1, 1, 29, 79, 132, 3, 1, 167, 255, 225]
abbrev dktX5_findComing_1 : List UInt8 := dkwX5_findComing_1 ++ dktX5_findComing_2
def dkwX5_findComing_0 : List UInt8 := [3, 60, 3, 61, 28, 16, 24, 162, 0, 45, 3, 62, 29, 42, 180, 0, 85, 162, 0, 29, 42, 180, 0, 40]
abbrev dktX5_findComing_0 : List UInt8 := dkwX5_findComing_0 ++ dktX5_findComing_1
theorem dksX5_findComing_0 : cX5_findComing.data.toList.drop 0 = dktX5_findComing_0 := by decide +kernel
theorem dksX5_findComing_1 : cX5_findComing.data.toList.drop 24 = dktX5_findComing_1 := dk_seg dksX5_findComing_0 24 rfl rfl
theorem dksX5_findComing_2 : cX5_findComing.data.toList.drop 46 = dktX5_findComing_2 := dk_seg dksX5_findComing_1 22 rfl rfl
theorem dX5_findComing_0 : decode cX5_findComing 0 = .ok (.iconst 0, 1) := dk_3 (dk_at dksX5_findComing_0 0 rfl rfl)
theorem dX5_findComing_1 : decode cX5_findComing 1 = .ok (.istore_n 1, 1) := dk_60 (dk_at dksX5_findComing_0 1 rfl rfl)
theorem dX5_findComing_2 : decode cX5_findComing 2 = .ok (.iconst 0, 1) := dk_3 (dk_at dksX5_findComing_0 2 rfl rfl)
theorem dX5_findComing_3 : decode cX5_findComing 3 = .ok (.istore_n 2, 1) := dk_61 (dk_at dksX5_findComing_0 3 rfl rfl)
theorem dX5_findComing_4 : decode cX5_findComing 4 = .ok (.iload_n 2, 1) := dk_28 (dk_at dksX5_findComing_0 4 rfl rfl)
theorem dX5_findComing_5 : decode cX5_findComing 5 = .ok (.bipush 24, 2) := dk_16 24 (dk_at dksX5_findComing_0 5 rfl rfl)
theorem dX5_findComing_7 : decode cX5_findComing 7 = .ok (.if_icmp .ge 45, 3) := dk_162 0 45 (dk_at dksX5_findComing_0 7 rfl rfl)
theorem dX5_findComing_10 : decode cX5_findComing 10 = .ok (.iconst 0, 1) := dk_3 (dk_at dksX5_findComing_0 10 rfl rfl)
theorem dX5_findComing_11 : decode cX5_findComing 11 = .ok (.istore_n 3, 1) := dk_62 (dk_at dksX5_findComing_0 11 rfl rfl)
theorem dX5_findComing_12 : decode cX5_findComing 12 = .ok (.iload_n 3, 1) := dk_29 (dk_at dksX5_findComing_0 12 rfl rfl)
theorem dX5_findComing_13 : decode cX5_findComing 13 = .ok (.aload_n 0, 1) := dk_42 (dk_at dksX5_findComing_0 13 rfl rfl)
theorem dX5_findComing_14 : decode cX5_findComing 14 = .ok (.getfield 85, 3) := dk_180 0 85 (dk_at dksX5_findComing_0 14 rfl rfl)
theorem dX5_findComing_17 : decode cX5_findComing 17 = .ok (.if_icmp .ge 29, 3) := dk_162 0 29 (dk_at dksX5_findComing_0 17 rfl rfl)
theorem dX5_findComing_20 : decode cX5_findComing 20 = .ok (.aload_n 0, 1) := dk_42 (dk_at dksX5_findComing_0 20 rfl rfl)
theorem dX5_findComing_21 : decode cX5_findComing 21 = .ok (.getfield 40, 3) := dk_180 0 40 (dk_at dksX5_findComing_0 21 rfl rfl)
theorem dX5_findComing_24 : decode cX5_findComing 24 = .ok (.iload_n 3, 1) := dk_29 (dk_at dksX5_findComing_1 0 rfl rfl)
theorem dX5_findComing_25 : decode cX5_findComing 25 = .ok (.iaload, 1) := dk_46 (dk_at dksX5_findComing_1 1 rfl rfl)
theorem dX5_findComing_26 : decode cX5_findComing 26 = .ok (.iload_n 2, 1) := dk_28 (dk_at dksX5_findComing_1 2 rfl rfl)
theorem dX5_findComing_27 : decode cX5_findComing 27 = .ok (.if_icmp .ne 13, 3) := dk_160 0 13 (dk_at dksX5_findComing_1 3 rfl rfl)
theorem dX5_findComing_30 : decode cX5_findComing 30 = .ok (.aload_n 0, 1) := dk_42 (dk_at dksX5_findComing_1 6 rfl rfl)
theorem dX5_findComing_31 : decode cX5_findComing 31 = .ok (.getfield 64, 3) := dk_180 0 64 (dk_at dksX5_findComing_1 7 rfl rfl)
theorem dX5_findComing_34 : decode cX5_findComing 34 = .ok (.iload_n 1, 1) := dk_27 (dk_at dksX5_findComing_1 10 rfl rfl)
theorem dX5_findComing_35 : decode cX5_findComing 35 = .ok (.iinc 1 1, 3) := dk_132 1 1 (dk_at dksX5_findComing_1 11 rfl rfl)
theorem dX5_findComing_38 : decode cX5_findComing 38 = .ok (.iload_n 3, 1) := dk_29 (dk_at dksX5_findComing_1 14 rfl rfl)
theorem dX5_findComing_39 : decode cX5_findComing 39 = .ok (.iastore, 1) := dk_79 (dk_at dksX5_findComing_1 15 rfl rfl)
theorem dX5_findComing_40 : decode cX5_findComing 40 = .ok (.iinc 3 1, 3) := dk_132 3 1 (dk_at dksX5_findComing_1 16 rfl rfl)
theorem dX5_findComing_43 : decode cX5_findComing 43 = .ok (.goto (-31), 3) := dk_167 255 225 (dk_at dksX5_findComing_1 19 rfl rfl)
theorem dX5_findComing_46 : decode cX5_findComing 46 = .ok (.iinc 2 1, 3) := dk_132 2 1 (dk_at dksX5_findComing_2 0 rfl rfl)
theorem dX5_findComing_49 : decode cX5_findComing 49 = .ok (.goto (-45), 3) := dk_167 255 211 (dk_at dksX5_findComing_2 3 rfl rfl)
theorem dX5_findComing_52 : decode cX5_findComing 52 = .ok (.return_, 1) := dk_177 (dk_at dksX5_findComing_2 6 rfl rfl)
abbrev cX5_coach : ByteArray := prog_18_method_66_code
def yX5_coach : MethodName := ⟨RX5, "coach", "(II)I"⟩
def dkwX5_coach_2 : List UInt8 := [28, 46, 167, 0, 9, 42, 16, 251, 182, 0, 102, 172]
abbrev dktX5_coach_2 : List UInt8 := dkwX5_coach_2 ++ []
def dkwX5_coach_1 : List UInt8 := [46, 182, 1, 46, 28, 133, 9, 42, 180, 1, 40, 4, 100, 133, 184, 0, 88, 153, 0, 12, 42, 180, 0, 67]
abbrev dktX5_coach_1 : List UInt8 := dkwX5_coach_1 ++ dktX5_coach_2
def dkwX5_coach_0 : List UInt8 := [42, 27, 182, 1, 34, 62, 29, 153, 0, 5, 29, 172, 42, 42, 180, 0, 28, 27, 46, 42, 180, 0, 31, 27]
abbrev dktX5_coach_0 : List UInt8 := dkwX5_coach_0 ++ dktX5_coach_1
theorem dksX5_coach_0 : cX5_coach.data.toList.drop 0 = dktX5_coach_0 := by decide +kernel
theorem dksX5_coach_1 : cX5_coach.data.toList.drop 24 = dktX5_coach_1 := dk_seg dksX5_coach_0 24 rfl rfl
theorem dksX5_coach_2 : cX5_coach.data.toList.drop 48 = dktX5_coach_2 := dk_seg dksX5_coach_1 24 rfl rfl
theorem dX5_coach_0 : decode cX5_coach 0 = .ok (.aload_n 0, 1) := dk_42 (dk_at dksX5_coach_0 0 rfl rfl)
theorem dX5_coach_1 : decode cX5_coach 1 = .ok (.iload_n 1, 1) := dk_27 (dk_at dksX5_coach_0 1 rfl rfl)
theorem dX5_coach_2 : decode cX5_coach 2 = .ok (.invokevirtual 290, 3) := dk_182 1 34 (dk_at dksX5_coach_0 2 rfl rfl)
theorem dX5_coach_5 : decode cX5_coach 5 = .ok (.istore_n 3, 1) := dk_62 (dk_at dksX5_coach_0 5 rfl rfl)
theorem dX5_coach_6 : decode cX5_coach 6 = .ok (.iload_n 3, 1) := dk_29 (dk_at dksX5_coach_0 6 rfl rfl)
theorem dX5_coach_7 : decode cX5_coach 7 = .ok (.ifCond .eq 5, 3) := dk_153 0 5 (dk_at dksX5_coach_0 7 rfl rfl)
theorem dX5_coach_10 : decode cX5_coach 10 = .ok (.iload_n 3, 1) := dk_29 (dk_at dksX5_coach_0 10 rfl rfl)
theorem dX5_coach_11 : decode cX5_coach 11 = .ok (.ireturn, 1) := dk_172 (dk_at dksX5_coach_0 11 rfl rfl)
theorem dX5_coach_12 : decode cX5_coach 12 = .ok (.aload_n 0, 1) := dk_42 (dk_at dksX5_coach_0 12 rfl rfl)
theorem dX5_coach_13 : decode cX5_coach 13 = .ok (.aload_n 0, 1) := dk_42 (dk_at dksX5_coach_0 13 rfl rfl)
theorem dX5_coach_14 : decode cX5_coach 14 = .ok (.getfield 28, 3) := dk_180 0 28 (dk_at dksX5_coach_0 14 rfl rfl)
theorem dX5_coach_17 : decode cX5_coach 17 = .ok (.iload_n 1, 1) := dk_27 (dk_at dksX5_coach_0 17 rfl rfl)
theorem dX5_coach_18 : decode cX5_coach 18 = .ok (.iaload, 1) := dk_46 (dk_at dksX5_coach_0 18 rfl rfl)
theorem dX5_coach_19 : decode cX5_coach 19 = .ok (.aload_n 0, 1) := dk_42 (dk_at dksX5_coach_0 19 rfl rfl)
theorem dX5_coach_20 : decode cX5_coach 20 = .ok (.getfield 31, 3) := dk_180 0 31 (dk_at dksX5_coach_0 20 rfl rfl)
theorem dX5_coach_23 : decode cX5_coach 23 = .ok (.iload_n 1, 1) := dk_27 (dk_at dksX5_coach_0 23 rfl rfl)
theorem dX5_coach_24 : decode cX5_coach 24 = .ok (.iaload, 1) := dk_46 (dk_at dksX5_coach_1 0 rfl rfl)
theorem dX5_coach_25 : decode cX5_coach 25 = .ok (.invokevirtual 302, 3) := dk_182 1 46 (dk_at dksX5_coach_1 1 rfl rfl)
theorem dX5_coach_28 : decode cX5_coach 28 = .ok (.iload_n 2, 1) := dk_28 (dk_at dksX5_coach_1 4 rfl rfl)
theorem dX5_coach_29 : decode cX5_coach 29 = .ok (.i2l, 1) := dk_133 (dk_at dksX5_coach_1 5 rfl rfl)
theorem dX5_coach_30 : decode cX5_coach 30 = .ok (.lconst 0, 1) := dk_9 (dk_at dksX5_coach_1 6 rfl rfl)
theorem dX5_coach_31 : decode cX5_coach 31 = .ok (.aload_n 0, 1) := dk_42 (dk_at dksX5_coach_1 7 rfl rfl)
theorem dX5_coach_32 : decode cX5_coach 32 = .ok (.getfield 296, 3) := dk_180 1 40 (dk_at dksX5_coach_1 8 rfl rfl)
theorem dX5_coach_35 : decode cX5_coach 35 = .ok (.iconst 1, 1) := dk_4 (dk_at dksX5_coach_1 11 rfl rfl)
theorem dX5_coach_36 : decode cX5_coach 36 = .ok (.isub, 1) := dk_100 (dk_at dksX5_coach_1 12 rfl rfl)
theorem dX5_coach_37 : decode cX5_coach 37 = .ok (.i2l, 1) := dk_133 (dk_at dksX5_coach_1 13 rfl rfl)
theorem dX5_coach_38 : decode cX5_coach 38 = .ok (.invokestatic 88, 3) := dk_184 0 88 (dk_at dksX5_coach_1 14 rfl rfl)
theorem dX5_coach_41 : decode cX5_coach 41 = .ok (.ifCond .eq 12, 3) := dk_153 0 12 (dk_at dksX5_coach_1 17 rfl rfl)
theorem dX5_coach_44 : decode cX5_coach 44 = .ok (.aload_n 0, 1) := dk_42 (dk_at dksX5_coach_1 20 rfl rfl)
theorem dX5_coach_45 : decode cX5_coach 45 = .ok (.getfield 67, 3) := dk_180 0 67 (dk_at dksX5_coach_1 21 rfl rfl)
theorem dX5_coach_48 : decode cX5_coach 48 = .ok (.iload_n 2, 1) := dk_28 (dk_at dksX5_coach_2 0 rfl rfl)
theorem dX5_coach_49 : decode cX5_coach 49 = .ok (.iaload, 1) := dk_46 (dk_at dksX5_coach_2 1 rfl rfl)
theorem dX5_coach_50 : decode cX5_coach 50 = .ok (.goto 9, 3) := dk_167 0 9 (dk_at dksX5_coach_2 2 rfl rfl)
theorem dX5_coach_53 : decode cX5_coach 53 = .ok (.aload_n 0, 1) := dk_42 (dk_at dksX5_coach_2 5 rfl rfl)
theorem dX5_coach_54 : decode cX5_coach 54 = .ok (.bipush (-5), 2) := dk_16 251 (dk_at dksX5_coach_2 6 rfl rfl)
theorem dX5_coach_56 : decode cX5_coach 56 = .ok (.invokevirtual 102, 3) := dk_182 0 102 (dk_at dksX5_coach_2 8 rfl rfl)
theorem dX5_coach_59 : decode cX5_coach 59 = .ok (.ireturn, 1) := dk_172 (dk_at dksX5_coach_2 11 rfl rfl)
abbrev cX5_left : ByteArray := prog_18_method_67_code
def yX5_left : MethodName := ⟨RX5, "left", "(I)I"⟩
def dkwX5_left_1 : List UInt8 := [46, 182, 1, 46, 42, 180, 1, 43, 172]
abbrev dktX5_left_1 : List UInt8 := dkwX5_left_1 ++ []
def dkwX5_left_0 : List UInt8 := [42, 27, 182, 1, 34, 61, 28, 153, 0, 5, 28, 172, 42, 42, 180, 0, 28, 27, 46, 42, 180, 0, 31, 27]
abbrev dktX5_left_0 : List UInt8 := dkwX5_left_0 ++ dktX5_left_1
theorem dksX5_left_0 : cX5_left.data.toList.drop 0 = dktX5_left_0 := by decide +kernel
theorem dksX5_left_1 : cX5_left.data.toList.drop 24 = dktX5_left_1 := dk_seg dksX5_left_0 24 rfl rfl
theorem dX5_left_0 : decode cX5_left 0 = .ok (.aload_n 0, 1) := dk_42 (dk_at dksX5_left_0 0 rfl rfl)
theorem dX5_left_1 : decode cX5_left 1 = .ok (.iload_n 1, 1) := dk_27 (dk_at dksX5_left_0 1 rfl rfl)
theorem dX5_left_2 : decode cX5_left 2 = .ok (.invokevirtual 290, 3) := dk_182 1 34 (dk_at dksX5_left_0 2 rfl rfl)
theorem dX5_left_5 : decode cX5_left 5 = .ok (.istore_n 2, 1) := dk_61 (dk_at dksX5_left_0 5 rfl rfl)
theorem dX5_left_6 : decode cX5_left 6 = .ok (.iload_n 2, 1) := dk_28 (dk_at dksX5_left_0 6 rfl rfl)
theorem dX5_left_7 : decode cX5_left 7 = .ok (.ifCond .eq 5, 3) := dk_153 0 5 (dk_at dksX5_left_0 7 rfl rfl)
theorem dX5_left_10 : decode cX5_left 10 = .ok (.iload_n 2, 1) := dk_28 (dk_at dksX5_left_0 10 rfl rfl)
theorem dX5_left_11 : decode cX5_left 11 = .ok (.ireturn, 1) := dk_172 (dk_at dksX5_left_0 11 rfl rfl)
theorem dX5_left_12 : decode cX5_left 12 = .ok (.aload_n 0, 1) := dk_42 (dk_at dksX5_left_0 12 rfl rfl)
theorem dX5_left_13 : decode cX5_left 13 = .ok (.aload_n 0, 1) := dk_42 (dk_at dksX5_left_0 13 rfl rfl)
theorem dX5_left_14 : decode cX5_left 14 = .ok (.getfield 28, 3) := dk_180 0 28 (dk_at dksX5_left_0 14 rfl rfl)
theorem dX5_left_17 : decode cX5_left 17 = .ok (.iload_n 1, 1) := dk_27 (dk_at dksX5_left_0 17 rfl rfl)
theorem dX5_left_18 : decode cX5_left 18 = .ok (.iaload, 1) := dk_46 (dk_at dksX5_left_0 18 rfl rfl)
theorem dX5_left_19 : decode cX5_left 19 = .ok (.aload_n 0, 1) := dk_42 (dk_at dksX5_left_0 19 rfl rfl)
theorem dX5_left_20 : decode cX5_left 20 = .ok (.getfield 31, 3) := dk_180 0 31 (dk_at dksX5_left_0 20 rfl rfl)
theorem dX5_left_23 : decode cX5_left 23 = .ok (.iload_n 1, 1) := dk_27 (dk_at dksX5_left_0 23 rfl rfl)
theorem dX5_left_24 : decode cX5_left 24 = .ok (.iaload, 1) := dk_46 (dk_at dksX5_left_1 0 rfl rfl)
theorem dX5_left_25 : decode cX5_left 25 = .ok (.invokevirtual 302, 3) := dk_182 1 46 (dk_at dksX5_left_1 1 rfl rfl)
theorem dX5_left_28 : decode cX5_left 28 = .ok (.aload_n 0, 1) := dk_42 (dk_at dksX5_left_1 4 rfl rfl)
theorem dX5_left_29 : decode cX5_left 29 = .ok (.getfield 299, 3) := dk_180 1 43 (dk_at dksX5_left_1 5 rfl rfl)
theorem dX5_left_32 : decode cX5_left 32 = .ok (.ireturn, 1) := dk_172 (dk_at dksX5_left_1 8 rfl rfl)
abbrev cX5_waits : ByteArray := prog_18_method_68_code
def yX5_waits : MethodName := ⟨RX5, "waits", "(II)I"⟩
def dkwX5_waits_3 : List UInt8 := [167, 0, 9, 42, 180, 0, 70, 28, 46, 172]
abbrev dktX5_waits_3 : List UInt8 := dkwX5_waits_3 ++ []
def dkwX5_waits_2 : List UInt8 := [180, 0, 28, 27, 46, 42, 180, 0, 31, 27, 46, 182, 1, 46, 28, 2, 160, 0, 10, 42, 182, 1, 49]
abbrev dktX5_waits_2 : List UInt8 := dkwX5_waits_2 ++ dktX5_waits_3
def dkwX5_waits_1 : List UInt8 := [154, 0, 10, 42, 16, 254, 182, 0, 102, 172, 42, 27, 182, 1, 34, 62, 29, 153, 0, 5, 29, 172, 42, 42]
abbrev dktX5_waits_1 : List UInt8 := dkwX5_waits_1 ++ dktX5_waits_2
def dkwX5_waits_0 : List UInt8 := [27, 133, 9, 20, 0, 96, 184, 0, 88, 153, 0, 16, 28, 2, 159, 0, 18, 42, 28, 182, 0, 131]
abbrev dktX5_waits_0 : List UInt8 := dkwX5_waits_0 ++ dktX5_waits_1
theorem dksX5_waits_0 : cX5_waits.data.toList.drop 0 = dktX5_waits_0 := by decide +kernel
theorem dksX5_waits_1 : cX5_waits.data.toList.drop 22 = dktX5_waits_1 := dk_seg dksX5_waits_0 22 rfl rfl
theorem dksX5_waits_2 : cX5_waits.data.toList.drop 46 = dktX5_waits_2 := dk_seg dksX5_waits_1 24 rfl rfl
theorem dksX5_waits_3 : cX5_waits.data.toList.drop 69 = dktX5_waits_3 := dk_seg dksX5_waits_2 23 rfl rfl
theorem dX5_waits_0 : decode cX5_waits 0 = .ok (.iload_n 1, 1) := dk_27 (dk_at dksX5_waits_0 0 rfl rfl)
theorem dX5_waits_1 : decode cX5_waits 1 = .ok (.i2l, 1) := dk_133 (dk_at dksX5_waits_0 1 rfl rfl)
theorem dX5_waits_2 : decode cX5_waits 2 = .ok (.lconst 0, 1) := dk_9 (dk_at dksX5_waits_0 2 rfl rfl)
theorem dX5_waits_3 : decode cX5_waits 3 = .ok (.ldc2_w 96, 3) := dk_20 0 96 (dk_at dksX5_waits_0 3 rfl rfl)
theorem dX5_waits_6 : decode cX5_waits 6 = .ok (.invokestatic 88, 3) := dk_184 0 88 (dk_at dksX5_waits_0 6 rfl rfl)
theorem dX5_waits_9 : decode cX5_waits 9 = .ok (.ifCond .eq 16, 3) := dk_153 0 16 (dk_at dksX5_waits_0 9 rfl rfl)
theorem dX5_waits_12 : decode cX5_waits 12 = .ok (.iload_n 2, 1) := dk_28 (dk_at dksX5_waits_0 12 rfl rfl)
theorem dX5_waits_13 : decode cX5_waits 13 = .ok (.iconst (-1), 1) := dk_2 (dk_at dksX5_waits_0 13 rfl rfl)
theorem dX5_waits_14 : decode cX5_waits 14 = .ok (.if_icmp .eq 18, 3) := dk_159 0 18 (dk_at dksX5_waits_0 14 rfl rfl)
theorem dX5_waits_17 : decode cX5_waits 17 = .ok (.aload_n 0, 1) := dk_42 (dk_at dksX5_waits_0 17 rfl rfl)
theorem dX5_waits_18 : decode cX5_waits 18 = .ok (.iload_n 2, 1) := dk_28 (dk_at dksX5_waits_0 18 rfl rfl)
theorem dX5_waits_19 : decode cX5_waits 19 = .ok (.invokevirtual 131, 3) := dk_182 0 131 (dk_at dksX5_waits_0 19 rfl rfl)
theorem dX5_waits_22 : decode cX5_waits 22 = .ok (.ifCond .ne 10, 3) := dk_154 0 10 (dk_at dksX5_waits_1 0 rfl rfl)
theorem dX5_waits_25 : decode cX5_waits 25 = .ok (.aload_n 0, 1) := dk_42 (dk_at dksX5_waits_1 3 rfl rfl)
theorem dX5_waits_26 : decode cX5_waits 26 = .ok (.bipush (-2), 2) := dk_16 254 (dk_at dksX5_waits_1 4 rfl rfl)
theorem dX5_waits_28 : decode cX5_waits 28 = .ok (.invokevirtual 102, 3) := dk_182 0 102 (dk_at dksX5_waits_1 6 rfl rfl)
theorem dX5_waits_31 : decode cX5_waits 31 = .ok (.ireturn, 1) := dk_172 (dk_at dksX5_waits_1 9 rfl rfl)
theorem dX5_waits_32 : decode cX5_waits 32 = .ok (.aload_n 0, 1) := dk_42 (dk_at dksX5_waits_1 10 rfl rfl)
theorem dX5_waits_33 : decode cX5_waits 33 = .ok (.iload_n 1, 1) := dk_27 (dk_at dksX5_waits_1 11 rfl rfl)
theorem dX5_waits_34 : decode cX5_waits 34 = .ok (.invokevirtual 290, 3) := dk_182 1 34 (dk_at dksX5_waits_1 12 rfl rfl)
theorem dX5_waits_37 : decode cX5_waits 37 = .ok (.istore_n 3, 1) := dk_62 (dk_at dksX5_waits_1 15 rfl rfl)
theorem dX5_waits_38 : decode cX5_waits 38 = .ok (.iload_n 3, 1) := dk_29 (dk_at dksX5_waits_1 16 rfl rfl)
theorem dX5_waits_39 : decode cX5_waits 39 = .ok (.ifCond .eq 5, 3) := dk_153 0 5 (dk_at dksX5_waits_1 17 rfl rfl)
theorem dX5_waits_42 : decode cX5_waits 42 = .ok (.iload_n 3, 1) := dk_29 (dk_at dksX5_waits_1 20 rfl rfl)
theorem dX5_waits_43 : decode cX5_waits 43 = .ok (.ireturn, 1) := dk_172 (dk_at dksX5_waits_1 21 rfl rfl)
theorem dX5_waits_44 : decode cX5_waits 44 = .ok (.aload_n 0, 1) := dk_42 (dk_at dksX5_waits_1 22 rfl rfl)
theorem dX5_waits_45 : decode cX5_waits 45 = .ok (.aload_n 0, 1) := dk_42 (dk_at dksX5_waits_1 23 rfl rfl)
theorem dX5_waits_46 : decode cX5_waits 46 = .ok (.getfield 28, 3) := dk_180 0 28 (dk_at dksX5_waits_2 0 rfl rfl)
theorem dX5_waits_49 : decode cX5_waits 49 = .ok (.iload_n 1, 1) := dk_27 (dk_at dksX5_waits_2 3 rfl rfl)
theorem dX5_waits_50 : decode cX5_waits 50 = .ok (.iaload, 1) := dk_46 (dk_at dksX5_waits_2 4 rfl rfl)
theorem dX5_waits_51 : decode cX5_waits 51 = .ok (.aload_n 0, 1) := dk_42 (dk_at dksX5_waits_2 5 rfl rfl)
theorem dX5_waits_52 : decode cX5_waits 52 = .ok (.getfield 31, 3) := dk_180 0 31 (dk_at dksX5_waits_2 6 rfl rfl)
theorem dX5_waits_55 : decode cX5_waits 55 = .ok (.iload_n 1, 1) := dk_27 (dk_at dksX5_waits_2 9 rfl rfl)
theorem dX5_waits_56 : decode cX5_waits 56 = .ok (.iaload, 1) := dk_46 (dk_at dksX5_waits_2 10 rfl rfl)
theorem dX5_waits_57 : decode cX5_waits 57 = .ok (.invokevirtual 302, 3) := dk_182 1 46 (dk_at dksX5_waits_2 11 rfl rfl)
theorem dX5_waits_60 : decode cX5_waits 60 = .ok (.iload_n 2, 1) := dk_28 (dk_at dksX5_waits_2 14 rfl rfl)
theorem dX5_waits_61 : decode cX5_waits 61 = .ok (.iconst (-1), 1) := dk_2 (dk_at dksX5_waits_2 15 rfl rfl)
theorem dX5_waits_62 : decode cX5_waits 62 = .ok (.if_icmp .ne 10, 3) := dk_160 0 10 (dk_at dksX5_waits_2 16 rfl rfl)
theorem dX5_waits_65 : decode cX5_waits 65 = .ok (.aload_n 0, 1) := dk_42 (dk_at dksX5_waits_2 19 rfl rfl)
theorem dX5_waits_66 : decode cX5_waits 66 = .ok (.invokevirtual 305, 3) := dk_182 1 49 (dk_at dksX5_waits_2 20 rfl rfl)
theorem dX5_waits_69 : decode cX5_waits 69 = .ok (.goto 9, 3) := dk_167 0 9 (dk_at dksX5_waits_3 0 rfl rfl)
theorem dX5_waits_72 : decode cX5_waits 72 = .ok (.aload_n 0, 1) := dk_42 (dk_at dksX5_waits_3 3 rfl rfl)
theorem dX5_waits_73 : decode cX5_waits 73 = .ok (.getfield 70, 3) := dk_180 0 70 (dk_at dksX5_waits_3 4 rfl rfl)
theorem dX5_waits_76 : decode cX5_waits 76 = .ok (.iload_n 2, 1) := dk_28 (dk_at dksX5_waits_3 7 rfl rfl)
theorem dX5_waits_77 : decode cX5_waits 77 = .ok (.iaload, 1) := dk_46 (dk_at dksX5_waits_3 8 rfl rfl)
theorem dX5_waits_78 : decode cX5_waits 78 = .ok (.ireturn, 1) := dk_172 (dk_at dksX5_waits_3 9 rfl rfl)
abbrev cX5_waitedAll : ByteArray := prog_18_method_64_code
def yX5_waitedAll : MethodName := ⟨RX5, "waitedAll", "()I"⟩
def dkwX5_waitedAll_1 : List UInt8 := [167, 255, 236, 27, 172]
abbrev dktX5_waitedAll_1 : List UInt8 := dkwX5_waitedAll_1 ++ []
def dkwX5_waitedAll_0 : List UInt8 := [3, 60, 3, 61, 28, 42, 180, 0, 85, 162, 0, 18, 27, 42, 180, 0, 70, 28, 46, 96, 60, 132, 2, 1]
abbrev dktX5_waitedAll_0 : List UInt8 := dkwX5_waitedAll_0 ++ dktX5_waitedAll_1
theorem dksX5_waitedAll_0 : cX5_waitedAll.data.toList.drop 0 = dktX5_waitedAll_0 := by decide +kernel
theorem dksX5_waitedAll_1 : cX5_waitedAll.data.toList.drop 24 = dktX5_waitedAll_1 := dk_seg dksX5_waitedAll_0 24 rfl rfl
theorem dX5_waitedAll_0 : decode cX5_waitedAll 0 = .ok (.iconst 0, 1) := dk_3 (dk_at dksX5_waitedAll_0 0 rfl rfl)
theorem dX5_waitedAll_1 : decode cX5_waitedAll 1 = .ok (.istore_n 1, 1) := dk_60 (dk_at dksX5_waitedAll_0 1 rfl rfl)
theorem dX5_waitedAll_2 : decode cX5_waitedAll 2 = .ok (.iconst 0, 1) := dk_3 (dk_at dksX5_waitedAll_0 2 rfl rfl)
theorem dX5_waitedAll_3 : decode cX5_waitedAll 3 = .ok (.istore_n 2, 1) := dk_61 (dk_at dksX5_waitedAll_0 3 rfl rfl)
theorem dX5_waitedAll_4 : decode cX5_waitedAll 4 = .ok (.iload_n 2, 1) := dk_28 (dk_at dksX5_waitedAll_0 4 rfl rfl)
theorem dX5_waitedAll_5 : decode cX5_waitedAll 5 = .ok (.aload_n 0, 1) := dk_42 (dk_at dksX5_waitedAll_0 5 rfl rfl)
theorem dX5_waitedAll_6 : decode cX5_waitedAll 6 = .ok (.getfield 85, 3) := dk_180 0 85 (dk_at dksX5_waitedAll_0 6 rfl rfl)
theorem dX5_waitedAll_9 : decode cX5_waitedAll 9 = .ok (.if_icmp .ge 18, 3) := dk_162 0 18 (dk_at dksX5_waitedAll_0 9 rfl rfl)
theorem dX5_waitedAll_12 : decode cX5_waitedAll 12 = .ok (.iload_n 1, 1) := dk_27 (dk_at dksX5_waitedAll_0 12 rfl rfl)
theorem dX5_waitedAll_13 : decode cX5_waitedAll 13 = .ok (.aload_n 0, 1) := dk_42 (dk_at dksX5_waitedAll_0 13 rfl rfl)
theorem dX5_waitedAll_14 : decode cX5_waitedAll 14 = .ok (.getfield 70, 3) := dk_180 0 70 (dk_at dksX5_waitedAll_0 14 rfl rfl)
theorem dX5_waitedAll_17 : decode cX5_waitedAll 17 = .ok (.iload_n 2, 1) := dk_28 (dk_at dksX5_waitedAll_0 17 rfl rfl)
theorem dX5_waitedAll_18 : decode cX5_waitedAll 18 = .ok (.iaload, 1) := dk_46 (dk_at dksX5_waitedAll_0 18 rfl rfl)
theorem dX5_waitedAll_19 : decode cX5_waitedAll 19 = .ok (.iadd, 1) := dk_96 (dk_at dksX5_waitedAll_0 19 rfl rfl)
theorem dX5_waitedAll_20 : decode cX5_waitedAll 20 = .ok (.istore_n 1, 1) := dk_60 (dk_at dksX5_waitedAll_0 20 rfl rfl)
theorem dX5_waitedAll_21 : decode cX5_waitedAll 21 = .ok (.iinc 2 1, 3) := dk_132 2 1 (dk_at dksX5_waitedAll_0 21 rfl rfl)
theorem dX5_waitedAll_24 : decode cX5_waitedAll 24 = .ok (.goto (-20), 3) := dk_167 255 236 (dk_at dksX5_waitedAll_1 0 rfl rfl)
theorem dX5_waitedAll_27 : decode cX5_waitedAll 27 = .ok (.iload_n 1, 1) := dk_27 (dk_at dksX5_waitedAll_1 3 rfl rfl)
theorem dX5_waitedAll_28 : decode cX5_waitedAll 28 = .ok (.ireturn, 1) := dk_172 (dk_at dksX5_waitedAll_1 4 rfl rfl)
abbrev cX5_least : ByteArray := prog_18_method_70_code
def yX5_least : MethodName := ⟨RX5, "least", "(I)I"⟩
def dkwX5_least_3 : List UInt8 := [16, 10, 112, 100, 172]
abbrev dktX5_least_3 : List UInt8 := dkwX5_least_3 ++ []
def dkwX5_least_2 : List UInt8 := [167, 255, 237, 42, 3, 3, 182, 1, 52, 61, 27, 154, 0, 10, 28, 16, 10, 108, 167, 0, 10, 16, 9, 28]
abbrev dktX5_least_2 : List UInt8 := dkwX5_least_2 ++ dktX5_least_3
def dkwX5_least_1 : List UInt8 := [182, 1, 13, 3, 61, 28, 42, 180, 0, 73, 190, 162, 0, 16, 42, 180, 0, 73, 28, 2, 79, 132, 2, 1]
abbrev dktX5_least_1 : List UInt8 := dkwX5_least_1 ++ dktX5_least_2
def dkwX5_least_0 : List UInt8 := [27, 133, 9, 10, 184, 0, 88, 154, 0, 10, 42, 16, 254, 182, 0, 102, 172, 42, 182, 1, 37, 42]
abbrev dktX5_least_0 : List UInt8 := dkwX5_least_0 ++ dktX5_least_1
theorem dksX5_least_0 : cX5_least.data.toList.drop 0 = dktX5_least_0 := by decide +kernel
theorem dksX5_least_1 : cX5_least.data.toList.drop 22 = dktX5_least_1 := dk_seg dksX5_least_0 22 rfl rfl
theorem dksX5_least_2 : cX5_least.data.toList.drop 46 = dktX5_least_2 := dk_seg dksX5_least_1 24 rfl rfl
theorem dksX5_least_3 : cX5_least.data.toList.drop 70 = dktX5_least_3 := dk_seg dksX5_least_2 24 rfl rfl
theorem dX5_least_0 : decode cX5_least 0 = .ok (.iload_n 1, 1) := dk_27 (dk_at dksX5_least_0 0 rfl rfl)
theorem dX5_least_1 : decode cX5_least 1 = .ok (.i2l, 1) := dk_133 (dk_at dksX5_least_0 1 rfl rfl)
theorem dX5_least_2 : decode cX5_least 2 = .ok (.lconst 0, 1) := dk_9 (dk_at dksX5_least_0 2 rfl rfl)
theorem dX5_least_3 : decode cX5_least 3 = .ok (.lconst 1, 1) := dk_10 (dk_at dksX5_least_0 3 rfl rfl)
theorem dX5_least_4 : decode cX5_least 4 = .ok (.invokestatic 88, 3) := dk_184 0 88 (dk_at dksX5_least_0 4 rfl rfl)
theorem dX5_least_7 : decode cX5_least 7 = .ok (.ifCond .ne 10, 3) := dk_154 0 10 (dk_at dksX5_least_0 7 rfl rfl)
theorem dX5_least_10 : decode cX5_least 10 = .ok (.aload_n 0, 1) := dk_42 (dk_at dksX5_least_0 10 rfl rfl)
theorem dX5_least_11 : decode cX5_least 11 = .ok (.bipush (-2), 2) := dk_16 254 (dk_at dksX5_least_0 11 rfl rfl)
theorem dX5_least_13 : decode cX5_least 13 = .ok (.invokevirtual 102, 3) := dk_182 0 102 (dk_at dksX5_least_0 13 rfl rfl)
theorem dX5_least_16 : decode cX5_least 16 = .ok (.ireturn, 1) := dk_172 (dk_at dksX5_least_0 16 rfl rfl)
theorem dX5_least_17 : decode cX5_least 17 = .ok (.aload_n 0, 1) := dk_42 (dk_at dksX5_least_0 17 rfl rfl)
theorem dX5_least_18 : decode cX5_least 18 = .ok (.invokevirtual 293, 3) := dk_182 1 37 (dk_at dksX5_least_0 18 rfl rfl)
theorem dX5_least_21 : decode cX5_least 21 = .ok (.aload_n 0, 1) := dk_42 (dk_at dksX5_least_0 21 rfl rfl)
theorem dX5_least_22 : decode cX5_least 22 = .ok (.invokevirtual 269, 3) := dk_182 1 13 (dk_at dksX5_least_1 0 rfl rfl)
theorem dX5_least_25 : decode cX5_least 25 = .ok (.iconst 0, 1) := dk_3 (dk_at dksX5_least_1 3 rfl rfl)
theorem dX5_least_26 : decode cX5_least 26 = .ok (.istore_n 2, 1) := dk_61 (dk_at dksX5_least_1 4 rfl rfl)
theorem dX5_least_27 : decode cX5_least 27 = .ok (.iload_n 2, 1) := dk_28 (dk_at dksX5_least_1 5 rfl rfl)
theorem dX5_least_28 : decode cX5_least 28 = .ok (.aload_n 0, 1) := dk_42 (dk_at dksX5_least_1 6 rfl rfl)
theorem dX5_least_29 : decode cX5_least 29 = .ok (.getfield 73, 3) := dk_180 0 73 (dk_at dksX5_least_1 7 rfl rfl)
theorem dX5_least_32 : decode cX5_least 32 = .ok (.arraylength, 1) := dk_190 (dk_at dksX5_least_1 10 rfl rfl)
theorem dX5_least_33 : decode cX5_least 33 = .ok (.if_icmp .ge 16, 3) := dk_162 0 16 (dk_at dksX5_least_1 11 rfl rfl)
theorem dX5_least_36 : decode cX5_least 36 = .ok (.aload_n 0, 1) := dk_42 (dk_at dksX5_least_1 14 rfl rfl)
theorem dX5_least_37 : decode cX5_least 37 = .ok (.getfield 73, 3) := dk_180 0 73 (dk_at dksX5_least_1 15 rfl rfl)
theorem dX5_least_40 : decode cX5_least 40 = .ok (.iload_n 2, 1) := dk_28 (dk_at dksX5_least_1 18 rfl rfl)
theorem dX5_least_41 : decode cX5_least 41 = .ok (.iconst (-1), 1) := dk_2 (dk_at dksX5_least_1 19 rfl rfl)
theorem dX5_least_42 : decode cX5_least 42 = .ok (.iastore, 1) := dk_79 (dk_at dksX5_least_1 20 rfl rfl)
theorem dX5_least_43 : decode cX5_least 43 = .ok (.iinc 2 1, 3) := dk_132 2 1 (dk_at dksX5_least_1 21 rfl rfl)
theorem dX5_least_46 : decode cX5_least 46 = .ok (.goto (-19), 3) := dk_167 255 237 (dk_at dksX5_least_2 0 rfl rfl)
theorem dX5_least_49 : decode cX5_least 49 = .ok (.aload_n 0, 1) := dk_42 (dk_at dksX5_least_2 3 rfl rfl)
theorem dX5_least_50 : decode cX5_least 50 = .ok (.iconst 0, 1) := dk_3 (dk_at dksX5_least_2 4 rfl rfl)
theorem dX5_least_51 : decode cX5_least 51 = .ok (.iconst 0, 1) := dk_3 (dk_at dksX5_least_2 5 rfl rfl)
theorem dX5_least_52 : decode cX5_least 52 = .ok (.invokevirtual 308, 3) := dk_182 1 52 (dk_at dksX5_least_2 6 rfl rfl)
theorem dX5_least_55 : decode cX5_least 55 = .ok (.istore_n 2, 1) := dk_61 (dk_at dksX5_least_2 9 rfl rfl)
theorem dX5_least_56 : decode cX5_least 56 = .ok (.iload_n 1, 1) := dk_27 (dk_at dksX5_least_2 10 rfl rfl)
theorem dX5_least_57 : decode cX5_least 57 = .ok (.ifCond .ne 10, 3) := dk_154 0 10 (dk_at dksX5_least_2 11 rfl rfl)
theorem dX5_least_60 : decode cX5_least 60 = .ok (.iload_n 2, 1) := dk_28 (dk_at dksX5_least_2 14 rfl rfl)
theorem dX5_least_61 : decode cX5_least 61 = .ok (.bipush 10, 2) := dk_16 10 (dk_at dksX5_least_2 15 rfl rfl)
theorem dX5_least_63 : decode cX5_least 63 = .ok (.idiv, 1) := dk_108 (dk_at dksX5_least_2 17 rfl rfl)
theorem dX5_least_64 : decode cX5_least 64 = .ok (.goto 10, 3) := dk_167 0 10 (dk_at dksX5_least_2 18 rfl rfl)
theorem dX5_least_67 : decode cX5_least 67 = .ok (.bipush 9, 2) := dk_16 9 (dk_at dksX5_least_2 21 rfl rfl)
theorem dX5_least_69 : decode cX5_least 69 = .ok (.iload_n 2, 1) := dk_28 (dk_at dksX5_least_2 23 rfl rfl)
theorem dX5_least_70 : decode cX5_least 70 = .ok (.bipush 10, 2) := dk_16 10 (dk_at dksX5_least_3 0 rfl rfl)
theorem dX5_least_72 : decode cX5_least 72 = .ok (.irem, 1) := dk_112 (dk_at dksX5_least_3 2 rfl rfl)
theorem dX5_least_73 : decode cX5_least 73 = .ok (.isub, 1) := dk_100 (dk_at dksX5_least_3 3 rfl rfl)
theorem dX5_least_74 : decode cX5_least 74 = .ok (.ireturn, 1) := dk_172 (dk_at dksX5_least_3 4 rfl rfl)
abbrev cX5_leastFrom : ByteArray := prog_18_method_69_code
def yX5_leastFrom : MethodName := ⟨RX5, "leastFrom", "(II)I"⟩
def dkwX5_leastFrom_12 : List UInt8 := [21, 4, 79, 21, 4, 172]
abbrev dktX5_leastFrom_12 : List UInt8 := dkwX5_leastFrom_12 ++ []
def dkwX5_leastFrom_11 : List UInt8 := [162, 0, 8, 21, 8, 167, 0, 5, 21, 4, 54, 4, 132, 6, 1, 167, 255, 127, 42, 180, 0, 73, 29]
abbrev dktX5_leastFrom_11 : List UInt8 := dkwX5_leastFrom_11 ++ dktX5_leastFrom_12
def dkwX5_leastFrom_10 : List UInt8 := [27, 28, 42, 180, 0, 61, 21, 6, 46, 2, 130, 126, 182, 1, 52, 96, 54, 8, 21, 8, 21, 4]
abbrev dktX5_leastFrom_10 : List UInt8 := dkwX5_leastFrom_10 ++ dktX5_leastFrom_11
def dkwX5_leastFrom_9 : List UInt8 := [180, 0, 40, 21, 8, 46, 100, 104, 167, 0, 4, 3, 96, 54, 7, 132, 8, 1, 167, 255, 199, 21, 7, 42]
abbrev dktX5_leastFrom_9 : List UInt8 := dkwX5_leastFrom_9 ++ dktX5_leastFrom_10
def dkwX5_leastFrom_8 : List UInt8 := [21, 6, 46, 21, 8, 184, 0, 151, 153, 0, 27, 16, 10, 42, 180, 0, 43, 21, 8, 46, 104, 21, 5, 42]
abbrev dktX5_leastFrom_8 : List UInt8 := dkwX5_leastFrom_8 ++ dktX5_leastFrom_9
def dkwX5_leastFrom_7 : List UInt8 := [154, 0, 106, 2, 54, 7, 3, 54, 8, 21, 8, 42, 180, 0, 85, 162, 0, 54, 21, 7, 42, 180, 0, 61]
abbrev dktX5_leastFrom_7 : List UInt8 := dkwX5_leastFrom_7 ++ dktX5_leastFrom_8
def dkwX5_leastFrom_6 : List UInt8 := [54, 6, 21, 6, 42, 180, 1, 1, 162, 0, 126, 42, 180, 0, 61, 21, 6, 46, 28, 2, 130, 126]
abbrev dktX5_leastFrom_6 : List UInt8 := dkwX5_leastFrom_6 ++ dktX5_leastFrom_7
def dkwX5_leastFrom_5 : List UInt8 := [154, 0, 7, 3, 167, 0, 16, 42, 180, 0, 40, 42, 180, 0, 64, 27, 4, 100, 46, 46, 54, 5, 3]
abbrev dktX5_leastFrom_5 : List UInt8 := dkwX5_leastFrom_5 ++ dktX5_leastFrom_6
def dkwX5_leastFrom_4 : List UInt8 := [167, 0, 22, 42, 27, 4, 96, 28, 4, 42, 180, 0, 64, 27, 46, 120, 128, 182, 1, 52, 54, 4, 27]
abbrev dktX5_leastFrom_4 : List UInt8 := dkwX5_leastFrom_4 ++ dktX5_leastFrom_5
def dkwX5_leastFrom_3 : List UInt8 := [180, 0, 40, 21, 5, 46, 100, 104, 167, 0, 4, 3, 96, 54, 4, 132, 5, 1, 167, 255, 205, 132, 4, 9]
abbrev dktX5_leastFrom_3 : List UInt8 := dkwX5_leastFrom_3 ++ dktX5_leastFrom_4
def dkwX5_leastFrom_2 : List UInt8 := [28, 21, 5, 184, 0, 151, 153, 0, 27, 16, 10, 42, 180, 0, 43, 21, 5, 46, 104, 16, 24, 42]
abbrev dktX5_leastFrom_2 : List UInt8 := dkwX5_leastFrom_2 ++ dktX5_leastFrom_3
def dkwX5_leastFrom_1 : List UInt8 := [42, 180, 0, 85, 160, 0, 69, 3, 54, 4, 3, 54, 5, 21, 5, 42, 180, 0, 85, 162, 0, 48, 21, 4]
abbrev dktX5_leastFrom_1 : List UInt8 := dkwX5_leastFrom_1 ++ dktX5_leastFrom_2
def dkwX5_leastFrom_0 : List UInt8 := [27, 16, 7, 120, 28, 128, 62, 42, 180, 0, 73, 29, 46, 155, 0, 10, 42, 180, 0, 73, 29, 46, 172, 27]
abbrev dktX5_leastFrom_0 : List UInt8 := dkwX5_leastFrom_0 ++ dktX5_leastFrom_1
theorem dksX5_leastFrom_0 : cX5_leastFrom.data.toList.drop 0 = dktX5_leastFrom_0 := by decide +kernel
theorem dksX5_leastFrom_1 : cX5_leastFrom.data.toList.drop 24 = dktX5_leastFrom_1 := dk_seg dksX5_leastFrom_0 24 rfl rfl
theorem dksX5_leastFrom_2 : cX5_leastFrom.data.toList.drop 48 = dktX5_leastFrom_2 := dk_seg dksX5_leastFrom_1 24 rfl rfl
theorem dksX5_leastFrom_3 : cX5_leastFrom.data.toList.drop 70 = dktX5_leastFrom_3 := dk_seg dksX5_leastFrom_2 22 rfl rfl
theorem dksX5_leastFrom_4 : cX5_leastFrom.data.toList.drop 94 = dktX5_leastFrom_4 := dk_seg dksX5_leastFrom_3 24 rfl rfl
theorem dksX5_leastFrom_5 : cX5_leastFrom.data.toList.drop 117 = dktX5_leastFrom_5 := dk_seg dksX5_leastFrom_4 23 rfl rfl
theorem dksX5_leastFrom_6 : cX5_leastFrom.data.toList.drop 140 = dktX5_leastFrom_6 := dk_seg dksX5_leastFrom_5 23 rfl rfl
theorem dksX5_leastFrom_7 : cX5_leastFrom.data.toList.drop 162 = dktX5_leastFrom_7 := dk_seg dksX5_leastFrom_6 22 rfl rfl
theorem dksX5_leastFrom_8 : cX5_leastFrom.data.toList.drop 186 = dktX5_leastFrom_8 := dk_seg dksX5_leastFrom_7 24 rfl rfl
theorem dksX5_leastFrom_9 : cX5_leastFrom.data.toList.drop 210 = dktX5_leastFrom_9 := dk_seg dksX5_leastFrom_8 24 rfl rfl
theorem dksX5_leastFrom_10 : cX5_leastFrom.data.toList.drop 234 = dktX5_leastFrom_10 := dk_seg dksX5_leastFrom_9 24 rfl rfl
theorem dksX5_leastFrom_11 : cX5_leastFrom.data.toList.drop 256 = dktX5_leastFrom_11 := dk_seg dksX5_leastFrom_10 22 rfl rfl
theorem dksX5_leastFrom_12 : cX5_leastFrom.data.toList.drop 279 = dktX5_leastFrom_12 := dk_seg dksX5_leastFrom_11 23 rfl rfl
theorem dX5_leastFrom_0 : decode cX5_leastFrom 0 = .ok (.iload_n 1, 1) := dk_27 (dk_at dksX5_leastFrom_0 0 rfl rfl)
theorem dX5_leastFrom_1 : decode cX5_leastFrom 1 = .ok (.bipush 7, 2) := dk_16 7 (dk_at dksX5_leastFrom_0 1 rfl rfl)
theorem dX5_leastFrom_3 : decode cX5_leastFrom 3 = .ok (.ishl, 1) := dk_120 (dk_at dksX5_leastFrom_0 3 rfl rfl)
theorem dX5_leastFrom_4 : decode cX5_leastFrom 4 = .ok (.iload_n 2, 1) := dk_28 (dk_at dksX5_leastFrom_0 4 rfl rfl)
theorem dX5_leastFrom_5 : decode cX5_leastFrom 5 = .ok (.ior, 1) := dk_128 (dk_at dksX5_leastFrom_0 5 rfl rfl)
theorem dX5_leastFrom_6 : decode cX5_leastFrom 6 = .ok (.istore_n 3, 1) := dk_62 (dk_at dksX5_leastFrom_0 6 rfl rfl)
theorem dX5_leastFrom_7 : decode cX5_leastFrom 7 = .ok (.aload_n 0, 1) := dk_42 (dk_at dksX5_leastFrom_0 7 rfl rfl)
theorem dX5_leastFrom_8 : decode cX5_leastFrom 8 = .ok (.getfield 73, 3) := dk_180 0 73 (dk_at dksX5_leastFrom_0 8 rfl rfl)
theorem dX5_leastFrom_11 : decode cX5_leastFrom 11 = .ok (.iload_n 3, 1) := dk_29 (dk_at dksX5_leastFrom_0 11 rfl rfl)
theorem dX5_leastFrom_12 : decode cX5_leastFrom 12 = .ok (.iaload, 1) := dk_46 (dk_at dksX5_leastFrom_0 12 rfl rfl)
theorem dX5_leastFrom_13 : decode cX5_leastFrom 13 = .ok (.ifCond .lt 10, 3) := dk_155 0 10 (dk_at dksX5_leastFrom_0 13 rfl rfl)
theorem dX5_leastFrom_16 : decode cX5_leastFrom 16 = .ok (.aload_n 0, 1) := dk_42 (dk_at dksX5_leastFrom_0 16 rfl rfl)
theorem dX5_leastFrom_17 : decode cX5_leastFrom 17 = .ok (.getfield 73, 3) := dk_180 0 73 (dk_at dksX5_leastFrom_0 17 rfl rfl)
theorem dX5_leastFrom_20 : decode cX5_leastFrom 20 = .ok (.iload_n 3, 1) := dk_29 (dk_at dksX5_leastFrom_0 20 rfl rfl)
theorem dX5_leastFrom_21 : decode cX5_leastFrom 21 = .ok (.iaload, 1) := dk_46 (dk_at dksX5_leastFrom_0 21 rfl rfl)
theorem dX5_leastFrom_22 : decode cX5_leastFrom 22 = .ok (.ireturn, 1) := dk_172 (dk_at dksX5_leastFrom_0 22 rfl rfl)
theorem dX5_leastFrom_23 : decode cX5_leastFrom 23 = .ok (.iload_n 1, 1) := dk_27 (dk_at dksX5_leastFrom_0 23 rfl rfl)
theorem dX5_leastFrom_24 : decode cX5_leastFrom 24 = .ok (.aload_n 0, 1) := dk_42 (dk_at dksX5_leastFrom_1 0 rfl rfl)
theorem dX5_leastFrom_25 : decode cX5_leastFrom 25 = .ok (.getfield 85, 3) := dk_180 0 85 (dk_at dksX5_leastFrom_1 1 rfl rfl)
theorem dX5_leastFrom_28 : decode cX5_leastFrom 28 = .ok (.if_icmp .ne 69, 3) := dk_160 0 69 (dk_at dksX5_leastFrom_1 4 rfl rfl)
theorem dX5_leastFrom_31 : decode cX5_leastFrom 31 = .ok (.iconst 0, 1) := dk_3 (dk_at dksX5_leastFrom_1 7 rfl rfl)
theorem dX5_leastFrom_32 : decode cX5_leastFrom 32 = .ok (.istore 4, 2) := dk_54 4 (dk_at dksX5_leastFrom_1 8 rfl rfl)
theorem dX5_leastFrom_34 : decode cX5_leastFrom 34 = .ok (.iconst 0, 1) := dk_3 (dk_at dksX5_leastFrom_1 10 rfl rfl)
theorem dX5_leastFrom_35 : decode cX5_leastFrom 35 = .ok (.istore 5, 2) := dk_54 5 (dk_at dksX5_leastFrom_1 11 rfl rfl)
theorem dX5_leastFrom_37 : decode cX5_leastFrom 37 = .ok (.iload 5, 2) := dk_21 5 (dk_at dksX5_leastFrom_1 13 rfl rfl)
theorem dX5_leastFrom_39 : decode cX5_leastFrom 39 = .ok (.aload_n 0, 1) := dk_42 (dk_at dksX5_leastFrom_1 15 rfl rfl)
theorem dX5_leastFrom_40 : decode cX5_leastFrom 40 = .ok (.getfield 85, 3) := dk_180 0 85 (dk_at dksX5_leastFrom_1 16 rfl rfl)
theorem dX5_leastFrom_43 : decode cX5_leastFrom 43 = .ok (.if_icmp .ge 48, 3) := dk_162 0 48 (dk_at dksX5_leastFrom_1 19 rfl rfl)
theorem dX5_leastFrom_46 : decode cX5_leastFrom 46 = .ok (.iload 4, 2) := dk_21 4 (dk_at dksX5_leastFrom_1 22 rfl rfl)
theorem dX5_leastFrom_48 : decode cX5_leastFrom 48 = .ok (.iload_n 2, 1) := dk_28 (dk_at dksX5_leastFrom_2 0 rfl rfl)
theorem dX5_leastFrom_49 : decode cX5_leastFrom 49 = .ok (.iload 5, 2) := dk_21 5 (dk_at dksX5_leastFrom_2 1 rfl rfl)
theorem dX5_leastFrom_51 : decode cX5_leastFrom 51 = .ok (.invokestatic 151, 3) := dk_184 0 151 (dk_at dksX5_leastFrom_2 3 rfl rfl)
theorem dX5_leastFrom_54 : decode cX5_leastFrom 54 = .ok (.ifCond .eq 27, 3) := dk_153 0 27 (dk_at dksX5_leastFrom_2 6 rfl rfl)
theorem dX5_leastFrom_57 : decode cX5_leastFrom 57 = .ok (.bipush 10, 2) := dk_16 10 (dk_at dksX5_leastFrom_2 9 rfl rfl)
theorem dX5_leastFrom_59 : decode cX5_leastFrom 59 = .ok (.aload_n 0, 1) := dk_42 (dk_at dksX5_leastFrom_2 11 rfl rfl)
theorem dX5_leastFrom_60 : decode cX5_leastFrom 60 = .ok (.getfield 43, 3) := dk_180 0 43 (dk_at dksX5_leastFrom_2 12 rfl rfl)
theorem dX5_leastFrom_63 : decode cX5_leastFrom 63 = .ok (.iload 5, 2) := dk_21 5 (dk_at dksX5_leastFrom_2 15 rfl rfl)
theorem dX5_leastFrom_65 : decode cX5_leastFrom 65 = .ok (.iaload, 1) := dk_46 (dk_at dksX5_leastFrom_2 17 rfl rfl)
theorem dX5_leastFrom_66 : decode cX5_leastFrom 66 = .ok (.imul, 1) := dk_104 (dk_at dksX5_leastFrom_2 18 rfl rfl)
theorem dX5_leastFrom_67 : decode cX5_leastFrom 67 = .ok (.bipush 24, 2) := dk_16 24 (dk_at dksX5_leastFrom_2 19 rfl rfl)
theorem dX5_leastFrom_69 : decode cX5_leastFrom 69 = .ok (.aload_n 0, 1) := dk_42 (dk_at dksX5_leastFrom_2 21 rfl rfl)
theorem dX5_leastFrom_70 : decode cX5_leastFrom 70 = .ok (.getfield 40, 3) := dk_180 0 40 (dk_at dksX5_leastFrom_3 0 rfl rfl)
theorem dX5_leastFrom_73 : decode cX5_leastFrom 73 = .ok (.iload 5, 2) := dk_21 5 (dk_at dksX5_leastFrom_3 3 rfl rfl)
theorem dX5_leastFrom_75 : decode cX5_leastFrom 75 = .ok (.iaload, 1) := dk_46 (dk_at dksX5_leastFrom_3 5 rfl rfl)
theorem dX5_leastFrom_76 : decode cX5_leastFrom 76 = .ok (.isub, 1) := dk_100 (dk_at dksX5_leastFrom_3 6 rfl rfl)
theorem dX5_leastFrom_77 : decode cX5_leastFrom 77 = .ok (.imul, 1) := dk_104 (dk_at dksX5_leastFrom_3 7 rfl rfl)
theorem dX5_leastFrom_78 : decode cX5_leastFrom 78 = .ok (.goto 4, 3) := dk_167 0 4 (dk_at dksX5_leastFrom_3 8 rfl rfl)
theorem dX5_leastFrom_81 : decode cX5_leastFrom 81 = .ok (.iconst 0, 1) := dk_3 (dk_at dksX5_leastFrom_3 11 rfl rfl)
theorem dX5_leastFrom_82 : decode cX5_leastFrom 82 = .ok (.iadd, 1) := dk_96 (dk_at dksX5_leastFrom_3 12 rfl rfl)
theorem dX5_leastFrom_83 : decode cX5_leastFrom 83 = .ok (.istore 4, 2) := dk_54 4 (dk_at dksX5_leastFrom_3 13 rfl rfl)
theorem dX5_leastFrom_85 : decode cX5_leastFrom 85 = .ok (.iinc 5 1, 3) := dk_132 5 1 (dk_at dksX5_leastFrom_3 15 rfl rfl)
theorem dX5_leastFrom_88 : decode cX5_leastFrom 88 = .ok (.goto (-51), 3) := dk_167 255 205 (dk_at dksX5_leastFrom_3 18 rfl rfl)
theorem dX5_leastFrom_91 : decode cX5_leastFrom 91 = .ok (.iinc 4 9, 3) := dk_132 4 9 (dk_at dksX5_leastFrom_3 21 rfl rfl)
theorem dX5_leastFrom_94 : decode cX5_leastFrom 94 = .ok (.goto 22, 3) := dk_167 0 22 (dk_at dksX5_leastFrom_4 0 rfl rfl)
theorem dX5_leastFrom_97 : decode cX5_leastFrom 97 = .ok (.aload_n 0, 1) := dk_42 (dk_at dksX5_leastFrom_4 3 rfl rfl)
theorem dX5_leastFrom_98 : decode cX5_leastFrom 98 = .ok (.iload_n 1, 1) := dk_27 (dk_at dksX5_leastFrom_4 4 rfl rfl)
theorem dX5_leastFrom_99 : decode cX5_leastFrom 99 = .ok (.iconst 1, 1) := dk_4 (dk_at dksX5_leastFrom_4 5 rfl rfl)
theorem dX5_leastFrom_100 : decode cX5_leastFrom 100 = .ok (.iadd, 1) := dk_96 (dk_at dksX5_leastFrom_4 6 rfl rfl)
theorem dX5_leastFrom_101 : decode cX5_leastFrom 101 = .ok (.iload_n 2, 1) := dk_28 (dk_at dksX5_leastFrom_4 7 rfl rfl)
theorem dX5_leastFrom_102 : decode cX5_leastFrom 102 = .ok (.iconst 1, 1) := dk_4 (dk_at dksX5_leastFrom_4 8 rfl rfl)
theorem dX5_leastFrom_103 : decode cX5_leastFrom 103 = .ok (.aload_n 0, 1) := dk_42 (dk_at dksX5_leastFrom_4 9 rfl rfl)
theorem dX5_leastFrom_104 : decode cX5_leastFrom 104 = .ok (.getfield 64, 3) := dk_180 0 64 (dk_at dksX5_leastFrom_4 10 rfl rfl)
theorem dX5_leastFrom_107 : decode cX5_leastFrom 107 = .ok (.iload_n 1, 1) := dk_27 (dk_at dksX5_leastFrom_4 13 rfl rfl)
theorem dX5_leastFrom_108 : decode cX5_leastFrom 108 = .ok (.iaload, 1) := dk_46 (dk_at dksX5_leastFrom_4 14 rfl rfl)
theorem dX5_leastFrom_109 : decode cX5_leastFrom 109 = .ok (.ishl, 1) := dk_120 (dk_at dksX5_leastFrom_4 15 rfl rfl)
theorem dX5_leastFrom_110 : decode cX5_leastFrom 110 = .ok (.ior, 1) := dk_128 (dk_at dksX5_leastFrom_4 16 rfl rfl)
theorem dX5_leastFrom_111 : decode cX5_leastFrom 111 = .ok (.invokevirtual 308, 3) := dk_182 1 52 (dk_at dksX5_leastFrom_4 17 rfl rfl)
theorem dX5_leastFrom_114 : decode cX5_leastFrom 114 = .ok (.istore 4, 2) := dk_54 4 (dk_at dksX5_leastFrom_4 20 rfl rfl)
theorem dX5_leastFrom_116 : decode cX5_leastFrom 116 = .ok (.iload_n 1, 1) := dk_27 (dk_at dksX5_leastFrom_4 22 rfl rfl)
theorem dX5_leastFrom_117 : decode cX5_leastFrom 117 = .ok (.ifCond .ne 7, 3) := dk_154 0 7 (dk_at dksX5_leastFrom_5 0 rfl rfl)
theorem dX5_leastFrom_120 : decode cX5_leastFrom 120 = .ok (.iconst 0, 1) := dk_3 (dk_at dksX5_leastFrom_5 3 rfl rfl)
theorem dX5_leastFrom_121 : decode cX5_leastFrom 121 = .ok (.goto 16, 3) := dk_167 0 16 (dk_at dksX5_leastFrom_5 4 rfl rfl)
theorem dX5_leastFrom_124 : decode cX5_leastFrom 124 = .ok (.aload_n 0, 1) := dk_42 (dk_at dksX5_leastFrom_5 7 rfl rfl)
theorem dX5_leastFrom_125 : decode cX5_leastFrom 125 = .ok (.getfield 40, 3) := dk_180 0 40 (dk_at dksX5_leastFrom_5 8 rfl rfl)
theorem dX5_leastFrom_128 : decode cX5_leastFrom 128 = .ok (.aload_n 0, 1) := dk_42 (dk_at dksX5_leastFrom_5 11 rfl rfl)
theorem dX5_leastFrom_129 : decode cX5_leastFrom 129 = .ok (.getfield 64, 3) := dk_180 0 64 (dk_at dksX5_leastFrom_5 12 rfl rfl)
theorem dX5_leastFrom_132 : decode cX5_leastFrom 132 = .ok (.iload_n 1, 1) := dk_27 (dk_at dksX5_leastFrom_5 15 rfl rfl)
theorem dX5_leastFrom_133 : decode cX5_leastFrom 133 = .ok (.iconst 1, 1) := dk_4 (dk_at dksX5_leastFrom_5 16 rfl rfl)
theorem dX5_leastFrom_134 : decode cX5_leastFrom 134 = .ok (.isub, 1) := dk_100 (dk_at dksX5_leastFrom_5 17 rfl rfl)
theorem dX5_leastFrom_135 : decode cX5_leastFrom 135 = .ok (.iaload, 1) := dk_46 (dk_at dksX5_leastFrom_5 18 rfl rfl)
theorem dX5_leastFrom_136 : decode cX5_leastFrom 136 = .ok (.iaload, 1) := dk_46 (dk_at dksX5_leastFrom_5 19 rfl rfl)
theorem dX5_leastFrom_137 : decode cX5_leastFrom 137 = .ok (.istore 5, 2) := dk_54 5 (dk_at dksX5_leastFrom_5 20 rfl rfl)
theorem dX5_leastFrom_139 : decode cX5_leastFrom 139 = .ok (.iconst 0, 1) := dk_3 (dk_at dksX5_leastFrom_5 22 rfl rfl)
theorem dX5_leastFrom_140 : decode cX5_leastFrom 140 = .ok (.istore 6, 2) := dk_54 6 (dk_at dksX5_leastFrom_6 0 rfl rfl)
theorem dX5_leastFrom_142 : decode cX5_leastFrom 142 = .ok (.iload 6, 2) := dk_21 6 (dk_at dksX5_leastFrom_6 2 rfl rfl)
theorem dX5_leastFrom_144 : decode cX5_leastFrom 144 = .ok (.aload_n 0, 1) := dk_42 (dk_at dksX5_leastFrom_6 4 rfl rfl)
theorem dX5_leastFrom_145 : decode cX5_leastFrom 145 = .ok (.getfield 257, 3) := dk_180 1 1 (dk_at dksX5_leastFrom_6 5 rfl rfl)
theorem dX5_leastFrom_148 : decode cX5_leastFrom 148 = .ok (.if_icmp .ge 126, 3) := dk_162 0 126 (dk_at dksX5_leastFrom_6 8 rfl rfl)
theorem dX5_leastFrom_151 : decode cX5_leastFrom 151 = .ok (.aload_n 0, 1) := dk_42 (dk_at dksX5_leastFrom_6 11 rfl rfl)
theorem dX5_leastFrom_152 : decode cX5_leastFrom 152 = .ok (.getfield 61, 3) := dk_180 0 61 (dk_at dksX5_leastFrom_6 12 rfl rfl)
theorem dX5_leastFrom_155 : decode cX5_leastFrom 155 = .ok (.iload 6, 2) := dk_21 6 (dk_at dksX5_leastFrom_6 15 rfl rfl)
theorem dX5_leastFrom_157 : decode cX5_leastFrom 157 = .ok (.iaload, 1) := dk_46 (dk_at dksX5_leastFrom_6 17 rfl rfl)
theorem dX5_leastFrom_158 : decode cX5_leastFrom 158 = .ok (.iload_n 2, 1) := dk_28 (dk_at dksX5_leastFrom_6 18 rfl rfl)
theorem dX5_leastFrom_159 : decode cX5_leastFrom 159 = .ok (.iconst (-1), 1) := dk_2 (dk_at dksX5_leastFrom_6 19 rfl rfl)
theorem dX5_leastFrom_160 : decode cX5_leastFrom 160 = .ok (.ixor, 1) := dk_130 (dk_at dksX5_leastFrom_6 20 rfl rfl)
theorem dX5_leastFrom_161 : decode cX5_leastFrom 161 = .ok (.iand, 1) := dk_126 (dk_at dksX5_leastFrom_6 21 rfl rfl)
theorem dX5_leastFrom_162 : decode cX5_leastFrom 162 = .ok (.ifCond .ne 106, 3) := dk_154 0 106 (dk_at dksX5_leastFrom_7 0 rfl rfl)
theorem dX5_leastFrom_165 : decode cX5_leastFrom 165 = .ok (.iconst (-1), 1) := dk_2 (dk_at dksX5_leastFrom_7 3 rfl rfl)
theorem dX5_leastFrom_166 : decode cX5_leastFrom 166 = .ok (.istore 7, 2) := dk_54 7 (dk_at dksX5_leastFrom_7 4 rfl rfl)
theorem dX5_leastFrom_168 : decode cX5_leastFrom 168 = .ok (.iconst 0, 1) := dk_3 (dk_at dksX5_leastFrom_7 6 rfl rfl)
theorem dX5_leastFrom_169 : decode cX5_leastFrom 169 = .ok (.istore 8, 2) := dk_54 8 (dk_at dksX5_leastFrom_7 7 rfl rfl)
theorem dX5_leastFrom_171 : decode cX5_leastFrom 171 = .ok (.iload 8, 2) := dk_21 8 (dk_at dksX5_leastFrom_7 9 rfl rfl)
theorem dX5_leastFrom_173 : decode cX5_leastFrom 173 = .ok (.aload_n 0, 1) := dk_42 (dk_at dksX5_leastFrom_7 11 rfl rfl)
theorem dX5_leastFrom_174 : decode cX5_leastFrom 174 = .ok (.getfield 85, 3) := dk_180 0 85 (dk_at dksX5_leastFrom_7 12 rfl rfl)
theorem dX5_leastFrom_177 : decode cX5_leastFrom 177 = .ok (.if_icmp .ge 54, 3) := dk_162 0 54 (dk_at dksX5_leastFrom_7 15 rfl rfl)
theorem dX5_leastFrom_180 : decode cX5_leastFrom 180 = .ok (.iload 7, 2) := dk_21 7 (dk_at dksX5_leastFrom_7 18 rfl rfl)
theorem dX5_leastFrom_182 : decode cX5_leastFrom 182 = .ok (.aload_n 0, 1) := dk_42 (dk_at dksX5_leastFrom_7 20 rfl rfl)
theorem dX5_leastFrom_183 : decode cX5_leastFrom 183 = .ok (.getfield 61, 3) := dk_180 0 61 (dk_at dksX5_leastFrom_7 21 rfl rfl)
theorem dX5_leastFrom_186 : decode cX5_leastFrom 186 = .ok (.iload 6, 2) := dk_21 6 (dk_at dksX5_leastFrom_8 0 rfl rfl)
theorem dX5_leastFrom_188 : decode cX5_leastFrom 188 = .ok (.iaload, 1) := dk_46 (dk_at dksX5_leastFrom_8 2 rfl rfl)
theorem dX5_leastFrom_189 : decode cX5_leastFrom 189 = .ok (.iload 8, 2) := dk_21 8 (dk_at dksX5_leastFrom_8 3 rfl rfl)
theorem dX5_leastFrom_191 : decode cX5_leastFrom 191 = .ok (.invokestatic 151, 3) := dk_184 0 151 (dk_at dksX5_leastFrom_8 5 rfl rfl)
theorem dX5_leastFrom_194 : decode cX5_leastFrom 194 = .ok (.ifCond .eq 27, 3) := dk_153 0 27 (dk_at dksX5_leastFrom_8 8 rfl rfl)
theorem dX5_leastFrom_197 : decode cX5_leastFrom 197 = .ok (.bipush 10, 2) := dk_16 10 (dk_at dksX5_leastFrom_8 11 rfl rfl)
theorem dX5_leastFrom_199 : decode cX5_leastFrom 199 = .ok (.aload_n 0, 1) := dk_42 (dk_at dksX5_leastFrom_8 13 rfl rfl)
theorem dX5_leastFrom_200 : decode cX5_leastFrom 200 = .ok (.getfield 43, 3) := dk_180 0 43 (dk_at dksX5_leastFrom_8 14 rfl rfl)
theorem dX5_leastFrom_203 : decode cX5_leastFrom 203 = .ok (.iload 8, 2) := dk_21 8 (dk_at dksX5_leastFrom_8 17 rfl rfl)
theorem dX5_leastFrom_205 : decode cX5_leastFrom 205 = .ok (.iaload, 1) := dk_46 (dk_at dksX5_leastFrom_8 19 rfl rfl)
theorem dX5_leastFrom_206 : decode cX5_leastFrom 206 = .ok (.imul, 1) := dk_104 (dk_at dksX5_leastFrom_8 20 rfl rfl)
theorem dX5_leastFrom_207 : decode cX5_leastFrom 207 = .ok (.iload 5, 2) := dk_21 5 (dk_at dksX5_leastFrom_8 21 rfl rfl)
theorem dX5_leastFrom_209 : decode cX5_leastFrom 209 = .ok (.aload_n 0, 1) := dk_42 (dk_at dksX5_leastFrom_8 23 rfl rfl)
theorem dX5_leastFrom_210 : decode cX5_leastFrom 210 = .ok (.getfield 40, 3) := dk_180 0 40 (dk_at dksX5_leastFrom_9 0 rfl rfl)
theorem dX5_leastFrom_213 : decode cX5_leastFrom 213 = .ok (.iload 8, 2) := dk_21 8 (dk_at dksX5_leastFrom_9 3 rfl rfl)
theorem dX5_leastFrom_215 : decode cX5_leastFrom 215 = .ok (.iaload, 1) := dk_46 (dk_at dksX5_leastFrom_9 5 rfl rfl)
theorem dX5_leastFrom_216 : decode cX5_leastFrom 216 = .ok (.isub, 1) := dk_100 (dk_at dksX5_leastFrom_9 6 rfl rfl)
theorem dX5_leastFrom_217 : decode cX5_leastFrom 217 = .ok (.imul, 1) := dk_104 (dk_at dksX5_leastFrom_9 7 rfl rfl)
theorem dX5_leastFrom_218 : decode cX5_leastFrom 218 = .ok (.goto 4, 3) := dk_167 0 4 (dk_at dksX5_leastFrom_9 8 rfl rfl)
theorem dX5_leastFrom_221 : decode cX5_leastFrom 221 = .ok (.iconst 0, 1) := dk_3 (dk_at dksX5_leastFrom_9 11 rfl rfl)
theorem dX5_leastFrom_222 : decode cX5_leastFrom 222 = .ok (.iadd, 1) := dk_96 (dk_at dksX5_leastFrom_9 12 rfl rfl)
theorem dX5_leastFrom_223 : decode cX5_leastFrom 223 = .ok (.istore 7, 2) := dk_54 7 (dk_at dksX5_leastFrom_9 13 rfl rfl)
theorem dX5_leastFrom_225 : decode cX5_leastFrom 225 = .ok (.iinc 8 1, 3) := dk_132 8 1 (dk_at dksX5_leastFrom_9 15 rfl rfl)
theorem dX5_leastFrom_228 : decode cX5_leastFrom 228 = .ok (.goto (-57), 3) := dk_167 255 199 (dk_at dksX5_leastFrom_9 18 rfl rfl)
theorem dX5_leastFrom_231 : decode cX5_leastFrom 231 = .ok (.iload 7, 2) := dk_21 7 (dk_at dksX5_leastFrom_9 21 rfl rfl)
theorem dX5_leastFrom_233 : decode cX5_leastFrom 233 = .ok (.aload_n 0, 1) := dk_42 (dk_at dksX5_leastFrom_9 23 rfl rfl)
theorem dX5_leastFrom_234 : decode cX5_leastFrom 234 = .ok (.iload_n 1, 1) := dk_27 (dk_at dksX5_leastFrom_10 0 rfl rfl)
theorem dX5_leastFrom_235 : decode cX5_leastFrom 235 = .ok (.iload_n 2, 1) := dk_28 (dk_at dksX5_leastFrom_10 1 rfl rfl)
theorem dX5_leastFrom_236 : decode cX5_leastFrom 236 = .ok (.aload_n 0, 1) := dk_42 (dk_at dksX5_leastFrom_10 2 rfl rfl)
theorem dX5_leastFrom_237 : decode cX5_leastFrom 237 = .ok (.getfield 61, 3) := dk_180 0 61 (dk_at dksX5_leastFrom_10 3 rfl rfl)
theorem dX5_leastFrom_240 : decode cX5_leastFrom 240 = .ok (.iload 6, 2) := dk_21 6 (dk_at dksX5_leastFrom_10 6 rfl rfl)
theorem dX5_leastFrom_242 : decode cX5_leastFrom 242 = .ok (.iaload, 1) := dk_46 (dk_at dksX5_leastFrom_10 8 rfl rfl)
theorem dX5_leastFrom_243 : decode cX5_leastFrom 243 = .ok (.iconst (-1), 1) := dk_2 (dk_at dksX5_leastFrom_10 9 rfl rfl)
theorem dX5_leastFrom_244 : decode cX5_leastFrom 244 = .ok (.ixor, 1) := dk_130 (dk_at dksX5_leastFrom_10 10 rfl rfl)
theorem dX5_leastFrom_245 : decode cX5_leastFrom 245 = .ok (.iand, 1) := dk_126 (dk_at dksX5_leastFrom_10 11 rfl rfl)
theorem dX5_leastFrom_246 : decode cX5_leastFrom 246 = .ok (.invokevirtual 308, 3) := dk_182 1 52 (dk_at dksX5_leastFrom_10 12 rfl rfl)
theorem dX5_leastFrom_249 : decode cX5_leastFrom 249 = .ok (.iadd, 1) := dk_96 (dk_at dksX5_leastFrom_10 15 rfl rfl)
theorem dX5_leastFrom_250 : decode cX5_leastFrom 250 = .ok (.istore 8, 2) := dk_54 8 (dk_at dksX5_leastFrom_10 16 rfl rfl)
theorem dX5_leastFrom_252 : decode cX5_leastFrom 252 = .ok (.iload 8, 2) := dk_21 8 (dk_at dksX5_leastFrom_10 18 rfl rfl)
theorem dX5_leastFrom_254 : decode cX5_leastFrom 254 = .ok (.iload 4, 2) := dk_21 4 (dk_at dksX5_leastFrom_10 20 rfl rfl)
theorem dX5_leastFrom_256 : decode cX5_leastFrom 256 = .ok (.if_icmp .ge 8, 3) := dk_162 0 8 (dk_at dksX5_leastFrom_11 0 rfl rfl)
theorem dX5_leastFrom_259 : decode cX5_leastFrom 259 = .ok (.iload 8, 2) := dk_21 8 (dk_at dksX5_leastFrom_11 3 rfl rfl)
theorem dX5_leastFrom_261 : decode cX5_leastFrom 261 = .ok (.goto 5, 3) := dk_167 0 5 (dk_at dksX5_leastFrom_11 5 rfl rfl)
theorem dX5_leastFrom_264 : decode cX5_leastFrom 264 = .ok (.iload 4, 2) := dk_21 4 (dk_at dksX5_leastFrom_11 8 rfl rfl)
theorem dX5_leastFrom_266 : decode cX5_leastFrom 266 = .ok (.istore 4, 2) := dk_54 4 (dk_at dksX5_leastFrom_11 10 rfl rfl)
theorem dX5_leastFrom_268 : decode cX5_leastFrom 268 = .ok (.iinc 6 1, 3) := dk_132 6 1 (dk_at dksX5_leastFrom_11 12 rfl rfl)
theorem dX5_leastFrom_271 : decode cX5_leastFrom 271 = .ok (.goto (-129), 3) := dk_167 255 127 (dk_at dksX5_leastFrom_11 15 rfl rfl)
theorem dX5_leastFrom_274 : decode cX5_leastFrom 274 = .ok (.aload_n 0, 1) := dk_42 (dk_at dksX5_leastFrom_11 18 rfl rfl)
theorem dX5_leastFrom_275 : decode cX5_leastFrom 275 = .ok (.getfield 73, 3) := dk_180 0 73 (dk_at dksX5_leastFrom_11 19 rfl rfl)
theorem dX5_leastFrom_278 : decode cX5_leastFrom 278 = .ok (.iload_n 3, 1) := dk_29 (dk_at dksX5_leastFrom_11 22 rfl rfl)
theorem dX5_leastFrom_279 : decode cX5_leastFrom 279 = .ok (.iload 4, 2) := dk_21 4 (dk_at dksX5_leastFrom_12 0 rfl rfl)
theorem dX5_leastFrom_281 : decode cX5_leastFrom 281 = .ok (.iastore, 1) := dk_79 (dk_at dksX5_leastFrom_12 2 rfl rfl)
theorem dX5_leastFrom_282 : decode cX5_leastFrom 282 = .ok (.iload 4, 2) := dk_21 4 (dk_at dksX5_leastFrom_12 3 rfl rfl)
theorem dX5_leastFrom_284 : decode cX5_leastFrom 284 = .ok (.ireturn, 1) := dk_172 (dk_at dksX5_leastFrom_12 5 rfl rfl)
abbrev cX5_head : ByteArray := prog_18_method_71_code
def yX5_head : MethodName := ⟨RX5, "head", "()I"⟩
def dkwX5_head_3 : List UInt8 := [160, 0, 12, 42, 16, 251, 182, 0, 102, 167, 0, 4, 27, 172]
abbrev dktX5_head_3 : List UInt8 := dkwX5_head_3 ++ []
def dkwX5_head_2 : List UInt8 := [159, 0, 9, 21, 4, 28, 162, 0, 8, 29, 60, 21, 4, 61, 132, 3, 1, 167, 255, 199, 27, 2]
abbrev dktX5_head_2 : List UInt8 := dkwX5_head_2 ++ dktX5_head_3
def dkwX5_head_1 : List UInt8 := [180, 0, 28, 29, 46, 42, 180, 0, 31, 29, 46, 182, 1, 46, 42, 182, 1, 49, 54, 4, 27, 2]
abbrev dktX5_head_1 : List UInt8 := dkwX5_head_1 ++ dktX5_head_2
def dkwX5_head_0 : List UInt8 := [2, 60, 3, 61, 3, 62, 29, 16, 8, 162, 0, 57, 42, 180, 0, 7, 29, 46, 5, 160, 0, 41, 42, 42]
abbrev dktX5_head_0 : List UInt8 := dkwX5_head_0 ++ dktX5_head_1
theorem dksX5_head_0 : cX5_head.data.toList.drop 0 = dktX5_head_0 := by decide +kernel
theorem dksX5_head_1 : cX5_head.data.toList.drop 24 = dktX5_head_1 := dk_seg dksX5_head_0 24 rfl rfl
theorem dksX5_head_2 : cX5_head.data.toList.drop 46 = dktX5_head_2 := dk_seg dksX5_head_1 22 rfl rfl
theorem dksX5_head_3 : cX5_head.data.toList.drop 68 = dktX5_head_3 := dk_seg dksX5_head_2 22 rfl rfl
theorem dX5_head_0 : decode cX5_head 0 = .ok (.iconst (-1), 1) := dk_2 (dk_at dksX5_head_0 0 rfl rfl)
theorem dX5_head_1 : decode cX5_head 1 = .ok (.istore_n 1, 1) := dk_60 (dk_at dksX5_head_0 1 rfl rfl)
theorem dX5_head_2 : decode cX5_head 2 = .ok (.iconst 0, 1) := dk_3 (dk_at dksX5_head_0 2 rfl rfl)
theorem dX5_head_3 : decode cX5_head 3 = .ok (.istore_n 2, 1) := dk_61 (dk_at dksX5_head_0 3 rfl rfl)
theorem dX5_head_4 : decode cX5_head 4 = .ok (.iconst 0, 1) := dk_3 (dk_at dksX5_head_0 4 rfl rfl)
theorem dX5_head_5 : decode cX5_head 5 = .ok (.istore_n 3, 1) := dk_62 (dk_at dksX5_head_0 5 rfl rfl)
theorem dX5_head_6 : decode cX5_head 6 = .ok (.iload_n 3, 1) := dk_29 (dk_at dksX5_head_0 6 rfl rfl)
theorem dX5_head_7 : decode cX5_head 7 = .ok (.bipush 8, 2) := dk_16 8 (dk_at dksX5_head_0 7 rfl rfl)
theorem dX5_head_9 : decode cX5_head 9 = .ok (.if_icmp .ge 57, 3) := dk_162 0 57 (dk_at dksX5_head_0 9 rfl rfl)
theorem dX5_head_12 : decode cX5_head 12 = .ok (.aload_n 0, 1) := dk_42 (dk_at dksX5_head_0 12 rfl rfl)
theorem dX5_head_13 : decode cX5_head 13 = .ok (.getfield 7, 3) := dk_180 0 7 (dk_at dksX5_head_0 13 rfl rfl)
theorem dX5_head_16 : decode cX5_head 16 = .ok (.iload_n 3, 1) := dk_29 (dk_at dksX5_head_0 16 rfl rfl)
theorem dX5_head_17 : decode cX5_head 17 = .ok (.iaload, 1) := dk_46 (dk_at dksX5_head_0 17 rfl rfl)
theorem dX5_head_18 : decode cX5_head 18 = .ok (.iconst 2, 1) := dk_5 (dk_at dksX5_head_0 18 rfl rfl)
theorem dX5_head_19 : decode cX5_head 19 = .ok (.if_icmp .ne 41, 3) := dk_160 0 41 (dk_at dksX5_head_0 19 rfl rfl)
theorem dX5_head_22 : decode cX5_head 22 = .ok (.aload_n 0, 1) := dk_42 (dk_at dksX5_head_0 22 rfl rfl)
theorem dX5_head_23 : decode cX5_head 23 = .ok (.aload_n 0, 1) := dk_42 (dk_at dksX5_head_0 23 rfl rfl)
theorem dX5_head_24 : decode cX5_head 24 = .ok (.getfield 28, 3) := dk_180 0 28 (dk_at dksX5_head_1 0 rfl rfl)
theorem dX5_head_27 : decode cX5_head 27 = .ok (.iload_n 3, 1) := dk_29 (dk_at dksX5_head_1 3 rfl rfl)
theorem dX5_head_28 : decode cX5_head 28 = .ok (.iaload, 1) := dk_46 (dk_at dksX5_head_1 4 rfl rfl)
theorem dX5_head_29 : decode cX5_head 29 = .ok (.aload_n 0, 1) := dk_42 (dk_at dksX5_head_1 5 rfl rfl)
theorem dX5_head_30 : decode cX5_head 30 = .ok (.getfield 31, 3) := dk_180 0 31 (dk_at dksX5_head_1 6 rfl rfl)
theorem dX5_head_33 : decode cX5_head 33 = .ok (.iload_n 3, 1) := dk_29 (dk_at dksX5_head_1 9 rfl rfl)
theorem dX5_head_34 : decode cX5_head 34 = .ok (.iaload, 1) := dk_46 (dk_at dksX5_head_1 10 rfl rfl)
theorem dX5_head_35 : decode cX5_head 35 = .ok (.invokevirtual 302, 3) := dk_182 1 46 (dk_at dksX5_head_1 11 rfl rfl)
theorem dX5_head_38 : decode cX5_head 38 = .ok (.aload_n 0, 1) := dk_42 (dk_at dksX5_head_1 14 rfl rfl)
theorem dX5_head_39 : decode cX5_head 39 = .ok (.invokevirtual 305, 3) := dk_182 1 49 (dk_at dksX5_head_1 15 rfl rfl)
theorem dX5_head_42 : decode cX5_head 42 = .ok (.istore 4, 2) := dk_54 4 (dk_at dksX5_head_1 18 rfl rfl)
theorem dX5_head_44 : decode cX5_head 44 = .ok (.iload_n 1, 1) := dk_27 (dk_at dksX5_head_1 20 rfl rfl)
theorem dX5_head_45 : decode cX5_head 45 = .ok (.iconst (-1), 1) := dk_2 (dk_at dksX5_head_1 21 rfl rfl)
theorem dX5_head_46 : decode cX5_head 46 = .ok (.if_icmp .eq 9, 3) := dk_159 0 9 (dk_at dksX5_head_2 0 rfl rfl)
theorem dX5_head_49 : decode cX5_head 49 = .ok (.iload 4, 2) := dk_21 4 (dk_at dksX5_head_2 3 rfl rfl)
theorem dX5_head_51 : decode cX5_head 51 = .ok (.iload_n 2, 1) := dk_28 (dk_at dksX5_head_2 5 rfl rfl)
theorem dX5_head_52 : decode cX5_head 52 = .ok (.if_icmp .ge 8, 3) := dk_162 0 8 (dk_at dksX5_head_2 6 rfl rfl)
theorem dX5_head_55 : decode cX5_head 55 = .ok (.iload_n 3, 1) := dk_29 (dk_at dksX5_head_2 9 rfl rfl)
theorem dX5_head_56 : decode cX5_head 56 = .ok (.istore_n 1, 1) := dk_60 (dk_at dksX5_head_2 10 rfl rfl)
theorem dX5_head_57 : decode cX5_head 57 = .ok (.iload 4, 2) := dk_21 4 (dk_at dksX5_head_2 11 rfl rfl)
theorem dX5_head_59 : decode cX5_head 59 = .ok (.istore_n 2, 1) := dk_61 (dk_at dksX5_head_2 13 rfl rfl)
theorem dX5_head_60 : decode cX5_head 60 = .ok (.iinc 3 1, 3) := dk_132 3 1 (dk_at dksX5_head_2 14 rfl rfl)
theorem dX5_head_63 : decode cX5_head 63 = .ok (.goto (-57), 3) := dk_167 255 199 (dk_at dksX5_head_2 17 rfl rfl)
theorem dX5_head_66 : decode cX5_head 66 = .ok (.iload_n 1, 1) := dk_27 (dk_at dksX5_head_2 20 rfl rfl)
theorem dX5_head_67 : decode cX5_head 67 = .ok (.iconst (-1), 1) := dk_2 (dk_at dksX5_head_2 21 rfl rfl)
theorem dX5_head_68 : decode cX5_head 68 = .ok (.if_icmp .ne 12, 3) := dk_160 0 12 (dk_at dksX5_head_3 0 rfl rfl)
theorem dX5_head_71 : decode cX5_head 71 = .ok (.aload_n 0, 1) := dk_42 (dk_at dksX5_head_3 3 rfl rfl)
theorem dX5_head_72 : decode cX5_head 72 = .ok (.bipush (-5), 2) := dk_16 251 (dk_at dksX5_head_3 4 rfl rfl)
theorem dX5_head_74 : decode cX5_head 74 = .ok (.invokevirtual 102, 3) := dk_182 0 102 (dk_at dksX5_head_3 6 rfl rfl)
theorem dX5_head_77 : decode cX5_head 77 = .ok (.goto 4, 3) := dk_167 0 4 (dk_at dksX5_head_3 9 rfl rfl)
theorem dX5_head_80 : decode cX5_head 80 = .ok (.iload_n 1, 1) := dk_27 (dk_at dksX5_head_3 12 rfl rfl)
theorem dX5_head_81 : decode cX5_head 81 = .ok (.ireturn, 1) := dk_172 (dk_at dksX5_head_3 13 rfl rfl)
abbrev cX5_days : ByteArray := prog_18_method_73_code
def yX5_days : MethodName := ⟨RX5, "days", "(I)I"⟩
def dkwX5_days_2 : List UInt8 := [132, 4, 1, 167, 255, 227, 21, 4, 172]
abbrev dktX5_days_2 : List UInt8 := dkwX5_days_2 ++ []
def dkwX5_days_1 : List UInt8 := [162, 0, 28, 45, 42, 180, 0, 28, 27, 46, 42, 180, 0, 31, 27, 46, 182, 1, 56, 158, 0, 9]
abbrev dktX5_days_1 : List UInt8 := dkwX5_days_1 ++ dktX5_days_2
def dkwX5_days_0 : List UInt8 := [42, 27, 182, 1, 34, 61, 28, 153, 0, 5, 28, 172, 42, 182, 0, 238, 78, 3, 54, 4, 21, 4, 16, 30]
abbrev dktX5_days_0 : List UInt8 := dkwX5_days_0 ++ dktX5_days_1
theorem dksX5_days_0 : cX5_days.data.toList.drop 0 = dktX5_days_0 := by decide +kernel
theorem dksX5_days_1 : cX5_days.data.toList.drop 24 = dktX5_days_1 := dk_seg dksX5_days_0 24 rfl rfl
theorem dksX5_days_2 : cX5_days.data.toList.drop 46 = dktX5_days_2 := dk_seg dksX5_days_1 22 rfl rfl
theorem dX5_days_0 : decode cX5_days 0 = .ok (.aload_n 0, 1) := dk_42 (dk_at dksX5_days_0 0 rfl rfl)
theorem dX5_days_1 : decode cX5_days 1 = .ok (.iload_n 1, 1) := dk_27 (dk_at dksX5_days_0 1 rfl rfl)
theorem dX5_days_2 : decode cX5_days 2 = .ok (.invokevirtual 290, 3) := dk_182 1 34 (dk_at dksX5_days_0 2 rfl rfl)
theorem dX5_days_5 : decode cX5_days 5 = .ok (.istore_n 2, 1) := dk_61 (dk_at dksX5_days_0 5 rfl rfl)
theorem dX5_days_6 : decode cX5_days 6 = .ok (.iload_n 2, 1) := dk_28 (dk_at dksX5_days_0 6 rfl rfl)
theorem dX5_days_7 : decode cX5_days 7 = .ok (.ifCond .eq 5, 3) := dk_153 0 5 (dk_at dksX5_days_0 7 rfl rfl)
theorem dX5_days_10 : decode cX5_days 10 = .ok (.iload_n 2, 1) := dk_28 (dk_at dksX5_days_0 10 rfl rfl)
theorem dX5_days_11 : decode cX5_days 11 = .ok (.ireturn, 1) := dk_172 (dk_at dksX5_days_0 11 rfl rfl)
theorem dX5_days_12 : decode cX5_days 12 = .ok (.aload_n 0, 1) := dk_42 (dk_at dksX5_days_0 12 rfl rfl)
theorem dX5_days_13 : decode cX5_days 13 = .ok (.invokevirtual 238, 3) := dk_182 0 238 (dk_at dksX5_days_0 13 rfl rfl)
theorem dX5_days_16 : decode cX5_days 16 = .ok (.astore_n 3, 1) := dk_78 (dk_at dksX5_days_0 16 rfl rfl)
theorem dX5_days_17 : decode cX5_days 17 = .ok (.iconst 0, 1) := dk_3 (dk_at dksX5_days_0 17 rfl rfl)
theorem dX5_days_18 : decode cX5_days 18 = .ok (.istore 4, 2) := dk_54 4 (dk_at dksX5_days_0 18 rfl rfl)
theorem dX5_days_20 : decode cX5_days 20 = .ok (.iload 4, 2) := dk_21 4 (dk_at dksX5_days_0 20 rfl rfl)
theorem dX5_days_22 : decode cX5_days 22 = .ok (.bipush 30, 2) := dk_16 30 (dk_at dksX5_days_0 22 rfl rfl)
theorem dX5_days_24 : decode cX5_days 24 = .ok (.if_icmp .ge 28, 3) := dk_162 0 28 (dk_at dksX5_days_1 0 rfl rfl)
theorem dX5_days_27 : decode cX5_days 27 = .ok (.aload_n 3, 1) := dk_45 (dk_at dksX5_days_1 3 rfl rfl)
theorem dX5_days_28 : decode cX5_days 28 = .ok (.aload_n 0, 1) := dk_42 (dk_at dksX5_days_1 4 rfl rfl)
theorem dX5_days_29 : decode cX5_days 29 = .ok (.getfield 28, 3) := dk_180 0 28 (dk_at dksX5_days_1 5 rfl rfl)
theorem dX5_days_32 : decode cX5_days 32 = .ok (.iload_n 1, 1) := dk_27 (dk_at dksX5_days_1 8 rfl rfl)
theorem dX5_days_33 : decode cX5_days 33 = .ok (.iaload, 1) := dk_46 (dk_at dksX5_days_1 9 rfl rfl)
theorem dX5_days_34 : decode cX5_days 34 = .ok (.aload_n 0, 1) := dk_42 (dk_at dksX5_days_1 10 rfl rfl)
theorem dX5_days_35 : decode cX5_days 35 = .ok (.getfield 31, 3) := dk_180 0 31 (dk_at dksX5_days_1 11 rfl rfl)
theorem dX5_days_38 : decode cX5_days 38 = .ok (.iload_n 1, 1) := dk_27 (dk_at dksX5_days_1 14 rfl rfl)
theorem dX5_days_39 : decode cX5_days 39 = .ok (.iaload, 1) := dk_46 (dk_at dksX5_days_1 15 rfl rfl)
theorem dX5_days_40 : decode cX5_days 40 = .ok (.invokevirtual 312, 3) := dk_182 1 56 (dk_at dksX5_days_1 16 rfl rfl)
theorem dX5_days_43 : decode cX5_days 43 = .ok (.ifCond .le 9, 3) := dk_158 0 9 (dk_at dksX5_days_1 19 rfl rfl)
theorem dX5_days_46 : decode cX5_days 46 = .ok (.iinc 4 1, 3) := dk_132 4 1 (dk_at dksX5_days_2 0 rfl rfl)
theorem dX5_days_49 : decode cX5_days 49 = .ok (.goto (-29), 3) := dk_167 255 227 (dk_at dksX5_days_2 3 rfl rfl)
theorem dX5_days_52 : decode cX5_days 52 = .ok (.iload 4, 2) := dk_21 4 (dk_at dksX5_days_2 6 rfl rfl)
theorem dX5_days_54 : decode cX5_days 54 = .ok (.ireturn, 1) := dk_172 (dk_at dksX5_days_2 8 rfl rfl)
abbrev cX5_dayOf : ByteArray := prog_18_method_72_code
def yX5_dayOf : MethodName := ⟨RX5, "dayOf", "(II)I"⟩
def dkwX5_dayOf_1 : List UInt8 := [182, 0, 213, 87, 132, 3, 1, 167, 255, 234, 42, 180, 1, 40, 172]
abbrev dktX5_dayOf_1 : List UInt8 := dkwX5_dayOf_1 ++ []
def dkwX5_dayOf_0 : List UInt8 := [42, 27, 28, 182, 1, 46, 3, 62, 29, 42, 180, 1, 40, 162, 0, 20, 42, 42, 180, 0, 67, 29, 46]
abbrev dktX5_dayOf_0 : List UInt8 := dkwX5_dayOf_0 ++ dktX5_dayOf_1
theorem dksX5_dayOf_0 : cX5_dayOf.data.toList.drop 0 = dktX5_dayOf_0 := by decide +kernel
theorem dksX5_dayOf_1 : cX5_dayOf.data.toList.drop 23 = dktX5_dayOf_1 := dk_seg dksX5_dayOf_0 23 rfl rfl
theorem dX5_dayOf_0 : decode cX5_dayOf 0 = .ok (.aload_n 0, 1) := dk_42 (dk_at dksX5_dayOf_0 0 rfl rfl)
theorem dX5_dayOf_1 : decode cX5_dayOf 1 = .ok (.iload_n 1, 1) := dk_27 (dk_at dksX5_dayOf_0 1 rfl rfl)
theorem dX5_dayOf_2 : decode cX5_dayOf 2 = .ok (.iload_n 2, 1) := dk_28 (dk_at dksX5_dayOf_0 2 rfl rfl)
theorem dX5_dayOf_3 : decode cX5_dayOf 3 = .ok (.invokevirtual 302, 3) := dk_182 1 46 (dk_at dksX5_dayOf_0 3 rfl rfl)
theorem dX5_dayOf_6 : decode cX5_dayOf 6 = .ok (.iconst 0, 1) := dk_3 (dk_at dksX5_dayOf_0 6 rfl rfl)
theorem dX5_dayOf_7 : decode cX5_dayOf 7 = .ok (.istore_n 3, 1) := dk_62 (dk_at dksX5_dayOf_0 7 rfl rfl)
theorem dX5_dayOf_8 : decode cX5_dayOf 8 = .ok (.iload_n 3, 1) := dk_29 (dk_at dksX5_dayOf_0 8 rfl rfl)
theorem dX5_dayOf_9 : decode cX5_dayOf 9 = .ok (.aload_n 0, 1) := dk_42 (dk_at dksX5_dayOf_0 9 rfl rfl)
theorem dX5_dayOf_10 : decode cX5_dayOf 10 = .ok (.getfield 296, 3) := dk_180 1 40 (dk_at dksX5_dayOf_0 10 rfl rfl)
theorem dX5_dayOf_13 : decode cX5_dayOf 13 = .ok (.if_icmp .ge 20, 3) := dk_162 0 20 (dk_at dksX5_dayOf_0 13 rfl rfl)
theorem dX5_dayOf_16 : decode cX5_dayOf 16 = .ok (.aload_n 0, 1) := dk_42 (dk_at dksX5_dayOf_0 16 rfl rfl)
theorem dX5_dayOf_17 : decode cX5_dayOf 17 = .ok (.aload_n 0, 1) := dk_42 (dk_at dksX5_dayOf_0 17 rfl rfl)
theorem dX5_dayOf_18 : decode cX5_dayOf 18 = .ok (.getfield 67, 3) := dk_180 0 67 (dk_at dksX5_dayOf_0 18 rfl rfl)
theorem dX5_dayOf_21 : decode cX5_dayOf 21 = .ok (.iload_n 3, 1) := dk_29 (dk_at dksX5_dayOf_0 21 rfl rfl)
theorem dX5_dayOf_22 : decode cX5_dayOf 22 = .ok (.iaload, 1) := dk_46 (dk_at dksX5_dayOf_0 22 rfl rfl)
theorem dX5_dayOf_23 : decode cX5_dayOf 23 = .ok (.invokevirtual 213, 3) := dk_182 0 213 (dk_at dksX5_dayOf_1 0 rfl rfl)
theorem dX5_dayOf_26 : decode cX5_dayOf 26 = .ok (.pop, 1) := dk_87 (dk_at dksX5_dayOf_1 3 rfl rfl)
theorem dX5_dayOf_27 : decode cX5_dayOf 27 = .ok (.iinc 3 1, 3) := dk_132 3 1 (dk_at dksX5_dayOf_1 4 rfl rfl)
theorem dX5_dayOf_30 : decode cX5_dayOf 30 = .ok (.goto (-22), 3) := dk_167 255 234 (dk_at dksX5_dayOf_1 7 rfl rfl)
theorem dX5_dayOf_33 : decode cX5_dayOf 33 = .ok (.aload_n 0, 1) := dk_42 (dk_at dksX5_dayOf_1 10 rfl rfl)
theorem dX5_dayOf_34 : decode cX5_dayOf 34 = .ok (.getfield 296, 3) := dk_180 1 40 (dk_at dksX5_dayOf_1 11 rfl rfl)
theorem dX5_dayOf_37 : decode cX5_dayOf 37 = .ok (.ireturn, 1) := dk_172 (dk_at dksX5_dayOf_1 14 rfl rfl)
abbrev cX5_ever : ByteArray := prog_18_method_78_code
def yX5_ever : MethodName := ⟨RX5, "ever", "(I)I"⟩
def dkwX5_ever_1 : List UInt8 := [154, 0, 10, 42, 180, 1, 63, 167, 0, 7, 42, 180, 1, 66, 172]
abbrev dktX5_ever_1 : List UInt8 := dkwX5_ever_1 ++ []
def dkwX5_ever_0 : List UInt8 := [27, 133, 9, 10, 184, 0, 88, 154, 0, 10, 42, 16, 254, 182, 0, 102, 172, 42, 182, 1, 76, 27]
abbrev dktX5_ever_0 : List UInt8 := dkwX5_ever_0 ++ dktX5_ever_1
theorem dksX5_ever_0 : cX5_ever.data.toList.drop 0 = dktX5_ever_0 := by decide +kernel
theorem dksX5_ever_1 : cX5_ever.data.toList.drop 22 = dktX5_ever_1 := dk_seg dksX5_ever_0 22 rfl rfl
theorem dX5_ever_0 : decode cX5_ever 0 = .ok (.iload_n 1, 1) := dk_27 (dk_at dksX5_ever_0 0 rfl rfl)
theorem dX5_ever_1 : decode cX5_ever 1 = .ok (.i2l, 1) := dk_133 (dk_at dksX5_ever_0 1 rfl rfl)
theorem dX5_ever_2 : decode cX5_ever 2 = .ok (.lconst 0, 1) := dk_9 (dk_at dksX5_ever_0 2 rfl rfl)
theorem dX5_ever_3 : decode cX5_ever 3 = .ok (.lconst 1, 1) := dk_10 (dk_at dksX5_ever_0 3 rfl rfl)
theorem dX5_ever_4 : decode cX5_ever 4 = .ok (.invokestatic 88, 3) := dk_184 0 88 (dk_at dksX5_ever_0 4 rfl rfl)
theorem dX5_ever_7 : decode cX5_ever 7 = .ok (.ifCond .ne 10, 3) := dk_154 0 10 (dk_at dksX5_ever_0 7 rfl rfl)
theorem dX5_ever_10 : decode cX5_ever 10 = .ok (.aload_n 0, 1) := dk_42 (dk_at dksX5_ever_0 10 rfl rfl)
theorem dX5_ever_11 : decode cX5_ever 11 = .ok (.bipush (-2), 2) := dk_16 254 (dk_at dksX5_ever_0 11 rfl rfl)
theorem dX5_ever_13 : decode cX5_ever 13 = .ok (.invokevirtual 102, 3) := dk_182 0 102 (dk_at dksX5_ever_0 13 rfl rfl)
theorem dX5_ever_16 : decode cX5_ever 16 = .ok (.ireturn, 1) := dk_172 (dk_at dksX5_ever_0 16 rfl rfl)
theorem dX5_ever_17 : decode cX5_ever 17 = .ok (.aload_n 0, 1) := dk_42 (dk_at dksX5_ever_0 17 rfl rfl)
theorem dX5_ever_18 : decode cX5_ever 18 = .ok (.invokevirtual 332, 3) := dk_182 1 76 (dk_at dksX5_ever_0 18 rfl rfl)
theorem dX5_ever_21 : decode cX5_ever 21 = .ok (.iload_n 1, 1) := dk_27 (dk_at dksX5_ever_0 21 rfl rfl)
theorem dX5_ever_22 : decode cX5_ever 22 = .ok (.ifCond .ne 10, 3) := dk_154 0 10 (dk_at dksX5_ever_1 0 rfl rfl)
theorem dX5_ever_25 : decode cX5_ever 25 = .ok (.aload_n 0, 1) := dk_42 (dk_at dksX5_ever_1 3 rfl rfl)
theorem dX5_ever_26 : decode cX5_ever 26 = .ok (.getfield 319, 3) := dk_180 1 63 (dk_at dksX5_ever_1 4 rfl rfl)
theorem dX5_ever_29 : decode cX5_ever 29 = .ok (.goto 7, 3) := dk_167 0 7 (dk_at dksX5_ever_1 7 rfl rfl)
theorem dX5_ever_32 : decode cX5_ever 32 = .ok (.aload_n 0, 1) := dk_42 (dk_at dksX5_ever_1 10 rfl rfl)
theorem dX5_ever_33 : decode cX5_ever 33 = .ok (.getfield 322, 3) := dk_180 1 66 (dk_at dksX5_ever_1 11 rfl rfl)
theorem dX5_ever_36 : decode cX5_ever 36 = .ok (.ireturn, 1) := dk_172 (dk_at dksX5_ever_1 14 rfl rfl)
abbrev cX5_findEver : ByteArray := prog_18_method_77_code
def yX5_findEver : MethodName := ⟨RX5, "findEver", "()V"⟩
def dkwX5_findEver_2 : List UInt8 := [188, 10, 3, 182, 1, 69, 177]
abbrev dktX5_findEver_2 : List UInt8 := dkwX5_findEver_2 ++ []
def dkwX5_findEver_1 : List UInt8 := [182, 1, 73, 181, 1, 63, 42, 42, 180, 1, 63, 181, 1, 66, 177, 42, 182, 1, 13, 42, 3, 16, 40]
abbrev dktX5_findEver_1 : List UInt8 := dkwX5_findEver_1 ++ dktX5_findEver_2
def dkwX5_findEver_0 : List UInt8 := [42, 3, 181, 1, 63, 42, 2, 181, 1, 66, 42, 180, 0, 51, 5, 160, 0, 24, 42, 42, 42, 182, 0, 92]
abbrev dktX5_findEver_0 : List UInt8 := dkwX5_findEver_0 ++ dktX5_findEver_1
theorem dksX5_findEver_0 : cX5_findEver.data.toList.drop 0 = dktX5_findEver_0 := by decide +kernel
theorem dksX5_findEver_1 : cX5_findEver.data.toList.drop 24 = dktX5_findEver_1 := dk_seg dksX5_findEver_0 24 rfl rfl
theorem dksX5_findEver_2 : cX5_findEver.data.toList.drop 47 = dktX5_findEver_2 := dk_seg dksX5_findEver_1 23 rfl rfl
theorem dX5_findEver_0 : decode cX5_findEver 0 = .ok (.aload_n 0, 1) := dk_42 (dk_at dksX5_findEver_0 0 rfl rfl)
theorem dX5_findEver_1 : decode cX5_findEver 1 = .ok (.iconst 0, 1) := dk_3 (dk_at dksX5_findEver_0 1 rfl rfl)
theorem dX5_findEver_2 : decode cX5_findEver 2 = .ok (.putfield 319, 3) := dk_181 1 63 (dk_at dksX5_findEver_0 2 rfl rfl)
theorem dX5_findEver_5 : decode cX5_findEver 5 = .ok (.aload_n 0, 1) := dk_42 (dk_at dksX5_findEver_0 5 rfl rfl)
theorem dX5_findEver_6 : decode cX5_findEver 6 = .ok (.iconst (-1), 1) := dk_2 (dk_at dksX5_findEver_0 6 rfl rfl)
theorem dX5_findEver_7 : decode cX5_findEver 7 = .ok (.putfield 322, 3) := dk_181 1 66 (dk_at dksX5_findEver_0 7 rfl rfl)
theorem dX5_findEver_10 : decode cX5_findEver 10 = .ok (.aload_n 0, 1) := dk_42 (dk_at dksX5_findEver_0 10 rfl rfl)
theorem dX5_findEver_11 : decode cX5_findEver 11 = .ok (.getfield 51, 3) := dk_180 0 51 (dk_at dksX5_findEver_0 11 rfl rfl)
theorem dX5_findEver_14 : decode cX5_findEver 14 = .ok (.iconst 2, 1) := dk_5 (dk_at dksX5_findEver_0 14 rfl rfl)
theorem dX5_findEver_15 : decode cX5_findEver 15 = .ok (.if_icmp .ne 24, 3) := dk_160 0 24 (dk_at dksX5_findEver_0 15 rfl rfl)
theorem dX5_findEver_18 : decode cX5_findEver 18 = .ok (.aload_n 0, 1) := dk_42 (dk_at dksX5_findEver_0 18 rfl rfl)
theorem dX5_findEver_19 : decode cX5_findEver 19 = .ok (.aload_n 0, 1) := dk_42 (dk_at dksX5_findEver_0 19 rfl rfl)
theorem dX5_findEver_20 : decode cX5_findEver 20 = .ok (.aload_n 0, 1) := dk_42 (dk_at dksX5_findEver_0 20 rfl rfl)
theorem dX5_findEver_21 : decode cX5_findEver 21 = .ok (.invokevirtual 92, 3) := dk_182 0 92 (dk_at dksX5_findEver_0 21 rfl rfl)
theorem dX5_findEver_24 : decode cX5_findEver 24 = .ok (.invokevirtual 329, 3) := dk_182 1 73 (dk_at dksX5_findEver_1 0 rfl rfl)
theorem dX5_findEver_27 : decode cX5_findEver 27 = .ok (.putfield 319, 3) := dk_181 1 63 (dk_at dksX5_findEver_1 3 rfl rfl)
theorem dX5_findEver_30 : decode cX5_findEver 30 = .ok (.aload_n 0, 1) := dk_42 (dk_at dksX5_findEver_1 6 rfl rfl)
theorem dX5_findEver_31 : decode cX5_findEver 31 = .ok (.aload_n 0, 1) := dk_42 (dk_at dksX5_findEver_1 7 rfl rfl)
theorem dX5_findEver_32 : decode cX5_findEver 32 = .ok (.getfield 319, 3) := dk_180 1 63 (dk_at dksX5_findEver_1 8 rfl rfl)
theorem dX5_findEver_35 : decode cX5_findEver 35 = .ok (.putfield 322, 3) := dk_181 1 66 (dk_at dksX5_findEver_1 11 rfl rfl)
theorem dX5_findEver_38 : decode cX5_findEver 38 = .ok (.return_, 1) := dk_177 (dk_at dksX5_findEver_1 14 rfl rfl)
theorem dX5_findEver_39 : decode cX5_findEver 39 = .ok (.aload_n 0, 1) := dk_42 (dk_at dksX5_findEver_1 15 rfl rfl)
theorem dX5_findEver_40 : decode cX5_findEver 40 = .ok (.invokevirtual 269, 3) := dk_182 1 13 (dk_at dksX5_findEver_1 16 rfl rfl)
theorem dX5_findEver_43 : decode cX5_findEver 43 = .ok (.aload_n 0, 1) := dk_42 (dk_at dksX5_findEver_1 19 rfl rfl)
theorem dX5_findEver_44 : decode cX5_findEver 44 = .ok (.iconst 0, 1) := dk_3 (dk_at dksX5_findEver_1 20 rfl rfl)
theorem dX5_findEver_45 : decode cX5_findEver 45 = .ok (.bipush 40, 2) := dk_16 40 (dk_at dksX5_findEver_1 21 rfl rfl)
theorem dX5_findEver_47 : decode cX5_findEver 47 = .ok (.newarray .int, 2) := dk_188_10 (dk_at dksX5_findEver_2 0 rfl rfl)
theorem dX5_findEver_49 : decode cX5_findEver 49 = .ok (.iconst 0, 1) := dk_3 (dk_at dksX5_findEver_2 2 rfl rfl)
theorem dX5_findEver_50 : decode cX5_findEver 50 = .ok (.invokevirtual 325, 3) := dk_182 1 69 (dk_at dksX5_findEver_2 3 rfl rfl)
theorem dX5_findEver_53 : decode cX5_findEver 53 = .ok (.return_, 1) := dk_177 (dk_at dksX5_findEver_2 6 rfl rfl)
abbrev cX5_pairsOf : ByteArray := prog_18_method_74_code
def yX5_pairsOf : MethodName := ⟨RX5, "pairsOf", "(I)I"⟩
def dkwX5_pairsOf_3 : List UInt8 := [172]
abbrev dktX5_pairsOf_3 : List UInt8 := dkwX5_pairsOf_3 ++ []
def dkwX5_pairsOf_2 : List UInt8 := [2, 160, 0, 7, 4, 167, 0, 4, 3, 96, 61, 132, 4, 1, 167, 255, 209, 132, 3, 1, 167, 255, 192, 28]
abbrev dktX5_pairsOf_2 : List UInt8 := dkwX5_pairsOf_2 ++ dktX5_pairsOf_3
def dkwX5_pairsOf_1 : List UInt8 := [184, 0, 151, 153, 0, 29, 27, 21, 4, 184, 0, 151, 153, 0, 20, 42, 180, 0, 48, 29, 50, 21, 4, 46]
abbrev dktX5_pairsOf_1 : List UInt8 := dkwX5_pairsOf_1 ++ dktX5_pairsOf_2
def dkwX5_pairsOf_0 : List UInt8 := [3, 61, 3, 62, 29, 42, 180, 0, 85, 162, 0, 62, 3, 54, 4, 21, 4, 29, 162, 0, 47, 28, 27, 29]
abbrev dktX5_pairsOf_0 : List UInt8 := dkwX5_pairsOf_0 ++ dktX5_pairsOf_1
theorem dksX5_pairsOf_0 : cX5_pairsOf.data.toList.drop 0 = dktX5_pairsOf_0 := by decide +kernel
theorem dksX5_pairsOf_1 : cX5_pairsOf.data.toList.drop 24 = dktX5_pairsOf_1 := dk_seg dksX5_pairsOf_0 24 rfl rfl
theorem dksX5_pairsOf_2 : cX5_pairsOf.data.toList.drop 48 = dktX5_pairsOf_2 := dk_seg dksX5_pairsOf_1 24 rfl rfl
theorem dksX5_pairsOf_3 : cX5_pairsOf.data.toList.drop 72 = dktX5_pairsOf_3 := dk_seg dksX5_pairsOf_2 24 rfl rfl
theorem dX5_pairsOf_0 : decode cX5_pairsOf 0 = .ok (.iconst 0, 1) := dk_3 (dk_at dksX5_pairsOf_0 0 rfl rfl)
theorem dX5_pairsOf_1 : decode cX5_pairsOf 1 = .ok (.istore_n 2, 1) := dk_61 (dk_at dksX5_pairsOf_0 1 rfl rfl)
theorem dX5_pairsOf_2 : decode cX5_pairsOf 2 = .ok (.iconst 0, 1) := dk_3 (dk_at dksX5_pairsOf_0 2 rfl rfl)
theorem dX5_pairsOf_3 : decode cX5_pairsOf 3 = .ok (.istore_n 3, 1) := dk_62 (dk_at dksX5_pairsOf_0 3 rfl rfl)
theorem dX5_pairsOf_4 : decode cX5_pairsOf 4 = .ok (.iload_n 3, 1) := dk_29 (dk_at dksX5_pairsOf_0 4 rfl rfl)
theorem dX5_pairsOf_5 : decode cX5_pairsOf 5 = .ok (.aload_n 0, 1) := dk_42 (dk_at dksX5_pairsOf_0 5 rfl rfl)
theorem dX5_pairsOf_6 : decode cX5_pairsOf 6 = .ok (.getfield 85, 3) := dk_180 0 85 (dk_at dksX5_pairsOf_0 6 rfl rfl)
theorem dX5_pairsOf_9 : decode cX5_pairsOf 9 = .ok (.if_icmp .ge 62, 3) := dk_162 0 62 (dk_at dksX5_pairsOf_0 9 rfl rfl)
theorem dX5_pairsOf_12 : decode cX5_pairsOf 12 = .ok (.iconst 0, 1) := dk_3 (dk_at dksX5_pairsOf_0 12 rfl rfl)
theorem dX5_pairsOf_13 : decode cX5_pairsOf 13 = .ok (.istore 4, 2) := dk_54 4 (dk_at dksX5_pairsOf_0 13 rfl rfl)
theorem dX5_pairsOf_15 : decode cX5_pairsOf 15 = .ok (.iload 4, 2) := dk_21 4 (dk_at dksX5_pairsOf_0 15 rfl rfl)
theorem dX5_pairsOf_17 : decode cX5_pairsOf 17 = .ok (.iload_n 3, 1) := dk_29 (dk_at dksX5_pairsOf_0 17 rfl rfl)
theorem dX5_pairsOf_18 : decode cX5_pairsOf 18 = .ok (.if_icmp .ge 47, 3) := dk_162 0 47 (dk_at dksX5_pairsOf_0 18 rfl rfl)
theorem dX5_pairsOf_21 : decode cX5_pairsOf 21 = .ok (.iload_n 2, 1) := dk_28 (dk_at dksX5_pairsOf_0 21 rfl rfl)
theorem dX5_pairsOf_22 : decode cX5_pairsOf 22 = .ok (.iload_n 1, 1) := dk_27 (dk_at dksX5_pairsOf_0 22 rfl rfl)
theorem dX5_pairsOf_23 : decode cX5_pairsOf 23 = .ok (.iload_n 3, 1) := dk_29 (dk_at dksX5_pairsOf_0 23 rfl rfl)
theorem dX5_pairsOf_24 : decode cX5_pairsOf 24 = .ok (.invokestatic 151, 3) := dk_184 0 151 (dk_at dksX5_pairsOf_1 0 rfl rfl)
theorem dX5_pairsOf_27 : decode cX5_pairsOf 27 = .ok (.ifCond .eq 29, 3) := dk_153 0 29 (dk_at dksX5_pairsOf_1 3 rfl rfl)
theorem dX5_pairsOf_30 : decode cX5_pairsOf 30 = .ok (.iload_n 1, 1) := dk_27 (dk_at dksX5_pairsOf_1 6 rfl rfl)
theorem dX5_pairsOf_31 : decode cX5_pairsOf 31 = .ok (.iload 4, 2) := dk_21 4 (dk_at dksX5_pairsOf_1 7 rfl rfl)
theorem dX5_pairsOf_33 : decode cX5_pairsOf 33 = .ok (.invokestatic 151, 3) := dk_184 0 151 (dk_at dksX5_pairsOf_1 9 rfl rfl)
theorem dX5_pairsOf_36 : decode cX5_pairsOf 36 = .ok (.ifCond .eq 20, 3) := dk_153 0 20 (dk_at dksX5_pairsOf_1 12 rfl rfl)
theorem dX5_pairsOf_39 : decode cX5_pairsOf 39 = .ok (.aload_n 0, 1) := dk_42 (dk_at dksX5_pairsOf_1 15 rfl rfl)
theorem dX5_pairsOf_40 : decode cX5_pairsOf 40 = .ok (.getfield 48, 3) := dk_180 0 48 (dk_at dksX5_pairsOf_1 16 rfl rfl)
theorem dX5_pairsOf_43 : decode cX5_pairsOf 43 = .ok (.iload_n 3, 1) := dk_29 (dk_at dksX5_pairsOf_1 19 rfl rfl)
theorem dX5_pairsOf_44 : decode cX5_pairsOf 44 = .ok (.aaload, 1) := dk_50 (dk_at dksX5_pairsOf_1 20 rfl rfl)
theorem dX5_pairsOf_45 : decode cX5_pairsOf 45 = .ok (.iload 4, 2) := dk_21 4 (dk_at dksX5_pairsOf_1 21 rfl rfl)
theorem dX5_pairsOf_47 : decode cX5_pairsOf 47 = .ok (.iaload, 1) := dk_46 (dk_at dksX5_pairsOf_1 23 rfl rfl)
theorem dX5_pairsOf_48 : decode cX5_pairsOf 48 = .ok (.iconst (-1), 1) := dk_2 (dk_at dksX5_pairsOf_2 0 rfl rfl)
theorem dX5_pairsOf_49 : decode cX5_pairsOf 49 = .ok (.if_icmp .ne 7, 3) := dk_160 0 7 (dk_at dksX5_pairsOf_2 1 rfl rfl)
theorem dX5_pairsOf_52 : decode cX5_pairsOf 52 = .ok (.iconst 1, 1) := dk_4 (dk_at dksX5_pairsOf_2 4 rfl rfl)
theorem dX5_pairsOf_53 : decode cX5_pairsOf 53 = .ok (.goto 4, 3) := dk_167 0 4 (dk_at dksX5_pairsOf_2 5 rfl rfl)
theorem dX5_pairsOf_56 : decode cX5_pairsOf 56 = .ok (.iconst 0, 1) := dk_3 (dk_at dksX5_pairsOf_2 8 rfl rfl)
theorem dX5_pairsOf_57 : decode cX5_pairsOf 57 = .ok (.iadd, 1) := dk_96 (dk_at dksX5_pairsOf_2 9 rfl rfl)
theorem dX5_pairsOf_58 : decode cX5_pairsOf 58 = .ok (.istore_n 2, 1) := dk_61 (dk_at dksX5_pairsOf_2 10 rfl rfl)
theorem dX5_pairsOf_59 : decode cX5_pairsOf 59 = .ok (.iinc 4 1, 3) := dk_132 4 1 (dk_at dksX5_pairsOf_2 11 rfl rfl)
theorem dX5_pairsOf_62 : decode cX5_pairsOf 62 = .ok (.goto (-47), 3) := dk_167 255 209 (dk_at dksX5_pairsOf_2 14 rfl rfl)
theorem dX5_pairsOf_65 : decode cX5_pairsOf 65 = .ok (.iinc 3 1, 3) := dk_132 3 1 (dk_at dksX5_pairsOf_2 17 rfl rfl)
theorem dX5_pairsOf_68 : decode cX5_pairsOf 68 = .ok (.goto (-64), 3) := dk_167 255 192 (dk_at dksX5_pairsOf_2 20 rfl rfl)
theorem dX5_pairsOf_71 : decode cX5_pairsOf 71 = .ok (.iload_n 2, 1) := dk_28 (dk_at dksX5_pairsOf_2 23 rfl rfl)
theorem dX5_pairsOf_72 : decode cX5_pairsOf 72 = .ok (.ireturn, 1) := dk_172 (dk_at dksX5_pairsOf_3 0 rfl rfl)
abbrev cX5_seekEver : ByteArray := prog_18_method_75_code
def yX5_seekEver : MethodName := ⟨RX5, "seekEver", "(I[II)V"⟩
def dkwX5_seekEver_6 : List UInt8 := [182, 1, 69, 42, 27, 4, 96, 44, 29, 182, 1, 69, 177]
abbrev dktX5_seekEver_6 : List UInt8 := dkwX5_seekEver_6 ++ []
def dkwX5_seekEver_5 : List UInt8 := [184, 1, 59, 153, 0, 23, 44, 29, 42, 180, 0, 61, 27, 46, 79, 42, 27, 4, 96, 44, 29, 4, 96]
abbrev dktX5_seekEver_5 : List UInt8 := dkwX5_seekEver_5 ++ dktX5_seekEver_6
def dkwX5_seekEver_4 : List UInt8 := [162, 0, 7, 29, 167, 0, 7, 42, 180, 1, 66, 181, 1, 66, 177, 44, 29, 42, 180, 0, 61, 27, 46]
abbrev dktX5_seekEver_4 : List UInt8 := dkwX5_seekEver_4 ++ dktX5_seekEver_5
def dkwX5_seekEver_3 : List UInt8 := [167, 0, 7, 42, 180, 1, 63, 181, 1, 63, 42, 42, 180, 1, 66, 2, 159, 0, 11, 29, 42, 180, 1, 66]
abbrev dktX5_seekEver_3 : List UInt8 := dkwX5_seekEver_3 ++ dktX5_seekEver_4
def dkwX5_seekEver_2 : List UInt8 := [3, 54, 4, 132, 5, 1, 167, 255, 217, 21, 4, 153, 0, 51, 42, 29, 42, 180, 1, 63, 164, 0, 7, 29]
abbrev dktX5_seekEver_2 : List UInt8 := dkwX5_seekEver_2 ++ dktX5_seekEver_3
def dkwX5_seekEver_1 : List UInt8 := [21, 4, 153, 0, 31, 44, 29, 42, 180, 0, 61, 21, 5, 46, 184, 1, 59, 154, 0, 7, 4, 167, 0, 4]
abbrev dktX5_seekEver_1 : List UInt8 := dkwX5_seekEver_1 ++ dktX5_seekEver_2
def dkwX5_seekEver_0 : List UInt8 := [27, 42, 180, 1, 1, 160, 0, 105, 4, 54, 4, 3, 54, 5, 21, 5, 42, 180, 1, 1, 162, 0, 36]
abbrev dktX5_seekEver_0 : List UInt8 := dkwX5_seekEver_0 ++ dktX5_seekEver_1
theorem dksX5_seekEver_0 : cX5_seekEver.data.toList.drop 0 = dktX5_seekEver_0 := by decide +kernel
theorem dksX5_seekEver_1 : cX5_seekEver.data.toList.drop 23 = dktX5_seekEver_1 := dk_seg dksX5_seekEver_0 23 rfl rfl
theorem dksX5_seekEver_2 : cX5_seekEver.data.toList.drop 47 = dktX5_seekEver_2 := dk_seg dksX5_seekEver_1 24 rfl rfl
theorem dksX5_seekEver_3 : cX5_seekEver.data.toList.drop 71 = dktX5_seekEver_3 := dk_seg dksX5_seekEver_2 24 rfl rfl
theorem dksX5_seekEver_4 : cX5_seekEver.data.toList.drop 95 = dktX5_seekEver_4 := dk_seg dksX5_seekEver_3 24 rfl rfl
theorem dksX5_seekEver_5 : cX5_seekEver.data.toList.drop 118 = dktX5_seekEver_5 := dk_seg dksX5_seekEver_4 23 rfl rfl
theorem dksX5_seekEver_6 : cX5_seekEver.data.toList.drop 141 = dktX5_seekEver_6 := dk_seg dksX5_seekEver_5 23 rfl rfl
theorem dX5_seekEver_0 : decode cX5_seekEver 0 = .ok (.iload_n 1, 1) := dk_27 (dk_at dksX5_seekEver_0 0 rfl rfl)
theorem dX5_seekEver_1 : decode cX5_seekEver 1 = .ok (.aload_n 0, 1) := dk_42 (dk_at dksX5_seekEver_0 1 rfl rfl)
theorem dX5_seekEver_2 : decode cX5_seekEver 2 = .ok (.getfield 257, 3) := dk_180 1 1 (dk_at dksX5_seekEver_0 2 rfl rfl)
theorem dX5_seekEver_5 : decode cX5_seekEver 5 = .ok (.if_icmp .ne 105, 3) := dk_160 0 105 (dk_at dksX5_seekEver_0 5 rfl rfl)
theorem dX5_seekEver_8 : decode cX5_seekEver 8 = .ok (.iconst 1, 1) := dk_4 (dk_at dksX5_seekEver_0 8 rfl rfl)
theorem dX5_seekEver_9 : decode cX5_seekEver 9 = .ok (.istore 4, 2) := dk_54 4 (dk_at dksX5_seekEver_0 9 rfl rfl)
theorem dX5_seekEver_11 : decode cX5_seekEver 11 = .ok (.iconst 0, 1) := dk_3 (dk_at dksX5_seekEver_0 11 rfl rfl)
theorem dX5_seekEver_12 : decode cX5_seekEver 12 = .ok (.istore 5, 2) := dk_54 5 (dk_at dksX5_seekEver_0 12 rfl rfl)
theorem dX5_seekEver_14 : decode cX5_seekEver 14 = .ok (.iload 5, 2) := dk_21 5 (dk_at dksX5_seekEver_0 14 rfl rfl)
theorem dX5_seekEver_16 : decode cX5_seekEver 16 = .ok (.aload_n 0, 1) := dk_42 (dk_at dksX5_seekEver_0 16 rfl rfl)
theorem dX5_seekEver_17 : decode cX5_seekEver 17 = .ok (.getfield 257, 3) := dk_180 1 1 (dk_at dksX5_seekEver_0 17 rfl rfl)
theorem dX5_seekEver_20 : decode cX5_seekEver 20 = .ok (.if_icmp .ge 36, 3) := dk_162 0 36 (dk_at dksX5_seekEver_0 20 rfl rfl)
theorem dX5_seekEver_23 : decode cX5_seekEver 23 = .ok (.iload 4, 2) := dk_21 4 (dk_at dksX5_seekEver_1 0 rfl rfl)
theorem dX5_seekEver_25 : decode cX5_seekEver 25 = .ok (.ifCond .eq 31, 3) := dk_153 0 31 (dk_at dksX5_seekEver_1 2 rfl rfl)
theorem dX5_seekEver_28 : decode cX5_seekEver 28 = .ok (.aload_n 2, 1) := dk_44 (dk_at dksX5_seekEver_1 5 rfl rfl)
theorem dX5_seekEver_29 : decode cX5_seekEver 29 = .ok (.iload_n 3, 1) := dk_29 (dk_at dksX5_seekEver_1 6 rfl rfl)
theorem dX5_seekEver_30 : decode cX5_seekEver 30 = .ok (.aload_n 0, 1) := dk_42 (dk_at dksX5_seekEver_1 7 rfl rfl)
theorem dX5_seekEver_31 : decode cX5_seekEver 31 = .ok (.getfield 61, 3) := dk_180 0 61 (dk_at dksX5_seekEver_1 8 rfl rfl)
theorem dX5_seekEver_34 : decode cX5_seekEver 34 = .ok (.iload 5, 2) := dk_21 5 (dk_at dksX5_seekEver_1 11 rfl rfl)
theorem dX5_seekEver_36 : decode cX5_seekEver 36 = .ok (.iaload, 1) := dk_46 (dk_at dksX5_seekEver_1 13 rfl rfl)
theorem dX5_seekEver_37 : decode cX5_seekEver 37 = .ok (.invokestatic 315, 3) := dk_184 1 59 (dk_at dksX5_seekEver_1 14 rfl rfl)
theorem dX5_seekEver_40 : decode cX5_seekEver 40 = .ok (.ifCond .ne 7, 3) := dk_154 0 7 (dk_at dksX5_seekEver_1 17 rfl rfl)
theorem dX5_seekEver_43 : decode cX5_seekEver 43 = .ok (.iconst 1, 1) := dk_4 (dk_at dksX5_seekEver_1 20 rfl rfl)
theorem dX5_seekEver_44 : decode cX5_seekEver 44 = .ok (.goto 4, 3) := dk_167 0 4 (dk_at dksX5_seekEver_1 21 rfl rfl)
theorem dX5_seekEver_47 : decode cX5_seekEver 47 = .ok (.iconst 0, 1) := dk_3 (dk_at dksX5_seekEver_2 0 rfl rfl)
theorem dX5_seekEver_48 : decode cX5_seekEver 48 = .ok (.istore 4, 2) := dk_54 4 (dk_at dksX5_seekEver_2 1 rfl rfl)
theorem dX5_seekEver_50 : decode cX5_seekEver 50 = .ok (.iinc 5 1, 3) := dk_132 5 1 (dk_at dksX5_seekEver_2 3 rfl rfl)
theorem dX5_seekEver_53 : decode cX5_seekEver 53 = .ok (.goto (-39), 3) := dk_167 255 217 (dk_at dksX5_seekEver_2 6 rfl rfl)
theorem dX5_seekEver_56 : decode cX5_seekEver 56 = .ok (.iload 4, 2) := dk_21 4 (dk_at dksX5_seekEver_2 9 rfl rfl)
theorem dX5_seekEver_58 : decode cX5_seekEver 58 = .ok (.ifCond .eq 51, 3) := dk_153 0 51 (dk_at dksX5_seekEver_2 11 rfl rfl)
theorem dX5_seekEver_61 : decode cX5_seekEver 61 = .ok (.aload_n 0, 1) := dk_42 (dk_at dksX5_seekEver_2 14 rfl rfl)
theorem dX5_seekEver_62 : decode cX5_seekEver 62 = .ok (.iload_n 3, 1) := dk_29 (dk_at dksX5_seekEver_2 15 rfl rfl)
theorem dX5_seekEver_63 : decode cX5_seekEver 63 = .ok (.aload_n 0, 1) := dk_42 (dk_at dksX5_seekEver_2 16 rfl rfl)
theorem dX5_seekEver_64 : decode cX5_seekEver 64 = .ok (.getfield 319, 3) := dk_180 1 63 (dk_at dksX5_seekEver_2 17 rfl rfl)
theorem dX5_seekEver_67 : decode cX5_seekEver 67 = .ok (.if_icmp .le 7, 3) := dk_164 0 7 (dk_at dksX5_seekEver_2 20 rfl rfl)
theorem dX5_seekEver_70 : decode cX5_seekEver 70 = .ok (.iload_n 3, 1) := dk_29 (dk_at dksX5_seekEver_2 23 rfl rfl)
theorem dX5_seekEver_71 : decode cX5_seekEver 71 = .ok (.goto 7, 3) := dk_167 0 7 (dk_at dksX5_seekEver_3 0 rfl rfl)
theorem dX5_seekEver_74 : decode cX5_seekEver 74 = .ok (.aload_n 0, 1) := dk_42 (dk_at dksX5_seekEver_3 3 rfl rfl)
theorem dX5_seekEver_75 : decode cX5_seekEver 75 = .ok (.getfield 319, 3) := dk_180 1 63 (dk_at dksX5_seekEver_3 4 rfl rfl)
theorem dX5_seekEver_78 : decode cX5_seekEver 78 = .ok (.putfield 319, 3) := dk_181 1 63 (dk_at dksX5_seekEver_3 7 rfl rfl)
theorem dX5_seekEver_81 : decode cX5_seekEver 81 = .ok (.aload_n 0, 1) := dk_42 (dk_at dksX5_seekEver_3 10 rfl rfl)
theorem dX5_seekEver_82 : decode cX5_seekEver 82 = .ok (.aload_n 0, 1) := dk_42 (dk_at dksX5_seekEver_3 11 rfl rfl)
theorem dX5_seekEver_83 : decode cX5_seekEver 83 = .ok (.getfield 322, 3) := dk_180 1 66 (dk_at dksX5_seekEver_3 12 rfl rfl)
theorem dX5_seekEver_86 : decode cX5_seekEver 86 = .ok (.iconst (-1), 1) := dk_2 (dk_at dksX5_seekEver_3 15 rfl rfl)
theorem dX5_seekEver_87 : decode cX5_seekEver 87 = .ok (.if_icmp .eq 11, 3) := dk_159 0 11 (dk_at dksX5_seekEver_3 16 rfl rfl)
theorem dX5_seekEver_90 : decode cX5_seekEver 90 = .ok (.iload_n 3, 1) := dk_29 (dk_at dksX5_seekEver_3 19 rfl rfl)
theorem dX5_seekEver_91 : decode cX5_seekEver 91 = .ok (.aload_n 0, 1) := dk_42 (dk_at dksX5_seekEver_3 20 rfl rfl)
theorem dX5_seekEver_92 : decode cX5_seekEver 92 = .ok (.getfield 322, 3) := dk_180 1 66 (dk_at dksX5_seekEver_3 21 rfl rfl)
theorem dX5_seekEver_95 : decode cX5_seekEver 95 = .ok (.if_icmp .ge 7, 3) := dk_162 0 7 (dk_at dksX5_seekEver_4 0 rfl rfl)
theorem dX5_seekEver_98 : decode cX5_seekEver 98 = .ok (.iload_n 3, 1) := dk_29 (dk_at dksX5_seekEver_4 3 rfl rfl)
theorem dX5_seekEver_99 : decode cX5_seekEver 99 = .ok (.goto 7, 3) := dk_167 0 7 (dk_at dksX5_seekEver_4 4 rfl rfl)
theorem dX5_seekEver_102 : decode cX5_seekEver 102 = .ok (.aload_n 0, 1) := dk_42 (dk_at dksX5_seekEver_4 7 rfl rfl)
theorem dX5_seekEver_103 : decode cX5_seekEver 103 = .ok (.getfield 322, 3) := dk_180 1 66 (dk_at dksX5_seekEver_4 8 rfl rfl)
theorem dX5_seekEver_106 : decode cX5_seekEver 106 = .ok (.putfield 322, 3) := dk_181 1 66 (dk_at dksX5_seekEver_4 11 rfl rfl)
theorem dX5_seekEver_109 : decode cX5_seekEver 109 = .ok (.return_, 1) := dk_177 (dk_at dksX5_seekEver_4 14 rfl rfl)
theorem dX5_seekEver_110 : decode cX5_seekEver 110 = .ok (.aload_n 2, 1) := dk_44 (dk_at dksX5_seekEver_4 15 rfl rfl)
theorem dX5_seekEver_111 : decode cX5_seekEver 111 = .ok (.iload_n 3, 1) := dk_29 (dk_at dksX5_seekEver_4 16 rfl rfl)
theorem dX5_seekEver_112 : decode cX5_seekEver 112 = .ok (.aload_n 0, 1) := dk_42 (dk_at dksX5_seekEver_4 17 rfl rfl)
theorem dX5_seekEver_113 : decode cX5_seekEver 113 = .ok (.getfield 61, 3) := dk_180 0 61 (dk_at dksX5_seekEver_4 18 rfl rfl)
theorem dX5_seekEver_116 : decode cX5_seekEver 116 = .ok (.iload_n 1, 1) := dk_27 (dk_at dksX5_seekEver_4 21 rfl rfl)
theorem dX5_seekEver_117 : decode cX5_seekEver 117 = .ok (.iaload, 1) := dk_46 (dk_at dksX5_seekEver_4 22 rfl rfl)
theorem dX5_seekEver_118 : decode cX5_seekEver 118 = .ok (.invokestatic 315, 3) := dk_184 1 59 (dk_at dksX5_seekEver_5 0 rfl rfl)
theorem dX5_seekEver_121 : decode cX5_seekEver 121 = .ok (.ifCond .eq 23, 3) := dk_153 0 23 (dk_at dksX5_seekEver_5 3 rfl rfl)
theorem dX5_seekEver_124 : decode cX5_seekEver 124 = .ok (.aload_n 2, 1) := dk_44 (dk_at dksX5_seekEver_5 6 rfl rfl)
theorem dX5_seekEver_125 : decode cX5_seekEver 125 = .ok (.iload_n 3, 1) := dk_29 (dk_at dksX5_seekEver_5 7 rfl rfl)
theorem dX5_seekEver_126 : decode cX5_seekEver 126 = .ok (.aload_n 0, 1) := dk_42 (dk_at dksX5_seekEver_5 8 rfl rfl)
theorem dX5_seekEver_127 : decode cX5_seekEver 127 = .ok (.getfield 61, 3) := dk_180 0 61 (dk_at dksX5_seekEver_5 9 rfl rfl)
theorem dX5_seekEver_130 : decode cX5_seekEver 130 = .ok (.iload_n 1, 1) := dk_27 (dk_at dksX5_seekEver_5 12 rfl rfl)
theorem dX5_seekEver_131 : decode cX5_seekEver 131 = .ok (.iaload, 1) := dk_46 (dk_at dksX5_seekEver_5 13 rfl rfl)
theorem dX5_seekEver_132 : decode cX5_seekEver 132 = .ok (.iastore, 1) := dk_79 (dk_at dksX5_seekEver_5 14 rfl rfl)
theorem dX5_seekEver_133 : decode cX5_seekEver 133 = .ok (.aload_n 0, 1) := dk_42 (dk_at dksX5_seekEver_5 15 rfl rfl)
theorem dX5_seekEver_134 : decode cX5_seekEver 134 = .ok (.iload_n 1, 1) := dk_27 (dk_at dksX5_seekEver_5 16 rfl rfl)
theorem dX5_seekEver_135 : decode cX5_seekEver 135 = .ok (.iconst 1, 1) := dk_4 (dk_at dksX5_seekEver_5 17 rfl rfl)
theorem dX5_seekEver_136 : decode cX5_seekEver 136 = .ok (.iadd, 1) := dk_96 (dk_at dksX5_seekEver_5 18 rfl rfl)
theorem dX5_seekEver_137 : decode cX5_seekEver 137 = .ok (.aload_n 2, 1) := dk_44 (dk_at dksX5_seekEver_5 19 rfl rfl)
theorem dX5_seekEver_138 : decode cX5_seekEver 138 = .ok (.iload_n 3, 1) := dk_29 (dk_at dksX5_seekEver_5 20 rfl rfl)
theorem dX5_seekEver_139 : decode cX5_seekEver 139 = .ok (.iconst 1, 1) := dk_4 (dk_at dksX5_seekEver_5 21 rfl rfl)
theorem dX5_seekEver_140 : decode cX5_seekEver 140 = .ok (.iadd, 1) := dk_96 (dk_at dksX5_seekEver_5 22 rfl rfl)
theorem dX5_seekEver_141 : decode cX5_seekEver 141 = .ok (.invokevirtual 325, 3) := dk_182 1 69 (dk_at dksX5_seekEver_6 0 rfl rfl)
theorem dX5_seekEver_144 : decode cX5_seekEver 144 = .ok (.aload_n 0, 1) := dk_42 (dk_at dksX5_seekEver_6 3 rfl rfl)
theorem dX5_seekEver_145 : decode cX5_seekEver 145 = .ok (.iload_n 1, 1) := dk_27 (dk_at dksX5_seekEver_6 4 rfl rfl)
theorem dX5_seekEver_146 : decode cX5_seekEver 146 = .ok (.iconst 1, 1) := dk_4 (dk_at dksX5_seekEver_6 5 rfl rfl)
theorem dX5_seekEver_147 : decode cX5_seekEver 147 = .ok (.iadd, 1) := dk_96 (dk_at dksX5_seekEver_6 6 rfl rfl)
theorem dX5_seekEver_148 : decode cX5_seekEver 148 = .ok (.aload_n 2, 1) := dk_44 (dk_at dksX5_seekEver_6 7 rfl rfl)
theorem dX5_seekEver_149 : decode cX5_seekEver 149 = .ok (.iload_n 3, 1) := dk_29 (dk_at dksX5_seekEver_6 8 rfl rfl)
theorem dX5_seekEver_150 : decode cX5_seekEver 150 = .ok (.invokevirtual 325, 3) := dk_182 1 69 (dk_at dksX5_seekEver_6 9 rfl rfl)
theorem dX5_seekEver_153 : decode cX5_seekEver 153 = .ok (.return_, 1) := dk_177 (dk_at dksX5_seekEver_6 12 rfl rfl)
abbrev cX5_isApart : ByteArray := prog_18_method_76_code
def yX5_isApart : MethodName := ⟨RX5, "isApart", "([III)Z"⟩
def dkwX5_isApart_1 : List UInt8 := [167, 255, 234, 4, 172]
abbrev dktX5_isApart_1 : List UInt8 := dkwX5_isApart_1 ++ []
def dkwX5_isApart_0 : List UInt8 := [3, 62, 29, 27, 162, 0, 23, 42, 29, 46, 28, 126, 184, 0, 254, 4, 164, 0, 5, 3, 172, 132, 3, 1]
abbrev dktX5_isApart_0 : List UInt8 := dkwX5_isApart_0 ++ dktX5_isApart_1
theorem dksX5_isApart_0 : cX5_isApart.data.toList.drop 0 = dktX5_isApart_0 := by decide +kernel
theorem dksX5_isApart_1 : cX5_isApart.data.toList.drop 24 = dktX5_isApart_1 := dk_seg dksX5_isApart_0 24 rfl rfl
theorem dX5_isApart_0 : decode cX5_isApart 0 = .ok (.iconst 0, 1) := dk_3 (dk_at dksX5_isApart_0 0 rfl rfl)
theorem dX5_isApart_1 : decode cX5_isApart 1 = .ok (.istore_n 3, 1) := dk_62 (dk_at dksX5_isApart_0 1 rfl rfl)
theorem dX5_isApart_2 : decode cX5_isApart 2 = .ok (.iload_n 3, 1) := dk_29 (dk_at dksX5_isApart_0 2 rfl rfl)
theorem dX5_isApart_3 : decode cX5_isApart 3 = .ok (.iload_n 1, 1) := dk_27 (dk_at dksX5_isApart_0 3 rfl rfl)
theorem dX5_isApart_4 : decode cX5_isApart 4 = .ok (.if_icmp .ge 23, 3) := dk_162 0 23 (dk_at dksX5_isApart_0 4 rfl rfl)
theorem dX5_isApart_7 : decode cX5_isApart 7 = .ok (.aload_n 0, 1) := dk_42 (dk_at dksX5_isApart_0 7 rfl rfl)
theorem dX5_isApart_8 : decode cX5_isApart 8 = .ok (.iload_n 3, 1) := dk_29 (dk_at dksX5_isApart_0 8 rfl rfl)
theorem dX5_isApart_9 : decode cX5_isApart 9 = .ok (.iaload, 1) := dk_46 (dk_at dksX5_isApart_0 9 rfl rfl)
theorem dX5_isApart_10 : decode cX5_isApart 10 = .ok (.iload_n 2, 1) := dk_28 (dk_at dksX5_isApart_0 10 rfl rfl)
theorem dX5_isApart_11 : decode cX5_isApart 11 = .ok (.iand, 1) := dk_126 (dk_at dksX5_isApart_0 11 rfl rfl)
theorem dX5_isApart_12 : decode cX5_isApart 12 = .ok (.invokestatic 254, 3) := dk_184 0 254 (dk_at dksX5_isApart_0 12 rfl rfl)
theorem dX5_isApart_15 : decode cX5_isApart 15 = .ok (.iconst 1, 1) := dk_4 (dk_at dksX5_isApart_0 15 rfl rfl)
theorem dX5_isApart_16 : decode cX5_isApart 16 = .ok (.if_icmp .le 5, 3) := dk_164 0 5 (dk_at dksX5_isApart_0 16 rfl rfl)
theorem dX5_isApart_19 : decode cX5_isApart 19 = .ok (.iconst 0, 1) := dk_3 (dk_at dksX5_isApart_0 19 rfl rfl)
theorem dX5_isApart_20 : decode cX5_isApart 20 = .ok (.ireturn, 1) := dk_172 (dk_at dksX5_isApart_0 20 rfl rfl)
theorem dX5_isApart_21 : decode cX5_isApart 21 = .ok (.iinc 3 1, 3) := dk_132 3 1 (dk_at dksX5_isApart_0 21 rfl rfl)
theorem dX5_isApart_24 : decode cX5_isApart 24 = .ok (.goto (-22), 3) := dk_167 255 234 (dk_at dksX5_isApart_1 0 rfl rfl)
theorem dX5_isApart_27 : decode cX5_isApart 27 = .ok (.iconst 1, 1) := dk_4 (dk_at dksX5_isApart_1 3 rfl rfl)
theorem dX5_isApart_28 : decode cX5_isApart 28 = .ok (.ireturn, 1) := dk_172 (dk_at dksX5_isApart_1 4 rfl rfl)
abbrev cX5_hire : ByteArray := prog_18_method_79_code
def yX5_hire : MethodName := ⟨RX5, "hire", "()I"⟩
def dkwX5_hire_1 : List UInt8 := [44, 182, 1, 13, 44, 44, 182, 0, 92, 182, 1, 22, 27, 100, 172]
abbrev dktX5_hire_1 : List UInt8 := dkwX5_hire_1 ++ []
def dkwX5_hire_0 : List UInt8 := [42, 182, 1, 13, 42, 42, 182, 0, 92, 182, 1, 22, 60, 42, 182, 0, 238, 77, 44, 3, 3, 182, 0, 127]
abbrev dktX5_hire_0 : List UInt8 := dkwX5_hire_0 ++ dktX5_hire_1
theorem dksX5_hire_0 : cX5_hire.data.toList.drop 0 = dktX5_hire_0 := by decide +kernel
theorem dksX5_hire_1 : cX5_hire.data.toList.drop 24 = dktX5_hire_1 := dk_seg dksX5_hire_0 24 rfl rfl
theorem dX5_hire_0 : decode cX5_hire 0 = .ok (.aload_n 0, 1) := dk_42 (dk_at dksX5_hire_0 0 rfl rfl)
theorem dX5_hire_1 : decode cX5_hire 1 = .ok (.invokevirtual 269, 3) := dk_182 1 13 (dk_at dksX5_hire_0 1 rfl rfl)
theorem dX5_hire_4 : decode cX5_hire 4 = .ok (.aload_n 0, 1) := dk_42 (dk_at dksX5_hire_0 4 rfl rfl)
theorem dX5_hire_5 : decode cX5_hire 5 = .ok (.aload_n 0, 1) := dk_42 (dk_at dksX5_hire_0 5 rfl rfl)
theorem dX5_hire_6 : decode cX5_hire 6 = .ok (.invokevirtual 92, 3) := dk_182 0 92 (dk_at dksX5_hire_0 6 rfl rfl)
theorem dX5_hire_9 : decode cX5_hire 9 = .ok (.invokevirtual 278, 3) := dk_182 1 22 (dk_at dksX5_hire_0 9 rfl rfl)
theorem dX5_hire_12 : decode cX5_hire 12 = .ok (.istore_n 1, 1) := dk_60 (dk_at dksX5_hire_0 12 rfl rfl)
theorem dX5_hire_13 : decode cX5_hire 13 = .ok (.aload_n 0, 1) := dk_42 (dk_at dksX5_hire_0 13 rfl rfl)
theorem dX5_hire_14 : decode cX5_hire 14 = .ok (.invokevirtual 238, 3) := dk_182 0 238 (dk_at dksX5_hire_0 14 rfl rfl)
theorem dX5_hire_17 : decode cX5_hire 17 = .ok (.astore_n 2, 1) := dk_77 (dk_at dksX5_hire_0 17 rfl rfl)
theorem dX5_hire_18 : decode cX5_hire 18 = .ok (.aload_n 2, 1) := dk_44 (dk_at dksX5_hire_0 18 rfl rfl)
theorem dX5_hire_19 : decode cX5_hire 19 = .ok (.iconst 0, 1) := dk_3 (dk_at dksX5_hire_0 19 rfl rfl)
theorem dX5_hire_20 : decode cX5_hire 20 = .ok (.iconst 0, 1) := dk_3 (dk_at dksX5_hire_0 20 rfl rfl)
theorem dX5_hire_21 : decode cX5_hire 21 = .ok (.invokevirtual 127, 3) := dk_182 0 127 (dk_at dksX5_hire_0 21 rfl rfl)
theorem dX5_hire_24 : decode cX5_hire 24 = .ok (.aload_n 2, 1) := dk_44 (dk_at dksX5_hire_1 0 rfl rfl)
theorem dX5_hire_25 : decode cX5_hire 25 = .ok (.invokevirtual 269, 3) := dk_182 1 13 (dk_at dksX5_hire_1 1 rfl rfl)
theorem dX5_hire_28 : decode cX5_hire 28 = .ok (.aload_n 2, 1) := dk_44 (dk_at dksX5_hire_1 4 rfl rfl)
theorem dX5_hire_29 : decode cX5_hire 29 = .ok (.aload_n 2, 1) := dk_44 (dk_at dksX5_hire_1 5 rfl rfl)
theorem dX5_hire_30 : decode cX5_hire 30 = .ok (.invokevirtual 92, 3) := dk_182 0 92 (dk_at dksX5_hire_1 6 rfl rfl)
theorem dX5_hire_33 : decode cX5_hire 33 = .ok (.invokevirtual 278, 3) := dk_182 1 22 (dk_at dksX5_hire_1 9 rfl rfl)
theorem dX5_hire_36 : decode cX5_hire 36 = .ok (.iload_n 1, 1) := dk_27 (dk_at dksX5_hire_1 12 rfl rfl)
theorem dX5_hire_37 : decode cX5_hire 37 = .ok (.isub, 1) := dk_100 (dk_at dksX5_hire_1 13 rfl rfl)
theorem dX5_hire_38 : decode cX5_hire 38 = .ok (.ireturn, 1) := dk_172 (dk_at dksX5_hire_1 14 rfl rfl)
abbrev cX5_feast : ByteArray := prog_18_method_80_code
def yX5_feast : MethodName := ⟨RX5, "feast", "(I)I"⟩
def dkwX5_feast_1 : List UInt8 := [44, 27, 182, 0, 213, 87, 44, 182, 1, 76, 42, 180, 1, 63, 44, 180, 1, 63, 100, 172]
abbrev dktX5_feast_1 : List UInt8 := dkwX5_feast_1 ++ []
def dkwX5_feast_0 : List UInt8 := [42, 27, 182, 1, 7, 154, 0, 10, 42, 16, 254, 182, 0, 102, 172, 42, 182, 1, 76, 42, 182, 0, 238, 77]
abbrev dktX5_feast_0 : List UInt8 := dkwX5_feast_0 ++ dktX5_feast_1
theorem dksX5_feast_0 : cX5_feast.data.toList.drop 0 = dktX5_feast_0 := by decide +kernel
theorem dksX5_feast_1 : cX5_feast.data.toList.drop 24 = dktX5_feast_1 := dk_seg dksX5_feast_0 24 rfl rfl
theorem dX5_feast_0 : decode cX5_feast 0 = .ok (.aload_n 0, 1) := dk_42 (dk_at dksX5_feast_0 0 rfl rfl)
theorem dX5_feast_1 : decode cX5_feast 1 = .ok (.iload_n 1, 1) := dk_27 (dk_at dksX5_feast_0 1 rfl rfl)
theorem dX5_feast_2 : decode cX5_feast 2 = .ok (.invokevirtual 263, 3) := dk_182 1 7 (dk_at dksX5_feast_0 2 rfl rfl)
theorem dX5_feast_5 : decode cX5_feast 5 = .ok (.ifCond .ne 10, 3) := dk_154 0 10 (dk_at dksX5_feast_0 5 rfl rfl)
theorem dX5_feast_8 : decode cX5_feast 8 = .ok (.aload_n 0, 1) := dk_42 (dk_at dksX5_feast_0 8 rfl rfl)
theorem dX5_feast_9 : decode cX5_feast 9 = .ok (.bipush (-2), 2) := dk_16 254 (dk_at dksX5_feast_0 9 rfl rfl)
theorem dX5_feast_11 : decode cX5_feast 11 = .ok (.invokevirtual 102, 3) := dk_182 0 102 (dk_at dksX5_feast_0 11 rfl rfl)
theorem dX5_feast_14 : decode cX5_feast 14 = .ok (.ireturn, 1) := dk_172 (dk_at dksX5_feast_0 14 rfl rfl)
theorem dX5_feast_15 : decode cX5_feast 15 = .ok (.aload_n 0, 1) := dk_42 (dk_at dksX5_feast_0 15 rfl rfl)
theorem dX5_feast_16 : decode cX5_feast 16 = .ok (.invokevirtual 332, 3) := dk_182 1 76 (dk_at dksX5_feast_0 16 rfl rfl)
theorem dX5_feast_19 : decode cX5_feast 19 = .ok (.aload_n 0, 1) := dk_42 (dk_at dksX5_feast_0 19 rfl rfl)
theorem dX5_feast_20 : decode cX5_feast 20 = .ok (.invokevirtual 238, 3) := dk_182 0 238 (dk_at dksX5_feast_0 20 rfl rfl)
theorem dX5_feast_23 : decode cX5_feast 23 = .ok (.astore_n 2, 1) := dk_77 (dk_at dksX5_feast_0 23 rfl rfl)
theorem dX5_feast_24 : decode cX5_feast 24 = .ok (.aload_n 2, 1) := dk_44 (dk_at dksX5_feast_1 0 rfl rfl)
theorem dX5_feast_25 : decode cX5_feast 25 = .ok (.iload_n 1, 1) := dk_27 (dk_at dksX5_feast_1 1 rfl rfl)
theorem dX5_feast_26 : decode cX5_feast 26 = .ok (.invokevirtual 213, 3) := dk_182 0 213 (dk_at dksX5_feast_1 2 rfl rfl)
theorem dX5_feast_29 : decode cX5_feast 29 = .ok (.pop, 1) := dk_87 (dk_at dksX5_feast_1 5 rfl rfl)
theorem dX5_feast_30 : decode cX5_feast 30 = .ok (.aload_n 2, 1) := dk_44 (dk_at dksX5_feast_1 6 rfl rfl)
theorem dX5_feast_31 : decode cX5_feast 31 = .ok (.invokevirtual 332, 3) := dk_182 1 76 (dk_at dksX5_feast_1 7 rfl rfl)
theorem dX5_feast_34 : decode cX5_feast 34 = .ok (.aload_n 0, 1) := dk_42 (dk_at dksX5_feast_1 10 rfl rfl)
theorem dX5_feast_35 : decode cX5_feast 35 = .ok (.getfield 319, 3) := dk_180 1 63 (dk_at dksX5_feast_1 11 rfl rfl)
theorem dX5_feast_38 : decode cX5_feast 38 = .ok (.aload_n 2, 1) := dk_44 (dk_at dksX5_feast_1 14 rfl rfl)
theorem dX5_feast_39 : decode cX5_feast 39 = .ok (.getfield 319, 3) := dk_180 1 63 (dk_at dksX5_feast_1 15 rfl rfl)
theorem dX5_feast_42 : decode cX5_feast 42 = .ok (.isub, 1) := dk_100 (dk_at dksX5_feast_1 18 rfl rfl)
theorem dX5_feast_43 : decode cX5_feast 43 = .ok (.ireturn, 1) := dk_172 (dk_at dksX5_feast_1 19 rfl rfl)
abbrev cX5_closes : ByteArray := prog_18_method_82_code
def yX5_closes : MethodName := ⟨RX5, "closes", "(II)I"⟩
def dkwX5_closes_1 : List UInt8 := [172]
abbrev dktX5_closes_1 : List UInt8 := dkwX5_closes_1 ++ []
def dkwX5_closes_0 : List UInt8 := [42, 27, 28, 182, 0, 135, 153, 0, 12, 42, 27, 28, 182, 1, 79, 167, 0, 9, 42, 16, 254, 182, 0, 102]
abbrev dktX5_closes_0 : List UInt8 := dkwX5_closes_0 ++ dktX5_closes_1
theorem dksX5_closes_0 : cX5_closes.data.toList.drop 0 = dktX5_closes_0 := by decide +kernel
theorem dksX5_closes_1 : cX5_closes.data.toList.drop 24 = dktX5_closes_1 := dk_seg dksX5_closes_0 24 rfl rfl
theorem dX5_closes_0 : decode cX5_closes 0 = .ok (.aload_n 0, 1) := dk_42 (dk_at dksX5_closes_0 0 rfl rfl)
theorem dX5_closes_1 : decode cX5_closes 1 = .ok (.iload_n 1, 1) := dk_27 (dk_at dksX5_closes_0 1 rfl rfl)
theorem dX5_closes_2 : decode cX5_closes 2 = .ok (.iload_n 2, 1) := dk_28 (dk_at dksX5_closes_0 2 rfl rfl)
theorem dX5_closes_3 : decode cX5_closes 3 = .ok (.invokevirtual 135, 3) := dk_182 0 135 (dk_at dksX5_closes_0 3 rfl rfl)
theorem dX5_closes_6 : decode cX5_closes 6 = .ok (.ifCond .eq 12, 3) := dk_153 0 12 (dk_at dksX5_closes_0 6 rfl rfl)
theorem dX5_closes_9 : decode cX5_closes 9 = .ok (.aload_n 0, 1) := dk_42 (dk_at dksX5_closes_0 9 rfl rfl)
theorem dX5_closes_10 : decode cX5_closes 10 = .ok (.iload_n 1, 1) := dk_27 (dk_at dksX5_closes_0 10 rfl rfl)
theorem dX5_closes_11 : decode cX5_closes 11 = .ok (.iload_n 2, 1) := dk_28 (dk_at dksX5_closes_0 11 rfl rfl)
theorem dX5_closes_12 : decode cX5_closes 12 = .ok (.invokevirtual 335, 3) := dk_182 1 79 (dk_at dksX5_closes_0 12 rfl rfl)
theorem dX5_closes_15 : decode cX5_closes 15 = .ok (.goto 9, 3) := dk_167 0 9 (dk_at dksX5_closes_0 15 rfl rfl)
theorem dX5_closes_18 : decode cX5_closes 18 = .ok (.aload_n 0, 1) := dk_42 (dk_at dksX5_closes_0 18 rfl rfl)
theorem dX5_closes_19 : decode cX5_closes 19 = .ok (.bipush (-2), 2) := dk_16 254 (dk_at dksX5_closes_0 19 rfl rfl)
theorem dX5_closes_21 : decode cX5_closes 21 = .ok (.invokevirtual 102, 3) := dk_182 0 102 (dk_at dksX5_closes_0 21 rfl rfl)
theorem dX5_closes_24 : decode cX5_closes 24 = .ok (.ireturn, 1) := dk_172 (dk_at dksX5_closes_1 0 rfl rfl)
abbrev cX5_closesOf : ByteArray := prog_18_method_81_code
def yX5_closesOf : MethodName := ⟨RX5, "closesOf", "(II)I"⟩
def dkwX5_closesOf_1 : List UInt8 := [182, 0, 92, 182, 1, 16, 100, 172]
abbrev dktX5_closesOf_1 : List UInt8 := dkwX5_closesOf_1 ++ []
def dkwX5_closesOf_0 : List UInt8 := [42, 182, 0, 238, 78, 45, 27, 28, 3, 182, 0, 142, 42, 42, 182, 0, 92, 182, 1, 16, 45, 42]
abbrev dktX5_closesOf_0 : List UInt8 := dkwX5_closesOf_0 ++ dktX5_closesOf_1
theorem dksX5_closesOf_0 : cX5_closesOf.data.toList.drop 0 = dktX5_closesOf_0 := by decide +kernel
theorem dksX5_closesOf_1 : cX5_closesOf.data.toList.drop 22 = dktX5_closesOf_1 := dk_seg dksX5_closesOf_0 22 rfl rfl
theorem dX5_closesOf_0 : decode cX5_closesOf 0 = .ok (.aload_n 0, 1) := dk_42 (dk_at dksX5_closesOf_0 0 rfl rfl)
theorem dX5_closesOf_1 : decode cX5_closesOf 1 = .ok (.invokevirtual 238, 3) := dk_182 0 238 (dk_at dksX5_closesOf_0 1 rfl rfl)
theorem dX5_closesOf_4 : decode cX5_closesOf 4 = .ok (.astore_n 3, 1) := dk_78 (dk_at dksX5_closesOf_0 4 rfl rfl)
theorem dX5_closesOf_5 : decode cX5_closesOf 5 = .ok (.aload_n 3, 1) := dk_45 (dk_at dksX5_closesOf_0 5 rfl rfl)
theorem dX5_closesOf_6 : decode cX5_closesOf 6 = .ok (.iload_n 1, 1) := dk_27 (dk_at dksX5_closesOf_0 6 rfl rfl)
theorem dX5_closesOf_7 : decode cX5_closesOf 7 = .ok (.iload_n 2, 1) := dk_28 (dk_at dksX5_closesOf_0 7 rfl rfl)
theorem dX5_closesOf_8 : decode cX5_closesOf 8 = .ok (.iconst 0, 1) := dk_3 (dk_at dksX5_closesOf_0 8 rfl rfl)
theorem dX5_closesOf_9 : decode cX5_closesOf 9 = .ok (.invokevirtual 142, 3) := dk_182 0 142 (dk_at dksX5_closesOf_0 9 rfl rfl)
theorem dX5_closesOf_12 : decode cX5_closesOf 12 = .ok (.aload_n 0, 1) := dk_42 (dk_at dksX5_closesOf_0 12 rfl rfl)
theorem dX5_closesOf_13 : decode cX5_closesOf 13 = .ok (.aload_n 0, 1) := dk_42 (dk_at dksX5_closesOf_0 13 rfl rfl)
theorem dX5_closesOf_14 : decode cX5_closesOf 14 = .ok (.invokevirtual 92, 3) := dk_182 0 92 (dk_at dksX5_closesOf_0 14 rfl rfl)
theorem dX5_closesOf_17 : decode cX5_closesOf 17 = .ok (.invokevirtual 272, 3) := dk_182 1 16 (dk_at dksX5_closesOf_0 17 rfl rfl)
theorem dX5_closesOf_20 : decode cX5_closesOf 20 = .ok (.aload_n 3, 1) := dk_45 (dk_at dksX5_closesOf_0 20 rfl rfl)
theorem dX5_closesOf_21 : decode cX5_closesOf 21 = .ok (.aload_n 0, 1) := dk_42 (dk_at dksX5_closesOf_0 21 rfl rfl)
theorem dX5_closesOf_22 : decode cX5_closesOf 22 = .ok (.invokevirtual 92, 3) := dk_182 0 92 (dk_at dksX5_closesOf_1 0 rfl rfl)
theorem dX5_closesOf_25 : decode cX5_closesOf 25 = .ok (.invokevirtual 272, 3) := dk_182 1 16 (dk_at dksX5_closesOf_1 3 rfl rfl)
theorem dX5_closesOf_28 : decode cX5_closesOf 28 = .ok (.isub, 1) := dk_100 (dk_at dksX5_closesOf_1 6 rfl rfl)
theorem dX5_closesOf_29 : decode cX5_closesOf 29 = .ok (.ireturn, 1) := dk_172 (dk_at dksX5_closesOf_1 7 rfl rfl)
abbrev cX5_worst : ByteArray := prog_18_method_83_code
def yX5_worst : MethodName := ⟨RX5, "worst", "()I"⟩
def dkwX5_worst_4 : List UInt8 := [167, 0, 4, 27, 172]
abbrev dktX5_worst_4 : List UInt8 := dkwX5_worst_4 ++ []
def dkwX5_worst_3 : List UInt8 := [132, 4, 1, 167, 255, 205, 132, 3, 1, 167, 255, 186, 27, 2, 160, 0, 12, 42, 16, 251, 182, 0, 102]
abbrev dktX5_worst_3 : List UInt8 := dkwX5_worst_3 ++ dktX5_worst_4
def dkwX5_worst_2 : List UInt8 := [182, 1, 79, 54, 5, 21, 5, 28, 164, 0, 14, 16, 10, 29, 104, 21, 4, 96, 60, 21, 5, 61]
abbrev dktX5_worst_2 : List UInt8 := dkwX5_worst_2 ++ dktX5_worst_3
def dkwX5_worst_1 : List UInt8 := [180, 0, 85, 162, 0, 48, 42, 180, 0, 48, 29, 50, 21, 4, 46, 2, 160, 0, 29, 42, 29, 21, 4]
abbrev dktX5_worst_1 : List UInt8 := dkwX5_worst_1 ++ dktX5_worst_2
def dkwX5_worst_0 : List UInt8 := [2, 60, 2, 61, 3, 62, 29, 42, 180, 0, 85, 162, 0, 68, 29, 4, 96, 54, 4, 21, 4, 42]
abbrev dktX5_worst_0 : List UInt8 := dkwX5_worst_0 ++ dktX5_worst_1
theorem dksX5_worst_0 : cX5_worst.data.toList.drop 0 = dktX5_worst_0 := by decide +kernel
theorem dksX5_worst_1 : cX5_worst.data.toList.drop 22 = dktX5_worst_1 := dk_seg dksX5_worst_0 22 rfl rfl
theorem dksX5_worst_2 : cX5_worst.data.toList.drop 45 = dktX5_worst_2 := dk_seg dksX5_worst_1 23 rfl rfl
theorem dksX5_worst_3 : cX5_worst.data.toList.drop 67 = dktX5_worst_3 := dk_seg dksX5_worst_2 22 rfl rfl
theorem dksX5_worst_4 : cX5_worst.data.toList.drop 90 = dktX5_worst_4 := dk_seg dksX5_worst_3 23 rfl rfl
theorem dX5_worst_0 : decode cX5_worst 0 = .ok (.iconst (-1), 1) := dk_2 (dk_at dksX5_worst_0 0 rfl rfl)
theorem dX5_worst_1 : decode cX5_worst 1 = .ok (.istore_n 1, 1) := dk_60 (dk_at dksX5_worst_0 1 rfl rfl)
theorem dX5_worst_2 : decode cX5_worst 2 = .ok (.iconst (-1), 1) := dk_2 (dk_at dksX5_worst_0 2 rfl rfl)
theorem dX5_worst_3 : decode cX5_worst 3 = .ok (.istore_n 2, 1) := dk_61 (dk_at dksX5_worst_0 3 rfl rfl)
theorem dX5_worst_4 : decode cX5_worst 4 = .ok (.iconst 0, 1) := dk_3 (dk_at dksX5_worst_0 4 rfl rfl)
theorem dX5_worst_5 : decode cX5_worst 5 = .ok (.istore_n 3, 1) := dk_62 (dk_at dksX5_worst_0 5 rfl rfl)
theorem dX5_worst_6 : decode cX5_worst 6 = .ok (.iload_n 3, 1) := dk_29 (dk_at dksX5_worst_0 6 rfl rfl)
theorem dX5_worst_7 : decode cX5_worst 7 = .ok (.aload_n 0, 1) := dk_42 (dk_at dksX5_worst_0 7 rfl rfl)
theorem dX5_worst_8 : decode cX5_worst 8 = .ok (.getfield 85, 3) := dk_180 0 85 (dk_at dksX5_worst_0 8 rfl rfl)
theorem dX5_worst_11 : decode cX5_worst 11 = .ok (.if_icmp .ge 68, 3) := dk_162 0 68 (dk_at dksX5_worst_0 11 rfl rfl)
theorem dX5_worst_14 : decode cX5_worst 14 = .ok (.iload_n 3, 1) := dk_29 (dk_at dksX5_worst_0 14 rfl rfl)
theorem dX5_worst_15 : decode cX5_worst 15 = .ok (.iconst 1, 1) := dk_4 (dk_at dksX5_worst_0 15 rfl rfl)
theorem dX5_worst_16 : decode cX5_worst 16 = .ok (.iadd, 1) := dk_96 (dk_at dksX5_worst_0 16 rfl rfl)
theorem dX5_worst_17 : decode cX5_worst 17 = .ok (.istore 4, 2) := dk_54 4 (dk_at dksX5_worst_0 17 rfl rfl)
theorem dX5_worst_19 : decode cX5_worst 19 = .ok (.iload 4, 2) := dk_21 4 (dk_at dksX5_worst_0 19 rfl rfl)
theorem dX5_worst_21 : decode cX5_worst 21 = .ok (.aload_n 0, 1) := dk_42 (dk_at dksX5_worst_0 21 rfl rfl)
theorem dX5_worst_22 : decode cX5_worst 22 = .ok (.getfield 85, 3) := dk_180 0 85 (dk_at dksX5_worst_1 0 rfl rfl)
theorem dX5_worst_25 : decode cX5_worst 25 = .ok (.if_icmp .ge 48, 3) := dk_162 0 48 (dk_at dksX5_worst_1 3 rfl rfl)
theorem dX5_worst_28 : decode cX5_worst 28 = .ok (.aload_n 0, 1) := dk_42 (dk_at dksX5_worst_1 6 rfl rfl)
theorem dX5_worst_29 : decode cX5_worst 29 = .ok (.getfield 48, 3) := dk_180 0 48 (dk_at dksX5_worst_1 7 rfl rfl)
theorem dX5_worst_32 : decode cX5_worst 32 = .ok (.iload_n 3, 1) := dk_29 (dk_at dksX5_worst_1 10 rfl rfl)
theorem dX5_worst_33 : decode cX5_worst 33 = .ok (.aaload, 1) := dk_50 (dk_at dksX5_worst_1 11 rfl rfl)
theorem dX5_worst_34 : decode cX5_worst 34 = .ok (.iload 4, 2) := dk_21 4 (dk_at dksX5_worst_1 12 rfl rfl)
theorem dX5_worst_36 : decode cX5_worst 36 = .ok (.iaload, 1) := dk_46 (dk_at dksX5_worst_1 14 rfl rfl)
theorem dX5_worst_37 : decode cX5_worst 37 = .ok (.iconst (-1), 1) := dk_2 (dk_at dksX5_worst_1 15 rfl rfl)
theorem dX5_worst_38 : decode cX5_worst 38 = .ok (.if_icmp .ne 29, 3) := dk_160 0 29 (dk_at dksX5_worst_1 16 rfl rfl)
theorem dX5_worst_41 : decode cX5_worst 41 = .ok (.aload_n 0, 1) := dk_42 (dk_at dksX5_worst_1 19 rfl rfl)
theorem dX5_worst_42 : decode cX5_worst 42 = .ok (.iload_n 3, 1) := dk_29 (dk_at dksX5_worst_1 20 rfl rfl)
theorem dX5_worst_43 : decode cX5_worst 43 = .ok (.iload 4, 2) := dk_21 4 (dk_at dksX5_worst_1 21 rfl rfl)
theorem dX5_worst_45 : decode cX5_worst 45 = .ok (.invokevirtual 335, 3) := dk_182 1 79 (dk_at dksX5_worst_2 0 rfl rfl)
theorem dX5_worst_48 : decode cX5_worst 48 = .ok (.istore 5, 2) := dk_54 5 (dk_at dksX5_worst_2 3 rfl rfl)
theorem dX5_worst_50 : decode cX5_worst 50 = .ok (.iload 5, 2) := dk_21 5 (dk_at dksX5_worst_2 5 rfl rfl)
theorem dX5_worst_52 : decode cX5_worst 52 = .ok (.iload_n 2, 1) := dk_28 (dk_at dksX5_worst_2 7 rfl rfl)
theorem dX5_worst_53 : decode cX5_worst 53 = .ok (.if_icmp .le 14, 3) := dk_164 0 14 (dk_at dksX5_worst_2 8 rfl rfl)
theorem dX5_worst_56 : decode cX5_worst 56 = .ok (.bipush 10, 2) := dk_16 10 (dk_at dksX5_worst_2 11 rfl rfl)
theorem dX5_worst_58 : decode cX5_worst 58 = .ok (.iload_n 3, 1) := dk_29 (dk_at dksX5_worst_2 13 rfl rfl)
theorem dX5_worst_59 : decode cX5_worst 59 = .ok (.imul, 1) := dk_104 (dk_at dksX5_worst_2 14 rfl rfl)
theorem dX5_worst_60 : decode cX5_worst 60 = .ok (.iload 4, 2) := dk_21 4 (dk_at dksX5_worst_2 15 rfl rfl)
theorem dX5_worst_62 : decode cX5_worst 62 = .ok (.iadd, 1) := dk_96 (dk_at dksX5_worst_2 17 rfl rfl)
theorem dX5_worst_63 : decode cX5_worst 63 = .ok (.istore_n 1, 1) := dk_60 (dk_at dksX5_worst_2 18 rfl rfl)
theorem dX5_worst_64 : decode cX5_worst 64 = .ok (.iload 5, 2) := dk_21 5 (dk_at dksX5_worst_2 19 rfl rfl)
theorem dX5_worst_66 : decode cX5_worst 66 = .ok (.istore_n 2, 1) := dk_61 (dk_at dksX5_worst_2 21 rfl rfl)
theorem dX5_worst_67 : decode cX5_worst 67 = .ok (.iinc 4 1, 3) := dk_132 4 1 (dk_at dksX5_worst_3 0 rfl rfl)
theorem dX5_worst_70 : decode cX5_worst 70 = .ok (.goto (-51), 3) := dk_167 255 205 (dk_at dksX5_worst_3 3 rfl rfl)
theorem dX5_worst_73 : decode cX5_worst 73 = .ok (.iinc 3 1, 3) := dk_132 3 1 (dk_at dksX5_worst_3 6 rfl rfl)
theorem dX5_worst_76 : decode cX5_worst 76 = .ok (.goto (-70), 3) := dk_167 255 186 (dk_at dksX5_worst_3 9 rfl rfl)
theorem dX5_worst_79 : decode cX5_worst 79 = .ok (.iload_n 1, 1) := dk_27 (dk_at dksX5_worst_3 12 rfl rfl)
theorem dX5_worst_80 : decode cX5_worst 80 = .ok (.iconst (-1), 1) := dk_2 (dk_at dksX5_worst_3 13 rfl rfl)
theorem dX5_worst_81 : decode cX5_worst 81 = .ok (.if_icmp .ne 12, 3) := dk_160 0 12 (dk_at dksX5_worst_3 14 rfl rfl)
theorem dX5_worst_84 : decode cX5_worst 84 = .ok (.aload_n 0, 1) := dk_42 (dk_at dksX5_worst_3 17 rfl rfl)
theorem dX5_worst_85 : decode cX5_worst 85 = .ok (.bipush (-5), 2) := dk_16 251 (dk_at dksX5_worst_3 18 rfl rfl)
theorem dX5_worst_87 : decode cX5_worst 87 = .ok (.invokevirtual 102, 3) := dk_182 0 102 (dk_at dksX5_worst_3 20 rfl rfl)
theorem dX5_worst_90 : decode cX5_worst 90 = .ok (.goto 4, 3) := dk_167 0 4 (dk_at dksX5_worst_4 0 rfl rfl)
theorem dX5_worst_93 : decode cX5_worst 93 = .ok (.iload_n 1, 1) := dk_27 (dk_at dksX5_worst_4 3 rfl rfl)
theorem dX5_worst_94 : decode cX5_worst 94 = .ok (.ireturn, 1) := dk_172 (dk_at dksX5_worst_4 4 rfl rfl)
abbrev cX5_fits : ByteArray := prog_18_method_85_code
def yX5_fits : MethodName := ⟨RX5, "fits", "(I)I"⟩
def dkwX5_fits_1 : List UInt8 := [27, 182, 1, 88, 42, 180, 1, 85, 172]
abbrev dktX5_fits_1 : List UInt8 := dkwX5_fits_1 ++ []
def dkwX5_fits_0 : List UInt8 := [42, 27, 182, 1, 7, 153, 0, 11, 27, 184, 0, 254, 8, 164, 0, 10, 42, 16, 254, 182, 0, 102, 172, 42]
abbrev dktX5_fits_0 : List UInt8 := dkwX5_fits_0 ++ dktX5_fits_1
theorem dksX5_fits_0 : cX5_fits.data.toList.drop 0 = dktX5_fits_0 := by decide +kernel
theorem dksX5_fits_1 : cX5_fits.data.toList.drop 24 = dktX5_fits_1 := dk_seg dksX5_fits_0 24 rfl rfl
theorem dX5_fits_0 : decode cX5_fits 0 = .ok (.aload_n 0, 1) := dk_42 (dk_at dksX5_fits_0 0 rfl rfl)
theorem dX5_fits_1 : decode cX5_fits 1 = .ok (.iload_n 1, 1) := dk_27 (dk_at dksX5_fits_0 1 rfl rfl)
theorem dX5_fits_2 : decode cX5_fits 2 = .ok (.invokevirtual 263, 3) := dk_182 1 7 (dk_at dksX5_fits_0 2 rfl rfl)
theorem dX5_fits_5 : decode cX5_fits 5 = .ok (.ifCond .eq 11, 3) := dk_153 0 11 (dk_at dksX5_fits_0 5 rfl rfl)
theorem dX5_fits_8 : decode cX5_fits 8 = .ok (.iload_n 1, 1) := dk_27 (dk_at dksX5_fits_0 8 rfl rfl)
theorem dX5_fits_9 : decode cX5_fits 9 = .ok (.invokestatic 254, 3) := dk_184 0 254 (dk_at dksX5_fits_0 9 rfl rfl)
theorem dX5_fits_12 : decode cX5_fits 12 = .ok (.iconst 5, 1) := dk_8 (dk_at dksX5_fits_0 12 rfl rfl)
theorem dX5_fits_13 : decode cX5_fits 13 = .ok (.if_icmp .le 10, 3) := dk_164 0 10 (dk_at dksX5_fits_0 13 rfl rfl)
theorem dX5_fits_16 : decode cX5_fits 16 = .ok (.aload_n 0, 1) := dk_42 (dk_at dksX5_fits_0 16 rfl rfl)
theorem dX5_fits_17 : decode cX5_fits 17 = .ok (.bipush (-2), 2) := dk_16 254 (dk_at dksX5_fits_0 17 rfl rfl)
theorem dX5_fits_19 : decode cX5_fits 19 = .ok (.invokevirtual 102, 3) := dk_182 0 102 (dk_at dksX5_fits_0 19 rfl rfl)
theorem dX5_fits_22 : decode cX5_fits 22 = .ok (.ireturn, 1) := dk_172 (dk_at dksX5_fits_0 22 rfl rfl)
theorem dX5_fits_23 : decode cX5_fits 23 = .ok (.aload_n 0, 1) := dk_42 (dk_at dksX5_fits_0 23 rfl rfl)
theorem dX5_fits_24 : decode cX5_fits 24 = .ok (.iload_n 1, 1) := dk_27 (dk_at dksX5_fits_1 0 rfl rfl)
theorem dX5_fits_25 : decode cX5_fits 25 = .ok (.invokevirtual 344, 3) := dk_182 1 88 (dk_at dksX5_fits_1 1 rfl rfl)
theorem dX5_fits_28 : decode cX5_fits 28 = .ok (.aload_n 0, 1) := dk_42 (dk_at dksX5_fits_1 4 rfl rfl)
theorem dX5_fits_29 : decode cX5_fits 29 = .ok (.getfield 341, 3) := dk_180 1 85 (dk_at dksX5_fits_1 5 rfl rfl)
theorem dX5_fits_32 : decode cX5_fits 32 = .ok (.ireturn, 1) := dk_172 (dk_at dksX5_fits_1 8 rfl rfl)
abbrev cX5_findWays : ByteArray := prog_18_method_84_code
def yX5_findWays : MethodName := ⟨RX5, "findWays", "(I)V"⟩
def dkwX5_findWays_10 : List UInt8 := [177]
abbrev dktX5_findWays_10 : List UInt8 := dkwX5_findWays_10 ++ []
def dkwX5_findWays_9 : List UInt8 := [21, 4, 92, 46, 28, 21, 4, 122, 4, 126, 96, 79, 132, 4, 1, 167, 255, 228, 132, 2, 1, 167, 255, 140]
abbrev dktX5_findWays_9 : List UInt8 := dkwX5_findWays_9 ++ dktX5_findWays_10
def dkwX5_findWays_8 : List UInt8 := [180, 1, 85, 4, 96, 181, 1, 85, 3, 54, 4, 21, 4, 42, 180, 1, 82, 162, 0, 25, 42, 180, 0, 82]
abbrev dktX5_findWays_8 : List UInt8 := dkwX5_findWays_8 ++ dktX5_findWays_9
def dkwX5_findWays_7 : List UInt8 := [21, 4, 46, 3, 182, 0, 142, 132, 4, 1, 167, 255, 216, 45, 27, 182, 1, 16, 154, 0, 47, 42, 89]
abbrev dktX5_findWays_7 : List UInt8 := dkwX5_findWays_7 ++ dktX5_findWays_8
def dkwX5_findWays_6 : List UInt8 := [162, 0, 37, 28, 21, 4, 122, 4, 126, 153, 0, 22, 45, 42, 180, 0, 76, 21, 4, 46, 42, 180, 0, 79]
abbrev dktX5_findWays_6 : List UInt8 := dkwX5_findWays_6 ++ dktX5_findWays_7
def dkwX5_findWays_5 : List UInt8 := [42, 180, 1, 82, 120, 162, 0, 112, 42, 182, 0, 238, 78, 3, 54, 4, 21, 4, 42, 180, 1, 82]
abbrev dktX5_findWays_5 : List UInt8 := dkwX5_findWays_5 ++ dktX5_findWays_6
def dkwX5_findWays_4 : List UInt8 := [181, 1, 82, 132, 3, 1, 167, 255, 177, 132, 2, 1, 167, 255, 159, 42, 3, 181, 1, 85, 3, 61, 28, 4]
abbrev dktX5_findWays_4 : List UInt8 := dkwX5_findWays_4 ++ dktX5_findWays_5
def dkwX5_findWays_3 : List UInt8 := [180, 1, 82, 29, 79, 42, 180, 0, 82, 42, 180, 1, 82, 3, 79, 42, 89, 180, 1, 82, 4, 96]
abbrev dktX5_findWays_3 : List UInt8 := dkwX5_findWays_3 ++ dktX5_findWays_4
def dkwX5_findWays_2 : List UInt8 := [50, 29, 46, 2, 160, 0, 43, 42, 180, 0, 76, 42, 180, 1, 82, 28, 79, 42, 180, 0, 79, 42]
abbrev dktX5_findWays_2 : List UInt8 := dkwX5_findWays_2 ++ dktX5_findWays_3
def dkwX5_findWays_1 : List UInt8 := [162, 0, 77, 27, 28, 184, 0, 151, 153, 0, 63, 27, 29, 184, 0, 151, 153, 0, 55, 42, 180, 0, 48, 28]
abbrev dktX5_findWays_1 : List UInt8 := dkwX5_findWays_1 ++ dktX5_findWays_2
def dkwX5_findWays_0 : List UInt8 := [42, 3, 181, 1, 82, 3, 61, 28, 42, 180, 0, 85, 162, 0, 95, 28, 4, 96, 62, 29, 42, 180, 0, 85]
abbrev dktX5_findWays_0 : List UInt8 := dkwX5_findWays_0 ++ dktX5_findWays_1
theorem dksX5_findWays_0 : cX5_findWays.data.toList.drop 0 = dktX5_findWays_0 := by decide +kernel
theorem dksX5_findWays_1 : cX5_findWays.data.toList.drop 24 = dktX5_findWays_1 := dk_seg dksX5_findWays_0 24 rfl rfl
theorem dksX5_findWays_2 : cX5_findWays.data.toList.drop 48 = dktX5_findWays_2 := dk_seg dksX5_findWays_1 24 rfl rfl
theorem dksX5_findWays_3 : cX5_findWays.data.toList.drop 70 = dktX5_findWays_3 := dk_seg dksX5_findWays_2 22 rfl rfl
theorem dksX5_findWays_4 : cX5_findWays.data.toList.drop 92 = dktX5_findWays_4 := dk_seg dksX5_findWays_3 22 rfl rfl
theorem dksX5_findWays_5 : cX5_findWays.data.toList.drop 116 = dktX5_findWays_5 := dk_seg dksX5_findWays_4 24 rfl rfl
theorem dksX5_findWays_6 : cX5_findWays.data.toList.drop 138 = dktX5_findWays_6 := dk_seg dksX5_findWays_5 22 rfl rfl
theorem dksX5_findWays_7 : cX5_findWays.data.toList.drop 162 = dktX5_findWays_7 := dk_seg dksX5_findWays_6 24 rfl rfl
theorem dksX5_findWays_8 : cX5_findWays.data.toList.drop 185 = dktX5_findWays_8 := dk_seg dksX5_findWays_7 23 rfl rfl
theorem dksX5_findWays_9 : cX5_findWays.data.toList.drop 209 = dktX5_findWays_9 := dk_seg dksX5_findWays_8 24 rfl rfl
theorem dksX5_findWays_10 : cX5_findWays.data.toList.drop 233 = dktX5_findWays_10 := dk_seg dksX5_findWays_9 24 rfl rfl
theorem dX5_findWays_0 : decode cX5_findWays 0 = .ok (.aload_n 0, 1) := dk_42 (dk_at dksX5_findWays_0 0 rfl rfl)
theorem dX5_findWays_1 : decode cX5_findWays 1 = .ok (.iconst 0, 1) := dk_3 (dk_at dksX5_findWays_0 1 rfl rfl)
theorem dX5_findWays_2 : decode cX5_findWays 2 = .ok (.putfield 338, 3) := dk_181 1 82 (dk_at dksX5_findWays_0 2 rfl rfl)
theorem dX5_findWays_5 : decode cX5_findWays 5 = .ok (.iconst 0, 1) := dk_3 (dk_at dksX5_findWays_0 5 rfl rfl)
theorem dX5_findWays_6 : decode cX5_findWays 6 = .ok (.istore_n 2, 1) := dk_61 (dk_at dksX5_findWays_0 6 rfl rfl)
theorem dX5_findWays_7 : decode cX5_findWays 7 = .ok (.iload_n 2, 1) := dk_28 (dk_at dksX5_findWays_0 7 rfl rfl)
theorem dX5_findWays_8 : decode cX5_findWays 8 = .ok (.aload_n 0, 1) := dk_42 (dk_at dksX5_findWays_0 8 rfl rfl)
theorem dX5_findWays_9 : decode cX5_findWays 9 = .ok (.getfield 85, 3) := dk_180 0 85 (dk_at dksX5_findWays_0 9 rfl rfl)
theorem dX5_findWays_12 : decode cX5_findWays 12 = .ok (.if_icmp .ge 95, 3) := dk_162 0 95 (dk_at dksX5_findWays_0 12 rfl rfl)
theorem dX5_findWays_15 : decode cX5_findWays 15 = .ok (.iload_n 2, 1) := dk_28 (dk_at dksX5_findWays_0 15 rfl rfl)
theorem dX5_findWays_16 : decode cX5_findWays 16 = .ok (.iconst 1, 1) := dk_4 (dk_at dksX5_findWays_0 16 rfl rfl)
theorem dX5_findWays_17 : decode cX5_findWays 17 = .ok (.iadd, 1) := dk_96 (dk_at dksX5_findWays_0 17 rfl rfl)
theorem dX5_findWays_18 : decode cX5_findWays 18 = .ok (.istore_n 3, 1) := dk_62 (dk_at dksX5_findWays_0 18 rfl rfl)
theorem dX5_findWays_19 : decode cX5_findWays 19 = .ok (.iload_n 3, 1) := dk_29 (dk_at dksX5_findWays_0 19 rfl rfl)
theorem dX5_findWays_20 : decode cX5_findWays 20 = .ok (.aload_n 0, 1) := dk_42 (dk_at dksX5_findWays_0 20 rfl rfl)
theorem dX5_findWays_21 : decode cX5_findWays 21 = .ok (.getfield 85, 3) := dk_180 0 85 (dk_at dksX5_findWays_0 21 rfl rfl)
theorem dX5_findWays_24 : decode cX5_findWays 24 = .ok (.if_icmp .ge 77, 3) := dk_162 0 77 (dk_at dksX5_findWays_1 0 rfl rfl)
theorem dX5_findWays_27 : decode cX5_findWays 27 = .ok (.iload_n 1, 1) := dk_27 (dk_at dksX5_findWays_1 3 rfl rfl)
theorem dX5_findWays_28 : decode cX5_findWays 28 = .ok (.iload_n 2, 1) := dk_28 (dk_at dksX5_findWays_1 4 rfl rfl)
theorem dX5_findWays_29 : decode cX5_findWays 29 = .ok (.invokestatic 151, 3) := dk_184 0 151 (dk_at dksX5_findWays_1 5 rfl rfl)
theorem dX5_findWays_32 : decode cX5_findWays 32 = .ok (.ifCond .eq 63, 3) := dk_153 0 63 (dk_at dksX5_findWays_1 8 rfl rfl)
theorem dX5_findWays_35 : decode cX5_findWays 35 = .ok (.iload_n 1, 1) := dk_27 (dk_at dksX5_findWays_1 11 rfl rfl)
theorem dX5_findWays_36 : decode cX5_findWays 36 = .ok (.iload_n 3, 1) := dk_29 (dk_at dksX5_findWays_1 12 rfl rfl)
theorem dX5_findWays_37 : decode cX5_findWays 37 = .ok (.invokestatic 151, 3) := dk_184 0 151 (dk_at dksX5_findWays_1 13 rfl rfl)
theorem dX5_findWays_40 : decode cX5_findWays 40 = .ok (.ifCond .eq 55, 3) := dk_153 0 55 (dk_at dksX5_findWays_1 16 rfl rfl)
theorem dX5_findWays_43 : decode cX5_findWays 43 = .ok (.aload_n 0, 1) := dk_42 (dk_at dksX5_findWays_1 19 rfl rfl)
theorem dX5_findWays_44 : decode cX5_findWays 44 = .ok (.getfield 48, 3) := dk_180 0 48 (dk_at dksX5_findWays_1 20 rfl rfl)
theorem dX5_findWays_47 : decode cX5_findWays 47 = .ok (.iload_n 2, 1) := dk_28 (dk_at dksX5_findWays_1 23 rfl rfl)
theorem dX5_findWays_48 : decode cX5_findWays 48 = .ok (.aaload, 1) := dk_50 (dk_at dksX5_findWays_2 0 rfl rfl)
theorem dX5_findWays_49 : decode cX5_findWays 49 = .ok (.iload_n 3, 1) := dk_29 (dk_at dksX5_findWays_2 1 rfl rfl)
theorem dX5_findWays_50 : decode cX5_findWays 50 = .ok (.iaload, 1) := dk_46 (dk_at dksX5_findWays_2 2 rfl rfl)
theorem dX5_findWays_51 : decode cX5_findWays 51 = .ok (.iconst (-1), 1) := dk_2 (dk_at dksX5_findWays_2 3 rfl rfl)
theorem dX5_findWays_52 : decode cX5_findWays 52 = .ok (.if_icmp .ne 43, 3) := dk_160 0 43 (dk_at dksX5_findWays_2 4 rfl rfl)
theorem dX5_findWays_55 : decode cX5_findWays 55 = .ok (.aload_n 0, 1) := dk_42 (dk_at dksX5_findWays_2 7 rfl rfl)
theorem dX5_findWays_56 : decode cX5_findWays 56 = .ok (.getfield 76, 3) := dk_180 0 76 (dk_at dksX5_findWays_2 8 rfl rfl)
theorem dX5_findWays_59 : decode cX5_findWays 59 = .ok (.aload_n 0, 1) := dk_42 (dk_at dksX5_findWays_2 11 rfl rfl)
theorem dX5_findWays_60 : decode cX5_findWays 60 = .ok (.getfield 338, 3) := dk_180 1 82 (dk_at dksX5_findWays_2 12 rfl rfl)
theorem dX5_findWays_63 : decode cX5_findWays 63 = .ok (.iload_n 2, 1) := dk_28 (dk_at dksX5_findWays_2 15 rfl rfl)
theorem dX5_findWays_64 : decode cX5_findWays 64 = .ok (.iastore, 1) := dk_79 (dk_at dksX5_findWays_2 16 rfl rfl)
theorem dX5_findWays_65 : decode cX5_findWays 65 = .ok (.aload_n 0, 1) := dk_42 (dk_at dksX5_findWays_2 17 rfl rfl)
theorem dX5_findWays_66 : decode cX5_findWays 66 = .ok (.getfield 79, 3) := dk_180 0 79 (dk_at dksX5_findWays_2 18 rfl rfl)
theorem dX5_findWays_69 : decode cX5_findWays 69 = .ok (.aload_n 0, 1) := dk_42 (dk_at dksX5_findWays_2 21 rfl rfl)
theorem dX5_findWays_70 : decode cX5_findWays 70 = .ok (.getfield 338, 3) := dk_180 1 82 (dk_at dksX5_findWays_3 0 rfl rfl)
theorem dX5_findWays_73 : decode cX5_findWays 73 = .ok (.iload_n 3, 1) := dk_29 (dk_at dksX5_findWays_3 3 rfl rfl)
theorem dX5_findWays_74 : decode cX5_findWays 74 = .ok (.iastore, 1) := dk_79 (dk_at dksX5_findWays_3 4 rfl rfl)
theorem dX5_findWays_75 : decode cX5_findWays 75 = .ok (.aload_n 0, 1) := dk_42 (dk_at dksX5_findWays_3 5 rfl rfl)
theorem dX5_findWays_76 : decode cX5_findWays 76 = .ok (.getfield 82, 3) := dk_180 0 82 (dk_at dksX5_findWays_3 6 rfl rfl)
theorem dX5_findWays_79 : decode cX5_findWays 79 = .ok (.aload_n 0, 1) := dk_42 (dk_at dksX5_findWays_3 9 rfl rfl)
theorem dX5_findWays_80 : decode cX5_findWays 80 = .ok (.getfield 338, 3) := dk_180 1 82 (dk_at dksX5_findWays_3 10 rfl rfl)
theorem dX5_findWays_83 : decode cX5_findWays 83 = .ok (.iconst 0, 1) := dk_3 (dk_at dksX5_findWays_3 13 rfl rfl)
theorem dX5_findWays_84 : decode cX5_findWays 84 = .ok (.iastore, 1) := dk_79 (dk_at dksX5_findWays_3 14 rfl rfl)
theorem dX5_findWays_85 : decode cX5_findWays 85 = .ok (.aload_n 0, 1) := dk_42 (dk_at dksX5_findWays_3 15 rfl rfl)
theorem dX5_findWays_86 : decode cX5_findWays 86 = .ok (.dup, 1) := dk_89 (dk_at dksX5_findWays_3 16 rfl rfl)
theorem dX5_findWays_87 : decode cX5_findWays 87 = .ok (.getfield 338, 3) := dk_180 1 82 (dk_at dksX5_findWays_3 17 rfl rfl)
theorem dX5_findWays_90 : decode cX5_findWays 90 = .ok (.iconst 1, 1) := dk_4 (dk_at dksX5_findWays_3 20 rfl rfl)
theorem dX5_findWays_91 : decode cX5_findWays 91 = .ok (.iadd, 1) := dk_96 (dk_at dksX5_findWays_3 21 rfl rfl)
theorem dX5_findWays_92 : decode cX5_findWays 92 = .ok (.putfield 338, 3) := dk_181 1 82 (dk_at dksX5_findWays_4 0 rfl rfl)
theorem dX5_findWays_95 : decode cX5_findWays 95 = .ok (.iinc 3 1, 3) := dk_132 3 1 (dk_at dksX5_findWays_4 3 rfl rfl)
theorem dX5_findWays_98 : decode cX5_findWays 98 = .ok (.goto (-79), 3) := dk_167 255 177 (dk_at dksX5_findWays_4 6 rfl rfl)
theorem dX5_findWays_101 : decode cX5_findWays 101 = .ok (.iinc 2 1, 3) := dk_132 2 1 (dk_at dksX5_findWays_4 9 rfl rfl)
theorem dX5_findWays_104 : decode cX5_findWays 104 = .ok (.goto (-97), 3) := dk_167 255 159 (dk_at dksX5_findWays_4 12 rfl rfl)
theorem dX5_findWays_107 : decode cX5_findWays 107 = .ok (.aload_n 0, 1) := dk_42 (dk_at dksX5_findWays_4 15 rfl rfl)
theorem dX5_findWays_108 : decode cX5_findWays 108 = .ok (.iconst 0, 1) := dk_3 (dk_at dksX5_findWays_4 16 rfl rfl)
theorem dX5_findWays_109 : decode cX5_findWays 109 = .ok (.putfield 341, 3) := dk_181 1 85 (dk_at dksX5_findWays_4 17 rfl rfl)
theorem dX5_findWays_112 : decode cX5_findWays 112 = .ok (.iconst 0, 1) := dk_3 (dk_at dksX5_findWays_4 20 rfl rfl)
theorem dX5_findWays_113 : decode cX5_findWays 113 = .ok (.istore_n 2, 1) := dk_61 (dk_at dksX5_findWays_4 21 rfl rfl)
theorem dX5_findWays_114 : decode cX5_findWays 114 = .ok (.iload_n 2, 1) := dk_28 (dk_at dksX5_findWays_4 22 rfl rfl)
theorem dX5_findWays_115 : decode cX5_findWays 115 = .ok (.iconst 1, 1) := dk_4 (dk_at dksX5_findWays_4 23 rfl rfl)
theorem dX5_findWays_116 : decode cX5_findWays 116 = .ok (.aload_n 0, 1) := dk_42 (dk_at dksX5_findWays_5 0 rfl rfl)
theorem dX5_findWays_117 : decode cX5_findWays 117 = .ok (.getfield 338, 3) := dk_180 1 82 (dk_at dksX5_findWays_5 1 rfl rfl)
theorem dX5_findWays_120 : decode cX5_findWays 120 = .ok (.ishl, 1) := dk_120 (dk_at dksX5_findWays_5 4 rfl rfl)
theorem dX5_findWays_121 : decode cX5_findWays 121 = .ok (.if_icmp .ge 112, 3) := dk_162 0 112 (dk_at dksX5_findWays_5 5 rfl rfl)
theorem dX5_findWays_124 : decode cX5_findWays 124 = .ok (.aload_n 0, 1) := dk_42 (dk_at dksX5_findWays_5 8 rfl rfl)
theorem dX5_findWays_125 : decode cX5_findWays 125 = .ok (.invokevirtual 238, 3) := dk_182 0 238 (dk_at dksX5_findWays_5 9 rfl rfl)
theorem dX5_findWays_128 : decode cX5_findWays 128 = .ok (.astore_n 3, 1) := dk_78 (dk_at dksX5_findWays_5 12 rfl rfl)
theorem dX5_findWays_129 : decode cX5_findWays 129 = .ok (.iconst 0, 1) := dk_3 (dk_at dksX5_findWays_5 13 rfl rfl)
theorem dX5_findWays_130 : decode cX5_findWays 130 = .ok (.istore 4, 2) := dk_54 4 (dk_at dksX5_findWays_5 14 rfl rfl)
theorem dX5_findWays_132 : decode cX5_findWays 132 = .ok (.iload 4, 2) := dk_21 4 (dk_at dksX5_findWays_5 16 rfl rfl)
theorem dX5_findWays_134 : decode cX5_findWays 134 = .ok (.aload_n 0, 1) := dk_42 (dk_at dksX5_findWays_5 18 rfl rfl)
theorem dX5_findWays_135 : decode cX5_findWays 135 = .ok (.getfield 338, 3) := dk_180 1 82 (dk_at dksX5_findWays_5 19 rfl rfl)
theorem dX5_findWays_138 : decode cX5_findWays 138 = .ok (.if_icmp .ge 37, 3) := dk_162 0 37 (dk_at dksX5_findWays_6 0 rfl rfl)
theorem dX5_findWays_141 : decode cX5_findWays 141 = .ok (.iload_n 2, 1) := dk_28 (dk_at dksX5_findWays_6 3 rfl rfl)
theorem dX5_findWays_142 : decode cX5_findWays 142 = .ok (.iload 4, 2) := dk_21 4 (dk_at dksX5_findWays_6 4 rfl rfl)
theorem dX5_findWays_144 : decode cX5_findWays 144 = .ok (.ishr, 1) := dk_122 (dk_at dksX5_findWays_6 6 rfl rfl)
theorem dX5_findWays_145 : decode cX5_findWays 145 = .ok (.iconst 1, 1) := dk_4 (dk_at dksX5_findWays_6 7 rfl rfl)
theorem dX5_findWays_146 : decode cX5_findWays 146 = .ok (.iand, 1) := dk_126 (dk_at dksX5_findWays_6 8 rfl rfl)
theorem dX5_findWays_147 : decode cX5_findWays 147 = .ok (.ifCond .eq 22, 3) := dk_153 0 22 (dk_at dksX5_findWays_6 9 rfl rfl)
theorem dX5_findWays_150 : decode cX5_findWays 150 = .ok (.aload_n 3, 1) := dk_45 (dk_at dksX5_findWays_6 12 rfl rfl)
theorem dX5_findWays_151 : decode cX5_findWays 151 = .ok (.aload_n 0, 1) := dk_42 (dk_at dksX5_findWays_6 13 rfl rfl)
theorem dX5_findWays_152 : decode cX5_findWays 152 = .ok (.getfield 76, 3) := dk_180 0 76 (dk_at dksX5_findWays_6 14 rfl rfl)
theorem dX5_findWays_155 : decode cX5_findWays 155 = .ok (.iload 4, 2) := dk_21 4 (dk_at dksX5_findWays_6 17 rfl rfl)
theorem dX5_findWays_157 : decode cX5_findWays 157 = .ok (.iaload, 1) := dk_46 (dk_at dksX5_findWays_6 19 rfl rfl)
theorem dX5_findWays_158 : decode cX5_findWays 158 = .ok (.aload_n 0, 1) := dk_42 (dk_at dksX5_findWays_6 20 rfl rfl)
theorem dX5_findWays_159 : decode cX5_findWays 159 = .ok (.getfield 79, 3) := dk_180 0 79 (dk_at dksX5_findWays_6 21 rfl rfl)
theorem dX5_findWays_162 : decode cX5_findWays 162 = .ok (.iload 4, 2) := dk_21 4 (dk_at dksX5_findWays_7 0 rfl rfl)
theorem dX5_findWays_164 : decode cX5_findWays 164 = .ok (.iaload, 1) := dk_46 (dk_at dksX5_findWays_7 2 rfl rfl)
theorem dX5_findWays_165 : decode cX5_findWays 165 = .ok (.iconst 0, 1) := dk_3 (dk_at dksX5_findWays_7 3 rfl rfl)
theorem dX5_findWays_166 : decode cX5_findWays 166 = .ok (.invokevirtual 142, 3) := dk_182 0 142 (dk_at dksX5_findWays_7 4 rfl rfl)
theorem dX5_findWays_169 : decode cX5_findWays 169 = .ok (.iinc 4 1, 3) := dk_132 4 1 (dk_at dksX5_findWays_7 7 rfl rfl)
theorem dX5_findWays_172 : decode cX5_findWays 172 = .ok (.goto (-40), 3) := dk_167 255 216 (dk_at dksX5_findWays_7 10 rfl rfl)
theorem dX5_findWays_175 : decode cX5_findWays 175 = .ok (.aload_n 3, 1) := dk_45 (dk_at dksX5_findWays_7 13 rfl rfl)
theorem dX5_findWays_176 : decode cX5_findWays 176 = .ok (.iload_n 1, 1) := dk_27 (dk_at dksX5_findWays_7 14 rfl rfl)
theorem dX5_findWays_177 : decode cX5_findWays 177 = .ok (.invokevirtual 272, 3) := dk_182 1 16 (dk_at dksX5_findWays_7 15 rfl rfl)
theorem dX5_findWays_180 : decode cX5_findWays 180 = .ok (.ifCond .ne 47, 3) := dk_154 0 47 (dk_at dksX5_findWays_7 18 rfl rfl)
theorem dX5_findWays_183 : decode cX5_findWays 183 = .ok (.aload_n 0, 1) := dk_42 (dk_at dksX5_findWays_7 21 rfl rfl)
theorem dX5_findWays_184 : decode cX5_findWays 184 = .ok (.dup, 1) := dk_89 (dk_at dksX5_findWays_7 22 rfl rfl)
theorem dX5_findWays_185 : decode cX5_findWays 185 = .ok (.getfield 341, 3) := dk_180 1 85 (dk_at dksX5_findWays_8 0 rfl rfl)
theorem dX5_findWays_188 : decode cX5_findWays 188 = .ok (.iconst 1, 1) := dk_4 (dk_at dksX5_findWays_8 3 rfl rfl)
theorem dX5_findWays_189 : decode cX5_findWays 189 = .ok (.iadd, 1) := dk_96 (dk_at dksX5_findWays_8 4 rfl rfl)
theorem dX5_findWays_190 : decode cX5_findWays 190 = .ok (.putfield 341, 3) := dk_181 1 85 (dk_at dksX5_findWays_8 5 rfl rfl)
theorem dX5_findWays_193 : decode cX5_findWays 193 = .ok (.iconst 0, 1) := dk_3 (dk_at dksX5_findWays_8 8 rfl rfl)
theorem dX5_findWays_194 : decode cX5_findWays 194 = .ok (.istore 4, 2) := dk_54 4 (dk_at dksX5_findWays_8 9 rfl rfl)
theorem dX5_findWays_196 : decode cX5_findWays 196 = .ok (.iload 4, 2) := dk_21 4 (dk_at dksX5_findWays_8 11 rfl rfl)
theorem dX5_findWays_198 : decode cX5_findWays 198 = .ok (.aload_n 0, 1) := dk_42 (dk_at dksX5_findWays_8 13 rfl rfl)
theorem dX5_findWays_199 : decode cX5_findWays 199 = .ok (.getfield 338, 3) := dk_180 1 82 (dk_at dksX5_findWays_8 14 rfl rfl)
theorem dX5_findWays_202 : decode cX5_findWays 202 = .ok (.if_icmp .ge 25, 3) := dk_162 0 25 (dk_at dksX5_findWays_8 17 rfl rfl)
theorem dX5_findWays_205 : decode cX5_findWays 205 = .ok (.aload_n 0, 1) := dk_42 (dk_at dksX5_findWays_8 20 rfl rfl)
theorem dX5_findWays_206 : decode cX5_findWays 206 = .ok (.getfield 82, 3) := dk_180 0 82 (dk_at dksX5_findWays_8 21 rfl rfl)
theorem dX5_findWays_209 : decode cX5_findWays 209 = .ok (.iload 4, 2) := dk_21 4 (dk_at dksX5_findWays_9 0 rfl rfl)
theorem dX5_findWays_211 : decode cX5_findWays 211 = .ok (.dup2, 1) := dk_92 (dk_at dksX5_findWays_9 2 rfl rfl)
theorem dX5_findWays_212 : decode cX5_findWays 212 = .ok (.iaload, 1) := dk_46 (dk_at dksX5_findWays_9 3 rfl rfl)
theorem dX5_findWays_213 : decode cX5_findWays 213 = .ok (.iload_n 2, 1) := dk_28 (dk_at dksX5_findWays_9 4 rfl rfl)
theorem dX5_findWays_214 : decode cX5_findWays 214 = .ok (.iload 4, 2) := dk_21 4 (dk_at dksX5_findWays_9 5 rfl rfl)
theorem dX5_findWays_216 : decode cX5_findWays 216 = .ok (.ishr, 1) := dk_122 (dk_at dksX5_findWays_9 7 rfl rfl)
theorem dX5_findWays_217 : decode cX5_findWays 217 = .ok (.iconst 1, 1) := dk_4 (dk_at dksX5_findWays_9 8 rfl rfl)
theorem dX5_findWays_218 : decode cX5_findWays 218 = .ok (.iand, 1) := dk_126 (dk_at dksX5_findWays_9 9 rfl rfl)
theorem dX5_findWays_219 : decode cX5_findWays 219 = .ok (.iadd, 1) := dk_96 (dk_at dksX5_findWays_9 10 rfl rfl)
theorem dX5_findWays_220 : decode cX5_findWays 220 = .ok (.iastore, 1) := dk_79 (dk_at dksX5_findWays_9 11 rfl rfl)
theorem dX5_findWays_221 : decode cX5_findWays 221 = .ok (.iinc 4 1, 3) := dk_132 4 1 (dk_at dksX5_findWays_9 12 rfl rfl)
theorem dX5_findWays_224 : decode cX5_findWays 224 = .ok (.goto (-28), 3) := dk_167 255 228 (dk_at dksX5_findWays_9 15 rfl rfl)
theorem dX5_findWays_227 : decode cX5_findWays 227 = .ok (.iinc 2 1, 3) := dk_132 2 1 (dk_at dksX5_findWays_9 18 rfl rfl)
theorem dX5_findWays_230 : decode cX5_findWays 230 = .ok (.goto (-116), 3) := dk_167 255 140 (dk_at dksX5_findWays_9 21 rfl rfl)
theorem dX5_findWays_233 : decode cX5_findWays 233 = .ok (.return_, 1) := dk_177 (dk_at dksX5_findWays_10 0 rfl rfl)
abbrev cX5_sure : ByteArray := prog_18_method_86_code
def yX5_sure : MethodName := ⟨RX5, "sure", "(I)I"⟩
def dkwX5_sure_4 : List UInt8 := [28, 46, 96, 172]
abbrev dktX5_sure_4 : List UInt8 := dkwX5_sure_4 ++ []
def dkwX5_sure_3 : List UInt8 := [167, 0, 4, 28, 61, 132, 3, 1, 167, 255, 224, 16, 10, 42, 180, 0, 76, 28, 46, 104, 42, 180, 0, 79]
abbrev dktX5_sure_3 : List UInt8 := dkwX5_sure_3 ++ dktX5_sure_4
def dkwX5_sure_2 : List UInt8 := [180, 1, 82, 162, 0, 30, 42, 180, 0, 82, 29, 46, 42, 180, 0, 82, 28, 46, 164, 0, 7, 29]
abbrev dktX5_sure_2 : List UInt8 := dkwX5_sure_2 ++ dktX5_sure_3
def dkwX5_sure_1 : List UInt8 := [27, 182, 1, 88, 42, 180, 1, 82, 154, 0, 10, 42, 16, 251, 182, 0, 102, 172, 3, 61, 4, 62, 29, 42]
abbrev dktX5_sure_1 : List UInt8 := dkwX5_sure_1 ++ dktX5_sure_2
def dkwX5_sure_0 : List UInt8 := [42, 27, 182, 1, 7, 153, 0, 11, 27, 184, 0, 254, 8, 164, 0, 10, 42, 16, 254, 182, 0, 102, 172, 42]
abbrev dktX5_sure_0 : List UInt8 := dkwX5_sure_0 ++ dktX5_sure_1
theorem dksX5_sure_0 : cX5_sure.data.toList.drop 0 = dktX5_sure_0 := by decide +kernel
theorem dksX5_sure_1 : cX5_sure.data.toList.drop 24 = dktX5_sure_1 := dk_seg dksX5_sure_0 24 rfl rfl
theorem dksX5_sure_2 : cX5_sure.data.toList.drop 48 = dktX5_sure_2 := dk_seg dksX5_sure_1 24 rfl rfl
theorem dksX5_sure_3 : cX5_sure.data.toList.drop 70 = dktX5_sure_3 := dk_seg dksX5_sure_2 22 rfl rfl
theorem dksX5_sure_4 : cX5_sure.data.toList.drop 94 = dktX5_sure_4 := dk_seg dksX5_sure_3 24 rfl rfl
theorem dX5_sure_0 : decode cX5_sure 0 = .ok (.aload_n 0, 1) := dk_42 (dk_at dksX5_sure_0 0 rfl rfl)
theorem dX5_sure_1 : decode cX5_sure 1 = .ok (.iload_n 1, 1) := dk_27 (dk_at dksX5_sure_0 1 rfl rfl)
theorem dX5_sure_2 : decode cX5_sure 2 = .ok (.invokevirtual 263, 3) := dk_182 1 7 (dk_at dksX5_sure_0 2 rfl rfl)
theorem dX5_sure_5 : decode cX5_sure 5 = .ok (.ifCond .eq 11, 3) := dk_153 0 11 (dk_at dksX5_sure_0 5 rfl rfl)
theorem dX5_sure_8 : decode cX5_sure 8 = .ok (.iload_n 1, 1) := dk_27 (dk_at dksX5_sure_0 8 rfl rfl)
theorem dX5_sure_9 : decode cX5_sure 9 = .ok (.invokestatic 254, 3) := dk_184 0 254 (dk_at dksX5_sure_0 9 rfl rfl)
theorem dX5_sure_12 : decode cX5_sure 12 = .ok (.iconst 5, 1) := dk_8 (dk_at dksX5_sure_0 12 rfl rfl)
theorem dX5_sure_13 : decode cX5_sure 13 = .ok (.if_icmp .le 10, 3) := dk_164 0 10 (dk_at dksX5_sure_0 13 rfl rfl)
theorem dX5_sure_16 : decode cX5_sure 16 = .ok (.aload_n 0, 1) := dk_42 (dk_at dksX5_sure_0 16 rfl rfl)
theorem dX5_sure_17 : decode cX5_sure 17 = .ok (.bipush (-2), 2) := dk_16 254 (dk_at dksX5_sure_0 17 rfl rfl)
theorem dX5_sure_19 : decode cX5_sure 19 = .ok (.invokevirtual 102, 3) := dk_182 0 102 (dk_at dksX5_sure_0 19 rfl rfl)
theorem dX5_sure_22 : decode cX5_sure 22 = .ok (.ireturn, 1) := dk_172 (dk_at dksX5_sure_0 22 rfl rfl)
theorem dX5_sure_23 : decode cX5_sure 23 = .ok (.aload_n 0, 1) := dk_42 (dk_at dksX5_sure_0 23 rfl rfl)
theorem dX5_sure_24 : decode cX5_sure 24 = .ok (.iload_n 1, 1) := dk_27 (dk_at dksX5_sure_1 0 rfl rfl)
theorem dX5_sure_25 : decode cX5_sure 25 = .ok (.invokevirtual 344, 3) := dk_182 1 88 (dk_at dksX5_sure_1 1 rfl rfl)
theorem dX5_sure_28 : decode cX5_sure 28 = .ok (.aload_n 0, 1) := dk_42 (dk_at dksX5_sure_1 4 rfl rfl)
theorem dX5_sure_29 : decode cX5_sure 29 = .ok (.getfield 338, 3) := dk_180 1 82 (dk_at dksX5_sure_1 5 rfl rfl)
theorem dX5_sure_32 : decode cX5_sure 32 = .ok (.ifCond .ne 10, 3) := dk_154 0 10 (dk_at dksX5_sure_1 8 rfl rfl)
theorem dX5_sure_35 : decode cX5_sure 35 = .ok (.aload_n 0, 1) := dk_42 (dk_at dksX5_sure_1 11 rfl rfl)
theorem dX5_sure_36 : decode cX5_sure 36 = .ok (.bipush (-5), 2) := dk_16 251 (dk_at dksX5_sure_1 12 rfl rfl)
theorem dX5_sure_38 : decode cX5_sure 38 = .ok (.invokevirtual 102, 3) := dk_182 0 102 (dk_at dksX5_sure_1 14 rfl rfl)
theorem dX5_sure_41 : decode cX5_sure 41 = .ok (.ireturn, 1) := dk_172 (dk_at dksX5_sure_1 17 rfl rfl)
theorem dX5_sure_42 : decode cX5_sure 42 = .ok (.iconst 0, 1) := dk_3 (dk_at dksX5_sure_1 18 rfl rfl)
theorem dX5_sure_43 : decode cX5_sure 43 = .ok (.istore_n 2, 1) := dk_61 (dk_at dksX5_sure_1 19 rfl rfl)
theorem dX5_sure_44 : decode cX5_sure 44 = .ok (.iconst 1, 1) := dk_4 (dk_at dksX5_sure_1 20 rfl rfl)
theorem dX5_sure_45 : decode cX5_sure 45 = .ok (.istore_n 3, 1) := dk_62 (dk_at dksX5_sure_1 21 rfl rfl)
theorem dX5_sure_46 : decode cX5_sure 46 = .ok (.iload_n 3, 1) := dk_29 (dk_at dksX5_sure_1 22 rfl rfl)
theorem dX5_sure_47 : decode cX5_sure 47 = .ok (.aload_n 0, 1) := dk_42 (dk_at dksX5_sure_1 23 rfl rfl)
theorem dX5_sure_48 : decode cX5_sure 48 = .ok (.getfield 338, 3) := dk_180 1 82 (dk_at dksX5_sure_2 0 rfl rfl)
theorem dX5_sure_51 : decode cX5_sure 51 = .ok (.if_icmp .ge 30, 3) := dk_162 0 30 (dk_at dksX5_sure_2 3 rfl rfl)
theorem dX5_sure_54 : decode cX5_sure 54 = .ok (.aload_n 0, 1) := dk_42 (dk_at dksX5_sure_2 6 rfl rfl)
theorem dX5_sure_55 : decode cX5_sure 55 = .ok (.getfield 82, 3) := dk_180 0 82 (dk_at dksX5_sure_2 7 rfl rfl)
theorem dX5_sure_58 : decode cX5_sure 58 = .ok (.iload_n 3, 1) := dk_29 (dk_at dksX5_sure_2 10 rfl rfl)
theorem dX5_sure_59 : decode cX5_sure 59 = .ok (.iaload, 1) := dk_46 (dk_at dksX5_sure_2 11 rfl rfl)
theorem dX5_sure_60 : decode cX5_sure 60 = .ok (.aload_n 0, 1) := dk_42 (dk_at dksX5_sure_2 12 rfl rfl)
theorem dX5_sure_61 : decode cX5_sure 61 = .ok (.getfield 82, 3) := dk_180 0 82 (dk_at dksX5_sure_2 13 rfl rfl)
theorem dX5_sure_64 : decode cX5_sure 64 = .ok (.iload_n 2, 1) := dk_28 (dk_at dksX5_sure_2 16 rfl rfl)
theorem dX5_sure_65 : decode cX5_sure 65 = .ok (.iaload, 1) := dk_46 (dk_at dksX5_sure_2 17 rfl rfl)
theorem dX5_sure_66 : decode cX5_sure 66 = .ok (.if_icmp .le 7, 3) := dk_164 0 7 (dk_at dksX5_sure_2 18 rfl rfl)
theorem dX5_sure_69 : decode cX5_sure 69 = .ok (.iload_n 3, 1) := dk_29 (dk_at dksX5_sure_2 21 rfl rfl)
theorem dX5_sure_70 : decode cX5_sure 70 = .ok (.goto 4, 3) := dk_167 0 4 (dk_at dksX5_sure_3 0 rfl rfl)
theorem dX5_sure_73 : decode cX5_sure 73 = .ok (.iload_n 2, 1) := dk_28 (dk_at dksX5_sure_3 3 rfl rfl)
theorem dX5_sure_74 : decode cX5_sure 74 = .ok (.istore_n 2, 1) := dk_61 (dk_at dksX5_sure_3 4 rfl rfl)
theorem dX5_sure_75 : decode cX5_sure 75 = .ok (.iinc 3 1, 3) := dk_132 3 1 (dk_at dksX5_sure_3 5 rfl rfl)
theorem dX5_sure_78 : decode cX5_sure 78 = .ok (.goto (-32), 3) := dk_167 255 224 (dk_at dksX5_sure_3 8 rfl rfl)
theorem dX5_sure_81 : decode cX5_sure 81 = .ok (.bipush 10, 2) := dk_16 10 (dk_at dksX5_sure_3 11 rfl rfl)
theorem dX5_sure_83 : decode cX5_sure 83 = .ok (.aload_n 0, 1) := dk_42 (dk_at dksX5_sure_3 13 rfl rfl)
theorem dX5_sure_84 : decode cX5_sure 84 = .ok (.getfield 76, 3) := dk_180 0 76 (dk_at dksX5_sure_3 14 rfl rfl)
theorem dX5_sure_87 : decode cX5_sure 87 = .ok (.iload_n 2, 1) := dk_28 (dk_at dksX5_sure_3 17 rfl rfl)
theorem dX5_sure_88 : decode cX5_sure 88 = .ok (.iaload, 1) := dk_46 (dk_at dksX5_sure_3 18 rfl rfl)
theorem dX5_sure_89 : decode cX5_sure 89 = .ok (.imul, 1) := dk_104 (dk_at dksX5_sure_3 19 rfl rfl)
theorem dX5_sure_90 : decode cX5_sure 90 = .ok (.aload_n 0, 1) := dk_42 (dk_at dksX5_sure_3 20 rfl rfl)
theorem dX5_sure_91 : decode cX5_sure 91 = .ok (.getfield 79, 3) := dk_180 0 79 (dk_at dksX5_sure_3 21 rfl rfl)
theorem dX5_sure_94 : decode cX5_sure 94 = .ok (.iload_n 2, 1) := dk_28 (dk_at dksX5_sure_4 0 rfl rfl)
theorem dX5_sure_95 : decode cX5_sure 95 = .ok (.iaload, 1) := dk_46 (dk_at dksX5_sure_4 1 rfl rfl)
theorem dX5_sure_96 : decode cX5_sure 96 = .ok (.iadd, 1) := dk_96 (dk_at dksX5_sure_4 2 rfl rfl)
theorem dX5_sure_97 : decode cX5_sure 97 = .ok (.ireturn, 1) := dk_172 (dk_at dksX5_sure_4 3 rfl rfl)
abbrev cX5_judge : ByteArray := prog_18_method_89_code
def yX5_judge : MethodName := ⟨RX5, "judge", "(II)I"⟩
def dkwX5_judge_1 : List UInt8 := [182, 1, 98, 172]
abbrev dktX5_judge_1 : List UInt8 := dkwX5_judge_1 ++ []
def dkwX5_judge_0 : List UInt8 := [42, 27, 28, 182, 1, 95, 62, 29, 153, 0, 7, 29, 167, 0, 14, 42, 42, 180, 0, 21, 27, 50, 28]
abbrev dktX5_judge_0 : List UInt8 := dkwX5_judge_0 ++ dktX5_judge_1
theorem dksX5_judge_0 : cX5_judge.data.toList.drop 0 = dktX5_judge_0 := by decide +kernel
theorem dksX5_judge_1 : cX5_judge.data.toList.drop 23 = dktX5_judge_1 := dk_seg dksX5_judge_0 23 rfl rfl
theorem dX5_judge_0 : decode cX5_judge 0 = .ok (.aload_n 0, 1) := dk_42 (dk_at dksX5_judge_0 0 rfl rfl)
theorem dX5_judge_1 : decode cX5_judge 1 = .ok (.iload_n 1, 1) := dk_27 (dk_at dksX5_judge_0 1 rfl rfl)
theorem dX5_judge_2 : decode cX5_judge 2 = .ok (.iload_n 2, 1) := dk_28 (dk_at dksX5_judge_0 2 rfl rfl)
theorem dX5_judge_3 : decode cX5_judge 3 = .ok (.invokevirtual 351, 3) := dk_182 1 95 (dk_at dksX5_judge_0 3 rfl rfl)
theorem dX5_judge_6 : decode cX5_judge 6 = .ok (.istore_n 3, 1) := dk_62 (dk_at dksX5_judge_0 6 rfl rfl)
theorem dX5_judge_7 : decode cX5_judge 7 = .ok (.iload_n 3, 1) := dk_29 (dk_at dksX5_judge_0 7 rfl rfl)
theorem dX5_judge_8 : decode cX5_judge 8 = .ok (.ifCond .eq 7, 3) := dk_153 0 7 (dk_at dksX5_judge_0 8 rfl rfl)
theorem dX5_judge_11 : decode cX5_judge 11 = .ok (.iload_n 3, 1) := dk_29 (dk_at dksX5_judge_0 11 rfl rfl)
theorem dX5_judge_12 : decode cX5_judge 12 = .ok (.goto 14, 3) := dk_167 0 14 (dk_at dksX5_judge_0 12 rfl rfl)
theorem dX5_judge_15 : decode cX5_judge 15 = .ok (.aload_n 0, 1) := dk_42 (dk_at dksX5_judge_0 15 rfl rfl)
theorem dX5_judge_16 : decode cX5_judge 16 = .ok (.aload_n 0, 1) := dk_42 (dk_at dksX5_judge_0 16 rfl rfl)
theorem dX5_judge_17 : decode cX5_judge 17 = .ok (.getfield 21, 3) := dk_180 0 21 (dk_at dksX5_judge_0 17 rfl rfl)
theorem dX5_judge_20 : decode cX5_judge 20 = .ok (.iload_n 1, 1) := dk_27 (dk_at dksX5_judge_0 20 rfl rfl)
theorem dX5_judge_21 : decode cX5_judge 21 = .ok (.aaload, 1) := dk_50 (dk_at dksX5_judge_0 21 rfl rfl)
theorem dX5_judge_22 : decode cX5_judge 22 = .ok (.iload_n 2, 1) := dk_28 (dk_at dksX5_judge_0 22 rfl rfl)
theorem dX5_judge_23 : decode cX5_judge 23 = .ok (.invokevirtual 354, 3) := dk_182 1 98 (dk_at dksX5_judge_1 0 rfl rfl)
theorem dX5_judge_26 : decode cX5_judge 26 = .ok (.ireturn, 1) := dk_172 (dk_at dksX5_judge_1 3 rfl rfl)
abbrev cX5_noDay : ByteArray := prog_18_method_87_code
def yX5_noDay : MethodName := ⟨RX5, "noDay", "(II)I"⟩
def dkwX5_noDay_2 : List UInt8 := [46, 28, 162, 0, 12, 42, 16, 254, 182, 0, 102, 167, 0, 4, 3, 172]
abbrev dktX5_noDay_2 : List UInt8 := dkwX5_noDay_2 ++ []
def dkwX5_noDay_1 : List UInt8 := [42, 16, 254, 182, 0, 102, 172, 42, 27, 182, 0, 106, 62, 29, 153, 0, 5, 29, 172, 42, 180, 0, 16, 27]
abbrev dktX5_noDay_1 : List UInt8 := dkwX5_noDay_1 ++ dktX5_noDay_2
def dkwX5_noDay_0 : List UInt8 := [27, 133, 9, 20, 0, 96, 184, 0, 88, 153, 0, 15, 28, 133, 9, 20, 0, 96, 184, 0, 88, 154, 0, 10]
abbrev dktX5_noDay_0 : List UInt8 := dkwX5_noDay_0 ++ dktX5_noDay_1
theorem dksX5_noDay_0 : cX5_noDay.data.toList.drop 0 = dktX5_noDay_0 := by decide +kernel
theorem dksX5_noDay_1 : cX5_noDay.data.toList.drop 24 = dktX5_noDay_1 := dk_seg dksX5_noDay_0 24 rfl rfl
theorem dksX5_noDay_2 : cX5_noDay.data.toList.drop 48 = dktX5_noDay_2 := dk_seg dksX5_noDay_1 24 rfl rfl
theorem dX5_noDay_0 : decode cX5_noDay 0 = .ok (.iload_n 1, 1) := dk_27 (dk_at dksX5_noDay_0 0 rfl rfl)
theorem dX5_noDay_1 : decode cX5_noDay 1 = .ok (.i2l, 1) := dk_133 (dk_at dksX5_noDay_0 1 rfl rfl)
theorem dX5_noDay_2 : decode cX5_noDay 2 = .ok (.lconst 0, 1) := dk_9 (dk_at dksX5_noDay_0 2 rfl rfl)
theorem dX5_noDay_3 : decode cX5_noDay 3 = .ok (.ldc2_w 96, 3) := dk_20 0 96 (dk_at dksX5_noDay_0 3 rfl rfl)
theorem dX5_noDay_6 : decode cX5_noDay 6 = .ok (.invokestatic 88, 3) := dk_184 0 88 (dk_at dksX5_noDay_0 6 rfl rfl)
theorem dX5_noDay_9 : decode cX5_noDay 9 = .ok (.ifCond .eq 15, 3) := dk_153 0 15 (dk_at dksX5_noDay_0 9 rfl rfl)
theorem dX5_noDay_12 : decode cX5_noDay 12 = .ok (.iload_n 2, 1) := dk_28 (dk_at dksX5_noDay_0 12 rfl rfl)
theorem dX5_noDay_13 : decode cX5_noDay 13 = .ok (.i2l, 1) := dk_133 (dk_at dksX5_noDay_0 13 rfl rfl)
theorem dX5_noDay_14 : decode cX5_noDay 14 = .ok (.lconst 0, 1) := dk_9 (dk_at dksX5_noDay_0 14 rfl rfl)
theorem dX5_noDay_15 : decode cX5_noDay 15 = .ok (.ldc2_w 96, 3) := dk_20 0 96 (dk_at dksX5_noDay_0 15 rfl rfl)
theorem dX5_noDay_18 : decode cX5_noDay 18 = .ok (.invokestatic 88, 3) := dk_184 0 88 (dk_at dksX5_noDay_0 18 rfl rfl)
theorem dX5_noDay_21 : decode cX5_noDay 21 = .ok (.ifCond .ne 10, 3) := dk_154 0 10 (dk_at dksX5_noDay_0 21 rfl rfl)
theorem dX5_noDay_24 : decode cX5_noDay 24 = .ok (.aload_n 0, 1) := dk_42 (dk_at dksX5_noDay_1 0 rfl rfl)
theorem dX5_noDay_25 : decode cX5_noDay 25 = .ok (.bipush (-2), 2) := dk_16 254 (dk_at dksX5_noDay_1 1 rfl rfl)
theorem dX5_noDay_27 : decode cX5_noDay 27 = .ok (.invokevirtual 102, 3) := dk_182 0 102 (dk_at dksX5_noDay_1 3 rfl rfl)
theorem dX5_noDay_30 : decode cX5_noDay 30 = .ok (.ireturn, 1) := dk_172 (dk_at dksX5_noDay_1 6 rfl rfl)
theorem dX5_noDay_31 : decode cX5_noDay 31 = .ok (.aload_n 0, 1) := dk_42 (dk_at dksX5_noDay_1 7 rfl rfl)
theorem dX5_noDay_32 : decode cX5_noDay 32 = .ok (.iload_n 1, 1) := dk_27 (dk_at dksX5_noDay_1 8 rfl rfl)
theorem dX5_noDay_33 : decode cX5_noDay 33 = .ok (.invokevirtual 106, 3) := dk_182 0 106 (dk_at dksX5_noDay_1 9 rfl rfl)
theorem dX5_noDay_36 : decode cX5_noDay 36 = .ok (.istore_n 3, 1) := dk_62 (dk_at dksX5_noDay_1 12 rfl rfl)
theorem dX5_noDay_37 : decode cX5_noDay 37 = .ok (.iload_n 3, 1) := dk_29 (dk_at dksX5_noDay_1 13 rfl rfl)
theorem dX5_noDay_38 : decode cX5_noDay 38 = .ok (.ifCond .eq 5, 3) := dk_153 0 5 (dk_at dksX5_noDay_1 14 rfl rfl)
theorem dX5_noDay_41 : decode cX5_noDay 41 = .ok (.iload_n 3, 1) := dk_29 (dk_at dksX5_noDay_1 17 rfl rfl)
theorem dX5_noDay_42 : decode cX5_noDay 42 = .ok (.ireturn, 1) := dk_172 (dk_at dksX5_noDay_1 18 rfl rfl)
theorem dX5_noDay_43 : decode cX5_noDay 43 = .ok (.aload_n 0, 1) := dk_42 (dk_at dksX5_noDay_1 19 rfl rfl)
theorem dX5_noDay_44 : decode cX5_noDay 44 = .ok (.getfield 16, 3) := dk_180 0 16 (dk_at dksX5_noDay_1 20 rfl rfl)
theorem dX5_noDay_47 : decode cX5_noDay 47 = .ok (.iload_n 1, 1) := dk_27 (dk_at dksX5_noDay_1 23 rfl rfl)
theorem dX5_noDay_48 : decode cX5_noDay 48 = .ok (.iaload, 1) := dk_46 (dk_at dksX5_noDay_2 0 rfl rfl)
theorem dX5_noDay_49 : decode cX5_noDay 49 = .ok (.iload_n 2, 1) := dk_28 (dk_at dksX5_noDay_2 1 rfl rfl)
theorem dX5_noDay_50 : decode cX5_noDay 50 = .ok (.if_icmp .ge 12, 3) := dk_162 0 12 (dk_at dksX5_noDay_2 2 rfl rfl)
theorem dX5_noDay_53 : decode cX5_noDay 53 = .ok (.aload_n 0, 1) := dk_42 (dk_at dksX5_noDay_2 5 rfl rfl)
theorem dX5_noDay_54 : decode cX5_noDay 54 = .ok (.bipush (-2), 2) := dk_16 254 (dk_at dksX5_noDay_2 6 rfl rfl)
theorem dX5_noDay_56 : decode cX5_noDay 56 = .ok (.invokevirtual 102, 3) := dk_182 0 102 (dk_at dksX5_noDay_2 8 rfl rfl)
theorem dX5_noDay_59 : decode cX5_noDay 59 = .ok (.goto 4, 3) := dk_167 0 4 (dk_at dksX5_noDay_2 11 rfl rfl)
theorem dX5_noDay_62 : decode cX5_noDay 62 = .ok (.iconst 0, 1) := dk_3 (dk_at dksX5_noDay_2 14 rfl rfl)
theorem dX5_noDay_63 : decode cX5_noDay 63 = .ok (.ireturn, 1) := dk_172 (dk_at dksX5_noDay_2 15 rfl rfl)
abbrev cX5_wrongCoach : ByteArray := prog_18_method_88_code
def yX5_wrongCoach : MethodName := ⟨RX5, "wrongCoach", "([JI)I"⟩
def dkwX5_wrongCoach_3 : List UInt8 := [2, 172]
abbrev dktX5_wrongCoach_3 : List UInt8 := dkwX5_wrongCoach_3 ++ []
def dkwX5_wrongCoach_2 : List UInt8 := [153, 0, 5, 29, 172, 42, 89, 180, 1, 92, 43, 29, 47, 136, 128, 181, 1, 92, 132, 3, 1, 167, 255, 195]
abbrev dktX5_wrongCoach_2 : List UInt8 := dkwX5_wrongCoach_2 ++ dktX5_wrongCoach_3
def dkwX5_wrongCoach_1 : List UInt8 := [153, 0, 26, 42, 43, 29, 47, 136, 182, 1, 10, 153, 0, 15, 43, 29, 47, 136, 42, 180, 1, 92, 126]
abbrev dktX5_wrongCoach_1 : List UInt8 := dkwX5_wrongCoach_1 ++ dktX5_wrongCoach_2
def dkwX5_wrongCoach_0 : List UInt8 := [42, 3, 181, 1, 92, 3, 62, 29, 28, 162, 0, 62, 43, 29, 47, 9, 42, 182, 0, 92, 133, 184, 0, 88]
abbrev dktX5_wrongCoach_0 : List UInt8 := dkwX5_wrongCoach_0 ++ dktX5_wrongCoach_1
theorem dksX5_wrongCoach_0 : cX5_wrongCoach.data.toList.drop 0 = dktX5_wrongCoach_0 := by decide +kernel
theorem dksX5_wrongCoach_1 : cX5_wrongCoach.data.toList.drop 24 = dktX5_wrongCoach_1 := dk_seg dksX5_wrongCoach_0 24 rfl rfl
theorem dksX5_wrongCoach_2 : cX5_wrongCoach.data.toList.drop 47 = dktX5_wrongCoach_2 := dk_seg dksX5_wrongCoach_1 23 rfl rfl
theorem dksX5_wrongCoach_3 : cX5_wrongCoach.data.toList.drop 71 = dktX5_wrongCoach_3 := dk_seg dksX5_wrongCoach_2 24 rfl rfl
theorem dX5_wrongCoach_0 : decode cX5_wrongCoach 0 = .ok (.aload_n 0, 1) := dk_42 (dk_at dksX5_wrongCoach_0 0 rfl rfl)
theorem dX5_wrongCoach_1 : decode cX5_wrongCoach 1 = .ok (.iconst 0, 1) := dk_3 (dk_at dksX5_wrongCoach_0 1 rfl rfl)
theorem dX5_wrongCoach_2 : decode cX5_wrongCoach 2 = .ok (.putfield 348, 3) := dk_181 1 92 (dk_at dksX5_wrongCoach_0 2 rfl rfl)
theorem dX5_wrongCoach_5 : decode cX5_wrongCoach 5 = .ok (.iconst 0, 1) := dk_3 (dk_at dksX5_wrongCoach_0 5 rfl rfl)
theorem dX5_wrongCoach_6 : decode cX5_wrongCoach 6 = .ok (.istore_n 3, 1) := dk_62 (dk_at dksX5_wrongCoach_0 6 rfl rfl)
theorem dX5_wrongCoach_7 : decode cX5_wrongCoach 7 = .ok (.iload_n 3, 1) := dk_29 (dk_at dksX5_wrongCoach_0 7 rfl rfl)
theorem dX5_wrongCoach_8 : decode cX5_wrongCoach 8 = .ok (.iload_n 2, 1) := dk_28 (dk_at dksX5_wrongCoach_0 8 rfl rfl)
theorem dX5_wrongCoach_9 : decode cX5_wrongCoach 9 = .ok (.if_icmp .ge 62, 3) := dk_162 0 62 (dk_at dksX5_wrongCoach_0 9 rfl rfl)
theorem dX5_wrongCoach_12 : decode cX5_wrongCoach 12 = .ok (.aload_n 1, 1) := dk_43 (dk_at dksX5_wrongCoach_0 12 rfl rfl)
theorem dX5_wrongCoach_13 : decode cX5_wrongCoach 13 = .ok (.iload_n 3, 1) := dk_29 (dk_at dksX5_wrongCoach_0 13 rfl rfl)
theorem dX5_wrongCoach_14 : decode cX5_wrongCoach 14 = .ok (.laload, 1) := dk_47 (dk_at dksX5_wrongCoach_0 14 rfl rfl)
theorem dX5_wrongCoach_15 : decode cX5_wrongCoach 15 = .ok (.lconst 0, 1) := dk_9 (dk_at dksX5_wrongCoach_0 15 rfl rfl)
theorem dX5_wrongCoach_16 : decode cX5_wrongCoach 16 = .ok (.aload_n 0, 1) := dk_42 (dk_at dksX5_wrongCoach_0 16 rfl rfl)
theorem dX5_wrongCoach_17 : decode cX5_wrongCoach 17 = .ok (.invokevirtual 92, 3) := dk_182 0 92 (dk_at dksX5_wrongCoach_0 17 rfl rfl)
theorem dX5_wrongCoach_20 : decode cX5_wrongCoach 20 = .ok (.i2l, 1) := dk_133 (dk_at dksX5_wrongCoach_0 20 rfl rfl)
theorem dX5_wrongCoach_21 : decode cX5_wrongCoach 21 = .ok (.invokestatic 88, 3) := dk_184 0 88 (dk_at dksX5_wrongCoach_0 21 rfl rfl)
theorem dX5_wrongCoach_24 : decode cX5_wrongCoach 24 = .ok (.ifCond .eq 26, 3) := dk_153 0 26 (dk_at dksX5_wrongCoach_1 0 rfl rfl)
theorem dX5_wrongCoach_27 : decode cX5_wrongCoach 27 = .ok (.aload_n 0, 1) := dk_42 (dk_at dksX5_wrongCoach_1 3 rfl rfl)
theorem dX5_wrongCoach_28 : decode cX5_wrongCoach 28 = .ok (.aload_n 1, 1) := dk_43 (dk_at dksX5_wrongCoach_1 4 rfl rfl)
theorem dX5_wrongCoach_29 : decode cX5_wrongCoach 29 = .ok (.iload_n 3, 1) := dk_29 (dk_at dksX5_wrongCoach_1 5 rfl rfl)
theorem dX5_wrongCoach_30 : decode cX5_wrongCoach 30 = .ok (.laload, 1) := dk_47 (dk_at dksX5_wrongCoach_1 6 rfl rfl)
theorem dX5_wrongCoach_31 : decode cX5_wrongCoach 31 = .ok (.l2i, 1) := dk_136 (dk_at dksX5_wrongCoach_1 7 rfl rfl)
theorem dX5_wrongCoach_32 : decode cX5_wrongCoach 32 = .ok (.invokevirtual 266, 3) := dk_182 1 10 (dk_at dksX5_wrongCoach_1 8 rfl rfl)
theorem dX5_wrongCoach_35 : decode cX5_wrongCoach 35 = .ok (.ifCond .eq 15, 3) := dk_153 0 15 (dk_at dksX5_wrongCoach_1 11 rfl rfl)
theorem dX5_wrongCoach_38 : decode cX5_wrongCoach 38 = .ok (.aload_n 1, 1) := dk_43 (dk_at dksX5_wrongCoach_1 14 rfl rfl)
theorem dX5_wrongCoach_39 : decode cX5_wrongCoach 39 = .ok (.iload_n 3, 1) := dk_29 (dk_at dksX5_wrongCoach_1 15 rfl rfl)
theorem dX5_wrongCoach_40 : decode cX5_wrongCoach 40 = .ok (.laload, 1) := dk_47 (dk_at dksX5_wrongCoach_1 16 rfl rfl)
theorem dX5_wrongCoach_41 : decode cX5_wrongCoach 41 = .ok (.l2i, 1) := dk_136 (dk_at dksX5_wrongCoach_1 17 rfl rfl)
theorem dX5_wrongCoach_42 : decode cX5_wrongCoach 42 = .ok (.aload_n 0, 1) := dk_42 (dk_at dksX5_wrongCoach_1 18 rfl rfl)
theorem dX5_wrongCoach_43 : decode cX5_wrongCoach 43 = .ok (.getfield 348, 3) := dk_180 1 92 (dk_at dksX5_wrongCoach_1 19 rfl rfl)
theorem dX5_wrongCoach_46 : decode cX5_wrongCoach 46 = .ok (.iand, 1) := dk_126 (dk_at dksX5_wrongCoach_1 22 rfl rfl)
theorem dX5_wrongCoach_47 : decode cX5_wrongCoach 47 = .ok (.ifCond .eq 5, 3) := dk_153 0 5 (dk_at dksX5_wrongCoach_2 0 rfl rfl)
theorem dX5_wrongCoach_50 : decode cX5_wrongCoach 50 = .ok (.iload_n 3, 1) := dk_29 (dk_at dksX5_wrongCoach_2 3 rfl rfl)
theorem dX5_wrongCoach_51 : decode cX5_wrongCoach 51 = .ok (.ireturn, 1) := dk_172 (dk_at dksX5_wrongCoach_2 4 rfl rfl)
theorem dX5_wrongCoach_52 : decode cX5_wrongCoach 52 = .ok (.aload_n 0, 1) := dk_42 (dk_at dksX5_wrongCoach_2 5 rfl rfl)
theorem dX5_wrongCoach_53 : decode cX5_wrongCoach 53 = .ok (.dup, 1) := dk_89 (dk_at dksX5_wrongCoach_2 6 rfl rfl)
theorem dX5_wrongCoach_54 : decode cX5_wrongCoach 54 = .ok (.getfield 348, 3) := dk_180 1 92 (dk_at dksX5_wrongCoach_2 7 rfl rfl)
theorem dX5_wrongCoach_57 : decode cX5_wrongCoach 57 = .ok (.aload_n 1, 1) := dk_43 (dk_at dksX5_wrongCoach_2 10 rfl rfl)
theorem dX5_wrongCoach_58 : decode cX5_wrongCoach 58 = .ok (.iload_n 3, 1) := dk_29 (dk_at dksX5_wrongCoach_2 11 rfl rfl)
theorem dX5_wrongCoach_59 : decode cX5_wrongCoach 59 = .ok (.laload, 1) := dk_47 (dk_at dksX5_wrongCoach_2 12 rfl rfl)
theorem dX5_wrongCoach_60 : decode cX5_wrongCoach 60 = .ok (.l2i, 1) := dk_136 (dk_at dksX5_wrongCoach_2 13 rfl rfl)
theorem dX5_wrongCoach_61 : decode cX5_wrongCoach 61 = .ok (.ior, 1) := dk_128 (dk_at dksX5_wrongCoach_2 14 rfl rfl)
theorem dX5_wrongCoach_62 : decode cX5_wrongCoach 62 = .ok (.putfield 348, 3) := dk_181 1 92 (dk_at dksX5_wrongCoach_2 15 rfl rfl)
theorem dX5_wrongCoach_65 : decode cX5_wrongCoach 65 = .ok (.iinc 3 1, 3) := dk_132 3 1 (dk_at dksX5_wrongCoach_2 18 rfl rfl)
theorem dX5_wrongCoach_68 : decode cX5_wrongCoach 68 = .ok (.goto (-61), 3) := dk_167 255 195 (dk_at dksX5_wrongCoach_2 21 rfl rfl)
theorem dX5_wrongCoach_71 : decode cX5_wrongCoach 71 = .ok (.iconst (-1), 1) := dk_2 (dk_at dksX5_wrongCoach_3 0 rfl rfl)
theorem dX5_wrongCoach_72 : decode cX5_wrongCoach 72 = .ok (.ireturn, 1) := dk_172 (dk_at dksX5_wrongCoach_3 1 rfl rfl)
abbrev cX5_behind : ByteArray := prog_18_method_90_code
def yX5_behind : MethodName := ⟨RX5, "behind", "(III)I"⟩
def dkwX5_behind_5 : List UInt8 := [172]
abbrev dktX5_behind_5 : List UInt8 := dkwX5_behind_5 ++ []
def dkwX5_behind_4 : List UInt8 := [50, 21, 6, 47, 136, 182, 0, 213, 87, 132, 6, 1, 167, 255, 231, 25, 5, 42, 182, 0, 92, 182, 1, 16]
abbrev dktX5_behind_4 : List UInt8 := dkwX5_behind_4 ++ dktX5_behind_5
def dkwX5_behind_3 : List UInt8 := [126, 172, 42, 182, 0, 238, 58, 5, 3, 54, 6, 21, 6, 28, 162, 0, 25, 25, 5, 42, 180, 0, 21, 27]
abbrev dktX5_behind_3 : List UInt8 := dkwX5_behind_3 ++ dktX5_behind_4
def dkwX5_behind_2 : List UInt8 := [159, 0, 10, 42, 16, 251, 182, 0, 102, 172, 29, 154, 0, 15, 42, 182, 0, 92, 42, 180, 1, 92, 2, 130]
abbrev dktX5_behind_2 : List UInt8 := dkwX5_behind_2 ++ dktX5_behind_3
def dkwX5_behind_1 : List UInt8 := [54, 4, 21, 4, 153, 0, 6, 21, 4, 172, 42, 42, 180, 0, 21, 27, 50, 28, 182, 1, 98, 2]
abbrev dktX5_behind_1 : List UInt8 := dkwX5_behind_1 ++ dktX5_behind_2
def dkwX5_behind_0 : List UInt8 := [29, 133, 9, 10, 184, 0, 88, 154, 0, 10, 42, 16, 254, 182, 0, 102, 172, 42, 27, 28, 182, 1, 95]
abbrev dktX5_behind_0 : List UInt8 := dkwX5_behind_0 ++ dktX5_behind_1
theorem dksX5_behind_0 : cX5_behind.data.toList.drop 0 = dktX5_behind_0 := by decide +kernel
theorem dksX5_behind_1 : cX5_behind.data.toList.drop 23 = dktX5_behind_1 := dk_seg dksX5_behind_0 23 rfl rfl
theorem dksX5_behind_2 : cX5_behind.data.toList.drop 45 = dktX5_behind_2 := dk_seg dksX5_behind_1 22 rfl rfl
theorem dksX5_behind_3 : cX5_behind.data.toList.drop 69 = dktX5_behind_3 := dk_seg dksX5_behind_2 24 rfl rfl
theorem dksX5_behind_4 : cX5_behind.data.toList.drop 93 = dktX5_behind_4 := dk_seg dksX5_behind_3 24 rfl rfl
theorem dksX5_behind_5 : cX5_behind.data.toList.drop 117 = dktX5_behind_5 := dk_seg dksX5_behind_4 24 rfl rfl
theorem dX5_behind_0 : decode cX5_behind 0 = .ok (.iload_n 3, 1) := dk_29 (dk_at dksX5_behind_0 0 rfl rfl)
theorem dX5_behind_1 : decode cX5_behind 1 = .ok (.i2l, 1) := dk_133 (dk_at dksX5_behind_0 1 rfl rfl)
theorem dX5_behind_2 : decode cX5_behind 2 = .ok (.lconst 0, 1) := dk_9 (dk_at dksX5_behind_0 2 rfl rfl)
theorem dX5_behind_3 : decode cX5_behind 3 = .ok (.lconst 1, 1) := dk_10 (dk_at dksX5_behind_0 3 rfl rfl)
theorem dX5_behind_4 : decode cX5_behind 4 = .ok (.invokestatic 88, 3) := dk_184 0 88 (dk_at dksX5_behind_0 4 rfl rfl)
theorem dX5_behind_7 : decode cX5_behind 7 = .ok (.ifCond .ne 10, 3) := dk_154 0 10 (dk_at dksX5_behind_0 7 rfl rfl)
theorem dX5_behind_10 : decode cX5_behind 10 = .ok (.aload_n 0, 1) := dk_42 (dk_at dksX5_behind_0 10 rfl rfl)
theorem dX5_behind_11 : decode cX5_behind 11 = .ok (.bipush (-2), 2) := dk_16 254 (dk_at dksX5_behind_0 11 rfl rfl)
theorem dX5_behind_13 : decode cX5_behind 13 = .ok (.invokevirtual 102, 3) := dk_182 0 102 (dk_at dksX5_behind_0 13 rfl rfl)
theorem dX5_behind_16 : decode cX5_behind 16 = .ok (.ireturn, 1) := dk_172 (dk_at dksX5_behind_0 16 rfl rfl)
theorem dX5_behind_17 : decode cX5_behind 17 = .ok (.aload_n 0, 1) := dk_42 (dk_at dksX5_behind_0 17 rfl rfl)
theorem dX5_behind_18 : decode cX5_behind 18 = .ok (.iload_n 1, 1) := dk_27 (dk_at dksX5_behind_0 18 rfl rfl)
theorem dX5_behind_19 : decode cX5_behind 19 = .ok (.iload_n 2, 1) := dk_28 (dk_at dksX5_behind_0 19 rfl rfl)
theorem dX5_behind_20 : decode cX5_behind 20 = .ok (.invokevirtual 351, 3) := dk_182 1 95 (dk_at dksX5_behind_0 20 rfl rfl)
theorem dX5_behind_23 : decode cX5_behind 23 = .ok (.istore 4, 2) := dk_54 4 (dk_at dksX5_behind_1 0 rfl rfl)
theorem dX5_behind_25 : decode cX5_behind 25 = .ok (.iload 4, 2) := dk_21 4 (dk_at dksX5_behind_1 2 rfl rfl)
theorem dX5_behind_27 : decode cX5_behind 27 = .ok (.ifCond .eq 6, 3) := dk_153 0 6 (dk_at dksX5_behind_1 4 rfl rfl)
theorem dX5_behind_30 : decode cX5_behind 30 = .ok (.iload 4, 2) := dk_21 4 (dk_at dksX5_behind_1 7 rfl rfl)
theorem dX5_behind_32 : decode cX5_behind 32 = .ok (.ireturn, 1) := dk_172 (dk_at dksX5_behind_1 9 rfl rfl)
theorem dX5_behind_33 : decode cX5_behind 33 = .ok (.aload_n 0, 1) := dk_42 (dk_at dksX5_behind_1 10 rfl rfl)
theorem dX5_behind_34 : decode cX5_behind 34 = .ok (.aload_n 0, 1) := dk_42 (dk_at dksX5_behind_1 11 rfl rfl)
theorem dX5_behind_35 : decode cX5_behind 35 = .ok (.getfield 21, 3) := dk_180 0 21 (dk_at dksX5_behind_1 12 rfl rfl)
theorem dX5_behind_38 : decode cX5_behind 38 = .ok (.iload_n 1, 1) := dk_27 (dk_at dksX5_behind_1 15 rfl rfl)
theorem dX5_behind_39 : decode cX5_behind 39 = .ok (.aaload, 1) := dk_50 (dk_at dksX5_behind_1 16 rfl rfl)
theorem dX5_behind_40 : decode cX5_behind 40 = .ok (.iload_n 2, 1) := dk_28 (dk_at dksX5_behind_1 17 rfl rfl)
theorem dX5_behind_41 : decode cX5_behind 41 = .ok (.invokevirtual 354, 3) := dk_182 1 98 (dk_at dksX5_behind_1 18 rfl rfl)
theorem dX5_behind_44 : decode cX5_behind 44 = .ok (.iconst (-1), 1) := dk_2 (dk_at dksX5_behind_1 21 rfl rfl)
theorem dX5_behind_45 : decode cX5_behind 45 = .ok (.if_icmp .eq 10, 3) := dk_159 0 10 (dk_at dksX5_behind_2 0 rfl rfl)
theorem dX5_behind_48 : decode cX5_behind 48 = .ok (.aload_n 0, 1) := dk_42 (dk_at dksX5_behind_2 3 rfl rfl)
theorem dX5_behind_49 : decode cX5_behind 49 = .ok (.bipush (-5), 2) := dk_16 251 (dk_at dksX5_behind_2 4 rfl rfl)
theorem dX5_behind_51 : decode cX5_behind 51 = .ok (.invokevirtual 102, 3) := dk_182 0 102 (dk_at dksX5_behind_2 6 rfl rfl)
theorem dX5_behind_54 : decode cX5_behind 54 = .ok (.ireturn, 1) := dk_172 (dk_at dksX5_behind_2 9 rfl rfl)
theorem dX5_behind_55 : decode cX5_behind 55 = .ok (.iload_n 3, 1) := dk_29 (dk_at dksX5_behind_2 10 rfl rfl)
theorem dX5_behind_56 : decode cX5_behind 56 = .ok (.ifCond .ne 15, 3) := dk_154 0 15 (dk_at dksX5_behind_2 11 rfl rfl)
theorem dX5_behind_59 : decode cX5_behind 59 = .ok (.aload_n 0, 1) := dk_42 (dk_at dksX5_behind_2 14 rfl rfl)
theorem dX5_behind_60 : decode cX5_behind 60 = .ok (.invokevirtual 92, 3) := dk_182 0 92 (dk_at dksX5_behind_2 15 rfl rfl)
theorem dX5_behind_63 : decode cX5_behind 63 = .ok (.aload_n 0, 1) := dk_42 (dk_at dksX5_behind_2 18 rfl rfl)
theorem dX5_behind_64 : decode cX5_behind 64 = .ok (.getfield 348, 3) := dk_180 1 92 (dk_at dksX5_behind_2 19 rfl rfl)
theorem dX5_behind_67 : decode cX5_behind 67 = .ok (.iconst (-1), 1) := dk_2 (dk_at dksX5_behind_2 22 rfl rfl)
theorem dX5_behind_68 : decode cX5_behind 68 = .ok (.ixor, 1) := dk_130 (dk_at dksX5_behind_2 23 rfl rfl)
theorem dX5_behind_69 : decode cX5_behind 69 = .ok (.iand, 1) := dk_126 (dk_at dksX5_behind_3 0 rfl rfl)
theorem dX5_behind_70 : decode cX5_behind 70 = .ok (.ireturn, 1) := dk_172 (dk_at dksX5_behind_3 1 rfl rfl)
theorem dX5_behind_71 : decode cX5_behind 71 = .ok (.aload_n 0, 1) := dk_42 (dk_at dksX5_behind_3 2 rfl rfl)
theorem dX5_behind_72 : decode cX5_behind 72 = .ok (.invokevirtual 238, 3) := dk_182 0 238 (dk_at dksX5_behind_3 3 rfl rfl)
theorem dX5_behind_75 : decode cX5_behind 75 = .ok (.astore 5, 2) := dk_58 5 (dk_at dksX5_behind_3 6 rfl rfl)
theorem dX5_behind_77 : decode cX5_behind 77 = .ok (.iconst 0, 1) := dk_3 (dk_at dksX5_behind_3 8 rfl rfl)
theorem dX5_behind_78 : decode cX5_behind 78 = .ok (.istore 6, 2) := dk_54 6 (dk_at dksX5_behind_3 9 rfl rfl)
theorem dX5_behind_80 : decode cX5_behind 80 = .ok (.iload 6, 2) := dk_21 6 (dk_at dksX5_behind_3 11 rfl rfl)
theorem dX5_behind_82 : decode cX5_behind 82 = .ok (.iload_n 2, 1) := dk_28 (dk_at dksX5_behind_3 13 rfl rfl)
theorem dX5_behind_83 : decode cX5_behind 83 = .ok (.if_icmp .ge 25, 3) := dk_162 0 25 (dk_at dksX5_behind_3 14 rfl rfl)
theorem dX5_behind_86 : decode cX5_behind 86 = .ok (.aload 5, 2) := dk_25 5 (dk_at dksX5_behind_3 17 rfl rfl)
theorem dX5_behind_88 : decode cX5_behind 88 = .ok (.aload_n 0, 1) := dk_42 (dk_at dksX5_behind_3 19 rfl rfl)
theorem dX5_behind_89 : decode cX5_behind 89 = .ok (.getfield 21, 3) := dk_180 0 21 (dk_at dksX5_behind_3 20 rfl rfl)
theorem dX5_behind_92 : decode cX5_behind 92 = .ok (.iload_n 1, 1) := dk_27 (dk_at dksX5_behind_3 23 rfl rfl)
theorem dX5_behind_93 : decode cX5_behind 93 = .ok (.aaload, 1) := dk_50 (dk_at dksX5_behind_4 0 rfl rfl)
theorem dX5_behind_94 : decode cX5_behind 94 = .ok (.iload 6, 2) := dk_21 6 (dk_at dksX5_behind_4 1 rfl rfl)
theorem dX5_behind_96 : decode cX5_behind 96 = .ok (.laload, 1) := dk_47 (dk_at dksX5_behind_4 3 rfl rfl)
theorem dX5_behind_97 : decode cX5_behind 97 = .ok (.l2i, 1) := dk_136 (dk_at dksX5_behind_4 4 rfl rfl)
theorem dX5_behind_98 : decode cX5_behind 98 = .ok (.invokevirtual 213, 3) := dk_182 0 213 (dk_at dksX5_behind_4 5 rfl rfl)
theorem dX5_behind_101 : decode cX5_behind 101 = .ok (.pop, 1) := dk_87 (dk_at dksX5_behind_4 8 rfl rfl)
theorem dX5_behind_102 : decode cX5_behind 102 = .ok (.iinc 6 1, 3) := dk_132 6 1 (dk_at dksX5_behind_4 9 rfl rfl)
theorem dX5_behind_105 : decode cX5_behind 105 = .ok (.goto (-25), 3) := dk_167 255 231 (dk_at dksX5_behind_4 12 rfl rfl)
theorem dX5_behind_108 : decode cX5_behind 108 = .ok (.aload 5, 2) := dk_25 5 (dk_at dksX5_behind_4 15 rfl rfl)
theorem dX5_behind_110 : decode cX5_behind 110 = .ok (.aload_n 0, 1) := dk_42 (dk_at dksX5_behind_4 17 rfl rfl)
theorem dX5_behind_111 : decode cX5_behind 111 = .ok (.invokevirtual 92, 3) := dk_182 0 92 (dk_at dksX5_behind_4 18 rfl rfl)
theorem dX5_behind_114 : decode cX5_behind 114 = .ok (.invokevirtual 272, 3) := dk_182 1 16 (dk_at dksX5_behind_4 21 rfl rfl)
theorem dX5_behind_117 : decode cX5_behind 117 = .ok (.ireturn, 1) := dk_172 (dk_at dksX5_behind_5 0 rfl rfl)
abbrev cX5_rides : ByteArray := prog_18_method_91_code
def yX5_rides : MethodName := ⟨RX5, "rides", "(II)I"⟩
def dkwX5_rides_3 : List UInt8 := [28, 96, 181, 1, 102, 42, 89, 180, 1, 105, 4, 96, 181, 1, 105, 28, 172]
abbrev dktX5_rides_3 : List UInt8 := dkwX5_rides_3 ++ []
def dkwX5_rides_2 : List UInt8 := [180, 0, 21, 27, 50, 21, 4, 47, 136, 182, 0, 213, 87, 132, 4, 1, 167, 255, 232, 42, 89, 180, 1, 102]
abbrev dktX5_rides_2 : List UInt8 := dkwX5_rides_2 ++ dktX5_rides_3
def dkwX5_rides_1 : List UInt8 := [2, 159, 0, 10, 42, 16, 251, 182, 0, 102, 172, 3, 54, 4, 21, 4, 28, 162, 0, 24, 42, 42]
abbrev dktX5_rides_1 : List UInt8 := dkwX5_rides_1 ++ dktX5_rides_2
def dkwX5_rides_0 : List UInt8 := [42, 27, 28, 182, 1, 95, 62, 29, 153, 0, 5, 29, 172, 42, 42, 180, 0, 21, 27, 50, 28, 182, 1, 98]
abbrev dktX5_rides_0 : List UInt8 := dkwX5_rides_0 ++ dktX5_rides_1
theorem dksX5_rides_0 : cX5_rides.data.toList.drop 0 = dktX5_rides_0 := by decide +kernel
theorem dksX5_rides_1 : cX5_rides.data.toList.drop 24 = dktX5_rides_1 := dk_seg dksX5_rides_0 24 rfl rfl
theorem dksX5_rides_2 : cX5_rides.data.toList.drop 46 = dktX5_rides_2 := dk_seg dksX5_rides_1 22 rfl rfl
theorem dksX5_rides_3 : cX5_rides.data.toList.drop 70 = dktX5_rides_3 := dk_seg dksX5_rides_2 24 rfl rfl
theorem dX5_rides_0 : decode cX5_rides 0 = .ok (.aload_n 0, 1) := dk_42 (dk_at dksX5_rides_0 0 rfl rfl)
theorem dX5_rides_1 : decode cX5_rides 1 = .ok (.iload_n 1, 1) := dk_27 (dk_at dksX5_rides_0 1 rfl rfl)
theorem dX5_rides_2 : decode cX5_rides 2 = .ok (.iload_n 2, 1) := dk_28 (dk_at dksX5_rides_0 2 rfl rfl)
theorem dX5_rides_3 : decode cX5_rides 3 = .ok (.invokevirtual 351, 3) := dk_182 1 95 (dk_at dksX5_rides_0 3 rfl rfl)
theorem dX5_rides_6 : decode cX5_rides 6 = .ok (.istore_n 3, 1) := dk_62 (dk_at dksX5_rides_0 6 rfl rfl)
theorem dX5_rides_7 : decode cX5_rides 7 = .ok (.iload_n 3, 1) := dk_29 (dk_at dksX5_rides_0 7 rfl rfl)
theorem dX5_rides_8 : decode cX5_rides 8 = .ok (.ifCond .eq 5, 3) := dk_153 0 5 (dk_at dksX5_rides_0 8 rfl rfl)
theorem dX5_rides_11 : decode cX5_rides 11 = .ok (.iload_n 3, 1) := dk_29 (dk_at dksX5_rides_0 11 rfl rfl)
theorem dX5_rides_12 : decode cX5_rides 12 = .ok (.ireturn, 1) := dk_172 (dk_at dksX5_rides_0 12 rfl rfl)
theorem dX5_rides_13 : decode cX5_rides 13 = .ok (.aload_n 0, 1) := dk_42 (dk_at dksX5_rides_0 13 rfl rfl)
theorem dX5_rides_14 : decode cX5_rides 14 = .ok (.aload_n 0, 1) := dk_42 (dk_at dksX5_rides_0 14 rfl rfl)
theorem dX5_rides_15 : decode cX5_rides 15 = .ok (.getfield 21, 3) := dk_180 0 21 (dk_at dksX5_rides_0 15 rfl rfl)
theorem dX5_rides_18 : decode cX5_rides 18 = .ok (.iload_n 1, 1) := dk_27 (dk_at dksX5_rides_0 18 rfl rfl)
theorem dX5_rides_19 : decode cX5_rides 19 = .ok (.aaload, 1) := dk_50 (dk_at dksX5_rides_0 19 rfl rfl)
theorem dX5_rides_20 : decode cX5_rides 20 = .ok (.iload_n 2, 1) := dk_28 (dk_at dksX5_rides_0 20 rfl rfl)
theorem dX5_rides_21 : decode cX5_rides 21 = .ok (.invokevirtual 354, 3) := dk_182 1 98 (dk_at dksX5_rides_0 21 rfl rfl)
theorem dX5_rides_24 : decode cX5_rides 24 = .ok (.iconst (-1), 1) := dk_2 (dk_at dksX5_rides_1 0 rfl rfl)
theorem dX5_rides_25 : decode cX5_rides 25 = .ok (.if_icmp .eq 10, 3) := dk_159 0 10 (dk_at dksX5_rides_1 1 rfl rfl)
theorem dX5_rides_28 : decode cX5_rides 28 = .ok (.aload_n 0, 1) := dk_42 (dk_at dksX5_rides_1 4 rfl rfl)
theorem dX5_rides_29 : decode cX5_rides 29 = .ok (.bipush (-5), 2) := dk_16 251 (dk_at dksX5_rides_1 5 rfl rfl)
theorem dX5_rides_31 : decode cX5_rides 31 = .ok (.invokevirtual 102, 3) := dk_182 0 102 (dk_at dksX5_rides_1 7 rfl rfl)
theorem dX5_rides_34 : decode cX5_rides 34 = .ok (.ireturn, 1) := dk_172 (dk_at dksX5_rides_1 10 rfl rfl)
theorem dX5_rides_35 : decode cX5_rides 35 = .ok (.iconst 0, 1) := dk_3 (dk_at dksX5_rides_1 11 rfl rfl)
theorem dX5_rides_36 : decode cX5_rides 36 = .ok (.istore 4, 2) := dk_54 4 (dk_at dksX5_rides_1 12 rfl rfl)
theorem dX5_rides_38 : decode cX5_rides 38 = .ok (.iload 4, 2) := dk_21 4 (dk_at dksX5_rides_1 14 rfl rfl)
theorem dX5_rides_40 : decode cX5_rides 40 = .ok (.iload_n 2, 1) := dk_28 (dk_at dksX5_rides_1 16 rfl rfl)
theorem dX5_rides_41 : decode cX5_rides 41 = .ok (.if_icmp .ge 24, 3) := dk_162 0 24 (dk_at dksX5_rides_1 17 rfl rfl)
theorem dX5_rides_44 : decode cX5_rides 44 = .ok (.aload_n 0, 1) := dk_42 (dk_at dksX5_rides_1 20 rfl rfl)
theorem dX5_rides_45 : decode cX5_rides 45 = .ok (.aload_n 0, 1) := dk_42 (dk_at dksX5_rides_1 21 rfl rfl)
theorem dX5_rides_46 : decode cX5_rides 46 = .ok (.getfield 21, 3) := dk_180 0 21 (dk_at dksX5_rides_2 0 rfl rfl)
theorem dX5_rides_49 : decode cX5_rides 49 = .ok (.iload_n 1, 1) := dk_27 (dk_at dksX5_rides_2 3 rfl rfl)
theorem dX5_rides_50 : decode cX5_rides 50 = .ok (.aaload, 1) := dk_50 (dk_at dksX5_rides_2 4 rfl rfl)
theorem dX5_rides_51 : decode cX5_rides 51 = .ok (.iload 4, 2) := dk_21 4 (dk_at dksX5_rides_2 5 rfl rfl)
theorem dX5_rides_53 : decode cX5_rides 53 = .ok (.laload, 1) := dk_47 (dk_at dksX5_rides_2 7 rfl rfl)
theorem dX5_rides_54 : decode cX5_rides 54 = .ok (.l2i, 1) := dk_136 (dk_at dksX5_rides_2 8 rfl rfl)
theorem dX5_rides_55 : decode cX5_rides 55 = .ok (.invokevirtual 213, 3) := dk_182 0 213 (dk_at dksX5_rides_2 9 rfl rfl)
theorem dX5_rides_58 : decode cX5_rides 58 = .ok (.pop, 1) := dk_87 (dk_at dksX5_rides_2 12 rfl rfl)
theorem dX5_rides_59 : decode cX5_rides 59 = .ok (.iinc 4 1, 3) := dk_132 4 1 (dk_at dksX5_rides_2 13 rfl rfl)
theorem dX5_rides_62 : decode cX5_rides 62 = .ok (.goto (-24), 3) := dk_167 255 232 (dk_at dksX5_rides_2 16 rfl rfl)
theorem dX5_rides_65 : decode cX5_rides 65 = .ok (.aload_n 0, 1) := dk_42 (dk_at dksX5_rides_2 19 rfl rfl)
theorem dX5_rides_66 : decode cX5_rides 66 = .ok (.dup, 1) := dk_89 (dk_at dksX5_rides_2 20 rfl rfl)
theorem dX5_rides_67 : decode cX5_rides 67 = .ok (.getfield 358, 3) := dk_180 1 102 (dk_at dksX5_rides_2 21 rfl rfl)
theorem dX5_rides_70 : decode cX5_rides 70 = .ok (.iload_n 2, 1) := dk_28 (dk_at dksX5_rides_3 0 rfl rfl)
theorem dX5_rides_71 : decode cX5_rides 71 = .ok (.iadd, 1) := dk_96 (dk_at dksX5_rides_3 1 rfl rfl)
theorem dX5_rides_72 : decode cX5_rides 72 = .ok (.putfield 358, 3) := dk_181 1 102 (dk_at dksX5_rides_3 2 rfl rfl)
theorem dX5_rides_75 : decode cX5_rides 75 = .ok (.aload_n 0, 1) := dk_42 (dk_at dksX5_rides_3 5 rfl rfl)
theorem dX5_rides_76 : decode cX5_rides 76 = .ok (.dup, 1) := dk_89 (dk_at dksX5_rides_3 6 rfl rfl)
theorem dX5_rides_77 : decode cX5_rides 77 = .ok (.getfield 361, 3) := dk_180 1 105 (dk_at dksX5_rides_3 7 rfl rfl)
theorem dX5_rides_80 : decode cX5_rides 80 = .ok (.iconst 1, 1) := dk_4 (dk_at dksX5_rides_3 10 rfl rfl)
theorem dX5_rides_81 : decode cX5_rides 81 = .ok (.iadd, 1) := dk_96 (dk_at dksX5_rides_3 11 rfl rfl)
theorem dX5_rides_82 : decode cX5_rides 82 = .ok (.putfield 361, 3) := dk_181 1 105 (dk_at dksX5_rides_3 12 rfl rfl)
theorem dX5_rides_85 : decode cX5_rides 85 = .ok (.iload_n 2, 1) := dk_28 (dk_at dksX5_rides_3 15 rfl rfl)
theorem dX5_rides_86 : decode cX5_rides 86 = .ok (.ireturn, 1) := dk_172 (dk_at dksX5_rides_3 16 rfl rfl)
abbrev cX5_day : ByteArray := prog_18_method_92_code
def yX5_day : MethodName := ⟨RX5, "day", "(I)I"⟩
def dkwX5_day_2 : List UInt8 := [181, 1, 105, 29, 172]
abbrev dktX5_day_2 : List UInt8 := dkwX5_day_2 ++ []
def dkwX5_day_1 : List UInt8 := [46, 182, 1, 56, 62, 42, 89, 180, 1, 102, 29, 96, 181, 1, 102, 42, 89, 180, 1, 105, 4, 96]
abbrev dktX5_day_1 : List UInt8 := dkwX5_day_1 ++ dktX5_day_2
def dkwX5_day_0 : List UInt8 := [42, 27, 182, 1, 34, 61, 28, 153, 0, 5, 28, 172, 42, 42, 180, 0, 28, 27, 46, 42, 180, 0, 31, 27]
abbrev dktX5_day_0 : List UInt8 := dkwX5_day_0 ++ dktX5_day_1
theorem dksX5_day_0 : cX5_day.data.toList.drop 0 = dktX5_day_0 := by decide +kernel
theorem dksX5_day_1 : cX5_day.data.toList.drop 24 = dktX5_day_1 := dk_seg dksX5_day_0 24 rfl rfl
theorem dksX5_day_2 : cX5_day.data.toList.drop 46 = dktX5_day_2 := dk_seg dksX5_day_1 22 rfl rfl
theorem dX5_day_0 : decode cX5_day 0 = .ok (.aload_n 0, 1) := dk_42 (dk_at dksX5_day_0 0 rfl rfl)
theorem dX5_day_1 : decode cX5_day 1 = .ok (.iload_n 1, 1) := dk_27 (dk_at dksX5_day_0 1 rfl rfl)
theorem dX5_day_2 : decode cX5_day 2 = .ok (.invokevirtual 290, 3) := dk_182 1 34 (dk_at dksX5_day_0 2 rfl rfl)
theorem dX5_day_5 : decode cX5_day 5 = .ok (.istore_n 2, 1) := dk_61 (dk_at dksX5_day_0 5 rfl rfl)
theorem dX5_day_6 : decode cX5_day 6 = .ok (.iload_n 2, 1) := dk_28 (dk_at dksX5_day_0 6 rfl rfl)
theorem dX5_day_7 : decode cX5_day 7 = .ok (.ifCond .eq 5, 3) := dk_153 0 5 (dk_at dksX5_day_0 7 rfl rfl)
theorem dX5_day_10 : decode cX5_day 10 = .ok (.iload_n 2, 1) := dk_28 (dk_at dksX5_day_0 10 rfl rfl)
theorem dX5_day_11 : decode cX5_day 11 = .ok (.ireturn, 1) := dk_172 (dk_at dksX5_day_0 11 rfl rfl)
theorem dX5_day_12 : decode cX5_day 12 = .ok (.aload_n 0, 1) := dk_42 (dk_at dksX5_day_0 12 rfl rfl)
theorem dX5_day_13 : decode cX5_day 13 = .ok (.aload_n 0, 1) := dk_42 (dk_at dksX5_day_0 13 rfl rfl)
theorem dX5_day_14 : decode cX5_day 14 = .ok (.getfield 28, 3) := dk_180 0 28 (dk_at dksX5_day_0 14 rfl rfl)
theorem dX5_day_17 : decode cX5_day 17 = .ok (.iload_n 1, 1) := dk_27 (dk_at dksX5_day_0 17 rfl rfl)
theorem dX5_day_18 : decode cX5_day 18 = .ok (.iaload, 1) := dk_46 (dk_at dksX5_day_0 18 rfl rfl)
theorem dX5_day_19 : decode cX5_day 19 = .ok (.aload_n 0, 1) := dk_42 (dk_at dksX5_day_0 19 rfl rfl)
theorem dX5_day_20 : decode cX5_day 20 = .ok (.getfield 31, 3) := dk_180 0 31 (dk_at dksX5_day_0 20 rfl rfl)
theorem dX5_day_23 : decode cX5_day 23 = .ok (.iload_n 1, 1) := dk_27 (dk_at dksX5_day_0 23 rfl rfl)
theorem dX5_day_24 : decode cX5_day 24 = .ok (.iaload, 1) := dk_46 (dk_at dksX5_day_1 0 rfl rfl)
theorem dX5_day_25 : decode cX5_day 25 = .ok (.invokevirtual 312, 3) := dk_182 1 56 (dk_at dksX5_day_1 1 rfl rfl)
theorem dX5_day_28 : decode cX5_day 28 = .ok (.istore_n 3, 1) := dk_62 (dk_at dksX5_day_1 4 rfl rfl)
theorem dX5_day_29 : decode cX5_day 29 = .ok (.aload_n 0, 1) := dk_42 (dk_at dksX5_day_1 5 rfl rfl)
theorem dX5_day_30 : decode cX5_day 30 = .ok (.dup, 1) := dk_89 (dk_at dksX5_day_1 6 rfl rfl)
theorem dX5_day_31 : decode cX5_day 31 = .ok (.getfield 358, 3) := dk_180 1 102 (dk_at dksX5_day_1 7 rfl rfl)
theorem dX5_day_34 : decode cX5_day 34 = .ok (.iload_n 3, 1) := dk_29 (dk_at dksX5_day_1 10 rfl rfl)
theorem dX5_day_35 : decode cX5_day 35 = .ok (.iadd, 1) := dk_96 (dk_at dksX5_day_1 11 rfl rfl)
theorem dX5_day_36 : decode cX5_day 36 = .ok (.putfield 358, 3) := dk_181 1 102 (dk_at dksX5_day_1 12 rfl rfl)
theorem dX5_day_39 : decode cX5_day 39 = .ok (.aload_n 0, 1) := dk_42 (dk_at dksX5_day_1 15 rfl rfl)
theorem dX5_day_40 : decode cX5_day 40 = .ok (.dup, 1) := dk_89 (dk_at dksX5_day_1 16 rfl rfl)
theorem dX5_day_41 : decode cX5_day 41 = .ok (.getfield 361, 3) := dk_180 1 105 (dk_at dksX5_day_1 17 rfl rfl)
theorem dX5_day_44 : decode cX5_day 44 = .ok (.iconst 1, 1) := dk_4 (dk_at dksX5_day_1 20 rfl rfl)
theorem dX5_day_45 : decode cX5_day 45 = .ok (.iadd, 1) := dk_96 (dk_at dksX5_day_1 21 rfl rfl)
theorem dX5_day_46 : decode cX5_day 46 = .ok (.putfield 361, 3) := dk_181 1 105 (dk_at dksX5_day_2 0 rfl rfl)
theorem dX5_day_49 : decode cX5_day 49 = .ok (.iload_n 3, 1) := dk_29 (dk_at dksX5_day_2 3 rfl rfl)
theorem dX5_day_50 : decode cX5_day 50 = .ok (.ireturn, 1) := dk_172 (dk_at dksX5_day_2 4 rfl rfl)
abbrev cX5_meet : ByteArray := prog_18_method_93_code
def yX5_meet : MethodName := ⟨RX5, "meet", "(I)I"⟩
def dkwX5_meet_0 : List UInt8 := [42, 27, 182, 1, 7, 153, 0, 11, 42, 27, 182, 0, 213, 167, 0, 9, 42, 16, 254, 182, 0, 102, 172]
abbrev dktX5_meet_0 : List UInt8 := dkwX5_meet_0 ++ []
theorem dksX5_meet_0 : cX5_meet.data.toList.drop 0 = dktX5_meet_0 := by decide +kernel
theorem dX5_meet_0 : decode cX5_meet 0 = .ok (.aload_n 0, 1) := dk_42 (dk_at dksX5_meet_0 0 rfl rfl)
theorem dX5_meet_1 : decode cX5_meet 1 = .ok (.iload_n 1, 1) := dk_27 (dk_at dksX5_meet_0 1 rfl rfl)
theorem dX5_meet_2 : decode cX5_meet 2 = .ok (.invokevirtual 263, 3) := dk_182 1 7 (dk_at dksX5_meet_0 2 rfl rfl)
theorem dX5_meet_5 : decode cX5_meet 5 = .ok (.ifCond .eq 11, 3) := dk_153 0 11 (dk_at dksX5_meet_0 5 rfl rfl)
theorem dX5_meet_8 : decode cX5_meet 8 = .ok (.aload_n 0, 1) := dk_42 (dk_at dksX5_meet_0 8 rfl rfl)
theorem dX5_meet_9 : decode cX5_meet 9 = .ok (.iload_n 1, 1) := dk_27 (dk_at dksX5_meet_0 9 rfl rfl)
theorem dX5_meet_10 : decode cX5_meet 10 = .ok (.invokevirtual 213, 3) := dk_182 0 213 (dk_at dksX5_meet_0 10 rfl rfl)
theorem dX5_meet_13 : decode cX5_meet 13 = .ok (.goto 9, 3) := dk_167 0 9 (dk_at dksX5_meet_0 13 rfl rfl)
theorem dX5_meet_16 : decode cX5_meet 16 = .ok (.aload_n 0, 1) := dk_42 (dk_at dksX5_meet_0 16 rfl rfl)
theorem dX5_meet_17 : decode cX5_meet 17 = .ok (.bipush (-2), 2) := dk_16 254 (dk_at dksX5_meet_0 17 rfl rfl)
theorem dX5_meet_19 : decode cX5_meet 19 = .ok (.invokevirtual 102, 3) := dk_182 0 102 (dk_at dksX5_meet_0 19 rfl rfl)
theorem dX5_meet_22 : decode cX5_meet 22 = .ok (.ireturn, 1) := dk_172 (dk_at dksX5_meet_0 22 rfl rfl)
abbrev cX5_year : ByteArray := prog_18_method_94_code
def yX5_year : MethodName := ⟨RX5, "year", "()I"⟩
def dkwX5_year_5 : List UInt8 := [42, 89, 180, 1, 108, 4, 96, 181, 1, 108, 27, 172]
abbrev dktX5_year_5 : List UInt8 := dkwX5_year_5 ++ []
def dkwX5_year_4 : List UInt8 := [153, 0, 7, 2, 167, 0, 5, 21, 4, 182, 0, 142, 132, 3, 1, 167, 255, 161, 132, 2, 1, 167, 255, 145]
abbrev dktX5_year_4 : List UInt8 := dkwX5_year_4 ++ dktX5_year_5
def dkwX5_year_3 : List UInt8 := [167, 0, 4, 3, 54, 5, 27, 21, 5, 153, 0, 7, 4, 167, 0, 4, 3, 96, 60, 42, 28, 29, 21, 5]
abbrev dktX5_year_3 : List UInt8 := dkwX5_year_3 ++ dktX5_year_4
def dkwX5_year_2 : List UInt8 := [167, 0, 5, 16, 99, 54, 4, 42, 180, 0, 148, 153, 0, 16, 21, 4, 42, 180, 0, 148, 164, 0, 7, 4]
abbrev dktX5_year_2 : List UInt8 := dkwX5_year_2 ++ dktX5_year_3
def dkwX5_year_1 : List UInt8 := [50, 29, 46, 54, 4, 21, 4, 2, 159, 0, 74, 21, 4, 16, 99, 162, 0, 10, 21, 4, 4, 96]
abbrev dktX5_year_1 : List UInt8 := dkwX5_year_1 ++ dktX5_year_2
def dkwX5_year_0 : List UInt8 := [3, 60, 3, 61, 28, 42, 180, 0, 85, 162, 0, 109, 3, 62, 29, 28, 162, 0, 96, 42, 180, 0, 48, 28]
abbrev dktX5_year_0 : List UInt8 := dkwX5_year_0 ++ dktX5_year_1
theorem dksX5_year_0 : cX5_year.data.toList.drop 0 = dktX5_year_0 := by decide +kernel
theorem dksX5_year_1 : cX5_year.data.toList.drop 24 = dktX5_year_1 := dk_seg dksX5_year_0 24 rfl rfl
theorem dksX5_year_2 : cX5_year.data.toList.drop 46 = dktX5_year_2 := dk_seg dksX5_year_1 22 rfl rfl
theorem dksX5_year_3 : cX5_year.data.toList.drop 70 = dktX5_year_3 := dk_seg dksX5_year_2 24 rfl rfl
theorem dksX5_year_4 : cX5_year.data.toList.drop 94 = dktX5_year_4 := dk_seg dksX5_year_3 24 rfl rfl
theorem dksX5_year_5 : cX5_year.data.toList.drop 118 = dktX5_year_5 := dk_seg dksX5_year_4 24 rfl rfl
theorem dX5_year_0 : decode cX5_year 0 = .ok (.iconst 0, 1) := dk_3 (dk_at dksX5_year_0 0 rfl rfl)
theorem dX5_year_1 : decode cX5_year 1 = .ok (.istore_n 1, 1) := dk_60 (dk_at dksX5_year_0 1 rfl rfl)
theorem dX5_year_2 : decode cX5_year 2 = .ok (.iconst 0, 1) := dk_3 (dk_at dksX5_year_0 2 rfl rfl)
theorem dX5_year_3 : decode cX5_year 3 = .ok (.istore_n 2, 1) := dk_61 (dk_at dksX5_year_0 3 rfl rfl)
theorem dX5_year_4 : decode cX5_year 4 = .ok (.iload_n 2, 1) := dk_28 (dk_at dksX5_year_0 4 rfl rfl)
theorem dX5_year_5 : decode cX5_year 5 = .ok (.aload_n 0, 1) := dk_42 (dk_at dksX5_year_0 5 rfl rfl)
theorem dX5_year_6 : decode cX5_year 6 = .ok (.getfield 85, 3) := dk_180 0 85 (dk_at dksX5_year_0 6 rfl rfl)
theorem dX5_year_9 : decode cX5_year 9 = .ok (.if_icmp .ge 109, 3) := dk_162 0 109 (dk_at dksX5_year_0 9 rfl rfl)
theorem dX5_year_12 : decode cX5_year 12 = .ok (.iconst 0, 1) := dk_3 (dk_at dksX5_year_0 12 rfl rfl)
theorem dX5_year_13 : decode cX5_year 13 = .ok (.istore_n 3, 1) := dk_62 (dk_at dksX5_year_0 13 rfl rfl)
theorem dX5_year_14 : decode cX5_year 14 = .ok (.iload_n 3, 1) := dk_29 (dk_at dksX5_year_0 14 rfl rfl)
theorem dX5_year_15 : decode cX5_year 15 = .ok (.iload_n 2, 1) := dk_28 (dk_at dksX5_year_0 15 rfl rfl)
theorem dX5_year_16 : decode cX5_year 16 = .ok (.if_icmp .ge 96, 3) := dk_162 0 96 (dk_at dksX5_year_0 16 rfl rfl)
theorem dX5_year_19 : decode cX5_year 19 = .ok (.aload_n 0, 1) := dk_42 (dk_at dksX5_year_0 19 rfl rfl)
theorem dX5_year_20 : decode cX5_year 20 = .ok (.getfield 48, 3) := dk_180 0 48 (dk_at dksX5_year_0 20 rfl rfl)
theorem dX5_year_23 : decode cX5_year 23 = .ok (.iload_n 2, 1) := dk_28 (dk_at dksX5_year_0 23 rfl rfl)
theorem dX5_year_24 : decode cX5_year 24 = .ok (.aaload, 1) := dk_50 (dk_at dksX5_year_1 0 rfl rfl)
theorem dX5_year_25 : decode cX5_year 25 = .ok (.iload_n 3, 1) := dk_29 (dk_at dksX5_year_1 1 rfl rfl)
theorem dX5_year_26 : decode cX5_year 26 = .ok (.iaload, 1) := dk_46 (dk_at dksX5_year_1 2 rfl rfl)
theorem dX5_year_27 : decode cX5_year 27 = .ok (.istore 4, 2) := dk_54 4 (dk_at dksX5_year_1 3 rfl rfl)
theorem dX5_year_29 : decode cX5_year 29 = .ok (.iload 4, 2) := dk_21 4 (dk_at dksX5_year_1 5 rfl rfl)
theorem dX5_year_31 : decode cX5_year 31 = .ok (.iconst (-1), 1) := dk_2 (dk_at dksX5_year_1 7 rfl rfl)
theorem dX5_year_32 : decode cX5_year 32 = .ok (.if_icmp .eq 74, 3) := dk_159 0 74 (dk_at dksX5_year_1 8 rfl rfl)
theorem dX5_year_35 : decode cX5_year 35 = .ok (.iload 4, 2) := dk_21 4 (dk_at dksX5_year_1 11 rfl rfl)
theorem dX5_year_37 : decode cX5_year 37 = .ok (.bipush 99, 2) := dk_16 99 (dk_at dksX5_year_1 13 rfl rfl)
theorem dX5_year_39 : decode cX5_year 39 = .ok (.if_icmp .ge 10, 3) := dk_162 0 10 (dk_at dksX5_year_1 15 rfl rfl)
theorem dX5_year_42 : decode cX5_year 42 = .ok (.iload 4, 2) := dk_21 4 (dk_at dksX5_year_1 18 rfl rfl)
theorem dX5_year_44 : decode cX5_year 44 = .ok (.iconst 1, 1) := dk_4 (dk_at dksX5_year_1 20 rfl rfl)
theorem dX5_year_45 : decode cX5_year 45 = .ok (.iadd, 1) := dk_96 (dk_at dksX5_year_1 21 rfl rfl)
theorem dX5_year_46 : decode cX5_year 46 = .ok (.goto 5, 3) := dk_167 0 5 (dk_at dksX5_year_2 0 rfl rfl)
theorem dX5_year_49 : decode cX5_year 49 = .ok (.bipush 99, 2) := dk_16 99 (dk_at dksX5_year_2 3 rfl rfl)
theorem dX5_year_51 : decode cX5_year 51 = .ok (.istore 4, 2) := dk_54 4 (dk_at dksX5_year_2 5 rfl rfl)
theorem dX5_year_53 : decode cX5_year 53 = .ok (.aload_n 0, 1) := dk_42 (dk_at dksX5_year_2 7 rfl rfl)
theorem dX5_year_54 : decode cX5_year 54 = .ok (.getfield 148, 3) := dk_180 0 148 (dk_at dksX5_year_2 8 rfl rfl)
theorem dX5_year_57 : decode cX5_year 57 = .ok (.ifCond .eq 16, 3) := dk_153 0 16 (dk_at dksX5_year_2 11 rfl rfl)
theorem dX5_year_60 : decode cX5_year 60 = .ok (.iload 4, 2) := dk_21 4 (dk_at dksX5_year_2 14 rfl rfl)
theorem dX5_year_62 : decode cX5_year 62 = .ok (.aload_n 0, 1) := dk_42 (dk_at dksX5_year_2 16 rfl rfl)
theorem dX5_year_63 : decode cX5_year 63 = .ok (.getfield 148, 3) := dk_180 0 148 (dk_at dksX5_year_2 17 rfl rfl)
theorem dX5_year_66 : decode cX5_year 66 = .ok (.if_icmp .le 7, 3) := dk_164 0 7 (dk_at dksX5_year_2 20 rfl rfl)
theorem dX5_year_69 : decode cX5_year 69 = .ok (.iconst 1, 1) := dk_4 (dk_at dksX5_year_2 23 rfl rfl)
theorem dX5_year_70 : decode cX5_year 70 = .ok (.goto 4, 3) := dk_167 0 4 (dk_at dksX5_year_3 0 rfl rfl)
theorem dX5_year_73 : decode cX5_year 73 = .ok (.iconst 0, 1) := dk_3 (dk_at dksX5_year_3 3 rfl rfl)
theorem dX5_year_74 : decode cX5_year 74 = .ok (.istore 5, 2) := dk_54 5 (dk_at dksX5_year_3 4 rfl rfl)
theorem dX5_year_76 : decode cX5_year 76 = .ok (.iload_n 1, 1) := dk_27 (dk_at dksX5_year_3 6 rfl rfl)
theorem dX5_year_77 : decode cX5_year 77 = .ok (.iload 5, 2) := dk_21 5 (dk_at dksX5_year_3 7 rfl rfl)
theorem dX5_year_79 : decode cX5_year 79 = .ok (.ifCond .eq 7, 3) := dk_153 0 7 (dk_at dksX5_year_3 9 rfl rfl)
theorem dX5_year_82 : decode cX5_year 82 = .ok (.iconst 1, 1) := dk_4 (dk_at dksX5_year_3 12 rfl rfl)
theorem dX5_year_83 : decode cX5_year 83 = .ok (.goto 4, 3) := dk_167 0 4 (dk_at dksX5_year_3 13 rfl rfl)
theorem dX5_year_86 : decode cX5_year 86 = .ok (.iconst 0, 1) := dk_3 (dk_at dksX5_year_3 16 rfl rfl)
theorem dX5_year_87 : decode cX5_year 87 = .ok (.iadd, 1) := dk_96 (dk_at dksX5_year_3 17 rfl rfl)
theorem dX5_year_88 : decode cX5_year 88 = .ok (.istore_n 1, 1) := dk_60 (dk_at dksX5_year_3 18 rfl rfl)
theorem dX5_year_89 : decode cX5_year 89 = .ok (.aload_n 0, 1) := dk_42 (dk_at dksX5_year_3 19 rfl rfl)
theorem dX5_year_90 : decode cX5_year 90 = .ok (.iload_n 2, 1) := dk_28 (dk_at dksX5_year_3 20 rfl rfl)
theorem dX5_year_91 : decode cX5_year 91 = .ok (.iload_n 3, 1) := dk_29 (dk_at dksX5_year_3 21 rfl rfl)
theorem dX5_year_92 : decode cX5_year 92 = .ok (.iload 5, 2) := dk_21 5 (dk_at dksX5_year_3 22 rfl rfl)
theorem dX5_year_94 : decode cX5_year 94 = .ok (.ifCond .eq 7, 3) := dk_153 0 7 (dk_at dksX5_year_4 0 rfl rfl)
theorem dX5_year_97 : decode cX5_year 97 = .ok (.iconst (-1), 1) := dk_2 (dk_at dksX5_year_4 3 rfl rfl)
theorem dX5_year_98 : decode cX5_year 98 = .ok (.goto 5, 3) := dk_167 0 5 (dk_at dksX5_year_4 4 rfl rfl)
theorem dX5_year_101 : decode cX5_year 101 = .ok (.iload 4, 2) := dk_21 4 (dk_at dksX5_year_4 7 rfl rfl)
theorem dX5_year_103 : decode cX5_year 103 = .ok (.invokevirtual 142, 3) := dk_182 0 142 (dk_at dksX5_year_4 9 rfl rfl)
theorem dX5_year_106 : decode cX5_year 106 = .ok (.iinc 3 1, 3) := dk_132 3 1 (dk_at dksX5_year_4 12 rfl rfl)
theorem dX5_year_109 : decode cX5_year 109 = .ok (.goto (-95), 3) := dk_167 255 161 (dk_at dksX5_year_4 15 rfl rfl)
theorem dX5_year_112 : decode cX5_year 112 = .ok (.iinc 2 1, 3) := dk_132 2 1 (dk_at dksX5_year_4 18 rfl rfl)
theorem dX5_year_115 : decode cX5_year 115 = .ok (.goto (-111), 3) := dk_167 255 145 (dk_at dksX5_year_4 21 rfl rfl)
theorem dX5_year_118 : decode cX5_year 118 = .ok (.aload_n 0, 1) := dk_42 (dk_at dksX5_year_5 0 rfl rfl)
theorem dX5_year_119 : decode cX5_year 119 = .ok (.dup, 1) := dk_89 (dk_at dksX5_year_5 1 rfl rfl)
theorem dX5_year_120 : decode cX5_year 120 = .ok (.getfield 364, 3) := dk_180 1 108 (dk_at dksX5_year_5 2 rfl rfl)
theorem dX5_year_123 : decode cX5_year 123 = .ok (.iconst 1, 1) := dk_4 (dk_at dksX5_year_5 5 rfl rfl)
theorem dX5_year_124 : decode cX5_year 124 = .ok (.iadd, 1) := dk_96 (dk_at dksX5_year_5 6 rfl rfl)
theorem dX5_year_125 : decode cX5_year 125 = .ok (.putfield 364, 3) := dk_181 1 108 (dk_at dksX5_year_5 7 rfl rfl)
theorem dX5_year_128 : decode cX5_year 128 = .ok (.iload_n 1, 1) := dk_27 (dk_at dksX5_year_5 10 rfl rfl)
theorem dX5_year_129 : decode cX5_year 129 = .ok (.ireturn, 1) := dk_172 (dk_at dksX5_year_5 11 rfl rfl)
abbrev cX5_come : ByteArray := prog_18_method_96_code
def yX5_come : MethodName := ⟨RX5, "come", "(I)I"⟩
def dkwX5_come_4 : List UInt8 := [167, 255, 221, 132, 2, 1, 167, 255, 180, 28, 172]
abbrev dktX5_come_4 : List UInt8 := dkwX5_come_4 ++ []
def dkwX5_come_3 : List UInt8 := [182, 1, 112, 154, 0, 16, 42, 42, 180, 0, 85, 4, 100, 21, 4, 3, 182, 0, 142, 132, 4, 1]
abbrev dktX5_come_3 : List UInt8 := dkwX5_come_3 ++ dktX5_come_4
def dkwX5_come_2 : List UInt8 := [182, 1, 112, 182, 0, 127, 3, 54, 4, 21, 4, 42, 180, 0, 85, 4, 100, 162, 0, 30, 42, 6]
abbrev dktX5_come_2 : List UInt8 := dkwX5_come_2 ++ dktX5_come_3
def dkwX5_come_1 : List UInt8 := [162, 0, 77, 42, 180, 0, 85, 16, 7, 162, 0, 68, 42, 16, 24, 182, 1, 112, 62, 42, 29, 42, 16, 10]
abbrev dktX5_come_1 : List UInt8 := dkwX5_come_1 ++ dktX5_come_2
def dkwX5_come_0 : List UInt8 := [27, 133, 10, 20, 0, 96, 184, 0, 88, 154, 0, 10, 42, 16, 254, 182, 0, 102, 172, 3, 61, 28, 27]
abbrev dktX5_come_0 : List UInt8 := dkwX5_come_0 ++ dktX5_come_1
theorem dksX5_come_0 : cX5_come.data.toList.drop 0 = dktX5_come_0 := by decide +kernel
theorem dksX5_come_1 : cX5_come.data.toList.drop 23 = dktX5_come_1 := dk_seg dksX5_come_0 23 rfl rfl
theorem dksX5_come_2 : cX5_come.data.toList.drop 47 = dktX5_come_2 := dk_seg dksX5_come_1 24 rfl rfl
theorem dksX5_come_3 : cX5_come.data.toList.drop 69 = dktX5_come_3 := dk_seg dksX5_come_2 22 rfl rfl
theorem dksX5_come_4 : cX5_come.data.toList.drop 91 = dktX5_come_4 := dk_seg dksX5_come_3 22 rfl rfl
theorem dX5_come_0 : decode cX5_come 0 = .ok (.iload_n 1, 1) := dk_27 (dk_at dksX5_come_0 0 rfl rfl)
theorem dX5_come_1 : decode cX5_come 1 = .ok (.i2l, 1) := dk_133 (dk_at dksX5_come_0 1 rfl rfl)
theorem dX5_come_2 : decode cX5_come 2 = .ok (.lconst 1, 1) := dk_10 (dk_at dksX5_come_0 2 rfl rfl)
theorem dX5_come_3 : decode cX5_come 3 = .ok (.ldc2_w 96, 3) := dk_20 0 96 (dk_at dksX5_come_0 3 rfl rfl)
theorem dX5_come_6 : decode cX5_come 6 = .ok (.invokestatic 88, 3) := dk_184 0 88 (dk_at dksX5_come_0 6 rfl rfl)
theorem dX5_come_9 : decode cX5_come 9 = .ok (.ifCond .ne 10, 3) := dk_154 0 10 (dk_at dksX5_come_0 9 rfl rfl)
theorem dX5_come_12 : decode cX5_come 12 = .ok (.aload_n 0, 1) := dk_42 (dk_at dksX5_come_0 12 rfl rfl)
theorem dX5_come_13 : decode cX5_come 13 = .ok (.bipush (-2), 2) := dk_16 254 (dk_at dksX5_come_0 13 rfl rfl)
theorem dX5_come_15 : decode cX5_come 15 = .ok (.invokevirtual 102, 3) := dk_182 0 102 (dk_at dksX5_come_0 15 rfl rfl)
theorem dX5_come_18 : decode cX5_come 18 = .ok (.ireturn, 1) := dk_172 (dk_at dksX5_come_0 18 rfl rfl)
theorem dX5_come_19 : decode cX5_come 19 = .ok (.iconst 0, 1) := dk_3 (dk_at dksX5_come_0 19 rfl rfl)
theorem dX5_come_20 : decode cX5_come 20 = .ok (.istore_n 2, 1) := dk_61 (dk_at dksX5_come_0 20 rfl rfl)
theorem dX5_come_21 : decode cX5_come 21 = .ok (.iload_n 2, 1) := dk_28 (dk_at dksX5_come_0 21 rfl rfl)
theorem dX5_come_22 : decode cX5_come 22 = .ok (.iload_n 1, 1) := dk_27 (dk_at dksX5_come_0 22 rfl rfl)
theorem dX5_come_23 : decode cX5_come 23 = .ok (.if_icmp .ge 77, 3) := dk_162 0 77 (dk_at dksX5_come_1 0 rfl rfl)
theorem dX5_come_26 : decode cX5_come 26 = .ok (.aload_n 0, 1) := dk_42 (dk_at dksX5_come_1 3 rfl rfl)
theorem dX5_come_27 : decode cX5_come 27 = .ok (.getfield 85, 3) := dk_180 0 85 (dk_at dksX5_come_1 4 rfl rfl)
theorem dX5_come_30 : decode cX5_come 30 = .ok (.bipush 7, 2) := dk_16 7 (dk_at dksX5_come_1 7 rfl rfl)
theorem dX5_come_32 : decode cX5_come 32 = .ok (.if_icmp .ge 68, 3) := dk_162 0 68 (dk_at dksX5_come_1 9 rfl rfl)
theorem dX5_come_35 : decode cX5_come 35 = .ok (.aload_n 0, 1) := dk_42 (dk_at dksX5_come_1 12 rfl rfl)
theorem dX5_come_36 : decode cX5_come 36 = .ok (.bipush 24, 2) := dk_16 24 (dk_at dksX5_come_1 13 rfl rfl)
theorem dX5_come_38 : decode cX5_come 38 = .ok (.invokevirtual 368, 3) := dk_182 1 112 (dk_at dksX5_come_1 15 rfl rfl)
theorem dX5_come_41 : decode cX5_come 41 = .ok (.istore_n 3, 1) := dk_62 (dk_at dksX5_come_1 18 rfl rfl)
theorem dX5_come_42 : decode cX5_come 42 = .ok (.aload_n 0, 1) := dk_42 (dk_at dksX5_come_1 19 rfl rfl)
theorem dX5_come_43 : decode cX5_come 43 = .ok (.iload_n 3, 1) := dk_29 (dk_at dksX5_come_1 20 rfl rfl)
theorem dX5_come_44 : decode cX5_come 44 = .ok (.aload_n 0, 1) := dk_42 (dk_at dksX5_come_1 21 rfl rfl)
theorem dX5_come_45 : decode cX5_come 45 = .ok (.bipush 10, 2) := dk_16 10 (dk_at dksX5_come_1 22 rfl rfl)
theorem dX5_come_47 : decode cX5_come 47 = .ok (.invokevirtual 368, 3) := dk_182 1 112 (dk_at dksX5_come_2 0 rfl rfl)
theorem dX5_come_50 : decode cX5_come 50 = .ok (.invokevirtual 127, 3) := dk_182 0 127 (dk_at dksX5_come_2 3 rfl rfl)
theorem dX5_come_53 : decode cX5_come 53 = .ok (.iconst 0, 1) := dk_3 (dk_at dksX5_come_2 6 rfl rfl)
theorem dX5_come_54 : decode cX5_come 54 = .ok (.istore 4, 2) := dk_54 4 (dk_at dksX5_come_2 7 rfl rfl)
theorem dX5_come_56 : decode cX5_come 56 = .ok (.iload 4, 2) := dk_21 4 (dk_at dksX5_come_2 9 rfl rfl)
theorem dX5_come_58 : decode cX5_come 58 = .ok (.aload_n 0, 1) := dk_42 (dk_at dksX5_come_2 11 rfl rfl)
theorem dX5_come_59 : decode cX5_come 59 = .ok (.getfield 85, 3) := dk_180 0 85 (dk_at dksX5_come_2 12 rfl rfl)
theorem dX5_come_62 : decode cX5_come 62 = .ok (.iconst 1, 1) := dk_4 (dk_at dksX5_come_2 15 rfl rfl)
theorem dX5_come_63 : decode cX5_come 63 = .ok (.isub, 1) := dk_100 (dk_at dksX5_come_2 16 rfl rfl)
theorem dX5_come_64 : decode cX5_come 64 = .ok (.if_icmp .ge 30, 3) := dk_162 0 30 (dk_at dksX5_come_2 17 rfl rfl)
theorem dX5_come_67 : decode cX5_come 67 = .ok (.aload_n 0, 1) := dk_42 (dk_at dksX5_come_2 20 rfl rfl)
theorem dX5_come_68 : decode cX5_come 68 = .ok (.iconst 3, 1) := dk_6 (dk_at dksX5_come_2 21 rfl rfl)
theorem dX5_come_69 : decode cX5_come 69 = .ok (.invokevirtual 368, 3) := dk_182 1 112 (dk_at dksX5_come_3 0 rfl rfl)
theorem dX5_come_72 : decode cX5_come 72 = .ok (.ifCond .ne 16, 3) := dk_154 0 16 (dk_at dksX5_come_3 3 rfl rfl)
theorem dX5_come_75 : decode cX5_come 75 = .ok (.aload_n 0, 1) := dk_42 (dk_at dksX5_come_3 6 rfl rfl)
theorem dX5_come_76 : decode cX5_come 76 = .ok (.aload_n 0, 1) := dk_42 (dk_at dksX5_come_3 7 rfl rfl)
theorem dX5_come_77 : decode cX5_come 77 = .ok (.getfield 85, 3) := dk_180 0 85 (dk_at dksX5_come_3 8 rfl rfl)
theorem dX5_come_80 : decode cX5_come 80 = .ok (.iconst 1, 1) := dk_4 (dk_at dksX5_come_3 11 rfl rfl)
theorem dX5_come_81 : decode cX5_come 81 = .ok (.isub, 1) := dk_100 (dk_at dksX5_come_3 12 rfl rfl)
theorem dX5_come_82 : decode cX5_come 82 = .ok (.iload 4, 2) := dk_21 4 (dk_at dksX5_come_3 13 rfl rfl)
theorem dX5_come_84 : decode cX5_come 84 = .ok (.iconst 0, 1) := dk_3 (dk_at dksX5_come_3 15 rfl rfl)
theorem dX5_come_85 : decode cX5_come 85 = .ok (.invokevirtual 142, 3) := dk_182 0 142 (dk_at dksX5_come_3 16 rfl rfl)
theorem dX5_come_88 : decode cX5_come 88 = .ok (.iinc 4 1, 3) := dk_132 4 1 (dk_at dksX5_come_3 19 rfl rfl)
theorem dX5_come_91 : decode cX5_come 91 = .ok (.goto (-35), 3) := dk_167 255 221 (dk_at dksX5_come_4 0 rfl rfl)
theorem dX5_come_94 : decode cX5_come 94 = .ok (.iinc 2 1, 3) := dk_132 2 1 (dk_at dksX5_come_4 3 rfl rfl)
theorem dX5_come_97 : decode cX5_come 97 = .ok (.goto (-76), 3) := dk_167 255 180 (dk_at dksX5_come_4 6 rfl rfl)
theorem dX5_come_100 : decode cX5_come 100 = .ok (.iload_n 2, 1) := dk_28 (dk_at dksX5_come_4 9 rfl rfl)
theorem dX5_come_101 : decode cX5_come 101 = .ok (.ireturn, 1) := dk_172 (dk_at dksX5_come_4 10 rfl rfl)
abbrev cX5_below : ByteArray := prog_18_method_95_code
def yX5_below : MethodName := ⟨RX5, "below", "(I)I"⟩
def dkwX5_below_1 : List UInt8 := [112, 172]
abbrev dktX5_below_1 : List UInt8 := dkwX5_below_1 ++ []
def dkwX5_below_0 : List UInt8 := [42, 42, 180, 0, 55, 19, 1, 111, 104, 17, 48, 57, 96, 181, 0, 55, 42, 180, 0, 55, 16, 16, 124, 27]
abbrev dktX5_below_0 : List UInt8 := dkwX5_below_0 ++ dktX5_below_1
theorem dksX5_below_0 : cX5_below.data.toList.drop 0 = dktX5_below_0 := by decide +kernel
theorem dksX5_below_1 : cX5_below.data.toList.drop 24 = dktX5_below_1 := dk_seg dksX5_below_0 24 rfl rfl
theorem dX5_below_0 : decode cX5_below 0 = .ok (.aload_n 0, 1) := dk_42 (dk_at dksX5_below_0 0 rfl rfl)
theorem dX5_below_1 : decode cX5_below 1 = .ok (.aload_n 0, 1) := dk_42 (dk_at dksX5_below_0 1 rfl rfl)
theorem dX5_below_2 : decode cX5_below 2 = .ok (.getfield 55, 3) := dk_180 0 55 (dk_at dksX5_below_0 2 rfl rfl)
theorem dX5_below_5 : decode cX5_below 5 = .ok (.ldc_w 367, 3) := dk_19 1 111 (dk_at dksX5_below_0 5 rfl rfl)
theorem dX5_below_8 : decode cX5_below 8 = .ok (.imul, 1) := dk_104 (dk_at dksX5_below_0 8 rfl rfl)
theorem dX5_below_9 : decode cX5_below 9 = .ok (.sipush 12345, 3) := dk_17 48 57 (dk_at dksX5_below_0 9 rfl rfl)
theorem dX5_below_12 : decode cX5_below 12 = .ok (.iadd, 1) := dk_96 (dk_at dksX5_below_0 12 rfl rfl)
theorem dX5_below_13 : decode cX5_below 13 = .ok (.putfield 55, 3) := dk_181 0 55 (dk_at dksX5_below_0 13 rfl rfl)
theorem dX5_below_16 : decode cX5_below 16 = .ok (.aload_n 0, 1) := dk_42 (dk_at dksX5_below_0 16 rfl rfl)
theorem dX5_below_17 : decode cX5_below 17 = .ok (.getfield 55, 3) := dk_180 0 55 (dk_at dksX5_below_0 17 rfl rfl)
theorem dX5_below_20 : decode cX5_below 20 = .ok (.bipush 16, 2) := dk_16 16 (dk_at dksX5_below_0 20 rfl rfl)
theorem dX5_below_22 : decode cX5_below 22 = .ok (.iushr, 1) := dk_124 (dk_at dksX5_below_0 22 rfl rfl)
theorem dX5_below_23 : decode cX5_below 23 = .ok (.iload_n 1, 1) := dk_27 (dk_at dksX5_below_0 23 rfl rfl)
theorem dX5_below_24 : decode cX5_below 24 = .ok (.irem, 1) := dk_112 (dk_at dksX5_below_1 0 rfl rfl)
theorem dX5_below_25 : decode cX5_below 25 = .ok (.ireturn, 1) := dk_172 (dk_at dksX5_below_1 1 rfl rfl)
abbrev cX5_seed : ByteArray := prog_18_method_97_code
def yX5_seed : MethodName := ⟨RX5, "seed", "(I)I"⟩
def dkwX5_seed_0 : List UInt8 := [42, 180, 0, 55, 61, 42, 27, 181, 0, 55, 28, 172]
abbrev dktX5_seed_0 : List UInt8 := dkwX5_seed_0 ++ []
theorem dksX5_seed_0 : cX5_seed.data.toList.drop 0 = dktX5_seed_0 := by decide +kernel
theorem dX5_seed_0 : decode cX5_seed 0 = .ok (.aload_n 0, 1) := dk_42 (dk_at dksX5_seed_0 0 rfl rfl)
theorem dX5_seed_1 : decode cX5_seed 1 = .ok (.getfield 55, 3) := dk_180 0 55 (dk_at dksX5_seed_0 1 rfl rfl)
theorem dX5_seed_4 : decode cX5_seed 4 = .ok (.istore_n 2, 1) := dk_61 (dk_at dksX5_seed_0 4 rfl rfl)
theorem dX5_seed_5 : decode cX5_seed 5 = .ok (.aload_n 0, 1) := dk_42 (dk_at dksX5_seed_0 5 rfl rfl)
theorem dX5_seed_6 : decode cX5_seed 6 = .ok (.iload_n 1, 1) := dk_27 (dk_at dksX5_seed_0 6 rfl rfl)
theorem dX5_seed_7 : decode cX5_seed 7 = .ok (.putfield 55, 3) := dk_181 0 55 (dk_at dksX5_seed_0 7 rfl rfl)
theorem dX5_seed_10 : decode cX5_seed 10 = .ok (.iload_n 2, 1) := dk_28 (dk_at dksX5_seed_0 10 rfl rfl)
theorem dX5_seed_11 : decode cX5_seed 11 = .ok (.ireturn, 1) := dk_172 (dk_at dksX5_seed_0 11 rfl rfl)
abbrev cX5_image : ByteArray := prog_18_method_101_code
def yX5_image : MethodName := ⟨RX5, "image", "()I"⟩
def dkwX5_image_1 : List UInt8 := [182, 0, 245, 4, 172]
abbrev dktX5_image_1 : List UInt8 := dkwX5_image_1 ++ []
def dkwX5_image_0 : List UInt8 := [42, 180, 1, 124, 199, 0, 14, 42, 187, 0, 8, 89, 183, 1, 119, 181, 1, 124, 42, 180, 1, 124, 42]
abbrev dktX5_image_0 : List UInt8 := dkwX5_image_0 ++ dktX5_image_1
theorem dksX5_image_0 : cX5_image.data.toList.drop 0 = dktX5_image_0 := by decide +kernel
theorem dksX5_image_1 : cX5_image.data.toList.drop 23 = dktX5_image_1 := dk_seg dksX5_image_0 23 rfl rfl
theorem dX5_image_0 : decode cX5_image 0 = .ok (.aload_n 0, 1) := dk_42 (dk_at dksX5_image_0 0 rfl rfl)
theorem dX5_image_1 : decode cX5_image 1 = .ok (.getfield 380, 3) := dk_180 1 124 (dk_at dksX5_image_0 1 rfl rfl)
theorem dX5_image_4 : decode cX5_image 4 = .ok (.ifnonnull 14, 3) := dk_199 0 14 (dk_at dksX5_image_0 4 rfl rfl)
theorem dX5_image_7 : decode cX5_image 7 = .ok (.aload_n 0, 1) := dk_42 (dk_at dksX5_image_0 7 rfl rfl)
theorem dX5_image_8 : decode cX5_image 8 = .ok (.new 8, 3) := dk_187 0 8 (dk_at dksX5_image_0 8 rfl rfl)
theorem dX5_image_11 : decode cX5_image 11 = .ok (.dup, 1) := dk_89 (dk_at dksX5_image_0 11 rfl rfl)
theorem dX5_image_12 : decode cX5_image 12 = .ok (.invokespecial 375, 3) := dk_183 1 119 (dk_at dksX5_image_0 12 rfl rfl)
theorem dX5_image_15 : decode cX5_image 15 = .ok (.putfield 380, 3) := dk_181 1 124 (dk_at dksX5_image_0 15 rfl rfl)
theorem dX5_image_18 : decode cX5_image 18 = .ok (.aload_n 0, 1) := dk_42 (dk_at dksX5_image_0 18 rfl rfl)
theorem dX5_image_19 : decode cX5_image 19 = .ok (.getfield 380, 3) := dk_180 1 124 (dk_at dksX5_image_0 19 rfl rfl)
theorem dX5_image_22 : decode cX5_image 22 = .ok (.aload_n 0, 1) := dk_42 (dk_at dksX5_image_0 22 rfl rfl)
theorem dX5_image_23 : decode cX5_image 23 = .ok (.invokevirtual 245, 3) := dk_182 0 245 (dk_at dksX5_image_1 0 rfl rfl)
theorem dX5_image_26 : decode cX5_image 26 = .ok (.iconst 1, 1) := dk_4 (dk_at dksX5_image_1 3 rfl rfl)
theorem dX5_image_27 : decode cX5_image 27 = .ok (.ireturn, 1) := dk_172 (dk_at dksX5_image_1 4 rfl rfl)
abbrev cX5_back : ByteArray := prog_18_method_102_code
def yX5_back : MethodName := ⟨RX5, "back", "()I"⟩
def dkwX5_back_0 : List UInt8 := [42, 180, 1, 124, 199, 0, 10, 42, 16, 251, 182, 0, 102, 172, 42, 42, 180, 1, 124, 182, 0, 245, 4, 172]
abbrev dktX5_back_0 : List UInt8 := dkwX5_back_0 ++ []
theorem dksX5_back_0 : cX5_back.data.toList.drop 0 = dktX5_back_0 := by decide +kernel
theorem dX5_back_0 : decode cX5_back 0 = .ok (.aload_n 0, 1) := dk_42 (dk_at dksX5_back_0 0 rfl rfl)
theorem dX5_back_1 : decode cX5_back 1 = .ok (.getfield 380, 3) := dk_180 1 124 (dk_at dksX5_back_0 1 rfl rfl)
theorem dX5_back_4 : decode cX5_back 4 = .ok (.ifnonnull 10, 3) := dk_199 0 10 (dk_at dksX5_back_0 4 rfl rfl)
theorem dX5_back_7 : decode cX5_back 7 = .ok (.aload_n 0, 1) := dk_42 (dk_at dksX5_back_0 7 rfl rfl)
theorem dX5_back_8 : decode cX5_back 8 = .ok (.bipush (-5), 2) := dk_16 251 (dk_at dksX5_back_0 8 rfl rfl)
theorem dX5_back_10 : decode cX5_back 10 = .ok (.invokevirtual 102, 3) := dk_182 0 102 (dk_at dksX5_back_0 10 rfl rfl)
theorem dX5_back_13 : decode cX5_back 13 = .ok (.ireturn, 1) := dk_172 (dk_at dksX5_back_0 13 rfl rfl)
theorem dX5_back_14 : decode cX5_back 14 = .ok (.aload_n 0, 1) := dk_42 (dk_at dksX5_back_0 14 rfl rfl)
theorem dX5_back_15 : decode cX5_back 15 = .ok (.aload_n 0, 1) := dk_42 (dk_at dksX5_back_0 15 rfl rfl)
theorem dX5_back_16 : decode cX5_back 16 = .ok (.getfield 380, 3) := dk_180 1 124 (dk_at dksX5_back_0 16 rfl rfl)
theorem dX5_back_19 : decode cX5_back 19 = .ok (.invokevirtual 245, 3) := dk_182 0 245 (dk_at dksX5_back_0 19 rfl rfl)
theorem dX5_back_22 : decode cX5_back 22 = .ok (.iconst 1, 1) := dk_4 (dk_at dksX5_back_0 22 rfl rfl)
theorem dX5_back_23 : decode cX5_back 23 = .ok (.ireturn, 1) := dk_172 (dk_at dksX5_back_0 23 rfl rfl)
abbrev cX5_status : ByteArray := prog_18_method_103_code
def yX5_status : MethodName := ⟨RX5, "status", "(I)I"⟩
def dkwX5_status_6 : List UInt8 := [42, 180, 0, 37, 27, 16, 10, 100, 46, 167, 0, 4, 2, 172]
abbrev dktX5_status_6 : List UInt8 := dkwX5_status_6 ++ []
def dkwX5_status_5 : List UInt8 := [96, 61, 132, 3, 1, 167, 255, 230, 28, 172, 27, 133, 20, 1, 127, 20, 1, 129, 184, 0, 88, 153, 0, 15]
abbrev dktX5_status_5 : List UInt8 := dkwX5_status_5 ++ dktX5_status_6
def dkwX5_status_4 : List UInt8 := [172, 3, 62, 29, 16, 8, 162, 0, 26, 28, 42, 180, 0, 7, 29, 46, 153, 0, 7, 4, 167, 0, 4, 3]
abbrev dktX5_status_4 : List UInt8 := dkwX5_status_4 ++ dktX5_status_5
def dkwX5_status_3 : List UInt8 := [42, 180, 1, 102, 172, 42, 180, 1, 105, 172, 42, 180, 1, 108, 172, 42, 180, 0, 156, 172, 42, 180, 0, 55]
abbrev dktX5_status_3 : List UInt8 := dkwX5_status_3 ++ dktX5_status_4
def dkwX5_status_2 : List UInt8 := [42, 180, 0, 85, 172, 42, 180, 0, 51, 172, 42, 180, 0, 148, 172, 42, 42, 182, 0, 92, 182, 1, 73, 172]
abbrev dktX5_status_2 : List UInt8 := dkwX5_status_2 ++ dktX5_status_3
def dkwX5_status_1 : List UInt8 := [170, 0, 0, 0, 135, 0, 0, 0, 0, 0, 0, 0, 9, 0, 0, 0, 53, 0, 0, 0, 58, 0, 0, 0, 63, 0, 0, 0, 68, 0, 0, 0, 77, 0, 0, 0, 82, 0, 0, 0, 87, 0, 0, 0, 92, 0, 0, 0, 97, 0, 0, 0, 102]
abbrev dktX5_status_1 : List UInt8 := dkwX5_status_1 ++ dktX5_status_2
def dkwX5_status_0 : List UInt8 := [3, 61, 27]
abbrev dktX5_status_0 : List UInt8 := dkwX5_status_0 ++ dktX5_status_1
theorem dksX5_status_0 : cX5_status.data.toList.drop 0 = dktX5_status_0 := by decide +kernel
theorem dksX5_status_1 : cX5_status.data.toList.drop 3 = dktX5_status_1 := dk_seg dksX5_status_0 3 rfl rfl
theorem dksX5_status_2 : cX5_status.data.toList.drop 56 = dktX5_status_2 := dk_seg dksX5_status_1 53 rfl rfl
theorem dksX5_status_3 : cX5_status.data.toList.drop 80 = dktX5_status_3 := dk_seg dksX5_status_2 24 rfl rfl
theorem dksX5_status_4 : cX5_status.data.toList.drop 104 = dktX5_status_4 := dk_seg dksX5_status_3 24 rfl rfl
theorem dksX5_status_5 : cX5_status.data.toList.drop 128 = dktX5_status_5 := dk_seg dksX5_status_4 24 rfl rfl
theorem dksX5_status_6 : cX5_status.data.toList.drop 152 = dktX5_status_6 := dk_seg dksX5_status_5 24 rfl rfl
theorem dX5_status_0 : decode cX5_status 0 = .ok (.iconst 0, 1) := dk_3 (dk_at dksX5_status_0 0 rfl rfl)
theorem dX5_status_1 : decode cX5_status 1 = .ok (.istore_n 2, 1) := dk_61 (dk_at dksX5_status_0 1 rfl rfl)
theorem dX5_status_2 : decode cX5_status 2 = .ok (.iload_n 1, 1) := dk_27 (dk_at dksX5_status_0 2 rfl rfl)
theorem dX5_status_3 : decode cX5_status 3 = .ok (.tableswitch 135 0 9 #[53, 58, 63, 68, 77, 82, 87, 92, 97, 102], 53) := by decide +kernel
theorem dX5_status_56 : decode cX5_status 56 = .ok (.aload_n 0, 1) := dk_42 (dk_at dksX5_status_2 0 rfl rfl)
theorem dX5_status_57 : decode cX5_status 57 = .ok (.getfield 85, 3) := dk_180 0 85 (dk_at dksX5_status_2 1 rfl rfl)
theorem dX5_status_60 : decode cX5_status 60 = .ok (.ireturn, 1) := dk_172 (dk_at dksX5_status_2 4 rfl rfl)
theorem dX5_status_61 : decode cX5_status 61 = .ok (.aload_n 0, 1) := dk_42 (dk_at dksX5_status_2 5 rfl rfl)
theorem dX5_status_62 : decode cX5_status 62 = .ok (.getfield 51, 3) := dk_180 0 51 (dk_at dksX5_status_2 6 rfl rfl)
theorem dX5_status_65 : decode cX5_status 65 = .ok (.ireturn, 1) := dk_172 (dk_at dksX5_status_2 9 rfl rfl)
theorem dX5_status_66 : decode cX5_status 66 = .ok (.aload_n 0, 1) := dk_42 (dk_at dksX5_status_2 10 rfl rfl)
theorem dX5_status_67 : decode cX5_status 67 = .ok (.getfield 148, 3) := dk_180 0 148 (dk_at dksX5_status_2 11 rfl rfl)
theorem dX5_status_70 : decode cX5_status 70 = .ok (.ireturn, 1) := dk_172 (dk_at dksX5_status_2 14 rfl rfl)
theorem dX5_status_71 : decode cX5_status 71 = .ok (.aload_n 0, 1) := dk_42 (dk_at dksX5_status_2 15 rfl rfl)
theorem dX5_status_72 : decode cX5_status 72 = .ok (.aload_n 0, 1) := dk_42 (dk_at dksX5_status_2 16 rfl rfl)
theorem dX5_status_73 : decode cX5_status 73 = .ok (.invokevirtual 92, 3) := dk_182 0 92 (dk_at dksX5_status_2 17 rfl rfl)
theorem dX5_status_76 : decode cX5_status 76 = .ok (.invokevirtual 329, 3) := dk_182 1 73 (dk_at dksX5_status_2 20 rfl rfl)
theorem dX5_status_79 : decode cX5_status 79 = .ok (.ireturn, 1) := dk_172 (dk_at dksX5_status_2 23 rfl rfl)
theorem dX5_status_80 : decode cX5_status 80 = .ok (.aload_n 0, 1) := dk_42 (dk_at dksX5_status_3 0 rfl rfl)
theorem dX5_status_81 : decode cX5_status 81 = .ok (.getfield 358, 3) := dk_180 1 102 (dk_at dksX5_status_3 1 rfl rfl)
theorem dX5_status_84 : decode cX5_status 84 = .ok (.ireturn, 1) := dk_172 (dk_at dksX5_status_3 4 rfl rfl)
theorem dX5_status_85 : decode cX5_status 85 = .ok (.aload_n 0, 1) := dk_42 (dk_at dksX5_status_3 5 rfl rfl)
theorem dX5_status_86 : decode cX5_status 86 = .ok (.getfield 361, 3) := dk_180 1 105 (dk_at dksX5_status_3 6 rfl rfl)
theorem dX5_status_89 : decode cX5_status 89 = .ok (.ireturn, 1) := dk_172 (dk_at dksX5_status_3 9 rfl rfl)
theorem dX5_status_90 : decode cX5_status 90 = .ok (.aload_n 0, 1) := dk_42 (dk_at dksX5_status_3 10 rfl rfl)
theorem dX5_status_91 : decode cX5_status 91 = .ok (.getfield 364, 3) := dk_180 1 108 (dk_at dksX5_status_3 11 rfl rfl)
theorem dX5_status_94 : decode cX5_status 94 = .ok (.ireturn, 1) := dk_172 (dk_at dksX5_status_3 14 rfl rfl)
theorem dX5_status_95 : decode cX5_status 95 = .ok (.aload_n 0, 1) := dk_42 (dk_at dksX5_status_3 15 rfl rfl)
theorem dX5_status_96 : decode cX5_status 96 = .ok (.getfield 156, 3) := dk_180 0 156 (dk_at dksX5_status_3 16 rfl rfl)
theorem dX5_status_99 : decode cX5_status 99 = .ok (.ireturn, 1) := dk_172 (dk_at dksX5_status_3 19 rfl rfl)
theorem dX5_status_100 : decode cX5_status 100 = .ok (.aload_n 0, 1) := dk_42 (dk_at dksX5_status_3 20 rfl rfl)
theorem dX5_status_101 : decode cX5_status 101 = .ok (.getfield 55, 3) := dk_180 0 55 (dk_at dksX5_status_3 21 rfl rfl)
theorem dX5_status_104 : decode cX5_status 104 = .ok (.ireturn, 1) := dk_172 (dk_at dksX5_status_4 0 rfl rfl)
theorem dX5_status_105 : decode cX5_status 105 = .ok (.iconst 0, 1) := dk_3 (dk_at dksX5_status_4 1 rfl rfl)
theorem dX5_status_106 : decode cX5_status 106 = .ok (.istore_n 3, 1) := dk_62 (dk_at dksX5_status_4 2 rfl rfl)
theorem dX5_status_107 : decode cX5_status 107 = .ok (.iload_n 3, 1) := dk_29 (dk_at dksX5_status_4 3 rfl rfl)
theorem dX5_status_108 : decode cX5_status 108 = .ok (.bipush 8, 2) := dk_16 8 (dk_at dksX5_status_4 4 rfl rfl)
theorem dX5_status_110 : decode cX5_status 110 = .ok (.if_icmp .ge 26, 3) := dk_162 0 26 (dk_at dksX5_status_4 6 rfl rfl)
theorem dX5_status_113 : decode cX5_status 113 = .ok (.iload_n 2, 1) := dk_28 (dk_at dksX5_status_4 9 rfl rfl)
theorem dX5_status_114 : decode cX5_status 114 = .ok (.aload_n 0, 1) := dk_42 (dk_at dksX5_status_4 10 rfl rfl)
theorem dX5_status_115 : decode cX5_status 115 = .ok (.getfield 7, 3) := dk_180 0 7 (dk_at dksX5_status_4 11 rfl rfl)
theorem dX5_status_118 : decode cX5_status 118 = .ok (.iload_n 3, 1) := dk_29 (dk_at dksX5_status_4 14 rfl rfl)
theorem dX5_status_119 : decode cX5_status 119 = .ok (.iaload, 1) := dk_46 (dk_at dksX5_status_4 15 rfl rfl)
theorem dX5_status_120 : decode cX5_status 120 = .ok (.ifCond .eq 7, 3) := dk_153 0 7 (dk_at dksX5_status_4 16 rfl rfl)
theorem dX5_status_123 : decode cX5_status 123 = .ok (.iconst 1, 1) := dk_4 (dk_at dksX5_status_4 19 rfl rfl)
theorem dX5_status_124 : decode cX5_status 124 = .ok (.goto 4, 3) := dk_167 0 4 (dk_at dksX5_status_4 20 rfl rfl)
theorem dX5_status_127 : decode cX5_status 127 = .ok (.iconst 0, 1) := dk_3 (dk_at dksX5_status_4 23 rfl rfl)
theorem dX5_status_128 : decode cX5_status 128 = .ok (.iadd, 1) := dk_96 (dk_at dksX5_status_5 0 rfl rfl)
theorem dX5_status_129 : decode cX5_status 129 = .ok (.istore_n 2, 1) := dk_61 (dk_at dksX5_status_5 1 rfl rfl)
theorem dX5_status_130 : decode cX5_status 130 = .ok (.iinc 3 1, 3) := dk_132 3 1 (dk_at dksX5_status_5 2 rfl rfl)
theorem dX5_status_133 : decode cX5_status 133 = .ok (.goto (-26), 3) := dk_167 255 230 (dk_at dksX5_status_5 5 rfl rfl)
theorem dX5_status_136 : decode cX5_status 136 = .ok (.iload_n 2, 1) := dk_28 (dk_at dksX5_status_5 8 rfl rfl)
theorem dX5_status_137 : decode cX5_status 137 = .ok (.ireturn, 1) := dk_172 (dk_at dksX5_status_5 9 rfl rfl)
theorem dX5_status_138 : decode cX5_status 138 = .ok (.iload_n 1, 1) := dk_27 (dk_at dksX5_status_5 10 rfl rfl)
theorem dX5_status_139 : decode cX5_status 139 = .ok (.i2l, 1) := dk_133 (dk_at dksX5_status_5 11 rfl rfl)
theorem dX5_status_140 : decode cX5_status 140 = .ok (.ldc2_w 383, 3) := dk_20 1 127 (dk_at dksX5_status_5 12 rfl rfl)
theorem dX5_status_143 : decode cX5_status 143 = .ok (.ldc2_w 385, 3) := dk_20 1 129 (dk_at dksX5_status_5 15 rfl rfl)
theorem dX5_status_146 : decode cX5_status 146 = .ok (.invokestatic 88, 3) := dk_184 0 88 (dk_at dksX5_status_5 18 rfl rfl)
theorem dX5_status_149 : decode cX5_status 149 = .ok (.ifCond .eq 15, 3) := dk_153 0 15 (dk_at dksX5_status_5 21 rfl rfl)
theorem dX5_status_152 : decode cX5_status 152 = .ok (.aload_n 0, 1) := dk_42 (dk_at dksX5_status_6 0 rfl rfl)
theorem dX5_status_153 : decode cX5_status 153 = .ok (.getfield 37, 3) := dk_180 0 37 (dk_at dksX5_status_6 1 rfl rfl)
theorem dX5_status_156 : decode cX5_status 156 = .ok (.iload_n 1, 1) := dk_27 (dk_at dksX5_status_6 4 rfl rfl)
theorem dX5_status_157 : decode cX5_status 157 = .ok (.bipush 10, 2) := dk_16 10 (dk_at dksX5_status_6 5 rfl rfl)
theorem dX5_status_159 : decode cX5_status 159 = .ok (.isub, 1) := dk_100 (dk_at dksX5_status_6 7 rfl rfl)
theorem dX5_status_160 : decode cX5_status 160 = .ok (.iaload, 1) := dk_46 (dk_at dksX5_status_6 8 rfl rfl)
theorem dX5_status_161 : decode cX5_status 161 = .ok (.goto 4, 3) := dk_167 0 4 (dk_at dksX5_status_6 9 rfl rfl)
theorem dX5_status_164 : decode cX5_status 164 = .ok (.iconst (-1), 1) := dk_2 (dk_at dksX5_status_6 12 rfl rfl)
theorem dX5_status_165 : decode cX5_status 165 = .ok (.ireturn, 1) := dk_172 (dk_at dksX5_status_6 13 rfl rfl)
theorem q86 : (Jvm.Cond.initialized "ThreeStrangersModel") ∈ lw_all := lw_g (lw_at lw_m1 6 rfl) rfl
theorem q1469 : (Jvm.Cond.instantiable "ThreeStrangersModel" (45 : Nat)) ∈ lw_all := lw_g (lw_at lw_m6 189 rfl) rfl
theorem q1471 : (Jvm.Cond.instanceMethod ({ cls := "ThreeStrangersModel", name := "<init>", desc := "()V" } : Jvm.MethodName)) ∈ lw_all := lw_g (lw_at lw_m6 191 rfl) rfl
theorem q1472 : (Jvm.Cond.code ({ cls := "ThreeStrangersModel", name := "<init>", desc := "()V" } : Jvm.MethodName) prog_18_method_1_code (1 : Nat) (Option.none : Option Jvm.ClassFile.FieldType)) ∈ lw_all := lw_g (lw_at lw_m6 192 rfl) rfl
theorem q1473 : (Jvm.Cond.methodLink "ThreeStrangersModel" (1 : Nat) ({ cls := "java/lang/Object", name := "<init>", desc := "()V" } : Jvm.MethodName)) ∈ lw_all := lw_g (lw_at lw_m6 193 rfl) rfl
theorem q1474 : (Jvm.Cond.classLink "ThreeStrangersModel" (19 : Nat) "[[J") ∈ lw_all := lw_g (lw_at lw_m6 194 rfl) rfl
theorem q1476 : (Jvm.Cond.classLink "ThreeStrangersModel" (46 : Nat) "[[I") ∈ lw_all := lw_g (lw_at lw_m6 196 rfl) rfl
theorem q1478 : (Jvm.Cond.fieldLink "ThreeStrangersModel" (7 : Nat) "ThreeStrangersModel" "shelf" "[I") ∈ lw_all := lw_g (lw_at lw_m6 198 rfl) rfl
theorem q1479 : (Jvm.Cond.fieldLink "ThreeStrangersModel" (13 : Nat) "ThreeStrangersModel" "rowSort" "[I") ∈ lw_all := lw_g (lw_at lw_m6 199 rfl) rfl
theorem q1480 : (Jvm.Cond.fieldLink "ThreeStrangersModel" (16 : Nat) "ThreeStrangersModel" "rowSize" "[I") ∈ lw_all := lw_g (lw_at lw_m6 200 rfl) rfl
theorem q1481 : (Jvm.Cond.fieldLink "ThreeStrangersModel" (21 : Nat) "ThreeStrangersModel" "rows" "[[J") ∈ lw_all := lw_g (lw_at lw_m6 201 rfl) rfl
theorem q1482 : (Jvm.Cond.fieldLink "ThreeStrangersModel" (24 : Nat) "ThreeStrangersModel" "moved" "[J") ∈ lw_all := lw_g (lw_at lw_m6 202 rfl) rfl
theorem q1483 : (Jvm.Cond.fieldLink "ThreeStrangersModel" (28 : Nat) "ThreeStrangersModel" "manKind" "[I") ∈ lw_all := lw_g (lw_at lw_m6 203 rfl) rfl
theorem q1484 : (Jvm.Cond.fieldLink "ThreeStrangersModel" (31 : Nat) "ThreeStrangersModel" "manBy" "[I") ∈ lw_all := lw_g (lw_at lw_m6 204 rfl) rfl
theorem q1485 : (Jvm.Cond.fieldLink "ThreeStrangersModel" (34 : Nat) "ThreeStrangersModel" "tape" "[I") ∈ lw_all := lw_g (lw_at lw_m6 205 rfl) rfl
theorem q1486 : (Jvm.Cond.fieldLink "ThreeStrangersModel" (156 : Nat) "ThreeStrangersModel" "tapeSize" "I") ∈ lw_all := lw_g (lw_at lw_m6 206 rfl) rfl
theorem q1487 : (Jvm.Cond.fieldLink "ThreeStrangersModel" (37 : Nat) "ThreeStrangersModel" "refused" "[I") ∈ lw_all := lw_g (lw_at lw_m6 207 rfl) rfl
theorem q1488 : (Jvm.Cond.fieldLink "ThreeStrangersModel" (85 : Nat) "ThreeStrangersModel" "people" "I") ∈ lw_all := lw_g (lw_at lw_m6 208 rfl) rfl
theorem q1489 : (Jvm.Cond.fieldLink "ThreeStrangersModel" (40 : Nat) "ThreeStrangersModel" "hour" "[I") ∈ lw_all := lw_g (lw_at lw_m6 209 rfl) rfl
theorem q1490 : (Jvm.Cond.fieldLink "ThreeStrangersModel" (43 : Nat) "ThreeStrangersModel" "cost" "[I") ∈ lw_all := lw_g (lw_at lw_m6 210 rfl) rfl
theorem q1491 : (Jvm.Cond.fieldLink "ThreeStrangersModel" (48 : Nat) "ThreeStrangersModel" "known" "[[I") ∈ lw_all := lw_g (lw_at lw_m6 211 rfl) rfl
theorem q1492 : (Jvm.Cond.fieldLink "ThreeStrangersModel" (51 : Nat) "ThreeStrangersModel" "seats" "I") ∈ lw_all := lw_g (lw_at lw_m6 212 rfl) rfl
theorem q1493 : (Jvm.Cond.fieldLink "ThreeStrangersModel" (148 : Nat) "ThreeStrangersModel" "memory" "I") ∈ lw_all := lw_g (lw_at lw_m6 213 rfl) rfl
theorem q1494 : (Jvm.Cond.fieldLink "ThreeStrangersModel" (358 : Nat) "ThreeStrangersModel" "coaches" "I") ∈ lw_all := lw_g (lw_at lw_m6 214 rfl) rfl
theorem q1495 : (Jvm.Cond.fieldLink "ThreeStrangersModel" (361 : Nat) "ThreeStrangersModel" "days" "I") ∈ lw_all := lw_g (lw_at lw_m6 215 rfl) rfl
theorem q1496 : (Jvm.Cond.fieldLink "ThreeStrangersModel" (364 : Nat) "ThreeStrangersModel" "years" "I") ∈ lw_all := lw_g (lw_at lw_m6 216 rfl) rfl
theorem q1497 : (Jvm.Cond.fieldLink "ThreeStrangersModel" (55 : Nat) "ThreeStrangersModel" "seed" "I") ∈ lw_all := lw_g (lw_at lw_m6 217 rfl) rfl
theorem q1498 : (Jvm.Cond.fieldLink "ThreeStrangersModel" (380 : Nat) "ThreeStrangersModel" "kept" "LThreeStrangersModel;") ∈ lw_all := lw_g (lw_at lw_m6 218 rfl) rfl
theorem q1499 : (Jvm.Cond.fieldLink "ThreeStrangersModel" (371 : Nat) "ThreeStrangersModel" "tried" "LThreeStrangersModel;") ∈ lw_all := lw_g (lw_at lw_m6 219 rfl) rfl
theorem q1500 : (Jvm.Cond.fieldLink "ThreeStrangersModel" (159 : Nat) "ThreeStrangersModel" "at" "I") ∈ lw_all := lw_g (lw_at lw_m6 220 rfl) rfl
theorem q1501 : (Jvm.Cond.fieldLink "ThreeStrangersModel" (168 : Nat) "ThreeStrangersModel" "token" "I") ∈ lw_all := lw_g (lw_at lw_m6 221 rfl) rfl
theorem q1502 : (Jvm.Cond.fieldLink "ThreeStrangersModel" (162 : Nat) "ThreeStrangersModel" "from" "I") ∈ lw_all := lw_g (lw_at lw_m6 222 rfl) rfl
theorem q1503 : (Jvm.Cond.fieldLink "ThreeStrangersModel" (165 : Nat) "ThreeStrangersModel" "figures" "I") ∈ lw_all := lw_g (lw_at lw_m6 223 rfl) rfl
theorem q1504 : (Jvm.Cond.fieldLink "ThreeStrangersModel" (178 : Nat) "ThreeStrangersModel" "fault" "I") ∈ lw_all := lw_g (lw_at lw_m6 224 rfl) rfl
theorem q1505 : (Jvm.Cond.fieldLink "ThreeStrangersModel" (58 : Nat) "ThreeStrangersModel" "told" "[I") ∈ lw_all := lw_g (lw_at lw_m6 225 rfl) rfl
theorem q1506 : (Jvm.Cond.fieldLink "ThreeStrangersModel" (232 : Nat) "ThreeStrangersModel" "statements" "I") ∈ lw_all := lw_g (lw_at lw_m6 226 rfl) rfl
theorem q1507 : (Jvm.Cond.fieldLink "ThreeStrangersModel" (61 : Nat) "ThreeStrangersModel" "list" "[I") ∈ lw_all := lw_g (lw_at lw_m6 227 rfl) rfl
theorem q1508 : (Jvm.Cond.fieldLink "ThreeStrangersModel" (257 : Nat) "ThreeStrangersModel" "listed" "I") ∈ lw_all := lw_g (lw_at lw_m6 228 rfl) rfl
theorem q1509 : (Jvm.Cond.fieldLink "ThreeStrangersModel" (64 : Nat) "ThreeStrangersModel" "coming" "[I") ∈ lw_all := lw_g (lw_at lw_m6 229 rfl) rfl
theorem q1510 : (Jvm.Cond.fieldLink "ThreeStrangersModel" (67 : Nat) "ThreeStrangersModel" "coach" "[I") ∈ lw_all := lw_g (lw_at lw_m6 230 rfl) rfl
theorem q1511 : (Jvm.Cond.fieldLink "ThreeStrangersModel" (296 : Nat) "ThreeStrangersModel" "went" "I") ∈ lw_all := lw_g (lw_at lw_m6 231 rfl) rfl
theorem q1512 : (Jvm.Cond.fieldLink "ThreeStrangersModel" (299 : Nat) "ThreeStrangersModel" "leftNow" "I") ∈ lw_all := lw_g (lw_at lw_m6 232 rfl) rfl
theorem q1513 : (Jvm.Cond.fieldLink "ThreeStrangersModel" (70 : Nat) "ThreeStrangersModel" "waited" "[I") ∈ lw_all := lw_g (lw_at lw_m6 233 rfl) rfl
theorem q1514 : (Jvm.Cond.fieldLink "ThreeStrangersModel" (73 : Nat) "ThreeStrangersModel" "leastKnown" "[I") ∈ lw_all := lw_g (lw_at lw_m6 234 rfl) rfl
theorem q1515 : (Jvm.Cond.fieldLink "ThreeStrangersModel" (319 : Nat) "ThreeStrangersModel" "longest" "I") ∈ lw_all := lw_g (lw_at lw_m6 235 rfl) rfl
theorem q1516 : (Jvm.Cond.fieldLink "ThreeStrangersModel" (322 : Nat) "ThreeStrangersModel" "soonest" "I") ∈ lw_all := lw_g (lw_at lw_m6 236 rfl) rfl
theorem q1517 : (Jvm.Cond.fieldLink "ThreeStrangersModel" (76 : Nat) "ThreeStrangersModel" "pairP" "[I") ∈ lw_all := lw_g (lw_at lw_m6 237 rfl) rfl
theorem q1518 : (Jvm.Cond.fieldLink "ThreeStrangersModel" (79 : Nat) "ThreeStrangersModel" "pairQ" "[I") ∈ lw_all := lw_g (lw_at lw_m6 238 rfl) rfl
theorem q1519 : (Jvm.Cond.fieldLink "ThreeStrangersModel" (82 : Nat) "ThreeStrangersModel" "pairWays" "[I") ∈ lw_all := lw_g (lw_at lw_m6 239 rfl) rfl
theorem q1520 : (Jvm.Cond.fieldLink "ThreeStrangersModel" (338 : Nat) "ThreeStrangersModel" "pairs" "I") ∈ lw_all := lw_g (lw_at lw_m7 0 rfl) rfl
theorem q1521 : (Jvm.Cond.fieldLink "ThreeStrangersModel" (341 : Nat) "ThreeStrangersModel" "ways" "I") ∈ lw_all := lw_g (lw_at lw_m7 1 rfl) rfl
theorem q1522 : (Jvm.Cond.fieldLink "ThreeStrangersModel" (348 : Nat) "ThreeStrangersModel" "rodeNow" "I") ∈ lw_all := lw_g (lw_at lw_m7 2 rfl) rfl
theorem q1523 : (Jvm.Cond.laysFinal "ThreeStrangersModel" "ThreeStrangersModel" "shelf" "[I") ∈ lw_all := lw_g (lw_at lw_m7 3 rfl) rfl
theorem q1524 : (Jvm.Cond.soleField "ThreeStrangersModel" "shelf") ∈ lw_all := lw_g (lw_at lw_m7 4 rfl) rfl
theorem q1525 : (Jvm.Cond.laysFinal "ThreeStrangersModel" "ThreeStrangersModel" "rowSort" "[I") ∈ lw_all := lw_g (lw_at lw_m7 5 rfl) rfl
theorem q1526 : (Jvm.Cond.soleField "ThreeStrangersModel" "rowSort") ∈ lw_all := lw_g (lw_at lw_m7 6 rfl) rfl
theorem q1527 : (Jvm.Cond.laysFinal "ThreeStrangersModel" "ThreeStrangersModel" "rowSize" "[I") ∈ lw_all := lw_g (lw_at lw_m7 7 rfl) rfl
theorem q1528 : (Jvm.Cond.soleField "ThreeStrangersModel" "rowSize") ∈ lw_all := lw_g (lw_at lw_m7 8 rfl) rfl
theorem q1529 : (Jvm.Cond.laysFinal "ThreeStrangersModel" "ThreeStrangersModel" "rows" "[[J") ∈ lw_all := lw_g (lw_at lw_m7 9 rfl) rfl
theorem q1530 : (Jvm.Cond.soleField "ThreeStrangersModel" "rows") ∈ lw_all := lw_g (lw_at lw_m7 10 rfl) rfl
theorem q1531 : (Jvm.Cond.laysFinal "ThreeStrangersModel" "ThreeStrangersModel" "moved" "[J") ∈ lw_all := lw_g (lw_at lw_m7 11 rfl) rfl
theorem q1532 : (Jvm.Cond.soleField "ThreeStrangersModel" "moved") ∈ lw_all := lw_g (lw_at lw_m7 12 rfl) rfl
theorem q1533 : (Jvm.Cond.laysFinal "ThreeStrangersModel" "ThreeStrangersModel" "manKind" "[I") ∈ lw_all := lw_g (lw_at lw_m7 13 rfl) rfl
theorem q1534 : (Jvm.Cond.soleField "ThreeStrangersModel" "manKind") ∈ lw_all := lw_g (lw_at lw_m7 14 rfl) rfl
theorem q1535 : (Jvm.Cond.laysFinal "ThreeStrangersModel" "ThreeStrangersModel" "manBy" "[I") ∈ lw_all := lw_g (lw_at lw_m7 15 rfl) rfl
theorem q1536 : (Jvm.Cond.soleField "ThreeStrangersModel" "manBy") ∈ lw_all := lw_g (lw_at lw_m7 16 rfl) rfl
theorem q1537 : (Jvm.Cond.laysFinal "ThreeStrangersModel" "ThreeStrangersModel" "tape" "[I") ∈ lw_all := lw_g (lw_at lw_m7 17 rfl) rfl
theorem q1538 : (Jvm.Cond.soleField "ThreeStrangersModel" "tape") ∈ lw_all := lw_g (lw_at lw_m7 18 rfl) rfl
theorem q1539 : (Jvm.Cond.lays "ThreeStrangersModel" "ThreeStrangersModel" "tapeSize" "I") ∈ lw_all := lw_g (lw_at lw_m7 19 rfl) rfl
theorem q1540 : (Jvm.Cond.soleField "ThreeStrangersModel" "tapeSize") ∈ lw_all := lw_g (lw_at lw_m7 20 rfl) rfl
theorem q1541 : (Jvm.Cond.laysFinal "ThreeStrangersModel" "ThreeStrangersModel" "refused" "[I") ∈ lw_all := lw_g (lw_at lw_m7 21 rfl) rfl
theorem q1542 : (Jvm.Cond.soleField "ThreeStrangersModel" "refused") ∈ lw_all := lw_g (lw_at lw_m7 22 rfl) rfl
theorem q1543 : (Jvm.Cond.lays "ThreeStrangersModel" "ThreeStrangersModel" "people" "I") ∈ lw_all := lw_g (lw_at lw_m7 23 rfl) rfl
theorem q1544 : (Jvm.Cond.soleField "ThreeStrangersModel" "people") ∈ lw_all := lw_g (lw_at lw_m7 24 rfl) rfl
theorem q1545 : (Jvm.Cond.laysFinal "ThreeStrangersModel" "ThreeStrangersModel" "hour" "[I") ∈ lw_all := lw_g (lw_at lw_m7 25 rfl) rfl
theorem q1546 : (Jvm.Cond.soleField "ThreeStrangersModel" "hour") ∈ lw_all := lw_g (lw_at lw_m7 26 rfl) rfl
theorem q1547 : (Jvm.Cond.laysFinal "ThreeStrangersModel" "ThreeStrangersModel" "cost" "[I") ∈ lw_all := lw_g (lw_at lw_m7 27 rfl) rfl
theorem q1548 : (Jvm.Cond.soleField "ThreeStrangersModel" "cost") ∈ lw_all := lw_g (lw_at lw_m7 28 rfl) rfl
theorem q1549 : (Jvm.Cond.laysFinal "ThreeStrangersModel" "ThreeStrangersModel" "known" "[[I") ∈ lw_all := lw_g (lw_at lw_m7 29 rfl) rfl
theorem q1550 : (Jvm.Cond.soleField "ThreeStrangersModel" "known") ∈ lw_all := lw_g (lw_at lw_m7 30 rfl) rfl
theorem q1551 : (Jvm.Cond.lays "ThreeStrangersModel" "ThreeStrangersModel" "seats" "I") ∈ lw_all := lw_g (lw_at lw_m7 31 rfl) rfl
theorem q1552 : (Jvm.Cond.soleField "ThreeStrangersModel" "seats") ∈ lw_all := lw_g (lw_at lw_m7 32 rfl) rfl
theorem q1553 : (Jvm.Cond.lays "ThreeStrangersModel" "ThreeStrangersModel" "memory" "I") ∈ lw_all := lw_g (lw_at lw_m7 33 rfl) rfl
theorem q1554 : (Jvm.Cond.soleField "ThreeStrangersModel" "memory") ∈ lw_all := lw_g (lw_at lw_m7 34 rfl) rfl
theorem q1555 : (Jvm.Cond.lays "ThreeStrangersModel" "ThreeStrangersModel" "coaches" "I") ∈ lw_all := lw_g (lw_at lw_m7 35 rfl) rfl
theorem q1556 : (Jvm.Cond.soleField "ThreeStrangersModel" "coaches") ∈ lw_all := lw_g (lw_at lw_m7 36 rfl) rfl
theorem q1557 : (Jvm.Cond.lays "ThreeStrangersModel" "ThreeStrangersModel" "days" "I") ∈ lw_all := lw_g (lw_at lw_m7 37 rfl) rfl
theorem q1558 : (Jvm.Cond.soleField "ThreeStrangersModel" "days") ∈ lw_all := lw_g (lw_at lw_m7 38 rfl) rfl
theorem q1559 : (Jvm.Cond.lays "ThreeStrangersModel" "ThreeStrangersModel" "years" "I") ∈ lw_all := lw_g (lw_at lw_m7 39 rfl) rfl
theorem q1560 : (Jvm.Cond.soleField "ThreeStrangersModel" "years") ∈ lw_all := lw_g (lw_at lw_m7 40 rfl) rfl
theorem q1561 : (Jvm.Cond.lays "ThreeStrangersModel" "ThreeStrangersModel" "seed" "I") ∈ lw_all := lw_g (lw_at lw_m7 41 rfl) rfl
theorem q1562 : (Jvm.Cond.soleField "ThreeStrangersModel" "seed") ∈ lw_all := lw_g (lw_at lw_m7 42 rfl) rfl
theorem q1563 : (Jvm.Cond.lays "ThreeStrangersModel" "ThreeStrangersModel" "kept" "LThreeStrangersModel;") ∈ lw_all := lw_g (lw_at lw_m7 43 rfl) rfl
theorem q1564 : (Jvm.Cond.soleField "ThreeStrangersModel" "kept") ∈ lw_all := lw_g (lw_at lw_m7 44 rfl) rfl
theorem q1565 : (Jvm.Cond.lays "ThreeStrangersModel" "ThreeStrangersModel" "tried" "LThreeStrangersModel;") ∈ lw_all := lw_g (lw_at lw_m7 45 rfl) rfl
theorem q1566 : (Jvm.Cond.soleField "ThreeStrangersModel" "tried") ∈ lw_all := lw_g (lw_at lw_m7 46 rfl) rfl
theorem q1567 : (Jvm.Cond.lays "ThreeStrangersModel" "ThreeStrangersModel" "at" "I") ∈ lw_all := lw_g (lw_at lw_m7 47 rfl) rfl
theorem q1568 : (Jvm.Cond.soleField "ThreeStrangersModel" "at") ∈ lw_all := lw_g (lw_at lw_m7 48 rfl) rfl
theorem q1569 : (Jvm.Cond.lays "ThreeStrangersModel" "ThreeStrangersModel" "token" "I") ∈ lw_all := lw_g (lw_at lw_m7 49 rfl) rfl
theorem q1570 : (Jvm.Cond.soleField "ThreeStrangersModel" "token") ∈ lw_all := lw_g (lw_at lw_m7 50 rfl) rfl
theorem q1571 : (Jvm.Cond.lays "ThreeStrangersModel" "ThreeStrangersModel" "from" "I") ∈ lw_all := lw_g (lw_at lw_m7 51 rfl) rfl
theorem q1572 : (Jvm.Cond.soleField "ThreeStrangersModel" "from") ∈ lw_all := lw_g (lw_at lw_m7 52 rfl) rfl
theorem q1573 : (Jvm.Cond.lays "ThreeStrangersModel" "ThreeStrangersModel" "figures" "I") ∈ lw_all := lw_g (lw_at lw_m7 53 rfl) rfl
theorem q1574 : (Jvm.Cond.soleField "ThreeStrangersModel" "figures") ∈ lw_all := lw_g (lw_at lw_m7 54 rfl) rfl
theorem q1575 : (Jvm.Cond.lays "ThreeStrangersModel" "ThreeStrangersModel" "fault" "I") ∈ lw_all := lw_g (lw_at lw_m7 55 rfl) rfl
theorem q1576 : (Jvm.Cond.soleField "ThreeStrangersModel" "fault") ∈ lw_all := lw_g (lw_at lw_m7 56 rfl) rfl
theorem q1577 : (Jvm.Cond.laysFinal "ThreeStrangersModel" "ThreeStrangersModel" "told" "[I") ∈ lw_all := lw_g (lw_at lw_m7 57 rfl) rfl
theorem q1578 : (Jvm.Cond.soleField "ThreeStrangersModel" "told") ∈ lw_all := lw_g (lw_at lw_m7 58 rfl) rfl
theorem q1579 : (Jvm.Cond.lays "ThreeStrangersModel" "ThreeStrangersModel" "statements" "I") ∈ lw_all := lw_g (lw_at lw_m7 59 rfl) rfl
theorem q1580 : (Jvm.Cond.soleField "ThreeStrangersModel" "statements") ∈ lw_all := lw_g (lw_at lw_m7 60 rfl) rfl
theorem q1581 : (Jvm.Cond.laysFinal "ThreeStrangersModel" "ThreeStrangersModel" "list" "[I") ∈ lw_all := lw_g (lw_at lw_m7 61 rfl) rfl
theorem q1582 : (Jvm.Cond.soleField "ThreeStrangersModel" "list") ∈ lw_all := lw_g (lw_at lw_m7 62 rfl) rfl
theorem q1583 : (Jvm.Cond.lays "ThreeStrangersModel" "ThreeStrangersModel" "listed" "I") ∈ lw_all := lw_g (lw_at lw_m7 63 rfl) rfl
theorem q1584 : (Jvm.Cond.soleField "ThreeStrangersModel" "listed") ∈ lw_all := lw_g (lw_at lw_m7 64 rfl) rfl
theorem q1585 : (Jvm.Cond.laysFinal "ThreeStrangersModel" "ThreeStrangersModel" "coming" "[I") ∈ lw_all := lw_g (lw_at lw_m7 65 rfl) rfl
theorem q1586 : (Jvm.Cond.soleField "ThreeStrangersModel" "coming") ∈ lw_all := lw_g (lw_at lw_m7 66 rfl) rfl
theorem q1587 : (Jvm.Cond.laysFinal "ThreeStrangersModel" "ThreeStrangersModel" "coach" "[I") ∈ lw_all := lw_g (lw_at lw_m7 67 rfl) rfl
theorem q1588 : (Jvm.Cond.soleField "ThreeStrangersModel" "coach") ∈ lw_all := lw_g (lw_at lw_m7 68 rfl) rfl
theorem q1589 : (Jvm.Cond.lays "ThreeStrangersModel" "ThreeStrangersModel" "went" "I") ∈ lw_all := lw_g (lw_at lw_m7 69 rfl) rfl
theorem q1590 : (Jvm.Cond.soleField "ThreeStrangersModel" "went") ∈ lw_all := lw_g (lw_at lw_m7 70 rfl) rfl
theorem q1591 : (Jvm.Cond.lays "ThreeStrangersModel" "ThreeStrangersModel" "leftNow" "I") ∈ lw_all := lw_g (lw_at lw_m7 71 rfl) rfl
theorem q1592 : (Jvm.Cond.soleField "ThreeStrangersModel" "leftNow") ∈ lw_all := lw_g (lw_at lw_m7 72 rfl) rfl
theorem q1593 : (Jvm.Cond.laysFinal "ThreeStrangersModel" "ThreeStrangersModel" "waited" "[I") ∈ lw_all := lw_g (lw_at lw_m7 73 rfl) rfl
theorem q1594 : (Jvm.Cond.soleField "ThreeStrangersModel" "waited") ∈ lw_all := lw_g (lw_at lw_m7 74 rfl) rfl
theorem q1595 : (Jvm.Cond.laysFinal "ThreeStrangersModel" "ThreeStrangersModel" "leastKnown" "[I") ∈ lw_all := lw_g (lw_at lw_m7 75 rfl) rfl
theorem q1596 : (Jvm.Cond.soleField "ThreeStrangersModel" "leastKnown") ∈ lw_all := lw_g (lw_at lw_m7 76 rfl) rfl
theorem q1597 : (Jvm.Cond.lays "ThreeStrangersModel" "ThreeStrangersModel" "longest" "I") ∈ lw_all := lw_g (lw_at lw_m7 77 rfl) rfl
theorem q1598 : (Jvm.Cond.soleField "ThreeStrangersModel" "longest") ∈ lw_all := lw_g (lw_at lw_m7 78 rfl) rfl
theorem q1599 : (Jvm.Cond.lays "ThreeStrangersModel" "ThreeStrangersModel" "soonest" "I") ∈ lw_all := lw_g (lw_at lw_m7 79 rfl) rfl
theorem q1600 : (Jvm.Cond.soleField "ThreeStrangersModel" "soonest") ∈ lw_all := lw_g (lw_at lw_m7 80 rfl) rfl
theorem q1601 : (Jvm.Cond.laysFinal "ThreeStrangersModel" "ThreeStrangersModel" "pairP" "[I") ∈ lw_all := lw_g (lw_at lw_m7 81 rfl) rfl
theorem q1602 : (Jvm.Cond.soleField "ThreeStrangersModel" "pairP") ∈ lw_all := lw_g (lw_at lw_m7 82 rfl) rfl
theorem q1603 : (Jvm.Cond.laysFinal "ThreeStrangersModel" "ThreeStrangersModel" "pairQ" "[I") ∈ lw_all := lw_g (lw_at lw_m7 83 rfl) rfl
theorem q1604 : (Jvm.Cond.soleField "ThreeStrangersModel" "pairQ") ∈ lw_all := lw_g (lw_at lw_m7 84 rfl) rfl
theorem q1605 : (Jvm.Cond.laysFinal "ThreeStrangersModel" "ThreeStrangersModel" "pairWays" "[I") ∈ lw_all := lw_g (lw_at lw_m7 85 rfl) rfl
theorem q1606 : (Jvm.Cond.soleField "ThreeStrangersModel" "pairWays") ∈ lw_all := lw_g (lw_at lw_m7 86 rfl) rfl
theorem q1607 : (Jvm.Cond.lays "ThreeStrangersModel" "ThreeStrangersModel" "pairs" "I") ∈ lw_all := lw_g (lw_at lw_m7 87 rfl) rfl
theorem q1608 : (Jvm.Cond.soleField "ThreeStrangersModel" "pairs") ∈ lw_all := lw_g (lw_at lw_m7 88 rfl) rfl
theorem q1609 : (Jvm.Cond.lays "ThreeStrangersModel" "ThreeStrangersModel" "ways" "I") ∈ lw_all := lw_g (lw_at lw_m7 89 rfl) rfl
theorem q1610 : (Jvm.Cond.soleField "ThreeStrangersModel" "ways") ∈ lw_all := lw_g (lw_at lw_m7 90 rfl) rfl
theorem q1611 : (Jvm.Cond.lays "ThreeStrangersModel" "ThreeStrangersModel" "rodeNow" "I") ∈ lw_all := lw_g (lw_at lw_m7 91 rfl) rfl
theorem q1612 : (Jvm.Cond.soleField "ThreeStrangersModel" "rodeNow") ∈ lw_all := lw_g (lw_at lw_m7 92 rfl) rfl
theorem q1613 : (Jvm.Cond.superclass "ThreeStrangersModel" "java/lang/Object") ∈ lw_all := lw_g (lw_at lw_m7 93 rfl) rfl
theorem q1615 : (Jvm.Cond.instanceMethod ({ cls := "ThreeStrangersModel", name := "row", desc := "(III)I" } : Jvm.MethodName)) ∈ lw_all := lw_g (lw_at lw_m7 95 rfl) rfl
theorem q1616 : (Jvm.Cond.selects "ThreeStrangersModel" ({ cls := "ThreeStrangersModel", name := "row", desc := "(III)I" } : Jvm.MethodName) ({ cls := "ThreeStrangersModel", name := "row", desc := "(III)I" } : Jvm.MethodName)) ∈ lw_all := lw_g (lw_at lw_m7 96 rfl) rfl
theorem q1617 : (Jvm.Cond.code ({ cls := "ThreeStrangersModel", name := "row", desc := "(III)I" } : Jvm.MethodName) prog_18_method_9_code (5 : Nat) (Option.some Jvm.ClassFile.FieldType.int)) ∈ lw_all := lw_g (lw_at lw_m7 97 rfl) rfl
theorem q1618 : (Jvm.Cond.constantLong "ThreeStrangersModel" (96 : Nat) (7 : Int64)) ∈ lw_all := lw_g (lw_at lw_m7 98 rfl) rfl
theorem q1619 : (Jvm.Cond.methodLink "ThreeStrangersModel" (88 : Nat) ({ cls := "ThreeStrangersModel", name := "in", desc := "(JJJ)Z" } : Jvm.MethodName)) ∈ lw_all := lw_g (lw_at lw_m7 99 rfl) rfl
theorem q1620 : (Jvm.Cond.static ({ cls := "ThreeStrangersModel", name := "in", desc := "(JJJ)Z" } : Jvm.MethodName)) ∈ lw_all := lw_g (lw_at lw_m7 100 rfl) rfl
theorem q1621 : (Jvm.Cond.code ({ cls := "ThreeStrangersModel", name := "in", desc := "(JJJ)Z" } : Jvm.MethodName) prog_18_method_3_code (6 : Nat) (Option.some Jvm.ClassFile.FieldType.boolean)) ∈ lw_all := lw_g (lw_at lw_m7 101 rfl) rfl
theorem q1622 : (Jvm.Cond.constantLong "ThreeStrangersModel" (98 : Nat) (4 : Int64)) ∈ lw_all := lw_g (lw_at lw_m7 102 rfl) rfl
theorem q1623 : (Jvm.Cond.constantLong "ThreeStrangersModel" (100 : Nat) (40 : Int64)) ∈ lw_all := lw_g (lw_at lw_m7 103 rfl) rfl
theorem q1624 : (Jvm.Cond.methodLink "ThreeStrangersModel" (102 : Nat) ({ cls := "ThreeStrangersModel", name := "refuse", desc := "(I)I" } : Jvm.MethodName)) ∈ lw_all := lw_g (lw_at lw_m7 104 rfl) rfl
theorem q1625 : (Jvm.Cond.privateMethod ({ cls := "ThreeStrangersModel", name := "refuse", desc := "(I)I" } : Jvm.MethodName)) ∈ lw_tbl := lw_at lw_m7 105 rfl
theorem q1626 : (Jvm.Cond.instanceMethod ({ cls := "ThreeStrangersModel", name := "refuse", desc := "(I)I" } : Jvm.MethodName)) ∈ lw_all := lw_g (lw_at lw_m7 106 rfl) rfl
theorem q1627 : (Jvm.Cond.code ({ cls := "ThreeStrangersModel", name := "refuse", desc := "(I)I" } : Jvm.MethodName) prog_18_method_2_code (2 : Nat) (Option.some Jvm.ClassFile.FieldType.int)) ∈ lw_all := lw_g (lw_at lw_m7 107 rfl) rfl
theorem q1629 : (Jvm.Cond.instanceMethod ({ cls := "ThreeStrangersModel", name := "set", desc := "(IIJ)I" } : Jvm.MethodName)) ∈ lw_all := lw_g (lw_at lw_m7 109 rfl) rfl
theorem q1630 : (Jvm.Cond.selects "ThreeStrangersModel" ({ cls := "ThreeStrangersModel", name := "set", desc := "(IIJ)I" } : Jvm.MethodName) ({ cls := "ThreeStrangersModel", name := "set", desc := "(IIJ)I" } : Jvm.MethodName)) ∈ lw_all := lw_g (lw_at lw_m7 110 rfl) rfl
theorem q1631 : (Jvm.Cond.code ({ cls := "ThreeStrangersModel", name := "set", desc := "(IIJ)I" } : Jvm.MethodName) prog_18_method_13_code (6 : Nat) (Option.some Jvm.ClassFile.FieldType.int)) ∈ lw_all := lw_g (lw_at lw_m7 111 rfl) rfl
theorem q1632 : (Jvm.Cond.methodLink "ThreeStrangersModel" (106 : Nat) ({ cls := "ThreeStrangersModel", name := "noRow", desc := "(I)I" } : Jvm.MethodName)) ∈ lw_all := lw_g (lw_at lw_m7 112 rfl) rfl
theorem q1633 : (Jvm.Cond.privateMethod ({ cls := "ThreeStrangersModel", name := "noRow", desc := "(I)I" } : Jvm.MethodName)) ∈ lw_tbl := lw_at lw_m7 113 rfl
theorem q1634 : (Jvm.Cond.instanceMethod ({ cls := "ThreeStrangersModel", name := "noRow", desc := "(I)I" } : Jvm.MethodName)) ∈ lw_all := lw_g (lw_at lw_m7 114 rfl) rfl
theorem q1635 : (Jvm.Cond.code ({ cls := "ThreeStrangersModel", name := "noRow", desc := "(I)I" } : Jvm.MethodName) prog_18_method_11_code (2 : Nat) (Option.some Jvm.ClassFile.FieldType.int)) ∈ lw_all := lw_g (lw_at lw_m7 115 rfl) rfl
theorem q1636 : (Jvm.Cond.methodLink "ThreeStrangersModel" (109 : Nat) ({ cls := "ThreeStrangersModel", name := "fit", desc := "(IJ)J" } : Jvm.MethodName)) ∈ lw_all := lw_g (lw_at lw_m7 116 rfl) rfl
theorem q1637 : (Jvm.Cond.static ({ cls := "ThreeStrangersModel", name := "fit", desc := "(IJ)J" } : Jvm.MethodName)) ∈ lw_all := lw_g (lw_at lw_m7 117 rfl) rfl
theorem q1638 : (Jvm.Cond.code ({ cls := "ThreeStrangersModel", name := "fit", desc := "(IJ)J" } : Jvm.MethodName) prog_18_method_10_code (3 : Nat) (Option.some Jvm.ClassFile.FieldType.long)) ∈ lw_all := lw_g (lw_at lw_m7 118 rfl) rfl
theorem q1640 : (Jvm.Cond.instanceMethod ({ cls := "ThreeStrangersModel", name := "copy", desc := "(IIIII)I" } : Jvm.MethodName)) ∈ lw_all := lw_g (lw_at lw_m7 120 rfl) rfl
theorem q1641 : (Jvm.Cond.selects "ThreeStrangersModel" ({ cls := "ThreeStrangersModel", name := "copy", desc := "(IIIII)I" } : Jvm.MethodName) ({ cls := "ThreeStrangersModel", name := "copy", desc := "(IIIII)I" } : Jvm.MethodName)) ∈ lw_all := lw_g (lw_at lw_m7 121 rfl) rfl
theorem q1642 : (Jvm.Cond.code ({ cls := "ThreeStrangersModel", name := "copy", desc := "(IIIII)I" } : Jvm.MethodName) prog_18_method_14_code (7 : Nat) (Option.some Jvm.ClassFile.FieldType.int)) ∈ lw_all := lw_g (lw_at lw_m7 122 rfl) rfl
theorem q1644 : (Jvm.Cond.instanceMethod ({ cls := "ThreeStrangersModel", name := "element", desc := "(II)J" } : Jvm.MethodName)) ∈ lw_all := lw_g (lw_at lw_m7 124 rfl) rfl
theorem q1645 : (Jvm.Cond.selects "ThreeStrangersModel" ({ cls := "ThreeStrangersModel", name := "element", desc := "(II)J" } : Jvm.MethodName) ({ cls := "ThreeStrangersModel", name := "element", desc := "(II)J" } : Jvm.MethodName)) ∈ lw_all := lw_g (lw_at lw_m7 125 rfl) rfl
theorem q1646 : (Jvm.Cond.code ({ cls := "ThreeStrangersModel", name := "element", desc := "(II)J" } : Jvm.MethodName) prog_18_method_15_code (3 : Nat) (Option.some Jvm.ClassFile.FieldType.long)) ∈ lw_all := lw_g (lw_at lw_m7 126 rfl) rfl
theorem q1648 : (Jvm.Cond.instanceMethod ({ cls := "ThreeStrangersModel", name := "holds", desc := "(I)I" } : Jvm.MethodName)) ∈ lw_all := lw_g (lw_at lw_m7 128 rfl) rfl
theorem q1649 : (Jvm.Cond.selects "ThreeStrangersModel" ({ cls := "ThreeStrangersModel", name := "holds", desc := "(I)I" } : Jvm.MethodName) ({ cls := "ThreeStrangersModel", name := "holds", desc := "(I)I" } : Jvm.MethodName)) ∈ lw_all := lw_g (lw_at lw_m7 129 rfl) rfl
theorem q1650 : (Jvm.Cond.code ({ cls := "ThreeStrangersModel", name := "holds", desc := "(I)I" } : Jvm.MethodName) prog_18_method_16_code (2 : Nat) (Option.some Jvm.ClassFile.FieldType.int)) ∈ lw_all := lw_g (lw_at lw_m7 130 rfl) rfl
theorem q1652 : (Jvm.Cond.instanceMethod ({ cls := "ThreeStrangersModel", name := "coachman", desc := "(III)I" } : Jvm.MethodName)) ∈ lw_all := lw_g (lw_at lw_m7 132 rfl) rfl
theorem q1653 : (Jvm.Cond.selects "ThreeStrangersModel" ({ cls := "ThreeStrangersModel", name := "coachman", desc := "(III)I" } : Jvm.MethodName) ({ cls := "ThreeStrangersModel", name := "coachman", desc := "(III)I" } : Jvm.MethodName)) ∈ lw_all := lw_g (lw_at lw_m7 133 rfl) rfl
theorem q1654 : (Jvm.Cond.code ({ cls := "ThreeStrangersModel", name := "coachman", desc := "(III)I" } : Jvm.MethodName) prog_18_method_17_code (4 : Nat) (Option.some Jvm.ClassFile.FieldType.int)) ∈ lw_all := lw_g (lw_at lw_m7 134 rfl) rfl
theorem q1655 : (Jvm.Cond.constantLong "ThreeStrangersModel" (113 : Nat) (5 : Int64)) ∈ lw_all := lw_g (lw_at lw_m7 135 rfl) rfl
theorem q1656 : (Jvm.Cond.constantLong "ThreeStrangersModel" (115 : Nat) (9 : Int64)) ∈ lw_all := lw_g (lw_at lw_m7 136 rfl) rfl
theorem q1658 : (Jvm.Cond.instanceMethod ({ cls := "ThreeStrangersModel", name := "says", desc := "(II)I" } : Jvm.MethodName)) ∈ lw_all := lw_g (lw_at lw_m7 138 rfl) rfl
theorem q1659 : (Jvm.Cond.selects "ThreeStrangersModel" ({ cls := "ThreeStrangersModel", name := "says", desc := "(II)I" } : Jvm.MethodName) ({ cls := "ThreeStrangersModel", name := "says", desc := "(II)I" } : Jvm.MethodName)) ∈ lw_all := lw_g (lw_at lw_m7 139 rfl) rfl
theorem q1660 : (Jvm.Cond.code ({ cls := "ThreeStrangersModel", name := "says", desc := "(II)I" } : Jvm.MethodName) prog_18_method_19_code (3 : Nat) (Option.some Jvm.ClassFile.FieldType.int)) ∈ lw_all := lw_g (lw_at lw_m7 140 rfl) rfl
theorem q1661 : (Jvm.Cond.methodLink "ThreeStrangersModel" (117 : Nat) ({ cls := "ThreeStrangersModel", name := "isUnder", desc := "(II)Z" } : Jvm.MethodName)) ∈ lw_all := lw_g (lw_at lw_m7 141 rfl) rfl
theorem q1662 : (Jvm.Cond.static ({ cls := "ThreeStrangersModel", name := "isUnder", desc := "(II)Z" } : Jvm.MethodName)) ∈ lw_all := lw_g (lw_at lw_m7 142 rfl) rfl
theorem q1663 : (Jvm.Cond.code ({ cls := "ThreeStrangersModel", name := "isUnder", desc := "(II)Z" } : Jvm.MethodName) prog_18_method_18_code (2 : Nat) (Option.some Jvm.ClassFile.FieldType.boolean)) ∈ lw_all := lw_g (lw_at lw_m7 143 rfl) rfl
theorem q1664 : (Jvm.Cond.methodLink "ThreeStrangersModel" (92 : Nat) ({ cls := "ThreeStrangersModel", name := "all", desc := "()I" } : Jvm.MethodName)) ∈ lw_all := lw_g (lw_at lw_m7 144 rfl) rfl
theorem q1665 : (Jvm.Cond.privateMethod ({ cls := "ThreeStrangersModel", name := "all", desc := "()I" } : Jvm.MethodName)) ∈ lw_tbl := lw_at lw_m7 145 rfl
theorem q1666 : (Jvm.Cond.instanceMethod ({ cls := "ThreeStrangersModel", name := "all", desc := "()I" } : Jvm.MethodName)) ∈ lw_all := lw_g (lw_at lw_m7 146 rfl) rfl
theorem q1667 : (Jvm.Cond.code ({ cls := "ThreeStrangersModel", name := "all", desc := "()I" } : Jvm.MethodName) prog_18_method_5_code (1 : Nat) (Option.some Jvm.ClassFile.FieldType.int)) ∈ lw_all := lw_g (lw_at lw_m7 147 rfl) rfl
theorem q1668 : (Jvm.Cond.methodLink "ThreeStrangersModel" (121 : Nat) ({ cls := "ThreeStrangersModel", name := "sentBy", desc := "(IIII)I" } : Jvm.MethodName)) ∈ lw_all := lw_g (lw_at lw_m7 148 rfl) rfl
theorem q1669 : (Jvm.Cond.privateMethod ({ cls := "ThreeStrangersModel", name := "sentBy", desc := "(IIII)I" } : Jvm.MethodName)) ∈ lw_tbl := lw_at lw_m7 149 rfl
theorem q1670 : (Jvm.Cond.instanceMethod ({ cls := "ThreeStrangersModel", name := "sentBy", desc := "(IIII)I" } : Jvm.MethodName)) ∈ lw_all := lw_g (lw_at lw_m7 150 rfl) rfl
theorem q1671 : (Jvm.Cond.code ({ cls := "ThreeStrangersModel", name := "sentBy", desc := "(IIII)I" } : Jvm.MethodName) prog_18_method_60_code (8 : Nat) (Option.some Jvm.ClassFile.FieldType.int)) ∈ lw_all := lw_g (lw_at lw_m7 151 rfl) rfl
theorem q1672 : (Jvm.Cond.methodLink "ThreeStrangersModel" (269 : Nat) ({ cls := "ThreeStrangersModel", name := "listAll", desc := "()V" } : Jvm.MethodName)) ∈ lw_all := lw_g (lw_at lw_m7 152 rfl) rfl
theorem q1673 : (Jvm.Cond.privateMethod ({ cls := "ThreeStrangersModel", name := "listAll", desc := "()V" } : Jvm.MethodName)) ∈ lw_tbl := lw_at lw_m7 153 rfl
theorem q1674 : (Jvm.Cond.instanceMethod ({ cls := "ThreeStrangersModel", name := "listAll", desc := "()V" } : Jvm.MethodName)) ∈ lw_all := lw_g (lw_at lw_m7 154 rfl) rfl
theorem q1675 : (Jvm.Cond.code ({ cls := "ThreeStrangersModel", name := "listAll", desc := "()V" } : Jvm.MethodName) prog_18_method_48_code (1 : Nat) (Option.none : Option Jvm.ClassFile.FieldType)) ∈ lw_all := lw_g (lw_at lw_m7 155 rfl) rfl
theorem q1676 : (Jvm.Cond.methodLink "ThreeStrangersModel" (260 : Nat) ({ cls := "ThreeStrangersModel", name := "listFrom", desc := "(III)V" } : Jvm.MethodName)) ∈ lw_all := lw_g (lw_at lw_m7 156 rfl) rfl
theorem q1677 : (Jvm.Cond.privateMethod ({ cls := "ThreeStrangersModel", name := "listFrom", desc := "(III)V" } : Jvm.MethodName)) ∈ lw_tbl := lw_at lw_m7 157 rfl
theorem q1678 : (Jvm.Cond.instanceMethod ({ cls := "ThreeStrangersModel", name := "listFrom", desc := "(III)V" } : Jvm.MethodName)) ∈ lw_all := lw_g (lw_at lw_m7 158 rfl) rfl
theorem q1679 : (Jvm.Cond.code ({ cls := "ThreeStrangersModel", name := "listFrom", desc := "(III)V" } : Jvm.MethodName) prog_18_method_47_code (7 : Nat) (Option.none : Option Jvm.ClassFile.FieldType)) ∈ lw_all := lw_g (lw_at lw_m7 159 rfl) rfl
theorem q1680 : (Jvm.Cond.methodLink "ThreeStrangersModel" (151 : Nat) ({ cls := "ThreeStrangersModel", name := "has", desc := "(II)Z" } : Jvm.MethodName)) ∈ lw_all := lw_g (lw_at lw_m7 160 rfl) rfl
theorem q1681 : (Jvm.Cond.static ({ cls := "ThreeStrangersModel", name := "has", desc := "(II)Z" } : Jvm.MethodName)) ∈ lw_all := lw_g (lw_at lw_m7 161 rfl) rfl
theorem q1682 : (Jvm.Cond.code ({ cls := "ThreeStrangersModel", name := "has", desc := "(II)Z" } : Jvm.MethodName) prog_18_method_7_code (2 : Nat) (Option.some Jvm.ClassFile.FieldType.boolean)) ∈ lw_all := lw_g (lw_at lw_m7 162 rfl) rfl
theorem q1683 : (Jvm.Cond.methodLink "ThreeStrangersModel" (254 : Nat) ({ cls := "ThreeStrangersModel", name := "bits", desc := "(I)I" } : Jvm.MethodName)) ∈ lw_all := lw_g (lw_at lw_m7 163 rfl) rfl
theorem q1684 : (Jvm.Cond.static ({ cls := "ThreeStrangersModel", name := "bits", desc := "(I)I" } : Jvm.MethodName)) ∈ lw_all := lw_g (lw_at lw_m7 164 rfl) rfl
theorem q1685 : (Jvm.Cond.code ({ cls := "ThreeStrangersModel", name := "bits", desc := "(I)I" } : Jvm.MethodName) prog_18_method_8_code (3 : Nat) (Option.some Jvm.ClassFile.FieldType.int)) ∈ lw_all := lw_g (lw_at lw_m7 165 rfl) rfl
theorem q1686 : (Jvm.Cond.methodLink "ThreeStrangersModel" (275 : Nat) ({ cls := "ThreeStrangersModel", name := "firstIn", desc := "(I)I" } : Jvm.MethodName)) ∈ lw_all := lw_g (lw_at lw_m7 166 rfl) rfl
theorem q1687 : (Jvm.Cond.privateMethod ({ cls := "ThreeStrangersModel", name := "firstIn", desc := "(I)I" } : Jvm.MethodName)) ∈ lw_tbl := lw_at lw_m7 167 rfl
theorem q1688 : (Jvm.Cond.instanceMethod ({ cls := "ThreeStrangersModel", name := "firstIn", desc := "(I)I" } : Jvm.MethodName)) ∈ lw_all := lw_g (lw_at lw_m7 168 rfl) rfl
theorem q1689 : (Jvm.Cond.code ({ cls := "ThreeStrangersModel", name := "firstIn", desc := "(I)I" } : Jvm.MethodName) prog_18_method_52_code (3 : Nat) (Option.some Jvm.ClassFile.FieldType.int)) ∈ lw_all := lw_g (lw_at lw_m7 169 rfl) rfl
theorem q1690 : (Jvm.Cond.methodLink "ThreeStrangersModel" (281 : Nat) ({ cls := "ThreeStrangersModel", name := "bestIn", desc := "(I)I" } : Jvm.MethodName)) ∈ lw_all := lw_g (lw_at lw_m7 170 rfl) rfl
theorem q1691 : (Jvm.Cond.privateMethod ({ cls := "ThreeStrangersModel", name := "bestIn", desc := "(I)I" } : Jvm.MethodName)) ∈ lw_tbl := lw_at lw_m7 171 rfl
theorem q1692 : (Jvm.Cond.instanceMethod ({ cls := "ThreeStrangersModel", name := "bestIn", desc := "(I)I" } : Jvm.MethodName)) ∈ lw_all := lw_g (lw_at lw_m7 172 rfl) rfl
theorem q1693 : (Jvm.Cond.code ({ cls := "ThreeStrangersModel", name := "bestIn", desc := "(I)I" } : Jvm.MethodName) prog_18_method_56_code (4 : Nat) (Option.some Jvm.ClassFile.FieldType.int)) ∈ lw_all := lw_g (lw_at lw_m7 173 rfl) rfl
theorem q1694 : (Jvm.Cond.methodLink "ThreeStrangersModel" (278 : Nat) ({ cls := "ThreeStrangersModel", name := "mostIn", desc := "(I)I" } : Jvm.MethodName)) ∈ lw_all := lw_g (lw_at lw_m7 174 rfl) rfl
theorem q1695 : (Jvm.Cond.privateMethod ({ cls := "ThreeStrangersModel", name := "mostIn", desc := "(I)I" } : Jvm.MethodName)) ∈ lw_tbl := lw_at lw_m7 175 rfl
theorem q1696 : (Jvm.Cond.instanceMethod ({ cls := "ThreeStrangersModel", name := "mostIn", desc := "(I)I" } : Jvm.MethodName)) ∈ lw_all := lw_g (lw_at lw_m7 176 rfl) rfl
theorem q1697 : (Jvm.Cond.code ({ cls := "ThreeStrangersModel", name := "mostIn", desc := "(I)I" } : Jvm.MethodName) prog_18_method_54_code (5 : Nat) (Option.some Jvm.ClassFile.FieldType.int)) ∈ lw_all := lw_g (lw_at lw_m7 177 rfl) rfl
theorem q1698 : (Jvm.Cond.methodLink "ThreeStrangersModel" (284 : Nat) ({ cls := "ThreeStrangersModel", name := "costOf", desc := "(I)I" } : Jvm.MethodName)) ∈ lw_all := lw_g (lw_at lw_m7 178 rfl) rfl
theorem q1699 : (Jvm.Cond.privateMethod ({ cls := "ThreeStrangersModel", name := "costOf", desc := "(I)I" } : Jvm.MethodName)) ∈ lw_tbl := lw_at lw_m7 179 rfl
theorem q1700 : (Jvm.Cond.instanceMethod ({ cls := "ThreeStrangersModel", name := "costOf", desc := "(I)I" } : Jvm.MethodName)) ∈ lw_all := lw_g (lw_at lw_m7 180 rfl) rfl
theorem q1701 : (Jvm.Cond.code ({ cls := "ThreeStrangersModel", name := "costOf", desc := "(I)I" } : Jvm.MethodName) prog_18_method_58_code (4 : Nat) (Option.some Jvm.ClassFile.FieldType.int)) ∈ lw_all := lw_g (lw_at lw_m7 181 rfl) rfl
theorem q1702 : (Jvm.Cond.methodLink "ThreeStrangersModel" (287 : Nat) ({ cls := "ThreeStrangersModel", name := "meetsOf", desc := "(I)I" } : Jvm.MethodName)) ∈ lw_all := lw_g (lw_at lw_m7 182 rfl) rfl
theorem q1703 : (Jvm.Cond.privateMethod ({ cls := "ThreeStrangersModel", name := "meetsOf", desc := "(I)I" } : Jvm.MethodName)) ∈ lw_tbl := lw_at lw_m7 183 rfl
theorem q1704 : (Jvm.Cond.instanceMethod ({ cls := "ThreeStrangersModel", name := "meetsOf", desc := "(I)I" } : Jvm.MethodName)) ∈ lw_all := lw_g (lw_at lw_m7 184 rfl) rfl
theorem q1705 : (Jvm.Cond.code ({ cls := "ThreeStrangersModel", name := "meetsOf", desc := "(I)I" } : Jvm.MethodName) prog_18_method_59_code (4 : Nat) (Option.some Jvm.ClassFile.FieldType.int)) ∈ lw_all := lw_g (lw_at lw_m7 185 rfl) rfl
theorem q1706 : (Jvm.Cond.methodLink "ThreeStrangersModel" (251 : Nat) ({ cls := "ThreeStrangersModel", name := "strangersOf", desc := "(I)I" } : Jvm.MethodName)) ∈ lw_all := lw_g (lw_at lw_m7 186 rfl) rfl
theorem q1707 : (Jvm.Cond.privateMethod ({ cls := "ThreeStrangersModel", name := "strangersOf", desc := "(I)I" } : Jvm.MethodName)) ∈ lw_tbl := lw_at lw_m7 187 rfl
theorem q1708 : (Jvm.Cond.instanceMethod ({ cls := "ThreeStrangersModel", name := "strangersOf", desc := "(I)I" } : Jvm.MethodName)) ∈ lw_all := lw_g (lw_at lw_m7 188 rfl) rfl
theorem q1709 : (Jvm.Cond.code ({ cls := "ThreeStrangersModel", name := "strangersOf", desc := "(I)I" } : Jvm.MethodName) prog_18_method_43_code (4 : Nat) (Option.some Jvm.ClassFile.FieldType.int)) ∈ lw_all := lw_g (lw_at lw_m7 189 rfl) rfl
theorem q1711 : (Jvm.Cond.instanceMethod ({ cls := "ThreeStrangersModel", name := "person", desc := "(II)I" } : Jvm.MethodName)) ∈ lw_all := lw_g (lw_at lw_m7 191 rfl) rfl
theorem q1712 : (Jvm.Cond.selects "ThreeStrangersModel" ({ cls := "ThreeStrangersModel", name := "person", desc := "(II)I" } : Jvm.MethodName) ({ cls := "ThreeStrangersModel", name := "person", desc := "(II)I" } : Jvm.MethodName)) ∈ lw_all := lw_g (lw_at lw_m7 192 rfl) rfl
theorem q1713 : (Jvm.Cond.code ({ cls := "ThreeStrangersModel", name := "person", desc := "(II)I" } : Jvm.MethodName) prog_18_method_21_code (3 : Nat) (Option.some Jvm.ClassFile.FieldType.int)) ∈ lw_all := lw_g (lw_at lw_m7 193 rfl) rfl
theorem q1714 : (Jvm.Cond.constantLong "ThreeStrangersModel" (125 : Nat) (23 : Int64)) ∈ lw_all := lw_g (lw_at lw_m7 194 rfl) rfl
theorem q1715 : (Jvm.Cond.methodLink "ThreeStrangersModel" (127 : Nat) ({ cls := "ThreeStrangersModel", name := "addOne", desc := "(II)V" } : Jvm.MethodName)) ∈ lw_all := lw_g (lw_at lw_m7 195 rfl) rfl
theorem q1716 : (Jvm.Cond.privateMethod ({ cls := "ThreeStrangersModel", name := "addOne", desc := "(II)V" } : Jvm.MethodName)) ∈ lw_tbl := lw_at lw_m7 196 rfl
theorem q1717 : (Jvm.Cond.instanceMethod ({ cls := "ThreeStrangersModel", name := "addOne", desc := "(II)V" } : Jvm.MethodName)) ∈ lw_all := lw_g (lw_at lw_m7 197 rfl) rfl
theorem q1718 : (Jvm.Cond.code ({ cls := "ThreeStrangersModel", name := "addOne", desc := "(II)V" } : Jvm.MethodName) prog_18_method_20_code (4 : Nat) (Option.none : Option Jvm.ClassFile.FieldType)) ∈ lw_all := lw_g (lw_at lw_m7 198 rfl) rfl
theorem q1720 : (Jvm.Cond.instanceMethod ({ cls := "ThreeStrangersModel", name := "change", desc := "(III)I" } : Jvm.MethodName)) ∈ lw_all := lw_g (lw_at lw_m7 200 rfl) rfl
theorem q1721 : (Jvm.Cond.selects "ThreeStrangersModel" ({ cls := "ThreeStrangersModel", name := "change", desc := "(III)I" } : Jvm.MethodName) ({ cls := "ThreeStrangersModel", name := "change", desc := "(III)I" } : Jvm.MethodName)) ∈ lw_all := lw_g (lw_at lw_m7 201 rfl) rfl
theorem q1722 : (Jvm.Cond.code ({ cls := "ThreeStrangersModel", name := "change", desc := "(III)I" } : Jvm.MethodName) prog_18_method_22_code (5 : Nat) (Option.some Jvm.ClassFile.FieldType.int)) ∈ lw_all := lw_g (lw_at lw_m7 202 rfl) rfl
theorem q1723 : (Jvm.Cond.methodLink "ThreeStrangersModel" (131 : Nat) ({ cls := "ThreeStrangersModel", name := "isOne", desc := "(I)Z" } : Jvm.MethodName)) ∈ lw_all := lw_g (lw_at lw_m7 203 rfl) rfl
theorem q1724 : (Jvm.Cond.privateMethod ({ cls := "ThreeStrangersModel", name := "isOne", desc := "(I)Z" } : Jvm.MethodName)) ∈ lw_tbl := lw_at lw_m7 204 rfl
theorem q1725 : (Jvm.Cond.instanceMethod ({ cls := "ThreeStrangersModel", name := "isOne", desc := "(I)Z" } : Jvm.MethodName)) ∈ lw_all := lw_g (lw_at lw_m7 205 rfl) rfl
theorem q1726 : (Jvm.Cond.code ({ cls := "ThreeStrangersModel", name := "isOne", desc := "(I)Z" } : Jvm.MethodName) prog_18_method_4_code (2 : Nat) (Option.some Jvm.ClassFile.FieldType.boolean)) ∈ lw_all := lw_g (lw_at lw_m7 206 rfl) rfl
theorem q1728 : (Jvm.Cond.instanceMethod ({ cls := "ThreeStrangersModel", name := "know", desc := "(III)I" } : Jvm.MethodName)) ∈ lw_all := lw_g (lw_at lw_m7 208 rfl) rfl
theorem q1729 : (Jvm.Cond.selects "ThreeStrangersModel" ({ cls := "ThreeStrangersModel", name := "know", desc := "(III)I" } : Jvm.MethodName) ({ cls := "ThreeStrangersModel", name := "know", desc := "(III)I" } : Jvm.MethodName)) ∈ lw_all := lw_g (lw_at lw_m7 209 rfl) rfl
theorem q1730 : (Jvm.Cond.code ({ cls := "ThreeStrangersModel", name := "know", desc := "(III)I" } : Jvm.MethodName) prog_18_method_25_code (5 : Nat) (Option.some Jvm.ClassFile.FieldType.int)) ∈ lw_all := lw_g (lw_at lw_m7 210 rfl) rfl
theorem q1731 : (Jvm.Cond.methodLink "ThreeStrangersModel" (135 : Nat) ({ cls := "ThreeStrangersModel", name := "areTwo", desc := "(II)Z" } : Jvm.MethodName)) ∈ lw_all := lw_g (lw_at lw_m7 211 rfl) rfl
theorem q1732 : (Jvm.Cond.privateMethod ({ cls := "ThreeStrangersModel", name := "areTwo", desc := "(II)Z" } : Jvm.MethodName)) ∈ lw_tbl := lw_at lw_m7 212 rfl
theorem q1733 : (Jvm.Cond.instanceMethod ({ cls := "ThreeStrangersModel", name := "areTwo", desc := "(II)Z" } : Jvm.MethodName)) ∈ lw_all := lw_g (lw_at lw_m7 213 rfl) rfl
theorem q1734 : (Jvm.Cond.code ({ cls := "ThreeStrangersModel", name := "areTwo", desc := "(II)Z" } : Jvm.MethodName) prog_18_method_24_code (3 : Nat) (Option.some Jvm.ClassFile.FieldType.boolean)) ∈ lw_all := lw_g (lw_at lw_m7 214 rfl) rfl
theorem q1735 : (Jvm.Cond.constantLong "ThreeStrangersModel" (138 : Nat) (-1 : Int64)) ∈ lw_all := lw_g (lw_at lw_m7 215 rfl) rfl
theorem q1736 : (Jvm.Cond.constantLong "ThreeStrangersModel" (140 : Nat) (99 : Int64)) ∈ lw_all := lw_g (lw_at lw_m7 216 rfl) rfl
theorem q1737 : (Jvm.Cond.methodLink "ThreeStrangersModel" (142 : Nat) ({ cls := "ThreeStrangersModel", name := "knows", desc := "(III)V" } : Jvm.MethodName)) ∈ lw_all := lw_g (lw_at lw_m7 217 rfl) rfl
theorem q1738 : (Jvm.Cond.privateMethod ({ cls := "ThreeStrangersModel", name := "knows", desc := "(III)V" } : Jvm.MethodName)) ∈ lw_tbl := lw_at lw_m7 218 rfl
theorem q1739 : (Jvm.Cond.instanceMethod ({ cls := "ThreeStrangersModel", name := "knows", desc := "(III)V" } : Jvm.MethodName)) ∈ lw_all := lw_g (lw_at lw_m7 219 rfl) rfl
theorem q1740 : (Jvm.Cond.code ({ cls := "ThreeStrangersModel", name := "knows", desc := "(III)V" } : Jvm.MethodName) prog_18_method_23_code (4 : Nat) (Option.none : Option Jvm.ClassFile.FieldType)) ∈ lw_all := lw_g (lw_at lw_m7 220 rfl) rfl
theorem q1742 : (Jvm.Cond.instanceMethod ({ cls := "ThreeStrangersModel", name := "ask", desc := "(II)I" } : Jvm.MethodName)) ∈ lw_all := lw_g (lw_at lw_m7 222 rfl) rfl
theorem q1743 : (Jvm.Cond.selects "ThreeStrangersModel" ({ cls := "ThreeStrangersModel", name := "ask", desc := "(II)I" } : Jvm.MethodName) ({ cls := "ThreeStrangersModel", name := "ask", desc := "(II)I" } : Jvm.MethodName)) ∈ lw_all := lw_g (lw_at lw_m7 223 rfl) rfl
theorem q1744 : (Jvm.Cond.code ({ cls := "ThreeStrangersModel", name := "ask", desc := "(II)I" } : Jvm.MethodName) prog_18_method_26_code (4 : Nat) (Option.some Jvm.ClassFile.FieldType.int)) ∈ lw_all := lw_g (lw_at lw_m7 224 rfl) rfl
theorem q1745 : (Jvm.Cond.constantLong "ThreeStrangersModel" (146 : Nat) (2 : Int64)) ∈ lw_all := lw_g (lw_at lw_m7 225 rfl) rfl
theorem q1747 : (Jvm.Cond.instanceMethod ({ cls := "ThreeStrangersModel", name := "feed", desc := "(I)I" } : Jvm.MethodName)) ∈ lw_all := lw_g (lw_at lw_m7 227 rfl) rfl
theorem q1748 : (Jvm.Cond.selects "ThreeStrangersModel" ({ cls := "ThreeStrangersModel", name := "feed", desc := "(I)I" } : Jvm.MethodName) ({ cls := "ThreeStrangersModel", name := "feed", desc := "(I)I" } : Jvm.MethodName)) ∈ lw_all := lw_g (lw_at lw_m7 228 rfl) rfl
theorem q1749 : (Jvm.Cond.code ({ cls := "ThreeStrangersModel", name := "feed", desc := "(I)I" } : Jvm.MethodName) prog_18_method_28_code (2 : Nat) (Option.some Jvm.ClassFile.FieldType.int)) ∈ lw_all := lw_g (lw_at lw_m7 229 rfl) rfl
theorem q1750 : (Jvm.Cond.constantLong "ThreeStrangersModel" (154 : Nat) (255 : Int64)) ∈ lw_all := lw_g (lw_at lw_m7 230 rfl) rfl
theorem q1752 : (Jvm.Cond.instanceMethod ({ cls := "ThreeStrangersModel", name := "wipe", desc := "()I" } : Jvm.MethodName)) ∈ lw_all := lw_g (lw_at lw_m7 232 rfl) rfl
theorem q1753 : (Jvm.Cond.selects "ThreeStrangersModel" ({ cls := "ThreeStrangersModel", name := "wipe", desc := "()I" } : Jvm.MethodName) ({ cls := "ThreeStrangersModel", name := "wipe", desc := "()I" } : Jvm.MethodName)) ∈ lw_all := lw_g (lw_at lw_m7 233 rfl) rfl
theorem q1754 : (Jvm.Cond.code ({ cls := "ThreeStrangersModel", name := "wipe", desc := "()I" } : Jvm.MethodName) prog_18_method_29_code (2 : Nat) (Option.some Jvm.ClassFile.FieldType.int)) ∈ lw_all := lw_g (lw_at lw_m7 234 rfl) rfl
theorem q1756 : (Jvm.Cond.instanceMethod ({ cls := "ThreeStrangersModel", name := "town", desc := "()I" } : Jvm.MethodName)) ∈ lw_all := lw_g (lw_at lw_m7 236 rfl) rfl
theorem q1757 : (Jvm.Cond.selects "ThreeStrangersModel" ({ cls := "ThreeStrangersModel", name := "town", desc := "()I" } : Jvm.MethodName) ({ cls := "ThreeStrangersModel", name := "town", desc := "()I" } : Jvm.MethodName)) ∈ lw_all := lw_g (lw_at lw_m7 237 rfl) rfl
theorem q1758 : (Jvm.Cond.code ({ cls := "ThreeStrangersModel", name := "town", desc := "()I" } : Jvm.MethodName) prog_18_method_42_code (3 : Nat) (Option.some Jvm.ClassFile.FieldType.int)) ∈ lw_all := lw_g (lw_at lw_m7 238 rfl) rfl
theorem q1759 : (Jvm.Cond.methodLink "ThreeStrangersModel" (238 : Nat) ({ cls := "ThreeStrangersModel", name := "fresh", desc := "()LThreeStrangersModel;" } : Jvm.MethodName)) ∈ lw_all := lw_g (lw_at lw_m7 239 rfl) rfl
theorem q1760 : (Jvm.Cond.privateMethod ({ cls := "ThreeStrangersModel", name := "fresh", desc := "()LThreeStrangersModel;" } : Jvm.MethodName)) ∈ lw_tbl := lw_at lw_m8 0 rfl
theorem q1761 : (Jvm.Cond.instanceMethod ({ cls := "ThreeStrangersModel", name := "fresh", desc := "()LThreeStrangersModel;" } : Jvm.MethodName)) ∈ lw_all := lw_g (lw_at lw_m8 1 rfl) rfl
theorem q1762 : (Jvm.Cond.code ({ cls := "ThreeStrangersModel", name := "fresh", desc := "()LThreeStrangersModel;" } : Jvm.MethodName) prog_18_method_98_code (1 : Nat) (Option.some (Jvm.ClassFile.FieldType.object "ThreeStrangersModel"))) ∈ lw_all := lw_g (lw_at lw_m8 2 rfl) rfl
theorem q1763 : (Jvm.Cond.classLink "ThreeStrangersModel" (8 : Nat) "ThreeStrangersModel") ∈ lw_all := lw_g (lw_at lw_m8 3 rfl) rfl
theorem q1764 : (Jvm.Cond.methodLink "ThreeStrangersModel" (375 : Nat) ({ cls := "ThreeStrangersModel", name := "<init>", desc := "()V" } : Jvm.MethodName)) ∈ lw_all := lw_g (lw_at lw_m8 4 rfl) rfl
theorem q1765 : (Jvm.Cond.methodLink "ThreeStrangersModel" (245 : Nat) ({ cls := "ThreeStrangersModel", name := "takeFrom", desc := "(LThreeStrangersModel;)V" } : Jvm.MethodName)) ∈ lw_all := lw_g (lw_at lw_m8 5 rfl) rfl
theorem q1766 : (Jvm.Cond.privateMethod ({ cls := "ThreeStrangersModel", name := "takeFrom", desc := "(LThreeStrangersModel;)V" } : Jvm.MethodName)) ∈ lw_tbl := lw_at lw_m8 6 rfl
theorem q1767 : (Jvm.Cond.instanceMethod ({ cls := "ThreeStrangersModel", name := "takeFrom", desc := "(LThreeStrangersModel;)V" } : Jvm.MethodName)) ∈ lw_all := lw_g (lw_at lw_m8 7 rfl) rfl
theorem q1768 : (Jvm.Cond.code ({ cls := "ThreeStrangersModel", name := "takeFrom", desc := "(LThreeStrangersModel;)V" } : Jvm.MethodName) prog_18_method_100_code (3 : Nat) (Option.none : Option Jvm.ClassFile.FieldType)) ∈ lw_all := lw_g (lw_at lw_m8 8 rfl) rfl
theorem q1769 : (Jvm.Cond.methodLink "ThreeStrangersModel" (376 : Nat) ({ cls := "ThreeStrangersModel", name := "over", desc := "([I[I)V" } : Jvm.MethodName)) ∈ lw_all := lw_g (lw_at lw_m8 9 rfl) rfl
theorem q1770 : (Jvm.Cond.static ({ cls := "ThreeStrangersModel", name := "over", desc := "([I[I)V" } : Jvm.MethodName)) ∈ lw_all := lw_g (lw_at lw_m8 10 rfl) rfl
theorem q1771 : (Jvm.Cond.code ({ cls := "ThreeStrangersModel", name := "over", desc := "([I[I)V" } : Jvm.MethodName) prog_18_method_99_code (3 : Nat) (Option.none : Option Jvm.ClassFile.FieldType)) ∈ lw_all := lw_g (lw_at lw_m8 11 rfl) rfl
theorem q1772 : (Jvm.Cond.methodLink "ThreeStrangersModel" (242 : Nat) ({ cls := "ThreeStrangersModel", name := "readAll", desc := "()Z" } : Jvm.MethodName)) ∈ lw_all := lw_g (lw_at lw_m8 12 rfl) rfl
theorem q1773 : (Jvm.Cond.privateMethod ({ cls := "ThreeStrangersModel", name := "readAll", desc := "()Z" } : Jvm.MethodName)) ∈ lw_tbl := lw_at lw_m8 13 rfl
theorem q1774 : (Jvm.Cond.instanceMethod ({ cls := "ThreeStrangersModel", name := "readAll", desc := "()Z" } : Jvm.MethodName)) ∈ lw_all := lw_g (lw_at lw_m8 14 rfl) rfl
theorem q1775 : (Jvm.Cond.code ({ cls := "ThreeStrangersModel", name := "readAll", desc := "()Z" } : Jvm.MethodName) prog_18_method_41_code (1 : Nat) (Option.some Jvm.ClassFile.FieldType.boolean)) ∈ lw_all := lw_g (lw_at lw_m8 15 rfl) rfl
theorem q1776 : (Jvm.Cond.methodLink "ThreeStrangersModel" (194 : Nat) ({ cls := "ThreeStrangersModel", name := "look", desc := "()V" } : Jvm.MethodName)) ∈ lw_all := lw_g (lw_at lw_m8 16 rfl) rfl
theorem q1777 : (Jvm.Cond.privateMethod ({ cls := "ThreeStrangersModel", name := "look", desc := "()V" } : Jvm.MethodName)) ∈ lw_tbl := lw_at lw_m8 17 rfl
theorem q1778 : (Jvm.Cond.instanceMethod ({ cls := "ThreeStrangersModel", name := "look", desc := "()V" } : Jvm.MethodName)) ∈ lw_all := lw_g (lw_at lw_m8 18 rfl) rfl
theorem q1779 : (Jvm.Cond.code ({ cls := "ThreeStrangersModel", name := "look", desc := "()V" } : Jvm.MethodName) prog_18_method_32_code (1 : Nat) (Option.none : Option Jvm.ClassFile.FieldType)) ∈ lw_all := lw_g (lw_at lw_m8 19 rfl) rfl
theorem q1780 : (Jvm.Cond.methodLink "ThreeStrangersModel" (171 : Nat) ({ cls := "ThreeStrangersModel", name := "isLetter", desc := "(I)Z" } : Jvm.MethodName)) ∈ lw_all := lw_g (lw_at lw_m8 20 rfl) rfl
theorem q1781 : (Jvm.Cond.static ({ cls := "ThreeStrangersModel", name := "isLetter", desc := "(I)Z" } : Jvm.MethodName)) ∈ lw_all := lw_g (lw_at lw_m8 21 rfl) rfl
theorem q1782 : (Jvm.Cond.code ({ cls := "ThreeStrangersModel", name := "isLetter", desc := "(I)Z" } : Jvm.MethodName) prog_18_method_30_code (1 : Nat) (Option.some Jvm.ClassFile.FieldType.boolean)) ∈ lw_all := lw_g (lw_at lw_m8 22 rfl) rfl
theorem q1783 : (Jvm.Cond.methodLink "ThreeStrangersModel" (174 : Nat) ({ cls := "ThreeStrangersModel", name := "isDigit", desc := "(I)Z" } : Jvm.MethodName)) ∈ lw_all := lw_g (lw_at lw_m8 23 rfl) rfl
theorem q1784 : (Jvm.Cond.static ({ cls := "ThreeStrangersModel", name := "isDigit", desc := "(I)Z" } : Jvm.MethodName)) ∈ lw_all := lw_g (lw_at lw_m8 24 rfl) rfl
theorem q1785 : (Jvm.Cond.code ({ cls := "ThreeStrangersModel", name := "isDigit", desc := "(I)Z" } : Jvm.MethodName) prog_18_method_31_code (1 : Nat) (Option.some Jvm.ClassFile.FieldType.boolean)) ∈ lw_all := lw_g (lw_at lw_m8 25 rfl) rfl
theorem q1786 : (Jvm.Cond.constant "ThreeStrangersModel" (177 : Nat) (100000 : Int32)) ∈ lw_all := lw_g (lw_at lw_m8 26 rfl) rfl
theorem q1787 : (Jvm.Cond.methodLink "ThreeStrangersModel" (235 : Nat) ({ cls := "ThreeStrangersModel", name := "statement", desc := "()Z" } : Jvm.MethodName)) ∈ lw_all := lw_g (lw_at lw_m8 27 rfl) rfl
theorem q1788 : (Jvm.Cond.privateMethod ({ cls := "ThreeStrangersModel", name := "statement", desc := "()Z" } : Jvm.MethodName)) ∈ lw_tbl := lw_at lw_m8 28 rfl
theorem q1789 : (Jvm.Cond.instanceMethod ({ cls := "ThreeStrangersModel", name := "statement", desc := "()Z" } : Jvm.MethodName)) ∈ lw_all := lw_g (lw_at lw_m8 29 rfl) rfl
theorem q1790 : (Jvm.Cond.code ({ cls := "ThreeStrangersModel", name := "statement", desc := "()Z" } : Jvm.MethodName) prog_18_method_40_code (2 : Nat) (Option.some Jvm.ClassFile.FieldType.boolean)) ∈ lw_all := lw_g (lw_at lw_m8 30 rfl) rfl
theorem q1791 : (Jvm.Cond.stringRef "ThreeStrangersModel" (216 : Nat) "person") ∈ lw_tbl := lw_at lw_m8 31 rfl
theorem q1792 : (Jvm.Cond.methodLink "ThreeStrangersModel" (209 : Nat) ({ cls := "ThreeStrangersModel", name := "isWord", desc := "(Ljava/lang/String;)Z" } : Jvm.MethodName)) ∈ lw_all := lw_g (lw_at lw_m8 32 rfl) rfl
theorem q1793 : (Jvm.Cond.privateMethod ({ cls := "ThreeStrangersModel", name := "isWord", desc := "(Ljava/lang/String;)Z" } : Jvm.MethodName)) ∈ lw_tbl := lw_at lw_m8 33 rfl
theorem q1794 : (Jvm.Cond.instanceMethod ({ cls := "ThreeStrangersModel", name := "isWord", desc := "(Ljava/lang/String;)Z" } : Jvm.MethodName)) ∈ lw_all := lw_g (lw_at lw_m8 34 rfl) rfl
theorem q1795 : (Jvm.Cond.code ({ cls := "ThreeStrangersModel", name := "isWord", desc := "(Ljava/lang/String;)Z" } : Jvm.MethodName) prog_18_method_34_code (3 : Nat) (Option.some Jvm.ClassFile.FieldType.boolean)) ∈ lw_all := lw_g (lw_at lw_m8 35 rfl) rfl
theorem q1796 : (Jvm.Cond.methodLink "ThreeStrangersModel" (181 : Nat) ({ cls := "java/lang/String", name := "length", desc := "()I" } : Jvm.MethodName)) ∈ lw_all := lw_g (lw_at lw_m8 36 rfl) rfl
theorem q1804 : (Jvm.Cond.methodLink "ThreeStrangersModel" (186 : Nat) ({ cls := "java/lang/String", name := "charAt", desc := "(I)C" } : Jvm.MethodName)) ∈ lw_all := lw_g (lw_at lw_m8 44 rfl) rfl
theorem q1815 : (Jvm.Cond.methodLink "ThreeStrangersModel" (201 : Nat) ({ cls := "ThreeStrangersModel", name := "tells", desc := "(II)Z" } : Jvm.MethodName)) ∈ lw_all := lw_g (lw_at lw_m8 55 rfl) rfl
theorem q1816 : (Jvm.Cond.privateMethod ({ cls := "ThreeStrangersModel", name := "tells", desc := "(II)Z" } : Jvm.MethodName)) ∈ lw_tbl := lw_at lw_m8 56 rfl
theorem q1817 : (Jvm.Cond.instanceMethod ({ cls := "ThreeStrangersModel", name := "tells", desc := "(II)Z" } : Jvm.MethodName)) ∈ lw_all := lw_g (lw_at lw_m8 57 rfl) rfl
theorem q1818 : (Jvm.Cond.code ({ cls := "ThreeStrangersModel", name := "tells", desc := "(II)Z" } : Jvm.MethodName) prog_18_method_36_code (3 : Nat) (Option.some Jvm.ClassFile.FieldType.boolean)) ∈ lw_all := lw_g (lw_at lw_m8 58 rfl) rfl
theorem q1819 : (Jvm.Cond.methodLink "ThreeStrangersModel" (197 : Nat) ({ cls := "ThreeStrangersModel", name := "number", desc := "(III)Z" } : Jvm.MethodName)) ∈ lw_all := lw_g (lw_at lw_m8 59 rfl) rfl
theorem q1820 : (Jvm.Cond.privateMethod ({ cls := "ThreeStrangersModel", name := "number", desc := "(III)Z" } : Jvm.MethodName)) ∈ lw_tbl := lw_at lw_m8 60 rfl
theorem q1821 : (Jvm.Cond.instanceMethod ({ cls := "ThreeStrangersModel", name := "number", desc := "(III)Z" } : Jvm.MethodName)) ∈ lw_all := lw_g (lw_at lw_m8 61 rfl) rfl
theorem q1822 : (Jvm.Cond.code ({ cls := "ThreeStrangersModel", name := "number", desc := "(III)Z" } : Jvm.MethodName) prog_18_method_35_code (4 : Nat) (Option.some Jvm.ClassFile.FieldType.boolean)) ∈ lw_all := lw_g (lw_at lw_m8 62 rfl) rfl
theorem q1823 : (Jvm.Cond.methodLink "ThreeStrangersModel" (190 : Nat) ({ cls := "ThreeStrangersModel", name := "wrong", desc := "()Z" } : Jvm.MethodName)) ∈ lw_all := lw_g (lw_at lw_m8 63 rfl) rfl
theorem q1824 : (Jvm.Cond.privateMethod ({ cls := "ThreeStrangersModel", name := "wrong", desc := "()Z" } : Jvm.MethodName)) ∈ lw_tbl := lw_at lw_m8 64 rfl
theorem q1825 : (Jvm.Cond.instanceMethod ({ cls := "ThreeStrangersModel", name := "wrong", desc := "()Z" } : Jvm.MethodName)) ∈ lw_all := lw_g (lw_at lw_m8 65 rfl) rfl
theorem q1826 : (Jvm.Cond.code ({ cls := "ThreeStrangersModel", name := "wrong", desc := "()Z" } : Jvm.MethodName) prog_18_method_33_code (1 : Nat) (Option.some Jvm.ClassFile.FieldType.boolean)) ∈ lw_all := lw_g (lw_at lw_m8 66 rfl) rfl
theorem q1827 : (Jvm.Cond.stringRef "ThreeStrangersModel" (218 : Nat) "know") ∈ lw_tbl := lw_at lw_m8 67 rfl
theorem q1828 : (Jvm.Cond.methodLink "ThreeStrangersModel" (220 : Nat) ({ cls := "ThreeStrangersModel", name := "knowTold", desc := "()Z" } : Jvm.MethodName)) ∈ lw_all := lw_g (lw_at lw_m8 68 rfl) rfl
theorem q1829 : (Jvm.Cond.privateMethod ({ cls := "ThreeStrangersModel", name := "knowTold", desc := "()Z" } : Jvm.MethodName)) ∈ lw_tbl := lw_at lw_m8 69 rfl
theorem q1830 : (Jvm.Cond.instanceMethod ({ cls := "ThreeStrangersModel", name := "knowTold", desc := "()Z" } : Jvm.MethodName)) ∈ lw_all := lw_g (lw_at lw_m8 70 rfl) rfl
theorem q1831 : (Jvm.Cond.code ({ cls := "ThreeStrangersModel", name := "knowTold", desc := "()Z" } : Jvm.MethodName) prog_18_method_38_code (4 : Nat) (Option.some Jvm.ClassFile.FieldType.boolean)) ∈ lw_all := lw_g (lw_at lw_m8 71 rfl) rfl
theorem q1832 : (Jvm.Cond.methodLink "ThreeStrangersModel" (204 : Nat) ({ cls := "ThreeStrangersModel", name := "twoTold", desc := "()Z" } : Jvm.MethodName)) ∈ lw_all := lw_g (lw_at lw_m8 72 rfl) rfl
theorem q1833 : (Jvm.Cond.privateMethod ({ cls := "ThreeStrangersModel", name := "twoTold", desc := "()Z" } : Jvm.MethodName)) ∈ lw_tbl := lw_at lw_m8 73 rfl
theorem q1834 : (Jvm.Cond.instanceMethod ({ cls := "ThreeStrangersModel", name := "twoTold", desc := "()Z" } : Jvm.MethodName)) ∈ lw_all := lw_g (lw_at lw_m8 74 rfl) rfl
theorem q1835 : (Jvm.Cond.code ({ cls := "ThreeStrangersModel", name := "twoTold", desc := "()Z" } : Jvm.MethodName) prog_18_method_37_code (1 : Nat) (Option.some Jvm.ClassFile.FieldType.boolean)) ∈ lw_all := lw_g (lw_at lw_m8 75 rfl) rfl
theorem q1836 : (Jvm.Cond.stringRef "ThreeStrangersModel" (207 : Nat) "since") ∈ lw_tbl := lw_at lw_m8 76 rfl
theorem q1837 : (Jvm.Cond.stringRef "ThreeStrangersModel" (223 : Nat) "strange") ∈ lw_tbl := lw_at lw_m8 77 rfl
theorem q1838 : (Jvm.Cond.stringRef "ThreeStrangersModel" (225 : Nat) "seats") ∈ lw_tbl := lw_at lw_m8 78 rfl
theorem q1839 : (Jvm.Cond.stringRef "ThreeStrangersModel" (226 : Nat) "memory") ∈ lw_tbl := lw_at lw_m8 79 rfl
theorem q1840 : (Jvm.Cond.stringRef "ThreeStrangersModel" (227 : Nat) "met") ∈ lw_tbl := lw_at lw_m8 80 rfl
theorem q1841 : (Jvm.Cond.methodLink "ThreeStrangersModel" (229 : Nat) ({ cls := "ThreeStrangersModel", name := "metTold", desc := "()Z" } : Jvm.MethodName)) ∈ lw_all := lw_g (lw_at lw_m8 81 rfl) rfl
theorem q1842 : (Jvm.Cond.privateMethod ({ cls := "ThreeStrangersModel", name := "metTold", desc := "()Z" } : Jvm.MethodName)) ∈ lw_tbl := lw_at lw_m8 82 rfl
theorem q1843 : (Jvm.Cond.instanceMethod ({ cls := "ThreeStrangersModel", name := "metTold", desc := "()Z" } : Jvm.MethodName)) ∈ lw_all := lw_g (lw_at lw_m8 83 rfl) rfl
theorem q1844 : (Jvm.Cond.code ({ cls := "ThreeStrangersModel", name := "metTold", desc := "()Z" } : Jvm.MethodName) prog_18_method_39_code (2 : Nat) (Option.some Jvm.ClassFile.FieldType.boolean)) ∈ lw_all := lw_g (lw_at lw_m8 84 rfl) rfl
theorem q1845 : (Jvm.Cond.methodLink "ThreeStrangersModel" (213 : Nat) ({ cls := "ThreeStrangersModel", name := "meets", desc := "(I)I" } : Jvm.MethodName)) ∈ lw_all := lw_g (lw_at lw_m8 85 rfl) rfl
theorem q1846 : (Jvm.Cond.privateMethod ({ cls := "ThreeStrangersModel", name := "meets", desc := "(I)I" } : Jvm.MethodName)) ∈ lw_tbl := lw_at lw_m8 86 rfl
theorem q1847 : (Jvm.Cond.instanceMethod ({ cls := "ThreeStrangersModel", name := "meets", desc := "(I)I" } : Jvm.MethodName)) ∈ lw_all := lw_g (lw_at lw_m8 87 rfl) rfl
theorem q1848 : (Jvm.Cond.code ({ cls := "ThreeStrangersModel", name := "meets", desc := "(I)I" } : Jvm.MethodName) prog_18_method_27_code (5 : Nat) (Option.some Jvm.ClassFile.FieldType.int)) ∈ lw_all := lw_g (lw_at lw_m8 88 rfl) rfl
theorem q1850 : (Jvm.Cond.instanceMethod ({ cls := "ThreeStrangersModel", name := "personOf", desc := "(II)I" } : Jvm.MethodName)) ∈ lw_all := lw_g (lw_at lw_m8 90 rfl) rfl
theorem q1851 : (Jvm.Cond.selects "ThreeStrangersModel" ({ cls := "ThreeStrangersModel", name := "personOf", desc := "(II)I" } : Jvm.MethodName) ({ cls := "ThreeStrangersModel", name := "personOf", desc := "(II)I" } : Jvm.MethodName)) ∈ lw_all := lw_g (lw_at lw_m8 91 rfl) rfl
theorem q1852 : (Jvm.Cond.code ({ cls := "ThreeStrangersModel", name := "personOf", desc := "(II)I" } : Jvm.MethodName) prog_18_method_44_code (3 : Nat) (Option.some Jvm.ClassFile.FieldType.int)) ∈ lw_all := lw_g (lw_at lw_m8 92 rfl) rfl
theorem q1853 : (Jvm.Cond.constantLong "ThreeStrangersModel" (249 : Nat) (3 : Int64)) ∈ lw_all := lw_g (lw_at lw_m8 93 rfl) rfl
theorem q1855 : (Jvm.Cond.instanceMethod ({ cls := "ThreeStrangersModel", name := "knownOf", desc := "(II)I" } : Jvm.MethodName)) ∈ lw_all := lw_g (lw_at lw_m8 95 rfl) rfl
theorem q1856 : (Jvm.Cond.selects "ThreeStrangersModel" ({ cls := "ThreeStrangersModel", name := "knownOf", desc := "(II)I" } : Jvm.MethodName) ({ cls := "ThreeStrangersModel", name := "knownOf", desc := "(II)I" } : Jvm.MethodName)) ∈ lw_all := lw_g (lw_at lw_m8 96 rfl) rfl
theorem q1857 : (Jvm.Cond.code ({ cls := "ThreeStrangersModel", name := "knownOf", desc := "(II)I" } : Jvm.MethodName) prog_18_method_45_code (3 : Nat) (Option.some Jvm.ClassFile.FieldType.int)) ∈ lw_all := lw_g (lw_at lw_m8 97 rfl) rfl
theorem q1859 : (Jvm.Cond.instanceMethod ({ cls := "ThreeStrangersModel", name := "isGroup", desc := "(I)I" } : Jvm.MethodName)) ∈ lw_all := lw_g (lw_at lw_m8 99 rfl) rfl
theorem q1860 : (Jvm.Cond.selects "ThreeStrangersModel" ({ cls := "ThreeStrangersModel", name := "isGroup", desc := "(I)I" } : Jvm.MethodName) ({ cls := "ThreeStrangersModel", name := "isGroup", desc := "(I)I" } : Jvm.MethodName)) ∈ lw_all := lw_g (lw_at lw_m8 100 rfl) rfl
theorem q1861 : (Jvm.Cond.code ({ cls := "ThreeStrangersModel", name := "isGroup", desc := "(I)I" } : Jvm.MethodName) prog_18_method_49_code (2 : Nat) (Option.some Jvm.ClassFile.FieldType.int)) ∈ lw_all := lw_g (lw_at lw_m8 101 rfl) rfl
theorem q1862 : (Jvm.Cond.methodLink "ThreeStrangersModel" (263 : Nat) ({ cls := "ThreeStrangersModel", name := "isSet", desc := "(I)Z" } : Jvm.MethodName)) ∈ lw_all := lw_g (lw_at lw_m8 102 rfl) rfl
theorem q1863 : (Jvm.Cond.privateMethod ({ cls := "ThreeStrangersModel", name := "isSet", desc := "(I)Z" } : Jvm.MethodName)) ∈ lw_tbl := lw_at lw_m8 103 rfl
theorem q1864 : (Jvm.Cond.instanceMethod ({ cls := "ThreeStrangersModel", name := "isSet", desc := "(I)Z" } : Jvm.MethodName)) ∈ lw_all := lw_g (lw_at lw_m8 104 rfl) rfl
theorem q1865 : (Jvm.Cond.code ({ cls := "ThreeStrangersModel", name := "isSet", desc := "(I)Z" } : Jvm.MethodName) prog_18_method_6_code (2 : Nat) (Option.some Jvm.ClassFile.FieldType.boolean)) ∈ lw_all := lw_g (lw_at lw_m8 105 rfl) rfl
theorem q1866 : (Jvm.Cond.methodLink "ThreeStrangersModel" (266 : Nat) ({ cls := "ThreeStrangersModel", name := "isGroupNow", desc := "(I)Z" } : Jvm.MethodName)) ∈ lw_all := lw_g (lw_at lw_m8 106 rfl) rfl
theorem q1867 : (Jvm.Cond.privateMethod ({ cls := "ThreeStrangersModel", name := "isGroupNow", desc := "(I)Z" } : Jvm.MethodName)) ∈ lw_tbl := lw_at lw_m8 107 rfl
theorem q1868 : (Jvm.Cond.instanceMethod ({ cls := "ThreeStrangersModel", name := "isGroupNow", desc := "(I)Z" } : Jvm.MethodName)) ∈ lw_all := lw_g (lw_at lw_m8 108 rfl) rfl
theorem q1869 : (Jvm.Cond.code ({ cls := "ThreeStrangersModel", name := "isGroupNow", desc := "(I)Z" } : Jvm.MethodName) prog_18_method_46_code (4 : Nat) (Option.some Jvm.ClassFile.FieldType.boolean)) ∈ lw_all := lw_g (lw_at lw_m8 109 rfl) rfl
theorem q1871 : (Jvm.Cond.instanceMethod ({ cls := "ThreeStrangersModel", name := "groups", desc := "(I)I" } : Jvm.MethodName)) ∈ lw_all := lw_g (lw_at lw_m8 111 rfl) rfl
theorem q1872 : (Jvm.Cond.selects "ThreeStrangersModel" ({ cls := "ThreeStrangersModel", name := "groups", desc := "(I)I" } : Jvm.MethodName) ({ cls := "ThreeStrangersModel", name := "groups", desc := "(I)I" } : Jvm.MethodName)) ∈ lw_all := lw_g (lw_at lw_m8 112 rfl) rfl
theorem q1873 : (Jvm.Cond.code ({ cls := "ThreeStrangersModel", name := "groups", desc := "(I)I" } : Jvm.MethodName) prog_18_method_51_code (2 : Nat) (Option.some Jvm.ClassFile.FieldType.int)) ∈ lw_all := lw_g (lw_at lw_m8 113 rfl) rfl
theorem q1874 : (Jvm.Cond.methodLink "ThreeStrangersModel" (272 : Nat) ({ cls := "ThreeStrangersModel", name := "groupsOf", desc := "(I)I" } : Jvm.MethodName)) ∈ lw_all := lw_g (lw_at lw_m8 114 rfl) rfl
theorem q1875 : (Jvm.Cond.privateMethod ({ cls := "ThreeStrangersModel", name := "groupsOf", desc := "(I)I" } : Jvm.MethodName)) ∈ lw_tbl := lw_at lw_m8 115 rfl
theorem q1876 : (Jvm.Cond.instanceMethod ({ cls := "ThreeStrangersModel", name := "groupsOf", desc := "(I)I" } : Jvm.MethodName)) ∈ lw_all := lw_g (lw_at lw_m8 116 rfl) rfl
theorem q1877 : (Jvm.Cond.code ({ cls := "ThreeStrangersModel", name := "groupsOf", desc := "(I)I" } : Jvm.MethodName) prog_18_method_50_code (4 : Nat) (Option.some Jvm.ClassFile.FieldType.int)) ∈ lw_all := lw_g (lw_at lw_m8 117 rfl) rfl
theorem q1879 : (Jvm.Cond.instanceMethod ({ cls := "ThreeStrangersModel", name := "firstOf", desc := "(I)I" } : Jvm.MethodName)) ∈ lw_all := lw_g (lw_at lw_m8 119 rfl) rfl
theorem q1880 : (Jvm.Cond.selects "ThreeStrangersModel" ({ cls := "ThreeStrangersModel", name := "firstOf", desc := "(I)I" } : Jvm.MethodName) ({ cls := "ThreeStrangersModel", name := "firstOf", desc := "(I)I" } : Jvm.MethodName)) ∈ lw_all := lw_g (lw_at lw_m8 120 rfl) rfl
theorem q1881 : (Jvm.Cond.code ({ cls := "ThreeStrangersModel", name := "firstOf", desc := "(I)I" } : Jvm.MethodName) prog_18_method_53_code (2 : Nat) (Option.some Jvm.ClassFile.FieldType.int)) ∈ lw_all := lw_g (lw_at lw_m8 121 rfl) rfl
theorem q1883 : (Jvm.Cond.instanceMethod ({ cls := "ThreeStrangersModel", name := "most", desc := "(I)I" } : Jvm.MethodName)) ∈ lw_all := lw_g (lw_at lw_m8 123 rfl) rfl
theorem q1884 : (Jvm.Cond.selects "ThreeStrangersModel" ({ cls := "ThreeStrangersModel", name := "most", desc := "(I)I" } : Jvm.MethodName) ({ cls := "ThreeStrangersModel", name := "most", desc := "(I)I" } : Jvm.MethodName)) ∈ lw_all := lw_g (lw_at lw_m8 124 rfl) rfl
theorem q1885 : (Jvm.Cond.code ({ cls := "ThreeStrangersModel", name := "most", desc := "(I)I" } : Jvm.MethodName) prog_18_method_55_code (2 : Nat) (Option.some Jvm.ClassFile.FieldType.int)) ∈ lw_all := lw_g (lw_at lw_m8 125 rfl) rfl
theorem q1887 : (Jvm.Cond.instanceMethod ({ cls := "ThreeStrangersModel", name := "mostOf", desc := "(II)I" } : Jvm.MethodName)) ∈ lw_all := lw_g (lw_at lw_m8 127 rfl) rfl
theorem q1888 : (Jvm.Cond.selects "ThreeStrangersModel" ({ cls := "ThreeStrangersModel", name := "mostOf", desc := "(II)I" } : Jvm.MethodName) ({ cls := "ThreeStrangersModel", name := "mostOf", desc := "(II)I" } : Jvm.MethodName)) ∈ lw_all := lw_g (lw_at lw_m8 128 rfl) rfl
theorem q1889 : (Jvm.Cond.code ({ cls := "ThreeStrangersModel", name := "mostOf", desc := "(II)I" } : Jvm.MethodName) prog_18_method_57_code (5 : Nat) (Option.some Jvm.ClassFile.FieldType.int)) ∈ lw_all := lw_g (lw_at lw_m8 129 rfl) rfl
theorem q1891 : (Jvm.Cond.instanceMethod ({ cls := "ThreeStrangersModel", name := "sends", desc := "(III)I" } : Jvm.MethodName)) ∈ lw_all := lw_g (lw_at lw_m8 131 rfl) rfl
theorem q1892 : (Jvm.Cond.selects "ThreeStrangersModel" ({ cls := "ThreeStrangersModel", name := "sends", desc := "(III)I" } : Jvm.MethodName) ({ cls := "ThreeStrangersModel", name := "sends", desc := "(III)I" } : Jvm.MethodName)) ∈ lw_all := lw_g (lw_at lw_m8 132 rfl) rfl
theorem q1893 : (Jvm.Cond.code ({ cls := "ThreeStrangersModel", name := "sends", desc := "(III)I" } : Jvm.MethodName) prog_18_method_61_code (5 : Nat) (Option.some Jvm.ClassFile.FieldType.int)) ∈ lw_all := lw_g (lw_at lw_m8 133 rfl) rfl
theorem q1894 : (Jvm.Cond.methodLink "ThreeStrangersModel" (290 : Nat) ({ cls := "ThreeStrangersModel", name := "noMan", desc := "(I)I" } : Jvm.MethodName)) ∈ lw_all := lw_g (lw_at lw_m8 134 rfl) rfl
theorem q1895 : (Jvm.Cond.privateMethod ({ cls := "ThreeStrangersModel", name := "noMan", desc := "(I)I" } : Jvm.MethodName)) ∈ lw_tbl := lw_at lw_m8 135 rfl
theorem q1896 : (Jvm.Cond.instanceMethod ({ cls := "ThreeStrangersModel", name := "noMan", desc := "(I)I" } : Jvm.MethodName)) ∈ lw_all := lw_g (lw_at lw_m8 136 rfl) rfl
theorem q1897 : (Jvm.Cond.code ({ cls := "ThreeStrangersModel", name := "noMan", desc := "(I)I" } : Jvm.MethodName) prog_18_method_12_code (2 : Nat) (Option.some Jvm.ClassFile.FieldType.int)) ∈ lw_all := lw_g (lw_at lw_m8 137 rfl) rfl
theorem q1899 : (Jvm.Cond.instanceMethod ({ cls := "ThreeStrangersModel", name := "run", desc := "(I)I" } : Jvm.MethodName)) ∈ lw_all := lw_g (lw_at lw_m8 139 rfl) rfl
theorem q1900 : (Jvm.Cond.selects "ThreeStrangersModel" ({ cls := "ThreeStrangersModel", name := "run", desc := "(I)I" } : Jvm.MethodName) ({ cls := "ThreeStrangersModel", name := "run", desc := "(I)I" } : Jvm.MethodName)) ∈ lw_all := lw_g (lw_at lw_m8 140 rfl) rfl
theorem q1901 : (Jvm.Cond.code ({ cls := "ThreeStrangersModel", name := "run", desc := "(I)I" } : Jvm.MethodName) prog_18_method_65_code (3 : Nat) (Option.some Jvm.ClassFile.FieldType.int)) ∈ lw_all := lw_g (lw_at lw_m8 141 rfl) rfl
theorem q1902 : (Jvm.Cond.methodLink "ThreeStrangersModel" (302 : Nat) ({ cls := "ThreeStrangersModel", name := "goesBy", desc := "(II)V" } : Jvm.MethodName)) ∈ lw_all := lw_g (lw_at lw_m8 142 rfl) rfl
theorem q1903 : (Jvm.Cond.privateMethod ({ cls := "ThreeStrangersModel", name := "goesBy", desc := "(II)V" } : Jvm.MethodName)) ∈ lw_tbl := lw_at lw_m8 143 rfl
theorem q1904 : (Jvm.Cond.instanceMethod ({ cls := "ThreeStrangersModel", name := "goesBy", desc := "(II)V" } : Jvm.MethodName)) ∈ lw_all := lw_g (lw_at lw_m8 144 rfl) rfl
theorem q1905 : (Jvm.Cond.code ({ cls := "ThreeStrangersModel", name := "goesBy", desc := "(II)V" } : Jvm.MethodName) prog_18_method_63_code (8 : Nat) (Option.none : Option Jvm.ClassFile.FieldType)) ∈ lw_all := lw_g (lw_at lw_m8 145 rfl) rfl
theorem q1906 : (Jvm.Cond.methodLink "ThreeStrangersModel" (293 : Nat) ({ cls := "ThreeStrangersModel", name := "findComing", desc := "()V" } : Jvm.MethodName)) ∈ lw_all := lw_g (lw_at lw_m8 146 rfl) rfl
theorem q1907 : (Jvm.Cond.privateMethod ({ cls := "ThreeStrangersModel", name := "findComing", desc := "()V" } : Jvm.MethodName)) ∈ lw_tbl := lw_at lw_m8 147 rfl
theorem q1908 : (Jvm.Cond.instanceMethod ({ cls := "ThreeStrangersModel", name := "findComing", desc := "()V" } : Jvm.MethodName)) ∈ lw_all := lw_g (lw_at lw_m8 148 rfl) rfl
theorem q1909 : (Jvm.Cond.code ({ cls := "ThreeStrangersModel", name := "findComing", desc := "()V" } : Jvm.MethodName) prog_18_method_62_code (4 : Nat) (Option.none : Option Jvm.ClassFile.FieldType)) ∈ lw_all := lw_g (lw_at lw_m8 149 rfl) rfl
theorem q1911 : (Jvm.Cond.instanceMethod ({ cls := "ThreeStrangersModel", name := "coach", desc := "(II)I" } : Jvm.MethodName)) ∈ lw_all := lw_g (lw_at lw_m8 151 rfl) rfl
theorem q1912 : (Jvm.Cond.selects "ThreeStrangersModel" ({ cls := "ThreeStrangersModel", name := "coach", desc := "(II)I" } : Jvm.MethodName) ({ cls := "ThreeStrangersModel", name := "coach", desc := "(II)I" } : Jvm.MethodName)) ∈ lw_all := lw_g (lw_at lw_m8 152 rfl) rfl
theorem q1913 : (Jvm.Cond.code ({ cls := "ThreeStrangersModel", name := "coach", desc := "(II)I" } : Jvm.MethodName) prog_18_method_66_code (4 : Nat) (Option.some Jvm.ClassFile.FieldType.int)) ∈ lw_all := lw_g (lw_at lw_m8 153 rfl) rfl
theorem q1915 : (Jvm.Cond.instanceMethod ({ cls := "ThreeStrangersModel", name := "left", desc := "(I)I" } : Jvm.MethodName)) ∈ lw_all := lw_g (lw_at lw_m8 155 rfl) rfl
theorem q1916 : (Jvm.Cond.selects "ThreeStrangersModel" ({ cls := "ThreeStrangersModel", name := "left", desc := "(I)I" } : Jvm.MethodName) ({ cls := "ThreeStrangersModel", name := "left", desc := "(I)I" } : Jvm.MethodName)) ∈ lw_all := lw_g (lw_at lw_m8 156 rfl) rfl
theorem q1917 : (Jvm.Cond.code ({ cls := "ThreeStrangersModel", name := "left", desc := "(I)I" } : Jvm.MethodName) prog_18_method_67_code (3 : Nat) (Option.some Jvm.ClassFile.FieldType.int)) ∈ lw_all := lw_g (lw_at lw_m8 157 rfl) rfl
theorem q1919 : (Jvm.Cond.instanceMethod ({ cls := "ThreeStrangersModel", name := "waits", desc := "(II)I" } : Jvm.MethodName)) ∈ lw_all := lw_g (lw_at lw_m8 159 rfl) rfl
theorem q1920 : (Jvm.Cond.selects "ThreeStrangersModel" ({ cls := "ThreeStrangersModel", name := "waits", desc := "(II)I" } : Jvm.MethodName) ({ cls := "ThreeStrangersModel", name := "waits", desc := "(II)I" } : Jvm.MethodName)) ∈ lw_all := lw_g (lw_at lw_m8 160 rfl) rfl
theorem q1921 : (Jvm.Cond.code ({ cls := "ThreeStrangersModel", name := "waits", desc := "(II)I" } : Jvm.MethodName) prog_18_method_68_code (4 : Nat) (Option.some Jvm.ClassFile.FieldType.int)) ∈ lw_all := lw_g (lw_at lw_m8 161 rfl) rfl
theorem q1922 : (Jvm.Cond.methodLink "ThreeStrangersModel" (305 : Nat) ({ cls := "ThreeStrangersModel", name := "waitedAll", desc := "()I" } : Jvm.MethodName)) ∈ lw_all := lw_g (lw_at lw_m8 162 rfl) rfl
theorem q1923 : (Jvm.Cond.privateMethod ({ cls := "ThreeStrangersModel", name := "waitedAll", desc := "()I" } : Jvm.MethodName)) ∈ lw_tbl := lw_at lw_m8 163 rfl
theorem q1924 : (Jvm.Cond.instanceMethod ({ cls := "ThreeStrangersModel", name := "waitedAll", desc := "()I" } : Jvm.MethodName)) ∈ lw_all := lw_g (lw_at lw_m8 164 rfl) rfl
theorem q1925 : (Jvm.Cond.code ({ cls := "ThreeStrangersModel", name := "waitedAll", desc := "()I" } : Jvm.MethodName) prog_18_method_64_code (3 : Nat) (Option.some Jvm.ClassFile.FieldType.int)) ∈ lw_all := lw_g (lw_at lw_m8 165 rfl) rfl
theorem q1927 : (Jvm.Cond.instanceMethod ({ cls := "ThreeStrangersModel", name := "least", desc := "(I)I" } : Jvm.MethodName)) ∈ lw_all := lw_g (lw_at lw_m8 167 rfl) rfl
theorem q1928 : (Jvm.Cond.selects "ThreeStrangersModel" ({ cls := "ThreeStrangersModel", name := "least", desc := "(I)I" } : Jvm.MethodName) ({ cls := "ThreeStrangersModel", name := "least", desc := "(I)I" } : Jvm.MethodName)) ∈ lw_all := lw_g (lw_at lw_m8 168 rfl) rfl
theorem q1929 : (Jvm.Cond.code ({ cls := "ThreeStrangersModel", name := "least", desc := "(I)I" } : Jvm.MethodName) prog_18_method_70_code (3 : Nat) (Option.some Jvm.ClassFile.FieldType.int)) ∈ lw_all := lw_g (lw_at lw_m8 169 rfl) rfl
theorem q1930 : (Jvm.Cond.methodLink "ThreeStrangersModel" (308 : Nat) ({ cls := "ThreeStrangersModel", name := "leastFrom", desc := "(II)I" } : Jvm.MethodName)) ∈ lw_all := lw_g (lw_at lw_m8 170 rfl) rfl
theorem q1931 : (Jvm.Cond.privateMethod ({ cls := "ThreeStrangersModel", name := "leastFrom", desc := "(II)I" } : Jvm.MethodName)) ∈ lw_tbl := lw_at lw_m8 171 rfl
theorem q1932 : (Jvm.Cond.instanceMethod ({ cls := "ThreeStrangersModel", name := "leastFrom", desc := "(II)I" } : Jvm.MethodName)) ∈ lw_all := lw_g (lw_at lw_m8 172 rfl) rfl
theorem q1933 : (Jvm.Cond.code ({ cls := "ThreeStrangersModel", name := "leastFrom", desc := "(II)I" } : Jvm.MethodName) prog_18_method_69_code (9 : Nat) (Option.some Jvm.ClassFile.FieldType.int)) ∈ lw_all := lw_g (lw_at lw_m8 173 rfl) rfl
theorem q1935 : (Jvm.Cond.instanceMethod ({ cls := "ThreeStrangersModel", name := "head", desc := "()I" } : Jvm.MethodName)) ∈ lw_all := lw_g (lw_at lw_m8 175 rfl) rfl
theorem q1936 : (Jvm.Cond.selects "ThreeStrangersModel" ({ cls := "ThreeStrangersModel", name := "head", desc := "()I" } : Jvm.MethodName) ({ cls := "ThreeStrangersModel", name := "head", desc := "()I" } : Jvm.MethodName)) ∈ lw_all := lw_g (lw_at lw_m8 176 rfl) rfl
theorem q1937 : (Jvm.Cond.code ({ cls := "ThreeStrangersModel", name := "head", desc := "()I" } : Jvm.MethodName) prog_18_method_71_code (5 : Nat) (Option.some Jvm.ClassFile.FieldType.int)) ∈ lw_all := lw_g (lw_at lw_m8 177 rfl) rfl
theorem q1939 : (Jvm.Cond.instanceMethod ({ cls := "ThreeStrangersModel", name := "days", desc := "(I)I" } : Jvm.MethodName)) ∈ lw_all := lw_g (lw_at lw_m8 179 rfl) rfl
theorem q1940 : (Jvm.Cond.selects "ThreeStrangersModel" ({ cls := "ThreeStrangersModel", name := "days", desc := "(I)I" } : Jvm.MethodName) ({ cls := "ThreeStrangersModel", name := "days", desc := "(I)I" } : Jvm.MethodName)) ∈ lw_all := lw_g (lw_at lw_m8 180 rfl) rfl
theorem q1941 : (Jvm.Cond.code ({ cls := "ThreeStrangersModel", name := "days", desc := "(I)I" } : Jvm.MethodName) prog_18_method_73_code (5 : Nat) (Option.some Jvm.ClassFile.FieldType.int)) ∈ lw_all := lw_g (lw_at lw_m8 181 rfl) rfl
theorem q1942 : (Jvm.Cond.methodLink "ThreeStrangersModel" (312 : Nat) ({ cls := "ThreeStrangersModel", name := "dayOf", desc := "(II)I" } : Jvm.MethodName)) ∈ lw_all := lw_g (lw_at lw_m8 182 rfl) rfl
theorem q1943 : (Jvm.Cond.privateMethod ({ cls := "ThreeStrangersModel", name := "dayOf", desc := "(II)I" } : Jvm.MethodName)) ∈ lw_tbl := lw_at lw_m8 183 rfl
theorem q1944 : (Jvm.Cond.instanceMethod ({ cls := "ThreeStrangersModel", name := "dayOf", desc := "(II)I" } : Jvm.MethodName)) ∈ lw_all := lw_g (lw_at lw_m8 184 rfl) rfl
theorem q1945 : (Jvm.Cond.code ({ cls := "ThreeStrangersModel", name := "dayOf", desc := "(II)I" } : Jvm.MethodName) prog_18_method_72_code (4 : Nat) (Option.some Jvm.ClassFile.FieldType.int)) ∈ lw_all := lw_g (lw_at lw_m8 185 rfl) rfl
theorem q1947 : (Jvm.Cond.instanceMethod ({ cls := "ThreeStrangersModel", name := "ever", desc := "(I)I" } : Jvm.MethodName)) ∈ lw_all := lw_g (lw_at lw_m8 187 rfl) rfl
theorem q1948 : (Jvm.Cond.selects "ThreeStrangersModel" ({ cls := "ThreeStrangersModel", name := "ever", desc := "(I)I" } : Jvm.MethodName) ({ cls := "ThreeStrangersModel", name := "ever", desc := "(I)I" } : Jvm.MethodName)) ∈ lw_all := lw_g (lw_at lw_m8 188 rfl) rfl
theorem q1949 : (Jvm.Cond.code ({ cls := "ThreeStrangersModel", name := "ever", desc := "(I)I" } : Jvm.MethodName) prog_18_method_78_code (2 : Nat) (Option.some Jvm.ClassFile.FieldType.int)) ∈ lw_all := lw_g (lw_at lw_m8 189 rfl) rfl
theorem q1950 : (Jvm.Cond.methodLink "ThreeStrangersModel" (332 : Nat) ({ cls := "ThreeStrangersModel", name := "findEver", desc := "()V" } : Jvm.MethodName)) ∈ lw_all := lw_g (lw_at lw_m8 190 rfl) rfl
theorem q1951 : (Jvm.Cond.privateMethod ({ cls := "ThreeStrangersModel", name := "findEver", desc := "()V" } : Jvm.MethodName)) ∈ lw_tbl := lw_at lw_m8 191 rfl
theorem q1952 : (Jvm.Cond.instanceMethod ({ cls := "ThreeStrangersModel", name := "findEver", desc := "()V" } : Jvm.MethodName)) ∈ lw_all := lw_g (lw_at lw_m8 192 rfl) rfl
theorem q1953 : (Jvm.Cond.code ({ cls := "ThreeStrangersModel", name := "findEver", desc := "()V" } : Jvm.MethodName) prog_18_method_77_code (1 : Nat) (Option.none : Option Jvm.ClassFile.FieldType)) ∈ lw_all := lw_g (lw_at lw_m8 193 rfl) rfl
theorem q1954 : (Jvm.Cond.methodLink "ThreeStrangersModel" (329 : Nat) ({ cls := "ThreeStrangersModel", name := "pairsOf", desc := "(I)I" } : Jvm.MethodName)) ∈ lw_all := lw_g (lw_at lw_m8 194 rfl) rfl
theorem q1955 : (Jvm.Cond.privateMethod ({ cls := "ThreeStrangersModel", name := "pairsOf", desc := "(I)I" } : Jvm.MethodName)) ∈ lw_tbl := lw_at lw_m8 195 rfl
theorem q1956 : (Jvm.Cond.instanceMethod ({ cls := "ThreeStrangersModel", name := "pairsOf", desc := "(I)I" } : Jvm.MethodName)) ∈ lw_all := lw_g (lw_at lw_m8 196 rfl) rfl
theorem q1957 : (Jvm.Cond.code ({ cls := "ThreeStrangersModel", name := "pairsOf", desc := "(I)I" } : Jvm.MethodName) prog_18_method_74_code (5 : Nat) (Option.some Jvm.ClassFile.FieldType.int)) ∈ lw_all := lw_g (lw_at lw_m8 197 rfl) rfl
theorem q1958 : (Jvm.Cond.methodLink "ThreeStrangersModel" (325 : Nat) ({ cls := "ThreeStrangersModel", name := "seekEver", desc := "(I[II)V" } : Jvm.MethodName)) ∈ lw_all := lw_g (lw_at lw_m8 198 rfl) rfl
theorem q1959 : (Jvm.Cond.privateMethod ({ cls := "ThreeStrangersModel", name := "seekEver", desc := "(I[II)V" } : Jvm.MethodName)) ∈ lw_tbl := lw_at lw_m8 199 rfl
theorem q1960 : (Jvm.Cond.instanceMethod ({ cls := "ThreeStrangersModel", name := "seekEver", desc := "(I[II)V" } : Jvm.MethodName)) ∈ lw_all := lw_g (lw_at lw_m8 200 rfl) rfl
theorem q1961 : (Jvm.Cond.code ({ cls := "ThreeStrangersModel", name := "seekEver", desc := "(I[II)V" } : Jvm.MethodName) prog_18_method_75_code (6 : Nat) (Option.none : Option Jvm.ClassFile.FieldType)) ∈ lw_all := lw_g (lw_at lw_m8 201 rfl) rfl
theorem q1962 : (Jvm.Cond.methodLink "ThreeStrangersModel" (315 : Nat) ({ cls := "ThreeStrangersModel", name := "isApart", desc := "([III)Z" } : Jvm.MethodName)) ∈ lw_all := lw_g (lw_at lw_m8 202 rfl) rfl
theorem q1963 : (Jvm.Cond.static ({ cls := "ThreeStrangersModel", name := "isApart", desc := "([III)Z" } : Jvm.MethodName)) ∈ lw_all := lw_g (lw_at lw_m8 203 rfl) rfl
theorem q1964 : (Jvm.Cond.code ({ cls := "ThreeStrangersModel", name := "isApart", desc := "([III)Z" } : Jvm.MethodName) prog_18_method_76_code (4 : Nat) (Option.some Jvm.ClassFile.FieldType.boolean)) ∈ lw_all := lw_g (lw_at lw_m8 204 rfl) rfl
theorem q1966 : (Jvm.Cond.instanceMethod ({ cls := "ThreeStrangersModel", name := "hire", desc := "()I" } : Jvm.MethodName)) ∈ lw_all := lw_g (lw_at lw_m8 206 rfl) rfl
theorem q1967 : (Jvm.Cond.selects "ThreeStrangersModel" ({ cls := "ThreeStrangersModel", name := "hire", desc := "()I" } : Jvm.MethodName) ({ cls := "ThreeStrangersModel", name := "hire", desc := "()I" } : Jvm.MethodName)) ∈ lw_all := lw_g (lw_at lw_m8 207 rfl) rfl
theorem q1968 : (Jvm.Cond.code ({ cls := "ThreeStrangersModel", name := "hire", desc := "()I" } : Jvm.MethodName) prog_18_method_79_code (3 : Nat) (Option.some Jvm.ClassFile.FieldType.int)) ∈ lw_all := lw_g (lw_at lw_m8 208 rfl) rfl
theorem q1970 : (Jvm.Cond.instanceMethod ({ cls := "ThreeStrangersModel", name := "feast", desc := "(I)I" } : Jvm.MethodName)) ∈ lw_all := lw_g (lw_at lw_m8 210 rfl) rfl
theorem q1971 : (Jvm.Cond.selects "ThreeStrangersModel" ({ cls := "ThreeStrangersModel", name := "feast", desc := "(I)I" } : Jvm.MethodName) ({ cls := "ThreeStrangersModel", name := "feast", desc := "(I)I" } : Jvm.MethodName)) ∈ lw_all := lw_g (lw_at lw_m8 211 rfl) rfl
theorem q1972 : (Jvm.Cond.code ({ cls := "ThreeStrangersModel", name := "feast", desc := "(I)I" } : Jvm.MethodName) prog_18_method_80_code (3 : Nat) (Option.some Jvm.ClassFile.FieldType.int)) ∈ lw_all := lw_g (lw_at lw_m8 212 rfl) rfl
theorem q1974 : (Jvm.Cond.instanceMethod ({ cls := "ThreeStrangersModel", name := "closes", desc := "(II)I" } : Jvm.MethodName)) ∈ lw_all := lw_g (lw_at lw_m8 214 rfl) rfl
theorem q1975 : (Jvm.Cond.selects "ThreeStrangersModel" ({ cls := "ThreeStrangersModel", name := "closes", desc := "(II)I" } : Jvm.MethodName) ({ cls := "ThreeStrangersModel", name := "closes", desc := "(II)I" } : Jvm.MethodName)) ∈ lw_all := lw_g (lw_at lw_m8 215 rfl) rfl
theorem q1976 : (Jvm.Cond.code ({ cls := "ThreeStrangersModel", name := "closes", desc := "(II)I" } : Jvm.MethodName) prog_18_method_82_code (3 : Nat) (Option.some Jvm.ClassFile.FieldType.int)) ∈ lw_all := lw_g (lw_at lw_m8 216 rfl) rfl
theorem q1977 : (Jvm.Cond.methodLink "ThreeStrangersModel" (335 : Nat) ({ cls := "ThreeStrangersModel", name := "closesOf", desc := "(II)I" } : Jvm.MethodName)) ∈ lw_all := lw_g (lw_at lw_m8 217 rfl) rfl
theorem q1978 : (Jvm.Cond.privateMethod ({ cls := "ThreeStrangersModel", name := "closesOf", desc := "(II)I" } : Jvm.MethodName)) ∈ lw_tbl := lw_at lw_m8 218 rfl
theorem q1979 : (Jvm.Cond.instanceMethod ({ cls := "ThreeStrangersModel", name := "closesOf", desc := "(II)I" } : Jvm.MethodName)) ∈ lw_all := lw_g (lw_at lw_m8 219 rfl) rfl
theorem q1980 : (Jvm.Cond.code ({ cls := "ThreeStrangersModel", name := "closesOf", desc := "(II)I" } : Jvm.MethodName) prog_18_method_81_code (4 : Nat) (Option.some Jvm.ClassFile.FieldType.int)) ∈ lw_all := lw_g (lw_at lw_m8 220 rfl) rfl
theorem q1982 : (Jvm.Cond.instanceMethod ({ cls := "ThreeStrangersModel", name := "worst", desc := "()I" } : Jvm.MethodName)) ∈ lw_all := lw_g (lw_at lw_m8 222 rfl) rfl
theorem q1983 : (Jvm.Cond.selects "ThreeStrangersModel" ({ cls := "ThreeStrangersModel", name := "worst", desc := "()I" } : Jvm.MethodName) ({ cls := "ThreeStrangersModel", name := "worst", desc := "()I" } : Jvm.MethodName)) ∈ lw_all := lw_g (lw_at lw_m8 223 rfl) rfl
theorem q1984 : (Jvm.Cond.code ({ cls := "ThreeStrangersModel", name := "worst", desc := "()I" } : Jvm.MethodName) prog_18_method_83_code (6 : Nat) (Option.some Jvm.ClassFile.FieldType.int)) ∈ lw_all := lw_g (lw_at lw_m8 224 rfl) rfl
theorem q1986 : (Jvm.Cond.instanceMethod ({ cls := "ThreeStrangersModel", name := "fits", desc := "(I)I" } : Jvm.MethodName)) ∈ lw_all := lw_g (lw_at lw_m8 226 rfl) rfl
theorem q1987 : (Jvm.Cond.selects "ThreeStrangersModel" ({ cls := "ThreeStrangersModel", name := "fits", desc := "(I)I" } : Jvm.MethodName) ({ cls := "ThreeStrangersModel", name := "fits", desc := "(I)I" } : Jvm.MethodName)) ∈ lw_all := lw_g (lw_at lw_m8 227 rfl) rfl
theorem q1988 : (Jvm.Cond.code ({ cls := "ThreeStrangersModel", name := "fits", desc := "(I)I" } : Jvm.MethodName) prog_18_method_85_code (2 : Nat) (Option.some Jvm.ClassFile.FieldType.int)) ∈ lw_all := lw_g (lw_at lw_m8 228 rfl) rfl
theorem q1989 : (Jvm.Cond.methodLink "ThreeStrangersModel" (344 : Nat) ({ cls := "ThreeStrangersModel", name := "findWays", desc := "(I)V" } : Jvm.MethodName)) ∈ lw_all := lw_g (lw_at lw_m8 229 rfl) rfl
theorem q1990 : (Jvm.Cond.privateMethod ({ cls := "ThreeStrangersModel", name := "findWays", desc := "(I)V" } : Jvm.MethodName)) ∈ lw_tbl := lw_at lw_m8 230 rfl
theorem q1991 : (Jvm.Cond.instanceMethod ({ cls := "ThreeStrangersModel", name := "findWays", desc := "(I)V" } : Jvm.MethodName)) ∈ lw_all := lw_g (lw_at lw_m8 231 rfl) rfl
theorem q1992 : (Jvm.Cond.code ({ cls := "ThreeStrangersModel", name := "findWays", desc := "(I)V" } : Jvm.MethodName) prog_18_method_84_code (5 : Nat) (Option.none : Option Jvm.ClassFile.FieldType)) ∈ lw_all := lw_g (lw_at lw_m8 232 rfl) rfl
theorem q1994 : (Jvm.Cond.instanceMethod ({ cls := "ThreeStrangersModel", name := "sure", desc := "(I)I" } : Jvm.MethodName)) ∈ lw_all := lw_g (lw_at lw_m8 234 rfl) rfl
theorem q1995 : (Jvm.Cond.selects "ThreeStrangersModel" ({ cls := "ThreeStrangersModel", name := "sure", desc := "(I)I" } : Jvm.MethodName) ({ cls := "ThreeStrangersModel", name := "sure", desc := "(I)I" } : Jvm.MethodName)) ∈ lw_all := lw_g (lw_at lw_m8 235 rfl) rfl
theorem q1996 : (Jvm.Cond.code ({ cls := "ThreeStrangersModel", name := "sure", desc := "(I)I" } : Jvm.MethodName) prog_18_method_86_code (4 : Nat) (Option.some Jvm.ClassFile.FieldType.int)) ∈ lw_all := lw_g (lw_at lw_m8 236 rfl) rfl
theorem q1998 : (Jvm.Cond.instanceMethod ({ cls := "ThreeStrangersModel", name := "judge", desc := "(II)I" } : Jvm.MethodName)) ∈ lw_all := lw_g (lw_at lw_m8 238 rfl) rfl
theorem q1999 : (Jvm.Cond.selects "ThreeStrangersModel" ({ cls := "ThreeStrangersModel", name := "judge", desc := "(II)I" } : Jvm.MethodName) ({ cls := "ThreeStrangersModel", name := "judge", desc := "(II)I" } : Jvm.MethodName)) ∈ lw_all := lw_g (lw_at lw_m8 239 rfl) rfl
theorem q2000 : (Jvm.Cond.code ({ cls := "ThreeStrangersModel", name := "judge", desc := "(II)I" } : Jvm.MethodName) prog_18_method_89_code (4 : Nat) (Option.some Jvm.ClassFile.FieldType.int)) ∈ lw_all := lw_g (lw_at lw_m9 0 rfl) rfl
theorem q2001 : (Jvm.Cond.methodLink "ThreeStrangersModel" (351 : Nat) ({ cls := "ThreeStrangersModel", name := "noDay", desc := "(II)I" } : Jvm.MethodName)) ∈ lw_all := lw_g (lw_at lw_m9 1 rfl) rfl
theorem q2002 : (Jvm.Cond.privateMethod ({ cls := "ThreeStrangersModel", name := "noDay", desc := "(II)I" } : Jvm.MethodName)) ∈ lw_tbl := lw_at lw_m9 2 rfl
theorem q2003 : (Jvm.Cond.instanceMethod ({ cls := "ThreeStrangersModel", name := "noDay", desc := "(II)I" } : Jvm.MethodName)) ∈ lw_all := lw_g (lw_at lw_m9 3 rfl) rfl
theorem q2004 : (Jvm.Cond.code ({ cls := "ThreeStrangersModel", name := "noDay", desc := "(II)I" } : Jvm.MethodName) prog_18_method_87_code (4 : Nat) (Option.some Jvm.ClassFile.FieldType.int)) ∈ lw_all := lw_g (lw_at lw_m9 4 rfl) rfl
theorem q2005 : (Jvm.Cond.methodLink "ThreeStrangersModel" (354 : Nat) ({ cls := "ThreeStrangersModel", name := "wrongCoach", desc := "([JI)I" } : Jvm.MethodName)) ∈ lw_all := lw_g (lw_at lw_m9 5 rfl) rfl
theorem q2006 : (Jvm.Cond.privateMethod ({ cls := "ThreeStrangersModel", name := "wrongCoach", desc := "([JI)I" } : Jvm.MethodName)) ∈ lw_tbl := lw_at lw_m9 6 rfl
theorem q2007 : (Jvm.Cond.instanceMethod ({ cls := "ThreeStrangersModel", name := "wrongCoach", desc := "([JI)I" } : Jvm.MethodName)) ∈ lw_all := lw_g (lw_at lw_m9 7 rfl) rfl
theorem q2008 : (Jvm.Cond.code ({ cls := "ThreeStrangersModel", name := "wrongCoach", desc := "([JI)I" } : Jvm.MethodName) prog_18_method_88_code (4 : Nat) (Option.some Jvm.ClassFile.FieldType.int)) ∈ lw_all := lw_g (lw_at lw_m9 8 rfl) rfl
theorem q2010 : (Jvm.Cond.instanceMethod ({ cls := "ThreeStrangersModel", name := "behind", desc := "(III)I" } : Jvm.MethodName)) ∈ lw_all := lw_g (lw_at lw_m9 10 rfl) rfl
theorem q2011 : (Jvm.Cond.selects "ThreeStrangersModel" ({ cls := "ThreeStrangersModel", name := "behind", desc := "(III)I" } : Jvm.MethodName) ({ cls := "ThreeStrangersModel", name := "behind", desc := "(III)I" } : Jvm.MethodName)) ∈ lw_all := lw_g (lw_at lw_m9 11 rfl) rfl
theorem q2012 : (Jvm.Cond.code ({ cls := "ThreeStrangersModel", name := "behind", desc := "(III)I" } : Jvm.MethodName) prog_18_method_90_code (7 : Nat) (Option.some Jvm.ClassFile.FieldType.int)) ∈ lw_all := lw_g (lw_at lw_m9 12 rfl) rfl
theorem q2014 : (Jvm.Cond.instanceMethod ({ cls := "ThreeStrangersModel", name := "rides", desc := "(II)I" } : Jvm.MethodName)) ∈ lw_all := lw_g (lw_at lw_m9 14 rfl) rfl
theorem q2015 : (Jvm.Cond.selects "ThreeStrangersModel" ({ cls := "ThreeStrangersModel", name := "rides", desc := "(II)I" } : Jvm.MethodName) ({ cls := "ThreeStrangersModel", name := "rides", desc := "(II)I" } : Jvm.MethodName)) ∈ lw_all := lw_g (lw_at lw_m9 15 rfl) rfl
theorem q2016 : (Jvm.Cond.code ({ cls := "ThreeStrangersModel", name := "rides", desc := "(II)I" } : Jvm.MethodName) prog_18_method_91_code (5 : Nat) (Option.some Jvm.ClassFile.FieldType.int)) ∈ lw_all := lw_g (lw_at lw_m9 16 rfl) rfl
theorem q2018 : (Jvm.Cond.instanceMethod ({ cls := "ThreeStrangersModel", name := "day", desc := "(I)I" } : Jvm.MethodName)) ∈ lw_all := lw_g (lw_at lw_m9 18 rfl) rfl
theorem q2019 : (Jvm.Cond.selects "ThreeStrangersModel" ({ cls := "ThreeStrangersModel", name := "day", desc := "(I)I" } : Jvm.MethodName) ({ cls := "ThreeStrangersModel", name := "day", desc := "(I)I" } : Jvm.MethodName)) ∈ lw_all := lw_g (lw_at lw_m9 19 rfl) rfl
theorem q2020 : (Jvm.Cond.code ({ cls := "ThreeStrangersModel", name := "day", desc := "(I)I" } : Jvm.MethodName) prog_18_method_92_code (4 : Nat) (Option.some Jvm.ClassFile.FieldType.int)) ∈ lw_all := lw_g (lw_at lw_m9 20 rfl) rfl
theorem q2022 : (Jvm.Cond.instanceMethod ({ cls := "ThreeStrangersModel", name := "meet", desc := "(I)I" } : Jvm.MethodName)) ∈ lw_all := lw_g (lw_at lw_m9 22 rfl) rfl
theorem q2023 : (Jvm.Cond.selects "ThreeStrangersModel" ({ cls := "ThreeStrangersModel", name := "meet", desc := "(I)I" } : Jvm.MethodName) ({ cls := "ThreeStrangersModel", name := "meet", desc := "(I)I" } : Jvm.MethodName)) ∈ lw_all := lw_g (lw_at lw_m9 23 rfl) rfl
theorem q2024 : (Jvm.Cond.code ({ cls := "ThreeStrangersModel", name := "meet", desc := "(I)I" } : Jvm.MethodName) prog_18_method_93_code (2 : Nat) (Option.some Jvm.ClassFile.FieldType.int)) ∈ lw_all := lw_g (lw_at lw_m9 24 rfl) rfl
theorem q2026 : (Jvm.Cond.instanceMethod ({ cls := "ThreeStrangersModel", name := "year", desc := "()I" } : Jvm.MethodName)) ∈ lw_all := lw_g (lw_at lw_m9 26 rfl) rfl
theorem q2027 : (Jvm.Cond.selects "ThreeStrangersModel" ({ cls := "ThreeStrangersModel", name := "year", desc := "()I" } : Jvm.MethodName) ({ cls := "ThreeStrangersModel", name := "year", desc := "()I" } : Jvm.MethodName)) ∈ lw_all := lw_g (lw_at lw_m9 27 rfl) rfl
theorem q2028 : (Jvm.Cond.code ({ cls := "ThreeStrangersModel", name := "year", desc := "()I" } : Jvm.MethodName) prog_18_method_94_code (6 : Nat) (Option.some Jvm.ClassFile.FieldType.int)) ∈ lw_all := lw_g (lw_at lw_m9 28 rfl) rfl
theorem q2030 : (Jvm.Cond.instanceMethod ({ cls := "ThreeStrangersModel", name := "come", desc := "(I)I" } : Jvm.MethodName)) ∈ lw_all := lw_g (lw_at lw_m9 30 rfl) rfl
theorem q2031 : (Jvm.Cond.selects "ThreeStrangersModel" ({ cls := "ThreeStrangersModel", name := "come", desc := "(I)I" } : Jvm.MethodName) ({ cls := "ThreeStrangersModel", name := "come", desc := "(I)I" } : Jvm.MethodName)) ∈ lw_all := lw_g (lw_at lw_m9 31 rfl) rfl
theorem q2032 : (Jvm.Cond.code ({ cls := "ThreeStrangersModel", name := "come", desc := "(I)I" } : Jvm.MethodName) prog_18_method_96_code (5 : Nat) (Option.some Jvm.ClassFile.FieldType.int)) ∈ lw_all := lw_g (lw_at lw_m9 32 rfl) rfl
theorem q2033 : (Jvm.Cond.methodLink "ThreeStrangersModel" (368 : Nat) ({ cls := "ThreeStrangersModel", name := "below", desc := "(I)I" } : Jvm.MethodName)) ∈ lw_all := lw_g (lw_at lw_m9 33 rfl) rfl
theorem q2034 : (Jvm.Cond.privateMethod ({ cls := "ThreeStrangersModel", name := "below", desc := "(I)I" } : Jvm.MethodName)) ∈ lw_tbl := lw_at lw_m9 34 rfl
theorem q2035 : (Jvm.Cond.instanceMethod ({ cls := "ThreeStrangersModel", name := "below", desc := "(I)I" } : Jvm.MethodName)) ∈ lw_all := lw_g (lw_at lw_m9 35 rfl) rfl
theorem q2036 : (Jvm.Cond.code ({ cls := "ThreeStrangersModel", name := "below", desc := "(I)I" } : Jvm.MethodName) prog_18_method_95_code (2 : Nat) (Option.some Jvm.ClassFile.FieldType.int)) ∈ lw_all := lw_g (lw_at lw_m9 36 rfl) rfl
theorem q2037 : (Jvm.Cond.constant "ThreeStrangersModel" (367 : Nat) (1103515245 : Int32)) ∈ lw_all := lw_g (lw_at lw_m9 37 rfl) rfl
theorem q2039 : (Jvm.Cond.instanceMethod ({ cls := "ThreeStrangersModel", name := "seed", desc := "(I)I" } : Jvm.MethodName)) ∈ lw_all := lw_g (lw_at lw_m9 39 rfl) rfl
theorem q2040 : (Jvm.Cond.selects "ThreeStrangersModel" ({ cls := "ThreeStrangersModel", name := "seed", desc := "(I)I" } : Jvm.MethodName) ({ cls := "ThreeStrangersModel", name := "seed", desc := "(I)I" } : Jvm.MethodName)) ∈ lw_all := lw_g (lw_at lw_m9 40 rfl) rfl
theorem q2041 : (Jvm.Cond.code ({ cls := "ThreeStrangersModel", name := "seed", desc := "(I)I" } : Jvm.MethodName) prog_18_method_97_code (3 : Nat) (Option.some Jvm.ClassFile.FieldType.int)) ∈ lw_all := lw_g (lw_at lw_m9 41 rfl) rfl
theorem q2043 : (Jvm.Cond.instanceMethod ({ cls := "ThreeStrangersModel", name := "image", desc := "()I" } : Jvm.MethodName)) ∈ lw_all := lw_g (lw_at lw_m9 43 rfl) rfl
theorem q2044 : (Jvm.Cond.selects "ThreeStrangersModel" ({ cls := "ThreeStrangersModel", name := "image", desc := "()I" } : Jvm.MethodName) ({ cls := "ThreeStrangersModel", name := "image", desc := "()I" } : Jvm.MethodName)) ∈ lw_all := lw_g (lw_at lw_m9 44 rfl) rfl
theorem q2045 : (Jvm.Cond.code ({ cls := "ThreeStrangersModel", name := "image", desc := "()I" } : Jvm.MethodName) prog_18_method_101_code (1 : Nat) (Option.some Jvm.ClassFile.FieldType.int)) ∈ lw_all := lw_g (lw_at lw_m9 45 rfl) rfl
theorem q2047 : (Jvm.Cond.instanceMethod ({ cls := "ThreeStrangersModel", name := "back", desc := "()I" } : Jvm.MethodName)) ∈ lw_all := lw_g (lw_at lw_m9 47 rfl) rfl
theorem q2048 : (Jvm.Cond.selects "ThreeStrangersModel" ({ cls := "ThreeStrangersModel", name := "back", desc := "()I" } : Jvm.MethodName) ({ cls := "ThreeStrangersModel", name := "back", desc := "()I" } : Jvm.MethodName)) ∈ lw_all := lw_g (lw_at lw_m9 48 rfl) rfl
theorem q2049 : (Jvm.Cond.code ({ cls := "ThreeStrangersModel", name := "back", desc := "()I" } : Jvm.MethodName) prog_18_method_102_code (1 : Nat) (Option.some Jvm.ClassFile.FieldType.int)) ∈ lw_all := lw_g (lw_at lw_m9 49 rfl) rfl
theorem q2051 : (Jvm.Cond.instanceMethod ({ cls := "ThreeStrangersModel", name := "status", desc := "(I)I" } : Jvm.MethodName)) ∈ lw_all := lw_g (lw_at lw_m9 51 rfl) rfl
theorem q2052 : (Jvm.Cond.selects "ThreeStrangersModel" ({ cls := "ThreeStrangersModel", name := "status", desc := "(I)I" } : Jvm.MethodName) ({ cls := "ThreeStrangersModel", name := "status", desc := "(I)I" } : Jvm.MethodName)) ∈ lw_all := lw_g (lw_at lw_m9 52 rfl) rfl
theorem q2053 : (Jvm.Cond.code ({ cls := "ThreeStrangersModel", name := "status", desc := "(I)I" } : Jvm.MethodName) prog_18_method_103_code (4 : Nat) (Option.some Jvm.ClassFile.FieldType.int)) ∈ lw_all := lw_g (lw_at lw_m9 53 rfl) rfl
theorem q2054 : (Jvm.Cond.constantLong "ThreeStrangersModel" (383 : Nat) (12 : Int64)) ∈ lw_all := lw_g (lw_at lw_m9 54 rfl) rfl
theorem q2055 : (Jvm.Cond.constantLong "ThreeStrangersModel" (385 : Nat) (16 : Int64)) ∈ lw_all := lw_g (lw_at lw_m9 55 rfl) rfl
theorem in_X5 : ∀ w ∈ wsX50, w ∈ lw_all := lw_in wsX50 [1523, 1525, 1527, 1529, 1531, 1533, 1535, 1537, 1539, 1541, 1543, 1545, 1547, 1549, 1551, 1553, 1555, 1557, 1559, 1561, 1563, 1565, 1567, 1569, 1571, 1573, 1575, 1577, 1579, 1581, 1583, 1585, 1587, 1589, 1591, 1593, 1595, 1597, 1599, 1601, 1603, 1605, 1607, 1609, 1611] (by decide +kernel) (by decide +kernel)
