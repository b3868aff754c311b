theorem q68 : (Jvm.Cond.initialized "SendTheBoxLaw") ∈ lw_all := lw_g (lw_at lw_m1 0 rfl) rfl
set_option maxRecDepth 100000
theorem q103 : (Jvm.Cond.classLink "SendTheBoxLaw" (7 : Nat) "SendTheBox") ∈ lw_all := lw_g (lw_at lw_m1 35 rfl) rfl
theorem q105 : (Jvm.Cond.methodLink "SendTheBoxLaw" (9 : Nat) ({ cls := "SendTheBox", name := "<init>", desc := "()V" } : Jvm.MethodName)) ∈ lw_all := lw_g (lw_at lw_m1 37 rfl) rfl
theorem q167 : (Jvm.Cond.methodLink "SendTheBoxLaw" (13 : Nat) ({ cls := "SendTheBox", name := "row", desc := "(III)I" } : Jvm.MethodName)) ∈ lw_all := lw_g (lw_at lw_m1 99 rfl) rfl
theorem q275 : (Jvm.Cond.methodLink "SendTheBoxLaw" (20 : Nat) ({ cls := "SendTheBox", name := "set", desc := "(IIJ)I" } : Jvm.MethodName)) ∈ lw_all := lw_g (lw_at lw_m1 207 rfl) rfl
theorem q341 : (Jvm.Cond.methodLink "SendTheBoxLaw" (25 : Nat) ({ cls := "SendTheBox", name := "copy", desc := "(IIIII)I" } : Jvm.MethodName)) ∈ lw_all := lw_g (lw_at lw_m2 33 rfl) rfl
theorem q388 : (Jvm.Cond.methodLink "SendTheBoxLaw" (30 : Nat) ({ cls := "SendTheBox", name := "element", desc := "(II)J" } : Jvm.MethodName)) ∈ lw_all := lw_g (lw_at lw_m2 80 rfl) rfl
theorem q395 : (Jvm.Cond.methodLink "SendTheBoxLaw" (35 : Nat) ({ cls := "SendTheBox", name := "holds", desc := "(I)I" } : Jvm.MethodName)) ∈ lw_all := lw_g (lw_at lw_m2 87 rfl) rfl
theorem q417 : (Jvm.Cond.methodLink "SendTheBoxLaw" (40 : Nat) ({ cls := "SendTheBox", name := "rule", desc := "(III)I" } : Jvm.MethodName)) ∈ lw_all := lw_g (lw_at lw_m2 109 rfl) rfl
theorem q513 : (Jvm.Cond.methodLink "SendTheBoxLaw" (44 : Nat) ({ cls := "SendTheBox", name := "says", desc := "(II)I" } : Jvm.MethodName)) ∈ lw_all := lw_g (lw_at lw_m2 205 rfl) rfl
theorem q552 : (Jvm.Cond.methodLink "SendTheBoxLaw" (49 : Nat) ({ cls := "SendTheBox", name := "feed", desc := "(II)I" } : Jvm.MethodName)) ∈ lw_all := lw_g (lw_at lw_m3 4 rfl) rfl
theorem q556 : (Jvm.Cond.methodLink "SendTheBoxLaw" (53 : Nat) ({ cls := "SendTheBox", name := "wipe", desc := "()I" } : Jvm.MethodName)) ∈ lw_all := lw_g (lw_at lw_m3 8 rfl) rfl
theorem q560 : (Jvm.Cond.methodLink "SendTheBoxLaw" (58 : Nat) ({ cls := "SendTheBox", name := "house", desc := "()I" } : Jvm.MethodName)) ∈ lw_all := lw_g (lw_at lw_m3 12 rfl) rfl
theorem q931 : (Jvm.Cond.methodLink "SendTheBoxLaw" (62 : Nat) ({ cls := "SendTheBox", name := "houseOf", desc := "(II)I" } : Jvm.MethodName)) ∈ lw_all := lw_g (lw_at lw_m4 143 rfl) rfl
theorem q939 : (Jvm.Cond.methodLink "SendTheBoxLaw" (66 : Nat) ({ cls := "SendTheBox", name := "sortOf", desc := "(III)I" } : Jvm.MethodName)) ∈ lw_all := lw_g (lw_at lw_m4 151 rfl) rfl
theorem q947 : (Jvm.Cond.methodLink "SendTheBoxLaw" (70 : Nat) ({ cls := "SendTheBox", name := "alter", desc := "(III)I" } : Jvm.MethodName)) ∈ lw_all := lw_g (lw_at lw_m4 159 rfl) rfl
theorem q955 : (Jvm.Cond.methodLink "SendTheBoxLaw" (74 : Nat) ({ cls := "SendTheBox", name := "change", desc := "(IIII)I" } : Jvm.MethodName)) ∈ lw_all := lw_g (lw_at lw_m4 167 rfl) rfl
theorem q959 : (Jvm.Cond.methodLink "SendTheBoxLaw" (79 : Nat) ({ cls := "SendTheBox", name := "of", desc := "(II)I" } : Jvm.MethodName)) ∈ lw_all := lw_g (lw_at lw_m4 171 rfl) rfl
theorem q968 : (Jvm.Cond.methodLink "SendTheBoxLaw" (83 : Nat) ({ cls := "SendTheBox", name := "space", desc := "(II)I" } : Jvm.MethodName)) ∈ lw_all := lw_g (lw_at lw_m4 180 rfl) rfl
theorem q985 : (Jvm.Cond.methodLink "SendTheBoxLaw" (87 : Nat) ({ cls := "SendTheBox", name := "scale", desc := "(II)J" } : Jvm.MethodName)) ∈ lw_all := lw_g (lw_at lw_m4 197 rfl) rfl
theorem q997 : (Jvm.Cond.methodLink "SendTheBoxLaw" (91 : Nat) ({ cls := "SendTheBox", name := "cost", desc := "(III)J" } : Jvm.MethodName)) ∈ lw_all := lw_g (lw_at lw_m4 209 rfl) rfl
theorem q1044 : (Jvm.Cond.methodLink "SendTheBoxLaw" (96 : Nat) ({ cls := "SendTheBox", name := "best", desc := "(III)I" } : Jvm.MethodName)) ∈ lw_all := lw_g (lw_at lw_m5 16 rfl) rfl
theorem q1052 : (Jvm.Cond.methodLink "SendTheBoxLaw" (100 : Nat) ({ cls := "SendTheBox", name := "fill", desc := "(II)I" } : Jvm.MethodName)) ∈ lw_all := lw_g (lw_at lw_m5 24 rfl) rfl
theorem q1065 : (Jvm.Cond.methodLink "SendTheBoxLaw" (104 : Nat) ({ cls := "SendTheBox", name := "load", desc := "(IIII)I" } : Jvm.MethodName)) ∈ lw_all := lw_g (lw_at lw_m5 37 rfl) rfl
theorem q1105 : (Jvm.Cond.methodLink "SendTheBoxLaw" (108 : Nat) ({ cls := "SendTheBox", name := "mean", desc := "(IIII)J" } : Jvm.MethodName)) ∈ lw_all := lw_g (lw_at lw_m5 77 rfl) rfl
theorem q1147 : (Jvm.Cond.methodLink "SendTheBoxLaw" (113 : Nat) ({ cls := "SendTheBox", name := "lose", desc := "(IIII)J" } : Jvm.MethodName)) ∈ lw_all := lw_g (lw_at lw_m5 119 rfl) rfl
theorem q1151 : (Jvm.Cond.methodLink "SendTheBoxLaw" (117 : Nat) ({ cls := "SendTheBox", name := "boy", desc := "(I)I" } : Jvm.MethodName)) ∈ lw_all := lw_g (lw_at lw_m5 123 rfl) rfl
theorem q1155 : (Jvm.Cond.methodLink "SendTheBoxLaw" (121 : Nat) ({ cls := "SendTheBox", name := "waits", desc := "(III)J" } : Jvm.MethodName)) ∈ lw_all := lw_g (lw_at lw_m5 127 rfl) rfl
theorem q1161 : (Jvm.Cond.methodLink "SendTheBoxLaw" (125 : Nat) ({ cls := "SendTheBox", name := "once", desc := "(III)J" } : Jvm.MethodName)) ∈ lw_all := lw_g (lw_at lw_m5 133 rfl) rfl
theorem q1165 : (Jvm.Cond.methodLink "SendTheBoxLaw" (129 : Nat) ({ cls := "SendTheBox", name := "dear", desc := "(IIII)J" } : Jvm.MethodName)) ∈ lw_all := lw_g (lw_at lw_m5 137 rfl) rfl
theorem q1169 : (Jvm.Cond.methodLink "SendTheBoxLaw" (133 : Nat) ({ cls := "SendTheBox", name := "chance", desc := "(IIII)J" } : Jvm.MethodName)) ∈ lw_all := lw_g (lw_at lw_m5 141 rfl) rfl
theorem q1188 : (Jvm.Cond.methodLink "SendTheBoxLaw" (137 : Nat) ({ cls := "SendTheBox", name := "reach", desc := "(III)I" } : Jvm.MethodName)) ∈ lw_all := lw_g (lw_at lw_m5 160 rfl) rfl
theorem q1192 : (Jvm.Cond.methodLink "SendTheBoxLaw" (141 : Nat) ({ cls := "SendTheBox", name := "held", desc := "(III)J" } : Jvm.MethodName)) ∈ lw_all := lw_g (lw_at lw_m5 164 rfl) rfl
theorem q1201 : (Jvm.Cond.methodLink "SendTheBoxLaw" (145 : Nat) ({ cls := "SendTheBox", name := "boxes", desc := "(II)J" } : Jvm.MethodName)) ∈ lw_all := lw_g (lw_at lw_m5 173 rfl) rfl
theorem q1205 : (Jvm.Cond.methodLink "SendTheBoxLaw" (149 : Nat) ({ cls := "SendTheBox", name := "plain", desc := "(I)I" } : Jvm.MethodName)) ∈ lw_all := lw_g (lw_at lw_m5 177 rfl) rfl
theorem q1210 : (Jvm.Cond.methodLink "SendTheBoxLaw" (153 : Nat) ({ cls := "SendTheBox", name := "every", desc := "(I)I" } : Jvm.MethodName)) ∈ lw_all := lw_g (lw_at lw_m5 182 rfl) rfl
theorem q1214 : (Jvm.Cond.methodLink "SendTheBoxLaw" (157 : Nat) ({ cls := "SendTheBox", name := "promise", desc := "(II)J" } : Jvm.MethodName)) ∈ lw_all := lw_g (lw_at lw_m5 186 rfl) rfl
theorem q1226 : (Jvm.Cond.methodLink "SendTheBoxLaw" (161 : Nat) ({ cls := "SendTheBox", name := "shape", desc := "(II)I" } : Jvm.MethodName)) ∈ lw_all := lw_g (lw_at lw_m5 198 rfl) rfl
theorem q1236 : (Jvm.Cond.methodLink "SendTheBoxLaw" (165 : Nat) ({ cls := "SendTheBox", name := "odd", desc := "(II)I" } : Jvm.MethodName)) ∈ lw_all := lw_g (lw_at lw_m5 208 rfl) rfl
theorem q1240 : (Jvm.Cond.methodLink "SendTheBoxLaw" (169 : Nat) ({ cls := "SendTheBox", name := "judge", desc := "(III)I" } : Jvm.MethodName)) ∈ lw_all := lw_g (lw_at lw_m5 212 rfl) rfl
theorem q1244 : (Jvm.Cond.methodLink "SendTheBoxLaw" (173 : Nat) ({ cls := "SendTheBox", name := "join", desc := "(II)I" } : Jvm.MethodName)) ∈ lw_all := lw_g (lw_at lw_m5 216 rfl) rfl
theorem q1266 : (Jvm.Cond.methodLink "SendTheBoxLaw" (177 : Nat) ({ cls := "SendTheBox", name := "saved", desc := "(II)J" } : Jvm.MethodName)) ∈ lw_all := lw_g (lw_at lw_m5 238 rfl) rfl
theorem q1273 : (Jvm.Cond.methodLink "SendTheBoxLaw" (181 : Nat) ({ cls := "SendTheBox", name := "seed", desc := "(I)I" } : Jvm.MethodName)) ∈ lw_all := lw_g (lw_at lw_m6 5 rfl) rfl
theorem q1277 : (Jvm.Cond.methodLink "SendTheBoxLaw" (185 : Nat) ({ cls := "SendTheBox", name := "begin", desc := "(II)I" } : Jvm.MethodName)) ∈ lw_all := lw_g (lw_at lw_m6 9 rfl) rfl
theorem q1319 : (Jvm.Cond.methodLink "SendTheBoxLaw" (189 : Nat) ({ cls := "SendTheBox", name := "step", desc := "(I)I" } : Jvm.MethodName)) ∈ lw_all := lw_g (lw_at lw_m6 51 rfl) rfl
theorem q1340 : (Jvm.Cond.methodLink "SendTheBoxLaw" (193 : Nat) ({ cls := "SendTheBox", name := "week", desc := "(I)I" } : Jvm.MethodName)) ∈ lw_all := lw_g (lw_at lw_m6 72 rfl) rfl
theorem q1344 : (Jvm.Cond.methodLink "SendTheBoxLaw" (197 : Nat) ({ cls := "SendTheBox", name := "weeks", desc := "(III)I" } : Jvm.MethodName)) ∈ lw_all := lw_g (lw_at lw_m6 76 rfl) rfl
theorem q1348 : (Jvm.Cond.methodLink "SendTheBoxLaw" (201 : Nat) ({ cls := "SendTheBox", name := "image", desc := "()I" } : Jvm.MethodName)) ∈ lw_all := lw_g (lw_at lw_m6 80 rfl) rfl
theorem q1365 : (Jvm.Cond.methodLink "SendTheBoxLaw" (205 : Nat) ({ cls := "SendTheBox", name := "back", desc := "()I" } : Jvm.MethodName)) ∈ lw_all := lw_g (lw_at lw_m6 97 rfl) rfl
theorem q1369 : (Jvm.Cond.methodLink "SendTheBoxLaw" (209 : Nat) ({ cls := "SendTheBox", name := "status", desc := "(I)I" } : Jvm.MethodName)) ∈ lw_all := lw_g (lw_at lw_m6 101 rfl) rfl
theorem q1377 : (Jvm.Cond.classLink "SendTheBoxLaw" (10 : Nat) "SendTheBoxModel") ∈ lw_all := lw_g (lw_at lw_m6 109 rfl) rfl
theorem q1379 : (Jvm.Cond.methodLink "SendTheBoxLaw" (12 : Nat) ({ cls := "SendTheBoxModel", name := "<init>", desc := "()V" } : Jvm.MethodName)) ∈ lw_all := lw_g (lw_at lw_m6 111 rfl) rfl
theorem q1526 : (Jvm.Cond.methodLink "SendTheBoxLaw" (17 : Nat) ({ cls := "SendTheBoxModel", name := "row", desc := "(III)I" } : Jvm.MethodName)) ∈ lw_all := lw_g (lw_at lw_m7 18 rfl) rfl
theorem q1540 : (Jvm.Cond.methodLink "SendTheBoxLaw" (24 : Nat) ({ cls := "SendTheBoxModel", name := "set", desc := "(IIJ)I" } : Jvm.MethodName)) ∈ lw_all := lw_g (lw_at lw_m7 32 rfl) rfl
theorem q1547 : (Jvm.Cond.methodLink "SendTheBoxLaw" (29 : Nat) ({ cls := "SendTheBoxModel", name := "copy", desc := "(IIIII)I" } : Jvm.MethodName)) ∈ lw_all := lw_g (lw_at lw_m7 39 rfl) rfl
theorem q1551 : (Jvm.Cond.methodLink "SendTheBoxLaw" (34 : Nat) ({ cls := "SendTheBoxModel", name := "element", desc := "(II)J" } : Jvm.MethodName)) ∈ lw_all := lw_g (lw_at lw_m7 43 rfl) rfl
theorem q1555 : (Jvm.Cond.methodLink "SendTheBoxLaw" (39 : Nat) ({ cls := "SendTheBoxModel", name := "holds", desc := "(I)I" } : Jvm.MethodName)) ∈ lw_all := lw_g (lw_at lw_m7 47 rfl) rfl
theorem q1559 : (Jvm.Cond.methodLink "SendTheBoxLaw" (43 : Nat) ({ cls := "SendTheBoxModel", name := "rule", desc := "(III)I" } : Jvm.MethodName)) ∈ lw_all := lw_g (lw_at lw_m7 51 rfl) rfl
theorem q1569 : (Jvm.Cond.methodLink "SendTheBoxLaw" (48 : Nat) ({ cls := "SendTheBoxModel", name := "says", desc := "(II)I" } : Jvm.MethodName)) ∈ lw_all := lw_g (lw_at lw_m7 61 rfl) rfl
theorem q1573 : (Jvm.Cond.methodLink "SendTheBoxLaw" (52 : Nat) ({ cls := "SendTheBoxModel", name := "feed", desc := "(II)I" } : Jvm.MethodName)) ∈ lw_all := lw_g (lw_at lw_m7 65 rfl) rfl
theorem q1577 : (Jvm.Cond.methodLink "SendTheBoxLaw" (57 : Nat) ({ cls := "SendTheBoxModel", name := "wipe", desc := "()I" } : Jvm.MethodName)) ∈ lw_all := lw_g (lw_at lw_m7 69 rfl) rfl
theorem q1581 : (Jvm.Cond.methodLink "SendTheBoxLaw" (61 : Nat) ({ cls := "SendTheBoxModel", name := "house", desc := "()I" } : Jvm.MethodName)) ∈ lw_all := lw_g (lw_at lw_m7 73 rfl) rfl
theorem q1650 : (Jvm.Cond.methodLink "SendTheBoxLaw" (65 : Nat) ({ cls := "SendTheBoxModel", name := "houseOf", desc := "(II)I" } : Jvm.MethodName)) ∈ lw_all := lw_g (lw_at lw_m7 142 rfl) rfl
theorem q1658 : (Jvm.Cond.methodLink "SendTheBoxLaw" (69 : Nat) ({ cls := "SendTheBoxModel", name := "sortOf", desc := "(III)I" } : Jvm.MethodName)) ∈ lw_all := lw_g (lw_at lw_m7 150 rfl) rfl
theorem q1666 : (Jvm.Cond.methodLink "SendTheBoxLaw" (73 : Nat) ({ cls := "SendTheBoxModel", name := "alter", desc := "(III)I" } : Jvm.MethodName)) ∈ lw_all := lw_g (lw_at lw_m7 158 rfl) rfl
theorem q1673 : (Jvm.Cond.methodLink "SendTheBoxLaw" (78 : Nat) ({ cls := "SendTheBoxModel", name := "change", desc := "(IIII)I" } : Jvm.MethodName)) ∈ lw_all := lw_g (lw_at lw_m7 165 rfl) rfl
theorem q1678 : (Jvm.Cond.methodLink "SendTheBoxLaw" (82 : Nat) ({ cls := "SendTheBoxModel", name := "of", desc := "(II)I" } : Jvm.MethodName)) ∈ lw_all := lw_g (lw_at lw_m7 170 rfl) rfl
theorem q1689 : (Jvm.Cond.methodLink "SendTheBoxLaw" (86 : Nat) ({ cls := "SendTheBoxModel", name := "space", desc := "(II)I" } : Jvm.MethodName)) ∈ lw_all := lw_g (lw_at lw_m7 181 rfl) rfl
theorem q1709 : (Jvm.Cond.methodLink "SendTheBoxLaw" (90 : Nat) ({ cls := "SendTheBoxModel", name := "scale", desc := "(II)J" } : Jvm.MethodName)) ∈ lw_all := lw_g (lw_at lw_m7 201 rfl) rfl
theorem q1721 : (Jvm.Cond.methodLink "SendTheBoxLaw" (103 : Nat) ({ cls := "SendTheBoxModel", name := "fill", desc := "(II)I" } : Jvm.MethodName)) ∈ lw_all := lw_g (lw_at lw_m7 213 rfl) rfl
theorem q1729 : (Jvm.Cond.methodLink "SendTheBoxLaw" (95 : Nat) ({ cls := "SendTheBoxModel", name := "cost", desc := "(III)J" } : Jvm.MethodName)) ∈ lw_all := lw_g (lw_at lw_m7 221 rfl) rfl
theorem q1753 : (Jvm.Cond.methodLink "SendTheBoxLaw" (99 : Nat) ({ cls := "SendTheBoxModel", name := "best", desc := "(III)I" } : Jvm.MethodName)) ∈ lw_all := lw_g (lw_at lw_m8 5 rfl) rfl
theorem q1757 : (Jvm.Cond.methodLink "SendTheBoxLaw" (107 : Nat) ({ cls := "SendTheBoxModel", name := "load", desc := "(IIII)I" } : Jvm.MethodName)) ∈ lw_all := lw_g (lw_at lw_m8 9 rfl) rfl
theorem q1773 : (Jvm.Cond.methodLink "SendTheBoxLaw" (112 : Nat) ({ cls := "SendTheBoxModel", name := "mean", desc := "(IIII)J" } : Jvm.MethodName)) ∈ lw_all := lw_g (lw_at lw_m8 25 rfl) rfl
theorem q1789 : (Jvm.Cond.methodLink "SendTheBoxLaw" (116 : Nat) ({ cls := "SendTheBoxModel", name := "lose", desc := "(IIII)J" } : Jvm.MethodName)) ∈ lw_all := lw_g (lw_at lw_m8 41 rfl) rfl
theorem q1793 : (Jvm.Cond.methodLink "SendTheBoxLaw" (120 : Nat) ({ cls := "SendTheBoxModel", name := "boy", desc := "(I)I" } : Jvm.MethodName)) ∈ lw_all := lw_g (lw_at lw_m8 45 rfl) rfl
theorem q1797 : (Jvm.Cond.methodLink "SendTheBoxLaw" (124 : Nat) ({ cls := "SendTheBoxModel", name := "waits", desc := "(III)J" } : Jvm.MethodName)) ∈ lw_all := lw_g (lw_at lw_m8 49 rfl) rfl
theorem q1801 : (Jvm.Cond.methodLink "SendTheBoxLaw" (128 : Nat) ({ cls := "SendTheBoxModel", name := "once", desc := "(III)J" } : Jvm.MethodName)) ∈ lw_all := lw_g (lw_at lw_m8 53 rfl) rfl
theorem q1809 : (Jvm.Cond.methodLink "SendTheBoxLaw" (136 : Nat) ({ cls := "SendTheBoxModel", name := "chance", desc := "(IIII)J" } : Jvm.MethodName)) ∈ lw_all := lw_g (lw_at lw_m8 61 rfl) rfl
theorem q1821 : (Jvm.Cond.methodLink "SendTheBoxLaw" (140 : Nat) ({ cls := "SendTheBoxModel", name := "reach", desc := "(III)I" } : Jvm.MethodName)) ∈ lw_all := lw_g (lw_at lw_m8 73 rfl) rfl
theorem q1825 : (Jvm.Cond.methodLink "SendTheBoxLaw" (144 : Nat) ({ cls := "SendTheBoxModel", name := "held", desc := "(III)J" } : Jvm.MethodName)) ∈ lw_all := lw_g (lw_at lw_m8 77 rfl) rfl
theorem q1833 : (Jvm.Cond.methodLink "SendTheBoxLaw" (148 : Nat) ({ cls := "SendTheBoxModel", name := "boxes", desc := "(II)J" } : Jvm.MethodName)) ∈ lw_all := lw_g (lw_at lw_m8 85 rfl) rfl
theorem q1837 : (Jvm.Cond.methodLink "SendTheBoxLaw" (152 : Nat) ({ cls := "SendTheBoxModel", name := "plain", desc := "(I)I" } : Jvm.MethodName)) ∈ lw_all := lw_g (lw_at lw_m8 89 rfl) rfl
theorem q1849 : (Jvm.Cond.methodLink "SendTheBoxLaw" (156 : Nat) ({ cls := "SendTheBoxModel", name := "every", desc := "(I)I" } : Jvm.MethodName)) ∈ lw_all := lw_g (lw_at lw_m8 101 rfl) rfl
theorem q1853 : (Jvm.Cond.methodLink "SendTheBoxLaw" (160 : Nat) ({ cls := "SendTheBoxModel", name := "promise", desc := "(II)J" } : Jvm.MethodName)) ∈ lw_all := lw_g (lw_at lw_m8 105 rfl) rfl
theorem q1857 : (Jvm.Cond.methodLink "SendTheBoxLaw" (132 : Nat) ({ cls := "SendTheBoxModel", name := "dear", desc := "(IIII)J" } : Jvm.MethodName)) ∈ lw_all := lw_g (lw_at lw_m8 109 rfl) rfl
theorem q1861 : (Jvm.Cond.methodLink "SendTheBoxLaw" (164 : Nat) ({ cls := "SendTheBoxModel", name := "shape", desc := "(II)I" } : Jvm.MethodName)) ∈ lw_all := lw_g (lw_at lw_m8 113 rfl) rfl
theorem q1869 : (Jvm.Cond.methodLink "SendTheBoxLaw" (168 : Nat) ({ cls := "SendTheBoxModel", name := "odd", desc := "(II)I" } : Jvm.MethodName)) ∈ lw_all := lw_g (lw_at lw_m8 121 rfl) rfl
theorem q1873 : (Jvm.Cond.methodLink "SendTheBoxLaw" (172 : Nat) ({ cls := "SendTheBoxModel", name := "judge", desc := "(III)I" } : Jvm.MethodName)) ∈ lw_all := lw_g (lw_at lw_m8 125 rfl) rfl
theorem q1877 : (Jvm.Cond.methodLink "SendTheBoxLaw" (176 : Nat) ({ cls := "SendTheBoxModel", name := "join", desc := "(II)I" } : Jvm.MethodName)) ∈ lw_all := lw_g (lw_at lw_m8 129 rfl) rfl
theorem q1889 : (Jvm.Cond.methodLink "SendTheBoxLaw" (180 : Nat) ({ cls := "SendTheBoxModel", name := "saved", desc := "(II)J" } : Jvm.MethodName)) ∈ lw_all := lw_g (lw_at lw_m8 141 rfl) rfl
theorem q1897 : (Jvm.Cond.methodLink "SendTheBoxLaw" (184 : Nat) ({ cls := "SendTheBoxModel", name := "seed", desc := "(I)I" } : Jvm.MethodName)) ∈ lw_all := lw_g (lw_at lw_m8 149 rfl) rfl
theorem q1901 : (Jvm.Cond.methodLink "SendTheBoxLaw" (188 : Nat) ({ cls := "SendTheBoxModel", name := "begin", desc := "(II)I" } : Jvm.MethodName)) ∈ lw_all := lw_g (lw_at lw_m8 153 rfl) rfl
theorem q1905 : (Jvm.Cond.methodLink "SendTheBoxLaw" (192 : Nat) ({ cls := "SendTheBoxModel", name := "step", desc := "(I)I" } : Jvm.MethodName)) ∈ lw_all := lw_g (lw_at lw_m8 157 rfl) rfl
theorem q1918 : (Jvm.Cond.methodLink "SendTheBoxLaw" (196 : Nat) ({ cls := "SendTheBoxModel", name := "week", desc := "(I)I" } : Jvm.MethodName)) ∈ lw_all := lw_g (lw_at lw_m8 170 rfl) rfl
theorem q1922 : (Jvm.Cond.methodLink "SendTheBoxLaw" (200 : Nat) ({ cls := "SendTheBoxModel", name := "weeks", desc := "(III)I" } : Jvm.MethodName)) ∈ lw_all := lw_g (lw_at lw_m8 174 rfl) rfl
theorem q1927 : (Jvm.Cond.methodLink "SendTheBoxLaw" (204 : Nat) ({ cls := "SendTheBoxModel", name := "image", desc := "()I" } : Jvm.MethodName)) ∈ lw_all := lw_g (lw_at lw_m8 179 rfl) rfl
theorem q1937 : (Jvm.Cond.methodLink "SendTheBoxLaw" (208 : Nat) ({ cls := "SendTheBoxModel", name := "back", desc := "()I" } : Jvm.MethodName)) ∈ lw_all := lw_g (lw_at lw_m8 189 rfl) rfl
theorem q1941 : (Jvm.Cond.methodLink "SendTheBoxLaw" (212 : Nat) ({ cls := "SendTheBoxModel", name := "status", desc := "(I)I" } : Jvm.MethodName)) ∈ lw_all := lw_g (lw_at lw_m8 193 rfl) rfl
theorem q1947 : (Jvm.Cond.constantLong "SendTheBoxLaw" (18 : Nat) (4294967295 : Int64)) ∈ lw_all := lw_g (lw_at lw_m8 199 rfl) rfl

theorem q1119 : (Jvm.Cond.interfaceMethod "SendTheBox$Chooser" "SendTheBox$Chooser" "load" "(LSendTheBox$House;II)I") ∈ lw_tbl := lw_at lw_m5 91 rfl
set_option maxRecDepth 100000
theorem q1120 : (Jvm.Cond.declares ({ cls := "SendTheBox$Chooser", name := "load", desc := "(LSendTheBox$House;II)I" } : Jvm.MethodName)) ∈ lw_tbl := lw_at lw_m5 92 rfl

theorem q478 : (Jvm.Cond.sameMethod "[B" "java/lang/Object" "clone" "()Ljava/lang/Object;") ∈ lw_all := lw_g (lw_at lw_m2 170 rfl) rfl
set_option maxRecDepth 100000
theorem q481 : (Jvm.Cond.selects "[B" ({ cls := "[B", name := "clone", desc := "()Ljava/lang/Object;" } : Jvm.MethodName) ({ cls := "java/lang/Object", name := "clone", desc := "()Ljava/lang/Object;" } : Jvm.MethodName)) ∈ lw_all := lw_g (lw_at lw_m2 173 rfl) rfl
theorem q482 : (Jvm.Cond.castable "[B" "java/lang/Cloneable") ∈ lw_tbl := lw_at lw_m2 174 rfl

theorem q488 : (Jvm.Cond.sameMethod "[I" "java/lang/Object" "clone" "()Ljava/lang/Object;") ∈ lw_all := lw_g (lw_at lw_m2 180 rfl) rfl
set_option maxRecDepth 100000
theorem q489 : (Jvm.Cond.selects "[I" ({ cls := "[I", name := "clone", desc := "()Ljava/lang/Object;" } : Jvm.MethodName) ({ cls := "java/lang/Object", name := "clone", desc := "()Ljava/lang/Object;" } : Jvm.MethodName)) ∈ lw_all := lw_g (lw_at lw_m2 181 rfl) rfl
theorem q490 : (Jvm.Cond.castable "[I" "java/lang/Cloneable") ∈ lw_tbl := lw_at lw_m2 182 rfl

theorem q492 : (Jvm.Cond.sameMethod "[J" "java/lang/Object" "clone" "()Ljava/lang/Object;") ∈ lw_all := lw_g (lw_at lw_m2 184 rfl) rfl
set_option maxRecDepth 100000
theorem q493 : (Jvm.Cond.selects "[J" ({ cls := "[J", name := "clone", desc := "()Ljava/lang/Object;" } : Jvm.MethodName) ({ cls := "java/lang/Object", name := "clone", desc := "()Ljava/lang/Object;" } : Jvm.MethodName)) ∈ lw_all := lw_g (lw_at lw_m2 185 rfl) rfl
theorem q494 : (Jvm.Cond.castable "[J" "java/lang/Cloneable") ∈ lw_tbl := lw_at lw_m2 186 rfl

theorem q484 : (Jvm.Cond.sameMethod "[S" "java/lang/Object" "clone" "()Ljava/lang/Object;") ∈ lw_all := lw_g (lw_at lw_m2 176 rfl) rfl
set_option maxRecDepth 100000
theorem q485 : (Jvm.Cond.selects "[S" ({ cls := "[S", name := "clone", desc := "()Ljava/lang/Object;" } : Jvm.MethodName) ({ cls := "java/lang/Object", name := "clone", desc := "()Ljava/lang/Object;" } : Jvm.MethodName)) ∈ lw_all := lw_g (lw_at lw_m2 177 rfl) rfl
theorem q486 : (Jvm.Cond.castable "[S" "java/lang/Cloneable") ∈ lw_tbl := lw_at lw_m2 178 rfl

theorem q496 : (Jvm.Cond.sameMethod "[Z" "java/lang/Object" "clone" "()Ljava/lang/Object;") ∈ lw_all := lw_g (lw_at lw_m2 188 rfl) rfl
set_option maxRecDepth 100000
theorem q497 : (Jvm.Cond.selects "[Z" ({ cls := "[Z", name := "clone", desc := "()Ljava/lang/Object;" } : Jvm.MethodName) ({ cls := "java/lang/Object", name := "clone", desc := "()Ljava/lang/Object;" } : Jvm.MethodName)) ∈ lw_all := lw_g (lw_at lw_m2 189 rfl) rfl
theorem q498 : (Jvm.Cond.castable "[Z" "java/lang/Cloneable") ∈ lw_tbl := lw_at lw_m2 190 rfl

theorem q83 : (Jvm.Cond.initialized "java/lang/System") ∈ lw_all := lw_g (lw_at lw_m1 15 rfl) rfl
set_option maxRecDepth 100000
theorem q386 : (Jvm.Cond.static ({ cls := "java/lang/System", name := "arraycopy", desc := "(Ljava/lang/Object;ILjava/lang/Object;II)V" } : Jvm.MethodName)) ∈ lw_all := lw_g (lw_at lw_m2 78 rfl) rfl
theorem q387 : (Jvm.Cond.native ({ cls := "java/lang/System", name := "arraycopy", desc := "(Ljava/lang/Object;ILjava/lang/Object;II)V" } : Jvm.MethodName)) ∈ lw_all := lw_g (lw_at lw_m2 79 rfl) rfl

theorem q118 : (Jvm.Cond.arrayOver (Jvm.ClassFile.FieldType.object "SendTheBox$House")) ∈ lw_tbl := lw_at lw_m1 50 rfl
set_option maxRecDepth 100000
theorem q137 : (Jvm.Cond.arrayOver (Jvm.ClassFile.FieldType.object "SendTheBox$Sheet")) ∈ lw_tbl := lw_at lw_m1 69 rfl
theorem q147 : (Jvm.Cond.arrayClass Jvm.ClassFile.FieldType.int) ∈ lw_all := lw_g (lw_at lw_m1 79 rfl) rfl
theorem q254 : (Jvm.Cond.arrayClass Jvm.ClassFile.FieldType.byte) ∈ lw_all := lw_g (lw_at lw_m1 186 rfl) rfl
theorem q272 : (Jvm.Cond.arrayClass Jvm.ClassFile.FieldType.short) ∈ lw_all := lw_g (lw_at lw_m1 204 rfl) rfl
theorem q273 : (Jvm.Cond.arrayClass Jvm.ClassFile.FieldType.long) ∈ lw_all := lw_g (lw_at lw_m1 205 rfl) rfl
theorem q274 : (Jvm.Cond.arrayClass Jvm.ClassFile.FieldType.boolean) ∈ lw_all := lw_g (lw_at lw_m1 206 rfl) rfl
theorem q1384 : (Jvm.Cond.arrayOver (Jvm.ClassFile.FieldType.array Jvm.ClassFile.FieldType.long)) ∈ lw_tbl := lw_at lw_m6 116 rfl
theorem q1386 : (Jvm.Cond.arrayOver (Jvm.ClassFile.FieldType.array Jvm.ClassFile.FieldType.int)) ∈ lw_tbl := lw_at lw_m6 118 rfl
