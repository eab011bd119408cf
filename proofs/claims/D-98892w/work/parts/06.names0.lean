theorem q123 : (Jvm.Cond.initialized "ShaveOfAnotherLaw") ∈ lw_all := lw_g (lw_at lw_m1 0 rfl) rfl
set_option maxRecDepth 100000
theorem q158 : (Jvm.Cond.classLink "ShaveOfAnotherLaw" (7 : Nat) "ShaveOfAnother") ∈ lw_all := lw_g (lw_at lw_m1 35 rfl) rfl
theorem q160 : (Jvm.Cond.methodLink "ShaveOfAnotherLaw" (9 : Nat) ({ cls := "ShaveOfAnother", name := "<init>", desc := "()V" } : Jvm.MethodName)) ∈ lw_all := lw_g (lw_at lw_m1 37 rfl) rfl
theorem q292 : (Jvm.Cond.methodLink "ShaveOfAnotherLaw" (13 : Nat) ({ cls := "ShaveOfAnother", name := "person", desc := "(II)I" } : Jvm.MethodName)) ∈ lw_all := lw_g (lw_at lw_m1 169 rfl) rfl
theorem q303 : (Jvm.Cond.methodLink "ShaveOfAnotherLaw" (18 : Nat) ({ cls := "ShaveOfAnother", name := "other", desc := "(II)Z" } : Jvm.MethodName)) ∈ lw_all := lw_g (lw_at lw_m1 180 rfl) rfl
theorem q310 : (Jvm.Cond.methodLink "ShaveOfAnotherLaw" (23 : Nat) ({ cls := "ShaveOfAnother", name := "feed", desc := "(IIIII)I" } : Jvm.MethodName)) ∈ lw_all := lw_g (lw_at lw_m1 187 rfl) rfl
theorem q318 : (Jvm.Cond.methodLink "ShaveOfAnotherLaw" (28 : Nat) ({ cls := "ShaveOfAnother", name := "end", desc := "(I)I" } : Jvm.MethodName)) ∈ lw_all := lw_g (lw_at lw_m1 195 rfl) rfl
theorem q322 : (Jvm.Cond.methodLink "ShaveOfAnotherLaw" (33 : Nat) ({ cls := "ShaveOfAnother", name := "text", desc := "()I" } : Jvm.MethodName)) ∈ lw_all := lw_g (lw_at lw_m1 199 rfl) rfl
theorem q864 : (Jvm.Cond.methodLink "ShaveOfAnotherLaw" (38 : Nat) ({ cls := "ShaveOfAnother", name := "fault", desc := "(I)I" } : Jvm.MethodName)) ∈ lw_all := lw_g (lw_at lw_m4 21 rfl) rfl
theorem q868 : (Jvm.Cond.methodLink "ShaveOfAnotherLaw" (42 : Nat) ({ cls := "ShaveOfAnother", name := "by", desc := "(I)Z" } : Jvm.MethodName)) ∈ lw_all := lw_g (lw_at lw_m4 25 rfl) rfl
theorem q876 : (Jvm.Cond.methodLink "ShaveOfAnotherLaw" (47 : Nat) ({ cls := "ShaveOfAnother", name := "shave", desc := "(I)I" } : Jvm.MethodName)) ∈ lw_all := lw_g (lw_at lw_m4 33 rfl) rfl
theorem q1028 : (Jvm.Cond.methodLink "ShaveOfAnotherLaw" (51 : Nat) ({ cls := "ShaveOfAnother", name := "calm", desc := "(I)Z" } : Jvm.MethodName)) ∈ lw_all := lw_g (lw_at lw_m4 185 rfl) rfl
theorem q1036 : (Jvm.Cond.methodLink "ShaveOfAnotherLaw" (55 : Nat) ({ cls := "ShaveOfAnother", name := "day", desc := "(I)I" } : Jvm.MethodName)) ∈ lw_all := lw_g (lw_at lw_m4 193 rfl) rfl
theorem q1048 : (Jvm.Cond.methodLink "ShaveOfAnotherLaw" (59 : Nat) ({ cls := "ShaveOfAnother", name := "played", desc := "(I)I" } : Jvm.MethodName)) ∈ lw_all := lw_g (lw_at lw_m4 205 rfl) rfl
theorem q1084 : (Jvm.Cond.methodLink "ShaveOfAnotherLaw" (63 : Nat) ({ cls := "ShaveOfAnother", name := "years", desc := "(II)I" } : Jvm.MethodName)) ∈ lw_all := lw_g (lw_at lw_m5 1 rfl) rfl
theorem q1088 : (Jvm.Cond.methodLink "ShaveOfAnotherLaw" (67 : Nat) ({ cls := "ShaveOfAnother", name := "undo", desc := "()I" } : Jvm.MethodName)) ∈ lw_all := lw_g (lw_at lw_m5 5 rfl) rfl
theorem q1093 : (Jvm.Cond.methodLink "ShaveOfAnotherLaw" (71 : Nat) ({ cls := "ShaveOfAnother", name := "of", desc := "(II)I" } : Jvm.MethodName)) ∈ lw_all := lw_g (lw_at lw_m5 10 rfl) rfl
theorem q1097 : (Jvm.Cond.methodLink "ShaveOfAnotherLaw" (75 : Nat) ({ cls := "ShaveOfAnother", name := "told", desc := "(I)I" } : Jvm.MethodName)) ∈ lw_all := lw_g (lw_at lw_m5 14 rfl) rfl
theorem q1101 : (Jvm.Cond.methodLink "ShaveOfAnotherLaw" (79 : Nat) ({ cls := "ShaveOfAnother", name := "is", desc := "(I)I" } : Jvm.MethodName)) ∈ lw_all := lw_g (lw_at lw_m5 18 rfl) rfl
theorem q1105 : (Jvm.Cond.methodLink "ShaveOfAnotherLaw" (83 : Nat) ({ cls := "ShaveOfAnother", name := "book", desc := "(II)I" } : Jvm.MethodName)) ∈ lw_all := lw_g (lw_at lw_m5 22 rfl) rfl
theorem q1109 : (Jvm.Cond.methodLink "ShaveOfAnotherLaw" (87 : Nat) ({ cls := "ShaveOfAnother", name := "foretold", desc := "(II)I" } : Jvm.MethodName)) ∈ lw_all := lw_g (lw_at lw_m5 26 rfl) rfl
theorem q1116 : (Jvm.Cond.methodLink "ShaveOfAnotherLaw" (93 : Nat) ({ cls := "ShaveOfAnother", name := "after", desc := "(IJ)I" } : Jvm.MethodName)) ∈ lw_all := lw_g (lw_at lw_m5 33 rfl) rfl
theorem q1125 : (Jvm.Cond.methodLink "ShaveOfAnotherLaw" (98 : Nat) ({ cls := "ShaveOfAnother", name := "ring", desc := "(II)I" } : Jvm.MethodName)) ∈ lw_all := lw_g (lw_at lw_m5 42 rfl) rfl
theorem q1143 : (Jvm.Cond.methodLink "ShaveOfAnotherLaw" (111 : Nat) ({ cls := "ShaveOfAnother", name := "meet", desc := "(II)I" } : Jvm.MethodName)) ∈ lw_all := lw_g (lw_at lw_m5 60 rfl) rfl
theorem q1147 : (Jvm.Cond.methodLink "ShaveOfAnotherLaw" (115 : Nat) ({ cls := "ShaveOfAnother", name := "outermost", desc := "()I" } : Jvm.MethodName)) ∈ lw_all := lw_g (lw_at lw_m5 64 rfl) rfl
theorem q1151 : (Jvm.Cond.methodLink "ShaveOfAnotherLaw" (102 : Nat) ({ cls := "ShaveOfAnother", name := "rounds", desc := "()J" } : Jvm.MethodName)) ∈ lw_all := lw_g (lw_at lw_m5 68 rfl) rfl
theorem q1158 : (Jvm.Cond.methodLink "ShaveOfAnotherLaw" (107 : Nat) ({ cls := "ShaveOfAnother", name := "done", desc := "(I)I" } : Jvm.MethodName)) ∈ lw_all := lw_g (lw_at lw_m5 75 rfl) rfl
theorem q1162 : (Jvm.Cond.methodLink "ShaveOfAnotherLaw" (119 : Nat) ({ cls := "ShaveOfAnother", name := "mirrors", desc := "()I" } : Jvm.MethodName)) ∈ lw_all := lw_g (lw_at lw_m5 79 rfl) rfl
theorem q1179 : (Jvm.Cond.methodLink "ShaveOfAnotherLaw" (123 : Nat) ({ cls := "ShaveOfAnother", name := "sham", desc := "(I)I" } : Jvm.MethodName)) ∈ lw_all := lw_g (lw_at lw_m5 96 rfl) rfl
theorem q1191 : (Jvm.Cond.methodLink "ShaveOfAnotherLaw" (127 : Nat) ({ cls := "ShaveOfAnother", name := "shams", desc := "()I" } : Jvm.MethodName)) ∈ lw_all := lw_g (lw_at lw_m5 108 rfl) rfl
theorem q1195 : (Jvm.Cond.methodLink "ShaveOfAnotherLaw" (131 : Nat) ({ cls := "ShaveOfAnother", name := "till", desc := "(II)I" } : Jvm.MethodName)) ∈ lw_all := lw_g (lw_at lw_m5 112 rfl) rfl
theorem q1199 : (Jvm.Cond.methodLink "ShaveOfAnotherLaw" (135 : Nat) ({ cls := "ShaveOfAnother", name := "need", desc := "(II)Z" } : Jvm.MethodName)) ∈ lw_all := lw_g (lw_at lw_m5 116 rfl) rfl
theorem q1203 : (Jvm.Cond.methodLink "ShaveOfAnotherLaw" (139 : Nat) ({ cls := "ShaveOfAnother", name := "booking", desc := "(I)I" } : Jvm.MethodName)) ∈ lw_all := lw_g (lw_at lw_m5 120 rfl) rfl
theorem q1219 : (Jvm.Cond.methodLink "ShaveOfAnotherLaw" (143 : Nat) ({ cls := "ShaveOfAnother", name := "seen", desc := "(II)I" } : Jvm.MethodName)) ∈ lw_all := lw_g (lw_at lw_m5 136 rfl) rfl
theorem q1231 : (Jvm.Cond.methodLink "ShaveOfAnotherLaw" (147 : Nat) ({ cls := "ShaveOfAnother", name := "fits", desc := "(I)I" } : Jvm.MethodName)) ∈ lw_all := lw_g (lw_at lw_m5 148 rfl) rfl
theorem q1247 : (Jvm.Cond.methodLink "ShaveOfAnotherLaw" (151 : Nat) ({ cls := "ShaveOfAnother", name := "whose", desc := "(II)I" } : Jvm.MethodName)) ∈ lw_all := lw_g (lw_at lw_m5 164 rfl) rfl
theorem q1251 : (Jvm.Cond.methodLink "ShaveOfAnotherLaw" (155 : Nat) ({ cls := "ShaveOfAnother", name := "next", desc := "(I)I" } : Jvm.MethodName)) ∈ lw_all := lw_g (lw_at lw_m5 168 rfl) rfl
theorem q1255 : (Jvm.Cond.methodLink "ShaveOfAnotherLaw" (159 : Nat) ({ cls := "ShaveOfAnother", name := "cut", desc := "(III)Z" } : Jvm.MethodName)) ∈ lw_all := lw_g (lw_at lw_m5 172 rfl) rfl
theorem q1259 : (Jvm.Cond.methodLink "ShaveOfAnotherLaw" (164 : Nat) ({ cls := "ShaveOfAnother", name := "pairs", desc := "(II)I" } : Jvm.MethodName)) ∈ lw_all := lw_g (lw_at lw_m5 176 rfl) rfl
theorem q1275 : (Jvm.Cond.methodLink "ShaveOfAnotherLaw" (168 : Nat) ({ cls := "ShaveOfAnother", name := "likes", desc := "(III)Z" } : Jvm.MethodName)) ∈ lw_all := lw_g (lw_at lw_m5 192 rfl) rfl
theorem q1279 : (Jvm.Cond.methodLink "ShaveOfAnotherLaw" (172 : Nat) ({ cls := "ShaveOfAnother", name := "traded", desc := "(II)I" } : Jvm.MethodName)) ∈ lw_all := lw_g (lw_at lw_m5 196 rfl) rfl
theorem q1295 : (Jvm.Cond.methodLink "ShaveOfAnotherLaw" (176 : Nat) ({ cls := "ShaveOfAnother", name := "rather", desc := "(I)I" } : Jvm.MethodName)) ∈ lw_all := lw_g (lw_at lw_m5 212 rfl) rfl
theorem q1299 : (Jvm.Cond.methodLink "ShaveOfAnotherLaw" (180 : Nat) ({ cls := "ShaveOfAnother", name := "slip", desc := "(II)Z" } : Jvm.MethodName)) ∈ lw_all := lw_g (lw_at lw_m5 216 rfl) rfl
theorem q1303 : (Jvm.Cond.methodLink "ShaveOfAnotherLaw" (184 : Nat) ({ cls := "ShaveOfAnother", name := "scars", desc := "(IIZ)J" } : Jvm.MethodName)) ∈ lw_all := lw_g (lw_at lw_m5 220 rfl) rfl
theorem q1316 : (Jvm.Cond.methodLink "ShaveOfAnotherLaw" (189 : Nat) ({ cls := "ShaveOfAnother", name := "rate", desc := "(II)I" } : Jvm.MethodName)) ∈ lw_all := lw_g (lw_at lw_m5 233 rfl) rfl
theorem q1320 : (Jvm.Cond.methodLink "ShaveOfAnotherLaw" (193 : Nat) ({ cls := "ShaveOfAnother", name := "law", desc := "()I" } : Jvm.MethodName)) ∈ lw_all := lw_g (lw_at lw_m5 237 rfl) rfl
theorem q1328 : (Jvm.Cond.methodLink "ShaveOfAnotherLaw" (197 : Nat) ({ cls := "ShaveOfAnother", name := "hairiest", desc := "()I" } : Jvm.MethodName)) ∈ lw_all := lw_g (lw_at lw_m6 5 rfl) rfl
theorem q1332 : (Jvm.Cond.methodLink "ShaveOfAnotherLaw" (201 : Nat) ({ cls := "ShaveOfAnother", name := "calmest", desc := "()I" } : Jvm.MethodName)) ∈ lw_all := lw_g (lw_at lw_m6 9 rfl) rfl
theorem q1336 : (Jvm.Cond.methodLink "ShaveOfAnotherLaw" (205 : Nat) ({ cls := "ShaveOfAnother", name := "smooth", desc := "()I" } : Jvm.MethodName)) ∈ lw_all := lw_g (lw_at lw_m6 13 rfl) rfl
theorem q1340 : (Jvm.Cond.methodLink "ShaveOfAnotherLaw" (209 : Nat) ({ cls := "ShaveOfAnother", name := "unscarred", desc := "()I" } : Jvm.MethodName)) ∈ lw_all := lw_g (lw_at lw_m6 17 rfl) rfl
theorem q1344 : (Jvm.Cond.methodLink "ShaveOfAnotherLaw" (213 : Nat) ({ cls := "ShaveOfAnother", name := "alone", desc := "()I" } : Jvm.MethodName)) ∈ lw_all := lw_g (lw_at lw_m6 21 rfl) rfl
theorem q1348 : (Jvm.Cond.methodLink "ShaveOfAnotherLaw" (217 : Nat) ({ cls := "ShaveOfAnother", name := "ledger", desc := "(I)I" } : Jvm.MethodName)) ∈ lw_all := lw_g (lw_at lw_m6 25 rfl) rfl
theorem q1352 : (Jvm.Cond.methodLink "ShaveOfAnotherLaw" (221 : Nat) ({ cls := "ShaveOfAnother", name := "image", desc := "()I" } : Jvm.MethodName)) ∈ lw_all := lw_g (lw_at lw_m6 29 rfl) rfl
theorem q1356 : (Jvm.Cond.methodLink "ShaveOfAnotherLaw" (225 : Nat) ({ cls := "ShaveOfAnother", name := "back", desc := "()I" } : Jvm.MethodName)) ∈ lw_all := lw_g (lw_at lw_m6 33 rfl) rfl
theorem q1360 : (Jvm.Cond.methodLink "ShaveOfAnotherLaw" (229 : Nat) ({ cls := "ShaveOfAnother", name := "about", desc := "(I)I" } : Jvm.MethodName)) ∈ lw_all := lw_g (lw_at lw_m6 37 rfl) rfl
theorem q1364 : (Jvm.Cond.classLink "ShaveOfAnotherLaw" (10 : Nat) "ShaveOfAnotherModel") ∈ lw_all := lw_g (lw_at lw_m6 41 rfl) rfl
theorem q1366 : (Jvm.Cond.methodLink "ShaveOfAnotherLaw" (12 : Nat) ({ cls := "ShaveOfAnotherModel", name := "<init>", desc := "()V" } : Jvm.MethodName)) ∈ lw_all := lw_g (lw_at lw_m6 43 rfl) rfl
theorem q1473 : (Jvm.Cond.methodLink "ShaveOfAnotherLaw" (17 : Nat) ({ cls := "ShaveOfAnotherModel", name := "person", desc := "(II)I" } : Jvm.MethodName)) ∈ lw_all := lw_g (lw_at lw_m6 150 rfl) rfl
theorem q1492 : (Jvm.Cond.methodLink "ShaveOfAnotherLaw" (22 : Nat) ({ cls := "ShaveOfAnotherModel", name := "other", desc := "(II)Z" } : Jvm.MethodName)) ∈ lw_all := lw_g (lw_at lw_m6 169 rfl) rfl
theorem q1499 : (Jvm.Cond.methodLink "ShaveOfAnotherLaw" (27 : Nat) ({ cls := "ShaveOfAnotherModel", name := "feed", desc := "(IIIII)I" } : Jvm.MethodName)) ∈ lw_all := lw_g (lw_at lw_m6 176 rfl) rfl
theorem q1507 : (Jvm.Cond.methodLink "ShaveOfAnotherLaw" (32 : Nat) ({ cls := "ShaveOfAnotherModel", name := "end", desc := "(I)I" } : Jvm.MethodName)) ∈ lw_all := lw_g (lw_at lw_m6 184 rfl) rfl
theorem q1511 : (Jvm.Cond.methodLink "ShaveOfAnotherLaw" (37 : Nat) ({ cls := "ShaveOfAnotherModel", name := "text", desc := "()I" } : Jvm.MethodName)) ∈ lw_all := lw_g (lw_at lw_m6 188 rfl) rfl
theorem q1655 : (Jvm.Cond.methodLink "ShaveOfAnotherLaw" (41 : Nat) ({ cls := "ShaveOfAnotherModel", name := "fault", desc := "(I)I" } : Jvm.MethodName)) ∈ lw_all := lw_g (lw_at lw_m7 92 rfl) rfl
theorem q1659 : (Jvm.Cond.methodLink "ShaveOfAnotherLaw" (46 : Nat) ({ cls := "ShaveOfAnotherModel", name := "by", desc := "(I)Z" } : Jvm.MethodName)) ∈ lw_all := lw_g (lw_at lw_m7 96 rfl) rfl
theorem q1663 : (Jvm.Cond.methodLink "ShaveOfAnotherLaw" (70 : Nat) ({ cls := "ShaveOfAnotherModel", name := "undo", desc := "()I" } : Jvm.MethodName)) ∈ lw_all := lw_g (lw_at lw_m7 100 rfl) rfl
theorem q1667 : (Jvm.Cond.methodLink "ShaveOfAnotherLaw" (50 : Nat) ({ cls := "ShaveOfAnotherModel", name := "shave", desc := "(I)I" } : Jvm.MethodName)) ∈ lw_all := lw_g (lw_at lw_m7 104 rfl) rfl
theorem q1757 : (Jvm.Cond.methodLink "ShaveOfAnotherLaw" (54 : Nat) ({ cls := "ShaveOfAnotherModel", name := "calm", desc := "(I)Z" } : Jvm.MethodName)) ∈ lw_all := lw_g (lw_at lw_m7 194 rfl) rfl
theorem q1765 : (Jvm.Cond.methodLink "ShaveOfAnotherLaw" (58 : Nat) ({ cls := "ShaveOfAnotherModel", name := "day", desc := "(I)I" } : Jvm.MethodName)) ∈ lw_all := lw_g (lw_at lw_m7 202 rfl) rfl
theorem q1781 : (Jvm.Cond.methodLink "ShaveOfAnotherLaw" (62 : Nat) ({ cls := "ShaveOfAnotherModel", name := "played", desc := "(I)I" } : Jvm.MethodName)) ∈ lw_all := lw_g (lw_at lw_m7 218 rfl) rfl
theorem q1793 : (Jvm.Cond.methodLink "ShaveOfAnotherLaw" (66 : Nat) ({ cls := "ShaveOfAnotherModel", name := "years", desc := "(II)I" } : Jvm.MethodName)) ∈ lw_all := lw_g (lw_at lw_m7 230 rfl) rfl
theorem q1801 : (Jvm.Cond.methodLink "ShaveOfAnotherLaw" (74 : Nat) ({ cls := "ShaveOfAnotherModel", name := "of", desc := "(II)I" } : Jvm.MethodName)) ∈ lw_all := lw_g (lw_at lw_m7 238 rfl) rfl
theorem q1805 : (Jvm.Cond.methodLink "ShaveOfAnotherLaw" (78 : Nat) ({ cls := "ShaveOfAnotherModel", name := "told", desc := "(I)I" } : Jvm.MethodName)) ∈ lw_all := lw_g (lw_at lw_m8 2 rfl) rfl
theorem q1809 : (Jvm.Cond.methodLink "ShaveOfAnotherLaw" (82 : Nat) ({ cls := "ShaveOfAnotherModel", name := "is", desc := "(I)I" } : Jvm.MethodName)) ∈ lw_all := lw_g (lw_at lw_m8 6 rfl) rfl
theorem q1813 : (Jvm.Cond.methodLink "ShaveOfAnotherLaw" (86 : Nat) ({ cls := "ShaveOfAnotherModel", name := "book", desc := "(II)I" } : Jvm.MethodName)) ∈ lw_all := lw_g (lw_at lw_m8 10 rfl) rfl
theorem q1821 : (Jvm.Cond.methodLink "ShaveOfAnotherLaw" (220 : Nat) ({ cls := "ShaveOfAnotherModel", name := "ledger", desc := "(I)I" } : Jvm.MethodName)) ∈ lw_all := lw_g (lw_at lw_m8 18 rfl) rfl
theorem q1825 : (Jvm.Cond.methodLink "ShaveOfAnotherLaw" (200 : Nat) ({ cls := "ShaveOfAnotherModel", name := "hairiest", desc := "()I" } : Jvm.MethodName)) ∈ lw_all := lw_g (lw_at lw_m8 22 rfl) rfl
theorem q1829 : (Jvm.Cond.methodLink "ShaveOfAnotherLaw" (204 : Nat) ({ cls := "ShaveOfAnotherModel", name := "calmest", desc := "()I" } : Jvm.MethodName)) ∈ lw_all := lw_g (lw_at lw_m8 26 rfl) rfl
theorem q1833 : (Jvm.Cond.methodLink "ShaveOfAnotherLaw" (208 : Nat) ({ cls := "ShaveOfAnotherModel", name := "smooth", desc := "()I" } : Jvm.MethodName)) ∈ lw_all := lw_g (lw_at lw_m8 30 rfl) rfl
theorem q1841 : (Jvm.Cond.methodLink "ShaveOfAnotherLaw" (212 : Nat) ({ cls := "ShaveOfAnotherModel", name := "unscarred", desc := "()I" } : Jvm.MethodName)) ∈ lw_all := lw_g (lw_at lw_m8 38 rfl) rfl
theorem q1845 : (Jvm.Cond.methodLink "ShaveOfAnotherLaw" (216 : Nat) ({ cls := "ShaveOfAnotherModel", name := "alone", desc := "()I" } : Jvm.MethodName)) ∈ lw_all := lw_g (lw_at lw_m8 42 rfl) rfl
theorem q1849 : (Jvm.Cond.methodLink "ShaveOfAnotherLaw" (90 : Nat) ({ cls := "ShaveOfAnotherModel", name := "foretold", desc := "(II)I" } : Jvm.MethodName)) ∈ lw_all := lw_g (lw_at lw_m8 46 rfl) rfl
theorem q1853 : (Jvm.Cond.methodLink "ShaveOfAnotherLaw" (97 : Nat) ({ cls := "ShaveOfAnotherModel", name := "after", desc := "(IJ)I" } : Jvm.MethodName)) ∈ lw_all := lw_g (lw_at lw_m8 50 rfl) rfl
theorem q1857 : (Jvm.Cond.methodLink "ShaveOfAnotherLaw" (101 : Nat) ({ cls := "ShaveOfAnotherModel", name := "ring", desc := "(II)I" } : Jvm.MethodName)) ∈ lw_all := lw_g (lw_at lw_m8 54 rfl) rfl
theorem q1872 : (Jvm.Cond.methodLink "ShaveOfAnotherLaw" (106 : Nat) ({ cls := "ShaveOfAnotherModel", name := "rounds", desc := "()J" } : Jvm.MethodName)) ∈ lw_all := lw_g (lw_at lw_m8 69 rfl) rfl
theorem q1879 : (Jvm.Cond.methodLink "ShaveOfAnotherLaw" (110 : Nat) ({ cls := "ShaveOfAnotherModel", name := "done", desc := "(I)I" } : Jvm.MethodName)) ∈ lw_all := lw_g (lw_at lw_m8 76 rfl) rfl
theorem q1883 : (Jvm.Cond.methodLink "ShaveOfAnotherLaw" (114 : Nat) ({ cls := "ShaveOfAnotherModel", name := "meet", desc := "(II)I" } : Jvm.MethodName)) ∈ lw_all := lw_g (lw_at lw_m8 80 rfl) rfl
theorem q1887 : (Jvm.Cond.methodLink "ShaveOfAnotherLaw" (118 : Nat) ({ cls := "ShaveOfAnotherModel", name := "outermost", desc := "()I" } : Jvm.MethodName)) ∈ lw_all := lw_g (lw_at lw_m8 84 rfl) rfl
theorem q1891 : (Jvm.Cond.methodLink "ShaveOfAnotherLaw" (122 : Nat) ({ cls := "ShaveOfAnotherModel", name := "mirrors", desc := "()I" } : Jvm.MethodName)) ∈ lw_all := lw_g (lw_at lw_m8 88 rfl) rfl
theorem q1907 : (Jvm.Cond.methodLink "ShaveOfAnotherLaw" (126 : Nat) ({ cls := "ShaveOfAnotherModel", name := "sham", desc := "(I)I" } : Jvm.MethodName)) ∈ lw_all := lw_g (lw_at lw_m8 104 rfl) rfl
theorem q1919 : (Jvm.Cond.methodLink "ShaveOfAnotherLaw" (130 : Nat) ({ cls := "ShaveOfAnotherModel", name := "shams", desc := "()I" } : Jvm.MethodName)) ∈ lw_all := lw_g (lw_at lw_m8 116 rfl) rfl
theorem q1923 : (Jvm.Cond.methodLink "ShaveOfAnotherLaw" (134 : Nat) ({ cls := "ShaveOfAnotherModel", name := "till", desc := "(II)I" } : Jvm.MethodName)) ∈ lw_all := lw_g (lw_at lw_m8 120 rfl) rfl
theorem q1927 : (Jvm.Cond.methodLink "ShaveOfAnotherLaw" (138 : Nat) ({ cls := "ShaveOfAnotherModel", name := "need", desc := "(II)Z" } : Jvm.MethodName)) ∈ lw_all := lw_g (lw_at lw_m8 124 rfl) rfl
theorem q1931 : (Jvm.Cond.methodLink "ShaveOfAnotherLaw" (142 : Nat) ({ cls := "ShaveOfAnotherModel", name := "booking", desc := "(I)I" } : Jvm.MethodName)) ∈ lw_all := lw_g (lw_at lw_m8 128 rfl) rfl
theorem q1950 : (Jvm.Cond.methodLink "ShaveOfAnotherLaw" (146 : Nat) ({ cls := "ShaveOfAnotherModel", name := "seen", desc := "(II)I" } : Jvm.MethodName)) ∈ lw_all := lw_g (lw_at lw_m8 147 rfl) rfl
theorem q1954 : (Jvm.Cond.methodLink "ShaveOfAnotherLaw" (150 : Nat) ({ cls := "ShaveOfAnotherModel", name := "fits", desc := "(I)I" } : Jvm.MethodName)) ∈ lw_all := lw_g (lw_at lw_m8 151 rfl) rfl
theorem q1969 : (Jvm.Cond.methodLink "ShaveOfAnotherLaw" (154 : Nat) ({ cls := "ShaveOfAnotherModel", name := "whose", desc := "(II)I" } : Jvm.MethodName)) ∈ lw_all := lw_g (lw_at lw_m8 166 rfl) rfl
theorem q1973 : (Jvm.Cond.methodLink "ShaveOfAnotherLaw" (158 : Nat) ({ cls := "ShaveOfAnotherModel", name := "next", desc := "(I)I" } : Jvm.MethodName)) ∈ lw_all := lw_g (lw_at lw_m8 170 rfl) rfl
theorem q1977 : (Jvm.Cond.methodLink "ShaveOfAnotherLaw" (163 : Nat) ({ cls := "ShaveOfAnotherModel", name := "cut", desc := "(III)Z" } : Jvm.MethodName)) ∈ lw_all := lw_g (lw_at lw_m8 174 rfl) rfl
theorem q1981 : (Jvm.Cond.methodLink "ShaveOfAnotherLaw" (167 : Nat) ({ cls := "ShaveOfAnotherModel", name := "pairs", desc := "(II)I" } : Jvm.MethodName)) ∈ lw_all := lw_g (lw_at lw_m8 178 rfl) rfl
theorem q1992 : (Jvm.Cond.methodLink "ShaveOfAnotherLaw" (171 : Nat) ({ cls := "ShaveOfAnotherModel", name := "likes", desc := "(III)Z" } : Jvm.MethodName)) ∈ lw_all := lw_g (lw_at lw_m8 189 rfl) rfl
theorem q1996 : (Jvm.Cond.methodLink "ShaveOfAnotherLaw" (175 : Nat) ({ cls := "ShaveOfAnotherModel", name := "traded", desc := "(II)I" } : Jvm.MethodName)) ∈ lw_all := lw_g (lw_at lw_m8 193 rfl) rfl
theorem q2008 : (Jvm.Cond.methodLink "ShaveOfAnotherLaw" (179 : Nat) ({ cls := "ShaveOfAnotherModel", name := "rather", desc := "(I)I" } : Jvm.MethodName)) ∈ lw_all := lw_g (lw_at lw_m8 205 rfl) rfl
theorem q2012 : (Jvm.Cond.methodLink "ShaveOfAnotherLaw" (183 : Nat) ({ cls := "ShaveOfAnotherModel", name := "slip", desc := "(II)Z" } : Jvm.MethodName)) ∈ lw_all := lw_g (lw_at lw_m8 209 rfl) rfl
theorem q2016 : (Jvm.Cond.methodLink "ShaveOfAnotherLaw" (188 : Nat) ({ cls := "ShaveOfAnotherModel", name := "scars", desc := "(IIZ)J" } : Jvm.MethodName)) ∈ lw_all := lw_g (lw_at lw_m8 213 rfl) rfl
theorem q2022 : (Jvm.Cond.methodLink "ShaveOfAnotherLaw" (192 : Nat) ({ cls := "ShaveOfAnotherModel", name := "rate", desc := "(II)I" } : Jvm.MethodName)) ∈ lw_all := lw_g (lw_at lw_m8 219 rfl) rfl
theorem q2026 : (Jvm.Cond.methodLink "ShaveOfAnotherLaw" (196 : Nat) ({ cls := "ShaveOfAnotherModel", name := "law", desc := "()I" } : Jvm.MethodName)) ∈ lw_all := lw_g (lw_at lw_m8 223 rfl) rfl
theorem q2030 : (Jvm.Cond.methodLink "ShaveOfAnotherLaw" (224 : Nat) ({ cls := "ShaveOfAnotherModel", name := "image", desc := "()I" } : Jvm.MethodName)) ∈ lw_all := lw_g (lw_at lw_m8 227 rfl) rfl
theorem q2034 : (Jvm.Cond.methodLink "ShaveOfAnotherLaw" (228 : Nat) ({ cls := "ShaveOfAnotherModel", name := "back", desc := "()I" } : Jvm.MethodName)) ∈ lw_all := lw_g (lw_at lw_m8 231 rfl) rfl
theorem q2038 : (Jvm.Cond.methodLink "ShaveOfAnotherLaw" (232 : Nat) ({ cls := "ShaveOfAnotherModel", name := "about", desc := "(I)I" } : Jvm.MethodName)) ∈ lw_all := lw_g (lw_at lw_m8 235 rfl) rfl
theorem q2042 : (Jvm.Cond.constantLong "ShaveOfAnotherLaw" (91 : Nat) (4294967295 : Int64)) ∈ lw_all := lw_g (lw_at lw_m8 239 rfl) rfl

theorem q931 : (Jvm.Cond.interfaceMethod "ShaveOfAnother$Asked" "ShaveOfAnother$Asked" "is" "([I)Z") ∈ lw_tbl := lw_at lw_m4 88 rfl
set_option maxRecDepth 100000
theorem q932 : (Jvm.Cond.declares ({ cls := "ShaveOfAnother$Asked", name := "is", desc := "([I)Z" } : Jvm.MethodName)) ∈ lw_tbl := lw_at lw_m4 89 rfl

theorem q905 : (Jvm.Cond.interfaceMethod "ShaveOfAnother$Sum" "ShaveOfAnother$Sum" "of" "([I)J") ∈ lw_tbl := lw_at lw_m4 62 rfl
set_option maxRecDepth 100000
theorem q906 : (Jvm.Cond.declares ({ cls := "ShaveOfAnother$Sum", name := "of", desc := "([I)J" } : Jvm.MethodName)) ∈ lw_tbl := lw_at lw_m4 63 rfl
theorem q2046 : (Jvm.Cond.castable "ShaveOfAnother$Sum" "java/lang/Object") ∈ lw_tbl := lw_at lw_m9 3 rfl

theorem q2072 : (Jvm.Cond.castable "[B" "java/lang/Object") ∈ lw_tbl := lw_at lw_m9 29 rfl
set_option maxRecDepth 100000

theorem q2071 : (Jvm.Cond.castable "[I" "java/lang/Object") ∈ lw_tbl := lw_at lw_m9 28 rfl
set_option maxRecDepth 100000

theorem q2075 : (Jvm.Cond.castable "[J" "java/lang/Object") ∈ lw_tbl := lw_at lw_m9 32 rfl
set_option maxRecDepth 100000

theorem q2073 : (Jvm.Cond.castable "[LShaveOfAnother$Sum;" "java/lang/Object") ∈ lw_tbl := lw_at lw_m9 30 rfl
set_option maxRecDepth 100000

theorem q2070 : (Jvm.Cond.castable "[LShaveOfAnother$Text;" "java/lang/Object") ∈ lw_tbl := lw_at lw_m9 27 rfl
set_option maxRecDepth 100000

theorem q2066 : (Jvm.Cond.sameMethod "[Ljava/lang/Object;" "java/lang/Object" "getClass" "()Ljava/lang/Class;") ∈ lw_all := lw_g (lw_at lw_m9 23 rfl) rfl
set_option maxRecDepth 100000
theorem q2067 : (Jvm.Cond.selects "[Ljava/lang/Object;" ({ cls := "java/lang/Object", name := "getClass", desc := "()Ljava/lang/Class;" } : Jvm.MethodName) ({ cls := "java/lang/Object", name := "getClass", desc := "()Ljava/lang/Class;" } : Jvm.MethodName)) ∈ lw_all := lw_g (lw_at lw_m9 24 rfl) rfl
theorem q2074 : (Jvm.Cond.castable "[Ljava/lang/Object;" "java/lang/Object") ∈ lw_tbl := lw_at lw_m9 31 rfl

theorem q2077 : (Jvm.Cond.castable "[Ljava/lang/String;" "java/lang/Object") ∈ lw_tbl := lw_at lw_m9 34 rfl
set_option maxRecDepth 100000

theorem q2076 : (Jvm.Cond.castable "[Z" "java/lang/Object") ∈ lw_tbl := lw_at lw_m9 33 rfl
set_option maxRecDepth 100000

theorem q2069 : (Jvm.Cond.castable "[[I" "java/lang/Object") ∈ lw_tbl := lw_at lw_m9 26 rfl
set_option maxRecDepth 100000

theorem q156 : (Jvm.Cond.initialized "java/lang/Integer$IntegerCache") ∈ lw_all := lw_g (lw_at lw_m1 33 rfl) rfl
set_option maxRecDepth 100000
theorem q812 : (Jvm.Cond.laysStatic "java/lang/Integer$IntegerCache" "high" "I") ∈ lw_tbl := lw_at lw_m3 209 rfl
theorem q814 : (Jvm.Cond.laysStatic "java/lang/Integer$IntegerCache" "cache" "[Ljava/lang/Integer;") ∈ lw_tbl := lw_at lw_m3 211 rfl

theorem q127 : (Jvm.Cond.initialized "java/lang/System") ∈ lw_all := lw_g (lw_at lw_m1 4 rfl) rfl
set_option maxRecDepth 100000
theorem q234 : (Jvm.Cond.static ({ cls := "java/lang/System", name := "arraycopy", desc := "(Ljava/lang/Object;ILjava/lang/Object;II)V" } : Jvm.MethodName)) ∈ lw_all := lw_g (lw_at lw_m1 111 rfl) rfl
theorem q235 : (Jvm.Cond.native ({ cls := "java/lang/System", name := "arraycopy", desc := "(Ljava/lang/Object;ILjava/lang/Object;II)V" } : Jvm.MethodName)) ∈ lw_all := lw_g (lw_at lw_m1 112 rfl) rfl

theorem q173 : (Jvm.Cond.arrayOver (Jvm.ClassFile.FieldType.array Jvm.ClassFile.FieldType.int)) ∈ lw_tbl := lw_at lw_m1 50 rfl
set_option maxRecDepth 100000
theorem q175 : (Jvm.Cond.arrayOver (Jvm.ClassFile.FieldType.object "ShaveOfAnother$Text")) ∈ lw_tbl := lw_at lw_m1 52 rfl
theorem q224 : (Jvm.Cond.arrayClass Jvm.ClassFile.FieldType.int) ∈ lw_all := lw_g (lw_at lw_m1 101 rfl) rfl
theorem q291 : (Jvm.Cond.arrayClass Jvm.ClassFile.FieldType.byte) ∈ lw_all := lw_g (lw_at lw_m1 168 rfl) rfl
theorem q369 : (Jvm.Cond.arrayOver (Jvm.ClassFile.FieldType.object "ShaveOfAnother$Sum")) ∈ lw_tbl := lw_at lw_m2 6 rfl
theorem q685 : (Jvm.Cond.arrayOver (Jvm.ClassFile.FieldType.object "java/lang/Object")) ∈ lw_tbl := lw_at lw_m3 82 rfl
theorem q1471 : (Jvm.Cond.arrayClass Jvm.ClassFile.FieldType.long) ∈ lw_all := lw_g (lw_at lw_m6 148 rfl) rfl
theorem q1472 : (Jvm.Cond.arrayClass Jvm.ClassFile.FieldType.boolean) ∈ lw_all := lw_g (lw_at lw_m6 149 rfl) rfl
theorem q2103 : (Jvm.Cond.arrayOver (Jvm.ClassFile.FieldType.object "java/lang/String")) ∈ lw_tbl := lw_at lw_m9 60 rfl

/-! ShaveOfAnother -/
set_option maxRecDepth 100000
def RX0 : String := "ShaveOfAnother"
def TX0 : u_T := fun k => match k with
  | 0 => ("ShaveOfAnother", "now", "LShaveOfAnother$State;", true)
  | 1 => ("ShaveOfAnother", "image", "LShaveOfAnother$State;", true)
  | 2 => ("ShaveOfAnother", "tape", "[B", true)
  | 3 => ("ShaveOfAnother", "taped", "I", false)
  | 4 => ("ShaveOfAnother", "fault", "I", false)
  | 5 => ("ShaveOfAnother", "faultAt", "I", false)
  | 6 => ("ShaveOfAnother", "names", "[I", true)
  | 7 => ("ShaveOfAnother", "tried", "[I", true)
  | 8 => ("ShaveOfAnother", "goesTo", "[I", true)
  | 9 => ("ShaveOfAnother", "ahead", "[I", true)
  | 10 => ("ShaveOfAnother", "queue", "[I", true)
  | 11 => ("ShaveOfAnother", "way", "[I", true)
  | 12 => ("ShaveOfAnother", "sitting", "[B", true)
  | 13 => ("ShaveOfAnother", "may", "[I", true)
  | 14 => ("ShaveOfAnother", "have", "[I", true)
  | 15 => ("ShaveOfAnother", "fit", "I", false)
  | _ => ("ShaveOfAnother", "has", "[I", true)
def tyX0 : Nat → FieldType := fun k => match k with
  | 0 => .object "ShaveOfAnother$State"
  | 1 => .object "ShaveOfAnother$State"
  | 2 => .array .byte
  | 3 => .int
  | 4 => .int
  | 5 => .int
  | 6 => .array .int
  | 7 => .array .int
  | 8 => .array .int
  | 9 => .array .int
  | 10 => .array .int
  | 11 => .array .int
  | 12 => .array .byte
  | 13 => .array .int
  | 14 => .array .int
  | 15 => .int
  | _ => .array .int
abbrev wsX00 : List Cond := u_ws RX0 TX0 17
set_option maxRecDepth 100000 in
theorem nmX0 : ∀ a, a < 17 → ∀ b, b < 17 → a ≠ b → (TX0 a).2.1 ≠ (TX0 b).2.1 := by decide +kernel
set_option maxRecDepth 100000 in
theorem tyX0_ok : ∀ k, k < 17 → parseFieldDescriptor (TX0 k).2.2.1 = some (tyX0 k) := by decide +kernel
abbrev cX0_init : ByteArray := prog_1_method_6_code
def yX0_init : MethodName := ⟨RX0, "<init>", "()V"⟩
def dkwX0_init_5 : List UInt8 := [16, 8, 188, 10, 181, 0, 80, 42, 180, 0, 37, 42, 180, 0, 33, 182, 0, 83, 177]
abbrev dktX0_init_5 : List UInt8 := dkwX0_init_5 ++ []
def dkwX0_init_4 : List UInt8 := [42, 18, 61, 188, 8, 181, 0, 71, 42, 8, 188, 10, 181, 0, 74, 42, 8, 188, 10, 181, 0, 77, 42]
abbrev dktX0_init_4 : List UInt8 := dkwX0_init_4 ++ dktX0_init_5
def dkwX0_init_3 : List UInt8 := [42, 18, 61, 188, 10, 181, 0, 62, 42, 18, 61, 188, 10, 181, 0, 65, 42, 16, 24, 188, 10, 181, 0, 68]
abbrev dktX0_init_3 : List UInt8 := dkwX0_init_3 ++ dktX0_init_4
def dkwX0_init_2 : List UInt8 := [16, 15, 188, 10, 181, 0, 51, 42, 17, 0, 148, 188, 10, 181, 0, 55, 42, 16, 8, 188, 10, 181, 0, 58]
abbrev dktX0_init_2 : List UInt8 := dkwX0_init_2 ++ dktX0_init_3
def dkwX0_init_1 : List UInt8 := [181, 0, 37, 42, 17, 1, 44, 188, 8, 181, 0, 40, 42, 2, 181, 0, 44, 42, 2, 181, 0, 48, 42]
abbrev dktX0_init_1 : List UInt8 := dkwX0_init_1 ++ dktX0_init_2
def dkwX0_init_0 : List UInt8 := [42, 183, 0, 24, 42, 187, 0, 30, 89, 183, 0, 32, 181, 0, 33, 42, 187, 0, 30, 89, 183, 0, 32]
abbrev dktX0_init_0 : List UInt8 := dkwX0_init_0 ++ dktX0_init_1
theorem dksX0_init_0 : cX0_init.data.toList.drop 0 = dktX0_init_0 := by decide +kernel
theorem dksX0_init_1 : cX0_init.data.toList.drop 23 = dktX0_init_1 := dk_seg dksX0_init_0 23 rfl rfl
theorem dksX0_init_2 : cX0_init.data.toList.drop 46 = dktX0_init_2 := dk_seg dksX0_init_1 23 rfl rfl
theorem dksX0_init_3 : cX0_init.data.toList.drop 70 = dktX0_init_3 := dk_seg dksX0_init_2 24 rfl rfl
theorem dksX0_init_4 : cX0_init.data.toList.drop 94 = dktX0_init_4 := dk_seg dksX0_init_3 24 rfl rfl
theorem dksX0_init_5 : cX0_init.data.toList.drop 117 = dktX0_init_5 := dk_seg dksX0_init_4 23 rfl rfl
theorem dX0_init_0 : decode cX0_init 0 = .ok (.aload_n 0, 1) := dk_42 (dk_at dksX0_init_0 0 rfl rfl)
theorem dX0_init_1 : decode cX0_init 1 = .ok (.invokespecial 24, 3) := dk_183 0 24 (dk_at dksX0_init_0 1 rfl rfl)
theorem dX0_init_4 : decode cX0_init 4 = .ok (.aload_n 0, 1) := dk_42 (dk_at dksX0_init_0 4 rfl rfl)
theorem dX0_init_5 : decode cX0_init 5 = .ok (.new 30, 3) := dk_187 0 30 (dk_at dksX0_init_0 5 rfl rfl)
theorem dX0_init_8 : decode cX0_init 8 = .ok (.dup, 1) := dk_89 (dk_at dksX0_init_0 8 rfl rfl)
theorem dX0_init_9 : decode cX0_init 9 = .ok (.invokespecial 32, 3) := dk_183 0 32 (dk_at dksX0_init_0 9 rfl rfl)
theorem dX0_init_12 : decode cX0_init 12 = .ok (.putfield 33, 3) := dk_181 0 33 (dk_at dksX0_init_0 12 rfl rfl)
theorem dX0_init_15 : decode cX0_init 15 = .ok (.aload_n 0, 1) := dk_42 (dk_at dksX0_init_0 15 rfl rfl)
theorem dX0_init_16 : decode cX0_init 16 = .ok (.new 30, 3) := dk_187 0 30 (dk_at dksX0_init_0 16 rfl rfl)
theorem dX0_init_19 : decode cX0_init 19 = .ok (.dup, 1) := dk_89 (dk_at dksX0_init_0 19 rfl rfl)
theorem dX0_init_20 : decode cX0_init 20 = .ok (.invokespecial 32, 3) := dk_183 0 32 (dk_at dksX0_init_0 20 rfl rfl)
theorem dX0_init_23 : decode cX0_init 23 = .ok (.putfield 37, 3) := dk_181 0 37 (dk_at dksX0_init_1 0 rfl rfl)
theorem dX0_init_26 : decode cX0_init 26 = .ok (.aload_n 0, 1) := dk_42 (dk_at dksX0_init_1 3 rfl rfl)
theorem dX0_init_27 : decode cX0_init 27 = .ok (.sipush 300, 3) := dk_17 1 44 (dk_at dksX0_init_1 4 rfl rfl)
theorem dX0_init_30 : decode cX0_init 30 = .ok (.newarray .byte, 2) := dk_188_8 (dk_at dksX0_init_1 7 rfl rfl)
theorem dX0_init_32 : decode cX0_init 32 = .ok (.putfield 40, 3) := dk_181 0 40 (dk_at dksX0_init_1 9 rfl rfl)
theorem dX0_init_35 : decode cX0_init 35 = .ok (.aload_n 0, 1) := dk_42 (dk_at dksX0_init_1 12 rfl rfl)
theorem dX0_init_36 : decode cX0_init 36 = .ok (.iconst (-1), 1) := dk_2 (dk_at dksX0_init_1 13 rfl rfl)
theorem dX0_init_37 : decode cX0_init 37 = .ok (.putfield 44, 3) := dk_181 0 44 (dk_at dksX0_init_1 14 rfl rfl)
theorem dX0_init_40 : decode cX0_init 40 = .ok (.aload_n 0, 1) := dk_42 (dk_at dksX0_init_1 17 rfl rfl)
theorem dX0_init_41 : decode cX0_init 41 = .ok (.iconst (-1), 1) := dk_2 (dk_at dksX0_init_1 18 rfl rfl)
theorem dX0_init_42 : decode cX0_init 42 = .ok (.putfield 48, 3) := dk_181 0 48 (dk_at dksX0_init_1 19 rfl rfl)
theorem dX0_init_45 : decode cX0_init 45 = .ok (.aload_n 0, 1) := dk_42 (dk_at dksX0_init_1 22 rfl rfl)
theorem dX0_init_46 : decode cX0_init 46 = .ok (.bipush 15, 2) := dk_16 15 (dk_at dksX0_init_2 0 rfl rfl)
theorem dX0_init_48 : decode cX0_init 48 = .ok (.newarray .int, 2) := dk_188_10 (dk_at dksX0_init_2 2 rfl rfl)
theorem dX0_init_50 : decode cX0_init 50 = .ok (.putfield 51, 3) := dk_181 0 51 (dk_at dksX0_init_2 4 rfl rfl)
theorem dX0_init_53 : decode cX0_init 53 = .ok (.aload_n 0, 1) := dk_42 (dk_at dksX0_init_2 7 rfl rfl)
theorem dX0_init_54 : decode cX0_init 54 = .ok (.sipush 148, 3) := dk_17 0 148 (dk_at dksX0_init_2 8 rfl rfl)
theorem dX0_init_57 : decode cX0_init 57 = .ok (.newarray .int, 2) := dk_188_10 (dk_at dksX0_init_2 11 rfl rfl)
theorem dX0_init_59 : decode cX0_init 59 = .ok (.putfield 55, 3) := dk_181 0 55 (dk_at dksX0_init_2 13 rfl rfl)
theorem dX0_init_62 : decode cX0_init 62 = .ok (.aload_n 0, 1) := dk_42 (dk_at dksX0_init_2 16 rfl rfl)
theorem dX0_init_63 : decode cX0_init 63 = .ok (.bipush 8, 2) := dk_16 8 (dk_at dksX0_init_2 17 rfl rfl)
theorem dX0_init_65 : decode cX0_init 65 = .ok (.newarray .int, 2) := dk_188_10 (dk_at dksX0_init_2 19 rfl rfl)
theorem dX0_init_67 : decode cX0_init 67 = .ok (.putfield 58, 3) := dk_181 0 58 (dk_at dksX0_init_2 21 rfl rfl)
theorem dX0_init_70 : decode cX0_init 70 = .ok (.aload_n 0, 1) := dk_42 (dk_at dksX0_init_3 0 rfl rfl)
theorem dX0_init_71 : decode cX0_init 71 = .ok (.ldc 61, 2) := dk_18 61 (dk_at dksX0_init_3 1 rfl rfl)
theorem dX0_init_73 : decode cX0_init 73 = .ok (.newarray .int, 2) := dk_188_10 (dk_at dksX0_init_3 3 rfl rfl)
theorem dX0_init_75 : decode cX0_init 75 = .ok (.putfield 62, 3) := dk_181 0 62 (dk_at dksX0_init_3 5 rfl rfl)
theorem dX0_init_78 : decode cX0_init 78 = .ok (.aload_n 0, 1) := dk_42 (dk_at dksX0_init_3 8 rfl rfl)
theorem dX0_init_79 : decode cX0_init 79 = .ok (.ldc 61, 2) := dk_18 61 (dk_at dksX0_init_3 9 rfl rfl)
theorem dX0_init_81 : decode cX0_init 81 = .ok (.newarray .int, 2) := dk_188_10 (dk_at dksX0_init_3 11 rfl rfl)
theorem dX0_init_83 : decode cX0_init 83 = .ok (.putfield 65, 3) := dk_181 0 65 (dk_at dksX0_init_3 13 rfl rfl)
theorem dX0_init_86 : decode cX0_init 86 = .ok (.aload_n 0, 1) := dk_42 (dk_at dksX0_init_3 16 rfl rfl)
theorem dX0_init_87 : decode cX0_init 87 = .ok (.bipush 24, 2) := dk_16 24 (dk_at dksX0_init_3 17 rfl rfl)
theorem dX0_init_89 : decode cX0_init 89 = .ok (.newarray .int, 2) := dk_188_10 (dk_at dksX0_init_3 19 rfl rfl)
theorem dX0_init_91 : decode cX0_init 91 = .ok (.putfield 68, 3) := dk_181 0 68 (dk_at dksX0_init_3 21 rfl rfl)
theorem dX0_init_94 : decode cX0_init 94 = .ok (.aload_n 0, 1) := dk_42 (dk_at dksX0_init_4 0 rfl rfl)
theorem dX0_init_95 : decode cX0_init 95 = .ok (.ldc 61, 2) := dk_18 61 (dk_at dksX0_init_4 1 rfl rfl)
theorem dX0_init_97 : decode cX0_init 97 = .ok (.newarray .byte, 2) := dk_188_8 (dk_at dksX0_init_4 3 rfl rfl)
theorem dX0_init_99 : decode cX0_init 99 = .ok (.putfield 71, 3) := dk_181 0 71 (dk_at dksX0_init_4 5 rfl rfl)
theorem dX0_init_102 : decode cX0_init 102 = .ok (.aload_n 0, 1) := dk_42 (dk_at dksX0_init_4 8 rfl rfl)
theorem dX0_init_103 : decode cX0_init 103 = .ok (.iconst 5, 1) := dk_8 (dk_at dksX0_init_4 9 rfl rfl)
theorem dX0_init_104 : decode cX0_init 104 = .ok (.newarray .int, 2) := dk_188_10 (dk_at dksX0_init_4 10 rfl rfl)
theorem dX0_init_106 : decode cX0_init 106 = .ok (.putfield 74, 3) := dk_181 0 74 (dk_at dksX0_init_4 12 rfl rfl)
theorem dX0_init_109 : decode cX0_init 109 = .ok (.aload_n 0, 1) := dk_42 (dk_at dksX0_init_4 15 rfl rfl)
theorem dX0_init_110 : decode cX0_init 110 = .ok (.iconst 5, 1) := dk_8 (dk_at dksX0_init_4 16 rfl rfl)
theorem dX0_init_111 : decode cX0_init 111 = .ok (.newarray .int, 2) := dk_188_10 (dk_at dksX0_init_4 17 rfl rfl)
theorem dX0_init_113 : decode cX0_init 113 = .ok (.putfield 77, 3) := dk_181 0 77 (dk_at dksX0_init_4 19 rfl rfl)
theorem dX0_init_116 : decode cX0_init 116 = .ok (.aload_n 0, 1) := dk_42 (dk_at dksX0_init_4 22 rfl rfl)
theorem dX0_init_117 : decode cX0_init 117 = .ok (.bipush 8, 2) := dk_16 8 (dk_at dksX0_init_5 0 rfl rfl)
theorem dX0_init_119 : decode cX0_init 119 = .ok (.newarray .int, 2) := dk_188_10 (dk_at dksX0_init_5 2 rfl rfl)
theorem dX0_init_121 : decode cX0_init 121 = .ok (.putfield 80, 3) := dk_181 0 80 (dk_at dksX0_init_5 4 rfl rfl)
theorem dX0_init_124 : decode cX0_init 124 = .ok (.aload_n 0, 1) := dk_42 (dk_at dksX0_init_5 7 rfl rfl)
theorem dX0_init_125 : decode cX0_init 125 = .ok (.getfield 37, 3) := dk_180 0 37 (dk_at dksX0_init_5 8 rfl rfl)
theorem dX0_init_128 : decode cX0_init 128 = .ok (.aload_n 0, 1) := dk_42 (dk_at dksX0_init_5 11 rfl rfl)
theorem dX0_init_129 : decode cX0_init 129 = .ok (.getfield 33, 3) := dk_180 0 33 (dk_at dksX0_init_5 12 rfl rfl)
theorem dX0_init_132 : decode cX0_init 132 = .ok (.invokevirtual 83, 3) := dk_182 0 83 (dk_at dksX0_init_5 15 rfl rfl)
theorem dX0_init_135 : decode cX0_init 135 = .ok (.return_, 1) := dk_177 (dk_at dksX0_init_5 18 rfl rfl)
abbrev cX0_person : ByteArray := prog_1_method_9_code
def yX0_person : MethodName := ⟨RX0, "person", "(II)I"⟩
def dkwX0_person_3 : List UInt8 := [182, 0, 94, 29, 172]
abbrev dktX0_person_3 : List UInt8 := dkwX0_person_3 ++ []
def dkwX0_person_2 : List UInt8 := [4, 96, 79, 42, 180, 0, 33, 6, 29, 96, 27, 182, 0, 94, 42, 180, 0, 33, 16, 11, 29, 96, 28]
abbrev dktX0_person_2 : List UInt8 := dkwX0_person_2 ++ dktX0_person_3
def dkwX0_person_1 : List UInt8 := [184, 0, 87, 153, 0, 9, 29, 16, 8, 160, 0, 5, 2, 172, 42, 180, 0, 33, 180, 0, 91, 3, 92, 46]
abbrev dktX0_person_1 : List UInt8 := dkwX0_person_1 ++ dktX0_person_2
def dkwX0_person_0 : List UInt8 := [42, 180, 0, 33, 180, 0, 91, 3, 46, 62, 27, 3, 16, 99, 184, 0, 87, 153, 0, 19, 28, 3, 16, 9]
abbrev dktX0_person_0 : List UInt8 := dkwX0_person_0 ++ dktX0_person_1
theorem dksX0_person_0 : cX0_person.data.toList.drop 0 = dktX0_person_0 := by decide +kernel
theorem dksX0_person_1 : cX0_person.data.toList.drop 24 = dktX0_person_1 := dk_seg dksX0_person_0 24 rfl rfl
theorem dksX0_person_2 : cX0_person.data.toList.drop 48 = dktX0_person_2 := dk_seg dksX0_person_1 24 rfl rfl
theorem dksX0_person_3 : cX0_person.data.toList.drop 71 = dktX0_person_3 := dk_seg dksX0_person_2 23 rfl rfl
theorem dX0_person_0 : decode cX0_person 0 = .ok (.aload_n 0, 1) := dk_42 (dk_at dksX0_person_0 0 rfl rfl)
theorem dX0_person_1 : decode cX0_person 1 = .ok (.getfield 33, 3) := dk_180 0 33 (dk_at dksX0_person_0 1 rfl rfl)
theorem dX0_person_4 : decode cX0_person 4 = .ok (.getfield 91, 3) := dk_180 0 91 (dk_at dksX0_person_0 4 rfl rfl)
theorem dX0_person_7 : decode cX0_person 7 = .ok (.iconst 0, 1) := dk_3 (dk_at dksX0_person_0 7 rfl rfl)
theorem dX0_person_8 : decode cX0_person 8 = .ok (.iaload, 1) := dk_46 (dk_at dksX0_person_0 8 rfl rfl)
theorem dX0_person_9 : decode cX0_person 9 = .ok (.istore_n 3, 1) := dk_62 (dk_at dksX0_person_0 9 rfl rfl)
theorem dX0_person_10 : decode cX0_person 10 = .ok (.iload_n 1, 1) := dk_27 (dk_at dksX0_person_0 10 rfl rfl)
theorem dX0_person_11 : decode cX0_person 11 = .ok (.iconst 0, 1) := dk_3 (dk_at dksX0_person_0 11 rfl rfl)
theorem dX0_person_12 : decode cX0_person 12 = .ok (.bipush 99, 2) := dk_16 99 (dk_at dksX0_person_0 12 rfl rfl)
theorem dX0_person_14 : decode cX0_person 14 = .ok (.invokestatic 87, 3) := dk_184 0 87 (dk_at dksX0_person_0 14 rfl rfl)
theorem dX0_person_17 : decode cX0_person 17 = .ok (.ifCond .eq 19, 3) := dk_153 0 19 (dk_at dksX0_person_0 17 rfl rfl)
theorem dX0_person_20 : decode cX0_person 20 = .ok (.iload_n 2, 1) := dk_28 (dk_at dksX0_person_0 20 rfl rfl)
theorem dX0_person_21 : decode cX0_person 21 = .ok (.iconst 0, 1) := dk_3 (dk_at dksX0_person_0 21 rfl rfl)
theorem dX0_person_22 : decode cX0_person 22 = .ok (.bipush 9, 2) := dk_16 9 (dk_at dksX0_person_0 22 rfl rfl)
theorem dX0_person_24 : decode cX0_person 24 = .ok (.invokestatic 87, 3) := dk_184 0 87 (dk_at dksX0_person_1 0 rfl rfl)
theorem dX0_person_27 : decode cX0_person 27 = .ok (.ifCond .eq 9, 3) := dk_153 0 9 (dk_at dksX0_person_1 3 rfl rfl)
theorem dX0_person_30 : decode cX0_person 30 = .ok (.iload_n 3, 1) := dk_29 (dk_at dksX0_person_1 6 rfl rfl)
theorem dX0_person_31 : decode cX0_person 31 = .ok (.bipush 8, 2) := dk_16 8 (dk_at dksX0_person_1 7 rfl rfl)
theorem dX0_person_33 : decode cX0_person 33 = .ok (.if_icmp .ne 5, 3) := dk_160 0 5 (dk_at dksX0_person_1 9 rfl rfl)
theorem dX0_person_36 : decode cX0_person 36 = .ok (.iconst (-1), 1) := dk_2 (dk_at dksX0_person_1 12 rfl rfl)
theorem dX0_person_37 : decode cX0_person 37 = .ok (.ireturn, 1) := dk_172 (dk_at dksX0_person_1 13 rfl rfl)
theorem dX0_person_38 : decode cX0_person 38 = .ok (.aload_n 0, 1) := dk_42 (dk_at dksX0_person_1 14 rfl rfl)
theorem dX0_person_39 : decode cX0_person 39 = .ok (.getfield 33, 3) := dk_180 0 33 (dk_at dksX0_person_1 15 rfl rfl)
theorem dX0_person_42 : decode cX0_person 42 = .ok (.getfield 91, 3) := dk_180 0 91 (dk_at dksX0_person_1 18 rfl rfl)
theorem dX0_person_45 : decode cX0_person 45 = .ok (.iconst 0, 1) := dk_3 (dk_at dksX0_person_1 21 rfl rfl)
theorem dX0_person_46 : decode cX0_person 46 = .ok (.dup2, 1) := dk_92 (dk_at dksX0_person_1 22 rfl rfl)
theorem dX0_person_47 : decode cX0_person 47 = .ok (.iaload, 1) := dk_46 (dk_at dksX0_person_1 23 rfl rfl)
theorem dX0_person_48 : decode cX0_person 48 = .ok (.iconst 1, 1) := dk_4 (dk_at dksX0_person_2 0 rfl rfl)
theorem dX0_person_49 : decode cX0_person 49 = .ok (.iadd, 1) := dk_96 (dk_at dksX0_person_2 1 rfl rfl)
theorem dX0_person_50 : decode cX0_person 50 = .ok (.iastore, 1) := dk_79 (dk_at dksX0_person_2 2 rfl rfl)
theorem dX0_person_51 : decode cX0_person 51 = .ok (.aload_n 0, 1) := dk_42 (dk_at dksX0_person_2 3 rfl rfl)
theorem dX0_person_52 : decode cX0_person 52 = .ok (.getfield 33, 3) := dk_180 0 33 (dk_at dksX0_person_2 4 rfl rfl)
theorem dX0_person_55 : decode cX0_person 55 = .ok (.iconst 3, 1) := dk_6 (dk_at dksX0_person_2 7 rfl rfl)
theorem dX0_person_56 : decode cX0_person 56 = .ok (.iload_n 3, 1) := dk_29 (dk_at dksX0_person_2 8 rfl rfl)
theorem dX0_person_57 : decode cX0_person 57 = .ok (.iadd, 1) := dk_96 (dk_at dksX0_person_2 9 rfl rfl)
theorem dX0_person_58 : decode cX0_person 58 = .ok (.iload_n 1, 1) := dk_27 (dk_at dksX0_person_2 10 rfl rfl)
theorem dX0_person_59 : decode cX0_person 59 = .ok (.invokevirtual 94, 3) := dk_182 0 94 (dk_at dksX0_person_2 11 rfl rfl)
theorem dX0_person_62 : decode cX0_person 62 = .ok (.aload_n 0, 1) := dk_42 (dk_at dksX0_person_2 14 rfl rfl)
theorem dX0_person_63 : decode cX0_person 63 = .ok (.getfield 33, 3) := dk_180 0 33 (dk_at dksX0_person_2 15 rfl rfl)
theorem dX0_person_66 : decode cX0_person 66 = .ok (.bipush 11, 2) := dk_16 11 (dk_at dksX0_person_2 18 rfl rfl)
theorem dX0_person_68 : decode cX0_person 68 = .ok (.iload_n 3, 1) := dk_29 (dk_at dksX0_person_2 20 rfl rfl)
theorem dX0_person_69 : decode cX0_person 69 = .ok (.iadd, 1) := dk_96 (dk_at dksX0_person_2 21 rfl rfl)
theorem dX0_person_70 : decode cX0_person 70 = .ok (.iload_n 2, 1) := dk_28 (dk_at dksX0_person_2 22 rfl rfl)
theorem dX0_person_71 : decode cX0_person 71 = .ok (.invokevirtual 94, 3) := dk_182 0 94 (dk_at dksX0_person_3 0 rfl rfl)
theorem dX0_person_74 : decode cX0_person 74 = .ok (.iload_n 3, 1) := dk_29 (dk_at dksX0_person_3 3 rfl rfl)
theorem dX0_person_75 : decode cX0_person 75 = .ok (.ireturn, 1) := dk_172 (dk_at dksX0_person_3 4 rfl rfl)
abbrev cX0_in : ByteArray := prog_1_method_3_code
def yX0_in : MethodName := ⟨RX0, "in", "(III)Z"⟩
def dkwX0_in_0 : List UInt8 := [26, 27, 161, 0, 12, 26, 28, 163, 0, 7, 4, 167, 0, 4, 3, 172]
abbrev dktX0_in_0 : List UInt8 := dkwX0_in_0 ++ []
theorem dksX0_in_0 : cX0_in.data.toList.drop 0 = dktX0_in_0 := by decide +kernel
theorem dX0_in_0 : decode cX0_in 0 = .ok (.iload_n 0, 1) := dk_26 (dk_at dksX0_in_0 0 rfl rfl)
theorem dX0_in_1 : decode cX0_in 1 = .ok (.iload_n 1, 1) := dk_27 (dk_at dksX0_in_0 1 rfl rfl)
theorem dX0_in_2 : decode cX0_in 2 = .ok (.if_icmp .lt 12, 3) := dk_161 0 12 (dk_at dksX0_in_0 2 rfl rfl)
theorem dX0_in_5 : decode cX0_in 5 = .ok (.iload_n 0, 1) := dk_26 (dk_at dksX0_in_0 5 rfl rfl)
theorem dX0_in_6 : decode cX0_in 6 = .ok (.iload_n 2, 1) := dk_28 (dk_at dksX0_in_0 6 rfl rfl)
theorem dX0_in_7 : decode cX0_in 7 = .ok (.if_icmp .gt 7, 3) := dk_163 0 7 (dk_at dksX0_in_0 7 rfl rfl)
theorem dX0_in_10 : decode cX0_in 10 = .ok (.iconst 1, 1) := dk_4 (dk_at dksX0_in_0 10 rfl rfl)
theorem dX0_in_11 : decode cX0_in 11 = .ok (.goto 4, 3) := dk_167 0 4 (dk_at dksX0_in_0 11 rfl rfl)
theorem dX0_in_14 : decode cX0_in 14 = .ok (.iconst 0, 1) := dk_3 (dk_at dksX0_in_0 14 rfl rfl)
theorem dX0_in_15 : decode cX0_in 15 = .ok (.ireturn, 1) := dk_172 (dk_at dksX0_in_0 15 rfl rfl)
abbrev cX0_other : ByteArray := prog_1_method_10_code
def yX0_other : MethodName := ⟨RX0, "other", "(II)Z"⟩
def dkwX0_other_1 : List UInt8 := [28, 79, 4, 172]
abbrev dktX0_other_1 : List UInt8 := dkwX0_other_1 ++ []
def dkwX0_other_0 : List UInt8 := [27, 184, 0, 98, 153, 0, 10, 28, 184, 0, 98, 154, 0, 5, 3, 172, 42, 180, 0, 33, 180, 0, 102, 27]
abbrev dktX0_other_0 : List UInt8 := dkwX0_other_0 ++ dktX0_other_1
theorem dksX0_other_0 : cX0_other.data.toList.drop 0 = dktX0_other_0 := by decide +kernel
theorem dksX0_other_1 : cX0_other.data.toList.drop 24 = dktX0_other_1 := dk_seg dksX0_other_0 24 rfl rfl
theorem dX0_other_0 : decode cX0_other 0 = .ok (.iload_n 1, 1) := dk_27 (dk_at dksX0_other_0 0 rfl rfl)
theorem dX0_other_1 : decode cX0_other 1 = .ok (.invokestatic 98, 3) := dk_184 0 98 (dk_at dksX0_other_0 1 rfl rfl)
theorem dX0_other_4 : decode cX0_other 4 = .ok (.ifCond .eq 10, 3) := dk_153 0 10 (dk_at dksX0_other_0 4 rfl rfl)
theorem dX0_other_7 : decode cX0_other 7 = .ok (.iload_n 2, 1) := dk_28 (dk_at dksX0_other_0 7 rfl rfl)
theorem dX0_other_8 : decode cX0_other 8 = .ok (.invokestatic 98, 3) := dk_184 0 98 (dk_at dksX0_other_0 8 rfl rfl)
theorem dX0_other_11 : decode cX0_other 11 = .ok (.ifCond .ne 5, 3) := dk_154 0 5 (dk_at dksX0_other_0 11 rfl rfl)
theorem dX0_other_14 : decode cX0_other 14 = .ok (.iconst 0, 1) := dk_3 (dk_at dksX0_other_0 14 rfl rfl)
theorem dX0_other_15 : decode cX0_other 15 = .ok (.ireturn, 1) := dk_172 (dk_at dksX0_other_0 15 rfl rfl)
theorem dX0_other_16 : decode cX0_other 16 = .ok (.aload_n 0, 1) := dk_42 (dk_at dksX0_other_0 16 rfl rfl)
theorem dX0_other_17 : decode cX0_other 17 = .ok (.getfield 33, 3) := dk_180 0 33 (dk_at dksX0_other_0 17 rfl rfl)
theorem dX0_other_20 : decode cX0_other 20 = .ok (.getfield 102, 3) := dk_180 0 102 (dk_at dksX0_other_0 20 rfl rfl)
theorem dX0_other_23 : decode cX0_other 23 = .ok (.iload_n 1, 1) := dk_27 (dk_at dksX0_other_0 23 rfl rfl)
theorem dX0_other_24 : decode cX0_other 24 = .ok (.iload_n 2, 1) := dk_28 (dk_at dksX0_other_1 0 rfl rfl)
theorem dX0_other_25 : decode cX0_other 25 = .ok (.iastore, 1) := dk_79 (dk_at dksX0_other_1 1 rfl rfl)
theorem dX0_other_26 : decode cX0_other 26 = .ok (.iconst 1, 1) := dk_4 (dk_at dksX0_other_1 2 rfl rfl)
theorem dX0_other_27 : decode cX0_other 27 = .ok (.ireturn, 1) := dk_172 (dk_at dksX0_other_1 3 rfl rfl)
abbrev cX0_isChair : ByteArray := prog_1_method_7_code
def yX0_isChair : MethodName := ⟨RX0, "isChair", "(I)Z"⟩
def dkwX0_isChair_0 : List UInt8 := [26, 3, 16, 7, 184, 0, 87, 172]
abbrev dktX0_isChair_0 : List UInt8 := dkwX0_isChair_0 ++ []
theorem dksX0_isChair_0 : cX0_isChair.data.toList.drop 0 = dktX0_isChair_0 := by decide +kernel
theorem dX0_isChair_0 : decode cX0_isChair 0 = .ok (.iload_n 0, 1) := dk_26 (dk_at dksX0_isChair_0 0 rfl rfl)
theorem dX0_isChair_1 : decode cX0_isChair 1 = .ok (.iconst 0, 1) := dk_3 (dk_at dksX0_isChair_0 1 rfl rfl)
theorem dX0_isChair_2 : decode cX0_isChair 2 = .ok (.bipush 7, 2) := dk_16 7 (dk_at dksX0_isChair_0 2 rfl rfl)
theorem dX0_isChair_4 : decode cX0_isChair 4 = .ok (.invokestatic 87, 3) := dk_184 0 87 (dk_at dksX0_isChair_0 4 rfl rfl)
theorem dX0_isChair_7 : decode cX0_isChair 7 = .ok (.ireturn, 1) := dk_172 (dk_at dksX0_isChair_0 7 rfl rfl)
abbrev cX0_feed : ByteArray := prog_1_method_12_code
def yX0_feed : MethodName := ⟨RX0, "feed", "(IIIII)I"⟩
def dkwX0_feed_2 : List UInt8 := [172]
abbrev dktX0_feed_2 : List UInt8 := dkwX0_feed_2 ++ []
def dkwX0_feed_1 : List UInt8 := [182, 0, 108, 42, 29, 182, 0, 108, 42, 21, 4, 182, 0, 108, 42, 21, 5, 182, 0, 108, 42, 180, 0, 105]
abbrev dktX0_feed_1 : List UInt8 := dkwX0_feed_1 ++ dktX0_feed_2
def dkwX0_feed_0 : List UInt8 := [42, 180, 0, 105, 16, 20, 96, 17, 1, 44, 164, 0, 5, 2, 172, 42, 27, 182, 0, 108, 42, 28]
abbrev dktX0_feed_0 : List UInt8 := dkwX0_feed_0 ++ dktX0_feed_1
theorem dksX0_feed_0 : cX0_feed.data.toList.drop 0 = dktX0_feed_0 := by decide +kernel
theorem dksX0_feed_1 : cX0_feed.data.toList.drop 22 = dktX0_feed_1 := dk_seg dksX0_feed_0 22 rfl rfl
theorem dksX0_feed_2 : cX0_feed.data.toList.drop 46 = dktX0_feed_2 := dk_seg dksX0_feed_1 24 rfl rfl
theorem dX0_feed_0 : decode cX0_feed 0 = .ok (.aload_n 0, 1) := dk_42 (dk_at dksX0_feed_0 0 rfl rfl)
theorem dX0_feed_1 : decode cX0_feed 1 = .ok (.getfield 105, 3) := dk_180 0 105 (dk_at dksX0_feed_0 1 rfl rfl)
theorem dX0_feed_4 : decode cX0_feed 4 = .ok (.bipush 20, 2) := dk_16 20 (dk_at dksX0_feed_0 4 rfl rfl)
theorem dX0_feed_6 : decode cX0_feed 6 = .ok (.iadd, 1) := dk_96 (dk_at dksX0_feed_0 6 rfl rfl)
theorem dX0_feed_7 : decode cX0_feed 7 = .ok (.sipush 300, 3) := dk_17 1 44 (dk_at dksX0_feed_0 7 rfl rfl)
theorem dX0_feed_10 : decode cX0_feed 10 = .ok (.if_icmp .le 5, 3) := dk_164 0 5 (dk_at dksX0_feed_0 10 rfl rfl)
theorem dX0_feed_13 : decode cX0_feed 13 = .ok (.iconst (-1), 1) := dk_2 (dk_at dksX0_feed_0 13 rfl rfl)
theorem dX0_feed_14 : decode cX0_feed 14 = .ok (.ireturn, 1) := dk_172 (dk_at dksX0_feed_0 14 rfl rfl)
theorem dX0_feed_15 : decode cX0_feed 15 = .ok (.aload_n 0, 1) := dk_42 (dk_at dksX0_feed_0 15 rfl rfl)
theorem dX0_feed_16 : decode cX0_feed 16 = .ok (.iload_n 1, 1) := dk_27 (dk_at dksX0_feed_0 16 rfl rfl)
theorem dX0_feed_17 : decode cX0_feed 17 = .ok (.invokevirtual 108, 3) := dk_182 0 108 (dk_at dksX0_feed_0 17 rfl rfl)
theorem dX0_feed_20 : decode cX0_feed 20 = .ok (.aload_n 0, 1) := dk_42 (dk_at dksX0_feed_0 20 rfl rfl)
theorem dX0_feed_21 : decode cX0_feed 21 = .ok (.iload_n 2, 1) := dk_28 (dk_at dksX0_feed_0 21 rfl rfl)
theorem dX0_feed_22 : decode cX0_feed 22 = .ok (.invokevirtual 108, 3) := dk_182 0 108 (dk_at dksX0_feed_1 0 rfl rfl)
theorem dX0_feed_25 : decode cX0_feed 25 = .ok (.aload_n 0, 1) := dk_42 (dk_at dksX0_feed_1 3 rfl rfl)
theorem dX0_feed_26 : decode cX0_feed 26 = .ok (.iload_n 3, 1) := dk_29 (dk_at dksX0_feed_1 4 rfl rfl)
theorem dX0_feed_27 : decode cX0_feed 27 = .ok (.invokevirtual 108, 3) := dk_182 0 108 (dk_at dksX0_feed_1 5 rfl rfl)
theorem dX0_feed_30 : decode cX0_feed 30 = .ok (.aload_n 0, 1) := dk_42 (dk_at dksX0_feed_1 8 rfl rfl)
theorem dX0_feed_31 : decode cX0_feed 31 = .ok (.iload 4, 2) := dk_21 4 (dk_at dksX0_feed_1 9 rfl rfl)
theorem dX0_feed_33 : decode cX0_feed 33 = .ok (.invokevirtual 108, 3) := dk_182 0 108 (dk_at dksX0_feed_1 11 rfl rfl)
theorem dX0_feed_36 : decode cX0_feed 36 = .ok (.aload_n 0, 1) := dk_42 (dk_at dksX0_feed_1 14 rfl rfl)
theorem dX0_feed_37 : decode cX0_feed 37 = .ok (.iload 5, 2) := dk_21 5 (dk_at dksX0_feed_1 15 rfl rfl)
theorem dX0_feed_39 : decode cX0_feed 39 = .ok (.invokevirtual 108, 3) := dk_182 0 108 (dk_at dksX0_feed_1 17 rfl rfl)
theorem dX0_feed_42 : decode cX0_feed 42 = .ok (.aload_n 0, 1) := dk_42 (dk_at dksX0_feed_1 20 rfl rfl)
theorem dX0_feed_43 : decode cX0_feed 43 = .ok (.getfield 105, 3) := dk_180 0 105 (dk_at dksX0_feed_1 21 rfl rfl)
theorem dX0_feed_46 : decode cX0_feed 46 = .ok (.ireturn, 1) := dk_172 (dk_at dksX0_feed_2 0 rfl rfl)
abbrev cX0_put : ByteArray := prog_1_method_11_code
def yX0_put : MethodName := ⟨RX0, "put", "(I)V"⟩
def dkwX0_put_1 : List UInt8 := [180, 0, 105, 4, 96, 181, 0, 105, 132, 2, 248, 167, 255, 226, 177]
abbrev dktX0_put_1 : List UInt8 := dkwX0_put_1 ++ []
def dkwX0_put_0 : List UInt8 := [16, 24, 61, 28, 155, 0, 32, 42, 180, 0, 40, 42, 180, 0, 105, 27, 28, 122, 145, 84, 42, 89]
abbrev dktX0_put_0 : List UInt8 := dkwX0_put_0 ++ dktX0_put_1
theorem dksX0_put_0 : cX0_put.data.toList.drop 0 = dktX0_put_0 := by decide +kernel
theorem dksX0_put_1 : cX0_put.data.toList.drop 22 = dktX0_put_1 := dk_seg dksX0_put_0 22 rfl rfl
theorem dX0_put_0 : decode cX0_put 0 = .ok (.bipush 24, 2) := dk_16 24 (dk_at dksX0_put_0 0 rfl rfl)
theorem dX0_put_2 : decode cX0_put 2 = .ok (.istore_n 2, 1) := dk_61 (dk_at dksX0_put_0 2 rfl rfl)
theorem dX0_put_3 : decode cX0_put 3 = .ok (.iload_n 2, 1) := dk_28 (dk_at dksX0_put_0 3 rfl rfl)
theorem dX0_put_4 : decode cX0_put 4 = .ok (.ifCond .lt 32, 3) := dk_155 0 32 (dk_at dksX0_put_0 4 rfl rfl)
theorem dX0_put_7 : decode cX0_put 7 = .ok (.aload_n 0, 1) := dk_42 (dk_at dksX0_put_0 7 rfl rfl)
theorem dX0_put_8 : decode cX0_put 8 = .ok (.getfield 40, 3) := dk_180 0 40 (dk_at dksX0_put_0 8 rfl rfl)
theorem dX0_put_11 : decode cX0_put 11 = .ok (.aload_n 0, 1) := dk_42 (dk_at dksX0_put_0 11 rfl rfl)
theorem dX0_put_12 : decode cX0_put 12 = .ok (.getfield 105, 3) := dk_180 0 105 (dk_at dksX0_put_0 12 rfl rfl)
theorem dX0_put_15 : decode cX0_put 15 = .ok (.iload_n 1, 1) := dk_27 (dk_at dksX0_put_0 15 rfl rfl)
theorem dX0_put_16 : decode cX0_put 16 = .ok (.iload_n 2, 1) := dk_28 (dk_at dksX0_put_0 16 rfl rfl)
theorem dX0_put_17 : decode cX0_put 17 = .ok (.ishr, 1) := dk_122 (dk_at dksX0_put_0 17 rfl rfl)
theorem dX0_put_18 : decode cX0_put 18 = .ok (.i2b, 1) := dk_145 (dk_at dksX0_put_0 18 rfl rfl)
theorem dX0_put_19 : decode cX0_put 19 = .ok (.bastore, 1) := dk_84 (dk_at dksX0_put_0 19 rfl rfl)
theorem dX0_put_20 : decode cX0_put 20 = .ok (.aload_n 0, 1) := dk_42 (dk_at dksX0_put_0 20 rfl rfl)
theorem dX0_put_21 : decode cX0_put 21 = .ok (.dup, 1) := dk_89 (dk_at dksX0_put_0 21 rfl rfl)
theorem dX0_put_22 : decode cX0_put 22 = .ok (.getfield 105, 3) := dk_180 0 105 (dk_at dksX0_put_1 0 rfl rfl)
theorem dX0_put_25 : decode cX0_put 25 = .ok (.iconst 1, 1) := dk_4 (dk_at dksX0_put_1 3 rfl rfl)
theorem dX0_put_26 : decode cX0_put 26 = .ok (.iadd, 1) := dk_96 (dk_at dksX0_put_1 4 rfl rfl)
theorem dX0_put_27 : decode cX0_put 27 = .ok (.putfield 105, 3) := dk_181 0 105 (dk_at dksX0_put_1 5 rfl rfl)
theorem dX0_put_30 : decode cX0_put 30 = .ok (.iinc 2 (-8), 3) := dk_132 2 248 (dk_at dksX0_put_1 8 rfl rfl)
theorem dX0_put_33 : decode cX0_put 33 = .ok (.goto (-30), 3) := dk_167 255 226 (dk_at dksX0_put_1 11 rfl rfl)
theorem dX0_put_36 : decode cX0_put 36 = .ok (.return_, 1) := dk_177 (dk_at dksX0_put_1 14 rfl rfl)
abbrev cX0_end : ByteArray := prog_1_method_13_code
def yX0_end : MethodName := ⟨RX0, "end", "(I)I"⟩
def dkwX0_end_0 : List UInt8 := [27, 3, 42, 180, 0, 105, 184, 0, 87, 154, 0, 5, 2, 172, 42, 27, 181, 0, 105, 27, 172]
abbrev dktX0_end_0 : List UInt8 := dkwX0_end_0 ++ []
theorem dksX0_end_0 : cX0_end.data.toList.drop 0 = dktX0_end_0 := by decide +kernel
theorem dX0_end_0 : decode cX0_end 0 = .ok (.iload_n 1, 1) := dk_27 (dk_at dksX0_end_0 0 rfl rfl)
theorem dX0_end_1 : decode cX0_end 1 = .ok (.iconst 0, 1) := dk_3 (dk_at dksX0_end_0 1 rfl rfl)
theorem dX0_end_2 : decode cX0_end 2 = .ok (.aload_n 0, 1) := dk_42 (dk_at dksX0_end_0 2 rfl rfl)
theorem dX0_end_3 : decode cX0_end 3 = .ok (.getfield 105, 3) := dk_180 0 105 (dk_at dksX0_end_0 3 rfl rfl)
theorem dX0_end_6 : decode cX0_end 6 = .ok (.invokestatic 87, 3) := dk_184 0 87 (dk_at dksX0_end_0 6 rfl rfl)
theorem dX0_end_9 : decode cX0_end 9 = .ok (.ifCond .ne 5, 3) := dk_154 0 5 (dk_at dksX0_end_0 9 rfl rfl)
theorem dX0_end_12 : decode cX0_end 12 = .ok (.iconst (-1), 1) := dk_2 (dk_at dksX0_end_0 12 rfl rfl)
theorem dX0_end_13 : decode cX0_end 13 = .ok (.ireturn, 1) := dk_172 (dk_at dksX0_end_0 13 rfl rfl)
theorem dX0_end_14 : decode cX0_end 14 = .ok (.aload_n 0, 1) := dk_42 (dk_at dksX0_end_0 14 rfl rfl)
theorem dX0_end_15 : decode cX0_end 15 = .ok (.iload_n 1, 1) := dk_27 (dk_at dksX0_end_0 15 rfl rfl)
theorem dX0_end_16 : decode cX0_end 16 = .ok (.putfield 105, 3) := dk_181 0 105 (dk_at dksX0_end_0 16 rfl rfl)
theorem dX0_end_19 : decode cX0_end 19 = .ok (.iload_n 1, 1) := dk_27 (dk_at dksX0_end_0 19 rfl rfl)
theorem dX0_end_20 : decode cX0_end 20 = .ok (.ireturn, 1) := dk_172 (dk_at dksX0_end_0 20 rfl rfl)
abbrev cX0_text : ByteArray := prog_1_method_14_code
def yX0_text : MethodName := ⟨RX0, "text", "()I"⟩
def dkwX0_text_5 : List UInt8 := [79, 42, 180, 0, 33, 180, 0, 91, 4, 46, 4, 100, 172]
abbrev dktX0_text_5 : List UInt8 := dkwX0_text_5 ++ []
def dkwX0_text_4 : List UInt8 := [29, 172, 58, 4, 42, 3, 181, 0, 105, 25, 4, 191, 42, 180, 0, 33, 180, 0, 91, 4, 92, 46, 4, 96]
abbrev dktX0_text_4 : List UInt8 := dkwX0_text_4 ++ dktX0_text_5
def dkwX0_text_3 : List UInt8 := [77, 42, 44, 180, 0, 127, 181, 0, 44, 42, 44, 180, 0, 128, 181, 0, 48, 2, 62, 42, 3, 181, 0, 105]
abbrev dktX0_text_3 : List UInt8 := dkwX0_text_3 ++ dktX0_text_4
def dkwX0_text_2 : List UInt8 := [187, 0, 116, 89, 42, 180, 0, 40, 27, 183, 0, 118, 182, 0, 121, 83, 42, 3, 181, 0, 105, 167, 0, 39]
abbrev dktX0_text_2 : List UInt8 := dkwX0_text_2 ++ dktX0_text_3
def dkwX0_text_1 : List UInt8 := [181, 0, 44, 42, 2, 181, 0, 48, 42, 180, 0, 33, 180, 0, 112, 42, 180, 0, 33, 180, 0, 91, 4, 46]
abbrev dktX0_text_1 : List UInt8 := dkwX0_text_1 ++ dktX0_text_2
def dkwX0_text_0 : List UInt8 := [42, 180, 0, 33, 180, 0, 91, 4, 46, 7, 160, 0, 5, 2, 172, 42, 180, 0, 105, 60, 42, 3]
abbrev dktX0_text_0 : List UInt8 := dkwX0_text_0 ++ dktX0_text_1
theorem dksX0_text_0 : cX0_text.data.toList.drop 0 = dktX0_text_0 := by decide +kernel
theorem dksX0_text_1 : cX0_text.data.toList.drop 22 = dktX0_text_1 := dk_seg dksX0_text_0 22 rfl rfl
theorem dksX0_text_2 : cX0_text.data.toList.drop 46 = dktX0_text_2 := dk_seg dksX0_text_1 24 rfl rfl
theorem dksX0_text_3 : cX0_text.data.toList.drop 70 = dktX0_text_3 := dk_seg dksX0_text_2 24 rfl rfl
theorem dksX0_text_4 : cX0_text.data.toList.drop 94 = dktX0_text_4 := dk_seg dksX0_text_3 24 rfl rfl
theorem dksX0_text_5 : cX0_text.data.toList.drop 118 = dktX0_text_5 := dk_seg dksX0_text_4 24 rfl rfl
theorem dX0_text_0 : decode cX0_text 0 = .ok (.aload_n 0, 1) := dk_42 (dk_at dksX0_text_0 0 rfl rfl)
theorem dX0_text_1 : decode cX0_text 1 = .ok (.getfield 33, 3) := dk_180 0 33 (dk_at dksX0_text_0 1 rfl rfl)
theorem dX0_text_4 : decode cX0_text 4 = .ok (.getfield 91, 3) := dk_180 0 91 (dk_at dksX0_text_0 4 rfl rfl)
theorem dX0_text_7 : decode cX0_text 7 = .ok (.iconst 1, 1) := dk_4 (dk_at dksX0_text_0 7 rfl rfl)
theorem dX0_text_8 : decode cX0_text 8 = .ok (.iaload, 1) := dk_46 (dk_at dksX0_text_0 8 rfl rfl)
theorem dX0_text_9 : decode cX0_text 9 = .ok (.iconst 4, 1) := dk_7 (dk_at dksX0_text_0 9 rfl rfl)
theorem dX0_text_10 : decode cX0_text 10 = .ok (.if_icmp .ne 5, 3) := dk_160 0 5 (dk_at dksX0_text_0 10 rfl rfl)
theorem dX0_text_13 : decode cX0_text 13 = .ok (.iconst (-1), 1) := dk_2 (dk_at dksX0_text_0 13 rfl rfl)
theorem dX0_text_14 : decode cX0_text 14 = .ok (.ireturn, 1) := dk_172 (dk_at dksX0_text_0 14 rfl rfl)
theorem dX0_text_15 : decode cX0_text 15 = .ok (.aload_n 0, 1) := dk_42 (dk_at dksX0_text_0 15 rfl rfl)
theorem dX0_text_16 : decode cX0_text 16 = .ok (.getfield 105, 3) := dk_180 0 105 (dk_at dksX0_text_0 16 rfl rfl)
theorem dX0_text_19 : decode cX0_text 19 = .ok (.istore_n 1, 1) := dk_60 (dk_at dksX0_text_0 19 rfl rfl)
theorem dX0_text_20 : decode cX0_text 20 = .ok (.aload_n 0, 1) := dk_42 (dk_at dksX0_text_0 20 rfl rfl)
theorem dX0_text_21 : decode cX0_text 21 = .ok (.iconst 0, 1) := dk_3 (dk_at dksX0_text_0 21 rfl rfl)
theorem dX0_text_22 : decode cX0_text 22 = .ok (.putfield 44, 3) := dk_181 0 44 (dk_at dksX0_text_1 0 rfl rfl)
theorem dX0_text_25 : decode cX0_text 25 = .ok (.aload_n 0, 1) := dk_42 (dk_at dksX0_text_1 3 rfl rfl)
theorem dX0_text_26 : decode cX0_text 26 = .ok (.iconst (-1), 1) := dk_2 (dk_at dksX0_text_1 4 rfl rfl)
theorem dX0_text_27 : decode cX0_text 27 = .ok (.putfield 48, 3) := dk_181 0 48 (dk_at dksX0_text_1 5 rfl rfl)
theorem dX0_text_30 : decode cX0_text 30 = .ok (.aload_n 0, 1) := dk_42 (dk_at dksX0_text_1 8 rfl rfl)
theorem dX0_text_31 : decode cX0_text 31 = .ok (.getfield 33, 3) := dk_180 0 33 (dk_at dksX0_text_1 9 rfl rfl)
theorem dX0_text_34 : decode cX0_text 34 = .ok (.getfield 112, 3) := dk_180 0 112 (dk_at dksX0_text_1 12 rfl rfl)
theorem dX0_text_37 : decode cX0_text 37 = .ok (.aload_n 0, 1) := dk_42 (dk_at dksX0_text_1 15 rfl rfl)
theorem dX0_text_38 : decode cX0_text 38 = .ok (.getfield 33, 3) := dk_180 0 33 (dk_at dksX0_text_1 16 rfl rfl)
theorem dX0_text_41 : decode cX0_text 41 = .ok (.getfield 91, 3) := dk_180 0 91 (dk_at dksX0_text_1 19 rfl rfl)
theorem dX0_text_44 : decode cX0_text 44 = .ok (.iconst 1, 1) := dk_4 (dk_at dksX0_text_1 22 rfl rfl)
theorem dX0_text_45 : decode cX0_text 45 = .ok (.iaload, 1) := dk_46 (dk_at dksX0_text_1 23 rfl rfl)
theorem dX0_text_46 : decode cX0_text 46 = .ok (.new 116, 3) := dk_187 0 116 (dk_at dksX0_text_2 0 rfl rfl)
theorem dX0_text_49 : decode cX0_text 49 = .ok (.dup, 1) := dk_89 (dk_at dksX0_text_2 3 rfl rfl)
theorem dX0_text_50 : decode cX0_text 50 = .ok (.aload_n 0, 1) := dk_42 (dk_at dksX0_text_2 4 rfl rfl)
theorem dX0_text_51 : decode cX0_text 51 = .ok (.getfield 40, 3) := dk_180 0 40 (dk_at dksX0_text_2 5 rfl rfl)
theorem dX0_text_54 : decode cX0_text 54 = .ok (.iload_n 1, 1) := dk_27 (dk_at dksX0_text_2 8 rfl rfl)
theorem dX0_text_55 : decode cX0_text 55 = .ok (.invokespecial 118, 3) := dk_183 0 118 (dk_at dksX0_text_2 9 rfl rfl)
theorem dX0_text_58 : decode cX0_text 58 = .ok (.invokevirtual 121, 3) := dk_182 0 121 (dk_at dksX0_text_2 12 rfl rfl)
theorem dX0_text_61 : decode cX0_text 61 = .ok (.aastore, 1) := dk_83 (dk_at dksX0_text_2 15 rfl rfl)
theorem dX0_text_62 : decode cX0_text 62 = .ok (.aload_n 0, 1) := dk_42 (dk_at dksX0_text_2 16 rfl rfl)
theorem dX0_text_63 : decode cX0_text 63 = .ok (.iconst 0, 1) := dk_3 (dk_at dksX0_text_2 17 rfl rfl)
theorem dX0_text_64 : decode cX0_text 64 = .ok (.putfield 105, 3) := dk_181 0 105 (dk_at dksX0_text_2 18 rfl rfl)
theorem dX0_text_67 : decode cX0_text 67 = .ok (.goto 39, 3) := dk_167 0 39 (dk_at dksX0_text_2 21 rfl rfl)
theorem dX0_text_70 : decode cX0_text 70 = .ok (.astore_n 2, 1) := dk_77 (dk_at dksX0_text_3 0 rfl rfl)
theorem dX0_text_71 : decode cX0_text 71 = .ok (.aload_n 0, 1) := dk_42 (dk_at dksX0_text_3 1 rfl rfl)
theorem dX0_text_72 : decode cX0_text 72 = .ok (.aload_n 2, 1) := dk_44 (dk_at dksX0_text_3 2 rfl rfl)
theorem dX0_text_73 : decode cX0_text 73 = .ok (.getfield 127, 3) := dk_180 0 127 (dk_at dksX0_text_3 3 rfl rfl)
theorem dX0_text_76 : decode cX0_text 76 = .ok (.putfield 44, 3) := dk_181 0 44 (dk_at dksX0_text_3 6 rfl rfl)
theorem dX0_text_79 : decode cX0_text 79 = .ok (.aload_n 0, 1) := dk_42 (dk_at dksX0_text_3 9 rfl rfl)
theorem dX0_text_80 : decode cX0_text 80 = .ok (.aload_n 2, 1) := dk_44 (dk_at dksX0_text_3 10 rfl rfl)
theorem dX0_text_81 : decode cX0_text 81 = .ok (.getfield 128, 3) := dk_180 0 128 (dk_at dksX0_text_3 11 rfl rfl)
theorem dX0_text_84 : decode cX0_text 84 = .ok (.putfield 48, 3) := dk_181 0 48 (dk_at dksX0_text_3 14 rfl rfl)
theorem dX0_text_87 : decode cX0_text 87 = .ok (.iconst (-1), 1) := dk_2 (dk_at dksX0_text_3 17 rfl rfl)
theorem dX0_text_88 : decode cX0_text 88 = .ok (.istore_n 3, 1) := dk_62 (dk_at dksX0_text_3 18 rfl rfl)
theorem dX0_text_89 : decode cX0_text 89 = .ok (.aload_n 0, 1) := dk_42 (dk_at dksX0_text_3 19 rfl rfl)
theorem dX0_text_90 : decode cX0_text 90 = .ok (.iconst 0, 1) := dk_3 (dk_at dksX0_text_3 20 rfl rfl)
theorem dX0_text_91 : decode cX0_text 91 = .ok (.putfield 105, 3) := dk_181 0 105 (dk_at dksX0_text_3 21 rfl rfl)
theorem dX0_text_94 : decode cX0_text 94 = .ok (.iload_n 3, 1) := dk_29 (dk_at dksX0_text_4 0 rfl rfl)
theorem dX0_text_95 : decode cX0_text 95 = .ok (.ireturn, 1) := dk_172 (dk_at dksX0_text_4 1 rfl rfl)
theorem dX0_text_96 : decode cX0_text 96 = .ok (.astore 4, 2) := dk_58 4 (dk_at dksX0_text_4 2 rfl rfl)
theorem dX0_text_98 : decode cX0_text 98 = .ok (.aload_n 0, 1) := dk_42 (dk_at dksX0_text_4 4 rfl rfl)
theorem dX0_text_99 : decode cX0_text 99 = .ok (.iconst 0, 1) := dk_3 (dk_at dksX0_text_4 5 rfl rfl)
theorem dX0_text_100 : decode cX0_text 100 = .ok (.putfield 105, 3) := dk_181 0 105 (dk_at dksX0_text_4 6 rfl rfl)
theorem dX0_text_103 : decode cX0_text 103 = .ok (.aload 4, 2) := dk_25 4 (dk_at dksX0_text_4 9 rfl rfl)
theorem dX0_text_105 : decode cX0_text 105 = .ok (.athrow, 1) := dk_191 (dk_at dksX0_text_4 11 rfl rfl)
theorem dX0_text_106 : decode cX0_text 106 = .ok (.aload_n 0, 1) := dk_42 (dk_at dksX0_text_4 12 rfl rfl)
theorem dX0_text_107 : decode cX0_text 107 = .ok (.getfield 33, 3) := dk_180 0 33 (dk_at dksX0_text_4 13 rfl rfl)
theorem dX0_text_110 : decode cX0_text 110 = .ok (.getfield 91, 3) := dk_180 0 91 (dk_at dksX0_text_4 16 rfl rfl)
theorem dX0_text_113 : decode cX0_text 113 = .ok (.iconst 1, 1) := dk_4 (dk_at dksX0_text_4 19 rfl rfl)
theorem dX0_text_114 : decode cX0_text 114 = .ok (.dup2, 1) := dk_92 (dk_at dksX0_text_4 20 rfl rfl)
theorem dX0_text_115 : decode cX0_text 115 = .ok (.iaload, 1) := dk_46 (dk_at dksX0_text_4 21 rfl rfl)
theorem dX0_text_116 : decode cX0_text 116 = .ok (.iconst 1, 1) := dk_4 (dk_at dksX0_text_4 22 rfl rfl)
theorem dX0_text_117 : decode cX0_text 117 = .ok (.iadd, 1) := dk_96 (dk_at dksX0_text_4 23 rfl rfl)
theorem dX0_text_118 : decode cX0_text 118 = .ok (.iastore, 1) := dk_79 (dk_at dksX0_text_5 0 rfl rfl)
theorem dX0_text_119 : decode cX0_text 119 = .ok (.aload_n 0, 1) := dk_42 (dk_at dksX0_text_5 1 rfl rfl)
theorem dX0_text_120 : decode cX0_text 120 = .ok (.getfield 33, 3) := dk_180 0 33 (dk_at dksX0_text_5 2 rfl rfl)
theorem dX0_text_123 : decode cX0_text 123 = .ok (.getfield 91, 3) := dk_180 0 91 (dk_at dksX0_text_5 5 rfl rfl)
theorem dX0_text_126 : decode cX0_text 126 = .ok (.iconst 1, 1) := dk_4 (dk_at dksX0_text_5 8 rfl rfl)
theorem dX0_text_127 : decode cX0_text 127 = .ok (.iaload, 1) := dk_46 (dk_at dksX0_text_5 9 rfl rfl)
theorem dX0_text_128 : decode cX0_text 128 = .ok (.iconst 1, 1) := dk_4 (dk_at dksX0_text_5 10 rfl rfl)
theorem dX0_text_129 : decode cX0_text 129 = .ok (.isub, 1) := dk_100 (dk_at dksX0_text_5 11 rfl rfl)
theorem dX0_text_130 : decode cX0_text 130 = .ok (.ireturn, 1) := dk_172 (dk_at dksX0_text_5 12 rfl rfl)
abbrev cX0_fault : ByteArray := prog_1_method_15_code
def yX0_fault : MethodName := ⟨RX0, "fault", "(I)I"⟩
def dkwX0_fault_1 : List UInt8 := [172]
abbrev dktX0_fault_1 : List UInt8 := dkwX0_fault_1 ++ []
def dkwX0_fault_0 : List UInt8 := [27, 154, 0, 10, 42, 180, 0, 44, 167, 0, 16, 27, 4, 160, 0, 10, 42, 180, 0, 48, 167, 0, 4, 2]
abbrev dktX0_fault_0 : List UInt8 := dkwX0_fault_0 ++ dktX0_fault_1
theorem dksX0_fault_0 : cX0_fault.data.toList.drop 0 = dktX0_fault_0 := by decide +kernel
theorem dksX0_fault_1 : cX0_fault.data.toList.drop 24 = dktX0_fault_1 := dk_seg dksX0_fault_0 24 rfl rfl
theorem dX0_fault_0 : decode cX0_fault 0 = .ok (.iload_n 1, 1) := dk_27 (dk_at dksX0_fault_0 0 rfl rfl)
theorem dX0_fault_1 : decode cX0_fault 1 = .ok (.ifCond .ne 10, 3) := dk_154 0 10 (dk_at dksX0_fault_0 1 rfl rfl)
theorem dX0_fault_4 : decode cX0_fault 4 = .ok (.aload_n 0, 1) := dk_42 (dk_at dksX0_fault_0 4 rfl rfl)
theorem dX0_fault_5 : decode cX0_fault 5 = .ok (.getfield 44, 3) := dk_180 0 44 (dk_at dksX0_fault_0 5 rfl rfl)
theorem dX0_fault_8 : decode cX0_fault 8 = .ok (.goto 16, 3) := dk_167 0 16 (dk_at dksX0_fault_0 8 rfl rfl)
theorem dX0_fault_11 : decode cX0_fault 11 = .ok (.iload_n 1, 1) := dk_27 (dk_at dksX0_fault_0 11 rfl rfl)
theorem dX0_fault_12 : decode cX0_fault 12 = .ok (.iconst 1, 1) := dk_4 (dk_at dksX0_fault_0 12 rfl rfl)
theorem dX0_fault_13 : decode cX0_fault 13 = .ok (.if_icmp .ne 10, 3) := dk_160 0 10 (dk_at dksX0_fault_0 13 rfl rfl)
theorem dX0_fault_16 : decode cX0_fault 16 = .ok (.aload_n 0, 1) := dk_42 (dk_at dksX0_fault_0 16 rfl rfl)
theorem dX0_fault_17 : decode cX0_fault 17 = .ok (.getfield 48, 3) := dk_180 0 48 (dk_at dksX0_fault_0 17 rfl rfl)
theorem dX0_fault_20 : decode cX0_fault 20 = .ok (.goto 4, 3) := dk_167 0 4 (dk_at dksX0_fault_0 20 rfl rfl)
theorem dX0_fault_23 : decode cX0_fault 23 = .ok (.iconst (-1), 1) := dk_2 (dk_at dksX0_fault_0 23 rfl rfl)
theorem dX0_fault_24 : decode cX0_fault 24 = .ok (.ireturn, 1) := dk_172 (dk_at dksX0_fault_1 0 rfl rfl)
abbrev cX0_by : ByteArray := prog_1_method_17_code
def yX0_by : MethodName := ⟨RX0, "by", "(I)Z"⟩
def dkwX0_by_1 : List UInt8 := [79, 4, 172]
abbrev dktX0_by_1 : List UInt8 := dkwX0_by_1 ++ []
def dkwX0_by_0 : List UInt8 := [27, 2, 159, 0, 13, 42, 27, 182, 0, 131, 154, 0, 5, 3, 172, 42, 180, 0, 33, 180, 0, 91, 5, 27]
abbrev dktX0_by_0 : List UInt8 := dkwX0_by_0 ++ dktX0_by_1
theorem dksX0_by_0 : cX0_by.data.toList.drop 0 = dktX0_by_0 := by decide +kernel
theorem dksX0_by_1 : cX0_by.data.toList.drop 24 = dktX0_by_1 := dk_seg dksX0_by_0 24 rfl rfl
theorem dX0_by_0 : decode cX0_by 0 = .ok (.iload_n 1, 1) := dk_27 (dk_at dksX0_by_0 0 rfl rfl)
theorem dX0_by_1 : decode cX0_by 1 = .ok (.iconst (-1), 1) := dk_2 (dk_at dksX0_by_0 1 rfl rfl)
theorem dX0_by_2 : decode cX0_by 2 = .ok (.if_icmp .eq 13, 3) := dk_159 0 13 (dk_at dksX0_by_0 2 rfl rfl)
theorem dX0_by_5 : decode cX0_by 5 = .ok (.aload_n 0, 1) := dk_42 (dk_at dksX0_by_0 5 rfl rfl)
theorem dX0_by_6 : decode cX0_by 6 = .ok (.iload_n 1, 1) := dk_27 (dk_at dksX0_by_0 6 rfl rfl)
theorem dX0_by_7 : decode cX0_by 7 = .ok (.invokevirtual 131, 3) := dk_182 0 131 (dk_at dksX0_by_0 7 rfl rfl)
theorem dX0_by_10 : decode cX0_by 10 = .ok (.ifCond .ne 5, 3) := dk_154 0 5 (dk_at dksX0_by_0 10 rfl rfl)
theorem dX0_by_13 : decode cX0_by 13 = .ok (.iconst 0, 1) := dk_3 (dk_at dksX0_by_0 13 rfl rfl)
theorem dX0_by_14 : decode cX0_by 14 = .ok (.ireturn, 1) := dk_172 (dk_at dksX0_by_0 14 rfl rfl)
theorem dX0_by_15 : decode cX0_by 15 = .ok (.aload_n 0, 1) := dk_42 (dk_at dksX0_by_0 15 rfl rfl)
theorem dX0_by_16 : decode cX0_by 16 = .ok (.getfield 33, 3) := dk_180 0 33 (dk_at dksX0_by_0 16 rfl rfl)
theorem dX0_by_19 : decode cX0_by 19 = .ok (.getfield 91, 3) := dk_180 0 91 (dk_at dksX0_by_0 19 rfl rfl)
theorem dX0_by_22 : decode cX0_by 22 = .ok (.iconst 2, 1) := dk_5 (dk_at dksX0_by_0 22 rfl rfl)
theorem dX0_by_23 : decode cX0_by 23 = .ok (.iload_n 1, 1) := dk_27 (dk_at dksX0_by_0 23 rfl rfl)
theorem dX0_by_24 : decode cX0_by 24 = .ok (.iastore, 1) := dk_79 (dk_at dksX0_by_1 0 rfl rfl)
theorem dX0_by_25 : decode cX0_by 25 = .ok (.iconst 1, 1) := dk_4 (dk_at dksX0_by_1 1 rfl rfl)
theorem dX0_by_26 : decode cX0_by 26 = .ok (.ireturn, 1) := dk_172 (dk_at dksX0_by_1 2 rfl rfl)
abbrev cX0_isText : ByteArray := prog_1_method_16_code
def yX0_isText : MethodName := ⟨RX0, "isText", "(I)Z"⟩
def dkwX0_isText_0 : List UInt8 := [27, 3, 42, 180, 0, 33, 180, 0, 91, 4, 46, 4, 100, 184, 0, 87, 172]
abbrev dktX0_isText_0 : List UInt8 := dkwX0_isText_0 ++ []
theorem dksX0_isText_0 : cX0_isText.data.toList.drop 0 = dktX0_isText_0 := by decide +kernel
theorem dX0_isText_0 : decode cX0_isText 0 = .ok (.iload_n 1, 1) := dk_27 (dk_at dksX0_isText_0 0 rfl rfl)
theorem dX0_isText_1 : decode cX0_isText 1 = .ok (.iconst 0, 1) := dk_3 (dk_at dksX0_isText_0 1 rfl rfl)
theorem dX0_isText_2 : decode cX0_isText 2 = .ok (.aload_n 0, 1) := dk_42 (dk_at dksX0_isText_0 2 rfl rfl)
theorem dX0_isText_3 : decode cX0_isText 3 = .ok (.getfield 33, 3) := dk_180 0 33 (dk_at dksX0_isText_0 3 rfl rfl)
theorem dX0_isText_6 : decode cX0_isText 6 = .ok (.getfield 91, 3) := dk_180 0 91 (dk_at dksX0_isText_0 6 rfl rfl)
theorem dX0_isText_9 : decode cX0_isText 9 = .ok (.iconst 1, 1) := dk_4 (dk_at dksX0_isText_0 9 rfl rfl)
theorem dX0_isText_10 : decode cX0_isText 10 = .ok (.iaload, 1) := dk_46 (dk_at dksX0_isText_0 10 rfl rfl)
theorem dX0_isText_11 : decode cX0_isText 11 = .ok (.iconst 1, 1) := dk_4 (dk_at dksX0_isText_0 11 rfl rfl)
theorem dX0_isText_12 : decode cX0_isText 12 = .ok (.isub, 1) := dk_100 (dk_at dksX0_isText_0 12 rfl rfl)
theorem dX0_isText_13 : decode cX0_isText 13 = .ok (.invokestatic 87, 3) := dk_184 0 87 (dk_at dksX0_isText_0 13 rfl rfl)
theorem dX0_isText_16 : decode cX0_isText 16 = .ok (.ireturn, 1) := dk_172 (dk_at dksX0_isText_0 16 rfl rfl)
abbrev cX0_shave : ByteArray := prog_1_method_24_code
def yX0_shave : MethodName := ⟨RX0, "shave", "(I)I"⟩
def dkwX0_shave_1 : List UInt8 := [180, 0, 189, 27, 182, 0, 192, 172]
abbrev dktX0_shave_1 : List UInt8 := dkwX0_shave_1 ++ []
def dkwX0_shave_0 : List UInt8 := [42, 27, 182, 0, 138, 154, 0, 5, 2, 172, 42, 180, 0, 33, 182, 0, 186, 42, 42, 180, 0, 33]
abbrev dktX0_shave_0 : List UInt8 := dkwX0_shave_0 ++ dktX0_shave_1
theorem dksX0_shave_0 : cX0_shave.data.toList.drop 0 = dktX0_shave_0 := by decide +kernel
theorem dksX0_shave_1 : cX0_shave.data.toList.drop 22 = dktX0_shave_1 := dk_seg dksX0_shave_0 22 rfl rfl
theorem dX0_shave_0 : decode cX0_shave 0 = .ok (.aload_n 0, 1) := dk_42 (dk_at dksX0_shave_0 0 rfl rfl)
theorem dX0_shave_1 : decode cX0_shave 1 = .ok (.iload_n 1, 1) := dk_27 (dk_at dksX0_shave_0 1 rfl rfl)
theorem dX0_shave_2 : decode cX0_shave 2 = .ok (.invokevirtual 138, 3) := dk_182 0 138 (dk_at dksX0_shave_0 2 rfl rfl)
theorem dX0_shave_5 : decode cX0_shave 5 = .ok (.ifCond .ne 5, 3) := dk_154 0 5 (dk_at dksX0_shave_0 5 rfl rfl)
theorem dX0_shave_8 : decode cX0_shave 8 = .ok (.iconst (-1), 1) := dk_2 (dk_at dksX0_shave_0 8 rfl rfl)
theorem dX0_shave_9 : decode cX0_shave 9 = .ok (.ireturn, 1) := dk_172 (dk_at dksX0_shave_0 9 rfl rfl)
theorem dX0_shave_10 : decode cX0_shave 10 = .ok (.aload_n 0, 1) := dk_42 (dk_at dksX0_shave_0 10 rfl rfl)
theorem dX0_shave_11 : decode cX0_shave 11 = .ok (.getfield 33, 3) := dk_180 0 33 (dk_at dksX0_shave_0 11 rfl rfl)
theorem dX0_shave_14 : decode cX0_shave 14 = .ok (.invokevirtual 186, 3) := dk_182 0 186 (dk_at dksX0_shave_0 14 rfl rfl)
theorem dX0_shave_17 : decode cX0_shave 17 = .ok (.aload_n 0, 1) := dk_42 (dk_at dksX0_shave_0 17 rfl rfl)
theorem dX0_shave_18 : decode cX0_shave 18 = .ok (.aload_n 0, 1) := dk_42 (dk_at dksX0_shave_0 18 rfl rfl)
theorem dX0_shave_19 : decode cX0_shave 19 = .ok (.getfield 33, 3) := dk_180 0 33 (dk_at dksX0_shave_0 19 rfl rfl)
theorem dX0_shave_22 : decode cX0_shave 22 = .ok (.getfield 189, 3) := dk_180 0 189 (dk_at dksX0_shave_1 0 rfl rfl)
theorem dX0_shave_25 : decode cX0_shave 25 = .ok (.iload_n 1, 1) := dk_27 (dk_at dksX0_shave_1 3 rfl rfl)
theorem dX0_shave_26 : decode cX0_shave 26 = .ok (.invokevirtual 192, 3) := dk_182 0 192 (dk_at dksX0_shave_1 4 rfl rfl)
theorem dX0_shave_29 : decode cX0_shave 29 = .ok (.ireturn, 1) := dk_172 (dk_at dksX0_shave_1 7 rfl rfl)
abbrev cX0_isPerson : ByteArray := prog_1_method_8_code
def yX0_isPerson : MethodName := ⟨RX0, "isPerson", "(I)Z"⟩
def dkwX0_isPerson_0 : List UInt8 := [27, 3, 42, 180, 0, 33, 180, 0, 91, 3, 46, 4, 100, 184, 0, 87, 172]
abbrev dktX0_isPerson_0 : List UInt8 := dkwX0_isPerson_0 ++ []
theorem dksX0_isPerson_0 : cX0_isPerson.data.toList.drop 0 = dktX0_isPerson_0 := by decide +kernel
theorem dX0_isPerson_0 : decode cX0_isPerson 0 = .ok (.iload_n 1, 1) := dk_27 (dk_at dksX0_isPerson_0 0 rfl rfl)
theorem dX0_isPerson_1 : decode cX0_isPerson 1 = .ok (.iconst 0, 1) := dk_3 (dk_at dksX0_isPerson_0 1 rfl rfl)
theorem dX0_isPerson_2 : decode cX0_isPerson 2 = .ok (.aload_n 0, 1) := dk_42 (dk_at dksX0_isPerson_0 2 rfl rfl)
theorem dX0_isPerson_3 : decode cX0_isPerson 3 = .ok (.getfield 33, 3) := dk_180 0 33 (dk_at dksX0_isPerson_0 3 rfl rfl)
theorem dX0_isPerson_6 : decode cX0_isPerson 6 = .ok (.getfield 91, 3) := dk_180 0 91 (dk_at dksX0_isPerson_0 6 rfl rfl)
theorem dX0_isPerson_9 : decode cX0_isPerson 9 = .ok (.iconst 0, 1) := dk_3 (dk_at dksX0_isPerson_0 9 rfl rfl)
theorem dX0_isPerson_10 : decode cX0_isPerson 10 = .ok (.iaload, 1) := dk_46 (dk_at dksX0_isPerson_0 10 rfl rfl)
theorem dX0_isPerson_11 : decode cX0_isPerson 11 = .ok (.iconst 1, 1) := dk_4 (dk_at dksX0_isPerson_0 11 rfl rfl)
theorem dX0_isPerson_12 : decode cX0_isPerson 12 = .ok (.isub, 1) := dk_100 (dk_at dksX0_isPerson_0 12 rfl rfl)
theorem dX0_isPerson_13 : decode cX0_isPerson 13 = .ok (.invokestatic 87, 3) := dk_184 0 87 (dk_at dksX0_isPerson_0 13 rfl rfl)
theorem dX0_isPerson_16 : decode cX0_isPerson 16 = .ok (.ireturn, 1) := dk_172 (dk_at dksX0_isPerson_0 16 rfl rfl)
abbrev cX0_lathers : ByteArray := prog_1_method_23_code
def yX0_lathers : MethodName := ⟨RX0, "lathers", "([II)I"⟩
def dkwX0_lathers_5 : List UInt8 := [184, 0, 182, 21, 5, 172]
abbrev dktX0_lathers_5 : List UInt8 := dkwX0_lathers_5 ++ []
def dkwX0_lathers_4 : List UInt8 := [79, 42, 43, 28, 29, 182, 0, 178, 54, 6, 43, 28, 21, 5, 21, 6, 153, 0, 7, 4, 167, 0, 4, 3]
abbrev dktX0_lathers_4 : List UInt8 := dkwX0_lathers_4 ++ dktX0_lathers_5
def dkwX0_lathers_3 : List UInt8 := [182, 0, 170, 43, 28, 3, 182, 0, 173, 184, 0, 167, 54, 5, 43, 6, 21, 4, 96, 92, 46, 21, 5, 100]
abbrev dktX0_lathers_3 : List UInt8 := dkwX0_lathers_3 ++ dktX0_lathers_4
def dkwX0_lathers_2 : List UInt8 := [54, 5, 3, 54, 6, 42, 21, 4, 182, 0, 138, 153, 0, 45, 43, 6, 21, 4, 96, 46, 42, 42]
abbrev dktX0_lathers_2 : List UInt8 := dkwX0_lathers_2 ++ dktX0_lathers_3
def dkwX0_lathers_1 : List UInt8 := [43, 28, 5, 182, 0, 173, 96, 184, 0, 167, 79, 42, 180, 0, 33, 180, 0, 102, 28, 46, 54, 4, 3]
abbrev dktX0_lathers_1 : List UInt8 := dkwX0_lathers_1 ++ dktX0_lathers_2
def dkwX0_lathers_0 : List UInt8 := [42, 42, 182, 0, 170, 43, 28, 4, 182, 0, 173, 62, 43, 4, 18, 177, 43, 4, 46, 42, 42, 182, 0, 170]
abbrev dktX0_lathers_0 : List UInt8 := dkwX0_lathers_0 ++ dktX0_lathers_1
theorem dksX0_lathers_0 : cX0_lathers.data.toList.drop 0 = dktX0_lathers_0 := by decide +kernel
theorem dksX0_lathers_1 : cX0_lathers.data.toList.drop 24 = dktX0_lathers_1 := dk_seg dksX0_lathers_0 24 rfl rfl
theorem dksX0_lathers_2 : cX0_lathers.data.toList.drop 47 = dktX0_lathers_2 := dk_seg dksX0_lathers_1 23 rfl rfl
theorem dksX0_lathers_3 : cX0_lathers.data.toList.drop 69 = dktX0_lathers_3 := dk_seg dksX0_lathers_2 22 rfl rfl
theorem dksX0_lathers_4 : cX0_lathers.data.toList.drop 93 = dktX0_lathers_4 := dk_seg dksX0_lathers_3 24 rfl rfl
theorem dksX0_lathers_5 : cX0_lathers.data.toList.drop 117 = dktX0_lathers_5 := dk_seg dksX0_lathers_4 24 rfl rfl
theorem dX0_lathers_0 : decode cX0_lathers 0 = .ok (.aload_n 0, 1) := dk_42 (dk_at dksX0_lathers_0 0 rfl rfl)
theorem dX0_lathers_1 : decode cX0_lathers 1 = .ok (.aload_n 0, 1) := dk_42 (dk_at dksX0_lathers_0 1 rfl rfl)
theorem dX0_lathers_2 : decode cX0_lathers 2 = .ok (.invokevirtual 170, 3) := dk_182 0 170 (dk_at dksX0_lathers_0 2 rfl rfl)
theorem dX0_lathers_5 : decode cX0_lathers 5 = .ok (.aload_n 1, 1) := dk_43 (dk_at dksX0_lathers_0 5 rfl rfl)
theorem dX0_lathers_6 : decode cX0_lathers 6 = .ok (.iload_n 2, 1) := dk_28 (dk_at dksX0_lathers_0 6 rfl rfl)
theorem dX0_lathers_7 : decode cX0_lathers 7 = .ok (.iconst 1, 1) := dk_4 (dk_at dksX0_lathers_0 7 rfl rfl)
theorem dX0_lathers_8 : decode cX0_lathers 8 = .ok (.invokevirtual 173, 3) := dk_182 0 173 (dk_at dksX0_lathers_0 8 rfl rfl)
theorem dX0_lathers_11 : decode cX0_lathers 11 = .ok (.istore_n 3, 1) := dk_62 (dk_at dksX0_lathers_0 11 rfl rfl)
theorem dX0_lathers_12 : decode cX0_lathers 12 = .ok (.aload_n 1, 1) := dk_43 (dk_at dksX0_lathers_0 12 rfl rfl)
theorem dX0_lathers_13 : decode cX0_lathers 13 = .ok (.iconst 1, 1) := dk_4 (dk_at dksX0_lathers_0 13 rfl rfl)
theorem dX0_lathers_14 : decode cX0_lathers 14 = .ok (.ldc 177, 2) := dk_18 177 (dk_at dksX0_lathers_0 14 rfl rfl)
theorem dX0_lathers_16 : decode cX0_lathers 16 = .ok (.aload_n 1, 1) := dk_43 (dk_at dksX0_lathers_0 16 rfl rfl)
theorem dX0_lathers_17 : decode cX0_lathers 17 = .ok (.iconst 1, 1) := dk_4 (dk_at dksX0_lathers_0 17 rfl rfl)
theorem dX0_lathers_18 : decode cX0_lathers 18 = .ok (.iaload, 1) := dk_46 (dk_at dksX0_lathers_0 18 rfl rfl)
theorem dX0_lathers_19 : decode cX0_lathers 19 = .ok (.aload_n 0, 1) := dk_42 (dk_at dksX0_lathers_0 19 rfl rfl)
theorem dX0_lathers_20 : decode cX0_lathers 20 = .ok (.aload_n 0, 1) := dk_42 (dk_at dksX0_lathers_0 20 rfl rfl)
theorem dX0_lathers_21 : decode cX0_lathers 21 = .ok (.invokevirtual 170, 3) := dk_182 0 170 (dk_at dksX0_lathers_0 21 rfl rfl)
theorem dX0_lathers_24 : decode cX0_lathers 24 = .ok (.aload_n 1, 1) := dk_43 (dk_at dksX0_lathers_1 0 rfl rfl)
theorem dX0_lathers_25 : decode cX0_lathers 25 = .ok (.iload_n 2, 1) := dk_28 (dk_at dksX0_lathers_1 1 rfl rfl)
theorem dX0_lathers_26 : decode cX0_lathers 26 = .ok (.iconst 2, 1) := dk_5 (dk_at dksX0_lathers_1 2 rfl rfl)
theorem dX0_lathers_27 : decode cX0_lathers 27 = .ok (.invokevirtual 173, 3) := dk_182 0 173 (dk_at dksX0_lathers_1 3 rfl rfl)
theorem dX0_lathers_30 : decode cX0_lathers 30 = .ok (.iadd, 1) := dk_96 (dk_at dksX0_lathers_1 6 rfl rfl)
theorem dX0_lathers_31 : decode cX0_lathers 31 = .ok (.invokestatic 167, 3) := dk_184 0 167 (dk_at dksX0_lathers_1 7 rfl rfl)
theorem dX0_lathers_34 : decode cX0_lathers 34 = .ok (.iastore, 1) := dk_79 (dk_at dksX0_lathers_1 10 rfl rfl)
theorem dX0_lathers_35 : decode cX0_lathers 35 = .ok (.aload_n 0, 1) := dk_42 (dk_at dksX0_lathers_1 11 rfl rfl)
theorem dX0_lathers_36 : decode cX0_lathers 36 = .ok (.getfield 33, 3) := dk_180 0 33 (dk_at dksX0_lathers_1 12 rfl rfl)
theorem dX0_lathers_39 : decode cX0_lathers 39 = .ok (.getfield 102, 3) := dk_180 0 102 (dk_at dksX0_lathers_1 15 rfl rfl)
theorem dX0_lathers_42 : decode cX0_lathers 42 = .ok (.iload_n 2, 1) := dk_28 (dk_at dksX0_lathers_1 18 rfl rfl)
theorem dX0_lathers_43 : decode cX0_lathers 43 = .ok (.iaload, 1) := dk_46 (dk_at dksX0_lathers_1 19 rfl rfl)
theorem dX0_lathers_44 : decode cX0_lathers 44 = .ok (.istore 4, 2) := dk_54 4 (dk_at dksX0_lathers_1 20 rfl rfl)
theorem dX0_lathers_46 : decode cX0_lathers 46 = .ok (.iconst 0, 1) := dk_3 (dk_at dksX0_lathers_1 22 rfl rfl)
theorem dX0_lathers_47 : decode cX0_lathers 47 = .ok (.istore 5, 2) := dk_54 5 (dk_at dksX0_lathers_2 0 rfl rfl)
theorem dX0_lathers_49 : decode cX0_lathers 49 = .ok (.iconst 0, 1) := dk_3 (dk_at dksX0_lathers_2 2 rfl rfl)
theorem dX0_lathers_50 : decode cX0_lathers 50 = .ok (.istore 6, 2) := dk_54 6 (dk_at dksX0_lathers_2 3 rfl rfl)
theorem dX0_lathers_52 : decode cX0_lathers 52 = .ok (.aload_n 0, 1) := dk_42 (dk_at dksX0_lathers_2 5 rfl rfl)
theorem dX0_lathers_53 : decode cX0_lathers 53 = .ok (.iload 4, 2) := dk_21 4 (dk_at dksX0_lathers_2 6 rfl rfl)
theorem dX0_lathers_55 : decode cX0_lathers 55 = .ok (.invokevirtual 138, 3) := dk_182 0 138 (dk_at dksX0_lathers_2 8 rfl rfl)
theorem dX0_lathers_58 : decode cX0_lathers 58 = .ok (.ifCond .eq 45, 3) := dk_153 0 45 (dk_at dksX0_lathers_2 11 rfl rfl)
theorem dX0_lathers_61 : decode cX0_lathers 61 = .ok (.aload_n 1, 1) := dk_43 (dk_at dksX0_lathers_2 14 rfl rfl)
theorem dX0_lathers_62 : decode cX0_lathers 62 = .ok (.iconst 3, 1) := dk_6 (dk_at dksX0_lathers_2 15 rfl rfl)
theorem dX0_lathers_63 : decode cX0_lathers 63 = .ok (.iload 4, 2) := dk_21 4 (dk_at dksX0_lathers_2 16 rfl rfl)
theorem dX0_lathers_65 : decode cX0_lathers 65 = .ok (.iadd, 1) := dk_96 (dk_at dksX0_lathers_2 18 rfl rfl)
theorem dX0_lathers_66 : decode cX0_lathers 66 = .ok (.iaload, 1) := dk_46 (dk_at dksX0_lathers_2 19 rfl rfl)
theorem dX0_lathers_67 : decode cX0_lathers 67 = .ok (.aload_n 0, 1) := dk_42 (dk_at dksX0_lathers_2 20 rfl rfl)
theorem dX0_lathers_68 : decode cX0_lathers 68 = .ok (.aload_n 0, 1) := dk_42 (dk_at dksX0_lathers_2 21 rfl rfl)
theorem dX0_lathers_69 : decode cX0_lathers 69 = .ok (.invokevirtual 170, 3) := dk_182 0 170 (dk_at dksX0_lathers_3 0 rfl rfl)
theorem dX0_lathers_72 : decode cX0_lathers 72 = .ok (.aload_n 1, 1) := dk_43 (dk_at dksX0_lathers_3 3 rfl rfl)
theorem dX0_lathers_73 : decode cX0_lathers 73 = .ok (.iload_n 2, 1) := dk_28 (dk_at dksX0_lathers_3 4 rfl rfl)
theorem dX0_lathers_74 : decode cX0_lathers 74 = .ok (.iconst 0, 1) := dk_3 (dk_at dksX0_lathers_3 5 rfl rfl)
theorem dX0_lathers_75 : decode cX0_lathers 75 = .ok (.invokevirtual 173, 3) := dk_182 0 173 (dk_at dksX0_lathers_3 6 rfl rfl)
theorem dX0_lathers_78 : decode cX0_lathers 78 = .ok (.invokestatic 167, 3) := dk_184 0 167 (dk_at dksX0_lathers_3 9 rfl rfl)
theorem dX0_lathers_81 : decode cX0_lathers 81 = .ok (.istore 5, 2) := dk_54 5 (dk_at dksX0_lathers_3 12 rfl rfl)
theorem dX0_lathers_83 : decode cX0_lathers 83 = .ok (.aload_n 1, 1) := dk_43 (dk_at dksX0_lathers_3 14 rfl rfl)
theorem dX0_lathers_84 : decode cX0_lathers 84 = .ok (.iconst 3, 1) := dk_6 (dk_at dksX0_lathers_3 15 rfl rfl)
theorem dX0_lathers_85 : decode cX0_lathers 85 = .ok (.iload 4, 2) := dk_21 4 (dk_at dksX0_lathers_3 16 rfl rfl)
theorem dX0_lathers_87 : decode cX0_lathers 87 = .ok (.iadd, 1) := dk_96 (dk_at dksX0_lathers_3 18 rfl rfl)
theorem dX0_lathers_88 : decode cX0_lathers 88 = .ok (.dup2, 1) := dk_92 (dk_at dksX0_lathers_3 19 rfl rfl)
theorem dX0_lathers_89 : decode cX0_lathers 89 = .ok (.iaload, 1) := dk_46 (dk_at dksX0_lathers_3 20 rfl rfl)
theorem dX0_lathers_90 : decode cX0_lathers 90 = .ok (.iload 5, 2) := dk_21 5 (dk_at dksX0_lathers_3 21 rfl rfl)
theorem dX0_lathers_92 : decode cX0_lathers 92 = .ok (.isub, 1) := dk_100 (dk_at dksX0_lathers_3 23 rfl rfl)
theorem dX0_lathers_93 : decode cX0_lathers 93 = .ok (.iastore, 1) := dk_79 (dk_at dksX0_lathers_4 0 rfl rfl)
theorem dX0_lathers_94 : decode cX0_lathers 94 = .ok (.aload_n 0, 1) := dk_42 (dk_at dksX0_lathers_4 1 rfl rfl)
theorem dX0_lathers_95 : decode cX0_lathers 95 = .ok (.aload_n 1, 1) := dk_43 (dk_at dksX0_lathers_4 2 rfl rfl)
theorem dX0_lathers_96 : decode cX0_lathers 96 = .ok (.iload_n 2, 1) := dk_28 (dk_at dksX0_lathers_4 3 rfl rfl)
theorem dX0_lathers_97 : decode cX0_lathers 97 = .ok (.iload_n 3, 1) := dk_29 (dk_at dksX0_lathers_4 4 rfl rfl)
theorem dX0_lathers_98 : decode cX0_lathers 98 = .ok (.invokevirtual 178, 3) := dk_182 0 178 (dk_at dksX0_lathers_4 5 rfl rfl)
theorem dX0_lathers_101 : decode cX0_lathers 101 = .ok (.istore 6, 2) := dk_54 6 (dk_at dksX0_lathers_4 8 rfl rfl)
theorem dX0_lathers_103 : decode cX0_lathers 103 = .ok (.aload_n 1, 1) := dk_43 (dk_at dksX0_lathers_4 10 rfl rfl)
theorem dX0_lathers_104 : decode cX0_lathers 104 = .ok (.iload_n 2, 1) := dk_28 (dk_at dksX0_lathers_4 11 rfl rfl)
theorem dX0_lathers_105 : decode cX0_lathers 105 = .ok (.iload 5, 2) := dk_21 5 (dk_at dksX0_lathers_4 12 rfl rfl)
theorem dX0_lathers_107 : decode cX0_lathers 107 = .ok (.iload 6, 2) := dk_21 6 (dk_at dksX0_lathers_4 14 rfl rfl)
theorem dX0_lathers_109 : decode cX0_lathers 109 = .ok (.ifCond .eq 7, 3) := dk_153 0 7 (dk_at dksX0_lathers_4 16 rfl rfl)
theorem dX0_lathers_112 : decode cX0_lathers 112 = .ok (.iconst 1, 1) := dk_4 (dk_at dksX0_lathers_4 19 rfl rfl)
theorem dX0_lathers_113 : decode cX0_lathers 113 = .ok (.goto 4, 3) := dk_167 0 4 (dk_at dksX0_lathers_4 20 rfl rfl)
theorem dX0_lathers_116 : decode cX0_lathers 116 = .ok (.iconst 0, 1) := dk_3 (dk_at dksX0_lathers_4 23 rfl rfl)
theorem dX0_lathers_117 : decode cX0_lathers 117 = .ok (.invokestatic 182, 3) := dk_184 0 182 (dk_at dksX0_lathers_5 0 rfl rfl)
theorem dX0_lathers_120 : decode cX0_lathers 120 = .ok (.iload 5, 2) := dk_21 5 (dk_at dksX0_lathers_5 3 rfl rfl)
theorem dX0_lathers_122 : decode cX0_lathers 122 = .ok (.ireturn, 1) := dk_172 (dk_at dksX0_lathers_5 5 rfl rfl)
abbrev cX0_rules : ByteArray := prog_1_method_18_code
def yX0_rules : MethodName := ⟨RX0, "rules", "()LShaveOfAnother$Text;"⟩
def dkwX0_rules_1 : List UInt8 := [180, 0, 112, 42, 180, 0, 33, 180, 0, 91, 5, 46, 50, 176]
abbrev dktX0_rules_1 : List UInt8 := dkwX0_rules_1 ++ []
def dkwX0_rules_0 : List UInt8 := [42, 180, 0, 33, 180, 0, 91, 5, 46, 2, 160, 0, 9, 178, 0, 134, 167, 0, 20, 42, 180, 0, 33]
abbrev dktX0_rules_0 : List UInt8 := dkwX0_rules_0 ++ dktX0_rules_1
theorem dksX0_rules_0 : cX0_rules.data.toList.drop 0 = dktX0_rules_0 := by decide +kernel
theorem dksX0_rules_1 : cX0_rules.data.toList.drop 23 = dktX0_rules_1 := dk_seg dksX0_rules_0 23 rfl rfl
theorem dX0_rules_0 : decode cX0_rules 0 = .ok (.aload_n 0, 1) := dk_42 (dk_at dksX0_rules_0 0 rfl rfl)
theorem dX0_rules_1 : decode cX0_rules 1 = .ok (.getfield 33, 3) := dk_180 0 33 (dk_at dksX0_rules_0 1 rfl rfl)
theorem dX0_rules_4 : decode cX0_rules 4 = .ok (.getfield 91, 3) := dk_180 0 91 (dk_at dksX0_rules_0 4 rfl rfl)
theorem dX0_rules_7 : decode cX0_rules 7 = .ok (.iconst 2, 1) := dk_5 (dk_at dksX0_rules_0 7 rfl rfl)
theorem dX0_rules_8 : decode cX0_rules 8 = .ok (.iaload, 1) := dk_46 (dk_at dksX0_rules_0 8 rfl rfl)
theorem dX0_rules_9 : decode cX0_rules 9 = .ok (.iconst (-1), 1) := dk_2 (dk_at dksX0_rules_0 9 rfl rfl)
theorem dX0_rules_10 : decode cX0_rules 10 = .ok (.if_icmp .ne 9, 3) := dk_160 0 9 (dk_at dksX0_rules_0 10 rfl rfl)
theorem dX0_rules_13 : decode cX0_rules 13 = .ok (.getstatic 134, 3) := dk_178 0 134 (dk_at dksX0_rules_0 13 rfl rfl)
theorem dX0_rules_16 : decode cX0_rules 16 = .ok (.goto 20, 3) := dk_167 0 20 (dk_at dksX0_rules_0 16 rfl rfl)
theorem dX0_rules_19 : decode cX0_rules 19 = .ok (.aload_n 0, 1) := dk_42 (dk_at dksX0_rules_0 19 rfl rfl)
theorem dX0_rules_20 : decode cX0_rules 20 = .ok (.getfield 33, 3) := dk_180 0 33 (dk_at dksX0_rules_0 20 rfl rfl)
theorem dX0_rules_23 : decode cX0_rules 23 = .ok (.getfield 112, 3) := dk_180 0 112 (dk_at dksX0_rules_1 0 rfl rfl)
theorem dX0_rules_26 : decode cX0_rules 26 = .ok (.aload_n 0, 1) := dk_42 (dk_at dksX0_rules_1 3 rfl rfl)
theorem dX0_rules_27 : decode cX0_rules 27 = .ok (.getfield 33, 3) := dk_180 0 33 (dk_at dksX0_rules_1 4 rfl rfl)
theorem dX0_rules_30 : decode cX0_rules 30 = .ok (.getfield 91, 3) := dk_180 0 91 (dk_at dksX0_rules_1 7 rfl rfl)
theorem dX0_rules_33 : decode cX0_rules 33 = .ok (.iconst 2, 1) := dk_5 (dk_at dksX0_rules_1 10 rfl rfl)
theorem dX0_rules_34 : decode cX0_rules 34 = .ok (.iaload, 1) := dk_46 (dk_at dksX0_rules_1 11 rfl rfl)
theorem dX0_rules_35 : decode cX0_rules 35 = .ok (.aaload, 1) := dk_50 (dk_at dksX0_rules_1 12 rfl rfl)
theorem dX0_rules_36 : decode cX0_rules 36 = .ok (.areturn, 1) := dk_176 (dk_at dksX0_rules_1 13 rfl rfl)
abbrev cX0_says : ByteArray := prog_1_method_19_code
def yX0_says : MethodName := ⟨RX0, "says", "(LShaveOfAnother$Text;[III)I"⟩
def dkwX0_says_8 : List UInt8 := [16, 10, 167, 0, 5, 16, 99, 184, 0, 159, 172]
abbrev dktX0_says_8 : List UInt8 := dkwX0_says_8 ++ []
def dkwX0_says_7 : List UInt8 := [43, 180, 0, 147, 21, 4, 50, 42, 180, 0, 51, 185, 0, 153, 2, 0, 3, 21, 4, 4, 160, 0, 8]
abbrev dktX0_says_7 : List UInt8 := dkwX0_says_7 ++ dktX0_says_8
def dkwX0_says_6 : List UInt8 := [180, 0, 51, 5, 46, 100, 54, 6, 43, 180, 0, 147, 21, 4, 50, 199, 0, 9, 21, 6, 133, 167, 0, 19]
abbrev dktX0_says_6 : List UInt8 := dkwX0_says_6 ++ dktX0_says_7
def dkwX0_says_5 : List UInt8 := [8, 167, 0, 29, 21, 4, 4, 160, 0, 14, 42, 180, 0, 51, 5, 46, 5, 108, 167, 0, 12, 16, 10, 42]
abbrev dktX0_says_5 : List UInt8 := dkwX0_says_5 ++ dktX0_says_6
def dkwX0_says_4 : List UInt8 := [42, 180, 0, 33, 180, 0, 102, 3, 42, 180, 0, 51, 16, 7, 16, 8, 184, 0, 141, 21, 4, 154, 0, 7]
abbrev dktX0_says_4 : List UInt8 := dkwX0_says_4 ++ dktX0_says_5
def dkwX0_says_3 : List UInt8 := [153, 0, 12, 44, 6, 21, 5, 96, 46, 167, 0, 4, 3, 79, 42, 180, 0, 51, 16, 6, 44, 4, 46, 79]
abbrev dktX0_says_3 : List UInt8 := dkwX0_says_3 ++ dktX0_says_4
def dkwX0_says_2 : List UInt8 := [180, 0, 51, 7, 44, 16, 19, 29, 96, 46, 79, 42, 180, 0, 51, 8, 42, 21, 5, 182, 0, 138]
abbrev dktX0_says_2 : List UInt8 := dkwX0_says_2 ++ dktX0_says_3
def dkwX0_says_1 : List UInt8 := [4, 29, 79, 42, 180, 0, 51, 5, 44, 16, 11, 29, 96, 46, 79, 42, 180, 0, 51, 6, 21, 5, 79, 42]
abbrev dktX0_says_1 : List UInt8 := dkwX0_says_1 ++ dktX0_says_2
def dkwX0_says_0 : List UInt8 := [42, 180, 0, 33, 180, 0, 102, 29, 46, 54, 5, 42, 180, 0, 51, 3, 44, 3, 46, 79, 42, 180, 0, 51]
abbrev dktX0_says_0 : List UInt8 := dkwX0_says_0 ++ dktX0_says_1
theorem dksX0_says_0 : cX0_says.data.toList.drop 0 = dktX0_says_0 := by decide +kernel
theorem dksX0_says_1 : cX0_says.data.toList.drop 24 = dktX0_says_1 := dk_seg dksX0_says_0 24 rfl rfl
theorem dksX0_says_2 : cX0_says.data.toList.drop 48 = dktX0_says_2 := dk_seg dksX0_says_1 24 rfl rfl
theorem dksX0_says_3 : cX0_says.data.toList.drop 70 = dktX0_says_3 := dk_seg dksX0_says_2 22 rfl rfl
theorem dksX0_says_4 : cX0_says.data.toList.drop 94 = dktX0_says_4 := dk_seg dksX0_says_3 24 rfl rfl
theorem dksX0_says_5 : cX0_says.data.toList.drop 118 = dktX0_says_5 := dk_seg dksX0_says_4 24 rfl rfl
theorem dksX0_says_6 : cX0_says.data.toList.drop 142 = dktX0_says_6 := dk_seg dksX0_says_5 24 rfl rfl
theorem dksX0_says_7 : cX0_says.data.toList.drop 166 = dktX0_says_7 := dk_seg dksX0_says_6 24 rfl rfl
theorem dksX0_says_8 : cX0_says.data.toList.drop 189 = dktX0_says_8 := dk_seg dksX0_says_7 23 rfl rfl
theorem dX0_says_0 : decode cX0_says 0 = .ok (.aload_n 0, 1) := dk_42 (dk_at dksX0_says_0 0 rfl rfl)
theorem dX0_says_1 : decode cX0_says 1 = .ok (.getfield 33, 3) := dk_180 0 33 (dk_at dksX0_says_0 1 rfl rfl)
theorem dX0_says_4 : decode cX0_says 4 = .ok (.getfield 102, 3) := dk_180 0 102 (dk_at dksX0_says_0 4 rfl rfl)
theorem dX0_says_7 : decode cX0_says 7 = .ok (.iload_n 3, 1) := dk_29 (dk_at dksX0_says_0 7 rfl rfl)
theorem dX0_says_8 : decode cX0_says 8 = .ok (.iaload, 1) := dk_46 (dk_at dksX0_says_0 8 rfl rfl)
theorem dX0_says_9 : decode cX0_says 9 = .ok (.istore 5, 2) := dk_54 5 (dk_at dksX0_says_0 9 rfl rfl)
theorem dX0_says_11 : decode cX0_says 11 = .ok (.aload_n 0, 1) := dk_42 (dk_at dksX0_says_0 11 rfl rfl)
theorem dX0_says_12 : decode cX0_says 12 = .ok (.getfield 51, 3) := dk_180 0 51 (dk_at dksX0_says_0 12 rfl rfl)
theorem dX0_says_15 : decode cX0_says 15 = .ok (.iconst 0, 1) := dk_3 (dk_at dksX0_says_0 15 rfl rfl)
theorem dX0_says_16 : decode cX0_says 16 = .ok (.aload_n 2, 1) := dk_44 (dk_at dksX0_says_0 16 rfl rfl)
theorem dX0_says_17 : decode cX0_says 17 = .ok (.iconst 0, 1) := dk_3 (dk_at dksX0_says_0 17 rfl rfl)
theorem dX0_says_18 : decode cX0_says 18 = .ok (.iaload, 1) := dk_46 (dk_at dksX0_says_0 18 rfl rfl)
theorem dX0_says_19 : decode cX0_says 19 = .ok (.iastore, 1) := dk_79 (dk_at dksX0_says_0 19 rfl rfl)
theorem dX0_says_20 : decode cX0_says 20 = .ok (.aload_n 0, 1) := dk_42 (dk_at dksX0_says_0 20 rfl rfl)
theorem dX0_says_21 : decode cX0_says 21 = .ok (.getfield 51, 3) := dk_180 0 51 (dk_at dksX0_says_0 21 rfl rfl)
theorem dX0_says_24 : decode cX0_says 24 = .ok (.iconst 1, 1) := dk_4 (dk_at dksX0_says_1 0 rfl rfl)
theorem dX0_says_25 : decode cX0_says 25 = .ok (.iload_n 3, 1) := dk_29 (dk_at dksX0_says_1 1 rfl rfl)
theorem dX0_says_26 : decode cX0_says 26 = .ok (.iastore, 1) := dk_79 (dk_at dksX0_says_1 2 rfl rfl)
theorem dX0_says_27 : decode cX0_says 27 = .ok (.aload_n 0, 1) := dk_42 (dk_at dksX0_says_1 3 rfl rfl)
theorem dX0_says_28 : decode cX0_says 28 = .ok (.getfield 51, 3) := dk_180 0 51 (dk_at dksX0_says_1 4 rfl rfl)
theorem dX0_says_31 : decode cX0_says 31 = .ok (.iconst 2, 1) := dk_5 (dk_at dksX0_says_1 7 rfl rfl)
theorem dX0_says_32 : decode cX0_says 32 = .ok (.aload_n 2, 1) := dk_44 (dk_at dksX0_says_1 8 rfl rfl)
theorem dX0_says_33 : decode cX0_says 33 = .ok (.bipush 11, 2) := dk_16 11 (dk_at dksX0_says_1 9 rfl rfl)
theorem dX0_says_35 : decode cX0_says 35 = .ok (.iload_n 3, 1) := dk_29 (dk_at dksX0_says_1 11 rfl rfl)
theorem dX0_says_36 : decode cX0_says 36 = .ok (.iadd, 1) := dk_96 (dk_at dksX0_says_1 12 rfl rfl)
theorem dX0_says_37 : decode cX0_says 37 = .ok (.iaload, 1) := dk_46 (dk_at dksX0_says_1 13 rfl rfl)
theorem dX0_says_38 : decode cX0_says 38 = .ok (.iastore, 1) := dk_79 (dk_at dksX0_says_1 14 rfl rfl)
theorem dX0_says_39 : decode cX0_says 39 = .ok (.aload_n 0, 1) := dk_42 (dk_at dksX0_says_1 15 rfl rfl)
theorem dX0_says_40 : decode cX0_says 40 = .ok (.getfield 51, 3) := dk_180 0 51 (dk_at dksX0_says_1 16 rfl rfl)
theorem dX0_says_43 : decode cX0_says 43 = .ok (.iconst 3, 1) := dk_6 (dk_at dksX0_says_1 19 rfl rfl)
theorem dX0_says_44 : decode cX0_says 44 = .ok (.iload 5, 2) := dk_21 5 (dk_at dksX0_says_1 20 rfl rfl)
theorem dX0_says_46 : decode cX0_says 46 = .ok (.iastore, 1) := dk_79 (dk_at dksX0_says_1 22 rfl rfl)
theorem dX0_says_47 : decode cX0_says 47 = .ok (.aload_n 0, 1) := dk_42 (dk_at dksX0_says_1 23 rfl rfl)
theorem dX0_says_48 : decode cX0_says 48 = .ok (.getfield 51, 3) := dk_180 0 51 (dk_at dksX0_says_2 0 rfl rfl)
theorem dX0_says_51 : decode cX0_says 51 = .ok (.iconst 4, 1) := dk_7 (dk_at dksX0_says_2 3 rfl rfl)
theorem dX0_says_52 : decode cX0_says 52 = .ok (.aload_n 2, 1) := dk_44 (dk_at dksX0_says_2 4 rfl rfl)
theorem dX0_says_53 : decode cX0_says 53 = .ok (.bipush 19, 2) := dk_16 19 (dk_at dksX0_says_2 5 rfl rfl)
theorem dX0_says_55 : decode cX0_says 55 = .ok (.iload_n 3, 1) := dk_29 (dk_at dksX0_says_2 7 rfl rfl)
theorem dX0_says_56 : decode cX0_says 56 = .ok (.iadd, 1) := dk_96 (dk_at dksX0_says_2 8 rfl rfl)
theorem dX0_says_57 : decode cX0_says 57 = .ok (.iaload, 1) := dk_46 (dk_at dksX0_says_2 9 rfl rfl)
theorem dX0_says_58 : decode cX0_says 58 = .ok (.iastore, 1) := dk_79 (dk_at dksX0_says_2 10 rfl rfl)
theorem dX0_says_59 : decode cX0_says 59 = .ok (.aload_n 0, 1) := dk_42 (dk_at dksX0_says_2 11 rfl rfl)
theorem dX0_says_60 : decode cX0_says 60 = .ok (.getfield 51, 3) := dk_180 0 51 (dk_at dksX0_says_2 12 rfl rfl)
theorem dX0_says_63 : decode cX0_says 63 = .ok (.iconst 5, 1) := dk_8 (dk_at dksX0_says_2 15 rfl rfl)
theorem dX0_says_64 : decode cX0_says 64 = .ok (.aload_n 0, 1) := dk_42 (dk_at dksX0_says_2 16 rfl rfl)
theorem dX0_says_65 : decode cX0_says 65 = .ok (.iload 5, 2) := dk_21 5 (dk_at dksX0_says_2 17 rfl rfl)
theorem dX0_says_67 : decode cX0_says 67 = .ok (.invokevirtual 138, 3) := dk_182 0 138 (dk_at dksX0_says_2 19 rfl rfl)
theorem dX0_says_70 : decode cX0_says 70 = .ok (.ifCond .eq 12, 3) := dk_153 0 12 (dk_at dksX0_says_3 0 rfl rfl)
theorem dX0_says_73 : decode cX0_says 73 = .ok (.aload_n 2, 1) := dk_44 (dk_at dksX0_says_3 3 rfl rfl)
theorem dX0_says_74 : decode cX0_says 74 = .ok (.iconst 3, 1) := dk_6 (dk_at dksX0_says_3 4 rfl rfl)
theorem dX0_says_75 : decode cX0_says 75 = .ok (.iload 5, 2) := dk_21 5 (dk_at dksX0_says_3 5 rfl rfl)
theorem dX0_says_77 : decode cX0_says 77 = .ok (.iadd, 1) := dk_96 (dk_at dksX0_says_3 7 rfl rfl)
theorem dX0_says_78 : decode cX0_says 78 = .ok (.iaload, 1) := dk_46 (dk_at dksX0_says_3 8 rfl rfl)
theorem dX0_says_79 : decode cX0_says 79 = .ok (.goto 4, 3) := dk_167 0 4 (dk_at dksX0_says_3 9 rfl rfl)
theorem dX0_says_82 : decode cX0_says 82 = .ok (.iconst 0, 1) := dk_3 (dk_at dksX0_says_3 12 rfl rfl)
theorem dX0_says_83 : decode cX0_says 83 = .ok (.iastore, 1) := dk_79 (dk_at dksX0_says_3 13 rfl rfl)
theorem dX0_says_84 : decode cX0_says 84 = .ok (.aload_n 0, 1) := dk_42 (dk_at dksX0_says_3 14 rfl rfl)
theorem dX0_says_85 : decode cX0_says 85 = .ok (.getfield 51, 3) := dk_180 0 51 (dk_at dksX0_says_3 15 rfl rfl)
theorem dX0_says_88 : decode cX0_says 88 = .ok (.bipush 6, 2) := dk_16 6 (dk_at dksX0_says_3 18 rfl rfl)
theorem dX0_says_90 : decode cX0_says 90 = .ok (.aload_n 2, 1) := dk_44 (dk_at dksX0_says_3 20 rfl rfl)
theorem dX0_says_91 : decode cX0_says 91 = .ok (.iconst 1, 1) := dk_4 (dk_at dksX0_says_3 21 rfl rfl)
theorem dX0_says_92 : decode cX0_says 92 = .ok (.iaload, 1) := dk_46 (dk_at dksX0_says_3 22 rfl rfl)
theorem dX0_says_93 : decode cX0_says 93 = .ok (.iastore, 1) := dk_79 (dk_at dksX0_says_3 23 rfl rfl)
theorem dX0_says_94 : decode cX0_says 94 = .ok (.aload_n 0, 1) := dk_42 (dk_at dksX0_says_4 0 rfl rfl)
theorem dX0_says_95 : decode cX0_says 95 = .ok (.getfield 33, 3) := dk_180 0 33 (dk_at dksX0_says_4 1 rfl rfl)
theorem dX0_says_98 : decode cX0_says 98 = .ok (.getfield 102, 3) := dk_180 0 102 (dk_at dksX0_says_4 4 rfl rfl)
theorem dX0_says_101 : decode cX0_says 101 = .ok (.iconst 0, 1) := dk_3 (dk_at dksX0_says_4 7 rfl rfl)
theorem dX0_says_102 : decode cX0_says 102 = .ok (.aload_n 0, 1) := dk_42 (dk_at dksX0_says_4 8 rfl rfl)
theorem dX0_says_103 : decode cX0_says 103 = .ok (.getfield 51, 3) := dk_180 0 51 (dk_at dksX0_says_4 9 rfl rfl)
theorem dX0_says_106 : decode cX0_says 106 = .ok (.bipush 7, 2) := dk_16 7 (dk_at dksX0_says_4 12 rfl rfl)
theorem dX0_says_108 : decode cX0_says 108 = .ok (.bipush 8, 2) := dk_16 8 (dk_at dksX0_says_4 14 rfl rfl)
theorem dX0_says_110 : decode cX0_says 110 = .ok (.invokestatic 141, 3) := dk_184 0 141 (dk_at dksX0_says_4 16 rfl rfl)
theorem dX0_says_113 : decode cX0_says 113 = .ok (.iload 4, 2) := dk_21 4 (dk_at dksX0_says_4 19 rfl rfl)
theorem dX0_says_115 : decode cX0_says 115 = .ok (.ifCond .ne 7, 3) := dk_154 0 7 (dk_at dksX0_says_4 21 rfl rfl)
theorem dX0_says_118 : decode cX0_says 118 = .ok (.iconst 5, 1) := dk_8 (dk_at dksX0_says_5 0 rfl rfl)
theorem dX0_says_119 : decode cX0_says 119 = .ok (.goto 29, 3) := dk_167 0 29 (dk_at dksX0_says_5 1 rfl rfl)
theorem dX0_says_122 : decode cX0_says 122 = .ok (.iload 4, 2) := dk_21 4 (dk_at dksX0_says_5 4 rfl rfl)
theorem dX0_says_124 : decode cX0_says 124 = .ok (.iconst 1, 1) := dk_4 (dk_at dksX0_says_5 6 rfl rfl)
theorem dX0_says_125 : decode cX0_says 125 = .ok (.if_icmp .ne 14, 3) := dk_160 0 14 (dk_at dksX0_says_5 7 rfl rfl)
theorem dX0_says_128 : decode cX0_says 128 = .ok (.aload_n 0, 1) := dk_42 (dk_at dksX0_says_5 10 rfl rfl)
theorem dX0_says_129 : decode cX0_says 129 = .ok (.getfield 51, 3) := dk_180 0 51 (dk_at dksX0_says_5 11 rfl rfl)
theorem dX0_says_132 : decode cX0_says 132 = .ok (.iconst 2, 1) := dk_5 (dk_at dksX0_says_5 14 rfl rfl)
theorem dX0_says_133 : decode cX0_says 133 = .ok (.iaload, 1) := dk_46 (dk_at dksX0_says_5 15 rfl rfl)
theorem dX0_says_134 : decode cX0_says 134 = .ok (.iconst 2, 1) := dk_5 (dk_at dksX0_says_5 16 rfl rfl)
theorem dX0_says_135 : decode cX0_says 135 = .ok (.idiv, 1) := dk_108 (dk_at dksX0_says_5 17 rfl rfl)
theorem dX0_says_136 : decode cX0_says 136 = .ok (.goto 12, 3) := dk_167 0 12 (dk_at dksX0_says_5 18 rfl rfl)
theorem dX0_says_139 : decode cX0_says 139 = .ok (.bipush 10, 2) := dk_16 10 (dk_at dksX0_says_5 21 rfl rfl)
theorem dX0_says_141 : decode cX0_says 141 = .ok (.aload_n 0, 1) := dk_42 (dk_at dksX0_says_5 23 rfl rfl)
theorem dX0_says_142 : decode cX0_says 142 = .ok (.getfield 51, 3) := dk_180 0 51 (dk_at dksX0_says_6 0 rfl rfl)
theorem dX0_says_145 : decode cX0_says 145 = .ok (.iconst 2, 1) := dk_5 (dk_at dksX0_says_6 3 rfl rfl)
theorem dX0_says_146 : decode cX0_says 146 = .ok (.iaload, 1) := dk_46 (dk_at dksX0_says_6 4 rfl rfl)
theorem dX0_says_147 : decode cX0_says 147 = .ok (.isub, 1) := dk_100 (dk_at dksX0_says_6 5 rfl rfl)
theorem dX0_says_148 : decode cX0_says 148 = .ok (.istore 6, 2) := dk_54 6 (dk_at dksX0_says_6 6 rfl rfl)
theorem dX0_says_150 : decode cX0_says 150 = .ok (.aload_n 1, 1) := dk_43 (dk_at dksX0_says_6 8 rfl rfl)
theorem dX0_says_151 : decode cX0_says 151 = .ok (.getfield 147, 3) := dk_180 0 147 (dk_at dksX0_says_6 9 rfl rfl)
theorem dX0_says_154 : decode cX0_says 154 = .ok (.iload 4, 2) := dk_21 4 (dk_at dksX0_says_6 12 rfl rfl)
theorem dX0_says_156 : decode cX0_says 156 = .ok (.aaload, 1) := dk_50 (dk_at dksX0_says_6 14 rfl rfl)
theorem dX0_says_157 : decode cX0_says 157 = .ok (.ifnonnull 9, 3) := dk_199 0 9 (dk_at dksX0_says_6 15 rfl rfl)
theorem dX0_says_160 : decode cX0_says 160 = .ok (.iload 6, 2) := dk_21 6 (dk_at dksX0_says_6 18 rfl rfl)
theorem dX0_says_162 : decode cX0_says 162 = .ok (.i2l, 1) := dk_133 (dk_at dksX0_says_6 20 rfl rfl)
theorem dX0_says_163 : decode cX0_says 163 = .ok (.goto 19, 3) := dk_167 0 19 (dk_at dksX0_says_6 21 rfl rfl)
theorem dX0_says_166 : decode cX0_says 166 = .ok (.aload_n 1, 1) := dk_43 (dk_at dksX0_says_7 0 rfl rfl)
theorem dX0_says_167 : decode cX0_says 167 = .ok (.getfield 147, 3) := dk_180 0 147 (dk_at dksX0_says_7 1 rfl rfl)
theorem dX0_says_170 : decode cX0_says 170 = .ok (.iload 4, 2) := dk_21 4 (dk_at dksX0_says_7 4 rfl rfl)
theorem dX0_says_172 : decode cX0_says 172 = .ok (.aaload, 1) := dk_50 (dk_at dksX0_says_7 6 rfl rfl)
theorem dX0_says_173 : decode cX0_says 173 = .ok (.aload_n 0, 1) := dk_42 (dk_at dksX0_says_7 7 rfl rfl)
theorem dX0_says_174 : decode cX0_says 174 = .ok (.getfield 51, 3) := dk_180 0 51 (dk_at dksX0_says_7 8 rfl rfl)
theorem dX0_says_177 : decode cX0_says 177 = .ok (.invokeinterface 153 2, 5) := by decide +kernel
theorem dX0_says_182 : decode cX0_says 182 = .ok (.iconst 0, 1) := dk_3 (dk_at dksX0_says_7 16 rfl rfl)
theorem dX0_says_183 : decode cX0_says 183 = .ok (.iload 4, 2) := dk_21 4 (dk_at dksX0_says_7 17 rfl rfl)
theorem dX0_says_185 : decode cX0_says 185 = .ok (.iconst 1, 1) := dk_4 (dk_at dksX0_says_7 19 rfl rfl)
theorem dX0_says_186 : decode cX0_says 186 = .ok (.if_icmp .ne 8, 3) := dk_160 0 8 (dk_at dksX0_says_7 20 rfl rfl)
theorem dX0_says_189 : decode cX0_says 189 = .ok (.bipush 10, 2) := dk_16 10 (dk_at dksX0_says_8 0 rfl rfl)
theorem dX0_says_191 : decode cX0_says 191 = .ok (.goto 5, 3) := dk_167 0 5 (dk_at dksX0_says_8 2 rfl rfl)
theorem dX0_says_194 : decode cX0_says 194 = .ok (.bipush 99, 2) := dk_16 99 (dk_at dksX0_says_8 5 rfl rfl)
theorem dX0_says_196 : decode cX0_says 196 = .ok (.invokestatic 159, 3) := dk_184 0 159 (dk_at dksX0_says_8 7 rfl rfl)
theorem dX0_says_199 : decode cX0_says 199 = .ok (.ireturn, 1) := dk_172 (dk_at dksX0_says_8 10 rfl rfl)
abbrev cX0_powered : ByteArray := prog_1_method_2_code
def yX0_powered : MethodName := ⟨RX0, "powered", "(JJ)J"⟩
def dkwX0_powered_2 : List UInt8 := [184, 0, 21, 55, 4, 22, 6, 10, 101, 55, 6, 167, 255, 225, 22, 4, 173]
abbrev dktX0_powered_2 : List UInt8 := dkwX0_powered_2 ++ []
def dkwX0_powered_1 : List UInt8 := [55, 6, 22, 6, 9, 148, 158, 0, 30, 20, 0, 11, 20, 0, 13, 22, 4, 30, 105, 184, 0, 15]
abbrev dktX0_powered_1 : List UInt8 := dkwX0_powered_1 ++ dktX0_powered_2
def dkwX0_powered_0 : List UInt8 := [10, 55, 4, 32, 20, 0, 7, 148, 158, 0, 15, 20, 0, 7, 32, 20, 0, 9, 113, 97, 167, 0, 4, 32]
abbrev dktX0_powered_0 : List UInt8 := dkwX0_powered_0 ++ dktX0_powered_1
theorem dksX0_powered_0 : cX0_powered.data.toList.drop 0 = dktX0_powered_0 := by decide +kernel
theorem dksX0_powered_1 : cX0_powered.data.toList.drop 24 = dktX0_powered_1 := dk_seg dksX0_powered_0 24 rfl rfl
theorem dksX0_powered_2 : cX0_powered.data.toList.drop 46 = dktX0_powered_2 := dk_seg dksX0_powered_1 22 rfl rfl
theorem dX0_powered_0 : decode cX0_powered 0 = .ok (.lconst 1, 1) := dk_10 (dk_at dksX0_powered_0 0 rfl rfl)
theorem dX0_powered_1 : decode cX0_powered 1 = .ok (.lstore 4, 2) := dk_55 4 (dk_at dksX0_powered_0 1 rfl rfl)
theorem dX0_powered_3 : decode cX0_powered 3 = .ok (.lload_n 2, 1) := dk_32 (dk_at dksX0_powered_0 3 rfl rfl)
theorem dX0_powered_4 : decode cX0_powered 4 = .ok (.ldc2_w 7, 3) := dk_20 0 7 (dk_at dksX0_powered_0 4 rfl rfl)
theorem dX0_powered_7 : decode cX0_powered 7 = .ok (.lcmp, 1) := dk_148 (dk_at dksX0_powered_0 7 rfl rfl)
theorem dX0_powered_8 : decode cX0_powered 8 = .ok (.ifCond .le 15, 3) := dk_158 0 15 (dk_at dksX0_powered_0 8 rfl rfl)
theorem dX0_powered_11 : decode cX0_powered 11 = .ok (.ldc2_w 7, 3) := dk_20 0 7 (dk_at dksX0_powered_0 11 rfl rfl)
theorem dX0_powered_14 : decode cX0_powered 14 = .ok (.lload_n 2, 1) := dk_32 (dk_at dksX0_powered_0 14 rfl rfl)
theorem dX0_powered_15 : decode cX0_powered 15 = .ok (.ldc2_w 9, 3) := dk_20 0 9 (dk_at dksX0_powered_0 15 rfl rfl)
theorem dX0_powered_18 : decode cX0_powered 18 = .ok (.lrem, 1) := dk_113 (dk_at dksX0_powered_0 18 rfl rfl)
theorem dX0_powered_19 : decode cX0_powered 19 = .ok (.ladd, 1) := dk_97 (dk_at dksX0_powered_0 19 rfl rfl)
theorem dX0_powered_20 : decode cX0_powered 20 = .ok (.goto 4, 3) := dk_167 0 4 (dk_at dksX0_powered_0 20 rfl rfl)
theorem dX0_powered_23 : decode cX0_powered 23 = .ok (.lload_n 2, 1) := dk_32 (dk_at dksX0_powered_0 23 rfl rfl)
theorem dX0_powered_24 : decode cX0_powered 24 = .ok (.lstore 6, 2) := dk_55 6 (dk_at dksX0_powered_1 0 rfl rfl)
theorem dX0_powered_26 : decode cX0_powered 26 = .ok (.lload 6, 2) := dk_22 6 (dk_at dksX0_powered_1 2 rfl rfl)
theorem dX0_powered_28 : decode cX0_powered 28 = .ok (.lconst 0, 1) := dk_9 (dk_at dksX0_powered_1 4 rfl rfl)
theorem dX0_powered_29 : decode cX0_powered 29 = .ok (.lcmp, 1) := dk_148 (dk_at dksX0_powered_1 5 rfl rfl)
theorem dX0_powered_30 : decode cX0_powered 30 = .ok (.ifCond .le 30, 3) := dk_158 0 30 (dk_at dksX0_powered_1 6 rfl rfl)
theorem dX0_powered_33 : decode cX0_powered 33 = .ok (.ldc2_w 11, 3) := dk_20 0 11 (dk_at dksX0_powered_1 9 rfl rfl)
theorem dX0_powered_36 : decode cX0_powered 36 = .ok (.ldc2_w 13, 3) := dk_20 0 13 (dk_at dksX0_powered_1 12 rfl rfl)
theorem dX0_powered_39 : decode cX0_powered 39 = .ok (.lload 4, 2) := dk_22 4 (dk_at dksX0_powered_1 15 rfl rfl)
theorem dX0_powered_41 : decode cX0_powered 41 = .ok (.lload_n 0, 1) := dk_30 (dk_at dksX0_powered_1 17 rfl rfl)
theorem dX0_powered_42 : decode cX0_powered 42 = .ok (.lmul, 1) := dk_105 (dk_at dksX0_powered_1 18 rfl rfl)
theorem dX0_powered_43 : decode cX0_powered 43 = .ok (.invokestatic 15, 3) := dk_184 0 15 (dk_at dksX0_powered_1 19 rfl rfl)
theorem dX0_powered_46 : decode cX0_powered 46 = .ok (.invokestatic 21, 3) := dk_184 0 21 (dk_at dksX0_powered_2 0 rfl rfl)
theorem dX0_powered_49 : decode cX0_powered 49 = .ok (.lstore 4, 2) := dk_55 4 (dk_at dksX0_powered_2 3 rfl rfl)
theorem dX0_powered_51 : decode cX0_powered 51 = .ok (.lload 6, 2) := dk_22 6 (dk_at dksX0_powered_2 5 rfl rfl)
theorem dX0_powered_53 : decode cX0_powered 53 = .ok (.lconst 1, 1) := dk_10 (dk_at dksX0_powered_2 7 rfl rfl)
theorem dX0_powered_54 : decode cX0_powered 54 = .ok (.lsub, 1) := dk_101 (dk_at dksX0_powered_2 8 rfl rfl)
theorem dX0_powered_55 : decode cX0_powered 55 = .ok (.lstore 6, 2) := dk_55 6 (dk_at dksX0_powered_2 9 rfl rfl)
theorem dX0_powered_57 : decode cX0_powered 57 = .ok (.goto (-31), 3) := dk_167 255 225 (dk_at dksX0_powered_2 11 rfl rfl)
theorem dX0_powered_60 : decode cX0_powered 60 = .ok (.lload 4, 2) := dk_22 4 (dk_at dksX0_powered_2 14 rfl rfl)
theorem dX0_powered_62 : decode cX0_powered 62 = .ok (.lreturn, 1) := dk_173 (dk_at dksX0_powered_2 16 rfl rfl)
abbrev cX0_shortOf : ByteArray := prog_1_method_1_code
def yX0_shortOf : MethodName := ⟨RX0, "shortOf", "(J)J"⟩
def dkwX0_shortOf_1 : List UInt8 := [30, 173]
abbrev dktX0_shortOf_1 : List UInt8 := dkwX0_shortOf_1 ++ []
def dkwX0_shortOf_0 : List UInt8 := [30, 20, 0, 3, 148, 158, 0, 19, 20, 0, 3, 30, 20, 0, 3, 101, 20, 0, 5, 113, 97, 167, 0, 4]
abbrev dktX0_shortOf_0 : List UInt8 := dkwX0_shortOf_0 ++ dktX0_shortOf_1
theorem dksX0_shortOf_0 : cX0_shortOf.data.toList.drop 0 = dktX0_shortOf_0 := by decide +kernel
theorem dksX0_shortOf_1 : cX0_shortOf.data.toList.drop 24 = dktX0_shortOf_1 := dk_seg dksX0_shortOf_0 24 rfl rfl
theorem dX0_shortOf_0 : decode cX0_shortOf 0 = .ok (.lload_n 0, 1) := dk_30 (dk_at dksX0_shortOf_0 0 rfl rfl)
theorem dX0_shortOf_1 : decode cX0_shortOf 1 = .ok (.ldc2_w 3, 3) := dk_20 0 3 (dk_at dksX0_shortOf_0 1 rfl rfl)
theorem dX0_shortOf_4 : decode cX0_shortOf 4 = .ok (.lcmp, 1) := dk_148 (dk_at dksX0_shortOf_0 4 rfl rfl)
theorem dX0_shortOf_5 : decode cX0_shortOf 5 = .ok (.ifCond .le 19, 3) := dk_158 0 19 (dk_at dksX0_shortOf_0 5 rfl rfl)
theorem dX0_shortOf_8 : decode cX0_shortOf 8 = .ok (.ldc2_w 3, 3) := dk_20 0 3 (dk_at dksX0_shortOf_0 8 rfl rfl)
theorem dX0_shortOf_11 : decode cX0_shortOf 11 = .ok (.lload_n 0, 1) := dk_30 (dk_at dksX0_shortOf_0 11 rfl rfl)
theorem dX0_shortOf_12 : decode cX0_shortOf 12 = .ok (.ldc2_w 3, 3) := dk_20 0 3 (dk_at dksX0_shortOf_0 12 rfl rfl)
theorem dX0_shortOf_15 : decode cX0_shortOf 15 = .ok (.lsub, 1) := dk_101 (dk_at dksX0_shortOf_0 15 rfl rfl)
theorem dX0_shortOf_16 : decode cX0_shortOf 16 = .ok (.ldc2_w 5, 3) := dk_20 0 5 (dk_at dksX0_shortOf_0 16 rfl rfl)
theorem dX0_shortOf_19 : decode cX0_shortOf 19 = .ok (.lrem, 1) := dk_113 (dk_at dksX0_shortOf_0 19 rfl rfl)
theorem dX0_shortOf_20 : decode cX0_shortOf 20 = .ok (.ladd, 1) := dk_97 (dk_at dksX0_shortOf_0 20 rfl rfl)
theorem dX0_shortOf_21 : decode cX0_shortOf 21 = .ok (.goto 4, 3) := dk_167 0 4 (dk_at dksX0_shortOf_0 21 rfl rfl)
theorem dX0_shortOf_24 : decode cX0_shortOf 24 = .ok (.lload_n 0, 1) := dk_30 (dk_at dksX0_shortOf_1 0 rfl rfl)
theorem dX0_shortOf_25 : decode cX0_shortOf 25 = .ok (.lreturn, 1) := dk_173 (dk_at dksX0_shortOf_1 1 rfl rfl)
abbrev cX0_held : ByteArray := prog_1_method_5_code
def yX0_held : MethodName := ⟨RX0, "held", "(JII)I"⟩
def dkwX0_held_0 : List UInt8 := [28, 133, 29, 133, 30, 184, 0, 15, 184, 0, 21, 136, 172]
abbrev dktX0_held_0 : List UInt8 := dkwX0_held_0 ++ []
theorem dksX0_held_0 : cX0_held.data.toList.drop 0 = dktX0_held_0 := by decide +kernel
theorem dX0_held_0 : decode cX0_held 0 = .ok (.iload_n 2, 1) := dk_28 (dk_at dksX0_held_0 0 rfl rfl)
theorem dX0_held_1 : decode cX0_held 1 = .ok (.i2l, 1) := dk_133 (dk_at dksX0_held_0 1 rfl rfl)
theorem dX0_held_2 : decode cX0_held 2 = .ok (.iload_n 3, 1) := dk_29 (dk_at dksX0_held_0 2 rfl rfl)
theorem dX0_held_3 : decode cX0_held 3 = .ok (.i2l, 1) := dk_133 (dk_at dksX0_held_0 3 rfl rfl)
theorem dX0_held_4 : decode cX0_held 4 = .ok (.lload_n 0, 1) := dk_30 (dk_at dksX0_held_0 4 rfl rfl)
theorem dX0_held_5 : decode cX0_held 5 = .ok (.invokestatic 15, 3) := dk_184 0 15 (dk_at dksX0_held_0 5 rfl rfl)
theorem dX0_held_8 : decode cX0_held 8 = .ok (.invokestatic 21, 3) := dk_184 0 21 (dk_at dksX0_held_0 8 rfl rfl)
theorem dX0_held_11 : decode cX0_held 11 = .ok (.l2i, 1) := dk_136 (dk_at dksX0_held_0 11 rfl rfl)
theorem dX0_held_12 : decode cX0_held 12 = .ok (.ireturn, 1) := dk_172 (dk_at dksX0_held_0 12 rfl rfl)
abbrev cX0_isScarred : ByteArray := prog_1_method_22_code
def yX0_isScarred : MethodName := ⟨RX0, "isScarred", "([III)Z"⟩
def dkwX0_isScarred_3 : List UInt8 := [96, 184, 0, 167, 79, 4, 172]
abbrev dktX0_isScarred_3 : List UInt8 := dkwX0_isScarred_3 ++ []
def dkwX0_isScarred_2 : List UInt8 := [43, 21, 5, 46, 4, 96, 184, 0, 167, 79, 43, 16, 11, 28, 96, 16, 9, 43, 16, 11, 28, 96, 46, 4]
abbrev dktX0_isScarred_2 : List UInt8 := dkwX0_isScarred_2 ++ dktX0_isScarred_3
def dkwX0_isScarred_1 : List UInt8 := [154, 0, 5, 3, 172, 16, 19, 42, 180, 0, 33, 180, 0, 102, 28, 46, 96, 54, 5, 43, 21, 5, 16, 99]
abbrev dktX0_isScarred_1 : List UInt8 := dkwX0_isScarred_1 ++ dktX0_isScarred_2
def dkwX0_isScarred_0 : List UInt8 := [43, 5, 46, 16, 10, 112, 29, 162, 0, 7, 4, 167, 0, 4, 3, 54, 4, 43, 184, 0, 163, 21, 4]
abbrev dktX0_isScarred_0 : List UInt8 := dkwX0_isScarred_0 ++ dktX0_isScarred_1
theorem dksX0_isScarred_0 : cX0_isScarred.data.toList.drop 0 = dktX0_isScarred_0 := by decide +kernel
theorem dksX0_isScarred_1 : cX0_isScarred.data.toList.drop 23 = dktX0_isScarred_1 := dk_seg dksX0_isScarred_0 23 rfl rfl
theorem dksX0_isScarred_2 : cX0_isScarred.data.toList.drop 47 = dktX0_isScarred_2 := dk_seg dksX0_isScarred_1 24 rfl rfl
theorem dksX0_isScarred_3 : cX0_isScarred.data.toList.drop 71 = dktX0_isScarred_3 := dk_seg dksX0_isScarred_2 24 rfl rfl
theorem dX0_isScarred_0 : decode cX0_isScarred 0 = .ok (.aload_n 1, 1) := dk_43 (dk_at dksX0_isScarred_0 0 rfl rfl)
theorem dX0_isScarred_1 : decode cX0_isScarred 1 = .ok (.iconst 2, 1) := dk_5 (dk_at dksX0_isScarred_0 1 rfl rfl)
theorem dX0_isScarred_2 : decode cX0_isScarred 2 = .ok (.iaload, 1) := dk_46 (dk_at dksX0_isScarred_0 2 rfl rfl)
theorem dX0_isScarred_3 : decode cX0_isScarred 3 = .ok (.bipush 10, 2) := dk_16 10 (dk_at dksX0_isScarred_0 3 rfl rfl)
theorem dX0_isScarred_5 : decode cX0_isScarred 5 = .ok (.irem, 1) := dk_112 (dk_at dksX0_isScarred_0 5 rfl rfl)
theorem dX0_isScarred_6 : decode cX0_isScarred 6 = .ok (.iload_n 3, 1) := dk_29 (dk_at dksX0_isScarred_0 6 rfl rfl)
theorem dX0_isScarred_7 : decode cX0_isScarred 7 = .ok (.if_icmp .ge 7, 3) := dk_162 0 7 (dk_at dksX0_isScarred_0 7 rfl rfl)
theorem dX0_isScarred_10 : decode cX0_isScarred 10 = .ok (.iconst 1, 1) := dk_4 (dk_at dksX0_isScarred_0 10 rfl rfl)
theorem dX0_isScarred_11 : decode cX0_isScarred 11 = .ok (.goto 4, 3) := dk_167 0 4 (dk_at dksX0_isScarred_0 11 rfl rfl)
theorem dX0_isScarred_14 : decode cX0_isScarred 14 = .ok (.iconst 0, 1) := dk_3 (dk_at dksX0_isScarred_0 14 rfl rfl)
theorem dX0_isScarred_15 : decode cX0_isScarred 15 = .ok (.istore 4, 2) := dk_54 4 (dk_at dksX0_isScarred_0 15 rfl rfl)
theorem dX0_isScarred_17 : decode cX0_isScarred 17 = .ok (.aload_n 1, 1) := dk_43 (dk_at dksX0_isScarred_0 17 rfl rfl)
theorem dX0_isScarred_18 : decode cX0_isScarred 18 = .ok (.invokestatic 163, 3) := dk_184 0 163 (dk_at dksX0_isScarred_0 18 rfl rfl)
theorem dX0_isScarred_21 : decode cX0_isScarred 21 = .ok (.iload 4, 2) := dk_21 4 (dk_at dksX0_isScarred_0 21 rfl rfl)
theorem dX0_isScarred_23 : decode cX0_isScarred 23 = .ok (.ifCond .ne 5, 3) := dk_154 0 5 (dk_at dksX0_isScarred_1 0 rfl rfl)
theorem dX0_isScarred_26 : decode cX0_isScarred 26 = .ok (.iconst 0, 1) := dk_3 (dk_at dksX0_isScarred_1 3 rfl rfl)
theorem dX0_isScarred_27 : decode cX0_isScarred 27 = .ok (.ireturn, 1) := dk_172 (dk_at dksX0_isScarred_1 4 rfl rfl)
theorem dX0_isScarred_28 : decode cX0_isScarred 28 = .ok (.bipush 19, 2) := dk_16 19 (dk_at dksX0_isScarred_1 5 rfl rfl)
theorem dX0_isScarred_30 : decode cX0_isScarred 30 = .ok (.aload_n 0, 1) := dk_42 (dk_at dksX0_isScarred_1 7 rfl rfl)
theorem dX0_isScarred_31 : decode cX0_isScarred 31 = .ok (.getfield 33, 3) := dk_180 0 33 (dk_at dksX0_isScarred_1 8 rfl rfl)
theorem dX0_isScarred_34 : decode cX0_isScarred 34 = .ok (.getfield 102, 3) := dk_180 0 102 (dk_at dksX0_isScarred_1 11 rfl rfl)
theorem dX0_isScarred_37 : decode cX0_isScarred 37 = .ok (.iload_n 2, 1) := dk_28 (dk_at dksX0_isScarred_1 14 rfl rfl)
theorem dX0_isScarred_38 : decode cX0_isScarred 38 = .ok (.iaload, 1) := dk_46 (dk_at dksX0_isScarred_1 15 rfl rfl)
theorem dX0_isScarred_39 : decode cX0_isScarred 39 = .ok (.iadd, 1) := dk_96 (dk_at dksX0_isScarred_1 16 rfl rfl)
theorem dX0_isScarred_40 : decode cX0_isScarred 40 = .ok (.istore 5, 2) := dk_54 5 (dk_at dksX0_isScarred_1 17 rfl rfl)
theorem dX0_isScarred_42 : decode cX0_isScarred 42 = .ok (.aload_n 1, 1) := dk_43 (dk_at dksX0_isScarred_1 19 rfl rfl)
theorem dX0_isScarred_43 : decode cX0_isScarred 43 = .ok (.iload 5, 2) := dk_21 5 (dk_at dksX0_isScarred_1 20 rfl rfl)
theorem dX0_isScarred_45 : decode cX0_isScarred 45 = .ok (.bipush 99, 2) := dk_16 99 (dk_at dksX0_isScarred_1 22 rfl rfl)
theorem dX0_isScarred_47 : decode cX0_isScarred 47 = .ok (.aload_n 1, 1) := dk_43 (dk_at dksX0_isScarred_2 0 rfl rfl)
theorem dX0_isScarred_48 : decode cX0_isScarred 48 = .ok (.iload 5, 2) := dk_21 5 (dk_at dksX0_isScarred_2 1 rfl rfl)
theorem dX0_isScarred_50 : decode cX0_isScarred 50 = .ok (.iaload, 1) := dk_46 (dk_at dksX0_isScarred_2 3 rfl rfl)
theorem dX0_isScarred_51 : decode cX0_isScarred 51 = .ok (.iconst 1, 1) := dk_4 (dk_at dksX0_isScarred_2 4 rfl rfl)
theorem dX0_isScarred_52 : decode cX0_isScarred 52 = .ok (.iadd, 1) := dk_96 (dk_at dksX0_isScarred_2 5 rfl rfl)
theorem dX0_isScarred_53 : decode cX0_isScarred 53 = .ok (.invokestatic 167, 3) := dk_184 0 167 (dk_at dksX0_isScarred_2 6 rfl rfl)
theorem dX0_isScarred_56 : decode cX0_isScarred 56 = .ok (.iastore, 1) := dk_79 (dk_at dksX0_isScarred_2 9 rfl rfl)
theorem dX0_isScarred_57 : decode cX0_isScarred 57 = .ok (.aload_n 1, 1) := dk_43 (dk_at dksX0_isScarred_2 10 rfl rfl)
theorem dX0_isScarred_58 : decode cX0_isScarred 58 = .ok (.bipush 11, 2) := dk_16 11 (dk_at dksX0_isScarred_2 11 rfl rfl)
theorem dX0_isScarred_60 : decode cX0_isScarred 60 = .ok (.iload_n 2, 1) := dk_28 (dk_at dksX0_isScarred_2 13 rfl rfl)
theorem dX0_isScarred_61 : decode cX0_isScarred 61 = .ok (.iadd, 1) := dk_96 (dk_at dksX0_isScarred_2 14 rfl rfl)
theorem dX0_isScarred_62 : decode cX0_isScarred 62 = .ok (.bipush 9, 2) := dk_16 9 (dk_at dksX0_isScarred_2 15 rfl rfl)
theorem dX0_isScarred_64 : decode cX0_isScarred 64 = .ok (.aload_n 1, 1) := dk_43 (dk_at dksX0_isScarred_2 17 rfl rfl)
theorem dX0_isScarred_65 : decode cX0_isScarred 65 = .ok (.bipush 11, 2) := dk_16 11 (dk_at dksX0_isScarred_2 18 rfl rfl)
theorem dX0_isScarred_67 : decode cX0_isScarred 67 = .ok (.iload_n 2, 1) := dk_28 (dk_at dksX0_isScarred_2 20 rfl rfl)
theorem dX0_isScarred_68 : decode cX0_isScarred 68 = .ok (.iadd, 1) := dk_96 (dk_at dksX0_isScarred_2 21 rfl rfl)
theorem dX0_isScarred_69 : decode cX0_isScarred 69 = .ok (.iaload, 1) := dk_46 (dk_at dksX0_isScarred_2 22 rfl rfl)
theorem dX0_isScarred_70 : decode cX0_isScarred 70 = .ok (.iconst 1, 1) := dk_4 (dk_at dksX0_isScarred_2 23 rfl rfl)
theorem dX0_isScarred_71 : decode cX0_isScarred 71 = .ok (.iadd, 1) := dk_96 (dk_at dksX0_isScarred_3 0 rfl rfl)
theorem dX0_isScarred_72 : decode cX0_isScarred 72 = .ok (.invokestatic 167, 3) := dk_184 0 167 (dk_at dksX0_isScarred_3 1 rfl rfl)
theorem dX0_isScarred_75 : decode cX0_isScarred 75 = .ok (.iastore, 1) := dk_79 (dk_at dksX0_isScarred_3 4 rfl rfl)
theorem dX0_isScarred_76 : decode cX0_isScarred 76 = .ok (.iconst 1, 1) := dk_4 (dk_at dksX0_isScarred_3 5 rfl rfl)
theorem dX0_isScarred_77 : decode cX0_isScarred 77 = .ok (.ireturn, 1) := dk_172 (dk_at dksX0_isScarred_3 6 rfl rfl)
abbrev cX0_draws : ByteArray := prog_1_method_20_code
def yX0_draws : MethodName := ⟨RX0, "draws", "([I)V"⟩
def dkwX0_draws_0 : List UInt8 := [42, 5, 42, 5, 46, 17, 1, 201, 104, 17, 1, 91, 96, 17, 119, 167, 112, 79, 177]
abbrev dktX0_draws_0 : List UInt8 := dkwX0_draws_0 ++ []
theorem dksX0_draws_0 : cX0_draws.data.toList.drop 0 = dktX0_draws_0 := by decide +kernel
theorem dX0_draws_0 : decode cX0_draws 0 = .ok (.aload_n 0, 1) := dk_42 (dk_at dksX0_draws_0 0 rfl rfl)
theorem dX0_draws_1 : decode cX0_draws 1 = .ok (.iconst 2, 1) := dk_5 (dk_at dksX0_draws_0 1 rfl rfl)
theorem dX0_draws_2 : decode cX0_draws 2 = .ok (.aload_n 0, 1) := dk_42 (dk_at dksX0_draws_0 2 rfl rfl)
theorem dX0_draws_3 : decode cX0_draws 3 = .ok (.iconst 2, 1) := dk_5 (dk_at dksX0_draws_0 3 rfl rfl)
theorem dX0_draws_4 : decode cX0_draws 4 = .ok (.iaload, 1) := dk_46 (dk_at dksX0_draws_0 4 rfl rfl)
theorem dX0_draws_5 : decode cX0_draws 5 = .ok (.sipush 457, 3) := dk_17 1 201 (dk_at dksX0_draws_0 5 rfl rfl)
theorem dX0_draws_8 : decode cX0_draws 8 = .ok (.imul, 1) := dk_104 (dk_at dksX0_draws_0 8 rfl rfl)
theorem dX0_draws_9 : decode cX0_draws 9 = .ok (.sipush 347, 3) := dk_17 1 91 (dk_at dksX0_draws_0 9 rfl rfl)
theorem dX0_draws_12 : decode cX0_draws 12 = .ok (.iadd, 1) := dk_96 (dk_at dksX0_draws_0 12 rfl rfl)
theorem dX0_draws_13 : decode cX0_draws 13 = .ok (.sipush 30631, 3) := dk_17 119 167 (dk_at dksX0_draws_0 13 rfl rfl)
theorem dX0_draws_16 : decode cX0_draws 16 = .ok (.irem, 1) := dk_112 (dk_at dksX0_draws_0 16 rfl rfl)
theorem dX0_draws_17 : decode cX0_draws 17 = .ok (.iastore, 1) := dk_79 (dk_at dksX0_draws_0 17 rfl rfl)
theorem dX0_draws_18 : decode cX0_draws 18 = .ok (.return_, 1) := dk_177 (dk_at dksX0_draws_0 18 rfl rfl)
abbrev cX0_writes : ByteArray := prog_1_method_21_code
def yX0_writes : MethodName := ⟨RX0, "writes", "([IIII)V"⟩
def dkwX0_writes_3 : List UInt8 := [46, 4, 96, 79, 177]
abbrev dktX0_writes_3 : List UInt8 := dkwX0_writes_3 ++ []
def dkwX0_writes_2 : List UInt8 := [79, 58, 4, 25, 4, 3, 42, 16, 28, 7, 42, 16, 27, 46, 104, 96, 7, 184, 0, 141, 42, 16, 27, 92]
abbrev dktX0_writes_2 : List UInt8 := dkwX0_writes_2 ++ dktX0_writes_3
def dkwX0_writes_1 : List UInt8 := [46, 4, 100, 79, 7, 188, 10, 89, 3, 42, 3, 46, 79, 89, 4, 27, 79, 89, 5, 28, 79, 89, 6, 29]
abbrev dktX0_writes_1 : List UInt8 := dkwX0_writes_1 ++ dktX0_writes_2
def dkwX0_writes_0 : List UInt8 := [42, 16, 27, 46, 16, 30, 160, 0, 22, 42, 16, 32, 42, 16, 28, 16, 116, 184, 0, 141, 42, 16, 27, 92]
abbrev dktX0_writes_0 : List UInt8 := dkwX0_writes_0 ++ dktX0_writes_1
theorem dksX0_writes_0 : cX0_writes.data.toList.drop 0 = dktX0_writes_0 := by decide +kernel
theorem dksX0_writes_1 : cX0_writes.data.toList.drop 24 = dktX0_writes_1 := dk_seg dksX0_writes_0 24 rfl rfl
theorem dksX0_writes_2 : cX0_writes.data.toList.drop 48 = dktX0_writes_2 := dk_seg dksX0_writes_1 24 rfl rfl
theorem dksX0_writes_3 : cX0_writes.data.toList.drop 72 = dktX0_writes_3 := dk_seg dksX0_writes_2 24 rfl rfl
theorem dX0_writes_0 : decode cX0_writes 0 = .ok (.aload_n 0, 1) := dk_42 (dk_at dksX0_writes_0 0 rfl rfl)
theorem dX0_writes_1 : decode cX0_writes 1 = .ok (.bipush 27, 2) := dk_16 27 (dk_at dksX0_writes_0 1 rfl rfl)
theorem dX0_writes_3 : decode cX0_writes 3 = .ok (.iaload, 1) := dk_46 (dk_at dksX0_writes_0 3 rfl rfl)
theorem dX0_writes_4 : decode cX0_writes 4 = .ok (.bipush 30, 2) := dk_16 30 (dk_at dksX0_writes_0 4 rfl rfl)
theorem dX0_writes_6 : decode cX0_writes 6 = .ok (.if_icmp .ne 22, 3) := dk_160 0 22 (dk_at dksX0_writes_0 6 rfl rfl)
theorem dX0_writes_9 : decode cX0_writes 9 = .ok (.aload_n 0, 1) := dk_42 (dk_at dksX0_writes_0 9 rfl rfl)
theorem dX0_writes_10 : decode cX0_writes 10 = .ok (.bipush 32, 2) := dk_16 32 (dk_at dksX0_writes_0 10 rfl rfl)
theorem dX0_writes_12 : decode cX0_writes 12 = .ok (.aload_n 0, 1) := dk_42 (dk_at dksX0_writes_0 12 rfl rfl)
theorem dX0_writes_13 : decode cX0_writes 13 = .ok (.bipush 28, 2) := dk_16 28 (dk_at dksX0_writes_0 13 rfl rfl)
theorem dX0_writes_15 : decode cX0_writes 15 = .ok (.bipush 116, 2) := dk_16 116 (dk_at dksX0_writes_0 15 rfl rfl)
theorem dX0_writes_17 : decode cX0_writes 17 = .ok (.invokestatic 141, 3) := dk_184 0 141 (dk_at dksX0_writes_0 17 rfl rfl)
theorem dX0_writes_20 : decode cX0_writes 20 = .ok (.aload_n 0, 1) := dk_42 (dk_at dksX0_writes_0 20 rfl rfl)
theorem dX0_writes_21 : decode cX0_writes 21 = .ok (.bipush 27, 2) := dk_16 27 (dk_at dksX0_writes_0 21 rfl rfl)
theorem dX0_writes_23 : decode cX0_writes 23 = .ok (.dup2, 1) := dk_92 (dk_at dksX0_writes_0 23 rfl rfl)
theorem dX0_writes_24 : decode cX0_writes 24 = .ok (.iaload, 1) := dk_46 (dk_at dksX0_writes_1 0 rfl rfl)
theorem dX0_writes_25 : decode cX0_writes 25 = .ok (.iconst 1, 1) := dk_4 (dk_at dksX0_writes_1 1 rfl rfl)
theorem dX0_writes_26 : decode cX0_writes 26 = .ok (.isub, 1) := dk_100 (dk_at dksX0_writes_1 2 rfl rfl)
theorem dX0_writes_27 : decode cX0_writes 27 = .ok (.iastore, 1) := dk_79 (dk_at dksX0_writes_1 3 rfl rfl)
theorem dX0_writes_28 : decode cX0_writes 28 = .ok (.iconst 4, 1) := dk_7 (dk_at dksX0_writes_1 4 rfl rfl)
theorem dX0_writes_29 : decode cX0_writes 29 = .ok (.newarray .int, 2) := dk_188_10 (dk_at dksX0_writes_1 5 rfl rfl)
theorem dX0_writes_31 : decode cX0_writes 31 = .ok (.dup, 1) := dk_89 (dk_at dksX0_writes_1 7 rfl rfl)
theorem dX0_writes_32 : decode cX0_writes 32 = .ok (.iconst 0, 1) := dk_3 (dk_at dksX0_writes_1 8 rfl rfl)
theorem dX0_writes_33 : decode cX0_writes 33 = .ok (.aload_n 0, 1) := dk_42 (dk_at dksX0_writes_1 9 rfl rfl)
theorem dX0_writes_34 : decode cX0_writes 34 = .ok (.iconst 0, 1) := dk_3 (dk_at dksX0_writes_1 10 rfl rfl)
theorem dX0_writes_35 : decode cX0_writes 35 = .ok (.iaload, 1) := dk_46 (dk_at dksX0_writes_1 11 rfl rfl)
theorem dX0_writes_36 : decode cX0_writes 36 = .ok (.iastore, 1) := dk_79 (dk_at dksX0_writes_1 12 rfl rfl)
theorem dX0_writes_37 : decode cX0_writes 37 = .ok (.dup, 1) := dk_89 (dk_at dksX0_writes_1 13 rfl rfl)
theorem dX0_writes_38 : decode cX0_writes 38 = .ok (.iconst 1, 1) := dk_4 (dk_at dksX0_writes_1 14 rfl rfl)
theorem dX0_writes_39 : decode cX0_writes 39 = .ok (.iload_n 1, 1) := dk_27 (dk_at dksX0_writes_1 15 rfl rfl)
theorem dX0_writes_40 : decode cX0_writes 40 = .ok (.iastore, 1) := dk_79 (dk_at dksX0_writes_1 16 rfl rfl)
theorem dX0_writes_41 : decode cX0_writes 41 = .ok (.dup, 1) := dk_89 (dk_at dksX0_writes_1 17 rfl rfl)
theorem dX0_writes_42 : decode cX0_writes 42 = .ok (.iconst 2, 1) := dk_5 (dk_at dksX0_writes_1 18 rfl rfl)
theorem dX0_writes_43 : decode cX0_writes 43 = .ok (.iload_n 2, 1) := dk_28 (dk_at dksX0_writes_1 19 rfl rfl)
theorem dX0_writes_44 : decode cX0_writes 44 = .ok (.iastore, 1) := dk_79 (dk_at dksX0_writes_1 20 rfl rfl)
theorem dX0_writes_45 : decode cX0_writes 45 = .ok (.dup, 1) := dk_89 (dk_at dksX0_writes_1 21 rfl rfl)
theorem dX0_writes_46 : decode cX0_writes 46 = .ok (.iconst 3, 1) := dk_6 (dk_at dksX0_writes_1 22 rfl rfl)
theorem dX0_writes_47 : decode cX0_writes 47 = .ok (.iload_n 3, 1) := dk_29 (dk_at dksX0_writes_1 23 rfl rfl)
theorem dX0_writes_48 : decode cX0_writes 48 = .ok (.iastore, 1) := dk_79 (dk_at dksX0_writes_2 0 rfl rfl)
theorem dX0_writes_49 : decode cX0_writes 49 = .ok (.astore 4, 2) := dk_58 4 (dk_at dksX0_writes_2 1 rfl rfl)
theorem dX0_writes_51 : decode cX0_writes 51 = .ok (.aload 4, 2) := dk_25 4 (dk_at dksX0_writes_2 3 rfl rfl)
theorem dX0_writes_53 : decode cX0_writes 53 = .ok (.iconst 0, 1) := dk_3 (dk_at dksX0_writes_2 5 rfl rfl)
theorem dX0_writes_54 : decode cX0_writes 54 = .ok (.aload_n 0, 1) := dk_42 (dk_at dksX0_writes_2 6 rfl rfl)
theorem dX0_writes_55 : decode cX0_writes 55 = .ok (.bipush 28, 2) := dk_16 28 (dk_at dksX0_writes_2 7 rfl rfl)
theorem dX0_writes_57 : decode cX0_writes 57 = .ok (.iconst 4, 1) := dk_7 (dk_at dksX0_writes_2 9 rfl rfl)
theorem dX0_writes_58 : decode cX0_writes 58 = .ok (.aload_n 0, 1) := dk_42 (dk_at dksX0_writes_2 10 rfl rfl)
theorem dX0_writes_59 : decode cX0_writes 59 = .ok (.bipush 27, 2) := dk_16 27 (dk_at dksX0_writes_2 11 rfl rfl)
theorem dX0_writes_61 : decode cX0_writes 61 = .ok (.iaload, 1) := dk_46 (dk_at dksX0_writes_2 13 rfl rfl)
theorem dX0_writes_62 : decode cX0_writes 62 = .ok (.imul, 1) := dk_104 (dk_at dksX0_writes_2 14 rfl rfl)
theorem dX0_writes_63 : decode cX0_writes 63 = .ok (.iadd, 1) := dk_96 (dk_at dksX0_writes_2 15 rfl rfl)
theorem dX0_writes_64 : decode cX0_writes 64 = .ok (.iconst 4, 1) := dk_7 (dk_at dksX0_writes_2 16 rfl rfl)
theorem dX0_writes_65 : decode cX0_writes 65 = .ok (.invokestatic 141, 3) := dk_184 0 141 (dk_at dksX0_writes_2 17 rfl rfl)
theorem dX0_writes_68 : decode cX0_writes 68 = .ok (.aload_n 0, 1) := dk_42 (dk_at dksX0_writes_2 20 rfl rfl)
theorem dX0_writes_69 : decode cX0_writes 69 = .ok (.bipush 27, 2) := dk_16 27 (dk_at dksX0_writes_2 21 rfl rfl)
theorem dX0_writes_71 : decode cX0_writes 71 = .ok (.dup2, 1) := dk_92 (dk_at dksX0_writes_2 23 rfl rfl)
theorem dX0_writes_72 : decode cX0_writes 72 = .ok (.iaload, 1) := dk_46 (dk_at dksX0_writes_3 0 rfl rfl)
theorem dX0_writes_73 : decode cX0_writes 73 = .ok (.iconst 1, 1) := dk_4 (dk_at dksX0_writes_3 1 rfl rfl)
theorem dX0_writes_74 : decode cX0_writes 74 = .ok (.iadd, 1) := dk_96 (dk_at dksX0_writes_3 2 rfl rfl)
theorem dX0_writes_75 : decode cX0_writes 75 = .ok (.iastore, 1) := dk_79 (dk_at dksX0_writes_3 3 rfl rfl)
theorem dX0_writes_76 : decode cX0_writes 76 = .ok (.return_, 1) := dk_177 (dk_at dksX0_writes_3 4 rfl rfl)
abbrev cX0_calm : ByteArray := prog_1_method_26_code
def yX0_calm : MethodName := ⟨RX0, "calm", "(I)Z"⟩
def dkwX0_calm_1 : List UInt8 := [16, 11, 27, 96, 92, 46, 4, 100, 79, 4, 172]
abbrev dktX0_calm_1 : List UInt8 := dkwX0_calm_1 ++ []
def dkwX0_calm_0 : List UInt8 := [42, 27, 182, 0, 196, 154, 0, 5, 3, 172, 42, 180, 0, 33, 182, 0, 186, 42, 180, 0, 33, 180, 0, 189]
abbrev dktX0_calm_0 : List UInt8 := dkwX0_calm_0 ++ dktX0_calm_1
theorem dksX0_calm_0 : cX0_calm.data.toList.drop 0 = dktX0_calm_0 := by decide +kernel
theorem dksX0_calm_1 : cX0_calm.data.toList.drop 24 = dktX0_calm_1 := dk_seg dksX0_calm_0 24 rfl rfl
theorem dX0_calm_0 : decode cX0_calm 0 = .ok (.aload_n 0, 1) := dk_42 (dk_at dksX0_calm_0 0 rfl rfl)
theorem dX0_calm_1 : decode cX0_calm 1 = .ok (.iload_n 1, 1) := dk_27 (dk_at dksX0_calm_0 1 rfl rfl)
theorem dX0_calm_2 : decode cX0_calm 2 = .ok (.invokevirtual 196, 3) := dk_182 0 196 (dk_at dksX0_calm_0 2 rfl rfl)
theorem dX0_calm_5 : decode cX0_calm 5 = .ok (.ifCond .ne 5, 3) := dk_154 0 5 (dk_at dksX0_calm_0 5 rfl rfl)
theorem dX0_calm_8 : decode cX0_calm 8 = .ok (.iconst 0, 1) := dk_3 (dk_at dksX0_calm_0 8 rfl rfl)
theorem dX0_calm_9 : decode cX0_calm 9 = .ok (.ireturn, 1) := dk_172 (dk_at dksX0_calm_0 9 rfl rfl)
theorem dX0_calm_10 : decode cX0_calm 10 = .ok (.aload_n 0, 1) := dk_42 (dk_at dksX0_calm_0 10 rfl rfl)
theorem dX0_calm_11 : decode cX0_calm 11 = .ok (.getfield 33, 3) := dk_180 0 33 (dk_at dksX0_calm_0 11 rfl rfl)
theorem dX0_calm_14 : decode cX0_calm 14 = .ok (.invokevirtual 186, 3) := dk_182 0 186 (dk_at dksX0_calm_0 14 rfl rfl)
theorem dX0_calm_17 : decode cX0_calm 17 = .ok (.aload_n 0, 1) := dk_42 (dk_at dksX0_calm_0 17 rfl rfl)
theorem dX0_calm_18 : decode cX0_calm 18 = .ok (.getfield 33, 3) := dk_180 0 33 (dk_at dksX0_calm_0 18 rfl rfl)
theorem dX0_calm_21 : decode cX0_calm 21 = .ok (.getfield 189, 3) := dk_180 0 189 (dk_at dksX0_calm_0 21 rfl rfl)
theorem dX0_calm_24 : decode cX0_calm 24 = .ok (.bipush 11, 2) := dk_16 11 (dk_at dksX0_calm_1 0 rfl rfl)
theorem dX0_calm_26 : decode cX0_calm 26 = .ok (.iload_n 1, 1) := dk_27 (dk_at dksX0_calm_1 2 rfl rfl)
theorem dX0_calm_27 : decode cX0_calm 27 = .ok (.iadd, 1) := dk_96 (dk_at dksX0_calm_1 3 rfl rfl)
theorem dX0_calm_28 : decode cX0_calm 28 = .ok (.dup2, 1) := dk_92 (dk_at dksX0_calm_1 4 rfl rfl)
theorem dX0_calm_29 : decode cX0_calm 29 = .ok (.iaload, 1) := dk_46 (dk_at dksX0_calm_1 5 rfl rfl)
theorem dX0_calm_30 : decode cX0_calm 30 = .ok (.iconst 1, 1) := dk_4 (dk_at dksX0_calm_1 6 rfl rfl)
theorem dX0_calm_31 : decode cX0_calm 31 = .ok (.isub, 1) := dk_100 (dk_at dksX0_calm_1 7 rfl rfl)
theorem dX0_calm_32 : decode cX0_calm 32 = .ok (.iastore, 1) := dk_79 (dk_at dksX0_calm_1 8 rfl rfl)
theorem dX0_calm_33 : decode cX0_calm 33 = .ok (.iconst 1, 1) := dk_4 (dk_at dksX0_calm_1 9 rfl rfl)
theorem dX0_calm_34 : decode cX0_calm 34 = .ok (.ireturn, 1) := dk_172 (dk_at dksX0_calm_1 10 rfl rfl)
abbrev cX0_canCalm : ByteArray := prog_1_method_25_code
def yX0_canCalm : MethodName := ⟨RX0, "canCalm", "(I)Z"⟩
def dkwX0_canCalm_1 : List UInt8 := [167, 0, 4, 3, 172]
abbrev dktX0_canCalm_1 : List UInt8 := dkwX0_canCalm_1 ++ []
def dkwX0_canCalm_0 : List UInt8 := [42, 27, 182, 0, 138, 153, 0, 22, 42, 180, 0, 33, 180, 0, 189, 16, 11, 27, 96, 46, 158, 0, 7, 4]
abbrev dktX0_canCalm_0 : List UInt8 := dkwX0_canCalm_0 ++ dktX0_canCalm_1
theorem dksX0_canCalm_0 : cX0_canCalm.data.toList.drop 0 = dktX0_canCalm_0 := by decide +kernel
theorem dksX0_canCalm_1 : cX0_canCalm.data.toList.drop 24 = dktX0_canCalm_1 := dk_seg dksX0_canCalm_0 24 rfl rfl
theorem dX0_canCalm_0 : decode cX0_canCalm 0 = .ok (.aload_n 0, 1) := dk_42 (dk_at dksX0_canCalm_0 0 rfl rfl)
theorem dX0_canCalm_1 : decode cX0_canCalm 1 = .ok (.iload_n 1, 1) := dk_27 (dk_at dksX0_canCalm_0 1 rfl rfl)
theorem dX0_canCalm_2 : decode cX0_canCalm 2 = .ok (.invokevirtual 138, 3) := dk_182 0 138 (dk_at dksX0_canCalm_0 2 rfl rfl)
theorem dX0_canCalm_5 : decode cX0_canCalm 5 = .ok (.ifCond .eq 22, 3) := dk_153 0 22 (dk_at dksX0_canCalm_0 5 rfl rfl)
theorem dX0_canCalm_8 : decode cX0_canCalm 8 = .ok (.aload_n 0, 1) := dk_42 (dk_at dksX0_canCalm_0 8 rfl rfl)
theorem dX0_canCalm_9 : decode cX0_canCalm 9 = .ok (.getfield 33, 3) := dk_180 0 33 (dk_at dksX0_canCalm_0 9 rfl rfl)
theorem dX0_canCalm_12 : decode cX0_canCalm 12 = .ok (.getfield 189, 3) := dk_180 0 189 (dk_at dksX0_canCalm_0 12 rfl rfl)
theorem dX0_canCalm_15 : decode cX0_canCalm 15 = .ok (.bipush 11, 2) := dk_16 11 (dk_at dksX0_canCalm_0 15 rfl rfl)
theorem dX0_canCalm_17 : decode cX0_canCalm 17 = .ok (.iload_n 1, 1) := dk_27 (dk_at dksX0_canCalm_0 17 rfl rfl)
theorem dX0_canCalm_18 : decode cX0_canCalm 18 = .ok (.iadd, 1) := dk_96 (dk_at dksX0_canCalm_0 18 rfl rfl)
theorem dX0_canCalm_19 : decode cX0_canCalm 19 = .ok (.iaload, 1) := dk_46 (dk_at dksX0_canCalm_0 19 rfl rfl)
theorem dX0_canCalm_20 : decode cX0_canCalm 20 = .ok (.ifCond .le 7, 3) := dk_158 0 7 (dk_at dksX0_canCalm_0 20 rfl rfl)
theorem dX0_canCalm_23 : decode cX0_canCalm 23 = .ok (.iconst 1, 1) := dk_4 (dk_at dksX0_canCalm_0 23 rfl rfl)
theorem dX0_canCalm_24 : decode cX0_canCalm 24 = .ok (.goto 4, 3) := dk_167 0 4 (dk_at dksX0_canCalm_1 0 rfl rfl)
theorem dX0_canCalm_27 : decode cX0_canCalm 27 = .ok (.iconst 0, 1) := dk_3 (dk_at dksX0_canCalm_1 3 rfl rfl)
theorem dX0_canCalm_28 : decode cX0_canCalm 28 = .ok (.ireturn, 1) := dk_172 (dk_at dksX0_canCalm_1 4 rfl rfl)
abbrev cX0_day : ByteArray := prog_1_method_29_code
def yX0_day : MethodName := ⟨RX0, "day", "(I)I"⟩
def dkwX0_day_3 : List UInt8 := [172]
abbrev dktX0_day_3 : List UInt8 := dkwX0_day_3 ++ []
def dkwX0_day_2 : List UInt8 := [180, 0, 189, 182, 0, 199, 132, 2, 1, 167, 255, 230, 42, 42, 180, 0, 33, 180, 0, 189, 6, 182, 0, 202]
abbrev dktX0_day_2 : List UInt8 := dkwX0_day_2 ++ dktX0_day_3
def dkwX0_day_1 : List UInt8 := [164, 0, 5, 2, 172, 3, 61, 28, 27, 162, 0, 27, 42, 180, 0, 33, 182, 0, 186, 42, 42, 180, 0, 33]
abbrev dktX0_day_1 : List UInt8 := dkwX0_day_1 ++ dktX0_day_2
def dkwX0_day_0 : List UInt8 := [27, 4, 16, 60, 184, 0, 87, 153, 0, 20, 42, 180, 0, 33, 180, 0, 189, 3, 46, 27, 96, 17, 39, 15]
abbrev dktX0_day_0 : List UInt8 := dkwX0_day_0 ++ dktX0_day_1
theorem dksX0_day_0 : cX0_day.data.toList.drop 0 = dktX0_day_0 := by decide +kernel
theorem dksX0_day_1 : cX0_day.data.toList.drop 24 = dktX0_day_1 := dk_seg dksX0_day_0 24 rfl rfl
theorem dksX0_day_2 : cX0_day.data.toList.drop 48 = dktX0_day_2 := dk_seg dksX0_day_1 24 rfl rfl
theorem dksX0_day_3 : cX0_day.data.toList.drop 72 = dktX0_day_3 := dk_seg dksX0_day_2 24 rfl rfl
theorem dX0_day_0 : decode cX0_day 0 = .ok (.iload_n 1, 1) := dk_27 (dk_at dksX0_day_0 0 rfl rfl)
theorem dX0_day_1 : decode cX0_day 1 = .ok (.iconst 1, 1) := dk_4 (dk_at dksX0_day_0 1 rfl rfl)
theorem dX0_day_2 : decode cX0_day 2 = .ok (.bipush 60, 2) := dk_16 60 (dk_at dksX0_day_0 2 rfl rfl)
theorem dX0_day_4 : decode cX0_day 4 = .ok (.invokestatic 87, 3) := dk_184 0 87 (dk_at dksX0_day_0 4 rfl rfl)
theorem dX0_day_7 : decode cX0_day 7 = .ok (.ifCond .eq 20, 3) := dk_153 0 20 (dk_at dksX0_day_0 7 rfl rfl)
theorem dX0_day_10 : decode cX0_day 10 = .ok (.aload_n 0, 1) := dk_42 (dk_at dksX0_day_0 10 rfl rfl)
theorem dX0_day_11 : decode cX0_day 11 = .ok (.getfield 33, 3) := dk_180 0 33 (dk_at dksX0_day_0 11 rfl rfl)
theorem dX0_day_14 : decode cX0_day 14 = .ok (.getfield 189, 3) := dk_180 0 189 (dk_at dksX0_day_0 14 rfl rfl)
theorem dX0_day_17 : decode cX0_day 17 = .ok (.iconst 0, 1) := dk_3 (dk_at dksX0_day_0 17 rfl rfl)
theorem dX0_day_18 : decode cX0_day 18 = .ok (.iaload, 1) := dk_46 (dk_at dksX0_day_0 18 rfl rfl)
theorem dX0_day_19 : decode cX0_day 19 = .ok (.iload_n 1, 1) := dk_27 (dk_at dksX0_day_0 19 rfl rfl)
theorem dX0_day_20 : decode cX0_day 20 = .ok (.iadd, 1) := dk_96 (dk_at dksX0_day_0 20 rfl rfl)
theorem dX0_day_21 : decode cX0_day 21 = .ok (.sipush 9999, 3) := dk_17 39 15 (dk_at dksX0_day_0 21 rfl rfl)
theorem dX0_day_24 : decode cX0_day 24 = .ok (.if_icmp .le 5, 3) := dk_164 0 5 (dk_at dksX0_day_1 0 rfl rfl)
theorem dX0_day_27 : decode cX0_day 27 = .ok (.iconst (-1), 1) := dk_2 (dk_at dksX0_day_1 3 rfl rfl)
theorem dX0_day_28 : decode cX0_day 28 = .ok (.ireturn, 1) := dk_172 (dk_at dksX0_day_1 4 rfl rfl)
theorem dX0_day_29 : decode cX0_day 29 = .ok (.iconst 0, 1) := dk_3 (dk_at dksX0_day_1 5 rfl rfl)
theorem dX0_day_30 : decode cX0_day 30 = .ok (.istore_n 2, 1) := dk_61 (dk_at dksX0_day_1 6 rfl rfl)
theorem dX0_day_31 : decode cX0_day 31 = .ok (.iload_n 2, 1) := dk_28 (dk_at dksX0_day_1 7 rfl rfl)
theorem dX0_day_32 : decode cX0_day 32 = .ok (.iload_n 1, 1) := dk_27 (dk_at dksX0_day_1 8 rfl rfl)
theorem dX0_day_33 : decode cX0_day 33 = .ok (.if_icmp .ge 27, 3) := dk_162 0 27 (dk_at dksX0_day_1 9 rfl rfl)
theorem dX0_day_36 : decode cX0_day 36 = .ok (.aload_n 0, 1) := dk_42 (dk_at dksX0_day_1 12 rfl rfl)
theorem dX0_day_37 : decode cX0_day 37 = .ok (.getfield 33, 3) := dk_180 0 33 (dk_at dksX0_day_1 13 rfl rfl)
theorem dX0_day_40 : decode cX0_day 40 = .ok (.invokevirtual 186, 3) := dk_182 0 186 (dk_at dksX0_day_1 16 rfl rfl)
theorem dX0_day_43 : decode cX0_day 43 = .ok (.aload_n 0, 1) := dk_42 (dk_at dksX0_day_1 19 rfl rfl)
theorem dX0_day_44 : decode cX0_day 44 = .ok (.aload_n 0, 1) := dk_42 (dk_at dksX0_day_1 20 rfl rfl)
theorem dX0_day_45 : decode cX0_day 45 = .ok (.getfield 33, 3) := dk_180 0 33 (dk_at dksX0_day_1 21 rfl rfl)
theorem dX0_day_48 : decode cX0_day 48 = .ok (.getfield 189, 3) := dk_180 0 189 (dk_at dksX0_day_2 0 rfl rfl)
theorem dX0_day_51 : decode cX0_day 51 = .ok (.invokevirtual 199, 3) := dk_182 0 199 (dk_at dksX0_day_2 3 rfl rfl)
theorem dX0_day_54 : decode cX0_day 54 = .ok (.iinc 2 1, 3) := dk_132 2 1 (dk_at dksX0_day_2 6 rfl rfl)
theorem dX0_day_57 : decode cX0_day 57 = .ok (.goto (-26), 3) := dk_167 255 230 (dk_at dksX0_day_2 9 rfl rfl)
theorem dX0_day_60 : decode cX0_day 60 = .ok (.aload_n 0, 1) := dk_42 (dk_at dksX0_day_2 12 rfl rfl)
theorem dX0_day_61 : decode cX0_day 61 = .ok (.aload_n 0, 1) := dk_42 (dk_at dksX0_day_2 13 rfl rfl)
theorem dX0_day_62 : decode cX0_day 62 = .ok (.getfield 33, 3) := dk_180 0 33 (dk_at dksX0_day_2 14 rfl rfl)
theorem dX0_day_65 : decode cX0_day 65 = .ok (.getfield 189, 3) := dk_180 0 189 (dk_at dksX0_day_2 17 rfl rfl)
theorem dX0_day_68 : decode cX0_day 68 = .ok (.iconst 3, 1) := dk_6 (dk_at dksX0_day_2 20 rfl rfl)
theorem dX0_day_69 : decode cX0_day 69 = .ok (.invokevirtual 202, 3) := dk_182 0 202 (dk_at dksX0_day_2 21 rfl rfl)
theorem dX0_day_72 : decode cX0_day 72 = .ok (.ireturn, 1) := dk_172 (dk_at dksX0_day_3 0 rfl rfl)
abbrev cX0_passes : ByteArray := prog_1_method_27_code
def yX0_passes : MethodName := ⟨RX0, "passes", "([I)V"⟩
def dkwX0_passes_1 : List UInt8 := [96, 46, 4, 96, 184, 0, 167, 79, 132, 2, 1, 167, 255, 223, 43, 3, 92, 46, 4, 96, 79, 177]
abbrev dktX0_passes_1 : List UInt8 := dkwX0_passes_1 ++ []
def dkwX0_passes_0 : List UInt8 := [3, 61, 28, 42, 180, 0, 33, 180, 0, 91, 3, 46, 162, 0, 26, 43, 6, 28, 96, 16, 99, 43, 6, 28]
abbrev dktX0_passes_0 : List UInt8 := dkwX0_passes_0 ++ dktX0_passes_1
theorem dksX0_passes_0 : cX0_passes.data.toList.drop 0 = dktX0_passes_0 := by decide +kernel
theorem dksX0_passes_1 : cX0_passes.data.toList.drop 24 = dktX0_passes_1 := dk_seg dksX0_passes_0 24 rfl rfl
theorem dX0_passes_0 : decode cX0_passes 0 = .ok (.iconst 0, 1) := dk_3 (dk_at dksX0_passes_0 0 rfl rfl)
theorem dX0_passes_1 : decode cX0_passes 1 = .ok (.istore_n 2, 1) := dk_61 (dk_at dksX0_passes_0 1 rfl rfl)
theorem dX0_passes_2 : decode cX0_passes 2 = .ok (.iload_n 2, 1) := dk_28 (dk_at dksX0_passes_0 2 rfl rfl)
theorem dX0_passes_3 : decode cX0_passes 3 = .ok (.aload_n 0, 1) := dk_42 (dk_at dksX0_passes_0 3 rfl rfl)
theorem dX0_passes_4 : decode cX0_passes 4 = .ok (.getfield 33, 3) := dk_180 0 33 (dk_at dksX0_passes_0 4 rfl rfl)
theorem dX0_passes_7 : decode cX0_passes 7 = .ok (.getfield 91, 3) := dk_180 0 91 (dk_at dksX0_passes_0 7 rfl rfl)
theorem dX0_passes_10 : decode cX0_passes 10 = .ok (.iconst 0, 1) := dk_3 (dk_at dksX0_passes_0 10 rfl rfl)
theorem dX0_passes_11 : decode cX0_passes 11 = .ok (.iaload, 1) := dk_46 (dk_at dksX0_passes_0 11 rfl rfl)
theorem dX0_passes_12 : decode cX0_passes 12 = .ok (.if_icmp .ge 26, 3) := dk_162 0 26 (dk_at dksX0_passes_0 12 rfl rfl)
theorem dX0_passes_15 : decode cX0_passes 15 = .ok (.aload_n 1, 1) := dk_43 (dk_at dksX0_passes_0 15 rfl rfl)
theorem dX0_passes_16 : decode cX0_passes 16 = .ok (.iconst 3, 1) := dk_6 (dk_at dksX0_passes_0 16 rfl rfl)
theorem dX0_passes_17 : decode cX0_passes 17 = .ok (.iload_n 2, 1) := dk_28 (dk_at dksX0_passes_0 17 rfl rfl)
theorem dX0_passes_18 : decode cX0_passes 18 = .ok (.iadd, 1) := dk_96 (dk_at dksX0_passes_0 18 rfl rfl)
theorem dX0_passes_19 : decode cX0_passes 19 = .ok (.bipush 99, 2) := dk_16 99 (dk_at dksX0_passes_0 19 rfl rfl)
theorem dX0_passes_21 : decode cX0_passes 21 = .ok (.aload_n 1, 1) := dk_43 (dk_at dksX0_passes_0 21 rfl rfl)
theorem dX0_passes_22 : decode cX0_passes 22 = .ok (.iconst 3, 1) := dk_6 (dk_at dksX0_passes_0 22 rfl rfl)
theorem dX0_passes_23 : decode cX0_passes 23 = .ok (.iload_n 2, 1) := dk_28 (dk_at dksX0_passes_0 23 rfl rfl)
theorem dX0_passes_24 : decode cX0_passes 24 = .ok (.iadd, 1) := dk_96 (dk_at dksX0_passes_1 0 rfl rfl)
theorem dX0_passes_25 : decode cX0_passes 25 = .ok (.iaload, 1) := dk_46 (dk_at dksX0_passes_1 1 rfl rfl)
theorem dX0_passes_26 : decode cX0_passes 26 = .ok (.iconst 1, 1) := dk_4 (dk_at dksX0_passes_1 2 rfl rfl)
theorem dX0_passes_27 : decode cX0_passes 27 = .ok (.iadd, 1) := dk_96 (dk_at dksX0_passes_1 3 rfl rfl)
theorem dX0_passes_28 : decode cX0_passes 28 = .ok (.invokestatic 167, 3) := dk_184 0 167 (dk_at dksX0_passes_1 4 rfl rfl)
theorem dX0_passes_31 : decode cX0_passes 31 = .ok (.iastore, 1) := dk_79 (dk_at dksX0_passes_1 7 rfl rfl)
theorem dX0_passes_32 : decode cX0_passes 32 = .ok (.iinc 2 1, 3) := dk_132 2 1 (dk_at dksX0_passes_1 8 rfl rfl)
theorem dX0_passes_35 : decode cX0_passes 35 = .ok (.goto (-33), 3) := dk_167 255 223 (dk_at dksX0_passes_1 11 rfl rfl)
theorem dX0_passes_38 : decode cX0_passes 38 = .ok (.aload_n 1, 1) := dk_43 (dk_at dksX0_passes_1 14 rfl rfl)
theorem dX0_passes_39 : decode cX0_passes 39 = .ok (.iconst 0, 1) := dk_3 (dk_at dksX0_passes_1 15 rfl rfl)
theorem dX0_passes_40 : decode cX0_passes 40 = .ok (.dup2, 1) := dk_92 (dk_at dksX0_passes_1 16 rfl rfl)
theorem dX0_passes_41 : decode cX0_passes 41 = .ok (.iaload, 1) := dk_46 (dk_at dksX0_passes_1 17 rfl rfl)
theorem dX0_passes_42 : decode cX0_passes 42 = .ok (.iconst 1, 1) := dk_4 (dk_at dksX0_passes_1 18 rfl rfl)
theorem dX0_passes_43 : decode cX0_passes 43 = .ok (.iadd, 1) := dk_96 (dk_at dksX0_passes_1 19 rfl rfl)
theorem dX0_passes_44 : decode cX0_passes 44 = .ok (.iastore, 1) := dk_79 (dk_at dksX0_passes_1 20 rfl rfl)
theorem dX0_passes_45 : decode cX0_passes 45 = .ok (.return_, 1) := dk_177 (dk_at dksX0_passes_1 21 rfl rfl)
abbrev cX0_sumOf : ByteArray := prog_1_method_28_code
def yX0_sumOf : MethodName := ⟨RX0, "sumOf", "([II)I"⟩
def dkwX0_sumOf_1 : List UInt8 := [96, 46, 96, 62, 132, 4, 1, 167, 255, 230, 29, 172]
abbrev dktX0_sumOf_1 : List UInt8 := dkwX0_sumOf_1 ++ []
def dkwX0_sumOf_0 : List UInt8 := [3, 62, 3, 54, 4, 21, 4, 42, 180, 0, 33, 180, 0, 91, 3, 46, 162, 0, 18, 29, 43, 28, 21, 4]
abbrev dktX0_sumOf_0 : List UInt8 := dkwX0_sumOf_0 ++ dktX0_sumOf_1
theorem dksX0_sumOf_0 : cX0_sumOf.data.toList.drop 0 = dktX0_sumOf_0 := by decide +kernel
theorem dksX0_sumOf_1 : cX0_sumOf.data.toList.drop 24 = dktX0_sumOf_1 := dk_seg dksX0_sumOf_0 24 rfl rfl
theorem dX0_sumOf_0 : decode cX0_sumOf 0 = .ok (.iconst 0, 1) := dk_3 (dk_at dksX0_sumOf_0 0 rfl rfl)
theorem dX0_sumOf_1 : decode cX0_sumOf 1 = .ok (.istore_n 3, 1) := dk_62 (dk_at dksX0_sumOf_0 1 rfl rfl)
theorem dX0_sumOf_2 : decode cX0_sumOf 2 = .ok (.iconst 0, 1) := dk_3 (dk_at dksX0_sumOf_0 2 rfl rfl)
theorem dX0_sumOf_3 : decode cX0_sumOf 3 = .ok (.istore 4, 2) := dk_54 4 (dk_at dksX0_sumOf_0 3 rfl rfl)
theorem dX0_sumOf_5 : decode cX0_sumOf 5 = .ok (.iload 4, 2) := dk_21 4 (dk_at dksX0_sumOf_0 5 rfl rfl)
theorem dX0_sumOf_7 : decode cX0_sumOf 7 = .ok (.aload_n 0, 1) := dk_42 (dk_at dksX0_sumOf_0 7 rfl rfl)
theorem dX0_sumOf_8 : decode cX0_sumOf 8 = .ok (.getfield 33, 3) := dk_180 0 33 (dk_at dksX0_sumOf_0 8 rfl rfl)
theorem dX0_sumOf_11 : decode cX0_sumOf 11 = .ok (.getfield 91, 3) := dk_180 0 91 (dk_at dksX0_sumOf_0 11 rfl rfl)
theorem dX0_sumOf_14 : decode cX0_sumOf 14 = .ok (.iconst 0, 1) := dk_3 (dk_at dksX0_sumOf_0 14 rfl rfl)
theorem dX0_sumOf_15 : decode cX0_sumOf 15 = .ok (.iaload, 1) := dk_46 (dk_at dksX0_sumOf_0 15 rfl rfl)
theorem dX0_sumOf_16 : decode cX0_sumOf 16 = .ok (.if_icmp .ge 18, 3) := dk_162 0 18 (dk_at dksX0_sumOf_0 16 rfl rfl)
theorem dX0_sumOf_19 : decode cX0_sumOf 19 = .ok (.iload_n 3, 1) := dk_29 (dk_at dksX0_sumOf_0 19 rfl rfl)
theorem dX0_sumOf_20 : decode cX0_sumOf 20 = .ok (.aload_n 1, 1) := dk_43 (dk_at dksX0_sumOf_0 20 rfl rfl)
theorem dX0_sumOf_21 : decode cX0_sumOf 21 = .ok (.iload_n 2, 1) := dk_28 (dk_at dksX0_sumOf_0 21 rfl rfl)
theorem dX0_sumOf_22 : decode cX0_sumOf 22 = .ok (.iload 4, 2) := dk_21 4 (dk_at dksX0_sumOf_0 22 rfl rfl)
theorem dX0_sumOf_24 : decode cX0_sumOf 24 = .ok (.iadd, 1) := dk_96 (dk_at dksX0_sumOf_1 0 rfl rfl)
theorem dX0_sumOf_25 : decode cX0_sumOf 25 = .ok (.iaload, 1) := dk_46 (dk_at dksX0_sumOf_1 1 rfl rfl)
theorem dX0_sumOf_26 : decode cX0_sumOf 26 = .ok (.iadd, 1) := dk_96 (dk_at dksX0_sumOf_1 2 rfl rfl)
theorem dX0_sumOf_27 : decode cX0_sumOf 27 = .ok (.istore_n 3, 1) := dk_62 (dk_at dksX0_sumOf_1 3 rfl rfl)
theorem dX0_sumOf_28 : decode cX0_sumOf 28 = .ok (.iinc 4 1, 3) := dk_132 4 1 (dk_at dksX0_sumOf_1 4 rfl rfl)
theorem dX0_sumOf_31 : decode cX0_sumOf 31 = .ok (.goto (-26), 3) := dk_167 255 230 (dk_at dksX0_sumOf_1 7 rfl rfl)
theorem dX0_sumOf_34 : decode cX0_sumOf 34 = .ok (.iload_n 3, 1) := dk_29 (dk_at dksX0_sumOf_1 10 rfl rfl)
theorem dX0_sumOf_35 : decode cX0_sumOf 35 = .ok (.ireturn, 1) := dk_172 (dk_at dksX0_sumOf_1 11 rfl rfl)
abbrev cX0_played : ByteArray := prog_1_method_32_code
def yX0_played : MethodName := ⟨RX0, "played", "(I)I"⟩
def dkwX0_played_2 : List UInt8 := [154, 0, 15, 44, 29, 182, 0, 245, 192, 0, 210, 182, 0, 253, 172, 132, 3, 1, 167, 255, 218, 2, 172]
abbrev dktX0_played_2 : List UInt8 := dkwX0_played_2 ++ []
def dkwX0_played_1 : List UInt8 := [3, 62, 29, 44, 182, 0, 240, 162, 0, 36, 42, 44, 29, 182, 0, 245, 192, 0, 210, 182, 0, 249]
abbrev dktX0_played_1 : List UInt8 := dkwX0_played_1 ++ dktX0_played_2
def dkwX0_played_0 : List UInt8 := [42, 27, 182, 0, 131, 154, 0, 6, 16, 254, 172, 42, 180, 0, 33, 180, 0, 112, 27, 50, 180, 0, 236, 77]
abbrev dktX0_played_0 : List UInt8 := dkwX0_played_0 ++ dktX0_played_1
theorem dksX0_played_0 : cX0_played.data.toList.drop 0 = dktX0_played_0 := by decide +kernel
theorem dksX0_played_1 : cX0_played.data.toList.drop 24 = dktX0_played_1 := dk_seg dksX0_played_0 24 rfl rfl
theorem dksX0_played_2 : cX0_played.data.toList.drop 46 = dktX0_played_2 := dk_seg dksX0_played_1 22 rfl rfl
theorem dX0_played_0 : decode cX0_played 0 = .ok (.aload_n 0, 1) := dk_42 (dk_at dksX0_played_0 0 rfl rfl)
theorem dX0_played_1 : decode cX0_played 1 = .ok (.iload_n 1, 1) := dk_27 (dk_at dksX0_played_0 1 rfl rfl)
theorem dX0_played_2 : decode cX0_played 2 = .ok (.invokevirtual 131, 3) := dk_182 0 131 (dk_at dksX0_played_0 2 rfl rfl)
theorem dX0_played_5 : decode cX0_played 5 = .ok (.ifCond .ne 6, 3) := dk_154 0 6 (dk_at dksX0_played_0 5 rfl rfl)
theorem dX0_played_8 : decode cX0_played 8 = .ok (.bipush (-2), 2) := dk_16 254 (dk_at dksX0_played_0 8 rfl rfl)
theorem dX0_played_10 : decode cX0_played 10 = .ok (.ireturn, 1) := dk_172 (dk_at dksX0_played_0 10 rfl rfl)
theorem dX0_played_11 : decode cX0_played 11 = .ok (.aload_n 0, 1) := dk_42 (dk_at dksX0_played_0 11 rfl rfl)
theorem dX0_played_12 : decode cX0_played 12 = .ok (.getfield 33, 3) := dk_180 0 33 (dk_at dksX0_played_0 12 rfl rfl)
theorem dX0_played_15 : decode cX0_played 15 = .ok (.getfield 112, 3) := dk_180 0 112 (dk_at dksX0_played_0 15 rfl rfl)
theorem dX0_played_18 : decode cX0_played 18 = .ok (.iload_n 1, 1) := dk_27 (dk_at dksX0_played_0 18 rfl rfl)
theorem dX0_played_19 : decode cX0_played 19 = .ok (.aaload, 1) := dk_50 (dk_at dksX0_played_0 19 rfl rfl)
theorem dX0_played_20 : decode cX0_played 20 = .ok (.getfield 236, 3) := dk_180 0 236 (dk_at dksX0_played_0 20 rfl rfl)
theorem dX0_played_23 : decode cX0_played 23 = .ok (.astore_n 2, 1) := dk_77 (dk_at dksX0_played_0 23 rfl rfl)
theorem dX0_played_24 : decode cX0_played 24 = .ok (.iconst 0, 1) := dk_3 (dk_at dksX0_played_1 0 rfl rfl)
theorem dX0_played_25 : decode cX0_played 25 = .ok (.istore_n 3, 1) := dk_62 (dk_at dksX0_played_1 1 rfl rfl)
theorem dX0_played_26 : decode cX0_played 26 = .ok (.iload_n 3, 1) := dk_29 (dk_at dksX0_played_1 2 rfl rfl)
theorem dX0_played_27 : decode cX0_played 27 = .ok (.aload_n 2, 1) := dk_44 (dk_at dksX0_played_1 3 rfl rfl)
theorem dX0_played_28 : decode cX0_played 28 = .ok (.invokevirtual 240, 3) := dk_182 0 240 (dk_at dksX0_played_1 4 rfl rfl)
theorem dX0_played_31 : decode cX0_played 31 = .ok (.if_icmp .ge 36, 3) := dk_162 0 36 (dk_at dksX0_played_1 7 rfl rfl)
theorem dX0_played_34 : decode cX0_played 34 = .ok (.aload_n 0, 1) := dk_42 (dk_at dksX0_played_1 10 rfl rfl)
theorem dX0_played_35 : decode cX0_played 35 = .ok (.aload_n 2, 1) := dk_44 (dk_at dksX0_played_1 11 rfl rfl)
theorem dX0_played_36 : decode cX0_played 36 = .ok (.iload_n 3, 1) := dk_29 (dk_at dksX0_played_1 12 rfl rfl)
theorem dX0_played_37 : decode cX0_played 37 = .ok (.invokevirtual 245, 3) := dk_182 0 245 (dk_at dksX0_played_1 13 rfl rfl)
theorem dX0_played_40 : decode cX0_played 40 = .ok (.checkcast 210, 3) := dk_192 0 210 (dk_at dksX0_played_1 16 rfl rfl)
theorem dX0_played_43 : decode cX0_played 43 = .ok (.invokevirtual 249, 3) := dk_182 0 249 (dk_at dksX0_played_1 19 rfl rfl)
theorem dX0_played_46 : decode cX0_played 46 = .ok (.ifCond .ne 15, 3) := dk_154 0 15 (dk_at dksX0_played_2 0 rfl rfl)
theorem dX0_played_49 : decode cX0_played 49 = .ok (.aload_n 2, 1) := dk_44 (dk_at dksX0_played_2 3 rfl rfl)
theorem dX0_played_50 : decode cX0_played 50 = .ok (.iload_n 3, 1) := dk_29 (dk_at dksX0_played_2 4 rfl rfl)
theorem dX0_played_51 : decode cX0_played 51 = .ok (.invokevirtual 245, 3) := dk_182 0 245 (dk_at dksX0_played_2 5 rfl rfl)
theorem dX0_played_54 : decode cX0_played 54 = .ok (.checkcast 210, 3) := dk_192 0 210 (dk_at dksX0_played_2 8 rfl rfl)
theorem dX0_played_57 : decode cX0_played 57 = .ok (.invokevirtual 253, 3) := dk_182 0 253 (dk_at dksX0_played_2 11 rfl rfl)
theorem dX0_played_60 : decode cX0_played 60 = .ok (.ireturn, 1) := dk_172 (dk_at dksX0_played_2 14 rfl rfl)
theorem dX0_played_61 : decode cX0_played 61 = .ok (.iinc 3 1, 3) := dk_132 3 1 (dk_at dksX0_played_2 15 rfl rfl)
theorem dX0_played_64 : decode cX0_played 64 = .ok (.goto (-38), 3) := dk_167 255 218 (dk_at dksX0_played_2 18 rfl rfl)
theorem dX0_played_67 : decode cX0_played 67 = .ok (.iconst (-1), 1) := dk_2 (dk_at dksX0_played_2 21 rfl rfl)
theorem dX0_played_68 : decode cX0_played 68 = .ok (.ireturn, 1) := dk_172 (dk_at dksX0_played_2 22 rfl rfl)
abbrev cX0_does : ByteArray := prog_1_method_31_code
def yX0_does : MethodName := ⟨RX0, "does", "(LShaveOfAnother$Doing;)Z"⟩
def dkwX0_does_4 : List UInt8 := [167, 0, 4, 3, 172, 42, 43, 182, 0, 215, 182, 0, 230, 172, 42, 43, 182, 0, 215, 182, 0, 233, 172]
abbrev dktX0_does_4 : List UInt8 := dkwX0_does_4 ++ []
def dkwX0_does_3 : List UInt8 := [182, 0, 215, 43, 182, 0, 218, 182, 0, 224, 172, 42, 43, 182, 0, 215, 182, 0, 227, 2, 159, 0, 7, 4]
abbrev dktX0_does_3 : List UInt8 := dkwX0_does_3 ++ dktX0_does_4
def dkwX0_does_2 : List UInt8 := [42, 43, 182, 0, 215, 43, 182, 0, 218, 182, 0, 221, 2, 159, 0, 7, 4, 167, 0, 4, 3, 172, 42, 43]
abbrev dktX0_does_2 : List UInt8 := dkwX0_does_2 ++ dktX0_does_3
def dkwX0_does_1 : List UInt8 := [170, 0, 0, 0, 0, 0, 0, 94, 0, 0, 0, 203, 0, 0, 0, 206, 0, 0, 0, 32, 0, 0, 0, 54, 0, 0, 0, 67, 0, 0, 0, 85]
abbrev dktX0_does_1 : List UInt8 := dkwX0_does_1 ++ dktX0_does_2
def dkwX0_does_0 : List UInt8 := [43, 182, 0, 209]
abbrev dktX0_does_0 : List UInt8 := dkwX0_does_0 ++ dktX0_does_1
theorem dksX0_does_0 : cX0_does.data.toList.drop 0 = dktX0_does_0 := by decide +kernel
theorem dksX0_does_1 : cX0_does.data.toList.drop 4 = dktX0_does_1 := dk_seg dksX0_does_0 4 rfl rfl
theorem dksX0_does_2 : cX0_does.data.toList.drop 36 = dktX0_does_2 := dk_seg dksX0_does_1 32 rfl rfl
theorem dksX0_does_3 : cX0_does.data.toList.drop 60 = dktX0_does_3 := dk_seg dksX0_does_2 24 rfl rfl
theorem dksX0_does_4 : cX0_does.data.toList.drop 84 = dktX0_does_4 := dk_seg dksX0_does_3 24 rfl rfl
theorem dX0_does_0 : decode cX0_does 0 = .ok (.aload_n 1, 1) := dk_43 (dk_at dksX0_does_0 0 rfl rfl)
theorem dX0_does_1 : decode cX0_does 1 = .ok (.invokevirtual 209, 3) := dk_182 0 209 (dk_at dksX0_does_0 1 rfl rfl)
theorem dX0_does_4 : decode cX0_does 4 = .ok (.tableswitch 94 203 206 #[32, 54, 67, 85], 32) := by decide +kernel
theorem dX0_does_36 : decode cX0_does 36 = .ok (.aload_n 0, 1) := dk_42 (dk_at dksX0_does_2 0 rfl rfl)
theorem dX0_does_37 : decode cX0_does 37 = .ok (.aload_n 1, 1) := dk_43 (dk_at dksX0_does_2 1 rfl rfl)
theorem dX0_does_38 : decode cX0_does 38 = .ok (.invokevirtual 215, 3) := dk_182 0 215 (dk_at dksX0_does_2 2 rfl rfl)
theorem dX0_does_41 : decode cX0_does 41 = .ok (.aload_n 1, 1) := dk_43 (dk_at dksX0_does_2 5 rfl rfl)
theorem dX0_does_42 : decode cX0_does 42 = .ok (.invokevirtual 218, 3) := dk_182 0 218 (dk_at dksX0_does_2 6 rfl rfl)
theorem dX0_does_45 : decode cX0_does 45 = .ok (.invokevirtual 221, 3) := dk_182 0 221 (dk_at dksX0_does_2 9 rfl rfl)
theorem dX0_does_48 : decode cX0_does 48 = .ok (.iconst (-1), 1) := dk_2 (dk_at dksX0_does_2 12 rfl rfl)
theorem dX0_does_49 : decode cX0_does 49 = .ok (.if_icmp .eq 7, 3) := dk_159 0 7 (dk_at dksX0_does_2 13 rfl rfl)
theorem dX0_does_52 : decode cX0_does 52 = .ok (.iconst 1, 1) := dk_4 (dk_at dksX0_does_2 16 rfl rfl)
theorem dX0_does_53 : decode cX0_does 53 = .ok (.goto 4, 3) := dk_167 0 4 (dk_at dksX0_does_2 17 rfl rfl)
theorem dX0_does_56 : decode cX0_does 56 = .ok (.iconst 0, 1) := dk_3 (dk_at dksX0_does_2 20 rfl rfl)
theorem dX0_does_57 : decode cX0_does 57 = .ok (.ireturn, 1) := dk_172 (dk_at dksX0_does_2 21 rfl rfl)
theorem dX0_does_58 : decode cX0_does 58 = .ok (.aload_n 0, 1) := dk_42 (dk_at dksX0_does_2 22 rfl rfl)
theorem dX0_does_59 : decode cX0_does 59 = .ok (.aload_n 1, 1) := dk_43 (dk_at dksX0_does_2 23 rfl rfl)
theorem dX0_does_60 : decode cX0_does 60 = .ok (.invokevirtual 215, 3) := dk_182 0 215 (dk_at dksX0_does_3 0 rfl rfl)
theorem dX0_does_63 : decode cX0_does 63 = .ok (.aload_n 1, 1) := dk_43 (dk_at dksX0_does_3 3 rfl rfl)
theorem dX0_does_64 : decode cX0_does 64 = .ok (.invokevirtual 218, 3) := dk_182 0 218 (dk_at dksX0_does_3 4 rfl rfl)
theorem dX0_does_67 : decode cX0_does 67 = .ok (.invokevirtual 224, 3) := dk_182 0 224 (dk_at dksX0_does_3 7 rfl rfl)
theorem dX0_does_70 : decode cX0_does 70 = .ok (.ireturn, 1) := dk_172 (dk_at dksX0_does_3 10 rfl rfl)
theorem dX0_does_71 : decode cX0_does 71 = .ok (.aload_n 0, 1) := dk_42 (dk_at dksX0_does_3 11 rfl rfl)
theorem dX0_does_72 : decode cX0_does 72 = .ok (.aload_n 1, 1) := dk_43 (dk_at dksX0_does_3 12 rfl rfl)
theorem dX0_does_73 : decode cX0_does 73 = .ok (.invokevirtual 215, 3) := dk_182 0 215 (dk_at dksX0_does_3 13 rfl rfl)
theorem dX0_does_76 : decode cX0_does 76 = .ok (.invokevirtual 227, 3) := dk_182 0 227 (dk_at dksX0_does_3 16 rfl rfl)
theorem dX0_does_79 : decode cX0_does 79 = .ok (.iconst (-1), 1) := dk_2 (dk_at dksX0_does_3 19 rfl rfl)
theorem dX0_does_80 : decode cX0_does 80 = .ok (.if_icmp .eq 7, 3) := dk_159 0 7 (dk_at dksX0_does_3 20 rfl rfl)
theorem dX0_does_83 : decode cX0_does 83 = .ok (.iconst 1, 1) := dk_4 (dk_at dksX0_does_3 23 rfl rfl)
theorem dX0_does_84 : decode cX0_does 84 = .ok (.goto 4, 3) := dk_167 0 4 (dk_at dksX0_does_4 0 rfl rfl)
theorem dX0_does_87 : decode cX0_does 87 = .ok (.iconst 0, 1) := dk_3 (dk_at dksX0_does_4 3 rfl rfl)
theorem dX0_does_88 : decode cX0_does 88 = .ok (.ireturn, 1) := dk_172 (dk_at dksX0_does_4 4 rfl rfl)
theorem dX0_does_89 : decode cX0_does 89 = .ok (.aload_n 0, 1) := dk_42 (dk_at dksX0_does_4 5 rfl rfl)
theorem dX0_does_90 : decode cX0_does 90 = .ok (.aload_n 1, 1) := dk_43 (dk_at dksX0_does_4 6 rfl rfl)
theorem dX0_does_91 : decode cX0_does 91 = .ok (.invokevirtual 215, 3) := dk_182 0 215 (dk_at dksX0_does_4 7 rfl rfl)
theorem dX0_does_94 : decode cX0_does 94 = .ok (.invokevirtual 230, 3) := dk_182 0 230 (dk_at dksX0_does_4 10 rfl rfl)
theorem dX0_does_97 : decode cX0_does 97 = .ok (.ireturn, 1) := dk_172 (dk_at dksX0_does_4 13 rfl rfl)
theorem dX0_does_98 : decode cX0_does 98 = .ok (.aload_n 0, 1) := dk_42 (dk_at dksX0_does_4 14 rfl rfl)
theorem dX0_does_99 : decode cX0_does 99 = .ok (.aload_n 1, 1) := dk_43 (dk_at dksX0_does_4 15 rfl rfl)
theorem dX0_does_100 : decode cX0_does 100 = .ok (.invokevirtual 215, 3) := dk_182 0 215 (dk_at dksX0_does_4 16 rfl rfl)
theorem dX0_does_103 : decode cX0_does 103 = .ok (.invokevirtual 233, 3) := dk_182 0 233 (dk_at dksX0_does_4 19 rfl rfl)
theorem dX0_does_106 : decode cX0_does 106 = .ok (.ireturn, 1) := dk_172 (dk_at dksX0_does_4 22 rfl rfl)
abbrev cX0_passesAll : ByteArray := prog_1_method_30_code
def yX0_passesAll : MethodName := ⟨RX0, "passesAll", "(I)Z"⟩
def dkwX0_passesAll_1 : List UInt8 := [4, 172]
abbrev dktX0_passesAll_1 : List UInt8 := dkwX0_passesAll_1 ++ []
def dkwX0_passesAll_0 : List UInt8 := [3, 61, 28, 27, 162, 0, 20, 42, 4, 182, 0, 205, 2, 160, 0, 5, 3, 172, 132, 2, 1, 167, 255, 237]
abbrev dktX0_passesAll_0 : List UInt8 := dkwX0_passesAll_0 ++ dktX0_passesAll_1
theorem dksX0_passesAll_0 : cX0_passesAll.data.toList.drop 0 = dktX0_passesAll_0 := by decide +kernel
theorem dksX0_passesAll_1 : cX0_passesAll.data.toList.drop 24 = dktX0_passesAll_1 := dk_seg dksX0_passesAll_0 24 rfl rfl
theorem dX0_passesAll_0 : decode cX0_passesAll 0 = .ok (.iconst 0, 1) := dk_3 (dk_at dksX0_passesAll_0 0 rfl rfl)
theorem dX0_passesAll_1 : decode cX0_passesAll 1 = .ok (.istore_n 2, 1) := dk_61 (dk_at dksX0_passesAll_0 1 rfl rfl)
theorem dX0_passesAll_2 : decode cX0_passesAll 2 = .ok (.iload_n 2, 1) := dk_28 (dk_at dksX0_passesAll_0 2 rfl rfl)
theorem dX0_passesAll_3 : decode cX0_passesAll 3 = .ok (.iload_n 1, 1) := dk_27 (dk_at dksX0_passesAll_0 3 rfl rfl)
theorem dX0_passesAll_4 : decode cX0_passesAll 4 = .ok (.if_icmp .ge 20, 3) := dk_162 0 20 (dk_at dksX0_passesAll_0 4 rfl rfl)
theorem dX0_passesAll_7 : decode cX0_passesAll 7 = .ok (.aload_n 0, 1) := dk_42 (dk_at dksX0_passesAll_0 7 rfl rfl)
theorem dX0_passesAll_8 : decode cX0_passesAll 8 = .ok (.iconst 1, 1) := dk_4 (dk_at dksX0_passesAll_0 8 rfl rfl)
theorem dX0_passesAll_9 : decode cX0_passesAll 9 = .ok (.invokevirtual 205, 3) := dk_182 0 205 (dk_at dksX0_passesAll_0 9 rfl rfl)
theorem dX0_passesAll_12 : decode cX0_passesAll 12 = .ok (.iconst (-1), 1) := dk_2 (dk_at dksX0_passesAll_0 12 rfl rfl)
theorem dX0_passesAll_13 : decode cX0_passesAll 13 = .ok (.if_icmp .ne 5, 3) := dk_160 0 5 (dk_at dksX0_passesAll_0 13 rfl rfl)
theorem dX0_passesAll_16 : decode cX0_passesAll 16 = .ok (.iconst 0, 1) := dk_3 (dk_at dksX0_passesAll_0 16 rfl rfl)
theorem dX0_passesAll_17 : decode cX0_passesAll 17 = .ok (.ireturn, 1) := dk_172 (dk_at dksX0_passesAll_0 17 rfl rfl)
theorem dX0_passesAll_18 : decode cX0_passesAll 18 = .ok (.iinc 2 1, 3) := dk_132 2 1 (dk_at dksX0_passesAll_0 18 rfl rfl)
theorem dX0_passesAll_21 : decode cX0_passesAll 21 = .ok (.goto (-19), 3) := dk_167 255 237 (dk_at dksX0_passesAll_0 21 rfl rfl)
theorem dX0_passesAll_24 : decode cX0_passesAll 24 = .ok (.iconst 1, 1) := dk_4 (dk_at dksX0_passesAll_1 0 rfl rfl)
theorem dX0_passesAll_25 : decode cX0_passesAll 25 = .ok (.ireturn, 1) := dk_172 (dk_at dksX0_passesAll_1 1 rfl rfl)
abbrev cX0_years : ByteArray := prog_1_method_33_code
def yX0_years : MethodName := ⟨RX0, "years", "(II)I"⟩
def dkwX0_years_8 : List UInt8 := [182, 0, 199, 132, 5, 1, 167, 255, 116, 45, 3, 46, 172]
abbrev dktX0_years_8 : List UInt8 := dkwX0_years_8 ++ []
def dkwX0_years_7 : List UInt8 := [167, 0, 25, 21, 6, 8, 112, 5, 164, 0, 17, 45, 3, 46, 17, 39, 15, 162, 0, 8, 42, 45]
abbrev dktX0_years_7 : List UInt8 := dkwX0_years_7 ++ dktX0_years_8
def dkwX0_years_6 : List UInt8 := [112, 154, 0, 26, 42, 21, 7, 182, 0, 196, 153, 0, 17, 45, 16, 11, 21, 7, 96, 92, 46, 4, 100, 79]
abbrev dktX0_years_6 : List UInt8 := dkwX0_years_6 ++ dktX0_years_7
def dkwX0_years_5 : List UInt8 := [42, 45, 21, 7, 182, 0, 192, 96, 54, 4, 167, 0, 63, 21, 6, 8, 112, 5, 160, 0, 33, 21, 6, 7]
abbrev dktX0_years_5 : List UInt8 := dkwX0_years_5 ++ dktX0_years_6
def dkwX0_years_4 : List UInt8 := [3, 46, 112, 54, 7, 21, 6, 8, 112, 5, 162, 0, 27, 42, 21, 7, 182, 0, 138, 153, 0, 18, 21, 4]
abbrev dktX0_years_4 : List UInt8 := dkwX0_years_4 ++ dktX0_years_5
def dkwX0_years_3 : List UInt8 := [180, 0, 33, 180, 0, 91, 3, 46, 154, 0, 7, 2, 167, 0, 15, 21, 6, 42, 180, 0, 33, 180, 0, 91]
abbrev dktX0_years_3 : List UInt8 := dkwX0_years_3 ++ dktX0_years_4
def dkwX0_years_2 : List UInt8 := [3, 54, 4, 3, 54, 5, 21, 5, 28, 162, 0, 140, 45, 5, 46, 54, 6, 45, 184, 0, 163, 42]
abbrev dktX0_years_2 : List UInt8 := dkwX0_years_2 ++ dktX0_years_3
def dkwX0_years_1 : List UInt8 := [180, 0, 33, 182, 0, 186, 42, 180, 0, 33, 180, 0, 189, 78, 45, 5, 27, 5, 104, 17, 0, 223, 96, 79]
abbrev dktX0_years_1 : List UInt8 := dkwX0_years_1 ++ dktX0_years_2
def dkwX0_years_0 : List UInt8 := [27, 3, 17, 39, 15, 184, 0, 87, 153, 0, 13, 28, 4, 16, 40, 184, 0, 87, 154, 0, 5, 2, 172, 42]
abbrev dktX0_years_0 : List UInt8 := dkwX0_years_0 ++ dktX0_years_1
theorem dksX0_years_0 : cX0_years.data.toList.drop 0 = dktX0_years_0 := by decide +kernel
theorem dksX0_years_1 : cX0_years.data.toList.drop 24 = dktX0_years_1 := dk_seg dksX0_years_0 24 rfl rfl
theorem dksX0_years_2 : cX0_years.data.toList.drop 48 = dktX0_years_2 := dk_seg dksX0_years_1 24 rfl rfl
theorem dksX0_years_3 : cX0_years.data.toList.drop 70 = dktX0_years_3 := dk_seg dksX0_years_2 22 rfl rfl
theorem dksX0_years_4 : cX0_years.data.toList.drop 94 = dktX0_years_4 := dk_seg dksX0_years_3 24 rfl rfl
theorem dksX0_years_5 : cX0_years.data.toList.drop 118 = dktX0_years_5 := dk_seg dksX0_years_4 24 rfl rfl
theorem dksX0_years_6 : cX0_years.data.toList.drop 142 = dktX0_years_6 := dk_seg dksX0_years_5 24 rfl rfl
theorem dksX0_years_7 : cX0_years.data.toList.drop 166 = dktX0_years_7 := dk_seg dksX0_years_6 24 rfl rfl
theorem dksX0_years_8 : cX0_years.data.toList.drop 188 = dktX0_years_8 := dk_seg dksX0_years_7 22 rfl rfl
theorem dX0_years_0 : decode cX0_years 0 = .ok (.iload_n 1, 1) := dk_27 (dk_at dksX0_years_0 0 rfl rfl)
theorem dX0_years_1 : decode cX0_years 1 = .ok (.iconst 0, 1) := dk_3 (dk_at dksX0_years_0 1 rfl rfl)
theorem dX0_years_2 : decode cX0_years 2 = .ok (.sipush 9999, 3) := dk_17 39 15 (dk_at dksX0_years_0 2 rfl rfl)
theorem dX0_years_5 : decode cX0_years 5 = .ok (.invokestatic 87, 3) := dk_184 0 87 (dk_at dksX0_years_0 5 rfl rfl)
theorem dX0_years_8 : decode cX0_years 8 = .ok (.ifCond .eq 13, 3) := dk_153 0 13 (dk_at dksX0_years_0 8 rfl rfl)
theorem dX0_years_11 : decode cX0_years 11 = .ok (.iload_n 2, 1) := dk_28 (dk_at dksX0_years_0 11 rfl rfl)
theorem dX0_years_12 : decode cX0_years 12 = .ok (.iconst 1, 1) := dk_4 (dk_at dksX0_years_0 12 rfl rfl)
theorem dX0_years_13 : decode cX0_years 13 = .ok (.bipush 40, 2) := dk_16 40 (dk_at dksX0_years_0 13 rfl rfl)
theorem dX0_years_15 : decode cX0_years 15 = .ok (.invokestatic 87, 3) := dk_184 0 87 (dk_at dksX0_years_0 15 rfl rfl)
theorem dX0_years_18 : decode cX0_years 18 = .ok (.ifCond .ne 5, 3) := dk_154 0 5 (dk_at dksX0_years_0 18 rfl rfl)
theorem dX0_years_21 : decode cX0_years 21 = .ok (.iconst (-1), 1) := dk_2 (dk_at dksX0_years_0 21 rfl rfl)
theorem dX0_years_22 : decode cX0_years 22 = .ok (.ireturn, 1) := dk_172 (dk_at dksX0_years_0 22 rfl rfl)
theorem dX0_years_23 : decode cX0_years 23 = .ok (.aload_n 0, 1) := dk_42 (dk_at dksX0_years_0 23 rfl rfl)
theorem dX0_years_24 : decode cX0_years 24 = .ok (.getfield 33, 3) := dk_180 0 33 (dk_at dksX0_years_1 0 rfl rfl)
theorem dX0_years_27 : decode cX0_years 27 = .ok (.invokevirtual 186, 3) := dk_182 0 186 (dk_at dksX0_years_1 3 rfl rfl)
theorem dX0_years_30 : decode cX0_years 30 = .ok (.aload_n 0, 1) := dk_42 (dk_at dksX0_years_1 6 rfl rfl)
theorem dX0_years_31 : decode cX0_years 31 = .ok (.getfield 33, 3) := dk_180 0 33 (dk_at dksX0_years_1 7 rfl rfl)
theorem dX0_years_34 : decode cX0_years 34 = .ok (.getfield 189, 3) := dk_180 0 189 (dk_at dksX0_years_1 10 rfl rfl)
theorem dX0_years_37 : decode cX0_years 37 = .ok (.astore_n 3, 1) := dk_78 (dk_at dksX0_years_1 13 rfl rfl)
theorem dX0_years_38 : decode cX0_years 38 = .ok (.aload_n 3, 1) := dk_45 (dk_at dksX0_years_1 14 rfl rfl)
theorem dX0_years_39 : decode cX0_years 39 = .ok (.iconst 2, 1) := dk_5 (dk_at dksX0_years_1 15 rfl rfl)
theorem dX0_years_40 : decode cX0_years 40 = .ok (.iload_n 1, 1) := dk_27 (dk_at dksX0_years_1 16 rfl rfl)
theorem dX0_years_41 : decode cX0_years 41 = .ok (.iconst 2, 1) := dk_5 (dk_at dksX0_years_1 17 rfl rfl)
theorem dX0_years_42 : decode cX0_years 42 = .ok (.imul, 1) := dk_104 (dk_at dksX0_years_1 18 rfl rfl)
theorem dX0_years_43 : decode cX0_years 43 = .ok (.sipush 223, 3) := dk_17 0 223 (dk_at dksX0_years_1 19 rfl rfl)
theorem dX0_years_46 : decode cX0_years 46 = .ok (.iadd, 1) := dk_96 (dk_at dksX0_years_1 22 rfl rfl)
theorem dX0_years_47 : decode cX0_years 47 = .ok (.iastore, 1) := dk_79 (dk_at dksX0_years_1 23 rfl rfl)
theorem dX0_years_48 : decode cX0_years 48 = .ok (.iconst 0, 1) := dk_3 (dk_at dksX0_years_2 0 rfl rfl)
theorem dX0_years_49 : decode cX0_years 49 = .ok (.istore 4, 2) := dk_54 4 (dk_at dksX0_years_2 1 rfl rfl)
theorem dX0_years_51 : decode cX0_years 51 = .ok (.iconst 0, 1) := dk_3 (dk_at dksX0_years_2 3 rfl rfl)
theorem dX0_years_52 : decode cX0_years 52 = .ok (.istore 5, 2) := dk_54 5 (dk_at dksX0_years_2 4 rfl rfl)
theorem dX0_years_54 : decode cX0_years 54 = .ok (.iload 5, 2) := dk_21 5 (dk_at dksX0_years_2 6 rfl rfl)
theorem dX0_years_56 : decode cX0_years 56 = .ok (.iload_n 2, 1) := dk_28 (dk_at dksX0_years_2 8 rfl rfl)
theorem dX0_years_57 : decode cX0_years 57 = .ok (.if_icmp .ge 140, 3) := dk_162 0 140 (dk_at dksX0_years_2 9 rfl rfl)
theorem dX0_years_60 : decode cX0_years 60 = .ok (.aload_n 3, 1) := dk_45 (dk_at dksX0_years_2 12 rfl rfl)
theorem dX0_years_61 : decode cX0_years 61 = .ok (.iconst 2, 1) := dk_5 (dk_at dksX0_years_2 13 rfl rfl)
theorem dX0_years_62 : decode cX0_years 62 = .ok (.iaload, 1) := dk_46 (dk_at dksX0_years_2 14 rfl rfl)
theorem dX0_years_63 : decode cX0_years 63 = .ok (.istore 6, 2) := dk_54 6 (dk_at dksX0_years_2 15 rfl rfl)
theorem dX0_years_65 : decode cX0_years 65 = .ok (.aload_n 3, 1) := dk_45 (dk_at dksX0_years_2 17 rfl rfl)
theorem dX0_years_66 : decode cX0_years 66 = .ok (.invokestatic 163, 3) := dk_184 0 163 (dk_at dksX0_years_2 18 rfl rfl)
theorem dX0_years_69 : decode cX0_years 69 = .ok (.aload_n 0, 1) := dk_42 (dk_at dksX0_years_2 21 rfl rfl)
theorem dX0_years_70 : decode cX0_years 70 = .ok (.getfield 33, 3) := dk_180 0 33 (dk_at dksX0_years_3 0 rfl rfl)
theorem dX0_years_73 : decode cX0_years 73 = .ok (.getfield 91, 3) := dk_180 0 91 (dk_at dksX0_years_3 3 rfl rfl)
theorem dX0_years_76 : decode cX0_years 76 = .ok (.iconst 0, 1) := dk_3 (dk_at dksX0_years_3 6 rfl rfl)
theorem dX0_years_77 : decode cX0_years 77 = .ok (.iaload, 1) := dk_46 (dk_at dksX0_years_3 7 rfl rfl)
theorem dX0_years_78 : decode cX0_years 78 = .ok (.ifCond .ne 7, 3) := dk_154 0 7 (dk_at dksX0_years_3 8 rfl rfl)
theorem dX0_years_81 : decode cX0_years 81 = .ok (.iconst (-1), 1) := dk_2 (dk_at dksX0_years_3 11 rfl rfl)
theorem dX0_years_82 : decode cX0_years 82 = .ok (.goto 15, 3) := dk_167 0 15 (dk_at dksX0_years_3 12 rfl rfl)
theorem dX0_years_85 : decode cX0_years 85 = .ok (.iload 6, 2) := dk_21 6 (dk_at dksX0_years_3 15 rfl rfl)
theorem dX0_years_87 : decode cX0_years 87 = .ok (.aload_n 0, 1) := dk_42 (dk_at dksX0_years_3 17 rfl rfl)
theorem dX0_years_88 : decode cX0_years 88 = .ok (.getfield 33, 3) := dk_180 0 33 (dk_at dksX0_years_3 18 rfl rfl)
theorem dX0_years_91 : decode cX0_years 91 = .ok (.getfield 91, 3) := dk_180 0 91 (dk_at dksX0_years_3 21 rfl rfl)
theorem dX0_years_94 : decode cX0_years 94 = .ok (.iconst 0, 1) := dk_3 (dk_at dksX0_years_4 0 rfl rfl)
theorem dX0_years_95 : decode cX0_years 95 = .ok (.iaload, 1) := dk_46 (dk_at dksX0_years_4 1 rfl rfl)
theorem dX0_years_96 : decode cX0_years 96 = .ok (.irem, 1) := dk_112 (dk_at dksX0_years_4 2 rfl rfl)
theorem dX0_years_97 : decode cX0_years 97 = .ok (.istore 7, 2) := dk_54 7 (dk_at dksX0_years_4 3 rfl rfl)
theorem dX0_years_99 : decode cX0_years 99 = .ok (.iload 6, 2) := dk_21 6 (dk_at dksX0_years_4 5 rfl rfl)
theorem dX0_years_101 : decode cX0_years 101 = .ok (.iconst 5, 1) := dk_8 (dk_at dksX0_years_4 7 rfl rfl)
theorem dX0_years_102 : decode cX0_years 102 = .ok (.irem, 1) := dk_112 (dk_at dksX0_years_4 8 rfl rfl)
theorem dX0_years_103 : decode cX0_years 103 = .ok (.iconst 2, 1) := dk_5 (dk_at dksX0_years_4 9 rfl rfl)
theorem dX0_years_104 : decode cX0_years 104 = .ok (.if_icmp .ge 27, 3) := dk_162 0 27 (dk_at dksX0_years_4 10 rfl rfl)
theorem dX0_years_107 : decode cX0_years 107 = .ok (.aload_n 0, 1) := dk_42 (dk_at dksX0_years_4 13 rfl rfl)
theorem dX0_years_108 : decode cX0_years 108 = .ok (.iload 7, 2) := dk_21 7 (dk_at dksX0_years_4 14 rfl rfl)
theorem dX0_years_110 : decode cX0_years 110 = .ok (.invokevirtual 138, 3) := dk_182 0 138 (dk_at dksX0_years_4 16 rfl rfl)
theorem dX0_years_113 : decode cX0_years 113 = .ok (.ifCond .eq 18, 3) := dk_153 0 18 (dk_at dksX0_years_4 19 rfl rfl)
theorem dX0_years_116 : decode cX0_years 116 = .ok (.iload 4, 2) := dk_21 4 (dk_at dksX0_years_4 22 rfl rfl)
theorem dX0_years_118 : decode cX0_years 118 = .ok (.aload_n 0, 1) := dk_42 (dk_at dksX0_years_5 0 rfl rfl)
theorem dX0_years_119 : decode cX0_years 119 = .ok (.aload_n 3, 1) := dk_45 (dk_at dksX0_years_5 1 rfl rfl)
theorem dX0_years_120 : decode cX0_years 120 = .ok (.iload 7, 2) := dk_21 7 (dk_at dksX0_years_5 2 rfl rfl)
theorem dX0_years_122 : decode cX0_years 122 = .ok (.invokevirtual 192, 3) := dk_182 0 192 (dk_at dksX0_years_5 4 rfl rfl)
theorem dX0_years_125 : decode cX0_years 125 = .ok (.iadd, 1) := dk_96 (dk_at dksX0_years_5 7 rfl rfl)
theorem dX0_years_126 : decode cX0_years 126 = .ok (.istore 4, 2) := dk_54 4 (dk_at dksX0_years_5 8 rfl rfl)
theorem dX0_years_128 : decode cX0_years 128 = .ok (.goto 63, 3) := dk_167 0 63 (dk_at dksX0_years_5 10 rfl rfl)
theorem dX0_years_131 : decode cX0_years 131 = .ok (.iload 6, 2) := dk_21 6 (dk_at dksX0_years_5 13 rfl rfl)
theorem dX0_years_133 : decode cX0_years 133 = .ok (.iconst 5, 1) := dk_8 (dk_at dksX0_years_5 15 rfl rfl)
theorem dX0_years_134 : decode cX0_years 134 = .ok (.irem, 1) := dk_112 (dk_at dksX0_years_5 16 rfl rfl)
theorem dX0_years_135 : decode cX0_years 135 = .ok (.iconst 2, 1) := dk_5 (dk_at dksX0_years_5 17 rfl rfl)
theorem dX0_years_136 : decode cX0_years 136 = .ok (.if_icmp .ne 33, 3) := dk_160 0 33 (dk_at dksX0_years_5 18 rfl rfl)
theorem dX0_years_139 : decode cX0_years 139 = .ok (.iload 6, 2) := dk_21 6 (dk_at dksX0_years_5 21 rfl rfl)
theorem dX0_years_141 : decode cX0_years 141 = .ok (.iconst 4, 1) := dk_7 (dk_at dksX0_years_5 23 rfl rfl)
theorem dX0_years_142 : decode cX0_years 142 = .ok (.irem, 1) := dk_112 (dk_at dksX0_years_6 0 rfl rfl)
theorem dX0_years_143 : decode cX0_years 143 = .ok (.ifCond .ne 26, 3) := dk_154 0 26 (dk_at dksX0_years_6 1 rfl rfl)
theorem dX0_years_146 : decode cX0_years 146 = .ok (.aload_n 0, 1) := dk_42 (dk_at dksX0_years_6 4 rfl rfl)
theorem dX0_years_147 : decode cX0_years 147 = .ok (.iload 7, 2) := dk_21 7 (dk_at dksX0_years_6 5 rfl rfl)
theorem dX0_years_149 : decode cX0_years 149 = .ok (.invokevirtual 196, 3) := dk_182 0 196 (dk_at dksX0_years_6 7 rfl rfl)
theorem dX0_years_152 : decode cX0_years 152 = .ok (.ifCond .eq 17, 3) := dk_153 0 17 (dk_at dksX0_years_6 10 rfl rfl)
theorem dX0_years_155 : decode cX0_years 155 = .ok (.aload_n 3, 1) := dk_45 (dk_at dksX0_years_6 13 rfl rfl)
theorem dX0_years_156 : decode cX0_years 156 = .ok (.bipush 11, 2) := dk_16 11 (dk_at dksX0_years_6 14 rfl rfl)
theorem dX0_years_158 : decode cX0_years 158 = .ok (.iload 7, 2) := dk_21 7 (dk_at dksX0_years_6 16 rfl rfl)
theorem dX0_years_160 : decode cX0_years 160 = .ok (.iadd, 1) := dk_96 (dk_at dksX0_years_6 18 rfl rfl)
theorem dX0_years_161 : decode cX0_years 161 = .ok (.dup2, 1) := dk_92 (dk_at dksX0_years_6 19 rfl rfl)
theorem dX0_years_162 : decode cX0_years 162 = .ok (.iaload, 1) := dk_46 (dk_at dksX0_years_6 20 rfl rfl)
theorem dX0_years_163 : decode cX0_years 163 = .ok (.iconst 1, 1) := dk_4 (dk_at dksX0_years_6 21 rfl rfl)
theorem dX0_years_164 : decode cX0_years 164 = .ok (.isub, 1) := dk_100 (dk_at dksX0_years_6 22 rfl rfl)
theorem dX0_years_165 : decode cX0_years 165 = .ok (.iastore, 1) := dk_79 (dk_at dksX0_years_6 23 rfl rfl)
theorem dX0_years_166 : decode cX0_years 166 = .ok (.goto 25, 3) := dk_167 0 25 (dk_at dksX0_years_7 0 rfl rfl)
theorem dX0_years_169 : decode cX0_years 169 = .ok (.iload 6, 2) := dk_21 6 (dk_at dksX0_years_7 3 rfl rfl)
theorem dX0_years_171 : decode cX0_years 171 = .ok (.iconst 5, 1) := dk_8 (dk_at dksX0_years_7 5 rfl rfl)
theorem dX0_years_172 : decode cX0_years 172 = .ok (.irem, 1) := dk_112 (dk_at dksX0_years_7 6 rfl rfl)
theorem dX0_years_173 : decode cX0_years 173 = .ok (.iconst 2, 1) := dk_5 (dk_at dksX0_years_7 7 rfl rfl)
theorem dX0_years_174 : decode cX0_years 174 = .ok (.if_icmp .le 17, 3) := dk_164 0 17 (dk_at dksX0_years_7 8 rfl rfl)
theorem dX0_years_177 : decode cX0_years 177 = .ok (.aload_n 3, 1) := dk_45 (dk_at dksX0_years_7 11 rfl rfl)
theorem dX0_years_178 : decode cX0_years 178 = .ok (.iconst 0, 1) := dk_3 (dk_at dksX0_years_7 12 rfl rfl)
theorem dX0_years_179 : decode cX0_years 179 = .ok (.iaload, 1) := dk_46 (dk_at dksX0_years_7 13 rfl rfl)
theorem dX0_years_180 : decode cX0_years 180 = .ok (.sipush 9999, 3) := dk_17 39 15 (dk_at dksX0_years_7 14 rfl rfl)
theorem dX0_years_183 : decode cX0_years 183 = .ok (.if_icmp .ge 8, 3) := dk_162 0 8 (dk_at dksX0_years_7 17 rfl rfl)
theorem dX0_years_186 : decode cX0_years 186 = .ok (.aload_n 0, 1) := dk_42 (dk_at dksX0_years_7 20 rfl rfl)
theorem dX0_years_187 : decode cX0_years 187 = .ok (.aload_n 3, 1) := dk_45 (dk_at dksX0_years_7 21 rfl rfl)
theorem dX0_years_188 : decode cX0_years 188 = .ok (.invokevirtual 199, 3) := dk_182 0 199 (dk_at dksX0_years_8 0 rfl rfl)
theorem dX0_years_191 : decode cX0_years 191 = .ok (.iinc 5 1, 3) := dk_132 5 1 (dk_at dksX0_years_8 3 rfl rfl)
theorem dX0_years_194 : decode cX0_years 194 = .ok (.goto (-140), 3) := dk_167 255 116 (dk_at dksX0_years_8 6 rfl rfl)
theorem dX0_years_197 : decode cX0_years 197 = .ok (.aload_n 3, 1) := dk_45 (dk_at dksX0_years_8 9 rfl rfl)
theorem dX0_years_198 : decode cX0_years 198 = .ok (.iconst 0, 1) := dk_3 (dk_at dksX0_years_8 10 rfl rfl)
theorem dX0_years_199 : decode cX0_years 199 = .ok (.iaload, 1) := dk_46 (dk_at dksX0_years_8 11 rfl rfl)
theorem dX0_years_200 : decode cX0_years 200 = .ok (.ireturn, 1) := dk_172 (dk_at dksX0_years_8 12 rfl rfl)
abbrev cX0_undo : ByteArray := prog_1_method_34_code
def yX0_undo : MethodName := ⟨RX0, "undo", "()I"⟩
def dkwX0_undo_2 : List UInt8 := [180, 0, 189, 184, 1, 4, 42, 180, 0, 33, 180, 0, 91, 6, 46, 172]
abbrev dktX0_undo_2 : List UInt8 := dkwX0_undo_2 ++ []
def dkwX0_undo_1 : List UInt8 := [4, 100, 79, 42, 180, 0, 33, 180, 1, 0, 42, 180, 0, 33, 180, 0, 91, 6, 46, 50, 42, 180, 0, 33]
abbrev dktX0_undo_1 : List UInt8 := dkwX0_undo_1 ++ dktX0_undo_2
def dkwX0_undo_0 : List UInt8 := [42, 180, 0, 33, 180, 0, 91, 6, 46, 154, 0, 5, 2, 172, 42, 180, 0, 33, 180, 0, 91, 6, 92, 46]
abbrev dktX0_undo_0 : List UInt8 := dkwX0_undo_0 ++ dktX0_undo_1
theorem dksX0_undo_0 : cX0_undo.data.toList.drop 0 = dktX0_undo_0 := by decide +kernel
theorem dksX0_undo_1 : cX0_undo.data.toList.drop 24 = dktX0_undo_1 := dk_seg dksX0_undo_0 24 rfl rfl
theorem dksX0_undo_2 : cX0_undo.data.toList.drop 48 = dktX0_undo_2 := dk_seg dksX0_undo_1 24 rfl rfl
theorem dX0_undo_0 : decode cX0_undo 0 = .ok (.aload_n 0, 1) := dk_42 (dk_at dksX0_undo_0 0 rfl rfl)
theorem dX0_undo_1 : decode cX0_undo 1 = .ok (.getfield 33, 3) := dk_180 0 33 (dk_at dksX0_undo_0 1 rfl rfl)
theorem dX0_undo_4 : decode cX0_undo 4 = .ok (.getfield 91, 3) := dk_180 0 91 (dk_at dksX0_undo_0 4 rfl rfl)
theorem dX0_undo_7 : decode cX0_undo 7 = .ok (.iconst 3, 1) := dk_6 (dk_at dksX0_undo_0 7 rfl rfl)
theorem dX0_undo_8 : decode cX0_undo 8 = .ok (.iaload, 1) := dk_46 (dk_at dksX0_undo_0 8 rfl rfl)
theorem dX0_undo_9 : decode cX0_undo 9 = .ok (.ifCond .ne 5, 3) := dk_154 0 5 (dk_at dksX0_undo_0 9 rfl rfl)
theorem dX0_undo_12 : decode cX0_undo 12 = .ok (.iconst (-1), 1) := dk_2 (dk_at dksX0_undo_0 12 rfl rfl)
theorem dX0_undo_13 : decode cX0_undo 13 = .ok (.ireturn, 1) := dk_172 (dk_at dksX0_undo_0 13 rfl rfl)
theorem dX0_undo_14 : decode cX0_undo 14 = .ok (.aload_n 0, 1) := dk_42 (dk_at dksX0_undo_0 14 rfl rfl)
theorem dX0_undo_15 : decode cX0_undo 15 = .ok (.getfield 33, 3) := dk_180 0 33 (dk_at dksX0_undo_0 15 rfl rfl)
theorem dX0_undo_18 : decode cX0_undo 18 = .ok (.getfield 91, 3) := dk_180 0 91 (dk_at dksX0_undo_0 18 rfl rfl)
theorem dX0_undo_21 : decode cX0_undo 21 = .ok (.iconst 3, 1) := dk_6 (dk_at dksX0_undo_0 21 rfl rfl)
theorem dX0_undo_22 : decode cX0_undo 22 = .ok (.dup2, 1) := dk_92 (dk_at dksX0_undo_0 22 rfl rfl)
theorem dX0_undo_23 : decode cX0_undo 23 = .ok (.iaload, 1) := dk_46 (dk_at dksX0_undo_0 23 rfl rfl)
theorem dX0_undo_24 : decode cX0_undo 24 = .ok (.iconst 1, 1) := dk_4 (dk_at dksX0_undo_1 0 rfl rfl)
theorem dX0_undo_25 : decode cX0_undo 25 = .ok (.isub, 1) := dk_100 (dk_at dksX0_undo_1 1 rfl rfl)
theorem dX0_undo_26 : decode cX0_undo 26 = .ok (.iastore, 1) := dk_79 (dk_at dksX0_undo_1 2 rfl rfl)
theorem dX0_undo_27 : decode cX0_undo 27 = .ok (.aload_n 0, 1) := dk_42 (dk_at dksX0_undo_1 3 rfl rfl)
theorem dX0_undo_28 : decode cX0_undo 28 = .ok (.getfield 33, 3) := dk_180 0 33 (dk_at dksX0_undo_1 4 rfl rfl)
theorem dX0_undo_31 : decode cX0_undo 31 = .ok (.getfield 256, 3) := dk_180 1 0 (dk_at dksX0_undo_1 7 rfl rfl)
theorem dX0_undo_34 : decode cX0_undo 34 = .ok (.aload_n 0, 1) := dk_42 (dk_at dksX0_undo_1 10 rfl rfl)
theorem dX0_undo_35 : decode cX0_undo 35 = .ok (.getfield 33, 3) := dk_180 0 33 (dk_at dksX0_undo_1 11 rfl rfl)
theorem dX0_undo_38 : decode cX0_undo 38 = .ok (.getfield 91, 3) := dk_180 0 91 (dk_at dksX0_undo_1 14 rfl rfl)
theorem dX0_undo_41 : decode cX0_undo 41 = .ok (.iconst 3, 1) := dk_6 (dk_at dksX0_undo_1 17 rfl rfl)
theorem dX0_undo_42 : decode cX0_undo 42 = .ok (.iaload, 1) := dk_46 (dk_at dksX0_undo_1 18 rfl rfl)
theorem dX0_undo_43 : decode cX0_undo 43 = .ok (.aaload, 1) := dk_50 (dk_at dksX0_undo_1 19 rfl rfl)
theorem dX0_undo_44 : decode cX0_undo 44 = .ok (.aload_n 0, 1) := dk_42 (dk_at dksX0_undo_1 20 rfl rfl)
theorem dX0_undo_45 : decode cX0_undo 45 = .ok (.getfield 33, 3) := dk_180 0 33 (dk_at dksX0_undo_1 21 rfl rfl)
theorem dX0_undo_48 : decode cX0_undo 48 = .ok (.getfield 189, 3) := dk_180 0 189 (dk_at dksX0_undo_2 0 rfl rfl)
theorem dX0_undo_51 : decode cX0_undo 51 = .ok (.invokestatic 260, 3) := dk_184 1 4 (dk_at dksX0_undo_2 3 rfl rfl)
theorem dX0_undo_54 : decode cX0_undo 54 = .ok (.aload_n 0, 1) := dk_42 (dk_at dksX0_undo_2 6 rfl rfl)
theorem dX0_undo_55 : decode cX0_undo 55 = .ok (.getfield 33, 3) := dk_180 0 33 (dk_at dksX0_undo_2 7 rfl rfl)
theorem dX0_undo_58 : decode cX0_undo 58 = .ok (.getfield 91, 3) := dk_180 0 91 (dk_at dksX0_undo_2 10 rfl rfl)
theorem dX0_undo_61 : decode cX0_undo 61 = .ok (.iconst 3, 1) := dk_6 (dk_at dksX0_undo_2 13 rfl rfl)
theorem dX0_undo_62 : decode cX0_undo 62 = .ok (.iaload, 1) := dk_46 (dk_at dksX0_undo_2 14 rfl rfl)
theorem dX0_undo_63 : decode cX0_undo 63 = .ok (.ireturn, 1) := dk_172 (dk_at dksX0_undo_2 15 rfl rfl)
abbrev cX0_of : ByteArray := prog_1_method_35_code
def yX0_of : MethodName := ⟨RX0, "of", "(II)I"⟩
def dkwX0_of_4 : List UInt8 := [42, 182, 0, 170, 42, 180, 0, 33, 180, 0, 189, 27, 28, 6, 100, 182, 0, 173, 167, 0, 4, 2, 172]
abbrev dktX0_of_4 : List UInt8 := dkwX0_of_4 ++ []
def dkwX0_of_3 : List UInt8 := [172, 42, 180, 0, 33, 180, 0, 189, 16, 19, 27, 96, 46, 172, 28, 6, 8, 184, 0, 87, 153, 0, 25, 42]
abbrev dktX0_of_3 : List UInt8 := dkwX0_of_3 ++ dktX0_of_4
def dkwX0_of_2 : List UInt8 := [42, 180, 0, 33, 180, 0, 189, 6, 27, 96, 46, 172, 42, 180, 0, 33, 180, 0, 189, 16, 11, 27, 96, 46]
abbrev dktX0_of_2 : List UInt8 := dkwX0_of_2 ++ dktX0_of_3
def dkwX0_of_1 : List UInt8 := [170, 0, 0, 0, 63, 0, 0, 0, 0, 0, 0, 0, 2, 0, 0, 0, 25, 0, 0, 0, 37, 0, 0, 0, 50]
abbrev dktX0_of_1 : List UInt8 := dkwX0_of_1 ++ dktX0_of_2
def dkwX0_of_0 : List UInt8 := [42, 27, 182, 0, 138, 154, 0, 5, 2, 172, 28]
abbrev dktX0_of_0 : List UInt8 := dkwX0_of_0 ++ dktX0_of_1
theorem dksX0_of_0 : cX0_of.data.toList.drop 0 = dktX0_of_0 := by decide +kernel
theorem dksX0_of_1 : cX0_of.data.toList.drop 11 = dktX0_of_1 := dk_seg dksX0_of_0 11 rfl rfl
theorem dksX0_of_2 : cX0_of.data.toList.drop 36 = dktX0_of_2 := dk_seg dksX0_of_1 25 rfl rfl
theorem dksX0_of_3 : cX0_of.data.toList.drop 60 = dktX0_of_3 := dk_seg dksX0_of_2 24 rfl rfl
theorem dksX0_of_4 : cX0_of.data.toList.drop 84 = dktX0_of_4 := dk_seg dksX0_of_3 24 rfl rfl
theorem dX0_of_0 : decode cX0_of 0 = .ok (.aload_n 0, 1) := dk_42 (dk_at dksX0_of_0 0 rfl rfl)
theorem dX0_of_1 : decode cX0_of 1 = .ok (.iload_n 1, 1) := dk_27 (dk_at dksX0_of_0 1 rfl rfl)
theorem dX0_of_2 : decode cX0_of 2 = .ok (.invokevirtual 138, 3) := dk_182 0 138 (dk_at dksX0_of_0 2 rfl rfl)
theorem dX0_of_5 : decode cX0_of 5 = .ok (.ifCond .ne 5, 3) := dk_154 0 5 (dk_at dksX0_of_0 5 rfl rfl)
theorem dX0_of_8 : decode cX0_of 8 = .ok (.iconst (-1), 1) := dk_2 (dk_at dksX0_of_0 8 rfl rfl)
theorem dX0_of_9 : decode cX0_of 9 = .ok (.ireturn, 1) := dk_172 (dk_at dksX0_of_0 9 rfl rfl)
theorem dX0_of_10 : decode cX0_of 10 = .ok (.iload_n 2, 1) := dk_28 (dk_at dksX0_of_0 10 rfl rfl)
theorem dX0_of_11 : decode cX0_of 11 = .ok (.tableswitch 63 0 2 #[25, 37, 50], 25) := by decide +kernel
theorem dX0_of_36 : decode cX0_of 36 = .ok (.aload_n 0, 1) := dk_42 (dk_at dksX0_of_2 0 rfl rfl)
theorem dX0_of_37 : decode cX0_of 37 = .ok (.getfield 33, 3) := dk_180 0 33 (dk_at dksX0_of_2 1 rfl rfl)
theorem dX0_of_40 : decode cX0_of 40 = .ok (.getfield 189, 3) := dk_180 0 189 (dk_at dksX0_of_2 4 rfl rfl)
theorem dX0_of_43 : decode cX0_of 43 = .ok (.iconst 3, 1) := dk_6 (dk_at dksX0_of_2 7 rfl rfl)
theorem dX0_of_44 : decode cX0_of 44 = .ok (.iload_n 1, 1) := dk_27 (dk_at dksX0_of_2 8 rfl rfl)
theorem dX0_of_45 : decode cX0_of 45 = .ok (.iadd, 1) := dk_96 (dk_at dksX0_of_2 9 rfl rfl)
theorem dX0_of_46 : decode cX0_of 46 = .ok (.iaload, 1) := dk_46 (dk_at dksX0_of_2 10 rfl rfl)
theorem dX0_of_47 : decode cX0_of 47 = .ok (.ireturn, 1) := dk_172 (dk_at dksX0_of_2 11 rfl rfl)
theorem dX0_of_48 : decode cX0_of 48 = .ok (.aload_n 0, 1) := dk_42 (dk_at dksX0_of_2 12 rfl rfl)
theorem dX0_of_49 : decode cX0_of 49 = .ok (.getfield 33, 3) := dk_180 0 33 (dk_at dksX0_of_2 13 rfl rfl)
theorem dX0_of_52 : decode cX0_of 52 = .ok (.getfield 189, 3) := dk_180 0 189 (dk_at dksX0_of_2 16 rfl rfl)
theorem dX0_of_55 : decode cX0_of 55 = .ok (.bipush 11, 2) := dk_16 11 (dk_at dksX0_of_2 19 rfl rfl)
theorem dX0_of_57 : decode cX0_of 57 = .ok (.iload_n 1, 1) := dk_27 (dk_at dksX0_of_2 21 rfl rfl)
theorem dX0_of_58 : decode cX0_of 58 = .ok (.iadd, 1) := dk_96 (dk_at dksX0_of_2 22 rfl rfl)
theorem dX0_of_59 : decode cX0_of 59 = .ok (.iaload, 1) := dk_46 (dk_at dksX0_of_2 23 rfl rfl)
theorem dX0_of_60 : decode cX0_of 60 = .ok (.ireturn, 1) := dk_172 (dk_at dksX0_of_3 0 rfl rfl)
theorem dX0_of_61 : decode cX0_of 61 = .ok (.aload_n 0, 1) := dk_42 (dk_at dksX0_of_3 1 rfl rfl)
theorem dX0_of_62 : decode cX0_of 62 = .ok (.getfield 33, 3) := dk_180 0 33 (dk_at dksX0_of_3 2 rfl rfl)
theorem dX0_of_65 : decode cX0_of 65 = .ok (.getfield 189, 3) := dk_180 0 189 (dk_at dksX0_of_3 5 rfl rfl)
theorem dX0_of_68 : decode cX0_of 68 = .ok (.bipush 19, 2) := dk_16 19 (dk_at dksX0_of_3 8 rfl rfl)
theorem dX0_of_70 : decode cX0_of 70 = .ok (.iload_n 1, 1) := dk_27 (dk_at dksX0_of_3 10 rfl rfl)
theorem dX0_of_71 : decode cX0_of 71 = .ok (.iadd, 1) := dk_96 (dk_at dksX0_of_3 11 rfl rfl)
theorem dX0_of_72 : decode cX0_of 72 = .ok (.iaload, 1) := dk_46 (dk_at dksX0_of_3 12 rfl rfl)
theorem dX0_of_73 : decode cX0_of 73 = .ok (.ireturn, 1) := dk_172 (dk_at dksX0_of_3 13 rfl rfl)
theorem dX0_of_74 : decode cX0_of 74 = .ok (.iload_n 2, 1) := dk_28 (dk_at dksX0_of_3 14 rfl rfl)
theorem dX0_of_75 : decode cX0_of 75 = .ok (.iconst 3, 1) := dk_6 (dk_at dksX0_of_3 15 rfl rfl)
theorem dX0_of_76 : decode cX0_of 76 = .ok (.iconst 5, 1) := dk_8 (dk_at dksX0_of_3 16 rfl rfl)
theorem dX0_of_77 : decode cX0_of 77 = .ok (.invokestatic 87, 3) := dk_184 0 87 (dk_at dksX0_of_3 17 rfl rfl)
theorem dX0_of_80 : decode cX0_of 80 = .ok (.ifCond .eq 25, 3) := dk_153 0 25 (dk_at dksX0_of_3 20 rfl rfl)
theorem dX0_of_83 : decode cX0_of 83 = .ok (.aload_n 0, 1) := dk_42 (dk_at dksX0_of_3 23 rfl rfl)
theorem dX0_of_84 : decode cX0_of 84 = .ok (.aload_n 0, 1) := dk_42 (dk_at dksX0_of_4 0 rfl rfl)
theorem dX0_of_85 : decode cX0_of 85 = .ok (.invokevirtual 170, 3) := dk_182 0 170 (dk_at dksX0_of_4 1 rfl rfl)
theorem dX0_of_88 : decode cX0_of 88 = .ok (.aload_n 0, 1) := dk_42 (dk_at dksX0_of_4 4 rfl rfl)
theorem dX0_of_89 : decode cX0_of 89 = .ok (.getfield 33, 3) := dk_180 0 33 (dk_at dksX0_of_4 5 rfl rfl)
theorem dX0_of_92 : decode cX0_of 92 = .ok (.getfield 189, 3) := dk_180 0 189 (dk_at dksX0_of_4 8 rfl rfl)
theorem dX0_of_95 : decode cX0_of 95 = .ok (.iload_n 1, 1) := dk_27 (dk_at dksX0_of_4 11 rfl rfl)
theorem dX0_of_96 : decode cX0_of 96 = .ok (.iload_n 2, 1) := dk_28 (dk_at dksX0_of_4 12 rfl rfl)
theorem dX0_of_97 : decode cX0_of 97 = .ok (.iconst 3, 1) := dk_6 (dk_at dksX0_of_4 13 rfl rfl)
theorem dX0_of_98 : decode cX0_of 98 = .ok (.isub, 1) := dk_100 (dk_at dksX0_of_4 14 rfl rfl)
theorem dX0_of_99 : decode cX0_of 99 = .ok (.invokevirtual 173, 3) := dk_182 0 173 (dk_at dksX0_of_4 15 rfl rfl)
theorem dX0_of_102 : decode cX0_of 102 = .ok (.goto 4, 3) := dk_167 0 4 (dk_at dksX0_of_4 18 rfl rfl)
theorem dX0_of_105 : decode cX0_of 105 = .ok (.iconst (-1), 1) := dk_2 (dk_at dksX0_of_4 21 rfl rfl)
theorem dX0_of_106 : decode cX0_of 106 = .ok (.ireturn, 1) := dk_172 (dk_at dksX0_of_4 22 rfl rfl)
abbrev cX0_told : ByteArray := prog_1_method_36_code
def yX0_told : MethodName := ⟨RX0, "told", "(I)I"⟩
def dkwX0_told_0 : List UInt8 := [27, 184, 0, 98, 153, 0, 15, 42, 180, 0, 33, 180, 0, 102, 27, 46, 167, 0, 4, 2, 172]
abbrev dktX0_told_0 : List UInt8 := dkwX0_told_0 ++ []
theorem dksX0_told_0 : cX0_told.data.toList.drop 0 = dktX0_told_0 := by decide +kernel
theorem dX0_told_0 : decode cX0_told 0 = .ok (.iload_n 1, 1) := dk_27 (dk_at dksX0_told_0 0 rfl rfl)
theorem dX0_told_1 : decode cX0_told 1 = .ok (.invokestatic 98, 3) := dk_184 0 98 (dk_at dksX0_told_0 1 rfl rfl)
theorem dX0_told_4 : decode cX0_told 4 = .ok (.ifCond .eq 15, 3) := dk_153 0 15 (dk_at dksX0_told_0 4 rfl rfl)
theorem dX0_told_7 : decode cX0_told 7 = .ok (.aload_n 0, 1) := dk_42 (dk_at dksX0_told_0 7 rfl rfl)
theorem dX0_told_8 : decode cX0_told 8 = .ok (.getfield 33, 3) := dk_180 0 33 (dk_at dksX0_told_0 8 rfl rfl)
theorem dX0_told_11 : decode cX0_told 11 = .ok (.getfield 102, 3) := dk_180 0 102 (dk_at dksX0_told_0 11 rfl rfl)
theorem dX0_told_14 : decode cX0_told 14 = .ok (.iload_n 1, 1) := dk_27 (dk_at dksX0_told_0 14 rfl rfl)
theorem dX0_told_15 : decode cX0_told 15 = .ok (.iaload, 1) := dk_46 (dk_at dksX0_told_0 15 rfl rfl)
theorem dX0_told_16 : decode cX0_told 16 = .ok (.goto 4, 3) := dk_167 0 4 (dk_at dksX0_told_0 16 rfl rfl)
theorem dX0_told_19 : decode cX0_told 19 = .ok (.iconst (-1), 1) := dk_2 (dk_at dksX0_told_0 19 rfl rfl)
theorem dX0_told_20 : decode cX0_told 20 = .ok (.ireturn, 1) := dk_172 (dk_at dksX0_told_0 20 rfl rfl)
abbrev cX0_is : ByteArray := prog_1_method_37_code
def yX0_is : MethodName := ⟨RX0, "is", "(I)I"⟩
def dkwX0_is_0 : List UInt8 := [27, 3, 5, 184, 0, 87, 153, 0, 15, 42, 180, 0, 33, 180, 0, 189, 27, 46, 167, 0, 5, 16, 254, 172]
abbrev dktX0_is_0 : List UInt8 := dkwX0_is_0 ++ []
theorem dksX0_is_0 : cX0_is.data.toList.drop 0 = dktX0_is_0 := by decide +kernel
theorem dX0_is_0 : decode cX0_is 0 = .ok (.iload_n 1, 1) := dk_27 (dk_at dksX0_is_0 0 rfl rfl)
theorem dX0_is_1 : decode cX0_is 1 = .ok (.iconst 0, 1) := dk_3 (dk_at dksX0_is_0 1 rfl rfl)
theorem dX0_is_2 : decode cX0_is 2 = .ok (.iconst 2, 1) := dk_5 (dk_at dksX0_is_0 2 rfl rfl)
theorem dX0_is_3 : decode cX0_is 3 = .ok (.invokestatic 87, 3) := dk_184 0 87 (dk_at dksX0_is_0 3 rfl rfl)
theorem dX0_is_6 : decode cX0_is 6 = .ok (.ifCond .eq 15, 3) := dk_153 0 15 (dk_at dksX0_is_0 6 rfl rfl)
theorem dX0_is_9 : decode cX0_is 9 = .ok (.aload_n 0, 1) := dk_42 (dk_at dksX0_is_0 9 rfl rfl)
theorem dX0_is_10 : decode cX0_is 10 = .ok (.getfield 33, 3) := dk_180 0 33 (dk_at dksX0_is_0 10 rfl rfl)
theorem dX0_is_13 : decode cX0_is 13 = .ok (.getfield 189, 3) := dk_180 0 189 (dk_at dksX0_is_0 13 rfl rfl)
theorem dX0_is_16 : decode cX0_is 16 = .ok (.iload_n 1, 1) := dk_27 (dk_at dksX0_is_0 16 rfl rfl)
theorem dX0_is_17 : decode cX0_is 17 = .ok (.iaload, 1) := dk_46 (dk_at dksX0_is_0 17 rfl rfl)
theorem dX0_is_18 : decode cX0_is 18 = .ok (.goto 5, 3) := dk_167 0 5 (dk_at dksX0_is_0 18 rfl rfl)
theorem dX0_is_21 : decode cX0_is 21 = .ok (.bipush (-2), 2) := dk_16 254 (dk_at dksX0_is_0 21 rfl rfl)
theorem dX0_is_23 : decode cX0_is 23 = .ok (.ireturn, 1) := dk_172 (dk_at dksX0_is_0 23 rfl rfl)
abbrev cX0_book : ByteArray := prog_1_method_38_code
def yX0_book : MethodName := ⟨RX0, "book", "(II)I"⟩
def dkwX0_book_2 : List UInt8 := [180, 0, 33, 180, 0, 189, 16, 28, 7, 27, 104, 96, 28, 96, 46, 167, 0, 5, 16, 254, 172]
abbrev dktX0_book_2 : List UInt8 := dkwX0_book_2 ++ []
def dkwX0_book_1 : List UInt8 := [180, 0, 189, 16, 27, 46, 4, 100, 184, 0, 87, 153, 0, 31, 28, 3, 6, 184, 0, 87, 153, 0, 22, 42]
abbrev dktX0_book_1 : List UInt8 := dkwX0_book_1 ++ dktX0_book_2
def dkwX0_book_0 : List UInt8 := [27, 2, 160, 0, 14, 42, 180, 0, 33, 180, 0, 189, 16, 27, 46, 172, 27, 3, 42, 180, 0, 33]
abbrev dktX0_book_0 : List UInt8 := dkwX0_book_0 ++ dktX0_book_1
theorem dksX0_book_0 : cX0_book.data.toList.drop 0 = dktX0_book_0 := by decide +kernel
theorem dksX0_book_1 : cX0_book.data.toList.drop 22 = dktX0_book_1 := dk_seg dksX0_book_0 22 rfl rfl
theorem dksX0_book_2 : cX0_book.data.toList.drop 46 = dktX0_book_2 := dk_seg dksX0_book_1 24 rfl rfl
theorem dX0_book_0 : decode cX0_book 0 = .ok (.iload_n 1, 1) := dk_27 (dk_at dksX0_book_0 0 rfl rfl)
theorem dX0_book_1 : decode cX0_book 1 = .ok (.iconst (-1), 1) := dk_2 (dk_at dksX0_book_0 1 rfl rfl)
theorem dX0_book_2 : decode cX0_book 2 = .ok (.if_icmp .ne 14, 3) := dk_160 0 14 (dk_at dksX0_book_0 2 rfl rfl)
theorem dX0_book_5 : decode cX0_book 5 = .ok (.aload_n 0, 1) := dk_42 (dk_at dksX0_book_0 5 rfl rfl)
theorem dX0_book_6 : decode cX0_book 6 = .ok (.getfield 33, 3) := dk_180 0 33 (dk_at dksX0_book_0 6 rfl rfl)
theorem dX0_book_9 : decode cX0_book 9 = .ok (.getfield 189, 3) := dk_180 0 189 (dk_at dksX0_book_0 9 rfl rfl)
theorem dX0_book_12 : decode cX0_book 12 = .ok (.bipush 27, 2) := dk_16 27 (dk_at dksX0_book_0 12 rfl rfl)
theorem dX0_book_14 : decode cX0_book 14 = .ok (.iaload, 1) := dk_46 (dk_at dksX0_book_0 14 rfl rfl)
theorem dX0_book_15 : decode cX0_book 15 = .ok (.ireturn, 1) := dk_172 (dk_at dksX0_book_0 15 rfl rfl)
theorem dX0_book_16 : decode cX0_book 16 = .ok (.iload_n 1, 1) := dk_27 (dk_at dksX0_book_0 16 rfl rfl)
theorem dX0_book_17 : decode cX0_book 17 = .ok (.iconst 0, 1) := dk_3 (dk_at dksX0_book_0 17 rfl rfl)
theorem dX0_book_18 : decode cX0_book 18 = .ok (.aload_n 0, 1) := dk_42 (dk_at dksX0_book_0 18 rfl rfl)
theorem dX0_book_19 : decode cX0_book 19 = .ok (.getfield 33, 3) := dk_180 0 33 (dk_at dksX0_book_0 19 rfl rfl)
theorem dX0_book_22 : decode cX0_book 22 = .ok (.getfield 189, 3) := dk_180 0 189 (dk_at dksX0_book_1 0 rfl rfl)
theorem dX0_book_25 : decode cX0_book 25 = .ok (.bipush 27, 2) := dk_16 27 (dk_at dksX0_book_1 3 rfl rfl)
theorem dX0_book_27 : decode cX0_book 27 = .ok (.iaload, 1) := dk_46 (dk_at dksX0_book_1 5 rfl rfl)
theorem dX0_book_28 : decode cX0_book 28 = .ok (.iconst 1, 1) := dk_4 (dk_at dksX0_book_1 6 rfl rfl)
theorem dX0_book_29 : decode cX0_book 29 = .ok (.isub, 1) := dk_100 (dk_at dksX0_book_1 7 rfl rfl)
theorem dX0_book_30 : decode cX0_book 30 = .ok (.invokestatic 87, 3) := dk_184 0 87 (dk_at dksX0_book_1 8 rfl rfl)
theorem dX0_book_33 : decode cX0_book 33 = .ok (.ifCond .eq 31, 3) := dk_153 0 31 (dk_at dksX0_book_1 11 rfl rfl)
theorem dX0_book_36 : decode cX0_book 36 = .ok (.iload_n 2, 1) := dk_28 (dk_at dksX0_book_1 14 rfl rfl)
theorem dX0_book_37 : decode cX0_book 37 = .ok (.iconst 0, 1) := dk_3 (dk_at dksX0_book_1 15 rfl rfl)
theorem dX0_book_38 : decode cX0_book 38 = .ok (.iconst 3, 1) := dk_6 (dk_at dksX0_book_1 16 rfl rfl)
theorem dX0_book_39 : decode cX0_book 39 = .ok (.invokestatic 87, 3) := dk_184 0 87 (dk_at dksX0_book_1 17 rfl rfl)
theorem dX0_book_42 : decode cX0_book 42 = .ok (.ifCond .eq 22, 3) := dk_153 0 22 (dk_at dksX0_book_1 20 rfl rfl)
theorem dX0_book_45 : decode cX0_book 45 = .ok (.aload_n 0, 1) := dk_42 (dk_at dksX0_book_1 23 rfl rfl)
theorem dX0_book_46 : decode cX0_book 46 = .ok (.getfield 33, 3) := dk_180 0 33 (dk_at dksX0_book_2 0 rfl rfl)
theorem dX0_book_49 : decode cX0_book 49 = .ok (.getfield 189, 3) := dk_180 0 189 (dk_at dksX0_book_2 3 rfl rfl)
theorem dX0_book_52 : decode cX0_book 52 = .ok (.bipush 28, 2) := dk_16 28 (dk_at dksX0_book_2 6 rfl rfl)
theorem dX0_book_54 : decode cX0_book 54 = .ok (.iconst 4, 1) := dk_7 (dk_at dksX0_book_2 8 rfl rfl)
theorem dX0_book_55 : decode cX0_book 55 = .ok (.iload_n 1, 1) := dk_27 (dk_at dksX0_book_2 9 rfl rfl)
theorem dX0_book_56 : decode cX0_book 56 = .ok (.imul, 1) := dk_104 (dk_at dksX0_book_2 10 rfl rfl)
theorem dX0_book_57 : decode cX0_book 57 = .ok (.iadd, 1) := dk_96 (dk_at dksX0_book_2 11 rfl rfl)
theorem dX0_book_58 : decode cX0_book 58 = .ok (.iload_n 2, 1) := dk_28 (dk_at dksX0_book_2 12 rfl rfl)
theorem dX0_book_59 : decode cX0_book 59 = .ok (.iadd, 1) := dk_96 (dk_at dksX0_book_2 13 rfl rfl)
theorem dX0_book_60 : decode cX0_book 60 = .ok (.iaload, 1) := dk_46 (dk_at dksX0_book_2 14 rfl rfl)
theorem dX0_book_61 : decode cX0_book 61 = .ok (.goto 5, 3) := dk_167 0 5 (dk_at dksX0_book_2 15 rfl rfl)
theorem dX0_book_64 : decode cX0_book 64 = .ok (.bipush (-2), 2) := dk_16 254 (dk_at dksX0_book_2 18 rfl rfl)
theorem dX0_book_66 : decode cX0_book 66 = .ok (.ireturn, 1) := dk_172 (dk_at dksX0_book_2 20 rfl rfl)
abbrev cX0_foretold : ByteArray := prog_1_method_39_code
def yX0_foretold : MethodName := ⟨RX0, "foretold", "(II)I"⟩
def dkwX0_foretold_5 : List UInt8 := [172]
abbrev dktX0_foretold_5 : List UInt8 := dkwX0_foretold_5 ++ []
def dkwX0_foretold_4 : List UInt8 := [4, 46, 167, 0, 22, 42, 42, 180, 0, 55, 28, 4, 160, 0, 8, 16, 19, 167, 0, 4, 6, 182, 0, 202]
abbrev dktX0_foretold_4 : List UInt8 := dkwX0_foretold_4 ++ dktX0_foretold_5
def dkwX0_foretold_3 : List UInt8 := [180, 0, 55, 21, 4, 182, 0, 192, 96, 62, 132, 4, 1, 167, 255, 224, 28, 154, 0, 12, 42, 180, 0, 55]
abbrev dktX0_foretold_3 : List UInt8 := dkwX0_foretold_3 ++ dktX0_foretold_4
def dkwX0_foretold_2 : List UInt8 := [3, 54, 4, 21, 4, 16, 8, 162, 0, 31, 27, 21, 4, 184, 1, 8, 153, 0, 16, 29, 42, 42]
abbrev dktX0_foretold_2 : List UInt8 := dkwX0_foretold_2 ++ dktX0_foretold_3
def dkwX0_foretold_1 : List UInt8 := [184, 0, 87, 154, 0, 5, 2, 172, 42, 180, 0, 33, 180, 0, 189, 42, 180, 0, 55, 184, 1, 4, 3, 62]
abbrev dktX0_foretold_1 : List UInt8 := dkwX0_foretold_1 ++ dktX0_foretold_2
def dkwX0_foretold_0 : List UInt8 := [27, 4, 4, 42, 180, 0, 33, 180, 0, 91, 3, 46, 120, 4, 100, 184, 0, 87, 153, 0, 12, 28, 3, 5]
abbrev dktX0_foretold_0 : List UInt8 := dkwX0_foretold_0 ++ dktX0_foretold_1
theorem dksX0_foretold_0 : cX0_foretold.data.toList.drop 0 = dktX0_foretold_0 := by decide +kernel
theorem dksX0_foretold_1 : cX0_foretold.data.toList.drop 24 = dktX0_foretold_1 := dk_seg dksX0_foretold_0 24 rfl rfl
theorem dksX0_foretold_2 : cX0_foretold.data.toList.drop 48 = dktX0_foretold_2 := dk_seg dksX0_foretold_1 24 rfl rfl
theorem dksX0_foretold_3 : cX0_foretold.data.toList.drop 70 = dktX0_foretold_3 := dk_seg dksX0_foretold_2 22 rfl rfl
theorem dksX0_foretold_4 : cX0_foretold.data.toList.drop 94 = dktX0_foretold_4 := dk_seg dksX0_foretold_3 24 rfl rfl
theorem dksX0_foretold_5 : cX0_foretold.data.toList.drop 118 = dktX0_foretold_5 := dk_seg dksX0_foretold_4 24 rfl rfl
theorem dX0_foretold_0 : decode cX0_foretold 0 = .ok (.iload_n 1, 1) := dk_27 (dk_at dksX0_foretold_0 0 rfl rfl)
theorem dX0_foretold_1 : decode cX0_foretold 1 = .ok (.iconst 1, 1) := dk_4 (dk_at dksX0_foretold_0 1 rfl rfl)
theorem dX0_foretold_2 : decode cX0_foretold 2 = .ok (.iconst 1, 1) := dk_4 (dk_at dksX0_foretold_0 2 rfl rfl)
theorem dX0_foretold_3 : decode cX0_foretold 3 = .ok (.aload_n 0, 1) := dk_42 (dk_at dksX0_foretold_0 3 rfl rfl)
theorem dX0_foretold_4 : decode cX0_foretold 4 = .ok (.getfield 33, 3) := dk_180 0 33 (dk_at dksX0_foretold_0 4 rfl rfl)
theorem dX0_foretold_7 : decode cX0_foretold 7 = .ok (.getfield 91, 3) := dk_180 0 91 (dk_at dksX0_foretold_0 7 rfl rfl)
theorem dX0_foretold_10 : decode cX0_foretold 10 = .ok (.iconst 0, 1) := dk_3 (dk_at dksX0_foretold_0 10 rfl rfl)
theorem dX0_foretold_11 : decode cX0_foretold 11 = .ok (.iaload, 1) := dk_46 (dk_at dksX0_foretold_0 11 rfl rfl)
theorem dX0_foretold_12 : decode cX0_foretold 12 = .ok (.ishl, 1) := dk_120 (dk_at dksX0_foretold_0 12 rfl rfl)
theorem dX0_foretold_13 : decode cX0_foretold 13 = .ok (.iconst 1, 1) := dk_4 (dk_at dksX0_foretold_0 13 rfl rfl)
theorem dX0_foretold_14 : decode cX0_foretold 14 = .ok (.isub, 1) := dk_100 (dk_at dksX0_foretold_0 14 rfl rfl)
theorem dX0_foretold_15 : decode cX0_foretold 15 = .ok (.invokestatic 87, 3) := dk_184 0 87 (dk_at dksX0_foretold_0 15 rfl rfl)
theorem dX0_foretold_18 : decode cX0_foretold 18 = .ok (.ifCond .eq 12, 3) := dk_153 0 12 (dk_at dksX0_foretold_0 18 rfl rfl)
theorem dX0_foretold_21 : decode cX0_foretold 21 = .ok (.iload_n 2, 1) := dk_28 (dk_at dksX0_foretold_0 21 rfl rfl)
theorem dX0_foretold_22 : decode cX0_foretold 22 = .ok (.iconst 0, 1) := dk_3 (dk_at dksX0_foretold_0 22 rfl rfl)
theorem dX0_foretold_23 : decode cX0_foretold 23 = .ok (.iconst 2, 1) := dk_5 (dk_at dksX0_foretold_0 23 rfl rfl)
theorem dX0_foretold_24 : decode cX0_foretold 24 = .ok (.invokestatic 87, 3) := dk_184 0 87 (dk_at dksX0_foretold_1 0 rfl rfl)
theorem dX0_foretold_27 : decode cX0_foretold 27 = .ok (.ifCond .ne 5, 3) := dk_154 0 5 (dk_at dksX0_foretold_1 3 rfl rfl)
theorem dX0_foretold_30 : decode cX0_foretold 30 = .ok (.iconst (-1), 1) := dk_2 (dk_at dksX0_foretold_1 6 rfl rfl)
theorem dX0_foretold_31 : decode cX0_foretold 31 = .ok (.ireturn, 1) := dk_172 (dk_at dksX0_foretold_1 7 rfl rfl)
theorem dX0_foretold_32 : decode cX0_foretold 32 = .ok (.aload_n 0, 1) := dk_42 (dk_at dksX0_foretold_1 8 rfl rfl)
theorem dX0_foretold_33 : decode cX0_foretold 33 = .ok (.getfield 33, 3) := dk_180 0 33 (dk_at dksX0_foretold_1 9 rfl rfl)
theorem dX0_foretold_36 : decode cX0_foretold 36 = .ok (.getfield 189, 3) := dk_180 0 189 (dk_at dksX0_foretold_1 12 rfl rfl)
theorem dX0_foretold_39 : decode cX0_foretold 39 = .ok (.aload_n 0, 1) := dk_42 (dk_at dksX0_foretold_1 15 rfl rfl)
theorem dX0_foretold_40 : decode cX0_foretold 40 = .ok (.getfield 55, 3) := dk_180 0 55 (dk_at dksX0_foretold_1 16 rfl rfl)
theorem dX0_foretold_43 : decode cX0_foretold 43 = .ok (.invokestatic 260, 3) := dk_184 1 4 (dk_at dksX0_foretold_1 19 rfl rfl)
theorem dX0_foretold_46 : decode cX0_foretold 46 = .ok (.iconst 0, 1) := dk_3 (dk_at dksX0_foretold_1 22 rfl rfl)
theorem dX0_foretold_47 : decode cX0_foretold 47 = .ok (.istore_n 3, 1) := dk_62 (dk_at dksX0_foretold_1 23 rfl rfl)
theorem dX0_foretold_48 : decode cX0_foretold 48 = .ok (.iconst 0, 1) := dk_3 (dk_at dksX0_foretold_2 0 rfl rfl)
theorem dX0_foretold_49 : decode cX0_foretold 49 = .ok (.istore 4, 2) := dk_54 4 (dk_at dksX0_foretold_2 1 rfl rfl)
theorem dX0_foretold_51 : decode cX0_foretold 51 = .ok (.iload 4, 2) := dk_21 4 (dk_at dksX0_foretold_2 3 rfl rfl)
theorem dX0_foretold_53 : decode cX0_foretold 53 = .ok (.bipush 8, 2) := dk_16 8 (dk_at dksX0_foretold_2 5 rfl rfl)
theorem dX0_foretold_55 : decode cX0_foretold 55 = .ok (.if_icmp .ge 31, 3) := dk_162 0 31 (dk_at dksX0_foretold_2 7 rfl rfl)
theorem dX0_foretold_58 : decode cX0_foretold 58 = .ok (.iload_n 1, 1) := dk_27 (dk_at dksX0_foretold_2 10 rfl rfl)
theorem dX0_foretold_59 : decode cX0_foretold 59 = .ok (.iload 4, 2) := dk_21 4 (dk_at dksX0_foretold_2 11 rfl rfl)
theorem dX0_foretold_61 : decode cX0_foretold 61 = .ok (.invokestatic 264, 3) := dk_184 1 8 (dk_at dksX0_foretold_2 13 rfl rfl)
theorem dX0_foretold_64 : decode cX0_foretold 64 = .ok (.ifCond .eq 16, 3) := dk_153 0 16 (dk_at dksX0_foretold_2 16 rfl rfl)
theorem dX0_foretold_67 : decode cX0_foretold 67 = .ok (.iload_n 3, 1) := dk_29 (dk_at dksX0_foretold_2 19 rfl rfl)
theorem dX0_foretold_68 : decode cX0_foretold 68 = .ok (.aload_n 0, 1) := dk_42 (dk_at dksX0_foretold_2 20 rfl rfl)
theorem dX0_foretold_69 : decode cX0_foretold 69 = .ok (.aload_n 0, 1) := dk_42 (dk_at dksX0_foretold_2 21 rfl rfl)
theorem dX0_foretold_70 : decode cX0_foretold 70 = .ok (.getfield 55, 3) := dk_180 0 55 (dk_at dksX0_foretold_3 0 rfl rfl)
theorem dX0_foretold_73 : decode cX0_foretold 73 = .ok (.iload 4, 2) := dk_21 4 (dk_at dksX0_foretold_3 3 rfl rfl)
theorem dX0_foretold_75 : decode cX0_foretold 75 = .ok (.invokevirtual 192, 3) := dk_182 0 192 (dk_at dksX0_foretold_3 5 rfl rfl)
theorem dX0_foretold_78 : decode cX0_foretold 78 = .ok (.iadd, 1) := dk_96 (dk_at dksX0_foretold_3 8 rfl rfl)
theorem dX0_foretold_79 : decode cX0_foretold 79 = .ok (.istore_n 3, 1) := dk_62 (dk_at dksX0_foretold_3 9 rfl rfl)
theorem dX0_foretold_80 : decode cX0_foretold 80 = .ok (.iinc 4 1, 3) := dk_132 4 1 (dk_at dksX0_foretold_3 10 rfl rfl)
theorem dX0_foretold_83 : decode cX0_foretold 83 = .ok (.goto (-32), 3) := dk_167 255 224 (dk_at dksX0_foretold_3 13 rfl rfl)
theorem dX0_foretold_86 : decode cX0_foretold 86 = .ok (.iload_n 2, 1) := dk_28 (dk_at dksX0_foretold_3 16 rfl rfl)
theorem dX0_foretold_87 : decode cX0_foretold 87 = .ok (.ifCond .ne 12, 3) := dk_154 0 12 (dk_at dksX0_foretold_3 17 rfl rfl)
theorem dX0_foretold_90 : decode cX0_foretold 90 = .ok (.aload_n 0, 1) := dk_42 (dk_at dksX0_foretold_3 20 rfl rfl)
theorem dX0_foretold_91 : decode cX0_foretold 91 = .ok (.getfield 55, 3) := dk_180 0 55 (dk_at dksX0_foretold_3 21 rfl rfl)
theorem dX0_foretold_94 : decode cX0_foretold 94 = .ok (.iconst 1, 1) := dk_4 (dk_at dksX0_foretold_4 0 rfl rfl)
theorem dX0_foretold_95 : decode cX0_foretold 95 = .ok (.iaload, 1) := dk_46 (dk_at dksX0_foretold_4 1 rfl rfl)
theorem dX0_foretold_96 : decode cX0_foretold 96 = .ok (.goto 22, 3) := dk_167 0 22 (dk_at dksX0_foretold_4 2 rfl rfl)
theorem dX0_foretold_99 : decode cX0_foretold 99 = .ok (.aload_n 0, 1) := dk_42 (dk_at dksX0_foretold_4 5 rfl rfl)
theorem dX0_foretold_100 : decode cX0_foretold 100 = .ok (.aload_n 0, 1) := dk_42 (dk_at dksX0_foretold_4 6 rfl rfl)
theorem dX0_foretold_101 : decode cX0_foretold 101 = .ok (.getfield 55, 3) := dk_180 0 55 (dk_at dksX0_foretold_4 7 rfl rfl)
theorem dX0_foretold_104 : decode cX0_foretold 104 = .ok (.iload_n 2, 1) := dk_28 (dk_at dksX0_foretold_4 10 rfl rfl)
theorem dX0_foretold_105 : decode cX0_foretold 105 = .ok (.iconst 1, 1) := dk_4 (dk_at dksX0_foretold_4 11 rfl rfl)
theorem dX0_foretold_106 : decode cX0_foretold 106 = .ok (.if_icmp .ne 8, 3) := dk_160 0 8 (dk_at dksX0_foretold_4 12 rfl rfl)
theorem dX0_foretold_109 : decode cX0_foretold 109 = .ok (.bipush 19, 2) := dk_16 19 (dk_at dksX0_foretold_4 15 rfl rfl)
theorem dX0_foretold_111 : decode cX0_foretold 111 = .ok (.goto 4, 3) := dk_167 0 4 (dk_at dksX0_foretold_4 17 rfl rfl)
theorem dX0_foretold_114 : decode cX0_foretold 114 = .ok (.iconst 3, 1) := dk_6 (dk_at dksX0_foretold_4 20 rfl rfl)
theorem dX0_foretold_115 : decode cX0_foretold 115 = .ok (.invokevirtual 202, 3) := dk_182 0 202 (dk_at dksX0_foretold_4 21 rfl rfl)
theorem dX0_foretold_118 : decode cX0_foretold 118 = .ok (.ireturn, 1) := dk_172 (dk_at dksX0_foretold_5 0 rfl rfl)
abbrev cX0_has : ByteArray := prog_1_method_4_code
def yX0_has : MethodName := ⟨RX0, "has", "(II)Z"⟩
def dkwX0_has_0 : List UInt8 := [26, 27, 122, 4, 126, 4, 160, 0, 7, 4, 167, 0, 4, 3, 172]
abbrev dktX0_has_0 : List UInt8 := dkwX0_has_0 ++ []
theorem dksX0_has_0 : cX0_has.data.toList.drop 0 = dktX0_has_0 := by decide +kernel
theorem dX0_has_0 : decode cX0_has 0 = .ok (.iload_n 0, 1) := dk_26 (dk_at dksX0_has_0 0 rfl rfl)
theorem dX0_has_1 : decode cX0_has 1 = .ok (.iload_n 1, 1) := dk_27 (dk_at dksX0_has_0 1 rfl rfl)
theorem dX0_has_2 : decode cX0_has 2 = .ok (.ishr, 1) := dk_122 (dk_at dksX0_has_0 2 rfl rfl)
theorem dX0_has_3 : decode cX0_has 3 = .ok (.iconst 1, 1) := dk_4 (dk_at dksX0_has_0 3 rfl rfl)
theorem dX0_has_4 : decode cX0_has 4 = .ok (.iand, 1) := dk_126 (dk_at dksX0_has_0 4 rfl rfl)
theorem dX0_has_5 : decode cX0_has 5 = .ok (.iconst 1, 1) := dk_4 (dk_at dksX0_has_0 5 rfl rfl)
theorem dX0_has_6 : decode cX0_has 6 = .ok (.if_icmp .ne 7, 3) := dk_160 0 7 (dk_at dksX0_has_0 6 rfl rfl)
theorem dX0_has_9 : decode cX0_has 9 = .ok (.iconst 1, 1) := dk_4 (dk_at dksX0_has_0 9 rfl rfl)
theorem dX0_has_10 : decode cX0_has 10 = .ok (.goto 4, 3) := dk_167 0 4 (dk_at dksX0_has_0 10 rfl rfl)
theorem dX0_has_13 : decode cX0_has 13 = .ok (.iconst 0, 1) := dk_3 (dk_at dksX0_has_0 13 rfl rfl)
theorem dX0_has_14 : decode cX0_has 14 = .ok (.ireturn, 1) := dk_172 (dk_at dksX0_has_0 14 rfl rfl)
abbrev cX0_after : ByteArray := prog_1_method_41_code
def yX0_after : MethodName := ⟨RX0, "after", "(IJ)I"⟩
def dkwX0_after_0 : List UInt8 := [27, 184, 0, 98, 153, 0, 18, 32, 9, 148, 155, 0, 12, 42, 27, 32, 182, 1, 14, 167, 0, 4, 2, 172]
abbrev dktX0_after_0 : List UInt8 := dkwX0_after_0 ++ []
theorem dksX0_after_0 : cX0_after.data.toList.drop 0 = dktX0_after_0 := by decide +kernel
theorem dX0_after_0 : decode cX0_after 0 = .ok (.iload_n 1, 1) := dk_27 (dk_at dksX0_after_0 0 rfl rfl)
theorem dX0_after_1 : decode cX0_after 1 = .ok (.invokestatic 98, 3) := dk_184 0 98 (dk_at dksX0_after_0 1 rfl rfl)
theorem dX0_after_4 : decode cX0_after 4 = .ok (.ifCond .eq 18, 3) := dk_153 0 18 (dk_at dksX0_after_0 4 rfl rfl)
theorem dX0_after_7 : decode cX0_after 7 = .ok (.lload_n 2, 1) := dk_32 (dk_at dksX0_after_0 7 rfl rfl)
theorem dX0_after_8 : decode cX0_after 8 = .ok (.lconst 0, 1) := dk_9 (dk_at dksX0_after_0 8 rfl rfl)
theorem dX0_after_9 : decode cX0_after 9 = .ok (.lcmp, 1) := dk_148 (dk_at dksX0_after_0 9 rfl rfl)
theorem dX0_after_10 : decode cX0_after 10 = .ok (.ifCond .lt 12, 3) := dk_155 0 12 (dk_at dksX0_after_0 10 rfl rfl)
theorem dX0_after_13 : decode cX0_after 13 = .ok (.aload_n 0, 1) := dk_42 (dk_at dksX0_after_0 13 rfl rfl)
theorem dX0_after_14 : decode cX0_after 14 = .ok (.iload_n 1, 1) := dk_27 (dk_at dksX0_after_0 14 rfl rfl)
theorem dX0_after_15 : decode cX0_after 15 = .ok (.lload_n 2, 1) := dk_32 (dk_at dksX0_after_0 15 rfl rfl)
theorem dX0_after_16 : decode cX0_after 16 = .ok (.invokevirtual 270, 3) := dk_182 1 14 (dk_at dksX0_after_0 16 rfl rfl)
theorem dX0_after_19 : decode cX0_after 19 = .ok (.goto 4, 3) := dk_167 0 4 (dk_at dksX0_after_0 19 rfl rfl)
theorem dX0_after_22 : decode cX0_after 22 = .ok (.iconst (-1), 1) := dk_2 (dk_at dksX0_after_0 22 rfl rfl)
theorem dX0_after_23 : decode cX0_after 23 = .ok (.ireturn, 1) := dk_172 (dk_at dksX0_after_0 23 rfl rfl)
abbrev cX0_afterOthers : ByteArray := prog_1_method_40_code
def yX0_afterOthers : MethodName := ⟨RX0, "afterOthers", "(IJ)I"⟩
def dkwX0_afterOthers_1 : List UInt8 := [21, 4, 46, 54, 4, 22, 5, 10, 101, 55, 5, 167, 255, 231, 21, 4, 172]
abbrev dktX0_afterOthers_1 : List UInt8 := dkwX0_afterOthers_1 ++ []
def dkwX0_afterOthers_0 : List UInt8 := [27, 54, 4, 32, 184, 1, 10, 55, 5, 22, 5, 9, 148, 158, 0, 24, 42, 180, 0, 33, 180, 0, 102]
abbrev dktX0_afterOthers_0 : List UInt8 := dkwX0_afterOthers_0 ++ dktX0_afterOthers_1
theorem dksX0_afterOthers_0 : cX0_afterOthers.data.toList.drop 0 = dktX0_afterOthers_0 := by decide +kernel
theorem dksX0_afterOthers_1 : cX0_afterOthers.data.toList.drop 23 = dktX0_afterOthers_1 := dk_seg dksX0_afterOthers_0 23 rfl rfl
theorem dX0_afterOthers_0 : decode cX0_afterOthers 0 = .ok (.iload_n 1, 1) := dk_27 (dk_at dksX0_afterOthers_0 0 rfl rfl)
theorem dX0_afterOthers_1 : decode cX0_afterOthers 1 = .ok (.istore 4, 2) := dk_54 4 (dk_at dksX0_afterOthers_0 1 rfl rfl)
theorem dX0_afterOthers_3 : decode cX0_afterOthers 3 = .ok (.lload_n 2, 1) := dk_32 (dk_at dksX0_afterOthers_0 3 rfl rfl)
theorem dX0_afterOthers_4 : decode cX0_afterOthers 4 = .ok (.invokestatic 266, 3) := dk_184 1 10 (dk_at dksX0_afterOthers_0 4 rfl rfl)
theorem dX0_afterOthers_7 : decode cX0_afterOthers 7 = .ok (.lstore 5, 2) := dk_55 5 (dk_at dksX0_afterOthers_0 7 rfl rfl)
theorem dX0_afterOthers_9 : decode cX0_afterOthers 9 = .ok (.lload 5, 2) := dk_22 5 (dk_at dksX0_afterOthers_0 9 rfl rfl)
theorem dX0_afterOthers_11 : decode cX0_afterOthers 11 = .ok (.lconst 0, 1) := dk_9 (dk_at dksX0_afterOthers_0 11 rfl rfl)
theorem dX0_afterOthers_12 : decode cX0_afterOthers 12 = .ok (.lcmp, 1) := dk_148 (dk_at dksX0_afterOthers_0 12 rfl rfl)
theorem dX0_afterOthers_13 : decode cX0_afterOthers 13 = .ok (.ifCond .le 24, 3) := dk_158 0 24 (dk_at dksX0_afterOthers_0 13 rfl rfl)
theorem dX0_afterOthers_16 : decode cX0_afterOthers 16 = .ok (.aload_n 0, 1) := dk_42 (dk_at dksX0_afterOthers_0 16 rfl rfl)
theorem dX0_afterOthers_17 : decode cX0_afterOthers 17 = .ok (.getfield 33, 3) := dk_180 0 33 (dk_at dksX0_afterOthers_0 17 rfl rfl)
theorem dX0_afterOthers_20 : decode cX0_afterOthers 20 = .ok (.getfield 102, 3) := dk_180 0 102 (dk_at dksX0_afterOthers_0 20 rfl rfl)
theorem dX0_afterOthers_23 : decode cX0_afterOthers 23 = .ok (.iload 4, 2) := dk_21 4 (dk_at dksX0_afterOthers_1 0 rfl rfl)
theorem dX0_afterOthers_25 : decode cX0_afterOthers 25 = .ok (.iaload, 1) := dk_46 (dk_at dksX0_afterOthers_1 2 rfl rfl)
theorem dX0_afterOthers_26 : decode cX0_afterOthers 26 = .ok (.istore 4, 2) := dk_54 4 (dk_at dksX0_afterOthers_1 3 rfl rfl)
theorem dX0_afterOthers_28 : decode cX0_afterOthers 28 = .ok (.lload 5, 2) := dk_22 5 (dk_at dksX0_afterOthers_1 5 rfl rfl)
theorem dX0_afterOthers_30 : decode cX0_afterOthers 30 = .ok (.lconst 1, 1) := dk_10 (dk_at dksX0_afterOthers_1 7 rfl rfl)
theorem dX0_afterOthers_31 : decode cX0_afterOthers 31 = .ok (.lsub, 1) := dk_101 (dk_at dksX0_afterOthers_1 8 rfl rfl)
theorem dX0_afterOthers_32 : decode cX0_afterOthers 32 = .ok (.lstore 5, 2) := dk_55 5 (dk_at dksX0_afterOthers_1 9 rfl rfl)
theorem dX0_afterOthers_34 : decode cX0_afterOthers 34 = .ok (.goto (-25), 3) := dk_167 255 231 (dk_at dksX0_afterOthers_1 11 rfl rfl)
theorem dX0_afterOthers_37 : decode cX0_afterOthers 37 = .ok (.iload 4, 2) := dk_21 4 (dk_at dksX0_afterOthers_1 14 rfl rfl)
theorem dX0_afterOthers_39 : decode cX0_afterOthers 39 = .ok (.ireturn, 1) := dk_172 (dk_at dksX0_afterOthers_1 16 rfl rfl)
abbrev cX0_ring : ByteArray := prog_1_method_44_code
def yX0_ring : MethodName := ⟨RX0, "ring", "(II)I"⟩
def dkwX0_ring_2 : List UInt8 := [29, 172]
abbrev dktX0_ring_2 : List UInt8 := dkwX0_ring_2 ++ []
def dkwX0_ring_1 : List UInt8 := [28, 154, 0, 10, 29, 184, 1, 21, 167, 0, 17, 28, 4, 160, 0, 11, 42, 27, 182, 1, 26, 167, 0, 4]
abbrev dktX0_ring_1 : List UInt8 := dkwX0_ring_1 ++ dktX0_ring_2
def dkwX0_ring_0 : List UInt8 := [27, 184, 0, 98, 153, 0, 12, 28, 3, 5, 184, 0, 87, 154, 0, 5, 2, 172, 42, 27, 182, 1, 18, 62]
abbrev dktX0_ring_0 : List UInt8 := dkwX0_ring_0 ++ dktX0_ring_1
theorem dksX0_ring_0 : cX0_ring.data.toList.drop 0 = dktX0_ring_0 := by decide +kernel
theorem dksX0_ring_1 : cX0_ring.data.toList.drop 24 = dktX0_ring_1 := dk_seg dksX0_ring_0 24 rfl rfl
theorem dksX0_ring_2 : cX0_ring.data.toList.drop 48 = dktX0_ring_2 := dk_seg dksX0_ring_1 24 rfl rfl
theorem dX0_ring_0 : decode cX0_ring 0 = .ok (.iload_n 1, 1) := dk_27 (dk_at dksX0_ring_0 0 rfl rfl)
theorem dX0_ring_1 : decode cX0_ring 1 = .ok (.invokestatic 98, 3) := dk_184 0 98 (dk_at dksX0_ring_0 1 rfl rfl)
theorem dX0_ring_4 : decode cX0_ring 4 = .ok (.ifCond .eq 12, 3) := dk_153 0 12 (dk_at dksX0_ring_0 4 rfl rfl)
theorem dX0_ring_7 : decode cX0_ring 7 = .ok (.iload_n 2, 1) := dk_28 (dk_at dksX0_ring_0 7 rfl rfl)
theorem dX0_ring_8 : decode cX0_ring 8 = .ok (.iconst 0, 1) := dk_3 (dk_at dksX0_ring_0 8 rfl rfl)
theorem dX0_ring_9 : decode cX0_ring 9 = .ok (.iconst 2, 1) := dk_5 (dk_at dksX0_ring_0 9 rfl rfl)
theorem dX0_ring_10 : decode cX0_ring 10 = .ok (.invokestatic 87, 3) := dk_184 0 87 (dk_at dksX0_ring_0 10 rfl rfl)
theorem dX0_ring_13 : decode cX0_ring 13 = .ok (.ifCond .ne 5, 3) := dk_154 0 5 (dk_at dksX0_ring_0 13 rfl rfl)
theorem dX0_ring_16 : decode cX0_ring 16 = .ok (.iconst (-1), 1) := dk_2 (dk_at dksX0_ring_0 16 rfl rfl)
theorem dX0_ring_17 : decode cX0_ring 17 = .ok (.ireturn, 1) := dk_172 (dk_at dksX0_ring_0 17 rfl rfl)
theorem dX0_ring_18 : decode cX0_ring 18 = .ok (.aload_n 0, 1) := dk_42 (dk_at dksX0_ring_0 18 rfl rfl)
theorem dX0_ring_19 : decode cX0_ring 19 = .ok (.iload_n 1, 1) := dk_27 (dk_at dksX0_ring_0 19 rfl rfl)
theorem dX0_ring_20 : decode cX0_ring 20 = .ok (.invokevirtual 274, 3) := dk_182 1 18 (dk_at dksX0_ring_0 20 rfl rfl)
theorem dX0_ring_23 : decode cX0_ring 23 = .ok (.istore_n 3, 1) := dk_62 (dk_at dksX0_ring_0 23 rfl rfl)
theorem dX0_ring_24 : decode cX0_ring 24 = .ok (.iload_n 2, 1) := dk_28 (dk_at dksX0_ring_1 0 rfl rfl)
theorem dX0_ring_25 : decode cX0_ring 25 = .ok (.ifCond .ne 10, 3) := dk_154 0 10 (dk_at dksX0_ring_1 1 rfl rfl)
theorem dX0_ring_28 : decode cX0_ring 28 = .ok (.iload_n 3, 1) := dk_29 (dk_at dksX0_ring_1 4 rfl rfl)
theorem dX0_ring_29 : decode cX0_ring 29 = .ok (.invokestatic 277, 3) := dk_184 1 21 (dk_at dksX0_ring_1 5 rfl rfl)
theorem dX0_ring_32 : decode cX0_ring 32 = .ok (.goto 17, 3) := dk_167 0 17 (dk_at dksX0_ring_1 8 rfl rfl)
theorem dX0_ring_35 : decode cX0_ring 35 = .ok (.iload_n 2, 1) := dk_28 (dk_at dksX0_ring_1 11 rfl rfl)
theorem dX0_ring_36 : decode cX0_ring 36 = .ok (.iconst 1, 1) := dk_4 (dk_at dksX0_ring_1 12 rfl rfl)
theorem dX0_ring_37 : decode cX0_ring 37 = .ok (.if_icmp .ne 11, 3) := dk_160 0 11 (dk_at dksX0_ring_1 13 rfl rfl)
theorem dX0_ring_40 : decode cX0_ring 40 = .ok (.aload_n 0, 1) := dk_42 (dk_at dksX0_ring_1 16 rfl rfl)
theorem dX0_ring_41 : decode cX0_ring 41 = .ok (.iload_n 1, 1) := dk_27 (dk_at dksX0_ring_1 17 rfl rfl)
theorem dX0_ring_42 : decode cX0_ring 42 = .ok (.invokevirtual 282, 3) := dk_182 1 26 (dk_at dksX0_ring_1 18 rfl rfl)
theorem dX0_ring_45 : decode cX0_ring 45 = .ok (.goto 4, 3) := dk_167 0 4 (dk_at dksX0_ring_1 21 rfl rfl)
theorem dX0_ring_48 : decode cX0_ring 48 = .ok (.iload_n 3, 1) := dk_29 (dk_at dksX0_ring_2 0 rfl rfl)
theorem dX0_ring_49 : decode cX0_ring 49 = .ok (.ireturn, 1) := dk_172 (dk_at dksX0_ring_2 1 rfl rfl)
abbrev cX0_ringOf : ByteArray := prog_1_method_42_code
def yX0_ringOf : MethodName := ⟨RX0, "ringOf", "(I)I"⟩
def dkwX0_ringOf_1 : List UInt8 := [120, 128, 62, 42, 180, 0, 33, 180, 0, 102, 28, 46, 61, 132, 4, 1, 167, 255, 230, 29, 172]
abbrev dktX0_ringOf_1 : List UInt8 := dkwX0_ringOf_1 ++ []
def dkwX0_ringOf_0 : List UInt8 := [42, 27, 20, 0, 3, 182, 1, 14, 61, 3, 62, 3, 54, 4, 21, 4, 16, 8, 162, 0, 25, 29, 4, 28]
abbrev dktX0_ringOf_0 : List UInt8 := dkwX0_ringOf_0 ++ dktX0_ringOf_1
theorem dksX0_ringOf_0 : cX0_ringOf.data.toList.drop 0 = dktX0_ringOf_0 := by decide +kernel
theorem dksX0_ringOf_1 : cX0_ringOf.data.toList.drop 24 = dktX0_ringOf_1 := dk_seg dksX0_ringOf_0 24 rfl rfl
theorem dX0_ringOf_0 : decode cX0_ringOf 0 = .ok (.aload_n 0, 1) := dk_42 (dk_at dksX0_ringOf_0 0 rfl rfl)
theorem dX0_ringOf_1 : decode cX0_ringOf 1 = .ok (.iload_n 1, 1) := dk_27 (dk_at dksX0_ringOf_0 1 rfl rfl)
theorem dX0_ringOf_2 : decode cX0_ringOf 2 = .ok (.ldc2_w 3, 3) := dk_20 0 3 (dk_at dksX0_ringOf_0 2 rfl rfl)
theorem dX0_ringOf_5 : decode cX0_ringOf 5 = .ok (.invokevirtual 270, 3) := dk_182 1 14 (dk_at dksX0_ringOf_0 5 rfl rfl)
theorem dX0_ringOf_8 : decode cX0_ringOf 8 = .ok (.istore_n 2, 1) := dk_61 (dk_at dksX0_ringOf_0 8 rfl rfl)
theorem dX0_ringOf_9 : decode cX0_ringOf 9 = .ok (.iconst 0, 1) := dk_3 (dk_at dksX0_ringOf_0 9 rfl rfl)
theorem dX0_ringOf_10 : decode cX0_ringOf 10 = .ok (.istore_n 3, 1) := dk_62 (dk_at dksX0_ringOf_0 10 rfl rfl)
theorem dX0_ringOf_11 : decode cX0_ringOf 11 = .ok (.iconst 0, 1) := dk_3 (dk_at dksX0_ringOf_0 11 rfl rfl)
theorem dX0_ringOf_12 : decode cX0_ringOf 12 = .ok (.istore 4, 2) := dk_54 4 (dk_at dksX0_ringOf_0 12 rfl rfl)
theorem dX0_ringOf_14 : decode cX0_ringOf 14 = .ok (.iload 4, 2) := dk_21 4 (dk_at dksX0_ringOf_0 14 rfl rfl)
theorem dX0_ringOf_16 : decode cX0_ringOf 16 = .ok (.bipush 8, 2) := dk_16 8 (dk_at dksX0_ringOf_0 16 rfl rfl)
theorem dX0_ringOf_18 : decode cX0_ringOf 18 = .ok (.if_icmp .ge 25, 3) := dk_162 0 25 (dk_at dksX0_ringOf_0 18 rfl rfl)
theorem dX0_ringOf_21 : decode cX0_ringOf 21 = .ok (.iload_n 3, 1) := dk_29 (dk_at dksX0_ringOf_0 21 rfl rfl)
theorem dX0_ringOf_22 : decode cX0_ringOf 22 = .ok (.iconst 1, 1) := dk_4 (dk_at dksX0_ringOf_0 22 rfl rfl)
theorem dX0_ringOf_23 : decode cX0_ringOf 23 = .ok (.iload_n 2, 1) := dk_28 (dk_at dksX0_ringOf_0 23 rfl rfl)
theorem dX0_ringOf_24 : decode cX0_ringOf 24 = .ok (.ishl, 1) := dk_120 (dk_at dksX0_ringOf_1 0 rfl rfl)
theorem dX0_ringOf_25 : decode cX0_ringOf 25 = .ok (.ior, 1) := dk_128 (dk_at dksX0_ringOf_1 1 rfl rfl)
theorem dX0_ringOf_26 : decode cX0_ringOf 26 = .ok (.istore_n 3, 1) := dk_62 (dk_at dksX0_ringOf_1 2 rfl rfl)
theorem dX0_ringOf_27 : decode cX0_ringOf 27 = .ok (.aload_n 0, 1) := dk_42 (dk_at dksX0_ringOf_1 3 rfl rfl)
theorem dX0_ringOf_28 : decode cX0_ringOf 28 = .ok (.getfield 33, 3) := dk_180 0 33 (dk_at dksX0_ringOf_1 4 rfl rfl)
theorem dX0_ringOf_31 : decode cX0_ringOf 31 = .ok (.getfield 102, 3) := dk_180 0 102 (dk_at dksX0_ringOf_1 7 rfl rfl)
theorem dX0_ringOf_34 : decode cX0_ringOf 34 = .ok (.iload_n 2, 1) := dk_28 (dk_at dksX0_ringOf_1 10 rfl rfl)
theorem dX0_ringOf_35 : decode cX0_ringOf 35 = .ok (.iaload, 1) := dk_46 (dk_at dksX0_ringOf_1 11 rfl rfl)
theorem dX0_ringOf_36 : decode cX0_ringOf 36 = .ok (.istore_n 2, 1) := dk_61 (dk_at dksX0_ringOf_1 12 rfl rfl)
theorem dX0_ringOf_37 : decode cX0_ringOf 37 = .ok (.iinc 4 1, 3) := dk_132 4 1 (dk_at dksX0_ringOf_1 13 rfl rfl)
theorem dX0_ringOf_40 : decode cX0_ringOf 40 = .ok (.goto (-26), 3) := dk_167 255 230 (dk_at dksX0_ringOf_1 16 rfl rfl)
theorem dX0_ringOf_43 : decode cX0_ringOf 43 = .ok (.iload_n 3, 1) := dk_29 (dk_at dksX0_ringOf_1 19 rfl rfl)
theorem dX0_ringOf_44 : decode cX0_ringOf 44 = .ok (.ireturn, 1) := dk_172 (dk_at dksX0_ringOf_1 20 rfl rfl)
abbrev cX0_tailOf : ByteArray := prog_1_method_43_code
def yX0_tailOf : MethodName := ⟨RX0, "tailOf", "(I)I"⟩
def dkwX0_tailOf_1 : List UInt8 := [167, 255, 235, 28, 172]
abbrev dktX0_tailOf_1 : List UInt8 := dkwX0_tailOf_1 ++ []
def dkwX0_tailOf_0 : List UInt8 := [3, 61, 42, 27, 182, 1, 18, 42, 27, 28, 133, 182, 1, 14, 184, 1, 8, 154, 0, 9, 132, 2, 1]
abbrev dktX0_tailOf_0 : List UInt8 := dkwX0_tailOf_0 ++ dktX0_tailOf_1
theorem dksX0_tailOf_0 : cX0_tailOf.data.toList.drop 0 = dktX0_tailOf_0 := by decide +kernel
theorem dksX0_tailOf_1 : cX0_tailOf.data.toList.drop 23 = dktX0_tailOf_1 := dk_seg dksX0_tailOf_0 23 rfl rfl
theorem dX0_tailOf_0 : decode cX0_tailOf 0 = .ok (.iconst 0, 1) := dk_3 (dk_at dksX0_tailOf_0 0 rfl rfl)
theorem dX0_tailOf_1 : decode cX0_tailOf 1 = .ok (.istore_n 2, 1) := dk_61 (dk_at dksX0_tailOf_0 1 rfl rfl)
theorem dX0_tailOf_2 : decode cX0_tailOf 2 = .ok (.aload_n 0, 1) := dk_42 (dk_at dksX0_tailOf_0 2 rfl rfl)
theorem dX0_tailOf_3 : decode cX0_tailOf 3 = .ok (.iload_n 1, 1) := dk_27 (dk_at dksX0_tailOf_0 3 rfl rfl)
theorem dX0_tailOf_4 : decode cX0_tailOf 4 = .ok (.invokevirtual 274, 3) := dk_182 1 18 (dk_at dksX0_tailOf_0 4 rfl rfl)
theorem dX0_tailOf_7 : decode cX0_tailOf 7 = .ok (.aload_n 0, 1) := dk_42 (dk_at dksX0_tailOf_0 7 rfl rfl)
theorem dX0_tailOf_8 : decode cX0_tailOf 8 = .ok (.iload_n 1, 1) := dk_27 (dk_at dksX0_tailOf_0 8 rfl rfl)
theorem dX0_tailOf_9 : decode cX0_tailOf 9 = .ok (.iload_n 2, 1) := dk_28 (dk_at dksX0_tailOf_0 9 rfl rfl)
theorem dX0_tailOf_10 : decode cX0_tailOf 10 = .ok (.i2l, 1) := dk_133 (dk_at dksX0_tailOf_0 10 rfl rfl)
theorem dX0_tailOf_11 : decode cX0_tailOf 11 = .ok (.invokevirtual 270, 3) := dk_182 1 14 (dk_at dksX0_tailOf_0 11 rfl rfl)
theorem dX0_tailOf_14 : decode cX0_tailOf 14 = .ok (.invokestatic 264, 3) := dk_184 1 8 (dk_at dksX0_tailOf_0 14 rfl rfl)
theorem dX0_tailOf_17 : decode cX0_tailOf 17 = .ok (.ifCond .ne 9, 3) := dk_154 0 9 (dk_at dksX0_tailOf_0 17 rfl rfl)
theorem dX0_tailOf_20 : decode cX0_tailOf 20 = .ok (.iinc 2 1, 3) := dk_132 2 1 (dk_at dksX0_tailOf_0 20 rfl rfl)
theorem dX0_tailOf_23 : decode cX0_tailOf 23 = .ok (.goto (-21), 3) := dk_167 255 235 (dk_at dksX0_tailOf_1 0 rfl rfl)
theorem dX0_tailOf_26 : decode cX0_tailOf 26 = .ok (.iload_n 2, 1) := dk_28 (dk_at dksX0_tailOf_1 3 rfl rfl)
theorem dX0_tailOf_27 : decode cX0_tailOf 27 = .ok (.ireturn, 1) := dk_172 (dk_at dksX0_tailOf_1 4 rfl rfl)
abbrev cX0_meet : ByteArray := prog_1_method_45_code
def yX0_meet : MethodName := ⟨RX0, "meet", "(II)I"⟩
def dkwX0_meet_2 : List UInt8 := [167, 255, 228, 2, 172]
abbrev dktX0_meet_2 : List UInt8 := dkwX0_meet_2 ++ []
def dkwX0_meet_1 : List UInt8 := [42, 27, 29, 133, 182, 1, 14, 42, 28, 29, 133, 182, 1, 14, 160, 0, 5, 29, 172, 132, 3, 1]
abbrev dktX0_meet_1 : List UInt8 := dkwX0_meet_1 ++ dktX0_meet_2
def dkwX0_meet_0 : List UInt8 := [27, 184, 0, 98, 153, 0, 10, 28, 184, 0, 98, 154, 0, 5, 2, 172, 3, 62, 29, 16, 8, 163, 0, 28]
abbrev dktX0_meet_0 : List UInt8 := dkwX0_meet_0 ++ dktX0_meet_1
theorem dksX0_meet_0 : cX0_meet.data.toList.drop 0 = dktX0_meet_0 := by decide +kernel
theorem dksX0_meet_1 : cX0_meet.data.toList.drop 24 = dktX0_meet_1 := dk_seg dksX0_meet_0 24 rfl rfl
theorem dksX0_meet_2 : cX0_meet.data.toList.drop 46 = dktX0_meet_2 := dk_seg dksX0_meet_1 22 rfl rfl
theorem dX0_meet_0 : decode cX0_meet 0 = .ok (.iload_n 1, 1) := dk_27 (dk_at dksX0_meet_0 0 rfl rfl)
theorem dX0_meet_1 : decode cX0_meet 1 = .ok (.invokestatic 98, 3) := dk_184 0 98 (dk_at dksX0_meet_0 1 rfl rfl)
theorem dX0_meet_4 : decode cX0_meet 4 = .ok (.ifCond .eq 10, 3) := dk_153 0 10 (dk_at dksX0_meet_0 4 rfl rfl)
theorem dX0_meet_7 : decode cX0_meet 7 = .ok (.iload_n 2, 1) := dk_28 (dk_at dksX0_meet_0 7 rfl rfl)
theorem dX0_meet_8 : decode cX0_meet 8 = .ok (.invokestatic 98, 3) := dk_184 0 98 (dk_at dksX0_meet_0 8 rfl rfl)
theorem dX0_meet_11 : decode cX0_meet 11 = .ok (.ifCond .ne 5, 3) := dk_154 0 5 (dk_at dksX0_meet_0 11 rfl rfl)
theorem dX0_meet_14 : decode cX0_meet 14 = .ok (.iconst (-1), 1) := dk_2 (dk_at dksX0_meet_0 14 rfl rfl)
theorem dX0_meet_15 : decode cX0_meet 15 = .ok (.ireturn, 1) := dk_172 (dk_at dksX0_meet_0 15 rfl rfl)
theorem dX0_meet_16 : decode cX0_meet 16 = .ok (.iconst 0, 1) := dk_3 (dk_at dksX0_meet_0 16 rfl rfl)
theorem dX0_meet_17 : decode cX0_meet 17 = .ok (.istore_n 3, 1) := dk_62 (dk_at dksX0_meet_0 17 rfl rfl)
theorem dX0_meet_18 : decode cX0_meet 18 = .ok (.iload_n 3, 1) := dk_29 (dk_at dksX0_meet_0 18 rfl rfl)
theorem dX0_meet_19 : decode cX0_meet 19 = .ok (.bipush 8, 2) := dk_16 8 (dk_at dksX0_meet_0 19 rfl rfl)
theorem dX0_meet_21 : decode cX0_meet 21 = .ok (.if_icmp .gt 28, 3) := dk_163 0 28 (dk_at dksX0_meet_0 21 rfl rfl)
theorem dX0_meet_24 : decode cX0_meet 24 = .ok (.aload_n 0, 1) := dk_42 (dk_at dksX0_meet_1 0 rfl rfl)
theorem dX0_meet_25 : decode cX0_meet 25 = .ok (.iload_n 1, 1) := dk_27 (dk_at dksX0_meet_1 1 rfl rfl)
theorem dX0_meet_26 : decode cX0_meet 26 = .ok (.iload_n 3, 1) := dk_29 (dk_at dksX0_meet_1 2 rfl rfl)
theorem dX0_meet_27 : decode cX0_meet 27 = .ok (.i2l, 1) := dk_133 (dk_at dksX0_meet_1 3 rfl rfl)
theorem dX0_meet_28 : decode cX0_meet 28 = .ok (.invokevirtual 270, 3) := dk_182 1 14 (dk_at dksX0_meet_1 4 rfl rfl)
theorem dX0_meet_31 : decode cX0_meet 31 = .ok (.aload_n 0, 1) := dk_42 (dk_at dksX0_meet_1 7 rfl rfl)
theorem dX0_meet_32 : decode cX0_meet 32 = .ok (.iload_n 2, 1) := dk_28 (dk_at dksX0_meet_1 8 rfl rfl)
theorem dX0_meet_33 : decode cX0_meet 33 = .ok (.iload_n 3, 1) := dk_29 (dk_at dksX0_meet_1 9 rfl rfl)
theorem dX0_meet_34 : decode cX0_meet 34 = .ok (.i2l, 1) := dk_133 (dk_at dksX0_meet_1 10 rfl rfl)
theorem dX0_meet_35 : decode cX0_meet 35 = .ok (.invokevirtual 270, 3) := dk_182 1 14 (dk_at dksX0_meet_1 11 rfl rfl)
theorem dX0_meet_38 : decode cX0_meet 38 = .ok (.if_icmp .ne 5, 3) := dk_160 0 5 (dk_at dksX0_meet_1 14 rfl rfl)
theorem dX0_meet_41 : decode cX0_meet 41 = .ok (.iload_n 3, 1) := dk_29 (dk_at dksX0_meet_1 17 rfl rfl)
theorem dX0_meet_42 : decode cX0_meet 42 = .ok (.ireturn, 1) := dk_172 (dk_at dksX0_meet_1 18 rfl rfl)
theorem dX0_meet_43 : decode cX0_meet 43 = .ok (.iinc 3 1, 3) := dk_132 3 1 (dk_at dksX0_meet_1 19 rfl rfl)
theorem dX0_meet_46 : decode cX0_meet 46 = .ok (.goto (-28), 3) := dk_167 255 228 (dk_at dksX0_meet_2 0 rfl rfl)
theorem dX0_meet_49 : decode cX0_meet 49 = .ok (.iconst (-1), 1) := dk_2 (dk_at dksX0_meet_2 3 rfl rfl)
theorem dX0_meet_50 : decode cX0_meet 50 = .ok (.ireturn, 1) := dk_172 (dk_at dksX0_meet_2 4 rfl rfl)
abbrev cX0_outermost : ByteArray := prog_1_method_46_code
def yX0_outermost : MethodName := ⟨RX0, "outermost", "()I"⟩
def dkwX0_outermost_1 : List UInt8 := [60, 132, 2, 1, 167, 255, 232, 27, 172]
abbrev dktX0_outermost_1 : List UInt8 := dkwX0_outermost_1 ++ []
def dkwX0_outermost_0 : List UInt8 := [3, 60, 4, 61, 28, 16, 8, 162, 0, 24, 42, 28, 182, 1, 26, 42, 27, 182, 1, 26, 164, 0, 5, 28]
abbrev dktX0_outermost_0 : List UInt8 := dkwX0_outermost_0 ++ dktX0_outermost_1
theorem dksX0_outermost_0 : cX0_outermost.data.toList.drop 0 = dktX0_outermost_0 := by decide +kernel
theorem dksX0_outermost_1 : cX0_outermost.data.toList.drop 24 = dktX0_outermost_1 := dk_seg dksX0_outermost_0 24 rfl rfl
theorem dX0_outermost_0 : decode cX0_outermost 0 = .ok (.iconst 0, 1) := dk_3 (dk_at dksX0_outermost_0 0 rfl rfl)
theorem dX0_outermost_1 : decode cX0_outermost 1 = .ok (.istore_n 1, 1) := dk_60 (dk_at dksX0_outermost_0 1 rfl rfl)
theorem dX0_outermost_2 : decode cX0_outermost 2 = .ok (.iconst 1, 1) := dk_4 (dk_at dksX0_outermost_0 2 rfl rfl)
theorem dX0_outermost_3 : decode cX0_outermost 3 = .ok (.istore_n 2, 1) := dk_61 (dk_at dksX0_outermost_0 3 rfl rfl)
theorem dX0_outermost_4 : decode cX0_outermost 4 = .ok (.iload_n 2, 1) := dk_28 (dk_at dksX0_outermost_0 4 rfl rfl)
theorem dX0_outermost_5 : decode cX0_outermost 5 = .ok (.bipush 8, 2) := dk_16 8 (dk_at dksX0_outermost_0 5 rfl rfl)
theorem dX0_outermost_7 : decode cX0_outermost 7 = .ok (.if_icmp .ge 24, 3) := dk_162 0 24 (dk_at dksX0_outermost_0 7 rfl rfl)
theorem dX0_outermost_10 : decode cX0_outermost 10 = .ok (.aload_n 0, 1) := dk_42 (dk_at dksX0_outermost_0 10 rfl rfl)
theorem dX0_outermost_11 : decode cX0_outermost 11 = .ok (.iload_n 2, 1) := dk_28 (dk_at dksX0_outermost_0 11 rfl rfl)
theorem dX0_outermost_12 : decode cX0_outermost 12 = .ok (.invokevirtual 282, 3) := dk_182 1 26 (dk_at dksX0_outermost_0 12 rfl rfl)
theorem dX0_outermost_15 : decode cX0_outermost 15 = .ok (.aload_n 0, 1) := dk_42 (dk_at dksX0_outermost_0 15 rfl rfl)
theorem dX0_outermost_16 : decode cX0_outermost 16 = .ok (.iload_n 1, 1) := dk_27 (dk_at dksX0_outermost_0 16 rfl rfl)
theorem dX0_outermost_17 : decode cX0_outermost 17 = .ok (.invokevirtual 282, 3) := dk_182 1 26 (dk_at dksX0_outermost_0 17 rfl rfl)
theorem dX0_outermost_20 : decode cX0_outermost 20 = .ok (.if_icmp .le 5, 3) := dk_164 0 5 (dk_at dksX0_outermost_0 20 rfl rfl)
theorem dX0_outermost_23 : decode cX0_outermost 23 = .ok (.iload_n 2, 1) := dk_28 (dk_at dksX0_outermost_0 23 rfl rfl)
theorem dX0_outermost_24 : decode cX0_outermost 24 = .ok (.istore_n 1, 1) := dk_60 (dk_at dksX0_outermost_1 0 rfl rfl)
theorem dX0_outermost_25 : decode cX0_outermost 25 = .ok (.iinc 2 1, 3) := dk_132 2 1 (dk_at dksX0_outermost_1 1 rfl rfl)
theorem dX0_outermost_28 : decode cX0_outermost 28 = .ok (.goto (-24), 3) := dk_167 255 232 (dk_at dksX0_outermost_1 4 rfl rfl)
theorem dX0_outermost_31 : decode cX0_outermost 31 = .ok (.iload_n 1, 1) := dk_27 (dk_at dksX0_outermost_1 7 rfl rfl)
theorem dX0_outermost_32 : decode cX0_outermost 32 = .ok (.ireturn, 1) := dk_172 (dk_at dksX0_outermost_1 8 rfl rfl)
abbrev cX0_rounds : ByteArray := prog_1_method_48_code
def yX0_rounds : MethodName := ⟨RX0, "rounds", "()J"⟩
def dkwX0_rounds_1 : List UInt8 := [22, 4, 184, 1, 29, 109, 22, 4, 105, 64, 132, 3, 1, 167, 255, 224, 31, 173]
abbrev dktX0_rounds_1 : List UInt8 := dkwX0_rounds_1 ++ []
def dkwX0_rounds_0 : List UInt8 := [10, 64, 3, 62, 29, 16, 8, 162, 0, 32, 42, 29, 182, 1, 18, 184, 1, 21, 133, 55, 4, 31, 31]
abbrev dktX0_rounds_0 : List UInt8 := dkwX0_rounds_0 ++ dktX0_rounds_1
theorem dksX0_rounds_0 : cX0_rounds.data.toList.drop 0 = dktX0_rounds_0 := by decide +kernel
theorem dksX0_rounds_1 : cX0_rounds.data.toList.drop 23 = dktX0_rounds_1 := dk_seg dksX0_rounds_0 23 rfl rfl
theorem dX0_rounds_0 : decode cX0_rounds 0 = .ok (.lconst 1, 1) := dk_10 (dk_at dksX0_rounds_0 0 rfl rfl)
theorem dX0_rounds_1 : decode cX0_rounds 1 = .ok (.lstore_n 1, 1) := dk_64 (dk_at dksX0_rounds_0 1 rfl rfl)
theorem dX0_rounds_2 : decode cX0_rounds 2 = .ok (.iconst 0, 1) := dk_3 (dk_at dksX0_rounds_0 2 rfl rfl)
theorem dX0_rounds_3 : decode cX0_rounds 3 = .ok (.istore_n 3, 1) := dk_62 (dk_at dksX0_rounds_0 3 rfl rfl)
theorem dX0_rounds_4 : decode cX0_rounds 4 = .ok (.iload_n 3, 1) := dk_29 (dk_at dksX0_rounds_0 4 rfl rfl)
theorem dX0_rounds_5 : decode cX0_rounds 5 = .ok (.bipush 8, 2) := dk_16 8 (dk_at dksX0_rounds_0 5 rfl rfl)
theorem dX0_rounds_7 : decode cX0_rounds 7 = .ok (.if_icmp .ge 32, 3) := dk_162 0 32 (dk_at dksX0_rounds_0 7 rfl rfl)
theorem dX0_rounds_10 : decode cX0_rounds 10 = .ok (.aload_n 0, 1) := dk_42 (dk_at dksX0_rounds_0 10 rfl rfl)
theorem dX0_rounds_11 : decode cX0_rounds 11 = .ok (.iload_n 3, 1) := dk_29 (dk_at dksX0_rounds_0 11 rfl rfl)
theorem dX0_rounds_12 : decode cX0_rounds 12 = .ok (.invokevirtual 274, 3) := dk_182 1 18 (dk_at dksX0_rounds_0 12 rfl rfl)
theorem dX0_rounds_15 : decode cX0_rounds 15 = .ok (.invokestatic 277, 3) := dk_184 1 21 (dk_at dksX0_rounds_0 15 rfl rfl)
theorem dX0_rounds_18 : decode cX0_rounds 18 = .ok (.i2l, 1) := dk_133 (dk_at dksX0_rounds_0 18 rfl rfl)
theorem dX0_rounds_19 : decode cX0_rounds 19 = .ok (.lstore 4, 2) := dk_55 4 (dk_at dksX0_rounds_0 19 rfl rfl)
theorem dX0_rounds_21 : decode cX0_rounds 21 = .ok (.lload_n 1, 1) := dk_31 (dk_at dksX0_rounds_0 21 rfl rfl)
theorem dX0_rounds_22 : decode cX0_rounds 22 = .ok (.lload_n 1, 1) := dk_31 (dk_at dksX0_rounds_0 22 rfl rfl)
theorem dX0_rounds_23 : decode cX0_rounds 23 = .ok (.lload 4, 2) := dk_22 4 (dk_at dksX0_rounds_1 0 rfl rfl)
theorem dX0_rounds_25 : decode cX0_rounds 25 = .ok (.invokestatic 285, 3) := dk_184 1 29 (dk_at dksX0_rounds_1 2 rfl rfl)
theorem dX0_rounds_28 : decode cX0_rounds 28 = .ok (.ldiv, 1) := dk_109 (dk_at dksX0_rounds_1 5 rfl rfl)
theorem dX0_rounds_29 : decode cX0_rounds 29 = .ok (.lload 4, 2) := dk_22 4 (dk_at dksX0_rounds_1 6 rfl rfl)
theorem dX0_rounds_31 : decode cX0_rounds 31 = .ok (.lmul, 1) := dk_105 (dk_at dksX0_rounds_1 8 rfl rfl)
theorem dX0_rounds_32 : decode cX0_rounds 32 = .ok (.lstore_n 1, 1) := dk_64 (dk_at dksX0_rounds_1 9 rfl rfl)
theorem dX0_rounds_33 : decode cX0_rounds 33 = .ok (.iinc 3 1, 3) := dk_132 3 1 (dk_at dksX0_rounds_1 10 rfl rfl)
theorem dX0_rounds_36 : decode cX0_rounds 36 = .ok (.goto (-32), 3) := dk_167 255 224 (dk_at dksX0_rounds_1 13 rfl rfl)
theorem dX0_rounds_39 : decode cX0_rounds 39 = .ok (.lload_n 1, 1) := dk_31 (dk_at dksX0_rounds_1 16 rfl rfl)
theorem dX0_rounds_40 : decode cX0_rounds 40 = .ok (.lreturn, 1) := dk_173 (dk_at dksX0_rounds_1 17 rfl rfl)
abbrev cX0_common : ByteArray := prog_1_method_47_code
def yX0_common : MethodName := ⟨RX0, "common", "(JJ)J"⟩
def dkwX0_common_0 : List UInt8 := [32, 9, 148, 154, 0, 7, 30, 167, 0, 10, 32, 30, 32, 113, 184, 1, 29, 173]
abbrev dktX0_common_0 : List UInt8 := dkwX0_common_0 ++ []
theorem dksX0_common_0 : cX0_common.data.toList.drop 0 = dktX0_common_0 := by decide +kernel
theorem dX0_common_0 : decode cX0_common 0 = .ok (.lload_n 2, 1) := dk_32 (dk_at dksX0_common_0 0 rfl rfl)
theorem dX0_common_1 : decode cX0_common 1 = .ok (.lconst 0, 1) := dk_9 (dk_at dksX0_common_0 1 rfl rfl)
theorem dX0_common_2 : decode cX0_common 2 = .ok (.lcmp, 1) := dk_148 (dk_at dksX0_common_0 2 rfl rfl)
theorem dX0_common_3 : decode cX0_common 3 = .ok (.ifCond .ne 7, 3) := dk_154 0 7 (dk_at dksX0_common_0 3 rfl rfl)
theorem dX0_common_6 : decode cX0_common 6 = .ok (.lload_n 0, 1) := dk_30 (dk_at dksX0_common_0 6 rfl rfl)
theorem dX0_common_7 : decode cX0_common 7 = .ok (.goto 10, 3) := dk_167 0 10 (dk_at dksX0_common_0 7 rfl rfl)
theorem dX0_common_10 : decode cX0_common 10 = .ok (.lload_n 2, 1) := dk_32 (dk_at dksX0_common_0 10 rfl rfl)
theorem dX0_common_11 : decode cX0_common 11 = .ok (.lload_n 0, 1) := dk_30 (dk_at dksX0_common_0 11 rfl rfl)
theorem dX0_common_12 : decode cX0_common 12 = .ok (.lload_n 2, 1) := dk_32 (dk_at dksX0_common_0 12 rfl rfl)
theorem dX0_common_13 : decode cX0_common 13 = .ok (.lrem, 1) := dk_113 (dk_at dksX0_common_0 13 rfl rfl)
theorem dX0_common_14 : decode cX0_common 14 = .ok (.invokestatic 285, 3) := dk_184 1 29 (dk_at dksX0_common_0 14 rfl rfl)
theorem dX0_common_17 : decode cX0_common 17 = .ok (.lreturn, 1) := dk_173 (dk_at dksX0_common_0 17 rfl rfl)
abbrev cX0_done : ByteArray := prog_1_method_49_code
def yX0_done : MethodName := ⟨RX0, "done", "(I)I"⟩
def dkwX0_done_2 : List UInt8 := [28, 172]
abbrev dktX0_done_2 : List UInt8 := dkwX0_done_2 ++ []
def dkwX0_done_1 : List UInt8 := [180, 0, 102, 29, 46, 27, 160, 0, 9, 4, 29, 120, 167, 0, 4, 3, 128, 61, 132, 3, 1, 167, 255, 224]
abbrev dktX0_done_1 : List UInt8 := dkwX0_done_1 ++ dktX0_done_2
def dkwX0_done_0 : List UInt8 := [27, 184, 0, 98, 154, 0, 5, 2, 172, 3, 61, 3, 62, 29, 16, 8, 162, 0, 32, 28, 42, 180, 0, 33]
abbrev dktX0_done_0 : List UInt8 := dkwX0_done_0 ++ dktX0_done_1
theorem dksX0_done_0 : cX0_done.data.toList.drop 0 = dktX0_done_0 := by decide +kernel
theorem dksX0_done_1 : cX0_done.data.toList.drop 24 = dktX0_done_1 := dk_seg dksX0_done_0 24 rfl rfl
theorem dksX0_done_2 : cX0_done.data.toList.drop 48 = dktX0_done_2 := dk_seg dksX0_done_1 24 rfl rfl
theorem dX0_done_0 : decode cX0_done 0 = .ok (.iload_n 1, 1) := dk_27 (dk_at dksX0_done_0 0 rfl rfl)
theorem dX0_done_1 : decode cX0_done 1 = .ok (.invokestatic 98, 3) := dk_184 0 98 (dk_at dksX0_done_0 1 rfl rfl)
theorem dX0_done_4 : decode cX0_done 4 = .ok (.ifCond .ne 5, 3) := dk_154 0 5 (dk_at dksX0_done_0 4 rfl rfl)
theorem dX0_done_7 : decode cX0_done 7 = .ok (.iconst (-1), 1) := dk_2 (dk_at dksX0_done_0 7 rfl rfl)
theorem dX0_done_8 : decode cX0_done 8 = .ok (.ireturn, 1) := dk_172 (dk_at dksX0_done_0 8 rfl rfl)
theorem dX0_done_9 : decode cX0_done 9 = .ok (.iconst 0, 1) := dk_3 (dk_at dksX0_done_0 9 rfl rfl)
theorem dX0_done_10 : decode cX0_done 10 = .ok (.istore_n 2, 1) := dk_61 (dk_at dksX0_done_0 10 rfl rfl)
theorem dX0_done_11 : decode cX0_done 11 = .ok (.iconst 0, 1) := dk_3 (dk_at dksX0_done_0 11 rfl rfl)
theorem dX0_done_12 : decode cX0_done 12 = .ok (.istore_n 3, 1) := dk_62 (dk_at dksX0_done_0 12 rfl rfl)
theorem dX0_done_13 : decode cX0_done 13 = .ok (.iload_n 3, 1) := dk_29 (dk_at dksX0_done_0 13 rfl rfl)
theorem dX0_done_14 : decode cX0_done 14 = .ok (.bipush 8, 2) := dk_16 8 (dk_at dksX0_done_0 14 rfl rfl)
theorem dX0_done_16 : decode cX0_done 16 = .ok (.if_icmp .ge 32, 3) := dk_162 0 32 (dk_at dksX0_done_0 16 rfl rfl)
theorem dX0_done_19 : decode cX0_done 19 = .ok (.iload_n 2, 1) := dk_28 (dk_at dksX0_done_0 19 rfl rfl)
theorem dX0_done_20 : decode cX0_done 20 = .ok (.aload_n 0, 1) := dk_42 (dk_at dksX0_done_0 20 rfl rfl)
theorem dX0_done_21 : decode cX0_done 21 = .ok (.getfield 33, 3) := dk_180 0 33 (dk_at dksX0_done_0 21 rfl rfl)
theorem dX0_done_24 : decode cX0_done 24 = .ok (.getfield 102, 3) := dk_180 0 102 (dk_at dksX0_done_1 0 rfl rfl)
theorem dX0_done_27 : decode cX0_done 27 = .ok (.iload_n 3, 1) := dk_29 (dk_at dksX0_done_1 3 rfl rfl)
theorem dX0_done_28 : decode cX0_done 28 = .ok (.iaload, 1) := dk_46 (dk_at dksX0_done_1 4 rfl rfl)
theorem dX0_done_29 : decode cX0_done 29 = .ok (.iload_n 1, 1) := dk_27 (dk_at dksX0_done_1 5 rfl rfl)
theorem dX0_done_30 : decode cX0_done 30 = .ok (.if_icmp .ne 9, 3) := dk_160 0 9 (dk_at dksX0_done_1 6 rfl rfl)
theorem dX0_done_33 : decode cX0_done 33 = .ok (.iconst 1, 1) := dk_4 (dk_at dksX0_done_1 9 rfl rfl)
theorem dX0_done_34 : decode cX0_done 34 = .ok (.iload_n 3, 1) := dk_29 (dk_at dksX0_done_1 10 rfl rfl)
theorem dX0_done_35 : decode cX0_done 35 = .ok (.ishl, 1) := dk_120 (dk_at dksX0_done_1 11 rfl rfl)
theorem dX0_done_36 : decode cX0_done 36 = .ok (.goto 4, 3) := dk_167 0 4 (dk_at dksX0_done_1 12 rfl rfl)
theorem dX0_done_39 : decode cX0_done 39 = .ok (.iconst 0, 1) := dk_3 (dk_at dksX0_done_1 15 rfl rfl)
theorem dX0_done_40 : decode cX0_done 40 = .ok (.ior, 1) := dk_128 (dk_at dksX0_done_1 16 rfl rfl)
theorem dX0_done_41 : decode cX0_done 41 = .ok (.istore_n 2, 1) := dk_61 (dk_at dksX0_done_1 17 rfl rfl)
theorem dX0_done_42 : decode cX0_done 42 = .ok (.iinc 3 1, 3) := dk_132 3 1 (dk_at dksX0_done_1 18 rfl rfl)
theorem dX0_done_45 : decode cX0_done 45 = .ok (.goto (-32), 3) := dk_167 255 224 (dk_at dksX0_done_1 21 rfl rfl)
theorem dX0_done_48 : decode cX0_done 48 = .ok (.iload_n 2, 1) := dk_28 (dk_at dksX0_done_2 0 rfl rfl)
theorem dX0_done_49 : decode cX0_done 49 = .ok (.ireturn, 1) := dk_172 (dk_at dksX0_done_2 1 rfl rfl)
abbrev cX0_mirrors : ByteArray := prog_1_method_53_code
def yX0_mirrors : MethodName := ⟨RX0, "mirrors", "()I"⟩
def dkwX0_mirrors_0 : List UInt8 := [42, 3, 3, 182, 1, 40, 172]
abbrev dktX0_mirrors_0 : List UInt8 := dkwX0_mirrors_0 ++ []
theorem dksX0_mirrors_0 : cX0_mirrors.data.toList.drop 0 = dktX0_mirrors_0 := by decide +kernel
theorem dX0_mirrors_0 : decode cX0_mirrors 0 = .ok (.aload_n 0, 1) := dk_42 (dk_at dksX0_mirrors_0 0 rfl rfl)
theorem dX0_mirrors_1 : decode cX0_mirrors 1 = .ok (.iconst 0, 1) := dk_3 (dk_at dksX0_mirrors_0 1 rfl rfl)
theorem dX0_mirrors_2 : decode cX0_mirrors 2 = .ok (.iconst 0, 1) := dk_3 (dk_at dksX0_mirrors_0 2 rfl rfl)
theorem dX0_mirrors_3 : decode cX0_mirrors 3 = .ok (.invokevirtual 296, 3) := dk_182 1 40 (dk_at dksX0_mirrors_0 3 rfl rfl)
theorem dX0_mirrors_6 : decode cX0_mirrors 6 = .ok (.ireturn, 1) := dk_172 (dk_at dksX0_mirrors_0 6 rfl rfl)
abbrev cX0_mirrorsFrom : ByteArray := prog_1_method_52_code
def yX0_mirrorsFrom : MethodName := ⟨RX0, "mirrorsFrom", "(II)I"⟩
def dkwX0_mirrorsFrom_3 : List UInt8 := [167, 255, 202, 29, 172]
abbrev dktX0_mirrorsFrom_3 : List UInt8 := dkwX0_mirrorsFrom_3 ++ []
def dkwX0_mirrorsFrom_2 : List UInt8 := [153, 0, 19, 29, 42, 27, 4, 96, 28, 4, 21, 4, 120, 128, 182, 1, 40, 96, 62, 132, 4, 1]
abbrev dktX0_mirrorsFrom_2 : List UInt8 := dkwX0_mirrorsFrom_2 ++ dktX0_mirrorsFrom_3
def dkwX0_mirrorsFrom_1 : List UInt8 := [184, 1, 8, 153, 0, 6, 167, 0, 35, 42, 180, 0, 58, 27, 21, 4, 79, 42, 27, 182, 1, 37]
abbrev dktX0_mirrorsFrom_1 : List UInt8 := dkwX0_mirrorsFrom_1 ++ dktX0_mirrorsFrom_2
def dkwX0_mirrorsFrom_0 : List UInt8 := [27, 16, 8, 160, 0, 5, 4, 172, 3, 62, 3, 54, 4, 21, 4, 16, 8, 162, 0, 53, 28, 21, 4]
abbrev dktX0_mirrorsFrom_0 : List UInt8 := dkwX0_mirrorsFrom_0 ++ dktX0_mirrorsFrom_1
theorem dksX0_mirrorsFrom_0 : cX0_mirrorsFrom.data.toList.drop 0 = dktX0_mirrorsFrom_0 := by decide +kernel
theorem dksX0_mirrorsFrom_1 : cX0_mirrorsFrom.data.toList.drop 23 = dktX0_mirrorsFrom_1 := dk_seg dksX0_mirrorsFrom_0 23 rfl rfl
theorem dksX0_mirrorsFrom_2 : cX0_mirrorsFrom.data.toList.drop 45 = dktX0_mirrorsFrom_2 := dk_seg dksX0_mirrorsFrom_1 22 rfl rfl
theorem dksX0_mirrorsFrom_3 : cX0_mirrorsFrom.data.toList.drop 67 = dktX0_mirrorsFrom_3 := dk_seg dksX0_mirrorsFrom_2 22 rfl rfl
theorem dX0_mirrorsFrom_0 : decode cX0_mirrorsFrom 0 = .ok (.iload_n 1, 1) := dk_27 (dk_at dksX0_mirrorsFrom_0 0 rfl rfl)
theorem dX0_mirrorsFrom_1 : decode cX0_mirrorsFrom 1 = .ok (.bipush 8, 2) := dk_16 8 (dk_at dksX0_mirrorsFrom_0 1 rfl rfl)
theorem dX0_mirrorsFrom_3 : decode cX0_mirrorsFrom 3 = .ok (.if_icmp .ne 5, 3) := dk_160 0 5 (dk_at dksX0_mirrorsFrom_0 3 rfl rfl)
theorem dX0_mirrorsFrom_6 : decode cX0_mirrorsFrom 6 = .ok (.iconst 1, 1) := dk_4 (dk_at dksX0_mirrorsFrom_0 6 rfl rfl)
theorem dX0_mirrorsFrom_7 : decode cX0_mirrorsFrom 7 = .ok (.ireturn, 1) := dk_172 (dk_at dksX0_mirrorsFrom_0 7 rfl rfl)
theorem dX0_mirrorsFrom_8 : decode cX0_mirrorsFrom 8 = .ok (.iconst 0, 1) := dk_3 (dk_at dksX0_mirrorsFrom_0 8 rfl rfl)
theorem dX0_mirrorsFrom_9 : decode cX0_mirrorsFrom 9 = .ok (.istore_n 3, 1) := dk_62 (dk_at dksX0_mirrorsFrom_0 9 rfl rfl)
theorem dX0_mirrorsFrom_10 : decode cX0_mirrorsFrom 10 = .ok (.iconst 0, 1) := dk_3 (dk_at dksX0_mirrorsFrom_0 10 rfl rfl)
theorem dX0_mirrorsFrom_11 : decode cX0_mirrorsFrom 11 = .ok (.istore 4, 2) := dk_54 4 (dk_at dksX0_mirrorsFrom_0 11 rfl rfl)
theorem dX0_mirrorsFrom_13 : decode cX0_mirrorsFrom 13 = .ok (.iload 4, 2) := dk_21 4 (dk_at dksX0_mirrorsFrom_0 13 rfl rfl)
theorem dX0_mirrorsFrom_15 : decode cX0_mirrorsFrom 15 = .ok (.bipush 8, 2) := dk_16 8 (dk_at dksX0_mirrorsFrom_0 15 rfl rfl)
theorem dX0_mirrorsFrom_17 : decode cX0_mirrorsFrom 17 = .ok (.if_icmp .ge 53, 3) := dk_162 0 53 (dk_at dksX0_mirrorsFrom_0 17 rfl rfl)
theorem dX0_mirrorsFrom_20 : decode cX0_mirrorsFrom 20 = .ok (.iload_n 2, 1) := dk_28 (dk_at dksX0_mirrorsFrom_0 20 rfl rfl)
theorem dX0_mirrorsFrom_21 : decode cX0_mirrorsFrom 21 = .ok (.iload 4, 2) := dk_21 4 (dk_at dksX0_mirrorsFrom_0 21 rfl rfl)
theorem dX0_mirrorsFrom_23 : decode cX0_mirrorsFrom 23 = .ok (.invokestatic 264, 3) := dk_184 1 8 (dk_at dksX0_mirrorsFrom_1 0 rfl rfl)
theorem dX0_mirrorsFrom_26 : decode cX0_mirrorsFrom 26 = .ok (.ifCond .eq 6, 3) := dk_153 0 6 (dk_at dksX0_mirrorsFrom_1 3 rfl rfl)
theorem dX0_mirrorsFrom_29 : decode cX0_mirrorsFrom 29 = .ok (.goto 35, 3) := dk_167 0 35 (dk_at dksX0_mirrorsFrom_1 6 rfl rfl)
theorem dX0_mirrorsFrom_32 : decode cX0_mirrorsFrom 32 = .ok (.aload_n 0, 1) := dk_42 (dk_at dksX0_mirrorsFrom_1 9 rfl rfl)
theorem dX0_mirrorsFrom_33 : decode cX0_mirrorsFrom 33 = .ok (.getfield 58, 3) := dk_180 0 58 (dk_at dksX0_mirrorsFrom_1 10 rfl rfl)
theorem dX0_mirrorsFrom_36 : decode cX0_mirrorsFrom 36 = .ok (.iload_n 1, 1) := dk_27 (dk_at dksX0_mirrorsFrom_1 13 rfl rfl)
theorem dX0_mirrorsFrom_37 : decode cX0_mirrorsFrom 37 = .ok (.iload 4, 2) := dk_21 4 (dk_at dksX0_mirrorsFrom_1 14 rfl rfl)
theorem dX0_mirrorsFrom_39 : decode cX0_mirrorsFrom 39 = .ok (.iastore, 1) := dk_79 (dk_at dksX0_mirrorsFrom_1 16 rfl rfl)
theorem dX0_mirrorsFrom_40 : decode cX0_mirrorsFrom 40 = .ok (.aload_n 0, 1) := dk_42 (dk_at dksX0_mirrorsFrom_1 17 rfl rfl)
theorem dX0_mirrorsFrom_41 : decode cX0_mirrorsFrom 41 = .ok (.iload_n 1, 1) := dk_27 (dk_at dksX0_mirrorsFrom_1 18 rfl rfl)
theorem dX0_mirrorsFrom_42 : decode cX0_mirrorsFrom 42 = .ok (.invokevirtual 293, 3) := dk_182 1 37 (dk_at dksX0_mirrorsFrom_1 19 rfl rfl)
theorem dX0_mirrorsFrom_45 : decode cX0_mirrorsFrom 45 = .ok (.ifCond .eq 19, 3) := dk_153 0 19 (dk_at dksX0_mirrorsFrom_2 0 rfl rfl)
theorem dX0_mirrorsFrom_48 : decode cX0_mirrorsFrom 48 = .ok (.iload_n 3, 1) := dk_29 (dk_at dksX0_mirrorsFrom_2 3 rfl rfl)
theorem dX0_mirrorsFrom_49 : decode cX0_mirrorsFrom 49 = .ok (.aload_n 0, 1) := dk_42 (dk_at dksX0_mirrorsFrom_2 4 rfl rfl)
theorem dX0_mirrorsFrom_50 : decode cX0_mirrorsFrom 50 = .ok (.iload_n 1, 1) := dk_27 (dk_at dksX0_mirrorsFrom_2 5 rfl rfl)
theorem dX0_mirrorsFrom_51 : decode cX0_mirrorsFrom 51 = .ok (.iconst 1, 1) := dk_4 (dk_at dksX0_mirrorsFrom_2 6 rfl rfl)
theorem dX0_mirrorsFrom_52 : decode cX0_mirrorsFrom 52 = .ok (.iadd, 1) := dk_96 (dk_at dksX0_mirrorsFrom_2 7 rfl rfl)
theorem dX0_mirrorsFrom_53 : decode cX0_mirrorsFrom 53 = .ok (.iload_n 2, 1) := dk_28 (dk_at dksX0_mirrorsFrom_2 8 rfl rfl)
theorem dX0_mirrorsFrom_54 : decode cX0_mirrorsFrom 54 = .ok (.iconst 1, 1) := dk_4 (dk_at dksX0_mirrorsFrom_2 9 rfl rfl)
theorem dX0_mirrorsFrom_55 : decode cX0_mirrorsFrom 55 = .ok (.iload 4, 2) := dk_21 4 (dk_at dksX0_mirrorsFrom_2 10 rfl rfl)
theorem dX0_mirrorsFrom_57 : decode cX0_mirrorsFrom 57 = .ok (.ishl, 1) := dk_120 (dk_at dksX0_mirrorsFrom_2 12 rfl rfl)
theorem dX0_mirrorsFrom_58 : decode cX0_mirrorsFrom 58 = .ok (.ior, 1) := dk_128 (dk_at dksX0_mirrorsFrom_2 13 rfl rfl)
theorem dX0_mirrorsFrom_59 : decode cX0_mirrorsFrom 59 = .ok (.invokevirtual 296, 3) := dk_182 1 40 (dk_at dksX0_mirrorsFrom_2 14 rfl rfl)
theorem dX0_mirrorsFrom_62 : decode cX0_mirrorsFrom 62 = .ok (.iadd, 1) := dk_96 (dk_at dksX0_mirrorsFrom_2 17 rfl rfl)
theorem dX0_mirrorsFrom_63 : decode cX0_mirrorsFrom 63 = .ok (.istore_n 3, 1) := dk_62 (dk_at dksX0_mirrorsFrom_2 18 rfl rfl)
theorem dX0_mirrorsFrom_64 : decode cX0_mirrorsFrom 64 = .ok (.iinc 4 1, 3) := dk_132 4 1 (dk_at dksX0_mirrorsFrom_2 19 rfl rfl)
theorem dX0_mirrorsFrom_67 : decode cX0_mirrorsFrom 67 = .ok (.goto (-54), 3) := dk_167 255 202 (dk_at dksX0_mirrorsFrom_3 0 rfl rfl)
theorem dX0_mirrorsFrom_70 : decode cX0_mirrorsFrom 70 = .ok (.iload_n 3, 1) := dk_29 (dk_at dksX0_mirrorsFrom_3 3 rfl rfl)
theorem dX0_mirrorsFrom_71 : decode cX0_mirrorsFrom 71 = .ok (.ireturn, 1) := dk_172 (dk_at dksX0_mirrorsFrom_3 4 rfl rfl)
abbrev cX0_mayGo : ByteArray := prog_1_method_51_code
def yX0_mayGo : MethodName := ⟨RX0, "mayGo", "(I)Z"⟩
def dkwX0_mayGo_1 : List UInt8 := [160, 0, 13, 42, 28, 182, 1, 34, 154, 0, 5, 3, 172, 132, 2, 1, 167, 255, 219, 4, 172]
abbrev dktX0_mayGo_1 : List UInt8 := dkwX0_mayGo_1 ++ []
def dkwX0_mayGo_0 : List UInt8 := [3, 61, 28, 27, 163, 0, 38, 28, 42, 180, 0, 33, 180, 0, 102, 28, 46, 184, 1, 32, 62, 29, 27]
abbrev dktX0_mayGo_0 : List UInt8 := dkwX0_mayGo_0 ++ dktX0_mayGo_1
theorem dksX0_mayGo_0 : cX0_mayGo.data.toList.drop 0 = dktX0_mayGo_0 := by decide +kernel
theorem dksX0_mayGo_1 : cX0_mayGo.data.toList.drop 23 = dktX0_mayGo_1 := dk_seg dksX0_mayGo_0 23 rfl rfl
theorem dX0_mayGo_0 : decode cX0_mayGo 0 = .ok (.iconst 0, 1) := dk_3 (dk_at dksX0_mayGo_0 0 rfl rfl)
theorem dX0_mayGo_1 : decode cX0_mayGo 1 = .ok (.istore_n 2, 1) := dk_61 (dk_at dksX0_mayGo_0 1 rfl rfl)
theorem dX0_mayGo_2 : decode cX0_mayGo 2 = .ok (.iload_n 2, 1) := dk_28 (dk_at dksX0_mayGo_0 2 rfl rfl)
theorem dX0_mayGo_3 : decode cX0_mayGo 3 = .ok (.iload_n 1, 1) := dk_27 (dk_at dksX0_mayGo_0 3 rfl rfl)
theorem dX0_mayGo_4 : decode cX0_mayGo 4 = .ok (.if_icmp .gt 38, 3) := dk_163 0 38 (dk_at dksX0_mayGo_0 4 rfl rfl)
theorem dX0_mayGo_7 : decode cX0_mayGo 7 = .ok (.iload_n 2, 1) := dk_28 (dk_at dksX0_mayGo_0 7 rfl rfl)
theorem dX0_mayGo_8 : decode cX0_mayGo 8 = .ok (.aload_n 0, 1) := dk_42 (dk_at dksX0_mayGo_0 8 rfl rfl)
theorem dX0_mayGo_9 : decode cX0_mayGo 9 = .ok (.getfield 33, 3) := dk_180 0 33 (dk_at dksX0_mayGo_0 9 rfl rfl)
theorem dX0_mayGo_12 : decode cX0_mayGo 12 = .ok (.getfield 102, 3) := dk_180 0 102 (dk_at dksX0_mayGo_0 12 rfl rfl)
theorem dX0_mayGo_15 : decode cX0_mayGo 15 = .ok (.iload_n 2, 1) := dk_28 (dk_at dksX0_mayGo_0 15 rfl rfl)
theorem dX0_mayGo_16 : decode cX0_mayGo 16 = .ok (.iaload, 1) := dk_46 (dk_at dksX0_mayGo_0 16 rfl rfl)
theorem dX0_mayGo_17 : decode cX0_mayGo 17 = .ok (.invokestatic 288, 3) := dk_184 1 32 (dk_at dksX0_mayGo_0 17 rfl rfl)
theorem dX0_mayGo_20 : decode cX0_mayGo 20 = .ok (.istore_n 3, 1) := dk_62 (dk_at dksX0_mayGo_0 20 rfl rfl)
theorem dX0_mayGo_21 : decode cX0_mayGo 21 = .ok (.iload_n 3, 1) := dk_29 (dk_at dksX0_mayGo_0 21 rfl rfl)
theorem dX0_mayGo_22 : decode cX0_mayGo 22 = .ok (.iload_n 1, 1) := dk_27 (dk_at dksX0_mayGo_0 22 rfl rfl)
theorem dX0_mayGo_23 : decode cX0_mayGo 23 = .ok (.if_icmp .ne 13, 3) := dk_160 0 13 (dk_at dksX0_mayGo_1 0 rfl rfl)
theorem dX0_mayGo_26 : decode cX0_mayGo 26 = .ok (.aload_n 0, 1) := dk_42 (dk_at dksX0_mayGo_1 3 rfl rfl)
theorem dX0_mayGo_27 : decode cX0_mayGo 27 = .ok (.iload_n 2, 1) := dk_28 (dk_at dksX0_mayGo_1 4 rfl rfl)
theorem dX0_mayGo_28 : decode cX0_mayGo 28 = .ok (.invokevirtual 290, 3) := dk_182 1 34 (dk_at dksX0_mayGo_1 5 rfl rfl)
theorem dX0_mayGo_31 : decode cX0_mayGo 31 = .ok (.ifCond .ne 5, 3) := dk_154 0 5 (dk_at dksX0_mayGo_1 8 rfl rfl)
theorem dX0_mayGo_34 : decode cX0_mayGo 34 = .ok (.iconst 0, 1) := dk_3 (dk_at dksX0_mayGo_1 11 rfl rfl)
theorem dX0_mayGo_35 : decode cX0_mayGo 35 = .ok (.ireturn, 1) := dk_172 (dk_at dksX0_mayGo_1 12 rfl rfl)
theorem dX0_mayGo_36 : decode cX0_mayGo 36 = .ok (.iinc 2 1, 3) := dk_132 2 1 (dk_at dksX0_mayGo_1 13 rfl rfl)
theorem dX0_mayGo_39 : decode cX0_mayGo 39 = .ok (.goto (-37), 3) := dk_167 255 219 (dk_at dksX0_mayGo_1 16 rfl rfl)
theorem dX0_mayGo_42 : decode cX0_mayGo 42 = .ok (.iconst 1, 1) := dk_4 (dk_at dksX0_mayGo_1 19 rfl rfl)
theorem dX0_mayGo_43 : decode cX0_mayGo 43 = .ok (.ireturn, 1) := dk_172 (dk_at dksX0_mayGo_1 20 rfl rfl)
abbrev cX0_isMirrored : ByteArray := prog_1_method_50_code
def yX0_isMirrored : MethodName := ⟨RX0, "isMirrored", "(I)Z"⟩
def dkwX0_isMirrored_1 : List UInt8 := [180, 0, 58, 27, 46, 46, 160, 0, 7, 4, 167, 0, 4, 3, 172]
abbrev dktX0_isMirrored_1 : List UInt8 := dkwX0_isMirrored_1 ++ []
def dkwX0_isMirrored_0 : List UInt8 := [42, 180, 0, 58, 42, 180, 0, 33, 180, 0, 102, 27, 46, 46, 42, 180, 0, 33, 180, 0, 102, 42]
abbrev dktX0_isMirrored_0 : List UInt8 := dkwX0_isMirrored_0 ++ dktX0_isMirrored_1
theorem dksX0_isMirrored_0 : cX0_isMirrored.data.toList.drop 0 = dktX0_isMirrored_0 := by decide +kernel
theorem dksX0_isMirrored_1 : cX0_isMirrored.data.toList.drop 22 = dktX0_isMirrored_1 := dk_seg dksX0_isMirrored_0 22 rfl rfl
theorem dX0_isMirrored_0 : decode cX0_isMirrored 0 = .ok (.aload_n 0, 1) := dk_42 (dk_at dksX0_isMirrored_0 0 rfl rfl)
theorem dX0_isMirrored_1 : decode cX0_isMirrored 1 = .ok (.getfield 58, 3) := dk_180 0 58 (dk_at dksX0_isMirrored_0 1 rfl rfl)
theorem dX0_isMirrored_4 : decode cX0_isMirrored 4 = .ok (.aload_n 0, 1) := dk_42 (dk_at dksX0_isMirrored_0 4 rfl rfl)
theorem dX0_isMirrored_5 : decode cX0_isMirrored 5 = .ok (.getfield 33, 3) := dk_180 0 33 (dk_at dksX0_isMirrored_0 5 rfl rfl)
theorem dX0_isMirrored_8 : decode cX0_isMirrored 8 = .ok (.getfield 102, 3) := dk_180 0 102 (dk_at dksX0_isMirrored_0 8 rfl rfl)
theorem dX0_isMirrored_11 : decode cX0_isMirrored 11 = .ok (.iload_n 1, 1) := dk_27 (dk_at dksX0_isMirrored_0 11 rfl rfl)
theorem dX0_isMirrored_12 : decode cX0_isMirrored 12 = .ok (.iaload, 1) := dk_46 (dk_at dksX0_isMirrored_0 12 rfl rfl)
theorem dX0_isMirrored_13 : decode cX0_isMirrored 13 = .ok (.iaload, 1) := dk_46 (dk_at dksX0_isMirrored_0 13 rfl rfl)
theorem dX0_isMirrored_14 : decode cX0_isMirrored 14 = .ok (.aload_n 0, 1) := dk_42 (dk_at dksX0_isMirrored_0 14 rfl rfl)
theorem dX0_isMirrored_15 : decode cX0_isMirrored 15 = .ok (.getfield 33, 3) := dk_180 0 33 (dk_at dksX0_isMirrored_0 15 rfl rfl)
theorem dX0_isMirrored_18 : decode cX0_isMirrored 18 = .ok (.getfield 102, 3) := dk_180 0 102 (dk_at dksX0_isMirrored_0 18 rfl rfl)
theorem dX0_isMirrored_21 : decode cX0_isMirrored 21 = .ok (.aload_n 0, 1) := dk_42 (dk_at dksX0_isMirrored_0 21 rfl rfl)
theorem dX0_isMirrored_22 : decode cX0_isMirrored 22 = .ok (.getfield 58, 3) := dk_180 0 58 (dk_at dksX0_isMirrored_1 0 rfl rfl)
theorem dX0_isMirrored_25 : decode cX0_isMirrored 25 = .ok (.iload_n 1, 1) := dk_27 (dk_at dksX0_isMirrored_1 3 rfl rfl)
theorem dX0_isMirrored_26 : decode cX0_isMirrored 26 = .ok (.iaload, 1) := dk_46 (dk_at dksX0_isMirrored_1 4 rfl rfl)
theorem dX0_isMirrored_27 : decode cX0_isMirrored 27 = .ok (.iaload, 1) := dk_46 (dk_at dksX0_isMirrored_1 5 rfl rfl)
theorem dX0_isMirrored_28 : decode cX0_isMirrored 28 = .ok (.if_icmp .ne 7, 3) := dk_160 0 7 (dk_at dksX0_isMirrored_1 6 rfl rfl)
theorem dX0_isMirrored_31 : decode cX0_isMirrored 31 = .ok (.iconst 1, 1) := dk_4 (dk_at dksX0_isMirrored_1 9 rfl rfl)
theorem dX0_isMirrored_32 : decode cX0_isMirrored 32 = .ok (.goto 4, 3) := dk_167 0 4 (dk_at dksX0_isMirrored_1 10 rfl rfl)
theorem dX0_isMirrored_35 : decode cX0_isMirrored 35 = .ok (.iconst 0, 1) := dk_3 (dk_at dksX0_isMirrored_1 13 rfl rfl)
theorem dX0_isMirrored_36 : decode cX0_isMirrored 36 = .ok (.ireturn, 1) := dk_172 (dk_at dksX0_isMirrored_1 14 rfl rfl)
abbrev cX0_sham : ByteArray := prog_1_method_56_code
def yX0_sham : MethodName := ⟨RX0, "sham", "(I)I"⟩
def dkwX0_sham_0 : List UInt8 := [42, 27, 182, 0, 138, 153, 0, 11, 42, 27, 182, 1, 46, 167, 0, 4, 2, 172]
abbrev dktX0_sham_0 : List UInt8 := dkwX0_sham_0 ++ []
theorem dksX0_sham_0 : cX0_sham.data.toList.drop 0 = dktX0_sham_0 := by decide +kernel
theorem dX0_sham_0 : decode cX0_sham 0 = .ok (.aload_n 0, 1) := dk_42 (dk_at dksX0_sham_0 0 rfl rfl)
theorem dX0_sham_1 : decode cX0_sham 1 = .ok (.iload_n 1, 1) := dk_27 (dk_at dksX0_sham_0 1 rfl rfl)
theorem dX0_sham_2 : decode cX0_sham 2 = .ok (.invokevirtual 138, 3) := dk_182 0 138 (dk_at dksX0_sham_0 2 rfl rfl)
theorem dX0_sham_5 : decode cX0_sham 5 = .ok (.ifCond .eq 11, 3) := dk_153 0 11 (dk_at dksX0_sham_0 5 rfl rfl)
theorem dX0_sham_8 : decode cX0_sham 8 = .ok (.aload_n 0, 1) := dk_42 (dk_at dksX0_sham_0 8 rfl rfl)
theorem dX0_sham_9 : decode cX0_sham 9 = .ok (.iload_n 1, 1) := dk_27 (dk_at dksX0_sham_0 9 rfl rfl)
theorem dX0_sham_10 : decode cX0_sham 10 = .ok (.invokevirtual 302, 3) := dk_182 1 46 (dk_at dksX0_sham_0 10 rfl rfl)
theorem dX0_sham_13 : decode cX0_sham 13 = .ok (.goto 4, 3) := dk_167 0 4 (dk_at dksX0_sham_0 13 rfl rfl)
theorem dX0_sham_16 : decode cX0_sham 16 = .ok (.iconst (-1), 1) := dk_2 (dk_at dksX0_sham_0 16 rfl rfl)
theorem dX0_sham_17 : decode cX0_sham 17 = .ok (.ireturn, 1) := dk_172 (dk_at dksX0_sham_0 17 rfl rfl)
abbrev cX0_shamOf : ByteArray := prog_1_method_55_code
def yX0_shamOf : MethodName := ⟨RX0, "shamOf", "(I)I"⟩
def dkwX0_shamOf_1 : List UInt8 := [162, 0, 5, 29, 61, 132, 3, 1, 167, 255, 230, 28, 172]
abbrev dktX0_shamOf_1 : List UInt8 := dkwX0_shamOf_1 ++ []
def dkwX0_shamOf_0 : List UInt8 := [3, 61, 4, 62, 29, 16, 9, 163, 0, 26, 42, 27, 29, 182, 1, 43, 42, 27, 28, 182, 1, 43]
abbrev dktX0_shamOf_0 : List UInt8 := dkwX0_shamOf_0 ++ dktX0_shamOf_1
theorem dksX0_shamOf_0 : cX0_shamOf.data.toList.drop 0 = dktX0_shamOf_0 := by decide +kernel
theorem dksX0_shamOf_1 : cX0_shamOf.data.toList.drop 22 = dktX0_shamOf_1 := dk_seg dksX0_shamOf_0 22 rfl rfl
theorem dX0_shamOf_0 : decode cX0_shamOf 0 = .ok (.iconst 0, 1) := dk_3 (dk_at dksX0_shamOf_0 0 rfl rfl)
theorem dX0_shamOf_1 : decode cX0_shamOf 1 = .ok (.istore_n 2, 1) := dk_61 (dk_at dksX0_shamOf_0 1 rfl rfl)
theorem dX0_shamOf_2 : decode cX0_shamOf 2 = .ok (.iconst 1, 1) := dk_4 (dk_at dksX0_shamOf_0 2 rfl rfl)
theorem dX0_shamOf_3 : decode cX0_shamOf 3 = .ok (.istore_n 3, 1) := dk_62 (dk_at dksX0_shamOf_0 3 rfl rfl)
theorem dX0_shamOf_4 : decode cX0_shamOf 4 = .ok (.iload_n 3, 1) := dk_29 (dk_at dksX0_shamOf_0 4 rfl rfl)
theorem dX0_shamOf_5 : decode cX0_shamOf 5 = .ok (.bipush 9, 2) := dk_16 9 (dk_at dksX0_shamOf_0 5 rfl rfl)
theorem dX0_shamOf_7 : decode cX0_shamOf 7 = .ok (.if_icmp .gt 26, 3) := dk_163 0 26 (dk_at dksX0_shamOf_0 7 rfl rfl)
theorem dX0_shamOf_10 : decode cX0_shamOf 10 = .ok (.aload_n 0, 1) := dk_42 (dk_at dksX0_shamOf_0 10 rfl rfl)
theorem dX0_shamOf_11 : decode cX0_shamOf 11 = .ok (.iload_n 1, 1) := dk_27 (dk_at dksX0_shamOf_0 11 rfl rfl)
theorem dX0_shamOf_12 : decode cX0_shamOf 12 = .ok (.iload_n 3, 1) := dk_29 (dk_at dksX0_shamOf_0 12 rfl rfl)
theorem dX0_shamOf_13 : decode cX0_shamOf 13 = .ok (.invokevirtual 299, 3) := dk_182 1 43 (dk_at dksX0_shamOf_0 13 rfl rfl)
theorem dX0_shamOf_16 : decode cX0_shamOf 16 = .ok (.aload_n 0, 1) := dk_42 (dk_at dksX0_shamOf_0 16 rfl rfl)
theorem dX0_shamOf_17 : decode cX0_shamOf 17 = .ok (.iload_n 1, 1) := dk_27 (dk_at dksX0_shamOf_0 17 rfl rfl)
theorem dX0_shamOf_18 : decode cX0_shamOf 18 = .ok (.iload_n 2, 1) := dk_28 (dk_at dksX0_shamOf_0 18 rfl rfl)
theorem dX0_shamOf_19 : decode cX0_shamOf 19 = .ok (.invokevirtual 299, 3) := dk_182 1 43 (dk_at dksX0_shamOf_0 19 rfl rfl)
theorem dX0_shamOf_22 : decode cX0_shamOf 22 = .ok (.if_icmp .ge 5, 3) := dk_162 0 5 (dk_at dksX0_shamOf_1 0 rfl rfl)
theorem dX0_shamOf_25 : decode cX0_shamOf 25 = .ok (.iload_n 3, 1) := dk_29 (dk_at dksX0_shamOf_1 3 rfl rfl)
theorem dX0_shamOf_26 : decode cX0_shamOf 26 = .ok (.istore_n 2, 1) := dk_61 (dk_at dksX0_shamOf_1 4 rfl rfl)
theorem dX0_shamOf_27 : decode cX0_shamOf 27 = .ok (.iinc 3 1, 3) := dk_132 3 1 (dk_at dksX0_shamOf_1 5 rfl rfl)
theorem dX0_shamOf_30 : decode cX0_shamOf 30 = .ok (.goto (-26), 3) := dk_167 255 230 (dk_at dksX0_shamOf_1 8 rfl rfl)
theorem dX0_shamOf_33 : decode cX0_shamOf 33 = .ok (.iload_n 2, 1) := dk_28 (dk_at dksX0_shamOf_1 11 rfl rfl)
theorem dX0_shamOf_34 : decode cX0_shamOf 34 = .ok (.ireturn, 1) := dk_172 (dk_at dksX0_shamOf_1 12 rfl rfl)
abbrev cX0_ratesBy : ByteArray := prog_1_method_54_code
def yX0_ratesBy : MethodName := ⟨RX0, "ratesBy", "(II)I"⟩
def dkwX0_ratesBy_1 : List UInt8 := [42, 42, 182, 0, 170, 42, 180, 0, 55, 27, 5, 182, 0, 173, 172]
abbrev dktX0_ratesBy_1 : List UInt8 := dkwX0_ratesBy_1 ++ []
def dkwX0_ratesBy_0 : List UInt8 := [42, 180, 0, 33, 180, 0, 189, 42, 180, 0, 55, 184, 1, 4, 42, 180, 0, 55, 16, 11, 27, 96, 28, 79]
abbrev dktX0_ratesBy_0 : List UInt8 := dkwX0_ratesBy_0 ++ dktX0_ratesBy_1
theorem dksX0_ratesBy_0 : cX0_ratesBy.data.toList.drop 0 = dktX0_ratesBy_0 := by decide +kernel
theorem dksX0_ratesBy_1 : cX0_ratesBy.data.toList.drop 24 = dktX0_ratesBy_1 := dk_seg dksX0_ratesBy_0 24 rfl rfl
theorem dX0_ratesBy_0 : decode cX0_ratesBy 0 = .ok (.aload_n 0, 1) := dk_42 (dk_at dksX0_ratesBy_0 0 rfl rfl)
theorem dX0_ratesBy_1 : decode cX0_ratesBy 1 = .ok (.getfield 33, 3) := dk_180 0 33 (dk_at dksX0_ratesBy_0 1 rfl rfl)
theorem dX0_ratesBy_4 : decode cX0_ratesBy 4 = .ok (.getfield 189, 3) := dk_180 0 189 (dk_at dksX0_ratesBy_0 4 rfl rfl)
theorem dX0_ratesBy_7 : decode cX0_ratesBy 7 = .ok (.aload_n 0, 1) := dk_42 (dk_at dksX0_ratesBy_0 7 rfl rfl)
theorem dX0_ratesBy_8 : decode cX0_ratesBy 8 = .ok (.getfield 55, 3) := dk_180 0 55 (dk_at dksX0_ratesBy_0 8 rfl rfl)
theorem dX0_ratesBy_11 : decode cX0_ratesBy 11 = .ok (.invokestatic 260, 3) := dk_184 1 4 (dk_at dksX0_ratesBy_0 11 rfl rfl)
theorem dX0_ratesBy_14 : decode cX0_ratesBy 14 = .ok (.aload_n 0, 1) := dk_42 (dk_at dksX0_ratesBy_0 14 rfl rfl)
theorem dX0_ratesBy_15 : decode cX0_ratesBy 15 = .ok (.getfield 55, 3) := dk_180 0 55 (dk_at dksX0_ratesBy_0 15 rfl rfl)
theorem dX0_ratesBy_18 : decode cX0_ratesBy 18 = .ok (.bipush 11, 2) := dk_16 11 (dk_at dksX0_ratesBy_0 18 rfl rfl)
theorem dX0_ratesBy_20 : decode cX0_ratesBy 20 = .ok (.iload_n 1, 1) := dk_27 (dk_at dksX0_ratesBy_0 20 rfl rfl)
theorem dX0_ratesBy_21 : decode cX0_ratesBy 21 = .ok (.iadd, 1) := dk_96 (dk_at dksX0_ratesBy_0 21 rfl rfl)
theorem dX0_ratesBy_22 : decode cX0_ratesBy 22 = .ok (.iload_n 2, 1) := dk_28 (dk_at dksX0_ratesBy_0 22 rfl rfl)
theorem dX0_ratesBy_23 : decode cX0_ratesBy 23 = .ok (.iastore, 1) := dk_79 (dk_at dksX0_ratesBy_0 23 rfl rfl)
theorem dX0_ratesBy_24 : decode cX0_ratesBy 24 = .ok (.aload_n 0, 1) := dk_42 (dk_at dksX0_ratesBy_1 0 rfl rfl)
theorem dX0_ratesBy_25 : decode cX0_ratesBy 25 = .ok (.aload_n 0, 1) := dk_42 (dk_at dksX0_ratesBy_1 1 rfl rfl)
theorem dX0_ratesBy_26 : decode cX0_ratesBy 26 = .ok (.invokevirtual 170, 3) := dk_182 0 170 (dk_at dksX0_ratesBy_1 2 rfl rfl)
theorem dX0_ratesBy_29 : decode cX0_ratesBy 29 = .ok (.aload_n 0, 1) := dk_42 (dk_at dksX0_ratesBy_1 5 rfl rfl)
theorem dX0_ratesBy_30 : decode cX0_ratesBy 30 = .ok (.getfield 55, 3) := dk_180 0 55 (dk_at dksX0_ratesBy_1 6 rfl rfl)
theorem dX0_ratesBy_33 : decode cX0_ratesBy 33 = .ok (.iload_n 1, 1) := dk_27 (dk_at dksX0_ratesBy_1 9 rfl rfl)
theorem dX0_ratesBy_34 : decode cX0_ratesBy 34 = .ok (.iconst 2, 1) := dk_5 (dk_at dksX0_ratesBy_1 10 rfl rfl)
theorem dX0_ratesBy_35 : decode cX0_ratesBy 35 = .ok (.invokevirtual 173, 3) := dk_182 0 173 (dk_at dksX0_ratesBy_1 11 rfl rfl)
theorem dX0_ratesBy_38 : decode cX0_ratesBy 38 = .ok (.ireturn, 1) := dk_172 (dk_at dksX0_ratesBy_1 14 rfl rfl)
abbrev cX0_shams : ByteArray := prog_1_method_57_code
def yX0_shams : MethodName := ⟨RX0, "shams", "()I"⟩
def dkwX0_shams_2 : List UInt8 := [162, 0, 9, 4, 28, 120, 167, 0, 4, 3, 128, 60, 132, 2, 1, 167, 255, 200, 27, 172]
abbrev dktX0_shams_2 : List UInt8 := dkwX0_shams_2 ++ []
def dkwX0_shams_1 : List UInt8 := [182, 1, 46, 182, 1, 43, 42, 28, 42, 180, 0, 33, 180, 0, 189, 16, 11, 28, 96, 46, 182, 1, 43]
abbrev dktX0_shams_1 : List UInt8 := dkwX0_shams_1 ++ dktX0_shams_2
def dkwX0_shams_0 : List UInt8 := [3, 60, 3, 61, 28, 42, 180, 0, 33, 180, 0, 91, 3, 46, 162, 0, 49, 27, 42, 28, 42, 28]
abbrev dktX0_shams_0 : List UInt8 := dkwX0_shams_0 ++ dktX0_shams_1
theorem dksX0_shams_0 : cX0_shams.data.toList.drop 0 = dktX0_shams_0 := by decide +kernel
theorem dksX0_shams_1 : cX0_shams.data.toList.drop 22 = dktX0_shams_1 := dk_seg dksX0_shams_0 22 rfl rfl
theorem dksX0_shams_2 : cX0_shams.data.toList.drop 45 = dktX0_shams_2 := dk_seg dksX0_shams_1 23 rfl rfl
theorem dX0_shams_0 : decode cX0_shams 0 = .ok (.iconst 0, 1) := dk_3 (dk_at dksX0_shams_0 0 rfl rfl)
theorem dX0_shams_1 : decode cX0_shams 1 = .ok (.istore_n 1, 1) := dk_60 (dk_at dksX0_shams_0 1 rfl rfl)
theorem dX0_shams_2 : decode cX0_shams 2 = .ok (.iconst 0, 1) := dk_3 (dk_at dksX0_shams_0 2 rfl rfl)
theorem dX0_shams_3 : decode cX0_shams 3 = .ok (.istore_n 2, 1) := dk_61 (dk_at dksX0_shams_0 3 rfl rfl)
theorem dX0_shams_4 : decode cX0_shams 4 = .ok (.iload_n 2, 1) := dk_28 (dk_at dksX0_shams_0 4 rfl rfl)
theorem dX0_shams_5 : decode cX0_shams 5 = .ok (.aload_n 0, 1) := dk_42 (dk_at dksX0_shams_0 5 rfl rfl)
theorem dX0_shams_6 : decode cX0_shams 6 = .ok (.getfield 33, 3) := dk_180 0 33 (dk_at dksX0_shams_0 6 rfl rfl)
theorem dX0_shams_9 : decode cX0_shams 9 = .ok (.getfield 91, 3) := dk_180 0 91 (dk_at dksX0_shams_0 9 rfl rfl)
theorem dX0_shams_12 : decode cX0_shams 12 = .ok (.iconst 0, 1) := dk_3 (dk_at dksX0_shams_0 12 rfl rfl)
theorem dX0_shams_13 : decode cX0_shams 13 = .ok (.iaload, 1) := dk_46 (dk_at dksX0_shams_0 13 rfl rfl)
theorem dX0_shams_14 : decode cX0_shams 14 = .ok (.if_icmp .ge 49, 3) := dk_162 0 49 (dk_at dksX0_shams_0 14 rfl rfl)
theorem dX0_shams_17 : decode cX0_shams 17 = .ok (.iload_n 1, 1) := dk_27 (dk_at dksX0_shams_0 17 rfl rfl)
theorem dX0_shams_18 : decode cX0_shams 18 = .ok (.aload_n 0, 1) := dk_42 (dk_at dksX0_shams_0 18 rfl rfl)
theorem dX0_shams_19 : decode cX0_shams 19 = .ok (.iload_n 2, 1) := dk_28 (dk_at dksX0_shams_0 19 rfl rfl)
theorem dX0_shams_20 : decode cX0_shams 20 = .ok (.aload_n 0, 1) := dk_42 (dk_at dksX0_shams_0 20 rfl rfl)
theorem dX0_shams_21 : decode cX0_shams 21 = .ok (.iload_n 2, 1) := dk_28 (dk_at dksX0_shams_0 21 rfl rfl)
theorem dX0_shams_22 : decode cX0_shams 22 = .ok (.invokevirtual 302, 3) := dk_182 1 46 (dk_at dksX0_shams_1 0 rfl rfl)
theorem dX0_shams_25 : decode cX0_shams 25 = .ok (.invokevirtual 299, 3) := dk_182 1 43 (dk_at dksX0_shams_1 3 rfl rfl)
theorem dX0_shams_28 : decode cX0_shams 28 = .ok (.aload_n 0, 1) := dk_42 (dk_at dksX0_shams_1 6 rfl rfl)
theorem dX0_shams_29 : decode cX0_shams 29 = .ok (.iload_n 2, 1) := dk_28 (dk_at dksX0_shams_1 7 rfl rfl)
theorem dX0_shams_30 : decode cX0_shams 30 = .ok (.aload_n 0, 1) := dk_42 (dk_at dksX0_shams_1 8 rfl rfl)
theorem dX0_shams_31 : decode cX0_shams 31 = .ok (.getfield 33, 3) := dk_180 0 33 (dk_at dksX0_shams_1 9 rfl rfl)
theorem dX0_shams_34 : decode cX0_shams 34 = .ok (.getfield 189, 3) := dk_180 0 189 (dk_at dksX0_shams_1 12 rfl rfl)
theorem dX0_shams_37 : decode cX0_shams 37 = .ok (.bipush 11, 2) := dk_16 11 (dk_at dksX0_shams_1 15 rfl rfl)
theorem dX0_shams_39 : decode cX0_shams 39 = .ok (.iload_n 2, 1) := dk_28 (dk_at dksX0_shams_1 17 rfl rfl)
theorem dX0_shams_40 : decode cX0_shams 40 = .ok (.iadd, 1) := dk_96 (dk_at dksX0_shams_1 18 rfl rfl)
theorem dX0_shams_41 : decode cX0_shams 41 = .ok (.iaload, 1) := dk_46 (dk_at dksX0_shams_1 19 rfl rfl)
theorem dX0_shams_42 : decode cX0_shams 42 = .ok (.invokevirtual 299, 3) := dk_182 1 43 (dk_at dksX0_shams_1 20 rfl rfl)
theorem dX0_shams_45 : decode cX0_shams 45 = .ok (.if_icmp .ge 9, 3) := dk_162 0 9 (dk_at dksX0_shams_2 0 rfl rfl)
theorem dX0_shams_48 : decode cX0_shams 48 = .ok (.iconst 1, 1) := dk_4 (dk_at dksX0_shams_2 3 rfl rfl)
theorem dX0_shams_49 : decode cX0_shams 49 = .ok (.iload_n 2, 1) := dk_28 (dk_at dksX0_shams_2 4 rfl rfl)
theorem dX0_shams_50 : decode cX0_shams 50 = .ok (.ishl, 1) := dk_120 (dk_at dksX0_shams_2 5 rfl rfl)
theorem dX0_shams_51 : decode cX0_shams 51 = .ok (.goto 4, 3) := dk_167 0 4 (dk_at dksX0_shams_2 6 rfl rfl)
theorem dX0_shams_54 : decode cX0_shams 54 = .ok (.iconst 0, 1) := dk_3 (dk_at dksX0_shams_2 9 rfl rfl)
theorem dX0_shams_55 : decode cX0_shams 55 = .ok (.ior, 1) := dk_128 (dk_at dksX0_shams_2 10 rfl rfl)
theorem dX0_shams_56 : decode cX0_shams 56 = .ok (.istore_n 1, 1) := dk_60 (dk_at dksX0_shams_2 11 rfl rfl)
theorem dX0_shams_57 : decode cX0_shams 57 = .ok (.iinc 2 1, 3) := dk_132 2 1 (dk_at dksX0_shams_2 12 rfl rfl)
theorem dX0_shams_60 : decode cX0_shams 60 = .ok (.goto (-56), 3) := dk_167 255 200 (dk_at dksX0_shams_2 15 rfl rfl)
theorem dX0_shams_63 : decode cX0_shams 63 = .ok (.iload_n 1, 1) := dk_27 (dk_at dksX0_shams_2 18 rfl rfl)
theorem dX0_shams_64 : decode cX0_shams 64 = .ok (.ireturn, 1) := dk_172 (dk_at dksX0_shams_2 19 rfl rfl)
abbrev cX0_till : ByteArray := prog_1_method_58_code
def yX0_till : MethodName := ⟨RX0, "till", "(II)I"⟩
def dkwX0_till_1 : List UInt8 := [180, 0, 189, 6, 27, 96, 46, 100, 184, 1, 32, 167, 0, 4, 2, 172]
abbrev dktX0_till_1 : List UInt8 := dkwX0_till_1 ++ []
def dkwX0_till_0 : List UInt8 := [42, 27, 182, 0, 138, 153, 0, 33, 28, 3, 16, 99, 184, 0, 87, 153, 0, 23, 3, 28, 42, 180, 0, 33]
abbrev dktX0_till_0 : List UInt8 := dkwX0_till_0 ++ dktX0_till_1
theorem dksX0_till_0 : cX0_till.data.toList.drop 0 = dktX0_till_0 := by decide +kernel
theorem dksX0_till_1 : cX0_till.data.toList.drop 24 = dktX0_till_1 := dk_seg dksX0_till_0 24 rfl rfl
theorem dX0_till_0 : decode cX0_till 0 = .ok (.aload_n 0, 1) := dk_42 (dk_at dksX0_till_0 0 rfl rfl)
theorem dX0_till_1 : decode cX0_till 1 = .ok (.iload_n 1, 1) := dk_27 (dk_at dksX0_till_0 1 rfl rfl)
theorem dX0_till_2 : decode cX0_till 2 = .ok (.invokevirtual 138, 3) := dk_182 0 138 (dk_at dksX0_till_0 2 rfl rfl)
theorem dX0_till_5 : decode cX0_till 5 = .ok (.ifCond .eq 33, 3) := dk_153 0 33 (dk_at dksX0_till_0 5 rfl rfl)
theorem dX0_till_8 : decode cX0_till 8 = .ok (.iload_n 2, 1) := dk_28 (dk_at dksX0_till_0 8 rfl rfl)
theorem dX0_till_9 : decode cX0_till 9 = .ok (.iconst 0, 1) := dk_3 (dk_at dksX0_till_0 9 rfl rfl)
theorem dX0_till_10 : decode cX0_till 10 = .ok (.bipush 99, 2) := dk_16 99 (dk_at dksX0_till_0 10 rfl rfl)
theorem dX0_till_12 : decode cX0_till 12 = .ok (.invokestatic 87, 3) := dk_184 0 87 (dk_at dksX0_till_0 12 rfl rfl)
theorem dX0_till_15 : decode cX0_till 15 = .ok (.ifCond .eq 23, 3) := dk_153 0 23 (dk_at dksX0_till_0 15 rfl rfl)
theorem dX0_till_18 : decode cX0_till 18 = .ok (.iconst 0, 1) := dk_3 (dk_at dksX0_till_0 18 rfl rfl)
theorem dX0_till_19 : decode cX0_till 19 = .ok (.iload_n 2, 1) := dk_28 (dk_at dksX0_till_0 19 rfl rfl)
theorem dX0_till_20 : decode cX0_till 20 = .ok (.aload_n 0, 1) := dk_42 (dk_at dksX0_till_0 20 rfl rfl)
theorem dX0_till_21 : decode cX0_till 21 = .ok (.getfield 33, 3) := dk_180 0 33 (dk_at dksX0_till_0 21 rfl rfl)
theorem dX0_till_24 : decode cX0_till 24 = .ok (.getfield 189, 3) := dk_180 0 189 (dk_at dksX0_till_1 0 rfl rfl)
theorem dX0_till_27 : decode cX0_till 27 = .ok (.iconst 3, 1) := dk_6 (dk_at dksX0_till_1 3 rfl rfl)
theorem dX0_till_28 : decode cX0_till 28 = .ok (.iload_n 1, 1) := dk_27 (dk_at dksX0_till_1 4 rfl rfl)
theorem dX0_till_29 : decode cX0_till 29 = .ok (.iadd, 1) := dk_96 (dk_at dksX0_till_1 5 rfl rfl)
theorem dX0_till_30 : decode cX0_till 30 = .ok (.iaload, 1) := dk_46 (dk_at dksX0_till_1 6 rfl rfl)
theorem dX0_till_31 : decode cX0_till 31 = .ok (.isub, 1) := dk_100 (dk_at dksX0_till_1 7 rfl rfl)
theorem dX0_till_32 : decode cX0_till 32 = .ok (.invokestatic 288, 3) := dk_184 1 32 (dk_at dksX0_till_1 8 rfl rfl)
theorem dX0_till_35 : decode cX0_till 35 = .ok (.goto 4, 3) := dk_167 0 4 (dk_at dksX0_till_1 11 rfl rfl)
theorem dX0_till_38 : decode cX0_till 38 = .ok (.iconst (-1), 1) := dk_2 (dk_at dksX0_till_1 14 rfl rfl)
theorem dX0_till_39 : decode cX0_till 39 = .ok (.ireturn, 1) := dk_172 (dk_at dksX0_till_1 15 rfl rfl)
abbrev cX0_need : ByteArray := prog_1_method_59_code
def yX0_need : MethodName := ⟨RX0, "need", "(II)Z"⟩
def dkwX0_need_1 : List UInt8 := [180, 1, 49, 27, 28, 79, 4, 172]
abbrev dktX0_need_1 : List UInt8 := dkwX0_need_1 ++ []
def dkwX0_need_0 : List UInt8 := [27, 184, 0, 98, 153, 0, 12, 28, 3, 6, 184, 0, 87, 154, 0, 5, 3, 172, 42, 180, 0, 33]
abbrev dktX0_need_0 : List UInt8 := dkwX0_need_0 ++ dktX0_need_1
theorem dksX0_need_0 : cX0_need.data.toList.drop 0 = dktX0_need_0 := by decide +kernel
theorem dksX0_need_1 : cX0_need.data.toList.drop 22 = dktX0_need_1 := dk_seg dksX0_need_0 22 rfl rfl
theorem dX0_need_0 : decode cX0_need 0 = .ok (.iload_n 1, 1) := dk_27 (dk_at dksX0_need_0 0 rfl rfl)
theorem dX0_need_1 : decode cX0_need 1 = .ok (.invokestatic 98, 3) := dk_184 0 98 (dk_at dksX0_need_0 1 rfl rfl)
theorem dX0_need_4 : decode cX0_need 4 = .ok (.ifCond .eq 12, 3) := dk_153 0 12 (dk_at dksX0_need_0 4 rfl rfl)
theorem dX0_need_7 : decode cX0_need 7 = .ok (.iload_n 2, 1) := dk_28 (dk_at dksX0_need_0 7 rfl rfl)
theorem dX0_need_8 : decode cX0_need 8 = .ok (.iconst 0, 1) := dk_3 (dk_at dksX0_need_0 8 rfl rfl)
theorem dX0_need_9 : decode cX0_need 9 = .ok (.iconst 3, 1) := dk_6 (dk_at dksX0_need_0 9 rfl rfl)
theorem dX0_need_10 : decode cX0_need 10 = .ok (.invokestatic 87, 3) := dk_184 0 87 (dk_at dksX0_need_0 10 rfl rfl)
theorem dX0_need_13 : decode cX0_need 13 = .ok (.ifCond .ne 5, 3) := dk_154 0 5 (dk_at dksX0_need_0 13 rfl rfl)
theorem dX0_need_16 : decode cX0_need 16 = .ok (.iconst 0, 1) := dk_3 (dk_at dksX0_need_0 16 rfl rfl)
theorem dX0_need_17 : decode cX0_need 17 = .ok (.ireturn, 1) := dk_172 (dk_at dksX0_need_0 17 rfl rfl)
theorem dX0_need_18 : decode cX0_need 18 = .ok (.aload_n 0, 1) := dk_42 (dk_at dksX0_need_0 18 rfl rfl)
theorem dX0_need_19 : decode cX0_need 19 = .ok (.getfield 33, 3) := dk_180 0 33 (dk_at dksX0_need_0 19 rfl rfl)
theorem dX0_need_22 : decode cX0_need 22 = .ok (.getfield 305, 3) := dk_180 1 49 (dk_at dksX0_need_1 0 rfl rfl)
theorem dX0_need_25 : decode cX0_need 25 = .ok (.iload_n 1, 1) := dk_27 (dk_at dksX0_need_1 3 rfl rfl)
theorem dX0_need_26 : decode cX0_need 26 = .ok (.iload_n 2, 1) := dk_28 (dk_at dksX0_need_1 4 rfl rfl)
theorem dX0_need_27 : decode cX0_need 27 = .ok (.iastore, 1) := dk_79 (dk_at dksX0_need_1 5 rfl rfl)
theorem dX0_need_28 : decode cX0_need 28 = .ok (.iconst 1, 1) := dk_4 (dk_at dksX0_need_1 6 rfl rfl)
theorem dX0_need_29 : decode cX0_need 29 = .ok (.ireturn, 1) := dk_172 (dk_at dksX0_need_1 7 rfl rfl)
abbrev cX0_booking : ByteArray := prog_1_method_63_code
def yX0_booking : MethodName := ⟨RX0, "booking", "(I)I"⟩
def dkwX0_booking_1 : List UInt8 := [167, 0, 18, 27, 2, 160, 0, 7, 28, 167, 0, 9, 42, 180, 0, 68, 27, 46, 172]
abbrev dktX0_booking_1 : List UInt8 := dkwX0_booking_1 ++ []
def dkwX0_booking_0 : List UInt8 := [42, 182, 1, 64, 61, 28, 2, 159, 0, 14, 27, 2, 28, 4, 100, 184, 0, 87, 154, 0, 8, 16, 254]
abbrev dktX0_booking_0 : List UInt8 := dkwX0_booking_0 ++ dktX0_booking_1
theorem dksX0_booking_0 : cX0_booking.data.toList.drop 0 = dktX0_booking_0 := by decide +kernel
theorem dksX0_booking_1 : cX0_booking.data.toList.drop 23 = dktX0_booking_1 := dk_seg dksX0_booking_0 23 rfl rfl
theorem dX0_booking_0 : decode cX0_booking 0 = .ok (.aload_n 0, 1) := dk_42 (dk_at dksX0_booking_0 0 rfl rfl)
theorem dX0_booking_1 : decode cX0_booking 1 = .ok (.invokevirtual 320, 3) := dk_182 1 64 (dk_at dksX0_booking_0 1 rfl rfl)
theorem dX0_booking_4 : decode cX0_booking 4 = .ok (.istore_n 2, 1) := dk_61 (dk_at dksX0_booking_0 4 rfl rfl)
theorem dX0_booking_5 : decode cX0_booking 5 = .ok (.iload_n 2, 1) := dk_28 (dk_at dksX0_booking_0 5 rfl rfl)
theorem dX0_booking_6 : decode cX0_booking 6 = .ok (.iconst (-1), 1) := dk_2 (dk_at dksX0_booking_0 6 rfl rfl)
theorem dX0_booking_7 : decode cX0_booking 7 = .ok (.if_icmp .eq 14, 3) := dk_159 0 14 (dk_at dksX0_booking_0 7 rfl rfl)
theorem dX0_booking_10 : decode cX0_booking 10 = .ok (.iload_n 1, 1) := dk_27 (dk_at dksX0_booking_0 10 rfl rfl)
theorem dX0_booking_11 : decode cX0_booking 11 = .ok (.iconst (-1), 1) := dk_2 (dk_at dksX0_booking_0 11 rfl rfl)
theorem dX0_booking_12 : decode cX0_booking 12 = .ok (.iload_n 2, 1) := dk_28 (dk_at dksX0_booking_0 12 rfl rfl)
theorem dX0_booking_13 : decode cX0_booking 13 = .ok (.iconst 1, 1) := dk_4 (dk_at dksX0_booking_0 13 rfl rfl)
theorem dX0_booking_14 : decode cX0_booking 14 = .ok (.isub, 1) := dk_100 (dk_at dksX0_booking_0 14 rfl rfl)
theorem dX0_booking_15 : decode cX0_booking 15 = .ok (.invokestatic 87, 3) := dk_184 0 87 (dk_at dksX0_booking_0 15 rfl rfl)
theorem dX0_booking_18 : decode cX0_booking 18 = .ok (.ifCond .ne 8, 3) := dk_154 0 8 (dk_at dksX0_booking_0 18 rfl rfl)
theorem dX0_booking_21 : decode cX0_booking 21 = .ok (.bipush (-2), 2) := dk_16 254 (dk_at dksX0_booking_0 21 rfl rfl)
theorem dX0_booking_23 : decode cX0_booking 23 = .ok (.goto 18, 3) := dk_167 0 18 (dk_at dksX0_booking_1 0 rfl rfl)
theorem dX0_booking_26 : decode cX0_booking 26 = .ok (.iload_n 1, 1) := dk_27 (dk_at dksX0_booking_1 3 rfl rfl)
theorem dX0_booking_27 : decode cX0_booking 27 = .ok (.iconst (-1), 1) := dk_2 (dk_at dksX0_booking_1 4 rfl rfl)
theorem dX0_booking_28 : decode cX0_booking 28 = .ok (.if_icmp .ne 7, 3) := dk_160 0 7 (dk_at dksX0_booking_1 5 rfl rfl)
theorem dX0_booking_31 : decode cX0_booking 31 = .ok (.iload_n 2, 1) := dk_28 (dk_at dksX0_booking_1 8 rfl rfl)
theorem dX0_booking_32 : decode cX0_booking 32 = .ok (.goto 9, 3) := dk_167 0 9 (dk_at dksX0_booking_1 9 rfl rfl)
theorem dX0_booking_35 : decode cX0_booking 35 = .ok (.aload_n 0, 1) := dk_42 (dk_at dksX0_booking_1 12 rfl rfl)
theorem dX0_booking_36 : decode cX0_booking 36 = .ok (.getfield 68, 3) := dk_180 0 68 (dk_at dksX0_booking_1 13 rfl rfl)
theorem dX0_booking_39 : decode cX0_booking 39 = .ok (.iload_n 1, 1) := dk_27 (dk_at dksX0_booking_1 16 rfl rfl)
theorem dX0_booking_40 : decode cX0_booking 40 = .ok (.iaload, 1) := dk_46 (dk_at dksX0_booking_1 17 rfl rfl)
theorem dX0_booking_41 : decode cX0_booking 41 = .ok (.ireturn, 1) := dk_172 (dk_at dksX0_booking_1 18 rfl rfl)
abbrev cX0_laysBooking : ByteArray := prog_1_method_62_code
def yX0_laysBooking : MethodName := ⟨RX0, "laysBooking", "()I"⟩
def dkwX0_laysBooking_9 : List UInt8 := [42, 180, 0, 71, 21, 5, 51, 79, 42, 180, 0, 62, 21, 5, 46, 54, 5, 167, 255, 224, 29, 172]
abbrev dktX0_laysBooking_9 : List UInt8 := dkwX0_laysBooking_9 ++ []
def dkwX0_laysBooking_8 : List UInt8 := [167, 255, 238, 29, 54, 4, 3, 54, 5, 21, 5, 27, 159, 0, 32, 132, 4, 255, 42, 180, 0, 68, 21, 4]
abbrev dktX0_laysBooking_8 : List UInt8 := dkwX0_laysBooking_8 ++ dktX0_laysBooking_9
def dkwX0_laysBooking_7 : List UInt8 := [3, 62, 3, 54, 4, 21, 4, 27, 159, 0, 18, 132, 3, 1, 42, 180, 0, 62, 21, 4, 46, 54, 4]
abbrev dktX0_laysBooking_7 : List UInt8 := dkwX0_laysBooking_7 ++ dktX0_laysBooking_8
def dkwX0_laysBooking_6 : List UInt8 := [132, 4, 1, 167, 255, 184, 132, 3, 1, 167, 255, 160, 42, 180, 0, 62, 3, 46, 2, 160, 0, 5, 2, 172]
abbrev dktX0_laysBooking_6 : List UInt8 := dkwX0_laysBooking_6 ++ dktX0_laysBooking_7
def dkwX0_laysBooking_5 : List UInt8 := [46, 79, 42, 180, 0, 71, 21, 5, 21, 4, 145, 84, 42, 180, 0, 65, 28, 21, 5, 79, 132, 2, 1]
abbrev dktX0_laysBooking_5 : List UInt8 := dkwX0_laysBooking_5 ++ dktX0_laysBooking_6
def dkwX0_laysBooking_4 : List UInt8 := [180, 0, 62, 21, 5, 46, 2, 159, 0, 6, 167, 0, 37, 42, 180, 0, 62, 21, 5, 42, 180, 0, 65, 29]
abbrev dktX0_laysBooking_4 : List UInt8 := dkwX0_laysBooking_4 ++ dktX0_laysBooking_5
def dkwX0_laysBooking_3 : List UInt8 := [54, 4, 21, 4, 16, 8, 162, 0, 71, 42, 42, 180, 0, 65, 29, 46, 21, 4, 182, 1, 61, 54, 5, 42]
abbrev dktX0_laysBooking_3 : List UInt8 := dkwX0_laysBooking_3 ++ dktX0_laysBooking_4
def dkwX0_laysBooking_2 : List UInt8 := [3, 27, 79, 4, 61, 3, 62, 29, 28, 162, 0, 97, 42, 180, 0, 62, 3, 46, 2, 160, 0, 87, 3]
abbrev dktX0_laysBooking_2 : List UInt8 := dkwX0_laysBooking_2 ++ dktX0_laysBooking_3
def dkwX0_laysBooking_1 : List UInt8 := [180, 1, 49, 28, 46, 96, 60, 132, 2, 255, 167, 255, 235, 42, 180, 0, 62, 27, 27, 79, 42, 180, 0, 65]
abbrev dktX0_laysBooking_1 : List UInt8 := dkwX0_laysBooking_1 ++ dktX0_laysBooking_2
def dkwX0_laysBooking_0 : List UInt8 := [42, 180, 0, 62, 2, 184, 1, 55, 3, 60, 16, 7, 61, 28, 155, 0, 23, 7, 27, 104, 42, 180, 0, 33]
abbrev dktX0_laysBooking_0 : List UInt8 := dkwX0_laysBooking_0 ++ dktX0_laysBooking_1
theorem dksX0_laysBooking_0 : cX0_laysBooking.data.toList.drop 0 = dktX0_laysBooking_0 := by decide +kernel
theorem dksX0_laysBooking_1 : cX0_laysBooking.data.toList.drop 24 = dktX0_laysBooking_1 := dk_seg dksX0_laysBooking_0 24 rfl rfl
theorem dksX0_laysBooking_2 : cX0_laysBooking.data.toList.drop 48 = dktX0_laysBooking_2 := dk_seg dksX0_laysBooking_1 24 rfl rfl
theorem dksX0_laysBooking_3 : cX0_laysBooking.data.toList.drop 71 = dktX0_laysBooking_3 := dk_seg dksX0_laysBooking_2 23 rfl rfl
theorem dksX0_laysBooking_4 : cX0_laysBooking.data.toList.drop 95 = dktX0_laysBooking_4 := dk_seg dksX0_laysBooking_3 24 rfl rfl
theorem dksX0_laysBooking_5 : cX0_laysBooking.data.toList.drop 119 = dktX0_laysBooking_5 := dk_seg dksX0_laysBooking_4 24 rfl rfl
theorem dksX0_laysBooking_6 : cX0_laysBooking.data.toList.drop 142 = dktX0_laysBooking_6 := dk_seg dksX0_laysBooking_5 23 rfl rfl
theorem dksX0_laysBooking_7 : cX0_laysBooking.data.toList.drop 166 = dktX0_laysBooking_7 := dk_seg dksX0_laysBooking_6 24 rfl rfl
theorem dksX0_laysBooking_8 : cX0_laysBooking.data.toList.drop 189 = dktX0_laysBooking_8 := dk_seg dksX0_laysBooking_7 23 rfl rfl
theorem dksX0_laysBooking_9 : cX0_laysBooking.data.toList.drop 213 = dktX0_laysBooking_9 := dk_seg dksX0_laysBooking_8 24 rfl rfl
theorem dX0_laysBooking_0 : decode cX0_laysBooking 0 = .ok (.aload_n 0, 1) := dk_42 (dk_at dksX0_laysBooking_0 0 rfl rfl)
theorem dX0_laysBooking_1 : decode cX0_laysBooking 1 = .ok (.getfield 62, 3) := dk_180 0 62 (dk_at dksX0_laysBooking_0 1 rfl rfl)
theorem dX0_laysBooking_4 : decode cX0_laysBooking 4 = .ok (.iconst (-1), 1) := dk_2 (dk_at dksX0_laysBooking_0 4 rfl rfl)
theorem dX0_laysBooking_5 : decode cX0_laysBooking 5 = .ok (.invokestatic 311, 3) := dk_184 1 55 (dk_at dksX0_laysBooking_0 5 rfl rfl)
theorem dX0_laysBooking_8 : decode cX0_laysBooking 8 = .ok (.iconst 0, 1) := dk_3 (dk_at dksX0_laysBooking_0 8 rfl rfl)
theorem dX0_laysBooking_9 : decode cX0_laysBooking 9 = .ok (.istore_n 1, 1) := dk_60 (dk_at dksX0_laysBooking_0 9 rfl rfl)
theorem dX0_laysBooking_10 : decode cX0_laysBooking 10 = .ok (.bipush 7, 2) := dk_16 7 (dk_at dksX0_laysBooking_0 10 rfl rfl)
theorem dX0_laysBooking_12 : decode cX0_laysBooking 12 = .ok (.istore_n 2, 1) := dk_61 (dk_at dksX0_laysBooking_0 12 rfl rfl)
theorem dX0_laysBooking_13 : decode cX0_laysBooking 13 = .ok (.iload_n 2, 1) := dk_28 (dk_at dksX0_laysBooking_0 13 rfl rfl)
theorem dX0_laysBooking_14 : decode cX0_laysBooking 14 = .ok (.ifCond .lt 23, 3) := dk_155 0 23 (dk_at dksX0_laysBooking_0 14 rfl rfl)
theorem dX0_laysBooking_17 : decode cX0_laysBooking 17 = .ok (.iconst 4, 1) := dk_7 (dk_at dksX0_laysBooking_0 17 rfl rfl)
theorem dX0_laysBooking_18 : decode cX0_laysBooking 18 = .ok (.iload_n 1, 1) := dk_27 (dk_at dksX0_laysBooking_0 18 rfl rfl)
theorem dX0_laysBooking_19 : decode cX0_laysBooking 19 = .ok (.imul, 1) := dk_104 (dk_at dksX0_laysBooking_0 19 rfl rfl)
theorem dX0_laysBooking_20 : decode cX0_laysBooking 20 = .ok (.aload_n 0, 1) := dk_42 (dk_at dksX0_laysBooking_0 20 rfl rfl)
theorem dX0_laysBooking_21 : decode cX0_laysBooking 21 = .ok (.getfield 33, 3) := dk_180 0 33 (dk_at dksX0_laysBooking_0 21 rfl rfl)
theorem dX0_laysBooking_24 : decode cX0_laysBooking 24 = .ok (.getfield 305, 3) := dk_180 1 49 (dk_at dksX0_laysBooking_1 0 rfl rfl)
theorem dX0_laysBooking_27 : decode cX0_laysBooking 27 = .ok (.iload_n 2, 1) := dk_28 (dk_at dksX0_laysBooking_1 3 rfl rfl)
theorem dX0_laysBooking_28 : decode cX0_laysBooking 28 = .ok (.iaload, 1) := dk_46 (dk_at dksX0_laysBooking_1 4 rfl rfl)
theorem dX0_laysBooking_29 : decode cX0_laysBooking 29 = .ok (.iadd, 1) := dk_96 (dk_at dksX0_laysBooking_1 5 rfl rfl)
theorem dX0_laysBooking_30 : decode cX0_laysBooking 30 = .ok (.istore_n 1, 1) := dk_60 (dk_at dksX0_laysBooking_1 6 rfl rfl)
theorem dX0_laysBooking_31 : decode cX0_laysBooking 31 = .ok (.iinc 2 (-1), 3) := dk_132 2 255 (dk_at dksX0_laysBooking_1 7 rfl rfl)
theorem dX0_laysBooking_34 : decode cX0_laysBooking 34 = .ok (.goto (-21), 3) := dk_167 255 235 (dk_at dksX0_laysBooking_1 10 rfl rfl)
theorem dX0_laysBooking_37 : decode cX0_laysBooking 37 = .ok (.aload_n 0, 1) := dk_42 (dk_at dksX0_laysBooking_1 13 rfl rfl)
theorem dX0_laysBooking_38 : decode cX0_laysBooking 38 = .ok (.getfield 62, 3) := dk_180 0 62 (dk_at dksX0_laysBooking_1 14 rfl rfl)
theorem dX0_laysBooking_41 : decode cX0_laysBooking 41 = .ok (.iload_n 1, 1) := dk_27 (dk_at dksX0_laysBooking_1 17 rfl rfl)
theorem dX0_laysBooking_42 : decode cX0_laysBooking 42 = .ok (.iload_n 1, 1) := dk_27 (dk_at dksX0_laysBooking_1 18 rfl rfl)
theorem dX0_laysBooking_43 : decode cX0_laysBooking 43 = .ok (.iastore, 1) := dk_79 (dk_at dksX0_laysBooking_1 19 rfl rfl)
theorem dX0_laysBooking_44 : decode cX0_laysBooking 44 = .ok (.aload_n 0, 1) := dk_42 (dk_at dksX0_laysBooking_1 20 rfl rfl)
theorem dX0_laysBooking_45 : decode cX0_laysBooking 45 = .ok (.getfield 65, 3) := dk_180 0 65 (dk_at dksX0_laysBooking_1 21 rfl rfl)
theorem dX0_laysBooking_48 : decode cX0_laysBooking 48 = .ok (.iconst 0, 1) := dk_3 (dk_at dksX0_laysBooking_2 0 rfl rfl)
theorem dX0_laysBooking_49 : decode cX0_laysBooking 49 = .ok (.iload_n 1, 1) := dk_27 (dk_at dksX0_laysBooking_2 1 rfl rfl)
theorem dX0_laysBooking_50 : decode cX0_laysBooking 50 = .ok (.iastore, 1) := dk_79 (dk_at dksX0_laysBooking_2 2 rfl rfl)
theorem dX0_laysBooking_51 : decode cX0_laysBooking 51 = .ok (.iconst 1, 1) := dk_4 (dk_at dksX0_laysBooking_2 3 rfl rfl)
theorem dX0_laysBooking_52 : decode cX0_laysBooking 52 = .ok (.istore_n 2, 1) := dk_61 (dk_at dksX0_laysBooking_2 4 rfl rfl)
theorem dX0_laysBooking_53 : decode cX0_laysBooking 53 = .ok (.iconst 0, 1) := dk_3 (dk_at dksX0_laysBooking_2 5 rfl rfl)
theorem dX0_laysBooking_54 : decode cX0_laysBooking 54 = .ok (.istore_n 3, 1) := dk_62 (dk_at dksX0_laysBooking_2 6 rfl rfl)
theorem dX0_laysBooking_55 : decode cX0_laysBooking 55 = .ok (.iload_n 3, 1) := dk_29 (dk_at dksX0_laysBooking_2 7 rfl rfl)
theorem dX0_laysBooking_56 : decode cX0_laysBooking 56 = .ok (.iload_n 2, 1) := dk_28 (dk_at dksX0_laysBooking_2 8 rfl rfl)
theorem dX0_laysBooking_57 : decode cX0_laysBooking 57 = .ok (.if_icmp .ge 97, 3) := dk_162 0 97 (dk_at dksX0_laysBooking_2 9 rfl rfl)
theorem dX0_laysBooking_60 : decode cX0_laysBooking 60 = .ok (.aload_n 0, 1) := dk_42 (dk_at dksX0_laysBooking_2 12 rfl rfl)
theorem dX0_laysBooking_61 : decode cX0_laysBooking 61 = .ok (.getfield 62, 3) := dk_180 0 62 (dk_at dksX0_laysBooking_2 13 rfl rfl)
theorem dX0_laysBooking_64 : decode cX0_laysBooking 64 = .ok (.iconst 0, 1) := dk_3 (dk_at dksX0_laysBooking_2 16 rfl rfl)
theorem dX0_laysBooking_65 : decode cX0_laysBooking 65 = .ok (.iaload, 1) := dk_46 (dk_at dksX0_laysBooking_2 17 rfl rfl)
theorem dX0_laysBooking_66 : decode cX0_laysBooking 66 = .ok (.iconst (-1), 1) := dk_2 (dk_at dksX0_laysBooking_2 18 rfl rfl)
theorem dX0_laysBooking_67 : decode cX0_laysBooking 67 = .ok (.if_icmp .ne 87, 3) := dk_160 0 87 (dk_at dksX0_laysBooking_2 19 rfl rfl)
theorem dX0_laysBooking_70 : decode cX0_laysBooking 70 = .ok (.iconst 0, 1) := dk_3 (dk_at dksX0_laysBooking_2 22 rfl rfl)
theorem dX0_laysBooking_71 : decode cX0_laysBooking 71 = .ok (.istore 4, 2) := dk_54 4 (dk_at dksX0_laysBooking_3 0 rfl rfl)
theorem dX0_laysBooking_73 : decode cX0_laysBooking 73 = .ok (.iload 4, 2) := dk_21 4 (dk_at dksX0_laysBooking_3 2 rfl rfl)
theorem dX0_laysBooking_75 : decode cX0_laysBooking 75 = .ok (.bipush 8, 2) := dk_16 8 (dk_at dksX0_laysBooking_3 4 rfl rfl)
theorem dX0_laysBooking_77 : decode cX0_laysBooking 77 = .ok (.if_icmp .ge 71, 3) := dk_162 0 71 (dk_at dksX0_laysBooking_3 6 rfl rfl)
theorem dX0_laysBooking_80 : decode cX0_laysBooking 80 = .ok (.aload_n 0, 1) := dk_42 (dk_at dksX0_laysBooking_3 9 rfl rfl)
theorem dX0_laysBooking_81 : decode cX0_laysBooking 81 = .ok (.aload_n 0, 1) := dk_42 (dk_at dksX0_laysBooking_3 10 rfl rfl)
theorem dX0_laysBooking_82 : decode cX0_laysBooking 82 = .ok (.getfield 65, 3) := dk_180 0 65 (dk_at dksX0_laysBooking_3 11 rfl rfl)
theorem dX0_laysBooking_85 : decode cX0_laysBooking 85 = .ok (.iload_n 3, 1) := dk_29 (dk_at dksX0_laysBooking_3 14 rfl rfl)
theorem dX0_laysBooking_86 : decode cX0_laysBooking 86 = .ok (.iaload, 1) := dk_46 (dk_at dksX0_laysBooking_3 15 rfl rfl)
theorem dX0_laysBooking_87 : decode cX0_laysBooking 87 = .ok (.iload 4, 2) := dk_21 4 (dk_at dksX0_laysBooking_3 16 rfl rfl)
theorem dX0_laysBooking_89 : decode cX0_laysBooking 89 = .ok (.invokevirtual 317, 3) := dk_182 1 61 (dk_at dksX0_laysBooking_3 18 rfl rfl)
theorem dX0_laysBooking_92 : decode cX0_laysBooking 92 = .ok (.istore 5, 2) := dk_54 5 (dk_at dksX0_laysBooking_3 21 rfl rfl)
theorem dX0_laysBooking_94 : decode cX0_laysBooking 94 = .ok (.aload_n 0, 1) := dk_42 (dk_at dksX0_laysBooking_3 23 rfl rfl)
theorem dX0_laysBooking_95 : decode cX0_laysBooking 95 = .ok (.getfield 62, 3) := dk_180 0 62 (dk_at dksX0_laysBooking_4 0 rfl rfl)
theorem dX0_laysBooking_98 : decode cX0_laysBooking 98 = .ok (.iload 5, 2) := dk_21 5 (dk_at dksX0_laysBooking_4 3 rfl rfl)
theorem dX0_laysBooking_100 : decode cX0_laysBooking 100 = .ok (.iaload, 1) := dk_46 (dk_at dksX0_laysBooking_4 5 rfl rfl)
theorem dX0_laysBooking_101 : decode cX0_laysBooking 101 = .ok (.iconst (-1), 1) := dk_2 (dk_at dksX0_laysBooking_4 6 rfl rfl)
theorem dX0_laysBooking_102 : decode cX0_laysBooking 102 = .ok (.if_icmp .eq 6, 3) := dk_159 0 6 (dk_at dksX0_laysBooking_4 7 rfl rfl)
theorem dX0_laysBooking_105 : decode cX0_laysBooking 105 = .ok (.goto 37, 3) := dk_167 0 37 (dk_at dksX0_laysBooking_4 10 rfl rfl)
theorem dX0_laysBooking_108 : decode cX0_laysBooking 108 = .ok (.aload_n 0, 1) := dk_42 (dk_at dksX0_laysBooking_4 13 rfl rfl)
theorem dX0_laysBooking_109 : decode cX0_laysBooking 109 = .ok (.getfield 62, 3) := dk_180 0 62 (dk_at dksX0_laysBooking_4 14 rfl rfl)
theorem dX0_laysBooking_112 : decode cX0_laysBooking 112 = .ok (.iload 5, 2) := dk_21 5 (dk_at dksX0_laysBooking_4 17 rfl rfl)
theorem dX0_laysBooking_114 : decode cX0_laysBooking 114 = .ok (.aload_n 0, 1) := dk_42 (dk_at dksX0_laysBooking_4 19 rfl rfl)
theorem dX0_laysBooking_115 : decode cX0_laysBooking 115 = .ok (.getfield 65, 3) := dk_180 0 65 (dk_at dksX0_laysBooking_4 20 rfl rfl)
theorem dX0_laysBooking_118 : decode cX0_laysBooking 118 = .ok (.iload_n 3, 1) := dk_29 (dk_at dksX0_laysBooking_4 23 rfl rfl)
theorem dX0_laysBooking_119 : decode cX0_laysBooking 119 = .ok (.iaload, 1) := dk_46 (dk_at dksX0_laysBooking_5 0 rfl rfl)
theorem dX0_laysBooking_120 : decode cX0_laysBooking 120 = .ok (.iastore, 1) := dk_79 (dk_at dksX0_laysBooking_5 1 rfl rfl)
theorem dX0_laysBooking_121 : decode cX0_laysBooking 121 = .ok (.aload_n 0, 1) := dk_42 (dk_at dksX0_laysBooking_5 2 rfl rfl)
theorem dX0_laysBooking_122 : decode cX0_laysBooking 122 = .ok (.getfield 71, 3) := dk_180 0 71 (dk_at dksX0_laysBooking_5 3 rfl rfl)
theorem dX0_laysBooking_125 : decode cX0_laysBooking 125 = .ok (.iload 5, 2) := dk_21 5 (dk_at dksX0_laysBooking_5 6 rfl rfl)
theorem dX0_laysBooking_127 : decode cX0_laysBooking 127 = .ok (.iload 4, 2) := dk_21 4 (dk_at dksX0_laysBooking_5 8 rfl rfl)
theorem dX0_laysBooking_129 : decode cX0_laysBooking 129 = .ok (.i2b, 1) := dk_145 (dk_at dksX0_laysBooking_5 10 rfl rfl)
theorem dX0_laysBooking_130 : decode cX0_laysBooking 130 = .ok (.bastore, 1) := dk_84 (dk_at dksX0_laysBooking_5 11 rfl rfl)
theorem dX0_laysBooking_131 : decode cX0_laysBooking 131 = .ok (.aload_n 0, 1) := dk_42 (dk_at dksX0_laysBooking_5 12 rfl rfl)
theorem dX0_laysBooking_132 : decode cX0_laysBooking 132 = .ok (.getfield 65, 3) := dk_180 0 65 (dk_at dksX0_laysBooking_5 13 rfl rfl)
theorem dX0_laysBooking_135 : decode cX0_laysBooking 135 = .ok (.iload_n 2, 1) := dk_28 (dk_at dksX0_laysBooking_5 16 rfl rfl)
theorem dX0_laysBooking_136 : decode cX0_laysBooking 136 = .ok (.iload 5, 2) := dk_21 5 (dk_at dksX0_laysBooking_5 17 rfl rfl)
theorem dX0_laysBooking_138 : decode cX0_laysBooking 138 = .ok (.iastore, 1) := dk_79 (dk_at dksX0_laysBooking_5 19 rfl rfl)
theorem dX0_laysBooking_139 : decode cX0_laysBooking 139 = .ok (.iinc 2 1, 3) := dk_132 2 1 (dk_at dksX0_laysBooking_5 20 rfl rfl)
theorem dX0_laysBooking_142 : decode cX0_laysBooking 142 = .ok (.iinc 4 1, 3) := dk_132 4 1 (dk_at dksX0_laysBooking_6 0 rfl rfl)
theorem dX0_laysBooking_145 : decode cX0_laysBooking 145 = .ok (.goto (-72), 3) := dk_167 255 184 (dk_at dksX0_laysBooking_6 3 rfl rfl)
theorem dX0_laysBooking_148 : decode cX0_laysBooking 148 = .ok (.iinc 3 1, 3) := dk_132 3 1 (dk_at dksX0_laysBooking_6 6 rfl rfl)
theorem dX0_laysBooking_151 : decode cX0_laysBooking 151 = .ok (.goto (-96), 3) := dk_167 255 160 (dk_at dksX0_laysBooking_6 9 rfl rfl)
theorem dX0_laysBooking_154 : decode cX0_laysBooking 154 = .ok (.aload_n 0, 1) := dk_42 (dk_at dksX0_laysBooking_6 12 rfl rfl)
theorem dX0_laysBooking_155 : decode cX0_laysBooking 155 = .ok (.getfield 62, 3) := dk_180 0 62 (dk_at dksX0_laysBooking_6 13 rfl rfl)
theorem dX0_laysBooking_158 : decode cX0_laysBooking 158 = .ok (.iconst 0, 1) := dk_3 (dk_at dksX0_laysBooking_6 16 rfl rfl)
theorem dX0_laysBooking_159 : decode cX0_laysBooking 159 = .ok (.iaload, 1) := dk_46 (dk_at dksX0_laysBooking_6 17 rfl rfl)
theorem dX0_laysBooking_160 : decode cX0_laysBooking 160 = .ok (.iconst (-1), 1) := dk_2 (dk_at dksX0_laysBooking_6 18 rfl rfl)
theorem dX0_laysBooking_161 : decode cX0_laysBooking 161 = .ok (.if_icmp .ne 5, 3) := dk_160 0 5 (dk_at dksX0_laysBooking_6 19 rfl rfl)
theorem dX0_laysBooking_164 : decode cX0_laysBooking 164 = .ok (.iconst (-1), 1) := dk_2 (dk_at dksX0_laysBooking_6 22 rfl rfl)
theorem dX0_laysBooking_165 : decode cX0_laysBooking 165 = .ok (.ireturn, 1) := dk_172 (dk_at dksX0_laysBooking_6 23 rfl rfl)
theorem dX0_laysBooking_166 : decode cX0_laysBooking 166 = .ok (.iconst 0, 1) := dk_3 (dk_at dksX0_laysBooking_7 0 rfl rfl)
theorem dX0_laysBooking_167 : decode cX0_laysBooking 167 = .ok (.istore_n 3, 1) := dk_62 (dk_at dksX0_laysBooking_7 1 rfl rfl)
theorem dX0_laysBooking_168 : decode cX0_laysBooking 168 = .ok (.iconst 0, 1) := dk_3 (dk_at dksX0_laysBooking_7 2 rfl rfl)
theorem dX0_laysBooking_169 : decode cX0_laysBooking 169 = .ok (.istore 4, 2) := dk_54 4 (dk_at dksX0_laysBooking_7 3 rfl rfl)
theorem dX0_laysBooking_171 : decode cX0_laysBooking 171 = .ok (.iload 4, 2) := dk_21 4 (dk_at dksX0_laysBooking_7 5 rfl rfl)
theorem dX0_laysBooking_173 : decode cX0_laysBooking 173 = .ok (.iload_n 1, 1) := dk_27 (dk_at dksX0_laysBooking_7 7 rfl rfl)
theorem dX0_laysBooking_174 : decode cX0_laysBooking 174 = .ok (.if_icmp .eq 18, 3) := dk_159 0 18 (dk_at dksX0_laysBooking_7 8 rfl rfl)
theorem dX0_laysBooking_177 : decode cX0_laysBooking 177 = .ok (.iinc 3 1, 3) := dk_132 3 1 (dk_at dksX0_laysBooking_7 11 rfl rfl)
theorem dX0_laysBooking_180 : decode cX0_laysBooking 180 = .ok (.aload_n 0, 1) := dk_42 (dk_at dksX0_laysBooking_7 14 rfl rfl)
theorem dX0_laysBooking_181 : decode cX0_laysBooking 181 = .ok (.getfield 62, 3) := dk_180 0 62 (dk_at dksX0_laysBooking_7 15 rfl rfl)
theorem dX0_laysBooking_184 : decode cX0_laysBooking 184 = .ok (.iload 4, 2) := dk_21 4 (dk_at dksX0_laysBooking_7 18 rfl rfl)
theorem dX0_laysBooking_186 : decode cX0_laysBooking 186 = .ok (.iaload, 1) := dk_46 (dk_at dksX0_laysBooking_7 20 rfl rfl)
theorem dX0_laysBooking_187 : decode cX0_laysBooking 187 = .ok (.istore 4, 2) := dk_54 4 (dk_at dksX0_laysBooking_7 21 rfl rfl)
theorem dX0_laysBooking_189 : decode cX0_laysBooking 189 = .ok (.goto (-18), 3) := dk_167 255 238 (dk_at dksX0_laysBooking_8 0 rfl rfl)
theorem dX0_laysBooking_192 : decode cX0_laysBooking 192 = .ok (.iload_n 3, 1) := dk_29 (dk_at dksX0_laysBooking_8 3 rfl rfl)
theorem dX0_laysBooking_193 : decode cX0_laysBooking 193 = .ok (.istore 4, 2) := dk_54 4 (dk_at dksX0_laysBooking_8 4 rfl rfl)
theorem dX0_laysBooking_195 : decode cX0_laysBooking 195 = .ok (.iconst 0, 1) := dk_3 (dk_at dksX0_laysBooking_8 6 rfl rfl)
theorem dX0_laysBooking_196 : decode cX0_laysBooking 196 = .ok (.istore 5, 2) := dk_54 5 (dk_at dksX0_laysBooking_8 7 rfl rfl)
theorem dX0_laysBooking_198 : decode cX0_laysBooking 198 = .ok (.iload 5, 2) := dk_21 5 (dk_at dksX0_laysBooking_8 9 rfl rfl)
theorem dX0_laysBooking_200 : decode cX0_laysBooking 200 = .ok (.iload_n 1, 1) := dk_27 (dk_at dksX0_laysBooking_8 11 rfl rfl)
theorem dX0_laysBooking_201 : decode cX0_laysBooking 201 = .ok (.if_icmp .eq 32, 3) := dk_159 0 32 (dk_at dksX0_laysBooking_8 12 rfl rfl)
theorem dX0_laysBooking_204 : decode cX0_laysBooking 204 = .ok (.iinc 4 (-1), 3) := dk_132 4 255 (dk_at dksX0_laysBooking_8 15 rfl rfl)
theorem dX0_laysBooking_207 : decode cX0_laysBooking 207 = .ok (.aload_n 0, 1) := dk_42 (dk_at dksX0_laysBooking_8 18 rfl rfl)
theorem dX0_laysBooking_208 : decode cX0_laysBooking 208 = .ok (.getfield 68, 3) := dk_180 0 68 (dk_at dksX0_laysBooking_8 19 rfl rfl)
theorem dX0_laysBooking_211 : decode cX0_laysBooking 211 = .ok (.iload 4, 2) := dk_21 4 (dk_at dksX0_laysBooking_8 22 rfl rfl)
theorem dX0_laysBooking_213 : decode cX0_laysBooking 213 = .ok (.aload_n 0, 1) := dk_42 (dk_at dksX0_laysBooking_9 0 rfl rfl)
theorem dX0_laysBooking_214 : decode cX0_laysBooking 214 = .ok (.getfield 71, 3) := dk_180 0 71 (dk_at dksX0_laysBooking_9 1 rfl rfl)
theorem dX0_laysBooking_217 : decode cX0_laysBooking 217 = .ok (.iload 5, 2) := dk_21 5 (dk_at dksX0_laysBooking_9 4 rfl rfl)
theorem dX0_laysBooking_219 : decode cX0_laysBooking 219 = .ok (.baload, 1) := dk_51 (dk_at dksX0_laysBooking_9 6 rfl rfl)
theorem dX0_laysBooking_220 : decode cX0_laysBooking 220 = .ok (.iastore, 1) := dk_79 (dk_at dksX0_laysBooking_9 7 rfl rfl)
theorem dX0_laysBooking_221 : decode cX0_laysBooking 221 = .ok (.aload_n 0, 1) := dk_42 (dk_at dksX0_laysBooking_9 8 rfl rfl)
theorem dX0_laysBooking_222 : decode cX0_laysBooking 222 = .ok (.getfield 62, 3) := dk_180 0 62 (dk_at dksX0_laysBooking_9 9 rfl rfl)
theorem dX0_laysBooking_225 : decode cX0_laysBooking 225 = .ok (.iload 5, 2) := dk_21 5 (dk_at dksX0_laysBooking_9 12 rfl rfl)
theorem dX0_laysBooking_227 : decode cX0_laysBooking 227 = .ok (.iaload, 1) := dk_46 (dk_at dksX0_laysBooking_9 14 rfl rfl)
theorem dX0_laysBooking_228 : decode cX0_laysBooking 228 = .ok (.istore 5, 2) := dk_54 5 (dk_at dksX0_laysBooking_9 15 rfl rfl)
theorem dX0_laysBooking_230 : decode cX0_laysBooking 230 = .ok (.goto (-32), 3) := dk_167 255 224 (dk_at dksX0_laysBooking_9 17 rfl rfl)
theorem dX0_laysBooking_233 : decode cX0_laysBooking 233 = .ok (.iload_n 3, 1) := dk_29 (dk_at dksX0_laysBooking_9 20 rfl rfl)
theorem dX0_laysBooking_234 : decode cX0_laysBooking 234 = .ok (.ireturn, 1) := dk_172 (dk_at dksX0_laysBooking_9 21 rfl rfl)
abbrev cX0_satIn : ByteArray := prog_1_method_61_code
def yX0_satIn : MethodName := ⟨RX0, "satIn", "(II)I"⟩
def dkwX0_satIn_1 : List UInt8 := [184, 1, 52, 54, 5, 21, 4, 29, 160, 0, 8, 21, 5, 167, 0, 10, 21, 5, 21, 4, 184, 1, 52, 172]
abbrev dktX0_satIn_1 : List UInt8 := dkwX0_satIn_1 ++ []
def dkwX0_satIn_0 : List UInt8 := [42, 180, 0, 33, 180, 0, 102, 28, 46, 62, 42, 180, 0, 33, 180, 0, 102, 29, 46, 54, 4, 27, 29]
abbrev dktX0_satIn_0 : List UInt8 := dkwX0_satIn_0 ++ dktX0_satIn_1
theorem dksX0_satIn_0 : cX0_satIn.data.toList.drop 0 = dktX0_satIn_0 := by decide +kernel
theorem dksX0_satIn_1 : cX0_satIn.data.toList.drop 23 = dktX0_satIn_1 := dk_seg dksX0_satIn_0 23 rfl rfl
theorem dX0_satIn_0 : decode cX0_satIn 0 = .ok (.aload_n 0, 1) := dk_42 (dk_at dksX0_satIn_0 0 rfl rfl)
theorem dX0_satIn_1 : decode cX0_satIn 1 = .ok (.getfield 33, 3) := dk_180 0 33 (dk_at dksX0_satIn_0 1 rfl rfl)
theorem dX0_satIn_4 : decode cX0_satIn 4 = .ok (.getfield 102, 3) := dk_180 0 102 (dk_at dksX0_satIn_0 4 rfl rfl)
theorem dX0_satIn_7 : decode cX0_satIn 7 = .ok (.iload_n 2, 1) := dk_28 (dk_at dksX0_satIn_0 7 rfl rfl)
theorem dX0_satIn_8 : decode cX0_satIn 8 = .ok (.iaload, 1) := dk_46 (dk_at dksX0_satIn_0 8 rfl rfl)
theorem dX0_satIn_9 : decode cX0_satIn 9 = .ok (.istore_n 3, 1) := dk_62 (dk_at dksX0_satIn_0 9 rfl rfl)
theorem dX0_satIn_10 : decode cX0_satIn 10 = .ok (.aload_n 0, 1) := dk_42 (dk_at dksX0_satIn_0 10 rfl rfl)
theorem dX0_satIn_11 : decode cX0_satIn 11 = .ok (.getfield 33, 3) := dk_180 0 33 (dk_at dksX0_satIn_0 11 rfl rfl)
theorem dX0_satIn_14 : decode cX0_satIn 14 = .ok (.getfield 102, 3) := dk_180 0 102 (dk_at dksX0_satIn_0 14 rfl rfl)
theorem dX0_satIn_17 : decode cX0_satIn 17 = .ok (.iload_n 3, 1) := dk_29 (dk_at dksX0_satIn_0 17 rfl rfl)
theorem dX0_satIn_18 : decode cX0_satIn 18 = .ok (.iaload, 1) := dk_46 (dk_at dksX0_satIn_0 18 rfl rfl)
theorem dX0_satIn_19 : decode cX0_satIn 19 = .ok (.istore 4, 2) := dk_54 4 (dk_at dksX0_satIn_0 19 rfl rfl)
theorem dX0_satIn_21 : decode cX0_satIn 21 = .ok (.iload_n 1, 1) := dk_27 (dk_at dksX0_satIn_0 21 rfl rfl)
theorem dX0_satIn_22 : decode cX0_satIn 22 = .ok (.iload_n 3, 1) := dk_29 (dk_at dksX0_satIn_0 22 rfl rfl)
theorem dX0_satIn_23 : decode cX0_satIn 23 = .ok (.invokestatic 308, 3) := dk_184 1 52 (dk_at dksX0_satIn_1 0 rfl rfl)
theorem dX0_satIn_26 : decode cX0_satIn 26 = .ok (.istore 5, 2) := dk_54 5 (dk_at dksX0_satIn_1 3 rfl rfl)
theorem dX0_satIn_28 : decode cX0_satIn 28 = .ok (.iload 4, 2) := dk_21 4 (dk_at dksX0_satIn_1 5 rfl rfl)
theorem dX0_satIn_30 : decode cX0_satIn 30 = .ok (.iload_n 3, 1) := dk_29 (dk_at dksX0_satIn_1 7 rfl rfl)
theorem dX0_satIn_31 : decode cX0_satIn 31 = .ok (.if_icmp .ne 8, 3) := dk_160 0 8 (dk_at dksX0_satIn_1 8 rfl rfl)
theorem dX0_satIn_34 : decode cX0_satIn 34 = .ok (.iload 5, 2) := dk_21 5 (dk_at dksX0_satIn_1 11 rfl rfl)
theorem dX0_satIn_36 : decode cX0_satIn 36 = .ok (.goto 10, 3) := dk_167 0 10 (dk_at dksX0_satIn_1 13 rfl rfl)
theorem dX0_satIn_39 : decode cX0_satIn 39 = .ok (.iload 5, 2) := dk_21 5 (dk_at dksX0_satIn_1 16 rfl rfl)
theorem dX0_satIn_41 : decode cX0_satIn 41 = .ok (.iload 4, 2) := dk_21 4 (dk_at dksX0_satIn_1 18 rfl rfl)
theorem dX0_satIn_43 : decode cX0_satIn 43 = .ok (.invokestatic 308, 3) := dk_184 1 52 (dk_at dksX0_satIn_1 20 rfl rfl)
theorem dX0_satIn_46 : decode cX0_satIn 46 = .ok (.ireturn, 1) := dk_172 (dk_at dksX0_satIn_1 23 rfl rfl)
abbrev cX0_lessened : ByteArray := prog_1_method_60_code
def yX0_lessened : MethodName := ⟨RX0, "lessened", "(II)I"⟩
def dkwX0_lessened_0 : List UInt8 := [4, 5, 27, 104, 120, 61, 26, 28, 108, 7, 112, 154, 0, 7, 26, 167, 0, 6, 26, 28, 100, 172]
abbrev dktX0_lessened_0 : List UInt8 := dkwX0_lessened_0 ++ []
theorem dksX0_lessened_0 : cX0_lessened.data.toList.drop 0 = dktX0_lessened_0 := by decide +kernel
theorem dX0_lessened_0 : decode cX0_lessened 0 = .ok (.iconst 1, 1) := dk_4 (dk_at dksX0_lessened_0 0 rfl rfl)
theorem dX0_lessened_1 : decode cX0_lessened 1 = .ok (.iconst 2, 1) := dk_5 (dk_at dksX0_lessened_0 1 rfl rfl)
theorem dX0_lessened_2 : decode cX0_lessened 2 = .ok (.iload_n 1, 1) := dk_27 (dk_at dksX0_lessened_0 2 rfl rfl)
theorem dX0_lessened_3 : decode cX0_lessened 3 = .ok (.imul, 1) := dk_104 (dk_at dksX0_lessened_0 3 rfl rfl)
theorem dX0_lessened_4 : decode cX0_lessened 4 = .ok (.ishl, 1) := dk_120 (dk_at dksX0_lessened_0 4 rfl rfl)
theorem dX0_lessened_5 : decode cX0_lessened 5 = .ok (.istore_n 2, 1) := dk_61 (dk_at dksX0_lessened_0 5 rfl rfl)
theorem dX0_lessened_6 : decode cX0_lessened 6 = .ok (.iload_n 0, 1) := dk_26 (dk_at dksX0_lessened_0 6 rfl rfl)
theorem dX0_lessened_7 : decode cX0_lessened 7 = .ok (.iload_n 2, 1) := dk_28 (dk_at dksX0_lessened_0 7 rfl rfl)
theorem dX0_lessened_8 : decode cX0_lessened 8 = .ok (.idiv, 1) := dk_108 (dk_at dksX0_lessened_0 8 rfl rfl)
theorem dX0_lessened_9 : decode cX0_lessened 9 = .ok (.iconst 4, 1) := dk_7 (dk_at dksX0_lessened_0 9 rfl rfl)
theorem dX0_lessened_10 : decode cX0_lessened 10 = .ok (.irem, 1) := dk_112 (dk_at dksX0_lessened_0 10 rfl rfl)
theorem dX0_lessened_11 : decode cX0_lessened 11 = .ok (.ifCond .ne 7, 3) := dk_154 0 7 (dk_at dksX0_lessened_0 11 rfl rfl)
theorem dX0_lessened_14 : decode cX0_lessened 14 = .ok (.iload_n 0, 1) := dk_26 (dk_at dksX0_lessened_0 14 rfl rfl)
theorem dX0_lessened_15 : decode cX0_lessened 15 = .ok (.goto 6, 3) := dk_167 0 6 (dk_at dksX0_lessened_0 15 rfl rfl)
theorem dX0_lessened_18 : decode cX0_lessened 18 = .ok (.iload_n 0, 1) := dk_26 (dk_at dksX0_lessened_0 18 rfl rfl)
theorem dX0_lessened_19 : decode cX0_lessened 19 = .ok (.iload_n 2, 1) := dk_28 (dk_at dksX0_lessened_0 19 rfl rfl)
theorem dX0_lessened_20 : decode cX0_lessened 20 = .ok (.isub, 1) := dk_100 (dk_at dksX0_lessened_0 20 rfl rfl)
theorem dX0_lessened_21 : decode cX0_lessened 21 = .ok (.ireturn, 1) := dk_172 (dk_at dksX0_lessened_0 21 rfl rfl)
abbrev cX0_seen : ByteArray := prog_1_method_64_code
def yX0_seen : MethodName := ⟨RX0, "seen", "(II)I"⟩
def dkwX0_seen_3 : List UInt8 := [16, 254, 172]
abbrev dktX0_seen_3 : List UInt8 := dkwX0_seen_3 ++ []
def dkwX0_seen_2 : List UInt8 := [162, 0, 23, 42, 180, 0, 33, 42, 180, 0, 33, 180, 1, 70, 7, 27, 28, 182, 1, 73, 167, 0, 5]
abbrev dktX0_seen_2 : List UInt8 := dkwX0_seen_2 ++ dktX0_seen_3
def dkwX0_seen_1 : List UInt8 := [153, 0, 46, 28, 3, 29, 184, 0, 87, 153, 0, 37, 42, 180, 0, 33, 180, 0, 91, 7, 46, 16, 6]
abbrev dktX0_seen_1 : List UInt8 := dkwX0_seen_1 ++ dktX0_seen_2
def dkwX0_seen_0 : List UInt8 := [27, 2, 160, 0, 12, 42, 180, 0, 33, 7, 182, 1, 67, 172, 17, 0, 255, 62, 27, 4, 29, 184, 0, 87]
abbrev dktX0_seen_0 : List UInt8 := dkwX0_seen_0 ++ dktX0_seen_1
theorem dksX0_seen_0 : cX0_seen.data.toList.drop 0 = dktX0_seen_0 := by decide +kernel
theorem dksX0_seen_1 : cX0_seen.data.toList.drop 24 = dktX0_seen_1 := dk_seg dksX0_seen_0 24 rfl rfl
theorem dksX0_seen_2 : cX0_seen.data.toList.drop 47 = dktX0_seen_2 := dk_seg dksX0_seen_1 23 rfl rfl
theorem dksX0_seen_3 : cX0_seen.data.toList.drop 70 = dktX0_seen_3 := dk_seg dksX0_seen_2 23 rfl rfl
theorem dX0_seen_0 : decode cX0_seen 0 = .ok (.iload_n 1, 1) := dk_27 (dk_at dksX0_seen_0 0 rfl rfl)
theorem dX0_seen_1 : decode cX0_seen 1 = .ok (.iconst (-1), 1) := dk_2 (dk_at dksX0_seen_0 1 rfl rfl)
theorem dX0_seen_2 : decode cX0_seen 2 = .ok (.if_icmp .ne 12, 3) := dk_160 0 12 (dk_at dksX0_seen_0 2 rfl rfl)
theorem dX0_seen_5 : decode cX0_seen 5 = .ok (.aload_n 0, 1) := dk_42 (dk_at dksX0_seen_0 5 rfl rfl)
theorem dX0_seen_6 : decode cX0_seen 6 = .ok (.getfield 33, 3) := dk_180 0 33 (dk_at dksX0_seen_0 6 rfl rfl)
theorem dX0_seen_9 : decode cX0_seen 9 = .ok (.iconst 4, 1) := dk_7 (dk_at dksX0_seen_0 9 rfl rfl)
theorem dX0_seen_10 : decode cX0_seen 10 = .ok (.invokevirtual 323, 3) := dk_182 1 67 (dk_at dksX0_seen_0 10 rfl rfl)
theorem dX0_seen_13 : decode cX0_seen 13 = .ok (.ireturn, 1) := dk_172 (dk_at dksX0_seen_0 13 rfl rfl)
theorem dX0_seen_14 : decode cX0_seen 14 = .ok (.sipush 255, 3) := dk_17 0 255 (dk_at dksX0_seen_0 14 rfl rfl)
theorem dX0_seen_17 : decode cX0_seen 17 = .ok (.istore_n 3, 1) := dk_62 (dk_at dksX0_seen_0 17 rfl rfl)
theorem dX0_seen_18 : decode cX0_seen 18 = .ok (.iload_n 1, 1) := dk_27 (dk_at dksX0_seen_0 18 rfl rfl)
theorem dX0_seen_19 : decode cX0_seen 19 = .ok (.iconst 1, 1) := dk_4 (dk_at dksX0_seen_0 19 rfl rfl)
theorem dX0_seen_20 : decode cX0_seen 20 = .ok (.iload_n 3, 1) := dk_29 (dk_at dksX0_seen_0 20 rfl rfl)
theorem dX0_seen_21 : decode cX0_seen 21 = .ok (.invokestatic 87, 3) := dk_184 0 87 (dk_at dksX0_seen_0 21 rfl rfl)
theorem dX0_seen_24 : decode cX0_seen 24 = .ok (.ifCond .eq 46, 3) := dk_153 0 46 (dk_at dksX0_seen_1 0 rfl rfl)
theorem dX0_seen_27 : decode cX0_seen 27 = .ok (.iload_n 2, 1) := dk_28 (dk_at dksX0_seen_1 3 rfl rfl)
theorem dX0_seen_28 : decode cX0_seen 28 = .ok (.iconst 0, 1) := dk_3 (dk_at dksX0_seen_1 4 rfl rfl)
theorem dX0_seen_29 : decode cX0_seen 29 = .ok (.iload_n 3, 1) := dk_29 (dk_at dksX0_seen_1 5 rfl rfl)
theorem dX0_seen_30 : decode cX0_seen 30 = .ok (.invokestatic 87, 3) := dk_184 0 87 (dk_at dksX0_seen_1 6 rfl rfl)
theorem dX0_seen_33 : decode cX0_seen 33 = .ok (.ifCond .eq 37, 3) := dk_153 0 37 (dk_at dksX0_seen_1 9 rfl rfl)
theorem dX0_seen_36 : decode cX0_seen 36 = .ok (.aload_n 0, 1) := dk_42 (dk_at dksX0_seen_1 12 rfl rfl)
theorem dX0_seen_37 : decode cX0_seen 37 = .ok (.getfield 33, 3) := dk_180 0 33 (dk_at dksX0_seen_1 13 rfl rfl)
theorem dX0_seen_40 : decode cX0_seen 40 = .ok (.getfield 91, 3) := dk_180 0 91 (dk_at dksX0_seen_1 16 rfl rfl)
theorem dX0_seen_43 : decode cX0_seen 43 = .ok (.iconst 4, 1) := dk_7 (dk_at dksX0_seen_1 19 rfl rfl)
theorem dX0_seen_44 : decode cX0_seen 44 = .ok (.iaload, 1) := dk_46 (dk_at dksX0_seen_1 20 rfl rfl)
theorem dX0_seen_45 : decode cX0_seen 45 = .ok (.bipush 6, 2) := dk_16 6 (dk_at dksX0_seen_1 21 rfl rfl)
theorem dX0_seen_47 : decode cX0_seen 47 = .ok (.if_icmp .ge 23, 3) := dk_162 0 23 (dk_at dksX0_seen_2 0 rfl rfl)
theorem dX0_seen_50 : decode cX0_seen 50 = .ok (.aload_n 0, 1) := dk_42 (dk_at dksX0_seen_2 3 rfl rfl)
theorem dX0_seen_51 : decode cX0_seen 51 = .ok (.getfield 33, 3) := dk_180 0 33 (dk_at dksX0_seen_2 4 rfl rfl)
theorem dX0_seen_54 : decode cX0_seen 54 = .ok (.aload_n 0, 1) := dk_42 (dk_at dksX0_seen_2 7 rfl rfl)
theorem dX0_seen_55 : decode cX0_seen 55 = .ok (.getfield 33, 3) := dk_180 0 33 (dk_at dksX0_seen_2 8 rfl rfl)
theorem dX0_seen_58 : decode cX0_seen 58 = .ok (.getfield 326, 3) := dk_180 1 70 (dk_at dksX0_seen_2 11 rfl rfl)
theorem dX0_seen_61 : decode cX0_seen 61 = .ok (.iconst 4, 1) := dk_7 (dk_at dksX0_seen_2 14 rfl rfl)
theorem dX0_seen_62 : decode cX0_seen 62 = .ok (.iload_n 1, 1) := dk_27 (dk_at dksX0_seen_2 15 rfl rfl)
theorem dX0_seen_63 : decode cX0_seen 63 = .ok (.iload_n 2, 1) := dk_28 (dk_at dksX0_seen_2 16 rfl rfl)
theorem dX0_seen_64 : decode cX0_seen 64 = .ok (.invokevirtual 329, 3) := dk_182 1 73 (dk_at dksX0_seen_2 17 rfl rfl)
theorem dX0_seen_67 : decode cX0_seen 67 = .ok (.goto 5, 3) := dk_167 0 5 (dk_at dksX0_seen_2 20 rfl rfl)
theorem dX0_seen_70 : decode cX0_seen 70 = .ok (.bipush (-2), 2) := dk_16 254 (dk_at dksX0_seen_3 0 rfl rfl)
theorem dX0_seen_72 : decode cX0_seen 72 = .ok (.ireturn, 1) := dk_172 (dk_at dksX0_seen_3 2 rfl rfl)
abbrev cX0_fits : ByteArray := prog_1_method_68_code
def yX0_fits : MethodName := ⟨RX0, "fits", "(I)I"⟩
def dkwX0_fits_0 : List UInt8 := [27, 4, 8, 184, 0, 87, 154, 0, 5, 2, 172, 42, 27, 182, 1, 86, 42, 180, 1, 80, 172]
abbrev dktX0_fits_0 : List UInt8 := dkwX0_fits_0 ++ []
theorem dksX0_fits_0 : cX0_fits.data.toList.drop 0 = dktX0_fits_0 := by decide +kernel
theorem dX0_fits_0 : decode cX0_fits 0 = .ok (.iload_n 1, 1) := dk_27 (dk_at dksX0_fits_0 0 rfl rfl)
theorem dX0_fits_1 : decode cX0_fits 1 = .ok (.iconst 1, 1) := dk_4 (dk_at dksX0_fits_0 1 rfl rfl)
theorem dX0_fits_2 : decode cX0_fits 2 = .ok (.iconst 5, 1) := dk_8 (dk_at dksX0_fits_0 2 rfl rfl)
theorem dX0_fits_3 : decode cX0_fits 3 = .ok (.invokestatic 87, 3) := dk_184 0 87 (dk_at dksX0_fits_0 3 rfl rfl)
theorem dX0_fits_6 : decode cX0_fits 6 = .ok (.ifCond .ne 5, 3) := dk_154 0 5 (dk_at dksX0_fits_0 6 rfl rfl)
theorem dX0_fits_9 : decode cX0_fits 9 = .ok (.iconst (-1), 1) := dk_2 (dk_at dksX0_fits_0 9 rfl rfl)
theorem dX0_fits_10 : decode cX0_fits 10 = .ok (.ireturn, 1) := dk_172 (dk_at dksX0_fits_0 10 rfl rfl)
theorem dX0_fits_11 : decode cX0_fits 11 = .ok (.aload_n 0, 1) := dk_42 (dk_at dksX0_fits_0 11 rfl rfl)
theorem dX0_fits_12 : decode cX0_fits 12 = .ok (.iload_n 1, 1) := dk_27 (dk_at dksX0_fits_0 12 rfl rfl)
theorem dX0_fits_13 : decode cX0_fits 13 = .ok (.invokevirtual 342, 3) := dk_182 1 86 (dk_at dksX0_fits_0 13 rfl rfl)
theorem dX0_fits_16 : decode cX0_fits 16 = .ok (.aload_n 0, 1) := dk_42 (dk_at dksX0_fits_0 16 rfl rfl)
theorem dX0_fits_17 : decode cX0_fits 17 = .ok (.getfield 336, 3) := dk_180 1 80 (dk_at dksX0_fits_0 17 rfl rfl)
theorem dX0_fits_20 : decode cX0_fits 20 = .ok (.ireturn, 1) := dk_172 (dk_at dksX0_fits_0 20 rfl rfl)
abbrev cX0_laysFits : ByteArray := prog_1_method_67_code
def yX0_laysFits : MethodName := ⟨RX0, "laysFits", "(I)V"⟩
def dkwX0_laysFits_0 : List UInt8 := [42, 3, 181, 1, 80, 42, 180, 0, 74, 3, 184, 1, 55, 42, 3, 27, 182, 1, 83, 177]
abbrev dktX0_laysFits_0 : List UInt8 := dkwX0_laysFits_0 ++ []
theorem dksX0_laysFits_0 : cX0_laysFits.data.toList.drop 0 = dktX0_laysFits_0 := by decide +kernel
theorem dX0_laysFits_0 : decode cX0_laysFits 0 = .ok (.aload_n 0, 1) := dk_42 (dk_at dksX0_laysFits_0 0 rfl rfl)
theorem dX0_laysFits_1 : decode cX0_laysFits 1 = .ok (.iconst 0, 1) := dk_3 (dk_at dksX0_laysFits_0 1 rfl rfl)
theorem dX0_laysFits_2 : decode cX0_laysFits 2 = .ok (.putfield 336, 3) := dk_181 1 80 (dk_at dksX0_laysFits_0 2 rfl rfl)
theorem dX0_laysFits_5 : decode cX0_laysFits 5 = .ok (.aload_n 0, 1) := dk_42 (dk_at dksX0_laysFits_0 5 rfl rfl)
theorem dX0_laysFits_6 : decode cX0_laysFits 6 = .ok (.getfield 74, 3) := dk_180 0 74 (dk_at dksX0_laysFits_0 6 rfl rfl)
theorem dX0_laysFits_9 : decode cX0_laysFits 9 = .ok (.iconst 0, 1) := dk_3 (dk_at dksX0_laysFits_0 9 rfl rfl)
theorem dX0_laysFits_10 : decode cX0_laysFits 10 = .ok (.invokestatic 311, 3) := dk_184 1 55 (dk_at dksX0_laysFits_0 10 rfl rfl)
theorem dX0_laysFits_13 : decode cX0_laysFits 13 = .ok (.aload_n 0, 1) := dk_42 (dk_at dksX0_laysFits_0 13 rfl rfl)
theorem dX0_laysFits_14 : decode cX0_laysFits 14 = .ok (.iconst 0, 1) := dk_3 (dk_at dksX0_laysFits_0 14 rfl rfl)
theorem dX0_laysFits_15 : decode cX0_laysFits 15 = .ok (.iload_n 1, 1) := dk_27 (dk_at dksX0_laysFits_0 15 rfl rfl)
theorem dX0_laysFits_16 : decode cX0_laysFits 16 = .ok (.invokevirtual 339, 3) := dk_182 1 83 (dk_at dksX0_laysFits_0 16 rfl rfl)
theorem dX0_laysFits_19 : decode cX0_laysFits 19 = .ok (.return_, 1) := dk_177 (dk_at dksX0_laysFits_0 19 rfl rfl)
abbrev cX0_fitsFrom : ByteArray := prog_1_method_66_code
def yX0_fitsFrom : MethodName := ⟨RX0, "fitsFrom", "(II)V"⟩
def dkwX0_fitsFrom_3 : List UInt8 := [96, 28, 182, 1, 83, 132, 3, 1, 167, 255, 233, 177]
abbrev dktX0_fitsFrom_3 : List UInt8 := dkwX0_fitsFrom_3 ++ []
def dkwX0_fitsFrom_2 : List UInt8 := [132, 3, 1, 167, 255, 231, 177, 3, 62, 29, 28, 162, 0, 24, 42, 180, 0, 77, 27, 29, 79, 42, 27, 4]
abbrev dktX0_fitsFrom_2 : List UInt8 := dkwX0_fitsFrom_2 ++ dktX0_fitsFrom_3
def dkwX0_fitsFrom_1 : List UInt8 := [3, 62, 29, 28, 162, 0, 26, 42, 180, 0, 74, 29, 92, 46, 4, 42, 180, 0, 77, 29, 46, 120, 128, 79]
abbrev dktX0_fitsFrom_1 : List UInt8 := dkwX0_fitsFrom_1 ++ dktX0_fitsFrom_2
def dkwX0_fitsFrom_0 : List UInt8 := [27, 28, 160, 0, 53, 42, 28, 182, 1, 77, 154, 0, 4, 177, 42, 89, 180, 1, 80, 4, 96, 181, 1, 80]
abbrev dktX0_fitsFrom_0 : List UInt8 := dkwX0_fitsFrom_0 ++ dktX0_fitsFrom_1
theorem dksX0_fitsFrom_0 : cX0_fitsFrom.data.toList.drop 0 = dktX0_fitsFrom_0 := by decide +kernel
theorem dksX0_fitsFrom_1 : cX0_fitsFrom.data.toList.drop 24 = dktX0_fitsFrom_1 := dk_seg dksX0_fitsFrom_0 24 rfl rfl
theorem dksX0_fitsFrom_2 : cX0_fitsFrom.data.toList.drop 48 = dktX0_fitsFrom_2 := dk_seg dksX0_fitsFrom_1 24 rfl rfl
theorem dksX0_fitsFrom_3 : cX0_fitsFrom.data.toList.drop 72 = dktX0_fitsFrom_3 := dk_seg dksX0_fitsFrom_2 24 rfl rfl
theorem dX0_fitsFrom_0 : decode cX0_fitsFrom 0 = .ok (.iload_n 1, 1) := dk_27 (dk_at dksX0_fitsFrom_0 0 rfl rfl)
theorem dX0_fitsFrom_1 : decode cX0_fitsFrom 1 = .ok (.iload_n 2, 1) := dk_28 (dk_at dksX0_fitsFrom_0 1 rfl rfl)
theorem dX0_fitsFrom_2 : decode cX0_fitsFrom 2 = .ok (.if_icmp .ne 53, 3) := dk_160 0 53 (dk_at dksX0_fitsFrom_0 2 rfl rfl)
theorem dX0_fitsFrom_5 : decode cX0_fitsFrom 5 = .ok (.aload_n 0, 1) := dk_42 (dk_at dksX0_fitsFrom_0 5 rfl rfl)
theorem dX0_fitsFrom_6 : decode cX0_fitsFrom 6 = .ok (.iload_n 2, 1) := dk_28 (dk_at dksX0_fitsFrom_0 6 rfl rfl)
theorem dX0_fitsFrom_7 : decode cX0_fitsFrom 7 = .ok (.invokevirtual 333, 3) := dk_182 1 77 (dk_at dksX0_fitsFrom_0 7 rfl rfl)
theorem dX0_fitsFrom_10 : decode cX0_fitsFrom 10 = .ok (.ifCond .ne 4, 3) := dk_154 0 4 (dk_at dksX0_fitsFrom_0 10 rfl rfl)
theorem dX0_fitsFrom_13 : decode cX0_fitsFrom 13 = .ok (.return_, 1) := dk_177 (dk_at dksX0_fitsFrom_0 13 rfl rfl)
theorem dX0_fitsFrom_14 : decode cX0_fitsFrom 14 = .ok (.aload_n 0, 1) := dk_42 (dk_at dksX0_fitsFrom_0 14 rfl rfl)
theorem dX0_fitsFrom_15 : decode cX0_fitsFrom 15 = .ok (.dup, 1) := dk_89 (dk_at dksX0_fitsFrom_0 15 rfl rfl)
theorem dX0_fitsFrom_16 : decode cX0_fitsFrom 16 = .ok (.getfield 336, 3) := dk_180 1 80 (dk_at dksX0_fitsFrom_0 16 rfl rfl)
theorem dX0_fitsFrom_19 : decode cX0_fitsFrom 19 = .ok (.iconst 1, 1) := dk_4 (dk_at dksX0_fitsFrom_0 19 rfl rfl)
theorem dX0_fitsFrom_20 : decode cX0_fitsFrom 20 = .ok (.iadd, 1) := dk_96 (dk_at dksX0_fitsFrom_0 20 rfl rfl)
theorem dX0_fitsFrom_21 : decode cX0_fitsFrom 21 = .ok (.putfield 336, 3) := dk_181 1 80 (dk_at dksX0_fitsFrom_0 21 rfl rfl)
theorem dX0_fitsFrom_24 : decode cX0_fitsFrom 24 = .ok (.iconst 0, 1) := dk_3 (dk_at dksX0_fitsFrom_1 0 rfl rfl)
theorem dX0_fitsFrom_25 : decode cX0_fitsFrom 25 = .ok (.istore_n 3, 1) := dk_62 (dk_at dksX0_fitsFrom_1 1 rfl rfl)
theorem dX0_fitsFrom_26 : decode cX0_fitsFrom 26 = .ok (.iload_n 3, 1) := dk_29 (dk_at dksX0_fitsFrom_1 2 rfl rfl)
theorem dX0_fitsFrom_27 : decode cX0_fitsFrom 27 = .ok (.iload_n 2, 1) := dk_28 (dk_at dksX0_fitsFrom_1 3 rfl rfl)
theorem dX0_fitsFrom_28 : decode cX0_fitsFrom 28 = .ok (.if_icmp .ge 26, 3) := dk_162 0 26 (dk_at dksX0_fitsFrom_1 4 rfl rfl)
theorem dX0_fitsFrom_31 : decode cX0_fitsFrom 31 = .ok (.aload_n 0, 1) := dk_42 (dk_at dksX0_fitsFrom_1 7 rfl rfl)
theorem dX0_fitsFrom_32 : decode cX0_fitsFrom 32 = .ok (.getfield 74, 3) := dk_180 0 74 (dk_at dksX0_fitsFrom_1 8 rfl rfl)
theorem dX0_fitsFrom_35 : decode cX0_fitsFrom 35 = .ok (.iload_n 3, 1) := dk_29 (dk_at dksX0_fitsFrom_1 11 rfl rfl)
theorem dX0_fitsFrom_36 : decode cX0_fitsFrom 36 = .ok (.dup2, 1) := dk_92 (dk_at dksX0_fitsFrom_1 12 rfl rfl)
theorem dX0_fitsFrom_37 : decode cX0_fitsFrom 37 = .ok (.iaload, 1) := dk_46 (dk_at dksX0_fitsFrom_1 13 rfl rfl)
theorem dX0_fitsFrom_38 : decode cX0_fitsFrom 38 = .ok (.iconst 1, 1) := dk_4 (dk_at dksX0_fitsFrom_1 14 rfl rfl)
theorem dX0_fitsFrom_39 : decode cX0_fitsFrom 39 = .ok (.aload_n 0, 1) := dk_42 (dk_at dksX0_fitsFrom_1 15 rfl rfl)
theorem dX0_fitsFrom_40 : decode cX0_fitsFrom 40 = .ok (.getfield 77, 3) := dk_180 0 77 (dk_at dksX0_fitsFrom_1 16 rfl rfl)
theorem dX0_fitsFrom_43 : decode cX0_fitsFrom 43 = .ok (.iload_n 3, 1) := dk_29 (dk_at dksX0_fitsFrom_1 19 rfl rfl)
theorem dX0_fitsFrom_44 : decode cX0_fitsFrom 44 = .ok (.iaload, 1) := dk_46 (dk_at dksX0_fitsFrom_1 20 rfl rfl)
theorem dX0_fitsFrom_45 : decode cX0_fitsFrom 45 = .ok (.ishl, 1) := dk_120 (dk_at dksX0_fitsFrom_1 21 rfl rfl)
theorem dX0_fitsFrom_46 : decode cX0_fitsFrom 46 = .ok (.ior, 1) := dk_128 (dk_at dksX0_fitsFrom_1 22 rfl rfl)
theorem dX0_fitsFrom_47 : decode cX0_fitsFrom 47 = .ok (.iastore, 1) := dk_79 (dk_at dksX0_fitsFrom_1 23 rfl rfl)
theorem dX0_fitsFrom_48 : decode cX0_fitsFrom 48 = .ok (.iinc 3 1, 3) := dk_132 3 1 (dk_at dksX0_fitsFrom_2 0 rfl rfl)
theorem dX0_fitsFrom_51 : decode cX0_fitsFrom 51 = .ok (.goto (-25), 3) := dk_167 255 231 (dk_at dksX0_fitsFrom_2 3 rfl rfl)
theorem dX0_fitsFrom_54 : decode cX0_fitsFrom 54 = .ok (.return_, 1) := dk_177 (dk_at dksX0_fitsFrom_2 6 rfl rfl)
theorem dX0_fitsFrom_55 : decode cX0_fitsFrom 55 = .ok (.iconst 0, 1) := dk_3 (dk_at dksX0_fitsFrom_2 7 rfl rfl)
theorem dX0_fitsFrom_56 : decode cX0_fitsFrom 56 = .ok (.istore_n 3, 1) := dk_62 (dk_at dksX0_fitsFrom_2 8 rfl rfl)
theorem dX0_fitsFrom_57 : decode cX0_fitsFrom 57 = .ok (.iload_n 3, 1) := dk_29 (dk_at dksX0_fitsFrom_2 9 rfl rfl)
theorem dX0_fitsFrom_58 : decode cX0_fitsFrom 58 = .ok (.iload_n 2, 1) := dk_28 (dk_at dksX0_fitsFrom_2 10 rfl rfl)
theorem dX0_fitsFrom_59 : decode cX0_fitsFrom 59 = .ok (.if_icmp .ge 24, 3) := dk_162 0 24 (dk_at dksX0_fitsFrom_2 11 rfl rfl)
theorem dX0_fitsFrom_62 : decode cX0_fitsFrom 62 = .ok (.aload_n 0, 1) := dk_42 (dk_at dksX0_fitsFrom_2 14 rfl rfl)
theorem dX0_fitsFrom_63 : decode cX0_fitsFrom 63 = .ok (.getfield 77, 3) := dk_180 0 77 (dk_at dksX0_fitsFrom_2 15 rfl rfl)
theorem dX0_fitsFrom_66 : decode cX0_fitsFrom 66 = .ok (.iload_n 1, 1) := dk_27 (dk_at dksX0_fitsFrom_2 18 rfl rfl)
theorem dX0_fitsFrom_67 : decode cX0_fitsFrom 67 = .ok (.iload_n 3, 1) := dk_29 (dk_at dksX0_fitsFrom_2 19 rfl rfl)
theorem dX0_fitsFrom_68 : decode cX0_fitsFrom 68 = .ok (.iastore, 1) := dk_79 (dk_at dksX0_fitsFrom_2 20 rfl rfl)
theorem dX0_fitsFrom_69 : decode cX0_fitsFrom 69 = .ok (.aload_n 0, 1) := dk_42 (dk_at dksX0_fitsFrom_2 21 rfl rfl)
theorem dX0_fitsFrom_70 : decode cX0_fitsFrom 70 = .ok (.iload_n 1, 1) := dk_27 (dk_at dksX0_fitsFrom_2 22 rfl rfl)
theorem dX0_fitsFrom_71 : decode cX0_fitsFrom 71 = .ok (.iconst 1, 1) := dk_4 (dk_at dksX0_fitsFrom_2 23 rfl rfl)
theorem dX0_fitsFrom_72 : decode cX0_fitsFrom 72 = .ok (.iadd, 1) := dk_96 (dk_at dksX0_fitsFrom_3 0 rfl rfl)
theorem dX0_fitsFrom_73 : decode cX0_fitsFrom 73 = .ok (.iload_n 2, 1) := dk_28 (dk_at dksX0_fitsFrom_3 1 rfl rfl)
theorem dX0_fitsFrom_74 : decode cX0_fitsFrom 74 = .ok (.invokevirtual 339, 3) := dk_182 1 83 (dk_at dksX0_fitsFrom_3 2 rfl rfl)
theorem dX0_fitsFrom_77 : decode cX0_fitsFrom 77 = .ok (.iinc 3 1, 3) := dk_132 3 1 (dk_at dksX0_fitsFrom_3 5 rfl rfl)
theorem dX0_fitsFrom_80 : decode cX0_fitsFrom 80 = .ok (.goto (-23), 3) := dk_167 255 233 (dk_at dksX0_fitsFrom_3 8 rfl rfl)
theorem dX0_fitsFrom_83 : decode cX0_fitsFrom 83 = .ok (.return_, 1) := dk_177 (dk_at dksX0_fitsFrom_3 11 rfl rfl)
abbrev cX0_isSeen : ByteArray := prog_1_method_65_code
def yX0_isSeen : MethodName := ⟨RX0, "isSeen", "(I)Z"⟩
def dkwX0_isSeen_4 : List UInt8 := [167, 255, 165, 4, 172]
abbrev dktX0_isSeen_4 : List UInt8 := dkwX0_isSeen_4 ++ []
def dkwX0_isSeen_3 : List UInt8 := [167, 255, 218, 21, 4, 45, 4, 46, 160, 0, 11, 45, 3, 46, 27, 122, 153, 0, 5, 3, 172, 132, 2, 1]
abbrev dktX0_isSeen_3 : List UInt8 := dkwX0_isSeen_3 ++ dktX0_isSeen_4
def dkwX0_isSeen_2 : List UInt8 := [153, 0, 15, 4, 42, 180, 0, 77, 21, 5, 46, 120, 167, 0, 4, 3, 128, 54, 4, 132, 5, 1]
abbrev dktX0_isSeen_2 : List UInt8 := dkwX0_isSeen_2 ++ dktX0_isSeen_3
def dkwX0_isSeen_1 : List UInt8 := [78, 3, 54, 4, 3, 54, 5, 21, 5, 27, 162, 0, 38, 21, 4, 45, 3, 46, 21, 5, 184, 1, 8]
abbrev dktX0_isSeen_1 : List UInt8 := dkwX0_isSeen_1 ++ dktX0_isSeen_2
def dkwX0_isSeen_0 : List UInt8 := [3, 61, 28, 42, 180, 0, 33, 180, 0, 91, 7, 46, 162, 0, 84, 42, 180, 0, 33, 180, 1, 70, 28, 50]
abbrev dktX0_isSeen_0 : List UInt8 := dkwX0_isSeen_0 ++ dktX0_isSeen_1
theorem dksX0_isSeen_0 : cX0_isSeen.data.toList.drop 0 = dktX0_isSeen_0 := by decide +kernel
theorem dksX0_isSeen_1 : cX0_isSeen.data.toList.drop 24 = dktX0_isSeen_1 := dk_seg dksX0_isSeen_0 24 rfl rfl
theorem dksX0_isSeen_2 : cX0_isSeen.data.toList.drop 47 = dktX0_isSeen_2 := dk_seg dksX0_isSeen_1 23 rfl rfl
theorem dksX0_isSeen_3 : cX0_isSeen.data.toList.drop 69 = dktX0_isSeen_3 := dk_seg dksX0_isSeen_2 22 rfl rfl
theorem dksX0_isSeen_4 : cX0_isSeen.data.toList.drop 93 = dktX0_isSeen_4 := dk_seg dksX0_isSeen_3 24 rfl rfl
theorem dX0_isSeen_0 : decode cX0_isSeen 0 = .ok (.iconst 0, 1) := dk_3 (dk_at dksX0_isSeen_0 0 rfl rfl)
theorem dX0_isSeen_1 : decode cX0_isSeen 1 = .ok (.istore_n 2, 1) := dk_61 (dk_at dksX0_isSeen_0 1 rfl rfl)
theorem dX0_isSeen_2 : decode cX0_isSeen 2 = .ok (.iload_n 2, 1) := dk_28 (dk_at dksX0_isSeen_0 2 rfl rfl)
theorem dX0_isSeen_3 : decode cX0_isSeen 3 = .ok (.aload_n 0, 1) := dk_42 (dk_at dksX0_isSeen_0 3 rfl rfl)
theorem dX0_isSeen_4 : decode cX0_isSeen 4 = .ok (.getfield 33, 3) := dk_180 0 33 (dk_at dksX0_isSeen_0 4 rfl rfl)
theorem dX0_isSeen_7 : decode cX0_isSeen 7 = .ok (.getfield 91, 3) := dk_180 0 91 (dk_at dksX0_isSeen_0 7 rfl rfl)
theorem dX0_isSeen_10 : decode cX0_isSeen 10 = .ok (.iconst 4, 1) := dk_7 (dk_at dksX0_isSeen_0 10 rfl rfl)
theorem dX0_isSeen_11 : decode cX0_isSeen 11 = .ok (.iaload, 1) := dk_46 (dk_at dksX0_isSeen_0 11 rfl rfl)
theorem dX0_isSeen_12 : decode cX0_isSeen 12 = .ok (.if_icmp .ge 84, 3) := dk_162 0 84 (dk_at dksX0_isSeen_0 12 rfl rfl)
theorem dX0_isSeen_15 : decode cX0_isSeen 15 = .ok (.aload_n 0, 1) := dk_42 (dk_at dksX0_isSeen_0 15 rfl rfl)
theorem dX0_isSeen_16 : decode cX0_isSeen 16 = .ok (.getfield 33, 3) := dk_180 0 33 (dk_at dksX0_isSeen_0 16 rfl rfl)
theorem dX0_isSeen_19 : decode cX0_isSeen 19 = .ok (.getfield 326, 3) := dk_180 1 70 (dk_at dksX0_isSeen_0 19 rfl rfl)
theorem dX0_isSeen_22 : decode cX0_isSeen 22 = .ok (.iload_n 2, 1) := dk_28 (dk_at dksX0_isSeen_0 22 rfl rfl)
theorem dX0_isSeen_23 : decode cX0_isSeen 23 = .ok (.aaload, 1) := dk_50 (dk_at dksX0_isSeen_0 23 rfl rfl)
theorem dX0_isSeen_24 : decode cX0_isSeen 24 = .ok (.astore_n 3, 1) := dk_78 (dk_at dksX0_isSeen_1 0 rfl rfl)
theorem dX0_isSeen_25 : decode cX0_isSeen 25 = .ok (.iconst 0, 1) := dk_3 (dk_at dksX0_isSeen_1 1 rfl rfl)
theorem dX0_isSeen_26 : decode cX0_isSeen 26 = .ok (.istore 4, 2) := dk_54 4 (dk_at dksX0_isSeen_1 2 rfl rfl)
theorem dX0_isSeen_28 : decode cX0_isSeen 28 = .ok (.iconst 0, 1) := dk_3 (dk_at dksX0_isSeen_1 4 rfl rfl)
theorem dX0_isSeen_29 : decode cX0_isSeen 29 = .ok (.istore 5, 2) := dk_54 5 (dk_at dksX0_isSeen_1 5 rfl rfl)
theorem dX0_isSeen_31 : decode cX0_isSeen 31 = .ok (.iload 5, 2) := dk_21 5 (dk_at dksX0_isSeen_1 7 rfl rfl)
theorem dX0_isSeen_33 : decode cX0_isSeen 33 = .ok (.iload_n 1, 1) := dk_27 (dk_at dksX0_isSeen_1 9 rfl rfl)
theorem dX0_isSeen_34 : decode cX0_isSeen 34 = .ok (.if_icmp .ge 38, 3) := dk_162 0 38 (dk_at dksX0_isSeen_1 10 rfl rfl)
theorem dX0_isSeen_37 : decode cX0_isSeen 37 = .ok (.iload 4, 2) := dk_21 4 (dk_at dksX0_isSeen_1 13 rfl rfl)
theorem dX0_isSeen_39 : decode cX0_isSeen 39 = .ok (.aload_n 3, 1) := dk_45 (dk_at dksX0_isSeen_1 15 rfl rfl)
theorem dX0_isSeen_40 : decode cX0_isSeen 40 = .ok (.iconst 0, 1) := dk_3 (dk_at dksX0_isSeen_1 16 rfl rfl)
theorem dX0_isSeen_41 : decode cX0_isSeen 41 = .ok (.iaload, 1) := dk_46 (dk_at dksX0_isSeen_1 17 rfl rfl)
theorem dX0_isSeen_42 : decode cX0_isSeen 42 = .ok (.iload 5, 2) := dk_21 5 (dk_at dksX0_isSeen_1 18 rfl rfl)
theorem dX0_isSeen_44 : decode cX0_isSeen 44 = .ok (.invokestatic 264, 3) := dk_184 1 8 (dk_at dksX0_isSeen_1 20 rfl rfl)
theorem dX0_isSeen_47 : decode cX0_isSeen 47 = .ok (.ifCond .eq 15, 3) := dk_153 0 15 (dk_at dksX0_isSeen_2 0 rfl rfl)
theorem dX0_isSeen_50 : decode cX0_isSeen 50 = .ok (.iconst 1, 1) := dk_4 (dk_at dksX0_isSeen_2 3 rfl rfl)
theorem dX0_isSeen_51 : decode cX0_isSeen 51 = .ok (.aload_n 0, 1) := dk_42 (dk_at dksX0_isSeen_2 4 rfl rfl)
theorem dX0_isSeen_52 : decode cX0_isSeen 52 = .ok (.getfield 77, 3) := dk_180 0 77 (dk_at dksX0_isSeen_2 5 rfl rfl)
theorem dX0_isSeen_55 : decode cX0_isSeen 55 = .ok (.iload 5, 2) := dk_21 5 (dk_at dksX0_isSeen_2 8 rfl rfl)
theorem dX0_isSeen_57 : decode cX0_isSeen 57 = .ok (.iaload, 1) := dk_46 (dk_at dksX0_isSeen_2 10 rfl rfl)
theorem dX0_isSeen_58 : decode cX0_isSeen 58 = .ok (.ishl, 1) := dk_120 (dk_at dksX0_isSeen_2 11 rfl rfl)
theorem dX0_isSeen_59 : decode cX0_isSeen 59 = .ok (.goto 4, 3) := dk_167 0 4 (dk_at dksX0_isSeen_2 12 rfl rfl)
theorem dX0_isSeen_62 : decode cX0_isSeen 62 = .ok (.iconst 0, 1) := dk_3 (dk_at dksX0_isSeen_2 15 rfl rfl)
theorem dX0_isSeen_63 : decode cX0_isSeen 63 = .ok (.ior, 1) := dk_128 (dk_at dksX0_isSeen_2 16 rfl rfl)
theorem dX0_isSeen_64 : decode cX0_isSeen 64 = .ok (.istore 4, 2) := dk_54 4 (dk_at dksX0_isSeen_2 17 rfl rfl)
theorem dX0_isSeen_66 : decode cX0_isSeen 66 = .ok (.iinc 5 1, 3) := dk_132 5 1 (dk_at dksX0_isSeen_2 19 rfl rfl)
theorem dX0_isSeen_69 : decode cX0_isSeen 69 = .ok (.goto (-38), 3) := dk_167 255 218 (dk_at dksX0_isSeen_3 0 rfl rfl)
theorem dX0_isSeen_72 : decode cX0_isSeen 72 = .ok (.iload 4, 2) := dk_21 4 (dk_at dksX0_isSeen_3 3 rfl rfl)
theorem dX0_isSeen_74 : decode cX0_isSeen 74 = .ok (.aload_n 3, 1) := dk_45 (dk_at dksX0_isSeen_3 5 rfl rfl)
theorem dX0_isSeen_75 : decode cX0_isSeen 75 = .ok (.iconst 1, 1) := dk_4 (dk_at dksX0_isSeen_3 6 rfl rfl)
theorem dX0_isSeen_76 : decode cX0_isSeen 76 = .ok (.iaload, 1) := dk_46 (dk_at dksX0_isSeen_3 7 rfl rfl)
theorem dX0_isSeen_77 : decode cX0_isSeen 77 = .ok (.if_icmp .ne 11, 3) := dk_160 0 11 (dk_at dksX0_isSeen_3 8 rfl rfl)
theorem dX0_isSeen_80 : decode cX0_isSeen 80 = .ok (.aload_n 3, 1) := dk_45 (dk_at dksX0_isSeen_3 11 rfl rfl)
theorem dX0_isSeen_81 : decode cX0_isSeen 81 = .ok (.iconst 0, 1) := dk_3 (dk_at dksX0_isSeen_3 12 rfl rfl)
theorem dX0_isSeen_82 : decode cX0_isSeen 82 = .ok (.iaload, 1) := dk_46 (dk_at dksX0_isSeen_3 13 rfl rfl)
theorem dX0_isSeen_83 : decode cX0_isSeen 83 = .ok (.iload_n 1, 1) := dk_27 (dk_at dksX0_isSeen_3 14 rfl rfl)
theorem dX0_isSeen_84 : decode cX0_isSeen 84 = .ok (.ishr, 1) := dk_122 (dk_at dksX0_isSeen_3 15 rfl rfl)
theorem dX0_isSeen_85 : decode cX0_isSeen 85 = .ok (.ifCond .eq 5, 3) := dk_153 0 5 (dk_at dksX0_isSeen_3 16 rfl rfl)
theorem dX0_isSeen_88 : decode cX0_isSeen 88 = .ok (.iconst 0, 1) := dk_3 (dk_at dksX0_isSeen_3 19 rfl rfl)
theorem dX0_isSeen_89 : decode cX0_isSeen 89 = .ok (.ireturn, 1) := dk_172 (dk_at dksX0_isSeen_3 20 rfl rfl)
theorem dX0_isSeen_90 : decode cX0_isSeen 90 = .ok (.iinc 2 1, 3) := dk_132 2 1 (dk_at dksX0_isSeen_3 21 rfl rfl)
theorem dX0_isSeen_93 : decode cX0_isSeen 93 = .ok (.goto (-91), 3) := dk_167 255 165 (dk_at dksX0_isSeen_4 0 rfl rfl)
theorem dX0_isSeen_96 : decode cX0_isSeen 96 = .ok (.iconst 1, 1) := dk_4 (dk_at dksX0_isSeen_4 3 rfl rfl)
theorem dX0_isSeen_97 : decode cX0_isSeen 97 = .ok (.ireturn, 1) := dk_172 (dk_at dksX0_isSeen_4 4 rfl rfl)
abbrev cX0_whose : ByteArray := prog_1_method_69_code
def yX0_whose : MethodName := ⟨RX0, "whose", "(II)I"⟩
def dkwX0_whose_1 : List UInt8 := [182, 1, 86, 42, 180, 0, 74, 28, 46, 172]
abbrev dktX0_whose_1 : List UInt8 := dkwX0_whose_1 ++ []
def dkwX0_whose_0 : List UInt8 := [27, 4, 8, 184, 0, 87, 153, 0, 14, 28, 3, 27, 4, 100, 184, 0, 87, 154, 0, 5, 2, 172, 42, 27]
abbrev dktX0_whose_0 : List UInt8 := dkwX0_whose_0 ++ dktX0_whose_1
theorem dksX0_whose_0 : cX0_whose.data.toList.drop 0 = dktX0_whose_0 := by decide +kernel
theorem dksX0_whose_1 : cX0_whose.data.toList.drop 24 = dktX0_whose_1 := dk_seg dksX0_whose_0 24 rfl rfl
theorem dX0_whose_0 : decode cX0_whose 0 = .ok (.iload_n 1, 1) := dk_27 (dk_at dksX0_whose_0 0 rfl rfl)
theorem dX0_whose_1 : decode cX0_whose 1 = .ok (.iconst 1, 1) := dk_4 (dk_at dksX0_whose_0 1 rfl rfl)
theorem dX0_whose_2 : decode cX0_whose 2 = .ok (.iconst 5, 1) := dk_8 (dk_at dksX0_whose_0 2 rfl rfl)
theorem dX0_whose_3 : decode cX0_whose 3 = .ok (.invokestatic 87, 3) := dk_184 0 87 (dk_at dksX0_whose_0 3 rfl rfl)
theorem dX0_whose_6 : decode cX0_whose 6 = .ok (.ifCond .eq 14, 3) := dk_153 0 14 (dk_at dksX0_whose_0 6 rfl rfl)
theorem dX0_whose_9 : decode cX0_whose 9 = .ok (.iload_n 2, 1) := dk_28 (dk_at dksX0_whose_0 9 rfl rfl)
theorem dX0_whose_10 : decode cX0_whose 10 = .ok (.iconst 0, 1) := dk_3 (dk_at dksX0_whose_0 10 rfl rfl)
theorem dX0_whose_11 : decode cX0_whose 11 = .ok (.iload_n 1, 1) := dk_27 (dk_at dksX0_whose_0 11 rfl rfl)
theorem dX0_whose_12 : decode cX0_whose 12 = .ok (.iconst 1, 1) := dk_4 (dk_at dksX0_whose_0 12 rfl rfl)
theorem dX0_whose_13 : decode cX0_whose 13 = .ok (.isub, 1) := dk_100 (dk_at dksX0_whose_0 13 rfl rfl)
theorem dX0_whose_14 : decode cX0_whose 14 = .ok (.invokestatic 87, 3) := dk_184 0 87 (dk_at dksX0_whose_0 14 rfl rfl)
theorem dX0_whose_17 : decode cX0_whose 17 = .ok (.ifCond .ne 5, 3) := dk_154 0 5 (dk_at dksX0_whose_0 17 rfl rfl)
theorem dX0_whose_20 : decode cX0_whose 20 = .ok (.iconst (-1), 1) := dk_2 (dk_at dksX0_whose_0 20 rfl rfl)
theorem dX0_whose_21 : decode cX0_whose 21 = .ok (.ireturn, 1) := dk_172 (dk_at dksX0_whose_0 21 rfl rfl)
theorem dX0_whose_22 : decode cX0_whose 22 = .ok (.aload_n 0, 1) := dk_42 (dk_at dksX0_whose_0 22 rfl rfl)
theorem dX0_whose_23 : decode cX0_whose 23 = .ok (.iload_n 1, 1) := dk_27 (dk_at dksX0_whose_0 23 rfl rfl)
theorem dX0_whose_24 : decode cX0_whose 24 = .ok (.invokevirtual 342, 3) := dk_182 1 86 (dk_at dksX0_whose_1 0 rfl rfl)
theorem dX0_whose_27 : decode cX0_whose 27 = .ok (.aload_n 0, 1) := dk_42 (dk_at dksX0_whose_1 3 rfl rfl)
theorem dX0_whose_28 : decode cX0_whose 28 = .ok (.getfield 74, 3) := dk_180 0 74 (dk_at dksX0_whose_1 4 rfl rfl)
theorem dX0_whose_31 : decode cX0_whose 31 = .ok (.iload_n 2, 1) := dk_28 (dk_at dksX0_whose_1 7 rfl rfl)
theorem dX0_whose_32 : decode cX0_whose 32 = .ok (.iaload, 1) := dk_46 (dk_at dksX0_whose_1 8 rfl rfl)
theorem dX0_whose_33 : decode cX0_whose 33 = .ok (.ireturn, 1) := dk_172 (dk_at dksX0_whose_1 9 rfl rfl)
abbrev cX0_next : ByteArray := prog_1_method_70_code
def yX0_next : MethodName := ⟨RX0, "next", "(I)I"⟩
def dkwX0_next_3 : List UInt8 := [28, 172]
abbrev dktX0_next_3 : List UInt8 := dkwX0_next_3 ++ []
def dkwX0_next_2 : List UInt8 := [46, 184, 1, 21, 42, 180, 0, 74, 28, 46, 184, 1, 21, 164, 0, 5, 29, 61, 132, 3, 1, 167, 255, 218]
abbrev dktX0_next_2 : List UInt8 := dkwX0_next_2 ++ dktX0_next_3
def dkwX0_next_1 : List UInt8 := [167, 0, 4, 3, 61, 4, 62, 29, 27, 162, 0, 39, 42, 180, 1, 80, 158, 0, 32, 42, 180, 0, 74, 29]
abbrev dktX0_next_1 : List UInt8 := dkwX0_next_1 ++ dktX0_next_2
def dkwX0_next_0 : List UInt8 := [27, 4, 8, 184, 0, 87, 154, 0, 5, 2, 172, 42, 27, 182, 1, 86, 42, 180, 1, 80, 154, 0, 7, 2]
abbrev dktX0_next_0 : List UInt8 := dkwX0_next_0 ++ dktX0_next_1
theorem dksX0_next_0 : cX0_next.data.toList.drop 0 = dktX0_next_0 := by decide +kernel
theorem dksX0_next_1 : cX0_next.data.toList.drop 24 = dktX0_next_1 := dk_seg dksX0_next_0 24 rfl rfl
theorem dksX0_next_2 : cX0_next.data.toList.drop 48 = dktX0_next_2 := dk_seg dksX0_next_1 24 rfl rfl
theorem dksX0_next_3 : cX0_next.data.toList.drop 72 = dktX0_next_3 := dk_seg dksX0_next_2 24 rfl rfl
theorem dX0_next_0 : decode cX0_next 0 = .ok (.iload_n 1, 1) := dk_27 (dk_at dksX0_next_0 0 rfl rfl)
theorem dX0_next_1 : decode cX0_next 1 = .ok (.iconst 1, 1) := dk_4 (dk_at dksX0_next_0 1 rfl rfl)
theorem dX0_next_2 : decode cX0_next 2 = .ok (.iconst 5, 1) := dk_8 (dk_at dksX0_next_0 2 rfl rfl)
theorem dX0_next_3 : decode cX0_next 3 = .ok (.invokestatic 87, 3) := dk_184 0 87 (dk_at dksX0_next_0 3 rfl rfl)
theorem dX0_next_6 : decode cX0_next 6 = .ok (.ifCond .ne 5, 3) := dk_154 0 5 (dk_at dksX0_next_0 6 rfl rfl)
theorem dX0_next_9 : decode cX0_next 9 = .ok (.iconst (-1), 1) := dk_2 (dk_at dksX0_next_0 9 rfl rfl)
theorem dX0_next_10 : decode cX0_next 10 = .ok (.ireturn, 1) := dk_172 (dk_at dksX0_next_0 10 rfl rfl)
theorem dX0_next_11 : decode cX0_next 11 = .ok (.aload_n 0, 1) := dk_42 (dk_at dksX0_next_0 11 rfl rfl)
theorem dX0_next_12 : decode cX0_next 12 = .ok (.iload_n 1, 1) := dk_27 (dk_at dksX0_next_0 12 rfl rfl)
theorem dX0_next_13 : decode cX0_next 13 = .ok (.invokevirtual 342, 3) := dk_182 1 86 (dk_at dksX0_next_0 13 rfl rfl)
theorem dX0_next_16 : decode cX0_next 16 = .ok (.aload_n 0, 1) := dk_42 (dk_at dksX0_next_0 16 rfl rfl)
theorem dX0_next_17 : decode cX0_next 17 = .ok (.getfield 336, 3) := dk_180 1 80 (dk_at dksX0_next_0 17 rfl rfl)
theorem dX0_next_20 : decode cX0_next 20 = .ok (.ifCond .ne 7, 3) := dk_154 0 7 (dk_at dksX0_next_0 20 rfl rfl)
theorem dX0_next_23 : decode cX0_next 23 = .ok (.iconst (-1), 1) := dk_2 (dk_at dksX0_next_0 23 rfl rfl)
theorem dX0_next_24 : decode cX0_next 24 = .ok (.goto 4, 3) := dk_167 0 4 (dk_at dksX0_next_1 0 rfl rfl)
theorem dX0_next_27 : decode cX0_next 27 = .ok (.iconst 0, 1) := dk_3 (dk_at dksX0_next_1 3 rfl rfl)
theorem dX0_next_28 : decode cX0_next 28 = .ok (.istore_n 2, 1) := dk_61 (dk_at dksX0_next_1 4 rfl rfl)
theorem dX0_next_29 : decode cX0_next 29 = .ok (.iconst 1, 1) := dk_4 (dk_at dksX0_next_1 5 rfl rfl)
theorem dX0_next_30 : decode cX0_next 30 = .ok (.istore_n 3, 1) := dk_62 (dk_at dksX0_next_1 6 rfl rfl)
theorem dX0_next_31 : decode cX0_next 31 = .ok (.iload_n 3, 1) := dk_29 (dk_at dksX0_next_1 7 rfl rfl)
theorem dX0_next_32 : decode cX0_next 32 = .ok (.iload_n 1, 1) := dk_27 (dk_at dksX0_next_1 8 rfl rfl)
theorem dX0_next_33 : decode cX0_next 33 = .ok (.if_icmp .ge 39, 3) := dk_162 0 39 (dk_at dksX0_next_1 9 rfl rfl)
theorem dX0_next_36 : decode cX0_next 36 = .ok (.aload_n 0, 1) := dk_42 (dk_at dksX0_next_1 12 rfl rfl)
theorem dX0_next_37 : decode cX0_next 37 = .ok (.getfield 336, 3) := dk_180 1 80 (dk_at dksX0_next_1 13 rfl rfl)
theorem dX0_next_40 : decode cX0_next 40 = .ok (.ifCond .le 32, 3) := dk_158 0 32 (dk_at dksX0_next_1 16 rfl rfl)
theorem dX0_next_43 : decode cX0_next 43 = .ok (.aload_n 0, 1) := dk_42 (dk_at dksX0_next_1 19 rfl rfl)
theorem dX0_next_44 : decode cX0_next 44 = .ok (.getfield 74, 3) := dk_180 0 74 (dk_at dksX0_next_1 20 rfl rfl)
theorem dX0_next_47 : decode cX0_next 47 = .ok (.iload_n 3, 1) := dk_29 (dk_at dksX0_next_1 23 rfl rfl)
theorem dX0_next_48 : decode cX0_next 48 = .ok (.iaload, 1) := dk_46 (dk_at dksX0_next_2 0 rfl rfl)
theorem dX0_next_49 : decode cX0_next 49 = .ok (.invokestatic 277, 3) := dk_184 1 21 (dk_at dksX0_next_2 1 rfl rfl)
theorem dX0_next_52 : decode cX0_next 52 = .ok (.aload_n 0, 1) := dk_42 (dk_at dksX0_next_2 4 rfl rfl)
theorem dX0_next_53 : decode cX0_next 53 = .ok (.getfield 74, 3) := dk_180 0 74 (dk_at dksX0_next_2 5 rfl rfl)
theorem dX0_next_56 : decode cX0_next 56 = .ok (.iload_n 2, 1) := dk_28 (dk_at dksX0_next_2 8 rfl rfl)
theorem dX0_next_57 : decode cX0_next 57 = .ok (.iaload, 1) := dk_46 (dk_at dksX0_next_2 9 rfl rfl)
theorem dX0_next_58 : decode cX0_next 58 = .ok (.invokestatic 277, 3) := dk_184 1 21 (dk_at dksX0_next_2 10 rfl rfl)
theorem dX0_next_61 : decode cX0_next 61 = .ok (.if_icmp .le 5, 3) := dk_164 0 5 (dk_at dksX0_next_2 13 rfl rfl)
theorem dX0_next_64 : decode cX0_next 64 = .ok (.iload_n 3, 1) := dk_29 (dk_at dksX0_next_2 16 rfl rfl)
theorem dX0_next_65 : decode cX0_next 65 = .ok (.istore_n 2, 1) := dk_61 (dk_at dksX0_next_2 17 rfl rfl)
theorem dX0_next_66 : decode cX0_next 66 = .ok (.iinc 3 1, 3) := dk_132 3 1 (dk_at dksX0_next_2 18 rfl rfl)
theorem dX0_next_69 : decode cX0_next 69 = .ok (.goto (-38), 3) := dk_167 255 218 (dk_at dksX0_next_2 21 rfl rfl)
theorem dX0_next_72 : decode cX0_next 72 = .ok (.iload_n 2, 1) := dk_28 (dk_at dksX0_next_3 0 rfl rfl)
theorem dX0_next_73 : decode cX0_next 73 = .ok (.ireturn, 1) := dk_172 (dk_at dksX0_next_3 1 rfl rfl)
abbrev cX0_cut : ByteArray := prog_1_method_71_code
def yX0_cut : MethodName := ⟨RX0, "cut", "(III)Z"⟩
def dkwX0_cut_2 : List UInt8 := [180, 1, 89, 28, 50, 27, 29, 79, 4, 172]
abbrev dktX0_cut_2 : List UInt8 := dkwX0_cut_2 ++ []
def dkwX0_cut_1 : List UInt8 := [184, 0, 87, 154, 0, 5, 3, 172, 42, 180, 0, 33, 180, 1, 89, 27, 50, 28, 29, 79, 42, 180, 0, 33]
abbrev dktX0_cut_1 : List UInt8 := dkwX0_cut_1 ++ dktX0_cut_2
def dkwX0_cut_0 : List UInt8 := [27, 184, 0, 98, 153, 0, 25, 28, 184, 0, 98, 153, 0, 18, 27, 28, 159, 0, 13, 29, 3, 16, 99]
abbrev dktX0_cut_0 : List UInt8 := dkwX0_cut_0 ++ dktX0_cut_1
theorem dksX0_cut_0 : cX0_cut.data.toList.drop 0 = dktX0_cut_0 := by decide +kernel
theorem dksX0_cut_1 : cX0_cut.data.toList.drop 23 = dktX0_cut_1 := dk_seg dksX0_cut_0 23 rfl rfl
theorem dksX0_cut_2 : cX0_cut.data.toList.drop 47 = dktX0_cut_2 := dk_seg dksX0_cut_1 24 rfl rfl
theorem dX0_cut_0 : decode cX0_cut 0 = .ok (.iload_n 1, 1) := dk_27 (dk_at dksX0_cut_0 0 rfl rfl)
theorem dX0_cut_1 : decode cX0_cut 1 = .ok (.invokestatic 98, 3) := dk_184 0 98 (dk_at dksX0_cut_0 1 rfl rfl)
theorem dX0_cut_4 : decode cX0_cut 4 = .ok (.ifCond .eq 25, 3) := dk_153 0 25 (dk_at dksX0_cut_0 4 rfl rfl)
theorem dX0_cut_7 : decode cX0_cut 7 = .ok (.iload_n 2, 1) := dk_28 (dk_at dksX0_cut_0 7 rfl rfl)
theorem dX0_cut_8 : decode cX0_cut 8 = .ok (.invokestatic 98, 3) := dk_184 0 98 (dk_at dksX0_cut_0 8 rfl rfl)
theorem dX0_cut_11 : decode cX0_cut 11 = .ok (.ifCond .eq 18, 3) := dk_153 0 18 (dk_at dksX0_cut_0 11 rfl rfl)
theorem dX0_cut_14 : decode cX0_cut 14 = .ok (.iload_n 1, 1) := dk_27 (dk_at dksX0_cut_0 14 rfl rfl)
theorem dX0_cut_15 : decode cX0_cut 15 = .ok (.iload_n 2, 1) := dk_28 (dk_at dksX0_cut_0 15 rfl rfl)
theorem dX0_cut_16 : decode cX0_cut 16 = .ok (.if_icmp .eq 13, 3) := dk_159 0 13 (dk_at dksX0_cut_0 16 rfl rfl)
theorem dX0_cut_19 : decode cX0_cut 19 = .ok (.iload_n 3, 1) := dk_29 (dk_at dksX0_cut_0 19 rfl rfl)
theorem dX0_cut_20 : decode cX0_cut 20 = .ok (.iconst 0, 1) := dk_3 (dk_at dksX0_cut_0 20 rfl rfl)
theorem dX0_cut_21 : decode cX0_cut 21 = .ok (.bipush 99, 2) := dk_16 99 (dk_at dksX0_cut_0 21 rfl rfl)
theorem dX0_cut_23 : decode cX0_cut 23 = .ok (.invokestatic 87, 3) := dk_184 0 87 (dk_at dksX0_cut_1 0 rfl rfl)
theorem dX0_cut_26 : decode cX0_cut 26 = .ok (.ifCond .ne 5, 3) := dk_154 0 5 (dk_at dksX0_cut_1 3 rfl rfl)
theorem dX0_cut_29 : decode cX0_cut 29 = .ok (.iconst 0, 1) := dk_3 (dk_at dksX0_cut_1 6 rfl rfl)
theorem dX0_cut_30 : decode cX0_cut 30 = .ok (.ireturn, 1) := dk_172 (dk_at dksX0_cut_1 7 rfl rfl)
theorem dX0_cut_31 : decode cX0_cut 31 = .ok (.aload_n 0, 1) := dk_42 (dk_at dksX0_cut_1 8 rfl rfl)
theorem dX0_cut_32 : decode cX0_cut 32 = .ok (.getfield 33, 3) := dk_180 0 33 (dk_at dksX0_cut_1 9 rfl rfl)
theorem dX0_cut_35 : decode cX0_cut 35 = .ok (.getfield 345, 3) := dk_180 1 89 (dk_at dksX0_cut_1 12 rfl rfl)
theorem dX0_cut_38 : decode cX0_cut 38 = .ok (.iload_n 1, 1) := dk_27 (dk_at dksX0_cut_1 15 rfl rfl)
theorem dX0_cut_39 : decode cX0_cut 39 = .ok (.aaload, 1) := dk_50 (dk_at dksX0_cut_1 16 rfl rfl)
theorem dX0_cut_40 : decode cX0_cut 40 = .ok (.iload_n 2, 1) := dk_28 (dk_at dksX0_cut_1 17 rfl rfl)
theorem dX0_cut_41 : decode cX0_cut 41 = .ok (.iload_n 3, 1) := dk_29 (dk_at dksX0_cut_1 18 rfl rfl)
theorem dX0_cut_42 : decode cX0_cut 42 = .ok (.iastore, 1) := dk_79 (dk_at dksX0_cut_1 19 rfl rfl)
theorem dX0_cut_43 : decode cX0_cut 43 = .ok (.aload_n 0, 1) := dk_42 (dk_at dksX0_cut_1 20 rfl rfl)
theorem dX0_cut_44 : decode cX0_cut 44 = .ok (.getfield 33, 3) := dk_180 0 33 (dk_at dksX0_cut_1 21 rfl rfl)
theorem dX0_cut_47 : decode cX0_cut 47 = .ok (.getfield 345, 3) := dk_180 1 89 (dk_at dksX0_cut_2 0 rfl rfl)
theorem dX0_cut_50 : decode cX0_cut 50 = .ok (.iload_n 2, 1) := dk_28 (dk_at dksX0_cut_2 3 rfl rfl)
theorem dX0_cut_51 : decode cX0_cut 51 = .ok (.aaload, 1) := dk_50 (dk_at dksX0_cut_2 4 rfl rfl)
theorem dX0_cut_52 : decode cX0_cut 52 = .ok (.iload_n 1, 1) := dk_27 (dk_at dksX0_cut_2 5 rfl rfl)
theorem dX0_cut_53 : decode cX0_cut 53 = .ok (.iload_n 3, 1) := dk_29 (dk_at dksX0_cut_2 6 rfl rfl)
theorem dX0_cut_54 : decode cX0_cut 54 = .ok (.iastore, 1) := dk_79 (dk_at dksX0_cut_2 7 rfl rfl)
theorem dX0_cut_55 : decode cX0_cut 55 = .ok (.iconst 1, 1) := dk_4 (dk_at dksX0_cut_2 8 rfl rfl)
theorem dX0_cut_56 : decode cX0_cut 56 = .ok (.ireturn, 1) := dk_172 (dk_at dksX0_cut_2 9 rfl rfl)
abbrev cX0_pairs : ByteArray := prog_1_method_74_code
def yX0_pairs : MethodName := ⟨RX0, "pairs", "(II)I"⟩
def dkwX0_pairs_5 : List UInt8 := [4, 21, 4, 120, 2, 130, 4, 21, 5, 120, 2, 130, 126, 126, 62, 167, 255, 170]
abbrev dktX0_pairs_5 : List UInt8 := dkwX0_pairs_5 ++ []
def dkwX0_pairs_4 : List UInt8 := [159, 0, 9, 21, 5, 28, 160, 0, 17, 21, 4, 28, 160, 0, 8, 21, 5, 167, 0, 5, 21, 4, 172, 29]
abbrev dktX0_pairs_4 : List UInt8 := dkwX0_pairs_4 ++ dktX0_pairs_5
def dkwX0_pairs_3 : List UInt8 := [21, 5, 182, 1, 95, 42, 29, 182, 1, 99, 159, 0, 9, 132, 5, 1, 167, 255, 227, 21, 4, 28]
abbrev dktX0_pairs_3 : List UInt8 := dkwX0_pairs_3 ++ dktX0_pairs_4
def dkwX0_pairs_2 : List UInt8 := [184, 1, 92, 54, 4, 21, 4, 4, 96, 54, 5, 29, 21, 5, 184, 1, 8, 153, 0, 20, 42, 29, 21, 4]
abbrev dktX0_pairs_2 : List UInt8 := dkwX0_pairs_2 ++ dktX0_pairs_3
def dkwX0_pairs_1 : List UInt8 := [154, 0, 5, 2, 172, 4, 27, 120, 4, 100, 62, 28, 2, 160, 0, 9, 42, 29, 182, 1, 99, 172, 29]
abbrev dktX0_pairs_1 : List UInt8 := dkwX0_pairs_1 ++ dktX0_pairs_2
def dkwX0_pairs_0 : List UInt8 := [27, 5, 16, 8, 184, 0, 87, 153, 0, 20, 27, 5, 112, 154, 0, 14, 28, 2, 27, 4, 100, 184, 0, 87]
abbrev dktX0_pairs_0 : List UInt8 := dkwX0_pairs_0 ++ dktX0_pairs_1
theorem dksX0_pairs_0 : cX0_pairs.data.toList.drop 0 = dktX0_pairs_0 := by decide +kernel
theorem dksX0_pairs_1 : cX0_pairs.data.toList.drop 24 = dktX0_pairs_1 := dk_seg dksX0_pairs_0 24 rfl rfl
theorem dksX0_pairs_2 : cX0_pairs.data.toList.drop 47 = dktX0_pairs_2 := dk_seg dksX0_pairs_1 23 rfl rfl
theorem dksX0_pairs_3 : cX0_pairs.data.toList.drop 71 = dktX0_pairs_3 := dk_seg dksX0_pairs_2 24 rfl rfl
theorem dksX0_pairs_4 : cX0_pairs.data.toList.drop 93 = dktX0_pairs_4 := dk_seg dksX0_pairs_3 22 rfl rfl
theorem dksX0_pairs_5 : cX0_pairs.data.toList.drop 117 = dktX0_pairs_5 := dk_seg dksX0_pairs_4 24 rfl rfl
theorem dX0_pairs_0 : decode cX0_pairs 0 = .ok (.iload_n 1, 1) := dk_27 (dk_at dksX0_pairs_0 0 rfl rfl)
theorem dX0_pairs_1 : decode cX0_pairs 1 = .ok (.iconst 2, 1) := dk_5 (dk_at dksX0_pairs_0 1 rfl rfl)
theorem dX0_pairs_2 : decode cX0_pairs 2 = .ok (.bipush 8, 2) := dk_16 8 (dk_at dksX0_pairs_0 2 rfl rfl)
theorem dX0_pairs_4 : decode cX0_pairs 4 = .ok (.invokestatic 87, 3) := dk_184 0 87 (dk_at dksX0_pairs_0 4 rfl rfl)
theorem dX0_pairs_7 : decode cX0_pairs 7 = .ok (.ifCond .eq 20, 3) := dk_153 0 20 (dk_at dksX0_pairs_0 7 rfl rfl)
theorem dX0_pairs_10 : decode cX0_pairs 10 = .ok (.iload_n 1, 1) := dk_27 (dk_at dksX0_pairs_0 10 rfl rfl)
theorem dX0_pairs_11 : decode cX0_pairs 11 = .ok (.iconst 2, 1) := dk_5 (dk_at dksX0_pairs_0 11 rfl rfl)
theorem dX0_pairs_12 : decode cX0_pairs 12 = .ok (.irem, 1) := dk_112 (dk_at dksX0_pairs_0 12 rfl rfl)
theorem dX0_pairs_13 : decode cX0_pairs 13 = .ok (.ifCond .ne 14, 3) := dk_154 0 14 (dk_at dksX0_pairs_0 13 rfl rfl)
theorem dX0_pairs_16 : decode cX0_pairs 16 = .ok (.iload_n 2, 1) := dk_28 (dk_at dksX0_pairs_0 16 rfl rfl)
theorem dX0_pairs_17 : decode cX0_pairs 17 = .ok (.iconst (-1), 1) := dk_2 (dk_at dksX0_pairs_0 17 rfl rfl)
theorem dX0_pairs_18 : decode cX0_pairs 18 = .ok (.iload_n 1, 1) := dk_27 (dk_at dksX0_pairs_0 18 rfl rfl)
theorem dX0_pairs_19 : decode cX0_pairs 19 = .ok (.iconst 1, 1) := dk_4 (dk_at dksX0_pairs_0 19 rfl rfl)
theorem dX0_pairs_20 : decode cX0_pairs 20 = .ok (.isub, 1) := dk_100 (dk_at dksX0_pairs_0 20 rfl rfl)
theorem dX0_pairs_21 : decode cX0_pairs 21 = .ok (.invokestatic 87, 3) := dk_184 0 87 (dk_at dksX0_pairs_0 21 rfl rfl)
theorem dX0_pairs_24 : decode cX0_pairs 24 = .ok (.ifCond .ne 5, 3) := dk_154 0 5 (dk_at dksX0_pairs_1 0 rfl rfl)
theorem dX0_pairs_27 : decode cX0_pairs 27 = .ok (.iconst (-1), 1) := dk_2 (dk_at dksX0_pairs_1 3 rfl rfl)
theorem dX0_pairs_28 : decode cX0_pairs 28 = .ok (.ireturn, 1) := dk_172 (dk_at dksX0_pairs_1 4 rfl rfl)
theorem dX0_pairs_29 : decode cX0_pairs 29 = .ok (.iconst 1, 1) := dk_4 (dk_at dksX0_pairs_1 5 rfl rfl)
theorem dX0_pairs_30 : decode cX0_pairs 30 = .ok (.iload_n 1, 1) := dk_27 (dk_at dksX0_pairs_1 6 rfl rfl)
theorem dX0_pairs_31 : decode cX0_pairs 31 = .ok (.ishl, 1) := dk_120 (dk_at dksX0_pairs_1 7 rfl rfl)
theorem dX0_pairs_32 : decode cX0_pairs 32 = .ok (.iconst 1, 1) := dk_4 (dk_at dksX0_pairs_1 8 rfl rfl)
theorem dX0_pairs_33 : decode cX0_pairs 33 = .ok (.isub, 1) := dk_100 (dk_at dksX0_pairs_1 9 rfl rfl)
theorem dX0_pairs_34 : decode cX0_pairs 34 = .ok (.istore_n 3, 1) := dk_62 (dk_at dksX0_pairs_1 10 rfl rfl)
theorem dX0_pairs_35 : decode cX0_pairs 35 = .ok (.iload_n 2, 1) := dk_28 (dk_at dksX0_pairs_1 11 rfl rfl)
theorem dX0_pairs_36 : decode cX0_pairs 36 = .ok (.iconst (-1), 1) := dk_2 (dk_at dksX0_pairs_1 12 rfl rfl)
theorem dX0_pairs_37 : decode cX0_pairs 37 = .ok (.if_icmp .ne 9, 3) := dk_160 0 9 (dk_at dksX0_pairs_1 13 rfl rfl)
theorem dX0_pairs_40 : decode cX0_pairs 40 = .ok (.aload_n 0, 1) := dk_42 (dk_at dksX0_pairs_1 16 rfl rfl)
theorem dX0_pairs_41 : decode cX0_pairs 41 = .ok (.iload_n 3, 1) := dk_29 (dk_at dksX0_pairs_1 17 rfl rfl)
theorem dX0_pairs_42 : decode cX0_pairs 42 = .ok (.invokevirtual 355, 3) := dk_182 1 99 (dk_at dksX0_pairs_1 18 rfl rfl)
theorem dX0_pairs_45 : decode cX0_pairs 45 = .ok (.ireturn, 1) := dk_172 (dk_at dksX0_pairs_1 21 rfl rfl)
theorem dX0_pairs_46 : decode cX0_pairs 46 = .ok (.iload_n 3, 1) := dk_29 (dk_at dksX0_pairs_1 22 rfl rfl)
theorem dX0_pairs_47 : decode cX0_pairs 47 = .ok (.invokestatic 348, 3) := dk_184 1 92 (dk_at dksX0_pairs_2 0 rfl rfl)
theorem dX0_pairs_50 : decode cX0_pairs 50 = .ok (.istore 4, 2) := dk_54 4 (dk_at dksX0_pairs_2 3 rfl rfl)
theorem dX0_pairs_52 : decode cX0_pairs 52 = .ok (.iload 4, 2) := dk_21 4 (dk_at dksX0_pairs_2 5 rfl rfl)
theorem dX0_pairs_54 : decode cX0_pairs 54 = .ok (.iconst 1, 1) := dk_4 (dk_at dksX0_pairs_2 7 rfl rfl)
theorem dX0_pairs_55 : decode cX0_pairs 55 = .ok (.iadd, 1) := dk_96 (dk_at dksX0_pairs_2 8 rfl rfl)
theorem dX0_pairs_56 : decode cX0_pairs 56 = .ok (.istore 5, 2) := dk_54 5 (dk_at dksX0_pairs_2 9 rfl rfl)
theorem dX0_pairs_58 : decode cX0_pairs 58 = .ok (.iload_n 3, 1) := dk_29 (dk_at dksX0_pairs_2 11 rfl rfl)
theorem dX0_pairs_59 : decode cX0_pairs 59 = .ok (.iload 5, 2) := dk_21 5 (dk_at dksX0_pairs_2 12 rfl rfl)
theorem dX0_pairs_61 : decode cX0_pairs 61 = .ok (.invokestatic 264, 3) := dk_184 1 8 (dk_at dksX0_pairs_2 14 rfl rfl)
theorem dX0_pairs_64 : decode cX0_pairs 64 = .ok (.ifCond .eq 20, 3) := dk_153 0 20 (dk_at dksX0_pairs_2 17 rfl rfl)
theorem dX0_pairs_67 : decode cX0_pairs 67 = .ok (.aload_n 0, 1) := dk_42 (dk_at dksX0_pairs_2 20 rfl rfl)
theorem dX0_pairs_68 : decode cX0_pairs 68 = .ok (.iload_n 3, 1) := dk_29 (dk_at dksX0_pairs_2 21 rfl rfl)
theorem dX0_pairs_69 : decode cX0_pairs 69 = .ok (.iload 4, 2) := dk_21 4 (dk_at dksX0_pairs_2 22 rfl rfl)
theorem dX0_pairs_71 : decode cX0_pairs 71 = .ok (.iload 5, 2) := dk_21 5 (dk_at dksX0_pairs_3 0 rfl rfl)
theorem dX0_pairs_73 : decode cX0_pairs 73 = .ok (.invokevirtual 351, 3) := dk_182 1 95 (dk_at dksX0_pairs_3 2 rfl rfl)
theorem dX0_pairs_76 : decode cX0_pairs 76 = .ok (.aload_n 0, 1) := dk_42 (dk_at dksX0_pairs_3 5 rfl rfl)
theorem dX0_pairs_77 : decode cX0_pairs 77 = .ok (.iload_n 3, 1) := dk_29 (dk_at dksX0_pairs_3 6 rfl rfl)
theorem dX0_pairs_78 : decode cX0_pairs 78 = .ok (.invokevirtual 355, 3) := dk_182 1 99 (dk_at dksX0_pairs_3 7 rfl rfl)
theorem dX0_pairs_81 : decode cX0_pairs 81 = .ok (.if_icmp .eq 9, 3) := dk_159 0 9 (dk_at dksX0_pairs_3 10 rfl rfl)
theorem dX0_pairs_84 : decode cX0_pairs 84 = .ok (.iinc 5 1, 3) := dk_132 5 1 (dk_at dksX0_pairs_3 13 rfl rfl)
theorem dX0_pairs_87 : decode cX0_pairs 87 = .ok (.goto (-29), 3) := dk_167 255 227 (dk_at dksX0_pairs_3 16 rfl rfl)
theorem dX0_pairs_90 : decode cX0_pairs 90 = .ok (.iload 4, 2) := dk_21 4 (dk_at dksX0_pairs_3 19 rfl rfl)
theorem dX0_pairs_92 : decode cX0_pairs 92 = .ok (.iload_n 2, 1) := dk_28 (dk_at dksX0_pairs_3 21 rfl rfl)
theorem dX0_pairs_93 : decode cX0_pairs 93 = .ok (.if_icmp .eq 9, 3) := dk_159 0 9 (dk_at dksX0_pairs_4 0 rfl rfl)
theorem dX0_pairs_96 : decode cX0_pairs 96 = .ok (.iload 5, 2) := dk_21 5 (dk_at dksX0_pairs_4 3 rfl rfl)
theorem dX0_pairs_98 : decode cX0_pairs 98 = .ok (.iload_n 2, 1) := dk_28 (dk_at dksX0_pairs_4 5 rfl rfl)
theorem dX0_pairs_99 : decode cX0_pairs 99 = .ok (.if_icmp .ne 17, 3) := dk_160 0 17 (dk_at dksX0_pairs_4 6 rfl rfl)
theorem dX0_pairs_102 : decode cX0_pairs 102 = .ok (.iload 4, 2) := dk_21 4 (dk_at dksX0_pairs_4 9 rfl rfl)
theorem dX0_pairs_104 : decode cX0_pairs 104 = .ok (.iload_n 2, 1) := dk_28 (dk_at dksX0_pairs_4 11 rfl rfl)
theorem dX0_pairs_105 : decode cX0_pairs 105 = .ok (.if_icmp .ne 8, 3) := dk_160 0 8 (dk_at dksX0_pairs_4 12 rfl rfl)
theorem dX0_pairs_108 : decode cX0_pairs 108 = .ok (.iload 5, 2) := dk_21 5 (dk_at dksX0_pairs_4 15 rfl rfl)
theorem dX0_pairs_110 : decode cX0_pairs 110 = .ok (.goto 5, 3) := dk_167 0 5 (dk_at dksX0_pairs_4 17 rfl rfl)
theorem dX0_pairs_113 : decode cX0_pairs 113 = .ok (.iload 4, 2) := dk_21 4 (dk_at dksX0_pairs_4 20 rfl rfl)
theorem dX0_pairs_115 : decode cX0_pairs 115 = .ok (.ireturn, 1) := dk_172 (dk_at dksX0_pairs_4 22 rfl rfl)
theorem dX0_pairs_116 : decode cX0_pairs 116 = .ok (.iload_n 3, 1) := dk_29 (dk_at dksX0_pairs_4 23 rfl rfl)
theorem dX0_pairs_117 : decode cX0_pairs 117 = .ok (.iconst 1, 1) := dk_4 (dk_at dksX0_pairs_5 0 rfl rfl)
theorem dX0_pairs_118 : decode cX0_pairs 118 = .ok (.iload 4, 2) := dk_21 4 (dk_at dksX0_pairs_5 1 rfl rfl)
theorem dX0_pairs_120 : decode cX0_pairs 120 = .ok (.ishl, 1) := dk_120 (dk_at dksX0_pairs_5 3 rfl rfl)
theorem dX0_pairs_121 : decode cX0_pairs 121 = .ok (.iconst (-1), 1) := dk_2 (dk_at dksX0_pairs_5 4 rfl rfl)
theorem dX0_pairs_122 : decode cX0_pairs 122 = .ok (.ixor, 1) := dk_130 (dk_at dksX0_pairs_5 5 rfl rfl)
theorem dX0_pairs_123 : decode cX0_pairs 123 = .ok (.iconst 1, 1) := dk_4 (dk_at dksX0_pairs_5 6 rfl rfl)
theorem dX0_pairs_124 : decode cX0_pairs 124 = .ok (.iload 5, 2) := dk_21 5 (dk_at dksX0_pairs_5 7 rfl rfl)
theorem dX0_pairs_126 : decode cX0_pairs 126 = .ok (.ishl, 1) := dk_120 (dk_at dksX0_pairs_5 9 rfl rfl)
theorem dX0_pairs_127 : decode cX0_pairs 127 = .ok (.iconst (-1), 1) := dk_2 (dk_at dksX0_pairs_5 10 rfl rfl)
theorem dX0_pairs_128 : decode cX0_pairs 128 = .ok (.ixor, 1) := dk_130 (dk_at dksX0_pairs_5 11 rfl rfl)
theorem dX0_pairs_129 : decode cX0_pairs 129 = .ok (.iand, 1) := dk_126 (dk_at dksX0_pairs_5 12 rfl rfl)
theorem dX0_pairs_130 : decode cX0_pairs 130 = .ok (.iand, 1) := dk_126 (dk_at dksX0_pairs_5 13 rfl rfl)
theorem dX0_pairs_131 : decode cX0_pairs 131 = .ok (.istore_n 3, 1) := dk_62 (dk_at dksX0_pairs_5 14 rfl rfl)
theorem dX0_pairs_132 : decode cX0_pairs 132 = .ok (.goto (-86), 3) := dk_167 255 170 (dk_at dksX0_pairs_5 15 rfl rfl)
abbrev cX0_leastOf : ByteArray := prog_1_method_72_code
def yX0_leastOf : MethodName := ⟨RX0, "leastOf", "(I)I"⟩
def dkwX0_leastOf_2 : List UInt8 := [62, 132, 4, 1, 167, 255, 224, 29, 172]
abbrev dktX0_leastOf_2 : List UInt8 := dkwX0_leastOf_2 ++ []
def dkwX0_leastOf_1 : List UInt8 := [162, 0, 31, 27, 21, 4, 184, 1, 8, 153, 0, 16, 29, 42, 27, 28, 21, 4, 182, 1, 95, 184, 0, 167]
abbrev dktX0_leastOf_1 : List UInt8 := dkwX0_leastOf_1 ++ dktX0_leastOf_2
def dkwX0_leastOf_0 : List UInt8 := [27, 154, 0, 5, 3, 172, 27, 184, 1, 92, 61, 17, 39, 15, 62, 28, 4, 96, 54, 4, 21, 4, 16, 8]
abbrev dktX0_leastOf_0 : List UInt8 := dkwX0_leastOf_0 ++ dktX0_leastOf_1
theorem dksX0_leastOf_0 : cX0_leastOf.data.toList.drop 0 = dktX0_leastOf_0 := by decide +kernel
theorem dksX0_leastOf_1 : cX0_leastOf.data.toList.drop 24 = dktX0_leastOf_1 := dk_seg dksX0_leastOf_0 24 rfl rfl
theorem dksX0_leastOf_2 : cX0_leastOf.data.toList.drop 48 = dktX0_leastOf_2 := dk_seg dksX0_leastOf_1 24 rfl rfl
theorem dX0_leastOf_0 : decode cX0_leastOf 0 = .ok (.iload_n 1, 1) := dk_27 (dk_at dksX0_leastOf_0 0 rfl rfl)
theorem dX0_leastOf_1 : decode cX0_leastOf 1 = .ok (.ifCond .ne 5, 3) := dk_154 0 5 (dk_at dksX0_leastOf_0 1 rfl rfl)
theorem dX0_leastOf_4 : decode cX0_leastOf 4 = .ok (.iconst 0, 1) := dk_3 (dk_at dksX0_leastOf_0 4 rfl rfl)
theorem dX0_leastOf_5 : decode cX0_leastOf 5 = .ok (.ireturn, 1) := dk_172 (dk_at dksX0_leastOf_0 5 rfl rfl)
theorem dX0_leastOf_6 : decode cX0_leastOf 6 = .ok (.iload_n 1, 1) := dk_27 (dk_at dksX0_leastOf_0 6 rfl rfl)
theorem dX0_leastOf_7 : decode cX0_leastOf 7 = .ok (.invokestatic 348, 3) := dk_184 1 92 (dk_at dksX0_leastOf_0 7 rfl rfl)
theorem dX0_leastOf_10 : decode cX0_leastOf 10 = .ok (.istore_n 2, 1) := dk_61 (dk_at dksX0_leastOf_0 10 rfl rfl)
theorem dX0_leastOf_11 : decode cX0_leastOf 11 = .ok (.sipush 9999, 3) := dk_17 39 15 (dk_at dksX0_leastOf_0 11 rfl rfl)
theorem dX0_leastOf_14 : decode cX0_leastOf 14 = .ok (.istore_n 3, 1) := dk_62 (dk_at dksX0_leastOf_0 14 rfl rfl)
theorem dX0_leastOf_15 : decode cX0_leastOf 15 = .ok (.iload_n 2, 1) := dk_28 (dk_at dksX0_leastOf_0 15 rfl rfl)
theorem dX0_leastOf_16 : decode cX0_leastOf 16 = .ok (.iconst 1, 1) := dk_4 (dk_at dksX0_leastOf_0 16 rfl rfl)
theorem dX0_leastOf_17 : decode cX0_leastOf 17 = .ok (.iadd, 1) := dk_96 (dk_at dksX0_leastOf_0 17 rfl rfl)
theorem dX0_leastOf_18 : decode cX0_leastOf 18 = .ok (.istore 4, 2) := dk_54 4 (dk_at dksX0_leastOf_0 18 rfl rfl)
theorem dX0_leastOf_20 : decode cX0_leastOf 20 = .ok (.iload 4, 2) := dk_21 4 (dk_at dksX0_leastOf_0 20 rfl rfl)
theorem dX0_leastOf_22 : decode cX0_leastOf 22 = .ok (.bipush 8, 2) := dk_16 8 (dk_at dksX0_leastOf_0 22 rfl rfl)
theorem dX0_leastOf_24 : decode cX0_leastOf 24 = .ok (.if_icmp .ge 31, 3) := dk_162 0 31 (dk_at dksX0_leastOf_1 0 rfl rfl)
theorem dX0_leastOf_27 : decode cX0_leastOf 27 = .ok (.iload_n 1, 1) := dk_27 (dk_at dksX0_leastOf_1 3 rfl rfl)
theorem dX0_leastOf_28 : decode cX0_leastOf 28 = .ok (.iload 4, 2) := dk_21 4 (dk_at dksX0_leastOf_1 4 rfl rfl)
theorem dX0_leastOf_30 : decode cX0_leastOf 30 = .ok (.invokestatic 264, 3) := dk_184 1 8 (dk_at dksX0_leastOf_1 6 rfl rfl)
theorem dX0_leastOf_33 : decode cX0_leastOf 33 = .ok (.ifCond .eq 16, 3) := dk_153 0 16 (dk_at dksX0_leastOf_1 9 rfl rfl)
theorem dX0_leastOf_36 : decode cX0_leastOf 36 = .ok (.iload_n 3, 1) := dk_29 (dk_at dksX0_leastOf_1 12 rfl rfl)
theorem dX0_leastOf_37 : decode cX0_leastOf 37 = .ok (.aload_n 0, 1) := dk_42 (dk_at dksX0_leastOf_1 13 rfl rfl)
theorem dX0_leastOf_38 : decode cX0_leastOf 38 = .ok (.iload_n 1, 1) := dk_27 (dk_at dksX0_leastOf_1 14 rfl rfl)
theorem dX0_leastOf_39 : decode cX0_leastOf 39 = .ok (.iload_n 2, 1) := dk_28 (dk_at dksX0_leastOf_1 15 rfl rfl)
theorem dX0_leastOf_40 : decode cX0_leastOf 40 = .ok (.iload 4, 2) := dk_21 4 (dk_at dksX0_leastOf_1 16 rfl rfl)
theorem dX0_leastOf_42 : decode cX0_leastOf 42 = .ok (.invokevirtual 351, 3) := dk_182 1 95 (dk_at dksX0_leastOf_1 18 rfl rfl)
theorem dX0_leastOf_45 : decode cX0_leastOf 45 = .ok (.invokestatic 167, 3) := dk_184 0 167 (dk_at dksX0_leastOf_1 21 rfl rfl)
theorem dX0_leastOf_48 : decode cX0_leastOf 48 = .ok (.istore_n 3, 1) := dk_62 (dk_at dksX0_leastOf_2 0 rfl rfl)
theorem dX0_leastOf_49 : decode cX0_leastOf 49 = .ok (.iinc 4 1, 3) := dk_132 4 1 (dk_at dksX0_leastOf_2 1 rfl rfl)
theorem dX0_leastOf_52 : decode cX0_leastOf 52 = .ok (.goto (-32), 3) := dk_167 255 224 (dk_at dksX0_leastOf_2 4 rfl rfl)
theorem dX0_leastOf_55 : decode cX0_leastOf 55 = .ok (.iload_n 3, 1) := dk_29 (dk_at dksX0_leastOf_2 7 rfl rfl)
theorem dX0_leastOf_56 : decode cX0_leastOf 56 = .ok (.ireturn, 1) := dk_172 (dk_at dksX0_leastOf_2 8 rfl rfl)
abbrev cX0_leastWith : ByteArray := prog_1_method_73_code
def yX0_leastWith : MethodName := ⟨RX0, "leastWith", "(III)I"⟩
def dkwX0_leastWith_1 : List UInt8 := [126, 182, 1, 99, 96, 172]
abbrev dktX0_leastWith_1 : List UInt8 := dkwX0_leastWith_1 ++ []
def dkwX0_leastWith_0 : List UInt8 := [42, 180, 0, 33, 180, 1, 89, 28, 50, 29, 46, 42, 27, 4, 28, 120, 2, 130, 126, 4, 29, 120, 2, 130]
abbrev dktX0_leastWith_0 : List UInt8 := dkwX0_leastWith_0 ++ dktX0_leastWith_1
theorem dksX0_leastWith_0 : cX0_leastWith.data.toList.drop 0 = dktX0_leastWith_0 := by decide +kernel
theorem dksX0_leastWith_1 : cX0_leastWith.data.toList.drop 24 = dktX0_leastWith_1 := dk_seg dksX0_leastWith_0 24 rfl rfl
theorem dX0_leastWith_0 : decode cX0_leastWith 0 = .ok (.aload_n 0, 1) := dk_42 (dk_at dksX0_leastWith_0 0 rfl rfl)
theorem dX0_leastWith_1 : decode cX0_leastWith 1 = .ok (.getfield 33, 3) := dk_180 0 33 (dk_at dksX0_leastWith_0 1 rfl rfl)
theorem dX0_leastWith_4 : decode cX0_leastWith 4 = .ok (.getfield 345, 3) := dk_180 1 89 (dk_at dksX0_leastWith_0 4 rfl rfl)
theorem dX0_leastWith_7 : decode cX0_leastWith 7 = .ok (.iload_n 2, 1) := dk_28 (dk_at dksX0_leastWith_0 7 rfl rfl)
theorem dX0_leastWith_8 : decode cX0_leastWith 8 = .ok (.aaload, 1) := dk_50 (dk_at dksX0_leastWith_0 8 rfl rfl)
theorem dX0_leastWith_9 : decode cX0_leastWith 9 = .ok (.iload_n 3, 1) := dk_29 (dk_at dksX0_leastWith_0 9 rfl rfl)
theorem dX0_leastWith_10 : decode cX0_leastWith 10 = .ok (.iaload, 1) := dk_46 (dk_at dksX0_leastWith_0 10 rfl rfl)
theorem dX0_leastWith_11 : decode cX0_leastWith 11 = .ok (.aload_n 0, 1) := dk_42 (dk_at dksX0_leastWith_0 11 rfl rfl)
theorem dX0_leastWith_12 : decode cX0_leastWith 12 = .ok (.iload_n 1, 1) := dk_27 (dk_at dksX0_leastWith_0 12 rfl rfl)
theorem dX0_leastWith_13 : decode cX0_leastWith 13 = .ok (.iconst 1, 1) := dk_4 (dk_at dksX0_leastWith_0 13 rfl rfl)
theorem dX0_leastWith_14 : decode cX0_leastWith 14 = .ok (.iload_n 2, 1) := dk_28 (dk_at dksX0_leastWith_0 14 rfl rfl)
theorem dX0_leastWith_15 : decode cX0_leastWith 15 = .ok (.ishl, 1) := dk_120 (dk_at dksX0_leastWith_0 15 rfl rfl)
theorem dX0_leastWith_16 : decode cX0_leastWith 16 = .ok (.iconst (-1), 1) := dk_2 (dk_at dksX0_leastWith_0 16 rfl rfl)
theorem dX0_leastWith_17 : decode cX0_leastWith 17 = .ok (.ixor, 1) := dk_130 (dk_at dksX0_leastWith_0 17 rfl rfl)
theorem dX0_leastWith_18 : decode cX0_leastWith 18 = .ok (.iand, 1) := dk_126 (dk_at dksX0_leastWith_0 18 rfl rfl)
theorem dX0_leastWith_19 : decode cX0_leastWith 19 = .ok (.iconst 1, 1) := dk_4 (dk_at dksX0_leastWith_0 19 rfl rfl)
theorem dX0_leastWith_20 : decode cX0_leastWith 20 = .ok (.iload_n 3, 1) := dk_29 (dk_at dksX0_leastWith_0 20 rfl rfl)
theorem dX0_leastWith_21 : decode cX0_leastWith 21 = .ok (.ishl, 1) := dk_120 (dk_at dksX0_leastWith_0 21 rfl rfl)
theorem dX0_leastWith_22 : decode cX0_leastWith 22 = .ok (.iconst (-1), 1) := dk_2 (dk_at dksX0_leastWith_0 22 rfl rfl)
theorem dX0_leastWith_23 : decode cX0_leastWith 23 = .ok (.ixor, 1) := dk_130 (dk_at dksX0_leastWith_0 23 rfl rfl)
theorem dX0_leastWith_24 : decode cX0_leastWith 24 = .ok (.iand, 1) := dk_126 (dk_at dksX0_leastWith_1 0 rfl rfl)
theorem dX0_leastWith_25 : decode cX0_leastWith 25 = .ok (.invokevirtual 355, 3) := dk_182 1 99 (dk_at dksX0_leastWith_1 1 rfl rfl)
theorem dX0_leastWith_28 : decode cX0_leastWith 28 = .ok (.iadd, 1) := dk_96 (dk_at dksX0_leastWith_1 4 rfl rfl)
theorem dX0_leastWith_29 : decode cX0_leastWith 29 = .ok (.ireturn, 1) := dk_172 (dk_at dksX0_leastWith_1 5 rfl rfl)
abbrev cX0_likes : ByteArray := prog_1_method_75_code
def yX0_likes : MethodName := ⟨RX0, "likes", "(III)Z"⟩
def dkwX0_likes_1 : List UInt8 := [3, 172, 42, 180, 0, 33, 180, 1, 102, 27, 50, 28, 29, 79, 4, 172]
abbrev dktX0_likes_1 : List UInt8 := dkwX0_likes_1 ++ []
def dkwX0_likes_0 : List UInt8 := [27, 184, 0, 98, 153, 0, 20, 28, 184, 0, 98, 153, 0, 13, 29, 3, 16, 9, 184, 0, 87, 154, 0, 5]
abbrev dktX0_likes_0 : List UInt8 := dkwX0_likes_0 ++ dktX0_likes_1
theorem dksX0_likes_0 : cX0_likes.data.toList.drop 0 = dktX0_likes_0 := by decide +kernel
theorem dksX0_likes_1 : cX0_likes.data.toList.drop 24 = dktX0_likes_1 := dk_seg dksX0_likes_0 24 rfl rfl
theorem dX0_likes_0 : decode cX0_likes 0 = .ok (.iload_n 1, 1) := dk_27 (dk_at dksX0_likes_0 0 rfl rfl)
theorem dX0_likes_1 : decode cX0_likes 1 = .ok (.invokestatic 98, 3) := dk_184 0 98 (dk_at dksX0_likes_0 1 rfl rfl)
theorem dX0_likes_4 : decode cX0_likes 4 = .ok (.ifCond .eq 20, 3) := dk_153 0 20 (dk_at dksX0_likes_0 4 rfl rfl)
theorem dX0_likes_7 : decode cX0_likes 7 = .ok (.iload_n 2, 1) := dk_28 (dk_at dksX0_likes_0 7 rfl rfl)
theorem dX0_likes_8 : decode cX0_likes 8 = .ok (.invokestatic 98, 3) := dk_184 0 98 (dk_at dksX0_likes_0 8 rfl rfl)
theorem dX0_likes_11 : decode cX0_likes 11 = .ok (.ifCond .eq 13, 3) := dk_153 0 13 (dk_at dksX0_likes_0 11 rfl rfl)
theorem dX0_likes_14 : decode cX0_likes 14 = .ok (.iload_n 3, 1) := dk_29 (dk_at dksX0_likes_0 14 rfl rfl)
theorem dX0_likes_15 : decode cX0_likes 15 = .ok (.iconst 0, 1) := dk_3 (dk_at dksX0_likes_0 15 rfl rfl)
theorem dX0_likes_16 : decode cX0_likes 16 = .ok (.bipush 9, 2) := dk_16 9 (dk_at dksX0_likes_0 16 rfl rfl)
theorem dX0_likes_18 : decode cX0_likes 18 = .ok (.invokestatic 87, 3) := dk_184 0 87 (dk_at dksX0_likes_0 18 rfl rfl)
theorem dX0_likes_21 : decode cX0_likes 21 = .ok (.ifCond .ne 5, 3) := dk_154 0 5 (dk_at dksX0_likes_0 21 rfl rfl)
theorem dX0_likes_24 : decode cX0_likes 24 = .ok (.iconst 0, 1) := dk_3 (dk_at dksX0_likes_1 0 rfl rfl)
theorem dX0_likes_25 : decode cX0_likes 25 = .ok (.ireturn, 1) := dk_172 (dk_at dksX0_likes_1 1 rfl rfl)
theorem dX0_likes_26 : decode cX0_likes 26 = .ok (.aload_n 0, 1) := dk_42 (dk_at dksX0_likes_1 2 rfl rfl)
theorem dX0_likes_27 : decode cX0_likes 27 = .ok (.getfield 33, 3) := dk_180 0 33 (dk_at dksX0_likes_1 3 rfl rfl)
theorem dX0_likes_30 : decode cX0_likes 30 = .ok (.getfield 358, 3) := dk_180 1 102 (dk_at dksX0_likes_1 6 rfl rfl)
theorem dX0_likes_33 : decode cX0_likes 33 = .ok (.iload_n 1, 1) := dk_27 (dk_at dksX0_likes_1 9 rfl rfl)
theorem dX0_likes_34 : decode cX0_likes 34 = .ok (.aaload, 1) := dk_50 (dk_at dksX0_likes_1 10 rfl rfl)
theorem dX0_likes_35 : decode cX0_likes 35 = .ok (.iload_n 2, 1) := dk_28 (dk_at dksX0_likes_1 11 rfl rfl)
theorem dX0_likes_36 : decode cX0_likes 36 = .ok (.iload_n 3, 1) := dk_29 (dk_at dksX0_likes_1 12 rfl rfl)
theorem dX0_likes_37 : decode cX0_likes 37 = .ok (.iastore, 1) := dk_79 (dk_at dksX0_likes_1 13 rfl rfl)
theorem dX0_likes_38 : decode cX0_likes 38 = .ok (.iconst 1, 1) := dk_4 (dk_at dksX0_likes_1 14 rfl rfl)
theorem dX0_likes_39 : decode cX0_likes 39 = .ok (.ireturn, 1) := dk_172 (dk_at dksX0_likes_1 15 rfl rfl)
abbrev cX0_traded : ByteArray := prog_1_method_79_code
def yX0_traded : MethodName := ⟨RX0, "traded", "(II)I"⟩
def dkwX0_traded_1 : List UInt8 := [27, 182, 1, 111, 42, 180, 0, 80, 28, 46, 172]
abbrev dktX0_traded_1 : List UInt8 := dkwX0_traded_1 ++ []
def dkwX0_traded_0 : List UInt8 := [27, 4, 16, 8, 184, 0, 87, 153, 0, 14, 28, 3, 27, 4, 100, 184, 0, 87, 154, 0, 5, 2, 172, 42]
abbrev dktX0_traded_0 : List UInt8 := dkwX0_traded_0 ++ dktX0_traded_1
theorem dksX0_traded_0 : cX0_traded.data.toList.drop 0 = dktX0_traded_0 := by decide +kernel
theorem dksX0_traded_1 : cX0_traded.data.toList.drop 24 = dktX0_traded_1 := dk_seg dksX0_traded_0 24 rfl rfl
theorem dX0_traded_0 : decode cX0_traded 0 = .ok (.iload_n 1, 1) := dk_27 (dk_at dksX0_traded_0 0 rfl rfl)
theorem dX0_traded_1 : decode cX0_traded 1 = .ok (.iconst 1, 1) := dk_4 (dk_at dksX0_traded_0 1 rfl rfl)
theorem dX0_traded_2 : decode cX0_traded 2 = .ok (.bipush 8, 2) := dk_16 8 (dk_at dksX0_traded_0 2 rfl rfl)
theorem dX0_traded_4 : decode cX0_traded 4 = .ok (.invokestatic 87, 3) := dk_184 0 87 (dk_at dksX0_traded_0 4 rfl rfl)
theorem dX0_traded_7 : decode cX0_traded 7 = .ok (.ifCond .eq 14, 3) := dk_153 0 14 (dk_at dksX0_traded_0 7 rfl rfl)
theorem dX0_traded_10 : decode cX0_traded 10 = .ok (.iload_n 2, 1) := dk_28 (dk_at dksX0_traded_0 10 rfl rfl)
theorem dX0_traded_11 : decode cX0_traded 11 = .ok (.iconst 0, 1) := dk_3 (dk_at dksX0_traded_0 11 rfl rfl)
theorem dX0_traded_12 : decode cX0_traded 12 = .ok (.iload_n 1, 1) := dk_27 (dk_at dksX0_traded_0 12 rfl rfl)
theorem dX0_traded_13 : decode cX0_traded 13 = .ok (.iconst 1, 1) := dk_4 (dk_at dksX0_traded_0 13 rfl rfl)
theorem dX0_traded_14 : decode cX0_traded 14 = .ok (.isub, 1) := dk_100 (dk_at dksX0_traded_0 14 rfl rfl)
theorem dX0_traded_15 : decode cX0_traded 15 = .ok (.invokestatic 87, 3) := dk_184 0 87 (dk_at dksX0_traded_0 15 rfl rfl)
theorem dX0_traded_18 : decode cX0_traded 18 = .ok (.ifCond .ne 5, 3) := dk_154 0 5 (dk_at dksX0_traded_0 18 rfl rfl)
theorem dX0_traded_21 : decode cX0_traded 21 = .ok (.iconst (-1), 1) := dk_2 (dk_at dksX0_traded_0 21 rfl rfl)
theorem dX0_traded_22 : decode cX0_traded 22 = .ok (.ireturn, 1) := dk_172 (dk_at dksX0_traded_0 22 rfl rfl)
theorem dX0_traded_23 : decode cX0_traded 23 = .ok (.aload_n 0, 1) := dk_42 (dk_at dksX0_traded_0 23 rfl rfl)
theorem dX0_traded_24 : decode cX0_traded 24 = .ok (.iload_n 1, 1) := dk_27 (dk_at dksX0_traded_1 0 rfl rfl)
theorem dX0_traded_25 : decode cX0_traded 25 = .ok (.invokevirtual 367, 3) := dk_182 1 111 (dk_at dksX0_traded_1 1 rfl rfl)
theorem dX0_traded_28 : decode cX0_traded 28 = .ok (.aload_n 0, 1) := dk_42 (dk_at dksX0_traded_1 4 rfl rfl)
theorem dX0_traded_29 : decode cX0_traded 29 = .ok (.getfield 80, 3) := dk_180 0 80 (dk_at dksX0_traded_1 5 rfl rfl)
theorem dX0_traded_32 : decode cX0_traded 32 = .ok (.iload_n 2, 1) := dk_28 (dk_at dksX0_traded_1 8 rfl rfl)
theorem dX0_traded_33 : decode cX0_traded 33 = .ok (.iaload, 1) := dk_46 (dk_at dksX0_traded_1 9 rfl rfl)
theorem dX0_traded_34 : decode cX0_traded 34 = .ok (.ireturn, 1) := dk_172 (dk_at dksX0_traded_1 10 rfl rfl)
abbrev cX0_trades : ByteArray := prog_1_method_78_code
def yX0_trades : MethodName := ⟨RX0, "trades", "(I)V"⟩
def dkwX0_trades_3 : List UInt8 := [180, 0, 80, 21, 5, 46, 54, 5, 21, 5, 29, 160, 255, 220, 167, 255, 179, 177]
abbrev dktX0_trades_3 : List UInt8 := dkwX0_trades_3 ++ []
def dkwX0_trades_2 : List UInt8 := [180, 0, 80, 21, 5, 42, 21, 5, 21, 4, 182, 1, 108, 79, 28, 4, 21, 5, 120, 2, 130, 126, 61, 42]
abbrev dktX0_trades_2 : List UInt8 := dkwX0_trades_2 ++ dktX0_trades_3
def dkwX0_trades_1 : List UInt8 := [162, 0, 16, 42, 29, 28, 182, 1, 108, 62, 132, 4, 1, 167, 255, 239, 28, 54, 4, 29, 54, 5, 42]
abbrev dktX0_trades_1 : List UInt8 := dkwX0_trades_1 ++ dktX0_trades_2
def dkwX0_trades_0 : List UInt8 := [4, 27, 120, 4, 100, 61, 28, 153, 0, 79, 28, 184, 1, 92, 62, 3, 54, 4, 21, 4, 16, 8]
abbrev dktX0_trades_0 : List UInt8 := dkwX0_trades_0 ++ dktX0_trades_1
theorem dksX0_trades_0 : cX0_trades.data.toList.drop 0 = dktX0_trades_0 := by decide +kernel
theorem dksX0_trades_1 : cX0_trades.data.toList.drop 22 = dktX0_trades_1 := dk_seg dksX0_trades_0 22 rfl rfl
theorem dksX0_trades_2 : cX0_trades.data.toList.drop 45 = dktX0_trades_2 := dk_seg dksX0_trades_1 23 rfl rfl
theorem dksX0_trades_3 : cX0_trades.data.toList.drop 69 = dktX0_trades_3 := dk_seg dksX0_trades_2 24 rfl rfl
theorem dX0_trades_0 : decode cX0_trades 0 = .ok (.iconst 1, 1) := dk_4 (dk_at dksX0_trades_0 0 rfl rfl)
theorem dX0_trades_1 : decode cX0_trades 1 = .ok (.iload_n 1, 1) := dk_27 (dk_at dksX0_trades_0 1 rfl rfl)
theorem dX0_trades_2 : decode cX0_trades 2 = .ok (.ishl, 1) := dk_120 (dk_at dksX0_trades_0 2 rfl rfl)
theorem dX0_trades_3 : decode cX0_trades 3 = .ok (.iconst 1, 1) := dk_4 (dk_at dksX0_trades_0 3 rfl rfl)
theorem dX0_trades_4 : decode cX0_trades 4 = .ok (.isub, 1) := dk_100 (dk_at dksX0_trades_0 4 rfl rfl)
theorem dX0_trades_5 : decode cX0_trades 5 = .ok (.istore_n 2, 1) := dk_61 (dk_at dksX0_trades_0 5 rfl rfl)
theorem dX0_trades_6 : decode cX0_trades 6 = .ok (.iload_n 2, 1) := dk_28 (dk_at dksX0_trades_0 6 rfl rfl)
theorem dX0_trades_7 : decode cX0_trades 7 = .ok (.ifCond .eq 79, 3) := dk_153 0 79 (dk_at dksX0_trades_0 7 rfl rfl)
theorem dX0_trades_10 : decode cX0_trades 10 = .ok (.iload_n 2, 1) := dk_28 (dk_at dksX0_trades_0 10 rfl rfl)
theorem dX0_trades_11 : decode cX0_trades 11 = .ok (.invokestatic 348, 3) := dk_184 1 92 (dk_at dksX0_trades_0 11 rfl rfl)
theorem dX0_trades_14 : decode cX0_trades 14 = .ok (.istore_n 3, 1) := dk_62 (dk_at dksX0_trades_0 14 rfl rfl)
theorem dX0_trades_15 : decode cX0_trades 15 = .ok (.iconst 0, 1) := dk_3 (dk_at dksX0_trades_0 15 rfl rfl)
theorem dX0_trades_16 : decode cX0_trades 16 = .ok (.istore 4, 2) := dk_54 4 (dk_at dksX0_trades_0 16 rfl rfl)
theorem dX0_trades_18 : decode cX0_trades 18 = .ok (.iload 4, 2) := dk_21 4 (dk_at dksX0_trades_0 18 rfl rfl)
theorem dX0_trades_20 : decode cX0_trades 20 = .ok (.bipush 8, 2) := dk_16 8 (dk_at dksX0_trades_0 20 rfl rfl)
theorem dX0_trades_22 : decode cX0_trades 22 = .ok (.if_icmp .ge 16, 3) := dk_162 0 16 (dk_at dksX0_trades_1 0 rfl rfl)
theorem dX0_trades_25 : decode cX0_trades 25 = .ok (.aload_n 0, 1) := dk_42 (dk_at dksX0_trades_1 3 rfl rfl)
theorem dX0_trades_26 : decode cX0_trades 26 = .ok (.iload_n 3, 1) := dk_29 (dk_at dksX0_trades_1 4 rfl rfl)
theorem dX0_trades_27 : decode cX0_trades 27 = .ok (.iload_n 2, 1) := dk_28 (dk_at dksX0_trades_1 5 rfl rfl)
theorem dX0_trades_28 : decode cX0_trades 28 = .ok (.invokevirtual 364, 3) := dk_182 1 108 (dk_at dksX0_trades_1 6 rfl rfl)
theorem dX0_trades_31 : decode cX0_trades 31 = .ok (.istore_n 3, 1) := dk_62 (dk_at dksX0_trades_1 9 rfl rfl)
theorem dX0_trades_32 : decode cX0_trades 32 = .ok (.iinc 4 1, 3) := dk_132 4 1 (dk_at dksX0_trades_1 10 rfl rfl)
theorem dX0_trades_35 : decode cX0_trades 35 = .ok (.goto (-17), 3) := dk_167 255 239 (dk_at dksX0_trades_1 13 rfl rfl)
theorem dX0_trades_38 : decode cX0_trades 38 = .ok (.iload_n 2, 1) := dk_28 (dk_at dksX0_trades_1 16 rfl rfl)
theorem dX0_trades_39 : decode cX0_trades 39 = .ok (.istore 4, 2) := dk_54 4 (dk_at dksX0_trades_1 17 rfl rfl)
theorem dX0_trades_41 : decode cX0_trades 41 = .ok (.iload_n 3, 1) := dk_29 (dk_at dksX0_trades_1 19 rfl rfl)
theorem dX0_trades_42 : decode cX0_trades 42 = .ok (.istore 5, 2) := dk_54 5 (dk_at dksX0_trades_1 20 rfl rfl)
theorem dX0_trades_44 : decode cX0_trades 44 = .ok (.aload_n 0, 1) := dk_42 (dk_at dksX0_trades_1 22 rfl rfl)
theorem dX0_trades_45 : decode cX0_trades 45 = .ok (.getfield 80, 3) := dk_180 0 80 (dk_at dksX0_trades_2 0 rfl rfl)
theorem dX0_trades_48 : decode cX0_trades 48 = .ok (.iload 5, 2) := dk_21 5 (dk_at dksX0_trades_2 3 rfl rfl)
theorem dX0_trades_50 : decode cX0_trades 50 = .ok (.aload_n 0, 1) := dk_42 (dk_at dksX0_trades_2 5 rfl rfl)
theorem dX0_trades_51 : decode cX0_trades 51 = .ok (.iload 5, 2) := dk_21 5 (dk_at dksX0_trades_2 6 rfl rfl)
theorem dX0_trades_53 : decode cX0_trades 53 = .ok (.iload 4, 2) := dk_21 4 (dk_at dksX0_trades_2 8 rfl rfl)
theorem dX0_trades_55 : decode cX0_trades 55 = .ok (.invokevirtual 364, 3) := dk_182 1 108 (dk_at dksX0_trades_2 10 rfl rfl)
theorem dX0_trades_58 : decode cX0_trades 58 = .ok (.iastore, 1) := dk_79 (dk_at dksX0_trades_2 13 rfl rfl)
theorem dX0_trades_59 : decode cX0_trades 59 = .ok (.iload_n 2, 1) := dk_28 (dk_at dksX0_trades_2 14 rfl rfl)
theorem dX0_trades_60 : decode cX0_trades 60 = .ok (.iconst 1, 1) := dk_4 (dk_at dksX0_trades_2 15 rfl rfl)
theorem dX0_trades_61 : decode cX0_trades 61 = .ok (.iload 5, 2) := dk_21 5 (dk_at dksX0_trades_2 16 rfl rfl)
theorem dX0_trades_63 : decode cX0_trades 63 = .ok (.ishl, 1) := dk_120 (dk_at dksX0_trades_2 18 rfl rfl)
theorem dX0_trades_64 : decode cX0_trades 64 = .ok (.iconst (-1), 1) := dk_2 (dk_at dksX0_trades_2 19 rfl rfl)
theorem dX0_trades_65 : decode cX0_trades 65 = .ok (.ixor, 1) := dk_130 (dk_at dksX0_trades_2 20 rfl rfl)
theorem dX0_trades_66 : decode cX0_trades 66 = .ok (.iand, 1) := dk_126 (dk_at dksX0_trades_2 21 rfl rfl)
theorem dX0_trades_67 : decode cX0_trades 67 = .ok (.istore_n 2, 1) := dk_61 (dk_at dksX0_trades_2 22 rfl rfl)
theorem dX0_trades_68 : decode cX0_trades 68 = .ok (.aload_n 0, 1) := dk_42 (dk_at dksX0_trades_2 23 rfl rfl)
theorem dX0_trades_69 : decode cX0_trades 69 = .ok (.getfield 80, 3) := dk_180 0 80 (dk_at dksX0_trades_3 0 rfl rfl)
theorem dX0_trades_72 : decode cX0_trades 72 = .ok (.iload 5, 2) := dk_21 5 (dk_at dksX0_trades_3 3 rfl rfl)
theorem dX0_trades_74 : decode cX0_trades 74 = .ok (.iaload, 1) := dk_46 (dk_at dksX0_trades_3 5 rfl rfl)
theorem dX0_trades_75 : decode cX0_trades 75 = .ok (.istore 5, 2) := dk_54 5 (dk_at dksX0_trades_3 6 rfl rfl)
theorem dX0_trades_77 : decode cX0_trades 77 = .ok (.iload 5, 2) := dk_21 5 (dk_at dksX0_trades_3 8 rfl rfl)
theorem dX0_trades_79 : decode cX0_trades 79 = .ok (.iload_n 3, 1) := dk_29 (dk_at dksX0_trades_3 10 rfl rfl)
theorem dX0_trades_80 : decode cX0_trades 80 = .ok (.if_icmp .ne (-36), 3) := dk_160 255 220 (dk_at dksX0_trades_3 11 rfl rfl)
theorem dX0_trades_83 : decode cX0_trades 83 = .ok (.goto (-77), 3) := dk_167 255 179 (dk_at dksX0_trades_3 14 rfl rfl)
theorem dX0_trades_86 : decode cX0_trades 86 = .ok (.return_, 1) := dk_177 (dk_at dksX0_trades_3 17 rfl rfl)
abbrev cX0_pointsAt : ByteArray := prog_1_method_77_code
def yX0_pointsAt : MethodName := ⟨RX0, "pointsAt", "(II)I"⟩
def dkwX0_pointsAt_2 : List UInt8 := [172]
abbrev dktX0_pointsAt_2 : List UInt8 := dkwX0_pointsAt_2 ++ []
def dkwX0_pointsAt_1 : List UInt8 := [159, 0, 14, 42, 27, 21, 4, 29, 182, 1, 105, 153, 0, 6, 21, 4, 62, 132, 4, 1, 167, 255, 218, 29]
abbrev dktX0_pointsAt_1 : List UInt8 := dkwX0_pointsAt_1 ++ dktX0_pointsAt_2
def dkwX0_pointsAt_0 : List UInt8 := [2, 62, 3, 54, 4, 21, 4, 16, 8, 162, 0, 37, 28, 21, 4, 184, 1, 8, 153, 0, 22, 29, 2]
abbrev dktX0_pointsAt_0 : List UInt8 := dkwX0_pointsAt_0 ++ dktX0_pointsAt_1
theorem dksX0_pointsAt_0 : cX0_pointsAt.data.toList.drop 0 = dktX0_pointsAt_0 := by decide +kernel
theorem dksX0_pointsAt_1 : cX0_pointsAt.data.toList.drop 23 = dktX0_pointsAt_1 := dk_seg dksX0_pointsAt_0 23 rfl rfl
theorem dksX0_pointsAt_2 : cX0_pointsAt.data.toList.drop 47 = dktX0_pointsAt_2 := dk_seg dksX0_pointsAt_1 24 rfl rfl
theorem dX0_pointsAt_0 : decode cX0_pointsAt 0 = .ok (.iconst (-1), 1) := dk_2 (dk_at dksX0_pointsAt_0 0 rfl rfl)
theorem dX0_pointsAt_1 : decode cX0_pointsAt 1 = .ok (.istore_n 3, 1) := dk_62 (dk_at dksX0_pointsAt_0 1 rfl rfl)
theorem dX0_pointsAt_2 : decode cX0_pointsAt 2 = .ok (.iconst 0, 1) := dk_3 (dk_at dksX0_pointsAt_0 2 rfl rfl)
theorem dX0_pointsAt_3 : decode cX0_pointsAt 3 = .ok (.istore 4, 2) := dk_54 4 (dk_at dksX0_pointsAt_0 3 rfl rfl)
theorem dX0_pointsAt_5 : decode cX0_pointsAt 5 = .ok (.iload 4, 2) := dk_21 4 (dk_at dksX0_pointsAt_0 5 rfl rfl)
theorem dX0_pointsAt_7 : decode cX0_pointsAt 7 = .ok (.bipush 8, 2) := dk_16 8 (dk_at dksX0_pointsAt_0 7 rfl rfl)
theorem dX0_pointsAt_9 : decode cX0_pointsAt 9 = .ok (.if_icmp .ge 37, 3) := dk_162 0 37 (dk_at dksX0_pointsAt_0 9 rfl rfl)
theorem dX0_pointsAt_12 : decode cX0_pointsAt 12 = .ok (.iload_n 2, 1) := dk_28 (dk_at dksX0_pointsAt_0 12 rfl rfl)
theorem dX0_pointsAt_13 : decode cX0_pointsAt 13 = .ok (.iload 4, 2) := dk_21 4 (dk_at dksX0_pointsAt_0 13 rfl rfl)
theorem dX0_pointsAt_15 : decode cX0_pointsAt 15 = .ok (.invokestatic 264, 3) := dk_184 1 8 (dk_at dksX0_pointsAt_0 15 rfl rfl)
theorem dX0_pointsAt_18 : decode cX0_pointsAt 18 = .ok (.ifCond .eq 22, 3) := dk_153 0 22 (dk_at dksX0_pointsAt_0 18 rfl rfl)
theorem dX0_pointsAt_21 : decode cX0_pointsAt 21 = .ok (.iload_n 3, 1) := dk_29 (dk_at dksX0_pointsAt_0 21 rfl rfl)
theorem dX0_pointsAt_22 : decode cX0_pointsAt 22 = .ok (.iconst (-1), 1) := dk_2 (dk_at dksX0_pointsAt_0 22 rfl rfl)
theorem dX0_pointsAt_23 : decode cX0_pointsAt 23 = .ok (.if_icmp .eq 14, 3) := dk_159 0 14 (dk_at dksX0_pointsAt_1 0 rfl rfl)
theorem dX0_pointsAt_26 : decode cX0_pointsAt 26 = .ok (.aload_n 0, 1) := dk_42 (dk_at dksX0_pointsAt_1 3 rfl rfl)
theorem dX0_pointsAt_27 : decode cX0_pointsAt 27 = .ok (.iload_n 1, 1) := dk_27 (dk_at dksX0_pointsAt_1 4 rfl rfl)
theorem dX0_pointsAt_28 : decode cX0_pointsAt 28 = .ok (.iload 4, 2) := dk_21 4 (dk_at dksX0_pointsAt_1 5 rfl rfl)
theorem dX0_pointsAt_30 : decode cX0_pointsAt 30 = .ok (.iload_n 3, 1) := dk_29 (dk_at dksX0_pointsAt_1 7 rfl rfl)
theorem dX0_pointsAt_31 : decode cX0_pointsAt 31 = .ok (.invokevirtual 361, 3) := dk_182 1 105 (dk_at dksX0_pointsAt_1 8 rfl rfl)
theorem dX0_pointsAt_34 : decode cX0_pointsAt 34 = .ok (.ifCond .eq 6, 3) := dk_153 0 6 (dk_at dksX0_pointsAt_1 11 rfl rfl)
theorem dX0_pointsAt_37 : decode cX0_pointsAt 37 = .ok (.iload 4, 2) := dk_21 4 (dk_at dksX0_pointsAt_1 14 rfl rfl)
theorem dX0_pointsAt_39 : decode cX0_pointsAt 39 = .ok (.istore_n 3, 1) := dk_62 (dk_at dksX0_pointsAt_1 16 rfl rfl)
theorem dX0_pointsAt_40 : decode cX0_pointsAt 40 = .ok (.iinc 4 1, 3) := dk_132 4 1 (dk_at dksX0_pointsAt_1 17 rfl rfl)
theorem dX0_pointsAt_43 : decode cX0_pointsAt 43 = .ok (.goto (-38), 3) := dk_167 255 218 (dk_at dksX0_pointsAt_1 20 rfl rfl)
theorem dX0_pointsAt_46 : decode cX0_pointsAt 46 = .ok (.iload_n 3, 1) := dk_29 (dk_at dksX0_pointsAt_1 23 rfl rfl)
theorem dX0_pointsAt_47 : decode cX0_pointsAt 47 = .ok (.ireturn, 1) := dk_172 (dk_at dksX0_pointsAt_2 0 rfl rfl)
abbrev cX0_isBetter : ByteArray := prog_1_method_76_code
def yX0_isBetter : MethodName := ⟨RX0, "isBetter", "(III)Z"⟩
def dkwX0_isBetter_1 : List UInt8 := [28, 46, 25, 4, 29, 46, 160, 0, 12, 28, 29, 162, 0, 7, 4, 167, 0, 4, 3, 172]
abbrev dktX0_isBetter_1 : List UInt8 := dkwX0_isBetter_1 ++ []
def dkwX0_isBetter_0 : List UInt8 := [42, 180, 0, 33, 180, 1, 102, 27, 50, 58, 4, 25, 4, 28, 46, 25, 4, 29, 46, 161, 0, 19, 25, 4]
abbrev dktX0_isBetter_0 : List UInt8 := dkwX0_isBetter_0 ++ dktX0_isBetter_1
theorem dksX0_isBetter_0 : cX0_isBetter.data.toList.drop 0 = dktX0_isBetter_0 := by decide +kernel
theorem dksX0_isBetter_1 : cX0_isBetter.data.toList.drop 24 = dktX0_isBetter_1 := dk_seg dksX0_isBetter_0 24 rfl rfl
theorem dX0_isBetter_0 : decode cX0_isBetter 0 = .ok (.aload_n 0, 1) := dk_42 (dk_at dksX0_isBetter_0 0 rfl rfl)
theorem dX0_isBetter_1 : decode cX0_isBetter 1 = .ok (.getfield 33, 3) := dk_180 0 33 (dk_at dksX0_isBetter_0 1 rfl rfl)
theorem dX0_isBetter_4 : decode cX0_isBetter 4 = .ok (.getfield 358, 3) := dk_180 1 102 (dk_at dksX0_isBetter_0 4 rfl rfl)
theorem dX0_isBetter_7 : decode cX0_isBetter 7 = .ok (.iload_n 1, 1) := dk_27 (dk_at dksX0_isBetter_0 7 rfl rfl)
theorem dX0_isBetter_8 : decode cX0_isBetter 8 = .ok (.aaload, 1) := dk_50 (dk_at dksX0_isBetter_0 8 rfl rfl)
theorem dX0_isBetter_9 : decode cX0_isBetter 9 = .ok (.astore 4, 2) := dk_58 4 (dk_at dksX0_isBetter_0 9 rfl rfl)
theorem dX0_isBetter_11 : decode cX0_isBetter 11 = .ok (.aload 4, 2) := dk_25 4 (dk_at dksX0_isBetter_0 11 rfl rfl)
theorem dX0_isBetter_13 : decode cX0_isBetter 13 = .ok (.iload_n 2, 1) := dk_28 (dk_at dksX0_isBetter_0 13 rfl rfl)
theorem dX0_isBetter_14 : decode cX0_isBetter 14 = .ok (.iaload, 1) := dk_46 (dk_at dksX0_isBetter_0 14 rfl rfl)
theorem dX0_isBetter_15 : decode cX0_isBetter 15 = .ok (.aload 4, 2) := dk_25 4 (dk_at dksX0_isBetter_0 15 rfl rfl)
theorem dX0_isBetter_17 : decode cX0_isBetter 17 = .ok (.iload_n 3, 1) := dk_29 (dk_at dksX0_isBetter_0 17 rfl rfl)
theorem dX0_isBetter_18 : decode cX0_isBetter 18 = .ok (.iaload, 1) := dk_46 (dk_at dksX0_isBetter_0 18 rfl rfl)
theorem dX0_isBetter_19 : decode cX0_isBetter 19 = .ok (.if_icmp .lt 19, 3) := dk_161 0 19 (dk_at dksX0_isBetter_0 19 rfl rfl)
theorem dX0_isBetter_22 : decode cX0_isBetter 22 = .ok (.aload 4, 2) := dk_25 4 (dk_at dksX0_isBetter_0 22 rfl rfl)
theorem dX0_isBetter_24 : decode cX0_isBetter 24 = .ok (.iload_n 2, 1) := dk_28 (dk_at dksX0_isBetter_1 0 rfl rfl)
theorem dX0_isBetter_25 : decode cX0_isBetter 25 = .ok (.iaload, 1) := dk_46 (dk_at dksX0_isBetter_1 1 rfl rfl)
theorem dX0_isBetter_26 : decode cX0_isBetter 26 = .ok (.aload 4, 2) := dk_25 4 (dk_at dksX0_isBetter_1 2 rfl rfl)
theorem dX0_isBetter_28 : decode cX0_isBetter 28 = .ok (.iload_n 3, 1) := dk_29 (dk_at dksX0_isBetter_1 4 rfl rfl)
theorem dX0_isBetter_29 : decode cX0_isBetter 29 = .ok (.iaload, 1) := dk_46 (dk_at dksX0_isBetter_1 5 rfl rfl)
theorem dX0_isBetter_30 : decode cX0_isBetter 30 = .ok (.if_icmp .ne 12, 3) := dk_160 0 12 (dk_at dksX0_isBetter_1 6 rfl rfl)
theorem dX0_isBetter_33 : decode cX0_isBetter 33 = .ok (.iload_n 2, 1) := dk_28 (dk_at dksX0_isBetter_1 9 rfl rfl)
theorem dX0_isBetter_34 : decode cX0_isBetter 34 = .ok (.iload_n 3, 1) := dk_29 (dk_at dksX0_isBetter_1 10 rfl rfl)
theorem dX0_isBetter_35 : decode cX0_isBetter 35 = .ok (.if_icmp .ge 7, 3) := dk_162 0 7 (dk_at dksX0_isBetter_1 11 rfl rfl)
theorem dX0_isBetter_38 : decode cX0_isBetter 38 = .ok (.iconst 1, 1) := dk_4 (dk_at dksX0_isBetter_1 14 rfl rfl)
theorem dX0_isBetter_39 : decode cX0_isBetter 39 = .ok (.goto 4, 3) := dk_167 0 4 (dk_at dksX0_isBetter_1 15 rfl rfl)
theorem dX0_isBetter_42 : decode cX0_isBetter 42 = .ok (.iconst 0, 1) := dk_3 (dk_at dksX0_isBetter_1 18 rfl rfl)
theorem dX0_isBetter_43 : decode cX0_isBetter 43 = .ok (.ireturn, 1) := dk_172 (dk_at dksX0_isBetter_1 19 rfl rfl)
abbrev cX0_rather : ByteArray := prog_1_method_80_code
def yX0_rather : MethodName := ⟨RX0, "rather", "(I)I"⟩
def dkwX0_rather_2 : List UInt8 := [167, 0, 4, 3, 128, 61, 132, 3, 1, 167, 255, 223, 28, 172]
abbrev dktX0_rather_2 : List UInt8 := dkwX0_rather_2 ++ []
def dkwX0_rather_1 : List UInt8 := [162, 0, 34, 28, 42, 29, 42, 180, 0, 80, 29, 46, 29, 182, 1, 105, 153, 0, 9, 4, 29, 120]
abbrev dktX0_rather_1 : List UInt8 := dkwX0_rather_1 ++ dktX0_rather_2
def dkwX0_rather_0 : List UInt8 := [27, 4, 16, 8, 184, 0, 87, 154, 0, 5, 2, 172, 42, 27, 182, 1, 111, 3, 61, 3, 62, 29, 27]
abbrev dktX0_rather_0 : List UInt8 := dkwX0_rather_0 ++ dktX0_rather_1
theorem dksX0_rather_0 : cX0_rather.data.toList.drop 0 = dktX0_rather_0 := by decide +kernel
theorem dksX0_rather_1 : cX0_rather.data.toList.drop 23 = dktX0_rather_1 := dk_seg dksX0_rather_0 23 rfl rfl
theorem dksX0_rather_2 : cX0_rather.data.toList.drop 45 = dktX0_rather_2 := dk_seg dksX0_rather_1 22 rfl rfl
theorem dX0_rather_0 : decode cX0_rather 0 = .ok (.iload_n 1, 1) := dk_27 (dk_at dksX0_rather_0 0 rfl rfl)
theorem dX0_rather_1 : decode cX0_rather 1 = .ok (.iconst 1, 1) := dk_4 (dk_at dksX0_rather_0 1 rfl rfl)
theorem dX0_rather_2 : decode cX0_rather 2 = .ok (.bipush 8, 2) := dk_16 8 (dk_at dksX0_rather_0 2 rfl rfl)
theorem dX0_rather_4 : decode cX0_rather 4 = .ok (.invokestatic 87, 3) := dk_184 0 87 (dk_at dksX0_rather_0 4 rfl rfl)
theorem dX0_rather_7 : decode cX0_rather 7 = .ok (.ifCond .ne 5, 3) := dk_154 0 5 (dk_at dksX0_rather_0 7 rfl rfl)
theorem dX0_rather_10 : decode cX0_rather 10 = .ok (.iconst (-1), 1) := dk_2 (dk_at dksX0_rather_0 10 rfl rfl)
theorem dX0_rather_11 : decode cX0_rather 11 = .ok (.ireturn, 1) := dk_172 (dk_at dksX0_rather_0 11 rfl rfl)
theorem dX0_rather_12 : decode cX0_rather 12 = .ok (.aload_n 0, 1) := dk_42 (dk_at dksX0_rather_0 12 rfl rfl)
theorem dX0_rather_13 : decode cX0_rather 13 = .ok (.iload_n 1, 1) := dk_27 (dk_at dksX0_rather_0 13 rfl rfl)
theorem dX0_rather_14 : decode cX0_rather 14 = .ok (.invokevirtual 367, 3) := dk_182 1 111 (dk_at dksX0_rather_0 14 rfl rfl)
theorem dX0_rather_17 : decode cX0_rather 17 = .ok (.iconst 0, 1) := dk_3 (dk_at dksX0_rather_0 17 rfl rfl)
theorem dX0_rather_18 : decode cX0_rather 18 = .ok (.istore_n 2, 1) := dk_61 (dk_at dksX0_rather_0 18 rfl rfl)
theorem dX0_rather_19 : decode cX0_rather 19 = .ok (.iconst 0, 1) := dk_3 (dk_at dksX0_rather_0 19 rfl rfl)
theorem dX0_rather_20 : decode cX0_rather 20 = .ok (.istore_n 3, 1) := dk_62 (dk_at dksX0_rather_0 20 rfl rfl)
theorem dX0_rather_21 : decode cX0_rather 21 = .ok (.iload_n 3, 1) := dk_29 (dk_at dksX0_rather_0 21 rfl rfl)
theorem dX0_rather_22 : decode cX0_rather 22 = .ok (.iload_n 1, 1) := dk_27 (dk_at dksX0_rather_0 22 rfl rfl)
theorem dX0_rather_23 : decode cX0_rather 23 = .ok (.if_icmp .ge 34, 3) := dk_162 0 34 (dk_at dksX0_rather_1 0 rfl rfl)
theorem dX0_rather_26 : decode cX0_rather 26 = .ok (.iload_n 2, 1) := dk_28 (dk_at dksX0_rather_1 3 rfl rfl)
theorem dX0_rather_27 : decode cX0_rather 27 = .ok (.aload_n 0, 1) := dk_42 (dk_at dksX0_rather_1 4 rfl rfl)
theorem dX0_rather_28 : decode cX0_rather 28 = .ok (.iload_n 3, 1) := dk_29 (dk_at dksX0_rather_1 5 rfl rfl)
theorem dX0_rather_29 : decode cX0_rather 29 = .ok (.aload_n 0, 1) := dk_42 (dk_at dksX0_rather_1 6 rfl rfl)
theorem dX0_rather_30 : decode cX0_rather 30 = .ok (.getfield 80, 3) := dk_180 0 80 (dk_at dksX0_rather_1 7 rfl rfl)
theorem dX0_rather_33 : decode cX0_rather 33 = .ok (.iload_n 3, 1) := dk_29 (dk_at dksX0_rather_1 10 rfl rfl)
theorem dX0_rather_34 : decode cX0_rather 34 = .ok (.iaload, 1) := dk_46 (dk_at dksX0_rather_1 11 rfl rfl)
theorem dX0_rather_35 : decode cX0_rather 35 = .ok (.iload_n 3, 1) := dk_29 (dk_at dksX0_rather_1 12 rfl rfl)
theorem dX0_rather_36 : decode cX0_rather 36 = .ok (.invokevirtual 361, 3) := dk_182 1 105 (dk_at dksX0_rather_1 13 rfl rfl)
theorem dX0_rather_39 : decode cX0_rather 39 = .ok (.ifCond .eq 9, 3) := dk_153 0 9 (dk_at dksX0_rather_1 16 rfl rfl)
theorem dX0_rather_42 : decode cX0_rather 42 = .ok (.iconst 1, 1) := dk_4 (dk_at dksX0_rather_1 19 rfl rfl)
theorem dX0_rather_43 : decode cX0_rather 43 = .ok (.iload_n 3, 1) := dk_29 (dk_at dksX0_rather_1 20 rfl rfl)
theorem dX0_rather_44 : decode cX0_rather 44 = .ok (.ishl, 1) := dk_120 (dk_at dksX0_rather_1 21 rfl rfl)
theorem dX0_rather_45 : decode cX0_rather 45 = .ok (.goto 4, 3) := dk_167 0 4 (dk_at dksX0_rather_2 0 rfl rfl)
theorem dX0_rather_48 : decode cX0_rather 48 = .ok (.iconst 0, 1) := dk_3 (dk_at dksX0_rather_2 3 rfl rfl)
theorem dX0_rather_49 : decode cX0_rather 49 = .ok (.ior, 1) := dk_128 (dk_at dksX0_rather_2 4 rfl rfl)
theorem dX0_rather_50 : decode cX0_rather 50 = .ok (.istore_n 2, 1) := dk_61 (dk_at dksX0_rather_2 5 rfl rfl)
theorem dX0_rather_51 : decode cX0_rather 51 = .ok (.iinc 3 1, 3) := dk_132 3 1 (dk_at dksX0_rather_2 6 rfl rfl)
theorem dX0_rather_54 : decode cX0_rather 54 = .ok (.goto (-33), 3) := dk_167 255 223 (dk_at dksX0_rather_2 9 rfl rfl)
theorem dX0_rather_57 : decode cX0_rather 57 = .ok (.iload_n 2, 1) := dk_28 (dk_at dksX0_rather_2 12 rfl rfl)
theorem dX0_rather_58 : decode cX0_rather 58 = .ok (.ireturn, 1) := dk_172 (dk_at dksX0_rather_2 13 rfl rfl)
abbrev cX0_slip : ByteArray := prog_1_method_81_code
def yX0_slip : MethodName := ⟨RX0, "slip", "(II)Z"⟩
def dkwX0_slip_1 : List UInt8 := [180, 1, 114, 27, 28, 79, 4, 172]
abbrev dktX0_slip_1 : List UInt8 := dkwX0_slip_1 ++ []
def dkwX0_slip_0 : List UInt8 := [27, 184, 0, 98, 153, 0, 13, 28, 3, 16, 10, 184, 0, 87, 154, 0, 5, 3, 172, 42, 180, 0, 33]
abbrev dktX0_slip_0 : List UInt8 := dkwX0_slip_0 ++ dktX0_slip_1
theorem dksX0_slip_0 : cX0_slip.data.toList.drop 0 = dktX0_slip_0 := by decide +kernel
theorem dksX0_slip_1 : cX0_slip.data.toList.drop 23 = dktX0_slip_1 := dk_seg dksX0_slip_0 23 rfl rfl
theorem dX0_slip_0 : decode cX0_slip 0 = .ok (.iload_n 1, 1) := dk_27 (dk_at dksX0_slip_0 0 rfl rfl)
theorem dX0_slip_1 : decode cX0_slip 1 = .ok (.invokestatic 98, 3) := dk_184 0 98 (dk_at dksX0_slip_0 1 rfl rfl)
theorem dX0_slip_4 : decode cX0_slip 4 = .ok (.ifCond .eq 13, 3) := dk_153 0 13 (dk_at dksX0_slip_0 4 rfl rfl)
theorem dX0_slip_7 : decode cX0_slip 7 = .ok (.iload_n 2, 1) := dk_28 (dk_at dksX0_slip_0 7 rfl rfl)
theorem dX0_slip_8 : decode cX0_slip 8 = .ok (.iconst 0, 1) := dk_3 (dk_at dksX0_slip_0 8 rfl rfl)
theorem dX0_slip_9 : decode cX0_slip 9 = .ok (.bipush 10, 2) := dk_16 10 (dk_at dksX0_slip_0 9 rfl rfl)
theorem dX0_slip_11 : decode cX0_slip 11 = .ok (.invokestatic 87, 3) := dk_184 0 87 (dk_at dksX0_slip_0 11 rfl rfl)
theorem dX0_slip_14 : decode cX0_slip 14 = .ok (.ifCond .ne 5, 3) := dk_154 0 5 (dk_at dksX0_slip_0 14 rfl rfl)
theorem dX0_slip_17 : decode cX0_slip 17 = .ok (.iconst 0, 1) := dk_3 (dk_at dksX0_slip_0 17 rfl rfl)
theorem dX0_slip_18 : decode cX0_slip 18 = .ok (.ireturn, 1) := dk_172 (dk_at dksX0_slip_0 18 rfl rfl)
theorem dX0_slip_19 : decode cX0_slip 19 = .ok (.aload_n 0, 1) := dk_42 (dk_at dksX0_slip_0 19 rfl rfl)
theorem dX0_slip_20 : decode cX0_slip 20 = .ok (.getfield 33, 3) := dk_180 0 33 (dk_at dksX0_slip_0 20 rfl rfl)
theorem dX0_slip_23 : decode cX0_slip 23 = .ok (.getfield 370, 3) := dk_180 1 114 (dk_at dksX0_slip_1 0 rfl rfl)
theorem dX0_slip_26 : decode cX0_slip 26 = .ok (.iload_n 1, 1) := dk_27 (dk_at dksX0_slip_1 3 rfl rfl)
theorem dX0_slip_27 : decode cX0_slip 27 = .ok (.iload_n 2, 1) := dk_28 (dk_at dksX0_slip_1 4 rfl rfl)
theorem dX0_slip_28 : decode cX0_slip 28 = .ok (.iastore, 1) := dk_79 (dk_at dksX0_slip_1 5 rfl rfl)
theorem dX0_slip_29 : decode cX0_slip 29 = .ok (.iconst 1, 1) := dk_4 (dk_at dksX0_slip_1 6 rfl rfl)
theorem dX0_slip_30 : decode cX0_slip 30 = .ok (.ireturn, 1) := dk_172 (dk_at dksX0_slip_1 7 rfl rfl)
abbrev cX0_scars : ByteArray := prog_1_method_84_code
def yX0_scars : MethodName := ⟨RX0, "scars", "(IIZ)J"⟩
def dkwX0_scars_3 : List UInt8 := [173]
abbrev dktX0_scars_3 : List UInt8 := dkwX0_scars_3 ++ []
def dkwX0_scars_2 : List UInt8 := [22, 4, 184, 1, 29, 55, 8, 29, 153, 0, 11, 22, 6, 22, 8, 109, 167, 0, 8, 22, 4, 22, 8, 109]
abbrev dktX0_scars_2 : List UInt8 := dkwX0_scars_2 ++ dktX0_scars_3
def dkwX0_scars_1 : List UInt8 := [173, 42, 27, 28, 182, 1, 121, 55, 4, 20, 1, 127, 27, 184, 1, 21, 184, 1, 117, 55, 6, 22, 6]
abbrev dktX0_scars_1 : List UInt8 := dkwX0_scars_1 ++ dktX0_scars_2
def dkwX0_scars_0 : List UInt8 := [27, 4, 17, 0, 255, 184, 0, 87, 153, 0, 13, 28, 3, 16, 8, 184, 0, 87, 154, 0, 7, 20, 1, 125]
abbrev dktX0_scars_0 : List UInt8 := dkwX0_scars_0 ++ dktX0_scars_1
theorem dksX0_scars_0 : cX0_scars.data.toList.drop 0 = dktX0_scars_0 := by decide +kernel
theorem dksX0_scars_1 : cX0_scars.data.toList.drop 24 = dktX0_scars_1 := dk_seg dksX0_scars_0 24 rfl rfl
theorem dksX0_scars_2 : cX0_scars.data.toList.drop 47 = dktX0_scars_2 := dk_seg dksX0_scars_1 23 rfl rfl
theorem dksX0_scars_3 : cX0_scars.data.toList.drop 71 = dktX0_scars_3 := dk_seg dksX0_scars_2 24 rfl rfl
theorem dX0_scars_0 : decode cX0_scars 0 = .ok (.iload_n 1, 1) := dk_27 (dk_at dksX0_scars_0 0 rfl rfl)
theorem dX0_scars_1 : decode cX0_scars 1 = .ok (.iconst 1, 1) := dk_4 (dk_at dksX0_scars_0 1 rfl rfl)
theorem dX0_scars_2 : decode cX0_scars 2 = .ok (.sipush 255, 3) := dk_17 0 255 (dk_at dksX0_scars_0 2 rfl rfl)
theorem dX0_scars_5 : decode cX0_scars 5 = .ok (.invokestatic 87, 3) := dk_184 0 87 (dk_at dksX0_scars_0 5 rfl rfl)
theorem dX0_scars_8 : decode cX0_scars 8 = .ok (.ifCond .eq 13, 3) := dk_153 0 13 (dk_at dksX0_scars_0 8 rfl rfl)
theorem dX0_scars_11 : decode cX0_scars 11 = .ok (.iload_n 2, 1) := dk_28 (dk_at dksX0_scars_0 11 rfl rfl)
theorem dX0_scars_12 : decode cX0_scars 12 = .ok (.iconst 0, 1) := dk_3 (dk_at dksX0_scars_0 12 rfl rfl)
theorem dX0_scars_13 : decode cX0_scars 13 = .ok (.bipush 8, 2) := dk_16 8 (dk_at dksX0_scars_0 13 rfl rfl)
theorem dX0_scars_15 : decode cX0_scars 15 = .ok (.invokestatic 87, 3) := dk_184 0 87 (dk_at dksX0_scars_0 15 rfl rfl)
theorem dX0_scars_18 : decode cX0_scars 18 = .ok (.ifCond .ne 7, 3) := dk_154 0 7 (dk_at dksX0_scars_0 18 rfl rfl)
theorem dX0_scars_21 : decode cX0_scars 21 = .ok (.ldc2_w 381, 3) := dk_20 1 125 (dk_at dksX0_scars_0 21 rfl rfl)
theorem dX0_scars_24 : decode cX0_scars 24 = .ok (.lreturn, 1) := dk_173 (dk_at dksX0_scars_1 0 rfl rfl)
theorem dX0_scars_25 : decode cX0_scars 25 = .ok (.aload_n 0, 1) := dk_42 (dk_at dksX0_scars_1 1 rfl rfl)
theorem dX0_scars_26 : decode cX0_scars 26 = .ok (.iload_n 1, 1) := dk_27 (dk_at dksX0_scars_1 2 rfl rfl)
theorem dX0_scars_27 : decode cX0_scars 27 = .ok (.iload_n 2, 1) := dk_28 (dk_at dksX0_scars_1 3 rfl rfl)
theorem dX0_scars_28 : decode cX0_scars 28 = .ok (.invokevirtual 377, 3) := dk_182 1 121 (dk_at dksX0_scars_1 4 rfl rfl)
theorem dX0_scars_31 : decode cX0_scars 31 = .ok (.lstore 4, 2) := dk_55 4 (dk_at dksX0_scars_1 7 rfl rfl)
theorem dX0_scars_33 : decode cX0_scars 33 = .ok (.ldc2_w 383, 3) := dk_20 1 127 (dk_at dksX0_scars_1 9 rfl rfl)
theorem dX0_scars_36 : decode cX0_scars 36 = .ok (.iload_n 1, 1) := dk_27 (dk_at dksX0_scars_1 12 rfl rfl)
theorem dX0_scars_37 : decode cX0_scars 37 = .ok (.invokestatic 277, 3) := dk_184 1 21 (dk_at dksX0_scars_1 13 rfl rfl)
theorem dX0_scars_40 : decode cX0_scars 40 = .ok (.invokestatic 373, 3) := dk_184 1 117 (dk_at dksX0_scars_1 16 rfl rfl)
theorem dX0_scars_43 : decode cX0_scars 43 = .ok (.lstore 6, 2) := dk_55 6 (dk_at dksX0_scars_1 19 rfl rfl)
theorem dX0_scars_45 : decode cX0_scars 45 = .ok (.lload 6, 2) := dk_22 6 (dk_at dksX0_scars_1 21 rfl rfl)
theorem dX0_scars_47 : decode cX0_scars 47 = .ok (.lload 4, 2) := dk_22 4 (dk_at dksX0_scars_2 0 rfl rfl)
theorem dX0_scars_49 : decode cX0_scars 49 = .ok (.invokestatic 285, 3) := dk_184 1 29 (dk_at dksX0_scars_2 2 rfl rfl)
theorem dX0_scars_52 : decode cX0_scars 52 = .ok (.lstore 8, 2) := dk_55 8 (dk_at dksX0_scars_2 5 rfl rfl)
theorem dX0_scars_54 : decode cX0_scars 54 = .ok (.iload_n 3, 1) := dk_29 (dk_at dksX0_scars_2 7 rfl rfl)
theorem dX0_scars_55 : decode cX0_scars 55 = .ok (.ifCond .eq 11, 3) := dk_153 0 11 (dk_at dksX0_scars_2 8 rfl rfl)
theorem dX0_scars_58 : decode cX0_scars 58 = .ok (.lload 6, 2) := dk_22 6 (dk_at dksX0_scars_2 11 rfl rfl)
theorem dX0_scars_60 : decode cX0_scars 60 = .ok (.lload 8, 2) := dk_22 8 (dk_at dksX0_scars_2 13 rfl rfl)
theorem dX0_scars_62 : decode cX0_scars 62 = .ok (.ldiv, 1) := dk_109 (dk_at dksX0_scars_2 15 rfl rfl)
theorem dX0_scars_63 : decode cX0_scars 63 = .ok (.goto 8, 3) := dk_167 0 8 (dk_at dksX0_scars_2 16 rfl rfl)
theorem dX0_scars_66 : decode cX0_scars 66 = .ok (.lload 4, 2) := dk_22 4 (dk_at dksX0_scars_2 19 rfl rfl)
theorem dX0_scars_68 : decode cX0_scars 68 = .ok (.lload 8, 2) := dk_22 8 (dk_at dksX0_scars_2 21 rfl rfl)
theorem dX0_scars_70 : decode cX0_scars 70 = .ok (.ldiv, 1) := dk_109 (dk_at dksX0_scars_2 23 rfl rfl)
theorem dX0_scars_71 : decode cX0_scars 71 = .ok (.lreturn, 1) := dk_173 (dk_at dksX0_scars_3 0 rfl rfl)
abbrev cX0_slipsOf : ByteArray := prog_1_method_83_code
def yX0_slipsOf : MethodName := ⟨RX0, "slipsOf", "(II)J"⟩
def dkwX0_slipsOf_3 : List UInt8 := [105, 97, 173]
abbrev dktX0_slipsOf_3 : List UInt8 := dkwX0_slipsOf_3 ++ []
def dkwX0_slipsOf_2 : List UInt8 := [182, 1, 121, 105, 16, 10, 42, 180, 0, 33, 180, 1, 114, 29, 46, 100, 133, 42, 21, 4, 28, 182, 1, 121]
abbrev dktX0_slipsOf_2 : List UInt8 := dkwX0_slipsOf_2 ++ dktX0_slipsOf_3
def dkwX0_slipsOf_1 : List UInt8 := [62, 27, 27, 4, 100, 126, 54, 4, 42, 180, 0, 33, 180, 1, 114, 29, 46, 133, 42, 21, 4, 28, 4, 100]
abbrev dktX0_slipsOf_1 : List UInt8 := dkwX0_slipsOf_1 ++ dktX0_slipsOf_2
def dkwX0_slipsOf_0 : List UInt8 := [28, 156, 0, 5, 9, 173, 27, 154, 0, 13, 28, 154, 0, 7, 10, 167, 0, 4, 9, 173, 27, 184, 1, 92]
abbrev dktX0_slipsOf_0 : List UInt8 := dkwX0_slipsOf_0 ++ dktX0_slipsOf_1
theorem dksX0_slipsOf_0 : cX0_slipsOf.data.toList.drop 0 = dktX0_slipsOf_0 := by decide +kernel
theorem dksX0_slipsOf_1 : cX0_slipsOf.data.toList.drop 24 = dktX0_slipsOf_1 := dk_seg dksX0_slipsOf_0 24 rfl rfl
theorem dksX0_slipsOf_2 : cX0_slipsOf.data.toList.drop 48 = dktX0_slipsOf_2 := dk_seg dksX0_slipsOf_1 24 rfl rfl
theorem dksX0_slipsOf_3 : cX0_slipsOf.data.toList.drop 72 = dktX0_slipsOf_3 := dk_seg dksX0_slipsOf_2 24 rfl rfl
theorem dX0_slipsOf_0 : decode cX0_slipsOf 0 = .ok (.iload_n 2, 1) := dk_28 (dk_at dksX0_slipsOf_0 0 rfl rfl)
theorem dX0_slipsOf_1 : decode cX0_slipsOf 1 = .ok (.ifCond .ge 5, 3) := dk_156 0 5 (dk_at dksX0_slipsOf_0 1 rfl rfl)
theorem dX0_slipsOf_4 : decode cX0_slipsOf 4 = .ok (.lconst 0, 1) := dk_9 (dk_at dksX0_slipsOf_0 4 rfl rfl)
theorem dX0_slipsOf_5 : decode cX0_slipsOf 5 = .ok (.lreturn, 1) := dk_173 (dk_at dksX0_slipsOf_0 5 rfl rfl)
theorem dX0_slipsOf_6 : decode cX0_slipsOf 6 = .ok (.iload_n 1, 1) := dk_27 (dk_at dksX0_slipsOf_0 6 rfl rfl)
theorem dX0_slipsOf_7 : decode cX0_slipsOf 7 = .ok (.ifCond .ne 13, 3) := dk_154 0 13 (dk_at dksX0_slipsOf_0 7 rfl rfl)
theorem dX0_slipsOf_10 : decode cX0_slipsOf 10 = .ok (.iload_n 2, 1) := dk_28 (dk_at dksX0_slipsOf_0 10 rfl rfl)
theorem dX0_slipsOf_11 : decode cX0_slipsOf 11 = .ok (.ifCond .ne 7, 3) := dk_154 0 7 (dk_at dksX0_slipsOf_0 11 rfl rfl)
theorem dX0_slipsOf_14 : decode cX0_slipsOf 14 = .ok (.lconst 1, 1) := dk_10 (dk_at dksX0_slipsOf_0 14 rfl rfl)
theorem dX0_slipsOf_15 : decode cX0_slipsOf 15 = .ok (.goto 4, 3) := dk_167 0 4 (dk_at dksX0_slipsOf_0 15 rfl rfl)
theorem dX0_slipsOf_18 : decode cX0_slipsOf 18 = .ok (.lconst 0, 1) := dk_9 (dk_at dksX0_slipsOf_0 18 rfl rfl)
theorem dX0_slipsOf_19 : decode cX0_slipsOf 19 = .ok (.lreturn, 1) := dk_173 (dk_at dksX0_slipsOf_0 19 rfl rfl)
theorem dX0_slipsOf_20 : decode cX0_slipsOf 20 = .ok (.iload_n 1, 1) := dk_27 (dk_at dksX0_slipsOf_0 20 rfl rfl)
theorem dX0_slipsOf_21 : decode cX0_slipsOf 21 = .ok (.invokestatic 348, 3) := dk_184 1 92 (dk_at dksX0_slipsOf_0 21 rfl rfl)
theorem dX0_slipsOf_24 : decode cX0_slipsOf 24 = .ok (.istore_n 3, 1) := dk_62 (dk_at dksX0_slipsOf_1 0 rfl rfl)
theorem dX0_slipsOf_25 : decode cX0_slipsOf 25 = .ok (.iload_n 1, 1) := dk_27 (dk_at dksX0_slipsOf_1 1 rfl rfl)
theorem dX0_slipsOf_26 : decode cX0_slipsOf 26 = .ok (.iload_n 1, 1) := dk_27 (dk_at dksX0_slipsOf_1 2 rfl rfl)
theorem dX0_slipsOf_27 : decode cX0_slipsOf 27 = .ok (.iconst 1, 1) := dk_4 (dk_at dksX0_slipsOf_1 3 rfl rfl)
theorem dX0_slipsOf_28 : decode cX0_slipsOf 28 = .ok (.isub, 1) := dk_100 (dk_at dksX0_slipsOf_1 4 rfl rfl)
theorem dX0_slipsOf_29 : decode cX0_slipsOf 29 = .ok (.iand, 1) := dk_126 (dk_at dksX0_slipsOf_1 5 rfl rfl)
theorem dX0_slipsOf_30 : decode cX0_slipsOf 30 = .ok (.istore 4, 2) := dk_54 4 (dk_at dksX0_slipsOf_1 6 rfl rfl)
theorem dX0_slipsOf_32 : decode cX0_slipsOf 32 = .ok (.aload_n 0, 1) := dk_42 (dk_at dksX0_slipsOf_1 8 rfl rfl)
theorem dX0_slipsOf_33 : decode cX0_slipsOf 33 = .ok (.getfield 33, 3) := dk_180 0 33 (dk_at dksX0_slipsOf_1 9 rfl rfl)
theorem dX0_slipsOf_36 : decode cX0_slipsOf 36 = .ok (.getfield 370, 3) := dk_180 1 114 (dk_at dksX0_slipsOf_1 12 rfl rfl)
theorem dX0_slipsOf_39 : decode cX0_slipsOf 39 = .ok (.iload_n 3, 1) := dk_29 (dk_at dksX0_slipsOf_1 15 rfl rfl)
theorem dX0_slipsOf_40 : decode cX0_slipsOf 40 = .ok (.iaload, 1) := dk_46 (dk_at dksX0_slipsOf_1 16 rfl rfl)
theorem dX0_slipsOf_41 : decode cX0_slipsOf 41 = .ok (.i2l, 1) := dk_133 (dk_at dksX0_slipsOf_1 17 rfl rfl)
theorem dX0_slipsOf_42 : decode cX0_slipsOf 42 = .ok (.aload_n 0, 1) := dk_42 (dk_at dksX0_slipsOf_1 18 rfl rfl)
theorem dX0_slipsOf_43 : decode cX0_slipsOf 43 = .ok (.iload 4, 2) := dk_21 4 (dk_at dksX0_slipsOf_1 19 rfl rfl)
theorem dX0_slipsOf_45 : decode cX0_slipsOf 45 = .ok (.iload_n 2, 1) := dk_28 (dk_at dksX0_slipsOf_1 21 rfl rfl)
theorem dX0_slipsOf_46 : decode cX0_slipsOf 46 = .ok (.iconst 1, 1) := dk_4 (dk_at dksX0_slipsOf_1 22 rfl rfl)
theorem dX0_slipsOf_47 : decode cX0_slipsOf 47 = .ok (.isub, 1) := dk_100 (dk_at dksX0_slipsOf_1 23 rfl rfl)
theorem dX0_slipsOf_48 : decode cX0_slipsOf 48 = .ok (.invokevirtual 377, 3) := dk_182 1 121 (dk_at dksX0_slipsOf_2 0 rfl rfl)
theorem dX0_slipsOf_51 : decode cX0_slipsOf 51 = .ok (.lmul, 1) := dk_105 (dk_at dksX0_slipsOf_2 3 rfl rfl)
theorem dX0_slipsOf_52 : decode cX0_slipsOf 52 = .ok (.bipush 10, 2) := dk_16 10 (dk_at dksX0_slipsOf_2 4 rfl rfl)
theorem dX0_slipsOf_54 : decode cX0_slipsOf 54 = .ok (.aload_n 0, 1) := dk_42 (dk_at dksX0_slipsOf_2 6 rfl rfl)
theorem dX0_slipsOf_55 : decode cX0_slipsOf 55 = .ok (.getfield 33, 3) := dk_180 0 33 (dk_at dksX0_slipsOf_2 7 rfl rfl)
theorem dX0_slipsOf_58 : decode cX0_slipsOf 58 = .ok (.getfield 370, 3) := dk_180 1 114 (dk_at dksX0_slipsOf_2 10 rfl rfl)
theorem dX0_slipsOf_61 : decode cX0_slipsOf 61 = .ok (.iload_n 3, 1) := dk_29 (dk_at dksX0_slipsOf_2 13 rfl rfl)
theorem dX0_slipsOf_62 : decode cX0_slipsOf 62 = .ok (.iaload, 1) := dk_46 (dk_at dksX0_slipsOf_2 14 rfl rfl)
theorem dX0_slipsOf_63 : decode cX0_slipsOf 63 = .ok (.isub, 1) := dk_100 (dk_at dksX0_slipsOf_2 15 rfl rfl)
theorem dX0_slipsOf_64 : decode cX0_slipsOf 64 = .ok (.i2l, 1) := dk_133 (dk_at dksX0_slipsOf_2 16 rfl rfl)
theorem dX0_slipsOf_65 : decode cX0_slipsOf 65 = .ok (.aload_n 0, 1) := dk_42 (dk_at dksX0_slipsOf_2 17 rfl rfl)
theorem dX0_slipsOf_66 : decode cX0_slipsOf 66 = .ok (.iload 4, 2) := dk_21 4 (dk_at dksX0_slipsOf_2 18 rfl rfl)
theorem dX0_slipsOf_68 : decode cX0_slipsOf 68 = .ok (.iload_n 2, 1) := dk_28 (dk_at dksX0_slipsOf_2 20 rfl rfl)
theorem dX0_slipsOf_69 : decode cX0_slipsOf 69 = .ok (.invokevirtual 377, 3) := dk_182 1 121 (dk_at dksX0_slipsOf_2 21 rfl rfl)
theorem dX0_slipsOf_72 : decode cX0_slipsOf 72 = .ok (.lmul, 1) := dk_105 (dk_at dksX0_slipsOf_3 0 rfl rfl)
theorem dX0_slipsOf_73 : decode cX0_slipsOf 73 = .ok (.ladd, 1) := dk_97 (dk_at dksX0_slipsOf_3 1 rfl rfl)
theorem dX0_slipsOf_74 : decode cX0_slipsOf 74 = .ok (.lreturn, 1) := dk_173 (dk_at dksX0_slipsOf_3 2 rfl rfl)
abbrev cX0_power : ByteArray := prog_1_method_82_code
def yX0_power : MethodName := ⟨RX0, "power", "(JI)J"⟩
def dkwX0_power_0 : List UInt8 := [28, 154, 0, 7, 10, 167, 0, 12, 30, 30, 28, 4, 100, 184, 1, 117, 105, 173]
abbrev dktX0_power_0 : List UInt8 := dkwX0_power_0 ++ []
theorem dksX0_power_0 : cX0_power.data.toList.drop 0 = dktX0_power_0 := by decide +kernel
theorem dX0_power_0 : decode cX0_power 0 = .ok (.iload_n 2, 1) := dk_28 (dk_at dksX0_power_0 0 rfl rfl)
theorem dX0_power_1 : decode cX0_power 1 = .ok (.ifCond .ne 7, 3) := dk_154 0 7 (dk_at dksX0_power_0 1 rfl rfl)
theorem dX0_power_4 : decode cX0_power 4 = .ok (.lconst 1, 1) := dk_10 (dk_at dksX0_power_0 4 rfl rfl)
theorem dX0_power_5 : decode cX0_power 5 = .ok (.goto 12, 3) := dk_167 0 12 (dk_at dksX0_power_0 5 rfl rfl)
theorem dX0_power_8 : decode cX0_power 8 = .ok (.lload_n 0, 1) := dk_30 (dk_at dksX0_power_0 8 rfl rfl)
theorem dX0_power_9 : decode cX0_power 9 = .ok (.lload_n 0, 1) := dk_30 (dk_at dksX0_power_0 9 rfl rfl)
theorem dX0_power_10 : decode cX0_power 10 = .ok (.iload_n 2, 1) := dk_28 (dk_at dksX0_power_0 10 rfl rfl)
theorem dX0_power_11 : decode cX0_power 11 = .ok (.iconst 1, 1) := dk_4 (dk_at dksX0_power_0 11 rfl rfl)
theorem dX0_power_12 : decode cX0_power 12 = .ok (.isub, 1) := dk_100 (dk_at dksX0_power_0 12 rfl rfl)
theorem dX0_power_13 : decode cX0_power 13 = .ok (.invokestatic 373, 3) := dk_184 1 117 (dk_at dksX0_power_0 13 rfl rfl)
theorem dX0_power_16 : decode cX0_power 16 = .ok (.lmul, 1) := dk_105 (dk_at dksX0_power_0 16 rfl rfl)
theorem dX0_power_17 : decode cX0_power 17 = .ok (.lreturn, 1) := dk_173 (dk_at dksX0_power_0 17 rfl rfl)
abbrev cX0_rate : ByteArray := prog_1_method_85_code
def yX0_rate : MethodName := ⟨RX0, "rate", "(II)I"⟩
def dkwX0_rate_2 : List UInt8 := [180, 0, 33, 42, 180, 0, 33, 180, 1, 129, 8, 27, 28, 182, 1, 73, 167, 0, 5, 16, 254, 172]
abbrev dktX0_rate_2 : List UInt8 := dkwX0_rate_2 ++ []
def dkwX0_rate_1 : List UInt8 := [16, 99, 184, 0, 87, 153, 0, 37, 42, 180, 0, 33, 180, 0, 91, 8, 46, 16, 8, 162, 0, 23, 42]
abbrev dktX0_rate_1 : List UInt8 := dkwX0_rate_1 ++ dktX0_rate_2
def dkwX0_rate_0 : List UInt8 := [27, 2, 160, 0, 12, 42, 180, 0, 33, 8, 182, 1, 67, 172, 42, 27, 182, 0, 138, 153, 0, 47, 28, 3]
abbrev dktX0_rate_0 : List UInt8 := dkwX0_rate_0 ++ dktX0_rate_1
theorem dksX0_rate_0 : cX0_rate.data.toList.drop 0 = dktX0_rate_0 := by decide +kernel
theorem dksX0_rate_1 : cX0_rate.data.toList.drop 24 = dktX0_rate_1 := dk_seg dksX0_rate_0 24 rfl rfl
theorem dksX0_rate_2 : cX0_rate.data.toList.drop 47 = dktX0_rate_2 := dk_seg dksX0_rate_1 23 rfl rfl
theorem dX0_rate_0 : decode cX0_rate 0 = .ok (.iload_n 1, 1) := dk_27 (dk_at dksX0_rate_0 0 rfl rfl)
theorem dX0_rate_1 : decode cX0_rate 1 = .ok (.iconst (-1), 1) := dk_2 (dk_at dksX0_rate_0 1 rfl rfl)
theorem dX0_rate_2 : decode cX0_rate 2 = .ok (.if_icmp .ne 12, 3) := dk_160 0 12 (dk_at dksX0_rate_0 2 rfl rfl)
theorem dX0_rate_5 : decode cX0_rate 5 = .ok (.aload_n 0, 1) := dk_42 (dk_at dksX0_rate_0 5 rfl rfl)
theorem dX0_rate_6 : decode cX0_rate 6 = .ok (.getfield 33, 3) := dk_180 0 33 (dk_at dksX0_rate_0 6 rfl rfl)
theorem dX0_rate_9 : decode cX0_rate 9 = .ok (.iconst 5, 1) := dk_8 (dk_at dksX0_rate_0 9 rfl rfl)
theorem dX0_rate_10 : decode cX0_rate 10 = .ok (.invokevirtual 323, 3) := dk_182 1 67 (dk_at dksX0_rate_0 10 rfl rfl)
theorem dX0_rate_13 : decode cX0_rate 13 = .ok (.ireturn, 1) := dk_172 (dk_at dksX0_rate_0 13 rfl rfl)
theorem dX0_rate_14 : decode cX0_rate 14 = .ok (.aload_n 0, 1) := dk_42 (dk_at dksX0_rate_0 14 rfl rfl)
theorem dX0_rate_15 : decode cX0_rate 15 = .ok (.iload_n 1, 1) := dk_27 (dk_at dksX0_rate_0 15 rfl rfl)
theorem dX0_rate_16 : decode cX0_rate 16 = .ok (.invokevirtual 138, 3) := dk_182 0 138 (dk_at dksX0_rate_0 16 rfl rfl)
theorem dX0_rate_19 : decode cX0_rate 19 = .ok (.ifCond .eq 47, 3) := dk_153 0 47 (dk_at dksX0_rate_0 19 rfl rfl)
theorem dX0_rate_22 : decode cX0_rate 22 = .ok (.iload_n 2, 1) := dk_28 (dk_at dksX0_rate_0 22 rfl rfl)
theorem dX0_rate_23 : decode cX0_rate 23 = .ok (.iconst 0, 1) := dk_3 (dk_at dksX0_rate_0 23 rfl rfl)
theorem dX0_rate_24 : decode cX0_rate 24 = .ok (.bipush 99, 2) := dk_16 99 (dk_at dksX0_rate_1 0 rfl rfl)
theorem dX0_rate_26 : decode cX0_rate 26 = .ok (.invokestatic 87, 3) := dk_184 0 87 (dk_at dksX0_rate_1 2 rfl rfl)
theorem dX0_rate_29 : decode cX0_rate 29 = .ok (.ifCond .eq 37, 3) := dk_153 0 37 (dk_at dksX0_rate_1 5 rfl rfl)
theorem dX0_rate_32 : decode cX0_rate 32 = .ok (.aload_n 0, 1) := dk_42 (dk_at dksX0_rate_1 8 rfl rfl)
theorem dX0_rate_33 : decode cX0_rate 33 = .ok (.getfield 33, 3) := dk_180 0 33 (dk_at dksX0_rate_1 9 rfl rfl)
theorem dX0_rate_36 : decode cX0_rate 36 = .ok (.getfield 91, 3) := dk_180 0 91 (dk_at dksX0_rate_1 12 rfl rfl)
theorem dX0_rate_39 : decode cX0_rate 39 = .ok (.iconst 5, 1) := dk_8 (dk_at dksX0_rate_1 15 rfl rfl)
theorem dX0_rate_40 : decode cX0_rate 40 = .ok (.iaload, 1) := dk_46 (dk_at dksX0_rate_1 16 rfl rfl)
theorem dX0_rate_41 : decode cX0_rate 41 = .ok (.bipush 8, 2) := dk_16 8 (dk_at dksX0_rate_1 17 rfl rfl)
theorem dX0_rate_43 : decode cX0_rate 43 = .ok (.if_icmp .ge 23, 3) := dk_162 0 23 (dk_at dksX0_rate_1 19 rfl rfl)
theorem dX0_rate_46 : decode cX0_rate 46 = .ok (.aload_n 0, 1) := dk_42 (dk_at dksX0_rate_1 22 rfl rfl)
theorem dX0_rate_47 : decode cX0_rate 47 = .ok (.getfield 33, 3) := dk_180 0 33 (dk_at dksX0_rate_2 0 rfl rfl)
theorem dX0_rate_50 : decode cX0_rate 50 = .ok (.aload_n 0, 1) := dk_42 (dk_at dksX0_rate_2 3 rfl rfl)
theorem dX0_rate_51 : decode cX0_rate 51 = .ok (.getfield 33, 3) := dk_180 0 33 (dk_at dksX0_rate_2 4 rfl rfl)
theorem dX0_rate_54 : decode cX0_rate 54 = .ok (.getfield 385, 3) := dk_180 1 129 (dk_at dksX0_rate_2 7 rfl rfl)
theorem dX0_rate_57 : decode cX0_rate 57 = .ok (.iconst 5, 1) := dk_8 (dk_at dksX0_rate_2 10 rfl rfl)
theorem dX0_rate_58 : decode cX0_rate 58 = .ok (.iload_n 1, 1) := dk_27 (dk_at dksX0_rate_2 11 rfl rfl)
theorem dX0_rate_59 : decode cX0_rate 59 = .ok (.iload_n 2, 1) := dk_28 (dk_at dksX0_rate_2 12 rfl rfl)
theorem dX0_rate_60 : decode cX0_rate 60 = .ok (.invokevirtual 329, 3) := dk_182 1 73 (dk_at dksX0_rate_2 13 rfl rfl)
theorem dX0_rate_63 : decode cX0_rate 63 = .ok (.goto 5, 3) := dk_167 0 5 (dk_at dksX0_rate_2 16 rfl rfl)
theorem dX0_rate_66 : decode cX0_rate 66 = .ok (.bipush (-2), 2) := dk_16 254 (dk_at dksX0_rate_2 19 rfl rfl)
theorem dX0_rate_68 : decode cX0_rate 68 = .ok (.ireturn, 1) := dk_172 (dk_at dksX0_rate_2 21 rfl rfl)
abbrev cX0_law : ByteArray := prog_1_method_87_code
def yX0_law : MethodName := ⟨RX0, "law", "()I"⟩
def dkwX0_law_2 : List UInt8 := [167, 255, 214, 27, 172]
abbrev dktX0_law_2 : List UInt8 := dkwX0_law_2 ++ []
def dkwX0_law_1 : List UInt8 := [180, 0, 112, 28, 50, 182, 1, 132, 153, 0, 9, 4, 28, 120, 167, 0, 4, 3, 128, 60, 132, 2, 1]
abbrev dktX0_law_1 : List UInt8 := dkwX0_law_1 ++ dktX0_law_2
def dkwX0_law_0 : List UInt8 := [3, 60, 3, 61, 28, 42, 180, 0, 33, 180, 0, 91, 4, 46, 162, 0, 35, 27, 42, 42, 180, 0, 33]
abbrev dktX0_law_0 : List UInt8 := dkwX0_law_0 ++ dktX0_law_1
theorem dksX0_law_0 : cX0_law.data.toList.drop 0 = dktX0_law_0 := by decide +kernel
theorem dksX0_law_1 : cX0_law.data.toList.drop 23 = dktX0_law_1 := dk_seg dksX0_law_0 23 rfl rfl
theorem dksX0_law_2 : cX0_law.data.toList.drop 46 = dktX0_law_2 := dk_seg dksX0_law_1 23 rfl rfl
theorem dX0_law_0 : decode cX0_law 0 = .ok (.iconst 0, 1) := dk_3 (dk_at dksX0_law_0 0 rfl rfl)
theorem dX0_law_1 : decode cX0_law 1 = .ok (.istore_n 1, 1) := dk_60 (dk_at dksX0_law_0 1 rfl rfl)
theorem dX0_law_2 : decode cX0_law 2 = .ok (.iconst 0, 1) := dk_3 (dk_at dksX0_law_0 2 rfl rfl)
theorem dX0_law_3 : decode cX0_law 3 = .ok (.istore_n 2, 1) := dk_61 (dk_at dksX0_law_0 3 rfl rfl)
theorem dX0_law_4 : decode cX0_law 4 = .ok (.iload_n 2, 1) := dk_28 (dk_at dksX0_law_0 4 rfl rfl)
theorem dX0_law_5 : decode cX0_law 5 = .ok (.aload_n 0, 1) := dk_42 (dk_at dksX0_law_0 5 rfl rfl)
theorem dX0_law_6 : decode cX0_law 6 = .ok (.getfield 33, 3) := dk_180 0 33 (dk_at dksX0_law_0 6 rfl rfl)
theorem dX0_law_9 : decode cX0_law 9 = .ok (.getfield 91, 3) := dk_180 0 91 (dk_at dksX0_law_0 9 rfl rfl)
theorem dX0_law_12 : decode cX0_law 12 = .ok (.iconst 1, 1) := dk_4 (dk_at dksX0_law_0 12 rfl rfl)
theorem dX0_law_13 : decode cX0_law 13 = .ok (.iaload, 1) := dk_46 (dk_at dksX0_law_0 13 rfl rfl)
theorem dX0_law_14 : decode cX0_law 14 = .ok (.if_icmp .ge 35, 3) := dk_162 0 35 (dk_at dksX0_law_0 14 rfl rfl)
theorem dX0_law_17 : decode cX0_law 17 = .ok (.iload_n 1, 1) := dk_27 (dk_at dksX0_law_0 17 rfl rfl)
theorem dX0_law_18 : decode cX0_law 18 = .ok (.aload_n 0, 1) := dk_42 (dk_at dksX0_law_0 18 rfl rfl)
theorem dX0_law_19 : decode cX0_law 19 = .ok (.aload_n 0, 1) := dk_42 (dk_at dksX0_law_0 19 rfl rfl)
theorem dX0_law_20 : decode cX0_law 20 = .ok (.getfield 33, 3) := dk_180 0 33 (dk_at dksX0_law_0 20 rfl rfl)
theorem dX0_law_23 : decode cX0_law 23 = .ok (.getfield 112, 3) := dk_180 0 112 (dk_at dksX0_law_1 0 rfl rfl)
theorem dX0_law_26 : decode cX0_law 26 = .ok (.iload_n 2, 1) := dk_28 (dk_at dksX0_law_1 3 rfl rfl)
theorem dX0_law_27 : decode cX0_law 27 = .ok (.aaload, 1) := dk_50 (dk_at dksX0_law_1 4 rfl rfl)
theorem dX0_law_28 : decode cX0_law 28 = .ok (.invokevirtual 388, 3) := dk_182 1 132 (dk_at dksX0_law_1 5 rfl rfl)
theorem dX0_law_31 : decode cX0_law 31 = .ok (.ifCond .eq 9, 3) := dk_153 0 9 (dk_at dksX0_law_1 8 rfl rfl)
theorem dX0_law_34 : decode cX0_law 34 = .ok (.iconst 1, 1) := dk_4 (dk_at dksX0_law_1 11 rfl rfl)
theorem dX0_law_35 : decode cX0_law 35 = .ok (.iload_n 2, 1) := dk_28 (dk_at dksX0_law_1 12 rfl rfl)
theorem dX0_law_36 : decode cX0_law 36 = .ok (.ishl, 1) := dk_120 (dk_at dksX0_law_1 13 rfl rfl)
theorem dX0_law_37 : decode cX0_law 37 = .ok (.goto 4, 3) := dk_167 0 4 (dk_at dksX0_law_1 14 rfl rfl)
theorem dX0_law_40 : decode cX0_law 40 = .ok (.iconst 0, 1) := dk_3 (dk_at dksX0_law_1 17 rfl rfl)
theorem dX0_law_41 : decode cX0_law 41 = .ok (.ior, 1) := dk_128 (dk_at dksX0_law_1 18 rfl rfl)
theorem dX0_law_42 : decode cX0_law 42 = .ok (.istore_n 1, 1) := dk_60 (dk_at dksX0_law_1 19 rfl rfl)
theorem dX0_law_43 : decode cX0_law 43 = .ok (.iinc 2 1, 3) := dk_132 2 1 (dk_at dksX0_law_1 20 rfl rfl)
theorem dX0_law_46 : decode cX0_law 46 = .ok (.goto (-42), 3) := dk_167 255 214 (dk_at dksX0_law_2 0 rfl rfl)
theorem dX0_law_49 : decode cX0_law 49 = .ok (.iload_n 1, 1) := dk_27 (dk_at dksX0_law_2 3 rfl rfl)
theorem dX0_law_50 : decode cX0_law 50 = .ok (.ireturn, 1) := dk_172 (dk_at dksX0_law_2 4 rfl rfl)
abbrev cX0_isLaw : ByteArray := prog_1_method_86_code
def yX0_isLaw : MethodName := ⟨RX0, "isLaw", "(LShaveOfAnother$Text;)Z"⟩
def dkwX0_isLaw_2 : List UInt8 := [4, 46, 159, 0, 5, 3, 172, 132, 2, 1, 167, 255, 200, 4, 172]
abbrev dktX0_isLaw_2 : List UInt8 := dkwX0_isLaw_2 ++ []
def dkwX0_isLaw_1 : List UInt8 := [42, 180, 0, 33, 180, 1, 129, 28, 50, 3, 46, 5, 182, 0, 173, 42, 180, 0, 33, 180, 1, 129, 28, 50]
abbrev dktX0_isLaw_1 : List UInt8 := dkwX0_isLaw_1 ++ dktX0_isLaw_2
def dkwX0_isLaw_0 : List UInt8 := [3, 61, 28, 42, 180, 0, 33, 180, 0, 91, 8, 46, 162, 0, 49, 42, 43, 42, 180, 0, 33, 180, 0, 189]
abbrev dktX0_isLaw_0 : List UInt8 := dkwX0_isLaw_0 ++ dktX0_isLaw_1
theorem dksX0_isLaw_0 : cX0_isLaw.data.toList.drop 0 = dktX0_isLaw_0 := by decide +kernel
theorem dksX0_isLaw_1 : cX0_isLaw.data.toList.drop 24 = dktX0_isLaw_1 := dk_seg dksX0_isLaw_0 24 rfl rfl
theorem dksX0_isLaw_2 : cX0_isLaw.data.toList.drop 48 = dktX0_isLaw_2 := dk_seg dksX0_isLaw_1 24 rfl rfl
theorem dX0_isLaw_0 : decode cX0_isLaw 0 = .ok (.iconst 0, 1) := dk_3 (dk_at dksX0_isLaw_0 0 rfl rfl)
theorem dX0_isLaw_1 : decode cX0_isLaw 1 = .ok (.istore_n 2, 1) := dk_61 (dk_at dksX0_isLaw_0 1 rfl rfl)
theorem dX0_isLaw_2 : decode cX0_isLaw 2 = .ok (.iload_n 2, 1) := dk_28 (dk_at dksX0_isLaw_0 2 rfl rfl)
theorem dX0_isLaw_3 : decode cX0_isLaw 3 = .ok (.aload_n 0, 1) := dk_42 (dk_at dksX0_isLaw_0 3 rfl rfl)
theorem dX0_isLaw_4 : decode cX0_isLaw 4 = .ok (.getfield 33, 3) := dk_180 0 33 (dk_at dksX0_isLaw_0 4 rfl rfl)
theorem dX0_isLaw_7 : decode cX0_isLaw 7 = .ok (.getfield 91, 3) := dk_180 0 91 (dk_at dksX0_isLaw_0 7 rfl rfl)
theorem dX0_isLaw_10 : decode cX0_isLaw 10 = .ok (.iconst 5, 1) := dk_8 (dk_at dksX0_isLaw_0 10 rfl rfl)
theorem dX0_isLaw_11 : decode cX0_isLaw 11 = .ok (.iaload, 1) := dk_46 (dk_at dksX0_isLaw_0 11 rfl rfl)
theorem dX0_isLaw_12 : decode cX0_isLaw 12 = .ok (.if_icmp .ge 49, 3) := dk_162 0 49 (dk_at dksX0_isLaw_0 12 rfl rfl)
theorem dX0_isLaw_15 : decode cX0_isLaw 15 = .ok (.aload_n 0, 1) := dk_42 (dk_at dksX0_isLaw_0 15 rfl rfl)
theorem dX0_isLaw_16 : decode cX0_isLaw 16 = .ok (.aload_n 1, 1) := dk_43 (dk_at dksX0_isLaw_0 16 rfl rfl)
theorem dX0_isLaw_17 : decode cX0_isLaw 17 = .ok (.aload_n 0, 1) := dk_42 (dk_at dksX0_isLaw_0 17 rfl rfl)
theorem dX0_isLaw_18 : decode cX0_isLaw 18 = .ok (.getfield 33, 3) := dk_180 0 33 (dk_at dksX0_isLaw_0 18 rfl rfl)
theorem dX0_isLaw_21 : decode cX0_isLaw 21 = .ok (.getfield 189, 3) := dk_180 0 189 (dk_at dksX0_isLaw_0 21 rfl rfl)
theorem dX0_isLaw_24 : decode cX0_isLaw 24 = .ok (.aload_n 0, 1) := dk_42 (dk_at dksX0_isLaw_1 0 rfl rfl)
theorem dX0_isLaw_25 : decode cX0_isLaw 25 = .ok (.getfield 33, 3) := dk_180 0 33 (dk_at dksX0_isLaw_1 1 rfl rfl)
theorem dX0_isLaw_28 : decode cX0_isLaw 28 = .ok (.getfield 385, 3) := dk_180 1 129 (dk_at dksX0_isLaw_1 4 rfl rfl)
theorem dX0_isLaw_31 : decode cX0_isLaw 31 = .ok (.iload_n 2, 1) := dk_28 (dk_at dksX0_isLaw_1 7 rfl rfl)
theorem dX0_isLaw_32 : decode cX0_isLaw 32 = .ok (.aaload, 1) := dk_50 (dk_at dksX0_isLaw_1 8 rfl rfl)
theorem dX0_isLaw_33 : decode cX0_isLaw 33 = .ok (.iconst 0, 1) := dk_3 (dk_at dksX0_isLaw_1 9 rfl rfl)
theorem dX0_isLaw_34 : decode cX0_isLaw 34 = .ok (.iaload, 1) := dk_46 (dk_at dksX0_isLaw_1 10 rfl rfl)
theorem dX0_isLaw_35 : decode cX0_isLaw 35 = .ok (.iconst 2, 1) := dk_5 (dk_at dksX0_isLaw_1 11 rfl rfl)
theorem dX0_isLaw_36 : decode cX0_isLaw 36 = .ok (.invokevirtual 173, 3) := dk_182 0 173 (dk_at dksX0_isLaw_1 12 rfl rfl)
theorem dX0_isLaw_39 : decode cX0_isLaw 39 = .ok (.aload_n 0, 1) := dk_42 (dk_at dksX0_isLaw_1 15 rfl rfl)
theorem dX0_isLaw_40 : decode cX0_isLaw 40 = .ok (.getfield 33, 3) := dk_180 0 33 (dk_at dksX0_isLaw_1 16 rfl rfl)
theorem dX0_isLaw_43 : decode cX0_isLaw 43 = .ok (.getfield 385, 3) := dk_180 1 129 (dk_at dksX0_isLaw_1 19 rfl rfl)
theorem dX0_isLaw_46 : decode cX0_isLaw 46 = .ok (.iload_n 2, 1) := dk_28 (dk_at dksX0_isLaw_1 22 rfl rfl)
theorem dX0_isLaw_47 : decode cX0_isLaw 47 = .ok (.aaload, 1) := dk_50 (dk_at dksX0_isLaw_1 23 rfl rfl)
theorem dX0_isLaw_48 : decode cX0_isLaw 48 = .ok (.iconst 1, 1) := dk_4 (dk_at dksX0_isLaw_2 0 rfl rfl)
theorem dX0_isLaw_49 : decode cX0_isLaw 49 = .ok (.iaload, 1) := dk_46 (dk_at dksX0_isLaw_2 1 rfl rfl)
theorem dX0_isLaw_50 : decode cX0_isLaw 50 = .ok (.if_icmp .eq 5, 3) := dk_159 0 5 (dk_at dksX0_isLaw_2 2 rfl rfl)
theorem dX0_isLaw_53 : decode cX0_isLaw 53 = .ok (.iconst 0, 1) := dk_3 (dk_at dksX0_isLaw_2 5 rfl rfl)
theorem dX0_isLaw_54 : decode cX0_isLaw 54 = .ok (.ireturn, 1) := dk_172 (dk_at dksX0_isLaw_2 6 rfl rfl)
theorem dX0_isLaw_55 : decode cX0_isLaw 55 = .ok (.iinc 2 1, 3) := dk_132 2 1 (dk_at dksX0_isLaw_2 7 rfl rfl)
theorem dX0_isLaw_58 : decode cX0_isLaw 58 = .ok (.goto (-56), 3) := dk_167 255 200 (dk_at dksX0_isLaw_2 10 rfl rfl)
theorem dX0_isLaw_61 : decode cX0_isLaw 61 = .ok (.iconst 1, 1) := dk_4 (dk_at dksX0_isLaw_2 13 rfl rfl)
theorem dX0_isLaw_62 : decode cX0_isLaw 62 = .ok (.ireturn, 1) := dk_172 (dk_at dksX0_isLaw_2 14 rfl rfl)
abbrev cX0_hairiest : ByteArray := prog_1_method_88_code
def yX0_hairiest : MethodName := ⟨RX0, "hairiest", "()I"⟩
def dkwX0_hairiest_2 : List UInt8 := [28, 60, 132, 2, 1, 167, 255, 208, 27, 172]
abbrev dktX0_hairiest_2 : List UInt8 := dkwX0_hairiest_2 ++ []
def dkwX0_hairiest_1 : List UInt8 := [180, 0, 33, 180, 0, 189, 6, 28, 96, 46, 42, 180, 0, 33, 180, 0, 189, 6, 27, 96, 46, 164, 0, 5]
abbrev dktX0_hairiest_1 : List UInt8 := dkwX0_hairiest_1 ++ dktX0_hairiest_2
def dkwX0_hairiest_0 : List UInt8 := [2, 60, 3, 61, 28, 42, 180, 0, 33, 180, 0, 91, 3, 46, 162, 0, 41, 27, 2, 159, 0, 28, 42]
abbrev dktX0_hairiest_0 : List UInt8 := dkwX0_hairiest_0 ++ dktX0_hairiest_1
theorem dksX0_hairiest_0 : cX0_hairiest.data.toList.drop 0 = dktX0_hairiest_0 := by decide +kernel
theorem dksX0_hairiest_1 : cX0_hairiest.data.toList.drop 23 = dktX0_hairiest_1 := dk_seg dksX0_hairiest_0 23 rfl rfl
theorem dksX0_hairiest_2 : cX0_hairiest.data.toList.drop 47 = dktX0_hairiest_2 := dk_seg dksX0_hairiest_1 24 rfl rfl
theorem dX0_hairiest_0 : decode cX0_hairiest 0 = .ok (.iconst (-1), 1) := dk_2 (dk_at dksX0_hairiest_0 0 rfl rfl)
theorem dX0_hairiest_1 : decode cX0_hairiest 1 = .ok (.istore_n 1, 1) := dk_60 (dk_at dksX0_hairiest_0 1 rfl rfl)
theorem dX0_hairiest_2 : decode cX0_hairiest 2 = .ok (.iconst 0, 1) := dk_3 (dk_at dksX0_hairiest_0 2 rfl rfl)
theorem dX0_hairiest_3 : decode cX0_hairiest 3 = .ok (.istore_n 2, 1) := dk_61 (dk_at dksX0_hairiest_0 3 rfl rfl)
theorem dX0_hairiest_4 : decode cX0_hairiest 4 = .ok (.iload_n 2, 1) := dk_28 (dk_at dksX0_hairiest_0 4 rfl rfl)
theorem dX0_hairiest_5 : decode cX0_hairiest 5 = .ok (.aload_n 0, 1) := dk_42 (dk_at dksX0_hairiest_0 5 rfl rfl)
theorem dX0_hairiest_6 : decode cX0_hairiest 6 = .ok (.getfield 33, 3) := dk_180 0 33 (dk_at dksX0_hairiest_0 6 rfl rfl)
theorem dX0_hairiest_9 : decode cX0_hairiest 9 = .ok (.getfield 91, 3) := dk_180 0 91 (dk_at dksX0_hairiest_0 9 rfl rfl)
theorem dX0_hairiest_12 : decode cX0_hairiest 12 = .ok (.iconst 0, 1) := dk_3 (dk_at dksX0_hairiest_0 12 rfl rfl)
theorem dX0_hairiest_13 : decode cX0_hairiest 13 = .ok (.iaload, 1) := dk_46 (dk_at dksX0_hairiest_0 13 rfl rfl)
theorem dX0_hairiest_14 : decode cX0_hairiest 14 = .ok (.if_icmp .ge 41, 3) := dk_162 0 41 (dk_at dksX0_hairiest_0 14 rfl rfl)
theorem dX0_hairiest_17 : decode cX0_hairiest 17 = .ok (.iload_n 1, 1) := dk_27 (dk_at dksX0_hairiest_0 17 rfl rfl)
theorem dX0_hairiest_18 : decode cX0_hairiest 18 = .ok (.iconst (-1), 1) := dk_2 (dk_at dksX0_hairiest_0 18 rfl rfl)
theorem dX0_hairiest_19 : decode cX0_hairiest 19 = .ok (.if_icmp .eq 28, 3) := dk_159 0 28 (dk_at dksX0_hairiest_0 19 rfl rfl)
theorem dX0_hairiest_22 : decode cX0_hairiest 22 = .ok (.aload_n 0, 1) := dk_42 (dk_at dksX0_hairiest_0 22 rfl rfl)
theorem dX0_hairiest_23 : decode cX0_hairiest 23 = .ok (.getfield 33, 3) := dk_180 0 33 (dk_at dksX0_hairiest_1 0 rfl rfl)
theorem dX0_hairiest_26 : decode cX0_hairiest 26 = .ok (.getfield 189, 3) := dk_180 0 189 (dk_at dksX0_hairiest_1 3 rfl rfl)
theorem dX0_hairiest_29 : decode cX0_hairiest 29 = .ok (.iconst 3, 1) := dk_6 (dk_at dksX0_hairiest_1 6 rfl rfl)
theorem dX0_hairiest_30 : decode cX0_hairiest 30 = .ok (.iload_n 2, 1) := dk_28 (dk_at dksX0_hairiest_1 7 rfl rfl)
theorem dX0_hairiest_31 : decode cX0_hairiest 31 = .ok (.iadd, 1) := dk_96 (dk_at dksX0_hairiest_1 8 rfl rfl)
theorem dX0_hairiest_32 : decode cX0_hairiest 32 = .ok (.iaload, 1) := dk_46 (dk_at dksX0_hairiest_1 9 rfl rfl)
theorem dX0_hairiest_33 : decode cX0_hairiest 33 = .ok (.aload_n 0, 1) := dk_42 (dk_at dksX0_hairiest_1 10 rfl rfl)
theorem dX0_hairiest_34 : decode cX0_hairiest 34 = .ok (.getfield 33, 3) := dk_180 0 33 (dk_at dksX0_hairiest_1 11 rfl rfl)
theorem dX0_hairiest_37 : decode cX0_hairiest 37 = .ok (.getfield 189, 3) := dk_180 0 189 (dk_at dksX0_hairiest_1 14 rfl rfl)
theorem dX0_hairiest_40 : decode cX0_hairiest 40 = .ok (.iconst 3, 1) := dk_6 (dk_at dksX0_hairiest_1 17 rfl rfl)
theorem dX0_hairiest_41 : decode cX0_hairiest 41 = .ok (.iload_n 1, 1) := dk_27 (dk_at dksX0_hairiest_1 18 rfl rfl)
theorem dX0_hairiest_42 : decode cX0_hairiest 42 = .ok (.iadd, 1) := dk_96 (dk_at dksX0_hairiest_1 19 rfl rfl)
theorem dX0_hairiest_43 : decode cX0_hairiest 43 = .ok (.iaload, 1) := dk_46 (dk_at dksX0_hairiest_1 20 rfl rfl)
theorem dX0_hairiest_44 : decode cX0_hairiest 44 = .ok (.if_icmp .le 5, 3) := dk_164 0 5 (dk_at dksX0_hairiest_1 21 rfl rfl)
theorem dX0_hairiest_47 : decode cX0_hairiest 47 = .ok (.iload_n 2, 1) := dk_28 (dk_at dksX0_hairiest_2 0 rfl rfl)
theorem dX0_hairiest_48 : decode cX0_hairiest 48 = .ok (.istore_n 1, 1) := dk_60 (dk_at dksX0_hairiest_2 1 rfl rfl)
theorem dX0_hairiest_49 : decode cX0_hairiest 49 = .ok (.iinc 2 1, 3) := dk_132 2 1 (dk_at dksX0_hairiest_2 2 rfl rfl)
theorem dX0_hairiest_52 : decode cX0_hairiest 52 = .ok (.goto (-48), 3) := dk_167 255 208 (dk_at dksX0_hairiest_2 5 rfl rfl)
theorem dX0_hairiest_55 : decode cX0_hairiest 55 = .ok (.iload_n 1, 1) := dk_27 (dk_at dksX0_hairiest_2 8 rfl rfl)
theorem dX0_hairiest_56 : decode cX0_hairiest 56 = .ok (.ireturn, 1) := dk_172 (dk_at dksX0_hairiest_2 9 rfl rfl)
abbrev cX0_calmest : ByteArray := prog_1_method_89_code
def yX0_calmest : MethodName := ⟨RX0, "calmest", "()I"⟩
def dkwX0_calmest_2 : List UInt8 := [162, 0, 5, 28, 60, 132, 2, 1, 167, 255, 206, 27, 172]
abbrev dktX0_calmest_2 : List UInt8 := dkwX0_calmest_2 ++ []
def dkwX0_calmest_1 : List UInt8 := [180, 0, 33, 180, 0, 189, 16, 11, 28, 96, 46, 42, 180, 0, 33, 180, 0, 189, 16, 11, 27, 96, 46]
abbrev dktX0_calmest_1 : List UInt8 := dkwX0_calmest_1 ++ dktX0_calmest_2
def dkwX0_calmest_0 : List UInt8 := [2, 60, 3, 61, 28, 42, 180, 0, 33, 180, 0, 91, 3, 46, 162, 0, 43, 27, 2, 159, 0, 30, 42]
abbrev dktX0_calmest_0 : List UInt8 := dkwX0_calmest_0 ++ dktX0_calmest_1
theorem dksX0_calmest_0 : cX0_calmest.data.toList.drop 0 = dktX0_calmest_0 := by decide +kernel
theorem dksX0_calmest_1 : cX0_calmest.data.toList.drop 23 = dktX0_calmest_1 := dk_seg dksX0_calmest_0 23 rfl rfl
theorem dksX0_calmest_2 : cX0_calmest.data.toList.drop 46 = dktX0_calmest_2 := dk_seg dksX0_calmest_1 23 rfl rfl
theorem dX0_calmest_0 : decode cX0_calmest 0 = .ok (.iconst (-1), 1) := dk_2 (dk_at dksX0_calmest_0 0 rfl rfl)
theorem dX0_calmest_1 : decode cX0_calmest 1 = .ok (.istore_n 1, 1) := dk_60 (dk_at dksX0_calmest_0 1 rfl rfl)
theorem dX0_calmest_2 : decode cX0_calmest 2 = .ok (.iconst 0, 1) := dk_3 (dk_at dksX0_calmest_0 2 rfl rfl)
theorem dX0_calmest_3 : decode cX0_calmest 3 = .ok (.istore_n 2, 1) := dk_61 (dk_at dksX0_calmest_0 3 rfl rfl)
theorem dX0_calmest_4 : decode cX0_calmest 4 = .ok (.iload_n 2, 1) := dk_28 (dk_at dksX0_calmest_0 4 rfl rfl)
theorem dX0_calmest_5 : decode cX0_calmest 5 = .ok (.aload_n 0, 1) := dk_42 (dk_at dksX0_calmest_0 5 rfl rfl)
theorem dX0_calmest_6 : decode cX0_calmest 6 = .ok (.getfield 33, 3) := dk_180 0 33 (dk_at dksX0_calmest_0 6 rfl rfl)
theorem dX0_calmest_9 : decode cX0_calmest 9 = .ok (.getfield 91, 3) := dk_180 0 91 (dk_at dksX0_calmest_0 9 rfl rfl)
theorem dX0_calmest_12 : decode cX0_calmest 12 = .ok (.iconst 0, 1) := dk_3 (dk_at dksX0_calmest_0 12 rfl rfl)
theorem dX0_calmest_13 : decode cX0_calmest 13 = .ok (.iaload, 1) := dk_46 (dk_at dksX0_calmest_0 13 rfl rfl)
theorem dX0_calmest_14 : decode cX0_calmest 14 = .ok (.if_icmp .ge 43, 3) := dk_162 0 43 (dk_at dksX0_calmest_0 14 rfl rfl)
theorem dX0_calmest_17 : decode cX0_calmest 17 = .ok (.iload_n 1, 1) := dk_27 (dk_at dksX0_calmest_0 17 rfl rfl)
theorem dX0_calmest_18 : decode cX0_calmest 18 = .ok (.iconst (-1), 1) := dk_2 (dk_at dksX0_calmest_0 18 rfl rfl)
theorem dX0_calmest_19 : decode cX0_calmest 19 = .ok (.if_icmp .eq 30, 3) := dk_159 0 30 (dk_at dksX0_calmest_0 19 rfl rfl)
theorem dX0_calmest_22 : decode cX0_calmest 22 = .ok (.aload_n 0, 1) := dk_42 (dk_at dksX0_calmest_0 22 rfl rfl)
theorem dX0_calmest_23 : decode cX0_calmest 23 = .ok (.getfield 33, 3) := dk_180 0 33 (dk_at dksX0_calmest_1 0 rfl rfl)
theorem dX0_calmest_26 : decode cX0_calmest 26 = .ok (.getfield 189, 3) := dk_180 0 189 (dk_at dksX0_calmest_1 3 rfl rfl)
theorem dX0_calmest_29 : decode cX0_calmest 29 = .ok (.bipush 11, 2) := dk_16 11 (dk_at dksX0_calmest_1 6 rfl rfl)
theorem dX0_calmest_31 : decode cX0_calmest 31 = .ok (.iload_n 2, 1) := dk_28 (dk_at dksX0_calmest_1 8 rfl rfl)
theorem dX0_calmest_32 : decode cX0_calmest 32 = .ok (.iadd, 1) := dk_96 (dk_at dksX0_calmest_1 9 rfl rfl)
theorem dX0_calmest_33 : decode cX0_calmest 33 = .ok (.iaload, 1) := dk_46 (dk_at dksX0_calmest_1 10 rfl rfl)
theorem dX0_calmest_34 : decode cX0_calmest 34 = .ok (.aload_n 0, 1) := dk_42 (dk_at dksX0_calmest_1 11 rfl rfl)
theorem dX0_calmest_35 : decode cX0_calmest 35 = .ok (.getfield 33, 3) := dk_180 0 33 (dk_at dksX0_calmest_1 12 rfl rfl)
theorem dX0_calmest_38 : decode cX0_calmest 38 = .ok (.getfield 189, 3) := dk_180 0 189 (dk_at dksX0_calmest_1 15 rfl rfl)
theorem dX0_calmest_41 : decode cX0_calmest 41 = .ok (.bipush 11, 2) := dk_16 11 (dk_at dksX0_calmest_1 18 rfl rfl)
theorem dX0_calmest_43 : decode cX0_calmest 43 = .ok (.iload_n 1, 1) := dk_27 (dk_at dksX0_calmest_1 20 rfl rfl)
theorem dX0_calmest_44 : decode cX0_calmest 44 = .ok (.iadd, 1) := dk_96 (dk_at dksX0_calmest_1 21 rfl rfl)
theorem dX0_calmest_45 : decode cX0_calmest 45 = .ok (.iaload, 1) := dk_46 (dk_at dksX0_calmest_1 22 rfl rfl)
theorem dX0_calmest_46 : decode cX0_calmest 46 = .ok (.if_icmp .ge 5, 3) := dk_162 0 5 (dk_at dksX0_calmest_2 0 rfl rfl)
theorem dX0_calmest_49 : decode cX0_calmest 49 = .ok (.iload_n 2, 1) := dk_28 (dk_at dksX0_calmest_2 3 rfl rfl)
theorem dX0_calmest_50 : decode cX0_calmest 50 = .ok (.istore_n 1, 1) := dk_60 (dk_at dksX0_calmest_2 4 rfl rfl)
theorem dX0_calmest_51 : decode cX0_calmest 51 = .ok (.iinc 2 1, 3) := dk_132 2 1 (dk_at dksX0_calmest_2 5 rfl rfl)
theorem dX0_calmest_54 : decode cX0_calmest 54 = .ok (.goto (-50), 3) := dk_167 255 206 (dk_at dksX0_calmest_2 8 rfl rfl)
theorem dX0_calmest_57 : decode cX0_calmest 57 = .ok (.iload_n 1, 1) := dk_27 (dk_at dksX0_calmest_2 11 rfl rfl)
theorem dX0_calmest_58 : decode cX0_calmest 58 = .ok (.ireturn, 1) := dk_172 (dk_at dksX0_calmest_2 12 rfl rfl)
abbrev cX0_smooth : ByteArray := prog_1_method_90_code
def yX0_smooth : MethodName := ⟨RX0, "smooth", "()I"⟩
def dkwX0_smooth_2 : List UInt8 := [167, 255, 216, 27, 172]
abbrev dktX0_smooth_2 : List UInt8 := dkwX0_smooth_2 ++ []
def dkwX0_smooth_1 : List UInt8 := [180, 0, 189, 6, 28, 96, 46, 154, 0, 9, 4, 28, 120, 167, 0, 4, 3, 128, 60, 132, 2, 1]
abbrev dktX0_smooth_1 : List UInt8 := dkwX0_smooth_1 ++ dktX0_smooth_2
def dkwX0_smooth_0 : List UInt8 := [3, 60, 3, 61, 28, 42, 180, 0, 33, 180, 0, 91, 3, 46, 162, 0, 33, 27, 42, 180, 0, 33]
abbrev dktX0_smooth_0 : List UInt8 := dkwX0_smooth_0 ++ dktX0_smooth_1
theorem dksX0_smooth_0 : cX0_smooth.data.toList.drop 0 = dktX0_smooth_0 := by decide +kernel
theorem dksX0_smooth_1 : cX0_smooth.data.toList.drop 22 = dktX0_smooth_1 := dk_seg dksX0_smooth_0 22 rfl rfl
theorem dksX0_smooth_2 : cX0_smooth.data.toList.drop 44 = dktX0_smooth_2 := dk_seg dksX0_smooth_1 22 rfl rfl
theorem dX0_smooth_0 : decode cX0_smooth 0 = .ok (.iconst 0, 1) := dk_3 (dk_at dksX0_smooth_0 0 rfl rfl)
theorem dX0_smooth_1 : decode cX0_smooth 1 = .ok (.istore_n 1, 1) := dk_60 (dk_at dksX0_smooth_0 1 rfl rfl)
theorem dX0_smooth_2 : decode cX0_smooth 2 = .ok (.iconst 0, 1) := dk_3 (dk_at dksX0_smooth_0 2 rfl rfl)
theorem dX0_smooth_3 : decode cX0_smooth 3 = .ok (.istore_n 2, 1) := dk_61 (dk_at dksX0_smooth_0 3 rfl rfl)
theorem dX0_smooth_4 : decode cX0_smooth 4 = .ok (.iload_n 2, 1) := dk_28 (dk_at dksX0_smooth_0 4 rfl rfl)
theorem dX0_smooth_5 : decode cX0_smooth 5 = .ok (.aload_n 0, 1) := dk_42 (dk_at dksX0_smooth_0 5 rfl rfl)
theorem dX0_smooth_6 : decode cX0_smooth 6 = .ok (.getfield 33, 3) := dk_180 0 33 (dk_at dksX0_smooth_0 6 rfl rfl)
theorem dX0_smooth_9 : decode cX0_smooth 9 = .ok (.getfield 91, 3) := dk_180 0 91 (dk_at dksX0_smooth_0 9 rfl rfl)
theorem dX0_smooth_12 : decode cX0_smooth 12 = .ok (.iconst 0, 1) := dk_3 (dk_at dksX0_smooth_0 12 rfl rfl)
theorem dX0_smooth_13 : decode cX0_smooth 13 = .ok (.iaload, 1) := dk_46 (dk_at dksX0_smooth_0 13 rfl rfl)
theorem dX0_smooth_14 : decode cX0_smooth 14 = .ok (.if_icmp .ge 33, 3) := dk_162 0 33 (dk_at dksX0_smooth_0 14 rfl rfl)
theorem dX0_smooth_17 : decode cX0_smooth 17 = .ok (.iload_n 1, 1) := dk_27 (dk_at dksX0_smooth_0 17 rfl rfl)
theorem dX0_smooth_18 : decode cX0_smooth 18 = .ok (.aload_n 0, 1) := dk_42 (dk_at dksX0_smooth_0 18 rfl rfl)
theorem dX0_smooth_19 : decode cX0_smooth 19 = .ok (.getfield 33, 3) := dk_180 0 33 (dk_at dksX0_smooth_0 19 rfl rfl)
theorem dX0_smooth_22 : decode cX0_smooth 22 = .ok (.getfield 189, 3) := dk_180 0 189 (dk_at dksX0_smooth_1 0 rfl rfl)
theorem dX0_smooth_25 : decode cX0_smooth 25 = .ok (.iconst 3, 1) := dk_6 (dk_at dksX0_smooth_1 3 rfl rfl)
theorem dX0_smooth_26 : decode cX0_smooth 26 = .ok (.iload_n 2, 1) := dk_28 (dk_at dksX0_smooth_1 4 rfl rfl)
theorem dX0_smooth_27 : decode cX0_smooth 27 = .ok (.iadd, 1) := dk_96 (dk_at dksX0_smooth_1 5 rfl rfl)
theorem dX0_smooth_28 : decode cX0_smooth 28 = .ok (.iaload, 1) := dk_46 (dk_at dksX0_smooth_1 6 rfl rfl)
theorem dX0_smooth_29 : decode cX0_smooth 29 = .ok (.ifCond .ne 9, 3) := dk_154 0 9 (dk_at dksX0_smooth_1 7 rfl rfl)
theorem dX0_smooth_32 : decode cX0_smooth 32 = .ok (.iconst 1, 1) := dk_4 (dk_at dksX0_smooth_1 10 rfl rfl)
theorem dX0_smooth_33 : decode cX0_smooth 33 = .ok (.iload_n 2, 1) := dk_28 (dk_at dksX0_smooth_1 11 rfl rfl)
theorem dX0_smooth_34 : decode cX0_smooth 34 = .ok (.ishl, 1) := dk_120 (dk_at dksX0_smooth_1 12 rfl rfl)
theorem dX0_smooth_35 : decode cX0_smooth 35 = .ok (.goto 4, 3) := dk_167 0 4 (dk_at dksX0_smooth_1 13 rfl rfl)
theorem dX0_smooth_38 : decode cX0_smooth 38 = .ok (.iconst 0, 1) := dk_3 (dk_at dksX0_smooth_1 16 rfl rfl)
theorem dX0_smooth_39 : decode cX0_smooth 39 = .ok (.ior, 1) := dk_128 (dk_at dksX0_smooth_1 17 rfl rfl)
theorem dX0_smooth_40 : decode cX0_smooth 40 = .ok (.istore_n 1, 1) := dk_60 (dk_at dksX0_smooth_1 18 rfl rfl)
theorem dX0_smooth_41 : decode cX0_smooth 41 = .ok (.iinc 2 1, 3) := dk_132 2 1 (dk_at dksX0_smooth_1 19 rfl rfl)
theorem dX0_smooth_44 : decode cX0_smooth 44 = .ok (.goto (-40), 3) := dk_167 255 216 (dk_at dksX0_smooth_2 0 rfl rfl)
theorem dX0_smooth_47 : decode cX0_smooth 47 = .ok (.iload_n 1, 1) := dk_27 (dk_at dksX0_smooth_2 3 rfl rfl)
theorem dX0_smooth_48 : decode cX0_smooth 48 = .ok (.ireturn, 1) := dk_172 (dk_at dksX0_smooth_2 4 rfl rfl)
abbrev cX0_unscarred : ByteArray := prog_1_method_91_code
def yX0_unscarred : MethodName := ⟨RX0, "unscarred", "()I"⟩
def dkwX0_unscarred_2 : List UInt8 := [167, 255, 215, 27, 172]
abbrev dktX0_unscarred_2 : List UInt8 := dkwX0_unscarred_2 ++ []
def dkwX0_unscarred_1 : List UInt8 := [180, 0, 189, 16, 19, 28, 96, 46, 154, 0, 9, 4, 28, 120, 167, 0, 4, 3, 128, 60, 132, 2, 1]
abbrev dktX0_unscarred_1 : List UInt8 := dkwX0_unscarred_1 ++ dktX0_unscarred_2
def dkwX0_unscarred_0 : List UInt8 := [3, 60, 3, 61, 28, 42, 180, 0, 33, 180, 0, 91, 3, 46, 162, 0, 34, 27, 42, 180, 0, 33]
abbrev dktX0_unscarred_0 : List UInt8 := dkwX0_unscarred_0 ++ dktX0_unscarred_1
theorem dksX0_unscarred_0 : cX0_unscarred.data.toList.drop 0 = dktX0_unscarred_0 := by decide +kernel
theorem dksX0_unscarred_1 : cX0_unscarred.data.toList.drop 22 = dktX0_unscarred_1 := dk_seg dksX0_unscarred_0 22 rfl rfl
theorem dksX0_unscarred_2 : cX0_unscarred.data.toList.drop 45 = dktX0_unscarred_2 := dk_seg dksX0_unscarred_1 23 rfl rfl
theorem dX0_unscarred_0 : decode cX0_unscarred 0 = .ok (.iconst 0, 1) := dk_3 (dk_at dksX0_unscarred_0 0 rfl rfl)
theorem dX0_unscarred_1 : decode cX0_unscarred 1 = .ok (.istore_n 1, 1) := dk_60 (dk_at dksX0_unscarred_0 1 rfl rfl)
theorem dX0_unscarred_2 : decode cX0_unscarred 2 = .ok (.iconst 0, 1) := dk_3 (dk_at dksX0_unscarred_0 2 rfl rfl)
theorem dX0_unscarred_3 : decode cX0_unscarred 3 = .ok (.istore_n 2, 1) := dk_61 (dk_at dksX0_unscarred_0 3 rfl rfl)
theorem dX0_unscarred_4 : decode cX0_unscarred 4 = .ok (.iload_n 2, 1) := dk_28 (dk_at dksX0_unscarred_0 4 rfl rfl)
theorem dX0_unscarred_5 : decode cX0_unscarred 5 = .ok (.aload_n 0, 1) := dk_42 (dk_at dksX0_unscarred_0 5 rfl rfl)
theorem dX0_unscarred_6 : decode cX0_unscarred 6 = .ok (.getfield 33, 3) := dk_180 0 33 (dk_at dksX0_unscarred_0 6 rfl rfl)
theorem dX0_unscarred_9 : decode cX0_unscarred 9 = .ok (.getfield 91, 3) := dk_180 0 91 (dk_at dksX0_unscarred_0 9 rfl rfl)
theorem dX0_unscarred_12 : decode cX0_unscarred 12 = .ok (.iconst 0, 1) := dk_3 (dk_at dksX0_unscarred_0 12 rfl rfl)
theorem dX0_unscarred_13 : decode cX0_unscarred 13 = .ok (.iaload, 1) := dk_46 (dk_at dksX0_unscarred_0 13 rfl rfl)
theorem dX0_unscarred_14 : decode cX0_unscarred 14 = .ok (.if_icmp .ge 34, 3) := dk_162 0 34 (dk_at dksX0_unscarred_0 14 rfl rfl)
theorem dX0_unscarred_17 : decode cX0_unscarred 17 = .ok (.iload_n 1, 1) := dk_27 (dk_at dksX0_unscarred_0 17 rfl rfl)
theorem dX0_unscarred_18 : decode cX0_unscarred 18 = .ok (.aload_n 0, 1) := dk_42 (dk_at dksX0_unscarred_0 18 rfl rfl)
theorem dX0_unscarred_19 : decode cX0_unscarred 19 = .ok (.getfield 33, 3) := dk_180 0 33 (dk_at dksX0_unscarred_0 19 rfl rfl)
theorem dX0_unscarred_22 : decode cX0_unscarred 22 = .ok (.getfield 189, 3) := dk_180 0 189 (dk_at dksX0_unscarred_1 0 rfl rfl)
theorem dX0_unscarred_25 : decode cX0_unscarred 25 = .ok (.bipush 19, 2) := dk_16 19 (dk_at dksX0_unscarred_1 3 rfl rfl)
theorem dX0_unscarred_27 : decode cX0_unscarred 27 = .ok (.iload_n 2, 1) := dk_28 (dk_at dksX0_unscarred_1 5 rfl rfl)
theorem dX0_unscarred_28 : decode cX0_unscarred 28 = .ok (.iadd, 1) := dk_96 (dk_at dksX0_unscarred_1 6 rfl rfl)
theorem dX0_unscarred_29 : decode cX0_unscarred 29 = .ok (.iaload, 1) := dk_46 (dk_at dksX0_unscarred_1 7 rfl rfl)
theorem dX0_unscarred_30 : decode cX0_unscarred 30 = .ok (.ifCond .ne 9, 3) := dk_154 0 9 (dk_at dksX0_unscarred_1 8 rfl rfl)
theorem dX0_unscarred_33 : decode cX0_unscarred 33 = .ok (.iconst 1, 1) := dk_4 (dk_at dksX0_unscarred_1 11 rfl rfl)
theorem dX0_unscarred_34 : decode cX0_unscarred 34 = .ok (.iload_n 2, 1) := dk_28 (dk_at dksX0_unscarred_1 12 rfl rfl)
theorem dX0_unscarred_35 : decode cX0_unscarred 35 = .ok (.ishl, 1) := dk_120 (dk_at dksX0_unscarred_1 13 rfl rfl)
theorem dX0_unscarred_36 : decode cX0_unscarred 36 = .ok (.goto 4, 3) := dk_167 0 4 (dk_at dksX0_unscarred_1 14 rfl rfl)
theorem dX0_unscarred_39 : decode cX0_unscarred 39 = .ok (.iconst 0, 1) := dk_3 (dk_at dksX0_unscarred_1 17 rfl rfl)
theorem dX0_unscarred_40 : decode cX0_unscarred 40 = .ok (.ior, 1) := dk_128 (dk_at dksX0_unscarred_1 18 rfl rfl)
theorem dX0_unscarred_41 : decode cX0_unscarred 41 = .ok (.istore_n 1, 1) := dk_60 (dk_at dksX0_unscarred_1 19 rfl rfl)
theorem dX0_unscarred_42 : decode cX0_unscarred 42 = .ok (.iinc 2 1, 3) := dk_132 2 1 (dk_at dksX0_unscarred_1 20 rfl rfl)
theorem dX0_unscarred_45 : decode cX0_unscarred 45 = .ok (.goto (-41), 3) := dk_167 255 215 (dk_at dksX0_unscarred_2 0 rfl rfl)
theorem dX0_unscarred_48 : decode cX0_unscarred 48 = .ok (.iload_n 1, 1) := dk_27 (dk_at dksX0_unscarred_2 3 rfl rfl)
theorem dX0_unscarred_49 : decode cX0_unscarred 49 = .ok (.ireturn, 1) := dk_172 (dk_at dksX0_unscarred_2 4 rfl rfl)
abbrev cX0_alone : ByteArray := prog_1_method_92_code
def yX0_alone : MethodName := ⟨RX0, "alone", "()I"⟩
def dkwX0_alone_2 : List UInt8 := [167, 255, 214, 27, 172]
abbrev dktX0_alone_2 : List UInt8 := dkwX0_alone_2 ++ []
def dkwX0_alone_1 : List UInt8 := [180, 0, 102, 28, 46, 182, 0, 138, 153, 0, 7, 3, 167, 0, 6, 4, 28, 120, 128, 60, 132, 2, 1]
abbrev dktX0_alone_1 : List UInt8 := dkwX0_alone_1 ++ dktX0_alone_2
def dkwX0_alone_0 : List UInt8 := [3, 60, 3, 61, 28, 42, 180, 0, 33, 180, 0, 91, 3, 46, 162, 0, 35, 27, 42, 42, 180, 0, 33]
abbrev dktX0_alone_0 : List UInt8 := dkwX0_alone_0 ++ dktX0_alone_1
theorem dksX0_alone_0 : cX0_alone.data.toList.drop 0 = dktX0_alone_0 := by decide +kernel
theorem dksX0_alone_1 : cX0_alone.data.toList.drop 23 = dktX0_alone_1 := dk_seg dksX0_alone_0 23 rfl rfl
theorem dksX0_alone_2 : cX0_alone.data.toList.drop 46 = dktX0_alone_2 := dk_seg dksX0_alone_1 23 rfl rfl
theorem dX0_alone_0 : decode cX0_alone 0 = .ok (.iconst 0, 1) := dk_3 (dk_at dksX0_alone_0 0 rfl rfl)
theorem dX0_alone_1 : decode cX0_alone 1 = .ok (.istore_n 1, 1) := dk_60 (dk_at dksX0_alone_0 1 rfl rfl)
theorem dX0_alone_2 : decode cX0_alone 2 = .ok (.iconst 0, 1) := dk_3 (dk_at dksX0_alone_0 2 rfl rfl)
theorem dX0_alone_3 : decode cX0_alone 3 = .ok (.istore_n 2, 1) := dk_61 (dk_at dksX0_alone_0 3 rfl rfl)
theorem dX0_alone_4 : decode cX0_alone 4 = .ok (.iload_n 2, 1) := dk_28 (dk_at dksX0_alone_0 4 rfl rfl)
theorem dX0_alone_5 : decode cX0_alone 5 = .ok (.aload_n 0, 1) := dk_42 (dk_at dksX0_alone_0 5 rfl rfl)
theorem dX0_alone_6 : decode cX0_alone 6 = .ok (.getfield 33, 3) := dk_180 0 33 (dk_at dksX0_alone_0 6 rfl rfl)
theorem dX0_alone_9 : decode cX0_alone 9 = .ok (.getfield 91, 3) := dk_180 0 91 (dk_at dksX0_alone_0 9 rfl rfl)
theorem dX0_alone_12 : decode cX0_alone 12 = .ok (.iconst 0, 1) := dk_3 (dk_at dksX0_alone_0 12 rfl rfl)
theorem dX0_alone_13 : decode cX0_alone 13 = .ok (.iaload, 1) := dk_46 (dk_at dksX0_alone_0 13 rfl rfl)
theorem dX0_alone_14 : decode cX0_alone 14 = .ok (.if_icmp .ge 35, 3) := dk_162 0 35 (dk_at dksX0_alone_0 14 rfl rfl)
theorem dX0_alone_17 : decode cX0_alone 17 = .ok (.iload_n 1, 1) := dk_27 (dk_at dksX0_alone_0 17 rfl rfl)
theorem dX0_alone_18 : decode cX0_alone 18 = .ok (.aload_n 0, 1) := dk_42 (dk_at dksX0_alone_0 18 rfl rfl)
theorem dX0_alone_19 : decode cX0_alone 19 = .ok (.aload_n 0, 1) := dk_42 (dk_at dksX0_alone_0 19 rfl rfl)
theorem dX0_alone_20 : decode cX0_alone 20 = .ok (.getfield 33, 3) := dk_180 0 33 (dk_at dksX0_alone_0 20 rfl rfl)
theorem dX0_alone_23 : decode cX0_alone 23 = .ok (.getfield 102, 3) := dk_180 0 102 (dk_at dksX0_alone_1 0 rfl rfl)
theorem dX0_alone_26 : decode cX0_alone 26 = .ok (.iload_n 2, 1) := dk_28 (dk_at dksX0_alone_1 3 rfl rfl)
theorem dX0_alone_27 : decode cX0_alone 27 = .ok (.iaload, 1) := dk_46 (dk_at dksX0_alone_1 4 rfl rfl)
theorem dX0_alone_28 : decode cX0_alone 28 = .ok (.invokevirtual 138, 3) := dk_182 0 138 (dk_at dksX0_alone_1 5 rfl rfl)
theorem dX0_alone_31 : decode cX0_alone 31 = .ok (.ifCond .eq 7, 3) := dk_153 0 7 (dk_at dksX0_alone_1 8 rfl rfl)
theorem dX0_alone_34 : decode cX0_alone 34 = .ok (.iconst 0, 1) := dk_3 (dk_at dksX0_alone_1 11 rfl rfl)
theorem dX0_alone_35 : decode cX0_alone 35 = .ok (.goto 6, 3) := dk_167 0 6 (dk_at dksX0_alone_1 12 rfl rfl)
theorem dX0_alone_38 : decode cX0_alone 38 = .ok (.iconst 1, 1) := dk_4 (dk_at dksX0_alone_1 15 rfl rfl)
theorem dX0_alone_39 : decode cX0_alone 39 = .ok (.iload_n 2, 1) := dk_28 (dk_at dksX0_alone_1 16 rfl rfl)
theorem dX0_alone_40 : decode cX0_alone 40 = .ok (.ishl, 1) := dk_120 (dk_at dksX0_alone_1 17 rfl rfl)
theorem dX0_alone_41 : decode cX0_alone 41 = .ok (.ior, 1) := dk_128 (dk_at dksX0_alone_1 18 rfl rfl)
theorem dX0_alone_42 : decode cX0_alone 42 = .ok (.istore_n 1, 1) := dk_60 (dk_at dksX0_alone_1 19 rfl rfl)
theorem dX0_alone_43 : decode cX0_alone 43 = .ok (.iinc 2 1, 3) := dk_132 2 1 (dk_at dksX0_alone_1 20 rfl rfl)
theorem dX0_alone_46 : decode cX0_alone 46 = .ok (.goto (-42), 3) := dk_167 255 214 (dk_at dksX0_alone_2 0 rfl rfl)
theorem dX0_alone_49 : decode cX0_alone 49 = .ok (.iload_n 1, 1) := dk_27 (dk_at dksX0_alone_2 3 rfl rfl)
theorem dX0_alone_50 : decode cX0_alone 50 = .ok (.ireturn, 1) := dk_172 (dk_at dksX0_alone_2 4 rfl rfl)
abbrev cX0_ledger : ByteArray := prog_1_method_93_code
def yX0_ledger : MethodName := ⟨RX0, "ledger", "(I)I"⟩
def dkwX0_ledger_3 : List UInt8 := [132, 3, 1, 167, 255, 196, 28, 172]
abbrev dktX0_ledger_3 : List UInt8 := dkwX0_ledger_3 ++ []
def dkwX0_ledger_2 : List UInt8 := [42, 180, 0, 33, 180, 0, 189, 16, 28, 7, 29, 104, 96, 5, 96, 46, 167, 0, 4, 3, 96, 61]
abbrev dktX0_ledger_2 : List UInt8 := dkwX0_ledger_2 ++ dktX0_ledger_3
def dkwX0_ledger_1 : List UInt8 := [162, 0, 52, 28, 42, 180, 0, 33, 180, 0, 189, 16, 28, 7, 29, 104, 96, 4, 96, 46, 27, 160, 0, 22]
abbrev dktX0_ledger_1 : List UInt8 := dkwX0_ledger_1 ++ dktX0_ledger_2
def dkwX0_ledger_0 : List UInt8 := [27, 184, 0, 98, 154, 0, 5, 2, 172, 3, 61, 3, 62, 29, 42, 180, 0, 33, 180, 0, 189, 16, 27, 46]
abbrev dktX0_ledger_0 : List UInt8 := dkwX0_ledger_0 ++ dktX0_ledger_1
theorem dksX0_ledger_0 : cX0_ledger.data.toList.drop 0 = dktX0_ledger_0 := by decide +kernel
theorem dksX0_ledger_1 : cX0_ledger.data.toList.drop 24 = dktX0_ledger_1 := dk_seg dksX0_ledger_0 24 rfl rfl
theorem dksX0_ledger_2 : cX0_ledger.data.toList.drop 48 = dktX0_ledger_2 := dk_seg dksX0_ledger_1 24 rfl rfl
theorem dksX0_ledger_3 : cX0_ledger.data.toList.drop 70 = dktX0_ledger_3 := dk_seg dksX0_ledger_2 22 rfl rfl
theorem dX0_ledger_0 : decode cX0_ledger 0 = .ok (.iload_n 1, 1) := dk_27 (dk_at dksX0_ledger_0 0 rfl rfl)
theorem dX0_ledger_1 : decode cX0_ledger 1 = .ok (.invokestatic 98, 3) := dk_184 0 98 (dk_at dksX0_ledger_0 1 rfl rfl)
theorem dX0_ledger_4 : decode cX0_ledger 4 = .ok (.ifCond .ne 5, 3) := dk_154 0 5 (dk_at dksX0_ledger_0 4 rfl rfl)
theorem dX0_ledger_7 : decode cX0_ledger 7 = .ok (.iconst (-1), 1) := dk_2 (dk_at dksX0_ledger_0 7 rfl rfl)
theorem dX0_ledger_8 : decode cX0_ledger 8 = .ok (.ireturn, 1) := dk_172 (dk_at dksX0_ledger_0 8 rfl rfl)
theorem dX0_ledger_9 : decode cX0_ledger 9 = .ok (.iconst 0, 1) := dk_3 (dk_at dksX0_ledger_0 9 rfl rfl)
theorem dX0_ledger_10 : decode cX0_ledger 10 = .ok (.istore_n 2, 1) := dk_61 (dk_at dksX0_ledger_0 10 rfl rfl)
theorem dX0_ledger_11 : decode cX0_ledger 11 = .ok (.iconst 0, 1) := dk_3 (dk_at dksX0_ledger_0 11 rfl rfl)
theorem dX0_ledger_12 : decode cX0_ledger 12 = .ok (.istore_n 3, 1) := dk_62 (dk_at dksX0_ledger_0 12 rfl rfl)
theorem dX0_ledger_13 : decode cX0_ledger 13 = .ok (.iload_n 3, 1) := dk_29 (dk_at dksX0_ledger_0 13 rfl rfl)
theorem dX0_ledger_14 : decode cX0_ledger 14 = .ok (.aload_n 0, 1) := dk_42 (dk_at dksX0_ledger_0 14 rfl rfl)
theorem dX0_ledger_15 : decode cX0_ledger 15 = .ok (.getfield 33, 3) := dk_180 0 33 (dk_at dksX0_ledger_0 15 rfl rfl)
theorem dX0_ledger_18 : decode cX0_ledger 18 = .ok (.getfield 189, 3) := dk_180 0 189 (dk_at dksX0_ledger_0 18 rfl rfl)
theorem dX0_ledger_21 : decode cX0_ledger 21 = .ok (.bipush 27, 2) := dk_16 27 (dk_at dksX0_ledger_0 21 rfl rfl)
theorem dX0_ledger_23 : decode cX0_ledger 23 = .ok (.iaload, 1) := dk_46 (dk_at dksX0_ledger_0 23 rfl rfl)
theorem dX0_ledger_24 : decode cX0_ledger 24 = .ok (.if_icmp .ge 52, 3) := dk_162 0 52 (dk_at dksX0_ledger_1 0 rfl rfl)
theorem dX0_ledger_27 : decode cX0_ledger 27 = .ok (.iload_n 2, 1) := dk_28 (dk_at dksX0_ledger_1 3 rfl rfl)
theorem dX0_ledger_28 : decode cX0_ledger 28 = .ok (.aload_n 0, 1) := dk_42 (dk_at dksX0_ledger_1 4 rfl rfl)
theorem dX0_ledger_29 : decode cX0_ledger 29 = .ok (.getfield 33, 3) := dk_180 0 33 (dk_at dksX0_ledger_1 5 rfl rfl)
theorem dX0_ledger_32 : decode cX0_ledger 32 = .ok (.getfield 189, 3) := dk_180 0 189 (dk_at dksX0_ledger_1 8 rfl rfl)
theorem dX0_ledger_35 : decode cX0_ledger 35 = .ok (.bipush 28, 2) := dk_16 28 (dk_at dksX0_ledger_1 11 rfl rfl)
theorem dX0_ledger_37 : decode cX0_ledger 37 = .ok (.iconst 4, 1) := dk_7 (dk_at dksX0_ledger_1 13 rfl rfl)
theorem dX0_ledger_38 : decode cX0_ledger 38 = .ok (.iload_n 3, 1) := dk_29 (dk_at dksX0_ledger_1 14 rfl rfl)
theorem dX0_ledger_39 : decode cX0_ledger 39 = .ok (.imul, 1) := dk_104 (dk_at dksX0_ledger_1 15 rfl rfl)
theorem dX0_ledger_40 : decode cX0_ledger 40 = .ok (.iadd, 1) := dk_96 (dk_at dksX0_ledger_1 16 rfl rfl)
theorem dX0_ledger_41 : decode cX0_ledger 41 = .ok (.iconst 1, 1) := dk_4 (dk_at dksX0_ledger_1 17 rfl rfl)
theorem dX0_ledger_42 : decode cX0_ledger 42 = .ok (.iadd, 1) := dk_96 (dk_at dksX0_ledger_1 18 rfl rfl)
theorem dX0_ledger_43 : decode cX0_ledger 43 = .ok (.iaload, 1) := dk_46 (dk_at dksX0_ledger_1 19 rfl rfl)
theorem dX0_ledger_44 : decode cX0_ledger 44 = .ok (.iload_n 1, 1) := dk_27 (dk_at dksX0_ledger_1 20 rfl rfl)
theorem dX0_ledger_45 : decode cX0_ledger 45 = .ok (.if_icmp .ne 22, 3) := dk_160 0 22 (dk_at dksX0_ledger_1 21 rfl rfl)
theorem dX0_ledger_48 : decode cX0_ledger 48 = .ok (.aload_n 0, 1) := dk_42 (dk_at dksX0_ledger_2 0 rfl rfl)
theorem dX0_ledger_49 : decode cX0_ledger 49 = .ok (.getfield 33, 3) := dk_180 0 33 (dk_at dksX0_ledger_2 1 rfl rfl)
theorem dX0_ledger_52 : decode cX0_ledger 52 = .ok (.getfield 189, 3) := dk_180 0 189 (dk_at dksX0_ledger_2 4 rfl rfl)
theorem dX0_ledger_55 : decode cX0_ledger 55 = .ok (.bipush 28, 2) := dk_16 28 (dk_at dksX0_ledger_2 7 rfl rfl)
theorem dX0_ledger_57 : decode cX0_ledger 57 = .ok (.iconst 4, 1) := dk_7 (dk_at dksX0_ledger_2 9 rfl rfl)
theorem dX0_ledger_58 : decode cX0_ledger 58 = .ok (.iload_n 3, 1) := dk_29 (dk_at dksX0_ledger_2 10 rfl rfl)
theorem dX0_ledger_59 : decode cX0_ledger 59 = .ok (.imul, 1) := dk_104 (dk_at dksX0_ledger_2 11 rfl rfl)
theorem dX0_ledger_60 : decode cX0_ledger 60 = .ok (.iadd, 1) := dk_96 (dk_at dksX0_ledger_2 12 rfl rfl)
theorem dX0_ledger_61 : decode cX0_ledger 61 = .ok (.iconst 2, 1) := dk_5 (dk_at dksX0_ledger_2 13 rfl rfl)
theorem dX0_ledger_62 : decode cX0_ledger 62 = .ok (.iadd, 1) := dk_96 (dk_at dksX0_ledger_2 14 rfl rfl)
theorem dX0_ledger_63 : decode cX0_ledger 63 = .ok (.iaload, 1) := dk_46 (dk_at dksX0_ledger_2 15 rfl rfl)
theorem dX0_ledger_64 : decode cX0_ledger 64 = .ok (.goto 4, 3) := dk_167 0 4 (dk_at dksX0_ledger_2 16 rfl rfl)
theorem dX0_ledger_67 : decode cX0_ledger 67 = .ok (.iconst 0, 1) := dk_3 (dk_at dksX0_ledger_2 19 rfl rfl)
theorem dX0_ledger_68 : decode cX0_ledger 68 = .ok (.iadd, 1) := dk_96 (dk_at dksX0_ledger_2 20 rfl rfl)
theorem dX0_ledger_69 : decode cX0_ledger 69 = .ok (.istore_n 2, 1) := dk_61 (dk_at dksX0_ledger_2 21 rfl rfl)
theorem dX0_ledger_70 : decode cX0_ledger 70 = .ok (.iinc 3 1, 3) := dk_132 3 1 (dk_at dksX0_ledger_3 0 rfl rfl)
theorem dX0_ledger_73 : decode cX0_ledger 73 = .ok (.goto (-60), 3) := dk_167 255 196 (dk_at dksX0_ledger_3 3 rfl rfl)
theorem dX0_ledger_76 : decode cX0_ledger 76 = .ok (.iload_n 2, 1) := dk_28 (dk_at dksX0_ledger_3 6 rfl rfl)
theorem dX0_ledger_77 : decode cX0_ledger 77 = .ok (.ireturn, 1) := dk_172 (dk_at dksX0_ledger_3 7 rfl rfl)
abbrev cX0_image : ByteArray := prog_1_method_94_code
def yX0_image : MethodName := ⟨RX0, "image", "()I"⟩
def dkwX0_image_0 : List UInt8 := [42, 180, 0, 37, 42, 180, 0, 33, 182, 0, 83, 42, 180, 0, 33, 180, 0, 189, 3, 46, 172]
abbrev dktX0_image_0 : List UInt8 := dkwX0_image_0 ++ []
theorem dksX0_image_0 : cX0_image.data.toList.drop 0 = dktX0_image_0 := by decide +kernel
theorem dX0_image_0 : decode cX0_image 0 = .ok (.aload_n 0, 1) := dk_42 (dk_at dksX0_image_0 0 rfl rfl)
theorem dX0_image_1 : decode cX0_image 1 = .ok (.getfield 37, 3) := dk_180 0 37 (dk_at dksX0_image_0 1 rfl rfl)
theorem dX0_image_4 : decode cX0_image 4 = .ok (.aload_n 0, 1) := dk_42 (dk_at dksX0_image_0 4 rfl rfl)
theorem dX0_image_5 : decode cX0_image 5 = .ok (.getfield 33, 3) := dk_180 0 33 (dk_at dksX0_image_0 5 rfl rfl)
theorem dX0_image_8 : decode cX0_image 8 = .ok (.invokevirtual 83, 3) := dk_182 0 83 (dk_at dksX0_image_0 8 rfl rfl)
theorem dX0_image_11 : decode cX0_image 11 = .ok (.aload_n 0, 1) := dk_42 (dk_at dksX0_image_0 11 rfl rfl)
theorem dX0_image_12 : decode cX0_image 12 = .ok (.getfield 33, 3) := dk_180 0 33 (dk_at dksX0_image_0 12 rfl rfl)
theorem dX0_image_15 : decode cX0_image 15 = .ok (.getfield 189, 3) := dk_180 0 189 (dk_at dksX0_image_0 15 rfl rfl)
theorem dX0_image_18 : decode cX0_image 18 = .ok (.iconst 0, 1) := dk_3 (dk_at dksX0_image_0 18 rfl rfl)
theorem dX0_image_19 : decode cX0_image 19 = .ok (.iaload, 1) := dk_46 (dk_at dksX0_image_0 19 rfl rfl)
theorem dX0_image_20 : decode cX0_image 20 = .ok (.ireturn, 1) := dk_172 (dk_at dksX0_image_0 20 rfl rfl)
abbrev cX0_back : ByteArray := prog_1_method_95_code
def yX0_back : MethodName := ⟨RX0, "back", "()I"⟩
def dkwX0_back_0 : List UInt8 := [42, 180, 0, 33, 42, 180, 0, 37, 182, 0, 83, 42, 180, 0, 33, 180, 0, 189, 3, 46, 172]
abbrev dktX0_back_0 : List UInt8 := dkwX0_back_0 ++ []
theorem dksX0_back_0 : cX0_back.data.toList.drop 0 = dktX0_back_0 := by decide +kernel
theorem dX0_back_0 : decode cX0_back 0 = .ok (.aload_n 0, 1) := dk_42 (dk_at dksX0_back_0 0 rfl rfl)
theorem dX0_back_1 : decode cX0_back 1 = .ok (.getfield 33, 3) := dk_180 0 33 (dk_at dksX0_back_0 1 rfl rfl)
theorem dX0_back_4 : decode cX0_back 4 = .ok (.aload_n 0, 1) := dk_42 (dk_at dksX0_back_0 4 rfl rfl)
theorem dX0_back_5 : decode cX0_back 5 = .ok (.getfield 37, 3) := dk_180 0 37 (dk_at dksX0_back_0 5 rfl rfl)
theorem dX0_back_8 : decode cX0_back 8 = .ok (.invokevirtual 83, 3) := dk_182 0 83 (dk_at dksX0_back_0 8 rfl rfl)
theorem dX0_back_11 : decode cX0_back 11 = .ok (.aload_n 0, 1) := dk_42 (dk_at dksX0_back_0 11 rfl rfl)
theorem dX0_back_12 : decode cX0_back 12 = .ok (.getfield 33, 3) := dk_180 0 33 (dk_at dksX0_back_0 12 rfl rfl)
theorem dX0_back_15 : decode cX0_back 15 = .ok (.getfield 189, 3) := dk_180 0 189 (dk_at dksX0_back_0 15 rfl rfl)
theorem dX0_back_18 : decode cX0_back 18 = .ok (.iconst 0, 1) := dk_3 (dk_at dksX0_back_0 18 rfl rfl)
theorem dX0_back_19 : decode cX0_back 19 = .ok (.iaload, 1) := dk_46 (dk_at dksX0_back_0 19 rfl rfl)
theorem dX0_back_20 : decode cX0_back 20 = .ok (.ireturn, 1) := dk_172 (dk_at dksX0_back_0 20 rfl rfl)
abbrev cX0_about : ByteArray := prog_1_method_96_code
def yX0_about : MethodName := ⟨RX0, "about", "(I)I"⟩
def dkwX0_about_4 : List UInt8 := [46, 172, 42, 180, 0, 33, 180, 0, 91, 8, 46, 172, 42, 180, 0, 105, 172, 16, 254, 172]
abbrev dktX0_about_4 : List UInt8 := dkwX0_about_4 ++ []
def dkwX0_about_3 : List UInt8 := [180, 0, 91, 5, 46, 172, 42, 180, 0, 33, 180, 0, 91, 6, 46, 172, 42, 180, 0, 33, 180, 0, 91, 7]
abbrev dktX0_about_3 : List UInt8 := dkwX0_about_3 ++ dktX0_about_4
def dkwX0_about_2 : List UInt8 := [42, 180, 0, 33, 180, 0, 91, 3, 46, 172, 42, 180, 0, 33, 180, 0, 91, 4, 46, 172, 42, 180, 0, 33]
abbrev dktX0_about_2 : List UInt8 := dkwX0_about_2 ++ dktX0_about_3
def dkwX0_about_1 : List UInt8 := [170, 0, 0, 0, 0, 0, 108, 0, 0, 0, 0, 0, 0, 0, 6, 0, 0, 0, 43, 0, 0, 0, 53, 0, 0, 0, 63, 0, 0, 0, 73, 0, 0, 0, 83, 0, 0, 0, 93, 0, 0, 0, 103]
abbrev dktX0_about_1 : List UInt8 := dkwX0_about_1 ++ dktX0_about_2
def dkwX0_about_0 : List UInt8 := [27]
abbrev dktX0_about_0 : List UInt8 := dkwX0_about_0 ++ dktX0_about_1
theorem dksX0_about_0 : cX0_about.data.toList.drop 0 = dktX0_about_0 := by decide +kernel
theorem dksX0_about_1 : cX0_about.data.toList.drop 1 = dktX0_about_1 := dk_seg dksX0_about_0 1 rfl rfl
theorem dksX0_about_2 : cX0_about.data.toList.drop 44 = dktX0_about_2 := dk_seg dksX0_about_1 43 rfl rfl
theorem dksX0_about_3 : cX0_about.data.toList.drop 68 = dktX0_about_3 := dk_seg dksX0_about_2 24 rfl rfl
theorem dksX0_about_4 : cX0_about.data.toList.drop 92 = dktX0_about_4 := dk_seg dksX0_about_3 24 rfl rfl
theorem dX0_about_0 : decode cX0_about 0 = .ok (.iload_n 1, 1) := dk_27 (dk_at dksX0_about_0 0 rfl rfl)
theorem dX0_about_1 : decode cX0_about 1 = .ok (.tableswitch 108 0 6 #[43, 53, 63, 73, 83, 93, 103], 43) := by decide +kernel
theorem dX0_about_44 : decode cX0_about 44 = .ok (.aload_n 0, 1) := dk_42 (dk_at dksX0_about_2 0 rfl rfl)
theorem dX0_about_45 : decode cX0_about 45 = .ok (.getfield 33, 3) := dk_180 0 33 (dk_at dksX0_about_2 1 rfl rfl)
theorem dX0_about_48 : decode cX0_about 48 = .ok (.getfield 91, 3) := dk_180 0 91 (dk_at dksX0_about_2 4 rfl rfl)
theorem dX0_about_51 : decode cX0_about 51 = .ok (.iconst 0, 1) := dk_3 (dk_at dksX0_about_2 7 rfl rfl)
theorem dX0_about_52 : decode cX0_about 52 = .ok (.iaload, 1) := dk_46 (dk_at dksX0_about_2 8 rfl rfl)
theorem dX0_about_53 : decode cX0_about 53 = .ok (.ireturn, 1) := dk_172 (dk_at dksX0_about_2 9 rfl rfl)
theorem dX0_about_54 : decode cX0_about 54 = .ok (.aload_n 0, 1) := dk_42 (dk_at dksX0_about_2 10 rfl rfl)
theorem dX0_about_55 : decode cX0_about 55 = .ok (.getfield 33, 3) := dk_180 0 33 (dk_at dksX0_about_2 11 rfl rfl)
theorem dX0_about_58 : decode cX0_about 58 = .ok (.getfield 91, 3) := dk_180 0 91 (dk_at dksX0_about_2 14 rfl rfl)
theorem dX0_about_61 : decode cX0_about 61 = .ok (.iconst 1, 1) := dk_4 (dk_at dksX0_about_2 17 rfl rfl)
theorem dX0_about_62 : decode cX0_about 62 = .ok (.iaload, 1) := dk_46 (dk_at dksX0_about_2 18 rfl rfl)
theorem dX0_about_63 : decode cX0_about 63 = .ok (.ireturn, 1) := dk_172 (dk_at dksX0_about_2 19 rfl rfl)
theorem dX0_about_64 : decode cX0_about 64 = .ok (.aload_n 0, 1) := dk_42 (dk_at dksX0_about_2 20 rfl rfl)
theorem dX0_about_65 : decode cX0_about 65 = .ok (.getfield 33, 3) := dk_180 0 33 (dk_at dksX0_about_2 21 rfl rfl)
theorem dX0_about_68 : decode cX0_about 68 = .ok (.getfield 91, 3) := dk_180 0 91 (dk_at dksX0_about_3 0 rfl rfl)
theorem dX0_about_71 : decode cX0_about 71 = .ok (.iconst 2, 1) := dk_5 (dk_at dksX0_about_3 3 rfl rfl)
theorem dX0_about_72 : decode cX0_about 72 = .ok (.iaload, 1) := dk_46 (dk_at dksX0_about_3 4 rfl rfl)
theorem dX0_about_73 : decode cX0_about 73 = .ok (.ireturn, 1) := dk_172 (dk_at dksX0_about_3 5 rfl rfl)
theorem dX0_about_74 : decode cX0_about 74 = .ok (.aload_n 0, 1) := dk_42 (dk_at dksX0_about_3 6 rfl rfl)
theorem dX0_about_75 : decode cX0_about 75 = .ok (.getfield 33, 3) := dk_180 0 33 (dk_at dksX0_about_3 7 rfl rfl)
theorem dX0_about_78 : decode cX0_about 78 = .ok (.getfield 91, 3) := dk_180 0 91 (dk_at dksX0_about_3 10 rfl rfl)
theorem dX0_about_81 : decode cX0_about 81 = .ok (.iconst 3, 1) := dk_6 (dk_at dksX0_about_3 13 rfl rfl)
theorem dX0_about_82 : decode cX0_about 82 = .ok (.iaload, 1) := dk_46 (dk_at dksX0_about_3 14 rfl rfl)
theorem dX0_about_83 : decode cX0_about 83 = .ok (.ireturn, 1) := dk_172 (dk_at dksX0_about_3 15 rfl rfl)
theorem dX0_about_84 : decode cX0_about 84 = .ok (.aload_n 0, 1) := dk_42 (dk_at dksX0_about_3 16 rfl rfl)
theorem dX0_about_85 : decode cX0_about 85 = .ok (.getfield 33, 3) := dk_180 0 33 (dk_at dksX0_about_3 17 rfl rfl)
theorem dX0_about_88 : decode cX0_about 88 = .ok (.getfield 91, 3) := dk_180 0 91 (dk_at dksX0_about_3 20 rfl rfl)
theorem dX0_about_91 : decode cX0_about 91 = .ok (.iconst 4, 1) := dk_7 (dk_at dksX0_about_3 23 rfl rfl)
theorem dX0_about_92 : decode cX0_about 92 = .ok (.iaload, 1) := dk_46 (dk_at dksX0_about_4 0 rfl rfl)
theorem dX0_about_93 : decode cX0_about 93 = .ok (.ireturn, 1) := dk_172 (dk_at dksX0_about_4 1 rfl rfl)
theorem dX0_about_94 : decode cX0_about 94 = .ok (.aload_n 0, 1) := dk_42 (dk_at dksX0_about_4 2 rfl rfl)
theorem dX0_about_95 : decode cX0_about 95 = .ok (.getfield 33, 3) := dk_180 0 33 (dk_at dksX0_about_4 3 rfl rfl)
theorem dX0_about_98 : decode cX0_about 98 = .ok (.getfield 91, 3) := dk_180 0 91 (dk_at dksX0_about_4 6 rfl rfl)
theorem dX0_about_101 : decode cX0_about 101 = .ok (.iconst 5, 1) := dk_8 (dk_at dksX0_about_4 9 rfl rfl)
theorem dX0_about_102 : decode cX0_about 102 = .ok (.iaload, 1) := dk_46 (dk_at dksX0_about_4 10 rfl rfl)
theorem dX0_about_103 : decode cX0_about 103 = .ok (.ireturn, 1) := dk_172 (dk_at dksX0_about_4 11 rfl rfl)
theorem dX0_about_104 : decode cX0_about 104 = .ok (.aload_n 0, 1) := dk_42 (dk_at dksX0_about_4 12 rfl rfl)
theorem dX0_about_105 : decode cX0_about 105 = .ok (.getfield 105, 3) := dk_180 0 105 (dk_at dksX0_about_4 13 rfl rfl)
theorem dX0_about_108 : decode cX0_about 108 = .ok (.ireturn, 1) := dk_172 (dk_at dksX0_about_4 16 rfl rfl)
theorem dX0_about_109 : decode cX0_about 109 = .ok (.bipush (-2), 2) := dk_16 254 (dk_at dksX0_about_4 17 rfl rfl)
theorem dX0_about_111 : decode cX0_about 111 = .ok (.ireturn, 1) := dk_172 (dk_at dksX0_about_4 19 rfl rfl)
theorem q124 : (Jvm.Cond.initialized "ShaveOfAnother") ∈ lw_all := lw_g (lw_at lw_m1 1 rfl) rfl
theorem q159 : (Jvm.Cond.instantiable "ShaveOfAnother" (17 : Nat)) ∈ lw_all := lw_g (lw_at lw_m1 36 rfl) rfl
theorem q161 : (Jvm.Cond.instanceMethod ({ cls := "ShaveOfAnother", name := "<init>", desc := "()V" } : Jvm.MethodName)) ∈ lw_all := lw_g (lw_at lw_m1 38 rfl) rfl
theorem q162 : (Jvm.Cond.code ({ cls := "ShaveOfAnother", name := "<init>", desc := "()V" } : Jvm.MethodName) prog_1_method_6_code (1 : Nat) (Option.none : Option Jvm.ClassFile.FieldType)) ∈ lw_all := lw_g (lw_at lw_m1 39 rfl) rfl
theorem q163 : (Jvm.Cond.methodLink "ShaveOfAnother" (24 : Nat) ({ cls := "java/lang/Object", name := "<init>", desc := "()V" } : Jvm.MethodName)) ∈ lw_all := lw_g (lw_at lw_m1 40 rfl) rfl
theorem q166 : (Jvm.Cond.classLink "ShaveOfAnother" (30 : Nat) "ShaveOfAnother$State") ∈ lw_all := lw_g (lw_at lw_m1 43 rfl) rfl
theorem q168 : (Jvm.Cond.methodLink "ShaveOfAnother" (32 : Nat) ({ cls := "ShaveOfAnother$State", name := "<init>", desc := "()V" } : Jvm.MethodName)) ∈ lw_all := lw_g (lw_at lw_m1 45 rfl) rfl
theorem q180 : (Jvm.Cond.fieldLinkNest "ShaveOfAnother" (91 : Nat) "ShaveOfAnother$State" "n" "[I" "ShaveOfAnother") ∈ lw_tbl := lw_at lw_m1 57 rfl
theorem q182 : (Jvm.Cond.fieldLinkNest "ShaveOfAnother" (189 : Nat) "ShaveOfAnother$State" "row" "[I" "ShaveOfAnother") ∈ lw_tbl := lw_at lw_m1 59 rfl
theorem q184 : (Jvm.Cond.fieldLinkNest "ShaveOfAnother" (102 : Nat) "ShaveOfAnother$State" "other" "[I" "ShaveOfAnother") ∈ lw_tbl := lw_at lw_m1 61 rfl
theorem q186 : (Jvm.Cond.fieldLinkNest "ShaveOfAnother" (305 : Nat) "ShaveOfAnother$State" "need" "[I" "ShaveOfAnother") ∈ lw_tbl := lw_at lw_m1 63 rfl
theorem q188 : (Jvm.Cond.fieldLinkNest "ShaveOfAnother" (370 : Nat) "ShaveOfAnother$State" "odds" "[I" "ShaveOfAnother") ∈ lw_tbl := lw_at lw_m1 65 rfl
theorem q190 : (Jvm.Cond.fieldLinkNest "ShaveOfAnother" (345 : Nat) "ShaveOfAnother$State" "cut" "[[I" "ShaveOfAnother") ∈ lw_tbl := lw_at lw_m1 67 rfl
theorem q192 : (Jvm.Cond.fieldLinkNest "ShaveOfAnother" (358 : Nat) "ShaveOfAnother$State" "likes" "[[I" "ShaveOfAnother") ∈ lw_tbl := lw_at lw_m1 69 rfl
theorem q194 : (Jvm.Cond.fieldLinkNest "ShaveOfAnother" (326 : Nat) "ShaveOfAnother$State" "seen" "[[I" "ShaveOfAnother") ∈ lw_tbl := lw_at lw_m1 71 rfl
theorem q196 : (Jvm.Cond.fieldLinkNest "ShaveOfAnother" (385 : Nat) "ShaveOfAnother$State" "said" "[[I" "ShaveOfAnother") ∈ lw_tbl := lw_at lw_m1 73 rfl
theorem q198 : (Jvm.Cond.fieldLinkNest "ShaveOfAnother" (256 : Nat) "ShaveOfAnother$State" "step" "[[I" "ShaveOfAnother") ∈ lw_tbl := lw_at lw_m1 75 rfl
theorem q200 : (Jvm.Cond.fieldLinkNest "ShaveOfAnother" (112 : Nat) "ShaveOfAnother$State" "text" "[LShaveOfAnother$Text;" "ShaveOfAnother") ∈ lw_tbl := lw_at lw_m1 77 rfl
theorem q225 : (Jvm.Cond.constant "ShaveOfAnother" (61 : Nat) (65536 : Int32)) ∈ lw_all := lw_g (lw_at lw_m1 102 rfl) rfl
theorem q226 : (Jvm.Cond.methodLink "ShaveOfAnother" (83 : Nat) ({ cls := "ShaveOfAnother$State", name := "be", desc := "(LShaveOfAnother$State;)V" } : Jvm.MethodName)) ∈ lw_all := lw_g (lw_at lw_m1 103 rfl) rfl
theorem q239 : (Jvm.Cond.fieldLink "ShaveOfAnother" (33 : Nat) "ShaveOfAnother" "now" "LShaveOfAnother$State;") ∈ lw_all := lw_g (lw_at lw_m1 116 rfl) rfl
theorem q240 : (Jvm.Cond.fieldLink "ShaveOfAnother" (37 : Nat) "ShaveOfAnother" "image" "LShaveOfAnother$State;") ∈ lw_all := lw_g (lw_at lw_m1 117 rfl) rfl
theorem q241 : (Jvm.Cond.fieldLink "ShaveOfAnother" (40 : Nat) "ShaveOfAnother" "tape" "[B") ∈ lw_all := lw_g (lw_at lw_m1 118 rfl) rfl
theorem q242 : (Jvm.Cond.fieldLink "ShaveOfAnother" (105 : Nat) "ShaveOfAnother" "taped" "I") ∈ lw_all := lw_g (lw_at lw_m1 119 rfl) rfl
theorem q243 : (Jvm.Cond.fieldLink "ShaveOfAnother" (44 : Nat) "ShaveOfAnother" "fault" "I") ∈ lw_all := lw_g (lw_at lw_m1 120 rfl) rfl
theorem q244 : (Jvm.Cond.fieldLink "ShaveOfAnother" (48 : Nat) "ShaveOfAnother" "faultAt" "I") ∈ lw_all := lw_g (lw_at lw_m1 121 rfl) rfl
theorem q245 : (Jvm.Cond.fieldLink "ShaveOfAnother" (51 : Nat) "ShaveOfAnother" "names" "[I") ∈ lw_all := lw_g (lw_at lw_m1 122 rfl) rfl
theorem q246 : (Jvm.Cond.fieldLink "ShaveOfAnother" (55 : Nat) "ShaveOfAnother" "tried" "[I") ∈ lw_all := lw_g (lw_at lw_m1 123 rfl) rfl
theorem q247 : (Jvm.Cond.fieldLink "ShaveOfAnother" (58 : Nat) "ShaveOfAnother" "goesTo" "[I") ∈ lw_all := lw_g (lw_at lw_m1 124 rfl) rfl
theorem q248 : (Jvm.Cond.fieldLink "ShaveOfAnother" (62 : Nat) "ShaveOfAnother" "ahead" "[I") ∈ lw_all := lw_g (lw_at lw_m1 125 rfl) rfl
theorem q249 : (Jvm.Cond.fieldLink "ShaveOfAnother" (65 : Nat) "ShaveOfAnother" "queue" "[I") ∈ lw_all := lw_g (lw_at lw_m1 126 rfl) rfl
theorem q250 : (Jvm.Cond.fieldLink "ShaveOfAnother" (68 : Nat) "ShaveOfAnother" "way" "[I") ∈ lw_all := lw_g (lw_at lw_m1 127 rfl) rfl
theorem q251 : (Jvm.Cond.fieldLink "ShaveOfAnother" (71 : Nat) "ShaveOfAnother" "sitting" "[B") ∈ lw_all := lw_g (lw_at lw_m1 128 rfl) rfl
theorem q252 : (Jvm.Cond.fieldLink "ShaveOfAnother" (74 : Nat) "ShaveOfAnother" "may" "[I") ∈ lw_all := lw_g (lw_at lw_m1 129 rfl) rfl
theorem q253 : (Jvm.Cond.fieldLink "ShaveOfAnother" (77 : Nat) "ShaveOfAnother" "have" "[I") ∈ lw_all := lw_g (lw_at lw_m1 130 rfl) rfl
theorem q254 : (Jvm.Cond.fieldLink "ShaveOfAnother" (336 : Nat) "ShaveOfAnother" "fit" "I") ∈ lw_all := lw_g (lw_at lw_m1 131 rfl) rfl
theorem q255 : (Jvm.Cond.fieldLink "ShaveOfAnother" (80 : Nat) "ShaveOfAnother" "has" "[I") ∈ lw_all := lw_g (lw_at lw_m1 132 rfl) rfl
theorem q256 : (Jvm.Cond.laysFinal "ShaveOfAnother" "ShaveOfAnother" "now" "LShaveOfAnother$State;") ∈ lw_all := lw_g (lw_at lw_m1 133 rfl) rfl
theorem q257 : (Jvm.Cond.soleField "ShaveOfAnother" "now") ∈ lw_all := lw_g (lw_at lw_m1 134 rfl) rfl
theorem q258 : (Jvm.Cond.laysFinal "ShaveOfAnother" "ShaveOfAnother" "image" "LShaveOfAnother$State;") ∈ lw_all := lw_g (lw_at lw_m1 135 rfl) rfl
theorem q259 : (Jvm.Cond.soleField "ShaveOfAnother" "image") ∈ lw_all := lw_g (lw_at lw_m1 136 rfl) rfl
theorem q260 : (Jvm.Cond.laysFinal "ShaveOfAnother" "ShaveOfAnother" "tape" "[B") ∈ lw_all := lw_g (lw_at lw_m1 137 rfl) rfl
theorem q261 : (Jvm.Cond.soleField "ShaveOfAnother" "tape") ∈ lw_all := lw_g (lw_at lw_m1 138 rfl) rfl
theorem q262 : (Jvm.Cond.lays "ShaveOfAnother" "ShaveOfAnother" "taped" "I") ∈ lw_all := lw_g (lw_at lw_m1 139 rfl) rfl
theorem q263 : (Jvm.Cond.soleField "ShaveOfAnother" "taped") ∈ lw_all := lw_g (lw_at lw_m1 140 rfl) rfl
theorem q264 : (Jvm.Cond.lays "ShaveOfAnother" "ShaveOfAnother" "fault" "I") ∈ lw_all := lw_g (lw_at lw_m1 141 rfl) rfl
theorem q265 : (Jvm.Cond.soleField "ShaveOfAnother" "fault") ∈ lw_all := lw_g (lw_at lw_m1 142 rfl) rfl
theorem q266 : (Jvm.Cond.lays "ShaveOfAnother" "ShaveOfAnother" "faultAt" "I") ∈ lw_all := lw_g (lw_at lw_m1 143 rfl) rfl
theorem q267 : (Jvm.Cond.soleField "ShaveOfAnother" "faultAt") ∈ lw_all := lw_g (lw_at lw_m1 144 rfl) rfl
theorem q268 : (Jvm.Cond.laysFinal "ShaveOfAnother" "ShaveOfAnother" "names" "[I") ∈ lw_all := lw_g (lw_at lw_m1 145 rfl) rfl
theorem q269 : (Jvm.Cond.soleField "ShaveOfAnother" "names") ∈ lw_all := lw_g (lw_at lw_m1 146 rfl) rfl
theorem q270 : (Jvm.Cond.laysFinal "ShaveOfAnother" "ShaveOfAnother" "tried" "[I") ∈ lw_all := lw_g (lw_at lw_m1 147 rfl) rfl
theorem q271 : (Jvm.Cond.soleField "ShaveOfAnother" "tried") ∈ lw_all := lw_g (lw_at lw_m1 148 rfl) rfl
theorem q272 : (Jvm.Cond.laysFinal "ShaveOfAnother" "ShaveOfAnother" "goesTo" "[I") ∈ lw_all := lw_g (lw_at lw_m1 149 rfl) rfl
theorem q273 : (Jvm.Cond.soleField "ShaveOfAnother" "goesTo") ∈ lw_all := lw_g (lw_at lw_m1 150 rfl) rfl
theorem q274 : (Jvm.Cond.laysFinal "ShaveOfAnother" "ShaveOfAnother" "ahead" "[I") ∈ lw_all := lw_g (lw_at lw_m1 151 rfl) rfl
theorem q275 : (Jvm.Cond.soleField "ShaveOfAnother" "ahead") ∈ lw_all := lw_g (lw_at lw_m1 152 rfl) rfl
theorem q276 : (Jvm.Cond.laysFinal "ShaveOfAnother" "ShaveOfAnother" "queue" "[I") ∈ lw_all := lw_g (lw_at lw_m1 153 rfl) rfl
theorem q277 : (Jvm.Cond.soleField "ShaveOfAnother" "queue") ∈ lw_all := lw_g (lw_at lw_m1 154 rfl) rfl
theorem q278 : (Jvm.Cond.laysFinal "ShaveOfAnother" "ShaveOfAnother" "way" "[I") ∈ lw_all := lw_g (lw_at lw_m1 155 rfl) rfl
theorem q279 : (Jvm.Cond.soleField "ShaveOfAnother" "way") ∈ lw_all := lw_g (lw_at lw_m1 156 rfl) rfl
theorem q280 : (Jvm.Cond.laysFinal "ShaveOfAnother" "ShaveOfAnother" "sitting" "[B") ∈ lw_all := lw_g (lw_at lw_m1 157 rfl) rfl
theorem q281 : (Jvm.Cond.soleField "ShaveOfAnother" "sitting") ∈ lw_all := lw_g (lw_at lw_m1 158 rfl) rfl
theorem q282 : (Jvm.Cond.laysFinal "ShaveOfAnother" "ShaveOfAnother" "may" "[I") ∈ lw_all := lw_g (lw_at lw_m1 159 rfl) rfl
theorem q283 : (Jvm.Cond.soleField "ShaveOfAnother" "may") ∈ lw_all := lw_g (lw_at lw_m1 160 rfl) rfl
theorem q284 : (Jvm.Cond.laysFinal "ShaveOfAnother" "ShaveOfAnother" "have" "[I") ∈ lw_all := lw_g (lw_at lw_m1 161 rfl) rfl
theorem q285 : (Jvm.Cond.soleField "ShaveOfAnother" "have") ∈ lw_all := lw_g (lw_at lw_m1 162 rfl) rfl
theorem q286 : (Jvm.Cond.lays "ShaveOfAnother" "ShaveOfAnother" "fit" "I") ∈ lw_all := lw_g (lw_at lw_m1 163 rfl) rfl
theorem q287 : (Jvm.Cond.soleField "ShaveOfAnother" "fit") ∈ lw_all := lw_g (lw_at lw_m1 164 rfl) rfl
theorem q288 : (Jvm.Cond.laysFinal "ShaveOfAnother" "ShaveOfAnother" "has" "[I") ∈ lw_all := lw_g (lw_at lw_m1 165 rfl) rfl
theorem q289 : (Jvm.Cond.soleField "ShaveOfAnother" "has") ∈ lw_all := lw_g (lw_at lw_m1 166 rfl) rfl
theorem q290 : (Jvm.Cond.superclass "ShaveOfAnother" "java/lang/Object") ∈ lw_all := lw_g (lw_at lw_m1 167 rfl) rfl
theorem q293 : (Jvm.Cond.instanceMethod ({ cls := "ShaveOfAnother", name := "person", desc := "(II)I" } : Jvm.MethodName)) ∈ lw_all := lw_g (lw_at lw_m1 170 rfl) rfl
theorem q294 : (Jvm.Cond.selects "ShaveOfAnother" ({ cls := "ShaveOfAnother", name := "person", desc := "(II)I" } : Jvm.MethodName) ({ cls := "ShaveOfAnother", name := "person", desc := "(II)I" } : Jvm.MethodName)) ∈ lw_all := lw_g (lw_at lw_m1 171 rfl) rfl
theorem q295 : (Jvm.Cond.code ({ cls := "ShaveOfAnother", name := "person", desc := "(II)I" } : Jvm.MethodName) prog_1_method_9_code (4 : Nat) (Option.some Jvm.ClassFile.FieldType.int)) ∈ lw_all := lw_g (lw_at lw_m1 172 rfl) rfl
theorem q296 : (Jvm.Cond.methodLink "ShaveOfAnother" (87 : Nat) ({ cls := "ShaveOfAnother", name := "in", desc := "(III)Z" } : Jvm.MethodName)) ∈ lw_all := lw_g (lw_at lw_m1 173 rfl) rfl
theorem q297 : (Jvm.Cond.static ({ cls := "ShaveOfAnother", name := "in", desc := "(III)Z" } : Jvm.MethodName)) ∈ lw_all := lw_g (lw_at lw_m1 174 rfl) rfl
theorem q298 : (Jvm.Cond.code ({ cls := "ShaveOfAnother", name := "in", desc := "(III)Z" } : Jvm.MethodName) prog_1_method_3_code (3 : Nat) (Option.some Jvm.ClassFile.FieldType.boolean)) ∈ lw_all := lw_g (lw_at lw_m1 175 rfl) rfl
theorem q299 : (Jvm.Cond.methodLink "ShaveOfAnother" (94 : Nat) ({ cls := "ShaveOfAnother$State", name := "tells", desc := "(II)V" } : Jvm.MethodName)) ∈ lw_all := lw_g (lw_at lw_m1 176 rfl) rfl
theorem q304 : (Jvm.Cond.instanceMethod ({ cls := "ShaveOfAnother", name := "other", desc := "(II)Z" } : Jvm.MethodName)) ∈ lw_all := lw_g (lw_at lw_m1 181 rfl) rfl
theorem q305 : (Jvm.Cond.selects "ShaveOfAnother" ({ cls := "ShaveOfAnother", name := "other", desc := "(II)Z" } : Jvm.MethodName) ({ cls := "ShaveOfAnother", name := "other", desc := "(II)Z" } : Jvm.MethodName)) ∈ lw_all := lw_g (lw_at lw_m1 182 rfl) rfl
theorem q306 : (Jvm.Cond.code ({ cls := "ShaveOfAnother", name := "other", desc := "(II)Z" } : Jvm.MethodName) prog_1_method_10_code (3 : Nat) (Option.some Jvm.ClassFile.FieldType.boolean)) ∈ lw_all := lw_g (lw_at lw_m1 183 rfl) rfl
theorem q307 : (Jvm.Cond.methodLink "ShaveOfAnother" (98 : Nat) ({ cls := "ShaveOfAnother", name := "isChair", desc := "(I)Z" } : Jvm.MethodName)) ∈ lw_all := lw_g (lw_at lw_m1 184 rfl) rfl
theorem q308 : (Jvm.Cond.static ({ cls := "ShaveOfAnother", name := "isChair", desc := "(I)Z" } : Jvm.MethodName)) ∈ lw_all := lw_g (lw_at lw_m1 185 rfl) rfl
theorem q309 : (Jvm.Cond.code ({ cls := "ShaveOfAnother", name := "isChair", desc := "(I)Z" } : Jvm.MethodName) prog_1_method_7_code (1 : Nat) (Option.some Jvm.ClassFile.FieldType.boolean)) ∈ lw_all := lw_g (lw_at lw_m1 186 rfl) rfl
theorem q311 : (Jvm.Cond.instanceMethod ({ cls := "ShaveOfAnother", name := "feed", desc := "(IIIII)I" } : Jvm.MethodName)) ∈ lw_all := lw_g (lw_at lw_m1 188 rfl) rfl
theorem q312 : (Jvm.Cond.selects "ShaveOfAnother" ({ cls := "ShaveOfAnother", name := "feed", desc := "(IIIII)I" } : Jvm.MethodName) ({ cls := "ShaveOfAnother", name := "feed", desc := "(IIIII)I" } : Jvm.MethodName)) ∈ lw_all := lw_g (lw_at lw_m1 189 rfl) rfl
theorem q313 : (Jvm.Cond.code ({ cls := "ShaveOfAnother", name := "feed", desc := "(IIIII)I" } : Jvm.MethodName) prog_1_method_12_code (6 : Nat) (Option.some Jvm.ClassFile.FieldType.int)) ∈ lw_all := lw_g (lw_at lw_m1 190 rfl) rfl
theorem q314 : (Jvm.Cond.methodLink "ShaveOfAnother" (108 : Nat) ({ cls := "ShaveOfAnother", name := "put", desc := "(I)V" } : Jvm.MethodName)) ∈ lw_all := lw_g (lw_at lw_m1 191 rfl) rfl
theorem q315 : (Jvm.Cond.privateMethod ({ cls := "ShaveOfAnother", name := "put", desc := "(I)V" } : Jvm.MethodName)) ∈ lw_tbl := lw_at lw_m1 192 rfl
theorem q316 : (Jvm.Cond.instanceMethod ({ cls := "ShaveOfAnother", name := "put", desc := "(I)V" } : Jvm.MethodName)) ∈ lw_all := lw_g (lw_at lw_m1 193 rfl) rfl
theorem q317 : (Jvm.Cond.code ({ cls := "ShaveOfAnother", name := "put", desc := "(I)V" } : Jvm.MethodName) prog_1_method_11_code (3 : Nat) (Option.none : Option Jvm.ClassFile.FieldType)) ∈ lw_all := lw_g (lw_at lw_m1 194 rfl) rfl
theorem q319 : (Jvm.Cond.instanceMethod ({ cls := "ShaveOfAnother", name := "end", desc := "(I)I" } : Jvm.MethodName)) ∈ lw_all := lw_g (lw_at lw_m1 196 rfl) rfl
theorem q320 : (Jvm.Cond.selects "ShaveOfAnother" ({ cls := "ShaveOfAnother", name := "end", desc := "(I)I" } : Jvm.MethodName) ({ cls := "ShaveOfAnother", name := "end", desc := "(I)I" } : Jvm.MethodName)) ∈ lw_all := lw_g (lw_at lw_m1 197 rfl) rfl
theorem q321 : (Jvm.Cond.code ({ cls := "ShaveOfAnother", name := "end", desc := "(I)I" } : Jvm.MethodName) prog_1_method_13_code (2 : Nat) (Option.some Jvm.ClassFile.FieldType.int)) ∈ lw_all := lw_g (lw_at lw_m1 198 rfl) rfl
theorem q323 : (Jvm.Cond.instanceMethod ({ cls := "ShaveOfAnother", name := "text", desc := "()I" } : Jvm.MethodName)) ∈ lw_all := lw_g (lw_at lw_m1 200 rfl) rfl
theorem q324 : (Jvm.Cond.selects "ShaveOfAnother" ({ cls := "ShaveOfAnother", name := "text", desc := "()I" } : Jvm.MethodName) ({ cls := "ShaveOfAnother", name := "text", desc := "()I" } : Jvm.MethodName)) ∈ lw_all := lw_g (lw_at lw_m1 201 rfl) rfl
theorem q325 : (Jvm.Cond.codeWith ({ cls := "ShaveOfAnother", name := "text", desc := "()I" } : Jvm.MethodName) prog_1_method_14_code (5 : Nat) (Option.some Jvm.ClassFile.FieldType.int) [((30 : Nat), (62 : Nat), (70 : Nat), (125 : Nat)), ((30 : Nat), (62 : Nat), (96 : Nat), (0 : Nat)), ((70 : Nat), (89 : Nat), (96 : Nat), (0 : Nat)), ((96 : Nat), (98 : Nat), (96 : Nat), (0 : Nat))]) ∈ lw_all := lw_g (lw_at lw_m1 202 rfl) rfl
theorem q326 : (Jvm.Cond.classLink "ShaveOfAnother" (125 : Nat) "ShaveOfAnother$Wrong") ∈ lw_all := lw_g (lw_at lw_m1 203 rfl) rfl
theorem q327 : (Jvm.Cond.classLink "ShaveOfAnother" (116 : Nat) "ShaveOfAnother$Tokens") ∈ lw_all := lw_g (lw_at lw_m1 204 rfl) rfl
theorem q329 : (Jvm.Cond.methodLink "ShaveOfAnother" (118 : Nat) ({ cls := "ShaveOfAnother$Tokens", name := "<init>", desc := "([BI)V" } : Jvm.MethodName)) ∈ lw_all := lw_g (lw_at lw_m1 206 rfl) rfl
theorem q358 : (Jvm.Cond.methodLink "ShaveOfAnother" (121 : Nat) ({ cls := "ShaveOfAnother$Tokens", name := "read", desc := "()LShaveOfAnother$Text;" } : Jvm.MethodName)) ∈ lw_all := lw_g (lw_at lw_m1 235 rfl) rfl
theorem q398 : (Jvm.Cond.fieldLinkNest "ShaveOfAnother" (147 : Nat) "ShaveOfAnother$Text" "law" "[LShaveOfAnother$Sum;" "ShaveOfAnother") ∈ lw_tbl := lw_at lw_m2 35 rfl
theorem q402 : (Jvm.Cond.fieldLinkNest "ShaveOfAnother" (236 : Nat) "ShaveOfAnother$Text" "doings" "Ljava/util/ArrayList;" "ShaveOfAnother") ∈ lw_tbl := lw_at lw_m2 39 rfl
theorem q528 : (Jvm.Cond.fieldLinkNest "ShaveOfAnother" (127 : Nat) "ShaveOfAnother$Wrong" "fault" "I" "ShaveOfAnother") ∈ lw_tbl := lw_at lw_m2 165 rfl
theorem q530 : (Jvm.Cond.fieldLinkNest "ShaveOfAnother" (128 : Nat) "ShaveOfAnother$Wrong" "place" "I" "ShaveOfAnother") ∈ lw_tbl := lw_at lw_m2 167 rfl
theorem q662 : (Jvm.Cond.selects "ShaveOfAnother" ({ cls := "java/lang/Object", name := "getClass", desc := "()Ljava/lang/Class;" } : Jvm.MethodName) ({ cls := "java/lang/Object", name := "getClass", desc := "()Ljava/lang/Class;" } : Jvm.MethodName)) ∈ lw_all := lw_g (lw_at lw_m3 59 rfl) rfl
theorem q865 : (Jvm.Cond.instanceMethod ({ cls := "ShaveOfAnother", name := "fault", desc := "(I)I" } : Jvm.MethodName)) ∈ lw_all := lw_g (lw_at lw_m4 22 rfl) rfl
theorem q866 : (Jvm.Cond.selects "ShaveOfAnother" ({ cls := "ShaveOfAnother", name := "fault", desc := "(I)I" } : Jvm.MethodName) ({ cls := "ShaveOfAnother", name := "fault", desc := "(I)I" } : Jvm.MethodName)) ∈ lw_all := lw_g (lw_at lw_m4 23 rfl) rfl
theorem q867 : (Jvm.Cond.code ({ cls := "ShaveOfAnother", name := "fault", desc := "(I)I" } : Jvm.MethodName) prog_1_method_15_code (2 : Nat) (Option.some Jvm.ClassFile.FieldType.int)) ∈ lw_all := lw_g (lw_at lw_m4 24 rfl) rfl
theorem q869 : (Jvm.Cond.instanceMethod ({ cls := "ShaveOfAnother", name := "by", desc := "(I)Z" } : Jvm.MethodName)) ∈ lw_all := lw_g (lw_at lw_m4 26 rfl) rfl
theorem q870 : (Jvm.Cond.selects "ShaveOfAnother" ({ cls := "ShaveOfAnother", name := "by", desc := "(I)Z" } : Jvm.MethodName) ({ cls := "ShaveOfAnother", name := "by", desc := "(I)Z" } : Jvm.MethodName)) ∈ lw_all := lw_g (lw_at lw_m4 27 rfl) rfl
theorem q871 : (Jvm.Cond.code ({ cls := "ShaveOfAnother", name := "by", desc := "(I)Z" } : Jvm.MethodName) prog_1_method_17_code (2 : Nat) (Option.some Jvm.ClassFile.FieldType.boolean)) ∈ lw_all := lw_g (lw_at lw_m4 28 rfl) rfl
theorem q872 : (Jvm.Cond.methodLink "ShaveOfAnother" (131 : Nat) ({ cls := "ShaveOfAnother", name := "isText", desc := "(I)Z" } : Jvm.MethodName)) ∈ lw_all := lw_g (lw_at lw_m4 29 rfl) rfl
theorem q873 : (Jvm.Cond.privateMethod ({ cls := "ShaveOfAnother", name := "isText", desc := "(I)Z" } : Jvm.MethodName)) ∈ lw_tbl := lw_at lw_m4 30 rfl
theorem q874 : (Jvm.Cond.instanceMethod ({ cls := "ShaveOfAnother", name := "isText", desc := "(I)Z" } : Jvm.MethodName)) ∈ lw_all := lw_g (lw_at lw_m4 31 rfl) rfl
theorem q875 : (Jvm.Cond.code ({ cls := "ShaveOfAnother", name := "isText", desc := "(I)Z" } : Jvm.MethodName) prog_1_method_16_code (2 : Nat) (Option.some Jvm.ClassFile.FieldType.boolean)) ∈ lw_all := lw_g (lw_at lw_m4 32 rfl) rfl
theorem q877 : (Jvm.Cond.instanceMethod ({ cls := "ShaveOfAnother", name := "shave", desc := "(I)I" } : Jvm.MethodName)) ∈ lw_all := lw_g (lw_at lw_m4 34 rfl) rfl
theorem q878 : (Jvm.Cond.selects "ShaveOfAnother" ({ cls := "ShaveOfAnother", name := "shave", desc := "(I)I" } : Jvm.MethodName) ({ cls := "ShaveOfAnother", name := "shave", desc := "(I)I" } : Jvm.MethodName)) ∈ lw_all := lw_g (lw_at lw_m4 35 rfl) rfl
theorem q879 : (Jvm.Cond.code ({ cls := "ShaveOfAnother", name := "shave", desc := "(I)I" } : Jvm.MethodName) prog_1_method_24_code (2 : Nat) (Option.some Jvm.ClassFile.FieldType.int)) ∈ lw_all := lw_g (lw_at lw_m4 36 rfl) rfl
theorem q880 : (Jvm.Cond.methodLink "ShaveOfAnother" (138 : Nat) ({ cls := "ShaveOfAnother", name := "isPerson", desc := "(I)Z" } : Jvm.MethodName)) ∈ lw_all := lw_g (lw_at lw_m4 37 rfl) rfl
theorem q881 : (Jvm.Cond.privateMethod ({ cls := "ShaveOfAnother", name := "isPerson", desc := "(I)Z" } : Jvm.MethodName)) ∈ lw_tbl := lw_at lw_m4 38 rfl
theorem q882 : (Jvm.Cond.instanceMethod ({ cls := "ShaveOfAnother", name := "isPerson", desc := "(I)Z" } : Jvm.MethodName)) ∈ lw_all := lw_g (lw_at lw_m4 39 rfl) rfl
theorem q883 : (Jvm.Cond.code ({ cls := "ShaveOfAnother", name := "isPerson", desc := "(I)Z" } : Jvm.MethodName) prog_1_method_8_code (2 : Nat) (Option.some Jvm.ClassFile.FieldType.boolean)) ∈ lw_all := lw_g (lw_at lw_m4 40 rfl) rfl
theorem q884 : (Jvm.Cond.methodLink "ShaveOfAnother" (186 : Nat) ({ cls := "ShaveOfAnother$State", name := "keeps", desc := "()V" } : Jvm.MethodName)) ∈ lw_all := lw_g (lw_at lw_m4 41 rfl) rfl
theorem q888 : (Jvm.Cond.methodLink "ShaveOfAnother" (192 : Nat) ({ cls := "ShaveOfAnother", name := "lathers", desc := "([II)I" } : Jvm.MethodName)) ∈ lw_all := lw_g (lw_at lw_m4 45 rfl) rfl
theorem q889 : (Jvm.Cond.privateMethod ({ cls := "ShaveOfAnother", name := "lathers", desc := "([II)I" } : Jvm.MethodName)) ∈ lw_tbl := lw_at lw_m4 46 rfl
theorem q890 : (Jvm.Cond.instanceMethod ({ cls := "ShaveOfAnother", name := "lathers", desc := "([II)I" } : Jvm.MethodName)) ∈ lw_all := lw_g (lw_at lw_m4 47 rfl) rfl
theorem q891 : (Jvm.Cond.code ({ cls := "ShaveOfAnother", name := "lathers", desc := "([II)I" } : Jvm.MethodName) prog_1_method_23_code (7 : Nat) (Option.some Jvm.ClassFile.FieldType.int)) ∈ lw_all := lw_g (lw_at lw_m4 48 rfl) rfl
theorem q892 : (Jvm.Cond.methodLink "ShaveOfAnother" (170 : Nat) ({ cls := "ShaveOfAnother", name := "rules", desc := "()LShaveOfAnother$Text;" } : Jvm.MethodName)) ∈ lw_all := lw_g (lw_at lw_m4 49 rfl) rfl
theorem q893 : (Jvm.Cond.privateMethod ({ cls := "ShaveOfAnother", name := "rules", desc := "()LShaveOfAnother$Text;" } : Jvm.MethodName)) ∈ lw_tbl := lw_at lw_m4 50 rfl
theorem q894 : (Jvm.Cond.instanceMethod ({ cls := "ShaveOfAnother", name := "rules", desc := "()LShaveOfAnother$Text;" } : Jvm.MethodName)) ∈ lw_all := lw_g (lw_at lw_m4 51 rfl) rfl
theorem q895 : (Jvm.Cond.code ({ cls := "ShaveOfAnother", name := "rules", desc := "()LShaveOfAnother$Text;" } : Jvm.MethodName) prog_1_method_18_code (1 : Nat) (Option.some (Jvm.ClassFile.FieldType.object "ShaveOfAnother$Text"))) ∈ lw_all := lw_g (lw_at lw_m4 52 rfl) rfl
theorem q896 : (Jvm.Cond.fieldLink "ShaveOfAnother" (134 : Nat) "ShaveOfAnother" "NOTHING" "LShaveOfAnother$Text;") ∈ lw_all := lw_g (lw_at lw_m4 53 rfl) rfl
theorem q897 : (Jvm.Cond.laysStatic "ShaveOfAnother" "NOTHING" "LShaveOfAnother$Text;") ∈ lw_tbl := lw_at lw_m4 54 rfl
theorem q898 : (Jvm.Cond.methodLink "ShaveOfAnother" (173 : Nat) ({ cls := "ShaveOfAnother", name := "says", desc := "(LShaveOfAnother$Text;[III)I" } : Jvm.MethodName)) ∈ lw_all := lw_g (lw_at lw_m4 55 rfl) rfl
theorem q899 : (Jvm.Cond.privateMethod ({ cls := "ShaveOfAnother", name := "says", desc := "(LShaveOfAnother$Text;[III)I" } : Jvm.MethodName)) ∈ lw_tbl := lw_at lw_m4 56 rfl
theorem q900 : (Jvm.Cond.instanceMethod ({ cls := "ShaveOfAnother", name := "says", desc := "(LShaveOfAnother$Text;[III)I" } : Jvm.MethodName)) ∈ lw_all := lw_g (lw_at lw_m4 57 rfl) rfl
theorem q901 : (Jvm.Cond.code ({ cls := "ShaveOfAnother", name := "says", desc := "(LShaveOfAnother$Text;[III)I" } : Jvm.MethodName) prog_1_method_19_code (7 : Nat) (Option.some Jvm.ClassFile.FieldType.int)) ∈ lw_all := lw_g (lw_at lw_m4 58 rfl) rfl
theorem q902 : (Jvm.Cond.methodLink "ShaveOfAnother" (141 : Nat) ({ cls := "java/lang/System", name := "arraycopy", desc := "(Ljava/lang/Object;ILjava/lang/Object;II)V" } : Jvm.MethodName)) ∈ lw_all := lw_g (lw_at lw_m4 59 rfl) rfl
theorem q903 : (Jvm.Cond.interfaceEntry "ShaveOfAnother" (153 : Nat)) ∈ lw_tbl := lw_at lw_m4 60 rfl
theorem q904 : (Jvm.Cond.methodLink "ShaveOfAnother" (153 : Nat) ({ cls := "ShaveOfAnother$Sum", name := "of", desc := "([I)J" } : Jvm.MethodName)) ∈ lw_all := lw_g (lw_at lw_m4 61 rfl) rfl
theorem q991 : (Jvm.Cond.static ({ cls := "ShaveOfAnother", name := "powered", desc := "(JJ)J" } : Jvm.MethodName)) ∈ lw_all := lw_g (lw_at lw_m4 148 rfl) rfl
theorem q992 : (Jvm.Cond.code ({ cls := "ShaveOfAnother", name := "powered", desc := "(JJ)J" } : Jvm.MethodName) prog_1_method_2_code (8 : Nat) (Option.some Jvm.ClassFile.FieldType.long)) ∈ lw_all := lw_g (lw_at lw_m4 149 rfl) rfl
theorem q993 : (Jvm.Cond.constantLong "ShaveOfAnother" (7 : Nat) (40 : Int64)) ∈ lw_all := lw_g (lw_at lw_m4 150 rfl) rfl
theorem q994 : (Jvm.Cond.constantLong "ShaveOfAnother" (9 : Nat) (2 : Int64)) ∈ lw_all := lw_g (lw_at lw_m4 151 rfl) rfl
theorem q995 : (Jvm.Cond.constantLong "ShaveOfAnother" (11 : Nat) (-1000000 : Int64)) ∈ lw_all := lw_g (lw_at lw_m4 152 rfl) rfl
theorem q996 : (Jvm.Cond.constantLong "ShaveOfAnother" (13 : Nat) (1000000 : Int64)) ∈ lw_all := lw_g (lw_at lw_m4 153 rfl) rfl
theorem q997 : (Jvm.Cond.methodLink "ShaveOfAnother" (15 : Nat) ({ cls := "java/lang/Math", name := "min", desc := "(JJ)J" } : Jvm.MethodName)) ∈ lw_all := lw_g (lw_at lw_m4 154 rfl) rfl
theorem q1000 : (Jvm.Cond.methodLink "ShaveOfAnother" (21 : Nat) ({ cls := "java/lang/Math", name := "max", desc := "(JJ)J" } : Jvm.MethodName)) ∈ lw_all := lw_g (lw_at lw_m4 157 rfl) rfl
theorem q1009 : (Jvm.Cond.static ({ cls := "ShaveOfAnother", name := "shortOf", desc := "(J)J" } : Jvm.MethodName)) ∈ lw_all := lw_g (lw_at lw_m4 166 rfl) rfl
theorem q1010 : (Jvm.Cond.code ({ cls := "ShaveOfAnother", name := "shortOf", desc := "(J)J" } : Jvm.MethodName) prog_1_method_1_code (2 : Nat) (Option.some Jvm.ClassFile.FieldType.long)) ∈ lw_all := lw_g (lw_at lw_m4 167 rfl) rfl
theorem q1011 : (Jvm.Cond.constantLong "ShaveOfAnother" (3 : Nat) (8 : Int64)) ∈ lw_all := lw_g (lw_at lw_m4 168 rfl) rfl
theorem q1012 : (Jvm.Cond.constantLong "ShaveOfAnother" (5 : Nat) (840 : Int64)) ∈ lw_all := lw_g (lw_at lw_m4 169 rfl) rfl
theorem q1013 : (Jvm.Cond.methodLink "ShaveOfAnother" (159 : Nat) ({ cls := "ShaveOfAnother", name := "held", desc := "(JII)I" } : Jvm.MethodName)) ∈ lw_all := lw_g (lw_at lw_m4 170 rfl) rfl
theorem q1014 : (Jvm.Cond.static ({ cls := "ShaveOfAnother", name := "held", desc := "(JII)I" } : Jvm.MethodName)) ∈ lw_all := lw_g (lw_at lw_m4 171 rfl) rfl
theorem q1015 : (Jvm.Cond.code ({ cls := "ShaveOfAnother", name := "held", desc := "(JII)I" } : Jvm.MethodName) prog_1_method_5_code (4 : Nat) (Option.some Jvm.ClassFile.FieldType.int)) ∈ lw_all := lw_g (lw_at lw_m4 172 rfl) rfl
theorem q1016 : (Jvm.Cond.constant "ShaveOfAnother" (177 : Nat) (99999 : Int32)) ∈ lw_all := lw_g (lw_at lw_m4 173 rfl) rfl
theorem q1017 : (Jvm.Cond.methodLink "ShaveOfAnother" (167 : Nat) ({ cls := "java/lang/Math", name := "min", desc := "(II)I" } : Jvm.MethodName)) ∈ lw_all := lw_g (lw_at lw_m4 174 rfl) rfl
theorem q1018 : (Jvm.Cond.methodLink "ShaveOfAnother" (178 : Nat) ({ cls := "ShaveOfAnother", name := "isScarred", desc := "([III)Z" } : Jvm.MethodName)) ∈ lw_all := lw_g (lw_at lw_m4 175 rfl) rfl
theorem q1019 : (Jvm.Cond.privateMethod ({ cls := "ShaveOfAnother", name := "isScarred", desc := "([III)Z" } : Jvm.MethodName)) ∈ lw_tbl := lw_at lw_m4 176 rfl
theorem q1020 : (Jvm.Cond.instanceMethod ({ cls := "ShaveOfAnother", name := "isScarred", desc := "([III)Z" } : Jvm.MethodName)) ∈ lw_all := lw_g (lw_at lw_m4 177 rfl) rfl
theorem q1021 : (Jvm.Cond.code ({ cls := "ShaveOfAnother", name := "isScarred", desc := "([III)Z" } : Jvm.MethodName) prog_1_method_22_code (6 : Nat) (Option.some Jvm.ClassFile.FieldType.boolean)) ∈ lw_all := lw_g (lw_at lw_m4 178 rfl) rfl
theorem q1022 : (Jvm.Cond.methodLink "ShaveOfAnother" (163 : Nat) ({ cls := "ShaveOfAnother", name := "draws", desc := "([I)V" } : Jvm.MethodName)) ∈ lw_all := lw_g (lw_at lw_m4 179 rfl) rfl
theorem q1023 : (Jvm.Cond.static ({ cls := "ShaveOfAnother", name := "draws", desc := "([I)V" } : Jvm.MethodName)) ∈ lw_all := lw_g (lw_at lw_m4 180 rfl) rfl
theorem q1024 : (Jvm.Cond.code ({ cls := "ShaveOfAnother", name := "draws", desc := "([I)V" } : Jvm.MethodName) prog_1_method_20_code (1 : Nat) (Option.none : Option Jvm.ClassFile.FieldType)) ∈ lw_all := lw_g (lw_at lw_m4 181 rfl) rfl
theorem q1025 : (Jvm.Cond.methodLink "ShaveOfAnother" (182 : Nat) ({ cls := "ShaveOfAnother", name := "writes", desc := "([IIII)V" } : Jvm.MethodName)) ∈ lw_all := lw_g (lw_at lw_m4 182 rfl) rfl
theorem q1026 : (Jvm.Cond.static ({ cls := "ShaveOfAnother", name := "writes", desc := "([IIII)V" } : Jvm.MethodName)) ∈ lw_all := lw_g (lw_at lw_m4 183 rfl) rfl
theorem q1027 : (Jvm.Cond.code ({ cls := "ShaveOfAnother", name := "writes", desc := "([IIII)V" } : Jvm.MethodName) prog_1_method_21_code (5 : Nat) (Option.none : Option Jvm.ClassFile.FieldType)) ∈ lw_all := lw_g (lw_at lw_m4 184 rfl) rfl
theorem q1029 : (Jvm.Cond.instanceMethod ({ cls := "ShaveOfAnother", name := "calm", desc := "(I)Z" } : Jvm.MethodName)) ∈ lw_all := lw_g (lw_at lw_m4 186 rfl) rfl
theorem q1030 : (Jvm.Cond.selects "ShaveOfAnother" ({ cls := "ShaveOfAnother", name := "calm", desc := "(I)Z" } : Jvm.MethodName) ({ cls := "ShaveOfAnother", name := "calm", desc := "(I)Z" } : Jvm.MethodName)) ∈ lw_all := lw_g (lw_at lw_m4 187 rfl) rfl
theorem q1031 : (Jvm.Cond.code ({ cls := "ShaveOfAnother", name := "calm", desc := "(I)Z" } : Jvm.MethodName) prog_1_method_26_code (2 : Nat) (Option.some Jvm.ClassFile.FieldType.boolean)) ∈ lw_all := lw_g (lw_at lw_m4 188 rfl) rfl
theorem q1032 : (Jvm.Cond.methodLink "ShaveOfAnother" (196 : Nat) ({ cls := "ShaveOfAnother", name := "canCalm", desc := "(I)Z" } : Jvm.MethodName)) ∈ lw_all := lw_g (lw_at lw_m4 189 rfl) rfl
theorem q1033 : (Jvm.Cond.privateMethod ({ cls := "ShaveOfAnother", name := "canCalm", desc := "(I)Z" } : Jvm.MethodName)) ∈ lw_tbl := lw_at lw_m4 190 rfl
theorem q1034 : (Jvm.Cond.instanceMethod ({ cls := "ShaveOfAnother", name := "canCalm", desc := "(I)Z" } : Jvm.MethodName)) ∈ lw_all := lw_g (lw_at lw_m4 191 rfl) rfl
theorem q1035 : (Jvm.Cond.code ({ cls := "ShaveOfAnother", name := "canCalm", desc := "(I)Z" } : Jvm.MethodName) prog_1_method_25_code (2 : Nat) (Option.some Jvm.ClassFile.FieldType.boolean)) ∈ lw_all := lw_g (lw_at lw_m4 192 rfl) rfl
theorem q1037 : (Jvm.Cond.instanceMethod ({ cls := "ShaveOfAnother", name := "day", desc := "(I)I" } : Jvm.MethodName)) ∈ lw_all := lw_g (lw_at lw_m4 194 rfl) rfl
theorem q1038 : (Jvm.Cond.selects "ShaveOfAnother" ({ cls := "ShaveOfAnother", name := "day", desc := "(I)I" } : Jvm.MethodName) ({ cls := "ShaveOfAnother", name := "day", desc := "(I)I" } : Jvm.MethodName)) ∈ lw_all := lw_g (lw_at lw_m4 195 rfl) rfl
theorem q1039 : (Jvm.Cond.code ({ cls := "ShaveOfAnother", name := "day", desc := "(I)I" } : Jvm.MethodName) prog_1_method_29_code (3 : Nat) (Option.some Jvm.ClassFile.FieldType.int)) ∈ lw_all := lw_g (lw_at lw_m4 196 rfl) rfl
theorem q1040 : (Jvm.Cond.methodLink "ShaveOfAnother" (199 : Nat) ({ cls := "ShaveOfAnother", name := "passes", desc := "([I)V" } : Jvm.MethodName)) ∈ lw_all := lw_g (lw_at lw_m4 197 rfl) rfl
theorem q1041 : (Jvm.Cond.privateMethod ({ cls := "ShaveOfAnother", name := "passes", desc := "([I)V" } : Jvm.MethodName)) ∈ lw_tbl := lw_at lw_m4 198 rfl
theorem q1042 : (Jvm.Cond.instanceMethod ({ cls := "ShaveOfAnother", name := "passes", desc := "([I)V" } : Jvm.MethodName)) ∈ lw_all := lw_g (lw_at lw_m4 199 rfl) rfl
theorem q1043 : (Jvm.Cond.code ({ cls := "ShaveOfAnother", name := "passes", desc := "([I)V" } : Jvm.MethodName) prog_1_method_27_code (3 : Nat) (Option.none : Option Jvm.ClassFile.FieldType)) ∈ lw_all := lw_g (lw_at lw_m4 200 rfl) rfl
theorem q1044 : (Jvm.Cond.methodLink "ShaveOfAnother" (202 : Nat) ({ cls := "ShaveOfAnother", name := "sumOf", desc := "([II)I" } : Jvm.MethodName)) ∈ lw_all := lw_g (lw_at lw_m4 201 rfl) rfl
theorem q1045 : (Jvm.Cond.privateMethod ({ cls := "ShaveOfAnother", name := "sumOf", desc := "([II)I" } : Jvm.MethodName)) ∈ lw_tbl := lw_at lw_m4 202 rfl
theorem q1046 : (Jvm.Cond.instanceMethod ({ cls := "ShaveOfAnother", name := "sumOf", desc := "([II)I" } : Jvm.MethodName)) ∈ lw_all := lw_g (lw_at lw_m4 203 rfl) rfl
theorem q1047 : (Jvm.Cond.code ({ cls := "ShaveOfAnother", name := "sumOf", desc := "([II)I" } : Jvm.MethodName) prog_1_method_28_code (5 : Nat) (Option.some Jvm.ClassFile.FieldType.int)) ∈ lw_all := lw_g (lw_at lw_m4 204 rfl) rfl
theorem q1049 : (Jvm.Cond.instanceMethod ({ cls := "ShaveOfAnother", name := "played", desc := "(I)I" } : Jvm.MethodName)) ∈ lw_all := lw_g (lw_at lw_m4 206 rfl) rfl
theorem q1050 : (Jvm.Cond.selects "ShaveOfAnother" ({ cls := "ShaveOfAnother", name := "played", desc := "(I)I" } : Jvm.MethodName) ({ cls := "ShaveOfAnother", name := "played", desc := "(I)I" } : Jvm.MethodName)) ∈ lw_all := lw_g (lw_at lw_m4 207 rfl) rfl
theorem q1051 : (Jvm.Cond.code ({ cls := "ShaveOfAnother", name := "played", desc := "(I)I" } : Jvm.MethodName) prog_1_method_32_code (4 : Nat) (Option.some Jvm.ClassFile.FieldType.int)) ∈ lw_all := lw_g (lw_at lw_m4 208 rfl) rfl
theorem q1052 : (Jvm.Cond.methodLink "ShaveOfAnother" (240 : Nat) ({ cls := "java/util/ArrayList", name := "size", desc := "()I" } : Jvm.MethodName)) ∈ lw_all := lw_g (lw_at lw_m4 209 rfl) rfl
theorem q1053 : (Jvm.Cond.methodLink "ShaveOfAnother" (245 : Nat) ({ cls := "java/util/ArrayList", name := "get", desc := "(I)Ljava/lang/Object;" } : Jvm.MethodName)) ∈ lw_all := lw_g (lw_at lw_m4 210 rfl) rfl
theorem q1054 : (Jvm.Cond.classLink "ShaveOfAnother" (210 : Nat) "ShaveOfAnother$Doing") ∈ lw_all := lw_g (lw_at lw_m4 211 rfl) rfl
theorem q1055 : (Jvm.Cond.methodLink "ShaveOfAnother" (249 : Nat) ({ cls := "ShaveOfAnother", name := "does", desc := "(LShaveOfAnother$Doing;)Z" } : Jvm.MethodName)) ∈ lw_all := lw_g (lw_at lw_m4 212 rfl) rfl
theorem q1056 : (Jvm.Cond.privateMethod ({ cls := "ShaveOfAnother", name := "does", desc := "(LShaveOfAnother$Doing;)Z" } : Jvm.MethodName)) ∈ lw_tbl := lw_at lw_m4 213 rfl
theorem q1057 : (Jvm.Cond.instanceMethod ({ cls := "ShaveOfAnother", name := "does", desc := "(LShaveOfAnother$Doing;)Z" } : Jvm.MethodName)) ∈ lw_all := lw_g (lw_at lw_m4 214 rfl) rfl
theorem q1058 : (Jvm.Cond.code ({ cls := "ShaveOfAnother", name := "does", desc := "(LShaveOfAnother$Doing;)Z" } : Jvm.MethodName) prog_1_method_31_code (2 : Nat) (Option.some Jvm.ClassFile.FieldType.boolean)) ∈ lw_all := lw_g (lw_at lw_m4 215 rfl) rfl
theorem q1059 : (Jvm.Cond.methodLink "ShaveOfAnother" (209 : Nat) ({ cls := "ShaveOfAnother$Doing", name := "sort", desc := "()I" } : Jvm.MethodName)) ∈ lw_all := lw_g (lw_at lw_m4 216 rfl) rfl
theorem q1063 : (Jvm.Cond.methodLink "ShaveOfAnother" (215 : Nat) ({ cls := "ShaveOfAnother$Doing", name := "a", desc := "()I" } : Jvm.MethodName)) ∈ lw_all := lw_g (lw_at lw_m4 220 rfl) rfl
theorem q1067 : (Jvm.Cond.methodLink "ShaveOfAnother" (218 : Nat) ({ cls := "ShaveOfAnother$Doing", name := "b", desc := "()I" } : Jvm.MethodName)) ∈ lw_all := lw_g (lw_at lw_m4 224 rfl) rfl
theorem q1071 : (Jvm.Cond.methodLink "ShaveOfAnother" (221 : Nat) ({ cls := "ShaveOfAnother", name := "person", desc := "(II)I" } : Jvm.MethodName)) ∈ lw_all := lw_g (lw_at lw_m4 228 rfl) rfl
theorem q1072 : (Jvm.Cond.methodLink "ShaveOfAnother" (224 : Nat) ({ cls := "ShaveOfAnother", name := "other", desc := "(II)Z" } : Jvm.MethodName)) ∈ lw_all := lw_g (lw_at lw_m4 229 rfl) rfl
theorem q1073 : (Jvm.Cond.methodLink "ShaveOfAnother" (227 : Nat) ({ cls := "ShaveOfAnother", name := "shave", desc := "(I)I" } : Jvm.MethodName)) ∈ lw_all := lw_g (lw_at lw_m4 230 rfl) rfl
theorem q1074 : (Jvm.Cond.methodLink "ShaveOfAnother" (230 : Nat) ({ cls := "ShaveOfAnother", name := "calm", desc := "(I)Z" } : Jvm.MethodName)) ∈ lw_all := lw_g (lw_at lw_m4 231 rfl) rfl
theorem q1075 : (Jvm.Cond.methodLink "ShaveOfAnother" (233 : Nat) ({ cls := "ShaveOfAnother", name := "passesAll", desc := "(I)Z" } : Jvm.MethodName)) ∈ lw_all := lw_g (lw_at lw_m4 232 rfl) rfl
theorem q1076 : (Jvm.Cond.privateMethod ({ cls := "ShaveOfAnother", name := "passesAll", desc := "(I)Z" } : Jvm.MethodName)) ∈ lw_tbl := lw_at lw_m4 233 rfl
theorem q1077 : (Jvm.Cond.instanceMethod ({ cls := "ShaveOfAnother", name := "passesAll", desc := "(I)Z" } : Jvm.MethodName)) ∈ lw_all := lw_g (lw_at lw_m4 234 rfl) rfl
theorem q1078 : (Jvm.Cond.code ({ cls := "ShaveOfAnother", name := "passesAll", desc := "(I)Z" } : Jvm.MethodName) prog_1_method_30_code (3 : Nat) (Option.some Jvm.ClassFile.FieldType.boolean)) ∈ lw_all := lw_g (lw_at lw_m4 235 rfl) rfl
theorem q1079 : (Jvm.Cond.methodLink "ShaveOfAnother" (205 : Nat) ({ cls := "ShaveOfAnother", name := "day", desc := "(I)I" } : Jvm.MethodName)) ∈ lw_all := lw_g (lw_at lw_m4 236 rfl) rfl
theorem q1080 : (Jvm.Cond.methodLink "ShaveOfAnother" (253 : Nat) ({ cls := "ShaveOfAnother$Doing", name := "number", desc := "()I" } : Jvm.MethodName)) ∈ lw_all := lw_g (lw_at lw_m4 237 rfl) rfl
theorem q1085 : (Jvm.Cond.instanceMethod ({ cls := "ShaveOfAnother", name := "years", desc := "(II)I" } : Jvm.MethodName)) ∈ lw_all := lw_g (lw_at lw_m5 2 rfl) rfl
theorem q1086 : (Jvm.Cond.selects "ShaveOfAnother" ({ cls := "ShaveOfAnother", name := "years", desc := "(II)I" } : Jvm.MethodName) ({ cls := "ShaveOfAnother", name := "years", desc := "(II)I" } : Jvm.MethodName)) ∈ lw_all := lw_g (lw_at lw_m5 3 rfl) rfl
theorem q1087 : (Jvm.Cond.code ({ cls := "ShaveOfAnother", name := "years", desc := "(II)I" } : Jvm.MethodName) prog_1_method_33_code (8 : Nat) (Option.some Jvm.ClassFile.FieldType.int)) ∈ lw_all := lw_g (lw_at lw_m5 4 rfl) rfl
theorem q1089 : (Jvm.Cond.instanceMethod ({ cls := "ShaveOfAnother", name := "undo", desc := "()I" } : Jvm.MethodName)) ∈ lw_all := lw_g (lw_at lw_m5 6 rfl) rfl
theorem q1090 : (Jvm.Cond.selects "ShaveOfAnother" ({ cls := "ShaveOfAnother", name := "undo", desc := "()I" } : Jvm.MethodName) ({ cls := "ShaveOfAnother", name := "undo", desc := "()I" } : Jvm.MethodName)) ∈ lw_all := lw_g (lw_at lw_m5 7 rfl) rfl
theorem q1091 : (Jvm.Cond.code ({ cls := "ShaveOfAnother", name := "undo", desc := "()I" } : Jvm.MethodName) prog_1_method_34_code (1 : Nat) (Option.some Jvm.ClassFile.FieldType.int)) ∈ lw_all := lw_g (lw_at lw_m5 8 rfl) rfl
theorem q1092 : (Jvm.Cond.methodLinkNest "ShaveOfAnother" (260 : Nat) ({ cls := "ShaveOfAnother$State", name := "copy", desc := "([I[I)V" } : Jvm.MethodName) "ShaveOfAnother") ∈ lw_tbl := lw_at lw_m5 9 rfl
theorem q1094 : (Jvm.Cond.instanceMethod ({ cls := "ShaveOfAnother", name := "of", desc := "(II)I" } : Jvm.MethodName)) ∈ lw_all := lw_g (lw_at lw_m5 11 rfl) rfl
theorem q1095 : (Jvm.Cond.selects "ShaveOfAnother" ({ cls := "ShaveOfAnother", name := "of", desc := "(II)I" } : Jvm.MethodName) ({ cls := "ShaveOfAnother", name := "of", desc := "(II)I" } : Jvm.MethodName)) ∈ lw_all := lw_g (lw_at lw_m5 12 rfl) rfl
theorem q1096 : (Jvm.Cond.code ({ cls := "ShaveOfAnother", name := "of", desc := "(II)I" } : Jvm.MethodName) prog_1_method_35_code (3 : Nat) (Option.some Jvm.ClassFile.FieldType.int)) ∈ lw_all := lw_g (lw_at lw_m5 13 rfl) rfl
theorem q1098 : (Jvm.Cond.instanceMethod ({ cls := "ShaveOfAnother", name := "told", desc := "(I)I" } : Jvm.MethodName)) ∈ lw_all := lw_g (lw_at lw_m5 15 rfl) rfl
theorem q1099 : (Jvm.Cond.selects "ShaveOfAnother" ({ cls := "ShaveOfAnother", name := "told", desc := "(I)I" } : Jvm.MethodName) ({ cls := "ShaveOfAnother", name := "told", desc := "(I)I" } : Jvm.MethodName)) ∈ lw_all := lw_g (lw_at lw_m5 16 rfl) rfl
theorem q1100 : (Jvm.Cond.code ({ cls := "ShaveOfAnother", name := "told", desc := "(I)I" } : Jvm.MethodName) prog_1_method_36_code (2 : Nat) (Option.some Jvm.ClassFile.FieldType.int)) ∈ lw_all := lw_g (lw_at lw_m5 17 rfl) rfl
theorem q1102 : (Jvm.Cond.instanceMethod ({ cls := "ShaveOfAnother", name := "is", desc := "(I)I" } : Jvm.MethodName)) ∈ lw_all := lw_g (lw_at lw_m5 19 rfl) rfl
theorem q1103 : (Jvm.Cond.selects "ShaveOfAnother" ({ cls := "ShaveOfAnother", name := "is", desc := "(I)I" } : Jvm.MethodName) ({ cls := "ShaveOfAnother", name := "is", desc := "(I)I" } : Jvm.MethodName)) ∈ lw_all := lw_g (lw_at lw_m5 20 rfl) rfl
theorem q1104 : (Jvm.Cond.code ({ cls := "ShaveOfAnother", name := "is", desc := "(I)I" } : Jvm.MethodName) prog_1_method_37_code (2 : Nat) (Option.some Jvm.ClassFile.FieldType.int)) ∈ lw_all := lw_g (lw_at lw_m5 21 rfl) rfl
theorem q1106 : (Jvm.Cond.instanceMethod ({ cls := "ShaveOfAnother", name := "book", desc := "(II)I" } : Jvm.MethodName)) ∈ lw_all := lw_g (lw_at lw_m5 23 rfl) rfl
theorem q1107 : (Jvm.Cond.selects "ShaveOfAnother" ({ cls := "ShaveOfAnother", name := "book", desc := "(II)I" } : Jvm.MethodName) ({ cls := "ShaveOfAnother", name := "book", desc := "(II)I" } : Jvm.MethodName)) ∈ lw_all := lw_g (lw_at lw_m5 24 rfl) rfl
theorem q1108 : (Jvm.Cond.code ({ cls := "ShaveOfAnother", name := "book", desc := "(II)I" } : Jvm.MethodName) prog_1_method_38_code (3 : Nat) (Option.some Jvm.ClassFile.FieldType.int)) ∈ lw_all := lw_g (lw_at lw_m5 25 rfl) rfl
theorem q1110 : (Jvm.Cond.instanceMethod ({ cls := "ShaveOfAnother", name := "foretold", desc := "(II)I" } : Jvm.MethodName)) ∈ lw_all := lw_g (lw_at lw_m5 27 rfl) rfl
theorem q1111 : (Jvm.Cond.selects "ShaveOfAnother" ({ cls := "ShaveOfAnother", name := "foretold", desc := "(II)I" } : Jvm.MethodName) ({ cls := "ShaveOfAnother", name := "foretold", desc := "(II)I" } : Jvm.MethodName)) ∈ lw_all := lw_g (lw_at lw_m5 28 rfl) rfl
theorem q1112 : (Jvm.Cond.code ({ cls := "ShaveOfAnother", name := "foretold", desc := "(II)I" } : Jvm.MethodName) prog_1_method_39_code (5 : Nat) (Option.some Jvm.ClassFile.FieldType.int)) ∈ lw_all := lw_g (lw_at lw_m5 29 rfl) rfl
theorem q1113 : (Jvm.Cond.methodLink "ShaveOfAnother" (264 : Nat) ({ cls := "ShaveOfAnother", name := "has", desc := "(II)Z" } : Jvm.MethodName)) ∈ lw_all := lw_g (lw_at lw_m5 30 rfl) rfl
theorem q1114 : (Jvm.Cond.static ({ cls := "ShaveOfAnother", name := "has", desc := "(II)Z" } : Jvm.MethodName)) ∈ lw_all := lw_g (lw_at lw_m5 31 rfl) rfl
theorem q1115 : (Jvm.Cond.code ({ cls := "ShaveOfAnother", name := "has", desc := "(II)Z" } : Jvm.MethodName) prog_1_method_4_code (2 : Nat) (Option.some Jvm.ClassFile.FieldType.boolean)) ∈ lw_all := lw_g (lw_at lw_m5 32 rfl) rfl
theorem q1117 : (Jvm.Cond.instanceMethod ({ cls := "ShaveOfAnother", name := "after", desc := "(IJ)I" } : Jvm.MethodName)) ∈ lw_all := lw_g (lw_at lw_m5 34 rfl) rfl
theorem q1118 : (Jvm.Cond.selects "ShaveOfAnother" ({ cls := "ShaveOfAnother", name := "after", desc := "(IJ)I" } : Jvm.MethodName) ({ cls := "ShaveOfAnother", name := "after", desc := "(IJ)I" } : Jvm.MethodName)) ∈ lw_all := lw_g (lw_at lw_m5 35 rfl) rfl
theorem q1119 : (Jvm.Cond.code ({ cls := "ShaveOfAnother", name := "after", desc := "(IJ)I" } : Jvm.MethodName) prog_1_method_41_code (4 : Nat) (Option.some Jvm.ClassFile.FieldType.int)) ∈ lw_all := lw_g (lw_at lw_m5 36 rfl) rfl
theorem q1120 : (Jvm.Cond.methodLink "ShaveOfAnother" (270 : Nat) ({ cls := "ShaveOfAnother", name := "afterOthers", desc := "(IJ)I" } : Jvm.MethodName)) ∈ lw_all := lw_g (lw_at lw_m5 37 rfl) rfl
theorem q1121 : (Jvm.Cond.privateMethod ({ cls := "ShaveOfAnother", name := "afterOthers", desc := "(IJ)I" } : Jvm.MethodName)) ∈ lw_tbl := lw_at lw_m5 38 rfl
theorem q1122 : (Jvm.Cond.instanceMethod ({ cls := "ShaveOfAnother", name := "afterOthers", desc := "(IJ)I" } : Jvm.MethodName)) ∈ lw_all := lw_g (lw_at lw_m5 39 rfl) rfl
theorem q1123 : (Jvm.Cond.code ({ cls := "ShaveOfAnother", name := "afterOthers", desc := "(IJ)I" } : Jvm.MethodName) prog_1_method_40_code (7 : Nat) (Option.some Jvm.ClassFile.FieldType.int)) ∈ lw_all := lw_g (lw_at lw_m5 40 rfl) rfl
theorem q1124 : (Jvm.Cond.methodLink "ShaveOfAnother" (266 : Nat) ({ cls := "ShaveOfAnother", name := "shortOf", desc := "(J)J" } : Jvm.MethodName)) ∈ lw_all := lw_g (lw_at lw_m5 41 rfl) rfl
theorem q1126 : (Jvm.Cond.instanceMethod ({ cls := "ShaveOfAnother", name := "ring", desc := "(II)I" } : Jvm.MethodName)) ∈ lw_all := lw_g (lw_at lw_m5 43 rfl) rfl
theorem q1127 : (Jvm.Cond.selects "ShaveOfAnother" ({ cls := "ShaveOfAnother", name := "ring", desc := "(II)I" } : Jvm.MethodName) ({ cls := "ShaveOfAnother", name := "ring", desc := "(II)I" } : Jvm.MethodName)) ∈ lw_all := lw_g (lw_at lw_m5 44 rfl) rfl
theorem q1128 : (Jvm.Cond.code ({ cls := "ShaveOfAnother", name := "ring", desc := "(II)I" } : Jvm.MethodName) prog_1_method_44_code (4 : Nat) (Option.some Jvm.ClassFile.FieldType.int)) ∈ lw_all := lw_g (lw_at lw_m5 45 rfl) rfl
theorem q1129 : (Jvm.Cond.methodLink "ShaveOfAnother" (274 : Nat) ({ cls := "ShaveOfAnother", name := "ringOf", desc := "(I)I" } : Jvm.MethodName)) ∈ lw_all := lw_g (lw_at lw_m5 46 rfl) rfl
theorem q1130 : (Jvm.Cond.privateMethod ({ cls := "ShaveOfAnother", name := "ringOf", desc := "(I)I" } : Jvm.MethodName)) ∈ lw_tbl := lw_at lw_m5 47 rfl
theorem q1131 : (Jvm.Cond.instanceMethod ({ cls := "ShaveOfAnother", name := "ringOf", desc := "(I)I" } : Jvm.MethodName)) ∈ lw_all := lw_g (lw_at lw_m5 48 rfl) rfl
theorem q1132 : (Jvm.Cond.code ({ cls := "ShaveOfAnother", name := "ringOf", desc := "(I)I" } : Jvm.MethodName) prog_1_method_42_code (5 : Nat) (Option.some Jvm.ClassFile.FieldType.int)) ∈ lw_all := lw_g (lw_at lw_m5 49 rfl) rfl
theorem q1133 : (Jvm.Cond.methodLink "ShaveOfAnother" (277 : Nat) ({ cls := "java/lang/Integer", name := "bitCount", desc := "(I)I" } : Jvm.MethodName)) ∈ lw_all := lw_g (lw_at lw_m5 50 rfl) rfl
theorem q1139 : (Jvm.Cond.methodLink "ShaveOfAnother" (282 : Nat) ({ cls := "ShaveOfAnother", name := "tailOf", desc := "(I)I" } : Jvm.MethodName)) ∈ lw_all := lw_g (lw_at lw_m5 56 rfl) rfl
theorem q1140 : (Jvm.Cond.privateMethod ({ cls := "ShaveOfAnother", name := "tailOf", desc := "(I)I" } : Jvm.MethodName)) ∈ lw_tbl := lw_at lw_m5 57 rfl
theorem q1141 : (Jvm.Cond.instanceMethod ({ cls := "ShaveOfAnother", name := "tailOf", desc := "(I)I" } : Jvm.MethodName)) ∈ lw_all := lw_g (lw_at lw_m5 58 rfl) rfl
theorem q1142 : (Jvm.Cond.code ({ cls := "ShaveOfAnother", name := "tailOf", desc := "(I)I" } : Jvm.MethodName) prog_1_method_43_code (3 : Nat) (Option.some Jvm.ClassFile.FieldType.int)) ∈ lw_all := lw_g (lw_at lw_m5 59 rfl) rfl
theorem q1144 : (Jvm.Cond.instanceMethod ({ cls := "ShaveOfAnother", name := "meet", desc := "(II)I" } : Jvm.MethodName)) ∈ lw_all := lw_g (lw_at lw_m5 61 rfl) rfl
theorem q1145 : (Jvm.Cond.selects "ShaveOfAnother" ({ cls := "ShaveOfAnother", name := "meet", desc := "(II)I" } : Jvm.MethodName) ({ cls := "ShaveOfAnother", name := "meet", desc := "(II)I" } : Jvm.MethodName)) ∈ lw_all := lw_g (lw_at lw_m5 62 rfl) rfl
theorem q1146 : (Jvm.Cond.code ({ cls := "ShaveOfAnother", name := "meet", desc := "(II)I" } : Jvm.MethodName) prog_1_method_45_code (4 : Nat) (Option.some Jvm.ClassFile.FieldType.int)) ∈ lw_all := lw_g (lw_at lw_m5 63 rfl) rfl
theorem q1148 : (Jvm.Cond.instanceMethod ({ cls := "ShaveOfAnother", name := "outermost", desc := "()I" } : Jvm.MethodName)) ∈ lw_all := lw_g (lw_at lw_m5 65 rfl) rfl
theorem q1149 : (Jvm.Cond.selects "ShaveOfAnother" ({ cls := "ShaveOfAnother", name := "outermost", desc := "()I" } : Jvm.MethodName) ({ cls := "ShaveOfAnother", name := "outermost", desc := "()I" } : Jvm.MethodName)) ∈ lw_all := lw_g (lw_at lw_m5 66 rfl) rfl
theorem q1150 : (Jvm.Cond.code ({ cls := "ShaveOfAnother", name := "outermost", desc := "()I" } : Jvm.MethodName) prog_1_method_46_code (3 : Nat) (Option.some Jvm.ClassFile.FieldType.int)) ∈ lw_all := lw_g (lw_at lw_m5 67 rfl) rfl
theorem q1152 : (Jvm.Cond.instanceMethod ({ cls := "ShaveOfAnother", name := "rounds", desc := "()J" } : Jvm.MethodName)) ∈ lw_all := lw_g (lw_at lw_m5 69 rfl) rfl
theorem q1153 : (Jvm.Cond.selects "ShaveOfAnother" ({ cls := "ShaveOfAnother", name := "rounds", desc := "()J" } : Jvm.MethodName) ({ cls := "ShaveOfAnother", name := "rounds", desc := "()J" } : Jvm.MethodName)) ∈ lw_all := lw_g (lw_at lw_m5 70 rfl) rfl
theorem q1154 : (Jvm.Cond.code ({ cls := "ShaveOfAnother", name := "rounds", desc := "()J" } : Jvm.MethodName) prog_1_method_48_code (6 : Nat) (Option.some Jvm.ClassFile.FieldType.long)) ∈ lw_all := lw_g (lw_at lw_m5 71 rfl) rfl
theorem q1155 : (Jvm.Cond.methodLink "ShaveOfAnother" (285 : Nat) ({ cls := "ShaveOfAnother", name := "common", desc := "(JJ)J" } : Jvm.MethodName)) ∈ lw_all := lw_g (lw_at lw_m5 72 rfl) rfl
theorem q1156 : (Jvm.Cond.static ({ cls := "ShaveOfAnother", name := "common", desc := "(JJ)J" } : Jvm.MethodName)) ∈ lw_all := lw_g (lw_at lw_m5 73 rfl) rfl
theorem q1157 : (Jvm.Cond.code ({ cls := "ShaveOfAnother", name := "common", desc := "(JJ)J" } : Jvm.MethodName) prog_1_method_47_code (4 : Nat) (Option.some Jvm.ClassFile.FieldType.long)) ∈ lw_all := lw_g (lw_at lw_m5 74 rfl) rfl
theorem q1159 : (Jvm.Cond.instanceMethod ({ cls := "ShaveOfAnother", name := "done", desc := "(I)I" } : Jvm.MethodName)) ∈ lw_all := lw_g (lw_at lw_m5 76 rfl) rfl
theorem q1160 : (Jvm.Cond.selects "ShaveOfAnother" ({ cls := "ShaveOfAnother", name := "done", desc := "(I)I" } : Jvm.MethodName) ({ cls := "ShaveOfAnother", name := "done", desc := "(I)I" } : Jvm.MethodName)) ∈ lw_all := lw_g (lw_at lw_m5 77 rfl) rfl
theorem q1161 : (Jvm.Cond.code ({ cls := "ShaveOfAnother", name := "done", desc := "(I)I" } : Jvm.MethodName) prog_1_method_49_code (4 : Nat) (Option.some Jvm.ClassFile.FieldType.int)) ∈ lw_all := lw_g (lw_at lw_m5 78 rfl) rfl
theorem q1163 : (Jvm.Cond.instanceMethod ({ cls := "ShaveOfAnother", name := "mirrors", desc := "()I" } : Jvm.MethodName)) ∈ lw_all := lw_g (lw_at lw_m5 80 rfl) rfl
theorem q1164 : (Jvm.Cond.selects "ShaveOfAnother" ({ cls := "ShaveOfAnother", name := "mirrors", desc := "()I" } : Jvm.MethodName) ({ cls := "ShaveOfAnother", name := "mirrors", desc := "()I" } : Jvm.MethodName)) ∈ lw_all := lw_g (lw_at lw_m5 81 rfl) rfl
theorem q1165 : (Jvm.Cond.code ({ cls := "ShaveOfAnother", name := "mirrors", desc := "()I" } : Jvm.MethodName) prog_1_method_53_code (1 : Nat) (Option.some Jvm.ClassFile.FieldType.int)) ∈ lw_all := lw_g (lw_at lw_m5 82 rfl) rfl
theorem q1166 : (Jvm.Cond.methodLink "ShaveOfAnother" (296 : Nat) ({ cls := "ShaveOfAnother", name := "mirrorsFrom", desc := "(II)I" } : Jvm.MethodName)) ∈ lw_all := lw_g (lw_at lw_m5 83 rfl) rfl
theorem q1167 : (Jvm.Cond.privateMethod ({ cls := "ShaveOfAnother", name := "mirrorsFrom", desc := "(II)I" } : Jvm.MethodName)) ∈ lw_tbl := lw_at lw_m5 84 rfl
theorem q1168 : (Jvm.Cond.instanceMethod ({ cls := "ShaveOfAnother", name := "mirrorsFrom", desc := "(II)I" } : Jvm.MethodName)) ∈ lw_all := lw_g (lw_at lw_m5 85 rfl) rfl
theorem q1169 : (Jvm.Cond.code ({ cls := "ShaveOfAnother", name := "mirrorsFrom", desc := "(II)I" } : Jvm.MethodName) prog_1_method_52_code (5 : Nat) (Option.some Jvm.ClassFile.FieldType.int)) ∈ lw_all := lw_g (lw_at lw_m5 86 rfl) rfl
theorem q1170 : (Jvm.Cond.methodLink "ShaveOfAnother" (293 : Nat) ({ cls := "ShaveOfAnother", name := "mayGo", desc := "(I)Z" } : Jvm.MethodName)) ∈ lw_all := lw_g (lw_at lw_m5 87 rfl) rfl
theorem q1171 : (Jvm.Cond.privateMethod ({ cls := "ShaveOfAnother", name := "mayGo", desc := "(I)Z" } : Jvm.MethodName)) ∈ lw_tbl := lw_at lw_m5 88 rfl
theorem q1172 : (Jvm.Cond.instanceMethod ({ cls := "ShaveOfAnother", name := "mayGo", desc := "(I)Z" } : Jvm.MethodName)) ∈ lw_all := lw_g (lw_at lw_m5 89 rfl) rfl
theorem q1173 : (Jvm.Cond.code ({ cls := "ShaveOfAnother", name := "mayGo", desc := "(I)Z" } : Jvm.MethodName) prog_1_method_51_code (4 : Nat) (Option.some Jvm.ClassFile.FieldType.boolean)) ∈ lw_all := lw_g (lw_at lw_m5 90 rfl) rfl
theorem q1174 : (Jvm.Cond.methodLink "ShaveOfAnother" (288 : Nat) ({ cls := "java/lang/Math", name := "max", desc := "(II)I" } : Jvm.MethodName)) ∈ lw_all := lw_g (lw_at lw_m5 91 rfl) rfl
theorem q1175 : (Jvm.Cond.methodLink "ShaveOfAnother" (290 : Nat) ({ cls := "ShaveOfAnother", name := "isMirrored", desc := "(I)Z" } : Jvm.MethodName)) ∈ lw_all := lw_g (lw_at lw_m5 92 rfl) rfl
theorem q1176 : (Jvm.Cond.privateMethod ({ cls := "ShaveOfAnother", name := "isMirrored", desc := "(I)Z" } : Jvm.MethodName)) ∈ lw_tbl := lw_at lw_m5 93 rfl
theorem q1177 : (Jvm.Cond.instanceMethod ({ cls := "ShaveOfAnother", name := "isMirrored", desc := "(I)Z" } : Jvm.MethodName)) ∈ lw_all := lw_g (lw_at lw_m5 94 rfl) rfl
theorem q1178 : (Jvm.Cond.code ({ cls := "ShaveOfAnother", name := "isMirrored", desc := "(I)Z" } : Jvm.MethodName) prog_1_method_50_code (2 : Nat) (Option.some Jvm.ClassFile.FieldType.boolean)) ∈ lw_all := lw_g (lw_at lw_m5 95 rfl) rfl
theorem q1180 : (Jvm.Cond.instanceMethod ({ cls := "ShaveOfAnother", name := "sham", desc := "(I)I" } : Jvm.MethodName)) ∈ lw_all := lw_g (lw_at lw_m5 97 rfl) rfl
theorem q1181 : (Jvm.Cond.selects "ShaveOfAnother" ({ cls := "ShaveOfAnother", name := "sham", desc := "(I)I" } : Jvm.MethodName) ({ cls := "ShaveOfAnother", name := "sham", desc := "(I)I" } : Jvm.MethodName)) ∈ lw_all := lw_g (lw_at lw_m5 98 rfl) rfl
theorem q1182 : (Jvm.Cond.code ({ cls := "ShaveOfAnother", name := "sham", desc := "(I)I" } : Jvm.MethodName) prog_1_method_56_code (2 : Nat) (Option.some Jvm.ClassFile.FieldType.int)) ∈ lw_all := lw_g (lw_at lw_m5 99 rfl) rfl
theorem q1183 : (Jvm.Cond.methodLink "ShaveOfAnother" (302 : Nat) ({ cls := "ShaveOfAnother", name := "shamOf", desc := "(I)I" } : Jvm.MethodName)) ∈ lw_all := lw_g (lw_at lw_m5 100 rfl) rfl
theorem q1184 : (Jvm.Cond.privateMethod ({ cls := "ShaveOfAnother", name := "shamOf", desc := "(I)I" } : Jvm.MethodName)) ∈ lw_tbl := lw_at lw_m5 101 rfl
theorem q1185 : (Jvm.Cond.instanceMethod ({ cls := "ShaveOfAnother", name := "shamOf", desc := "(I)I" } : Jvm.MethodName)) ∈ lw_all := lw_g (lw_at lw_m5 102 rfl) rfl
theorem q1186 : (Jvm.Cond.code ({ cls := "ShaveOfAnother", name := "shamOf", desc := "(I)I" } : Jvm.MethodName) prog_1_method_55_code (4 : Nat) (Option.some Jvm.ClassFile.FieldType.int)) ∈ lw_all := lw_g (lw_at lw_m5 103 rfl) rfl
theorem q1187 : (Jvm.Cond.methodLink "ShaveOfAnother" (299 : Nat) ({ cls := "ShaveOfAnother", name := "ratesBy", desc := "(II)I" } : Jvm.MethodName)) ∈ lw_all := lw_g (lw_at lw_m5 104 rfl) rfl
theorem q1188 : (Jvm.Cond.privateMethod ({ cls := "ShaveOfAnother", name := "ratesBy", desc := "(II)I" } : Jvm.MethodName)) ∈ lw_tbl := lw_at lw_m5 105 rfl
theorem q1189 : (Jvm.Cond.instanceMethod ({ cls := "ShaveOfAnother", name := "ratesBy", desc := "(II)I" } : Jvm.MethodName)) ∈ lw_all := lw_g (lw_at lw_m5 106 rfl) rfl
theorem q1190 : (Jvm.Cond.code ({ cls := "ShaveOfAnother", name := "ratesBy", desc := "(II)I" } : Jvm.MethodName) prog_1_method_54_code (3 : Nat) (Option.some Jvm.ClassFile.FieldType.int)) ∈ lw_all := lw_g (lw_at lw_m5 107 rfl) rfl
theorem q1192 : (Jvm.Cond.instanceMethod ({ cls := "ShaveOfAnother", name := "shams", desc := "()I" } : Jvm.MethodName)) ∈ lw_all := lw_g (lw_at lw_m5 109 rfl) rfl
theorem q1193 : (Jvm.Cond.selects "ShaveOfAnother" ({ cls := "ShaveOfAnother", name := "shams", desc := "()I" } : Jvm.MethodName) ({ cls := "ShaveOfAnother", name := "shams", desc := "()I" } : Jvm.MethodName)) ∈ lw_all := lw_g (lw_at lw_m5 110 rfl) rfl
theorem q1194 : (Jvm.Cond.code ({ cls := "ShaveOfAnother", name := "shams", desc := "()I" } : Jvm.MethodName) prog_1_method_57_code (3 : Nat) (Option.some Jvm.ClassFile.FieldType.int)) ∈ lw_all := lw_g (lw_at lw_m5 111 rfl) rfl
theorem q1196 : (Jvm.Cond.instanceMethod ({ cls := "ShaveOfAnother", name := "till", desc := "(II)I" } : Jvm.MethodName)) ∈ lw_all := lw_g (lw_at lw_m5 113 rfl) rfl
theorem q1197 : (Jvm.Cond.selects "ShaveOfAnother" ({ cls := "ShaveOfAnother", name := "till", desc := "(II)I" } : Jvm.MethodName) ({ cls := "ShaveOfAnother", name := "till", desc := "(II)I" } : Jvm.MethodName)) ∈ lw_all := lw_g (lw_at lw_m5 114 rfl) rfl
theorem q1198 : (Jvm.Cond.code ({ cls := "ShaveOfAnother", name := "till", desc := "(II)I" } : Jvm.MethodName) prog_1_method_58_code (3 : Nat) (Option.some Jvm.ClassFile.FieldType.int)) ∈ lw_all := lw_g (lw_at lw_m5 115 rfl) rfl
theorem q1200 : (Jvm.Cond.instanceMethod ({ cls := "ShaveOfAnother", name := "need", desc := "(II)Z" } : Jvm.MethodName)) ∈ lw_all := lw_g (lw_at lw_m5 117 rfl) rfl
theorem q1201 : (Jvm.Cond.selects "ShaveOfAnother" ({ cls := "ShaveOfAnother", name := "need", desc := "(II)Z" } : Jvm.MethodName) ({ cls := "ShaveOfAnother", name := "need", desc := "(II)Z" } : Jvm.MethodName)) ∈ lw_all := lw_g (lw_at lw_m5 118 rfl) rfl
theorem q1202 : (Jvm.Cond.code ({ cls := "ShaveOfAnother", name := "need", desc := "(II)Z" } : Jvm.MethodName) prog_1_method_59_code (3 : Nat) (Option.some Jvm.ClassFile.FieldType.boolean)) ∈ lw_all := lw_g (lw_at lw_m5 119 rfl) rfl
theorem q1204 : (Jvm.Cond.instanceMethod ({ cls := "ShaveOfAnother", name := "booking", desc := "(I)I" } : Jvm.MethodName)) ∈ lw_all := lw_g (lw_at lw_m5 121 rfl) rfl
theorem q1205 : (Jvm.Cond.selects "ShaveOfAnother" ({ cls := "ShaveOfAnother", name := "booking", desc := "(I)I" } : Jvm.MethodName) ({ cls := "ShaveOfAnother", name := "booking", desc := "(I)I" } : Jvm.MethodName)) ∈ lw_all := lw_g (lw_at lw_m5 122 rfl) rfl
theorem q1206 : (Jvm.Cond.code ({ cls := "ShaveOfAnother", name := "booking", desc := "(I)I" } : Jvm.MethodName) prog_1_method_63_code (3 : Nat) (Option.some Jvm.ClassFile.FieldType.int)) ∈ lw_all := lw_g (lw_at lw_m5 123 rfl) rfl
theorem q1207 : (Jvm.Cond.methodLink "ShaveOfAnother" (320 : Nat) ({ cls := "ShaveOfAnother", name := "laysBooking", desc := "()I" } : Jvm.MethodName)) ∈ lw_all := lw_g (lw_at lw_m5 124 rfl) rfl
theorem q1208 : (Jvm.Cond.privateMethod ({ cls := "ShaveOfAnother", name := "laysBooking", desc := "()I" } : Jvm.MethodName)) ∈ lw_tbl := lw_at lw_m5 125 rfl
theorem q1209 : (Jvm.Cond.instanceMethod ({ cls := "ShaveOfAnother", name := "laysBooking", desc := "()I" } : Jvm.MethodName)) ∈ lw_all := lw_g (lw_at lw_m5 126 rfl) rfl
theorem q1210 : (Jvm.Cond.code ({ cls := "ShaveOfAnother", name := "laysBooking", desc := "()I" } : Jvm.MethodName) prog_1_method_62_code (6 : Nat) (Option.some Jvm.ClassFile.FieldType.int)) ∈ lw_all := lw_g (lw_at lw_m5 127 rfl) rfl
theorem q1211 : (Jvm.Cond.methodLink "ShaveOfAnother" (311 : Nat) ({ cls := "java/util/Arrays", name := "fill", desc := "([II)V" } : Jvm.MethodName)) ∈ lw_all := lw_g (lw_at lw_m5 128 rfl) rfl
theorem q1212 : (Jvm.Cond.methodLink "ShaveOfAnother" (317 : Nat) ({ cls := "ShaveOfAnother", name := "satIn", desc := "(II)I" } : Jvm.MethodName)) ∈ lw_all := lw_g (lw_at lw_m5 129 rfl) rfl
theorem q1213 : (Jvm.Cond.privateMethod ({ cls := "ShaveOfAnother", name := "satIn", desc := "(II)I" } : Jvm.MethodName)) ∈ lw_tbl := lw_at lw_m5 130 rfl
theorem q1214 : (Jvm.Cond.instanceMethod ({ cls := "ShaveOfAnother", name := "satIn", desc := "(II)I" } : Jvm.MethodName)) ∈ lw_all := lw_g (lw_at lw_m5 131 rfl) rfl
theorem q1215 : (Jvm.Cond.code ({ cls := "ShaveOfAnother", name := "satIn", desc := "(II)I" } : Jvm.MethodName) prog_1_method_61_code (6 : Nat) (Option.some Jvm.ClassFile.FieldType.int)) ∈ lw_all := lw_g (lw_at lw_m5 132 rfl) rfl
theorem q1216 : (Jvm.Cond.methodLink "ShaveOfAnother" (308 : Nat) ({ cls := "ShaveOfAnother", name := "lessened", desc := "(II)I" } : Jvm.MethodName)) ∈ lw_all := lw_g (lw_at lw_m5 133 rfl) rfl
theorem q1217 : (Jvm.Cond.static ({ cls := "ShaveOfAnother", name := "lessened", desc := "(II)I" } : Jvm.MethodName)) ∈ lw_all := lw_g (lw_at lw_m5 134 rfl) rfl
theorem q1218 : (Jvm.Cond.code ({ cls := "ShaveOfAnother", name := "lessened", desc := "(II)I" } : Jvm.MethodName) prog_1_method_60_code (3 : Nat) (Option.some Jvm.ClassFile.FieldType.int)) ∈ lw_all := lw_g (lw_at lw_m5 135 rfl) rfl
theorem q1220 : (Jvm.Cond.instanceMethod ({ cls := "ShaveOfAnother", name := "seen", desc := "(II)I" } : Jvm.MethodName)) ∈ lw_all := lw_g (lw_at lw_m5 137 rfl) rfl
theorem q1221 : (Jvm.Cond.selects "ShaveOfAnother" ({ cls := "ShaveOfAnother", name := "seen", desc := "(II)I" } : Jvm.MethodName) ({ cls := "ShaveOfAnother", name := "seen", desc := "(II)I" } : Jvm.MethodName)) ∈ lw_all := lw_g (lw_at lw_m5 138 rfl) rfl
theorem q1222 : (Jvm.Cond.code ({ cls := "ShaveOfAnother", name := "seen", desc := "(II)I" } : Jvm.MethodName) prog_1_method_64_code (4 : Nat) (Option.some Jvm.ClassFile.FieldType.int)) ∈ lw_all := lw_g (lw_at lw_m5 139 rfl) rfl
theorem q1223 : (Jvm.Cond.methodLink "ShaveOfAnother" (323 : Nat) ({ cls := "ShaveOfAnother$State", name := "clears", desc := "(I)I" } : Jvm.MethodName)) ∈ lw_all := lw_g (lw_at lw_m5 140 rfl) rfl
theorem q1227 : (Jvm.Cond.methodLink "ShaveOfAnother" (329 : Nat) ({ cls := "ShaveOfAnother$State", name := "adds", desc := "([[IIII)I" } : Jvm.MethodName)) ∈ lw_all := lw_g (lw_at lw_m5 144 rfl) rfl
theorem q1232 : (Jvm.Cond.instanceMethod ({ cls := "ShaveOfAnother", name := "fits", desc := "(I)I" } : Jvm.MethodName)) ∈ lw_all := lw_g (lw_at lw_m5 149 rfl) rfl
theorem q1233 : (Jvm.Cond.selects "ShaveOfAnother" ({ cls := "ShaveOfAnother", name := "fits", desc := "(I)I" } : Jvm.MethodName) ({ cls := "ShaveOfAnother", name := "fits", desc := "(I)I" } : Jvm.MethodName)) ∈ lw_all := lw_g (lw_at lw_m5 150 rfl) rfl
theorem q1234 : (Jvm.Cond.code ({ cls := "ShaveOfAnother", name := "fits", desc := "(I)I" } : Jvm.MethodName) prog_1_method_68_code (2 : Nat) (Option.some Jvm.ClassFile.FieldType.int)) ∈ lw_all := lw_g (lw_at lw_m5 151 rfl) rfl
theorem q1235 : (Jvm.Cond.methodLink "ShaveOfAnother" (342 : Nat) ({ cls := "ShaveOfAnother", name := "laysFits", desc := "(I)V" } : Jvm.MethodName)) ∈ lw_all := lw_g (lw_at lw_m5 152 rfl) rfl
theorem q1236 : (Jvm.Cond.privateMethod ({ cls := "ShaveOfAnother", name := "laysFits", desc := "(I)V" } : Jvm.MethodName)) ∈ lw_tbl := lw_at lw_m5 153 rfl
theorem q1237 : (Jvm.Cond.instanceMethod ({ cls := "ShaveOfAnother", name := "laysFits", desc := "(I)V" } : Jvm.MethodName)) ∈ lw_all := lw_g (lw_at lw_m5 154 rfl) rfl
theorem q1238 : (Jvm.Cond.code ({ cls := "ShaveOfAnother", name := "laysFits", desc := "(I)V" } : Jvm.MethodName) prog_1_method_67_code (2 : Nat) (Option.none : Option Jvm.ClassFile.FieldType)) ∈ lw_all := lw_g (lw_at lw_m5 155 rfl) rfl
theorem q1239 : (Jvm.Cond.methodLink "ShaveOfAnother" (339 : Nat) ({ cls := "ShaveOfAnother", name := "fitsFrom", desc := "(II)V" } : Jvm.MethodName)) ∈ lw_all := lw_g (lw_at lw_m5 156 rfl) rfl
theorem q1240 : (Jvm.Cond.privateMethod ({ cls := "ShaveOfAnother", name := "fitsFrom", desc := "(II)V" } : Jvm.MethodName)) ∈ lw_tbl := lw_at lw_m5 157 rfl
theorem q1241 : (Jvm.Cond.instanceMethod ({ cls := "ShaveOfAnother", name := "fitsFrom", desc := "(II)V" } : Jvm.MethodName)) ∈ lw_all := lw_g (lw_at lw_m5 158 rfl) rfl
theorem q1242 : (Jvm.Cond.code ({ cls := "ShaveOfAnother", name := "fitsFrom", desc := "(II)V" } : Jvm.MethodName) prog_1_method_66_code (4 : Nat) (Option.none : Option Jvm.ClassFile.FieldType)) ∈ lw_all := lw_g (lw_at lw_m5 159 rfl) rfl
theorem q1243 : (Jvm.Cond.methodLink "ShaveOfAnother" (333 : Nat) ({ cls := "ShaveOfAnother", name := "isSeen", desc := "(I)Z" } : Jvm.MethodName)) ∈ lw_all := lw_g (lw_at lw_m5 160 rfl) rfl
theorem q1244 : (Jvm.Cond.privateMethod ({ cls := "ShaveOfAnother", name := "isSeen", desc := "(I)Z" } : Jvm.MethodName)) ∈ lw_tbl := lw_at lw_m5 161 rfl
theorem q1245 : (Jvm.Cond.instanceMethod ({ cls := "ShaveOfAnother", name := "isSeen", desc := "(I)Z" } : Jvm.MethodName)) ∈ lw_all := lw_g (lw_at lw_m5 162 rfl) rfl
theorem q1246 : (Jvm.Cond.code ({ cls := "ShaveOfAnother", name := "isSeen", desc := "(I)Z" } : Jvm.MethodName) prog_1_method_65_code (6 : Nat) (Option.some Jvm.ClassFile.FieldType.boolean)) ∈ lw_all := lw_g (lw_at lw_m5 163 rfl) rfl
theorem q1248 : (Jvm.Cond.instanceMethod ({ cls := "ShaveOfAnother", name := "whose", desc := "(II)I" } : Jvm.MethodName)) ∈ lw_all := lw_g (lw_at lw_m5 165 rfl) rfl
theorem q1249 : (Jvm.Cond.selects "ShaveOfAnother" ({ cls := "ShaveOfAnother", name := "whose", desc := "(II)I" } : Jvm.MethodName) ({ cls := "ShaveOfAnother", name := "whose", desc := "(II)I" } : Jvm.MethodName)) ∈ lw_all := lw_g (lw_at lw_m5 166 rfl) rfl
theorem q1250 : (Jvm.Cond.code ({ cls := "ShaveOfAnother", name := "whose", desc := "(II)I" } : Jvm.MethodName) prog_1_method_69_code (3 : Nat) (Option.some Jvm.ClassFile.FieldType.int)) ∈ lw_all := lw_g (lw_at lw_m5 167 rfl) rfl
theorem q1252 : (Jvm.Cond.instanceMethod ({ cls := "ShaveOfAnother", name := "next", desc := "(I)I" } : Jvm.MethodName)) ∈ lw_all := lw_g (lw_at lw_m5 169 rfl) rfl
theorem q1253 : (Jvm.Cond.selects "ShaveOfAnother" ({ cls := "ShaveOfAnother", name := "next", desc := "(I)I" } : Jvm.MethodName) ({ cls := "ShaveOfAnother", name := "next", desc := "(I)I" } : Jvm.MethodName)) ∈ lw_all := lw_g (lw_at lw_m5 170 rfl) rfl
theorem q1254 : (Jvm.Cond.code ({ cls := "ShaveOfAnother", name := "next", desc := "(I)I" } : Jvm.MethodName) prog_1_method_70_code (4 : Nat) (Option.some Jvm.ClassFile.FieldType.int)) ∈ lw_all := lw_g (lw_at lw_m5 171 rfl) rfl
theorem q1256 : (Jvm.Cond.instanceMethod ({ cls := "ShaveOfAnother", name := "cut", desc := "(III)Z" } : Jvm.MethodName)) ∈ lw_all := lw_g (lw_at lw_m5 173 rfl) rfl
theorem q1257 : (Jvm.Cond.selects "ShaveOfAnother" ({ cls := "ShaveOfAnother", name := "cut", desc := "(III)Z" } : Jvm.MethodName) ({ cls := "ShaveOfAnother", name := "cut", desc := "(III)Z" } : Jvm.MethodName)) ∈ lw_all := lw_g (lw_at lw_m5 174 rfl) rfl
theorem q1258 : (Jvm.Cond.code ({ cls := "ShaveOfAnother", name := "cut", desc := "(III)Z" } : Jvm.MethodName) prog_1_method_71_code (4 : Nat) (Option.some Jvm.ClassFile.FieldType.boolean)) ∈ lw_all := lw_g (lw_at lw_m5 175 rfl) rfl
theorem q1260 : (Jvm.Cond.instanceMethod ({ cls := "ShaveOfAnother", name := "pairs", desc := "(II)I" } : Jvm.MethodName)) ∈ lw_all := lw_g (lw_at lw_m5 177 rfl) rfl
theorem q1261 : (Jvm.Cond.selects "ShaveOfAnother" ({ cls := "ShaveOfAnother", name := "pairs", desc := "(II)I" } : Jvm.MethodName) ({ cls := "ShaveOfAnother", name := "pairs", desc := "(II)I" } : Jvm.MethodName)) ∈ lw_all := lw_g (lw_at lw_m5 178 rfl) rfl
theorem q1262 : (Jvm.Cond.code ({ cls := "ShaveOfAnother", name := "pairs", desc := "(II)I" } : Jvm.MethodName) prog_1_method_74_code (6 : Nat) (Option.some Jvm.ClassFile.FieldType.int)) ∈ lw_all := lw_g (lw_at lw_m5 179 rfl) rfl
theorem q1263 : (Jvm.Cond.methodLink "ShaveOfAnother" (355 : Nat) ({ cls := "ShaveOfAnother", name := "leastOf", desc := "(I)I" } : Jvm.MethodName)) ∈ lw_all := lw_g (lw_at lw_m5 180 rfl) rfl
theorem q1264 : (Jvm.Cond.privateMethod ({ cls := "ShaveOfAnother", name := "leastOf", desc := "(I)I" } : Jvm.MethodName)) ∈ lw_tbl := lw_at lw_m5 181 rfl
theorem q1265 : (Jvm.Cond.instanceMethod ({ cls := "ShaveOfAnother", name := "leastOf", desc := "(I)I" } : Jvm.MethodName)) ∈ lw_all := lw_g (lw_at lw_m5 182 rfl) rfl
theorem q1266 : (Jvm.Cond.code ({ cls := "ShaveOfAnother", name := "leastOf", desc := "(I)I" } : Jvm.MethodName) prog_1_method_72_code (5 : Nat) (Option.some Jvm.ClassFile.FieldType.int)) ∈ lw_all := lw_g (lw_at lw_m5 183 rfl) rfl
theorem q1267 : (Jvm.Cond.methodLink "ShaveOfAnother" (348 : Nat) ({ cls := "java/lang/Integer", name := "numberOfTrailingZeros", desc := "(I)I" } : Jvm.MethodName)) ∈ lw_all := lw_g (lw_at lw_m5 184 rfl) rfl
theorem q1271 : (Jvm.Cond.methodLink "ShaveOfAnother" (351 : Nat) ({ cls := "ShaveOfAnother", name := "leastWith", desc := "(III)I" } : Jvm.MethodName)) ∈ lw_all := lw_g (lw_at lw_m5 188 rfl) rfl
theorem q1272 : (Jvm.Cond.privateMethod ({ cls := "ShaveOfAnother", name := "leastWith", desc := "(III)I" } : Jvm.MethodName)) ∈ lw_tbl := lw_at lw_m5 189 rfl
theorem q1273 : (Jvm.Cond.instanceMethod ({ cls := "ShaveOfAnother", name := "leastWith", desc := "(III)I" } : Jvm.MethodName)) ∈ lw_all := lw_g (lw_at lw_m5 190 rfl) rfl
theorem q1274 : (Jvm.Cond.code ({ cls := "ShaveOfAnother", name := "leastWith", desc := "(III)I" } : Jvm.MethodName) prog_1_method_73_code (4 : Nat) (Option.some Jvm.ClassFile.FieldType.int)) ∈ lw_all := lw_g (lw_at lw_m5 191 rfl) rfl
theorem q1276 : (Jvm.Cond.instanceMethod ({ cls := "ShaveOfAnother", name := "likes", desc := "(III)Z" } : Jvm.MethodName)) ∈ lw_all := lw_g (lw_at lw_m5 193 rfl) rfl
theorem q1277 : (Jvm.Cond.selects "ShaveOfAnother" ({ cls := "ShaveOfAnother", name := "likes", desc := "(III)Z" } : Jvm.MethodName) ({ cls := "ShaveOfAnother", name := "likes", desc := "(III)Z" } : Jvm.MethodName)) ∈ lw_all := lw_g (lw_at lw_m5 194 rfl) rfl
theorem q1278 : (Jvm.Cond.code ({ cls := "ShaveOfAnother", name := "likes", desc := "(III)Z" } : Jvm.MethodName) prog_1_method_75_code (4 : Nat) (Option.some Jvm.ClassFile.FieldType.boolean)) ∈ lw_all := lw_g (lw_at lw_m5 195 rfl) rfl
theorem q1280 : (Jvm.Cond.instanceMethod ({ cls := "ShaveOfAnother", name := "traded", desc := "(II)I" } : Jvm.MethodName)) ∈ lw_all := lw_g (lw_at lw_m5 197 rfl) rfl
theorem q1281 : (Jvm.Cond.selects "ShaveOfAnother" ({ cls := "ShaveOfAnother", name := "traded", desc := "(II)I" } : Jvm.MethodName) ({ cls := "ShaveOfAnother", name := "traded", desc := "(II)I" } : Jvm.MethodName)) ∈ lw_all := lw_g (lw_at lw_m5 198 rfl) rfl
theorem q1282 : (Jvm.Cond.code ({ cls := "ShaveOfAnother", name := "traded", desc := "(II)I" } : Jvm.MethodName) prog_1_method_79_code (3 : Nat) (Option.some Jvm.ClassFile.FieldType.int)) ∈ lw_all := lw_g (lw_at lw_m5 199 rfl) rfl
theorem q1283 : (Jvm.Cond.methodLink "ShaveOfAnother" (367 : Nat) ({ cls := "ShaveOfAnother", name := "trades", desc := "(I)V" } : Jvm.MethodName)) ∈ lw_all := lw_g (lw_at lw_m5 200 rfl) rfl
theorem q1284 : (Jvm.Cond.privateMethod ({ cls := "ShaveOfAnother", name := "trades", desc := "(I)V" } : Jvm.MethodName)) ∈ lw_tbl := lw_at lw_m5 201 rfl
theorem q1285 : (Jvm.Cond.instanceMethod ({ cls := "ShaveOfAnother", name := "trades", desc := "(I)V" } : Jvm.MethodName)) ∈ lw_all := lw_g (lw_at lw_m5 202 rfl) rfl
theorem q1286 : (Jvm.Cond.code ({ cls := "ShaveOfAnother", name := "trades", desc := "(I)V" } : Jvm.MethodName) prog_1_method_78_code (6 : Nat) (Option.none : Option Jvm.ClassFile.FieldType)) ∈ lw_all := lw_g (lw_at lw_m5 203 rfl) rfl
theorem q1287 : (Jvm.Cond.methodLink "ShaveOfAnother" (364 : Nat) ({ cls := "ShaveOfAnother", name := "pointsAt", desc := "(II)I" } : Jvm.MethodName)) ∈ lw_all := lw_g (lw_at lw_m5 204 rfl) rfl
theorem q1288 : (Jvm.Cond.privateMethod ({ cls := "ShaveOfAnother", name := "pointsAt", desc := "(II)I" } : Jvm.MethodName)) ∈ lw_tbl := lw_at lw_m5 205 rfl
theorem q1289 : (Jvm.Cond.instanceMethod ({ cls := "ShaveOfAnother", name := "pointsAt", desc := "(II)I" } : Jvm.MethodName)) ∈ lw_all := lw_g (lw_at lw_m5 206 rfl) rfl
theorem q1290 : (Jvm.Cond.code ({ cls := "ShaveOfAnother", name := "pointsAt", desc := "(II)I" } : Jvm.MethodName) prog_1_method_77_code (5 : Nat) (Option.some Jvm.ClassFile.FieldType.int)) ∈ lw_all := lw_g (lw_at lw_m5 207 rfl) rfl
theorem q1291 : (Jvm.Cond.methodLink "ShaveOfAnother" (361 : Nat) ({ cls := "ShaveOfAnother", name := "isBetter", desc := "(III)Z" } : Jvm.MethodName)) ∈ lw_all := lw_g (lw_at lw_m5 208 rfl) rfl
theorem q1292 : (Jvm.Cond.privateMethod ({ cls := "ShaveOfAnother", name := "isBetter", desc := "(III)Z" } : Jvm.MethodName)) ∈ lw_tbl := lw_at lw_m5 209 rfl
theorem q1293 : (Jvm.Cond.instanceMethod ({ cls := "ShaveOfAnother", name := "isBetter", desc := "(III)Z" } : Jvm.MethodName)) ∈ lw_all := lw_g (lw_at lw_m5 210 rfl) rfl
theorem q1294 : (Jvm.Cond.code ({ cls := "ShaveOfAnother", name := "isBetter", desc := "(III)Z" } : Jvm.MethodName) prog_1_method_76_code (5 : Nat) (Option.some Jvm.ClassFile.FieldType.boolean)) ∈ lw_all := lw_g (lw_at lw_m5 211 rfl) rfl
theorem q1296 : (Jvm.Cond.instanceMethod ({ cls := "ShaveOfAnother", name := "rather", desc := "(I)I" } : Jvm.MethodName)) ∈ lw_all := lw_g (lw_at lw_m5 213 rfl) rfl
theorem q1297 : (Jvm.Cond.selects "ShaveOfAnother" ({ cls := "ShaveOfAnother", name := "rather", desc := "(I)I" } : Jvm.MethodName) ({ cls := "ShaveOfAnother", name := "rather", desc := "(I)I" } : Jvm.MethodName)) ∈ lw_all := lw_g (lw_at lw_m5 214 rfl) rfl
theorem q1298 : (Jvm.Cond.code ({ cls := "ShaveOfAnother", name := "rather", desc := "(I)I" } : Jvm.MethodName) prog_1_method_80_code (4 : Nat) (Option.some Jvm.ClassFile.FieldType.int)) ∈ lw_all := lw_g (lw_at lw_m5 215 rfl) rfl
theorem q1300 : (Jvm.Cond.instanceMethod ({ cls := "ShaveOfAnother", name := "slip", desc := "(II)Z" } : Jvm.MethodName)) ∈ lw_all := lw_g (lw_at lw_m5 217 rfl) rfl
theorem q1301 : (Jvm.Cond.selects "ShaveOfAnother" ({ cls := "ShaveOfAnother", name := "slip", desc := "(II)Z" } : Jvm.MethodName) ({ cls := "ShaveOfAnother", name := "slip", desc := "(II)Z" } : Jvm.MethodName)) ∈ lw_all := lw_g (lw_at lw_m5 218 rfl) rfl
theorem q1302 : (Jvm.Cond.code ({ cls := "ShaveOfAnother", name := "slip", desc := "(II)Z" } : Jvm.MethodName) prog_1_method_81_code (3 : Nat) (Option.some Jvm.ClassFile.FieldType.boolean)) ∈ lw_all := lw_g (lw_at lw_m5 219 rfl) rfl
theorem q1304 : (Jvm.Cond.instanceMethod ({ cls := "ShaveOfAnother", name := "scars", desc := "(IIZ)J" } : Jvm.MethodName)) ∈ lw_all := lw_g (lw_at lw_m5 221 rfl) rfl
theorem q1305 : (Jvm.Cond.selects "ShaveOfAnother" ({ cls := "ShaveOfAnother", name := "scars", desc := "(IIZ)J" } : Jvm.MethodName) ({ cls := "ShaveOfAnother", name := "scars", desc := "(IIZ)J" } : Jvm.MethodName)) ∈ lw_all := lw_g (lw_at lw_m5 222 rfl) rfl
theorem q1306 : (Jvm.Cond.code ({ cls := "ShaveOfAnother", name := "scars", desc := "(IIZ)J" } : Jvm.MethodName) prog_1_method_84_code (10 : Nat) (Option.some Jvm.ClassFile.FieldType.long)) ∈ lw_all := lw_g (lw_at lw_m5 223 rfl) rfl
theorem q1307 : (Jvm.Cond.constantLong "ShaveOfAnother" (381 : Nat) (-1 : Int64)) ∈ lw_all := lw_g (lw_at lw_m5 224 rfl) rfl
theorem q1308 : (Jvm.Cond.methodLink "ShaveOfAnother" (377 : Nat) ({ cls := "ShaveOfAnother", name := "slipsOf", desc := "(II)J" } : Jvm.MethodName)) ∈ lw_all := lw_g (lw_at lw_m5 225 rfl) rfl
theorem q1309 : (Jvm.Cond.privateMethod ({ cls := "ShaveOfAnother", name := "slipsOf", desc := "(II)J" } : Jvm.MethodName)) ∈ lw_tbl := lw_at lw_m5 226 rfl
theorem q1310 : (Jvm.Cond.instanceMethod ({ cls := "ShaveOfAnother", name := "slipsOf", desc := "(II)J" } : Jvm.MethodName)) ∈ lw_all := lw_g (lw_at lw_m5 227 rfl) rfl
theorem q1311 : (Jvm.Cond.code ({ cls := "ShaveOfAnother", name := "slipsOf", desc := "(II)J" } : Jvm.MethodName) prog_1_method_83_code (5 : Nat) (Option.some Jvm.ClassFile.FieldType.long)) ∈ lw_all := lw_g (lw_at lw_m5 228 rfl) rfl
theorem q1312 : (Jvm.Cond.constantLong "ShaveOfAnother" (383 : Nat) (10 : Int64)) ∈ lw_all := lw_g (lw_at lw_m5 229 rfl) rfl
theorem q1313 : (Jvm.Cond.methodLink "ShaveOfAnother" (373 : Nat) ({ cls := "ShaveOfAnother", name := "power", desc := "(JI)J" } : Jvm.MethodName)) ∈ lw_all := lw_g (lw_at lw_m5 230 rfl) rfl
theorem q1314 : (Jvm.Cond.static ({ cls := "ShaveOfAnother", name := "power", desc := "(JI)J" } : Jvm.MethodName)) ∈ lw_all := lw_g (lw_at lw_m5 231 rfl) rfl
theorem q1315 : (Jvm.Cond.code ({ cls := "ShaveOfAnother", name := "power", desc := "(JI)J" } : Jvm.MethodName) prog_1_method_82_code (3 : Nat) (Option.some Jvm.ClassFile.FieldType.long)) ∈ lw_all := lw_g (lw_at lw_m5 232 rfl) rfl
theorem q1317 : (Jvm.Cond.instanceMethod ({ cls := "ShaveOfAnother", name := "rate", desc := "(II)I" } : Jvm.MethodName)) ∈ lw_all := lw_g (lw_at lw_m5 234 rfl) rfl
theorem q1318 : (Jvm.Cond.selects "ShaveOfAnother" ({ cls := "ShaveOfAnother", name := "rate", desc := "(II)I" } : Jvm.MethodName) ({ cls := "ShaveOfAnother", name := "rate", desc := "(II)I" } : Jvm.MethodName)) ∈ lw_all := lw_g (lw_at lw_m5 235 rfl) rfl
theorem q1319 : (Jvm.Cond.code ({ cls := "ShaveOfAnother", name := "rate", desc := "(II)I" } : Jvm.MethodName) prog_1_method_85_code (3 : Nat) (Option.some Jvm.ClassFile.FieldType.int)) ∈ lw_all := lw_g (lw_at lw_m5 236 rfl) rfl
theorem q1321 : (Jvm.Cond.instanceMethod ({ cls := "ShaveOfAnother", name := "law", desc := "()I" } : Jvm.MethodName)) ∈ lw_all := lw_g (lw_at lw_m5 238 rfl) rfl
theorem q1322 : (Jvm.Cond.selects "ShaveOfAnother" ({ cls := "ShaveOfAnother", name := "law", desc := "()I" } : Jvm.MethodName) ({ cls := "ShaveOfAnother", name := "law", desc := "()I" } : Jvm.MethodName)) ∈ lw_all := lw_g (lw_at lw_m5 239 rfl) rfl
theorem q1323 : (Jvm.Cond.code ({ cls := "ShaveOfAnother", name := "law", desc := "()I" } : Jvm.MethodName) prog_1_method_87_code (3 : Nat) (Option.some Jvm.ClassFile.FieldType.int)) ∈ lw_all := lw_g (lw_at lw_m6 0 rfl) rfl
theorem q1324 : (Jvm.Cond.methodLink "ShaveOfAnother" (388 : Nat) ({ cls := "ShaveOfAnother", name := "isLaw", desc := "(LShaveOfAnother$Text;)Z" } : Jvm.MethodName)) ∈ lw_all := lw_g (lw_at lw_m6 1 rfl) rfl
theorem q1325 : (Jvm.Cond.privateMethod ({ cls := "ShaveOfAnother", name := "isLaw", desc := "(LShaveOfAnother$Text;)Z" } : Jvm.MethodName)) ∈ lw_tbl := lw_at lw_m6 2 rfl
theorem q1326 : (Jvm.Cond.instanceMethod ({ cls := "ShaveOfAnother", name := "isLaw", desc := "(LShaveOfAnother$Text;)Z" } : Jvm.MethodName)) ∈ lw_all := lw_g (lw_at lw_m6 3 rfl) rfl
theorem q1327 : (Jvm.Cond.code ({ cls := "ShaveOfAnother", name := "isLaw", desc := "(LShaveOfAnother$Text;)Z" } : Jvm.MethodName) prog_1_method_86_code (3 : Nat) (Option.some Jvm.ClassFile.FieldType.boolean)) ∈ lw_all := lw_g (lw_at lw_m6 4 rfl) rfl
theorem q1329 : (Jvm.Cond.instanceMethod ({ cls := "ShaveOfAnother", name := "hairiest", desc := "()I" } : Jvm.MethodName)) ∈ lw_all := lw_g (lw_at lw_m6 6 rfl) rfl
theorem q1330 : (Jvm.Cond.selects "ShaveOfAnother" ({ cls := "ShaveOfAnother", name := "hairiest", desc := "()I" } : Jvm.MethodName) ({ cls := "ShaveOfAnother", name := "hairiest", desc := "()I" } : Jvm.MethodName)) ∈ lw_all := lw_g (lw_at lw_m6 7 rfl) rfl
theorem q1331 : (Jvm.Cond.code ({ cls := "ShaveOfAnother", name := "hairiest", desc := "()I" } : Jvm.MethodName) prog_1_method_88_code (3 : Nat) (Option.some Jvm.ClassFile.FieldType.int)) ∈ lw_all := lw_g (lw_at lw_m6 8 rfl) rfl
theorem q1333 : (Jvm.Cond.instanceMethod ({ cls := "ShaveOfAnother", name := "calmest", desc := "()I" } : Jvm.MethodName)) ∈ lw_all := lw_g (lw_at lw_m6 10 rfl) rfl
theorem q1334 : (Jvm.Cond.selects "ShaveOfAnother" ({ cls := "ShaveOfAnother", name := "calmest", desc := "()I" } : Jvm.MethodName) ({ cls := "ShaveOfAnother", name := "calmest", desc := "()I" } : Jvm.MethodName)) ∈ lw_all := lw_g (lw_at lw_m6 11 rfl) rfl
theorem q1335 : (Jvm.Cond.code ({ cls := "ShaveOfAnother", name := "calmest", desc := "()I" } : Jvm.MethodName) prog_1_method_89_code (3 : Nat) (Option.some Jvm.ClassFile.FieldType.int)) ∈ lw_all := lw_g (lw_at lw_m6 12 rfl) rfl
theorem q1337 : (Jvm.Cond.instanceMethod ({ cls := "ShaveOfAnother", name := "smooth", desc := "()I" } : Jvm.MethodName)) ∈ lw_all := lw_g (lw_at lw_m6 14 rfl) rfl
theorem q1338 : (Jvm.Cond.selects "ShaveOfAnother" ({ cls := "ShaveOfAnother", name := "smooth", desc := "()I" } : Jvm.MethodName) ({ cls := "ShaveOfAnother", name := "smooth", desc := "()I" } : Jvm.MethodName)) ∈ lw_all := lw_g (lw_at lw_m6 15 rfl) rfl
theorem q1339 : (Jvm.Cond.code ({ cls := "ShaveOfAnother", name := "smooth", desc := "()I" } : Jvm.MethodName) prog_1_method_90_code (3 : Nat) (Option.some Jvm.ClassFile.FieldType.int)) ∈ lw_all := lw_g (lw_at lw_m6 16 rfl) rfl
theorem q1341 : (Jvm.Cond.instanceMethod ({ cls := "ShaveOfAnother", name := "unscarred", desc := "()I" } : Jvm.MethodName)) ∈ lw_all := lw_g (lw_at lw_m6 18 rfl) rfl
theorem q1342 : (Jvm.Cond.selects "ShaveOfAnother" ({ cls := "ShaveOfAnother", name := "unscarred", desc := "()I" } : Jvm.MethodName) ({ cls := "ShaveOfAnother", name := "unscarred", desc := "()I" } : Jvm.MethodName)) ∈ lw_all := lw_g (lw_at lw_m6 19 rfl) rfl
theorem q1343 : (Jvm.Cond.code ({ cls := "ShaveOfAnother", name := "unscarred", desc := "()I" } : Jvm.MethodName) prog_1_method_91_code (3 : Nat) (Option.some Jvm.ClassFile.FieldType.int)) ∈ lw_all := lw_g (lw_at lw_m6 20 rfl) rfl
theorem q1345 : (Jvm.Cond.instanceMethod ({ cls := "ShaveOfAnother", name := "alone", desc := "()I" } : Jvm.MethodName)) ∈ lw_all := lw_g (lw_at lw_m6 22 rfl) rfl
theorem q1346 : (Jvm.Cond.selects "ShaveOfAnother" ({ cls := "ShaveOfAnother", name := "alone", desc := "()I" } : Jvm.MethodName) ({ cls := "ShaveOfAnother", name := "alone", desc := "()I" } : Jvm.MethodName)) ∈ lw_all := lw_g (lw_at lw_m6 23 rfl) rfl
theorem q1347 : (Jvm.Cond.code ({ cls := "ShaveOfAnother", name := "alone", desc := "()I" } : Jvm.MethodName) prog_1_method_92_code (3 : Nat) (Option.some Jvm.ClassFile.FieldType.int)) ∈ lw_all := lw_g (lw_at lw_m6 24 rfl) rfl
theorem q1349 : (Jvm.Cond.instanceMethod ({ cls := "ShaveOfAnother", name := "ledger", desc := "(I)I" } : Jvm.MethodName)) ∈ lw_all := lw_g (lw_at lw_m6 26 rfl) rfl
theorem q1350 : (Jvm.Cond.selects "ShaveOfAnother" ({ cls := "ShaveOfAnother", name := "ledger", desc := "(I)I" } : Jvm.MethodName) ({ cls := "ShaveOfAnother", name := "ledger", desc := "(I)I" } : Jvm.MethodName)) ∈ lw_all := lw_g (lw_at lw_m6 27 rfl) rfl
theorem q1351 : (Jvm.Cond.code ({ cls := "ShaveOfAnother", name := "ledger", desc := "(I)I" } : Jvm.MethodName) prog_1_method_93_code (4 : Nat) (Option.some Jvm.ClassFile.FieldType.int)) ∈ lw_all := lw_g (lw_at lw_m6 28 rfl) rfl
theorem q1353 : (Jvm.Cond.instanceMethod ({ cls := "ShaveOfAnother", name := "image", desc := "()I" } : Jvm.MethodName)) ∈ lw_all := lw_g (lw_at lw_m6 30 rfl) rfl
theorem q1354 : (Jvm.Cond.selects "ShaveOfAnother" ({ cls := "ShaveOfAnother", name := "image", desc := "()I" } : Jvm.MethodName) ({ cls := "ShaveOfAnother", name := "image", desc := "()I" } : Jvm.MethodName)) ∈ lw_all := lw_g (lw_at lw_m6 31 rfl) rfl
theorem q1355 : (Jvm.Cond.code ({ cls := "ShaveOfAnother", name := "image", desc := "()I" } : Jvm.MethodName) prog_1_method_94_code (1 : Nat) (Option.some Jvm.ClassFile.FieldType.int)) ∈ lw_all := lw_g (lw_at lw_m6 32 rfl) rfl
theorem q1357 : (Jvm.Cond.instanceMethod ({ cls := "ShaveOfAnother", name := "back", desc := "()I" } : Jvm.MethodName)) ∈ lw_all := lw_g (lw_at lw_m6 34 rfl) rfl
theorem q1358 : (Jvm.Cond.selects "ShaveOfAnother" ({ cls := "ShaveOfAnother", name := "back", desc := "()I" } : Jvm.MethodName) ({ cls := "ShaveOfAnother", name := "back", desc := "()I" } : Jvm.MethodName)) ∈ lw_all := lw_g (lw_at lw_m6 35 rfl) rfl
theorem q1359 : (Jvm.Cond.code ({ cls := "ShaveOfAnother", name := "back", desc := "()I" } : Jvm.MethodName) prog_1_method_95_code (1 : Nat) (Option.some Jvm.ClassFile.FieldType.int)) ∈ lw_all := lw_g (lw_at lw_m6 36 rfl) rfl
theorem q1361 : (Jvm.Cond.instanceMethod ({ cls := "ShaveOfAnother", name := "about", desc := "(I)I" } : Jvm.MethodName)) ∈ lw_all := lw_g (lw_at lw_m6 38 rfl) rfl
theorem q1362 : (Jvm.Cond.selects "ShaveOfAnother" ({ cls := "ShaveOfAnother", name := "about", desc := "(I)I" } : Jvm.MethodName) ({ cls := "ShaveOfAnother", name := "about", desc := "(I)I" } : Jvm.MethodName)) ∈ lw_all := lw_g (lw_at lw_m6 39 rfl) rfl
theorem q1363 : (Jvm.Cond.code ({ cls := "ShaveOfAnother", name := "about", desc := "(I)I" } : Jvm.MethodName) prog_1_method_96_code (2 : Nat) (Option.some Jvm.ClassFile.FieldType.int)) ∈ lw_all := lw_g (lw_at lw_m6 40 rfl) rfl
theorem q2048 : (Jvm.Cond.castable "ShaveOfAnother" "java/lang/Object") ∈ lw_tbl := lw_at lw_m9 5 rfl
theorem in_X0 : ∀ w ∈ wsX00, w ∈ lw_all := lw_in wsX00 [256, 258, 260, 262, 264, 266, 268, 270, 272, 274, 276, 278, 280, 282, 284, 286, 288] (by decide +kernel) (by decide +kernel)

/-! ShaveOfAnother$State -/
set_option maxRecDepth 100000
def RX1 : String := "ShaveOfAnother$State"
def TX1 : u_T := fun k => match k with
  | 0 => ("ShaveOfAnother$State", "n", "[I", true)
  | 1 => ("ShaveOfAnother$State", "row", "[I", true)
  | 2 => ("ShaveOfAnother$State", "other", "[I", true)
  | 3 => ("ShaveOfAnother$State", "need", "[I", true)
  | 4 => ("ShaveOfAnother$State", "odds", "[I", true)
  | 5 => ("ShaveOfAnother$State", "cut", "[[I", true)
  | 6 => ("ShaveOfAnother$State", "likes", "[[I", true)
  | 7 => ("ShaveOfAnother$State", "seen", "[[I", true)
  | 8 => ("ShaveOfAnother$State", "said", "[[I", true)
  | 9 => ("ShaveOfAnother$State", "step", "[[I", true)
  | _ => ("ShaveOfAnother$State", "text", "[LShaveOfAnother$Text;", true)
def tyX1 : Nat → FieldType := fun k => match k with
  | 0 => .array .int
  | 1 => .array .int
  | 2 => .array .int
  | 3 => .array .int
  | 4 => .array .int
  | 5 => .array (.array .int)
  | 6 => .array (.array .int)
  | 7 => .array (.array .int)
  | 8 => .array (.array .int)
  | 9 => .array (.array .int)
  | _ => .array (.object "ShaveOfAnother$Text")
abbrev wsX10 : List Cond := u_ws RX1 TX1 11
theorem nmX1 : ∀ a, a < 11 → ∀ b, b < 11 → a ≠ b → (TX1 a).2.1 ≠ (TX1 b).2.1 := by decide +kernel
theorem tyX1_ok : ∀ k, k < 11 → parseFieldDescriptor (TX1 k).2.2.1 = some (tyX1 k) := by decide +kernel
abbrev cX1_init : ByteArray := prog_13_method_1_code
def yX1_init : MethodName := ⟨RX1, "<init>", "()V"⟩
def dkwX1_init_7 : List UInt8 := [167, 255, 220, 177]
abbrev dktX1_init_7 : List UInt8 := dkwX1_init_7 ++ []
def dkwX1_init_6 : List UInt8 := [4, 130, 79, 42, 180, 0, 24, 27, 4, 79, 42, 180, 0, 29, 27, 50, 16, 10, 184, 0, 50, 132, 1, 1]
abbrev dktX1_init_6 : List UInt8 := dkwX1_init_6 ++ dktX1_init_7
def dkwX1_init_5 : List UInt8 := [79, 42, 180, 0, 15, 5, 17, 0, 223, 79, 3, 60, 27, 16, 8, 162, 0, 36, 42, 180, 0, 18, 27, 27]
abbrev dktX1_init_5 : List UInt8 := dkwX1_init_5 ++ dktX1_init_6
def dkwX1_init_4 : List UInt8 := [17, 0, 148, 197, 0, 27, 2, 181, 0, 41, 42, 7, 189, 0, 44, 181, 0, 46, 42, 180, 0, 9, 5, 2]
abbrev dktX1_init_4 : List UInt8 := dkwX1_init_4 ++ dktX1_init_5
def dkwX1_init_3 : List UInt8 := [5, 197, 0, 27, 2, 181, 0, 35, 42, 16, 8, 5, 197, 0, 27, 2, 181, 0, 38, 42, 16, 30]
abbrev dktX1_init_3 : List UInt8 := dkwX1_init_3 ++ dktX1_init_4
def dkwX1_init_2 : List UInt8 := [16, 8, 197, 0, 27, 2, 181, 0, 29, 42, 16, 8, 16, 8, 197, 0, 27, 2, 181, 0, 32, 42, 16, 6]
abbrev dktX1_init_2 : List UInt8 := dkwX1_init_2 ++ dktX1_init_3
def dkwX1_init_1 : List UInt8 := [188, 10, 181, 0, 18, 42, 16, 8, 188, 10, 181, 0, 21, 42, 16, 8, 188, 10, 181, 0, 24, 42, 16, 8]
abbrev dktX1_init_1 : List UInt8 := dkwX1_init_1 ++ dktX1_init_2
def dkwX1_init_0 : List UInt8 := [42, 183, 0, 3, 42, 16, 6, 188, 10, 181, 0, 9, 42, 17, 0, 148, 188, 10, 181, 0, 15, 42, 16, 8]
abbrev dktX1_init_0 : List UInt8 := dkwX1_init_0 ++ dktX1_init_1
theorem dksX1_init_0 : cX1_init.data.toList.drop 0 = dktX1_init_0 := by decide +kernel
theorem dksX1_init_1 : cX1_init.data.toList.drop 24 = dktX1_init_1 := dk_seg dksX1_init_0 24 rfl rfl
theorem dksX1_init_2 : cX1_init.data.toList.drop 48 = dktX1_init_2 := dk_seg dksX1_init_1 24 rfl rfl
theorem dksX1_init_3 : cX1_init.data.toList.drop 72 = dktX1_init_3 := dk_seg dksX1_init_2 24 rfl rfl
theorem dksX1_init_4 : cX1_init.data.toList.drop 94 = dktX1_init_4 := dk_seg dksX1_init_3 22 rfl rfl
theorem dksX1_init_5 : cX1_init.data.toList.drop 118 = dktX1_init_5 := dk_seg dksX1_init_4 24 rfl rfl
theorem dksX1_init_6 : cX1_init.data.toList.drop 142 = dktX1_init_6 := dk_seg dksX1_init_5 24 rfl rfl
theorem dksX1_init_7 : cX1_init.data.toList.drop 166 = dktX1_init_7 := dk_seg dksX1_init_6 24 rfl rfl
theorem dX1_init_0 : decode cX1_init 0 = .ok (.aload_n 0, 1) := dk_42 (dk_at dksX1_init_0 0 rfl rfl)
theorem dX1_init_1 : decode cX1_init 1 = .ok (.invokespecial 3, 3) := dk_183 0 3 (dk_at dksX1_init_0 1 rfl rfl)
theorem dX1_init_4 : decode cX1_init 4 = .ok (.aload_n 0, 1) := dk_42 (dk_at dksX1_init_0 4 rfl rfl)
theorem dX1_init_5 : decode cX1_init 5 = .ok (.bipush 6, 2) := dk_16 6 (dk_at dksX1_init_0 5 rfl rfl)
theorem dX1_init_7 : decode cX1_init 7 = .ok (.newarray .int, 2) := dk_188_10 (dk_at dksX1_init_0 7 rfl rfl)
theorem dX1_init_9 : decode cX1_init 9 = .ok (.putfield 9, 3) := dk_181 0 9 (dk_at dksX1_init_0 9 rfl rfl)
theorem dX1_init_12 : decode cX1_init 12 = .ok (.aload_n 0, 1) := dk_42 (dk_at dksX1_init_0 12 rfl rfl)
theorem dX1_init_13 : decode cX1_init 13 = .ok (.sipush 148, 3) := dk_17 0 148 (dk_at dksX1_init_0 13 rfl rfl)
theorem dX1_init_16 : decode cX1_init 16 = .ok (.newarray .int, 2) := dk_188_10 (dk_at dksX1_init_0 16 rfl rfl)
theorem dX1_init_18 : decode cX1_init 18 = .ok (.putfield 15, 3) := dk_181 0 15 (dk_at dksX1_init_0 18 rfl rfl)
theorem dX1_init_21 : decode cX1_init 21 = .ok (.aload_n 0, 1) := dk_42 (dk_at dksX1_init_0 21 rfl rfl)
theorem dX1_init_22 : decode cX1_init 22 = .ok (.bipush 8, 2) := dk_16 8 (dk_at dksX1_init_0 22 rfl rfl)
theorem dX1_init_24 : decode cX1_init 24 = .ok (.newarray .int, 2) := dk_188_10 (dk_at dksX1_init_1 0 rfl rfl)
theorem dX1_init_26 : decode cX1_init 26 = .ok (.putfield 18, 3) := dk_181 0 18 (dk_at dksX1_init_1 2 rfl rfl)
theorem dX1_init_29 : decode cX1_init 29 = .ok (.aload_n 0, 1) := dk_42 (dk_at dksX1_init_1 5 rfl rfl)
theorem dX1_init_30 : decode cX1_init 30 = .ok (.bipush 8, 2) := dk_16 8 (dk_at dksX1_init_1 6 rfl rfl)
theorem dX1_init_32 : decode cX1_init 32 = .ok (.newarray .int, 2) := dk_188_10 (dk_at dksX1_init_1 8 rfl rfl)
theorem dX1_init_34 : decode cX1_init 34 = .ok (.putfield 21, 3) := dk_181 0 21 (dk_at dksX1_init_1 10 rfl rfl)
theorem dX1_init_37 : decode cX1_init 37 = .ok (.aload_n 0, 1) := dk_42 (dk_at dksX1_init_1 13 rfl rfl)
theorem dX1_init_38 : decode cX1_init 38 = .ok (.bipush 8, 2) := dk_16 8 (dk_at dksX1_init_1 14 rfl rfl)
theorem dX1_init_40 : decode cX1_init 40 = .ok (.newarray .int, 2) := dk_188_10 (dk_at dksX1_init_1 16 rfl rfl)
theorem dX1_init_42 : decode cX1_init 42 = .ok (.putfield 24, 3) := dk_181 0 24 (dk_at dksX1_init_1 18 rfl rfl)
theorem dX1_init_45 : decode cX1_init 45 = .ok (.aload_n 0, 1) := dk_42 (dk_at dksX1_init_1 21 rfl rfl)
theorem dX1_init_46 : decode cX1_init 46 = .ok (.bipush 8, 2) := dk_16 8 (dk_at dksX1_init_1 22 rfl rfl)
theorem dX1_init_48 : decode cX1_init 48 = .ok (.bipush 8, 2) := dk_16 8 (dk_at dksX1_init_2 0 rfl rfl)
theorem dX1_init_50 : decode cX1_init 50 = .ok (.multianewarray 27 2, 4) := by decide +kernel
theorem dX1_init_54 : decode cX1_init 54 = .ok (.putfield 29, 3) := dk_181 0 29 (dk_at dksX1_init_2 6 rfl rfl)
theorem dX1_init_57 : decode cX1_init 57 = .ok (.aload_n 0, 1) := dk_42 (dk_at dksX1_init_2 9 rfl rfl)
theorem dX1_init_58 : decode cX1_init 58 = .ok (.bipush 8, 2) := dk_16 8 (dk_at dksX1_init_2 10 rfl rfl)
theorem dX1_init_60 : decode cX1_init 60 = .ok (.bipush 8, 2) := dk_16 8 (dk_at dksX1_init_2 12 rfl rfl)
theorem dX1_init_62 : decode cX1_init 62 = .ok (.multianewarray 27 2, 4) := by decide +kernel
theorem dX1_init_66 : decode cX1_init 66 = .ok (.putfield 32, 3) := dk_181 0 32 (dk_at dksX1_init_2 18 rfl rfl)
theorem dX1_init_69 : decode cX1_init 69 = .ok (.aload_n 0, 1) := dk_42 (dk_at dksX1_init_2 21 rfl rfl)
theorem dX1_init_70 : decode cX1_init 70 = .ok (.bipush 6, 2) := dk_16 6 (dk_at dksX1_init_2 22 rfl rfl)
theorem dX1_init_72 : decode cX1_init 72 = .ok (.iconst 2, 1) := dk_5 (dk_at dksX1_init_3 0 rfl rfl)
theorem dX1_init_73 : decode cX1_init 73 = .ok (.multianewarray 27 2, 4) := by decide +kernel
theorem dX1_init_77 : decode cX1_init 77 = .ok (.putfield 35, 3) := dk_181 0 35 (dk_at dksX1_init_3 5 rfl rfl)
theorem dX1_init_80 : decode cX1_init 80 = .ok (.aload_n 0, 1) := dk_42 (dk_at dksX1_init_3 8 rfl rfl)
theorem dX1_init_81 : decode cX1_init 81 = .ok (.bipush 8, 2) := dk_16 8 (dk_at dksX1_init_3 9 rfl rfl)
theorem dX1_init_83 : decode cX1_init 83 = .ok (.iconst 2, 1) := dk_5 (dk_at dksX1_init_3 11 rfl rfl)
theorem dX1_init_84 : decode cX1_init 84 = .ok (.multianewarray 27 2, 4) := by decide +kernel
theorem dX1_init_88 : decode cX1_init 88 = .ok (.putfield 38, 3) := dk_181 0 38 (dk_at dksX1_init_3 16 rfl rfl)
theorem dX1_init_91 : decode cX1_init 91 = .ok (.aload_n 0, 1) := dk_42 (dk_at dksX1_init_3 19 rfl rfl)
theorem dX1_init_92 : decode cX1_init 92 = .ok (.bipush 30, 2) := dk_16 30 (dk_at dksX1_init_3 20 rfl rfl)
theorem dX1_init_94 : decode cX1_init 94 = .ok (.sipush 148, 3) := dk_17 0 148 (dk_at dksX1_init_4 0 rfl rfl)
theorem dX1_init_97 : decode cX1_init 97 = .ok (.multianewarray 27 2, 4) := by decide +kernel
theorem dX1_init_101 : decode cX1_init 101 = .ok (.putfield 41, 3) := dk_181 0 41 (dk_at dksX1_init_4 7 rfl rfl)
theorem dX1_init_104 : decode cX1_init 104 = .ok (.aload_n 0, 1) := dk_42 (dk_at dksX1_init_4 10 rfl rfl)
theorem dX1_init_105 : decode cX1_init 105 = .ok (.iconst 4, 1) := dk_7 (dk_at dksX1_init_4 11 rfl rfl)
theorem dX1_init_106 : decode cX1_init 106 = .ok (.anewarray 44, 3) := dk_189 0 44 (dk_at dksX1_init_4 12 rfl rfl)
theorem dX1_init_109 : decode cX1_init 109 = .ok (.putfield 46, 3) := dk_181 0 46 (dk_at dksX1_init_4 15 rfl rfl)
theorem dX1_init_112 : decode cX1_init 112 = .ok (.aload_n 0, 1) := dk_42 (dk_at dksX1_init_4 18 rfl rfl)
theorem dX1_init_113 : decode cX1_init 113 = .ok (.getfield 9, 3) := dk_180 0 9 (dk_at dksX1_init_4 19 rfl rfl)
theorem dX1_init_116 : decode cX1_init 116 = .ok (.iconst 2, 1) := dk_5 (dk_at dksX1_init_4 22 rfl rfl)
theorem dX1_init_117 : decode cX1_init 117 = .ok (.iconst (-1), 1) := dk_2 (dk_at dksX1_init_4 23 rfl rfl)
theorem dX1_init_118 : decode cX1_init 118 = .ok (.iastore, 1) := dk_79 (dk_at dksX1_init_5 0 rfl rfl)
theorem dX1_init_119 : decode cX1_init 119 = .ok (.aload_n 0, 1) := dk_42 (dk_at dksX1_init_5 1 rfl rfl)
theorem dX1_init_120 : decode cX1_init 120 = .ok (.getfield 15, 3) := dk_180 0 15 (dk_at dksX1_init_5 2 rfl rfl)
theorem dX1_init_123 : decode cX1_init 123 = .ok (.iconst 2, 1) := dk_5 (dk_at dksX1_init_5 5 rfl rfl)
theorem dX1_init_124 : decode cX1_init 124 = .ok (.sipush 223, 3) := dk_17 0 223 (dk_at dksX1_init_5 6 rfl rfl)
theorem dX1_init_127 : decode cX1_init 127 = .ok (.iastore, 1) := dk_79 (dk_at dksX1_init_5 9 rfl rfl)
theorem dX1_init_128 : decode cX1_init 128 = .ok (.iconst 0, 1) := dk_3 (dk_at dksX1_init_5 10 rfl rfl)
theorem dX1_init_129 : decode cX1_init 129 = .ok (.istore_n 1, 1) := dk_60 (dk_at dksX1_init_5 11 rfl rfl)
theorem dX1_init_130 : decode cX1_init 130 = .ok (.iload_n 1, 1) := dk_27 (dk_at dksX1_init_5 12 rfl rfl)
theorem dX1_init_131 : decode cX1_init 131 = .ok (.bipush 8, 2) := dk_16 8 (dk_at dksX1_init_5 13 rfl rfl)
theorem dX1_init_133 : decode cX1_init 133 = .ok (.if_icmp .ge 36, 3) := dk_162 0 36 (dk_at dksX1_init_5 15 rfl rfl)
theorem dX1_init_136 : decode cX1_init 136 = .ok (.aload_n 0, 1) := dk_42 (dk_at dksX1_init_5 18 rfl rfl)
theorem dX1_init_137 : decode cX1_init 137 = .ok (.getfield 18, 3) := dk_180 0 18 (dk_at dksX1_init_5 19 rfl rfl)
theorem dX1_init_140 : decode cX1_init 140 = .ok (.iload_n 1, 1) := dk_27 (dk_at dksX1_init_5 22 rfl rfl)
theorem dX1_init_141 : decode cX1_init 141 = .ok (.iload_n 1, 1) := dk_27 (dk_at dksX1_init_5 23 rfl rfl)
theorem dX1_init_142 : decode cX1_init 142 = .ok (.iconst 1, 1) := dk_4 (dk_at dksX1_init_6 0 rfl rfl)
theorem dX1_init_143 : decode cX1_init 143 = .ok (.ixor, 1) := dk_130 (dk_at dksX1_init_6 1 rfl rfl)
theorem dX1_init_144 : decode cX1_init 144 = .ok (.iastore, 1) := dk_79 (dk_at dksX1_init_6 2 rfl rfl)
theorem dX1_init_145 : decode cX1_init 145 = .ok (.aload_n 0, 1) := dk_42 (dk_at dksX1_init_6 3 rfl rfl)
theorem dX1_init_146 : decode cX1_init 146 = .ok (.getfield 24, 3) := dk_180 0 24 (dk_at dksX1_init_6 4 rfl rfl)
theorem dX1_init_149 : decode cX1_init 149 = .ok (.iload_n 1, 1) := dk_27 (dk_at dksX1_init_6 7 rfl rfl)
theorem dX1_init_150 : decode cX1_init 150 = .ok (.iconst 1, 1) := dk_4 (dk_at dksX1_init_6 8 rfl rfl)
theorem dX1_init_151 : decode cX1_init 151 = .ok (.iastore, 1) := dk_79 (dk_at dksX1_init_6 9 rfl rfl)
theorem dX1_init_152 : decode cX1_init 152 = .ok (.aload_n 0, 1) := dk_42 (dk_at dksX1_init_6 10 rfl rfl)
theorem dX1_init_153 : decode cX1_init 153 = .ok (.getfield 29, 3) := dk_180 0 29 (dk_at dksX1_init_6 11 rfl rfl)
theorem dX1_init_156 : decode cX1_init 156 = .ok (.iload_n 1, 1) := dk_27 (dk_at dksX1_init_6 14 rfl rfl)
theorem dX1_init_157 : decode cX1_init 157 = .ok (.aaload, 1) := dk_50 (dk_at dksX1_init_6 15 rfl rfl)
theorem dX1_init_158 : decode cX1_init 158 = .ok (.bipush 10, 2) := dk_16 10 (dk_at dksX1_init_6 16 rfl rfl)
theorem dX1_init_160 : decode cX1_init 160 = .ok (.invokestatic 50, 3) := dk_184 0 50 (dk_at dksX1_init_6 18 rfl rfl)
theorem dX1_init_163 : decode cX1_init 163 = .ok (.iinc 1 1, 3) := dk_132 1 1 (dk_at dksX1_init_6 21 rfl rfl)
theorem dX1_init_166 : decode cX1_init 166 = .ok (.goto (-36), 3) := dk_167 255 220 (dk_at dksX1_init_7 0 rfl rfl)
theorem dX1_init_169 : decode cX1_init 169 = .ok (.return_, 1) := dk_177 (dk_at dksX1_init_7 3 rfl rfl)
abbrev cX1_be : ByteArray := prog_13_method_4_code
def yX1_be : MethodName := ⟨RX1, "be", "(LShaveOfAnother$State;)V"⟩
def dkwX1_be_5 : List UInt8 := [180, 0, 46, 3, 42, 180, 0, 46, 3, 7, 184, 0, 56, 177]
abbrev dktX1_be_5 : List UInt8 := dkwX1_be_5 ++ []
def dkwX1_be_4 : List UInt8 := [180, 0, 38, 42, 180, 0, 38, 184, 0, 66, 43, 180, 0, 41, 42, 180, 0, 41, 184, 0, 66, 43]
abbrev dktX1_be_4 : List UInt8 := dkwX1_be_4 ++ dktX1_be_5
def dkwX1_be_3 : List UInt8 := [180, 0, 32, 42, 180, 0, 32, 184, 0, 66, 43, 180, 0, 35, 42, 180, 0, 35, 184, 0, 66, 43]
abbrev dktX1_be_3 : List UInt8 := dkwX1_be_3 ++ dktX1_be_4
def dkwX1_be_2 : List UInt8 := [180, 0, 24, 42, 180, 0, 24, 184, 0, 62, 43, 180, 0, 29, 42, 180, 0, 29, 184, 0, 66, 43]
abbrev dktX1_be_2 : List UInt8 := dkwX1_be_2 ++ dktX1_be_3
def dkwX1_be_1 : List UInt8 := [180, 0, 18, 42, 180, 0, 18, 184, 0, 62, 43, 180, 0, 21, 42, 180, 0, 21, 184, 0, 62, 43]
abbrev dktX1_be_1 : List UInt8 := dkwX1_be_1 ++ dktX1_be_2
def dkwX1_be_0 : List UInt8 := [43, 180, 0, 9, 42, 180, 0, 9, 184, 0, 62, 43, 180, 0, 15, 42, 180, 0, 15, 184, 0, 62, 43]
abbrev dktX1_be_0 : List UInt8 := dkwX1_be_0 ++ dktX1_be_1
theorem dksX1_be_0 : cX1_be.data.toList.drop 0 = dktX1_be_0 := by decide +kernel
theorem dksX1_be_1 : cX1_be.data.toList.drop 23 = dktX1_be_1 := dk_seg dksX1_be_0 23 rfl rfl
theorem dksX1_be_2 : cX1_be.data.toList.drop 45 = dktX1_be_2 := dk_seg dksX1_be_1 22 rfl rfl
theorem dksX1_be_3 : cX1_be.data.toList.drop 67 = dktX1_be_3 := dk_seg dksX1_be_2 22 rfl rfl
theorem dksX1_be_4 : cX1_be.data.toList.drop 89 = dktX1_be_4 := dk_seg dksX1_be_3 22 rfl rfl
theorem dksX1_be_5 : cX1_be.data.toList.drop 111 = dktX1_be_5 := dk_seg dksX1_be_4 22 rfl rfl
theorem dX1_be_0 : decode cX1_be 0 = .ok (.aload_n 1, 1) := dk_43 (dk_at dksX1_be_0 0 rfl rfl)
theorem dX1_be_1 : decode cX1_be 1 = .ok (.getfield 9, 3) := dk_180 0 9 (dk_at dksX1_be_0 1 rfl rfl)
theorem dX1_be_4 : decode cX1_be 4 = .ok (.aload_n 0, 1) := dk_42 (dk_at dksX1_be_0 4 rfl rfl)
theorem dX1_be_5 : decode cX1_be 5 = .ok (.getfield 9, 3) := dk_180 0 9 (dk_at dksX1_be_0 5 rfl rfl)
theorem dX1_be_8 : decode cX1_be 8 = .ok (.invokestatic 62, 3) := dk_184 0 62 (dk_at dksX1_be_0 8 rfl rfl)
theorem dX1_be_11 : decode cX1_be 11 = .ok (.aload_n 1, 1) := dk_43 (dk_at dksX1_be_0 11 rfl rfl)
theorem dX1_be_12 : decode cX1_be 12 = .ok (.getfield 15, 3) := dk_180 0 15 (dk_at dksX1_be_0 12 rfl rfl)
theorem dX1_be_15 : decode cX1_be 15 = .ok (.aload_n 0, 1) := dk_42 (dk_at dksX1_be_0 15 rfl rfl)
theorem dX1_be_16 : decode cX1_be 16 = .ok (.getfield 15, 3) := dk_180 0 15 (dk_at dksX1_be_0 16 rfl rfl)
theorem dX1_be_19 : decode cX1_be 19 = .ok (.invokestatic 62, 3) := dk_184 0 62 (dk_at dksX1_be_0 19 rfl rfl)
theorem dX1_be_22 : decode cX1_be 22 = .ok (.aload_n 1, 1) := dk_43 (dk_at dksX1_be_0 22 rfl rfl)
theorem dX1_be_23 : decode cX1_be 23 = .ok (.getfield 18, 3) := dk_180 0 18 (dk_at dksX1_be_1 0 rfl rfl)
theorem dX1_be_26 : decode cX1_be 26 = .ok (.aload_n 0, 1) := dk_42 (dk_at dksX1_be_1 3 rfl rfl)
theorem dX1_be_27 : decode cX1_be 27 = .ok (.getfield 18, 3) := dk_180 0 18 (dk_at dksX1_be_1 4 rfl rfl)
theorem dX1_be_30 : decode cX1_be 30 = .ok (.invokestatic 62, 3) := dk_184 0 62 (dk_at dksX1_be_1 7 rfl rfl)
theorem dX1_be_33 : decode cX1_be 33 = .ok (.aload_n 1, 1) := dk_43 (dk_at dksX1_be_1 10 rfl rfl)
theorem dX1_be_34 : decode cX1_be 34 = .ok (.getfield 21, 3) := dk_180 0 21 (dk_at dksX1_be_1 11 rfl rfl)
theorem dX1_be_37 : decode cX1_be 37 = .ok (.aload_n 0, 1) := dk_42 (dk_at dksX1_be_1 14 rfl rfl)
theorem dX1_be_38 : decode cX1_be 38 = .ok (.getfield 21, 3) := dk_180 0 21 (dk_at dksX1_be_1 15 rfl rfl)
theorem dX1_be_41 : decode cX1_be 41 = .ok (.invokestatic 62, 3) := dk_184 0 62 (dk_at dksX1_be_1 18 rfl rfl)
theorem dX1_be_44 : decode cX1_be 44 = .ok (.aload_n 1, 1) := dk_43 (dk_at dksX1_be_1 21 rfl rfl)
theorem dX1_be_45 : decode cX1_be 45 = .ok (.getfield 24, 3) := dk_180 0 24 (dk_at dksX1_be_2 0 rfl rfl)
theorem dX1_be_48 : decode cX1_be 48 = .ok (.aload_n 0, 1) := dk_42 (dk_at dksX1_be_2 3 rfl rfl)
theorem dX1_be_49 : decode cX1_be 49 = .ok (.getfield 24, 3) := dk_180 0 24 (dk_at dksX1_be_2 4 rfl rfl)
theorem dX1_be_52 : decode cX1_be 52 = .ok (.invokestatic 62, 3) := dk_184 0 62 (dk_at dksX1_be_2 7 rfl rfl)
theorem dX1_be_55 : decode cX1_be 55 = .ok (.aload_n 1, 1) := dk_43 (dk_at dksX1_be_2 10 rfl rfl)
theorem dX1_be_56 : decode cX1_be 56 = .ok (.getfield 29, 3) := dk_180 0 29 (dk_at dksX1_be_2 11 rfl rfl)
theorem dX1_be_59 : decode cX1_be 59 = .ok (.aload_n 0, 1) := dk_42 (dk_at dksX1_be_2 14 rfl rfl)
theorem dX1_be_60 : decode cX1_be 60 = .ok (.getfield 29, 3) := dk_180 0 29 (dk_at dksX1_be_2 15 rfl rfl)
theorem dX1_be_63 : decode cX1_be 63 = .ok (.invokestatic 66, 3) := dk_184 0 66 (dk_at dksX1_be_2 18 rfl rfl)
theorem dX1_be_66 : decode cX1_be 66 = .ok (.aload_n 1, 1) := dk_43 (dk_at dksX1_be_2 21 rfl rfl)
theorem dX1_be_67 : decode cX1_be 67 = .ok (.getfield 32, 3) := dk_180 0 32 (dk_at dksX1_be_3 0 rfl rfl)
theorem dX1_be_70 : decode cX1_be 70 = .ok (.aload_n 0, 1) := dk_42 (dk_at dksX1_be_3 3 rfl rfl)
theorem dX1_be_71 : decode cX1_be 71 = .ok (.getfield 32, 3) := dk_180 0 32 (dk_at dksX1_be_3 4 rfl rfl)
theorem dX1_be_74 : decode cX1_be 74 = .ok (.invokestatic 66, 3) := dk_184 0 66 (dk_at dksX1_be_3 7 rfl rfl)
theorem dX1_be_77 : decode cX1_be 77 = .ok (.aload_n 1, 1) := dk_43 (dk_at dksX1_be_3 10 rfl rfl)
theorem dX1_be_78 : decode cX1_be 78 = .ok (.getfield 35, 3) := dk_180 0 35 (dk_at dksX1_be_3 11 rfl rfl)
theorem dX1_be_81 : decode cX1_be 81 = .ok (.aload_n 0, 1) := dk_42 (dk_at dksX1_be_3 14 rfl rfl)
theorem dX1_be_82 : decode cX1_be 82 = .ok (.getfield 35, 3) := dk_180 0 35 (dk_at dksX1_be_3 15 rfl rfl)
theorem dX1_be_85 : decode cX1_be 85 = .ok (.invokestatic 66, 3) := dk_184 0 66 (dk_at dksX1_be_3 18 rfl rfl)
theorem dX1_be_88 : decode cX1_be 88 = .ok (.aload_n 1, 1) := dk_43 (dk_at dksX1_be_3 21 rfl rfl)
theorem dX1_be_89 : decode cX1_be 89 = .ok (.getfield 38, 3) := dk_180 0 38 (dk_at dksX1_be_4 0 rfl rfl)
theorem dX1_be_92 : decode cX1_be 92 = .ok (.aload_n 0, 1) := dk_42 (dk_at dksX1_be_4 3 rfl rfl)
theorem dX1_be_93 : decode cX1_be 93 = .ok (.getfield 38, 3) := dk_180 0 38 (dk_at dksX1_be_4 4 rfl rfl)
theorem dX1_be_96 : decode cX1_be 96 = .ok (.invokestatic 66, 3) := dk_184 0 66 (dk_at dksX1_be_4 7 rfl rfl)
theorem dX1_be_99 : decode cX1_be 99 = .ok (.aload_n 1, 1) := dk_43 (dk_at dksX1_be_4 10 rfl rfl)
theorem dX1_be_100 : decode cX1_be 100 = .ok (.getfield 41, 3) := dk_180 0 41 (dk_at dksX1_be_4 11 rfl rfl)
theorem dX1_be_103 : decode cX1_be 103 = .ok (.aload_n 0, 1) := dk_42 (dk_at dksX1_be_4 14 rfl rfl)
theorem dX1_be_104 : decode cX1_be 104 = .ok (.getfield 41, 3) := dk_180 0 41 (dk_at dksX1_be_4 15 rfl rfl)
theorem dX1_be_107 : decode cX1_be 107 = .ok (.invokestatic 66, 3) := dk_184 0 66 (dk_at dksX1_be_4 18 rfl rfl)
theorem dX1_be_110 : decode cX1_be 110 = .ok (.aload_n 1, 1) := dk_43 (dk_at dksX1_be_4 21 rfl rfl)
theorem dX1_be_111 : decode cX1_be 111 = .ok (.getfield 46, 3) := dk_180 0 46 (dk_at dksX1_be_5 0 rfl rfl)
theorem dX1_be_114 : decode cX1_be 114 = .ok (.iconst 0, 1) := dk_3 (dk_at dksX1_be_5 3 rfl rfl)
theorem dX1_be_115 : decode cX1_be 115 = .ok (.aload_n 0, 1) := dk_42 (dk_at dksX1_be_5 4 rfl rfl)
theorem dX1_be_116 : decode cX1_be 116 = .ok (.getfield 46, 3) := dk_180 0 46 (dk_at dksX1_be_5 5 rfl rfl)
theorem dX1_be_119 : decode cX1_be 119 = .ok (.iconst 0, 1) := dk_3 (dk_at dksX1_be_5 8 rfl rfl)
theorem dX1_be_120 : decode cX1_be 120 = .ok (.iconst 4, 1) := dk_7 (dk_at dksX1_be_5 9 rfl rfl)
theorem dX1_be_121 : decode cX1_be 121 = .ok (.invokestatic 56, 3) := dk_184 0 56 (dk_at dksX1_be_5 10 rfl rfl)
theorem dX1_be_124 : decode cX1_be 124 = .ok (.return_, 1) := dk_177 (dk_at dksX1_be_5 13 rfl rfl)
abbrev cX1_copy : ByteArray := prog_13_method_2_code
def yX1_copy : MethodName := ⟨RX1, "copy", "([I[I)V"⟩
def dkwX1_copy_0 : List UInt8 := [42, 3, 43, 3, 42, 190, 184, 0, 56, 177]
abbrev dktX1_copy_0 : List UInt8 := dkwX1_copy_0 ++ []
theorem dksX1_copy_0 : cX1_copy.data.toList.drop 0 = dktX1_copy_0 := by decide +kernel
theorem dX1_copy_0 : decode cX1_copy 0 = .ok (.aload_n 0, 1) := dk_42 (dk_at dksX1_copy_0 0 rfl rfl)
theorem dX1_copy_1 : decode cX1_copy 1 = .ok (.iconst 0, 1) := dk_3 (dk_at dksX1_copy_0 1 rfl rfl)
theorem dX1_copy_2 : decode cX1_copy 2 = .ok (.aload_n 1, 1) := dk_43 (dk_at dksX1_copy_0 2 rfl rfl)
theorem dX1_copy_3 : decode cX1_copy 3 = .ok (.iconst 0, 1) := dk_3 (dk_at dksX1_copy_0 3 rfl rfl)
theorem dX1_copy_4 : decode cX1_copy 4 = .ok (.aload_n 0, 1) := dk_42 (dk_at dksX1_copy_0 4 rfl rfl)
theorem dX1_copy_5 : decode cX1_copy 5 = .ok (.arraylength, 1) := dk_190 (dk_at dksX1_copy_0 5 rfl rfl)
theorem dX1_copy_6 : decode cX1_copy 6 = .ok (.invokestatic 56, 3) := dk_184 0 56 (dk_at dksX1_copy_0 6 rfl rfl)
theorem dX1_copy_9 : decode cX1_copy 9 = .ok (.return_, 1) := dk_177 (dk_at dksX1_copy_0 9 rfl rfl)
abbrev cX1_copy_2 : ByteArray := prog_13_method_3_code
def yX1_copy_2 : MethodName := ⟨RX1, "copy", "([[I[[I)V"⟩
def dkwX1_copy_2_0 : List UInt8 := [3, 61, 28, 42, 190, 162, 0, 18, 42, 28, 50, 43, 28, 50, 184, 0, 62, 132, 2, 1, 167, 255, 238, 177]
abbrev dktX1_copy_2_0 : List UInt8 := dkwX1_copy_2_0 ++ []
theorem dksX1_copy_2_0 : cX1_copy_2.data.toList.drop 0 = dktX1_copy_2_0 := by decide +kernel
theorem dX1_copy_2_0 : decode cX1_copy_2 0 = .ok (.iconst 0, 1) := dk_3 (dk_at dksX1_copy_2_0 0 rfl rfl)
theorem dX1_copy_2_1 : decode cX1_copy_2 1 = .ok (.istore_n 2, 1) := dk_61 (dk_at dksX1_copy_2_0 1 rfl rfl)
theorem dX1_copy_2_2 : decode cX1_copy_2 2 = .ok (.iload_n 2, 1) := dk_28 (dk_at dksX1_copy_2_0 2 rfl rfl)
theorem dX1_copy_2_3 : decode cX1_copy_2 3 = .ok (.aload_n 0, 1) := dk_42 (dk_at dksX1_copy_2_0 3 rfl rfl)
theorem dX1_copy_2_4 : decode cX1_copy_2 4 = .ok (.arraylength, 1) := dk_190 (dk_at dksX1_copy_2_0 4 rfl rfl)
theorem dX1_copy_2_5 : decode cX1_copy_2 5 = .ok (.if_icmp .ge 18, 3) := dk_162 0 18 (dk_at dksX1_copy_2_0 5 rfl rfl)
theorem dX1_copy_2_8 : decode cX1_copy_2 8 = .ok (.aload_n 0, 1) := dk_42 (dk_at dksX1_copy_2_0 8 rfl rfl)
theorem dX1_copy_2_9 : decode cX1_copy_2 9 = .ok (.iload_n 2, 1) := dk_28 (dk_at dksX1_copy_2_0 9 rfl rfl)
theorem dX1_copy_2_10 : decode cX1_copy_2 10 = .ok (.aaload, 1) := dk_50 (dk_at dksX1_copy_2_0 10 rfl rfl)
theorem dX1_copy_2_11 : decode cX1_copy_2 11 = .ok (.aload_n 1, 1) := dk_43 (dk_at dksX1_copy_2_0 11 rfl rfl)
theorem dX1_copy_2_12 : decode cX1_copy_2 12 = .ok (.iload_n 2, 1) := dk_28 (dk_at dksX1_copy_2_0 12 rfl rfl)
theorem dX1_copy_2_13 : decode cX1_copy_2 13 = .ok (.aaload, 1) := dk_50 (dk_at dksX1_copy_2_0 13 rfl rfl)
theorem dX1_copy_2_14 : decode cX1_copy_2 14 = .ok (.invokestatic 62, 3) := dk_184 0 62 (dk_at dksX1_copy_2_0 14 rfl rfl)
theorem dX1_copy_2_17 : decode cX1_copy_2 17 = .ok (.iinc 2 1, 3) := dk_132 2 1 (dk_at dksX1_copy_2_0 17 rfl rfl)
theorem dX1_copy_2_20 : decode cX1_copy_2 20 = .ok (.goto (-18), 3) := dk_167 255 238 (dk_at dksX1_copy_2_0 20 rfl rfl)
theorem dX1_copy_2_23 : decode cX1_copy_2 23 = .ok (.return_, 1) := dk_177 (dk_at dksX1_copy_2_0 23 rfl rfl)
abbrev cX1_tells : ByteArray := prog_13_method_6_code
def yX1_tells : MethodName := ⟨RX1, "tells", "(II)V"⟩
def dkwX1_tells_1 : List UInt8 := [50, 27, 28, 79, 132, 3, 1, 167, 255, 234, 177]
abbrev dktX1_tells_1 : List UInt8 := dkwX1_tells_1 ++ []
def dkwX1_tells_0 : List UInt8 := [42, 180, 0, 15, 27, 28, 79, 3, 62, 29, 42, 180, 0, 9, 6, 46, 162, 0, 18, 42, 180, 0, 41, 29]
abbrev dktX1_tells_0 : List UInt8 := dkwX1_tells_0 ++ dktX1_tells_1
theorem dksX1_tells_0 : cX1_tells.data.toList.drop 0 = dktX1_tells_0 := by decide +kernel
theorem dksX1_tells_1 : cX1_tells.data.toList.drop 24 = dktX1_tells_1 := dk_seg dksX1_tells_0 24 rfl rfl
theorem dX1_tells_0 : decode cX1_tells 0 = .ok (.aload_n 0, 1) := dk_42 (dk_at dksX1_tells_0 0 rfl rfl)
theorem dX1_tells_1 : decode cX1_tells 1 = .ok (.getfield 15, 3) := dk_180 0 15 (dk_at dksX1_tells_0 1 rfl rfl)
theorem dX1_tells_4 : decode cX1_tells 4 = .ok (.iload_n 1, 1) := dk_27 (dk_at dksX1_tells_0 4 rfl rfl)
theorem dX1_tells_5 : decode cX1_tells 5 = .ok (.iload_n 2, 1) := dk_28 (dk_at dksX1_tells_0 5 rfl rfl)
theorem dX1_tells_6 : decode cX1_tells 6 = .ok (.iastore, 1) := dk_79 (dk_at dksX1_tells_0 6 rfl rfl)
theorem dX1_tells_7 : decode cX1_tells 7 = .ok (.iconst 0, 1) := dk_3 (dk_at dksX1_tells_0 7 rfl rfl)
theorem dX1_tells_8 : decode cX1_tells 8 = .ok (.istore_n 3, 1) := dk_62 (dk_at dksX1_tells_0 8 rfl rfl)
theorem dX1_tells_9 : decode cX1_tells 9 = .ok (.iload_n 3, 1) := dk_29 (dk_at dksX1_tells_0 9 rfl rfl)
theorem dX1_tells_10 : decode cX1_tells 10 = .ok (.aload_n 0, 1) := dk_42 (dk_at dksX1_tells_0 10 rfl rfl)
theorem dX1_tells_11 : decode cX1_tells 11 = .ok (.getfield 9, 3) := dk_180 0 9 (dk_at dksX1_tells_0 11 rfl rfl)
theorem dX1_tells_14 : decode cX1_tells 14 = .ok (.iconst 3, 1) := dk_6 (dk_at dksX1_tells_0 14 rfl rfl)
theorem dX1_tells_15 : decode cX1_tells 15 = .ok (.iaload, 1) := dk_46 (dk_at dksX1_tells_0 15 rfl rfl)
theorem dX1_tells_16 : decode cX1_tells 16 = .ok (.if_icmp .ge 18, 3) := dk_162 0 18 (dk_at dksX1_tells_0 16 rfl rfl)
theorem dX1_tells_19 : decode cX1_tells 19 = .ok (.aload_n 0, 1) := dk_42 (dk_at dksX1_tells_0 19 rfl rfl)
theorem dX1_tells_20 : decode cX1_tells 20 = .ok (.getfield 41, 3) := dk_180 0 41 (dk_at dksX1_tells_0 20 rfl rfl)
theorem dX1_tells_23 : decode cX1_tells 23 = .ok (.iload_n 3, 1) := dk_29 (dk_at dksX1_tells_0 23 rfl rfl)
theorem dX1_tells_24 : decode cX1_tells 24 = .ok (.aaload, 1) := dk_50 (dk_at dksX1_tells_1 0 rfl rfl)
theorem dX1_tells_25 : decode cX1_tells 25 = .ok (.iload_n 1, 1) := dk_27 (dk_at dksX1_tells_1 1 rfl rfl)
theorem dX1_tells_26 : decode cX1_tells 26 = .ok (.iload_n 2, 1) := dk_28 (dk_at dksX1_tells_1 2 rfl rfl)
theorem dX1_tells_27 : decode cX1_tells 27 = .ok (.iastore, 1) := dk_79 (dk_at dksX1_tells_1 3 rfl rfl)
theorem dX1_tells_28 : decode cX1_tells 28 = .ok (.iinc 3 1, 3) := dk_132 3 1 (dk_at dksX1_tells_1 4 rfl rfl)
theorem dX1_tells_31 : decode cX1_tells 31 = .ok (.goto (-22), 3) := dk_167 255 234 (dk_at dksX1_tells_1 7 rfl rfl)
theorem dX1_tells_34 : decode cX1_tells 34 = .ok (.return_, 1) := dk_177 (dk_at dksX1_tells_1 10 rfl rfl)
abbrev cX1_keeps : ByteArray := prog_13_method_5_code
def yX1_keeps : MethodName := ⟨RX1, "keeps", "()V"⟩
def dkwX1_keeps_3 : List UInt8 := [180, 0, 9, 6, 92, 46, 4, 96, 79, 177]
abbrev dktX1_keeps_3 : List UInt8 := dkwX1_keeps_3 ++ []
def dkwX1_keeps_2 : List UInt8 := [46, 4, 100, 79, 42, 180, 0, 15, 42, 180, 0, 41, 42, 180, 0, 9, 6, 46, 50, 184, 0, 62, 42]
abbrev dktX1_keeps_2 : List UInt8 := dkwX1_keeps_2 ++ dktX1_keeps_3
def dkwX1_keeps_1 : List UInt8 := [50, 42, 180, 0, 41, 27, 4, 100, 50, 184, 0, 62, 132, 1, 1, 167, 255, 230, 42, 180, 0, 9, 6, 92]
abbrev dktX1_keeps_1 : List UInt8 := dkwX1_keeps_1 ++ dktX1_keeps_2
def dkwX1_keeps_0 : List UInt8 := [42, 180, 0, 9, 6, 46, 16, 30, 160, 0, 44, 4, 60, 27, 16, 30, 162, 0, 26, 42, 180, 0, 41, 27]
abbrev dktX1_keeps_0 : List UInt8 := dkwX1_keeps_0 ++ dktX1_keeps_1
theorem dksX1_keeps_0 : cX1_keeps.data.toList.drop 0 = dktX1_keeps_0 := by decide +kernel
theorem dksX1_keeps_1 : cX1_keeps.data.toList.drop 24 = dktX1_keeps_1 := dk_seg dksX1_keeps_0 24 rfl rfl
theorem dksX1_keeps_2 : cX1_keeps.data.toList.drop 48 = dktX1_keeps_2 := dk_seg dksX1_keeps_1 24 rfl rfl
theorem dksX1_keeps_3 : cX1_keeps.data.toList.drop 71 = dktX1_keeps_3 := dk_seg dksX1_keeps_2 23 rfl rfl
theorem dX1_keeps_0 : decode cX1_keeps 0 = .ok (.aload_n 0, 1) := dk_42 (dk_at dksX1_keeps_0 0 rfl rfl)
theorem dX1_keeps_1 : decode cX1_keeps 1 = .ok (.getfield 9, 3) := dk_180 0 9 (dk_at dksX1_keeps_0 1 rfl rfl)
theorem dX1_keeps_4 : decode cX1_keeps 4 = .ok (.iconst 3, 1) := dk_6 (dk_at dksX1_keeps_0 4 rfl rfl)
theorem dX1_keeps_5 : decode cX1_keeps 5 = .ok (.iaload, 1) := dk_46 (dk_at dksX1_keeps_0 5 rfl rfl)
theorem dX1_keeps_6 : decode cX1_keeps 6 = .ok (.bipush 30, 2) := dk_16 30 (dk_at dksX1_keeps_0 6 rfl rfl)
theorem dX1_keeps_8 : decode cX1_keeps 8 = .ok (.if_icmp .ne 44, 3) := dk_160 0 44 (dk_at dksX1_keeps_0 8 rfl rfl)
theorem dX1_keeps_11 : decode cX1_keeps 11 = .ok (.iconst 1, 1) := dk_4 (dk_at dksX1_keeps_0 11 rfl rfl)
theorem dX1_keeps_12 : decode cX1_keeps 12 = .ok (.istore_n 1, 1) := dk_60 (dk_at dksX1_keeps_0 12 rfl rfl)
theorem dX1_keeps_13 : decode cX1_keeps 13 = .ok (.iload_n 1, 1) := dk_27 (dk_at dksX1_keeps_0 13 rfl rfl)
theorem dX1_keeps_14 : decode cX1_keeps 14 = .ok (.bipush 30, 2) := dk_16 30 (dk_at dksX1_keeps_0 14 rfl rfl)
theorem dX1_keeps_16 : decode cX1_keeps 16 = .ok (.if_icmp .ge 26, 3) := dk_162 0 26 (dk_at dksX1_keeps_0 16 rfl rfl)
theorem dX1_keeps_19 : decode cX1_keeps 19 = .ok (.aload_n 0, 1) := dk_42 (dk_at dksX1_keeps_0 19 rfl rfl)
theorem dX1_keeps_20 : decode cX1_keeps 20 = .ok (.getfield 41, 3) := dk_180 0 41 (dk_at dksX1_keeps_0 20 rfl rfl)
theorem dX1_keeps_23 : decode cX1_keeps 23 = .ok (.iload_n 1, 1) := dk_27 (dk_at dksX1_keeps_0 23 rfl rfl)
theorem dX1_keeps_24 : decode cX1_keeps 24 = .ok (.aaload, 1) := dk_50 (dk_at dksX1_keeps_1 0 rfl rfl)
theorem dX1_keeps_25 : decode cX1_keeps 25 = .ok (.aload_n 0, 1) := dk_42 (dk_at dksX1_keeps_1 1 rfl rfl)
theorem dX1_keeps_26 : decode cX1_keeps 26 = .ok (.getfield 41, 3) := dk_180 0 41 (dk_at dksX1_keeps_1 2 rfl rfl)
theorem dX1_keeps_29 : decode cX1_keeps 29 = .ok (.iload_n 1, 1) := dk_27 (dk_at dksX1_keeps_1 5 rfl rfl)
theorem dX1_keeps_30 : decode cX1_keeps 30 = .ok (.iconst 1, 1) := dk_4 (dk_at dksX1_keeps_1 6 rfl rfl)
theorem dX1_keeps_31 : decode cX1_keeps 31 = .ok (.isub, 1) := dk_100 (dk_at dksX1_keeps_1 7 rfl rfl)
theorem dX1_keeps_32 : decode cX1_keeps 32 = .ok (.aaload, 1) := dk_50 (dk_at dksX1_keeps_1 8 rfl rfl)
theorem dX1_keeps_33 : decode cX1_keeps 33 = .ok (.invokestatic 62, 3) := dk_184 0 62 (dk_at dksX1_keeps_1 9 rfl rfl)
theorem dX1_keeps_36 : decode cX1_keeps 36 = .ok (.iinc 1 1, 3) := dk_132 1 1 (dk_at dksX1_keeps_1 12 rfl rfl)
theorem dX1_keeps_39 : decode cX1_keeps 39 = .ok (.goto (-26), 3) := dk_167 255 230 (dk_at dksX1_keeps_1 15 rfl rfl)
theorem dX1_keeps_42 : decode cX1_keeps 42 = .ok (.aload_n 0, 1) := dk_42 (dk_at dksX1_keeps_1 18 rfl rfl)
theorem dX1_keeps_43 : decode cX1_keeps 43 = .ok (.getfield 9, 3) := dk_180 0 9 (dk_at dksX1_keeps_1 19 rfl rfl)
theorem dX1_keeps_46 : decode cX1_keeps 46 = .ok (.iconst 3, 1) := dk_6 (dk_at dksX1_keeps_1 22 rfl rfl)
theorem dX1_keeps_47 : decode cX1_keeps 47 = .ok (.dup2, 1) := dk_92 (dk_at dksX1_keeps_1 23 rfl rfl)
theorem dX1_keeps_48 : decode cX1_keeps 48 = .ok (.iaload, 1) := dk_46 (dk_at dksX1_keeps_2 0 rfl rfl)
theorem dX1_keeps_49 : decode cX1_keeps 49 = .ok (.iconst 1, 1) := dk_4 (dk_at dksX1_keeps_2 1 rfl rfl)
theorem dX1_keeps_50 : decode cX1_keeps 50 = .ok (.isub, 1) := dk_100 (dk_at dksX1_keeps_2 2 rfl rfl)
theorem dX1_keeps_51 : decode cX1_keeps 51 = .ok (.iastore, 1) := dk_79 (dk_at dksX1_keeps_2 3 rfl rfl)
theorem dX1_keeps_52 : decode cX1_keeps 52 = .ok (.aload_n 0, 1) := dk_42 (dk_at dksX1_keeps_2 4 rfl rfl)
theorem dX1_keeps_53 : decode cX1_keeps 53 = .ok (.getfield 15, 3) := dk_180 0 15 (dk_at dksX1_keeps_2 5 rfl rfl)
theorem dX1_keeps_56 : decode cX1_keeps 56 = .ok (.aload_n 0, 1) := dk_42 (dk_at dksX1_keeps_2 8 rfl rfl)
theorem dX1_keeps_57 : decode cX1_keeps 57 = .ok (.getfield 41, 3) := dk_180 0 41 (dk_at dksX1_keeps_2 9 rfl rfl)
theorem dX1_keeps_60 : decode cX1_keeps 60 = .ok (.aload_n 0, 1) := dk_42 (dk_at dksX1_keeps_2 12 rfl rfl)
theorem dX1_keeps_61 : decode cX1_keeps 61 = .ok (.getfield 9, 3) := dk_180 0 9 (dk_at dksX1_keeps_2 13 rfl rfl)
theorem dX1_keeps_64 : decode cX1_keeps 64 = .ok (.iconst 3, 1) := dk_6 (dk_at dksX1_keeps_2 16 rfl rfl)
theorem dX1_keeps_65 : decode cX1_keeps 65 = .ok (.iaload, 1) := dk_46 (dk_at dksX1_keeps_2 17 rfl rfl)
theorem dX1_keeps_66 : decode cX1_keeps 66 = .ok (.aaload, 1) := dk_50 (dk_at dksX1_keeps_2 18 rfl rfl)
theorem dX1_keeps_67 : decode cX1_keeps 67 = .ok (.invokestatic 62, 3) := dk_184 0 62 (dk_at dksX1_keeps_2 19 rfl rfl)
theorem dX1_keeps_70 : decode cX1_keeps 70 = .ok (.aload_n 0, 1) := dk_42 (dk_at dksX1_keeps_2 22 rfl rfl)
theorem dX1_keeps_71 : decode cX1_keeps 71 = .ok (.getfield 9, 3) := dk_180 0 9 (dk_at dksX1_keeps_3 0 rfl rfl)
theorem dX1_keeps_74 : decode cX1_keeps 74 = .ok (.iconst 3, 1) := dk_6 (dk_at dksX1_keeps_3 3 rfl rfl)
theorem dX1_keeps_75 : decode cX1_keeps 75 = .ok (.dup2, 1) := dk_92 (dk_at dksX1_keeps_3 4 rfl rfl)
theorem dX1_keeps_76 : decode cX1_keeps 76 = .ok (.iaload, 1) := dk_46 (dk_at dksX1_keeps_3 5 rfl rfl)
theorem dX1_keeps_77 : decode cX1_keeps 77 = .ok (.iconst 1, 1) := dk_4 (dk_at dksX1_keeps_3 6 rfl rfl)
theorem dX1_keeps_78 : decode cX1_keeps 78 = .ok (.iadd, 1) := dk_96 (dk_at dksX1_keeps_3 7 rfl rfl)
theorem dX1_keeps_79 : decode cX1_keeps 79 = .ok (.iastore, 1) := dk_79 (dk_at dksX1_keeps_3 8 rfl rfl)
theorem dX1_keeps_80 : decode cX1_keeps 80 = .ok (.return_, 1) := dk_177 (dk_at dksX1_keeps_3 9 rfl rfl)
abbrev cX1_clears : ByteArray := prog_13_method_8_code
def yX1_clears : MethodName := ⟨RX1, "clears", "(I)I"⟩
def dkwX1_clears_0 : List UInt8 := [42, 180, 0, 9, 27, 3, 79, 3, 172]
abbrev dktX1_clears_0 : List UInt8 := dkwX1_clears_0 ++ []
theorem dksX1_clears_0 : cX1_clears.data.toList.drop 0 = dktX1_clears_0 := by decide +kernel
theorem dX1_clears_0 : decode cX1_clears 0 = .ok (.aload_n 0, 1) := dk_42 (dk_at dksX1_clears_0 0 rfl rfl)
theorem dX1_clears_1 : decode cX1_clears 1 = .ok (.getfield 9, 3) := dk_180 0 9 (dk_at dksX1_clears_0 1 rfl rfl)
theorem dX1_clears_4 : decode cX1_clears 4 = .ok (.iload_n 1, 1) := dk_27 (dk_at dksX1_clears_0 4 rfl rfl)
theorem dX1_clears_5 : decode cX1_clears 5 = .ok (.iconst 0, 1) := dk_3 (dk_at dksX1_clears_0 5 rfl rfl)
theorem dX1_clears_6 : decode cX1_clears 6 = .ok (.iastore, 1) := dk_79 (dk_at dksX1_clears_0 6 rfl rfl)
theorem dX1_clears_7 : decode cX1_clears 7 = .ok (.iconst 0, 1) := dk_3 (dk_at dksX1_clears_0 7 rfl rfl)
theorem dX1_clears_8 : decode cX1_clears 8 = .ok (.ireturn, 1) := dk_172 (dk_at dksX1_clears_0 8 rfl rfl)
abbrev cX1_adds : ByteArray := prog_13_method_7_code
def yX1_adds : MethodName := ⟨RX1, "adds", "([[IIII)I"⟩
def dkwX1_adds_1 : List UInt8 := [180, 0, 9, 28, 92, 46, 4, 96, 79, 42, 180, 0, 9, 28, 46, 172]
abbrev dktX1_adds_1 : List UInt8 := dkwX1_adds_1 ++ []
def dkwX1_adds_0 : List UInt8 := [43, 42, 180, 0, 9, 28, 46, 50, 3, 29, 79, 43, 42, 180, 0, 9, 28, 46, 50, 4, 21, 4, 79, 42]
abbrev dktX1_adds_0 : List UInt8 := dkwX1_adds_0 ++ dktX1_adds_1
theorem dksX1_adds_0 : cX1_adds.data.toList.drop 0 = dktX1_adds_0 := by decide +kernel
theorem dksX1_adds_1 : cX1_adds.data.toList.drop 24 = dktX1_adds_1 := dk_seg dksX1_adds_0 24 rfl rfl
theorem dX1_adds_0 : decode cX1_adds 0 = .ok (.aload_n 1, 1) := dk_43 (dk_at dksX1_adds_0 0 rfl rfl)
theorem dX1_adds_1 : decode cX1_adds 1 = .ok (.aload_n 0, 1) := dk_42 (dk_at dksX1_adds_0 1 rfl rfl)
theorem dX1_adds_2 : decode cX1_adds 2 = .ok (.getfield 9, 3) := dk_180 0 9 (dk_at dksX1_adds_0 2 rfl rfl)
theorem dX1_adds_5 : decode cX1_adds 5 = .ok (.iload_n 2, 1) := dk_28 (dk_at dksX1_adds_0 5 rfl rfl)
theorem dX1_adds_6 : decode cX1_adds 6 = .ok (.iaload, 1) := dk_46 (dk_at dksX1_adds_0 6 rfl rfl)
theorem dX1_adds_7 : decode cX1_adds 7 = .ok (.aaload, 1) := dk_50 (dk_at dksX1_adds_0 7 rfl rfl)
theorem dX1_adds_8 : decode cX1_adds 8 = .ok (.iconst 0, 1) := dk_3 (dk_at dksX1_adds_0 8 rfl rfl)
theorem dX1_adds_9 : decode cX1_adds 9 = .ok (.iload_n 3, 1) := dk_29 (dk_at dksX1_adds_0 9 rfl rfl)
theorem dX1_adds_10 : decode cX1_adds 10 = .ok (.iastore, 1) := dk_79 (dk_at dksX1_adds_0 10 rfl rfl)
theorem dX1_adds_11 : decode cX1_adds 11 = .ok (.aload_n 1, 1) := dk_43 (dk_at dksX1_adds_0 11 rfl rfl)
theorem dX1_adds_12 : decode cX1_adds 12 = .ok (.aload_n 0, 1) := dk_42 (dk_at dksX1_adds_0 12 rfl rfl)
theorem dX1_adds_13 : decode cX1_adds 13 = .ok (.getfield 9, 3) := dk_180 0 9 (dk_at dksX1_adds_0 13 rfl rfl)
theorem dX1_adds_16 : decode cX1_adds 16 = .ok (.iload_n 2, 1) := dk_28 (dk_at dksX1_adds_0 16 rfl rfl)
theorem dX1_adds_17 : decode cX1_adds 17 = .ok (.iaload, 1) := dk_46 (dk_at dksX1_adds_0 17 rfl rfl)
theorem dX1_adds_18 : decode cX1_adds 18 = .ok (.aaload, 1) := dk_50 (dk_at dksX1_adds_0 18 rfl rfl)
theorem dX1_adds_19 : decode cX1_adds 19 = .ok (.iconst 1, 1) := dk_4 (dk_at dksX1_adds_0 19 rfl rfl)
theorem dX1_adds_20 : decode cX1_adds 20 = .ok (.iload 4, 2) := dk_21 4 (dk_at dksX1_adds_0 20 rfl rfl)
theorem dX1_adds_22 : decode cX1_adds 22 = .ok (.iastore, 1) := dk_79 (dk_at dksX1_adds_0 22 rfl rfl)
theorem dX1_adds_23 : decode cX1_adds 23 = .ok (.aload_n 0, 1) := dk_42 (dk_at dksX1_adds_0 23 rfl rfl)
theorem dX1_adds_24 : decode cX1_adds 24 = .ok (.getfield 9, 3) := dk_180 0 9 (dk_at dksX1_adds_1 0 rfl rfl)
theorem dX1_adds_27 : decode cX1_adds 27 = .ok (.iload_n 2, 1) := dk_28 (dk_at dksX1_adds_1 3 rfl rfl)
theorem dX1_adds_28 : decode cX1_adds 28 = .ok (.dup2, 1) := dk_92 (dk_at dksX1_adds_1 4 rfl rfl)
theorem dX1_adds_29 : decode cX1_adds 29 = .ok (.iaload, 1) := dk_46 (dk_at dksX1_adds_1 5 rfl rfl)
theorem dX1_adds_30 : decode cX1_adds 30 = .ok (.iconst 1, 1) := dk_4 (dk_at dksX1_adds_1 6 rfl rfl)
theorem dX1_adds_31 : decode cX1_adds 31 = .ok (.iadd, 1) := dk_96 (dk_at dksX1_adds_1 7 rfl rfl)
theorem dX1_adds_32 : decode cX1_adds 32 = .ok (.iastore, 1) := dk_79 (dk_at dksX1_adds_1 8 rfl rfl)
theorem dX1_adds_33 : decode cX1_adds 33 = .ok (.aload_n 0, 1) := dk_42 (dk_at dksX1_adds_1 9 rfl rfl)
theorem dX1_adds_34 : decode cX1_adds 34 = .ok (.getfield 9, 3) := dk_180 0 9 (dk_at dksX1_adds_1 10 rfl rfl)
theorem dX1_adds_37 : decode cX1_adds 37 = .ok (.iload_n 2, 1) := dk_28 (dk_at dksX1_adds_1 13 rfl rfl)
theorem dX1_adds_38 : decode cX1_adds 38 = .ok (.iaload, 1) := dk_46 (dk_at dksX1_adds_1 14 rfl rfl)
theorem dX1_adds_39 : decode cX1_adds 39 = .ok (.ireturn, 1) := dk_172 (dk_at dksX1_adds_1 15 rfl rfl)
theorem q125 : (Jvm.Cond.initialized "ShaveOfAnother$State") ∈ lw_all := lw_g (lw_at lw_m1 2 rfl) rfl
theorem q167 : (Jvm.Cond.instantiable "ShaveOfAnother$State" (11 : Nat)) ∈ lw_all := lw_g (lw_at lw_m1 44 rfl) rfl
theorem q169 : (Jvm.Cond.instanceMethod ({ cls := "ShaveOfAnother$State", name := "<init>", desc := "()V" } : Jvm.MethodName)) ∈ lw_all := lw_g (lw_at lw_m1 46 rfl) rfl
theorem q170 : (Jvm.Cond.code ({ cls := "ShaveOfAnother$State", name := "<init>", desc := "()V" } : Jvm.MethodName) prog_13_method_1_code (2 : Nat) (Option.none : Option Jvm.ClassFile.FieldType)) ∈ lw_all := lw_g (lw_at lw_m1 47 rfl) rfl
theorem q171 : (Jvm.Cond.methodLink "ShaveOfAnother$State" (3 : Nat) ({ cls := "java/lang/Object", name := "<init>", desc := "()V" } : Jvm.MethodName)) ∈ lw_all := lw_g (lw_at lw_m1 48 rfl) rfl
theorem q172 : (Jvm.Cond.classLink "ShaveOfAnother$State" (27 : Nat) "[[I") ∈ lw_all := lw_g (lw_at lw_m1 49 rfl) rfl
theorem q174 : (Jvm.Cond.classLink "ShaveOfAnother$State" (44 : Nat) "ShaveOfAnother$Text") ∈ lw_all := lw_g (lw_at lw_m1 51 rfl) rfl
theorem q176 : (Jvm.Cond.methodLink "ShaveOfAnother$State" (50 : Nat) ({ cls := "java/util/Arrays", name := "fill", desc := "([II)V" } : Jvm.MethodName)) ∈ lw_all := lw_g (lw_at lw_m1 53 rfl) rfl
theorem q179 : (Jvm.Cond.fieldLink "ShaveOfAnother$State" (9 : Nat) "ShaveOfAnother$State" "n" "[I") ∈ lw_all := lw_g (lw_at lw_m1 56 rfl) rfl
theorem q181 : (Jvm.Cond.fieldLink "ShaveOfAnother$State" (15 : Nat) "ShaveOfAnother$State" "row" "[I") ∈ lw_all := lw_g (lw_at lw_m1 58 rfl) rfl
theorem q183 : (Jvm.Cond.fieldLink "ShaveOfAnother$State" (18 : Nat) "ShaveOfAnother$State" "other" "[I") ∈ lw_all := lw_g (lw_at lw_m1 60 rfl) rfl
theorem q185 : (Jvm.Cond.fieldLink "ShaveOfAnother$State" (21 : Nat) "ShaveOfAnother$State" "need" "[I") ∈ lw_all := lw_g (lw_at lw_m1 62 rfl) rfl
theorem q187 : (Jvm.Cond.fieldLink "ShaveOfAnother$State" (24 : Nat) "ShaveOfAnother$State" "odds" "[I") ∈ lw_all := lw_g (lw_at lw_m1 64 rfl) rfl
theorem q189 : (Jvm.Cond.fieldLink "ShaveOfAnother$State" (29 : Nat) "ShaveOfAnother$State" "cut" "[[I") ∈ lw_all := lw_g (lw_at lw_m1 66 rfl) rfl
theorem q191 : (Jvm.Cond.fieldLink "ShaveOfAnother$State" (32 : Nat) "ShaveOfAnother$State" "likes" "[[I") ∈ lw_all := lw_g (lw_at lw_m1 68 rfl) rfl
theorem q193 : (Jvm.Cond.fieldLink "ShaveOfAnother$State" (35 : Nat) "ShaveOfAnother$State" "seen" "[[I") ∈ lw_all := lw_g (lw_at lw_m1 70 rfl) rfl
theorem q195 : (Jvm.Cond.fieldLink "ShaveOfAnother$State" (38 : Nat) "ShaveOfAnother$State" "said" "[[I") ∈ lw_all := lw_g (lw_at lw_m1 72 rfl) rfl
theorem q197 : (Jvm.Cond.fieldLink "ShaveOfAnother$State" (41 : Nat) "ShaveOfAnother$State" "step" "[[I") ∈ lw_all := lw_g (lw_at lw_m1 74 rfl) rfl
theorem q199 : (Jvm.Cond.fieldLink "ShaveOfAnother$State" (46 : Nat) "ShaveOfAnother$State" "text" "[LShaveOfAnother$Text;") ∈ lw_all := lw_g (lw_at lw_m1 76 rfl) rfl
theorem q201 : (Jvm.Cond.laysFinal "ShaveOfAnother$State" "ShaveOfAnother$State" "n" "[I") ∈ lw_all := lw_g (lw_at lw_m1 78 rfl) rfl
theorem q202 : (Jvm.Cond.soleField "ShaveOfAnother$State" "n") ∈ lw_all := lw_g (lw_at lw_m1 79 rfl) rfl
theorem q203 : (Jvm.Cond.laysFinal "ShaveOfAnother$State" "ShaveOfAnother$State" "row" "[I") ∈ lw_all := lw_g (lw_at lw_m1 80 rfl) rfl
theorem q204 : (Jvm.Cond.soleField "ShaveOfAnother$State" "row") ∈ lw_all := lw_g (lw_at lw_m1 81 rfl) rfl
theorem q205 : (Jvm.Cond.laysFinal "ShaveOfAnother$State" "ShaveOfAnother$State" "other" "[I") ∈ lw_all := lw_g (lw_at lw_m1 82 rfl) rfl
theorem q206 : (Jvm.Cond.soleField "ShaveOfAnother$State" "other") ∈ lw_all := lw_g (lw_at lw_m1 83 rfl) rfl
theorem q207 : (Jvm.Cond.laysFinal "ShaveOfAnother$State" "ShaveOfAnother$State" "need" "[I") ∈ lw_all := lw_g (lw_at lw_m1 84 rfl) rfl
theorem q208 : (Jvm.Cond.soleField "ShaveOfAnother$State" "need") ∈ lw_all := lw_g (lw_at lw_m1 85 rfl) rfl
theorem q209 : (Jvm.Cond.laysFinal "ShaveOfAnother$State" "ShaveOfAnother$State" "odds" "[I") ∈ lw_all := lw_g (lw_at lw_m1 86 rfl) rfl
theorem q210 : (Jvm.Cond.soleField "ShaveOfAnother$State" "odds") ∈ lw_all := lw_g (lw_at lw_m1 87 rfl) rfl
theorem q211 : (Jvm.Cond.laysFinal "ShaveOfAnother$State" "ShaveOfAnother$State" "cut" "[[I") ∈ lw_all := lw_g (lw_at lw_m1 88 rfl) rfl
theorem q212 : (Jvm.Cond.soleField "ShaveOfAnother$State" "cut") ∈ lw_all := lw_g (lw_at lw_m1 89 rfl) rfl
theorem q213 : (Jvm.Cond.laysFinal "ShaveOfAnother$State" "ShaveOfAnother$State" "likes" "[[I") ∈ lw_all := lw_g (lw_at lw_m1 90 rfl) rfl
theorem q214 : (Jvm.Cond.soleField "ShaveOfAnother$State" "likes") ∈ lw_all := lw_g (lw_at lw_m1 91 rfl) rfl
theorem q215 : (Jvm.Cond.laysFinal "ShaveOfAnother$State" "ShaveOfAnother$State" "seen" "[[I") ∈ lw_all := lw_g (lw_at lw_m1 92 rfl) rfl
theorem q216 : (Jvm.Cond.soleField "ShaveOfAnother$State" "seen") ∈ lw_all := lw_g (lw_at lw_m1 93 rfl) rfl
theorem q217 : (Jvm.Cond.laysFinal "ShaveOfAnother$State" "ShaveOfAnother$State" "said" "[[I") ∈ lw_all := lw_g (lw_at lw_m1 94 rfl) rfl
theorem q218 : (Jvm.Cond.soleField "ShaveOfAnother$State" "said") ∈ lw_all := lw_g (lw_at lw_m1 95 rfl) rfl
theorem q219 : (Jvm.Cond.laysFinal "ShaveOfAnother$State" "ShaveOfAnother$State" "step" "[[I") ∈ lw_all := lw_g (lw_at lw_m1 96 rfl) rfl
theorem q220 : (Jvm.Cond.soleField "ShaveOfAnother$State" "step") ∈ lw_all := lw_g (lw_at lw_m1 97 rfl) rfl
theorem q221 : (Jvm.Cond.laysFinal "ShaveOfAnother$State" "ShaveOfAnother$State" "text" "[LShaveOfAnother$Text;") ∈ lw_all := lw_g (lw_at lw_m1 98 rfl) rfl
theorem q222 : (Jvm.Cond.soleField "ShaveOfAnother$State" "text") ∈ lw_all := lw_g (lw_at lw_m1 99 rfl) rfl
theorem q223 : (Jvm.Cond.superclass "ShaveOfAnother$State" "java/lang/Object") ∈ lw_all := lw_g (lw_at lw_m1 100 rfl) rfl
theorem q227 : (Jvm.Cond.instanceMethod ({ cls := "ShaveOfAnother$State", name := "be", desc := "(LShaveOfAnother$State;)V" } : Jvm.MethodName)) ∈ lw_all := lw_g (lw_at lw_m1 104 rfl) rfl
theorem q228 : (Jvm.Cond.selects "ShaveOfAnother$State" ({ cls := "ShaveOfAnother$State", name := "be", desc := "(LShaveOfAnother$State;)V" } : Jvm.MethodName) ({ cls := "ShaveOfAnother$State", name := "be", desc := "(LShaveOfAnother$State;)V" } : Jvm.MethodName)) ∈ lw_all := lw_g (lw_at lw_m1 105 rfl) rfl
theorem q229 : (Jvm.Cond.code ({ cls := "ShaveOfAnother$State", name := "be", desc := "(LShaveOfAnother$State;)V" } : Jvm.MethodName) prog_13_method_4_code (2 : Nat) (Option.none : Option Jvm.ClassFile.FieldType)) ∈ lw_all := lw_g (lw_at lw_m1 106 rfl) rfl
theorem q230 : (Jvm.Cond.methodLink "ShaveOfAnother$State" (62 : Nat) ({ cls := "ShaveOfAnother$State", name := "copy", desc := "([I[I)V" } : Jvm.MethodName)) ∈ lw_all := lw_g (lw_at lw_m1 107 rfl) rfl
theorem q231 : (Jvm.Cond.static ({ cls := "ShaveOfAnother$State", name := "copy", desc := "([I[I)V" } : Jvm.MethodName)) ∈ lw_all := lw_g (lw_at lw_m1 108 rfl) rfl
theorem q232 : (Jvm.Cond.code ({ cls := "ShaveOfAnother$State", name := "copy", desc := "([I[I)V" } : Jvm.MethodName) prog_13_method_2_code (2 : Nat) (Option.none : Option Jvm.ClassFile.FieldType)) ∈ lw_all := lw_g (lw_at lw_m1 109 rfl) rfl
theorem q233 : (Jvm.Cond.methodLink "ShaveOfAnother$State" (56 : Nat) ({ cls := "java/lang/System", name := "arraycopy", desc := "(Ljava/lang/Object;ILjava/lang/Object;II)V" } : Jvm.MethodName)) ∈ lw_all := lw_g (lw_at lw_m1 110 rfl) rfl
theorem q236 : (Jvm.Cond.methodLink "ShaveOfAnother$State" (66 : Nat) ({ cls := "ShaveOfAnother$State", name := "copy", desc := "([[I[[I)V" } : Jvm.MethodName)) ∈ lw_all := lw_g (lw_at lw_m1 113 rfl) rfl
theorem q237 : (Jvm.Cond.static ({ cls := "ShaveOfAnother$State", name := "copy", desc := "([[I[[I)V" } : Jvm.MethodName)) ∈ lw_all := lw_g (lw_at lw_m1 114 rfl) rfl
theorem q238 : (Jvm.Cond.code ({ cls := "ShaveOfAnother$State", name := "copy", desc := "([[I[[I)V" } : Jvm.MethodName) prog_13_method_3_code (3 : Nat) (Option.none : Option Jvm.ClassFile.FieldType)) ∈ lw_all := lw_g (lw_at lw_m1 115 rfl) rfl
theorem q300 : (Jvm.Cond.instanceMethod ({ cls := "ShaveOfAnother$State", name := "tells", desc := "(II)V" } : Jvm.MethodName)) ∈ lw_all := lw_g (lw_at lw_m1 177 rfl) rfl
theorem q301 : (Jvm.Cond.selects "ShaveOfAnother$State" ({ cls := "ShaveOfAnother$State", name := "tells", desc := "(II)V" } : Jvm.MethodName) ({ cls := "ShaveOfAnother$State", name := "tells", desc := "(II)V" } : Jvm.MethodName)) ∈ lw_all := lw_g (lw_at lw_m1 178 rfl) rfl
theorem q302 : (Jvm.Cond.code ({ cls := "ShaveOfAnother$State", name := "tells", desc := "(II)V" } : Jvm.MethodName) prog_13_method_6_code (4 : Nat) (Option.none : Option Jvm.ClassFile.FieldType)) ∈ lw_all := lw_g (lw_at lw_m1 179 rfl) rfl
theorem q673 : (Jvm.Cond.selects "ShaveOfAnother$State" ({ cls := "java/lang/Object", name := "getClass", desc := "()Ljava/lang/Class;" } : Jvm.MethodName) ({ cls := "java/lang/Object", name := "getClass", desc := "()Ljava/lang/Class;" } : Jvm.MethodName)) ∈ lw_all := lw_g (lw_at lw_m3 70 rfl) rfl
theorem q885 : (Jvm.Cond.instanceMethod ({ cls := "ShaveOfAnother$State", name := "keeps", desc := "()V" } : Jvm.MethodName)) ∈ lw_all := lw_g (lw_at lw_m4 42 rfl) rfl
theorem q886 : (Jvm.Cond.selects "ShaveOfAnother$State" ({ cls := "ShaveOfAnother$State", name := "keeps", desc := "()V" } : Jvm.MethodName) ({ cls := "ShaveOfAnother$State", name := "keeps", desc := "()V" } : Jvm.MethodName)) ∈ lw_all := lw_g (lw_at lw_m4 43 rfl) rfl
theorem q887 : (Jvm.Cond.code ({ cls := "ShaveOfAnother$State", name := "keeps", desc := "()V" } : Jvm.MethodName) prog_13_method_5_code (2 : Nat) (Option.none : Option Jvm.ClassFile.FieldType)) ∈ lw_all := lw_g (lw_at lw_m4 44 rfl) rfl
theorem q1224 : (Jvm.Cond.instanceMethod ({ cls := "ShaveOfAnother$State", name := "clears", desc := "(I)I" } : Jvm.MethodName)) ∈ lw_all := lw_g (lw_at lw_m5 141 rfl) rfl
theorem q1225 : (Jvm.Cond.selects "ShaveOfAnother$State" ({ cls := "ShaveOfAnother$State", name := "clears", desc := "(I)I" } : Jvm.MethodName) ({ cls := "ShaveOfAnother$State", name := "clears", desc := "(I)I" } : Jvm.MethodName)) ∈ lw_all := lw_g (lw_at lw_m5 142 rfl) rfl
theorem q1226 : (Jvm.Cond.code ({ cls := "ShaveOfAnother$State", name := "clears", desc := "(I)I" } : Jvm.MethodName) prog_13_method_8_code (2 : Nat) (Option.some Jvm.ClassFile.FieldType.int)) ∈ lw_all := lw_g (lw_at lw_m5 143 rfl) rfl
theorem q1228 : (Jvm.Cond.instanceMethod ({ cls := "ShaveOfAnother$State", name := "adds", desc := "([[IIII)I" } : Jvm.MethodName)) ∈ lw_all := lw_g (lw_at lw_m5 145 rfl) rfl
theorem q1229 : (Jvm.Cond.selects "ShaveOfAnother$State" ({ cls := "ShaveOfAnother$State", name := "adds", desc := "([[IIII)I" } : Jvm.MethodName) ({ cls := "ShaveOfAnother$State", name := "adds", desc := "([[IIII)I" } : Jvm.MethodName)) ∈ lw_all := lw_g (lw_at lw_m5 146 rfl) rfl
theorem q1230 : (Jvm.Cond.code ({ cls := "ShaveOfAnother$State", name := "adds", desc := "([[IIII)I" } : Jvm.MethodName) prog_13_method_7_code (5 : Nat) (Option.some Jvm.ClassFile.FieldType.int)) ∈ lw_all := lw_g (lw_at lw_m5 147 rfl) rfl
theorem q2049 : (Jvm.Cond.castable "ShaveOfAnother$State" "java/lang/Object") ∈ lw_tbl := lw_at lw_m9 6 rfl
theorem in_X1 : ∀ w ∈ wsX10, w ∈ lw_all := lw_in wsX10 [201, 203, 205, 207, 209, 211, 213, 215, 217, 219, 221] (by decide +kernel) (by decide +kernel)
