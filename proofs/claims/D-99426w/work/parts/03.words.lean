theorem q191 : (Jvm.Cond.arrayOver (Jvm.ClassFile.FieldType.array (Jvm.ClassFile.FieldType.object "java/lang/String"))) ∈ lw_tbl := lw_at lw_m1 37 rfl
set_option maxRecDepth 100000
theorem q192 : (Jvm.Cond.arrayOver (Jvm.ClassFile.FieldType.object "java/lang/String")) ∈ lw_tbl := lw_at lw_m1 38 rfl
theorem q226 : (Jvm.Cond.arrayOver (Jvm.ClassFile.FieldType.object "SilkClerks$Term")) ∈ lw_tbl := lw_at lw_m1 72 rfl
theorem q243 : (Jvm.Cond.arrayClass Jvm.ClassFile.FieldType.byte) ∈ lw_all := lw_g (lw_at lw_m1 89 rfl) rfl
theorem q244 : (Jvm.Cond.arrayClass Jvm.ClassFile.FieldType.int) ∈ lw_all := lw_g (lw_at lw_m1 90 rfl) rfl
theorem q246 : (Jvm.Cond.arrayOver (Jvm.ClassFile.FieldType.object "SilkClerks$Fact")) ∈ lw_tbl := lw_at lw_m1 92 rfl
theorem q248 : (Jvm.Cond.arrayOver (Jvm.ClassFile.FieldType.object "SilkClerks$Meal")) ∈ lw_tbl := lw_at lw_m1 94 rfl
theorem q329 : (Jvm.Cond.arrayOver (Jvm.ClassFile.FieldType.object "SilkClerks$Trays")) ∈ lw_tbl := lw_at lw_m1 175 rfl
theorem q331 : (Jvm.Cond.arrayOver (Jvm.ClassFile.FieldType.object "SilkClerks$Read")) ∈ lw_tbl := lw_at lw_m1 177 rfl
theorem q154 : (Jvm.Cond.initialized "SilkClerksLaw") ∈ lw_all := lw_g (lw_at lw_m1 0 rfl) rfl
set_option maxRecDepth 100000
theorem q182 : (Jvm.Cond.classLink "SilkClerksLaw" (7 : Nat) "SilkClerks") ∈ lw_all := lw_g (lw_at lw_m1 28 rfl) rfl
theorem q184 : (Jvm.Cond.methodLink "SilkClerksLaw" (9 : Nat) ({ cls := "SilkClerks", name := "<init>", desc := "()V" } : Jvm.MethodName)) ∈ lw_all := lw_g (lw_at lw_m1 30 rfl) rfl
theorem q494 : (Jvm.Cond.methodLink "SilkClerksLaw" (42 : Nat) ({ cls := "SilkClerks", name := "feed", desc := "(IIIII)I" } : Jvm.MethodName)) ∈ lw_all := lw_g (lw_at lw_m2 100 rfl) rfl
theorem q502 : (Jvm.Cond.methodLink "SilkClerksLaw" (47 : Nat) ({ cls := "SilkClerks", name := "end", desc := "(I)Z" } : Jvm.MethodName)) ∈ lw_all := lw_g (lw_at lw_m2 108 rfl) rfl
theorem q509 : (Jvm.Cond.methodLink "SilkClerksLaw" (52 : Nat) ({ cls := "SilkClerks", name := "text", desc := "(I)I" } : Jvm.MethodName)) ∈ lw_all := lw_g (lw_at lw_m2 115 rfl) rfl
theorem q920 : (Jvm.Cond.methodLink "SilkClerksLaw" (56 : Nat) ({ cls := "SilkClerks", name := "fault", desc := "(I)I" } : Jvm.MethodName)) ∈ lw_all := lw_g (lw_at lw_m4 46 rfl) rfl
theorem q924 : (Jvm.Cond.methodLink "SilkClerksLaw" (165 : Nat) ({ cls := "SilkClerks", name := "undo", desc := "()Z" } : Jvm.MethodName)) ∈ lw_all := lw_g (lw_at lw_m4 50 rfl) rfl
theorem q936 : (Jvm.Cond.methodLink "SilkClerksLaw" (13 : Nat) ({ cls := "SilkClerks", name := "state", desc := "(I)I" } : Jvm.MethodName)) ∈ lw_all := lw_g (lw_at lw_m4 62 rfl) rfl
theorem q940 : (Jvm.Cond.methodLink "SilkClerksLaw" (18 : Nat) ({ cls := "SilkClerks", name := "worm", desc := "(II)I" } : Jvm.MethodName)) ∈ lw_all := lw_g (lw_at lw_m4 66 rfl) rfl
theorem q944 : (Jvm.Cond.methodLink "SilkClerksLaw" (23 : Nat) ({ cls := "SilkClerks", name := "set", desc := "(III)Z" } : Jvm.MethodName)) ∈ lw_all := lw_g (lw_at lw_m4 70 rfl) rfl
theorem q952 : (Jvm.Cond.methodLink "SilkClerksLaw" (28 : Nat) ({ cls := "SilkClerks", name := "feedOne", desc := "(III)I" } : Jvm.MethodName)) ∈ lw_all := lw_g (lw_at lw_m4 78 rfl) rfl
theorem q1052 : (Jvm.Cond.methodLink "SilkClerksLaw" (33 : Nat) ({ cls := "SilkClerks", name := "cocoon", desc := "(IZ)Z" } : Jvm.MethodName)) ∈ lw_all := lw_g (lw_at lw_m4 178 rfl) rfl
theorem q1069 : (Jvm.Cond.methodLink "SilkClerksLaw" (38 : Nat) ({ cls := "SilkClerks", name := "days", desc := "(I)I" } : Jvm.MethodName)) ∈ lw_all := lw_g (lw_at lw_m4 195 rfl) rfl
theorem q1102 : (Jvm.Cond.methodLink "SilkClerksLaw" (60 : Nat) ({ cls := "SilkClerks", name := "of", desc := "(II)I" } : Jvm.MethodName)) ∈ lw_all := lw_g (lw_at lw_m4 228 rfl) rfl
theorem q1114 : (Jvm.Cond.methodLink "SilkClerksLaw" (64 : Nat) ({ cls := "SilkClerks", name := "fact", desc := "(II)I" } : Jvm.MethodName)) ∈ lw_all := lw_g (lw_at lw_m5 0 rfl) rfl
theorem q1118 : (Jvm.Cond.methodLink "SilkClerksLaw" (68 : Nat) ({ cls := "SilkClerks", name := "book", desc := "(II)I" } : Jvm.MethodName)) ∈ lw_all := lw_g (lw_at lw_m5 4 rfl) rfl
theorem q1122 : (Jvm.Cond.methodLink "SilkClerksLaw" (72 : Nat) ({ cls := "SilkClerks", name := "goes", desc := "(II)I" } : Jvm.MethodName)) ∈ lw_all := lw_g (lw_at lw_m5 8 rfl) rfl
theorem q1146 : (Jvm.Cond.methodLink "SilkClerksLaw" (76 : Nat) ({ cls := "SilkClerks", name := "would", desc := "(III)I" } : Jvm.MethodName)) ∈ lw_all := lw_g (lw_at lw_m5 32 rfl) rfl
theorem q1151 : (Jvm.Cond.methodLink "SilkClerksLaw" (80 : Nat) ({ cls := "SilkClerks", name := "reads", desc := "(II)I" } : Jvm.MethodName)) ∈ lw_all := lw_g (lw_at lw_m5 37 rfl) rfl
theorem q1167 : (Jvm.Cond.methodLink "SilkClerksLaw" (84 : Nat) ({ cls := "SilkClerks", name := "fits", desc := "(I)I" } : Jvm.MethodName)) ∈ lw_all := lw_g (lw_at lw_m5 53 rfl) rfl
theorem q1204 : (Jvm.Cond.methodLink "SilkClerksLaw" (88 : Nat) ({ cls := "SilkClerks", name := "reel", desc := "(I)I" } : Jvm.MethodName)) ∈ lw_all := lw_g (lw_at lw_m5 90 rfl) rfl
theorem q1235 : (Jvm.Cond.methodLink "SilkClerksLaw" (92 : Nat) ({ cls := "SilkClerks", name := "unlike", desc := "(II)I" } : Jvm.MethodName)) ∈ lw_all := lw_g (lw_at lw_m5 121 rfl) rfl
theorem q1239 : (Jvm.Cond.methodLink "SilkClerksLaw" (96 : Nat) ({ cls := "SilkClerks", name := "knot", desc := "(II)I" } : Jvm.MethodName)) ∈ lw_all := lw_g (lw_at lw_m5 125 rfl) rfl
theorem q1243 : (Jvm.Cond.methodLink "SilkClerksLaw" (100 : Nat) ({ cls := "SilkClerks", name := "cuts", desc := "(I)I" } : Jvm.MethodName)) ∈ lw_all := lw_g (lw_at lw_m5 129 rfl) rfl
theorem q1257 : (Jvm.Cond.methodLink "SilkClerksLaw" (104 : Nat) ({ cls := "SilkClerks", name := "keeps", desc := "(II)I" } : Jvm.MethodName)) ∈ lw_all := lw_g (lw_at lw_m5 143 rfl) rfl
theorem q1265 : (Jvm.Cond.methodLink "SilkClerksLaw" (108 : Nat) ({ cls := "SilkClerks", name := "trays", desc := "(I)I" } : Jvm.MethodName)) ∈ lw_all := lw_g (lw_at lw_m5 151 rfl) rfl
theorem q1281 : (Jvm.Cond.methodLink "SilkClerksLaw" (112 : Nat) ({ cls := "SilkClerks", name := "answered", desc := "(I)I" } : Jvm.MethodName)) ∈ lw_all := lw_g (lw_at lw_m5 167 rfl) rfl
theorem q1292 : (Jvm.Cond.methodLink "SilkClerksLaw" (149 : Nat) ({ cls := "SilkClerks", name := "gaps", desc := "(I)I" } : Jvm.MethodName)) ∈ lw_all := lw_g (lw_at lw_m5 178 rfl) rfl
theorem q1299 : (Jvm.Cond.methodLink "SilkClerksLaw" (116 : Nat) ({ cls := "SilkClerks", name := "scarf", desc := "(I)I" } : Jvm.MethodName)) ∈ lw_all := lw_g (lw_at lw_m5 185 rfl) rfl
theorem q1303 : (Jvm.Cond.methodLink "SilkClerksLaw" (120 : Nat) ({ cls := "SilkClerks", name := "whose", desc := "(I)I" } : Jvm.MethodName)) ∈ lw_all := lw_g (lw_at lw_m5 189 rfl) rfl
theorem q1318 : (Jvm.Cond.methodLink "SilkClerksLaw" (124 : Nat) ({ cls := "SilkClerks", name := "forged", desc := "(III)I" } : Jvm.MethodName)) ∈ lw_all := lw_g (lw_at lw_m5 204 rfl) rfl
theorem q1327 : (Jvm.Cond.methodLink "SilkClerksLaw" (128 : Nat) ({ cls := "SilkClerks", name := "own", desc := "(II)I" } : Jvm.MethodName)) ∈ lw_all := lw_g (lw_at lw_m5 213 rfl) rfl
theorem q1331 : (Jvm.Cond.methodLink "SilkClerksLaw" (132 : Nat) ({ cls := "SilkClerks", name := "feedings", desc := "()I" } : Jvm.MethodName)) ∈ lw_all := lw_g (lw_at lw_m5 217 rfl) rfl
theorem q1340 : (Jvm.Cond.methodLink "SilkClerksLaw" (137 : Nat) ({ cls := "SilkClerks", name := "dyes", desc := "(I)I" } : Jvm.MethodName)) ∈ lw_all := lw_g (lw_at lw_m5 226 rfl) rfl
theorem q1348 : (Jvm.Cond.methodLink "SilkClerksLaw" (141 : Nat) ({ cls := "SilkClerks", name := "tally", desc := "(I)I" } : Jvm.MethodName)) ∈ lw_all := lw_g (lw_at lw_m5 234 rfl) rfl
theorem q1354 : (Jvm.Cond.methodLink "SilkClerksLaw" (145 : Nat) ({ cls := "SilkClerks", name := "splice", desc := "(II)I" } : Jvm.MethodName)) ∈ lw_all := lw_g (lw_at lw_m6 0 rfl) rfl
theorem q1362 : (Jvm.Cond.methodLink "SilkClerksLaw" (153 : Nat) ({ cls := "SilkClerks", name := "both", desc := "(II)I" } : Jvm.MethodName)) ∈ lw_all := lw_g (lw_at lw_m6 8 rfl) rfl
theorem q1370 : (Jvm.Cond.methodLink "SilkClerksLaw" (157 : Nat) ({ cls := "SilkClerks", name := "pull", desc := "(I)I" } : Jvm.MethodName)) ∈ lw_all := lw_g (lw_at lw_m6 16 rfl) rfl
theorem q1377 : (Jvm.Cond.methodLink "SilkClerksLaw" (161 : Nat) ({ cls := "SilkClerks", name := "game", desc := "(I)I" } : Jvm.MethodName)) ∈ lw_all := lw_g (lw_at lw_m6 23 rfl) rfl
theorem q1381 : (Jvm.Cond.methodLink "SilkClerksLaw" (170 : Nat) ({ cls := "SilkClerks", name := "image", desc := "(Z)Z" } : Jvm.MethodName)) ∈ lw_all := lw_g (lw_at lw_m6 27 rfl) rfl
theorem q1394 : (Jvm.Cond.methodLink "SilkClerksLaw" (175 : Nat) ({ cls := "SilkClerks", name := "look", desc := "(I)I" } : Jvm.MethodName)) ∈ lw_all := lw_g (lw_at lw_m6 40 rfl) rfl
theorem q1398 : (Jvm.Cond.classLink "SilkClerksLaw" (10 : Nat) "SilkClerksModel") ∈ lw_all := lw_g (lw_at lw_m6 44 rfl) rfl
theorem q1400 : (Jvm.Cond.methodLink "SilkClerksLaw" (12 : Nat) ({ cls := "SilkClerksModel", name := "<init>", desc := "()V" } : Jvm.MethodName)) ∈ lw_all := lw_g (lw_at lw_m6 46 rfl) rfl
theorem q1504 : (Jvm.Cond.methodLink "SilkClerksLaw" (17 : Nat) ({ cls := "SilkClerksModel", name := "state", desc := "(I)I" } : Jvm.MethodName)) ∈ lw_all := lw_g (lw_at lw_m6 150 rfl) rfl
theorem q1512 : (Jvm.Cond.methodLink "SilkClerksLaw" (22 : Nat) ({ cls := "SilkClerksModel", name := "worm", desc := "(II)I" } : Jvm.MethodName)) ∈ lw_all := lw_g (lw_at lw_m6 158 rfl) rfl
theorem q1519 : (Jvm.Cond.methodLink "SilkClerksLaw" (27 : Nat) ({ cls := "SilkClerksModel", name := "set", desc := "(III)Z" } : Jvm.MethodName)) ∈ lw_all := lw_g (lw_at lw_m6 165 rfl) rfl
theorem q1527 : (Jvm.Cond.methodLink "SilkClerksLaw" (46 : Nat) ({ cls := "SilkClerksModel", name := "feed", desc := "(IIIII)I" } : Jvm.MethodName)) ∈ lw_all := lw_g (lw_at lw_m6 173 rfl) rfl
theorem q1531 : (Jvm.Cond.methodLink "SilkClerksLaw" (51 : Nat) ({ cls := "SilkClerksModel", name := "end", desc := "(I)Z" } : Jvm.MethodName)) ∈ lw_all := lw_g (lw_at lw_m6 177 rfl) rfl
theorem q1535 : (Jvm.Cond.methodLink "SilkClerksLaw" (55 : Nat) ({ cls := "SilkClerksModel", name := "text", desc := "(I)I" } : Jvm.MethodName)) ∈ lw_all := lw_g (lw_at lw_m6 181 rfl) rfl
theorem q1695 : (Jvm.Cond.methodLink "SilkClerksLaw" (59 : Nat) ({ cls := "SilkClerksModel", name := "fault", desc := "(I)I" } : Jvm.MethodName)) ∈ lw_all := lw_g (lw_at lw_m7 101 rfl) rfl
theorem q1699 : (Jvm.Cond.methodLink "SilkClerksLaw" (169 : Nat) ({ cls := "SilkClerksModel", name := "undo", desc := "()Z" } : Jvm.MethodName)) ∈ lw_all := lw_g (lw_at lw_m7 105 rfl) rfl
theorem q1703 : (Jvm.Cond.methodLink "SilkClerksLaw" (32 : Nat) ({ cls := "SilkClerksModel", name := "feedOne", desc := "(III)I" } : Jvm.MethodName)) ∈ lw_all := lw_g (lw_at lw_m7 109 rfl) rfl
theorem q1791 : (Jvm.Cond.methodLink "SilkClerksLaw" (37 : Nat) ({ cls := "SilkClerksModel", name := "cocoon", desc := "(IZ)Z" } : Jvm.MethodName)) ∈ lw_all := lw_g (lw_at lw_m7 197 rfl) rfl
theorem q1799 : (Jvm.Cond.methodLink "SilkClerksLaw" (41 : Nat) ({ cls := "SilkClerksModel", name := "days", desc := "(I)I" } : Jvm.MethodName)) ∈ lw_all := lw_g (lw_at lw_m7 205 rfl) rfl
theorem q1815 : (Jvm.Cond.methodLink "SilkClerksLaw" (63 : Nat) ({ cls := "SilkClerksModel", name := "of", desc := "(II)I" } : Jvm.MethodName)) ∈ lw_all := lw_g (lw_at lw_m7 221 rfl) rfl
theorem q1823 : (Jvm.Cond.methodLink "SilkClerksLaw" (67 : Nat) ({ cls := "SilkClerksModel", name := "fact", desc := "(II)I" } : Jvm.MethodName)) ∈ lw_all := lw_g (lw_at lw_m7 229 rfl) rfl
theorem q1827 : (Jvm.Cond.methodLink "SilkClerksLaw" (71 : Nat) ({ cls := "SilkClerksModel", name := "book", desc := "(II)I" } : Jvm.MethodName)) ∈ lw_all := lw_g (lw_at lw_m7 233 rfl) rfl
theorem q1831 : (Jvm.Cond.methodLink "SilkClerksLaw" (75 : Nat) ({ cls := "SilkClerksModel", name := "goes", desc := "(II)I" } : Jvm.MethodName)) ∈ lw_all := lw_g (lw_at lw_m7 237 rfl) rfl
theorem q1839 : (Jvm.Cond.methodLink "SilkClerksLaw" (79 : Nat) ({ cls := "SilkClerksModel", name := "would", desc := "(III)I" } : Jvm.MethodName)) ∈ lw_all := lw_g (lw_at lw_m8 5 rfl) rfl
theorem q1847 : (Jvm.Cond.methodLink "SilkClerksLaw" (83 : Nat) ({ cls := "SilkClerksModel", name := "reads", desc := "(II)I" } : Jvm.MethodName)) ∈ lw_all := lw_g (lw_at lw_m8 13 rfl) rfl
theorem q1851 : (Jvm.Cond.methodLink "SilkClerksLaw" (87 : Nat) ({ cls := "SilkClerksModel", name := "fits", desc := "(I)I" } : Jvm.MethodName)) ∈ lw_all := lw_g (lw_at lw_m8 17 rfl) rfl
theorem q1867 : (Jvm.Cond.methodLink "SilkClerksLaw" (91 : Nat) ({ cls := "SilkClerksModel", name := "reel", desc := "(I)I" } : Jvm.MethodName)) ∈ lw_all := lw_g (lw_at lw_m8 33 rfl) rfl
theorem q1890 : (Jvm.Cond.methodLink "SilkClerksLaw" (95 : Nat) ({ cls := "SilkClerksModel", name := "unlike", desc := "(II)I" } : Jvm.MethodName)) ∈ lw_all := lw_g (lw_at lw_m8 56 rfl) rfl
theorem q1894 : (Jvm.Cond.methodLink "SilkClerksLaw" (144 : Nat) ({ cls := "SilkClerksModel", name := "tally", desc := "(I)I" } : Jvm.MethodName)) ∈ lw_all := lw_g (lw_at lw_m8 60 rfl) rfl
theorem q1902 : (Jvm.Cond.methodLink "SilkClerksLaw" (148 : Nat) ({ cls := "SilkClerksModel", name := "splice", desc := "(II)I" } : Jvm.MethodName)) ∈ lw_all := lw_g (lw_at lw_m8 68 rfl) rfl
theorem q1910 : (Jvm.Cond.methodLink "SilkClerksLaw" (156 : Nat) ({ cls := "SilkClerksModel", name := "both", desc := "(II)I" } : Jvm.MethodName)) ∈ lw_all := lw_g (lw_at lw_m8 76 rfl) rfl
theorem q1918 : (Jvm.Cond.methodLink "SilkClerksLaw" (160 : Nat) ({ cls := "SilkClerksModel", name := "pull", desc := "(I)I" } : Jvm.MethodName)) ∈ lw_all := lw_g (lw_at lw_m8 84 rfl) rfl
theorem q1922 : (Jvm.Cond.methodLink "SilkClerksLaw" (99 : Nat) ({ cls := "SilkClerksModel", name := "knot", desc := "(II)I" } : Jvm.MethodName)) ∈ lw_all := lw_g (lw_at lw_m8 88 rfl) rfl
theorem q1926 : (Jvm.Cond.methodLink "SilkClerksLaw" (103 : Nat) ({ cls := "SilkClerksModel", name := "cuts", desc := "(I)I" } : Jvm.MethodName)) ∈ lw_all := lw_g (lw_at lw_m8 92 rfl) rfl
theorem q1934 : (Jvm.Cond.methodLink "SilkClerksLaw" (107 : Nat) ({ cls := "SilkClerksModel", name := "keeps", desc := "(II)I" } : Jvm.MethodName)) ∈ lw_all := lw_g (lw_at lw_m8 100 rfl) rfl
theorem q1942 : (Jvm.Cond.methodLink "SilkClerksLaw" (111 : Nat) ({ cls := "SilkClerksModel", name := "trays", desc := "(I)I" } : Jvm.MethodName)) ∈ lw_all := lw_g (lw_at lw_m8 108 rfl) rfl
theorem q1958 : (Jvm.Cond.methodLink "SilkClerksLaw" (152 : Nat) ({ cls := "SilkClerksModel", name := "gaps", desc := "(I)I" } : Jvm.MethodName)) ∈ lw_all := lw_g (lw_at lw_m8 124 rfl) rfl
theorem q1962 : (Jvm.Cond.methodLink "SilkClerksLaw" (115 : Nat) ({ cls := "SilkClerksModel", name := "answered", desc := "(I)I" } : Jvm.MethodName)) ∈ lw_all := lw_g (lw_at lw_m8 128 rfl) rfl
theorem q1974 : (Jvm.Cond.methodLink "SilkClerksLaw" (119 : Nat) ({ cls := "SilkClerksModel", name := "scarf", desc := "(I)I" } : Jvm.MethodName)) ∈ lw_all := lw_g (lw_at lw_m8 140 rfl) rfl
theorem q1978 : (Jvm.Cond.methodLink "SilkClerksLaw" (123 : Nat) ({ cls := "SilkClerksModel", name := "whose", desc := "(I)I" } : Jvm.MethodName)) ∈ lw_all := lw_g (lw_at lw_m8 144 rfl) rfl
theorem q1994 : (Jvm.Cond.methodLink "SilkClerksLaw" (127 : Nat) ({ cls := "SilkClerksModel", name := "forged", desc := "(III)I" } : Jvm.MethodName)) ∈ lw_all := lw_g (lw_at lw_m8 160 rfl) rfl
theorem q2004 : (Jvm.Cond.methodLink "SilkClerksLaw" (131 : Nat) ({ cls := "SilkClerksModel", name := "own", desc := "(II)I" } : Jvm.MethodName)) ∈ lw_all := lw_g (lw_at lw_m8 170 rfl) rfl
theorem q2008 : (Jvm.Cond.methodLink "SilkClerksLaw" (136 : Nat) ({ cls := "SilkClerksModel", name := "feedings", desc := "()I" } : Jvm.MethodName)) ∈ lw_all := lw_g (lw_at lw_m8 174 rfl) rfl
theorem q2017 : (Jvm.Cond.methodLink "SilkClerksLaw" (140 : Nat) ({ cls := "SilkClerksModel", name := "dyes", desc := "(I)I" } : Jvm.MethodName)) ∈ lw_all := lw_g (lw_at lw_m8 183 rfl) rfl
theorem q2028 : (Jvm.Cond.methodLink "SilkClerksLaw" (164 : Nat) ({ cls := "SilkClerksModel", name := "game", desc := "(I)I" } : Jvm.MethodName)) ∈ lw_all := lw_g (lw_at lw_m8 194 rfl) rfl
theorem q2032 : (Jvm.Cond.methodLink "SilkClerksLaw" (174 : Nat) ({ cls := "SilkClerksModel", name := "image", desc := "(Z)Z" } : Jvm.MethodName)) ∈ lw_all := lw_g (lw_at lw_m8 198 rfl) rfl
theorem q2036 : (Jvm.Cond.methodLink "SilkClerksLaw" (178 : Nat) ({ cls := "SilkClerksModel", name := "look", desc := "(I)I" } : Jvm.MethodName)) ∈ lw_all := lw_g (lw_at lw_m8 202 rfl) rfl
theorem q1138 : (Jvm.Cond.interfaceMethod "SilkClerks$Condition" "SilkClerks$Condition" "holds" "(I)Z") ∈ lw_tbl := lw_at lw_m5 24 rfl
set_option maxRecDepth 100000
theorem q1139 : (Jvm.Cond.declares ({ cls := "SilkClerks$Condition", name := "holds", desc := "(I)Z" } : Jvm.MethodName)) ∈ lw_tbl := lw_at lw_m5 25 rfl
theorem q1202 : (Jvm.Cond.interfaceMethod "SilkClerks$Measure" "SilkClerks$Measure" "of" "(I)I") ∈ lw_tbl := lw_at lw_m5 88 rfl
set_option maxRecDepth 100000
theorem q1203 : (Jvm.Cond.declares ({ cls := "SilkClerks$Measure", name := "of", desc := "(I)I" } : Jvm.MethodName)) ∈ lw_tbl := lw_at lw_m5 89 rfl
theorem q163 : (Jvm.Cond.initialized "SilkClerks$Token") ∈ lw_all := lw_g (lw_at lw_m1 9 rfl) rfl
set_option maxRecDepth 100000
theorem q531 : (Jvm.Cond.laysStatic "SilkClerks$Token" "END" "LSilkClerks$Token;") ∈ lw_tbl := lw_at lw_m2 137 rfl
theorem q533 : (Jvm.Cond.laysStatic "SilkClerks$Token" "NONE" "LSilkClerks$Token;") ∈ lw_tbl := lw_at lw_m2 139 rfl
theorem q538 : (Jvm.Cond.laysStatic "SilkClerks$Token" "WORD" "LSilkClerks$Token;") ∈ lw_tbl := lw_at lw_m2 144 rfl
theorem q603 : (Jvm.Cond.laysStatic "SilkClerks$Token" "NUMBER" "LSilkClerks$Token;") ∈ lw_tbl := lw_at lw_m2 209 rfl
theorem q663 : (Jvm.Cond.laysStatic "SilkClerks$Token" "SIGN" "LSilkClerks$Token;") ∈ lw_tbl := lw_at lw_m3 29 rfl
theorem q769 : (Jvm.Cond.sameMethod "[I" "java/lang/Object" "clone" "()Ljava/lang/Object;") ∈ lw_all := lw_g (lw_at lw_m3 135 rfl) rfl
set_option maxRecDepth 100000
theorem q772 : (Jvm.Cond.selects "[I" ({ cls := "[I", name := "clone", desc := "()Ljava/lang/Object;" } : Jvm.MethodName) ({ cls := "java/lang/Object", name := "clone", desc := "()Ljava/lang/Object;" } : Jvm.MethodName)) ∈ lw_all := lw_g (lw_at lw_m3 138 rfl) rfl
theorem q773 : (Jvm.Cond.castable "[I" "java/lang/Cloneable") ∈ lw_tbl := lw_at lw_m3 139 rfl
theorem q162 : (Jvm.Cond.initialized "java/lang/Enum") ∈ lw_all := lw_g (lw_at lw_m1 8 rfl) rfl
set_option maxRecDepth 100000
theorem q160 : (Jvm.Cond.initialized "java/lang/System") ∈ lw_all := lw_g (lw_at lw_m1 6 rfl) rfl
set_option maxRecDepth 100000
theorem q777 : (Jvm.Cond.static ({ cls := "java/lang/System", name := "arraycopy", desc := "(Ljava/lang/Object;ILjava/lang/Object;II)V" } : Jvm.MethodName)) ∈ lw_all := lw_g (lw_at lw_m3 143 rfl) rfl
theorem q778 : (Jvm.Cond.native ({ cls := "java/lang/System", name := "arraycopy", desc := "(Ljava/lang/Object;ILjava/lang/Object;II)V" } : Jvm.MethodName)) ∈ lw_all := lw_g (lw_at lw_m3 144 rfl) rfl
