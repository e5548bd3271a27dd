theorem q162 : (Jvm.Cond.arrayOver (Jvm.ClassFile.FieldType.object "HungryHedge$Risk")) ∈ lw_tbl := lw_at lw_m1 57 rfl
set_option maxRecDepth 100000
theorem q164 : (Jvm.Cond.arrayOver (Jvm.ClassFile.FieldType.object "HungryHedge$Clause")) ∈ lw_tbl := lw_at lw_m1 59 rfl
theorem q196 : (Jvm.Cond.arrayClass Jvm.ClassFile.FieldType.int) ∈ lw_all := lw_g (lw_at lw_m1 91 rfl) rfl
theorem q285 : (Jvm.Cond.arrayOver (Jvm.ClassFile.FieldType.object "HungryHedge$Trip")) ∈ lw_tbl := lw_at lw_m1 180 rfl
theorem q332 : (Jvm.Cond.arrayOver (Jvm.ClassFile.FieldType.array Jvm.ClassFile.FieldType.long)) ∈ lw_tbl := lw_at lw_m1 227 rfl
theorem q341 : (Jvm.Cond.arrayClass Jvm.ClassFile.FieldType.long) ∈ lw_all := lw_g (lw_at lw_m1 236 rfl) rfl
theorem q375 : (Jvm.Cond.arrayOver (Jvm.ClassFile.FieldType.object "java/lang/String")) ∈ lw_tbl := lw_at lw_m2 30 rfl
theorem q455 : (Jvm.Cond.arrayClass Jvm.ClassFile.FieldType.byte) ∈ lw_all := lw_g (lw_at lw_m2 110 rfl) rfl
theorem q499 : (Jvm.Cond.arrayOver (Jvm.ClassFile.FieldType.object "HungryHedge$Row")) ∈ lw_tbl := lw_at lw_m2 154 rfl
theorem q513 : (Jvm.Cond.arrayOver (Jvm.ClassFile.FieldType.object "HungryHedge$Sheet")) ∈ lw_tbl := lw_at lw_m2 168 rfl
theorem q566 : (Jvm.Cond.arrayOver (Jvm.ClassFile.FieldType.object "HungryHedge$Shelf")) ∈ lw_tbl := lw_at lw_m2 221 rfl
theorem q1260 : (Jvm.Cond.arrayClass Jvm.ClassFile.FieldType.short) ∈ lw_all := lw_g (lw_at lw_m5 195 rfl) rfl

theorem q105 : (Jvm.Cond.initialized "HungryHedgeLaw") ∈ lw_all := lw_g (lw_at lw_m1 0 rfl) rfl
set_option maxRecDepth 100000
theorem q147 : (Jvm.Cond.classLink "HungryHedgeLaw" (7 : Nat) "HungryHedge") ∈ lw_all := lw_g (lw_at lw_m1 42 rfl) rfl
theorem q149 : (Jvm.Cond.methodLink "HungryHedgeLaw" (9 : Nat) ({ cls := "HungryHedge", name := "<init>", desc := "()V" } : Jvm.MethodName)) ∈ lw_all := lw_g (lw_at lw_m1 44 rfl) rfl
theorem q645 : (Jvm.Cond.methodLink "HungryHedgeLaw" (13 : Nat) ({ cls := "HungryHedge", name := "patch", desc := "(III)I" } : Jvm.MethodName)) ∈ lw_all := lw_g (lw_at lw_m3 60 rfl) rfl
theorem q652 : (Jvm.Cond.methodLink "HungryHedgeLaw" (18 : Nat) ({ cls := "HungryHedge", name := "patchOf", desc := "(II)I" } : Jvm.MethodName)) ∈ lw_all := lw_g (lw_at lw_m3 67 rfl) rfl
theorem q660 : (Jvm.Cond.methodLink "HungryHedgeLaw" (27 : Nat) ({ cls := "HungryHedge", name := "yieldOf", desc := "(II)I" } : Jvm.MethodName)) ∈ lw_all := lw_g (lw_at lw_m3 75 rfl) rfl
theorem q668 : (Jvm.Cond.methodLink "HungryHedgeLaw" (31 : Nat) ({ cls := "HungryHedge", name := "lay", desc := "(III)I" } : Jvm.MethodName)) ∈ lw_all := lw_g (lw_at lw_m3 83 rfl) rfl
theorem q672 : (Jvm.Cond.methodLink "HungryHedgeLaw" (35 : Nat) ({ cls := "HungryHedge", name := "way", desc := "(III)I" } : Jvm.MethodName)) ∈ lw_all := lw_g (lw_at lw_m3 87 rfl) rfl
theorem q676 : (Jvm.Cond.methodLink "HungryHedgeLaw" (39 : Nat) ({ cls := "HungryHedge", name := "dusk", desc := "(I)I" } : Jvm.MethodName)) ∈ lw_all := lw_g (lw_at lw_m3 91 rfl) rfl
theorem q680 : (Jvm.Cond.methodLink "HungryHedgeLaw" (44 : Nat) ({ cls := "HungryHedge", name := "perch", desc := "(I)I" } : Jvm.MethodName)) ∈ lw_all := lw_g (lw_at lw_m3 95 rfl) rfl
theorem q684 : (Jvm.Cond.methodLink "HungryHedgeLaw" (48 : Nat) ({ cls := "HungryHedge", name := "dawn", desc := "()I" } : Jvm.MethodName)) ∈ lw_all := lw_g (lw_at lw_m3 99 rfl) rfl
theorem q691 : (Jvm.Cond.methodLink "HungryHedgeLaw" (53 : Nat) ({ cls := "HungryHedge", name := "does", desc := "(I)I" } : Jvm.MethodName)) ∈ lw_all := lw_g (lw_at lw_m3 106 rfl) rfl
theorem q718 : (Jvm.Cond.methodLink "HungryHedgeLaw" (57 : Nat) ({ cls := "HungryHedge", name := "best", desc := "()I" } : Jvm.MethodName)) ∈ lw_all := lw_g (lw_at lw_m3 133 rfl) rfl
theorem q754 : (Jvm.Cond.methodLink "HungryHedgeLaw" (61 : Nat) ({ cls := "HungryHedge", name := "first", desc := "()I" } : Jvm.MethodName)) ∈ lw_all := lw_g (lw_at lw_m3 169 rfl) rfl
theorem q763 : (Jvm.Cond.methodLink "HungryHedgeLaw" (65 : Nat) ({ cls := "HungryHedge", name := "with", desc := "(I)I" } : Jvm.MethodName)) ∈ lw_all := lw_g (lw_at lw_m3 178 rfl) rfl
theorem q771 : (Jvm.Cond.methodLink "HungryHedgeLaw" (69 : Nat) ({ cls := "HungryHedge", name := "journey", desc := "(I)I" } : Jvm.MethodName)) ∈ lw_all := lw_g (lw_at lw_m3 186 rfl) rfl
theorem q775 : (Jvm.Cond.methodLink "HungryHedgeLaw" (73 : Nat) ({ cls := "HungryHedge", name := "rate", desc := "(I)I" } : Jvm.MethodName)) ∈ lw_all := lw_g (lw_at lw_m3 190 rfl) rfl
theorem q795 : (Jvm.Cond.methodLink "HungryHedgeLaw" (77 : Nat) ({ cls := "HungryHedge", name := "stay", desc := "(I)I" } : Jvm.MethodName)) ∈ lw_all := lw_g (lw_at lw_m3 210 rfl) rfl
theorem q799 : (Jvm.Cond.methodLink "HungryHedgeLaw" (81 : Nat) ({ cls := "HungryHedge", name := "load", desc := "(III)I" } : Jvm.MethodName)) ∈ lw_all := lw_g (lw_at lw_m3 214 rfl) rfl
theorem q804 : (Jvm.Cond.methodLink "HungryHedgeLaw" (89 : Nat) ({ cls := "HungryHedge", name := "dare", desc := "(II)J" } : Jvm.MethodName)) ∈ lw_all := lw_g (lw_at lw_m3 219 rfl) rfl
theorem q833 : (Jvm.Cond.methodLink "HungryHedgeLaw" (94 : Nat) ({ cls := "HungryHedge", name := "bold", desc := "(II)I" } : Jvm.MethodName)) ∈ lw_all := lw_g (lw_at lw_m4 8 rfl) rfl
theorem q838 : (Jvm.Cond.methodLink "HungryHedgeLaw" (98 : Nat) ({ cls := "HungryHedge", name := "alike", desc := "(III)J" } : Jvm.MethodName)) ∈ lw_all := lw_g (lw_at lw_m4 13 rfl) rfl
theorem q842 : (Jvm.Cond.methodLink "HungryHedgeLaw" (85 : Nat) ({ cls := "HungryHedge", name := "risk", desc := "(I)I" } : Jvm.MethodName)) ∈ lw_all := lw_g (lw_at lw_m4 17 rfl) rfl
theorem q901 : (Jvm.Cond.methodLink "HungryHedgeLaw" (23 : Nat) ({ cls := "HungryHedge", name := "yields", desc := "(II)I" } : Jvm.MethodName)) ∈ lw_all := lw_g (lw_at lw_m4 76 rfl) rfl
theorem q910 : (Jvm.Cond.methodLink "HungryHedgeLaw" (103 : Nat) ({ cls := "HungryHedge", name := "flock", desc := "(II)I" } : Jvm.MethodName)) ∈ lw_all := lw_g (lw_at lw_m4 85 rfl) rfl
theorem q914 : (Jvm.Cond.methodLink "HungryHedgeLaw" (107 : Nat) ({ cls := "HungryHedge", name := "rests", desc := "()I" } : Jvm.MethodName)) ∈ lw_all := lw_g (lw_at lw_m4 89 rfl) rfl
theorem q935 : (Jvm.Cond.methodLink "HungryHedgeLaw" (111 : Nat) ({ cls := "HungryHedge", name := "restOf", desc := "(II)I" } : Jvm.MethodName)) ∈ lw_all := lw_g (lw_at lw_m4 110 rfl) rfl
theorem q939 : (Jvm.Cond.methodLink "HungryHedgeLaw" (115 : Nat) ({ cls := "HungryHedge", name := "finders", desc := "(III)I" } : Jvm.MethodName)) ∈ lw_all := lw_g (lw_at lw_m4 114 rfl) rfl
theorem q943 : (Jvm.Cond.methodLink "HungryHedgeLaw" (121 : Nat) ({ cls := "HungryHedge", name := "feed", desc := "(JI)I" } : Jvm.MethodName)) ∈ lw_all := lw_g (lw_at lw_m4 118 rfl) rfl
theorem q947 : (Jvm.Cond.methodLink "HungryHedgeLaw" (126 : Nat) ({ cls := "HungryHedge", name := "read", desc := "()I" } : Jvm.MethodName)) ∈ lw_all := lw_g (lw_at lw_m4 122 rfl) rfl
theorem q1145 : (Jvm.Cond.methodLink "HungryHedgeLaw" (130 : Nat) ({ cls := "HungryHedge", name := "ruled", desc := "()I" } : Jvm.MethodName)) ∈ lw_all := lw_g (lw_at lw_m5 80 rfl) rfl
theorem q1196 : (Jvm.Cond.methodLink "HungryHedgeLaw" (134 : Nat) ({ cls := "HungryHedge", name := "clause", desc := "()I" } : Jvm.MethodName)) ∈ lw_all := lw_g (lw_at lw_m5 131 rfl) rfl
theorem q1200 : (Jvm.Cond.methodLink "HungryHedgeLaw" (138 : Nat) ({ cls := "HungryHedge", name := "run", desc := "()I" } : Jvm.MethodName)) ∈ lw_all := lw_g (lw_at lw_m5 135 rfl) rfl
theorem q1209 : (Jvm.Cond.methodLink "HungryHedgeLaw" (142 : Nat) ({ cls := "HungryHedge", name := "loss", desc := "()I" } : Jvm.MethodName)) ∈ lw_all := lw_g (lw_at lw_m5 144 rfl) rfl
theorem q1213 : (Jvm.Cond.methodLink "HungryHedgeLaw" (146 : Nat) ({ cls := "HungryHedge", name := "prove", desc := "()I" } : Jvm.MethodName)) ∈ lw_all := lw_g (lw_at lw_m5 148 rfl) rfl
theorem q1217 : (Jvm.Cond.methodLink "HungryHedgeLaw" (150 : Nat) ({ cls := "HungryHedge", name := "row", desc := "(II)I" } : Jvm.MethodName)) ∈ lw_all := lw_g (lw_at lw_m5 152 rfl) rfl
theorem q1225 : (Jvm.Cond.methodLink "HungryHedgeLaw" (154 : Nat) ({ cls := "HungryHedge", name := "alterRow", desc := "(III)I" } : Jvm.MethodName)) ∈ lw_all := lw_g (lw_at lw_m5 160 rfl) rfl
theorem q1230 : (Jvm.Cond.methodLink "HungryHedgeLaw" (158 : Nat) ({ cls := "HungryHedge", name := "judge", desc := "()I" } : Jvm.MethodName)) ∈ lw_all := lw_g (lw_at lw_m5 165 rfl) rfl
theorem q1238 : (Jvm.Cond.methodLink "HungryHedgeLaw" (162 : Nat) ({ cls := "HungryHedge", name := "sheet", desc := "(III)I" } : Jvm.MethodName)) ∈ lw_all := lw_g (lw_at lw_m5 173 rfl) rfl
theorem q1261 : (Jvm.Cond.methodLink "HungryHedgeLaw" (166 : Nat) ({ cls := "HungryHedge", name := "put", desc := "(III)I" } : Jvm.MethodName)) ∈ lw_all := lw_g (lw_at lw_m5 196 rfl) rfl
theorem q1278 : (Jvm.Cond.methodLink "HungryHedgeLaw" (170 : Nat) ({ cls := "HungryHedge", name := "item", desc := "(III)I" } : Jvm.MethodName)) ∈ lw_all := lw_g (lw_at lw_m5 213 rfl) rfl
theorem q1302 : (Jvm.Cond.methodLink "HungryHedgeLaw" (174 : Nat) ({ cls := "HungryHedge", name := "acts", desc := "(III)I" } : Jvm.MethodName)) ∈ lw_all := lw_g (lw_at lw_m5 237 rfl) rfl
theorem q1311 : (Jvm.Cond.methodLink "HungryHedgeLaw" (178 : Nat) ({ cls := "HungryHedge", name := "shelf", desc := "(III)I" } : Jvm.MethodName)) ∈ lw_all := lw_g (lw_at lw_m6 6 rfl) rfl
theorem q1322 : (Jvm.Cond.methodLink "HungryHedgeLaw" (182 : Nat) ({ cls := "HungryHedge", name := "taken", desc := "(II)I" } : Jvm.MethodName)) ∈ lw_all := lw_g (lw_at lw_m6 17 rfl) rfl
theorem q1478 : (Jvm.Cond.methodLink "HungryHedgeLaw" (186 : Nat) ({ cls := "HungryHedge", name := "act", desc := "(III)I" } : Jvm.MethodName)) ∈ lw_all := lw_g (lw_at lw_m6 173 rfl) rfl
theorem q1663 : (Jvm.Cond.methodLink "HungryHedgeLaw" (190 : Nat) ({ cls := "HungryHedge", name := "trace", desc := "(I)I" } : Jvm.MethodName)) ∈ lw_all := lw_g (lw_at lw_m7 118 rfl) rfl
theorem q1668 : (Jvm.Cond.methodLink "HungryHedgeLaw" (194 : Nat) ({ cls := "HungryHedge", name := "many", desc := "(I)I" } : Jvm.MethodName)) ∈ lw_all := lw_g (lw_at lw_m7 123 rfl) rfl
theorem q1672 : (Jvm.Cond.methodLink "HungryHedgeLaw" (198 : Nat) ({ cls := "HungryHedge", name := "keep", desc := "()I" } : Jvm.MethodName)) ∈ lw_all := lw_g (lw_at lw_m7 127 rfl) rfl
theorem q1685 : (Jvm.Cond.methodLink "HungryHedgeLaw" (202 : Nat) ({ cls := "HungryHedge", name := "again", desc := "()I" } : Jvm.MethodName)) ∈ lw_all := lw_g (lw_at lw_m7 140 rfl) rfl
theorem q1689 : (Jvm.Cond.classLink "HungryHedgeLaw" (10 : Nat) "HungryHedgeModel") ∈ lw_all := lw_g (lw_at lw_m7 144 rfl) rfl
theorem q1691 : (Jvm.Cond.methodLink "HungryHedgeLaw" (12 : Nat) ({ cls := "HungryHedgeModel", name := "<init>", desc := "()V" } : Jvm.MethodName)) ∈ lw_all := lw_g (lw_at lw_m7 146 rfl) rfl
theorem q1919 : (Jvm.Cond.methodLink "HungryHedgeLaw" (17 : Nat) ({ cls := "HungryHedgeModel", name := "patch", desc := "(III)I" } : Jvm.MethodName)) ∈ lw_all := lw_g (lw_at lw_m8 134 rfl) rfl
theorem q1932 : (Jvm.Cond.methodLink "HungryHedgeLaw" (22 : Nat) ({ cls := "HungryHedgeModel", name := "patchOf", desc := "(II)I" } : Jvm.MethodName)) ∈ lw_all := lw_g (lw_at lw_m8 147 rfl) rfl
theorem q1940 : (Jvm.Cond.methodLink "HungryHedgeLaw" (26 : Nat) ({ cls := "HungryHedgeModel", name := "yields", desc := "(II)I" } : Jvm.MethodName)) ∈ lw_all := lw_g (lw_at lw_m8 155 rfl) rfl
theorem q1952 : (Jvm.Cond.methodLink "HungryHedgeLaw" (30 : Nat) ({ cls := "HungryHedgeModel", name := "yieldOf", desc := "(II)I" } : Jvm.MethodName)) ∈ lw_all := lw_g (lw_at lw_m8 167 rfl) rfl
theorem q1960 : (Jvm.Cond.methodLink "HungryHedgeLaw" (34 : Nat) ({ cls := "HungryHedgeModel", name := "lay", desc := "(III)I" } : Jvm.MethodName)) ∈ lw_all := lw_g (lw_at lw_m8 175 rfl) rfl
theorem q1968 : (Jvm.Cond.methodLink "HungryHedgeLaw" (38 : Nat) ({ cls := "HungryHedgeModel", name := "way", desc := "(III)I" } : Jvm.MethodName)) ∈ lw_all := lw_g (lw_at lw_m8 183 rfl) rfl
theorem q1972 : (Jvm.Cond.methodLink "HungryHedgeLaw" (43 : Nat) ({ cls := "HungryHedgeModel", name := "dusk", desc := "(I)I" } : Jvm.MethodName)) ∈ lw_all := lw_g (lw_at lw_m8 187 rfl) rfl
theorem q1976 : (Jvm.Cond.methodLink "HungryHedgeLaw" (47 : Nat) ({ cls := "HungryHedgeModel", name := "perch", desc := "(I)I" } : Jvm.MethodName)) ∈ lw_all := lw_g (lw_at lw_m8 191 rfl) rfl
theorem q1980 : (Jvm.Cond.methodLink "HungryHedgeLaw" (52 : Nat) ({ cls := "HungryHedgeModel", name := "dawn", desc := "()I" } : Jvm.MethodName)) ∈ lw_all := lw_g (lw_at lw_m8 195 rfl) rfl
theorem q1984 : (Jvm.Cond.methodLink "HungryHedgeLaw" (56 : Nat) ({ cls := "HungryHedgeModel", name := "does", desc := "(I)I" } : Jvm.MethodName)) ∈ lw_all := lw_g (lw_at lw_m8 199 rfl) rfl
theorem q2003 : (Jvm.Cond.methodLink "HungryHedgeLaw" (60 : Nat) ({ cls := "HungryHedgeModel", name := "best", desc := "()I" } : Jvm.MethodName)) ∈ lw_all := lw_g (lw_at lw_m8 218 rfl) rfl
theorem q2022 : (Jvm.Cond.methodLink "HungryHedgeLaw" (64 : Nat) ({ cls := "HungryHedgeModel", name := "first", desc := "()I" } : Jvm.MethodName)) ∈ lw_all := lw_g (lw_at lw_m8 237 rfl) rfl
theorem q2034 : (Jvm.Cond.methodLink "HungryHedgeLaw" (68 : Nat) ({ cls := "HungryHedgeModel", name := "with", desc := "(I)I" } : Jvm.MethodName)) ∈ lw_all := lw_g (lw_at lw_m9 9 rfl) rfl
theorem q2038 : (Jvm.Cond.methodLink "HungryHedgeLaw" (72 : Nat) ({ cls := "HungryHedgeModel", name := "journey", desc := "(I)I" } : Jvm.MethodName)) ∈ lw_all := lw_g (lw_at lw_m9 13 rfl) rfl
theorem q2042 : (Jvm.Cond.methodLink "HungryHedgeLaw" (76 : Nat) ({ cls := "HungryHedgeModel", name := "rate", desc := "(I)I" } : Jvm.MethodName)) ∈ lw_all := lw_g (lw_at lw_m9 17 rfl) rfl
theorem q2061 : (Jvm.Cond.methodLink "HungryHedgeLaw" (80 : Nat) ({ cls := "HungryHedgeModel", name := "stay", desc := "(I)I" } : Jvm.MethodName)) ∈ lw_all := lw_g (lw_at lw_m9 36 rfl) rfl
theorem q2065 : (Jvm.Cond.methodLink "HungryHedgeLaw" (84 : Nat) ({ cls := "HungryHedgeModel", name := "load", desc := "(III)I" } : Jvm.MethodName)) ∈ lw_all := lw_g (lw_at lw_m9 40 rfl) rfl
theorem q2069 : (Jvm.Cond.methodLink "HungryHedgeLaw" (88 : Nat) ({ cls := "HungryHedgeModel", name := "risk", desc := "(I)I" } : Jvm.MethodName)) ∈ lw_all := lw_g (lw_at lw_m9 44 rfl) rfl
theorem q2074 : (Jvm.Cond.methodLink "HungryHedgeLaw" (93 : Nat) ({ cls := "HungryHedgeModel", name := "dare", desc := "(II)J" } : Jvm.MethodName)) ∈ lw_all := lw_g (lw_at lw_m9 49 rfl) rfl
theorem q2094 : (Jvm.Cond.methodLink "HungryHedgeLaw" (97 : Nat) ({ cls := "HungryHedgeModel", name := "bold", desc := "(II)I" } : Jvm.MethodName)) ∈ lw_all := lw_g (lw_at lw_m9 69 rfl) rfl
theorem q2098 : (Jvm.Cond.methodLink "HungryHedgeLaw" (102 : Nat) ({ cls := "HungryHedgeModel", name := "alike", desc := "(III)J" } : Jvm.MethodName)) ∈ lw_all := lw_g (lw_at lw_m9 73 rfl) rfl
theorem q2102 : (Jvm.Cond.methodLink "HungryHedgeLaw" (106 : Nat) ({ cls := "HungryHedgeModel", name := "flock", desc := "(II)I" } : Jvm.MethodName)) ∈ lw_all := lw_g (lw_at lw_m9 77 rfl) rfl
theorem q2106 : (Jvm.Cond.methodLink "HungryHedgeLaw" (110 : Nat) ({ cls := "HungryHedgeModel", name := "rests", desc := "()I" } : Jvm.MethodName)) ∈ lw_all := lw_g (lw_at lw_m9 81 rfl) rfl
theorem q2130 : (Jvm.Cond.methodLink "HungryHedgeLaw" (114 : Nat) ({ cls := "HungryHedgeModel", name := "restOf", desc := "(II)I" } : Jvm.MethodName)) ∈ lw_all := lw_g (lw_at lw_m9 105 rfl) rfl
theorem q2134 : (Jvm.Cond.methodLink "HungryHedgeLaw" (118 : Nat) ({ cls := "HungryHedgeModel", name := "finders", desc := "(III)I" } : Jvm.MethodName)) ∈ lw_all := lw_g (lw_at lw_m9 109 rfl) rfl
theorem q2138 : (Jvm.Cond.methodLink "HungryHedgeLaw" (125 : Nat) ({ cls := "HungryHedgeModel", name := "feed", desc := "(JI)I" } : Jvm.MethodName)) ∈ lw_all := lw_g (lw_at lw_m9 113 rfl) rfl
theorem q2143 : (Jvm.Cond.methodLink "HungryHedgeLaw" (129 : Nat) ({ cls := "HungryHedgeModel", name := "read", desc := "()I" } : Jvm.MethodName)) ∈ lw_all := lw_g (lw_at lw_m9 118 rfl) rfl
theorem q2223 : (Jvm.Cond.methodLink "HungryHedgeLaw" (133 : Nat) ({ cls := "HungryHedgeModel", name := "ruled", desc := "()I" } : Jvm.MethodName)) ∈ lw_all := lw_g (lw_at lw_m9 198 rfl) rfl
theorem q2250 : (Jvm.Cond.methodLink "HungryHedgeLaw" (137 : Nat) ({ cls := "HungryHedgeModel", name := "clause", desc := "()I" } : Jvm.MethodName)) ∈ lw_all := lw_g (lw_at lw_m9 225 rfl) rfl
theorem q2254 : (Jvm.Cond.methodLink "HungryHedgeLaw" (141 : Nat) ({ cls := "HungryHedgeModel", name := "run", desc := "()I" } : Jvm.MethodName)) ∈ lw_all := lw_g (lw_at lw_m9 229 rfl) rfl
theorem q2258 : (Jvm.Cond.methodLink "HungryHedgeLaw" (145 : Nat) ({ cls := "HungryHedgeModel", name := "loss", desc := "()I" } : Jvm.MethodName)) ∈ lw_all := lw_g (lw_at lw_m9 233 rfl) rfl
theorem q2264 : (Jvm.Cond.methodLink "HungryHedgeLaw" (149 : Nat) ({ cls := "HungryHedgeModel", name := "prove", desc := "()I" } : Jvm.MethodName)) ∈ lw_all := lw_g (lw_at lw_m9 239 rfl) rfl
theorem q2268 : (Jvm.Cond.methodLink "HungryHedgeLaw" (153 : Nat) ({ cls := "HungryHedgeModel", name := "row", desc := "(II)I" } : Jvm.MethodName)) ∈ lw_all := lw_g (lw_at lw_m10 3 rfl) rfl
theorem q2276 : (Jvm.Cond.methodLink "HungryHedgeLaw" (157 : Nat) ({ cls := "HungryHedgeModel", name := "alterRow", desc := "(III)I" } : Jvm.MethodName)) ∈ lw_all := lw_g (lw_at lw_m10 11 rfl) rfl
theorem q2280 : (Jvm.Cond.methodLink "HungryHedgeLaw" (161 : Nat) ({ cls := "HungryHedgeModel", name := "judge", desc := "()I" } : Jvm.MethodName)) ∈ lw_all := lw_g (lw_at lw_m10 15 rfl) rfl
theorem q2284 : (Jvm.Cond.methodLink "HungryHedgeLaw" (165 : Nat) ({ cls := "HungryHedgeModel", name := "sheet", desc := "(III)I" } : Jvm.MethodName)) ∈ lw_all := lw_g (lw_at lw_m10 19 rfl) rfl
theorem q2288 : (Jvm.Cond.methodLink "HungryHedgeLaw" (169 : Nat) ({ cls := "HungryHedgeModel", name := "put", desc := "(III)I" } : Jvm.MethodName)) ∈ lw_all := lw_g (lw_at lw_m10 23 rfl) rfl
theorem q2292 : (Jvm.Cond.methodLink "HungryHedgeLaw" (173 : Nat) ({ cls := "HungryHedgeModel", name := "item", desc := "(III)I" } : Jvm.MethodName)) ∈ lw_all := lw_g (lw_at lw_m10 27 rfl) rfl
theorem q2296 : (Jvm.Cond.methodLink "HungryHedgeLaw" (177 : Nat) ({ cls := "HungryHedgeModel", name := "acts", desc := "(III)I" } : Jvm.MethodName)) ∈ lw_all := lw_g (lw_at lw_m10 31 rfl) rfl
theorem q2301 : (Jvm.Cond.methodLink "HungryHedgeLaw" (181 : Nat) ({ cls := "HungryHedgeModel", name := "shelf", desc := "(III)I" } : Jvm.MethodName)) ∈ lw_all := lw_g (lw_at lw_m10 36 rfl) rfl
theorem q2309 : (Jvm.Cond.methodLink "HungryHedgeLaw" (185 : Nat) ({ cls := "HungryHedgeModel", name := "taken", desc := "(II)I" } : Jvm.MethodName)) ∈ lw_all := lw_g (lw_at lw_m10 44 rfl) rfl
theorem q2328 : (Jvm.Cond.methodLink "HungryHedgeLaw" (189 : Nat) ({ cls := "HungryHedgeModel", name := "act", desc := "(III)I" } : Jvm.MethodName)) ∈ lw_all := lw_g (lw_at lw_m10 63 rfl) rfl
theorem q2364 : (Jvm.Cond.methodLink "HungryHedgeLaw" (193 : Nat) ({ cls := "HungryHedgeModel", name := "trace", desc := "(I)I" } : Jvm.MethodName)) ∈ lw_all := lw_g (lw_at lw_m10 99 rfl) rfl
theorem q2368 : (Jvm.Cond.methodLink "HungryHedgeLaw" (197 : Nat) ({ cls := "HungryHedgeModel", name := "many", desc := "(I)I" } : Jvm.MethodName)) ∈ lw_all := lw_g (lw_at lw_m10 103 rfl) rfl
theorem q2372 : (Jvm.Cond.methodLink "HungryHedgeLaw" (201 : Nat) ({ cls := "HungryHedgeModel", name := "keep", desc := "()I" } : Jvm.MethodName)) ∈ lw_all := lw_g (lw_at lw_m10 107 rfl) rfl
theorem q2384 : (Jvm.Cond.methodLink "HungryHedgeLaw" (205 : Nat) ({ cls := "HungryHedgeModel", name := "again", desc := "()I" } : Jvm.MethodName)) ∈ lw_all := lw_g (lw_at lw_m10 119 rfl) rfl
theorem q2388 : (Jvm.Cond.constantLong "HungryHedgeLaw" (119 : Nat) (4294967295 : Int64)) ∈ lw_all := lw_g (lw_at lw_m10 123 rfl) rfl

theorem q126 : (Jvm.Cond.initialized "java/lang/System") ∈ lw_all := lw_g (lw_at lw_m1 21 rfl) rfl
set_option maxRecDepth 100000
theorem q689 : (Jvm.Cond.static ({ cls := "java/lang/System", name := "arraycopy", desc := "(Ljava/lang/Object;ILjava/lang/Object;II)V" } : Jvm.MethodName)) ∈ lw_all := lw_g (lw_at lw_m3 104 rfl) rfl
theorem q690 : (Jvm.Cond.native ({ cls := "java/lang/System", name := "arraycopy", desc := "(Ljava/lang/Object;ILjava/lang/Object;II)V" } : Jvm.MethodName)) ∈ lw_all := lw_g (lw_at lw_m3 105 rfl) rfl

theorem q1159 : (Jvm.Cond.interfaceMethod "HungryHedge$Cond" "HungryHedge$Cond" "holds" "(LHungryHedge;LHungryHedge$Trip;)Z") ∈ lw_tbl := lw_at lw_m5 94 rfl
set_option maxRecDepth 100000
theorem q1160 : (Jvm.Cond.declares ({ cls := "HungryHedge$Cond", name := "holds", desc := "(LHungryHedge;LHungryHedge$Trip;)Z" } : Jvm.MethodName)) ∈ lw_tbl := lw_at lw_m5 95 rfl

theorem q1595 : (Jvm.Cond.publicMethod ({ cls := "HungryHedge$Flies", name := "flies", desc := "(I)I" } : Jvm.MethodName)) ∈ lw_tbl := lw_at lw_m7 50 rfl
set_option maxRecDepth 100000
theorem q1596 : (Jvm.Cond.declares ({ cls := "HungryHedge$Flies", name := "flies", desc := "(I)I" } : Jvm.MethodName)) ∈ lw_tbl := lw_at lw_m7 51 rfl

theorem q1628 : (Jvm.Cond.interfaceMethod "HungryHedge$Tells" "HungryHedge$Tells" "tells" "(I)I") ∈ lw_tbl := lw_at lw_m7 83 rfl
set_option maxRecDepth 100000
theorem q1629 : (Jvm.Cond.declares ({ cls := "HungryHedge$Tells", name := "tells", desc := "(I)I" } : Jvm.MethodName)) ∈ lw_tbl := lw_at lw_m7 84 rfl

/-! the law's own entry -/
set_option maxRecDepth 100000
abbrev cL_law : ByteArray := code
def dkwL_law_58 : List UInt8 := [43, 182, 0, 202, 44, 182, 0, 205, 159, 0, 5, 3, 172, 132, 3, 4, 167, 249, 255, 4, 172]
abbrev dktL_law_58 : List UInt8 := dkwL_law_58 ++ []
def dkwL_law_57 : List UInt8 := [4, 96, 46, 182, 0, 197, 159, 0, 31, 3, 172, 43, 182, 0, 198, 44, 182, 0, 201, 159, 0, 18, 3, 172]
abbrev dktL_law_57 : List UInt8 := dkwL_law_57 ++ dktL_law_58
def dkwL_law_56 : List UInt8 := [29, 4, 96, 46, 182, 0, 193, 159, 0, 54, 3, 172, 43, 42, 29, 4, 96, 46, 182, 0, 194, 44, 42, 29]
abbrev dktL_law_56 : List UInt8 := dkwL_law_56 ++ dktL_law_57
def dkwL_law_55 : List UInt8 := [42, 29, 6, 96, 46, 182, 0, 189, 159, 0, 77, 3, 172, 43, 42, 29, 4, 96, 46, 182, 0, 190, 44, 42]
abbrev dktL_law_55 : List UInt8 := dkwL_law_55 ++ dktL_law_56
def dkwL_law_54 : List UInt8 := [42, 29, 5, 96, 46, 42, 29, 6, 96, 46, 182, 0, 186, 44, 42, 29, 4, 96, 46, 42, 29, 5, 96, 46]
abbrev dktL_law_54 : List UInt8 := dkwL_law_54 ++ dktL_law_55
def dkwL_law_53 : List UInt8 := [42, 29, 4, 96, 46, 42, 29, 5, 96, 46, 182, 0, 185, 159, 0, 120, 3, 172, 43, 42, 29, 4, 96, 46]
abbrev dktL_law_53 : List UInt8 := dkwL_law_53 ++ dktL_law_54
def dkwL_law_52 : List UInt8 := [46, 182, 0, 181, 159, 0, 153, 3, 172, 43, 42, 29, 4, 96, 46, 42, 29, 5, 96, 46, 182, 0, 182, 44]
abbrev dktL_law_52 : List UInt8 := dkwL_law_52 ++ dktL_law_53
def dkwL_law_51 : List UInt8 := [46, 42, 29, 6, 96, 46, 182, 0, 178, 44, 42, 29, 4, 96, 46, 42, 29, 5, 96, 46, 42, 29, 6, 96]
abbrev dktL_law_51 : List UInt8 := dkwL_law_51 ++ dktL_law_52
def dkwL_law_50 : List UInt8 := [46, 42, 29, 6, 96, 46, 182, 0, 177, 159, 0, 196, 3, 172, 43, 42, 29, 4, 96, 46, 42, 29, 5, 96]
abbrev dktL_law_50 : List UInt8 := dkwL_law_50 ++ dktL_law_51
def dkwL_law_49 : List UInt8 := [46, 42, 29, 5, 96, 46, 42, 29, 6, 96, 46, 182, 0, 174, 44, 42, 29, 4, 96, 46, 42, 29, 5, 96]
abbrev dktL_law_49 : List UInt8 := dkwL_law_49 ++ dktL_law_50
def dkwL_law_48 : List UInt8 := [46, 42, 29, 5, 96, 46, 42, 29, 6, 96, 46, 182, 0, 173, 159, 0, 239, 3, 172, 43, 42, 29, 4, 96]
abbrev dktL_law_48 : List UInt8 := dkwL_law_48 ++ dktL_law_49
def dkwL_law_47 : List UInt8 := [43, 42, 29, 4, 96, 46, 42, 29, 5, 96, 46, 42, 29, 6, 96, 46, 182, 0, 170, 44, 42, 29, 4, 96]
abbrev dktL_law_47 : List UInt8 := dkwL_law_47 ++ dktL_law_48
def dkwL_law_46 : List UInt8 := [44, 42, 29, 4, 96, 46, 42, 29, 5, 96, 46, 42, 29, 6, 96, 46, 182, 0, 169, 159, 1, 26, 3, 172]
abbrev dktL_law_46 : List UInt8 := dkwL_law_46 ++ dktL_law_47
def dkwL_law_45 : List UInt8 := [159, 1, 69, 3, 172, 43, 42, 29, 4, 96, 46, 42, 29, 5, 96, 46, 42, 29, 6, 96, 46, 182, 0, 166]
abbrev dktL_law_45 : List UInt8 := dkwL_law_45 ++ dktL_law_46
def dkwL_law_44 : List UInt8 := [182, 0, 162, 44, 42, 29, 4, 96, 46, 42, 29, 5, 96, 46, 42, 29, 6, 96, 46, 182, 0, 165]
abbrev dktL_law_44 : List UInt8 := dkwL_law_44 ++ dktL_law_45
def dkwL_law_43 : List UInt8 := [182, 0, 161, 159, 1, 112, 3, 172, 43, 42, 29, 4, 96, 46, 42, 29, 5, 96, 46, 42, 29, 6, 96, 46]
abbrev dktL_law_43 : List UInt8 := dkwL_law_43 ++ dktL_law_44
def dkwL_law_42 : List UInt8 := [42, 29, 5, 96, 46, 42, 29, 6, 96, 46, 182, 0, 157, 159, 1, 125, 3, 172, 43, 182, 0, 158, 44]
abbrev dktL_law_42 : List UInt8 := dkwL_law_42 ++ dktL_law_43
def dkwL_law_41 : List UInt8 := [42, 29, 4, 96, 46, 42, 29, 5, 96, 46, 42, 29, 6, 96, 46, 182, 0, 154, 44, 42, 29, 4, 96, 46]
abbrev dktL_law_41 : List UInt8 := dkwL_law_41 ++ dktL_law_42
def dkwL_law_40 : List UInt8 := [46, 182, 0, 150, 44, 42, 29, 4, 96, 46, 42, 29, 5, 96, 46, 182, 0, 153, 159, 1, 168, 3, 172, 43]
abbrev dktL_law_40 : List UInt8 := dkwL_law_40 ++ dktL_law_41
def dkwL_law_39 : List UInt8 := [172, 43, 182, 0, 146, 44, 182, 0, 149, 159, 1, 201, 3, 172, 43, 42, 29, 4, 96, 46, 42, 29, 5, 96]
abbrev dktL_law_39 : List UInt8 := dkwL_law_39 ++ dktL_law_40
def dkwL_law_38 : List UInt8 := [182, 0, 138, 44, 182, 0, 141, 159, 1, 227, 3, 172, 43, 182, 0, 142, 44, 182, 0, 145, 159, 1, 214, 3]
abbrev dktL_law_38 : List UInt8 := dkwL_law_38 ++ dktL_law_39
def dkwL_law_37 : List UInt8 := [182, 0, 133, 159, 1, 253, 3, 172, 43, 182, 0, 134, 44, 182, 0, 137, 159, 1, 240, 3, 172, 43]
abbrev dktL_law_37 : List UInt8 := dkwL_law_37 ++ dktL_law_38
def dkwL_law_36 : List UInt8 := [159, 2, 23, 3, 172, 43, 182, 0, 126, 44, 182, 0, 129, 159, 2, 10, 3, 172, 43, 182, 0, 130, 44]
abbrev dktL_law_36 : List UInt8 := dkwL_law_36 ++ dktL_law_37
def dkwL_law_35 : List UInt8 := [16, 32, 121, 42, 29, 5, 96, 46, 133, 20, 0, 119, 127, 129, 42, 29, 6, 96, 46, 182, 0, 125]
abbrev dktL_law_35 : List UInt8 := dkwL_law_35 ++ dktL_law_36
def dkwL_law_34 : List UInt8 := [5, 96, 46, 133, 20, 0, 119, 127, 129, 42, 29, 6, 96, 46, 182, 0, 121, 44, 42, 29, 4, 96, 46, 133]
abbrev dktL_law_34 : List UInt8 := dkwL_law_34 ++ dktL_law_35
def dkwL_law_33 : List UInt8 := [29, 6, 96, 46, 182, 0, 118, 159, 2, 86, 3, 172, 43, 42, 29, 4, 96, 46, 133, 16, 32, 121, 42, 29]
abbrev dktL_law_33 : List UInt8 := dkwL_law_33 ++ dktL_law_34
def dkwL_law_32 : List UInt8 := [29, 5, 96, 46, 42, 29, 6, 96, 46, 182, 0, 115, 44, 42, 29, 4, 96, 46, 42, 29, 5, 96, 46, 42]
abbrev dktL_law_32 : List UInt8 := dkwL_law_32 ++ dktL_law_33
def dkwL_law_31 : List UInt8 := [29, 4, 96, 46, 42, 29, 5, 96, 46, 182, 0, 114, 159, 2, 129, 3, 172, 43, 42, 29, 4, 96, 46, 42]
abbrev dktL_law_31 : List UInt8 := dkwL_law_31 ++ dktL_law_32
def dkwL_law_30 : List UInt8 := [182, 0, 110, 159, 2, 162, 3, 172, 43, 42, 29, 4, 96, 46, 42, 29, 5, 96, 46, 182, 0, 111, 44, 42]
abbrev dktL_law_30 : List UInt8 := dkwL_law_30 ++ dktL_law_31
def dkwL_law_29 : List UInt8 := [44, 42, 29, 4, 96, 46, 42, 29, 5, 96, 46, 182, 0, 106, 159, 2, 175, 3, 172, 43, 182, 0, 107, 44]
abbrev dktL_law_29 : List UInt8 := dkwL_law_29 ++ dktL_law_30
def dkwL_law_28 : List UInt8 := [46, 182, 0, 102, 148, 153, 2, 208, 3, 172, 43, 42, 29, 4, 96, 46, 42, 29, 5, 96, 46, 182, 0, 103]
abbrev dktL_law_28 : List UInt8 := dkwL_law_28 ++ dktL_law_29
def dkwL_law_27 : List UInt8 := [46, 42, 29, 6, 96, 46, 182, 0, 98, 44, 42, 29, 4, 96, 46, 42, 29, 5, 96, 46, 42, 29, 6, 96]
abbrev dktL_law_27 : List UInt8 := dkwL_law_27 ++ dktL_law_28
def dkwL_law_26 : List UInt8 := [46, 42, 29, 5, 96, 46, 182, 0, 97, 159, 2, 252, 3, 172, 43, 42, 29, 4, 96, 46, 42, 29, 5, 96]
abbrev dktL_law_26 : List UInt8 := dkwL_law_26 ++ dktL_law_27
def dkwL_law_25 : List UInt8 := [153, 3, 29, 3, 172, 43, 42, 29, 4, 96, 46, 42, 29, 5, 96, 46, 182, 0, 94, 44, 42, 29, 4, 96]
abbrev dktL_law_25 : List UInt8 := dkwL_law_25 ++ dktL_law_26
def dkwL_law_24 : List UInt8 := [29, 5, 96, 46, 182, 0, 89, 44, 42, 29, 4, 96, 46, 42, 29, 5, 96, 46, 182, 0, 93, 148]
abbrev dktL_law_24 : List UInt8 := dkwL_law_24 ++ dktL_law_25
def dkwL_law_23 : List UInt8 := [182, 0, 85, 44, 42, 29, 4, 96, 46, 182, 0, 88, 159, 3, 63, 3, 172, 43, 42, 29, 4, 96, 46, 42]
abbrev dktL_law_23 : List UInt8 := dkwL_law_23 ++ dktL_law_24
def dkwL_law_22 : List UInt8 := [5, 96, 46, 42, 29, 6, 96, 46, 182, 0, 84, 159, 3, 86, 3, 172, 43, 42, 29, 4, 96, 46]
abbrev dktL_law_22 : List UInt8 := dkwL_law_22 ++ dktL_law_23
def dkwL_law_21 : List UInt8 := [4, 96, 46, 42, 29, 5, 96, 46, 42, 29, 6, 96, 46, 182, 0, 81, 44, 42, 29, 4, 96, 46, 42, 29]
abbrev dktL_law_21 : List UInt8 := dkwL_law_21 ++ dktL_law_22
def dkwL_law_20 : List UInt8 := [29, 4, 96, 46, 182, 0, 77, 44, 42, 29, 4, 96, 46, 182, 0, 80, 159, 3, 129, 3, 172, 43, 42, 29]
abbrev dktL_law_20 : List UInt8 := dkwL_law_20 ++ dktL_law_21
def dkwL_law_19 : List UInt8 := [42, 29, 4, 96, 46, 182, 0, 73, 44, 42, 29, 4, 96, 46, 182, 0, 76, 159, 3, 152, 3, 172, 43, 42]
abbrev dktL_law_19 : List UInt8 := dkwL_law_19 ++ dktL_law_20
def dkwL_law_18 : List UInt8 := [43, 42, 29, 4, 96, 46, 182, 0, 69, 44, 42, 29, 4, 96, 46, 182, 0, 72, 159, 3, 175, 3, 172, 43]
abbrev dktL_law_18 : List UInt8 := dkwL_law_18 ++ dktL_law_19
def dkwL_law_17 : List UInt8 := [172, 43, 42, 29, 4, 96, 46, 182, 0, 65, 44, 42, 29, 4, 96, 46, 182, 0, 68, 159, 3, 198, 3, 172]
abbrev dktL_law_17 : List UInt8 := dkwL_law_17 ++ dktL_law_18
def dkwL_law_16 : List UInt8 := [182, 0, 57, 44, 182, 0, 60, 159, 3, 234, 3, 172, 43, 182, 0, 61, 44, 182, 0, 64, 159, 3, 221, 3]
abbrev dktL_law_16 : List UInt8 := dkwL_law_16 ++ dktL_law_17
def dkwL_law_15 : List UInt8 := [43, 42, 29, 4, 96, 46, 182, 0, 53, 44, 42, 29, 4, 96, 46, 182, 0, 56, 159, 3, 247, 3, 172, 43]
abbrev dktL_law_15 : List UInt8 := dkwL_law_15 ++ dktL_law_16
def dkwL_law_14 : List UInt8 := [4, 96, 46, 182, 0, 47, 159, 4, 27, 3, 172, 43, 182, 0, 48, 44, 182, 0, 52, 159, 4, 14, 3, 172]
abbrev dktL_law_14 : List UInt8 := dkwL_law_14 ++ dktL_law_15
def dkwL_law_13 : List UInt8 := [29, 4, 96, 46, 182, 0, 43, 159, 4, 50, 3, 172, 43, 42, 29, 4, 96, 46, 182, 0, 44, 44, 42, 29]
abbrev dktL_law_13 : List UInt8 := dkwL_law_13 ++ dktL_law_14
def dkwL_law_12 : List UInt8 := [42, 29, 6, 96, 46, 182, 0, 38, 159, 4, 73, 3, 172, 43, 42, 29, 4, 96, 46, 182, 0, 39, 44, 42]
abbrev dktL_law_12 : List UInt8 := dkwL_law_12 ++ dktL_law_13
def dkwL_law_11 : List UInt8 := [42, 29, 5, 96, 46, 42, 29, 6, 96, 46, 182, 0, 35, 44, 42, 29, 4, 96, 46, 42, 29, 5, 96, 46]
abbrev dktL_law_11 : List UInt8 := dkwL_law_11 ++ dktL_law_12
def dkwL_law_10 : List UInt8 := [42, 29, 5, 96, 46, 42, 29, 6, 96, 46, 182, 0, 34, 159, 4, 116, 3, 172, 43, 42, 29, 4, 96, 46]
abbrev dktL_law_10 : List UInt8 := dkwL_law_10 ++ dktL_law_11
def dkwL_law_9 : List UInt8 := [42, 29, 4, 96, 46, 42, 29, 5, 96, 46, 42, 29, 6, 96, 46, 182, 0, 31, 44, 42, 29, 4, 96, 46]
abbrev dktL_law_9 : List UInt8 := dkwL_law_9 ++ dktL_law_10
def dkwL_law_8 : List UInt8 := [46, 182, 0, 27, 44, 42, 29, 4, 96, 46, 42, 29, 5, 96, 46, 182, 0, 30, 159, 4, 159, 3, 172, 43]
abbrev dktL_law_8 : List UInt8 := dkwL_law_8 ++ dktL_law_9
def dkwL_law_7 : List UInt8 := [46, 42, 29, 5, 96, 46, 182, 0, 26, 159, 4, 192, 3, 172, 43, 42, 29, 4, 96, 46, 42, 29, 5, 96]
abbrev dktL_law_7 : List UInt8 := dkwL_law_7 ++ dktL_law_8
def dkwL_law_6 : List UInt8 := [159, 4, 225, 3, 172, 43, 42, 29, 4, 96, 46, 42, 29, 5, 96, 46, 182, 0, 23, 44, 42, 29, 4, 96]
abbrev dktL_law_6 : List UInt8 := dkwL_law_6 ++ dktL_law_7
def dkwL_law_5 : List UInt8 := [46, 42, 29, 5, 96, 46, 182, 0, 18, 44, 42, 29, 4, 96, 46, 42, 29, 5, 96, 46, 182, 0, 22]
abbrev dktL_law_5 : List UInt8 := dkwL_law_5 ++ dktL_law_6
def dkwL_law_4 : List UInt8 := [46, 42, 29, 5, 96, 46, 42, 29, 6, 96, 46, 182, 0, 17, 159, 5, 2, 3, 172, 43, 42, 29, 4, 96]
abbrev dktL_law_4 : List UInt8 := dkwL_law_4 ++ dktL_law_5
def dkwL_law_3 : List UInt8 := [43, 42, 29, 4, 96, 46, 42, 29, 5, 96, 46, 42, 29, 6, 96, 46, 182, 0, 13, 44, 42, 29, 4, 96]
abbrev dktL_law_3 : List UInt8 := dkwL_law_3 ++ dktL_law_4
def dkwL_law_2 : List UInt8 := [170, 0, 0, 0, 0, 0, 5, 240, 0, 0, 0, 0, 0, 0, 0, 45, 0, 0, 0, 200, 0, 0, 0, 243, 0, 0, 1, 20, 0, 0, 1, 53, 0, 0, 1, 86, 0, 0, 1, 129, 0, 0, 1, 172, 0, 0, 1, 195, 0, 0, 1, 218, 0, 0, 1, 231, 0, 0, 1, 254, 0, 0, 2, 11, 0, 0, 2, 24, 0, 0, 2, 47, 0, 0, 2, 70, 0, 0, 2, 93, 0, 0, 2, 116, 0, 0, 2, 159, 0, 0, 2, 182, 0, 0, 2, 216, 0, 0, 2, 249, 0, 0, 3, 37, 0, 0, 3, 70, 0, 0, 3, 83, 0, 0, 3, 116, 0, 0, 3, 159, 0, 0, 3, 222, 0, 0, 3, 235, 0, 0, 3, 248, 0, 0, 4, 5, 0, 0, 4, 18, 0, 0, 4, 31, 0, 0, 4, 44, 0, 0, 4, 77, 0, 0, 4, 120, 0, 0, 4, 133, 0, 0, 4, 176, 0, 0, 4, 219, 0, 0, 5, 6, 0, 0, 5, 49, 0, 0, 5, 92, 0, 0, 5, 125, 0, 0, 5, 168, 0, 0, 5, 191, 0, 0, 5, 214, 0, 0, 5, 227]
abbrev dktL_law_2 : List UInt8 := dkwL_law_2 ++ dktL_law_3
def dkwL_law_1 : List UInt8 := [163, 5, 255, 42, 29, 46, 16, 63, 126]
abbrev dktL_law_1 : List UInt8 := dkwL_law_1 ++ dktL_law_2
def dkwL_law_0 : List UInt8 := [187, 0, 7, 89, 183, 0, 9, 76, 187, 0, 10, 89, 183, 0, 12, 77, 3, 62, 29, 42, 190, 7, 100]
abbrev dktL_law_0 : List UInt8 := dkwL_law_0 ++ dktL_law_1
theorem dksL_law_0 : cL_law.data.toList.drop 0 = dktL_law_0 := by decide +kernel
theorem dksL_law_1 : cL_law.data.toList.drop 23 = dktL_law_1 := dk_seg dksL_law_0 23 rfl rfl
theorem dksL_law_2 : cL_law.data.toList.drop 32 = dktL_law_2 := dk_seg dksL_law_1 9 rfl rfl
theorem dksL_law_3 : cL_law.data.toList.drop 232 = dktL_law_3 := dk_seg dksL_law_2 200 rfl rfl
theorem dksL_law_4 : cL_law.data.toList.drop 256 = dktL_law_4 := dk_seg dksL_law_3 24 rfl rfl
theorem dksL_law_5 : cL_law.data.toList.drop 280 = dktL_law_5 := dk_seg dksL_law_4 24 rfl rfl
theorem dksL_law_6 : cL_law.data.toList.drop 303 = dktL_law_6 := dk_seg dksL_law_5 23 rfl rfl
theorem dksL_law_7 : cL_law.data.toList.drop 327 = dktL_law_7 := dk_seg dksL_law_6 24 rfl rfl
theorem dksL_law_8 : cL_law.data.toList.drop 351 = dktL_law_8 := dk_seg dksL_law_7 24 rfl rfl
theorem dksL_law_9 : cL_law.data.toList.drop 375 = dktL_law_9 := dk_seg dksL_law_8 24 rfl rfl
theorem dksL_law_10 : cL_law.data.toList.drop 399 = dktL_law_10 := dk_seg dksL_law_9 24 rfl rfl
theorem dksL_law_11 : cL_law.data.toList.drop 423 = dktL_law_11 := dk_seg dksL_law_10 24 rfl rfl
theorem dksL_law_12 : cL_law.data.toList.drop 447 = dktL_law_12 := dk_seg dksL_law_11 24 rfl rfl
theorem dksL_law_13 : cL_law.data.toList.drop 471 = dktL_law_13 := dk_seg dksL_law_12 24 rfl rfl
theorem dksL_law_14 : cL_law.data.toList.drop 495 = dktL_law_14 := dk_seg dksL_law_13 24 rfl rfl
theorem dksL_law_15 : cL_law.data.toList.drop 519 = dktL_law_15 := dk_seg dksL_law_14 24 rfl rfl
theorem dksL_law_16 : cL_law.data.toList.drop 543 = dktL_law_16 := dk_seg dksL_law_15 24 rfl rfl
theorem dksL_law_17 : cL_law.data.toList.drop 567 = dktL_law_17 := dk_seg dksL_law_16 24 rfl rfl
theorem dksL_law_18 : cL_law.data.toList.drop 591 = dktL_law_18 := dk_seg dksL_law_17 24 rfl rfl
theorem dksL_law_19 : cL_law.data.toList.drop 615 = dktL_law_19 := dk_seg dksL_law_18 24 rfl rfl
theorem dksL_law_20 : cL_law.data.toList.drop 639 = dktL_law_20 := dk_seg dksL_law_19 24 rfl rfl
theorem dksL_law_21 : cL_law.data.toList.drop 663 = dktL_law_21 := dk_seg dksL_law_20 24 rfl rfl
theorem dksL_law_22 : cL_law.data.toList.drop 687 = dktL_law_22 := dk_seg dksL_law_21 24 rfl rfl
theorem dksL_law_23 : cL_law.data.toList.drop 709 = dktL_law_23 := dk_seg dksL_law_22 22 rfl rfl
theorem dksL_law_24 : cL_law.data.toList.drop 733 = dktL_law_24 := dk_seg dksL_law_23 24 rfl rfl
theorem dksL_law_25 : cL_law.data.toList.drop 755 = dktL_law_25 := dk_seg dksL_law_24 22 rfl rfl
theorem dksL_law_26 : cL_law.data.toList.drop 779 = dktL_law_26 := dk_seg dksL_law_25 24 rfl rfl
theorem dksL_law_27 : cL_law.data.toList.drop 803 = dktL_law_27 := dk_seg dksL_law_26 24 rfl rfl
theorem dksL_law_28 : cL_law.data.toList.drop 827 = dktL_law_28 := dk_seg dksL_law_27 24 rfl rfl
theorem dksL_law_29 : cL_law.data.toList.drop 851 = dktL_law_29 := dk_seg dksL_law_28 24 rfl rfl
theorem dksL_law_30 : cL_law.data.toList.drop 875 = dktL_law_30 := dk_seg dksL_law_29 24 rfl rfl
theorem dksL_law_31 : cL_law.data.toList.drop 899 = dktL_law_31 := dk_seg dksL_law_30 24 rfl rfl
theorem dksL_law_32 : cL_law.data.toList.drop 923 = dktL_law_32 := dk_seg dksL_law_31 24 rfl rfl
theorem dksL_law_33 : cL_law.data.toList.drop 947 = dktL_law_33 := dk_seg dksL_law_32 24 rfl rfl
theorem dksL_law_34 : cL_law.data.toList.drop 971 = dktL_law_34 := dk_seg dksL_law_33 24 rfl rfl
theorem dksL_law_35 : cL_law.data.toList.drop 995 = dktL_law_35 := dk_seg dksL_law_34 24 rfl rfl
theorem dksL_law_36 : cL_law.data.toList.drop 1017 = dktL_law_36 := dk_seg dksL_law_35 22 rfl rfl
theorem dksL_law_37 : cL_law.data.toList.drop 1040 = dktL_law_37 := dk_seg dksL_law_36 23 rfl rfl
theorem dksL_law_38 : cL_law.data.toList.drop 1062 = dktL_law_38 := dk_seg dksL_law_37 22 rfl rfl
theorem dksL_law_39 : cL_law.data.toList.drop 1086 = dktL_law_39 := dk_seg dksL_law_38 24 rfl rfl
theorem dksL_law_40 : cL_law.data.toList.drop 1110 = dktL_law_40 := dk_seg dksL_law_39 24 rfl rfl
theorem dksL_law_41 : cL_law.data.toList.drop 1134 = dktL_law_41 := dk_seg dksL_law_40 24 rfl rfl
theorem dksL_law_42 : cL_law.data.toList.drop 1158 = dktL_law_42 := dk_seg dksL_law_41 24 rfl rfl
theorem dksL_law_43 : cL_law.data.toList.drop 1181 = dktL_law_43 := dk_seg dksL_law_42 23 rfl rfl
theorem dksL_law_44 : cL_law.data.toList.drop 1205 = dktL_law_44 := dk_seg dksL_law_43 24 rfl rfl
theorem dksL_law_45 : cL_law.data.toList.drop 1227 = dktL_law_45 := dk_seg dksL_law_44 22 rfl rfl
theorem dksL_law_46 : cL_law.data.toList.drop 1251 = dktL_law_46 := dk_seg dksL_law_45 24 rfl rfl
theorem dksL_law_47 : cL_law.data.toList.drop 1275 = dktL_law_47 := dk_seg dksL_law_46 24 rfl rfl
theorem dksL_law_48 : cL_law.data.toList.drop 1299 = dktL_law_48 := dk_seg dksL_law_47 24 rfl rfl
theorem dksL_law_49 : cL_law.data.toList.drop 1323 = dktL_law_49 := dk_seg dksL_law_48 24 rfl rfl
theorem dksL_law_50 : cL_law.data.toList.drop 1347 = dktL_law_50 := dk_seg dksL_law_49 24 rfl rfl
theorem dksL_law_51 : cL_law.data.toList.drop 1371 = dktL_law_51 := dk_seg dksL_law_50 24 rfl rfl
theorem dksL_law_52 : cL_law.data.toList.drop 1395 = dktL_law_52 := dk_seg dksL_law_51 24 rfl rfl
theorem dksL_law_53 : cL_law.data.toList.drop 1419 = dktL_law_53 := dk_seg dksL_law_52 24 rfl rfl
theorem dksL_law_54 : cL_law.data.toList.drop 1443 = dktL_law_54 := dk_seg dksL_law_53 24 rfl rfl
theorem dksL_law_55 : cL_law.data.toList.drop 1467 = dktL_law_55 := dk_seg dksL_law_54 24 rfl rfl
theorem dksL_law_56 : cL_law.data.toList.drop 1491 = dktL_law_56 := dk_seg dksL_law_55 24 rfl rfl
theorem dksL_law_57 : cL_law.data.toList.drop 1515 = dktL_law_57 := dk_seg dksL_law_56 24 rfl rfl
theorem dksL_law_58 : cL_law.data.toList.drop 1539 = dktL_law_58 := dk_seg dksL_law_57 24 rfl rfl
theorem dL_law_0 : decode cL_law 0 = .ok (.new 7, 3) := dk_187 0 7 (dk_at dksL_law_0 0 rfl rfl)
theorem dL_law_3 : decode cL_law 3 = .ok (.dup, 1) := dk_89 (dk_at dksL_law_0 3 rfl rfl)
theorem dL_law_4 : decode cL_law 4 = .ok (.invokespecial 9, 3) := dk_183 0 9 (dk_at dksL_law_0 4 rfl rfl)
theorem dL_law_7 : decode cL_law 7 = .ok (.astore_n 1, 1) := dk_76 (dk_at dksL_law_0 7 rfl rfl)
theorem dL_law_8 : decode cL_law 8 = .ok (.new 10, 3) := dk_187 0 10 (dk_at dksL_law_0 8 rfl rfl)
theorem dL_law_11 : decode cL_law 11 = .ok (.dup, 1) := dk_89 (dk_at dksL_law_0 11 rfl rfl)
theorem dL_law_12 : decode cL_law 12 = .ok (.invokespecial 12, 3) := dk_183 0 12 (dk_at dksL_law_0 12 rfl rfl)
theorem dL_law_15 : decode cL_law 15 = .ok (.astore_n 2, 1) := dk_77 (dk_at dksL_law_0 15 rfl rfl)
theorem dL_law_16 : decode cL_law 16 = .ok (.iconst 0, 1) := dk_3 (dk_at dksL_law_0 16 rfl rfl)
theorem dL_law_17 : decode cL_law 17 = .ok (.istore_n 3, 1) := dk_62 (dk_at dksL_law_0 17 rfl rfl)
theorem dL_law_18 : decode cL_law 18 = .ok (.iload_n 3, 1) := dk_29 (dk_at dksL_law_0 18 rfl rfl)
theorem dL_law_19 : decode cL_law 19 = .ok (.aload_n 0, 1) := dk_42 (dk_at dksL_law_0 19 rfl rfl)
theorem dL_law_20 : decode cL_law 20 = .ok (.arraylength, 1) := dk_190 (dk_at dksL_law_0 20 rfl rfl)
theorem dL_law_21 : decode cL_law 21 = .ok (.iconst 4, 1) := dk_7 (dk_at dksL_law_0 21 rfl rfl)
theorem dL_law_22 : decode cL_law 22 = .ok (.isub, 1) := dk_100 (dk_at dksL_law_0 22 rfl rfl)
theorem dL_law_23 : decode cL_law 23 = .ok (.if_icmp .gt 1535, 3) := dk_163 5 255 (dk_at dksL_law_1 0 rfl rfl)
theorem dL_law_26 : decode cL_law 26 = .ok (.aload_n 0, 1) := dk_42 (dk_at dksL_law_1 3 rfl rfl)
theorem dL_law_27 : decode cL_law 27 = .ok (.iload_n 3, 1) := dk_29 (dk_at dksL_law_1 4 rfl rfl)
theorem dL_law_28 : decode cL_law 28 = .ok (.iaload, 1) := dk_46 (dk_at dksL_law_1 5 rfl rfl)
theorem dL_law_29 : decode cL_law 29 = .ok (.bipush 63, 2) := dk_16 63 (dk_at dksL_law_1 6 rfl rfl)
theorem dL_law_31 : decode cL_law 31 = .ok (.iand, 1) := dk_126 (dk_at dksL_law_1 8 rfl rfl)
theorem dL_law_32 : decode cL_law 32 = .ok (.tableswitch 1520 0 45 #[200, 243, 276, 309, 342, 385, 428, 451, 474, 487, 510, 523, 536, 559, 582, 605, 628, 671, 694, 728, 761, 805, 838, 851, 884, 927, 990, 1003, 1016, 1029, 1042, 1055, 1068, 1101, 1144, 1157, 1200, 1243, 1286, 1329, 1372, 1405, 1448, 1471, 1494, 1507], 200) := by decide +kernel
theorem dL_law_232 : decode cL_law 232 = .ok (.aload_n 1, 1) := dk_43 (dk_at dksL_law_3 0 rfl rfl)
theorem dL_law_233 : decode cL_law 233 = .ok (.aload_n 0, 1) := dk_42 (dk_at dksL_law_3 1 rfl rfl)
theorem dL_law_234 : decode cL_law 234 = .ok (.iload_n 3, 1) := dk_29 (dk_at dksL_law_3 2 rfl rfl)
theorem dL_law_235 : decode cL_law 235 = .ok (.iconst 1, 1) := dk_4 (dk_at dksL_law_3 3 rfl rfl)
theorem dL_law_236 : decode cL_law 236 = .ok (.iadd, 1) := dk_96 (dk_at dksL_law_3 4 rfl rfl)
theorem dL_law_237 : decode cL_law 237 = .ok (.iaload, 1) := dk_46 (dk_at dksL_law_3 5 rfl rfl)
theorem dL_law_238 : decode cL_law 238 = .ok (.aload_n 0, 1) := dk_42 (dk_at dksL_law_3 6 rfl rfl)
theorem dL_law_239 : decode cL_law 239 = .ok (.iload_n 3, 1) := dk_29 (dk_at dksL_law_3 7 rfl rfl)
theorem dL_law_240 : decode cL_law 240 = .ok (.iconst 2, 1) := dk_5 (dk_at dksL_law_3 8 rfl rfl)
theorem dL_law_241 : decode cL_law 241 = .ok (.iadd, 1) := dk_96 (dk_at dksL_law_3 9 rfl rfl)
theorem dL_law_242 : decode cL_law 242 = .ok (.iaload, 1) := dk_46 (dk_at dksL_law_3 10 rfl rfl)
theorem dL_law_243 : decode cL_law 243 = .ok (.aload_n 0, 1) := dk_42 (dk_at dksL_law_3 11 rfl rfl)
theorem dL_law_244 : decode cL_law 244 = .ok (.iload_n 3, 1) := dk_29 (dk_at dksL_law_3 12 rfl rfl)
theorem dL_law_245 : decode cL_law 245 = .ok (.iconst 3, 1) := dk_6 (dk_at dksL_law_3 13 rfl rfl)
theorem dL_law_246 : decode cL_law 246 = .ok (.iadd, 1) := dk_96 (dk_at dksL_law_3 14 rfl rfl)
theorem dL_law_247 : decode cL_law 247 = .ok (.iaload, 1) := dk_46 (dk_at dksL_law_3 15 rfl rfl)
theorem dL_law_248 : decode cL_law 248 = .ok (.invokevirtual 13, 3) := dk_182 0 13 (dk_at dksL_law_3 16 rfl rfl)
theorem dL_law_251 : decode cL_law 251 = .ok (.aload_n 2, 1) := dk_44 (dk_at dksL_law_3 19 rfl rfl)
theorem dL_law_252 : decode cL_law 252 = .ok (.aload_n 0, 1) := dk_42 (dk_at dksL_law_3 20 rfl rfl)
theorem dL_law_253 : decode cL_law 253 = .ok (.iload_n 3, 1) := dk_29 (dk_at dksL_law_3 21 rfl rfl)
theorem dL_law_254 : decode cL_law 254 = .ok (.iconst 1, 1) := dk_4 (dk_at dksL_law_3 22 rfl rfl)
theorem dL_law_255 : decode cL_law 255 = .ok (.iadd, 1) := dk_96 (dk_at dksL_law_3 23 rfl rfl)
theorem dL_law_256 : decode cL_law 256 = .ok (.iaload, 1) := dk_46 (dk_at dksL_law_4 0 rfl rfl)
theorem dL_law_257 : decode cL_law 257 = .ok (.aload_n 0, 1) := dk_42 (dk_at dksL_law_4 1 rfl rfl)
theorem dL_law_258 : decode cL_law 258 = .ok (.iload_n 3, 1) := dk_29 (dk_at dksL_law_4 2 rfl rfl)
theorem dL_law_259 : decode cL_law 259 = .ok (.iconst 2, 1) := dk_5 (dk_at dksL_law_4 3 rfl rfl)
theorem dL_law_260 : decode cL_law 260 = .ok (.iadd, 1) := dk_96 (dk_at dksL_law_4 4 rfl rfl)
theorem dL_law_261 : decode cL_law 261 = .ok (.iaload, 1) := dk_46 (dk_at dksL_law_4 5 rfl rfl)
theorem dL_law_262 : decode cL_law 262 = .ok (.aload_n 0, 1) := dk_42 (dk_at dksL_law_4 6 rfl rfl)
theorem dL_law_263 : decode cL_law 263 = .ok (.iload_n 3, 1) := dk_29 (dk_at dksL_law_4 7 rfl rfl)
theorem dL_law_264 : decode cL_law 264 = .ok (.iconst 3, 1) := dk_6 (dk_at dksL_law_4 8 rfl rfl)
theorem dL_law_265 : decode cL_law 265 = .ok (.iadd, 1) := dk_96 (dk_at dksL_law_4 9 rfl rfl)
theorem dL_law_266 : decode cL_law 266 = .ok (.iaload, 1) := dk_46 (dk_at dksL_law_4 10 rfl rfl)
theorem dL_law_267 : decode cL_law 267 = .ok (.invokevirtual 17, 3) := dk_182 0 17 (dk_at dksL_law_4 11 rfl rfl)
theorem dL_law_270 : decode cL_law 270 = .ok (.if_icmp .eq 1282, 3) := dk_159 5 2 (dk_at dksL_law_4 14 rfl rfl)
theorem dL_law_273 : decode cL_law 273 = .ok (.iconst 0, 1) := dk_3 (dk_at dksL_law_4 17 rfl rfl)
theorem dL_law_274 : decode cL_law 274 = .ok (.ireturn, 1) := dk_172 (dk_at dksL_law_4 18 rfl rfl)
theorem dL_law_275 : decode cL_law 275 = .ok (.aload_n 1, 1) := dk_43 (dk_at dksL_law_4 19 rfl rfl)
theorem dL_law_276 : decode cL_law 276 = .ok (.aload_n 0, 1) := dk_42 (dk_at dksL_law_4 20 rfl rfl)
theorem dL_law_277 : decode cL_law 277 = .ok (.iload_n 3, 1) := dk_29 (dk_at dksL_law_4 21 rfl rfl)
theorem dL_law_278 : decode cL_law 278 = .ok (.iconst 1, 1) := dk_4 (dk_at dksL_law_4 22 rfl rfl)
theorem dL_law_279 : decode cL_law 279 = .ok (.iadd, 1) := dk_96 (dk_at dksL_law_4 23 rfl rfl)
theorem dL_law_280 : decode cL_law 280 = .ok (.iaload, 1) := dk_46 (dk_at dksL_law_5 0 rfl rfl)
theorem dL_law_281 : decode cL_law 281 = .ok (.aload_n 0, 1) := dk_42 (dk_at dksL_law_5 1 rfl rfl)
theorem dL_law_282 : decode cL_law 282 = .ok (.iload_n 3, 1) := dk_29 (dk_at dksL_law_5 2 rfl rfl)
theorem dL_law_283 : decode cL_law 283 = .ok (.iconst 2, 1) := dk_5 (dk_at dksL_law_5 3 rfl rfl)
theorem dL_law_284 : decode cL_law 284 = .ok (.iadd, 1) := dk_96 (dk_at dksL_law_5 4 rfl rfl)
theorem dL_law_285 : decode cL_law 285 = .ok (.iaload, 1) := dk_46 (dk_at dksL_law_5 5 rfl rfl)
theorem dL_law_286 : decode cL_law 286 = .ok (.invokevirtual 18, 3) := dk_182 0 18 (dk_at dksL_law_5 6 rfl rfl)
theorem dL_law_289 : decode cL_law 289 = .ok (.aload_n 2, 1) := dk_44 (dk_at dksL_law_5 9 rfl rfl)
theorem dL_law_290 : decode cL_law 290 = .ok (.aload_n 0, 1) := dk_42 (dk_at dksL_law_5 10 rfl rfl)
theorem dL_law_291 : decode cL_law 291 = .ok (.iload_n 3, 1) := dk_29 (dk_at dksL_law_5 11 rfl rfl)
theorem dL_law_292 : decode cL_law 292 = .ok (.iconst 1, 1) := dk_4 (dk_at dksL_law_5 12 rfl rfl)
theorem dL_law_293 : decode cL_law 293 = .ok (.iadd, 1) := dk_96 (dk_at dksL_law_5 13 rfl rfl)
theorem dL_law_294 : decode cL_law 294 = .ok (.iaload, 1) := dk_46 (dk_at dksL_law_5 14 rfl rfl)
theorem dL_law_295 : decode cL_law 295 = .ok (.aload_n 0, 1) := dk_42 (dk_at dksL_law_5 15 rfl rfl)
theorem dL_law_296 : decode cL_law 296 = .ok (.iload_n 3, 1) := dk_29 (dk_at dksL_law_5 16 rfl rfl)
theorem dL_law_297 : decode cL_law 297 = .ok (.iconst 2, 1) := dk_5 (dk_at dksL_law_5 17 rfl rfl)
theorem dL_law_298 : decode cL_law 298 = .ok (.iadd, 1) := dk_96 (dk_at dksL_law_5 18 rfl rfl)
theorem dL_law_299 : decode cL_law 299 = .ok (.iaload, 1) := dk_46 (dk_at dksL_law_5 19 rfl rfl)
theorem dL_law_300 : decode cL_law 300 = .ok (.invokevirtual 22, 3) := dk_182 0 22 (dk_at dksL_law_5 20 rfl rfl)
theorem dL_law_303 : decode cL_law 303 = .ok (.if_icmp .eq 1249, 3) := dk_159 4 225 (dk_at dksL_law_6 0 rfl rfl)
theorem dL_law_306 : decode cL_law 306 = .ok (.iconst 0, 1) := dk_3 (dk_at dksL_law_6 3 rfl rfl)
theorem dL_law_307 : decode cL_law 307 = .ok (.ireturn, 1) := dk_172 (dk_at dksL_law_6 4 rfl rfl)
theorem dL_law_308 : decode cL_law 308 = .ok (.aload_n 1, 1) := dk_43 (dk_at dksL_law_6 5 rfl rfl)
theorem dL_law_309 : decode cL_law 309 = .ok (.aload_n 0, 1) := dk_42 (dk_at dksL_law_6 6 rfl rfl)
theorem dL_law_310 : decode cL_law 310 = .ok (.iload_n 3, 1) := dk_29 (dk_at dksL_law_6 7 rfl rfl)
theorem dL_law_311 : decode cL_law 311 = .ok (.iconst 1, 1) := dk_4 (dk_at dksL_law_6 8 rfl rfl)
theorem dL_law_312 : decode cL_law 312 = .ok (.iadd, 1) := dk_96 (dk_at dksL_law_6 9 rfl rfl)
theorem dL_law_313 : decode cL_law 313 = .ok (.iaload, 1) := dk_46 (dk_at dksL_law_6 10 rfl rfl)
theorem dL_law_314 : decode cL_law 314 = .ok (.aload_n 0, 1) := dk_42 (dk_at dksL_law_6 11 rfl rfl)
theorem dL_law_315 : decode cL_law 315 = .ok (.iload_n 3, 1) := dk_29 (dk_at dksL_law_6 12 rfl rfl)
theorem dL_law_316 : decode cL_law 316 = .ok (.iconst 2, 1) := dk_5 (dk_at dksL_law_6 13 rfl rfl)
theorem dL_law_317 : decode cL_law 317 = .ok (.iadd, 1) := dk_96 (dk_at dksL_law_6 14 rfl rfl)
theorem dL_law_318 : decode cL_law 318 = .ok (.iaload, 1) := dk_46 (dk_at dksL_law_6 15 rfl rfl)
theorem dL_law_319 : decode cL_law 319 = .ok (.invokevirtual 23, 3) := dk_182 0 23 (dk_at dksL_law_6 16 rfl rfl)
theorem dL_law_322 : decode cL_law 322 = .ok (.aload_n 2, 1) := dk_44 (dk_at dksL_law_6 19 rfl rfl)
theorem dL_law_323 : decode cL_law 323 = .ok (.aload_n 0, 1) := dk_42 (dk_at dksL_law_6 20 rfl rfl)
theorem dL_law_324 : decode cL_law 324 = .ok (.iload_n 3, 1) := dk_29 (dk_at dksL_law_6 21 rfl rfl)
theorem dL_law_325 : decode cL_law 325 = .ok (.iconst 1, 1) := dk_4 (dk_at dksL_law_6 22 rfl rfl)
theorem dL_law_326 : decode cL_law 326 = .ok (.iadd, 1) := dk_96 (dk_at dksL_law_6 23 rfl rfl)
theorem dL_law_327 : decode cL_law 327 = .ok (.iaload, 1) := dk_46 (dk_at dksL_law_7 0 rfl rfl)
theorem dL_law_328 : decode cL_law 328 = .ok (.aload_n 0, 1) := dk_42 (dk_at dksL_law_7 1 rfl rfl)
theorem dL_law_329 : decode cL_law 329 = .ok (.iload_n 3, 1) := dk_29 (dk_at dksL_law_7 2 rfl rfl)
theorem dL_law_330 : decode cL_law 330 = .ok (.iconst 2, 1) := dk_5 (dk_at dksL_law_7 3 rfl rfl)
theorem dL_law_331 : decode cL_law 331 = .ok (.iadd, 1) := dk_96 (dk_at dksL_law_7 4 rfl rfl)
theorem dL_law_332 : decode cL_law 332 = .ok (.iaload, 1) := dk_46 (dk_at dksL_law_7 5 rfl rfl)
theorem dL_law_333 : decode cL_law 333 = .ok (.invokevirtual 26, 3) := dk_182 0 26 (dk_at dksL_law_7 6 rfl rfl)
theorem dL_law_336 : decode cL_law 336 = .ok (.if_icmp .eq 1216, 3) := dk_159 4 192 (dk_at dksL_law_7 9 rfl rfl)
theorem dL_law_339 : decode cL_law 339 = .ok (.iconst 0, 1) := dk_3 (dk_at dksL_law_7 12 rfl rfl)
theorem dL_law_340 : decode cL_law 340 = .ok (.ireturn, 1) := dk_172 (dk_at dksL_law_7 13 rfl rfl)
theorem dL_law_341 : decode cL_law 341 = .ok (.aload_n 1, 1) := dk_43 (dk_at dksL_law_7 14 rfl rfl)
theorem dL_law_342 : decode cL_law 342 = .ok (.aload_n 0, 1) := dk_42 (dk_at dksL_law_7 15 rfl rfl)
theorem dL_law_343 : decode cL_law 343 = .ok (.iload_n 3, 1) := dk_29 (dk_at dksL_law_7 16 rfl rfl)
theorem dL_law_344 : decode cL_law 344 = .ok (.iconst 1, 1) := dk_4 (dk_at dksL_law_7 17 rfl rfl)
theorem dL_law_345 : decode cL_law 345 = .ok (.iadd, 1) := dk_96 (dk_at dksL_law_7 18 rfl rfl)
theorem dL_law_346 : decode cL_law 346 = .ok (.iaload, 1) := dk_46 (dk_at dksL_law_7 19 rfl rfl)
theorem dL_law_347 : decode cL_law 347 = .ok (.aload_n 0, 1) := dk_42 (dk_at dksL_law_7 20 rfl rfl)
theorem dL_law_348 : decode cL_law 348 = .ok (.iload_n 3, 1) := dk_29 (dk_at dksL_law_7 21 rfl rfl)
theorem dL_law_349 : decode cL_law 349 = .ok (.iconst 2, 1) := dk_5 (dk_at dksL_law_7 22 rfl rfl)
theorem dL_law_350 : decode cL_law 350 = .ok (.iadd, 1) := dk_96 (dk_at dksL_law_7 23 rfl rfl)
theorem dL_law_351 : decode cL_law 351 = .ok (.iaload, 1) := dk_46 (dk_at dksL_law_8 0 rfl rfl)
theorem dL_law_352 : decode cL_law 352 = .ok (.invokevirtual 27, 3) := dk_182 0 27 (dk_at dksL_law_8 1 rfl rfl)
theorem dL_law_355 : decode cL_law 355 = .ok (.aload_n 2, 1) := dk_44 (dk_at dksL_law_8 4 rfl rfl)
theorem dL_law_356 : decode cL_law 356 = .ok (.aload_n 0, 1) := dk_42 (dk_at dksL_law_8 5 rfl rfl)
theorem dL_law_357 : decode cL_law 357 = .ok (.iload_n 3, 1) := dk_29 (dk_at dksL_law_8 6 rfl rfl)
theorem dL_law_358 : decode cL_law 358 = .ok (.iconst 1, 1) := dk_4 (dk_at dksL_law_8 7 rfl rfl)
theorem dL_law_359 : decode cL_law 359 = .ok (.iadd, 1) := dk_96 (dk_at dksL_law_8 8 rfl rfl)
theorem dL_law_360 : decode cL_law 360 = .ok (.iaload, 1) := dk_46 (dk_at dksL_law_8 9 rfl rfl)
theorem dL_law_361 : decode cL_law 361 = .ok (.aload_n 0, 1) := dk_42 (dk_at dksL_law_8 10 rfl rfl)
theorem dL_law_362 : decode cL_law 362 = .ok (.iload_n 3, 1) := dk_29 (dk_at dksL_law_8 11 rfl rfl)
theorem dL_law_363 : decode cL_law 363 = .ok (.iconst 2, 1) := dk_5 (dk_at dksL_law_8 12 rfl rfl)
theorem dL_law_364 : decode cL_law 364 = .ok (.iadd, 1) := dk_96 (dk_at dksL_law_8 13 rfl rfl)
theorem dL_law_365 : decode cL_law 365 = .ok (.iaload, 1) := dk_46 (dk_at dksL_law_8 14 rfl rfl)
theorem dL_law_366 : decode cL_law 366 = .ok (.invokevirtual 30, 3) := dk_182 0 30 (dk_at dksL_law_8 15 rfl rfl)
theorem dL_law_369 : decode cL_law 369 = .ok (.if_icmp .eq 1183, 3) := dk_159 4 159 (dk_at dksL_law_8 18 rfl rfl)
theorem dL_law_372 : decode cL_law 372 = .ok (.iconst 0, 1) := dk_3 (dk_at dksL_law_8 21 rfl rfl)
theorem dL_law_373 : decode cL_law 373 = .ok (.ireturn, 1) := dk_172 (dk_at dksL_law_8 22 rfl rfl)
theorem dL_law_374 : decode cL_law 374 = .ok (.aload_n 1, 1) := dk_43 (dk_at dksL_law_8 23 rfl rfl)
theorem dL_law_375 : decode cL_law 375 = .ok (.aload_n 0, 1) := dk_42 (dk_at dksL_law_9 0 rfl rfl)
theorem dL_law_376 : decode cL_law 376 = .ok (.iload_n 3, 1) := dk_29 (dk_at dksL_law_9 1 rfl rfl)
theorem dL_law_377 : decode cL_law 377 = .ok (.iconst 1, 1) := dk_4 (dk_at dksL_law_9 2 rfl rfl)
theorem dL_law_378 : decode cL_law 378 = .ok (.iadd, 1) := dk_96 (dk_at dksL_law_9 3 rfl rfl)
theorem dL_law_379 : decode cL_law 379 = .ok (.iaload, 1) := dk_46 (dk_at dksL_law_9 4 rfl rfl)
theorem dL_law_380 : decode cL_law 380 = .ok (.aload_n 0, 1) := dk_42 (dk_at dksL_law_9 5 rfl rfl)
theorem dL_law_381 : decode cL_law 381 = .ok (.iload_n 3, 1) := dk_29 (dk_at dksL_law_9 6 rfl rfl)
theorem dL_law_382 : decode cL_law 382 = .ok (.iconst 2, 1) := dk_5 (dk_at dksL_law_9 7 rfl rfl)
theorem dL_law_383 : decode cL_law 383 = .ok (.iadd, 1) := dk_96 (dk_at dksL_law_9 8 rfl rfl)
theorem dL_law_384 : decode cL_law 384 = .ok (.iaload, 1) := dk_46 (dk_at dksL_law_9 9 rfl rfl)
theorem dL_law_385 : decode cL_law 385 = .ok (.aload_n 0, 1) := dk_42 (dk_at dksL_law_9 10 rfl rfl)
theorem dL_law_386 : decode cL_law 386 = .ok (.iload_n 3, 1) := dk_29 (dk_at dksL_law_9 11 rfl rfl)
theorem dL_law_387 : decode cL_law 387 = .ok (.iconst 3, 1) := dk_6 (dk_at dksL_law_9 12 rfl rfl)
theorem dL_law_388 : decode cL_law 388 = .ok (.iadd, 1) := dk_96 (dk_at dksL_law_9 13 rfl rfl)
theorem dL_law_389 : decode cL_law 389 = .ok (.iaload, 1) := dk_46 (dk_at dksL_law_9 14 rfl rfl)
theorem dL_law_390 : decode cL_law 390 = .ok (.invokevirtual 31, 3) := dk_182 0 31 (dk_at dksL_law_9 15 rfl rfl)
theorem dL_law_393 : decode cL_law 393 = .ok (.aload_n 2, 1) := dk_44 (dk_at dksL_law_9 18 rfl rfl)
theorem dL_law_394 : decode cL_law 394 = .ok (.aload_n 0, 1) := dk_42 (dk_at dksL_law_9 19 rfl rfl)
theorem dL_law_395 : decode cL_law 395 = .ok (.iload_n 3, 1) := dk_29 (dk_at dksL_law_9 20 rfl rfl)
theorem dL_law_396 : decode cL_law 396 = .ok (.iconst 1, 1) := dk_4 (dk_at dksL_law_9 21 rfl rfl)
theorem dL_law_397 : decode cL_law 397 = .ok (.iadd, 1) := dk_96 (dk_at dksL_law_9 22 rfl rfl)
theorem dL_law_398 : decode cL_law 398 = .ok (.iaload, 1) := dk_46 (dk_at dksL_law_9 23 rfl rfl)
theorem dL_law_399 : decode cL_law 399 = .ok (.aload_n 0, 1) := dk_42 (dk_at dksL_law_10 0 rfl rfl)
theorem dL_law_400 : decode cL_law 400 = .ok (.iload_n 3, 1) := dk_29 (dk_at dksL_law_10 1 rfl rfl)
theorem dL_law_401 : decode cL_law 401 = .ok (.iconst 2, 1) := dk_5 (dk_at dksL_law_10 2 rfl rfl)
theorem dL_law_402 : decode cL_law 402 = .ok (.iadd, 1) := dk_96 (dk_at dksL_law_10 3 rfl rfl)
theorem dL_law_403 : decode cL_law 403 = .ok (.iaload, 1) := dk_46 (dk_at dksL_law_10 4 rfl rfl)
theorem dL_law_404 : decode cL_law 404 = .ok (.aload_n 0, 1) := dk_42 (dk_at dksL_law_10 5 rfl rfl)
theorem dL_law_405 : decode cL_law 405 = .ok (.iload_n 3, 1) := dk_29 (dk_at dksL_law_10 6 rfl rfl)
theorem dL_law_406 : decode cL_law 406 = .ok (.iconst 3, 1) := dk_6 (dk_at dksL_law_10 7 rfl rfl)
theorem dL_law_407 : decode cL_law 407 = .ok (.iadd, 1) := dk_96 (dk_at dksL_law_10 8 rfl rfl)
theorem dL_law_408 : decode cL_law 408 = .ok (.iaload, 1) := dk_46 (dk_at dksL_law_10 9 rfl rfl)
theorem dL_law_409 : decode cL_law 409 = .ok (.invokevirtual 34, 3) := dk_182 0 34 (dk_at dksL_law_10 10 rfl rfl)
theorem dL_law_412 : decode cL_law 412 = .ok (.if_icmp .eq 1140, 3) := dk_159 4 116 (dk_at dksL_law_10 13 rfl rfl)
theorem dL_law_415 : decode cL_law 415 = .ok (.iconst 0, 1) := dk_3 (dk_at dksL_law_10 16 rfl rfl)
theorem dL_law_416 : decode cL_law 416 = .ok (.ireturn, 1) := dk_172 (dk_at dksL_law_10 17 rfl rfl)
theorem dL_law_417 : decode cL_law 417 = .ok (.aload_n 1, 1) := dk_43 (dk_at dksL_law_10 18 rfl rfl)
theorem dL_law_418 : decode cL_law 418 = .ok (.aload_n 0, 1) := dk_42 (dk_at dksL_law_10 19 rfl rfl)
theorem dL_law_419 : decode cL_law 419 = .ok (.iload_n 3, 1) := dk_29 (dk_at dksL_law_10 20 rfl rfl)
theorem dL_law_420 : decode cL_law 420 = .ok (.iconst 1, 1) := dk_4 (dk_at dksL_law_10 21 rfl rfl)
theorem dL_law_421 : decode cL_law 421 = .ok (.iadd, 1) := dk_96 (dk_at dksL_law_10 22 rfl rfl)
theorem dL_law_422 : decode cL_law 422 = .ok (.iaload, 1) := dk_46 (dk_at dksL_law_10 23 rfl rfl)
theorem dL_law_423 : decode cL_law 423 = .ok (.aload_n 0, 1) := dk_42 (dk_at dksL_law_11 0 rfl rfl)
theorem dL_law_424 : decode cL_law 424 = .ok (.iload_n 3, 1) := dk_29 (dk_at dksL_law_11 1 rfl rfl)
theorem dL_law_425 : decode cL_law 425 = .ok (.iconst 2, 1) := dk_5 (dk_at dksL_law_11 2 rfl rfl)
theorem dL_law_426 : decode cL_law 426 = .ok (.iadd, 1) := dk_96 (dk_at dksL_law_11 3 rfl rfl)
theorem dL_law_427 : decode cL_law 427 = .ok (.iaload, 1) := dk_46 (dk_at dksL_law_11 4 rfl rfl)
theorem dL_law_428 : decode cL_law 428 = .ok (.aload_n 0, 1) := dk_42 (dk_at dksL_law_11 5 rfl rfl)
theorem dL_law_429 : decode cL_law 429 = .ok (.iload_n 3, 1) := dk_29 (dk_at dksL_law_11 6 rfl rfl)
theorem dL_law_430 : decode cL_law 430 = .ok (.iconst 3, 1) := dk_6 (dk_at dksL_law_11 7 rfl rfl)
theorem dL_law_431 : decode cL_law 431 = .ok (.iadd, 1) := dk_96 (dk_at dksL_law_11 8 rfl rfl)
theorem dL_law_432 : decode cL_law 432 = .ok (.iaload, 1) := dk_46 (dk_at dksL_law_11 9 rfl rfl)
theorem dL_law_433 : decode cL_law 433 = .ok (.invokevirtual 35, 3) := dk_182 0 35 (dk_at dksL_law_11 10 rfl rfl)
theorem dL_law_436 : decode cL_law 436 = .ok (.aload_n 2, 1) := dk_44 (dk_at dksL_law_11 13 rfl rfl)
theorem dL_law_437 : decode cL_law 437 = .ok (.aload_n 0, 1) := dk_42 (dk_at dksL_law_11 14 rfl rfl)
theorem dL_law_438 : decode cL_law 438 = .ok (.iload_n 3, 1) := dk_29 (dk_at dksL_law_11 15 rfl rfl)
theorem dL_law_439 : decode cL_law 439 = .ok (.iconst 1, 1) := dk_4 (dk_at dksL_law_11 16 rfl rfl)
theorem dL_law_440 : decode cL_law 440 = .ok (.iadd, 1) := dk_96 (dk_at dksL_law_11 17 rfl rfl)
theorem dL_law_441 : decode cL_law 441 = .ok (.iaload, 1) := dk_46 (dk_at dksL_law_11 18 rfl rfl)
theorem dL_law_442 : decode cL_law 442 = .ok (.aload_n 0, 1) := dk_42 (dk_at dksL_law_11 19 rfl rfl)
theorem dL_law_443 : decode cL_law 443 = .ok (.iload_n 3, 1) := dk_29 (dk_at dksL_law_11 20 rfl rfl)
theorem dL_law_444 : decode cL_law 444 = .ok (.iconst 2, 1) := dk_5 (dk_at dksL_law_11 21 rfl rfl)
theorem dL_law_445 : decode cL_law 445 = .ok (.iadd, 1) := dk_96 (dk_at dksL_law_11 22 rfl rfl)
theorem dL_law_446 : decode cL_law 446 = .ok (.iaload, 1) := dk_46 (dk_at dksL_law_11 23 rfl rfl)
theorem dL_law_447 : decode cL_law 447 = .ok (.aload_n 0, 1) := dk_42 (dk_at dksL_law_12 0 rfl rfl)
theorem dL_law_448 : decode cL_law 448 = .ok (.iload_n 3, 1) := dk_29 (dk_at dksL_law_12 1 rfl rfl)
theorem dL_law_449 : decode cL_law 449 = .ok (.iconst 3, 1) := dk_6 (dk_at dksL_law_12 2 rfl rfl)
theorem dL_law_450 : decode cL_law 450 = .ok (.iadd, 1) := dk_96 (dk_at dksL_law_12 3 rfl rfl)
theorem dL_law_451 : decode cL_law 451 = .ok (.iaload, 1) := dk_46 (dk_at dksL_law_12 4 rfl rfl)
theorem dL_law_452 : decode cL_law 452 = .ok (.invokevirtual 38, 3) := dk_182 0 38 (dk_at dksL_law_12 5 rfl rfl)
theorem dL_law_455 : decode cL_law 455 = .ok (.if_icmp .eq 1097, 3) := dk_159 4 73 (dk_at dksL_law_12 8 rfl rfl)
theorem dL_law_458 : decode cL_law 458 = .ok (.iconst 0, 1) := dk_3 (dk_at dksL_law_12 11 rfl rfl)
theorem dL_law_459 : decode cL_law 459 = .ok (.ireturn, 1) := dk_172 (dk_at dksL_law_12 12 rfl rfl)
theorem dL_law_460 : decode cL_law 460 = .ok (.aload_n 1, 1) := dk_43 (dk_at dksL_law_12 13 rfl rfl)
theorem dL_law_461 : decode cL_law 461 = .ok (.aload_n 0, 1) := dk_42 (dk_at dksL_law_12 14 rfl rfl)
theorem dL_law_462 : decode cL_law 462 = .ok (.iload_n 3, 1) := dk_29 (dk_at dksL_law_12 15 rfl rfl)
theorem dL_law_463 : decode cL_law 463 = .ok (.iconst 1, 1) := dk_4 (dk_at dksL_law_12 16 rfl rfl)
theorem dL_law_464 : decode cL_law 464 = .ok (.iadd, 1) := dk_96 (dk_at dksL_law_12 17 rfl rfl)
theorem dL_law_465 : decode cL_law 465 = .ok (.iaload, 1) := dk_46 (dk_at dksL_law_12 18 rfl rfl)
theorem dL_law_466 : decode cL_law 466 = .ok (.invokevirtual 39, 3) := dk_182 0 39 (dk_at dksL_law_12 19 rfl rfl)
theorem dL_law_469 : decode cL_law 469 = .ok (.aload_n 2, 1) := dk_44 (dk_at dksL_law_12 22 rfl rfl)
theorem dL_law_470 : decode cL_law 470 = .ok (.aload_n 0, 1) := dk_42 (dk_at dksL_law_12 23 rfl rfl)
theorem dL_law_471 : decode cL_law 471 = .ok (.iload_n 3, 1) := dk_29 (dk_at dksL_law_13 0 rfl rfl)
theorem dL_law_472 : decode cL_law 472 = .ok (.iconst 1, 1) := dk_4 (dk_at dksL_law_13 1 rfl rfl)
theorem dL_law_473 : decode cL_law 473 = .ok (.iadd, 1) := dk_96 (dk_at dksL_law_13 2 rfl rfl)
theorem dL_law_474 : decode cL_law 474 = .ok (.iaload, 1) := dk_46 (dk_at dksL_law_13 3 rfl rfl)
theorem dL_law_475 : decode cL_law 475 = .ok (.invokevirtual 43, 3) := dk_182 0 43 (dk_at dksL_law_13 4 rfl rfl)
theorem dL_law_478 : decode cL_law 478 = .ok (.if_icmp .eq 1074, 3) := dk_159 4 50 (dk_at dksL_law_13 7 rfl rfl)
theorem dL_law_481 : decode cL_law 481 = .ok (.iconst 0, 1) := dk_3 (dk_at dksL_law_13 10 rfl rfl)
theorem dL_law_482 : decode cL_law 482 = .ok (.ireturn, 1) := dk_172 (dk_at dksL_law_13 11 rfl rfl)
theorem dL_law_483 : decode cL_law 483 = .ok (.aload_n 1, 1) := dk_43 (dk_at dksL_law_13 12 rfl rfl)
theorem dL_law_484 : decode cL_law 484 = .ok (.aload_n 0, 1) := dk_42 (dk_at dksL_law_13 13 rfl rfl)
theorem dL_law_485 : decode cL_law 485 = .ok (.iload_n 3, 1) := dk_29 (dk_at dksL_law_13 14 rfl rfl)
theorem dL_law_486 : decode cL_law 486 = .ok (.iconst 1, 1) := dk_4 (dk_at dksL_law_13 15 rfl rfl)
theorem dL_law_487 : decode cL_law 487 = .ok (.iadd, 1) := dk_96 (dk_at dksL_law_13 16 rfl rfl)
theorem dL_law_488 : decode cL_law 488 = .ok (.iaload, 1) := dk_46 (dk_at dksL_law_13 17 rfl rfl)
theorem dL_law_489 : decode cL_law 489 = .ok (.invokevirtual 44, 3) := dk_182 0 44 (dk_at dksL_law_13 18 rfl rfl)
theorem dL_law_492 : decode cL_law 492 = .ok (.aload_n 2, 1) := dk_44 (dk_at dksL_law_13 21 rfl rfl)
theorem dL_law_493 : decode cL_law 493 = .ok (.aload_n 0, 1) := dk_42 (dk_at dksL_law_13 22 rfl rfl)
theorem dL_law_494 : decode cL_law 494 = .ok (.iload_n 3, 1) := dk_29 (dk_at dksL_law_13 23 rfl rfl)
theorem dL_law_495 : decode cL_law 495 = .ok (.iconst 1, 1) := dk_4 (dk_at dksL_law_14 0 rfl rfl)
theorem dL_law_496 : decode cL_law 496 = .ok (.iadd, 1) := dk_96 (dk_at dksL_law_14 1 rfl rfl)
theorem dL_law_497 : decode cL_law 497 = .ok (.iaload, 1) := dk_46 (dk_at dksL_law_14 2 rfl rfl)
theorem dL_law_498 : decode cL_law 498 = .ok (.invokevirtual 47, 3) := dk_182 0 47 (dk_at dksL_law_14 3 rfl rfl)
theorem dL_law_501 : decode cL_law 501 = .ok (.if_icmp .eq 1051, 3) := dk_159 4 27 (dk_at dksL_law_14 6 rfl rfl)
theorem dL_law_504 : decode cL_law 504 = .ok (.iconst 0, 1) := dk_3 (dk_at dksL_law_14 9 rfl rfl)
theorem dL_law_505 : decode cL_law 505 = .ok (.ireturn, 1) := dk_172 (dk_at dksL_law_14 10 rfl rfl)
theorem dL_law_506 : decode cL_law 506 = .ok (.aload_n 1, 1) := dk_43 (dk_at dksL_law_14 11 rfl rfl)
theorem dL_law_507 : decode cL_law 507 = .ok (.invokevirtual 48, 3) := dk_182 0 48 (dk_at dksL_law_14 12 rfl rfl)
theorem dL_law_510 : decode cL_law 510 = .ok (.aload_n 2, 1) := dk_44 (dk_at dksL_law_14 15 rfl rfl)
theorem dL_law_511 : decode cL_law 511 = .ok (.invokevirtual 52, 3) := dk_182 0 52 (dk_at dksL_law_14 16 rfl rfl)
theorem dL_law_514 : decode cL_law 514 = .ok (.if_icmp .eq 1038, 3) := dk_159 4 14 (dk_at dksL_law_14 19 rfl rfl)
theorem dL_law_517 : decode cL_law 517 = .ok (.iconst 0, 1) := dk_3 (dk_at dksL_law_14 22 rfl rfl)
theorem dL_law_518 : decode cL_law 518 = .ok (.ireturn, 1) := dk_172 (dk_at dksL_law_14 23 rfl rfl)
theorem dL_law_519 : decode cL_law 519 = .ok (.aload_n 1, 1) := dk_43 (dk_at dksL_law_15 0 rfl rfl)
theorem dL_law_520 : decode cL_law 520 = .ok (.aload_n 0, 1) := dk_42 (dk_at dksL_law_15 1 rfl rfl)
theorem dL_law_521 : decode cL_law 521 = .ok (.iload_n 3, 1) := dk_29 (dk_at dksL_law_15 2 rfl rfl)
theorem dL_law_522 : decode cL_law 522 = .ok (.iconst 1, 1) := dk_4 (dk_at dksL_law_15 3 rfl rfl)
theorem dL_law_523 : decode cL_law 523 = .ok (.iadd, 1) := dk_96 (dk_at dksL_law_15 4 rfl rfl)
theorem dL_law_524 : decode cL_law 524 = .ok (.iaload, 1) := dk_46 (dk_at dksL_law_15 5 rfl rfl)
theorem dL_law_525 : decode cL_law 525 = .ok (.invokevirtual 53, 3) := dk_182 0 53 (dk_at dksL_law_15 6 rfl rfl)
theorem dL_law_528 : decode cL_law 528 = .ok (.aload_n 2, 1) := dk_44 (dk_at dksL_law_15 9 rfl rfl)
theorem dL_law_529 : decode cL_law 529 = .ok (.aload_n 0, 1) := dk_42 (dk_at dksL_law_15 10 rfl rfl)
theorem dL_law_530 : decode cL_law 530 = .ok (.iload_n 3, 1) := dk_29 (dk_at dksL_law_15 11 rfl rfl)
theorem dL_law_531 : decode cL_law 531 = .ok (.iconst 1, 1) := dk_4 (dk_at dksL_law_15 12 rfl rfl)
theorem dL_law_532 : decode cL_law 532 = .ok (.iadd, 1) := dk_96 (dk_at dksL_law_15 13 rfl rfl)
theorem dL_law_533 : decode cL_law 533 = .ok (.iaload, 1) := dk_46 (dk_at dksL_law_15 14 rfl rfl)
theorem dL_law_534 : decode cL_law 534 = .ok (.invokevirtual 56, 3) := dk_182 0 56 (dk_at dksL_law_15 15 rfl rfl)
theorem dL_law_537 : decode cL_law 537 = .ok (.if_icmp .eq 1015, 3) := dk_159 3 247 (dk_at dksL_law_15 18 rfl rfl)
theorem dL_law_540 : decode cL_law 540 = .ok (.iconst 0, 1) := dk_3 (dk_at dksL_law_15 21 rfl rfl)
theorem dL_law_541 : decode cL_law 541 = .ok (.ireturn, 1) := dk_172 (dk_at dksL_law_15 22 rfl rfl)
theorem dL_law_542 : decode cL_law 542 = .ok (.aload_n 1, 1) := dk_43 (dk_at dksL_law_15 23 rfl rfl)
theorem dL_law_543 : decode cL_law 543 = .ok (.invokevirtual 57, 3) := dk_182 0 57 (dk_at dksL_law_16 0 rfl rfl)
theorem dL_law_546 : decode cL_law 546 = .ok (.aload_n 2, 1) := dk_44 (dk_at dksL_law_16 3 rfl rfl)
theorem dL_law_547 : decode cL_law 547 = .ok (.invokevirtual 60, 3) := dk_182 0 60 (dk_at dksL_law_16 4 rfl rfl)
theorem dL_law_550 : decode cL_law 550 = .ok (.if_icmp .eq 1002, 3) := dk_159 3 234 (dk_at dksL_law_16 7 rfl rfl)
theorem dL_law_553 : decode cL_law 553 = .ok (.iconst 0, 1) := dk_3 (dk_at dksL_law_16 10 rfl rfl)
theorem dL_law_554 : decode cL_law 554 = .ok (.ireturn, 1) := dk_172 (dk_at dksL_law_16 11 rfl rfl)
theorem dL_law_555 : decode cL_law 555 = .ok (.aload_n 1, 1) := dk_43 (dk_at dksL_law_16 12 rfl rfl)
theorem dL_law_556 : decode cL_law 556 = .ok (.invokevirtual 61, 3) := dk_182 0 61 (dk_at dksL_law_16 13 rfl rfl)
theorem dL_law_559 : decode cL_law 559 = .ok (.aload_n 2, 1) := dk_44 (dk_at dksL_law_16 16 rfl rfl)
theorem dL_law_560 : decode cL_law 560 = .ok (.invokevirtual 64, 3) := dk_182 0 64 (dk_at dksL_law_16 17 rfl rfl)
theorem dL_law_563 : decode cL_law 563 = .ok (.if_icmp .eq 989, 3) := dk_159 3 221 (dk_at dksL_law_16 20 rfl rfl)
theorem dL_law_566 : decode cL_law 566 = .ok (.iconst 0, 1) := dk_3 (dk_at dksL_law_16 23 rfl rfl)
theorem dL_law_567 : decode cL_law 567 = .ok (.ireturn, 1) := dk_172 (dk_at dksL_law_17 0 rfl rfl)
theorem dL_law_568 : decode cL_law 568 = .ok (.aload_n 1, 1) := dk_43 (dk_at dksL_law_17 1 rfl rfl)
theorem dL_law_569 : decode cL_law 569 = .ok (.aload_n 0, 1) := dk_42 (dk_at dksL_law_17 2 rfl rfl)
theorem dL_law_570 : decode cL_law 570 = .ok (.iload_n 3, 1) := dk_29 (dk_at dksL_law_17 3 rfl rfl)
theorem dL_law_571 : decode cL_law 571 = .ok (.iconst 1, 1) := dk_4 (dk_at dksL_law_17 4 rfl rfl)
theorem dL_law_572 : decode cL_law 572 = .ok (.iadd, 1) := dk_96 (dk_at dksL_law_17 5 rfl rfl)
theorem dL_law_573 : decode cL_law 573 = .ok (.iaload, 1) := dk_46 (dk_at dksL_law_17 6 rfl rfl)
theorem dL_law_574 : decode cL_law 574 = .ok (.invokevirtual 65, 3) := dk_182 0 65 (dk_at dksL_law_17 7 rfl rfl)
theorem dL_law_577 : decode cL_law 577 = .ok (.aload_n 2, 1) := dk_44 (dk_at dksL_law_17 10 rfl rfl)
theorem dL_law_578 : decode cL_law 578 = .ok (.aload_n 0, 1) := dk_42 (dk_at dksL_law_17 11 rfl rfl)
theorem dL_law_579 : decode cL_law 579 = .ok (.iload_n 3, 1) := dk_29 (dk_at dksL_law_17 12 rfl rfl)
theorem dL_law_580 : decode cL_law 580 = .ok (.iconst 1, 1) := dk_4 (dk_at dksL_law_17 13 rfl rfl)
theorem dL_law_581 : decode cL_law 581 = .ok (.iadd, 1) := dk_96 (dk_at dksL_law_17 14 rfl rfl)
theorem dL_law_582 : decode cL_law 582 = .ok (.iaload, 1) := dk_46 (dk_at dksL_law_17 15 rfl rfl)
theorem dL_law_583 : decode cL_law 583 = .ok (.invokevirtual 68, 3) := dk_182 0 68 (dk_at dksL_law_17 16 rfl rfl)
theorem dL_law_586 : decode cL_law 586 = .ok (.if_icmp .eq 966, 3) := dk_159 3 198 (dk_at dksL_law_17 19 rfl rfl)
theorem dL_law_589 : decode cL_law 589 = .ok (.iconst 0, 1) := dk_3 (dk_at dksL_law_17 22 rfl rfl)
theorem dL_law_590 : decode cL_law 590 = .ok (.ireturn, 1) := dk_172 (dk_at dksL_law_17 23 rfl rfl)
theorem dL_law_591 : decode cL_law 591 = .ok (.aload_n 1, 1) := dk_43 (dk_at dksL_law_18 0 rfl rfl)
theorem dL_law_592 : decode cL_law 592 = .ok (.aload_n 0, 1) := dk_42 (dk_at dksL_law_18 1 rfl rfl)
theorem dL_law_593 : decode cL_law 593 = .ok (.iload_n 3, 1) := dk_29 (dk_at dksL_law_18 2 rfl rfl)
theorem dL_law_594 : decode cL_law 594 = .ok (.iconst 1, 1) := dk_4 (dk_at dksL_law_18 3 rfl rfl)
theorem dL_law_595 : decode cL_law 595 = .ok (.iadd, 1) := dk_96 (dk_at dksL_law_18 4 rfl rfl)
theorem dL_law_596 : decode cL_law 596 = .ok (.iaload, 1) := dk_46 (dk_at dksL_law_18 5 rfl rfl)
theorem dL_law_597 : decode cL_law 597 = .ok (.invokevirtual 69, 3) := dk_182 0 69 (dk_at dksL_law_18 6 rfl rfl)
theorem dL_law_600 : decode cL_law 600 = .ok (.aload_n 2, 1) := dk_44 (dk_at dksL_law_18 9 rfl rfl)
theorem dL_law_601 : decode cL_law 601 = .ok (.aload_n 0, 1) := dk_42 (dk_at dksL_law_18 10 rfl rfl)
theorem dL_law_602 : decode cL_law 602 = .ok (.iload_n 3, 1) := dk_29 (dk_at dksL_law_18 11 rfl rfl)
theorem dL_law_603 : decode cL_law 603 = .ok (.iconst 1, 1) := dk_4 (dk_at dksL_law_18 12 rfl rfl)
theorem dL_law_604 : decode cL_law 604 = .ok (.iadd, 1) := dk_96 (dk_at dksL_law_18 13 rfl rfl)
theorem dL_law_605 : decode cL_law 605 = .ok (.iaload, 1) := dk_46 (dk_at dksL_law_18 14 rfl rfl)
theorem dL_law_606 : decode cL_law 606 = .ok (.invokevirtual 72, 3) := dk_182 0 72 (dk_at dksL_law_18 15 rfl rfl)
theorem dL_law_609 : decode cL_law 609 = .ok (.if_icmp .eq 943, 3) := dk_159 3 175 (dk_at dksL_law_18 18 rfl rfl)
theorem dL_law_612 : decode cL_law 612 = .ok (.iconst 0, 1) := dk_3 (dk_at dksL_law_18 21 rfl rfl)
theorem dL_law_613 : decode cL_law 613 = .ok (.ireturn, 1) := dk_172 (dk_at dksL_law_18 22 rfl rfl)
theorem dL_law_614 : decode cL_law 614 = .ok (.aload_n 1, 1) := dk_43 (dk_at dksL_law_18 23 rfl rfl)
theorem dL_law_615 : decode cL_law 615 = .ok (.aload_n 0, 1) := dk_42 (dk_at dksL_law_19 0 rfl rfl)
theorem dL_law_616 : decode cL_law 616 = .ok (.iload_n 3, 1) := dk_29 (dk_at dksL_law_19 1 rfl rfl)
theorem dL_law_617 : decode cL_law 617 = .ok (.iconst 1, 1) := dk_4 (dk_at dksL_law_19 2 rfl rfl)
theorem dL_law_618 : decode cL_law 618 = .ok (.iadd, 1) := dk_96 (dk_at dksL_law_19 3 rfl rfl)
theorem dL_law_619 : decode cL_law 619 = .ok (.iaload, 1) := dk_46 (dk_at dksL_law_19 4 rfl rfl)
theorem dL_law_620 : decode cL_law 620 = .ok (.invokevirtual 73, 3) := dk_182 0 73 (dk_at dksL_law_19 5 rfl rfl)
theorem dL_law_623 : decode cL_law 623 = .ok (.aload_n 2, 1) := dk_44 (dk_at dksL_law_19 8 rfl rfl)
theorem dL_law_624 : decode cL_law 624 = .ok (.aload_n 0, 1) := dk_42 (dk_at dksL_law_19 9 rfl rfl)
theorem dL_law_625 : decode cL_law 625 = .ok (.iload_n 3, 1) := dk_29 (dk_at dksL_law_19 10 rfl rfl)
theorem dL_law_626 : decode cL_law 626 = .ok (.iconst 1, 1) := dk_4 (dk_at dksL_law_19 11 rfl rfl)
theorem dL_law_627 : decode cL_law 627 = .ok (.iadd, 1) := dk_96 (dk_at dksL_law_19 12 rfl rfl)
theorem dL_law_628 : decode cL_law 628 = .ok (.iaload, 1) := dk_46 (dk_at dksL_law_19 13 rfl rfl)
theorem dL_law_629 : decode cL_law 629 = .ok (.invokevirtual 76, 3) := dk_182 0 76 (dk_at dksL_law_19 14 rfl rfl)
theorem dL_law_632 : decode cL_law 632 = .ok (.if_icmp .eq 920, 3) := dk_159 3 152 (dk_at dksL_law_19 17 rfl rfl)
theorem dL_law_635 : decode cL_law 635 = .ok (.iconst 0, 1) := dk_3 (dk_at dksL_law_19 20 rfl rfl)
theorem dL_law_636 : decode cL_law 636 = .ok (.ireturn, 1) := dk_172 (dk_at dksL_law_19 21 rfl rfl)
theorem dL_law_637 : decode cL_law 637 = .ok (.aload_n 1, 1) := dk_43 (dk_at dksL_law_19 22 rfl rfl)
theorem dL_law_638 : decode cL_law 638 = .ok (.aload_n 0, 1) := dk_42 (dk_at dksL_law_19 23 rfl rfl)
theorem dL_law_639 : decode cL_law 639 = .ok (.iload_n 3, 1) := dk_29 (dk_at dksL_law_20 0 rfl rfl)
theorem dL_law_640 : decode cL_law 640 = .ok (.iconst 1, 1) := dk_4 (dk_at dksL_law_20 1 rfl rfl)
theorem dL_law_641 : decode cL_law 641 = .ok (.iadd, 1) := dk_96 (dk_at dksL_law_20 2 rfl rfl)
theorem dL_law_642 : decode cL_law 642 = .ok (.iaload, 1) := dk_46 (dk_at dksL_law_20 3 rfl rfl)
theorem dL_law_643 : decode cL_law 643 = .ok (.invokevirtual 77, 3) := dk_182 0 77 (dk_at dksL_law_20 4 rfl rfl)
theorem dL_law_646 : decode cL_law 646 = .ok (.aload_n 2, 1) := dk_44 (dk_at dksL_law_20 7 rfl rfl)
theorem dL_law_647 : decode cL_law 647 = .ok (.aload_n 0, 1) := dk_42 (dk_at dksL_law_20 8 rfl rfl)
theorem dL_law_648 : decode cL_law 648 = .ok (.iload_n 3, 1) := dk_29 (dk_at dksL_law_20 9 rfl rfl)
theorem dL_law_649 : decode cL_law 649 = .ok (.iconst 1, 1) := dk_4 (dk_at dksL_law_20 10 rfl rfl)
theorem dL_law_650 : decode cL_law 650 = .ok (.iadd, 1) := dk_96 (dk_at dksL_law_20 11 rfl rfl)
theorem dL_law_651 : decode cL_law 651 = .ok (.iaload, 1) := dk_46 (dk_at dksL_law_20 12 rfl rfl)
theorem dL_law_652 : decode cL_law 652 = .ok (.invokevirtual 80, 3) := dk_182 0 80 (dk_at dksL_law_20 13 rfl rfl)
theorem dL_law_655 : decode cL_law 655 = .ok (.if_icmp .eq 897, 3) := dk_159 3 129 (dk_at dksL_law_20 16 rfl rfl)
theorem dL_law_658 : decode cL_law 658 = .ok (.iconst 0, 1) := dk_3 (dk_at dksL_law_20 19 rfl rfl)
theorem dL_law_659 : decode cL_law 659 = .ok (.ireturn, 1) := dk_172 (dk_at dksL_law_20 20 rfl rfl)
theorem dL_law_660 : decode cL_law 660 = .ok (.aload_n 1, 1) := dk_43 (dk_at dksL_law_20 21 rfl rfl)
theorem dL_law_661 : decode cL_law 661 = .ok (.aload_n 0, 1) := dk_42 (dk_at dksL_law_20 22 rfl rfl)
theorem dL_law_662 : decode cL_law 662 = .ok (.iload_n 3, 1) := dk_29 (dk_at dksL_law_20 23 rfl rfl)
theorem dL_law_663 : decode cL_law 663 = .ok (.iconst 1, 1) := dk_4 (dk_at dksL_law_21 0 rfl rfl)
theorem dL_law_664 : decode cL_law 664 = .ok (.iadd, 1) := dk_96 (dk_at dksL_law_21 1 rfl rfl)
theorem dL_law_665 : decode cL_law 665 = .ok (.iaload, 1) := dk_46 (dk_at dksL_law_21 2 rfl rfl)
theorem dL_law_666 : decode cL_law 666 = .ok (.aload_n 0, 1) := dk_42 (dk_at dksL_law_21 3 rfl rfl)
theorem dL_law_667 : decode cL_law 667 = .ok (.iload_n 3, 1) := dk_29 (dk_at dksL_law_21 4 rfl rfl)
theorem dL_law_668 : decode cL_law 668 = .ok (.iconst 2, 1) := dk_5 (dk_at dksL_law_21 5 rfl rfl)
theorem dL_law_669 : decode cL_law 669 = .ok (.iadd, 1) := dk_96 (dk_at dksL_law_21 6 rfl rfl)
theorem dL_law_670 : decode cL_law 670 = .ok (.iaload, 1) := dk_46 (dk_at dksL_law_21 7 rfl rfl)
theorem dL_law_671 : decode cL_law 671 = .ok (.aload_n 0, 1) := dk_42 (dk_at dksL_law_21 8 rfl rfl)
theorem dL_law_672 : decode cL_law 672 = .ok (.iload_n 3, 1) := dk_29 (dk_at dksL_law_21 9 rfl rfl)
theorem dL_law_673 : decode cL_law 673 = .ok (.iconst 3, 1) := dk_6 (dk_at dksL_law_21 10 rfl rfl)
theorem dL_law_674 : decode cL_law 674 = .ok (.iadd, 1) := dk_96 (dk_at dksL_law_21 11 rfl rfl)
theorem dL_law_675 : decode cL_law 675 = .ok (.iaload, 1) := dk_46 (dk_at dksL_law_21 12 rfl rfl)
theorem dL_law_676 : decode cL_law 676 = .ok (.invokevirtual 81, 3) := dk_182 0 81 (dk_at dksL_law_21 13 rfl rfl)
theorem dL_law_679 : decode cL_law 679 = .ok (.aload_n 2, 1) := dk_44 (dk_at dksL_law_21 16 rfl rfl)
theorem dL_law_680 : decode cL_law 680 = .ok (.aload_n 0, 1) := dk_42 (dk_at dksL_law_21 17 rfl rfl)
theorem dL_law_681 : decode cL_law 681 = .ok (.iload_n 3, 1) := dk_29 (dk_at dksL_law_21 18 rfl rfl)
theorem dL_law_682 : decode cL_law 682 = .ok (.iconst 1, 1) := dk_4 (dk_at dksL_law_21 19 rfl rfl)
theorem dL_law_683 : decode cL_law 683 = .ok (.iadd, 1) := dk_96 (dk_at dksL_law_21 20 rfl rfl)
theorem dL_law_684 : decode cL_law 684 = .ok (.iaload, 1) := dk_46 (dk_at dksL_law_21 21 rfl rfl)
theorem dL_law_685 : decode cL_law 685 = .ok (.aload_n 0, 1) := dk_42 (dk_at dksL_law_21 22 rfl rfl)
theorem dL_law_686 : decode cL_law 686 = .ok (.iload_n 3, 1) := dk_29 (dk_at dksL_law_21 23 rfl rfl)
theorem dL_law_687 : decode cL_law 687 = .ok (.iconst 2, 1) := dk_5 (dk_at dksL_law_22 0 rfl rfl)
theorem dL_law_688 : decode cL_law 688 = .ok (.iadd, 1) := dk_96 (dk_at dksL_law_22 1 rfl rfl)
theorem dL_law_689 : decode cL_law 689 = .ok (.iaload, 1) := dk_46 (dk_at dksL_law_22 2 rfl rfl)
theorem dL_law_690 : decode cL_law 690 = .ok (.aload_n 0, 1) := dk_42 (dk_at dksL_law_22 3 rfl rfl)
theorem dL_law_691 : decode cL_law 691 = .ok (.iload_n 3, 1) := dk_29 (dk_at dksL_law_22 4 rfl rfl)
theorem dL_law_692 : decode cL_law 692 = .ok (.iconst 3, 1) := dk_6 (dk_at dksL_law_22 5 rfl rfl)
theorem dL_law_693 : decode cL_law 693 = .ok (.iadd, 1) := dk_96 (dk_at dksL_law_22 6 rfl rfl)
theorem dL_law_694 : decode cL_law 694 = .ok (.iaload, 1) := dk_46 (dk_at dksL_law_22 7 rfl rfl)
theorem dL_law_695 : decode cL_law 695 = .ok (.invokevirtual 84, 3) := dk_182 0 84 (dk_at dksL_law_22 8 rfl rfl)
theorem dL_law_698 : decode cL_law 698 = .ok (.if_icmp .eq 854, 3) := dk_159 3 86 (dk_at dksL_law_22 11 rfl rfl)
theorem dL_law_701 : decode cL_law 701 = .ok (.iconst 0, 1) := dk_3 (dk_at dksL_law_22 14 rfl rfl)
theorem dL_law_702 : decode cL_law 702 = .ok (.ireturn, 1) := dk_172 (dk_at dksL_law_22 15 rfl rfl)
theorem dL_law_703 : decode cL_law 703 = .ok (.aload_n 1, 1) := dk_43 (dk_at dksL_law_22 16 rfl rfl)
theorem dL_law_704 : decode cL_law 704 = .ok (.aload_n 0, 1) := dk_42 (dk_at dksL_law_22 17 rfl rfl)
theorem dL_law_705 : decode cL_law 705 = .ok (.iload_n 3, 1) := dk_29 (dk_at dksL_law_22 18 rfl rfl)
theorem dL_law_706 : decode cL_law 706 = .ok (.iconst 1, 1) := dk_4 (dk_at dksL_law_22 19 rfl rfl)
theorem dL_law_707 : decode cL_law 707 = .ok (.iadd, 1) := dk_96 (dk_at dksL_law_22 20 rfl rfl)
theorem dL_law_708 : decode cL_law 708 = .ok (.iaload, 1) := dk_46 (dk_at dksL_law_22 21 rfl rfl)
theorem dL_law_709 : decode cL_law 709 = .ok (.invokevirtual 85, 3) := dk_182 0 85 (dk_at dksL_law_23 0 rfl rfl)
theorem dL_law_712 : decode cL_law 712 = .ok (.aload_n 2, 1) := dk_44 (dk_at dksL_law_23 3 rfl rfl)
theorem dL_law_713 : decode cL_law 713 = .ok (.aload_n 0, 1) := dk_42 (dk_at dksL_law_23 4 rfl rfl)
theorem dL_law_714 : decode cL_law 714 = .ok (.iload_n 3, 1) := dk_29 (dk_at dksL_law_23 5 rfl rfl)
theorem dL_law_715 : decode cL_law 715 = .ok (.iconst 1, 1) := dk_4 (dk_at dksL_law_23 6 rfl rfl)
theorem dL_law_716 : decode cL_law 716 = .ok (.iadd, 1) := dk_96 (dk_at dksL_law_23 7 rfl rfl)
theorem dL_law_717 : decode cL_law 717 = .ok (.iaload, 1) := dk_46 (dk_at dksL_law_23 8 rfl rfl)
theorem dL_law_718 : decode cL_law 718 = .ok (.invokevirtual 88, 3) := dk_182 0 88 (dk_at dksL_law_23 9 rfl rfl)
theorem dL_law_721 : decode cL_law 721 = .ok (.if_icmp .eq 831, 3) := dk_159 3 63 (dk_at dksL_law_23 12 rfl rfl)
theorem dL_law_724 : decode cL_law 724 = .ok (.iconst 0, 1) := dk_3 (dk_at dksL_law_23 15 rfl rfl)
theorem dL_law_725 : decode cL_law 725 = .ok (.ireturn, 1) := dk_172 (dk_at dksL_law_23 16 rfl rfl)
theorem dL_law_726 : decode cL_law 726 = .ok (.aload_n 1, 1) := dk_43 (dk_at dksL_law_23 17 rfl rfl)
theorem dL_law_727 : decode cL_law 727 = .ok (.aload_n 0, 1) := dk_42 (dk_at dksL_law_23 18 rfl rfl)
theorem dL_law_728 : decode cL_law 728 = .ok (.iload_n 3, 1) := dk_29 (dk_at dksL_law_23 19 rfl rfl)
theorem dL_law_729 : decode cL_law 729 = .ok (.iconst 1, 1) := dk_4 (dk_at dksL_law_23 20 rfl rfl)
theorem dL_law_730 : decode cL_law 730 = .ok (.iadd, 1) := dk_96 (dk_at dksL_law_23 21 rfl rfl)
theorem dL_law_731 : decode cL_law 731 = .ok (.iaload, 1) := dk_46 (dk_at dksL_law_23 22 rfl rfl)
theorem dL_law_732 : decode cL_law 732 = .ok (.aload_n 0, 1) := dk_42 (dk_at dksL_law_23 23 rfl rfl)
theorem dL_law_733 : decode cL_law 733 = .ok (.iload_n 3, 1) := dk_29 (dk_at dksL_law_24 0 rfl rfl)
theorem dL_law_734 : decode cL_law 734 = .ok (.iconst 2, 1) := dk_5 (dk_at dksL_law_24 1 rfl rfl)
theorem dL_law_735 : decode cL_law 735 = .ok (.iadd, 1) := dk_96 (dk_at dksL_law_24 2 rfl rfl)
theorem dL_law_736 : decode cL_law 736 = .ok (.iaload, 1) := dk_46 (dk_at dksL_law_24 3 rfl rfl)
theorem dL_law_737 : decode cL_law 737 = .ok (.invokevirtual 89, 3) := dk_182 0 89 (dk_at dksL_law_24 4 rfl rfl)
theorem dL_law_740 : decode cL_law 740 = .ok (.aload_n 2, 1) := dk_44 (dk_at dksL_law_24 7 rfl rfl)
theorem dL_law_741 : decode cL_law 741 = .ok (.aload_n 0, 1) := dk_42 (dk_at dksL_law_24 8 rfl rfl)
theorem dL_law_742 : decode cL_law 742 = .ok (.iload_n 3, 1) := dk_29 (dk_at dksL_law_24 9 rfl rfl)
theorem dL_law_743 : decode cL_law 743 = .ok (.iconst 1, 1) := dk_4 (dk_at dksL_law_24 10 rfl rfl)
theorem dL_law_744 : decode cL_law 744 = .ok (.iadd, 1) := dk_96 (dk_at dksL_law_24 11 rfl rfl)
theorem dL_law_745 : decode cL_law 745 = .ok (.iaload, 1) := dk_46 (dk_at dksL_law_24 12 rfl rfl)
theorem dL_law_746 : decode cL_law 746 = .ok (.aload_n 0, 1) := dk_42 (dk_at dksL_law_24 13 rfl rfl)
theorem dL_law_747 : decode cL_law 747 = .ok (.iload_n 3, 1) := dk_29 (dk_at dksL_law_24 14 rfl rfl)
theorem dL_law_748 : decode cL_law 748 = .ok (.iconst 2, 1) := dk_5 (dk_at dksL_law_24 15 rfl rfl)
theorem dL_law_749 : decode cL_law 749 = .ok (.iadd, 1) := dk_96 (dk_at dksL_law_24 16 rfl rfl)
theorem dL_law_750 : decode cL_law 750 = .ok (.iaload, 1) := dk_46 (dk_at dksL_law_24 17 rfl rfl)
theorem dL_law_751 : decode cL_law 751 = .ok (.invokevirtual 93, 3) := dk_182 0 93 (dk_at dksL_law_24 18 rfl rfl)
theorem dL_law_754 : decode cL_law 754 = .ok (.lcmp, 1) := dk_148 (dk_at dksL_law_24 21 rfl rfl)
theorem dL_law_755 : decode cL_law 755 = .ok (.ifCond .eq 797, 3) := dk_153 3 29 (dk_at dksL_law_25 0 rfl rfl)
theorem dL_law_758 : decode cL_law 758 = .ok (.iconst 0, 1) := dk_3 (dk_at dksL_law_25 3 rfl rfl)
theorem dL_law_759 : decode cL_law 759 = .ok (.ireturn, 1) := dk_172 (dk_at dksL_law_25 4 rfl rfl)
theorem dL_law_760 : decode cL_law 760 = .ok (.aload_n 1, 1) := dk_43 (dk_at dksL_law_25 5 rfl rfl)
theorem dL_law_761 : decode cL_law 761 = .ok (.aload_n 0, 1) := dk_42 (dk_at dksL_law_25 6 rfl rfl)
theorem dL_law_762 : decode cL_law 762 = .ok (.iload_n 3, 1) := dk_29 (dk_at dksL_law_25 7 rfl rfl)
theorem dL_law_763 : decode cL_law 763 = .ok (.iconst 1, 1) := dk_4 (dk_at dksL_law_25 8 rfl rfl)
theorem dL_law_764 : decode cL_law 764 = .ok (.iadd, 1) := dk_96 (dk_at dksL_law_25 9 rfl rfl)
theorem dL_law_765 : decode cL_law 765 = .ok (.iaload, 1) := dk_46 (dk_at dksL_law_25 10 rfl rfl)
theorem dL_law_766 : decode cL_law 766 = .ok (.aload_n 0, 1) := dk_42 (dk_at dksL_law_25 11 rfl rfl)
theorem dL_law_767 : decode cL_law 767 = .ok (.iload_n 3, 1) := dk_29 (dk_at dksL_law_25 12 rfl rfl)
theorem dL_law_768 : decode cL_law 768 = .ok (.iconst 2, 1) := dk_5 (dk_at dksL_law_25 13 rfl rfl)
theorem dL_law_769 : decode cL_law 769 = .ok (.iadd, 1) := dk_96 (dk_at dksL_law_25 14 rfl rfl)
theorem dL_law_770 : decode cL_law 770 = .ok (.iaload, 1) := dk_46 (dk_at dksL_law_25 15 rfl rfl)
theorem dL_law_771 : decode cL_law 771 = .ok (.invokevirtual 94, 3) := dk_182 0 94 (dk_at dksL_law_25 16 rfl rfl)
theorem dL_law_774 : decode cL_law 774 = .ok (.aload_n 2, 1) := dk_44 (dk_at dksL_law_25 19 rfl rfl)
theorem dL_law_775 : decode cL_law 775 = .ok (.aload_n 0, 1) := dk_42 (dk_at dksL_law_25 20 rfl rfl)
theorem dL_law_776 : decode cL_law 776 = .ok (.iload_n 3, 1) := dk_29 (dk_at dksL_law_25 21 rfl rfl)
theorem dL_law_777 : decode cL_law 777 = .ok (.iconst 1, 1) := dk_4 (dk_at dksL_law_25 22 rfl rfl)
theorem dL_law_778 : decode cL_law 778 = .ok (.iadd, 1) := dk_96 (dk_at dksL_law_25 23 rfl rfl)
theorem dL_law_779 : decode cL_law 779 = .ok (.iaload, 1) := dk_46 (dk_at dksL_law_26 0 rfl rfl)
theorem dL_law_780 : decode cL_law 780 = .ok (.aload_n 0, 1) := dk_42 (dk_at dksL_law_26 1 rfl rfl)
theorem dL_law_781 : decode cL_law 781 = .ok (.iload_n 3, 1) := dk_29 (dk_at dksL_law_26 2 rfl rfl)
theorem dL_law_782 : decode cL_law 782 = .ok (.iconst 2, 1) := dk_5 (dk_at dksL_law_26 3 rfl rfl)
theorem dL_law_783 : decode cL_law 783 = .ok (.iadd, 1) := dk_96 (dk_at dksL_law_26 4 rfl rfl)
theorem dL_law_784 : decode cL_law 784 = .ok (.iaload, 1) := dk_46 (dk_at dksL_law_26 5 rfl rfl)
theorem dL_law_785 : decode cL_law 785 = .ok (.invokevirtual 97, 3) := dk_182 0 97 (dk_at dksL_law_26 6 rfl rfl)
theorem dL_law_788 : decode cL_law 788 = .ok (.if_icmp .eq 764, 3) := dk_159 2 252 (dk_at dksL_law_26 9 rfl rfl)
theorem dL_law_791 : decode cL_law 791 = .ok (.iconst 0, 1) := dk_3 (dk_at dksL_law_26 12 rfl rfl)
theorem dL_law_792 : decode cL_law 792 = .ok (.ireturn, 1) := dk_172 (dk_at dksL_law_26 13 rfl rfl)
theorem dL_law_793 : decode cL_law 793 = .ok (.aload_n 1, 1) := dk_43 (dk_at dksL_law_26 14 rfl rfl)
theorem dL_law_794 : decode cL_law 794 = .ok (.aload_n 0, 1) := dk_42 (dk_at dksL_law_26 15 rfl rfl)
theorem dL_law_795 : decode cL_law 795 = .ok (.iload_n 3, 1) := dk_29 (dk_at dksL_law_26 16 rfl rfl)
theorem dL_law_796 : decode cL_law 796 = .ok (.iconst 1, 1) := dk_4 (dk_at dksL_law_26 17 rfl rfl)
theorem dL_law_797 : decode cL_law 797 = .ok (.iadd, 1) := dk_96 (dk_at dksL_law_26 18 rfl rfl)
theorem dL_law_798 : decode cL_law 798 = .ok (.iaload, 1) := dk_46 (dk_at dksL_law_26 19 rfl rfl)
theorem dL_law_799 : decode cL_law 799 = .ok (.aload_n 0, 1) := dk_42 (dk_at dksL_law_26 20 rfl rfl)
theorem dL_law_800 : decode cL_law 800 = .ok (.iload_n 3, 1) := dk_29 (dk_at dksL_law_26 21 rfl rfl)
theorem dL_law_801 : decode cL_law 801 = .ok (.iconst 2, 1) := dk_5 (dk_at dksL_law_26 22 rfl rfl)
theorem dL_law_802 : decode cL_law 802 = .ok (.iadd, 1) := dk_96 (dk_at dksL_law_26 23 rfl rfl)
theorem dL_law_803 : decode cL_law 803 = .ok (.iaload, 1) := dk_46 (dk_at dksL_law_27 0 rfl rfl)
theorem dL_law_804 : decode cL_law 804 = .ok (.aload_n 0, 1) := dk_42 (dk_at dksL_law_27 1 rfl rfl)
theorem dL_law_805 : decode cL_law 805 = .ok (.iload_n 3, 1) := dk_29 (dk_at dksL_law_27 2 rfl rfl)
theorem dL_law_806 : decode cL_law 806 = .ok (.iconst 3, 1) := dk_6 (dk_at dksL_law_27 3 rfl rfl)
theorem dL_law_807 : decode cL_law 807 = .ok (.iadd, 1) := dk_96 (dk_at dksL_law_27 4 rfl rfl)
theorem dL_law_808 : decode cL_law 808 = .ok (.iaload, 1) := dk_46 (dk_at dksL_law_27 5 rfl rfl)
theorem dL_law_809 : decode cL_law 809 = .ok (.invokevirtual 98, 3) := dk_182 0 98 (dk_at dksL_law_27 6 rfl rfl)
theorem dL_law_812 : decode cL_law 812 = .ok (.aload_n 2, 1) := dk_44 (dk_at dksL_law_27 9 rfl rfl)
theorem dL_law_813 : decode cL_law 813 = .ok (.aload_n 0, 1) := dk_42 (dk_at dksL_law_27 10 rfl rfl)
theorem dL_law_814 : decode cL_law 814 = .ok (.iload_n 3, 1) := dk_29 (dk_at dksL_law_27 11 rfl rfl)
theorem dL_law_815 : decode cL_law 815 = .ok (.iconst 1, 1) := dk_4 (dk_at dksL_law_27 12 rfl rfl)
theorem dL_law_816 : decode cL_law 816 = .ok (.iadd, 1) := dk_96 (dk_at dksL_law_27 13 rfl rfl)
theorem dL_law_817 : decode cL_law 817 = .ok (.iaload, 1) := dk_46 (dk_at dksL_law_27 14 rfl rfl)
theorem dL_law_818 : decode cL_law 818 = .ok (.aload_n 0, 1) := dk_42 (dk_at dksL_law_27 15 rfl rfl)
theorem dL_law_819 : decode cL_law 819 = .ok (.iload_n 3, 1) := dk_29 (dk_at dksL_law_27 16 rfl rfl)
theorem dL_law_820 : decode cL_law 820 = .ok (.iconst 2, 1) := dk_5 (dk_at dksL_law_27 17 rfl rfl)
theorem dL_law_821 : decode cL_law 821 = .ok (.iadd, 1) := dk_96 (dk_at dksL_law_27 18 rfl rfl)
theorem dL_law_822 : decode cL_law 822 = .ok (.iaload, 1) := dk_46 (dk_at dksL_law_27 19 rfl rfl)
theorem dL_law_823 : decode cL_law 823 = .ok (.aload_n 0, 1) := dk_42 (dk_at dksL_law_27 20 rfl rfl)
theorem dL_law_824 : decode cL_law 824 = .ok (.iload_n 3, 1) := dk_29 (dk_at dksL_law_27 21 rfl rfl)
theorem dL_law_825 : decode cL_law 825 = .ok (.iconst 3, 1) := dk_6 (dk_at dksL_law_27 22 rfl rfl)
theorem dL_law_826 : decode cL_law 826 = .ok (.iadd, 1) := dk_96 (dk_at dksL_law_27 23 rfl rfl)
theorem dL_law_827 : decode cL_law 827 = .ok (.iaload, 1) := dk_46 (dk_at dksL_law_28 0 rfl rfl)
theorem dL_law_828 : decode cL_law 828 = .ok (.invokevirtual 102, 3) := dk_182 0 102 (dk_at dksL_law_28 1 rfl rfl)
theorem dL_law_831 : decode cL_law 831 = .ok (.lcmp, 1) := dk_148 (dk_at dksL_law_28 4 rfl rfl)
theorem dL_law_832 : decode cL_law 832 = .ok (.ifCond .eq 720, 3) := dk_153 2 208 (dk_at dksL_law_28 5 rfl rfl)
theorem dL_law_835 : decode cL_law 835 = .ok (.iconst 0, 1) := dk_3 (dk_at dksL_law_28 8 rfl rfl)
theorem dL_law_836 : decode cL_law 836 = .ok (.ireturn, 1) := dk_172 (dk_at dksL_law_28 9 rfl rfl)
theorem dL_law_837 : decode cL_law 837 = .ok (.aload_n 1, 1) := dk_43 (dk_at dksL_law_28 10 rfl rfl)
theorem dL_law_838 : decode cL_law 838 = .ok (.aload_n 0, 1) := dk_42 (dk_at dksL_law_28 11 rfl rfl)
theorem dL_law_839 : decode cL_law 839 = .ok (.iload_n 3, 1) := dk_29 (dk_at dksL_law_28 12 rfl rfl)
theorem dL_law_840 : decode cL_law 840 = .ok (.iconst 1, 1) := dk_4 (dk_at dksL_law_28 13 rfl rfl)
theorem dL_law_841 : decode cL_law 841 = .ok (.iadd, 1) := dk_96 (dk_at dksL_law_28 14 rfl rfl)
theorem dL_law_842 : decode cL_law 842 = .ok (.iaload, 1) := dk_46 (dk_at dksL_law_28 15 rfl rfl)
theorem dL_law_843 : decode cL_law 843 = .ok (.aload_n 0, 1) := dk_42 (dk_at dksL_law_28 16 rfl rfl)
theorem dL_law_844 : decode cL_law 844 = .ok (.iload_n 3, 1) := dk_29 (dk_at dksL_law_28 17 rfl rfl)
theorem dL_law_845 : decode cL_law 845 = .ok (.iconst 2, 1) := dk_5 (dk_at dksL_law_28 18 rfl rfl)
theorem dL_law_846 : decode cL_law 846 = .ok (.iadd, 1) := dk_96 (dk_at dksL_law_28 19 rfl rfl)
theorem dL_law_847 : decode cL_law 847 = .ok (.iaload, 1) := dk_46 (dk_at dksL_law_28 20 rfl rfl)
theorem dL_law_848 : decode cL_law 848 = .ok (.invokevirtual 103, 3) := dk_182 0 103 (dk_at dksL_law_28 21 rfl rfl)
theorem dL_law_851 : decode cL_law 851 = .ok (.aload_n 2, 1) := dk_44 (dk_at dksL_law_29 0 rfl rfl)
theorem dL_law_852 : decode cL_law 852 = .ok (.aload_n 0, 1) := dk_42 (dk_at dksL_law_29 1 rfl rfl)
theorem dL_law_853 : decode cL_law 853 = .ok (.iload_n 3, 1) := dk_29 (dk_at dksL_law_29 2 rfl rfl)
theorem dL_law_854 : decode cL_law 854 = .ok (.iconst 1, 1) := dk_4 (dk_at dksL_law_29 3 rfl rfl)
theorem dL_law_855 : decode cL_law 855 = .ok (.iadd, 1) := dk_96 (dk_at dksL_law_29 4 rfl rfl)
theorem dL_law_856 : decode cL_law 856 = .ok (.iaload, 1) := dk_46 (dk_at dksL_law_29 5 rfl rfl)
theorem dL_law_857 : decode cL_law 857 = .ok (.aload_n 0, 1) := dk_42 (dk_at dksL_law_29 6 rfl rfl)
theorem dL_law_858 : decode cL_law 858 = .ok (.iload_n 3, 1) := dk_29 (dk_at dksL_law_29 7 rfl rfl)
theorem dL_law_859 : decode cL_law 859 = .ok (.iconst 2, 1) := dk_5 (dk_at dksL_law_29 8 rfl rfl)
theorem dL_law_860 : decode cL_law 860 = .ok (.iadd, 1) := dk_96 (dk_at dksL_law_29 9 rfl rfl)
theorem dL_law_861 : decode cL_law 861 = .ok (.iaload, 1) := dk_46 (dk_at dksL_law_29 10 rfl rfl)
theorem dL_law_862 : decode cL_law 862 = .ok (.invokevirtual 106, 3) := dk_182 0 106 (dk_at dksL_law_29 11 rfl rfl)
theorem dL_law_865 : decode cL_law 865 = .ok (.if_icmp .eq 687, 3) := dk_159 2 175 (dk_at dksL_law_29 14 rfl rfl)
theorem dL_law_868 : decode cL_law 868 = .ok (.iconst 0, 1) := dk_3 (dk_at dksL_law_29 17 rfl rfl)
theorem dL_law_869 : decode cL_law 869 = .ok (.ireturn, 1) := dk_172 (dk_at dksL_law_29 18 rfl rfl)
theorem dL_law_870 : decode cL_law 870 = .ok (.aload_n 1, 1) := dk_43 (dk_at dksL_law_29 19 rfl rfl)
theorem dL_law_871 : decode cL_law 871 = .ok (.invokevirtual 107, 3) := dk_182 0 107 (dk_at dksL_law_29 20 rfl rfl)
theorem dL_law_874 : decode cL_law 874 = .ok (.aload_n 2, 1) := dk_44 (dk_at dksL_law_29 23 rfl rfl)
theorem dL_law_875 : decode cL_law 875 = .ok (.invokevirtual 110, 3) := dk_182 0 110 (dk_at dksL_law_30 0 rfl rfl)
theorem dL_law_878 : decode cL_law 878 = .ok (.if_icmp .eq 674, 3) := dk_159 2 162 (dk_at dksL_law_30 3 rfl rfl)
theorem dL_law_881 : decode cL_law 881 = .ok (.iconst 0, 1) := dk_3 (dk_at dksL_law_30 6 rfl rfl)
theorem dL_law_882 : decode cL_law 882 = .ok (.ireturn, 1) := dk_172 (dk_at dksL_law_30 7 rfl rfl)
theorem dL_law_883 : decode cL_law 883 = .ok (.aload_n 1, 1) := dk_43 (dk_at dksL_law_30 8 rfl rfl)
theorem dL_law_884 : decode cL_law 884 = .ok (.aload_n 0, 1) := dk_42 (dk_at dksL_law_30 9 rfl rfl)
theorem dL_law_885 : decode cL_law 885 = .ok (.iload_n 3, 1) := dk_29 (dk_at dksL_law_30 10 rfl rfl)
theorem dL_law_886 : decode cL_law 886 = .ok (.iconst 1, 1) := dk_4 (dk_at dksL_law_30 11 rfl rfl)
theorem dL_law_887 : decode cL_law 887 = .ok (.iadd, 1) := dk_96 (dk_at dksL_law_30 12 rfl rfl)
theorem dL_law_888 : decode cL_law 888 = .ok (.iaload, 1) := dk_46 (dk_at dksL_law_30 13 rfl rfl)
theorem dL_law_889 : decode cL_law 889 = .ok (.aload_n 0, 1) := dk_42 (dk_at dksL_law_30 14 rfl rfl)
theorem dL_law_890 : decode cL_law 890 = .ok (.iload_n 3, 1) := dk_29 (dk_at dksL_law_30 15 rfl rfl)
theorem dL_law_891 : decode cL_law 891 = .ok (.iconst 2, 1) := dk_5 (dk_at dksL_law_30 16 rfl rfl)
theorem dL_law_892 : decode cL_law 892 = .ok (.iadd, 1) := dk_96 (dk_at dksL_law_30 17 rfl rfl)
theorem dL_law_893 : decode cL_law 893 = .ok (.iaload, 1) := dk_46 (dk_at dksL_law_30 18 rfl rfl)
theorem dL_law_894 : decode cL_law 894 = .ok (.invokevirtual 111, 3) := dk_182 0 111 (dk_at dksL_law_30 19 rfl rfl)
theorem dL_law_897 : decode cL_law 897 = .ok (.aload_n 2, 1) := dk_44 (dk_at dksL_law_30 22 rfl rfl)
theorem dL_law_898 : decode cL_law 898 = .ok (.aload_n 0, 1) := dk_42 (dk_at dksL_law_30 23 rfl rfl)
theorem dL_law_899 : decode cL_law 899 = .ok (.iload_n 3, 1) := dk_29 (dk_at dksL_law_31 0 rfl rfl)
theorem dL_law_900 : decode cL_law 900 = .ok (.iconst 1, 1) := dk_4 (dk_at dksL_law_31 1 rfl rfl)
theorem dL_law_901 : decode cL_law 901 = .ok (.iadd, 1) := dk_96 (dk_at dksL_law_31 2 rfl rfl)
theorem dL_law_902 : decode cL_law 902 = .ok (.iaload, 1) := dk_46 (dk_at dksL_law_31 3 rfl rfl)
theorem dL_law_903 : decode cL_law 903 = .ok (.aload_n 0, 1) := dk_42 (dk_at dksL_law_31 4 rfl rfl)
theorem dL_law_904 : decode cL_law 904 = .ok (.iload_n 3, 1) := dk_29 (dk_at dksL_law_31 5 rfl rfl)
theorem dL_law_905 : decode cL_law 905 = .ok (.iconst 2, 1) := dk_5 (dk_at dksL_law_31 6 rfl rfl)
theorem dL_law_906 : decode cL_law 906 = .ok (.iadd, 1) := dk_96 (dk_at dksL_law_31 7 rfl rfl)
theorem dL_law_907 : decode cL_law 907 = .ok (.iaload, 1) := dk_46 (dk_at dksL_law_31 8 rfl rfl)
theorem dL_law_908 : decode cL_law 908 = .ok (.invokevirtual 114, 3) := dk_182 0 114 (dk_at dksL_law_31 9 rfl rfl)
theorem dL_law_911 : decode cL_law 911 = .ok (.if_icmp .eq 641, 3) := dk_159 2 129 (dk_at dksL_law_31 12 rfl rfl)
theorem dL_law_914 : decode cL_law 914 = .ok (.iconst 0, 1) := dk_3 (dk_at dksL_law_31 15 rfl rfl)
theorem dL_law_915 : decode cL_law 915 = .ok (.ireturn, 1) := dk_172 (dk_at dksL_law_31 16 rfl rfl)
theorem dL_law_916 : decode cL_law 916 = .ok (.aload_n 1, 1) := dk_43 (dk_at dksL_law_31 17 rfl rfl)
theorem dL_law_917 : decode cL_law 917 = .ok (.aload_n 0, 1) := dk_42 (dk_at dksL_law_31 18 rfl rfl)
theorem dL_law_918 : decode cL_law 918 = .ok (.iload_n 3, 1) := dk_29 (dk_at dksL_law_31 19 rfl rfl)
theorem dL_law_919 : decode cL_law 919 = .ok (.iconst 1, 1) := dk_4 (dk_at dksL_law_31 20 rfl rfl)
theorem dL_law_920 : decode cL_law 920 = .ok (.iadd, 1) := dk_96 (dk_at dksL_law_31 21 rfl rfl)
theorem dL_law_921 : decode cL_law 921 = .ok (.iaload, 1) := dk_46 (dk_at dksL_law_31 22 rfl rfl)
theorem dL_law_922 : decode cL_law 922 = .ok (.aload_n 0, 1) := dk_42 (dk_at dksL_law_31 23 rfl rfl)
theorem dL_law_923 : decode cL_law 923 = .ok (.iload_n 3, 1) := dk_29 (dk_at dksL_law_32 0 rfl rfl)
theorem dL_law_924 : decode cL_law 924 = .ok (.iconst 2, 1) := dk_5 (dk_at dksL_law_32 1 rfl rfl)
theorem dL_law_925 : decode cL_law 925 = .ok (.iadd, 1) := dk_96 (dk_at dksL_law_32 2 rfl rfl)
theorem dL_law_926 : decode cL_law 926 = .ok (.iaload, 1) := dk_46 (dk_at dksL_law_32 3 rfl rfl)
theorem dL_law_927 : decode cL_law 927 = .ok (.aload_n 0, 1) := dk_42 (dk_at dksL_law_32 4 rfl rfl)
theorem dL_law_928 : decode cL_law 928 = .ok (.iload_n 3, 1) := dk_29 (dk_at dksL_law_32 5 rfl rfl)
theorem dL_law_929 : decode cL_law 929 = .ok (.iconst 3, 1) := dk_6 (dk_at dksL_law_32 6 rfl rfl)
theorem dL_law_930 : decode cL_law 930 = .ok (.iadd, 1) := dk_96 (dk_at dksL_law_32 7 rfl rfl)
theorem dL_law_931 : decode cL_law 931 = .ok (.iaload, 1) := dk_46 (dk_at dksL_law_32 8 rfl rfl)
theorem dL_law_932 : decode cL_law 932 = .ok (.invokevirtual 115, 3) := dk_182 0 115 (dk_at dksL_law_32 9 rfl rfl)
theorem dL_law_935 : decode cL_law 935 = .ok (.aload_n 2, 1) := dk_44 (dk_at dksL_law_32 12 rfl rfl)
theorem dL_law_936 : decode cL_law 936 = .ok (.aload_n 0, 1) := dk_42 (dk_at dksL_law_32 13 rfl rfl)
theorem dL_law_937 : decode cL_law 937 = .ok (.iload_n 3, 1) := dk_29 (dk_at dksL_law_32 14 rfl rfl)
theorem dL_law_938 : decode cL_law 938 = .ok (.iconst 1, 1) := dk_4 (dk_at dksL_law_32 15 rfl rfl)
theorem dL_law_939 : decode cL_law 939 = .ok (.iadd, 1) := dk_96 (dk_at dksL_law_32 16 rfl rfl)
theorem dL_law_940 : decode cL_law 940 = .ok (.iaload, 1) := dk_46 (dk_at dksL_law_32 17 rfl rfl)
theorem dL_law_941 : decode cL_law 941 = .ok (.aload_n 0, 1) := dk_42 (dk_at dksL_law_32 18 rfl rfl)
theorem dL_law_942 : decode cL_law 942 = .ok (.iload_n 3, 1) := dk_29 (dk_at dksL_law_32 19 rfl rfl)
theorem dL_law_943 : decode cL_law 943 = .ok (.iconst 2, 1) := dk_5 (dk_at dksL_law_32 20 rfl rfl)
theorem dL_law_944 : decode cL_law 944 = .ok (.iadd, 1) := dk_96 (dk_at dksL_law_32 21 rfl rfl)
theorem dL_law_945 : decode cL_law 945 = .ok (.iaload, 1) := dk_46 (dk_at dksL_law_32 22 rfl rfl)
theorem dL_law_946 : decode cL_law 946 = .ok (.aload_n 0, 1) := dk_42 (dk_at dksL_law_32 23 rfl rfl)
theorem dL_law_947 : decode cL_law 947 = .ok (.iload_n 3, 1) := dk_29 (dk_at dksL_law_33 0 rfl rfl)
theorem dL_law_948 : decode cL_law 948 = .ok (.iconst 3, 1) := dk_6 (dk_at dksL_law_33 1 rfl rfl)
theorem dL_law_949 : decode cL_law 949 = .ok (.iadd, 1) := dk_96 (dk_at dksL_law_33 2 rfl rfl)
theorem dL_law_950 : decode cL_law 950 = .ok (.iaload, 1) := dk_46 (dk_at dksL_law_33 3 rfl rfl)
theorem dL_law_951 : decode cL_law 951 = .ok (.invokevirtual 118, 3) := dk_182 0 118 (dk_at dksL_law_33 4 rfl rfl)
theorem dL_law_954 : decode cL_law 954 = .ok (.if_icmp .eq 598, 3) := dk_159 2 86 (dk_at dksL_law_33 7 rfl rfl)
theorem dL_law_957 : decode cL_law 957 = .ok (.iconst 0, 1) := dk_3 (dk_at dksL_law_33 10 rfl rfl)
theorem dL_law_958 : decode cL_law 958 = .ok (.ireturn, 1) := dk_172 (dk_at dksL_law_33 11 rfl rfl)
theorem dL_law_959 : decode cL_law 959 = .ok (.aload_n 1, 1) := dk_43 (dk_at dksL_law_33 12 rfl rfl)
theorem dL_law_960 : decode cL_law 960 = .ok (.aload_n 0, 1) := dk_42 (dk_at dksL_law_33 13 rfl rfl)
theorem dL_law_961 : decode cL_law 961 = .ok (.iload_n 3, 1) := dk_29 (dk_at dksL_law_33 14 rfl rfl)
theorem dL_law_962 : decode cL_law 962 = .ok (.iconst 1, 1) := dk_4 (dk_at dksL_law_33 15 rfl rfl)
theorem dL_law_963 : decode cL_law 963 = .ok (.iadd, 1) := dk_96 (dk_at dksL_law_33 16 rfl rfl)
theorem dL_law_964 : decode cL_law 964 = .ok (.iaload, 1) := dk_46 (dk_at dksL_law_33 17 rfl rfl)
theorem dL_law_965 : decode cL_law 965 = .ok (.i2l, 1) := dk_133 (dk_at dksL_law_33 18 rfl rfl)
theorem dL_law_966 : decode cL_law 966 = .ok (.bipush 32, 2) := dk_16 32 (dk_at dksL_law_33 19 rfl rfl)
theorem dL_law_968 : decode cL_law 968 = .ok (.lshl, 1) := dk_121 (dk_at dksL_law_33 21 rfl rfl)
theorem dL_law_969 : decode cL_law 969 = .ok (.aload_n 0, 1) := dk_42 (dk_at dksL_law_33 22 rfl rfl)
theorem dL_law_970 : decode cL_law 970 = .ok (.iload_n 3, 1) := dk_29 (dk_at dksL_law_33 23 rfl rfl)
theorem dL_law_971 : decode cL_law 971 = .ok (.iconst 2, 1) := dk_5 (dk_at dksL_law_34 0 rfl rfl)
theorem dL_law_972 : decode cL_law 972 = .ok (.iadd, 1) := dk_96 (dk_at dksL_law_34 1 rfl rfl)
theorem dL_law_973 : decode cL_law 973 = .ok (.iaload, 1) := dk_46 (dk_at dksL_law_34 2 rfl rfl)
theorem dL_law_974 : decode cL_law 974 = .ok (.i2l, 1) := dk_133 (dk_at dksL_law_34 3 rfl rfl)
theorem dL_law_975 : decode cL_law 975 = .ok (.ldc2_w 119, 3) := dk_20 0 119 (dk_at dksL_law_34 4 rfl rfl)
theorem dL_law_978 : decode cL_law 978 = .ok (.land, 1) := dk_127 (dk_at dksL_law_34 7 rfl rfl)
theorem dL_law_979 : decode cL_law 979 = .ok (.lor, 1) := dk_129 (dk_at dksL_law_34 8 rfl rfl)
theorem dL_law_980 : decode cL_law 980 = .ok (.aload_n 0, 1) := dk_42 (dk_at dksL_law_34 9 rfl rfl)
theorem dL_law_981 : decode cL_law 981 = .ok (.iload_n 3, 1) := dk_29 (dk_at dksL_law_34 10 rfl rfl)
theorem dL_law_982 : decode cL_law 982 = .ok (.iconst 3, 1) := dk_6 (dk_at dksL_law_34 11 rfl rfl)
theorem dL_law_983 : decode cL_law 983 = .ok (.iadd, 1) := dk_96 (dk_at dksL_law_34 12 rfl rfl)
theorem dL_law_984 : decode cL_law 984 = .ok (.iaload, 1) := dk_46 (dk_at dksL_law_34 13 rfl rfl)
theorem dL_law_985 : decode cL_law 985 = .ok (.invokevirtual 121, 3) := dk_182 0 121 (dk_at dksL_law_34 14 rfl rfl)
theorem dL_law_988 : decode cL_law 988 = .ok (.aload_n 2, 1) := dk_44 (dk_at dksL_law_34 17 rfl rfl)
theorem dL_law_989 : decode cL_law 989 = .ok (.aload_n 0, 1) := dk_42 (dk_at dksL_law_34 18 rfl rfl)
theorem dL_law_990 : decode cL_law 990 = .ok (.iload_n 3, 1) := dk_29 (dk_at dksL_law_34 19 rfl rfl)
theorem dL_law_991 : decode cL_law 991 = .ok (.iconst 1, 1) := dk_4 (dk_at dksL_law_34 20 rfl rfl)
theorem dL_law_992 : decode cL_law 992 = .ok (.iadd, 1) := dk_96 (dk_at dksL_law_34 21 rfl rfl)
theorem dL_law_993 : decode cL_law 993 = .ok (.iaload, 1) := dk_46 (dk_at dksL_law_34 22 rfl rfl)
theorem dL_law_994 : decode cL_law 994 = .ok (.i2l, 1) := dk_133 (dk_at dksL_law_34 23 rfl rfl)
theorem dL_law_995 : decode cL_law 995 = .ok (.bipush 32, 2) := dk_16 32 (dk_at dksL_law_35 0 rfl rfl)
theorem dL_law_997 : decode cL_law 997 = .ok (.lshl, 1) := dk_121 (dk_at dksL_law_35 2 rfl rfl)
theorem dL_law_998 : decode cL_law 998 = .ok (.aload_n 0, 1) := dk_42 (dk_at dksL_law_35 3 rfl rfl)
theorem dL_law_999 : decode cL_law 999 = .ok (.iload_n 3, 1) := dk_29 (dk_at dksL_law_35 4 rfl rfl)
theorem dL_law_1000 : decode cL_law 1000 = .ok (.iconst 2, 1) := dk_5 (dk_at dksL_law_35 5 rfl rfl)
theorem dL_law_1001 : decode cL_law 1001 = .ok (.iadd, 1) := dk_96 (dk_at dksL_law_35 6 rfl rfl)
theorem dL_law_1002 : decode cL_law 1002 = .ok (.iaload, 1) := dk_46 (dk_at dksL_law_35 7 rfl rfl)
theorem dL_law_1003 : decode cL_law 1003 = .ok (.i2l, 1) := dk_133 (dk_at dksL_law_35 8 rfl rfl)
theorem dL_law_1004 : decode cL_law 1004 = .ok (.ldc2_w 119, 3) := dk_20 0 119 (dk_at dksL_law_35 9 rfl rfl)
theorem dL_law_1007 : decode cL_law 1007 = .ok (.land, 1) := dk_127 (dk_at dksL_law_35 12 rfl rfl)
theorem dL_law_1008 : decode cL_law 1008 = .ok (.lor, 1) := dk_129 (dk_at dksL_law_35 13 rfl rfl)
theorem dL_law_1009 : decode cL_law 1009 = .ok (.aload_n 0, 1) := dk_42 (dk_at dksL_law_35 14 rfl rfl)
theorem dL_law_1010 : decode cL_law 1010 = .ok (.iload_n 3, 1) := dk_29 (dk_at dksL_law_35 15 rfl rfl)
theorem dL_law_1011 : decode cL_law 1011 = .ok (.iconst 3, 1) := dk_6 (dk_at dksL_law_35 16 rfl rfl)
theorem dL_law_1012 : decode cL_law 1012 = .ok (.iadd, 1) := dk_96 (dk_at dksL_law_35 17 rfl rfl)
theorem dL_law_1013 : decode cL_law 1013 = .ok (.iaload, 1) := dk_46 (dk_at dksL_law_35 18 rfl rfl)
theorem dL_law_1014 : decode cL_law 1014 = .ok (.invokevirtual 125, 3) := dk_182 0 125 (dk_at dksL_law_35 19 rfl rfl)
theorem dL_law_1017 : decode cL_law 1017 = .ok (.if_icmp .eq 535, 3) := dk_159 2 23 (dk_at dksL_law_36 0 rfl rfl)
theorem dL_law_1020 : decode cL_law 1020 = .ok (.iconst 0, 1) := dk_3 (dk_at dksL_law_36 3 rfl rfl)
theorem dL_law_1021 : decode cL_law 1021 = .ok (.ireturn, 1) := dk_172 (dk_at dksL_law_36 4 rfl rfl)
theorem dL_law_1022 : decode cL_law 1022 = .ok (.aload_n 1, 1) := dk_43 (dk_at dksL_law_36 5 rfl rfl)
theorem dL_law_1023 : decode cL_law 1023 = .ok (.invokevirtual 126, 3) := dk_182 0 126 (dk_at dksL_law_36 6 rfl rfl)
theorem dL_law_1026 : decode cL_law 1026 = .ok (.aload_n 2, 1) := dk_44 (dk_at dksL_law_36 9 rfl rfl)
theorem dL_law_1027 : decode cL_law 1027 = .ok (.invokevirtual 129, 3) := dk_182 0 129 (dk_at dksL_law_36 10 rfl rfl)
theorem dL_law_1030 : decode cL_law 1030 = .ok (.if_icmp .eq 522, 3) := dk_159 2 10 (dk_at dksL_law_36 13 rfl rfl)
theorem dL_law_1033 : decode cL_law 1033 = .ok (.iconst 0, 1) := dk_3 (dk_at dksL_law_36 16 rfl rfl)
theorem dL_law_1034 : decode cL_law 1034 = .ok (.ireturn, 1) := dk_172 (dk_at dksL_law_36 17 rfl rfl)
theorem dL_law_1035 : decode cL_law 1035 = .ok (.aload_n 1, 1) := dk_43 (dk_at dksL_law_36 18 rfl rfl)
theorem dL_law_1036 : decode cL_law 1036 = .ok (.invokevirtual 130, 3) := dk_182 0 130 (dk_at dksL_law_36 19 rfl rfl)
theorem dL_law_1039 : decode cL_law 1039 = .ok (.aload_n 2, 1) := dk_44 (dk_at dksL_law_36 22 rfl rfl)
theorem dL_law_1040 : decode cL_law 1040 = .ok (.invokevirtual 133, 3) := dk_182 0 133 (dk_at dksL_law_37 0 rfl rfl)
theorem dL_law_1043 : decode cL_law 1043 = .ok (.if_icmp .eq 509, 3) := dk_159 1 253 (dk_at dksL_law_37 3 rfl rfl)
theorem dL_law_1046 : decode cL_law 1046 = .ok (.iconst 0, 1) := dk_3 (dk_at dksL_law_37 6 rfl rfl)
theorem dL_law_1047 : decode cL_law 1047 = .ok (.ireturn, 1) := dk_172 (dk_at dksL_law_37 7 rfl rfl)
theorem dL_law_1048 : decode cL_law 1048 = .ok (.aload_n 1, 1) := dk_43 (dk_at dksL_law_37 8 rfl rfl)
theorem dL_law_1049 : decode cL_law 1049 = .ok (.invokevirtual 134, 3) := dk_182 0 134 (dk_at dksL_law_37 9 rfl rfl)
theorem dL_law_1052 : decode cL_law 1052 = .ok (.aload_n 2, 1) := dk_44 (dk_at dksL_law_37 12 rfl rfl)
theorem dL_law_1053 : decode cL_law 1053 = .ok (.invokevirtual 137, 3) := dk_182 0 137 (dk_at dksL_law_37 13 rfl rfl)
theorem dL_law_1056 : decode cL_law 1056 = .ok (.if_icmp .eq 496, 3) := dk_159 1 240 (dk_at dksL_law_37 16 rfl rfl)
theorem dL_law_1059 : decode cL_law 1059 = .ok (.iconst 0, 1) := dk_3 (dk_at dksL_law_37 19 rfl rfl)
theorem dL_law_1060 : decode cL_law 1060 = .ok (.ireturn, 1) := dk_172 (dk_at dksL_law_37 20 rfl rfl)
theorem dL_law_1061 : decode cL_law 1061 = .ok (.aload_n 1, 1) := dk_43 (dk_at dksL_law_37 21 rfl rfl)
theorem dL_law_1062 : decode cL_law 1062 = .ok (.invokevirtual 138, 3) := dk_182 0 138 (dk_at dksL_law_38 0 rfl rfl)
theorem dL_law_1065 : decode cL_law 1065 = .ok (.aload_n 2, 1) := dk_44 (dk_at dksL_law_38 3 rfl rfl)
theorem dL_law_1066 : decode cL_law 1066 = .ok (.invokevirtual 141, 3) := dk_182 0 141 (dk_at dksL_law_38 4 rfl rfl)
theorem dL_law_1069 : decode cL_law 1069 = .ok (.if_icmp .eq 483, 3) := dk_159 1 227 (dk_at dksL_law_38 7 rfl rfl)
theorem dL_law_1072 : decode cL_law 1072 = .ok (.iconst 0, 1) := dk_3 (dk_at dksL_law_38 10 rfl rfl)
theorem dL_law_1073 : decode cL_law 1073 = .ok (.ireturn, 1) := dk_172 (dk_at dksL_law_38 11 rfl rfl)
theorem dL_law_1074 : decode cL_law 1074 = .ok (.aload_n 1, 1) := dk_43 (dk_at dksL_law_38 12 rfl rfl)
theorem dL_law_1075 : decode cL_law 1075 = .ok (.invokevirtual 142, 3) := dk_182 0 142 (dk_at dksL_law_38 13 rfl rfl)
theorem dL_law_1078 : decode cL_law 1078 = .ok (.aload_n 2, 1) := dk_44 (dk_at dksL_law_38 16 rfl rfl)
theorem dL_law_1079 : decode cL_law 1079 = .ok (.invokevirtual 145, 3) := dk_182 0 145 (dk_at dksL_law_38 17 rfl rfl)
theorem dL_law_1082 : decode cL_law 1082 = .ok (.if_icmp .eq 470, 3) := dk_159 1 214 (dk_at dksL_law_38 20 rfl rfl)
theorem dL_law_1085 : decode cL_law 1085 = .ok (.iconst 0, 1) := dk_3 (dk_at dksL_law_38 23 rfl rfl)
theorem dL_law_1086 : decode cL_law 1086 = .ok (.ireturn, 1) := dk_172 (dk_at dksL_law_39 0 rfl rfl)
theorem dL_law_1087 : decode cL_law 1087 = .ok (.aload_n 1, 1) := dk_43 (dk_at dksL_law_39 1 rfl rfl)
theorem dL_law_1088 : decode cL_law 1088 = .ok (.invokevirtual 146, 3) := dk_182 0 146 (dk_at dksL_law_39 2 rfl rfl)
theorem dL_law_1091 : decode cL_law 1091 = .ok (.aload_n 2, 1) := dk_44 (dk_at dksL_law_39 5 rfl rfl)
theorem dL_law_1092 : decode cL_law 1092 = .ok (.invokevirtual 149, 3) := dk_182 0 149 (dk_at dksL_law_39 6 rfl rfl)
theorem dL_law_1095 : decode cL_law 1095 = .ok (.if_icmp .eq 457, 3) := dk_159 1 201 (dk_at dksL_law_39 9 rfl rfl)
theorem dL_law_1098 : decode cL_law 1098 = .ok (.iconst 0, 1) := dk_3 (dk_at dksL_law_39 12 rfl rfl)
theorem dL_law_1099 : decode cL_law 1099 = .ok (.ireturn, 1) := dk_172 (dk_at dksL_law_39 13 rfl rfl)
theorem dL_law_1100 : decode cL_law 1100 = .ok (.aload_n 1, 1) := dk_43 (dk_at dksL_law_39 14 rfl rfl)
theorem dL_law_1101 : decode cL_law 1101 = .ok (.aload_n 0, 1) := dk_42 (dk_at dksL_law_39 15 rfl rfl)
theorem dL_law_1102 : decode cL_law 1102 = .ok (.iload_n 3, 1) := dk_29 (dk_at dksL_law_39 16 rfl rfl)
theorem dL_law_1103 : decode cL_law 1103 = .ok (.iconst 1, 1) := dk_4 (dk_at dksL_law_39 17 rfl rfl)
theorem dL_law_1104 : decode cL_law 1104 = .ok (.iadd, 1) := dk_96 (dk_at dksL_law_39 18 rfl rfl)
theorem dL_law_1105 : decode cL_law 1105 = .ok (.iaload, 1) := dk_46 (dk_at dksL_law_39 19 rfl rfl)
theorem dL_law_1106 : decode cL_law 1106 = .ok (.aload_n 0, 1) := dk_42 (dk_at dksL_law_39 20 rfl rfl)
theorem dL_law_1107 : decode cL_law 1107 = .ok (.iload_n 3, 1) := dk_29 (dk_at dksL_law_39 21 rfl rfl)
theorem dL_law_1108 : decode cL_law 1108 = .ok (.iconst 2, 1) := dk_5 (dk_at dksL_law_39 22 rfl rfl)
theorem dL_law_1109 : decode cL_law 1109 = .ok (.iadd, 1) := dk_96 (dk_at dksL_law_39 23 rfl rfl)
theorem dL_law_1110 : decode cL_law 1110 = .ok (.iaload, 1) := dk_46 (dk_at dksL_law_40 0 rfl rfl)
theorem dL_law_1111 : decode cL_law 1111 = .ok (.invokevirtual 150, 3) := dk_182 0 150 (dk_at dksL_law_40 1 rfl rfl)
theorem dL_law_1114 : decode cL_law 1114 = .ok (.aload_n 2, 1) := dk_44 (dk_at dksL_law_40 4 rfl rfl)
theorem dL_law_1115 : decode cL_law 1115 = .ok (.aload_n 0, 1) := dk_42 (dk_at dksL_law_40 5 rfl rfl)
theorem dL_law_1116 : decode cL_law 1116 = .ok (.iload_n 3, 1) := dk_29 (dk_at dksL_law_40 6 rfl rfl)
theorem dL_law_1117 : decode cL_law 1117 = .ok (.iconst 1, 1) := dk_4 (dk_at dksL_law_40 7 rfl rfl)
theorem dL_law_1118 : decode cL_law 1118 = .ok (.iadd, 1) := dk_96 (dk_at dksL_law_40 8 rfl rfl)
theorem dL_law_1119 : decode cL_law 1119 = .ok (.iaload, 1) := dk_46 (dk_at dksL_law_40 9 rfl rfl)
theorem dL_law_1120 : decode cL_law 1120 = .ok (.aload_n 0, 1) := dk_42 (dk_at dksL_law_40 10 rfl rfl)
theorem dL_law_1121 : decode cL_law 1121 = .ok (.iload_n 3, 1) := dk_29 (dk_at dksL_law_40 11 rfl rfl)
theorem dL_law_1122 : decode cL_law 1122 = .ok (.iconst 2, 1) := dk_5 (dk_at dksL_law_40 12 rfl rfl)
theorem dL_law_1123 : decode cL_law 1123 = .ok (.iadd, 1) := dk_96 (dk_at dksL_law_40 13 rfl rfl)
theorem dL_law_1124 : decode cL_law 1124 = .ok (.iaload, 1) := dk_46 (dk_at dksL_law_40 14 rfl rfl)
theorem dL_law_1125 : decode cL_law 1125 = .ok (.invokevirtual 153, 3) := dk_182 0 153 (dk_at dksL_law_40 15 rfl rfl)
theorem dL_law_1128 : decode cL_law 1128 = .ok (.if_icmp .eq 424, 3) := dk_159 1 168 (dk_at dksL_law_40 18 rfl rfl)
theorem dL_law_1131 : decode cL_law 1131 = .ok (.iconst 0, 1) := dk_3 (dk_at dksL_law_40 21 rfl rfl)
theorem dL_law_1132 : decode cL_law 1132 = .ok (.ireturn, 1) := dk_172 (dk_at dksL_law_40 22 rfl rfl)
theorem dL_law_1133 : decode cL_law 1133 = .ok (.aload_n 1, 1) := dk_43 (dk_at dksL_law_40 23 rfl rfl)
theorem dL_law_1134 : decode cL_law 1134 = .ok (.aload_n 0, 1) := dk_42 (dk_at dksL_law_41 0 rfl rfl)
theorem dL_law_1135 : decode cL_law 1135 = .ok (.iload_n 3, 1) := dk_29 (dk_at dksL_law_41 1 rfl rfl)
theorem dL_law_1136 : decode cL_law 1136 = .ok (.iconst 1, 1) := dk_4 (dk_at dksL_law_41 2 rfl rfl)
theorem dL_law_1137 : decode cL_law 1137 = .ok (.iadd, 1) := dk_96 (dk_at dksL_law_41 3 rfl rfl)
theorem dL_law_1138 : decode cL_law 1138 = .ok (.iaload, 1) := dk_46 (dk_at dksL_law_41 4 rfl rfl)
theorem dL_law_1139 : decode cL_law 1139 = .ok (.aload_n 0, 1) := dk_42 (dk_at dksL_law_41 5 rfl rfl)
theorem dL_law_1140 : decode cL_law 1140 = .ok (.iload_n 3, 1) := dk_29 (dk_at dksL_law_41 6 rfl rfl)
theorem dL_law_1141 : decode cL_law 1141 = .ok (.iconst 2, 1) := dk_5 (dk_at dksL_law_41 7 rfl rfl)
theorem dL_law_1142 : decode cL_law 1142 = .ok (.iadd, 1) := dk_96 (dk_at dksL_law_41 8 rfl rfl)
theorem dL_law_1143 : decode cL_law 1143 = .ok (.iaload, 1) := dk_46 (dk_at dksL_law_41 9 rfl rfl)
theorem dL_law_1144 : decode cL_law 1144 = .ok (.aload_n 0, 1) := dk_42 (dk_at dksL_law_41 10 rfl rfl)
theorem dL_law_1145 : decode cL_law 1145 = .ok (.iload_n 3, 1) := dk_29 (dk_at dksL_law_41 11 rfl rfl)
theorem dL_law_1146 : decode cL_law 1146 = .ok (.iconst 3, 1) := dk_6 (dk_at dksL_law_41 12 rfl rfl)
theorem dL_law_1147 : decode cL_law 1147 = .ok (.iadd, 1) := dk_96 (dk_at dksL_law_41 13 rfl rfl)
theorem dL_law_1148 : decode cL_law 1148 = .ok (.iaload, 1) := dk_46 (dk_at dksL_law_41 14 rfl rfl)
theorem dL_law_1149 : decode cL_law 1149 = .ok (.invokevirtual 154, 3) := dk_182 0 154 (dk_at dksL_law_41 15 rfl rfl)
theorem dL_law_1152 : decode cL_law 1152 = .ok (.aload_n 2, 1) := dk_44 (dk_at dksL_law_41 18 rfl rfl)
theorem dL_law_1153 : decode cL_law 1153 = .ok (.aload_n 0, 1) := dk_42 (dk_at dksL_law_41 19 rfl rfl)
theorem dL_law_1154 : decode cL_law 1154 = .ok (.iload_n 3, 1) := dk_29 (dk_at dksL_law_41 20 rfl rfl)
theorem dL_law_1155 : decode cL_law 1155 = .ok (.iconst 1, 1) := dk_4 (dk_at dksL_law_41 21 rfl rfl)
theorem dL_law_1156 : decode cL_law 1156 = .ok (.iadd, 1) := dk_96 (dk_at dksL_law_41 22 rfl rfl)
theorem dL_law_1157 : decode cL_law 1157 = .ok (.iaload, 1) := dk_46 (dk_at dksL_law_41 23 rfl rfl)
theorem dL_law_1158 : decode cL_law 1158 = .ok (.aload_n 0, 1) := dk_42 (dk_at dksL_law_42 0 rfl rfl)
theorem dL_law_1159 : decode cL_law 1159 = .ok (.iload_n 3, 1) := dk_29 (dk_at dksL_law_42 1 rfl rfl)
theorem dL_law_1160 : decode cL_law 1160 = .ok (.iconst 2, 1) := dk_5 (dk_at dksL_law_42 2 rfl rfl)
theorem dL_law_1161 : decode cL_law 1161 = .ok (.iadd, 1) := dk_96 (dk_at dksL_law_42 3 rfl rfl)
theorem dL_law_1162 : decode cL_law 1162 = .ok (.iaload, 1) := dk_46 (dk_at dksL_law_42 4 rfl rfl)
theorem dL_law_1163 : decode cL_law 1163 = .ok (.aload_n 0, 1) := dk_42 (dk_at dksL_law_42 5 rfl rfl)
theorem dL_law_1164 : decode cL_law 1164 = .ok (.iload_n 3, 1) := dk_29 (dk_at dksL_law_42 6 rfl rfl)
theorem dL_law_1165 : decode cL_law 1165 = .ok (.iconst 3, 1) := dk_6 (dk_at dksL_law_42 7 rfl rfl)
theorem dL_law_1166 : decode cL_law 1166 = .ok (.iadd, 1) := dk_96 (dk_at dksL_law_42 8 rfl rfl)
theorem dL_law_1167 : decode cL_law 1167 = .ok (.iaload, 1) := dk_46 (dk_at dksL_law_42 9 rfl rfl)
theorem dL_law_1168 : decode cL_law 1168 = .ok (.invokevirtual 157, 3) := dk_182 0 157 (dk_at dksL_law_42 10 rfl rfl)
theorem dL_law_1171 : decode cL_law 1171 = .ok (.if_icmp .eq 381, 3) := dk_159 1 125 (dk_at dksL_law_42 13 rfl rfl)
theorem dL_law_1174 : decode cL_law 1174 = .ok (.iconst 0, 1) := dk_3 (dk_at dksL_law_42 16 rfl rfl)
theorem dL_law_1175 : decode cL_law 1175 = .ok (.ireturn, 1) := dk_172 (dk_at dksL_law_42 17 rfl rfl)
theorem dL_law_1176 : decode cL_law 1176 = .ok (.aload_n 1, 1) := dk_43 (dk_at dksL_law_42 18 rfl rfl)
theorem dL_law_1177 : decode cL_law 1177 = .ok (.invokevirtual 158, 3) := dk_182 0 158 (dk_at dksL_law_42 19 rfl rfl)
theorem dL_law_1180 : decode cL_law 1180 = .ok (.aload_n 2, 1) := dk_44 (dk_at dksL_law_42 22 rfl rfl)
theorem dL_law_1181 : decode cL_law 1181 = .ok (.invokevirtual 161, 3) := dk_182 0 161 (dk_at dksL_law_43 0 rfl rfl)
theorem dL_law_1184 : decode cL_law 1184 = .ok (.if_icmp .eq 368, 3) := dk_159 1 112 (dk_at dksL_law_43 3 rfl rfl)
theorem dL_law_1187 : decode cL_law 1187 = .ok (.iconst 0, 1) := dk_3 (dk_at dksL_law_43 6 rfl rfl)
theorem dL_law_1188 : decode cL_law 1188 = .ok (.ireturn, 1) := dk_172 (dk_at dksL_law_43 7 rfl rfl)
theorem dL_law_1189 : decode cL_law 1189 = .ok (.aload_n 1, 1) := dk_43 (dk_at dksL_law_43 8 rfl rfl)
theorem dL_law_1190 : decode cL_law 1190 = .ok (.aload_n 0, 1) := dk_42 (dk_at dksL_law_43 9 rfl rfl)
theorem dL_law_1191 : decode cL_law 1191 = .ok (.iload_n 3, 1) := dk_29 (dk_at dksL_law_43 10 rfl rfl)
theorem dL_law_1192 : decode cL_law 1192 = .ok (.iconst 1, 1) := dk_4 (dk_at dksL_law_43 11 rfl rfl)
theorem dL_law_1193 : decode cL_law 1193 = .ok (.iadd, 1) := dk_96 (dk_at dksL_law_43 12 rfl rfl)
theorem dL_law_1194 : decode cL_law 1194 = .ok (.iaload, 1) := dk_46 (dk_at dksL_law_43 13 rfl rfl)
theorem dL_law_1195 : decode cL_law 1195 = .ok (.aload_n 0, 1) := dk_42 (dk_at dksL_law_43 14 rfl rfl)
theorem dL_law_1196 : decode cL_law 1196 = .ok (.iload_n 3, 1) := dk_29 (dk_at dksL_law_43 15 rfl rfl)
theorem dL_law_1197 : decode cL_law 1197 = .ok (.iconst 2, 1) := dk_5 (dk_at dksL_law_43 16 rfl rfl)
theorem dL_law_1198 : decode cL_law 1198 = .ok (.iadd, 1) := dk_96 (dk_at dksL_law_43 17 rfl rfl)
theorem dL_law_1199 : decode cL_law 1199 = .ok (.iaload, 1) := dk_46 (dk_at dksL_law_43 18 rfl rfl)
theorem dL_law_1200 : decode cL_law 1200 = .ok (.aload_n 0, 1) := dk_42 (dk_at dksL_law_43 19 rfl rfl)
theorem dL_law_1201 : decode cL_law 1201 = .ok (.iload_n 3, 1) := dk_29 (dk_at dksL_law_43 20 rfl rfl)
theorem dL_law_1202 : decode cL_law 1202 = .ok (.iconst 3, 1) := dk_6 (dk_at dksL_law_43 21 rfl rfl)
theorem dL_law_1203 : decode cL_law 1203 = .ok (.iadd, 1) := dk_96 (dk_at dksL_law_43 22 rfl rfl)
theorem dL_law_1204 : decode cL_law 1204 = .ok (.iaload, 1) := dk_46 (dk_at dksL_law_43 23 rfl rfl)
theorem dL_law_1205 : decode cL_law 1205 = .ok (.invokevirtual 162, 3) := dk_182 0 162 (dk_at dksL_law_44 0 rfl rfl)
theorem dL_law_1208 : decode cL_law 1208 = .ok (.aload_n 2, 1) := dk_44 (dk_at dksL_law_44 3 rfl rfl)
theorem dL_law_1209 : decode cL_law 1209 = .ok (.aload_n 0, 1) := dk_42 (dk_at dksL_law_44 4 rfl rfl)
theorem dL_law_1210 : decode cL_law 1210 = .ok (.iload_n 3, 1) := dk_29 (dk_at dksL_law_44 5 rfl rfl)
theorem dL_law_1211 : decode cL_law 1211 = .ok (.iconst 1, 1) := dk_4 (dk_at dksL_law_44 6 rfl rfl)
theorem dL_law_1212 : decode cL_law 1212 = .ok (.iadd, 1) := dk_96 (dk_at dksL_law_44 7 rfl rfl)
theorem dL_law_1213 : decode cL_law 1213 = .ok (.iaload, 1) := dk_46 (dk_at dksL_law_44 8 rfl rfl)
theorem dL_law_1214 : decode cL_law 1214 = .ok (.aload_n 0, 1) := dk_42 (dk_at dksL_law_44 9 rfl rfl)
theorem dL_law_1215 : decode cL_law 1215 = .ok (.iload_n 3, 1) := dk_29 (dk_at dksL_law_44 10 rfl rfl)
theorem dL_law_1216 : decode cL_law 1216 = .ok (.iconst 2, 1) := dk_5 (dk_at dksL_law_44 11 rfl rfl)
theorem dL_law_1217 : decode cL_law 1217 = .ok (.iadd, 1) := dk_96 (dk_at dksL_law_44 12 rfl rfl)
theorem dL_law_1218 : decode cL_law 1218 = .ok (.iaload, 1) := dk_46 (dk_at dksL_law_44 13 rfl rfl)
theorem dL_law_1219 : decode cL_law 1219 = .ok (.aload_n 0, 1) := dk_42 (dk_at dksL_law_44 14 rfl rfl)
theorem dL_law_1220 : decode cL_law 1220 = .ok (.iload_n 3, 1) := dk_29 (dk_at dksL_law_44 15 rfl rfl)
theorem dL_law_1221 : decode cL_law 1221 = .ok (.iconst 3, 1) := dk_6 (dk_at dksL_law_44 16 rfl rfl)
theorem dL_law_1222 : decode cL_law 1222 = .ok (.iadd, 1) := dk_96 (dk_at dksL_law_44 17 rfl rfl)
theorem dL_law_1223 : decode cL_law 1223 = .ok (.iaload, 1) := dk_46 (dk_at dksL_law_44 18 rfl rfl)
theorem dL_law_1224 : decode cL_law 1224 = .ok (.invokevirtual 165, 3) := dk_182 0 165 (dk_at dksL_law_44 19 rfl rfl)
theorem dL_law_1227 : decode cL_law 1227 = .ok (.if_icmp .eq 325, 3) := dk_159 1 69 (dk_at dksL_law_45 0 rfl rfl)
theorem dL_law_1230 : decode cL_law 1230 = .ok (.iconst 0, 1) := dk_3 (dk_at dksL_law_45 3 rfl rfl)
theorem dL_law_1231 : decode cL_law 1231 = .ok (.ireturn, 1) := dk_172 (dk_at dksL_law_45 4 rfl rfl)
theorem dL_law_1232 : decode cL_law 1232 = .ok (.aload_n 1, 1) := dk_43 (dk_at dksL_law_45 5 rfl rfl)
theorem dL_law_1233 : decode cL_law 1233 = .ok (.aload_n 0, 1) := dk_42 (dk_at dksL_law_45 6 rfl rfl)
theorem dL_law_1234 : decode cL_law 1234 = .ok (.iload_n 3, 1) := dk_29 (dk_at dksL_law_45 7 rfl rfl)
theorem dL_law_1235 : decode cL_law 1235 = .ok (.iconst 1, 1) := dk_4 (dk_at dksL_law_45 8 rfl rfl)
theorem dL_law_1236 : decode cL_law 1236 = .ok (.iadd, 1) := dk_96 (dk_at dksL_law_45 9 rfl rfl)
theorem dL_law_1237 : decode cL_law 1237 = .ok (.iaload, 1) := dk_46 (dk_at dksL_law_45 10 rfl rfl)
theorem dL_law_1238 : decode cL_law 1238 = .ok (.aload_n 0, 1) := dk_42 (dk_at dksL_law_45 11 rfl rfl)
theorem dL_law_1239 : decode cL_law 1239 = .ok (.iload_n 3, 1) := dk_29 (dk_at dksL_law_45 12 rfl rfl)
theorem dL_law_1240 : decode cL_law 1240 = .ok (.iconst 2, 1) := dk_5 (dk_at dksL_law_45 13 rfl rfl)
theorem dL_law_1241 : decode cL_law 1241 = .ok (.iadd, 1) := dk_96 (dk_at dksL_law_45 14 rfl rfl)
theorem dL_law_1242 : decode cL_law 1242 = .ok (.iaload, 1) := dk_46 (dk_at dksL_law_45 15 rfl rfl)
theorem dL_law_1243 : decode cL_law 1243 = .ok (.aload_n 0, 1) := dk_42 (dk_at dksL_law_45 16 rfl rfl)
theorem dL_law_1244 : decode cL_law 1244 = .ok (.iload_n 3, 1) := dk_29 (dk_at dksL_law_45 17 rfl rfl)
theorem dL_law_1245 : decode cL_law 1245 = .ok (.iconst 3, 1) := dk_6 (dk_at dksL_law_45 18 rfl rfl)
theorem dL_law_1246 : decode cL_law 1246 = .ok (.iadd, 1) := dk_96 (dk_at dksL_law_45 19 rfl rfl)
theorem dL_law_1247 : decode cL_law 1247 = .ok (.iaload, 1) := dk_46 (dk_at dksL_law_45 20 rfl rfl)
theorem dL_law_1248 : decode cL_law 1248 = .ok (.invokevirtual 166, 3) := dk_182 0 166 (dk_at dksL_law_45 21 rfl rfl)
theorem dL_law_1251 : decode cL_law 1251 = .ok (.aload_n 2, 1) := dk_44 (dk_at dksL_law_46 0 rfl rfl)
theorem dL_law_1252 : decode cL_law 1252 = .ok (.aload_n 0, 1) := dk_42 (dk_at dksL_law_46 1 rfl rfl)
theorem dL_law_1253 : decode cL_law 1253 = .ok (.iload_n 3, 1) := dk_29 (dk_at dksL_law_46 2 rfl rfl)
theorem dL_law_1254 : decode cL_law 1254 = .ok (.iconst 1, 1) := dk_4 (dk_at dksL_law_46 3 rfl rfl)
theorem dL_law_1255 : decode cL_law 1255 = .ok (.iadd, 1) := dk_96 (dk_at dksL_law_46 4 rfl rfl)
theorem dL_law_1256 : decode cL_law 1256 = .ok (.iaload, 1) := dk_46 (dk_at dksL_law_46 5 rfl rfl)
theorem dL_law_1257 : decode cL_law 1257 = .ok (.aload_n 0, 1) := dk_42 (dk_at dksL_law_46 6 rfl rfl)
theorem dL_law_1258 : decode cL_law 1258 = .ok (.iload_n 3, 1) := dk_29 (dk_at dksL_law_46 7 rfl rfl)
theorem dL_law_1259 : decode cL_law 1259 = .ok (.iconst 2, 1) := dk_5 (dk_at dksL_law_46 8 rfl rfl)
theorem dL_law_1260 : decode cL_law 1260 = .ok (.iadd, 1) := dk_96 (dk_at dksL_law_46 9 rfl rfl)
theorem dL_law_1261 : decode cL_law 1261 = .ok (.iaload, 1) := dk_46 (dk_at dksL_law_46 10 rfl rfl)
theorem dL_law_1262 : decode cL_law 1262 = .ok (.aload_n 0, 1) := dk_42 (dk_at dksL_law_46 11 rfl rfl)
theorem dL_law_1263 : decode cL_law 1263 = .ok (.iload_n 3, 1) := dk_29 (dk_at dksL_law_46 12 rfl rfl)
theorem dL_law_1264 : decode cL_law 1264 = .ok (.iconst 3, 1) := dk_6 (dk_at dksL_law_46 13 rfl rfl)
theorem dL_law_1265 : decode cL_law 1265 = .ok (.iadd, 1) := dk_96 (dk_at dksL_law_46 14 rfl rfl)
theorem dL_law_1266 : decode cL_law 1266 = .ok (.iaload, 1) := dk_46 (dk_at dksL_law_46 15 rfl rfl)
theorem dL_law_1267 : decode cL_law 1267 = .ok (.invokevirtual 169, 3) := dk_182 0 169 (dk_at dksL_law_46 16 rfl rfl)
theorem dL_law_1270 : decode cL_law 1270 = .ok (.if_icmp .eq 282, 3) := dk_159 1 26 (dk_at dksL_law_46 19 rfl rfl)
theorem dL_law_1273 : decode cL_law 1273 = .ok (.iconst 0, 1) := dk_3 (dk_at dksL_law_46 22 rfl rfl)
theorem dL_law_1274 : decode cL_law 1274 = .ok (.ireturn, 1) := dk_172 (dk_at dksL_law_46 23 rfl rfl)
theorem dL_law_1275 : decode cL_law 1275 = .ok (.aload_n 1, 1) := dk_43 (dk_at dksL_law_47 0 rfl rfl)
theorem dL_law_1276 : decode cL_law 1276 = .ok (.aload_n 0, 1) := dk_42 (dk_at dksL_law_47 1 rfl rfl)
theorem dL_law_1277 : decode cL_law 1277 = .ok (.iload_n 3, 1) := dk_29 (dk_at dksL_law_47 2 rfl rfl)
theorem dL_law_1278 : decode cL_law 1278 = .ok (.iconst 1, 1) := dk_4 (dk_at dksL_law_47 3 rfl rfl)
theorem dL_law_1279 : decode cL_law 1279 = .ok (.iadd, 1) := dk_96 (dk_at dksL_law_47 4 rfl rfl)
theorem dL_law_1280 : decode cL_law 1280 = .ok (.iaload, 1) := dk_46 (dk_at dksL_law_47 5 rfl rfl)
theorem dL_law_1281 : decode cL_law 1281 = .ok (.aload_n 0, 1) := dk_42 (dk_at dksL_law_47 6 rfl rfl)
theorem dL_law_1282 : decode cL_law 1282 = .ok (.iload_n 3, 1) := dk_29 (dk_at dksL_law_47 7 rfl rfl)
theorem dL_law_1283 : decode cL_law 1283 = .ok (.iconst 2, 1) := dk_5 (dk_at dksL_law_47 8 rfl rfl)
theorem dL_law_1284 : decode cL_law 1284 = .ok (.iadd, 1) := dk_96 (dk_at dksL_law_47 9 rfl rfl)
theorem dL_law_1285 : decode cL_law 1285 = .ok (.iaload, 1) := dk_46 (dk_at dksL_law_47 10 rfl rfl)
theorem dL_law_1286 : decode cL_law 1286 = .ok (.aload_n 0, 1) := dk_42 (dk_at dksL_law_47 11 rfl rfl)
theorem dL_law_1287 : decode cL_law 1287 = .ok (.iload_n 3, 1) := dk_29 (dk_at dksL_law_47 12 rfl rfl)
theorem dL_law_1288 : decode cL_law 1288 = .ok (.iconst 3, 1) := dk_6 (dk_at dksL_law_47 13 rfl rfl)
theorem dL_law_1289 : decode cL_law 1289 = .ok (.iadd, 1) := dk_96 (dk_at dksL_law_47 14 rfl rfl)
theorem dL_law_1290 : decode cL_law 1290 = .ok (.iaload, 1) := dk_46 (dk_at dksL_law_47 15 rfl rfl)
theorem dL_law_1291 : decode cL_law 1291 = .ok (.invokevirtual 170, 3) := dk_182 0 170 (dk_at dksL_law_47 16 rfl rfl)
theorem dL_law_1294 : decode cL_law 1294 = .ok (.aload_n 2, 1) := dk_44 (dk_at dksL_law_47 19 rfl rfl)
theorem dL_law_1295 : decode cL_law 1295 = .ok (.aload_n 0, 1) := dk_42 (dk_at dksL_law_47 20 rfl rfl)
theorem dL_law_1296 : decode cL_law 1296 = .ok (.iload_n 3, 1) := dk_29 (dk_at dksL_law_47 21 rfl rfl)
theorem dL_law_1297 : decode cL_law 1297 = .ok (.iconst 1, 1) := dk_4 (dk_at dksL_law_47 22 rfl rfl)
theorem dL_law_1298 : decode cL_law 1298 = .ok (.iadd, 1) := dk_96 (dk_at dksL_law_47 23 rfl rfl)
theorem dL_law_1299 : decode cL_law 1299 = .ok (.iaload, 1) := dk_46 (dk_at dksL_law_48 0 rfl rfl)
theorem dL_law_1300 : decode cL_law 1300 = .ok (.aload_n 0, 1) := dk_42 (dk_at dksL_law_48 1 rfl rfl)
theorem dL_law_1301 : decode cL_law 1301 = .ok (.iload_n 3, 1) := dk_29 (dk_at dksL_law_48 2 rfl rfl)
theorem dL_law_1302 : decode cL_law 1302 = .ok (.iconst 2, 1) := dk_5 (dk_at dksL_law_48 3 rfl rfl)
theorem dL_law_1303 : decode cL_law 1303 = .ok (.iadd, 1) := dk_96 (dk_at dksL_law_48 4 rfl rfl)
theorem dL_law_1304 : decode cL_law 1304 = .ok (.iaload, 1) := dk_46 (dk_at dksL_law_48 5 rfl rfl)
theorem dL_law_1305 : decode cL_law 1305 = .ok (.aload_n 0, 1) := dk_42 (dk_at dksL_law_48 6 rfl rfl)
theorem dL_law_1306 : decode cL_law 1306 = .ok (.iload_n 3, 1) := dk_29 (dk_at dksL_law_48 7 rfl rfl)
theorem dL_law_1307 : decode cL_law 1307 = .ok (.iconst 3, 1) := dk_6 (dk_at dksL_law_48 8 rfl rfl)
theorem dL_law_1308 : decode cL_law 1308 = .ok (.iadd, 1) := dk_96 (dk_at dksL_law_48 9 rfl rfl)
theorem dL_law_1309 : decode cL_law 1309 = .ok (.iaload, 1) := dk_46 (dk_at dksL_law_48 10 rfl rfl)
theorem dL_law_1310 : decode cL_law 1310 = .ok (.invokevirtual 173, 3) := dk_182 0 173 (dk_at dksL_law_48 11 rfl rfl)
theorem dL_law_1313 : decode cL_law 1313 = .ok (.if_icmp .eq 239, 3) := dk_159 0 239 (dk_at dksL_law_48 14 rfl rfl)
theorem dL_law_1316 : decode cL_law 1316 = .ok (.iconst 0, 1) := dk_3 (dk_at dksL_law_48 17 rfl rfl)
theorem dL_law_1317 : decode cL_law 1317 = .ok (.ireturn, 1) := dk_172 (dk_at dksL_law_48 18 rfl rfl)
theorem dL_law_1318 : decode cL_law 1318 = .ok (.aload_n 1, 1) := dk_43 (dk_at dksL_law_48 19 rfl rfl)
theorem dL_law_1319 : decode cL_law 1319 = .ok (.aload_n 0, 1) := dk_42 (dk_at dksL_law_48 20 rfl rfl)
theorem dL_law_1320 : decode cL_law 1320 = .ok (.iload_n 3, 1) := dk_29 (dk_at dksL_law_48 21 rfl rfl)
theorem dL_law_1321 : decode cL_law 1321 = .ok (.iconst 1, 1) := dk_4 (dk_at dksL_law_48 22 rfl rfl)
theorem dL_law_1322 : decode cL_law 1322 = .ok (.iadd, 1) := dk_96 (dk_at dksL_law_48 23 rfl rfl)
theorem dL_law_1323 : decode cL_law 1323 = .ok (.iaload, 1) := dk_46 (dk_at dksL_law_49 0 rfl rfl)
theorem dL_law_1324 : decode cL_law 1324 = .ok (.aload_n 0, 1) := dk_42 (dk_at dksL_law_49 1 rfl rfl)
theorem dL_law_1325 : decode cL_law 1325 = .ok (.iload_n 3, 1) := dk_29 (dk_at dksL_law_49 2 rfl rfl)
theorem dL_law_1326 : decode cL_law 1326 = .ok (.iconst 2, 1) := dk_5 (dk_at dksL_law_49 3 rfl rfl)
theorem dL_law_1327 : decode cL_law 1327 = .ok (.iadd, 1) := dk_96 (dk_at dksL_law_49 4 rfl rfl)
theorem dL_law_1328 : decode cL_law 1328 = .ok (.iaload, 1) := dk_46 (dk_at dksL_law_49 5 rfl rfl)
theorem dL_law_1329 : decode cL_law 1329 = .ok (.aload_n 0, 1) := dk_42 (dk_at dksL_law_49 6 rfl rfl)
theorem dL_law_1330 : decode cL_law 1330 = .ok (.iload_n 3, 1) := dk_29 (dk_at dksL_law_49 7 rfl rfl)
theorem dL_law_1331 : decode cL_law 1331 = .ok (.iconst 3, 1) := dk_6 (dk_at dksL_law_49 8 rfl rfl)
theorem dL_law_1332 : decode cL_law 1332 = .ok (.iadd, 1) := dk_96 (dk_at dksL_law_49 9 rfl rfl)
theorem dL_law_1333 : decode cL_law 1333 = .ok (.iaload, 1) := dk_46 (dk_at dksL_law_49 10 rfl rfl)
theorem dL_law_1334 : decode cL_law 1334 = .ok (.invokevirtual 174, 3) := dk_182 0 174 (dk_at dksL_law_49 11 rfl rfl)
theorem dL_law_1337 : decode cL_law 1337 = .ok (.aload_n 2, 1) := dk_44 (dk_at dksL_law_49 14 rfl rfl)
theorem dL_law_1338 : decode cL_law 1338 = .ok (.aload_n 0, 1) := dk_42 (dk_at dksL_law_49 15 rfl rfl)
theorem dL_law_1339 : decode cL_law 1339 = .ok (.iload_n 3, 1) := dk_29 (dk_at dksL_law_49 16 rfl rfl)
theorem dL_law_1340 : decode cL_law 1340 = .ok (.iconst 1, 1) := dk_4 (dk_at dksL_law_49 17 rfl rfl)
theorem dL_law_1341 : decode cL_law 1341 = .ok (.iadd, 1) := dk_96 (dk_at dksL_law_49 18 rfl rfl)
theorem dL_law_1342 : decode cL_law 1342 = .ok (.iaload, 1) := dk_46 (dk_at dksL_law_49 19 rfl rfl)
theorem dL_law_1343 : decode cL_law 1343 = .ok (.aload_n 0, 1) := dk_42 (dk_at dksL_law_49 20 rfl rfl)
theorem dL_law_1344 : decode cL_law 1344 = .ok (.iload_n 3, 1) := dk_29 (dk_at dksL_law_49 21 rfl rfl)
theorem dL_law_1345 : decode cL_law 1345 = .ok (.iconst 2, 1) := dk_5 (dk_at dksL_law_49 22 rfl rfl)
theorem dL_law_1346 : decode cL_law 1346 = .ok (.iadd, 1) := dk_96 (dk_at dksL_law_49 23 rfl rfl)
theorem dL_law_1347 : decode cL_law 1347 = .ok (.iaload, 1) := dk_46 (dk_at dksL_law_50 0 rfl rfl)
theorem dL_law_1348 : decode cL_law 1348 = .ok (.aload_n 0, 1) := dk_42 (dk_at dksL_law_50 1 rfl rfl)
theorem dL_law_1349 : decode cL_law 1349 = .ok (.iload_n 3, 1) := dk_29 (dk_at dksL_law_50 2 rfl rfl)
theorem dL_law_1350 : decode cL_law 1350 = .ok (.iconst 3, 1) := dk_6 (dk_at dksL_law_50 3 rfl rfl)
theorem dL_law_1351 : decode cL_law 1351 = .ok (.iadd, 1) := dk_96 (dk_at dksL_law_50 4 rfl rfl)
theorem dL_law_1352 : decode cL_law 1352 = .ok (.iaload, 1) := dk_46 (dk_at dksL_law_50 5 rfl rfl)
theorem dL_law_1353 : decode cL_law 1353 = .ok (.invokevirtual 177, 3) := dk_182 0 177 (dk_at dksL_law_50 6 rfl rfl)
theorem dL_law_1356 : decode cL_law 1356 = .ok (.if_icmp .eq 196, 3) := dk_159 0 196 (dk_at dksL_law_50 9 rfl rfl)
theorem dL_law_1359 : decode cL_law 1359 = .ok (.iconst 0, 1) := dk_3 (dk_at dksL_law_50 12 rfl rfl)
theorem dL_law_1360 : decode cL_law 1360 = .ok (.ireturn, 1) := dk_172 (dk_at dksL_law_50 13 rfl rfl)
theorem dL_law_1361 : decode cL_law 1361 = .ok (.aload_n 1, 1) := dk_43 (dk_at dksL_law_50 14 rfl rfl)
theorem dL_law_1362 : decode cL_law 1362 = .ok (.aload_n 0, 1) := dk_42 (dk_at dksL_law_50 15 rfl rfl)
theorem dL_law_1363 : decode cL_law 1363 = .ok (.iload_n 3, 1) := dk_29 (dk_at dksL_law_50 16 rfl rfl)
theorem dL_law_1364 : decode cL_law 1364 = .ok (.iconst 1, 1) := dk_4 (dk_at dksL_law_50 17 rfl rfl)
theorem dL_law_1365 : decode cL_law 1365 = .ok (.iadd, 1) := dk_96 (dk_at dksL_law_50 18 rfl rfl)
theorem dL_law_1366 : decode cL_law 1366 = .ok (.iaload, 1) := dk_46 (dk_at dksL_law_50 19 rfl rfl)
theorem dL_law_1367 : decode cL_law 1367 = .ok (.aload_n 0, 1) := dk_42 (dk_at dksL_law_50 20 rfl rfl)
theorem dL_law_1368 : decode cL_law 1368 = .ok (.iload_n 3, 1) := dk_29 (dk_at dksL_law_50 21 rfl rfl)
theorem dL_law_1369 : decode cL_law 1369 = .ok (.iconst 2, 1) := dk_5 (dk_at dksL_law_50 22 rfl rfl)
theorem dL_law_1370 : decode cL_law 1370 = .ok (.iadd, 1) := dk_96 (dk_at dksL_law_50 23 rfl rfl)
theorem dL_law_1371 : decode cL_law 1371 = .ok (.iaload, 1) := dk_46 (dk_at dksL_law_51 0 rfl rfl)
theorem dL_law_1372 : decode cL_law 1372 = .ok (.aload_n 0, 1) := dk_42 (dk_at dksL_law_51 1 rfl rfl)
theorem dL_law_1373 : decode cL_law 1373 = .ok (.iload_n 3, 1) := dk_29 (dk_at dksL_law_51 2 rfl rfl)
theorem dL_law_1374 : decode cL_law 1374 = .ok (.iconst 3, 1) := dk_6 (dk_at dksL_law_51 3 rfl rfl)
theorem dL_law_1375 : decode cL_law 1375 = .ok (.iadd, 1) := dk_96 (dk_at dksL_law_51 4 rfl rfl)
theorem dL_law_1376 : decode cL_law 1376 = .ok (.iaload, 1) := dk_46 (dk_at dksL_law_51 5 rfl rfl)
theorem dL_law_1377 : decode cL_law 1377 = .ok (.invokevirtual 178, 3) := dk_182 0 178 (dk_at dksL_law_51 6 rfl rfl)
theorem dL_law_1380 : decode cL_law 1380 = .ok (.aload_n 2, 1) := dk_44 (dk_at dksL_law_51 9 rfl rfl)
theorem dL_law_1381 : decode cL_law 1381 = .ok (.aload_n 0, 1) := dk_42 (dk_at dksL_law_51 10 rfl rfl)
theorem dL_law_1382 : decode cL_law 1382 = .ok (.iload_n 3, 1) := dk_29 (dk_at dksL_law_51 11 rfl rfl)
theorem dL_law_1383 : decode cL_law 1383 = .ok (.iconst 1, 1) := dk_4 (dk_at dksL_law_51 12 rfl rfl)
theorem dL_law_1384 : decode cL_law 1384 = .ok (.iadd, 1) := dk_96 (dk_at dksL_law_51 13 rfl rfl)
theorem dL_law_1385 : decode cL_law 1385 = .ok (.iaload, 1) := dk_46 (dk_at dksL_law_51 14 rfl rfl)
theorem dL_law_1386 : decode cL_law 1386 = .ok (.aload_n 0, 1) := dk_42 (dk_at dksL_law_51 15 rfl rfl)
theorem dL_law_1387 : decode cL_law 1387 = .ok (.iload_n 3, 1) := dk_29 (dk_at dksL_law_51 16 rfl rfl)
theorem dL_law_1388 : decode cL_law 1388 = .ok (.iconst 2, 1) := dk_5 (dk_at dksL_law_51 17 rfl rfl)
theorem dL_law_1389 : decode cL_law 1389 = .ok (.iadd, 1) := dk_96 (dk_at dksL_law_51 18 rfl rfl)
theorem dL_law_1390 : decode cL_law 1390 = .ok (.iaload, 1) := dk_46 (dk_at dksL_law_51 19 rfl rfl)
theorem dL_law_1391 : decode cL_law 1391 = .ok (.aload_n 0, 1) := dk_42 (dk_at dksL_law_51 20 rfl rfl)
theorem dL_law_1392 : decode cL_law 1392 = .ok (.iload_n 3, 1) := dk_29 (dk_at dksL_law_51 21 rfl rfl)
theorem dL_law_1393 : decode cL_law 1393 = .ok (.iconst 3, 1) := dk_6 (dk_at dksL_law_51 22 rfl rfl)
theorem dL_law_1394 : decode cL_law 1394 = .ok (.iadd, 1) := dk_96 (dk_at dksL_law_51 23 rfl rfl)
theorem dL_law_1395 : decode cL_law 1395 = .ok (.iaload, 1) := dk_46 (dk_at dksL_law_52 0 rfl rfl)
theorem dL_law_1396 : decode cL_law 1396 = .ok (.invokevirtual 181, 3) := dk_182 0 181 (dk_at dksL_law_52 1 rfl rfl)
theorem dL_law_1399 : decode cL_law 1399 = .ok (.if_icmp .eq 153, 3) := dk_159 0 153 (dk_at dksL_law_52 4 rfl rfl)
theorem dL_law_1402 : decode cL_law 1402 = .ok (.iconst 0, 1) := dk_3 (dk_at dksL_law_52 7 rfl rfl)
theorem dL_law_1403 : decode cL_law 1403 = .ok (.ireturn, 1) := dk_172 (dk_at dksL_law_52 8 rfl rfl)
theorem dL_law_1404 : decode cL_law 1404 = .ok (.aload_n 1, 1) := dk_43 (dk_at dksL_law_52 9 rfl rfl)
theorem dL_law_1405 : decode cL_law 1405 = .ok (.aload_n 0, 1) := dk_42 (dk_at dksL_law_52 10 rfl rfl)
theorem dL_law_1406 : decode cL_law 1406 = .ok (.iload_n 3, 1) := dk_29 (dk_at dksL_law_52 11 rfl rfl)
theorem dL_law_1407 : decode cL_law 1407 = .ok (.iconst 1, 1) := dk_4 (dk_at dksL_law_52 12 rfl rfl)
theorem dL_law_1408 : decode cL_law 1408 = .ok (.iadd, 1) := dk_96 (dk_at dksL_law_52 13 rfl rfl)
theorem dL_law_1409 : decode cL_law 1409 = .ok (.iaload, 1) := dk_46 (dk_at dksL_law_52 14 rfl rfl)
theorem dL_law_1410 : decode cL_law 1410 = .ok (.aload_n 0, 1) := dk_42 (dk_at dksL_law_52 15 rfl rfl)
theorem dL_law_1411 : decode cL_law 1411 = .ok (.iload_n 3, 1) := dk_29 (dk_at dksL_law_52 16 rfl rfl)
theorem dL_law_1412 : decode cL_law 1412 = .ok (.iconst 2, 1) := dk_5 (dk_at dksL_law_52 17 rfl rfl)
theorem dL_law_1413 : decode cL_law 1413 = .ok (.iadd, 1) := dk_96 (dk_at dksL_law_52 18 rfl rfl)
theorem dL_law_1414 : decode cL_law 1414 = .ok (.iaload, 1) := dk_46 (dk_at dksL_law_52 19 rfl rfl)
theorem dL_law_1415 : decode cL_law 1415 = .ok (.invokevirtual 182, 3) := dk_182 0 182 (dk_at dksL_law_52 20 rfl rfl)
theorem dL_law_1418 : decode cL_law 1418 = .ok (.aload_n 2, 1) := dk_44 (dk_at dksL_law_52 23 rfl rfl)
theorem dL_law_1419 : decode cL_law 1419 = .ok (.aload_n 0, 1) := dk_42 (dk_at dksL_law_53 0 rfl rfl)
theorem dL_law_1420 : decode cL_law 1420 = .ok (.iload_n 3, 1) := dk_29 (dk_at dksL_law_53 1 rfl rfl)
theorem dL_law_1421 : decode cL_law 1421 = .ok (.iconst 1, 1) := dk_4 (dk_at dksL_law_53 2 rfl rfl)
theorem dL_law_1422 : decode cL_law 1422 = .ok (.iadd, 1) := dk_96 (dk_at dksL_law_53 3 rfl rfl)
theorem dL_law_1423 : decode cL_law 1423 = .ok (.iaload, 1) := dk_46 (dk_at dksL_law_53 4 rfl rfl)
theorem dL_law_1424 : decode cL_law 1424 = .ok (.aload_n 0, 1) := dk_42 (dk_at dksL_law_53 5 rfl rfl)
theorem dL_law_1425 : decode cL_law 1425 = .ok (.iload_n 3, 1) := dk_29 (dk_at dksL_law_53 6 rfl rfl)
theorem dL_law_1426 : decode cL_law 1426 = .ok (.iconst 2, 1) := dk_5 (dk_at dksL_law_53 7 rfl rfl)
theorem dL_law_1427 : decode cL_law 1427 = .ok (.iadd, 1) := dk_96 (dk_at dksL_law_53 8 rfl rfl)
theorem dL_law_1428 : decode cL_law 1428 = .ok (.iaload, 1) := dk_46 (dk_at dksL_law_53 9 rfl rfl)
theorem dL_law_1429 : decode cL_law 1429 = .ok (.invokevirtual 185, 3) := dk_182 0 185 (dk_at dksL_law_53 10 rfl rfl)
theorem dL_law_1432 : decode cL_law 1432 = .ok (.if_icmp .eq 120, 3) := dk_159 0 120 (dk_at dksL_law_53 13 rfl rfl)
theorem dL_law_1435 : decode cL_law 1435 = .ok (.iconst 0, 1) := dk_3 (dk_at dksL_law_53 16 rfl rfl)
theorem dL_law_1436 : decode cL_law 1436 = .ok (.ireturn, 1) := dk_172 (dk_at dksL_law_53 17 rfl rfl)
theorem dL_law_1437 : decode cL_law 1437 = .ok (.aload_n 1, 1) := dk_43 (dk_at dksL_law_53 18 rfl rfl)
theorem dL_law_1438 : decode cL_law 1438 = .ok (.aload_n 0, 1) := dk_42 (dk_at dksL_law_53 19 rfl rfl)
theorem dL_law_1439 : decode cL_law 1439 = .ok (.iload_n 3, 1) := dk_29 (dk_at dksL_law_53 20 rfl rfl)
theorem dL_law_1440 : decode cL_law 1440 = .ok (.iconst 1, 1) := dk_4 (dk_at dksL_law_53 21 rfl rfl)
theorem dL_law_1441 : decode cL_law 1441 = .ok (.iadd, 1) := dk_96 (dk_at dksL_law_53 22 rfl rfl)
theorem dL_law_1442 : decode cL_law 1442 = .ok (.iaload, 1) := dk_46 (dk_at dksL_law_53 23 rfl rfl)
theorem dL_law_1443 : decode cL_law 1443 = .ok (.aload_n 0, 1) := dk_42 (dk_at dksL_law_54 0 rfl rfl)
theorem dL_law_1444 : decode cL_law 1444 = .ok (.iload_n 3, 1) := dk_29 (dk_at dksL_law_54 1 rfl rfl)
theorem dL_law_1445 : decode cL_law 1445 = .ok (.iconst 2, 1) := dk_5 (dk_at dksL_law_54 2 rfl rfl)
theorem dL_law_1446 : decode cL_law 1446 = .ok (.iadd, 1) := dk_96 (dk_at dksL_law_54 3 rfl rfl)
theorem dL_law_1447 : decode cL_law 1447 = .ok (.iaload, 1) := dk_46 (dk_at dksL_law_54 4 rfl rfl)
theorem dL_law_1448 : decode cL_law 1448 = .ok (.aload_n 0, 1) := dk_42 (dk_at dksL_law_54 5 rfl rfl)
theorem dL_law_1449 : decode cL_law 1449 = .ok (.iload_n 3, 1) := dk_29 (dk_at dksL_law_54 6 rfl rfl)
theorem dL_law_1450 : decode cL_law 1450 = .ok (.iconst 3, 1) := dk_6 (dk_at dksL_law_54 7 rfl rfl)
theorem dL_law_1451 : decode cL_law 1451 = .ok (.iadd, 1) := dk_96 (dk_at dksL_law_54 8 rfl rfl)
theorem dL_law_1452 : decode cL_law 1452 = .ok (.iaload, 1) := dk_46 (dk_at dksL_law_54 9 rfl rfl)
theorem dL_law_1453 : decode cL_law 1453 = .ok (.invokevirtual 186, 3) := dk_182 0 186 (dk_at dksL_law_54 10 rfl rfl)
theorem dL_law_1456 : decode cL_law 1456 = .ok (.aload_n 2, 1) := dk_44 (dk_at dksL_law_54 13 rfl rfl)
theorem dL_law_1457 : decode cL_law 1457 = .ok (.aload_n 0, 1) := dk_42 (dk_at dksL_law_54 14 rfl rfl)
theorem dL_law_1458 : decode cL_law 1458 = .ok (.iload_n 3, 1) := dk_29 (dk_at dksL_law_54 15 rfl rfl)
theorem dL_law_1459 : decode cL_law 1459 = .ok (.iconst 1, 1) := dk_4 (dk_at dksL_law_54 16 rfl rfl)
theorem dL_law_1460 : decode cL_law 1460 = .ok (.iadd, 1) := dk_96 (dk_at dksL_law_54 17 rfl rfl)
theorem dL_law_1461 : decode cL_law 1461 = .ok (.iaload, 1) := dk_46 (dk_at dksL_law_54 18 rfl rfl)
theorem dL_law_1462 : decode cL_law 1462 = .ok (.aload_n 0, 1) := dk_42 (dk_at dksL_law_54 19 rfl rfl)
theorem dL_law_1463 : decode cL_law 1463 = .ok (.iload_n 3, 1) := dk_29 (dk_at dksL_law_54 20 rfl rfl)
theorem dL_law_1464 : decode cL_law 1464 = .ok (.iconst 2, 1) := dk_5 (dk_at dksL_law_54 21 rfl rfl)
theorem dL_law_1465 : decode cL_law 1465 = .ok (.iadd, 1) := dk_96 (dk_at dksL_law_54 22 rfl rfl)
theorem dL_law_1466 : decode cL_law 1466 = .ok (.iaload, 1) := dk_46 (dk_at dksL_law_54 23 rfl rfl)
theorem dL_law_1467 : decode cL_law 1467 = .ok (.aload_n 0, 1) := dk_42 (dk_at dksL_law_55 0 rfl rfl)
theorem dL_law_1468 : decode cL_law 1468 = .ok (.iload_n 3, 1) := dk_29 (dk_at dksL_law_55 1 rfl rfl)
theorem dL_law_1469 : decode cL_law 1469 = .ok (.iconst 3, 1) := dk_6 (dk_at dksL_law_55 2 rfl rfl)
theorem dL_law_1470 : decode cL_law 1470 = .ok (.iadd, 1) := dk_96 (dk_at dksL_law_55 3 rfl rfl)
theorem dL_law_1471 : decode cL_law 1471 = .ok (.iaload, 1) := dk_46 (dk_at dksL_law_55 4 rfl rfl)
theorem dL_law_1472 : decode cL_law 1472 = .ok (.invokevirtual 189, 3) := dk_182 0 189 (dk_at dksL_law_55 5 rfl rfl)
theorem dL_law_1475 : decode cL_law 1475 = .ok (.if_icmp .eq 77, 3) := dk_159 0 77 (dk_at dksL_law_55 8 rfl rfl)
theorem dL_law_1478 : decode cL_law 1478 = .ok (.iconst 0, 1) := dk_3 (dk_at dksL_law_55 11 rfl rfl)
theorem dL_law_1479 : decode cL_law 1479 = .ok (.ireturn, 1) := dk_172 (dk_at dksL_law_55 12 rfl rfl)
theorem dL_law_1480 : decode cL_law 1480 = .ok (.aload_n 1, 1) := dk_43 (dk_at dksL_law_55 13 rfl rfl)
theorem dL_law_1481 : decode cL_law 1481 = .ok (.aload_n 0, 1) := dk_42 (dk_at dksL_law_55 14 rfl rfl)
theorem dL_law_1482 : decode cL_law 1482 = .ok (.iload_n 3, 1) := dk_29 (dk_at dksL_law_55 15 rfl rfl)
theorem dL_law_1483 : decode cL_law 1483 = .ok (.iconst 1, 1) := dk_4 (dk_at dksL_law_55 16 rfl rfl)
theorem dL_law_1484 : decode cL_law 1484 = .ok (.iadd, 1) := dk_96 (dk_at dksL_law_55 17 rfl rfl)
theorem dL_law_1485 : decode cL_law 1485 = .ok (.iaload, 1) := dk_46 (dk_at dksL_law_55 18 rfl rfl)
theorem dL_law_1486 : decode cL_law 1486 = .ok (.invokevirtual 190, 3) := dk_182 0 190 (dk_at dksL_law_55 19 rfl rfl)
theorem dL_law_1489 : decode cL_law 1489 = .ok (.aload_n 2, 1) := dk_44 (dk_at dksL_law_55 22 rfl rfl)
theorem dL_law_1490 : decode cL_law 1490 = .ok (.aload_n 0, 1) := dk_42 (dk_at dksL_law_55 23 rfl rfl)
theorem dL_law_1491 : decode cL_law 1491 = .ok (.iload_n 3, 1) := dk_29 (dk_at dksL_law_56 0 rfl rfl)
theorem dL_law_1492 : decode cL_law 1492 = .ok (.iconst 1, 1) := dk_4 (dk_at dksL_law_56 1 rfl rfl)
theorem dL_law_1493 : decode cL_law 1493 = .ok (.iadd, 1) := dk_96 (dk_at dksL_law_56 2 rfl rfl)
theorem dL_law_1494 : decode cL_law 1494 = .ok (.iaload, 1) := dk_46 (dk_at dksL_law_56 3 rfl rfl)
theorem dL_law_1495 : decode cL_law 1495 = .ok (.invokevirtual 193, 3) := dk_182 0 193 (dk_at dksL_law_56 4 rfl rfl)
theorem dL_law_1498 : decode cL_law 1498 = .ok (.if_icmp .eq 54, 3) := dk_159 0 54 (dk_at dksL_law_56 7 rfl rfl)
theorem dL_law_1501 : decode cL_law 1501 = .ok (.iconst 0, 1) := dk_3 (dk_at dksL_law_56 10 rfl rfl)
theorem dL_law_1502 : decode cL_law 1502 = .ok (.ireturn, 1) := dk_172 (dk_at dksL_law_56 11 rfl rfl)
theorem dL_law_1503 : decode cL_law 1503 = .ok (.aload_n 1, 1) := dk_43 (dk_at dksL_law_56 12 rfl rfl)
theorem dL_law_1504 : decode cL_law 1504 = .ok (.aload_n 0, 1) := dk_42 (dk_at dksL_law_56 13 rfl rfl)
theorem dL_law_1505 : decode cL_law 1505 = .ok (.iload_n 3, 1) := dk_29 (dk_at dksL_law_56 14 rfl rfl)
theorem dL_law_1506 : decode cL_law 1506 = .ok (.iconst 1, 1) := dk_4 (dk_at dksL_law_56 15 rfl rfl)
theorem dL_law_1507 : decode cL_law 1507 = .ok (.iadd, 1) := dk_96 (dk_at dksL_law_56 16 rfl rfl)
theorem dL_law_1508 : decode cL_law 1508 = .ok (.iaload, 1) := dk_46 (dk_at dksL_law_56 17 rfl rfl)
theorem dL_law_1509 : decode cL_law 1509 = .ok (.invokevirtual 194, 3) := dk_182 0 194 (dk_at dksL_law_56 18 rfl rfl)
theorem dL_law_1512 : decode cL_law 1512 = .ok (.aload_n 2, 1) := dk_44 (dk_at dksL_law_56 21 rfl rfl)
theorem dL_law_1513 : decode cL_law 1513 = .ok (.aload_n 0, 1) := dk_42 (dk_at dksL_law_56 22 rfl rfl)
theorem dL_law_1514 : decode cL_law 1514 = .ok (.iload_n 3, 1) := dk_29 (dk_at dksL_law_56 23 rfl rfl)
theorem dL_law_1515 : decode cL_law 1515 = .ok (.iconst 1, 1) := dk_4 (dk_at dksL_law_57 0 rfl rfl)
theorem dL_law_1516 : decode cL_law 1516 = .ok (.iadd, 1) := dk_96 (dk_at dksL_law_57 1 rfl rfl)
theorem dL_law_1517 : decode cL_law 1517 = .ok (.iaload, 1) := dk_46 (dk_at dksL_law_57 2 rfl rfl)
theorem dL_law_1518 : decode cL_law 1518 = .ok (.invokevirtual 197, 3) := dk_182 0 197 (dk_at dksL_law_57 3 rfl rfl)
theorem dL_law_1521 : decode cL_law 1521 = .ok (.if_icmp .eq 31, 3) := dk_159 0 31 (dk_at dksL_law_57 6 rfl rfl)
theorem dL_law_1524 : decode cL_law 1524 = .ok (.iconst 0, 1) := dk_3 (dk_at dksL_law_57 9 rfl rfl)
theorem dL_law_1525 : decode cL_law 1525 = .ok (.ireturn, 1) := dk_172 (dk_at dksL_law_57 10 rfl rfl)
theorem dL_law_1526 : decode cL_law 1526 = .ok (.aload_n 1, 1) := dk_43 (dk_at dksL_law_57 11 rfl rfl)
theorem dL_law_1527 : decode cL_law 1527 = .ok (.invokevirtual 198, 3) := dk_182 0 198 (dk_at dksL_law_57 12 rfl rfl)
theorem dL_law_1530 : decode cL_law 1530 = .ok (.aload_n 2, 1) := dk_44 (dk_at dksL_law_57 15 rfl rfl)
theorem dL_law_1531 : decode cL_law 1531 = .ok (.invokevirtual 201, 3) := dk_182 0 201 (dk_at dksL_law_57 16 rfl rfl)
theorem dL_law_1534 : decode cL_law 1534 = .ok (.if_icmp .eq 18, 3) := dk_159 0 18 (dk_at dksL_law_57 19 rfl rfl)
theorem dL_law_1537 : decode cL_law 1537 = .ok (.iconst 0, 1) := dk_3 (dk_at dksL_law_57 22 rfl rfl)
theorem dL_law_1538 : decode cL_law 1538 = .ok (.ireturn, 1) := dk_172 (dk_at dksL_law_57 23 rfl rfl)
theorem dL_law_1539 : decode cL_law 1539 = .ok (.aload_n 1, 1) := dk_43 (dk_at dksL_law_58 0 rfl rfl)
theorem dL_law_1540 : decode cL_law 1540 = .ok (.invokevirtual 202, 3) := dk_182 0 202 (dk_at dksL_law_58 1 rfl rfl)
theorem dL_law_1543 : decode cL_law 1543 = .ok (.aload_n 2, 1) := dk_44 (dk_at dksL_law_58 4 rfl rfl)
theorem dL_law_1544 : decode cL_law 1544 = .ok (.invokevirtual 205, 3) := dk_182 0 205 (dk_at dksL_law_58 5 rfl rfl)
theorem dL_law_1547 : decode cL_law 1547 = .ok (.if_icmp .eq 5, 3) := dk_159 0 5 (dk_at dksL_law_58 8 rfl rfl)
theorem dL_law_1550 : decode cL_law 1550 = .ok (.iconst 0, 1) := dk_3 (dk_at dksL_law_58 11 rfl rfl)
theorem dL_law_1551 : decode cL_law 1551 = .ok (.ireturn, 1) := dk_172 (dk_at dksL_law_58 12 rfl rfl)
theorem dL_law_1552 : decode cL_law 1552 = .ok (.iinc 3 4, 3) := dk_132 3 4 (dk_at dksL_law_58 13 rfl rfl)
theorem dL_law_1555 : decode cL_law 1555 = .ok (.goto (-1537), 3) := dk_167 249 255 (dk_at dksL_law_58 16 rfl rfl)
theorem dL_law_1558 : decode cL_law 1558 = .ok (.iconst 1, 1) := dk_4 (dk_at dksL_law_58 19 rfl rfl)
theorem dL_law_1559 : decode cL_law 1559 = .ok (.ireturn, 1) := dk_172 (dk_at dksL_law_58 20 rfl rfl)
