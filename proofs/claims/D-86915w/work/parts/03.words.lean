theorem q56 : (Jvm.Cond.initialized "MendReaderLaw") ∈ lw_all := lw_g (lw_at lw_m1 0 rfl) rfl
set_option maxRecDepth 100000
theorem q93 : (Jvm.Cond.classLink "MendReaderLaw" (7 : Nat) "MendReader") ∈ lw_all := lw_g (lw_at lw_m1 37 rfl) rfl
theorem q95 : (Jvm.Cond.methodLink "MendReaderLaw" (9 : Nat) ({ cls := "MendReader", name := "<init>", desc := "()V" } : Jvm.MethodName)) ∈ lw_all := lw_g (lw_at lw_m1 39 rfl) rfl
theorem q263 : (Jvm.Cond.methodLink "MendReaderLaw" (13 : Nat) ({ cls := "MendReader", name := "token", desc := "(Z)I" } : Jvm.MethodName)) ∈ lw_all := lw_g (lw_at lw_m1 207 rfl) rfl
theorem q267 : (Jvm.Cond.methodLink "MendReaderLaw" (18 : Nat) ({ cls := "MendReader", name := "name", desc := "()I" } : Jvm.MethodName)) ∈ lw_all := lw_g (lw_at lw_m1 211 rfl) rfl
theorem q271 : (Jvm.Cond.methodLink "MendReaderLaw" (23 : Nat) ({ cls := "MendReader", name := "rule", desc := "(I)I" } : Jvm.MethodName)) ∈ lw_all := lw_g (lw_at lw_m1 215 rfl) rfl
theorem q400 : (Jvm.Cond.methodLink "MendReaderLaw" (28 : Nat) ({ cls := "MendReader", name := "symbol", desc := "(III)I" } : Jvm.MethodName)) ∈ lw_all := lw_g (lw_at lw_m2 104 rfl) rfl
theorem q427 : (Jvm.Cond.methodLink "MendReaderLaw" (33 : Nat) ({ cls := "MendReader", name := "start", desc := "(I)I" } : Jvm.MethodName)) ∈ lw_all := lw_g (lw_at lw_m2 131 rfl) rfl
theorem q431 : (Jvm.Cond.methodLink "MendReaderLaw" (37 : Nat) ({ cls := "MendReader", name := "price", desc := "(III)I" } : Jvm.MethodName)) ∈ lw_all := lw_g (lw_at lw_m2 135 rfl) rfl
theorem q437 : (Jvm.Cond.methodLink "MendReaderLaw" (41 : Nat) ({ cls := "MendReader", name := "form", desc := "(IIIII)I" } : Jvm.MethodName)) ∈ lw_all := lw_g (lw_at lw_m2 141 rfl) rfl
theorem q466 : (Jvm.Cond.methodLink "MendReaderLaw" (46 : Nat) ({ cls := "MendReader", name := "fences", desc := "(Z)I" } : Jvm.MethodName)) ∈ lw_all := lw_g (lw_at lw_m2 170 rfl) rfl
theorem q470 : (Jvm.Cond.methodLink "MendReaderLaw" (50 : Nat) ({ cls := "MendReader", name := "put", desc := "(II)I" } : Jvm.MethodName)) ∈ lw_all := lw_g (lw_at lw_m2 174 rfl) rfl
theorem q478 : (Jvm.Cond.methodLink "MendReaderLaw" (55 : Nat) ({ cls := "MendReader", name := "take", desc := "(I)I" } : Jvm.MethodName)) ∈ lw_all := lw_g (lw_at lw_m2 182 rfl) rfl
theorem q482 : (Jvm.Cond.methodLink "MendReaderLaw" (59 : Nat) ({ cls := "MendReader", name := "at", desc := "(I)I" } : Jvm.MethodName)) ∈ lw_all := lw_g (lw_at lw_m2 186 rfl) rfl
theorem q486 : (Jvm.Cond.methodLink "MendReaderLaw" (63 : Nat) ({ cls := "MendReader", name := "read", desc := "()I" } : Jvm.MethodName)) ∈ lw_all := lw_g (lw_at lw_m2 190 rfl) rfl
theorem q1073 : (Jvm.Cond.methodLink "MendReaderLaw" (67 : Nat) ({ cls := "MendReader", name := "only", desc := "(II)I" } : Jvm.MethodName)) ∈ lw_all := lw_g (lw_at lw_m5 57 rfl) rfl
theorem q1077 : (Jvm.Cond.methodLink "MendReaderLaw" (71 : Nat) ({ cls := "MendReader", name := "complete", desc := "()I" } : Jvm.MethodName)) ∈ lw_all := lw_g (lw_at lw_m5 61 rfl) rfl
theorem q1081 : (Jvm.Cond.methodLink "MendReaderLaw" (75 : Nat) ({ cls := "MendReader", name := "begins", desc := "()I" } : Jvm.MethodName)) ∈ lw_all := lw_g (lw_at lw_m5 65 rfl) rfl
theorem q1085 : (Jvm.Cond.methodLink "MendReaderLaw" (79 : Nat) ({ cls := "MendReader", name := "wanted", desc := "(I)I" } : Jvm.MethodName)) ∈ lw_all := lw_g (lw_at lw_m5 69 rfl) rfl
theorem q1089 : (Jvm.Cond.methodLink "MendReaderLaw" (83 : Nat) ({ cls := "MendReader", name := "stretch", desc := "(III)I" } : Jvm.MethodName)) ∈ lw_all := lw_g (lw_at lw_m5 73 rfl) rfl
theorem q1094 : (Jvm.Cond.methodLink "MendReaderLaw" (91 : Nat) ({ cls := "MendReader", name := "told", desc := "(I)I" } : Jvm.MethodName)) ∈ lw_all := lw_g (lw_at lw_m5 78 rfl) rfl
theorem q1098 : (Jvm.Cond.methodLink "MendReaderLaw" (95 : Nat) ({ cls := "MendReader", name := "slip", desc := "(II)I" } : Jvm.MethodName)) ∈ lw_all := lw_g (lw_at lw_m5 82 rfl) rfl
theorem q1103 : (Jvm.Cond.methodLink "MendReaderLaw" (99 : Nat) ({ cls := "MendReader", name := "word", desc := "(I)I" } : Jvm.MethodName)) ∈ lw_all := lw_g (lw_at lw_m5 87 rfl) rfl
theorem q1107 : (Jvm.Cond.methodLink "MendReaderLaw" (103 : Nat) ({ cls := "MendReader", name := "node", desc := "(II)I" } : Jvm.MethodName)) ∈ lw_all := lw_g (lw_at lw_m5 91 rfl) rfl
theorem q1111 : (Jvm.Cond.methodLink "MendReaderLaw" (107 : Nat) ({ cls := "MendReader", name := "sure", desc := "(I)I" } : Jvm.MethodName)) ∈ lw_all := lw_g (lw_at lw_m5 95 rfl) rfl
theorem q1115 : (Jvm.Cond.methodLink "MendReaderLaw" (111 : Nat) ({ cls := "MendReader", name := "shelve", desc := "(II)I" } : Jvm.MethodName)) ∈ lw_all := lw_g (lw_at lw_m5 99 rfl) rfl
theorem q1147 : (Jvm.Cond.methodLink "MendReaderLaw" (115 : Nat) ({ cls := "MendReader", name := "rowAt", desc := "(II)I" } : Jvm.MethodName)) ∈ lw_all := lw_g (lw_at lw_m5 131 rfl) rfl
theorem q1303 : (Jvm.Cond.methodLink "MendReaderLaw" (119 : Nat) ({ cls := "MendReader", name := "treeAt", desc := "(III)I" } : Jvm.MethodName)) ∈ lw_all := lw_g (lw_at lw_m6 47 rfl) rfl
theorem q1307 : (Jvm.Cond.methodLink "MendReaderLaw" (123 : Nat) ({ cls := "MendReader", name := "slipAt", desc := "(III)I" } : Jvm.MethodName)) ∈ lw_all := lw_g (lw_at lw_m6 51 rfl) rfl
theorem q1311 : (Jvm.Cond.methodLink "MendReaderLaw" (127 : Nat) ({ cls := "MendReader", name := "paste", desc := "(III)I" } : Jvm.MethodName)) ∈ lw_all := lw_g (lw_at lw_m6 55 rfl) rfl
theorem q1315 : (Jvm.Cond.methodLink "MendReaderLaw" (87 : Nat) ({ cls := "MendReader", name := "distance", desc := "(I)I" } : Jvm.MethodName)) ∈ lw_all := lw_g (lw_at lw_m6 59 rfl) rfl
theorem q1323 : (Jvm.Cond.methodLink "MendReaderLaw" (131 : Nat) ({ cls := "MendReader", name := "count", desc := "(I)I" } : Jvm.MethodName)) ∈ lw_all := lw_g (lw_at lw_m6 67 rfl) rfl
theorem q1327 : (Jvm.Cond.classLink "MendReaderLaw" (10 : Nat) "MendReaderModel") ∈ lw_all := lw_g (lw_at lw_m6 71 rfl) rfl
theorem q1329 : (Jvm.Cond.methodLink "MendReaderLaw" (12 : Nat) ({ cls := "MendReaderModel", name := "<init>", desc := "()V" } : Jvm.MethodName)) ∈ lw_all := lw_g (lw_at lw_m6 73 rfl) rfl
theorem q1503 : (Jvm.Cond.methodLink "MendReaderLaw" (17 : Nat) ({ cls := "MendReaderModel", name := "token", desc := "(Z)I" } : Jvm.MethodName)) ∈ lw_all := lw_g (lw_at lw_m7 7 rfl) rfl
theorem q1507 : (Jvm.Cond.methodLink "MendReaderLaw" (22 : Nat) ({ cls := "MendReaderModel", name := "name", desc := "()I" } : Jvm.MethodName)) ∈ lw_all := lw_g (lw_at lw_m7 11 rfl) rfl
theorem q1511 : (Jvm.Cond.methodLink "MendReaderLaw" (27 : Nat) ({ cls := "MendReaderModel", name := "rule", desc := "(I)I" } : Jvm.MethodName)) ∈ lw_all := lw_g (lw_at lw_m7 15 rfl) rfl
theorem q1522 : (Jvm.Cond.methodLink "MendReaderLaw" (32 : Nat) ({ cls := "MendReaderModel", name := "symbol", desc := "(III)I" } : Jvm.MethodName)) ∈ lw_all := lw_g (lw_at lw_m7 26 rfl) rfl
theorem q1530 : (Jvm.Cond.methodLink "MendReaderLaw" (36 : Nat) ({ cls := "MendReaderModel", name := "start", desc := "(I)I" } : Jvm.MethodName)) ∈ lw_all := lw_g (lw_at lw_m7 34 rfl) rfl
theorem q1534 : (Jvm.Cond.methodLink "MendReaderLaw" (40 : Nat) ({ cls := "MendReaderModel", name := "price", desc := "(III)I" } : Jvm.MethodName)) ∈ lw_all := lw_g (lw_at lw_m7 38 rfl) rfl
theorem q1540 : (Jvm.Cond.methodLink "MendReaderLaw" (45 : Nat) ({ cls := "MendReaderModel", name := "form", desc := "(IIIII)I" } : Jvm.MethodName)) ∈ lw_all := lw_g (lw_at lw_m7 44 rfl) rfl
theorem q1544 : (Jvm.Cond.methodLink "MendReaderLaw" (49 : Nat) ({ cls := "MendReaderModel", name := "fences", desc := "(Z)I" } : Jvm.MethodName)) ∈ lw_all := lw_g (lw_at lw_m7 48 rfl) rfl
theorem q1548 : (Jvm.Cond.methodLink "MendReaderLaw" (54 : Nat) ({ cls := "MendReaderModel", name := "put", desc := "(II)I" } : Jvm.MethodName)) ∈ lw_all := lw_g (lw_at lw_m7 52 rfl) rfl
theorem q1552 : (Jvm.Cond.methodLink "MendReaderLaw" (58 : Nat) ({ cls := "MendReaderModel", name := "take", desc := "(I)I" } : Jvm.MethodName)) ∈ lw_all := lw_g (lw_at lw_m7 56 rfl) rfl
theorem q1556 : (Jvm.Cond.methodLink "MendReaderLaw" (62 : Nat) ({ cls := "MendReaderModel", name := "at", desc := "(I)I" } : Jvm.MethodName)) ∈ lw_all := lw_g (lw_at lw_m7 60 rfl) rfl
theorem q1560 : (Jvm.Cond.methodLink "MendReaderLaw" (66 : Nat) ({ cls := "MendReaderModel", name := "read", desc := "()I" } : Jvm.MethodName)) ∈ lw_all := lw_g (lw_at lw_m7 64 rfl) rfl
theorem q1678 : (Jvm.Cond.methodLink "MendReaderLaw" (70 : Nat) ({ cls := "MendReaderModel", name := "only", desc := "(II)I" } : Jvm.MethodName)) ∈ lw_all := lw_g (lw_at lw_m7 182 rfl) rfl
theorem q1682 : (Jvm.Cond.methodLink "MendReaderLaw" (74 : Nat) ({ cls := "MendReaderModel", name := "complete", desc := "()I" } : Jvm.MethodName)) ∈ lw_all := lw_g (lw_at lw_m7 186 rfl) rfl
theorem q1686 : (Jvm.Cond.methodLink "MendReaderLaw" (78 : Nat) ({ cls := "MendReaderModel", name := "begins", desc := "()I" } : Jvm.MethodName)) ∈ lw_all := lw_g (lw_at lw_m7 190 rfl) rfl
theorem q1690 : (Jvm.Cond.methodLink "MendReaderLaw" (82 : Nat) ({ cls := "MendReaderModel", name := "wanted", desc := "(I)I" } : Jvm.MethodName)) ∈ lw_all := lw_g (lw_at lw_m7 194 rfl) rfl
theorem q1694 : (Jvm.Cond.methodLink "MendReaderLaw" (86 : Nat) ({ cls := "MendReaderModel", name := "stretch", desc := "(III)I" } : Jvm.MethodName)) ∈ lw_all := lw_g (lw_at lw_m7 198 rfl) rfl
theorem q1698 : (Jvm.Cond.methodLink "MendReaderLaw" (114 : Nat) ({ cls := "MendReaderModel", name := "shelve", desc := "(II)I" } : Jvm.MethodName)) ∈ lw_all := lw_g (lw_at lw_m7 202 rfl) rfl
theorem q1707 : (Jvm.Cond.methodLink "MendReaderLaw" (118 : Nat) ({ cls := "MendReaderModel", name := "rowAt", desc := "(II)I" } : Jvm.MethodName)) ∈ lw_all := lw_g (lw_at lw_m7 211 rfl) rfl
theorem q1715 : (Jvm.Cond.methodLink "MendReaderLaw" (122 : Nat) ({ cls := "MendReaderModel", name := "treeAt", desc := "(III)I" } : Jvm.MethodName)) ∈ lw_all := lw_g (lw_at lw_m7 219 rfl) rfl
theorem q1719 : (Jvm.Cond.methodLink "MendReaderLaw" (126 : Nat) ({ cls := "MendReaderModel", name := "slipAt", desc := "(III)I" } : Jvm.MethodName)) ∈ lw_all := lw_g (lw_at lw_m7 223 rfl) rfl
theorem q1723 : (Jvm.Cond.methodLink "MendReaderLaw" (130 : Nat) ({ cls := "MendReaderModel", name := "paste", desc := "(III)I" } : Jvm.MethodName)) ∈ lw_all := lw_g (lw_at lw_m7 227 rfl) rfl
theorem q1727 : (Jvm.Cond.methodLink "MendReaderLaw" (90 : Nat) ({ cls := "MendReaderModel", name := "distance", desc := "(I)I" } : Jvm.MethodName)) ∈ lw_all := lw_g (lw_at lw_m7 231 rfl) rfl
theorem q1731 : (Jvm.Cond.methodLink "MendReaderLaw" (94 : Nat) ({ cls := "MendReaderModel", name := "told", desc := "(I)I" } : Jvm.MethodName)) ∈ lw_all := lw_g (lw_at lw_m7 235 rfl) rfl
theorem q1735 : (Jvm.Cond.methodLink "MendReaderLaw" (98 : Nat) ({ cls := "MendReaderModel", name := "slip", desc := "(II)I" } : Jvm.MethodName)) ∈ lw_all := lw_g (lw_at lw_m7 239 rfl) rfl
theorem q1739 : (Jvm.Cond.methodLink "MendReaderLaw" (102 : Nat) ({ cls := "MendReaderModel", name := "word", desc := "(I)I" } : Jvm.MethodName)) ∈ lw_all := lw_g (lw_at lw_m8 3 rfl) rfl
theorem q1743 : (Jvm.Cond.methodLink "MendReaderLaw" (106 : Nat) ({ cls := "MendReaderModel", name := "node", desc := "(II)I" } : Jvm.MethodName)) ∈ lw_all := lw_g (lw_at lw_m8 7 rfl) rfl
theorem q1747 : (Jvm.Cond.methodLink "MendReaderLaw" (110 : Nat) ({ cls := "MendReaderModel", name := "sure", desc := "(I)I" } : Jvm.MethodName)) ∈ lw_all := lw_g (lw_at lw_m8 11 rfl) rfl
theorem q1751 : (Jvm.Cond.methodLink "MendReaderLaw" (134 : Nat) ({ cls := "MendReaderModel", name := "count", desc := "(I)I" } : Jvm.MethodName)) ∈ lw_all := lw_g (lw_at lw_m8 15 rfl) rfl
theorem q1809 : (Jvm.Cond.castable "[B" "java/lang/Object") ∈ lw_tbl := lw_at lw_m8 73 rfl
set_option maxRecDepth 100000
theorem q1801 : (Jvm.Cond.castable "[I" "java/lang/Object") ∈ lw_tbl := lw_at lw_m8 65 rfl
set_option maxRecDepth 100000
theorem q1804 : (Jvm.Cond.castable "[J" "java/lang/Object") ∈ lw_tbl := lw_at lw_m8 68 rfl
set_option maxRecDepth 100000
theorem q1805 : (Jvm.Cond.castable "[LMendReader$Shelf;" "java/lang/Object") ∈ lw_tbl := lw_at lw_m8 69 rfl
set_option maxRecDepth 100000
theorem q1808 : (Jvm.Cond.castable "[LMendReader$Step;" "java/lang/Object") ∈ lw_tbl := lw_at lw_m8 72 rfl
set_option maxRecDepth 100000
theorem q1796 : (Jvm.Cond.sameMethod "[Ljava/lang/Object;" "java/lang/Object" "getClass" "()Ljava/lang/Class;") ∈ lw_all := lw_g (lw_at lw_m8 60 rfl) rfl
set_option maxRecDepth 100000
theorem q1797 : (Jvm.Cond.selects "[Ljava/lang/Object;" ({ cls := "java/lang/Object", name := "getClass", desc := "()Ljava/lang/Class;" } : Jvm.MethodName) ({ cls := "java/lang/Object", name := "getClass", desc := "()Ljava/lang/Class;" } : Jvm.MethodName)) ∈ lw_all := lw_g (lw_at lw_m8 61 rfl) rfl
theorem q1806 : (Jvm.Cond.castable "[Ljava/lang/Object;" "java/lang/Object") ∈ lw_tbl := lw_at lw_m8 70 rfl
theorem q1800 : (Jvm.Cond.castable "[Z" "java/lang/Object") ∈ lw_tbl := lw_at lw_m8 64 rfl
set_option maxRecDepth 100000
theorem q1799 : (Jvm.Cond.castable "[[I" "java/lang/Object") ∈ lw_tbl := lw_at lw_m8 63 rfl
set_option maxRecDepth 100000
theorem q1803 : (Jvm.Cond.castable "[[J" "java/lang/Object") ∈ lw_tbl := lw_at lw_m8 67 rfl
set_option maxRecDepth 100000
theorem q1807 : (Jvm.Cond.castable "[[LMendReader$Step;" "java/lang/Object") ∈ lw_tbl := lw_at lw_m8 71 rfl
set_option maxRecDepth 100000
theorem q1802 : (Jvm.Cond.castable "[[[J" "java/lang/Object") ∈ lw_tbl := lw_at lw_m8 66 rfl
set_option maxRecDepth 100000
theorem q68 : (Jvm.Cond.initialized "java/lang/System") ∈ lw_all := lw_g (lw_at lw_m1 12 rfl) rfl
set_option maxRecDepth 100000
theorem q396 : (Jvm.Cond.static ({ cls := "java/lang/System", name := "arraycopy", desc := "(Ljava/lang/Object;ILjava/lang/Object;II)V" } : Jvm.MethodName)) ∈ lw_all := lw_g (lw_at lw_m2 100 rfl) rfl
theorem q397 : (Jvm.Cond.native ({ cls := "java/lang/System", name := "arraycopy", desc := "(Ljava/lang/Object;ILjava/lang/Object;II)V" } : Jvm.MethodName)) ∈ lw_all := lw_g (lw_at lw_m2 101 rfl) rfl
theorem q284 : (Jvm.Cond.interfaceMethod "java/util/List" "java/util/List" "size" "()I") ∈ lw_tbl := lw_at lw_m1 228 rfl
set_option maxRecDepth 100000
theorem q285 : (Jvm.Cond.declares ({ cls := "java/util/List", name := "size", desc := "()I" } : Jvm.MethodName)) ∈ lw_tbl := lw_at lw_m1 229 rfl
theorem q327 : (Jvm.Cond.interfaceMethod "java/util/List" "java/util/List" "add" "(Ljava/lang/Object;)Z") ∈ lw_tbl := lw_at lw_m2 31 rfl
theorem q328 : (Jvm.Cond.declares ({ cls := "java/util/List", name := "add", desc := "(Ljava/lang/Object;)Z" } : Jvm.MethodName)) ∈ lw_tbl := lw_at lw_m2 32 rfl
theorem q410 : (Jvm.Cond.interfaceMethod "java/util/List" "java/util/List" "get" "(I)Ljava/lang/Object;") ∈ lw_tbl := lw_at lw_m2 114 rfl
theorem q411 : (Jvm.Cond.declares ({ cls := "java/util/List", name := "get", desc := "(I)Ljava/lang/Object;" } : Jvm.MethodName)) ∈ lw_tbl := lw_at lw_m2 115 rfl
theorem q995 : (Jvm.Cond.interfaceMethod "java/util/List" "java/util/List" "clear" "()V") ∈ lw_tbl := lw_at lw_m4 219 rfl
theorem q996 : (Jvm.Cond.declares ({ cls := "java/util/List", name := "clear", desc := "()V" } : Jvm.MethodName)) ∈ lw_tbl := lw_at lw_m4 220 rfl
theorem q102 : (Jvm.Cond.arrayOver (Jvm.ClassFile.FieldType.array Jvm.ClassFile.FieldType.int)) ∈ lw_tbl := lw_at lw_m1 46 rfl
set_option maxRecDepth 100000
theorem q129 : (Jvm.Cond.arrayClass Jvm.ClassFile.FieldType.boolean) ∈ lw_all := lw_g (lw_at lw_m1 73 rfl) rfl
theorem q130 : (Jvm.Cond.arrayClass Jvm.ClassFile.FieldType.int) ∈ lw_all := lw_g (lw_at lw_m1 74 rfl) rfl
theorem q132 : (Jvm.Cond.arrayOver (Jvm.ClassFile.FieldType.array (Jvm.ClassFile.FieldType.array Jvm.ClassFile.FieldType.long))) ∈ lw_tbl := lw_at lw_m1 76 rfl
theorem q133 : (Jvm.Cond.arrayOver (Jvm.ClassFile.FieldType.array Jvm.ClassFile.FieldType.long)) ∈ lw_tbl := lw_at lw_m1 77 rfl
theorem q152 : (Jvm.Cond.arrayClass Jvm.ClassFile.FieldType.long) ∈ lw_all := lw_g (lw_at lw_m1 96 rfl) rfl
theorem q166 : (Jvm.Cond.arrayOver (Jvm.ClassFile.FieldType.object "MendReader$Shelf")) ∈ lw_tbl := lw_at lw_m1 110 rfl
theorem q390 : (Jvm.Cond.arrayOver (Jvm.ClassFile.FieldType.object "java/lang/Object")) ∈ lw_tbl := lw_at lw_m2 94 rfl
theorem q525 : (Jvm.Cond.arrayOver (Jvm.ClassFile.FieldType.array (Jvm.ClassFile.FieldType.object "MendReader$Step"))) ∈ lw_tbl := lw_at lw_m2 229 rfl
theorem q526 : (Jvm.Cond.arrayOver (Jvm.ClassFile.FieldType.object "MendReader$Step")) ∈ lw_tbl := lw_at lw_m2 230 rfl
theorem q1265 : (Jvm.Cond.arrayClass Jvm.ClassFile.FieldType.byte) ∈ lw_all := lw_g (lw_at lw_m6 9 rfl) rfl
