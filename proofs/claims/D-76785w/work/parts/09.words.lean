set_option maxRecDepth 100000
theorem q1319 : (Jvm.Cond.interfaceMethod "java/util/Iterator" "java/util/Iterator" "hasNext" "()Z") ∈ lw_tbl := lw_at lw_m6 23 rfl
theorem q1320 : (Jvm.Cond.declares ({ cls := "java/util/Iterator", name := "hasNext", desc := "()Z" } : Jvm.MethodName)) ∈ lw_tbl := lw_at lw_m6 24 rfl
theorem q1365 : (Jvm.Cond.interfaceMethod "java/util/Iterator" "java/util/Iterator" "next" "()Ljava/lang/Object;") ∈ lw_tbl := lw_at lw_m6 69 rfl
theorem q1366 : (Jvm.Cond.declares ({ cls := "java/util/Iterator", name := "next", desc := "()Ljava/lang/Object;" } : Jvm.MethodName)) ∈ lw_tbl := lw_at lw_m6 70 rfl
theorem q2065 : (Jvm.Cond.interfaceMethod "java/util/Iterator" "java/util/Iterator" "remove" "()V") ∈ lw_tbl := lw_at lw_m9 49 rfl
theorem q2066 : (Jvm.Cond.declares ({ cls := "java/util/Iterator", name := "remove", desc := "()V" } : Jvm.MethodName)) ∈ lw_tbl := lw_at lw_m9 50 rfl
theorem q2164 : (Jvm.Cond.interfaceMethod "java/util/Comparator" "java/util/Comparator" "compare" "(Ljava/lang/Object;Ljava/lang/Object;)I") ∈ lw_tbl := lw_at lw_m9 148 rfl
theorem q2165 : (Jvm.Cond.declares ({ cls := "java/util/Comparator", name := "compare", desc := "(Ljava/lang/Object;Ljava/lang/Object;)I" } : Jvm.MethodName)) ∈ lw_tbl := lw_at lw_m9 149 rfl
theorem q2705 : (Jvm.Cond.interfaceMethod "java/util/Collection" "java/util/Collection" "toArray" "()[Ljava/lang/Object;") ∈ lw_tbl := lw_at lw_m11 209 rfl
theorem q2706 : (Jvm.Cond.declares ({ cls := "java/util/Collection", name := "toArray", desc := "()[Ljava/lang/Object;" } : Jvm.MethodName)) ∈ lw_tbl := lw_at lw_m11 210 rfl
theorem q2180 : (Jvm.Cond.interfaceMethod "java/lang/Comparable" "java/lang/Comparable" "compareTo" "(Ljava/lang/Object;)I") ∈ lw_tbl := lw_at lw_m9 164 rfl
theorem q2181 : (Jvm.Cond.declares ({ cls := "java/lang/Comparable", name := "compareTo", desc := "(Ljava/lang/Object;)I" } : Jvm.MethodName)) ∈ lw_tbl := lw_at lw_m9 165 rfl
theorem q116 : (Jvm.Cond.initialized "java/lang/System") ∈ lw_all := lw_g (lw_at lw_m1 20 rfl) rfl
theorem q519 : (Jvm.Cond.static ({ cls := "java/lang/System", name := "arraycopy", desc := "(Ljava/lang/Object;ILjava/lang/Object;II)V" } : Jvm.MethodName)) ∈ lw_all := lw_g (lw_at lw_m2 183 rfl) rfl
theorem q520 : (Jvm.Cond.native ({ cls := "java/lang/System", name := "arraycopy", desc := "(Ljava/lang/Object;ILjava/lang/Object;II)V" } : Jvm.MethodName)) ∈ lw_all := lw_g (lw_at lw_m2 184 rfl) rfl
theorem q3354 : (Jvm.Cond.sameMethod "[Ljava/lang/Object;" "java/lang/Object" "getClass" "()Ljava/lang/Class;") ∈ lw_all := lw_g (lw_at lw_m14 138 rfl) rfl
theorem q3355 : (Jvm.Cond.selects "[Ljava/lang/Object;" ({ cls := "java/lang/Object", name := "getClass", desc := "()Ljava/lang/Class;" } : Jvm.MethodName) ({ cls := "java/lang/Object", name := "getClass", desc := "()Ljava/lang/Class;" } : Jvm.MethodName)) ∈ lw_all := lw_g (lw_at lw_m14 139 rfl) rfl
theorem q3363 : (Jvm.Cond.castable "[Ljava/lang/Object;" "java/lang/Object") ∈ lw_tbl := lw_at lw_m14 147 rfl
theorem q150 : (Jvm.Cond.initialized "java/util/AbstractList$ListItr") ∈ lw_all := lw_g (lw_at lw_m1 54 rfl) rfl
theorem q1090 : (Jvm.Cond.selects "java/util/AbstractList$ListItr" ({ cls := "java/lang/Object", name := "getClass", desc := "()Ljava/lang/Class;" } : Jvm.MethodName) ({ cls := "java/lang/Object", name := "getClass", desc := "()Ljava/lang/Class;" } : Jvm.MethodName)) ∈ lw_all := lw_g (lw_at lw_m5 34 rfl) rfl
theorem q1321 : (Jvm.Cond.castable "java/util/AbstractList$ListItr" "java/util/Iterator") ∈ lw_tbl := lw_at lw_m6 25 rfl
theorem q1322 : (Jvm.Cond.selects "java/util/AbstractList$ListItr" ({ cls := "java/util/Iterator", name := "hasNext", desc := "()Z" } : Jvm.MethodName) ({ cls := "java/util/AbstractList$Itr", name := "hasNext", desc := "()Z" } : Jvm.MethodName)) ∈ lw_all := lw_g (lw_at lw_m6 26 rfl) rfl
theorem q1323 : (Jvm.Cond.unhidden "java/util/AbstractList$ListItr" "hasNext" "()Z") ∈ lw_tbl := lw_at lw_m6 27 rfl
theorem q1367 : (Jvm.Cond.selects "java/util/AbstractList$ListItr" ({ cls := "java/util/Iterator", name := "next", desc := "()Ljava/lang/Object;" } : Jvm.MethodName) ({ cls := "java/util/AbstractList$Itr", name := "next", desc := "()Ljava/lang/Object;" } : Jvm.MethodName)) ∈ lw_all := lw_g (lw_at lw_m6 71 rfl) rfl
theorem q1368 : (Jvm.Cond.unhidden "java/util/AbstractList$ListItr" "next" "()Ljava/lang/Object;") ∈ lw_tbl := lw_at lw_m6 72 rfl
theorem q1375 : (Jvm.Cond.selects "java/util/AbstractList$ListItr" ({ cls := "java/util/AbstractList$Itr", name := "checkForComodification", desc := "()V" } : Jvm.MethodName) ({ cls := "java/util/AbstractList$Itr", name := "checkForComodification", desc := "()V" } : Jvm.MethodName)) ∈ lw_all := lw_g (lw_at lw_m6 79 rfl) rfl
theorem q2067 : (Jvm.Cond.selects "java/util/AbstractList$ListItr" ({ cls := "java/util/Iterator", name := "remove", desc := "()V" } : Jvm.MethodName) ({ cls := "java/util/AbstractList$Itr", name := "remove", desc := "()V" } : Jvm.MethodName)) ∈ lw_all := lw_g (lw_at lw_m9 51 rfl) rfl
theorem q2068 : (Jvm.Cond.unhidden "java/util/AbstractList$ListItr" "remove" "()V") ∈ lw_tbl := lw_at lw_m9 52 rfl
theorem q3341 : (Jvm.Cond.castable "java/util/AbstractList$ListItr" "java/lang/Object") ∈ lw_tbl := lw_at lw_m14 125 rfl
theorem q3368 : (Jvm.Cond.fieldLink "java/util/AbstractList$ListItr" (1 : Nat) "java/util/AbstractList$ListItr" "this$0" "Ljava/util/AbstractList;") ∈ lw_all := lw_g (lw_at lw_m14 152 rfl) rfl
theorem q3369 : (Jvm.Cond.fieldLink "java/util/AbstractList$ListItr" (13 : Nat) "java/util/AbstractList$ListItr" "cursor" "I") ∈ lw_all := lw_g (lw_at lw_m14 153 rfl) rfl
theorem q3370 : (Jvm.Cond.sameField "java/util/AbstractList$ListItr" "java/util/AbstractList$Itr" "cursor" "I") ∈ lw_all := lw_g (lw_at lw_m14 154 rfl) rfl
theorem q161 : (Jvm.Cond.initialized "java/lang/Integer$IntegerCache") ∈ lw_all := lw_g (lw_at lw_m1 65 rfl) rfl
theorem q2628 : (Jvm.Cond.laysStatic "java/lang/Integer$IntegerCache" "high" "I") ∈ lw_tbl := lw_at lw_m11 132 rfl
theorem q2630 : (Jvm.Cond.laysStatic "java/lang/Integer$IntegerCache" "cache" "[Ljava/lang/Integer;") ∈ lw_tbl := lw_at lw_m11 134 rfl
theorem q158 : (Jvm.Cond.initialized "jdk/internal/misc/UnsafeConstants") ∈ lw_all := lw_g (lw_at lw_m1 62 rfl) rfl
theorem q2252 : (Jvm.Cond.laysStatic "jdk/internal/misc/UnsafeConstants" "BIG_ENDIAN" "Z") ∈ lw_tbl := lw_at lw_m9 236 rfl
theorem q96 : (Jvm.Cond.initialized "CreditBrokerLaw") ∈ lw_all := lw_g (lw_at lw_m1 0 rfl) rfl
theorem q163 : (Jvm.Cond.classLink "CreditBrokerLaw" (7 : Nat) "CreditBroker") ∈ lw_all := lw_g (lw_at lw_m1 67 rfl) rfl
theorem q165 : (Jvm.Cond.methodLink "CreditBrokerLaw" (9 : Nat) ({ cls := "CreditBroker", name := "<init>", desc := "()V" } : Jvm.MethodName)) ∈ lw_all := lw_g (lw_at lw_m1 69 rfl) rfl
theorem q296 : (Jvm.Cond.methodLink "CreditBrokerLaw" (13 : Nat) ({ cls := "CreditBroker", name := "row", desc := "(III)I" } : Jvm.MethodName)) ∈ lw_all := lw_g (lw_at lw_m1 200 rfl) rfl
theorem q408 : (Jvm.Cond.methodLink "CreditBrokerLaw" (20 : Nat) ({ cls := "CreditBroker", name := "set", desc := "(IIJ)I" } : Jvm.MethodName)) ∈ lw_all := lw_g (lw_at lw_m2 72 rfl) rfl
theorem q474 : (Jvm.Cond.methodLink "CreditBrokerLaw" (25 : Nat) ({ cls := "CreditBroker", name := "copy", desc := "(IIIII)I" } : Jvm.MethodName)) ∈ lw_all := lw_g (lw_at lw_m2 138 rfl) rfl
theorem q521 : (Jvm.Cond.methodLink "CreditBrokerLaw" (30 : Nat) ({ cls := "CreditBroker", name := "element", desc := "(II)J" } : Jvm.MethodName)) ∈ lw_all := lw_g (lw_at lw_m2 185 rfl) rfl
theorem q528 : (Jvm.Cond.methodLink "CreditBrokerLaw" (35 : Nat) ({ cls := "CreditBroker", name := "holds", desc := "(I)I" } : Jvm.MethodName)) ∈ lw_all := lw_g (lw_at lw_m2 192 rfl) rfl
theorem q564 : (Jvm.Cond.methodLink "CreditBrokerLaw" (40 : Nat) ({ cls := "CreditBroker", name := "show", desc := "(III)I" } : Jvm.MethodName)) ∈ lw_all := lw_g (lw_at lw_m2 228 rfl) rfl
theorem q866 : (Jvm.Cond.methodLink "CreditBrokerLaw" (44 : Nat) ({ cls := "CreditBroker", name := "says", desc := "(II)I" } : Jvm.MethodName)) ∈ lw_all := lw_g (lw_at lw_m4 50 rfl) rfl
theorem q915 : (Jvm.Cond.methodLink "CreditBrokerLaw" (49 : Nat) ({ cls := "CreditBroker", name := "feed", desc := "(I)I" } : Jvm.MethodName)) ∈ lw_all := lw_g (lw_at lw_m4 99 rfl) rfl
theorem q919 : (Jvm.Cond.methodLink "CreditBrokerLaw" (53 : Nat) ({ cls := "CreditBroker", name := "wipe", desc := "()I" } : Jvm.MethodName)) ∈ lw_all := lw_g (lw_at lw_m4 103 rfl) rfl
theorem q923 : (Jvm.Cond.methodLink "CreditBrokerLaw" (58 : Nat) ({ cls := "CreditBroker", name := "topic", desc := "()I" } : Jvm.MethodName)) ∈ lw_all := lw_g (lw_at lw_m4 107 rfl) rfl
theorem q1123 : (Jvm.Cond.methodLink "CreditBrokerLaw" (62 : Nat) ({ cls := "CreditBroker", name := "queue", desc := "(IIII)I" } : Jvm.MethodName)) ∈ lw_all := lw_g (lw_at lw_m5 67 rfl) rfl
theorem q1210 : (Jvm.Cond.methodLink "CreditBrokerLaw" (67 : Nat) ({ cls := "CreditBroker", name := "exclusive", desc := "(II)I" } : Jvm.MethodName)) ∈ lw_all := lw_g (lw_at lw_m5 154 rfl) rfl
theorem q1234 : (Jvm.Cond.methodLink "CreditBrokerLaw" (71 : Nat) ({ cls := "CreditBroker", name := "consumer", desc := "(I)I" } : Jvm.MethodName)) ∈ lw_all := lw_g (lw_at lw_m5 178 rfl) rfl
theorem q1270 : (Jvm.Cond.methodLink "CreditBrokerLaw" (75 : Nat) ({ cls := "CreditBroker", name := "leave", desc := "(I)I" } : Jvm.MethodName)) ∈ lw_all := lw_g (lw_at lw_m5 214 rfl) rfl
theorem q1525 : (Jvm.Cond.methodLink "CreditBrokerLaw" (79 : Nat) ({ cls := "CreditBroker", name := "credit", desc := "(II)I" } : Jvm.MethodName)) ∈ lw_all := lw_g (lw_at lw_m6 229 rfl) rfl
theorem q1529 : (Jvm.Cond.methodLink "CreditBrokerLaw" (83 : Nat) ({ cls := "CreditBroker", name := "publish", desc := "(III)I" } : Jvm.MethodName)) ∈ lw_all := lw_g (lw_at lw_m6 233 rfl) rfl
theorem q1745 : (Jvm.Cond.methodLink "CreditBrokerLaw" (87 : Nat) ({ cls := "CreditBroker", name := "give", desc := "(I)I" } : Jvm.MethodName)) ∈ lw_all := lw_g (lw_at lw_m7 209 rfl) rfl
theorem q1773 : (Jvm.Cond.methodLink "CreditBrokerLaw" (91 : Nat) ({ cls := "CreditBroker", name := "giveAll", desc := "(I)I" } : Jvm.MethodName)) ∈ lw_all := lw_g (lw_at lw_m7 237 rfl) rfl
theorem q1777 : (Jvm.Cond.methodLink "CreditBrokerLaw" (95 : Nat) ({ cls := "CreditBroker", name := "ack", desc := "(II)I" } : Jvm.MethodName)) ∈ lw_all := lw_g (lw_at lw_m8 1 rfl) rfl
theorem q1864 : (Jvm.Cond.methodLink "CreditBrokerLaw" (99 : Nat) ({ cls := "CreditBroker", name := "nack", desc := "(II)I" } : Jvm.MethodName)) ∈ lw_all := lw_g (lw_at lw_m8 88 rfl) rfl
theorem q1904 : (Jvm.Cond.methodLink "CreditBrokerLaw" (103 : Nat) ({ cls := "CreditBroker", name := "pass", desc := "(I)I" } : Jvm.MethodName)) ∈ lw_all := lw_g (lw_at lw_m8 128 rfl) rfl
theorem q1943 : (Jvm.Cond.methodLink "CreditBrokerLaw" (107 : Nat) ({ cls := "CreditBroker", name := "revive", desc := "(I)I" } : Jvm.MethodName)) ∈ lw_all := lw_g (lw_at lw_m8 167 rfl) rfl
theorem q1988 : (Jvm.Cond.methodLink "CreditBrokerLaw" (111 : Nat) ({ cls := "CreditBroker", name := "bury", desc := "(I)I" } : Jvm.MethodName)) ∈ lw_all := lw_g (lw_at lw_m8 212 rfl) rfl
theorem q2428 : (Jvm.Cond.methodLink "CreditBrokerLaw" (115 : Nat) ({ cls := "CreditBroker", name := "purge", desc := "(I)I" } : Jvm.MethodName)) ∈ lw_all := lw_g (lw_at lw_m10 172 rfl) rfl
theorem q2433 : (Jvm.Cond.methodLink "CreditBrokerLaw" (119 : Nat) ({ cls := "CreditBroker", name := "queueOf", desc := "(II)I" } : Jvm.MethodName)) ∈ lw_all := lw_g (lw_at lw_m10 177 rfl) rfl
theorem q2492 : (Jvm.Cond.methodLink "CreditBrokerLaw" (123 : Nat) ({ cls := "CreditBroker", name := "letter", desc := "(III)I" } : Jvm.MethodName)) ∈ lw_all := lw_g (lw_at lw_m10 236 rfl) rfl
theorem q2496 : (Jvm.Cond.methodLink "CreditBrokerLaw" (127 : Nat) ({ cls := "CreditBroker", name := "consumerOf", desc := "(II)I" } : Jvm.MethodName)) ∈ lw_all := lw_g (lw_at lw_m11 0 rfl) rfl
theorem q2500 : (Jvm.Cond.methodLink "CreditBrokerLaw" (131 : Nat) ({ cls := "CreditBroker", name := "held", desc := "(II)I" } : Jvm.MethodName)) ∈ lw_all := lw_g (lw_at lw_m11 4 rfl) rfl
theorem q2510 : (Jvm.Cond.methodLink "CreditBrokerLaw" (135 : Nat) ({ cls := "CreditBroker", name := "messageOf", desc := "(II)I" } : Jvm.MethodName)) ∈ lw_all := lw_g (lw_at lw_m11 14 rfl) rfl
theorem q2517 : (Jvm.Cond.methodLink "CreditBrokerLaw" (139 : Nat) ({ cls := "CreditBroker", name := "dead", desc := "(II)I" } : Jvm.MethodName)) ∈ lw_all := lw_g (lw_at lw_m11 21 rfl) rfl
theorem q2521 : (Jvm.Cond.methodLink "CreditBrokerLaw" (143 : Nat) ({ cls := "CreditBroker", name := "cause", desc := "(III)I" } : Jvm.MethodName)) ∈ lw_all := lw_g (lw_at lw_m11 25 rfl) rfl
theorem q2525 : (Jvm.Cond.methodLink "CreditBrokerLaw" (147 : Nat) ({ cls := "CreditBroker", name := "fits", desc := "()I" } : Jvm.MethodName)) ∈ lw_all := lw_g (lw_at lw_m11 29 rfl) rfl
theorem q2530 : (Jvm.Cond.methodLink "CreditBrokerLaw" (151 : Nat) ({ cls := "CreditBroker", name := "covers", desc := "(II)I" } : Jvm.MethodName)) ∈ lw_all := lw_g (lw_at lw_m11 34 rfl) rfl
theorem q2534 : (Jvm.Cond.methodLink "CreditBrokerLaw" (155 : Nat) ({ cls := "CreditBroker", name := "pattern", desc := "(II)I" } : Jvm.MethodName)) ∈ lw_all := lw_g (lw_at lw_m11 38 rfl) rfl
theorem q2558 : (Jvm.Cond.methodLink "CreditBrokerLaw" (159 : Nat) ({ cls := "CreditBroker", name := "next", desc := "(II)I" } : Jvm.MethodName)) ∈ lw_all := lw_g (lw_at lw_m11 62 rfl) rfl
theorem q2564 : (Jvm.Cond.methodLink "CreditBrokerLaw" (163 : Nat) ({ cls := "CreditBroker", name := "blocked", desc := "(I)I" } : Jvm.MethodName)) ∈ lw_all := lw_g (lw_at lw_m11 68 rfl) rfl
theorem q2603 : (Jvm.Cond.methodLink "CreditBrokerLaw" (167 : Nat) ({ cls := "CreditBroker", name := "drained", desc := "(II)I" } : Jvm.MethodName)) ∈ lw_all := lw_g (lw_at lw_m11 107 rfl) rfl
theorem q2674 : (Jvm.Cond.methodLink "CreditBrokerLaw" (171 : Nat) ({ cls := "CreditBroker", name := "until", desc := "(I)I" } : Jvm.MethodName)) ∈ lw_all := lw_g (lw_at lw_m11 178 rfl) rfl
theorem q2750 : (Jvm.Cond.methodLink "CreditBrokerLaw" (175 : Nat) ({ cls := "CreditBroker", name := "doomed", desc := "(I)I" } : Jvm.MethodName)) ∈ lw_all := lw_g (lw_at lw_m12 14 rfl) rfl
theorem q2754 : (Jvm.Cond.methodLink "CreditBrokerLaw" (179 : Nat) ({ cls := "CreditBroker", name := "judge", desc := "(III)I" } : Jvm.MethodName)) ∈ lw_all := lw_g (lw_at lw_m12 18 rfl) rfl
theorem q2767 : (Jvm.Cond.methodLink "CreditBrokerLaw" (183 : Nat) ({ cls := "CreditBroker", name := "days", desc := "(I)I" } : Jvm.MethodName)) ∈ lw_all := lw_g (lw_at lw_m12 31 rfl) rfl
theorem q2800 : (Jvm.Cond.methodLink "CreditBrokerLaw" (187 : Nat) ({ cls := "CreditBroker", name := "seed", desc := "(I)I" } : Jvm.MethodName)) ∈ lw_all := lw_g (lw_at lw_m12 64 rfl) rfl
theorem q2804 : (Jvm.Cond.methodLink "CreditBrokerLaw" (191 : Nat) ({ cls := "CreditBroker", name := "image", desc := "()I" } : Jvm.MethodName)) ∈ lw_all := lw_g (lw_at lw_m12 68 rfl) rfl
theorem q2808 : (Jvm.Cond.methodLink "CreditBrokerLaw" (195 : Nat) ({ cls := "CreditBroker", name := "back", desc := "()I" } : Jvm.MethodName)) ∈ lw_all := lw_g (lw_at lw_m12 72 rfl) rfl
theorem q2812 : (Jvm.Cond.methodLink "CreditBrokerLaw" (199 : Nat) ({ cls := "CreditBroker", name := "status", desc := "(I)I" } : Jvm.MethodName)) ∈ lw_all := lw_g (lw_at lw_m12 76 rfl) rfl
theorem q2833 : (Jvm.Cond.classLink "CreditBrokerLaw" (10 : Nat) "CreditBrokerModel") ∈ lw_all := lw_g (lw_at lw_m12 97 rfl) rfl
theorem q2835 : (Jvm.Cond.methodLink "CreditBrokerLaw" (12 : Nat) ({ cls := "CreditBrokerModel", name := "<init>", desc := "()V" } : Jvm.MethodName)) ∈ lw_all := lw_g (lw_at lw_m12 99 rfl) rfl
theorem q2891 : (Jvm.Cond.methodLink "CreditBrokerLaw" (52 : Nat) ({ cls := "CreditBrokerModel", name := "feed", desc := "(I)I" } : Jvm.MethodName)) ∈ lw_all := lw_g (lw_at lw_m12 155 rfl) rfl
theorem q2903 : (Jvm.Cond.methodLink "CreditBrokerLaw" (57 : Nat) ({ cls := "CreditBrokerModel", name := "wipe", desc := "()I" } : Jvm.MethodName)) ∈ lw_all := lw_g (lw_at lw_m12 167 rfl) rfl
theorem q2907 : (Jvm.Cond.methodLink "CreditBrokerLaw" (61 : Nat) ({ cls := "CreditBrokerModel", name := "topic", desc := "()I" } : Jvm.MethodName)) ∈ lw_all := lw_g (lw_at lw_m12 171 rfl) rfl
theorem q2925 : (Jvm.Cond.methodLink "CreditBrokerLaw" (66 : Nat) ({ cls := "CreditBrokerModel", name := "queue", desc := "(IIII)I" } : Jvm.MethodName)) ∈ lw_all := lw_g (lw_at lw_m12 189 rfl) rfl
theorem q2937 : (Jvm.Cond.methodLink "CreditBrokerLaw" (150 : Nat) ({ cls := "CreditBrokerModel", name := "fits", desc := "()I" } : Jvm.MethodName)) ∈ lw_all := lw_g (lw_at lw_m12 201 rfl) rfl
theorem q2957 : (Jvm.Cond.methodLink "CreditBrokerLaw" (154 : Nat) ({ cls := "CreditBrokerModel", name := "covers", desc := "(II)I" } : Jvm.MethodName)) ∈ lw_all := lw_g (lw_at lw_m12 221 rfl) rfl
theorem q2965 : (Jvm.Cond.methodLink "CreditBrokerLaw" (158 : Nat) ({ cls := "CreditBrokerModel", name := "pattern", desc := "(II)I" } : Jvm.MethodName)) ∈ lw_all := lw_g (lw_at lw_m12 229 rfl) rfl
theorem q2969 : (Jvm.Cond.methodLink "CreditBrokerLaw" (86 : Nat) ({ cls := "CreditBrokerModel", name := "publish", desc := "(III)I" } : Jvm.MethodName)) ∈ lw_all := lw_g (lw_at lw_m12 233 rfl) rfl
theorem q2999 : (Jvm.Cond.methodLink "CreditBrokerLaw" (90 : Nat) ({ cls := "CreditBrokerModel", name := "give", desc := "(I)I" } : Jvm.MethodName)) ∈ lw_all := lw_g (lw_at lw_m13 23 rfl) rfl
theorem q3039 : (Jvm.Cond.methodLink "CreditBrokerLaw" (94 : Nat) ({ cls := "CreditBrokerModel", name := "giveAll", desc := "(I)I" } : Jvm.MethodName)) ∈ lw_all := lw_g (lw_at lw_m13 63 rfl) rfl
theorem q3043 : (Jvm.Cond.methodLink "CreditBrokerLaw" (98 : Nat) ({ cls := "CreditBrokerModel", name := "ack", desc := "(II)I" } : Jvm.MethodName)) ∈ lw_all := lw_g (lw_at lw_m13 67 rfl) rfl
theorem q3068 : (Jvm.Cond.methodLink "CreditBrokerLaw" (102 : Nat) ({ cls := "CreditBrokerModel", name := "nack", desc := "(II)I" } : Jvm.MethodName)) ∈ lw_all := lw_g (lw_at lw_m13 92 rfl) rfl
theorem q3084 : (Jvm.Cond.methodLink "CreditBrokerLaw" (70 : Nat) ({ cls := "CreditBrokerModel", name := "exclusive", desc := "(II)I" } : Jvm.MethodName)) ∈ lw_all := lw_g (lw_at lw_m13 108 rfl) rfl
theorem q3088 : (Jvm.Cond.methodLink "CreditBrokerLaw" (74 : Nat) ({ cls := "CreditBrokerModel", name := "consumer", desc := "(I)I" } : Jvm.MethodName)) ∈ lw_all := lw_g (lw_at lw_m13 112 rfl) rfl
theorem q3092 : (Jvm.Cond.methodLink "CreditBrokerLaw" (78 : Nat) ({ cls := "CreditBrokerModel", name := "leave", desc := "(I)I" } : Jvm.MethodName)) ∈ lw_all := lw_g (lw_at lw_m13 116 rfl) rfl
theorem q3096 : (Jvm.Cond.methodLink "CreditBrokerLaw" (82 : Nat) ({ cls := "CreditBrokerModel", name := "credit", desc := "(II)I" } : Jvm.MethodName)) ∈ lw_all := lw_g (lw_at lw_m13 120 rfl) rfl
theorem q3101 : (Jvm.Cond.methodLink "CreditBrokerLaw" (106 : Nat) ({ cls := "CreditBrokerModel", name := "pass", desc := "(I)I" } : Jvm.MethodName)) ∈ lw_all := lw_g (lw_at lw_m13 125 rfl) rfl
theorem q3113 : (Jvm.Cond.methodLink "CreditBrokerLaw" (110 : Nat) ({ cls := "CreditBrokerModel", name := "revive", desc := "(I)I" } : Jvm.MethodName)) ∈ lw_all := lw_g (lw_at lw_m13 137 rfl) rfl
theorem q3121 : (Jvm.Cond.methodLink "CreditBrokerLaw" (114 : Nat) ({ cls := "CreditBrokerModel", name := "bury", desc := "(I)I" } : Jvm.MethodName)) ∈ lw_all := lw_g (lw_at lw_m13 145 rfl) rfl
theorem q3125 : (Jvm.Cond.methodLink "CreditBrokerLaw" (118 : Nat) ({ cls := "CreditBrokerModel", name := "purge", desc := "(I)I" } : Jvm.MethodName)) ∈ lw_all := lw_g (lw_at lw_m13 149 rfl) rfl
theorem q3129 : (Jvm.Cond.methodLink "CreditBrokerLaw" (122 : Nat) ({ cls := "CreditBrokerModel", name := "queueOf", desc := "(II)I" } : Jvm.MethodName)) ∈ lw_all := lw_g (lw_at lw_m13 153 rfl) rfl
theorem q3146 : (Jvm.Cond.methodLink "CreditBrokerLaw" (126 : Nat) ({ cls := "CreditBrokerModel", name := "letter", desc := "(III)I" } : Jvm.MethodName)) ∈ lw_all := lw_g (lw_at lw_m13 170 rfl) rfl
theorem q3151 : (Jvm.Cond.methodLink "CreditBrokerLaw" (130 : Nat) ({ cls := "CreditBrokerModel", name := "consumerOf", desc := "(II)I" } : Jvm.MethodName)) ∈ lw_all := lw_g (lw_at lw_m13 175 rfl) rfl
theorem q3155 : (Jvm.Cond.methodLink "CreditBrokerLaw" (134 : Nat) ({ cls := "CreditBrokerModel", name := "held", desc := "(II)I" } : Jvm.MethodName)) ∈ lw_all := lw_g (lw_at lw_m13 179 rfl) rfl
theorem q3159 : (Jvm.Cond.methodLink "CreditBrokerLaw" (138 : Nat) ({ cls := "CreditBrokerModel", name := "messageOf", desc := "(II)I" } : Jvm.MethodName)) ∈ lw_all := lw_g (lw_at lw_m13 183 rfl) rfl
theorem q3163 : (Jvm.Cond.methodLink "CreditBrokerLaw" (142 : Nat) ({ cls := "CreditBrokerModel", name := "dead", desc := "(II)I" } : Jvm.MethodName)) ∈ lw_all := lw_g (lw_at lw_m13 187 rfl) rfl
theorem q3167 : (Jvm.Cond.methodLink "CreditBrokerLaw" (146 : Nat) ({ cls := "CreditBrokerModel", name := "cause", desc := "(III)I" } : Jvm.MethodName)) ∈ lw_all := lw_g (lw_at lw_m13 191 rfl) rfl
theorem q3175 : (Jvm.Cond.methodLink "CreditBrokerLaw" (162 : Nat) ({ cls := "CreditBrokerModel", name := "next", desc := "(II)I" } : Jvm.MethodName)) ∈ lw_all := lw_g (lw_at lw_m13 199 rfl) rfl
theorem q3179 : (Jvm.Cond.methodLink "CreditBrokerLaw" (166 : Nat) ({ cls := "CreditBrokerModel", name := "blocked", desc := "(I)I" } : Jvm.MethodName)) ∈ lw_all := lw_g (lw_at lw_m13 203 rfl) rfl
theorem q3183 : (Jvm.Cond.methodLink "CreditBrokerLaw" (170 : Nat) ({ cls := "CreditBrokerModel", name := "drained", desc := "(II)I" } : Jvm.MethodName)) ∈ lw_all := lw_g (lw_at lw_m13 207 rfl) rfl
theorem q3194 : (Jvm.Cond.methodLink "CreditBrokerLaw" (174 : Nat) ({ cls := "CreditBrokerModel", name := "until", desc := "(I)I" } : Jvm.MethodName)) ∈ lw_all := lw_g (lw_at lw_m13 218 rfl) rfl
theorem q3198 : (Jvm.Cond.methodLink "CreditBrokerLaw" (178 : Nat) ({ cls := "CreditBrokerModel", name := "doomed", desc := "(I)I" } : Jvm.MethodName)) ∈ lw_all := lw_g (lw_at lw_m13 222 rfl) rfl
theorem q3202 : (Jvm.Cond.methodLink "CreditBrokerLaw" (17 : Nat) ({ cls := "CreditBrokerModel", name := "row", desc := "(III)I" } : Jvm.MethodName)) ∈ lw_all := lw_g (lw_at lw_m13 226 rfl) rfl
theorem q3210 : (Jvm.Cond.methodLink "CreditBrokerLaw" (24 : Nat) ({ cls := "CreditBrokerModel", name := "set", desc := "(IIJ)I" } : Jvm.MethodName)) ∈ lw_all := lw_g (lw_at lw_m13 234 rfl) rfl
theorem q3217 : (Jvm.Cond.methodLink "CreditBrokerLaw" (29 : Nat) ({ cls := "CreditBrokerModel", name := "copy", desc := "(IIIII)I" } : Jvm.MethodName)) ∈ lw_all := lw_g (lw_at lw_m14 1 rfl) rfl
theorem q3221 : (Jvm.Cond.methodLink "CreditBrokerLaw" (34 : Nat) ({ cls := "CreditBrokerModel", name := "element", desc := "(II)J" } : Jvm.MethodName)) ∈ lw_all := lw_g (lw_at lw_m14 5 rfl) rfl
theorem q3225 : (Jvm.Cond.methodLink "CreditBrokerLaw" (39 : Nat) ({ cls := "CreditBrokerModel", name := "holds", desc := "(I)I" } : Jvm.MethodName)) ∈ lw_all := lw_g (lw_at lw_m14 9 rfl) rfl
theorem q3229 : (Jvm.Cond.methodLink "CreditBrokerLaw" (43 : Nat) ({ cls := "CreditBrokerModel", name := "show", desc := "(III)I" } : Jvm.MethodName)) ∈ lw_all := lw_g (lw_at lw_m14 13 rfl) rfl
theorem q3233 : (Jvm.Cond.methodLink "CreditBrokerLaw" (48 : Nat) ({ cls := "CreditBrokerModel", name := "says", desc := "(II)I" } : Jvm.MethodName)) ∈ lw_all := lw_g (lw_at lw_m14 17 rfl) rfl
theorem q3241 : (Jvm.Cond.methodLink "CreditBrokerLaw" (182 : Nat) ({ cls := "CreditBrokerModel", name := "judge", desc := "(III)I" } : Jvm.MethodName)) ∈ lw_all := lw_g (lw_at lw_m14 25 rfl) rfl
theorem q3245 : (Jvm.Cond.methodLink "CreditBrokerLaw" (186 : Nat) ({ cls := "CreditBrokerModel", name := "days", desc := "(I)I" } : Jvm.MethodName)) ∈ lw_all := lw_g (lw_at lw_m14 29 rfl) rfl
theorem q3259 : (Jvm.Cond.methodLink "CreditBrokerLaw" (190 : Nat) ({ cls := "CreditBrokerModel", name := "seed", desc := "(I)I" } : Jvm.MethodName)) ∈ lw_all := lw_g (lw_at lw_m14 43 rfl) rfl
theorem q3263 : (Jvm.Cond.methodLink "CreditBrokerLaw" (194 : Nat) ({ cls := "CreditBrokerModel", name := "image", desc := "()I" } : Jvm.MethodName)) ∈ lw_all := lw_g (lw_at lw_m14 47 rfl) rfl
theorem q3267 : (Jvm.Cond.methodLink "CreditBrokerLaw" (198 : Nat) ({ cls := "CreditBrokerModel", name := "back", desc := "()I" } : Jvm.MethodName)) ∈ lw_all := lw_g (lw_at lw_m14 51 rfl) rfl
theorem q3271 : (Jvm.Cond.methodLink "CreditBrokerLaw" (202 : Nat) ({ cls := "CreditBrokerModel", name := "status", desc := "(I)I" } : Jvm.MethodName)) ∈ lw_all := lw_g (lw_at lw_m14 55 rfl) rfl
theorem q3285 : (Jvm.Cond.constantLong "CreditBrokerLaw" (18 : Nat) (4294967295 : Int64)) ∈ lw_all := lw_g (lw_at lw_m14 69 rfl) rfl
