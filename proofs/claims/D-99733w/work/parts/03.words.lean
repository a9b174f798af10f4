theorem q167 : (Jvm.Cond.initialized "TurnedBoardsLaw") ∈ lw_all := lw_g (lw_at lw_m1 0 rfl) rfl
set_option maxRecDepth 100000
theorem q209 : (Jvm.Cond.classLink "TurnedBoardsLaw" (7 : Nat) "TurnedBoards") ∈ lw_all := lw_g (lw_at lw_m1 42 rfl) rfl
theorem q211 : (Jvm.Cond.methodLink "TurnedBoardsLaw" (9 : Nat) ({ cls := "TurnedBoards", name := "<init>", desc := "()V" } : Jvm.MethodName)) ∈ lw_all := lw_g (lw_at lw_m1 44 rfl) rfl
theorem q641 : (Jvm.Cond.methodLink "TurnedBoardsLaw" (13 : Nat) ({ cls := "TurnedBoards", name := "feed", desc := "(IIIII)I" } : Jvm.MethodName)) ∈ lw_all := lw_g (lw_at lw_m2 234 rfl) rfl
theorem q653 : (Jvm.Cond.methodLink "TurnedBoardsLaw" (18 : Nat) ({ cls := "TurnedBoards", name := "end", desc := "(I)Z" } : Jvm.MethodName)) ∈ lw_all := lw_g (lw_at lw_m3 6 rfl) rfl
theorem q657 : (Jvm.Cond.methodLink "TurnedBoardsLaw" (23 : Nat) ({ cls := "TurnedBoards", name := "shop", desc := "()I" } : Jvm.MethodName)) ∈ lw_all := lw_g (lw_at lw_m3 10 rfl) rfl
theorem q1314 : (Jvm.Cond.methodLink "TurnedBoardsLaw" (28 : Nat) ({ cls := "TurnedBoards", name := "fault", desc := "(I)I" } : Jvm.MethodName)) ∈ lw_all := lw_g (lw_at lw_m5 187 rfl) rfl
theorem q1318 : (Jvm.Cond.methodLink "TurnedBoardsLaw" (33 : Nat) ({ cls := "TurnedBoards", name := "has", desc := "(I)I" } : Jvm.MethodName)) ∈ lw_all := lw_g (lw_at lw_m5 191 rfl) rfl
theorem q1344 : (Jvm.Cond.methodLink "TurnedBoardsLaw" (37 : Nat) ({ cls := "TurnedBoards", name := "letter", desc := "(III)I" } : Jvm.MethodName)) ∈ lw_all := lw_g (lw_at lw_m5 217 rfl) rfl
theorem q1366 : (Jvm.Cond.methodLink "TurnedBoardsLaw" (42 : Nat) ({ cls := "TurnedBoards", name := "word", desc := "(II)I" } : Jvm.MethodName)) ∈ lw_all := lw_g (lw_at lw_m5 239 rfl) rfl
theorem q1376 : (Jvm.Cond.methodLink "TurnedBoardsLaw" (47 : Nat) ({ cls := "TurnedBoards", name := "board", desc := "(II)I" } : Jvm.MethodName)) ∈ lw_all := lw_g (lw_at lw_m6 9 rfl) rfl
theorem q1385 : (Jvm.Cond.methodLink "TurnedBoardsLaw" (51 : Nat) ({ cls := "TurnedBoards", name := "glyph", desc := "(II)I" } : Jvm.MethodName)) ∈ lw_all := lw_g (lw_at lw_m6 18 rfl) rfl
theorem q1393 : (Jvm.Cond.methodLink "TurnedBoardsLaw" (55 : Nat) ({ cls := "TurnedBoards", name := "kept", desc := "(II)I" } : Jvm.MethodName)) ∈ lw_all := lw_g (lw_at lw_m6 26 rfl) rfl
theorem q1397 : (Jvm.Cond.methodLink "TurnedBoardsLaw" (59 : Nat) ({ cls := "TurnedBoards", name := "seen", desc := "(II)I" } : Jvm.MethodName)) ∈ lw_all := lw_g (lw_at lw_m6 30 rfl) rfl
theorem q1407 : (Jvm.Cond.methodLink "TurnedBoardsLaw" (63 : Nat) ({ cls := "TurnedBoards", name := "doubt", desc := "(III)J" } : Jvm.MethodName)) ∈ lw_all := lw_g (lw_at lw_m6 40 rfl) rfl
theorem q1532 : (Jvm.Cond.methodLink "TurnedBoardsLaw" (68 : Nat) ({ cls := "TurnedBoards", name := "reads", desc := "(III)I" } : Jvm.MethodName)) ∈ lw_all := lw_g (lw_at lw_m6 165 rfl) rfl
theorem q1540 : (Jvm.Cond.methodLink "TurnedBoardsLaw" (72 : Nat) ({ cls := "TurnedBoards", name := "says", desc := "(IIII)I" } : Jvm.MethodName)) ∈ lw_all := lw_g (lw_at lw_m6 173 rfl) rfl
theorem q1615 : (Jvm.Cond.methodLink "TurnedBoardsLaw" (77 : Nat) ({ cls := "TurnedBoards", name := "becomes", desc := "(III)I" } : Jvm.MethodName)) ∈ lw_all := lw_g (lw_at lw_m7 8 rfl) rfl
theorem q1625 : (Jvm.Cond.methodLink "TurnedBoardsLaw" (81 : Nat) ({ cls := "TurnedBoards", name := "line", desc := "(IIII)I" } : Jvm.MethodName)) ∈ lw_all := lw_g (lw_at lw_m7 18 rfl) rfl
theorem q1645 : (Jvm.Cond.methodLink "TurnedBoardsLaw" (85 : Nat) ({ cls := "TurnedBoards", name := "piece", desc := "(IIIII)I" } : Jvm.MethodName)) ∈ lw_all := lw_g (lw_at lw_m7 38 rfl) rfl
theorem q1649 : (Jvm.Cond.methodLink "TurnedBoardsLaw" (89 : Nat) ({ cls := "TurnedBoards", name := "best", desc := "(I)I" } : Jvm.MethodName)) ∈ lw_all := lw_g (lw_at lw_m7 42 rfl) rfl
theorem q1654 : (Jvm.Cond.methodLink "TurnedBoardsLaw" (93 : Nat) ({ cls := "TurnedBoards", name := "hand", desc := "(II)I" } : Jvm.MethodName)) ∈ lw_all := lw_g (lw_at lw_m7 47 rfl) rfl
theorem q1658 : (Jvm.Cond.methodLink "TurnedBoardsLaw" (97 : Nat) ({ cls := "TurnedBoards", name := "been", desc := "(I)I" } : Jvm.MethodName)) ∈ lw_all := lw_g (lw_at lw_m7 51 rfl) rfl
theorem q1666 : (Jvm.Cond.methodLink "TurnedBoardsLaw" (101 : Nat) ({ cls := "TurnedBoards", name := "lasts", desc := "(I)I" } : Jvm.MethodName)) ∈ lw_all := lw_g (lw_at lw_m7 59 rfl) rfl
theorem q1675 : (Jvm.Cond.methodLink "TurnedBoardsLaw" (105 : Nat) ({ cls := "TurnedBoards", name := "mend", desc := "(III)I" } : Jvm.MethodName)) ∈ lw_all := lw_g (lw_at lw_m7 68 rfl) rfl
theorem q1680 : (Jvm.Cond.methodLink "TurnedBoardsLaw" (127 : Nat) ({ cls := "TurnedBoards", name := "undo", desc := "()Z" } : Jvm.MethodName)) ∈ lw_all := lw_g (lw_at lw_m7 73 rfl) rfl
theorem q1684 : (Jvm.Cond.methodLink "TurnedBoardsLaw" (109 : Nat) ({ cls := "TurnedBoards", name := "years", desc := "(I)I" } : Jvm.MethodName)) ∈ lw_all := lw_g (lw_at lw_m7 77 rfl) rfl
theorem q1692 : (Jvm.Cond.methodLink "TurnedBoardsLaw" (113 : Nat) ({ cls := "TurnedBoards", name := "chance", desc := "(I)I" } : Jvm.MethodName)) ∈ lw_all := lw_g (lw_at lw_m7 85 rfl) rfl
theorem q1698 : (Jvm.Cond.methodLink "TurnedBoardsLaw" (117 : Nat) ({ cls := "TurnedBoards", name := "stroke", desc := "(IIII)Z" } : Jvm.MethodName)) ∈ lw_all := lw_g (lw_at lw_m7 91 rfl) rfl
theorem q1702 : (Jvm.Cond.methodLink "TurnedBoardsLaw" (122 : Nat) ({ cls := "TurnedBoards", name := "paint", desc := "(III)Z" } : Jvm.MethodName)) ∈ lw_all := lw_g (lw_at lw_m7 95 rfl) rfl
theorem q1707 : (Jvm.Cond.methodLink "TurnedBoardsLaw" (132 : Nat) ({ cls := "TurnedBoards", name := "seed", desc := "(I)Z" } : Jvm.MethodName)) ∈ lw_all := lw_g (lw_at lw_m7 100 rfl) rfl
theorem q1711 : (Jvm.Cond.methodLink "TurnedBoardsLaw" (136 : Nat) ({ cls := "TurnedBoards", name := "ask", desc := "()J" } : Jvm.MethodName)) ∈ lw_all := lw_g (lw_at lw_m7 104 rfl) rfl
theorem q1760 : (Jvm.Cond.methodLink "TurnedBoardsLaw" (141 : Nat) ({ cls := "TurnedBoards", name := "image", desc := "()I" } : Jvm.MethodName)) ∈ lw_all := lw_g (lw_at lw_m7 153 rfl) rfl
theorem q1771 : (Jvm.Cond.methodLink "TurnedBoardsLaw" (145 : Nat) ({ cls := "TurnedBoards", name := "octet", desc := "(I)I" } : Jvm.MethodName)) ∈ lw_all := lw_g (lw_at lw_m7 164 rfl) rfl
theorem q1775 : (Jvm.Cond.methodLink "TurnedBoardsLaw" (149 : Nat) ({ cls := "TurnedBoards", name := "on", desc := "()Z" } : Jvm.MethodName)) ∈ lw_all := lw_g (lw_at lw_m7 168 rfl) rfl
theorem q1795 : (Jvm.Cond.methodLink "TurnedBoardsLaw" (153 : Nat) ({ cls := "TurnedBoards", name := "status", desc := "(I)I" } : Jvm.MethodName)) ∈ lw_all := lw_g (lw_at lw_m7 188 rfl) rfl
theorem q1799 : (Jvm.Cond.classLink "TurnedBoardsLaw" (10 : Nat) "TurnedBoardsModel") ∈ lw_all := lw_g (lw_at lw_m7 192 rfl) rfl
theorem q1801 : (Jvm.Cond.methodLink "TurnedBoardsLaw" (12 : Nat) ({ cls := "TurnedBoardsModel", name := "<init>", desc := "()V" } : Jvm.MethodName)) ∈ lw_all := lw_g (lw_at lw_m7 194 rfl) rfl
theorem q2157 : (Jvm.Cond.methodLink "TurnedBoardsLaw" (17 : Nat) ({ cls := "TurnedBoardsModel", name := "feed", desc := "(IIIII)I" } : Jvm.MethodName)) ∈ lw_all := lw_g (lw_at lw_m9 70 rfl) rfl
theorem q2161 : (Jvm.Cond.methodLink "TurnedBoardsLaw" (22 : Nat) ({ cls := "TurnedBoardsModel", name := "end", desc := "(I)Z" } : Jvm.MethodName)) ∈ lw_all := lw_g (lw_at lw_m9 74 rfl) rfl
theorem q2165 : (Jvm.Cond.methodLink "TurnedBoardsLaw" (27 : Nat) ({ cls := "TurnedBoardsModel", name := "shop", desc := "()I" } : Jvm.MethodName)) ∈ lw_all := lw_g (lw_at lw_m9 78 rfl) rfl
theorem q2357 : (Jvm.Cond.methodLink "TurnedBoardsLaw" (32 : Nat) ({ cls := "TurnedBoardsModel", name := "fault", desc := "(I)I" } : Jvm.MethodName)) ∈ lw_all := lw_g (lw_at lw_m10 30 rfl) rfl
theorem q2361 : (Jvm.Cond.methodLink "TurnedBoardsLaw" (36 : Nat) ({ cls := "TurnedBoardsModel", name := "has", desc := "(I)I" } : Jvm.MethodName)) ∈ lw_all := lw_g (lw_at lw_m10 34 rfl) rfl
theorem q2384 : (Jvm.Cond.methodLink "TurnedBoardsLaw" (41 : Nat) ({ cls := "TurnedBoardsModel", name := "letter", desc := "(III)I" } : Jvm.MethodName)) ∈ lw_all := lw_g (lw_at lw_m10 57 rfl) rfl
theorem q2396 : (Jvm.Cond.methodLink "TurnedBoardsLaw" (46 : Nat) ({ cls := "TurnedBoardsModel", name := "word", desc := "(II)I" } : Jvm.MethodName)) ∈ lw_all := lw_g (lw_at lw_m10 69 rfl) rfl
theorem q2405 : (Jvm.Cond.methodLink "TurnedBoardsLaw" (50 : Nat) ({ cls := "TurnedBoardsModel", name := "board", desc := "(II)I" } : Jvm.MethodName)) ∈ lw_all := lw_g (lw_at lw_m10 78 rfl) rfl
theorem q2421 : (Jvm.Cond.methodLink "TurnedBoardsLaw" (54 : Nat) ({ cls := "TurnedBoardsModel", name := "glyph", desc := "(II)I" } : Jvm.MethodName)) ∈ lw_all := lw_g (lw_at lw_m10 94 rfl) rfl
theorem q2429 : (Jvm.Cond.methodLink "TurnedBoardsLaw" (58 : Nat) ({ cls := "TurnedBoardsModel", name := "kept", desc := "(II)I" } : Jvm.MethodName)) ∈ lw_all := lw_g (lw_at lw_m10 102 rfl) rfl
theorem q2434 : (Jvm.Cond.methodLink "TurnedBoardsLaw" (62 : Nat) ({ cls := "TurnedBoardsModel", name := "seen", desc := "(II)I" } : Jvm.MethodName)) ∈ lw_all := lw_g (lw_at lw_m10 107 rfl) rfl
theorem q2447 : (Jvm.Cond.methodLink "TurnedBoardsLaw" (67 : Nat) ({ cls := "TurnedBoardsModel", name := "doubt", desc := "(III)J" } : Jvm.MethodName)) ∈ lw_all := lw_g (lw_at lw_m10 120 rfl) rfl
theorem q2484 : (Jvm.Cond.methodLink "TurnedBoardsLaw" (71 : Nat) ({ cls := "TurnedBoardsModel", name := "reads", desc := "(III)I" } : Jvm.MethodName)) ∈ lw_all := lw_g (lw_at lw_m10 157 rfl) rfl
theorem q2492 : (Jvm.Cond.methodLink "TurnedBoardsLaw" (76 : Nat) ({ cls := "TurnedBoardsModel", name := "says", desc := "(IIII)I" } : Jvm.MethodName)) ∈ lw_all := lw_g (lw_at lw_m10 165 rfl) rfl
theorem q2536 : (Jvm.Cond.methodLink "TurnedBoardsLaw" (80 : Nat) ({ cls := "TurnedBoardsModel", name := "becomes", desc := "(III)I" } : Jvm.MethodName)) ∈ lw_all := lw_g (lw_at lw_m10 209 rfl) rfl
theorem q2548 : (Jvm.Cond.methodLink "TurnedBoardsLaw" (84 : Nat) ({ cls := "TurnedBoardsModel", name := "line", desc := "(IIII)I" } : Jvm.MethodName)) ∈ lw_all := lw_g (lw_at lw_m10 221 rfl) rfl
theorem q2579 : (Jvm.Cond.methodLink "TurnedBoardsLaw" (88 : Nat) ({ cls := "TurnedBoardsModel", name := "piece", desc := "(IIIII)I" } : Jvm.MethodName)) ∈ lw_all := lw_g (lw_at lw_m11 12 rfl) rfl
theorem q2583 : (Jvm.Cond.methodLink "TurnedBoardsLaw" (92 : Nat) ({ cls := "TurnedBoardsModel", name := "best", desc := "(I)I" } : Jvm.MethodName)) ∈ lw_all := lw_g (lw_at lw_m11 16 rfl) rfl
theorem q2587 : (Jvm.Cond.methodLink "TurnedBoardsLaw" (96 : Nat) ({ cls := "TurnedBoardsModel", name := "hand", desc := "(II)I" } : Jvm.MethodName)) ∈ lw_all := lw_g (lw_at lw_m11 20 rfl) rfl
theorem q2591 : (Jvm.Cond.methodLink "TurnedBoardsLaw" (100 : Nat) ({ cls := "TurnedBoardsModel", name := "been", desc := "(I)I" } : Jvm.MethodName)) ∈ lw_all := lw_g (lw_at lw_m11 24 rfl) rfl
theorem q2599 : (Jvm.Cond.methodLink "TurnedBoardsLaw" (104 : Nat) ({ cls := "TurnedBoardsModel", name := "lasts", desc := "(I)I" } : Jvm.MethodName)) ∈ lw_all := lw_g (lw_at lw_m11 32 rfl) rfl
theorem q2607 : (Jvm.Cond.methodLink "TurnedBoardsLaw" (108 : Nat) ({ cls := "TurnedBoardsModel", name := "mend", desc := "(III)I" } : Jvm.MethodName)) ∈ lw_all := lw_g (lw_at lw_m11 40 rfl) rfl
theorem q2611 : (Jvm.Cond.methodLink "TurnedBoardsLaw" (131 : Nat) ({ cls := "TurnedBoardsModel", name := "undo", desc := "()Z" } : Jvm.MethodName)) ∈ lw_all := lw_g (lw_at lw_m11 44 rfl) rfl
theorem q2615 : (Jvm.Cond.methodLink "TurnedBoardsLaw" (112 : Nat) ({ cls := "TurnedBoardsModel", name := "years", desc := "(I)I" } : Jvm.MethodName)) ∈ lw_all := lw_g (lw_at lw_m11 48 rfl) rfl
theorem q2627 : (Jvm.Cond.methodLink "TurnedBoardsLaw" (135 : Nat) ({ cls := "TurnedBoardsModel", name := "seed", desc := "(I)Z" } : Jvm.MethodName)) ∈ lw_all := lw_g (lw_at lw_m11 60 rfl) rfl
theorem q2631 : (Jvm.Cond.methodLink "TurnedBoardsLaw" (116 : Nat) ({ cls := "TurnedBoardsModel", name := "chance", desc := "(I)I" } : Jvm.MethodName)) ∈ lw_all := lw_g (lw_at lw_m11 64 rfl) rfl
theorem q2647 : (Jvm.Cond.methodLink "TurnedBoardsLaw" (121 : Nat) ({ cls := "TurnedBoardsModel", name := "stroke", desc := "(IIII)Z" } : Jvm.MethodName)) ∈ lw_all := lw_g (lw_at lw_m11 80 rfl) rfl
theorem q2656 : (Jvm.Cond.methodLink "TurnedBoardsLaw" (126 : Nat) ({ cls := "TurnedBoardsModel", name := "paint", desc := "(III)Z" } : Jvm.MethodName)) ∈ lw_all := lw_g (lw_at lw_m11 89 rfl) rfl
theorem q2660 : (Jvm.Cond.methodLink "TurnedBoardsLaw" (140 : Nat) ({ cls := "TurnedBoardsModel", name := "ask", desc := "()J" } : Jvm.MethodName)) ∈ lw_all := lw_g (lw_at lw_m11 93 rfl) rfl
theorem q2681 : (Jvm.Cond.methodLink "TurnedBoardsLaw" (144 : Nat) ({ cls := "TurnedBoardsModel", name := "image", desc := "()I" } : Jvm.MethodName)) ∈ lw_all := lw_g (lw_at lw_m11 114 rfl) rfl
theorem q2696 : (Jvm.Cond.methodLink "TurnedBoardsLaw" (148 : Nat) ({ cls := "TurnedBoardsModel", name := "octet", desc := "(I)I" } : Jvm.MethodName)) ∈ lw_all := lw_g (lw_at lw_m11 129 rfl) rfl
theorem q2700 : (Jvm.Cond.methodLink "TurnedBoardsLaw" (152 : Nat) ({ cls := "TurnedBoardsModel", name := "on", desc := "()Z" } : Jvm.MethodName)) ∈ lw_all := lw_g (lw_at lw_m11 133 rfl) rfl
theorem q2716 : (Jvm.Cond.methodLink "TurnedBoardsLaw" (156 : Nat) ({ cls := "TurnedBoardsModel", name := "status", desc := "(I)I" } : Jvm.MethodName)) ∈ lw_all := lw_g (lw_at lw_m11 149 rfl) rfl
theorem q1182 : (Jvm.Cond.sameMethod "[B" "java/lang/Object" "clone" "()Ljava/lang/Object;") ∈ lw_all := lw_g (lw_at lw_m5 55 rfl) rfl
set_option maxRecDepth 100000
theorem q1185 : (Jvm.Cond.selects "[B" ({ cls := "[B", name := "clone", desc := "()Ljava/lang/Object;" } : Jvm.MethodName) ({ cls := "java/lang/Object", name := "clone", desc := "()Ljava/lang/Object;" } : Jvm.MethodName)) ∈ lw_all := lw_g (lw_at lw_m5 58 rfl) rfl
theorem q1186 : (Jvm.Cond.castable "[B" "java/lang/Cloneable") ∈ lw_tbl := lw_at lw_m5 59 rfl
theorem q2766 : (Jvm.Cond.castable "[B" "java/lang/Object") ∈ lw_tbl := lw_at lw_m11 199 rfl
theorem q2771 : (Jvm.Cond.castable "[C" "java/lang/Object") ∈ lw_tbl := lw_at lw_m11 204 rfl
set_option maxRecDepth 100000
theorem q2769 : (Jvm.Cond.castable "[I" "java/lang/Object") ∈ lw_tbl := lw_at lw_m11 202 rfl
set_option maxRecDepth 100000
theorem q2767 : (Jvm.Cond.castable "[J" "java/lang/Object") ∈ lw_tbl := lw_at lw_m11 200 rfl
set_option maxRecDepth 100000
theorem q2770 : (Jvm.Cond.castable "[LTurnedBoards$State;" "java/lang/Object") ∈ lw_tbl := lw_at lw_m11 203 rfl
set_option maxRecDepth 100000
theorem q2762 : (Jvm.Cond.sameMethod "[Ljava/lang/Object;" "java/lang/Object" "getClass" "()Ljava/lang/Class;") ∈ lw_all := lw_g (lw_at lw_m11 195 rfl) rfl
set_option maxRecDepth 100000
theorem q2763 : (Jvm.Cond.selects "[Ljava/lang/Object;" ({ cls := "java/lang/Object", name := "getClass", desc := "()Ljava/lang/Class;" } : Jvm.MethodName) ({ cls := "java/lang/Object", name := "getClass", desc := "()Ljava/lang/Class;" } : Jvm.MethodName)) ∈ lw_all := lw_g (lw_at lw_m11 196 rfl) rfl
theorem q2765 : (Jvm.Cond.castable "[Ljava/lang/Object;" "java/lang/Object") ∈ lw_tbl := lw_at lw_m11 198 rfl
theorem q2772 : (Jvm.Cond.castable "[Ljava/lang/String;" "java/lang/Object") ∈ lw_tbl := lw_at lw_m11 205 rfl
set_option maxRecDepth 100000
theorem q2768 : (Jvm.Cond.castable "[[I" "java/lang/Object") ∈ lw_tbl := lw_at lw_m11 201 rfl
set_option maxRecDepth 100000
theorem q176 : (Jvm.Cond.initialized "java/lang/System") ∈ lw_all := lw_g (lw_at lw_m1 9 rfl) rfl
set_option maxRecDepth 100000
theorem q326 : (Jvm.Cond.static ({ cls := "java/lang/System", name := "arraycopy", desc := "(Ljava/lang/Object;ILjava/lang/Object;II)V" } : Jvm.MethodName)) ∈ lw_all := lw_g (lw_at lw_m1 159 rfl) rfl
theorem q327 : (Jvm.Cond.native ({ cls := "java/lang/System", name := "arraycopy", desc := "(Ljava/lang/Object;ILjava/lang/Object;II)V" } : Jvm.MethodName)) ∈ lw_all := lw_g (lw_at lw_m1 160 rfl) rfl
theorem q253 : (Jvm.Cond.interfaceMethod "java/util/List" "java/util/List" "add" "(Ljava/lang/Object;)Z") ∈ lw_tbl := lw_at lw_m1 86 rfl
set_option maxRecDepth 100000
theorem q254 : (Jvm.Cond.declares ({ cls := "java/util/List", name := "add", desc := "(Ljava/lang/Object;)Z" } : Jvm.MethodName)) ∈ lw_tbl := lw_at lw_m1 87 rfl
theorem q903 : (Jvm.Cond.interfaceMethod "java/util/List" "java/util/List" "get" "(I)Ljava/lang/Object;") ∈ lw_tbl := lw_at lw_m4 16 rfl
theorem q904 : (Jvm.Cond.declares ({ cls := "java/util/List", name := "get", desc := "(I)Ljava/lang/Object;" } : Jvm.MethodName)) ∈ lw_tbl := lw_at lw_m4 17 rfl
theorem q921 : (Jvm.Cond.interfaceMethod "java/util/List" "java/util/List" "size" "()I") ∈ lw_tbl := lw_at lw_m4 34 rfl
theorem q922 : (Jvm.Cond.declares ({ cls := "java/util/List", name := "size", desc := "()I" } : Jvm.MethodName)) ∈ lw_tbl := lw_at lw_m4 35 rfl
theorem q809 : (Jvm.Cond.interfaceMethod "jdk/internal/access/JavaLangAccess" "jdk/internal/access/JavaLangAccess" "getUTF16Char" "([BI)C") ∈ lw_tbl := lw_at lw_m3 162 rfl
set_option maxRecDepth 100000
theorem q810 : (Jvm.Cond.declares ({ cls := "jdk/internal/access/JavaLangAccess", name := "getUTF16Char", desc := "([BI)C" } : Jvm.MethodName)) ∈ lw_tbl := lw_at lw_m3 163 rfl
theorem q236 : (Jvm.Cond.arrayOver (Jvm.ClassFile.FieldType.object "java/lang/Object")) ∈ lw_tbl := lw_at lw_m1 69 rfl
set_option maxRecDepth 100000
theorem q452 : (Jvm.Cond.arrayClass Jvm.ClassFile.FieldType.byte) ∈ lw_all := lw_g (lw_at lw_m2 45 rfl) rfl
theorem q491 : (Jvm.Cond.arrayClass Jvm.ClassFile.FieldType.long) ∈ lw_all := lw_g (lw_at lw_m2 84 rfl) rfl
theorem q499 : (Jvm.Cond.arrayOver (Jvm.ClassFile.FieldType.array Jvm.ClassFile.FieldType.int)) ∈ lw_tbl := lw_at lw_m2 92 rfl
theorem q539 : (Jvm.Cond.arrayClass Jvm.ClassFile.FieldType.int) ∈ lw_all := lw_g (lw_at lw_m2 132 rfl) rfl
theorem q581 : (Jvm.Cond.arrayOver (Jvm.ClassFile.FieldType.object "TurnedBoards$State")) ∈ lw_tbl := lw_at lw_m2 174 rfl
theorem q779 : (Jvm.Cond.arrayClass Jvm.ClassFile.FieldType.char) ∈ lw_all := lw_g (lw_at lw_m3 132 rfl) rfl
theorem q2773 : (Jvm.Cond.arrayClass Jvm.ClassFile.FieldType.short) ∈ lw_all := lw_g (lw_at lw_m11 206 rfl) rfl
theorem q2802 : (Jvm.Cond.arrayOver (Jvm.ClassFile.FieldType.object "java/lang/String")) ∈ lw_tbl := lw_at lw_m11 235 rfl
