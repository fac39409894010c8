set_option maxRecDepth 100000
set_option linter.unusedVariables false
def wd_T0 : u_T := fun _ => ("", "", "", false)
abbrev vwCl : List vw_C := [(RX0, TX0, 11), (RX1, TX1, 2), (RX2, TX2, 7), (RX3, TX3, 4), (RX4, wd_T0, 0), (RX5, wd_T0, 0), (RX6, wd_T0, 0), (RX7, wd_T0, 0), (RX8, wd_T0, 0), (RX9, wd_T0, 0), (RX10, wd_T0, 0), (RX11, TX11, 18), (RX12, TX12, 6), (RX13, wd_T0, 0), (RX14, wd_T0, 0), (RX15, wd_T0, 0), (RX16, wd_T0, 0), (RX17, wd_T0, 0), (RX18, wd_T0, 0), (RX19, wd_T0, 0), (RX20, wd_T0, 0), (RX21, wd_T0, 0), (RX22, TX22, 19), (RX23, TX23, 1), (RX24, TX24, 79), (RX25, TX25, 7), (RX1, TX1, 2), (RX27, TX27, 1), (RX28, TX28, 1), (RX29, TX29, 1), (RX30, TX30, 1), (RX31, TX31, 4), (RX1, TX1, 2), (RX33, TX33, 2), (RX1, TX1, 2), (RX35, TX35, 2), (RX36, TX36, 2), (RX37, TX37, 2), (RX38, TX38, 2), (RX39, TX39, 3), (RX40, TX40, 7), (RX1, TX1, 2), (RX42, TX42, 2), (RX43, TX43, 4), (RX44, TX44, 5), (RX45, TX45, 3), (RX46, TX46, 4), (RX47, TX47, 13), (RX48, TX48, 2), (RX1, TX1, 2), (RX1, TX1, 2), (RX1, TX1, 2)]
def wd_tab : List (List (Nat × Nat)) := [[(60100, 3), (101, 3), (102, 2), (103, 2), (104, 2), (105, 3), (106, 3), (107, 2), (108, 2), (109, 2), (110, 0)], [(200, 3), (201, 0)], [(70300, 3), (301, 2), (302, 2), (303, 2), (304, 0), (305, 0), (306, 0)], [(400, 0), (401, 0), (402, 0), (403, 0)], [], [], [], [], [], [], [], [(1200, 2), (11201, 3), (21202, 3), (21203, 3), (1204, 3), (1205, 3), (1206, 3), (1207, 3), (1208, 3), (1209, 3), (1210, 3), (1211, 3), (31212, 3), (11213, 3), (1214, 0), (1215, 0), (1216, 0), (1217, 0)], [(81300, 3), (1301, 2), (1302, 2), (1303, 0), (1304, 0), (1305, 2)], [], [], [], [], [], [], [], [], [], [(2300, 0), (2301, 0), (2302, 0), (2303, 0), (2304, 0), (2305, 0), (92306, 3), (2307, 3), (102308, 3), (2309, 3), (2310, 3), (22311, 3), (2312, 3), (12313, 3), (2314, 3), (2315, 3), (2316, 3), (2317, 3), (2318, 0)], [(2400, 2)], [(2500, 0), (2501, 0), (2502, 0), (2503, 0), (2504, 0), (2505, 0), (2506, 0), (2507, 0), (2508, 0), (2509, 3), (2510, 3), (2511, 3), (2512, 3), (2513, 3), (2514, 3), (2515, 3), (2516, 3), (2517, 3), (2518, 3), (2519, 3), (2520, 3), (22521, 3), (22522, 3), (2523, 3), (2524, 3), (2525, 3), (2526, 3), (2527, 3), (12528, 3), (12529, 3), (2530, 3), (2531, 3), (2532, 3), (12533, 3), (12534, 3), (2535, 0), (2536, 3), (2537, 3), (2538, 3), (2539, 3), (2540, 3), (12541, 3), (2542, 3), (2543, 3), (2544, 3), (2545, 3), (2546, 3), (2547, 3), (2548, 3), (2549, 3), (2550, 3), (12551, 3), (2552, 0), (2553, 3), (2554, 3), (2555, 3), (2556, 3), (2557, 3), (2558, 3), (2559, 3), (2560, 3), (12561, 3), (2562, 3), (2563, 3), (2564, 0), (2565, 0), (2566, 0), (2567, 0), (2568, 3), (2569, 0), (2570, 0), (2571, 0), (2572, 3), (22573, 3), (22574, 3), (2575, 3), (22576, 3), (12577, 3), (12578, 3)], [(9000, 2), (9001, 2), (9002, 2), (9003, 2), (9004, 2), (9005, 0), (2606, 0)], [], [(32800, 3)], [(52900, 3)], [(3000, 3)], [(13100, 3)], [(3200, 0), (3201, 0), (3202, 0), (3203, 0)], [], [(3300, 0), (3301, 0)], [], [(3300, 0), (3301, 0)], [(3300, 0), (3301, 0)], [(3300, 0), (3301, 0)], [(3300, 0), (3301, 0)], [(4000, 2), (4001, 2), (4002, 0)], [(9000, 2), (9001, 2), (9002, 2), (9003, 2), (9004, 2), (9005, 0), (4106, 0)], [], [(4200, 0), (4201, 0)], [(4200, 0), (4201, 0), (4402, 0), (4403, 2)], [(4200, 0), (4201, 0), (4502, 0), (4503, 2), (4504, 2)], [(4600, 2), (4601, 0), (4602, 1)], [(114700, 3), (4701, 2), (4702, 2), (4703, 0)], [(4800, 0), (4801, 1), (4802, 2), (4803, 0), (4804, 0), (4805, 0), (4806, 0), (4807, 0), (4808, 0), (4809, 0), (4810, 2), (4811, 2), (4812, 0)], [(44900, 3), (4901, 0)], [], [], []]
def wd_gk (c k : Nat) : Nat × Nat := (wd_tab.getD c []).getD k (7, 9)
def wd_fts : List FieldType := [.int, .long, .boolean, .byte, .char, .short, .object "PlanMemo$Shelf", .object "PlanMemo$Rule", .object "PlanMemo$Way", .object "PlanMemo$Table", .object "PlanMemo$Expression", .object "PlanMemo$Node"]
def wd_ft (i : Nat) : FieldType := wd_fts.getD i .int
def wd_tys (aC : Nat → ClassId) : List (ClassId × FieldType) := (List.range 12).map fun i => (aC i, wd_ft i)
def wd_len : List Nat := [4, 4, 5, 4, 4, 5, 5, 6, 5, 5, 1, 1, 1, 26, 16]
def wd_byt : List (List Int32) := [[115, 99, 97, 110], [107, 101, 101, 112], [116, 97, 108, 108, 121], [106, 111, 105, 110], [104, 97, 108, 102], [115, 99, 97, 110, 32], [107, 101, 101, 112, 32], [116, 97, 108, 108, 121, 32], [104, 97, 108, 102, 32], [106, 111, 105, 110, 32], [40], [44], [41], [65, 114, 114, 97, 121, 32, 105, 110, 100, 101, 120, 32, 111, 117, 116, 32, 111, 102, 32, 114, 97, 110, 103, 101, 58, 32], [105, 110, 116, 101, 103, 101, 114, 32, 111, 118, 101, 114, 102, 108, 111, 119]]
def wd_hsh : List Int32 := [3524221, 3287941, 110125420, 3267882, 3194931, 109250883, 101926203, -881079244, 99042893, 101304374, 40, 44, 41, 127176833, -623601500]
def wd_lits : List (String × Nat × String × Nat) := [("java/lang/ArrayIndexOutOfBoundsException", 13, "Array index out of range: ", 13), ("PlanMemo$Reader", 42, "scan", 0), ("PlanMemo$Reader", 44, "keep", 1), ("PlanMemo$Reader", 46, "tally", 2), ("PlanMemo$Reader", 48, "join", 3), ("PlanMemo$Reader", 50, "half", 4), ("PlanMemo$Speller", 34, "scan ", 5), ("PlanMemo$Speller", 36, "keep ", 6), ("PlanMemo$Speller", 38, "tally ", 7), ("PlanMemo$Speller", 44, "half ", 8), ("PlanMemo$Speller", 46, "join ", 9), ("PlanMemo$Speller", 71, "(", 10), ("PlanMemo$Speller", 76, ",", 11), ("PlanMemo$Speller", 78, ")", 12), ("java/lang/Math", 111, "integer overflow", 14), ("PlanMemoModel", 297, "scan ", 5), ("PlanMemoModel", 299, "keep ", 6), ("PlanMemoModel", 301, "tally ", 7), ("PlanMemoModel", 303, "join ", 9), ("PlanMemoModel", 305, "half ", 8), ("PlanMemoModel", 451, "(", 10), ("PlanMemoModel", 453, ",", 11), ("PlanMemoModel", 455, ")", 12)]
def wd_casts : List (String × String) := [("java/lang/ArrayIndexOutOfBoundsException", "java/lang/ArrayIndexOutOfBoundsException"), ("PlanMemo$Refused", "PlanMemo$Refused"), ("java/lang/NegativeArraySizeException", "java/lang/NegativeArraySizeException"), ("java/lang/ClassCastException", "java/lang/ClassCastException"), ("PlanMemo$Faulty", "PlanMemo$Faulty"), ("java/lang/System$2", "jdk/internal/access/JavaLangAccess"), ("PlanMemo$Lean", "PlanMemo$Rule"), ("PlanMemo$Once", "PlanMemo$Rule"), ("PlanMemo$Pass", "PlanMemo$Rule"), ("PlanMemo$Sink", "PlanMemo$Rule"), ("PlanMemo$Swap", "PlanMemo$Rule"), ("PlanMemo$Turn", "PlanMemo$Rule"), ("PlanMemo$Under", "PlanMemo$Rule"), ("PlanMemo$Least", "PlanMemo$Taker"), ("PlanMemo$Node", "PlanMemo$Taker"), ("PlanMemo$Search", "PlanMemo$Taker"), ("java/lang/NullPointerException", "java/lang/NullPointerException"), ("java/lang/RuntimeException", "java/lang/Throwable"), ("java/lang/ArithmeticException", "java/lang/ArithmeticException"), ("java/lang/ArrayIndexOutOfBoundsException", "java/lang/IndexOutOfBoundsException"), ("PlanMemo$Bytes", "PlanMemo$Row"), ("PlanMemo$Ints", "PlanMemo$Row"), ("PlanMemo$Longs", "PlanMemo$Row"), ("PlanMemo$Shorts", "PlanMemo$Row"), ("PlanMemo$Half", "PlanMemo$Expression"), ("PlanMemo$Join", "PlanMemo$Expression"), ("PlanMemo$Keep", "PlanMemo$Expression"), ("PlanMemo$Scan", "PlanMemo$Expression"), ("PlanMemo$Tally", "PlanMemo$Expression"), ("PlanMemo$Keep", "PlanMemo$Single"), ("PlanMemo$Tally", "PlanMemo$Single"), ("PlanMemo$Half", "PlanMemo$Join"), ("PlanMemo$Paired", "PlanMemo$Way"), ("PlanMemo$Hashed", "PlanMemo$Way"), ("PlanMemo$Merged", "PlanMemo$Way"), ("PlanMemo$Looped", "PlanMemo$Way"), ("PlanMemo$Summed", "PlanMemo$Way"), ("PlanMemo$Heaped", "PlanMemo$Way"), ("PlanMemo$Sorted", "PlanMemo$Way"), ("PlanMemo$Shipped", "PlanMemo$Way")]
def wd_aos : List String := ["PlanMemo$Shelf", "PlanMemo$Rule", "PlanMemo$Way", "PlanMemo$Table", "PlanMemo$Expression", "PlanMemo$Node"]
def wd_faces : List (String × MethodName × MethodName) := [("PlanMemo$Lean", ⟨"PlanMemo$Rule", "begins", "(I)Z"⟩, ⟨"PlanMemo$Lean", "begins", "(I)Z"⟩), ("PlanMemo$Once", ⟨"PlanMemo$Rule", "begins", "(I)Z"⟩, ⟨"PlanMemo$Once", "begins", "(I)Z"⟩), ("PlanMemo$Pass", ⟨"PlanMemo$Rule", "begins", "(I)Z"⟩, ⟨"PlanMemo$Pass", "begins", "(I)Z"⟩), ("PlanMemo$Sink", ⟨"PlanMemo$Rule", "begins", "(I)Z"⟩, ⟨"PlanMemo$Sink", "begins", "(I)Z"⟩), ("PlanMemo$Swap", ⟨"PlanMemo$Rule", "begins", "(I)Z"⟩, ⟨"PlanMemo$Swap", "begins", "(I)Z"⟩), ("PlanMemo$Turn", ⟨"PlanMemo$Rule", "begins", "(I)Z"⟩, ⟨"PlanMemo$Turn", "begins", "(I)Z"⟩), ("PlanMemo$Under", ⟨"PlanMemo$Rule", "begins", "(I)Z"⟩, ⟨"PlanMemo$Under", "begins", "(I)Z"⟩), ("PlanMemo$Turn", ⟨"PlanMemo$Rule", "alone", "()Z"⟩, ⟨"PlanMemo$Turn", "alone", "()Z"⟩), ("PlanMemo$Lean", ⟨"PlanMemo$Rule", "fits", "(LPlanMemo$Memo;LPlanMemo$Expression;LPlanMemo$Expression;)Z"⟩, ⟨"PlanMemo$Lean", "fits", "(LPlanMemo$Memo;LPlanMemo$Expression;LPlanMemo$Expression;)Z"⟩), ("PlanMemo$Once", ⟨"PlanMemo$Rule", "fits", "(LPlanMemo$Memo;LPlanMemo$Expression;LPlanMemo$Expression;)Z"⟩, ⟨"PlanMemo$Once", "fits", "(LPlanMemo$Memo;LPlanMemo$Expression;LPlanMemo$Expression;)Z"⟩), ("PlanMemo$Pass", ⟨"PlanMemo$Rule", "fits", "(LPlanMemo$Memo;LPlanMemo$Expression;LPlanMemo$Expression;)Z"⟩, ⟨"PlanMemo$Pass", "fits", "(LPlanMemo$Memo;LPlanMemo$Expression;LPlanMemo$Expression;)Z"⟩), ("PlanMemo$Sink", ⟨"PlanMemo$Rule", "fits", "(LPlanMemo$Memo;LPlanMemo$Expression;LPlanMemo$Expression;)Z"⟩, ⟨"PlanMemo$Sink", "fits", "(LPlanMemo$Memo;LPlanMemo$Expression;LPlanMemo$Expression;)Z"⟩), ("PlanMemo$Swap", ⟨"PlanMemo$Rule", "fits", "(LPlanMemo$Memo;LPlanMemo$Expression;LPlanMemo$Expression;)Z"⟩, ⟨"PlanMemo$Swap", "fits", "(LPlanMemo$Memo;LPlanMemo$Expression;LPlanMemo$Expression;)Z"⟩), ("PlanMemo$Under", ⟨"PlanMemo$Rule", "fits", "(LPlanMemo$Memo;LPlanMemo$Expression;LPlanMemo$Expression;)Z"⟩, ⟨"PlanMemo$Under", "fits", "(LPlanMemo$Memo;LPlanMemo$Expression;LPlanMemo$Expression;)Z"⟩), ("PlanMemo$Lean", ⟨"PlanMemo$Rule", "drafts", "(LPlanMemo$Memo;LPlanMemo$Expression;LPlanMemo$Expression;LPlanMemo$Draft;LPlanMemo$Draft;)V"⟩, ⟨"PlanMemo$Lean", "drafts", "(LPlanMemo$Memo;LPlanMemo$Expression;LPlanMemo$Expression;LPlanMemo$Draft;LPlanMemo$Draft;)V"⟩), ("PlanMemo$Pass", ⟨"PlanMemo$Rule", "drafts", "(LPlanMemo$Memo;LPlanMemo$Expression;LPlanMemo$Expression;LPlanMemo$Draft;LPlanMemo$Draft;)V"⟩, ⟨"PlanMemo$Pass", "drafts", "(LPlanMemo$Memo;LPlanMemo$Expression;LPlanMemo$Expression;LPlanMemo$Draft;LPlanMemo$Draft;)V"⟩), ("PlanMemo$Sink", ⟨"PlanMemo$Rule", "drafts", "(LPlanMemo$Memo;LPlanMemo$Expression;LPlanMemo$Expression;LPlanMemo$Draft;LPlanMemo$Draft;)V"⟩, ⟨"PlanMemo$Sink", "drafts", "(LPlanMemo$Memo;LPlanMemo$Expression;LPlanMemo$Expression;LPlanMemo$Draft;LPlanMemo$Draft;)V"⟩), ("PlanMemo$Swap", ⟨"PlanMemo$Rule", "drafts", "(LPlanMemo$Memo;LPlanMemo$Expression;LPlanMemo$Expression;LPlanMemo$Draft;LPlanMemo$Draft;)V"⟩, ⟨"PlanMemo$Swap", "drafts", "(LPlanMemo$Memo;LPlanMemo$Expression;LPlanMemo$Expression;LPlanMemo$Draft;LPlanMemo$Draft;)V"⟩), ("PlanMemo$Turn", ⟨"PlanMemo$Rule", "drafts", "(LPlanMemo$Memo;LPlanMemo$Expression;LPlanMemo$Expression;LPlanMemo$Draft;LPlanMemo$Draft;)V"⟩, ⟨"PlanMemo$Turn", "drafts", "(LPlanMemo$Memo;LPlanMemo$Expression;LPlanMemo$Expression;LPlanMemo$Draft;LPlanMemo$Draft;)V"⟩), ("PlanMemo$Under", ⟨"PlanMemo$Rule", "drafts", "(LPlanMemo$Memo;LPlanMemo$Expression;LPlanMemo$Expression;LPlanMemo$Draft;LPlanMemo$Draft;)V"⟩, ⟨"PlanMemo$Under", "drafts", "(LPlanMemo$Memo;LPlanMemo$Expression;LPlanMemo$Expression;LPlanMemo$Draft;LPlanMemo$Draft;)V"⟩), ("PlanMemo$Once", ⟨"PlanMemo$Rule", "merges", "()Z"⟩, ⟨"PlanMemo$Once", "merges", "()Z"⟩), ("PlanMemo$Node", ⟨"PlanMemo$Taker", "hasEnough", "()Z"⟩, ⟨"PlanMemo$Node", "hasEnough", "()Z"⟩), ("PlanMemo$Least", ⟨"PlanMemo$Taker", "takes", "(IIIII)V"⟩, ⟨"PlanMemo$Least", "takes", "(IIIII)V"⟩), ("PlanMemo$Node", ⟨"PlanMemo$Taker", "takes", "(IIIII)V"⟩, ⟨"PlanMemo$Node", "takes", "(IIIII)V"⟩), ("PlanMemo$Search", ⟨"PlanMemo$Taker", "takes", "(IIIII)V"⟩, ⟨"PlanMemo$Search", "takes", "(IIIII)V"⟩)]
def wd_idefs : List (String × MethodName × MethodName) := [("PlanMemo$Lean", ⟨"PlanMemo$Rule", "alone", "()Z"⟩, ⟨"PlanMemo$Rule", "alone", "()Z"⟩), ("PlanMemo$Once", ⟨"PlanMemo$Rule", "alone", "()Z"⟩, ⟨"PlanMemo$Rule", "alone", "()Z"⟩), ("PlanMemo$Pass", ⟨"PlanMemo$Rule", "alone", "()Z"⟩, ⟨"PlanMemo$Rule", "alone", "()Z"⟩), ("PlanMemo$Sink", ⟨"PlanMemo$Rule", "alone", "()Z"⟩, ⟨"PlanMemo$Rule", "alone", "()Z"⟩), ("PlanMemo$Swap", ⟨"PlanMemo$Rule", "alone", "()Z"⟩, ⟨"PlanMemo$Rule", "alone", "()Z"⟩), ("PlanMemo$Under", ⟨"PlanMemo$Rule", "alone", "()Z"⟩, ⟨"PlanMemo$Rule", "alone", "()Z"⟩), ("PlanMemo$Turn", ⟨"PlanMemo$Rule", "fits", "(LPlanMemo$Memo;LPlanMemo$Expression;LPlanMemo$Expression;)Z"⟩, ⟨"PlanMemo$Rule", "fits", "(LPlanMemo$Memo;LPlanMemo$Expression;LPlanMemo$Expression;)Z"⟩), ("PlanMemo$Once", ⟨"PlanMemo$Rule", "drafts", "(LPlanMemo$Memo;LPlanMemo$Expression;LPlanMemo$Expression;LPlanMemo$Draft;LPlanMemo$Draft;)V"⟩, ⟨"PlanMemo$Rule", "drafts", "(LPlanMemo$Memo;LPlanMemo$Expression;LPlanMemo$Expression;LPlanMemo$Draft;LPlanMemo$Draft;)V"⟩), ("PlanMemo$Lean", ⟨"PlanMemo$Rule", "merges", "()Z"⟩, ⟨"PlanMemo$Rule", "merges", "()Z"⟩), ("PlanMemo$Pass", ⟨"PlanMemo$Rule", "merges", "()Z"⟩, ⟨"PlanMemo$Rule", "merges", "()Z"⟩), ("PlanMemo$Sink", ⟨"PlanMemo$Rule", "merges", "()Z"⟩, ⟨"PlanMemo$Rule", "merges", "()Z"⟩), ("PlanMemo$Swap", ⟨"PlanMemo$Rule", "merges", "()Z"⟩, ⟨"PlanMemo$Rule", "merges", "()Z"⟩), ("PlanMemo$Turn", ⟨"PlanMemo$Rule", "merges", "()Z"⟩, ⟨"PlanMemo$Rule", "merges", "()Z"⟩), ("PlanMemo$Under", ⟨"PlanMemo$Rule", "merges", "()Z"⟩, ⟨"PlanMemo$Rule", "merges", "()Z"⟩), ("PlanMemo$Least", ⟨"PlanMemo$Taker", "hasEnough", "()Z"⟩, ⟨"PlanMemo$Taker", "hasEnough", "()Z"⟩), ("PlanMemo$Search", ⟨"PlanMemo$Taker", "hasEnough", "()Z"⟩, ⟨"PlanMemo$Taker", "hasEnough", "()Z"⟩)]
def wd_vdefs : List (String × MethodName × MethodName) := [("PlanMemo$Scan", ⟨"PlanMemo$Expression", "inputs", "()I"⟩, ⟨"PlanMemo$Telling", "inputs", "()I"⟩)]
def wd_nlk : List Cond := [Cond.methodLink "PlanMemo$Memo" (104 : Nat) ({ cls := "PlanMemo$Expression", name := "kind", desc := "()I" } : MethodName), Cond.sameMethod "PlanMemo$Expression" "PlanMemo$Telling" "kind" "()I", Cond.methodLink "PlanMemo$Memo" (111 : Nat) ({ cls := "PlanMemo$Expression", name := "inputs", desc := "()I" } : MethodName), Cond.sameMethod "PlanMemo$Expression" "PlanMemo$Telling" "inputs" "()I", Cond.methodLink "PlanMemo" (317 : Nat) ({ cls := "PlanMemo$Expression", name := "inputs", desc := "()I" } : MethodName), Cond.methodLink "PlanMemo" (350 : Nat) ({ cls := "PlanMemo$Expression", name := "kind", desc := "()I" } : MethodName), Cond.methodLink "PlanMemo$Firing" (109 : Nat) ({ cls := "PlanMemo$Expression", name := "inputs", desc := "()I" } : MethodName), Cond.methodLink "PlanMemo$Firing" (82 : Nat) ({ cls := "PlanMemo$Expression", name := "kind", desc := "()I" } : MethodName), Cond.methodLink "PlanMemo$Lean" (9 : Nat) ({ cls := "PlanMemo$Expression", name := "kind", desc := "()I" } : MethodName), Cond.methodLink "PlanMemo$Once" (9 : Nat) ({ cls := "PlanMemo$Expression", name := "kind", desc := "()I" } : MethodName), Cond.methodLink "PlanMemo$Pass" (9 : Nat) ({ cls := "PlanMemo$Expression", name := "kind", desc := "()I" } : MethodName), Cond.methodLink "PlanMemo$Sink" (9 : Nat) ({ cls := "PlanMemo$Expression", name := "inputs", desc := "()I" } : MethodName), Cond.methodLink "PlanMemo$Swap" (9 : Nat) ({ cls := "PlanMemo$Expression", name := "kind", desc := "()I" } : MethodName), Cond.methodLink "PlanMemo$Under" (9 : Nat) ({ cls := "PlanMemo$Expression", name := "kind", desc := "()I" } : MethodName), Cond.methodLink "PlanMemo$Sink" (45 : Nat) ({ cls := "PlanMemo$Expression", name := "kind", desc := "()I" } : MethodName), Cond.methodLink "PlanMemo$Ways" (127 : Nat) ({ cls := "PlanMemo$Expression", name := "kind", desc := "()I" } : MethodName), Cond.methodLink "PlanMemo$Ways" (60 : Nat) ({ cls := "PlanMemo$Expression", name := "inputs", desc := "()I" } : MethodName), Cond.methodLink "PlanMemo$Node" (72 : Nat) ({ cls := "PlanMemo$Expression", name := "kind", desc := "()I" } : MethodName)]
/-! ===== the state of the world: objects by fields, arrays by the field that owns them ===== -/
abbrev wS : Type := (Nat → Nat) × (Nat → Nat → Int32) × (Nat → Nat → Int64) × (Nat → Nat → Option Nat) × (Nat → Nat → Nat → Int32) × (Nat → Nat → Nat → Int64) × (Nat → Nat → Nat → Option Nat) × (Nat → Nat → Option Nat) × (Nat → Nat → Nat) × Nat × Nat × Nat
def oC (σ : wS) : Nat → Nat := σ.1
def oI (σ : wS) : Nat → Nat → Int32 := σ.2.1
def oJ (σ : wS) : Nat → Nat → Int64 := σ.2.2.1
def oR (σ : wS) : Nat → Nat → Option Nat := σ.2.2.2.1
def aI (σ : wS) : Nat → Nat → Nat → Int32 := σ.2.2.2.2.1
def aJ (σ : wS) : Nat → Nat → Nat → Int64 := σ.2.2.2.2.2.1
def aR (σ : wS) : Nat → Nat → Nat → Option Nat := σ.2.2.2.2.2.2.1
def aN (σ : wS) : Nat → Nat → Option Nat := σ.2.2.2.2.2.2.2.1
def aD (σ : wS) : Nat → Nat → Nat := σ.2.2.2.2.2.2.2.2.1
/-- the next address; what is left of cells, of slots -/
def nx (σ : wS) : Nat := σ.2.2.2.2.2.2.2.2.2.1
def rC (σ : wS) : Nat := σ.2.2.2.2.2.2.2.2.2.2.1
def rS (σ : wS) : Nat := σ.2.2.2.2.2.2.2.2.2.2.2
def u2 {α : Type} (f : Nat → Nat → α) (g a : Nat) (v : α) : Nat → Nat → α := fun g' a' => if g' = g then (if a' = a then v else f g' a') else f g' a'
theorem u2_s {α : Type} {f : Nat → Nat → α} {g a : Nat} {v : α} : u2 f g a v g a = v := by simp [u2]
theorem u2_a {α : Type} {f : Nat → Nat → α} {g g' a a' : Nat} {v : α} (h : a' ≠ a) : u2 f g a v g' a' = f g' a' := by simp [u2, h]
theorem u2_g {α : Type} {f : Nat → Nat → α} {g g' a a' : Nat} {v : α} (h : g' ≠ g) : u2 f g a v g' a' = f g' a' := by simp [u2, h]
def sI (σ : wS) (g a : Nat) (v : Int32) : wS := (oC σ, u2 (oI σ) g a v, oJ σ, oR σ, aI σ, aJ σ, aR σ, aN σ, aD σ, nx σ, rC σ, rS σ)
def sJ (σ : wS) (g a : Nat) (v : Int64) : wS := (oC σ, oI σ, u2 (oJ σ) g a v, oR σ, aI σ, aJ σ, aR σ, aN σ, aD σ, nx σ, rC σ, rS σ)
def sR (σ : wS) (g a : Nat) (v : Option Nat) : wS := (oC σ, oI σ, oJ σ, u2 (oR σ) g a v, aI σ, aJ σ, aR σ, aN σ, aD σ, nx σ, rC σ, rS σ)
def sA (σ : wS) (g a : Nat) (f : Nat → Int32) : wS := (oC σ, oI σ, oJ σ, oR σ, u2 (aI σ) g a f, aJ σ, aR σ, aN σ, aD σ, nx σ, rC σ, rS σ)
def sAJ (σ : wS) (g a : Nat) (f : Nat → Int64) : wS := (oC σ, oI σ, oJ σ, oR σ, aI σ, u2 (aJ σ) g a f, aR σ, aN σ, aD σ, nx σ, rC σ, rS σ)
def sAR (σ : wS) (g a : Nat) (f : Nat → Option Nat) : wS := (oC σ, oI σ, oJ σ, oR σ, aI σ, aJ σ, u2 (aR σ) g a f, aN σ, aD σ, nx σ, rC σ, rS σ)
/-- a new object of class c, of N fields; a new array of n places, owned by nobody yet: by the floating field f -/
def mkO (σ : wS) (c N : Nat) : wS := (fun a => if a = nx σ then c + 1 else oC σ a, fun g a => if a = nx σ then 0 else oI σ g a, fun g a => if a = nx σ then 0 else oJ σ g a, fun g a => if a = nx σ then none else oR σ g a, aI σ, aJ σ, aR σ, fun g a => if a = nx σ then none else aN σ g a, aD σ, nx σ + 1, rC σ - 1, rS σ - N)
def mkA (σ : wS) (f n : Nat) : wS := (oC σ, oI σ, oJ σ, oR σ, u2 (aI σ) f (nx σ) (fun _ => 0), u2 (aJ σ) f (nx σ) (fun _ => 0), u2 (aR σ) f (nx σ) (fun _ => none), u2 (aN σ) f (nx σ) (some n), u2 (aD σ) f (nx σ) (nx σ), nx σ + 1, rC σ - 1, rS σ - n)
/-- a floating array becomes that of field g of a -/
def mvA (σ : wS) (g a f q : Nat) : wS := (oC σ, oI σ, oJ σ, oR σ, u2 (aI σ) g a (aI σ f q), u2 (aJ σ) g a (aJ σ f q), u2 (aR σ) g a (aR σ f q), u2 (u2 (aN σ) f q none) g a (aN σ f q), u2 (aD σ) g a (aD σ f q), nx σ, rC σ, rS σ)
/-- the machine has made things that are none of ours -/
def bp (σ : wS) (n k m : Nat) : wS := (oC σ, oI σ, oJ σ, oR σ, aI σ, aJ σ, aR σ, aN σ, aD σ, n, k, m)
def wd_v (σ : wS) (gk : Nat × Nat) (a : Nat) : Value := match gk.2 with
  | 0 => .int (oI σ gk.1 a)
  | 1 => .long (oJ σ gk.1 a)
  | 2 => va_rf (oR σ gk.1 a)
  | _ => match aN σ gk.1 a with
    | none => .null
    | some _ => .ref (aD σ gk.1 a)
def wd_f (σ : wS) (c a : Nat) : Nat → Value := fun k => wd_v σ (wd_gk c k) a
def wd_arr (σ : wS) (g a n : Nat) : vp_A := (n, if g / 10000 = 1 then .inr (.inl (aJ σ g a)) else if 6 ≤ g / 10000 then .inr (.inr (.inr (.inr (aR σ g a)))) else .inl (aI σ g a))
/-- class numbers, array classes, the literals' addresses, their byte arrays, the heap's size at the start -/
abbrev wD : Type := va_G × (Nat → ClassId) × (Nat → Nat) × (Nat → Nat) × Nat × Nat × Nat
abbrev dB (d : wD) : Nat := d.2.2.2.2.1
abbrev dC (d : wD) : Nat := d.2.2.2.2.2.1
abbrev dS (d : wD) : Nat := d.2.2.2.2.2.2
def wd_A (d : wD) : Nat → Prop := fun q => dB d ≤ q
/-- the slots of the cells behind the first B -/
def hsum (B : Nat) (H : Heap) : Nat := ((H.toList.drop B).map (·.slots.size)).sum
theorem hsum_map (B : Nat) (H : Heap) : hsum B H = ((H.toList.map (·.slots.size)).drop B).sum := by unfold hsum; rw [List.map_drop]
theorem hsum_same {B : Nat} {H H' : Heap} (hz : H'.size = H.size) (h : ∀ q : Nat, q < H.size → (H'[q]?).map (·.slots.size) = (H[q]?).map (·.slots.size)) : hsum B H' = hsum B H := by
  rw [hsum_map, hsum_map]
  congr 2
  apply List.ext_getElem?
  intro i
  rw [List.getElem?_map, List.getElem?_map, Array.getElem?_toList, Array.getElem?_toList]
  by_cases hi : i < H.size
  · exact h i hi
  · rw [Array.getElem?_eq_none (by omega), Array.getElem?_eq_none (by omega)]
theorem hsum_split {B : Nat} {H H' : Heap} (hB : B ≤ H.size) (hz : H.size ≤ H'.size) (h : ∀ q : Nat, q < H.size → (H'[q]?).map (·.slots.size) = (H[q]?).map (·.slots.size)) : hsum B H' = hsum B H + hsum H.size H' := by
  rw [hsum_map, hsum_map, hsum_map]
  have e : (H'.toList.map (·.slots.size)).take H.size = H.toList.map (·.slots.size) := by
    apply List.ext_getElem?
    intro i
    rw [List.getElem?_take, List.getElem?_map, List.getElem?_map, Array.getElem?_toList, Array.getElem?_toList]
    by_cases hi : i < H.size
    · rw [if_pos hi]; exact h i hi
    · rw [if_neg hi, Array.getElem?_eq_none (by omega)]; rfl
  have e2 := List.take_append_drop H.size (H'.toList.map (·.slots.size))
  rw [e] at e2
  conv => lhs; rw [← e2]
  rw [List.drop_append_of_le_length (by simpa using hB), List.sum_append]
theorem hsum_one {H' : Heap} {n : Nat} {c : Cell} (hz : H'.size = n + 1) (hc : H'[n]? = some c) : hsum n H' = c.slots.size := by
  unfold hsum
  have : H'.toList.drop n = [c] := by
    apply List.ext_getElem?
    intro i
    rw [List.getElem?_drop, Array.getElem?_toList]
    cases i with
    | zero => simpa using hc
    | succ i => rw [Array.getElem?_eq_none (by omega)]; simp
  rw [this]; simp
def wd_N (d : wD) (σ : wS) (H : Heap) : Prop := H.size = nx σ ∧ dB d ≤ nx σ ∧ nx σ + rC σ = dC d ∧ hsum (dB d) H + rS σ = dS d
theorem wd_N.put {d : wD} {σ σ' : wS} {H H' : Heap} {a : Nat} {ce ce' : Cell} (h : wd_N d σ H) (hz : H'.size = H.size) (ho : ∀ q, q ≠ a → H'[q]? = H[q]?) (h1 : H[a]? = some ce) (h2 : H'[a]? = some ce') (h3 : ce'.slots.size = ce.slots.size) (e : σ'.2.2.2.2.2.2.2.2.2 = σ.2.2.2.2.2.2.2.2.2) : wd_N d σ' H' := by
  have e1 : nx σ' = nx σ := congrArg (fun x => x.1) e
  have e2 : rC σ' = rC σ := congrArg (fun x => x.2.1) e
  have e3 : rS σ' = rS σ := congrArg (fun x => x.2.2) e
  obtain ⟨k1, k2, k3, k4⟩ := h
  refine ⟨by rw [hz, e1, k1], by rw [e1]; exact k2, by rw [e1, e2]; exact k3, ?_⟩
  rw [e3, hsum_same hz (fun q _ => ?_)]
  · exact k4
  · by_cases hq : q = a
    · subst hq; rw [h1, h2]; simp [h3]
    · rw [ho q hq]
theorem wd_N.new {d : wD} {σ σ' : wS} {H H' : Heap} {N : Nat} {ce : Cell} (h : wd_N d σ H) (hz : H'.size = H.size + 1) (ho : ∀ q, q < H.size → H'[q]? = H[q]?) (h1 : H'[H.size]? = some ce) (h2 : ce.slots.size = N) (hc : 1 ≤ rC σ) (hs : N ≤ rS σ) (e1 : nx σ' = nx σ + 1) (e2 : rC σ' = rC σ - 1) (e3 : rS σ' = rS σ - N) : wd_N d σ' H' := by
  obtain ⟨k1, k2, k3, k4⟩ := h
  refine ⟨by rw [hz, e1, k1], by omega, by omega, ?_⟩
  rw [hsum_split (H := H) (by omega) (by omega) (fun q hq => by rw [ho q hq]), hsum_one hz h1, h2]
  omega
def wd_h (d : wD) (σ : wS) (H : Heap) : Prop :=
  (∀ a c, oC σ a = c + 1 → dB d ≤ a ∧ ∃ r : vw_C, vwCl[c]? = some r ∧ t_OB a (d.1.1 c) r.2.2 (d.1.2 c) H (wd_f σ c a)) ∧
  (∀ g a n, aN σ g a = some n → dB d ≤ aD σ g a ∧ H[aD σ g a]? = some (vp_cell (d.2.1 (g / 10000)) (wd_arr σ g a n)) ∧ oC σ (aD σ g a) = 0) ∧
  (∀ g a n g' a' n', aN σ g a = some n → aN σ g' a' = some n' → aD σ g a = aD σ g' a' → g = g' ∧ a = a')
def wd_H (d : wD) (σ : wS) (H : Heap) : Prop := wd_N d σ H ∧ wd_h d σ H
theorem wd_lt {d : wD} {σ : wS} {H : Heap} (h : wd_H d σ H) {a c : Nat} (ha : oC σ a = c + 1) : a < H.size := by
  obtain ⟨-, r, -, cell, h2, -⟩ := h.2.1 a c ha
  exact (Array.getElem?_eq_some_iff.mp h2).1
theorem wd_ltA {d : wD} {σ : wS} {H : Heap} (h : wd_H d σ H) {g a n : Nat} (ha : aN σ g a = some n) : aD σ g a < H.size :=
  (Array.getElem?_eq_some_iff.mp (h.2.2.1 g a n ha).2.1).1
/-- an object's field written -/
theorem wd_putO {d : wD} {σ σ' : wS} {H H' : Heap} {a c : Nat} {r : vw_C} (hn : wd_N d σ' H') (h : wd_H d σ H) (ha : oC σ a = c + 1) (hr : vwCl[c]? = some r) (hq : ∀ q, q ≠ a → H'[q]? = H[q]?)
    (hO : t_OB a (d.1.1 c) r.2.2 (d.1.2 c) H' (wd_f σ' c a)) (e1 : oC σ' = oC σ) (e2 : σ'.2.2.2.2 = σ.2.2.2.2) (e3 : ∀ c' a', a' ≠ a → wd_f σ' c' a' = wd_f σ c' a') : wd_H d σ' H' := by
  have eN : aN σ' = aN σ := congrArg (fun x => x.2.2.2.1) e2
  have eD : aD σ' = aD σ := congrArg (fun x => x.2.2.2.2.1) e2
  have eI : aI σ' = aI σ := congrArg (fun x => x.1) e2
  have eJ : aJ σ' = aJ σ := congrArg (fun x => x.2.1) e2
  have eR : aR σ' = aR σ := congrArg (fun x => x.2.2.1) e2
  have eA : ∀ g b n, wd_arr σ' g b n = wd_arr σ g b n := fun g b n => by simp only [wd_arr, eI, eJ, eR]
  refine ⟨hn, fun b c' hb => ?_, fun g b n hb => ?_, by rw [eN, eD]; exact h.2.2.2⟩
  · rw [e1] at hb
    by_cases hab : b = a
    · subst hab
      have : c' = c := by omega
      subst this
      exact ⟨(h.2.1 b c' hb).1, r, hr, hO⟩
    · obtain ⟨h0, r', h1, h2⟩ := h.2.1 b c' hb
      refine ⟨h0, r', h1, ?_⟩
      rw [e3 c' b hab]
      exact h2.kept (hq b hab)
  · rw [eN] at hb
    obtain ⟨h0, h1, h2⟩ := h.2.2.1 g b n hb
    have hne : aD σ g b ≠ a := fun e => by rw [e] at h2; omega
    rw [eD, e1, eA, hq _ hne]
    exact ⟨h0, h1, h2⟩
/-- an array's content written -/
theorem wd_putA {d : wD} {σ σ' : wS} {H H' : Heap} {g a n : Nat} (hn : wd_N d σ' H') (h : wd_H d σ H) (ha : aN σ g a = some n) (hq : ∀ q, q ≠ aD σ g a → H'[q]? = H[q]?)
    (hA : H'[aD σ g a]? = some (vp_cell (d.2.1 (g / 10000)) (wd_arr σ' g a n))) (e1 : σ'.1 = σ.1) (e2 : oI σ' = oI σ) (e3 : oJ σ' = oJ σ) (e4 : oR σ' = oR σ) (eN : aN σ' = aN σ) (eD : aD σ' = aD σ) (e5 : ∀ g' a' n', (g' ≠ g ∨ a' ≠ a) → wd_arr σ' g' a' n' = wd_arr σ g' a' n') : wd_H d σ' H' := by
  have eC : oC σ' = oC σ := e1
  have eF : ∀ c b, wd_f σ' c b = wd_f σ c b := fun c b => by funext k; simp only [wd_f, wd_v, e2, e3, e4, eN, eD]
  refine ⟨hn, fun b c hb => ?_, fun g' b n' hb => ?_, by rw [eN, eD]; exact h.2.2.2⟩
  · rw [eC] at hb
    obtain ⟨h0, r', h1, h2⟩ := h.2.1 b c hb
    have hne : b ≠ aD σ g a := fun e => by
      have := (h.2.2.1 g a n ha).2.2
      rw [← e] at this
      omega
    refine ⟨h0, r', h1, ?_⟩
    rw [eF]
    exact h2.kept (hq b hne)
  · rw [eN] at hb
    obtain ⟨h0, h1, h2⟩ := h.2.2.1 g' b n' hb
    rw [eD, eC]
    by_cases hab : g' = g ∧ b = a
    · obtain ⟨rfl, rfl⟩ := hab
      have hn : n' = n := Option.some.inj (hb.symm.trans ha)
      subst hn
      exact ⟨h0, hA, h2⟩
    · have hne : aD σ g' b ≠ aD σ g a := fun e => hab (h.2.2.2 g' b n' g a n hb ha e)
      rw [hq _ hne, e5 g' b n' (by
        rcases Nat.decEq g' g with q | q
        · exact Or.inl q
        · exact Or.inr fun z => hab ⟨q, z⟩)]
      exact ⟨h0, h1, h2⟩
theorem mkO_f {σ : wS} {c N b : Nat} (hb : b ≠ nx σ) (c' : Nat) : wd_f (mkO σ c N) c' b = wd_f σ c' b := by
  funext k
  simp only [wd_f, wd_v, mkO, oI, oJ, oR, aN, aD, hb, if_false]
/-- a new object -/
theorem wd_newO {d : wD} {σ : wS} {H H' : Heap} {c N : Nat} {r : vw_C} (hn : wd_N d (mkO σ c N) H') (h : wd_H d σ H) (hr : vwCl[c]? = some r) (hq : ∀ x, x < H.size → H'[x]? = H[x]?)
    (hO : t_OB (nx σ) (d.1.1 c) r.2.2 (d.1.2 c) H' (wd_f (mkO σ c N) c (nx σ))) : wd_H d (mkO σ c N) H' := by
  have hz : nx σ = H.size := h.1.1.symm
  have hB : dB d ≤ nx σ := h.1.2.1
  refine ⟨hn, fun b c' hb => ?_, fun g b n hb => ?_, fun g a n g' a' n' h1 h2 h3 => ?_⟩
  · by_cases hbq : b = nx σ
    · subst hbq
      have : c' = c := by simp [mkO, oC] at hb; omega
      subst this
      exact ⟨hB, r, hr, hO⟩
    · have hb' : oC σ b = c' + 1 := by simpa [mkO, oC, hbq] using hb
      obtain ⟨h0, r', h1, h2⟩ := h.2.1 b c' hb'
      refine ⟨h0, r', h1, ?_⟩
      rw [mkO_f hbq]
      exact h2.kept (hq b (wd_lt h hb'))
  · have hbq : b ≠ nx σ := fun e => by simp [mkO, aN, e] at hb
    have hb' : aN σ g b = some n := by simpa [mkO, aN, hbq] using hb
    obtain ⟨h0, h1, h2⟩ := h.2.2.1 g b n hb'
    have hl := wd_ltA h hb'
    refine ⟨h0, ?_, ?_⟩
    · show H'[aD σ g b]? = _
      rw [hq _ hl]
      exact h1
    · show (if aD σ g b = nx σ then c + 1 else oC σ (aD σ g b)) = 0
      rw [if_neg (by rw [hz]; exact Nat.ne_of_lt hl)]
      exact h2
  · have e1 : a ≠ nx σ := fun e => by simp [mkO, aN, e] at h1
    have e2 : a' ≠ nx σ := fun e => by simp [mkO, aN, e] at h2
    exact h.2.2.2 g a n g' a' n' (by simpa [mkO, aN, e1] using h1) (by simpa [mkO, aN, e2] using h2) h3
theorem mkA_N {σ : wS} {f n g a : Nat} (h : ¬ (g = f ∧ a = nx σ)) : aN (mkA σ f n) g a = aN σ g a ∧ aD (mkA σ f n) g a = aD σ g a ∧ ∀ k, wd_arr (mkA σ f n) g a k = wd_arr σ g a k := by
  have key : ∀ {α : Type} (F : Nat → Nat → α) (v : α), u2 F f (nx σ) v g a = F g a := by
    intro α F v
    unfold u2
    by_cases e1 : g = f
    · rw [if_pos e1, if_neg (fun e2 => h ⟨e1, e2⟩)]
    · rw [if_neg e1]
  refine ⟨key _ _, key _ _, fun k => ?_⟩
  have e1 : aI (mkA σ f n) g a = aI σ g a := key _ _
  have e2 : aJ (mkA σ f n) g a = aJ σ g a := key _ _
  have e3 : aR (mkA σ f n) g a = aR σ g a := key _ _
  simp only [wd_arr, e1, e2, e3]
/-- a new array; the field that floats isn't one of an object's -/
theorem wd_newA {d : wD} {σ : wS} {H H' : Heap} {f n : Nat} (hnn : wd_N d (mkA σ f n) H') (h : wd_H d σ H) (hq : ∀ x, x < H.size → H'[x]? = H[x]?)
    (hA : H'[nx σ]? = some (vp_cell (d.2.1 (f / 10000)) (wd_arr (mkA σ f n) f (nx σ) n))) : wd_H d (mkA σ f n) H' := by
  have hz : nx σ = H.size := h.1.1.symm
  have hB : dB d ≤ nx σ := h.1.2.1
  have eC : oC (mkA σ f n) = oC σ := rfl
  have eDq : aD (mkA σ f n) f (nx σ) = nx σ := u2_s
  refine ⟨hnn, fun b c hb => ?_, fun g b m hb => ?_, fun g a m g' a' m' h1 h2 h3 => ?_⟩
  · rw [eC] at hb
    obtain ⟨h0, r', h1, h2⟩ := h.2.1 b c hb
    have hl := wd_lt h hb
    refine ⟨h0, r', h1, ?_⟩
    have : wd_f (mkA σ f n) c b = wd_f σ c b := by
      funext k
      have hn := mkA_N (σ := σ) (f := f) (n := n) (g := (wd_gk c k).1) (a := b) (fun z => absurd (z.2.trans hz) (Nat.ne_of_lt hl))
      simp only [wd_f, wd_v, hn.1, hn.2.1]
      rfl
    rw [this]
    exact h2.kept (hq b hl)
  · by_cases hgb : g = f ∧ b = nx σ
    · obtain ⟨rfl, rfl⟩ := hgb
      have : m = n := by
        have h1 : aN (mkA σ g n) g (nx σ) = some n := u2_s
        exact Option.some.inj (hb.symm.trans h1)
      subst this
      rw [eDq]
      refine ⟨hB, hA, ?_⟩
      cases ho : oC (mkA σ g m) (nx σ) with
      | zero => rfl
      | succ c => exact absurd (wd_lt h (a := nx σ) (c := c) ho) (by rw [hz]; exact Nat.lt_irrefl _)
    · obtain ⟨e1, e2, e3⟩ := mkA_N (σ := σ) (n := n) hgb
      rw [e1] at hb
      obtain ⟨h0, h1, h2⟩ := h.2.2.1 g b m hb
      rw [e2, e3, hq _ (wd_ltA h hb)]
      exact ⟨h0, h1, h2⟩
  · by_cases hx : g = f ∧ a = nx σ <;> by_cases hy : g' = f ∧ a' = nx σ
    · exact ⟨hx.1.trans hy.1.symm, hx.2.trans hy.2.symm⟩
    · obtain ⟨e1, e2, -⟩ := mkA_N (σ := σ) (n := n) hy
      rw [e1] at h2
      rw [e2, hx.1, hx.2, eDq] at h3
      exact absurd (wd_ltA h h2) (by rw [← h3, hz]; exact Nat.lt_irrefl _)
    · obtain ⟨e1, e2, -⟩ := mkA_N (σ := σ) (n := n) hx
      rw [e1] at h1
      rw [e2, hy.1, hy.2, eDq] at h3
      exact absurd (wd_ltA h h1) (by rw [h3, hz]; exact Nat.lt_irrefl _)
    · obtain ⟨e1, e2, -⟩ := mkA_N (σ := σ) (n := n) hx
      obtain ⟨e3, e4, -⟩ := mkA_N (σ := σ) (n := n) hy
      rw [e1] at h1
      rw [e3] at h2
      rw [e2, e4] at h3
      exact h.2.2.2 g a m g' a' m' h1 h2 h3
/-- the heap has grown by things that are none of ours -/
theorem wd_bump {d : wD} {σ : wS} {H H' : Heap} (h : wd_H d σ H) (hz : H.size ≤ H'.size) (hq : ∀ q, q < H.size → H'[q]? = H[q]?) (hc : H'.size ≤ H.size + rC σ) (hs : hsum H.size H' ≤ rS σ) : wd_H d (bp σ H'.size (rC σ - (H'.size - H.size)) (rS σ - hsum H.size H')) H' := by
  obtain ⟨⟨k1, k2, k3, k4⟩, hh⟩ := h
  have h : wd_H d σ H := ⟨⟨k1, k2, k3, k4⟩, hh⟩
  refine ⟨⟨rfl, ?_, ?_, ?_⟩, fun a c ha => ?_, fun g a n ha => ?_, h.2.2.2⟩
  · show dB d ≤ H'.size; omega
  · show H'.size + (rC σ - (H'.size - H.size)) = dC d; omega
  · show hsum (dB d) H' + (rS σ - hsum H.size H') = dS d
    rw [hsum_split (by omega) hz (fun q hx => by rw [hq q hx])]
    omega
  · obtain ⟨h0, r, h1, h2⟩ := h.2.1 a c ha
    exact ⟨h0, r, h1, h2.kept (hq a (wd_lt h ha))⟩
  · obtain ⟨h0, h1, h2⟩ := h.2.2.1 g a n ha
    exact ⟨h0, (hq _ (wd_ltA h ha)).trans h1, h2⟩
/-- what stands fast: classes, tables' words that no list carries, literals, statics -/
def wd_ncs : List (String × String) := [("PlanMemo$Bytes", "PlanMemo$Scan"), ("PlanMemo$Bytes", "PlanMemo$Keep"), ("PlanMemo$Bytes", "PlanMemo$Tally"), ("PlanMemo$Bytes", "PlanMemo$Join"), ("PlanMemo$Bytes", "PlanMemo$Half"), ("PlanMemo$Bytes", "PlanMemo$Single"), ("PlanMemo$Bytes", "PlanMemo$Expression"), ("PlanMemo$Shorts", "PlanMemo$Scan"), ("PlanMemo$Shorts", "PlanMemo$Keep"), ("PlanMemo$Shorts", "PlanMemo$Tally"), ("PlanMemo$Shorts", "PlanMemo$Join"), ("PlanMemo$Shorts", "PlanMemo$Half"), ("PlanMemo$Shorts", "PlanMemo$Single"), ("PlanMemo$Shorts", "PlanMemo$Expression"), ("PlanMemo$Ints", "PlanMemo$Scan"), ("PlanMemo$Ints", "PlanMemo$Keep"), ("PlanMemo$Ints", "PlanMemo$Tally"), ("PlanMemo$Ints", "PlanMemo$Join"), ("PlanMemo$Ints", "PlanMemo$Half"), ("PlanMemo$Ints", "PlanMemo$Single"), ("PlanMemo$Ints", "PlanMemo$Expression"), ("PlanMemo$Longs", "PlanMemo$Scan"), ("PlanMemo$Longs", "PlanMemo$Keep"), ("PlanMemo$Longs", "PlanMemo$Tally"), ("PlanMemo$Longs", "PlanMemo$Join"), ("PlanMemo$Longs", "PlanMemo$Half"), ("PlanMemo$Longs", "PlanMemo$Single"), ("PlanMemo$Longs", "PlanMemo$Expression"), ("PlanMemo$Scan", "PlanMemo$Row"), ("PlanMemo$Keep", "PlanMemo$Row"), ("PlanMemo$Tally", "PlanMemo$Row"), ("PlanMemo$Join", "PlanMemo$Row"), ("PlanMemo$Half", "PlanMemo$Row"), ("PlanMemo$Scan", "PlanMemo$Keep"), ("PlanMemo$Scan", "PlanMemo$Tally"), ("PlanMemo$Scan", "PlanMemo$Join"), ("PlanMemo$Scan", "PlanMemo$Half"), ("PlanMemo$Scan", "PlanMemo$Single"), ("PlanMemo$Keep", "PlanMemo$Scan"), ("PlanMemo$Keep", "PlanMemo$Tally"), ("PlanMemo$Keep", "PlanMemo$Join"), ("PlanMemo$Keep", "PlanMemo$Half"), ("PlanMemo$Tally", "PlanMemo$Scan"), ("PlanMemo$Tally", "PlanMemo$Keep"), ("PlanMemo$Tally", "PlanMemo$Join"), ("PlanMemo$Tally", "PlanMemo$Half"), ("PlanMemo$Join", "PlanMemo$Scan"), ("PlanMemo$Join", "PlanMemo$Keep"), ("PlanMemo$Join", "PlanMemo$Tally"), ("PlanMemo$Join", "PlanMemo$Half"), ("PlanMemo$Join", "PlanMemo$Single"), ("PlanMemo$Half", "PlanMemo$Scan"), ("PlanMemo$Half", "PlanMemo$Keep"), ("PlanMemo$Half", "PlanMemo$Tally"), ("PlanMemo$Half", "PlanMemo$Single"), ("java/lang/ArrayIndexOutOfBoundsException", "PlanMemo$Refused"), ("java/lang/ArrayIndexOutOfBoundsException", "java/lang/NullPointerException"), ("PlanMemo$Refused", "java/lang/NullPointerException"), ("PlanMemo$Refused", "java/lang/ArrayIndexOutOfBoundsException"), ("PlanMemo$Refused", "java/lang/ClassCastException"), ("PlanMemo$Refused", "java/lang/NegativeArraySizeException"), ("PlanMemo$Refused", "PlanMemo$Faulty"), ("PlanMemo$Faulty", "PlanMemo$Refused"), ("java/lang/NullPointerException", "java/lang/ArrayIndexOutOfBoundsException"), ("PlanMemo$Refused", "java/lang/IndexOutOfBoundsException")]
def wd_decl : List MethodName := [⟨"java/lang/IndexOutOfBoundsException", "<init>", "()V"⟩, ⟨"java/lang/IndexOutOfBoundsException", "<init>", "(Ljava/lang/String;)V"⟩, ⟨"java/lang/RuntimeException", "<init>", "()V"⟩, ⟨"java/lang/RuntimeException", "<init>", "(Ljava/lang/String;)V"⟩, ⟨"java/lang/Exception", "<init>", "()V"⟩, ⟨"java/lang/Exception", "<init>", "(Ljava/lang/String;)V"⟩, ⟨"java/lang/Throwable", "<init>", "()V"⟩, ⟨"java/lang/Throwable", "<init>", "(Ljava/lang/String;)V"⟩, ⟨"PlanMemo$Row", "put", "(IJ)V"⟩, ⟨"PlanMemo$Row", "sort", "()I"⟩, ⟨"PlanMemo$Row", "held", "()Ljava/lang/Object;"⟩, ⟨"PlanMemo$Row", "get", "(I)J"⟩, ⟨"PlanMemo$Telling", "kind", "()I"⟩, ⟨"PlanMemo$Telling", "inputs", "()I"⟩, ⟨"PlanMemo$Expression", "columns", "(LPlanMemo$Memo;)I"⟩, ⟨"PlanMemo$Row", "length", "()I"⟩, ⟨"PlanMemo$Said", "tell", "(LPlanMemo$Memo;)I"⟩, ⟨"PlanMemo$Expression", "rows", "(LPlanMemo$Memo;)I"⟩, ⟨"PlanMemo$Rule", "begins", "(I)Z"⟩, ⟨"PlanMemo$Rule", "alone", "()Z"⟩, ⟨"PlanMemo$Rule", "fits", "(LPlanMemo$Memo;LPlanMemo$Expression;LPlanMemo$Expression;)Z"⟩, ⟨"PlanMemo$Rule", "drafts", "(LPlanMemo$Memo;LPlanMemo$Expression;LPlanMemo$Expression;LPlanMemo$Draft;LPlanMemo$Draft;)V"⟩, ⟨"PlanMemo$Rule", "merges", "()Z"⟩, ⟨"PlanMemo$Taker", "hasEnough", "()Z"⟩, ⟨"PlanMemo$Taker", "takes", "(IIIII)V"⟩, ⟨"PlanMemo$Way", "reads", "(JJJLPlanMemo$Trace;)J"⟩]
def wd_Nc (C T : String) (U : State) : Prop := va_Nc C T U ∧ modulesRight_1 U = true
theorem wd_Nc.moved {C T : String} {u U : State} (hvm : u.vm.Alike U.vm) (h : wd_Nc C T u) : wd_Nc C T U := by
  refine ⟨h.1.moved hvm, ?_⟩
  have e : U.vm.modules = u.vm.modules := by rw [hvm.1]
  unfold modulesRight_1
  rw [e]
  exact h.2
def wd_K (d : wD) (U : State) (H : Heap) : Prop :=
  (va_K d.1 vwCl (wd_tys d.2.1) U ∧ (∀ q ∈ wd_casts, va_Nw (.castable q.1 q.2) U) ∧ (∀ C ∈ wd_aos, va_AO C U) ∧ (∀ q ∈ wd_faces, va_Fw q.1 q.2.1 q.2.2 U)) ∧
  ((∀ q ∈ wd_idefs ++ wd_vdefs, va_Nw (.landsInDefault q.1 q.2.1 q.2.2) U) ∧ (∀ q ∈ wd_idefs, va_Nw (.interfaceMethod q.2.1.cls q.2.1.cls q.2.1.name q.2.1.desc) U ∧ va_Nw (.publicMethod q.2.2) U) ∧ (∀ x ∈ wd_decl, va_Nw (.declares x) U) ∧ (∀ w ∈ wd_nlk, va_Nw w U)) ∧
  (∀ q ∈ wd_ncs, wd_Nc q.1 q.2 U) ∧ (∀ q ∈ wd_lits, vk_R q.1 q.2.1 q.2.2.1 (d.2.2.1 q.2.2.2) U) ∧
  vk_S 15 wd_len wd_byt d.2.2.1 d.2.2.2.1 (wd_A d) U H ∧ (∀ i, i < 15 → va_OF "java/lang/String" "hash" "I" (.int (wd_hsh.getD i 0)) (d.2.2.1 i) (wd_A d) U H) ∧
  (va_Z "java/lang/String" "COMPACT_STRINGS" "Z" (.int 1) (wd_A d) U H ∧ va_Zq "jdk/internal/util/Preconditions" "SIOOBE_FORMATTER" "Ljava/util/function/BiFunction;" (wd_A d) U H) ∧ vx_Zq Bundle.tN "UNASSIGNED_STACK" Bundle.steD (wd_A d) U H ∧ vx_Zq Bundle.tN "SUPPRESSED_SENTINEL" Bundle.listD (wd_A d) U H
theorem wd_Kdef {x : MethodName} (hx : x.cls ≠ "java/lang/invoke/MethodHandle" ∧ x.cls ≠ "java/lang/invoke/VarHandle") {C : String} {y : MethodName} {s U : State} (hW : s.WarmedH U.vm) (h : va_Nw (.landsInDefault C x y) s) : va_Nw (.landsInDefault C x y) U := by
  have h1 : (Cond.landsInDefault C x y).before #[] (s.setVm U.vm) = true := (Cond.landsInDefault_setVm (args := #[]) (args' := #[]) hW.alike (State.methodFound?_setVm hW.alike _ _ _)).trans h
  exact h1
theorem wd_Kface {x : MethodName} (hx : x.cls ≠ "java/lang/invoke/MethodHandle" ∧ x.cls ≠ "java/lang/invoke/VarHandle") {s U : State} (hW : s.WarmedH U.vm) (h : va_Nw (.interfaceMethod x.cls x.cls x.name x.desc) s) : va_Nw (.interfaceMethod x.cls x.cls x.name x.desc) U := by
  obtain ⟨_, _, r, _, _, _, _, hn⟩ := Cond.interfaceMethod_spec h
  exact va_tabs rfl (rfl : (s.setVm U.vm).vm = U.vm) (by rw [Cond.interfaceMethod_setVm hW.alike (r := r) hn hx]; exact h)
theorem wd_Kpub {x : MethodName} {s U : State} (hW : s.WarmedH U.vm) (h : va_Nw (.publicMethod x) s) : va_Nw (.publicMethod x) U :=
  va_tabs rfl (rfl : (s.setVm U.vm).vm = U.vm) (by rw [Cond.publicMethod_setVm hW.alike]; exact h)
theorem wd_nlk_ok : ∀ w ∈ wd_nlk, (w.onTables && w.keeps) = true := by decide +kernel
theorem wd_faces_ok : ∀ q ∈ wd_faces, q.2.1.cls ≠ "java/lang/invoke/MethodHandle" ∧ q.2.1.cls ≠ "java/lang/invoke/VarHandle" := by decide +kernel
theorem wd_defs_ok : ∀ q ∈ wd_idefs ++ wd_vdefs, q.2.1.cls ≠ "java/lang/invoke/MethodHandle" ∧ q.2.1.cls ≠ "java/lang/invoke/VarHandle" := by decide +kernel
theorem wd_K.go {d : wD} {s U : State} {H0 H : Heap} (h : wd_K d s H0) (hW : s.WarmedH U.vm) (hk : ∀ q : Nat, q < H0.size → ¬ wd_A d q → H[q]? = H0[q]?) : wd_K d U H := by
  obtain ⟨⟨h1, h2, h3, h4⟩, ⟨h5, h6, h7, h8⟩, h9, h10, h11, h12, h13, h14, h15⟩ := h
  refine ⟨⟨h1.moved hW.alike, fun q hq => (h2 q hq).warmC hW, fun C hC => (h3 C hC).moved hW.alike, fun q hq => (h4 q hq).moved (wd_faces_ok q hq) hW.alike⟩,
    ⟨fun q hq => wd_Kdef (wd_defs_ok q hq) hW (h5 q hq), fun q hq => ⟨wd_Kface (wd_defs_ok q (List.mem_append_left _ hq)) hW (h6 q hq).1, wd_Kpub hW (h6 q hq).2⟩, fun x hx => (h7 x hx).warmD hW, fun w hw => word_at hW (Or.inl (wd_nlk_ok w hw)) (h8 w hw)⟩,
    fun q hq => (h9 q hq).moved hW.alike, fun q hq => (h10 q hq).warm hW, (h11.moved hW.alike).kept hk, fun i hi => ((h12 i hi).moved hW.alike).kept hk, ⟨(h13.1.moved hW.alike).kept hk, (h13.2.moved hW.alike).kept hk⟩, (h14.moved hW.alike).kept hk, (h15.moved hW.alike).kept hk⟩
/-! ===== a method's contract over the world ===== -/
/-- what is there stays what it is: an object of its class, a field's array at its place -/
def Ext (σ τ : wS) : Prop := (∀ x, oC σ x ≠ 0 → oC τ x = oC σ x) ∧ ∀ g x n, oC σ x ≠ 0 → g % 10000 ≠ 0 → aN σ g x = some n → aN τ g x = some n ∧ aD τ g x = aD σ g x
theorem Ext.refl (σ : wS) : Ext σ σ := ⟨fun _ _ => rfl, fun _ _ _ _ _ h => ⟨h, rfl⟩⟩
theorem Ext.trans {σ τ υ : wS} (h : Ext σ τ) (k : Ext τ υ) : Ext σ υ := by
  refine ⟨fun x hx => ?_, fun g x n hx hg hn => ?_⟩
  · have e := h.1 x hx
    exact (k.1 x (by rw [e]; exact hx)).trans e
  · obtain ⟨e1, e2⟩ := h.2 g x n hx hg hn
    obtain ⟨e3, e4⟩ := k.2 g x n (by rw [h.1 x hx]; exact hx) hg e1
    exact ⟨e3, e4.trans e2⟩
theorem Ext.C {σ τ : wS} (h : Ext σ τ) {x c : Nat} (hx : oC σ x = c + 1) : oC τ x = c + 1 := (h.1 x (by omega)).trans hx
theorem Ext.mkO {σ : wS} {c N : Nat} (h0 : oC σ (nx σ) = 0) : Ext σ (mkO σ c N) := by
  refine ⟨fun x hx => ?_, fun g x n hx hg hn => ?_⟩
  · show (if x = nx σ then c + 1 else oC σ x) = _
    rw [if_neg (fun e => hx (by rw [e]; exact h0))]
  · have hq : x ≠ nx σ := fun e => hx (by rw [e]; exact h0)
    exact ⟨by show (if x = nx σ then none else aN σ g x) = _; rw [if_neg hq]; exact hn, rfl⟩
theorem Ext.mkA {σ : wS} {f n : Nat} (hf : f % 10000 = 0) : Ext σ (mkA σ f n) := by
  refine ⟨fun x hx => rfl, fun g x m hx hg hn => ?_⟩
  have hgf : g ≠ f := fun e => hg (by rw [e]; exact hf)
  exact ⟨by show u2 _ _ _ _ _ _ = _; rw [u2_g hgf]; exact hn, u2_g hgf⟩
theorem Ext.mvA {σ : wS} {g a f q : Nat} (hf : f % 10000 = 0) (h : aN σ g a = none) : Ext σ (mvA σ g a f q) := by
  refine ⟨fun x hx => rfl, fun g' x m hx hg hn => ?_⟩
  have hgf : g' ≠ f := fun e => hg (by rw [e]; exact hf)
  have hne : ¬ (g' = g ∧ x = a) := by
    rintro ⟨rfl, rfl⟩
    rw [h] at hn
    cases hn
  constructor
  · show u2 (u2 (aN σ) f q none) g a (aN σ f q) g' x = _
    unfold u2
    by_cases e1 : g' = g
    · rw [if_pos e1, if_neg (fun e => hne ⟨e1, e⟩), if_neg hgf]; exact hn
    · rw [if_neg e1, if_neg hgf]; exact hn
  · show u2 (aD σ) g a (aD σ f q) g' x = _
    unfold u2
    by_cases e1 : g' = g
    · rw [if_pos e1, if_neg (fun e => hne ⟨e1, e⟩)]
    · rw [if_neg e1]
def rmD (D mc ms : Nat) : Room := { frames := D + 16, cells := mc, slots := ms, locals := 16000 + 64 * D }
abbrev jK : Type := Option Value → wS → Prop
abbrev jKx : Type := String → Nat → wS → Prop
def wd_Q (d : wD) (σ0 : wS) (K : jK) : Array Value → State → Outcome → State → Prop := fun _ st oc t => (∃ (v : Option Value) (σ' : wS), oc = .returned v ∧ Ext σ0 σ' ∧ K v σ' ∧ wd_H d σ' t.heap) ∧ va_F (wd_A d) st t
def wd_X (d : wD) (σ0 : wS) (Kx : jKx) : String → Addr → State → State → Prop := fun E q st t => (∃ σ' : wS, Ext σ0 σ' ∧ Kx E q σ' ∧ wd_H d σ' t.heap) ∧ va_F (wd_A d) st t
def wd_P (d : wD) (σ : wS) : State → Prop := fun U => dB d ≤ U.heap.size ∧ wd_K d U U.heap ∧ wd_H d σ U.heap
def WP (l : Launch) (d : wD) (ws : List Cond) (D : Nat) (y : MethodName) (σ : wS) (as : List Value) (K : jK) (Kx : jKx) : Prop :=
  l.stackTraces = false → vx_Met l y ws (rmD D (rC σ) (rS σ)) (va_Pc as (wd_P d σ)) (wd_Q d σ K) (wd_X d σ Kx) (rC σ) (rS σ) (wd_A d)
theorem wd_blind {d : wD} {σ : wS} {as : List Value} : FrameBlind (va_Pc as (wd_P d σ)) := fun a U g mk h => ⟨h.1, h.2.1, (show wd_K d (U.calling g mk a) U.heap from h.2.2.1.go (State.WarmedH.refl U) (fun _ _ _ => rfl)), h.2.2.2⟩
/-- the method, its code, its locals, its answer's type, its handlers -/
abbrev jM : Type := MethodName × ByteArray × Nat × Option FieldType × List (Nat × Nat × Nat × Nat)
abbrev jX : Type := Program × Env × State × MethodId × Array Value × List Frame × Method × Code × wS
abbrev xE (X : jX) : wS := X.2.2.2.2.2.2.2.2
abbrev xa (X : jX) (σ : wS) : Nat := rC (xE X) - rC σ
abbrev xb (X : jX) (σ : wS) : Nat := rS (xE X) - rS σ
abbrev xR (X : jX) (D : Nat) : Room := rmD D (rC (xE X)) (rS (xE X))
def jG (l : Launch) (d : wD) (X : jX) (M : jM) : Prop :=
  (X.1.tables.exec = Jvm.exec ∧ X.2.2.2.2.2.2.2.1.code = M.2.1 ∧ X.2.2.2.2.2.2.2.1.maxLocals = M.2.2.1 ∧ X.2.2.1.vm.findClass M.1.cls = some X.2.2.2.1.cls ∧ (∀ w ∈ lw_all, w.before X.2.2.2.2.1 X.2.2.1 = true)) ∧
  X.2.2.2.2.2.2.1.sig.returnType = M.2.2.2.1 ∧ X.2.2.2.2.2.2.1.locks = false ∧ l.stackTraces = false ∧ X.2.2.2.2.2.2.2.1.exceptionTable.toList = tableOf M.2.2.2.2 ∧ X.2.2.2.2.2.2.1.name = M.1.name ∧ dB d ≤ X.2.2.1.heap.size ∧ wd_N d (xE X) X.2.2.1.heap ∧ wd_K d X.2.2.1 X.2.2.1.heap
def J (l : Launch) (d : wD) (X : jX) (D : Nat) (K : jK) (Kx : jKx) (M : jM) (pc : Nat) (σ : wS) (L : List (Nat × Value)) (st : List Value) : Prop :=
  jG l d X M → rC σ ≤ rC (xE X) → rS σ ≤ rS (xE X) → Ext (xE X) σ → ∀ (H : Heap) (locs : List Loc) (ls : Array Slot), wd_H d σ H → va_S (wd_A d) X.2.2.1.heap H locs → lv_has ls M.2.2.1 L →
    W X.1 l X.2.1 (xR X D) X.2.2.1 X.2.2.2.1 X.2.2.2.2.1 X.2.2.2.2.2.1 X.2.2.2.2.2.2.1 X.2.2.2.2.2.2.2.1 H locs (xa X σ) (xb X σ) (vx_MQ X.2.2.2.2.2.1 (wd_Q d (xE X) K) (wd_X d (xE X) Kx) X.2.2.2.2.1 X.2.2.1 (rC (xE X)) (rS (xE X)) (wd_A d)) (F0 X.2.2.2.1 pc ls st)
/-- thrown: q of class E lies over the frame -/
def JX (l : Launch) (d : wD) (X : jX) (D : Nat) (K : jK) (Kx : jKx) (M : jM) (pc : Nat) (σ : wS) (L : List (Nat × Value)) (E : String) (q : Nat) : Prop :=
  jG l d X M → rC σ ≤ rC (xE X) → rS σ ≤ rS (xE X) → Ext (xE X) σ → ∀ (H : Heap) (locs : List Loc) (ls : Array Slot) (ce : Cell) (st : List Value), wd_H d σ H → va_S (wd_A d) X.2.2.1.heap H locs → lv_has ls M.2.2.1 L → H[q]? = some ce → ce.vm = .none → X.2.2.1.vm.findClass E = some ce.cls →
    vx_W X.1 l X.2.1 (xR X D) X.2.2.1 X.2.2.2.1 X.2.2.2.2.1 X.2.2.2.2.2.1 X.2.2.2.2.2.2.1 X.2.2.2.2.2.2.2.1 H locs (xa X σ) (xb X σ) (vx_MQ X.2.2.2.2.2.1 (wd_Q d (xE X) K) (wd_X d (xE X) Kx) X.2.2.2.2.1 X.2.2.1 (rC (xE X)) (rS (xE X)) (wd_A d)) (F0 X.2.2.2.1 pc ls st) q
def wd_d : Nat → Value
  | 0 => .int 0
  | 1 => .long 0
  | _ => .null
theorem wd_nofloat {f : Nat} (hf : f % 10000 = 0) (c j : Nat) : (wd_gk c j).1 ≠ f := by
  have hall : ∀ r ∈ wd_tab, ∀ x ∈ r, x.1 % 10000 ≠ 0 := by decide +kernel
  intro e
  have : (wd_gk c j).1 % 10000 ≠ 0 := by
    unfold wd_gk
    rw [List.getD_eq_getElem?_getD, List.getD_eq_getElem?_getD]
    cases h1 : wd_tab[c]? with
    | none => simp
    | some r =>
      simp only [Option.getD_some]
      cases h2 : r[j]? with
      | none => simp
      | some x => exact hall r (List.mem_of_getElem? h1) x (List.mem_of_getElem? h2)
  exact this (by rw [e]; exact hf)
/-- a class's facts, a field's facts -/
def cd (c : Nat) (C : String) (T : u_T) (N : Nat) (ty : Nat → FieldType) : Prop := vwCl[c]? = some (C, T, N) ∧ (∀ w ∈ u_ws C T N, w ∈ lw_all) ∧ (∀ k, k < N → parseFieldDescriptor (T k).2.2.1 = some (ty k)) ∧ (∀ a, a < N → ∀ b, b < N → a ≠ b → (T a).2.1 ≠ (T b).2.1) ∧
  (∀ a, a < N → ∀ b, b < N → (wd_gk c a).1 = (wd_gk c b).1 → a = b) ∧ ∀ k, k < N → defaultValue (ty k) = wd_d (wd_gk c k).2
/-- the kind that a field's type has -/
def wd_kt : FieldType → Nat
  | .long => 1
  | .float => 8
  | .double => 8
  | .object _ => 2
  | .array _ => 3
  | _ => 0
theorem wd_dflt {c N : Nat} {ty : Nat → FieldType} (h : ∀ k, k < N → (wd_kt (ty k) = (wd_gk c k).2 ∨ (wd_kt (ty k) = 3 ∧ (wd_gk c k).2 = 2)) ∧ wd_kt (ty k) ≠ 8) : ∀ k, k < N → defaultValue (ty k) = wd_d (wd_gk c k).2 := by
  intro k hk
  obtain ⟨h1, h2⟩ := h k hk
  cases hty : ty k <;> rw [hty] at h1 h2 <;> simp only [wd_kt] at h1 h2 <;> first | exact absurd rfl h2 | (rcases h1 with h1 | ⟨h1, h3⟩ <;> first | (rw [← h1]; rfl) | (rw [h3]; rfl) | omega)
def fd (c k g kd : Nat) (O n t : String) (fin : Bool) (ft : FieldType) : Prop := ∃ (C : String) (T : u_T) (N : Nat) (ty : Nat → FieldType), cd c C T N ty ∧ k < N ∧ T k = (O, n, t, fin) ∧ wd_gk c k = (g, kd) ∧ ty k = ft

theorem cd0 : cd 0 RX0 TX0 11 tyX0 := ⟨rfl, in_X0, tyX0_ok, nmX0, by decide +kernel, wd_dflt (by decide +kernel)⟩
theorem fX0_0 : fd 0 0 60100 3 "PlanMemo" "shelves" "[LPlanMemo$Shelf;" true (tyX0 0) := ⟨RX0, TX0, 11, tyX0, cd0, Nat.le_of_ble_eq_true rfl, rfl, rfl, rfl⟩
theorem fX0_1 : fd 0 1 101 3 "PlanMemo" "refusals" "[I" true (tyX0 1) := ⟨RX0, TX0, 11, tyX0, cd0, Nat.le_of_ble_eq_true rfl, rfl, rfl, rfl⟩
theorem fX0_2 : fd 0 2 102 2 "PlanMemo" "ran" "LPlanMemo$Trace;" true (tyX0 2) := ⟨RX0, TX0, 11, tyX0, cd0, Nat.le_of_ble_eq_true rfl, rfl, rfl, rfl⟩
theorem fX0_3 : fd 0 3 103 2 "PlanMemo" "firing" "LPlanMemo$Firing;" true (tyX0 3) := ⟨RX0, TX0, 11, tyX0, cd0, Nat.le_of_ble_eq_true rfl, rfl, rfl, rfl⟩
theorem fX0_4 : fd 0 4 104 2 "PlanMemo" "search" "LPlanMemo$Search;" true (tyX0 4) := ⟨RX0, TX0, 11, tyX0, cd0, Nat.le_of_ble_eq_true rfl, rfl, rfl, rfl⟩
theorem fX0_5 : fd 0 5 105 3 "PlanMemo" "fewer" "[I" true (tyX0 5) := ⟨RX0, TX0, 11, tyX0, cd0, Nat.le_of_ble_eq_true rfl, rfl, rfl, rfl⟩
theorem fX0_6 : fd 0 6 106 3 "PlanMemo" "more" "[I" true (tyX0 6) := ⟨RX0, TX0, 11, tyX0, cd0, Nat.le_of_ble_eq_true rfl, rfl, rfl, rfl⟩
theorem fX0_7 : fd 0 7 107 2 "PlanMemo" "m" "LPlanMemo$Memo;" false (tyX0 7) := ⟨RX0, TX0, 11, tyX0, cd0, Nat.le_of_ble_eq_true rfl, rfl, rfl, rfl⟩
theorem fX0_8 : fd 0 8 108 2 "PlanMemo" "imaged" "LPlanMemo$Memo;" false (tyX0 8) := ⟨RX0, TX0, 11, tyX0, cd0, Nat.le_of_ble_eq_true rfl, rfl, rfl, rfl⟩
theorem fX0_9 : fd 0 9 109 2 "PlanMemo" "planned" "LPlanMemo$Plan;" false (tyX0 9) := ⟨RX0, TX0, 11, tyX0, cd0, Nat.le_of_ble_eq_true rfl, rfl, rfl, rfl⟩
theorem fX0_10 : fd 0 10 110 0 "PlanMemo" "latestFault" "I" false (tyX0 10) := ⟨RX0, TX0, 11, tyX0, cd0, Nat.le_of_ble_eq_true rfl, rfl, rfl, rfl⟩
theorem cd1 : cd 1 RX1 TX1 2 tyX1 := ⟨rfl, in_X1, tyX1_ok, nmX1, by decide +kernel, wd_dflt (by decide +kernel)⟩
theorem fX1_0 : fd 1 0 200 3 "PlanMemo$Trace" "bodies" "[I" true (tyX1 0) := ⟨RX1, TX1, 2, tyX1, cd1, Nat.le_of_ble_eq_true rfl, rfl, rfl, rfl⟩
theorem fX1_1 : fd 1 1 201 0 "PlanMemo$Trace" "many" "I" false (tyX1 1) := ⟨RX1, TX1, 2, tyX1, cd1, Nat.le_of_ble_eq_true rfl, rfl, rfl, rfl⟩
theorem cd2 : cd 2 RX2 TX2 7 tyX2 := ⟨rfl, in_X2, tyX2_ok, nmX2, by decide +kernel, wd_dflt (by decide +kernel)⟩
theorem fX2_0 : fd 2 0 70300 3 "PlanMemo$Firing" "rules" "[LPlanMemo$Rule;" true (tyX2 0) := ⟨RX2, TX2, 7, tyX2, cd2, Nat.le_of_ble_eq_true rfl, rfl, rfl, rfl⟩
theorem fX2_1 : fd 2 1 301 2 "PlanMemo$Firing" "inner" "LPlanMemo$Draft;" true (tyX2 1) := ⟨RX2, TX2, 7, tyX2, cd2, Nat.le_of_ble_eq_true rfl, rfl, rfl, rfl⟩
theorem fX2_2 : fd 2 2 302 2 "PlanMemo$Firing" "outer" "LPlanMemo$Draft;" true (tyX2 2) := ⟨RX2, TX2, 7, tyX2, cd2, Nat.le_of_ble_eq_true rfl, rfl, rfl, rfl⟩
theorem fX2_3 : fd 2 3 303 2 "PlanMemo$Firing" "m" "LPlanMemo$Memo;" false (tyX2 3) := ⟨RX2, TX2, 7, tyX2, cd2, Nat.le_of_ble_eq_true rfl, rfl, rfl, rfl⟩
theorem fX2_4 : fd 2 4 304 0 "PlanMemo$Firing" "e" "I" false (tyX2 4) := ⟨RX2, TX2, 7, tyX2, cd2, Nat.le_of_ble_eq_true rfl, rfl, rfl, rfl⟩
theorem fX2_5 : fd 2 5 305 0 "PlanMemo$Firing" "rule" "I" false (tyX2 5) := ⟨RX2, TX2, 7, tyX2, cd2, Nat.le_of_ble_eq_true rfl, rfl, rfl, rfl⟩
theorem fX2_6 : fd 2 6 306 0 "PlanMemo$Firing" "f" "I" false (tyX2 6) := ⟨RX2, TX2, 7, tyX2, cd2, Nat.le_of_ble_eq_true rfl, rfl, rfl, rfl⟩
theorem cd3 : cd 3 RX3 TX3 4 tyX3 := ⟨rfl, in_X3, tyX3_ok, nmX3, by decide +kernel, wd_dflt (by decide +kernel)⟩
theorem fX3_0 : fd 3 0 400 0 "PlanMemo$Draft" "kind" "I" false (tyX3 0) := ⟨RX3, TX3, 4, tyX3, cd3, Nat.le_of_ble_eq_true rfl, rfl, rfl, rfl⟩
theorem fX3_1 : fd 3 1 401 0 "PlanMemo$Draft" "by" "I" false (tyX3 1) := ⟨RX3, TX3, 4, tyX3, cd3, Nat.le_of_ble_eq_true rfl, rfl, rfl, rfl⟩
theorem fX3_2 : fd 3 2 402 0 "PlanMemo$Draft" "left" "I" false (tyX3 2) := ⟨RX3, TX3, 4, tyX3, cd3, Nat.le_of_ble_eq_true rfl, rfl, rfl, rfl⟩
theorem fX3_3 : fd 3 3 403 0 "PlanMemo$Draft" "right" "I" false (tyX3 3) := ⟨RX3, TX3, 4, tyX3, cd3, Nat.le_of_ble_eq_true rfl, rfl, rfl, rfl⟩
theorem cd4 : cd 4 RX4 wd_T0 0 (fun _ => .int) := ⟨rfl, fun w h => (by cases h), fun k h => absurd h (Nat.not_lt_zero _), fun a h => absurd h (Nat.not_lt_zero _), fun a h => absurd h (Nat.not_lt_zero _), fun a h => absurd h (Nat.not_lt_zero _)⟩
theorem cd5 : cd 5 RX5 wd_T0 0 (fun _ => .int) := ⟨rfl, fun w h => (by cases h), fun k h => absurd h (Nat.not_lt_zero _), fun a h => absurd h (Nat.not_lt_zero _), fun a h => absurd h (Nat.not_lt_zero _), fun a h => absurd h (Nat.not_lt_zero _)⟩
theorem cd6 : cd 6 RX6 wd_T0 0 (fun _ => .int) := ⟨rfl, fun w h => (by cases h), fun k h => absurd h (Nat.not_lt_zero _), fun a h => absurd h (Nat.not_lt_zero _), fun a h => absurd h (Nat.not_lt_zero _), fun a h => absurd h (Nat.not_lt_zero _)⟩
theorem cd7 : cd 7 RX7 wd_T0 0 (fun _ => .int) := ⟨rfl, fun w h => (by cases h), fun k h => absurd h (Nat.not_lt_zero _), fun a h => absurd h (Nat.not_lt_zero _), fun a h => absurd h (Nat.not_lt_zero _), fun a h => absurd h (Nat.not_lt_zero _)⟩
theorem cd8 : cd 8 RX8 wd_T0 0 (fun _ => .int) := ⟨rfl, fun w h => (by cases h), fun k h => absurd h (Nat.not_lt_zero _), fun a h => absurd h (Nat.not_lt_zero _), fun a h => absurd h (Nat.not_lt_zero _), fun a h => absurd h (Nat.not_lt_zero _)⟩
theorem cd9 : cd 9 RX9 wd_T0 0 (fun _ => .int) := ⟨rfl, fun w h => (by cases h), fun k h => absurd h (Nat.not_lt_zero _), fun a h => absurd h (Nat.not_lt_zero _), fun a h => absurd h (Nat.not_lt_zero _), fun a h => absurd h (Nat.not_lt_zero _)⟩
theorem cd10 : cd 10 RX10 wd_T0 0 (fun _ => .int) := ⟨rfl, fun w h => (by cases h), fun k h => absurd h (Nat.not_lt_zero _), fun a h => absurd h (Nat.not_lt_zero _), fun a h => absurd h (Nat.not_lt_zero _), fun a h => absurd h (Nat.not_lt_zero _)⟩
theorem cd11 : cd 11 RX11 TX11 18 tyX11 := ⟨rfl, in_X11, tyX11_ok, nmX11, by decide +kernel, wd_dflt (by decide +kernel)⟩
theorem fX11_0 : fd 11 0 1200 2 "PlanMemo$Search" "ways" "LPlanMemo$Ways;" true (tyX11 0) := ⟨RX11, TX11, 18, tyX11, cd11, Nat.le_of_ble_eq_true rfl, rfl, rfl, rfl⟩
theorem fX11_1 : fd 11 1 11201 3 "PlanMemo$Search" "costs" "[J" true (tyX11 1) := ⟨RX11, TX11, 18, tyX11, cd11, Nat.le_of_ble_eq_true rfl, rfl, rfl, rfl⟩
theorem fX11_2 : fd 11 2 21202 3 "PlanMemo$Search" "known" "[Z" true (tyX11 2) := ⟨RX11, TX11, 18, tyX11, cd11, Nat.le_of_ble_eq_true rfl, rfl, rfl, rfl⟩
theorem fX11_3 : fd 11 3 21203 3 "PlanMemo$Search" "settled" "[Z" true (tyX11 3) := ⟨RX11, TX11, 18, tyX11, cd11, Nat.le_of_ble_eq_true rfl, rfl, rfl, rfl⟩
theorem fX11_4 : fd 11 4 1204 3 "PlanMemo$Search" "line" "[I" true (tyX11 4) := ⟨RX11, TX11, 18, tyX11, cd11, Nat.le_of_ble_eq_true rfl, rfl, rfl, rfl⟩
theorem fX11_5 : fd 11 5 1205 3 "PlanMemo$Search" "uses" "[I" true (tyX11 5) := ⟨RX11, TX11, 18, tyX11, cd11, Nat.le_of_ble_eq_true rfl, rfl, rfl, rfl⟩
theorem fX11_6 : fd 11 6 1206 3 "PlanMemo$Search" "heap" "[I" true (tyX11 6) := ⟨RX11, TX11, 18, tyX11, cd11, Nat.le_of_ble_eq_true rfl, rfl, rfl, rfl⟩
theorem fX11_7 : fd 11 7 1207 3 "PlanMemo$Search" "spots" "[I" true (tyX11 7) := ⟨RX11, TX11, 18, tyX11, cd11, Nat.le_of_ble_eq_true rfl, rfl, rfl, rfl⟩
theorem fX11_8 : fd 11 8 1208 3 "PlanMemo$Search" "heads" "[I" true (tyX11 8) := ⟨RX11, TX11, 18, tyX11, cd11, Nat.le_of_ble_eq_true rfl, rfl, rfl, rfl⟩
theorem fX11_9 : fd 11 9 1209 3 "PlanMemo$Search" "firsts" "[I" true (tyX11 9) := ⟨RX11, TX11, 18, tyX11, cd11, Nat.le_of_ble_eq_true rfl, rfl, rfl, rfl⟩
theorem fX11_10 : fd 11 10 1210 3 "PlanMemo$Search" "seconds" "[I" true (tyX11 10) := ⟨RX11, TX11, 18, tyX11, cd11, Nat.le_of_ble_eq_true rfl, rfl, rfl, rfl⟩
theorem fX11_11 : fd 11 11 1211 3 "PlanMemo$Search" "nexts" "[I" true (tyX11 11) := ⟨RX11, TX11, 18, tyX11, cd11, Nat.le_of_ble_eq_true rfl, rfl, rfl, rfl⟩
theorem fX11_12 : fd 11 12 31212 3 "PlanMemo$Search" "waits" "[B" true (tyX11 12) := ⟨RX11, TX11, 18, tyX11, cd11, Nat.le_of_ble_eq_true rfl, rfl, rfl, rfl⟩
theorem fX11_13 : fd 11 13 11213 3 "PlanMemo$Search" "prices" "[J" true (tyX11 13) := ⟨RX11, TX11, 18, tyX11, cd11, Nat.le_of_ble_eq_true rfl, rfl, rfl, rfl⟩
theorem fX11_14 : fd 11 14 1214 0 "PlanMemo$Search" "many" "I" false (tyX11 14) := ⟨RX11, TX11, 18, tyX11, cd11, Nat.le_of_ble_eq_true rfl, rfl, rfl, rfl⟩
theorem fX11_15 : fd 11 15 1215 0 "PlanMemo$Search" "edges" "I" false (tyX11 15) := ⟨RX11, TX11, 18, tyX11, cd11, Nat.le_of_ble_eq_true rfl, rfl, rfl, rfl⟩
theorem fX11_16 : fd 11 16 1216 0 "PlanMemo$Search" "heaped" "I" false (tyX11 16) := ⟨RX11, TX11, 18, tyX11, cd11, Nat.le_of_ble_eq_true rfl, rfl, rfl, rfl⟩
theorem fX11_17 : fd 11 17 1217 0 "PlanMemo$Search" "from" "I" false (tyX11 17) := ⟨RX11, TX11, 18, tyX11, cd11, Nat.le_of_ble_eq_true rfl, rfl, rfl, rfl⟩
theorem cd12 : cd 12 RX12 TX12 6 tyX12 := ⟨rfl, in_X12, tyX12_ok, nmX12, by decide +kernel, wd_dflt (by decide +kernel)⟩
theorem fX12_0 : fd 12 0 81300 3 "PlanMemo$Ways" "ways" "[LPlanMemo$Way;" true (tyX12 0) := ⟨RX12, TX12, 6, tyX12, cd12, Nat.le_of_ble_eq_true rfl, rfl, rfl, rfl⟩
theorem fX12_1 : fd 12 1 1301 2 "PlanMemo$Ways" "quiet" "LPlanMemo$Trace;" true (tyX12 1) := ⟨RX12, TX12, 6, tyX12, cd12, Nat.le_of_ble_eq_true rfl, rfl, rfl, rfl⟩
theorem fX12_2 : fd 12 2 1302 2 "PlanMemo$Ways" "m" "LPlanMemo$Memo;" false (tyX12 2) := ⟨RX12, TX12, 6, tyX12, cd12, Nat.le_of_ble_eq_true rfl, rfl, rfl, rfl⟩
theorem fX12_3 : fd 12 3 1303 0 "PlanMemo$Ways" "allowed" "I" false (tyX12 3) := ⟨RX12, TX12, 6, tyX12, cd12, Nat.le_of_ble_eq_true rfl, rfl, rfl, rfl⟩
theorem fX12_4 : fd 12 4 1304 0 "PlanMemo$Ways" "state" "I" false (tyX12 4) := ⟨RX12, TX12, 6, tyX12, cd12, Nat.le_of_ble_eq_true rfl, rfl, rfl, rfl⟩
theorem fX12_5 : fd 12 5 1305 2 "PlanMemo$Ways" "taker" "LPlanMemo$Taker;" false (tyX12 5) := ⟨RX12, TX12, 6, tyX12, cd12, Nat.le_of_ble_eq_true rfl, rfl, rfl, rfl⟩
theorem cd13 : cd 13 RX13 wd_T0 0 (fun _ => .int) := ⟨rfl, fun w h => (by cases h), fun k h => absurd h (Nat.not_lt_zero _), fun a h => absurd h (Nat.not_lt_zero _), fun a h => absurd h (Nat.not_lt_zero _), fun a h => absurd h (Nat.not_lt_zero _)⟩
theorem cd14 : cd 14 RX14 wd_T0 0 (fun _ => .int) := ⟨rfl, fun w h => (by cases h), fun k h => absurd h (Nat.not_lt_zero _), fun a h => absurd h (Nat.not_lt_zero _), fun a h => absurd h (Nat.not_lt_zero _), fun a h => absurd h (Nat.not_lt_zero _)⟩
theorem cd15 : cd 15 RX15 wd_T0 0 (fun _ => .int) := ⟨rfl, fun w h => (by cases h), fun k h => absurd h (Nat.not_lt_zero _), fun a h => absurd h (Nat.not_lt_zero _), fun a h => absurd h (Nat.not_lt_zero _), fun a h => absurd h (Nat.not_lt_zero _)⟩
theorem cd16 : cd 16 RX16 wd_T0 0 (fun _ => .int) := ⟨rfl, fun w h => (by cases h), fun k h => absurd h (Nat.not_lt_zero _), fun a h => absurd h (Nat.not_lt_zero _), fun a h => absurd h (Nat.not_lt_zero _), fun a h => absurd h (Nat.not_lt_zero _)⟩
theorem cd17 : cd 17 RX17 wd_T0 0 (fun _ => .int) := ⟨rfl, fun w h => (by cases h), fun k h => absurd h (Nat.not_lt_zero _), fun a h => absurd h (Nat.not_lt_zero _), fun a h => absurd h (Nat.not_lt_zero _), fun a h => absurd h (Nat.not_lt_zero _)⟩
theorem cd18 : cd 18 RX18 wd_T0 0 (fun _ => .int) := ⟨rfl, fun w h => (by cases h), fun k h => absurd h (Nat.not_lt_zero _), fun a h => absurd h (Nat.not_lt_zero _), fun a h => absurd h (Nat.not_lt_zero _), fun a h => absurd h (Nat.not_lt_zero _)⟩
theorem cd19 : cd 19 RX19 wd_T0 0 (fun _ => .int) := ⟨rfl, fun w h => (by cases h), fun k h => absurd h (Nat.not_lt_zero _), fun a h => absurd h (Nat.not_lt_zero _), fun a h => absurd h (Nat.not_lt_zero _), fun a h => absurd h (Nat.not_lt_zero _)⟩
theorem cd20 : cd 20 RX20 wd_T0 0 (fun _ => .int) := ⟨rfl, fun w h => (by cases h), fun k h => absurd h (Nat.not_lt_zero _), fun a h => absurd h (Nat.not_lt_zero _), fun a h => absurd h (Nat.not_lt_zero _), fun a h => absurd h (Nat.not_lt_zero _)⟩
theorem cd21 : cd 21 RX21 wd_T0 0 (fun _ => .int) := ⟨rfl, fun w h => (by cases h), fun k h => absurd h (Nat.not_lt_zero _), fun a h => absurd h (Nat.not_lt_zero _), fun a h => absurd h (Nat.not_lt_zero _), fun a h => absurd h (Nat.not_lt_zero _)⟩
theorem cd22 : cd 22 RX22 TX22 19 tyX22 := ⟨rfl, in_X22, tyX22_ok, nmX22, by decide +kernel, wd_dflt (by decide +kernel)⟩
theorem fX22_0 : fd 22 0 2300 0 "PlanMemo$Memo" "tablesMany" "I" false (tyX22 0) := ⟨RX22, TX22, 19, tyX22, cd22, Nat.le_of_ble_eq_true rfl, rfl, rfl, rfl⟩
theorem fX22_1 : fd 22 1 2301 0 "PlanMemo$Memo" "many" "I" false (tyX22 1) := ⟨RX22, TX22, 19, tyX22, cd22, Nat.le_of_ble_eq_true rfl, rfl, rfl, rfl⟩
theorem fX22_2 : fd 22 2 2302 0 "PlanMemo$Memo" "groups" "I" false (tyX22 2) := ⟨RX22, TX22, 19, tyX22, cd22, Nat.le_of_ble_eq_true rfl, rfl, rfl, rfl⟩
theorem fX22_3 : fd 22 3 2303 0 "PlanMemo$Memo" "firings" "I" false (tyX22 3) := ⟨RX22, TX22, 19, tyX22, cd22, Nat.le_of_ble_eq_true rfl, rfl, rfl, rfl⟩
theorem fX22_4 : fd 22 4 2304 0 "PlanMemo$Memo" "allowed" "I" false (tyX22 4) := ⟨RX22, TX22, 19, tyX22, cd22, Nat.le_of_ble_eq_true rfl, rfl, rfl, rfl⟩
theorem fX22_5 : fd 22 5 2305 0 "PlanMemo$Memo" "seed" "I" false (tyX22 5) := ⟨RX22, TX22, 19, tyX22, cd22, Nat.le_of_ble_eq_true rfl, rfl, rfl, rfl⟩
theorem fX22_6 : fd 22 6 92306 3 "PlanMemo$Memo" "tables" "[LPlanMemo$Table;" true (tyX22 6) := ⟨RX22, TX22, 19, tyX22, cd22, Nat.le_of_ble_eq_true rfl, rfl, rfl, rfl⟩
theorem fX22_7 : fd 22 7 2307 3 "PlanMemo$Memo" "distinct" "[I" true (tyX22 7) := ⟨RX22, TX22, 19, tyX22, cd22, Nat.le_of_ble_eq_true rfl, rfl, rfl, rfl⟩
theorem fX22_8 : fd 22 8 102308 3 "PlanMemo$Memo" "expressions" "[LPlanMemo$Expression;" true (tyX22 8) := ⟨RX22, TX22, 19, tyX22, cd22, Nat.le_of_ble_eq_true rfl, rfl, rfl, rfl⟩
theorem fX22_9 : fd 22 9 2309 3 "PlanMemo$Memo" "left" "[I" true (tyX22 9) := ⟨RX22, TX22, 19, tyX22, cd22, Nat.le_of_ble_eq_true rfl, rfl, rfl, rfl⟩
theorem fX22_10 : fd 22 10 2310 3 "PlanMemo$Memo" "right" "[I" true (tyX22 10) := ⟨RX22, TX22, 19, tyX22, cd22, Nat.le_of_ble_eq_true rfl, rfl, rfl, rfl⟩
theorem fX22_11 : fd 22 11 22311 3 "PlanMemo$Memo" "gone" "[Z" true (tyX22 11) := ⟨RX22, TX22, 19, tyX22, cd22, Nat.le_of_ble_eq_true rfl, rfl, rfl, rfl⟩
theorem fX22_12 : fd 22 12 2312 3 "PlanMemo$Memo" "columns" "[I" true (tyX22 12) := ⟨RX22, TX22, 19, tyX22, cd22, Nat.le_of_ble_eq_true rfl, rfl, rfl, rfl⟩
theorem fX22_13 : fd 22 13 12313 3 "PlanMemo$Memo" "fired" "[J" true (tyX22 13) := ⟨RX22, TX22, 19, tyX22, cd22, Nat.le_of_ble_eq_true rfl, rfl, rfl, rfl⟩
theorem fX22_14 : fd 22 14 2314 3 "PlanMemo$Memo" "firedBy" "[I" true (tyX22 14) := ⟨RX22, TX22, 19, tyX22, cd22, Nat.le_of_ble_eq_true rfl, rfl, rfl, rfl⟩
theorem fX22_15 : fd 22 15 2315 3 "PlanMemo$Memo" "homes" "[I" true (tyX22 15) := ⟨RX22, TX22, 19, tyX22, cd22, Nat.le_of_ble_eq_true rfl, rfl, rfl, rfl⟩
theorem fX22_16 : fd 22 16 2316 3 "PlanMemo$Memo" "into" "[I" true (tyX22 16) := ⟨RX22, TX22, 19, tyX22, cd22, Nat.le_of_ble_eq_true rfl, rfl, rfl, rfl⟩
theorem fX22_17 : fd 22 17 2317 3 "PlanMemo$Memo" "rows" "[I" true (tyX22 17) := ⟨RX22, TX22, 19, tyX22, cd22, Nat.le_of_ble_eq_true rfl, rfl, rfl, rfl⟩
theorem fX22_18 : fd 22 18 2318 0 "PlanMemo$Memo" "counted" "Z" false (tyX22 18) := ⟨RX22, TX22, 19, tyX22, cd22, Nat.le_of_ble_eq_true rfl, rfl, rfl, rfl⟩
theorem cd23 : cd 23 RX23 TX23 1 tyX23 := ⟨rfl, in_X23, tyX23_ok, nmX23, by decide +kernel, wd_dflt (by decide +kernel)⟩
theorem fX23_0 : fd 23 0 2400 2 "PlanMemo$Shelf" "held" "Ljava/lang/Object;" false (tyX23 0) := ⟨RX23, TX23, 1, tyX23, cd23, Nat.le_of_ble_eq_true rfl, rfl, rfl, rfl⟩
theorem cd24 : cd 24 RX24 TX24 79 tyX24 := ⟨rfl, in_X24, tyX24_ok, nmX24, by decide +kernel, wd_dflt (by decide +kernel)⟩
theorem fX24_0 : fd 24 0 2500 0 "PlanMemoModel" "tables" "I" false (tyX24 0) := ⟨RX24, TX24, 79, tyX24, cd24, Nat.le_of_ble_eq_true rfl, rfl, rfl, rfl⟩
theorem fX24_1 : fd 24 1 2501 0 "PlanMemoModel" "many" "I" false (tyX24 1) := ⟨RX24, TX24, 79, tyX24, cd24, Nat.le_of_ble_eq_true rfl, rfl, rfl, rfl⟩
theorem fX24_2 : fd 24 2 2502 0 "PlanMemoModel" "groups" "I" false (tyX24 2) := ⟨RX24, TX24, 79, tyX24, cd24, Nat.le_of_ble_eq_true rfl, rfl, rfl, rfl⟩
theorem fX24_3 : fd 24 3 2503 0 "PlanMemoModel" "fires" "I" false (tyX24 3) := ⟨RX24, TX24, 79, tyX24, cd24, Nat.le_of_ble_eq_true rfl, rfl, rfl, rfl⟩
theorem fX24_4 : fd 24 4 2504 0 "PlanMemoModel" "allowed" "I" false (tyX24 4) := ⟨RX24, TX24, 79, tyX24, cd24, Nat.le_of_ble_eq_true rfl, rfl, rfl, rfl⟩
theorem fX24_5 : fd 24 5 2505 0 "PlanMemoModel" "seed" "I" false (tyX24 5) := ⟨RX24, TX24, 79, tyX24, cd24, Nat.le_of_ble_eq_true rfl, rfl, rfl, rfl⟩
theorem fX24_6 : fd 24 6 2506 0 "PlanMemoModel" "fault" "I" false (tyX24 6) := ⟨RX24, TX24, 79, tyX24, cd24, Nat.le_of_ble_eq_true rfl, rfl, rfl, rfl⟩
theorem fX24_7 : fd 24 7 2507 0 "PlanMemoModel" "bodies" "I" false (tyX24 7) := ⟨RX24, TX24, 79, tyX24, cd24, Nat.le_of_ble_eq_true rfl, rfl, rfl, rfl⟩
theorem fX24_8 : fd 24 8 2508 0 "PlanMemoModel" "nodes" "I" false (tyX24 8) := ⟨RX24, TX24, 79, tyX24, cd24, Nat.le_of_ble_eq_true rfl, rfl, rfl, rfl⟩
theorem fX24_9 : fd 24 9 2509 3 "PlanMemoModel" "refused" "[I" true (tyX24 9) := ⟨RX24, TX24, 79, tyX24, cd24, Nat.le_of_ble_eq_true rfl, rfl, rfl, rfl⟩
theorem fX24_10 : fd 24 10 2510 3 "PlanMemoModel" "distinct" "[I" true (tyX24 10) := ⟨RX24, TX24, 79, tyX24, cd24, Nat.le_of_ble_eq_true rfl, rfl, rfl, rfl⟩
theorem fX24_11 : fd 24 11 2511 3 "PlanMemoModel" "rowsOf" "[I" true (tyX24 11) := ⟨RX24, TX24, 79, tyX24, cd24, Nat.le_of_ble_eq_true rfl, rfl, rfl, rfl⟩
theorem fX24_12 : fd 24 12 2512 3 "PlanMemoModel" "columnsOf" "[I" true (tyX24 12) := ⟨RX24, TX24, 79, tyX24, cd24, Nat.le_of_ble_eq_true rfl, rfl, rfl, rfl⟩
theorem fX24_13 : fd 24 13 2513 3 "PlanMemoModel" "orderOf" "[I" true (tyX24 13) := ⟨RX24, TX24, 79, tyX24, cd24, Nat.le_of_ble_eq_true rfl, rfl, rfl, rfl⟩
theorem fX24_14 : fd 24 14 2514 3 "PlanMemoModel" "placeOf" "[I" true (tyX24 14) := ⟨RX24, TX24, 79, tyX24, cd24, Nat.le_of_ble_eq_true rfl, rfl, rfl, rfl⟩
theorem fX24_15 : fd 24 15 2515 3 "PlanMemoModel" "kind" "[I" true (tyX24 15) := ⟨RX24, TX24, 79, tyX24, cd24, Nat.le_of_ble_eq_true rfl, rfl, rfl, rfl⟩
theorem fX24_16 : fd 24 16 2516 3 "PlanMemoModel" "par" "[I" true (tyX24 16) := ⟨RX24, TX24, 79, tyX24, cd24, Nat.le_of_ble_eq_true rfl, rfl, rfl, rfl⟩
theorem fX24_17 : fd 24 17 2517 3 "PlanMemoModel" "ex" "[I" true (tyX24 17) := ⟨RX24, TX24, 79, tyX24, cd24, Nat.le_of_ble_eq_true rfl, rfl, rfl, rfl⟩
theorem fX24_18 : fd 24 18 2518 3 "PlanMemoModel" "ey" "[I" true (tyX24 18) := ⟨RX24, TX24, 79, tyX24, cd24, Nat.le_of_ble_eq_true rfl, rfl, rfl, rfl⟩
theorem fX24_19 : fd 24 19 2519 3 "PlanMemoModel" "in" "[I" true (tyX24 19) := ⟨RX24, TX24, 79, tyX24, cd24, Nat.le_of_ble_eq_true rfl, rfl, rfl, rfl⟩
theorem fX24_20 : fd 24 20 2520 3 "PlanMemoModel" "into" "[I" true (tyX24 20) := ⟨RX24, TX24, 79, tyX24, cd24, Nat.le_of_ble_eq_true rfl, rfl, rfl, rfl⟩
theorem fX24_21 : fd 24 21 22521 3 "PlanMemoModel" "gone" "[Z" true (tyX24 21) := ⟨RX24, TX24, 79, tyX24, cd24, Nat.le_of_ble_eq_true rfl, rfl, rfl, rfl⟩
theorem fX24_22 : fd 24 22 22522 3 "PlanMemoModel" "was" "[Z" true (tyX24 22) := ⟨RX24, TX24, 79, tyX24, cd24, Nat.le_of_ble_eq_true rfl, rfl, rfl, rfl⟩
theorem fX24_23 : fd 24 23 2523 3 "PlanMemoModel" "firedBy" "[I" true (tyX24 23) := ⟨RX24, TX24, 79, tyX24, cd24, Nat.le_of_ble_eq_true rfl, rfl, rfl, rfl⟩
theorem fX24_24 : fd 24 24 2524 3 "PlanMemoModel" "held" "[I" true (tyX24 24) := ⟨RX24, TX24, 79, tyX24, cd24, Nat.le_of_ble_eq_true rfl, rfl, rfl, rfl⟩
theorem fX24_25 : fd 24 25 2525 3 "PlanMemoModel" "sort" "[I" true (tyX24 25) := ⟨RX24, TX24, 79, tyX24, cd24, Nat.le_of_ble_eq_true rfl, rfl, rfl, rfl⟩
theorem fX24_26 : fd 24 26 2526 3 "PlanMemoModel" "size" "[I" true (tyX24 26) := ⟨RX24, TX24, 79, tyX24, cd24, Nat.le_of_ble_eq_true rfl, rfl, rfl, rfl⟩
theorem fX24_27 : fd 24 27 2527 3 "PlanMemoModel" "shown" "[I" true (tyX24 27) := ⟨RX24, TX24, 79, tyX24, cd24, Nat.le_of_ble_eq_true rfl, rfl, rfl, rfl⟩
theorem fX24_28 : fd 24 28 12528 3 "PlanMemoModel" "cells" "[J" true (tyX24 28) := ⟨RX24, TX24, 79, tyX24, cd24, Nat.le_of_ble_eq_true rfl, rfl, rfl, rfl⟩
theorem fX24_29 : fd 24 29 12529 3 "PlanMemoModel" "carried" "[J" true (tyX24 29) := ⟨RX24, TX24, 79, tyX24, cd24, Nat.le_of_ble_eq_true rfl, rfl, rfl, rfl⟩
theorem fX24_30 : fd 24 30 2530 3 "PlanMemoModel" "rows" "[I" true (tyX24 30) := ⟨RX24, TX24, 79, tyX24, cd24, Nat.le_of_ble_eq_true rfl, rfl, rfl, rfl⟩
theorem fX24_31 : fd 24 31 2531 3 "PlanMemoModel" "columns" "[I" true (tyX24 31) := ⟨RX24, TX24, 79, tyX24, cd24, Nat.le_of_ble_eq_true rfl, rfl, rfl, rfl⟩
theorem fX24_32 : fd 24 32 2532 3 "PlanMemoModel" "least" "[I" true (tyX24 32) := ⟨RX24, TX24, 79, tyX24, cd24, Nat.le_of_ble_eq_true rfl, rfl, rfl, rfl⟩
theorem fX24_33 : fd 24 33 12533 3 "PlanMemoModel" "cost" "[J" true (tyX24 33) := ⟨RX24, TX24, 79, tyX24, cd24, Nat.le_of_ble_eq_true rfl, rfl, rfl, rfl⟩
theorem fX24_34 : fd 24 34 12534 3 "PlanMemoModel" "prices" "[J" true (tyX24 34) := ⟨RX24, TX24, 79, tyX24, cd24, Nat.le_of_ble_eq_true rfl, rfl, rfl, rfl⟩
theorem fX24_35 : fd 24 35 2535 0 "PlanMemoModel" "ways" "I" false (tyX24 35) := ⟨RX24, TX24, 79, tyX24, cd24, Nat.le_of_ble_eq_true rfl, rfl, rfl, rfl⟩
theorem fX24_36 : fd 24 36 2536 3 "PlanMemoModel" "wayKind" "[I" true (tyX24 36) := ⟨RX24, TX24, 79, tyX24, cd24, Nat.le_of_ble_eq_true rfl, rfl, rfl, rfl⟩
theorem fX24_37 : fd 24 37 2537 3 "PlanMemoModel" "wayBy" "[I" true (tyX24 37) := ⟨RX24, TX24, 79, tyX24, cd24, Nat.le_of_ble_eq_true rfl, rfl, rfl, rfl⟩
theorem fX24_38 : fd 24 38 2538 3 "PlanMemoModel" "wayOne" "[I" true (tyX24 38) := ⟨RX24, TX24, 79, tyX24, cd24, Nat.le_of_ble_eq_true rfl, rfl, rfl, rfl⟩
theorem fX24_39 : fd 24 39 2539 3 "PlanMemoModel" "wayTwo" "[I" true (tyX24 39) := ⟨RX24, TX24, 79, tyX24, cd24, Nat.le_of_ble_eq_true rfl, rfl, rfl, rfl⟩
theorem fX24_40 : fd 24 40 2540 3 "PlanMemoModel" "wayAt" "[I" true (tyX24 40) := ⟨RX24, TX24, 79, tyX24, cd24, Nat.le_of_ble_eq_true rfl, rfl, rfl, rfl⟩
theorem fX24_41 : fd 24 41 12541 3 "PlanMemoModel" "wayPrice" "[J" true (tyX24 41) := ⟨RX24, TX24, 79, tyX24, cd24, Nat.le_of_ble_eq_true rfl, rfl, rfl, rfl⟩
theorem fX24_42 : fd 24 42 2542 3 "PlanMemoModel" "nodeKind" "[I" true (tyX24 42) := ⟨RX24, TX24, 79, tyX24, cd24, Nat.le_of_ble_eq_true rfl, rfl, rfl, rfl⟩
theorem fX24_43 : fd 24 43 2543 3 "PlanMemoModel" "nodePar" "[I" true (tyX24 43) := ⟨RX24, TX24, 79, tyX24, cd24, Nat.le_of_ble_eq_true rfl, rfl, rfl, rfl⟩
theorem fX24_44 : fd 24 44 2544 3 "PlanMemoModel" "nodeGroup" "[I" true (tyX24 44) := ⟨RX24, TX24, 79, tyX24, cd24, Nat.le_of_ble_eq_true rfl, rfl, rfl, rfl⟩
theorem fX24_45 : fd 24 45 2545 3 "PlanMemoModel" "nodeOrder" "[I" true (tyX24 45) := ⟨RX24, TX24, 79, tyX24, cd24, Nat.le_of_ble_eq_true rfl, rfl, rfl, rfl⟩
theorem fX24_46 : fd 24 46 2546 3 "PlanMemoModel" "nodePlace" "[I" true (tyX24 46) := ⟨RX24, TX24, 79, tyX24, cd24, Nat.le_of_ble_eq_true rfl, rfl, rfl, rfl⟩
theorem fX24_47 : fd 24 47 2547 3 "PlanMemoModel" "nodeAt" "[I" true (tyX24 47) := ⟨RX24, TX24, 79, tyX24, cd24, Nat.le_of_ble_eq_true rfl, rfl, rfl, rfl⟩
theorem fX24_48 : fd 24 48 2548 3 "PlanMemoModel" "nodeMany" "[I" true (tyX24 48) := ⟨RX24, TX24, 79, tyX24, cd24, Nat.le_of_ble_eq_true rfl, rfl, rfl, rfl⟩
theorem fX24_49 : fd 24 49 2549 3 "PlanMemoModel" "nodeHalf" "[I" true (tyX24 49) := ⟨RX24, TX24, 79, tyX24, cd24, Nat.le_of_ble_eq_true rfl, rfl, rfl, rfl⟩
theorem fX24_50 : fd 24 50 2550 3 "PlanMemoModel" "nodeBy" "[I" true (tyX24 50) := ⟨RX24, TX24, 79, tyX24, cd24, Nat.le_of_ble_eq_true rfl, rfl, rfl, rfl⟩
theorem fX24_51 : fd 24 51 12551 3 "PlanMemoModel" "nodeCost" "[J" true (tyX24 51) := ⟨RX24, TX24, 79, tyX24, cd24, Nat.le_of_ble_eq_true rfl, rfl, rfl, rfl⟩
theorem fX24_52 : fd 24 52 2552 0 "PlanMemoModel" "made" "I" false (tyX24 52) := ⟨RX24, TX24, 79, tyX24, cd24, Nat.le_of_ble_eq_true rfl, rfl, rfl, rfl⟩
theorem fX24_53 : fd 24 53 2553 3 "PlanMemoModel" "tKind" "[I" true (tyX24 53) := ⟨RX24, TX24, 79, tyX24, cd24, Nat.le_of_ble_eq_true rfl, rfl, rfl, rfl⟩
theorem fX24_54 : fd 24 54 2554 3 "PlanMemoModel" "tPar" "[I" true (tyX24 54) := ⟨RX24, TX24, 79, tyX24, cd24, Nat.le_of_ble_eq_true rfl, rfl, rfl, rfl⟩
theorem fX24_55 : fd 24 55 2555 3 "PlanMemoModel" "tGroup" "[I" true (tyX24 55) := ⟨RX24, TX24, 79, tyX24, cd24, Nat.le_of_ble_eq_true rfl, rfl, rfl, rfl⟩
theorem fX24_56 : fd 24 56 2556 3 "PlanMemoModel" "tOrder" "[I" true (tyX24 56) := ⟨RX24, TX24, 79, tyX24, cd24, Nat.le_of_ble_eq_true rfl, rfl, rfl, rfl⟩
theorem fX24_57 : fd 24 57 2557 3 "PlanMemoModel" "tPlace" "[I" true (tyX24 57) := ⟨RX24, TX24, 79, tyX24, cd24, Nat.le_of_ble_eq_true rfl, rfl, rfl, rfl⟩
theorem fX24_58 : fd 24 58 2558 3 "PlanMemoModel" "tAt" "[I" true (tyX24 58) := ⟨RX24, TX24, 79, tyX24, cd24, Nat.le_of_ble_eq_true rfl, rfl, rfl, rfl⟩
theorem fX24_59 : fd 24 59 2559 3 "PlanMemoModel" "tMany" "[I" true (tyX24 59) := ⟨RX24, TX24, 79, tyX24, cd24, Nat.le_of_ble_eq_true rfl, rfl, rfl, rfl⟩
theorem fX24_60 : fd 24 60 2560 3 "PlanMemoModel" "tHalf" "[I" true (tyX24 60) := ⟨RX24, TX24, 79, tyX24, cd24, Nat.le_of_ble_eq_true rfl, rfl, rfl, rfl⟩
theorem fX24_61 : fd 24 61 12561 3 "PlanMemoModel" "tCost" "[J" true (tyX24 61) := ⟨RX24, TX24, 79, tyX24, cd24, Nat.le_of_ble_eq_true rfl, rfl, rfl, rfl⟩
theorem fX24_62 : fd 24 62 2562 3 "PlanMemoModel" "trace" "[I" true (tyX24 62) := ⟨RX24, TX24, 79, tyX24, cd24, Nat.le_of_ble_eq_true rfl, rfl, rfl, rfl⟩
theorem fX24_63 : fd 24 63 2563 3 "PlanMemoModel" "letters" "[I" true (tyX24 63) := ⟨RX24, TX24, 79, tyX24, cd24, Nat.le_of_ble_eq_true rfl, rfl, rfl, rfl⟩
theorem fX24_64 : fd 24 64 2564 0 "PlanMemoModel" "lettersMany" "I" false (tyX24 64) := ⟨RX24, TX24, 79, tyX24, cd24, Nat.le_of_ble_eq_true rfl, rfl, rfl, rfl⟩
theorem fX24_65 : fd 24 65 2565 0 "PlanMemoModel" "nextE" "I" false (tyX24 65) := ⟨RX24, TX24, 79, tyX24, cd24, Nat.le_of_ble_eq_true rfl, rfl, rfl, rfl⟩
theorem fX24_66 : fd 24 66 2566 0 "PlanMemoModel" "nextRule" "I" false (tyX24 66) := ⟨RX24, TX24, 79, tyX24, cd24, Nat.le_of_ble_eq_true rfl, rfl, rfl, rfl⟩
theorem fX24_67 : fd 24 67 2567 0 "PlanMemoModel" "nextF" "I" false (tyX24 67) := ⟨RX24, TX24, 79, tyX24, cd24, Nat.le_of_ble_eq_true rfl, rfl, rfl, rfl⟩
theorem fX24_68 : fd 24 68 2568 3 "PlanMemoModel" "text" "[I" false (tyX24 68) := ⟨RX24, TX24, 79, tyX24, cd24, Nat.le_of_ble_eq_true rfl, rfl, rfl, rfl⟩
theorem fX24_69 : fd 24 69 2569 0 "PlanMemoModel" "textSize" "I" false (tyX24 69) := ⟨RX24, TX24, 79, tyX24, cd24, Nat.le_of_ble_eq_true rfl, rfl, rfl, rfl⟩
theorem fX24_70 : fd 24 70 2570 0 "PlanMemoModel" "at" "I" false (tyX24 70) := ⟨RX24, TX24, 79, tyX24, cd24, Nat.le_of_ble_eq_true rfl, rfl, rfl, rfl⟩
theorem fX24_71 : fd 24 71 2571 0 "PlanMemoModel" "isKept" "Z" false (tyX24 71) := ⟨RX24, TX24, 79, tyX24, cd24, Nat.le_of_ble_eq_true rfl, rfl, rfl, rfl⟩
theorem fX24_72 : fd 24 72 2572 3 "PlanMemoModel" "keptInts" "[I" false (tyX24 72) := ⟨RX24, TX24, 79, tyX24, cd24, Nat.le_of_ble_eq_true rfl, rfl, rfl, rfl⟩
theorem fX24_73 : fd 24 73 22573 3 "PlanMemoModel" "keptGone" "[Z" false (tyX24 73) := ⟨RX24, TX24, 79, tyX24, cd24, Nat.le_of_ble_eq_true rfl, rfl, rfl, rfl⟩
theorem fX24_74 : fd 24 74 22574 3 "PlanMemoModel" "keptWas" "[Z" false (tyX24 74) := ⟨RX24, TX24, 79, tyX24, cd24, Nat.le_of_ble_eq_true rfl, rfl, rfl, rfl⟩
theorem fX24_75 : fd 24 75 2575 3 "PlanMemoModel" "what" "[I" true (tyX24 75) := ⟨RX24, TX24, 79, tyX24, cd24, Nat.le_of_ble_eq_true rfl, rfl, rfl, rfl⟩
theorem fX24_76 : fd 24 76 22576 3 "PlanMemoModel" "demanded" "[Z" true (tyX24 76) := ⟨RX24, TX24, 79, tyX24, cd24, Nat.le_of_ble_eq_true rfl, rfl, rfl, rfl⟩
theorem fX24_77 : fd 24 77 12577 3 "PlanMemoModel" "trees" "[J" true (tyX24 77) := ⟨RX24, TX24, 79, tyX24, cd24, Nat.le_of_ble_eq_true rfl, rfl, rfl, rfl⟩
theorem fX24_78 : fd 24 78 12578 3 "PlanMemoModel" "higher" "[J" true (tyX24 78) := ⟨RX24, TX24, 79, tyX24, cd24, Nat.le_of_ble_eq_true rfl, rfl, rfl, rfl⟩
theorem cd25 : cd 25 RX25 TX25 7 tyX25 := ⟨rfl, in_X25, tyX25_ok, nmX25, by decide +kernel, wd_dflt (by decide +kernel)⟩
theorem fX25_0 : fd 25 0 9000 2 "java/lang/Throwable" "cause" "Ljava/lang/Throwable;" false (tyX25 0) := ⟨RX25, TX25, 7, tyX25, cd25, Nat.le_of_ble_eq_true rfl, rfl, rfl, rfl⟩
theorem fX25_1 : fd 25 1 9001 2 "java/lang/Throwable" "stackTrace" "[Ljava/lang/StackTraceElement;" false (tyX25 1) := ⟨RX25, TX25, 7, tyX25, cd25, Nat.le_of_ble_eq_true rfl, rfl, rfl, rfl⟩
theorem fX25_2 : fd 25 2 9002 2 "java/lang/Throwable" "suppressedExceptions" "Ljava/util/List;" false (tyX25 2) := ⟨RX25, TX25, 7, tyX25, cd25, Nat.le_of_ble_eq_true rfl, rfl, rfl, rfl⟩
theorem fX25_3 : fd 25 3 9003 2 "java/lang/Throwable" "detailMessage" "Ljava/lang/String;" false (tyX25 3) := ⟨RX25, TX25, 7, tyX25, cd25, Nat.le_of_ble_eq_true rfl, rfl, rfl, rfl⟩
theorem fX25_4 : fd 25 4 9004 2 "java/lang/Throwable" "backtrace" "Ljava/lang/Object;" false (tyX25 4) := ⟨RX25, TX25, 7, tyX25, cd25, Nat.le_of_ble_eq_true rfl, rfl, rfl, rfl⟩
theorem fX25_5 : fd 25 5 9005 0 "java/lang/Throwable" "depth" "I" false (tyX25 5) := ⟨RX25, TX25, 7, tyX25, cd25, Nat.le_of_ble_eq_true rfl, rfl, rfl, rfl⟩
theorem fX25_6 : fd 25 6 2606 0 "PlanMemo$Refused" "why" "I" true (tyX25 6) := ⟨RX25, TX25, 7, tyX25, cd25, Nat.le_of_ble_eq_true rfl, rfl, rfl, rfl⟩
theorem cd27 : cd 27 RX27 TX27 1 tyX27 := ⟨rfl, in_X27, tyX27_ok, nmX27, by decide +kernel, wd_dflt (by decide +kernel)⟩
theorem fX27_0 : fd 27 0 32800 3 "PlanMemo$Bytes" "e" "[B" true (tyX27 0) := ⟨RX27, TX27, 1, tyX27, cd27, Nat.le_of_ble_eq_true rfl, rfl, rfl, rfl⟩
theorem cd28 : cd 28 RX28 TX28 1 tyX28 := ⟨rfl, in_X28, tyX28_ok, nmX28, by decide +kernel, wd_dflt (by decide +kernel)⟩
theorem fX28_0 : fd 28 0 52900 3 "PlanMemo$Shorts" "e" "[S" true (tyX28 0) := ⟨RX28, TX28, 1, tyX28, cd28, Nat.le_of_ble_eq_true rfl, rfl, rfl, rfl⟩
theorem cd29 : cd 29 RX29 TX29 1 tyX29 := ⟨rfl, in_X29, tyX29_ok, nmX29, by decide +kernel, wd_dflt (by decide +kernel)⟩
theorem fX29_0 : fd 29 0 3000 3 "PlanMemo$Ints" "e" "[I" true (tyX29 0) := ⟨RX29, TX29, 1, tyX29, cd29, Nat.le_of_ble_eq_true rfl, rfl, rfl, rfl⟩
theorem cd30 : cd 30 RX30 TX30 1 tyX30 := ⟨rfl, in_X30, tyX30_ok, nmX30, by decide +kernel, wd_dflt (by decide +kernel)⟩
theorem fX30_0 : fd 30 0 13100 3 "PlanMemo$Longs" "e" "[J" true (tyX30 0) := ⟨RX30, TX30, 1, tyX30, cd30, Nat.le_of_ble_eq_true rfl, rfl, rfl, rfl⟩
theorem cd31 : cd 31 RX31 TX31 4 tyX31 := ⟨rfl, in_X31, tyX31_ok, nmX31, by decide +kernel, wd_dflt (by decide +kernel)⟩
theorem fX31_0 : fd 31 0 3200 0 "PlanMemo$Table" "rows" "I" true (tyX31 0) := ⟨RX31, TX31, 4, tyX31, cd31, Nat.le_of_ble_eq_true rfl, rfl, rfl, rfl⟩
theorem fX31_1 : fd 31 1 3201 0 "PlanMemo$Table" "columns" "I" true (tyX31 1) := ⟨RX31, TX31, 4, tyX31, cd31, Nat.le_of_ble_eq_true rfl, rfl, rfl, rfl⟩
theorem fX31_2 : fd 31 2 3202 0 "PlanMemo$Table" "order" "I" true (tyX31 2) := ⟨RX31, TX31, 4, tyX31, cd31, Nat.le_of_ble_eq_true rfl, rfl, rfl, rfl⟩
theorem fX31_3 : fd 31 3 3203 0 "PlanMemo$Table" "place" "I" true (tyX31 3) := ⟨RX31, TX31, 4, tyX31, cd31, Nat.le_of_ble_eq_true rfl, rfl, rfl, rfl⟩
theorem cd33 : cd 33 RX33 TX33 2 tyX33 := ⟨rfl, in_X33, tyX33_ok, nmX33, by decide +kernel, wd_dflt (by decide +kernel)⟩
theorem fX33_0 : fd 33 0 3300 0 "PlanMemo$Expression" "index" "I" true (tyX33 0) := ⟨RX33, TX33, 2, tyX33, cd33, Nat.le_of_ble_eq_true rfl, rfl, rfl, rfl⟩
theorem fX33_1 : fd 33 1 3301 0 "PlanMemo$Expression" "by" "I" true (tyX33 1) := ⟨RX33, TX33, 2, tyX33, cd33, Nat.le_of_ble_eq_true rfl, rfl, rfl, rfl⟩
theorem cd35 : cd 35 RX35 TX35 2 tyX35 := ⟨rfl, in_X35, tyX35_ok, nmX35, by decide +kernel, wd_dflt (by decide +kernel)⟩
theorem fX35_0 : fd 35 0 3300 0 "PlanMemo$Expression" "index" "I" true (tyX35 0) := ⟨RX35, TX35, 2, tyX35, cd35, Nat.le_of_ble_eq_true rfl, rfl, rfl, rfl⟩
theorem fX35_1 : fd 35 1 3301 0 "PlanMemo$Expression" "by" "I" true (tyX35 1) := ⟨RX35, TX35, 2, tyX35, cd35, Nat.le_of_ble_eq_true rfl, rfl, rfl, rfl⟩
theorem cd36 : cd 36 RX36 TX36 2 tyX36 := ⟨rfl, in_X36, tyX36_ok, nmX36, by decide +kernel, wd_dflt (by decide +kernel)⟩
theorem fX36_0 : fd 36 0 3300 0 "PlanMemo$Expression" "index" "I" true (tyX36 0) := ⟨RX36, TX36, 2, tyX36, cd36, Nat.le_of_ble_eq_true rfl, rfl, rfl, rfl⟩
theorem fX36_1 : fd 36 1 3301 0 "PlanMemo$Expression" "by" "I" true (tyX36 1) := ⟨RX36, TX36, 2, tyX36, cd36, Nat.le_of_ble_eq_true rfl, rfl, rfl, rfl⟩
theorem cd37 : cd 37 RX37 TX37 2 tyX37 := ⟨rfl, in_X37, tyX37_ok, nmX37, by decide +kernel, wd_dflt (by decide +kernel)⟩
theorem fX37_0 : fd 37 0 3300 0 "PlanMemo$Expression" "index" "I" true (tyX37 0) := ⟨RX37, TX37, 2, tyX37, cd37, Nat.le_of_ble_eq_true rfl, rfl, rfl, rfl⟩
theorem fX37_1 : fd 37 1 3301 0 "PlanMemo$Expression" "by" "I" true (tyX37 1) := ⟨RX37, TX37, 2, tyX37, cd37, Nat.le_of_ble_eq_true rfl, rfl, rfl, rfl⟩
theorem cd38 : cd 38 RX38 TX38 2 tyX38 := ⟨rfl, in_X38, tyX38_ok, nmX38, by decide +kernel, wd_dflt (by decide +kernel)⟩
theorem fX38_0 : fd 38 0 3300 0 "PlanMemo$Expression" "index" "I" true (tyX38 0) := ⟨RX38, TX38, 2, tyX38, cd38, Nat.le_of_ble_eq_true rfl, rfl, rfl, rfl⟩
theorem fX38_1 : fd 38 1 3301 0 "PlanMemo$Expression" "by" "I" true (tyX38 1) := ⟨RX38, TX38, 2, tyX38, cd38, Nat.le_of_ble_eq_true rfl, rfl, rfl, rfl⟩
theorem cd39 : cd 39 RX39 TX39 3 tyX39 := ⟨rfl, in_X39, tyX39_ok, nmX39, by decide +kernel, wd_dflt (by decide +kernel)⟩
theorem fX39_0 : fd 39 0 4000 2 "PlanMemo$Reader" "text" "LPlanMemo$Row;" true (tyX39 0) := ⟨RX39, TX39, 3, tyX39, cd39, Nat.le_of_ble_eq_true rfl, rfl, rfl, rfl⟩
theorem fX39_1 : fd 39 1 4001 2 "PlanMemo$Reader" "m" "LPlanMemo$Memo;" true (tyX39 1) := ⟨RX39, TX39, 3, tyX39, cd39, Nat.le_of_ble_eq_true rfl, rfl, rfl, rfl⟩
theorem fX39_2 : fd 39 2 4002 0 "PlanMemo$Reader" "at" "I" false (tyX39 2) := ⟨RX39, TX39, 3, tyX39, cd39, Nat.le_of_ble_eq_true rfl, rfl, rfl, rfl⟩
theorem cd40 : cd 40 RX40 TX40 7 tyX40 := ⟨rfl, in_X40, tyX40_ok, nmX40, by decide +kernel, wd_dflt (by decide +kernel)⟩
theorem fX40_0 : fd 40 0 9000 2 "java/lang/Throwable" "cause" "Ljava/lang/Throwable;" false (tyX40 0) := ⟨RX40, TX40, 7, tyX40, cd40, Nat.le_of_ble_eq_true rfl, rfl, rfl, rfl⟩
theorem fX40_1 : fd 40 1 9001 2 "java/lang/Throwable" "stackTrace" "[Ljava/lang/StackTraceElement;" false (tyX40 1) := ⟨RX40, TX40, 7, tyX40, cd40, Nat.le_of_ble_eq_true rfl, rfl, rfl, rfl⟩
theorem fX40_2 : fd 40 2 9002 2 "java/lang/Throwable" "suppressedExceptions" "Ljava/util/List;" false (tyX40 2) := ⟨RX40, TX40, 7, tyX40, cd40, Nat.le_of_ble_eq_true rfl, rfl, rfl, rfl⟩
theorem fX40_3 : fd 40 3 9003 2 "java/lang/Throwable" "detailMessage" "Ljava/lang/String;" false (tyX40 3) := ⟨RX40, TX40, 7, tyX40, cd40, Nat.le_of_ble_eq_true rfl, rfl, rfl, rfl⟩
theorem fX40_4 : fd 40 4 9004 2 "java/lang/Throwable" "backtrace" "Ljava/lang/Object;" false (tyX40 4) := ⟨RX40, TX40, 7, tyX40, cd40, Nat.le_of_ble_eq_true rfl, rfl, rfl, rfl⟩
theorem fX40_5 : fd 40 5 9005 0 "java/lang/Throwable" "depth" "I" false (tyX40 5) := ⟨RX40, TX40, 7, tyX40, cd40, Nat.le_of_ble_eq_true rfl, rfl, rfl, rfl⟩
theorem fX40_6 : fd 40 6 4106 0 "PlanMemo$Faulty" "place" "I" true (tyX40 6) := ⟨RX40, TX40, 7, tyX40, cd40, Nat.le_of_ble_eq_true rfl, rfl, rfl, rfl⟩
theorem cd42 : cd 42 RX42 TX42 2 tyX42 := ⟨rfl, in_X42, tyX42_ok, nmX42, by decide +kernel, wd_dflt (by decide +kernel)⟩
theorem fX42_0 : fd 42 0 4200 0 "PlanMemo$Said" "by" "I" true (tyX42 0) := ⟨RX42, TX42, 2, tyX42, cd42, Nat.le_of_ble_eq_true rfl, rfl, rfl, rfl⟩
theorem fX42_1 : fd 42 1 4201 0 "PlanMemo$Said" "columns" "I" true (tyX42 1) := ⟨RX42, TX42, 2, tyX42, cd42, Nat.le_of_ble_eq_true rfl, rfl, rfl, rfl⟩
theorem cd43 : cd 43 RX43 TX43 4 tyX43 := ⟨rfl, in_X43, tyX43_ok, nmX43, by decide +kernel, wd_dflt (by decide +kernel)⟩
theorem fX43_0 : fd 43 0 4200 0 "PlanMemo$Said" "by" "I" true (tyX43 0) := ⟨RX43, TX43, 4, tyX43, cd43, Nat.le_of_ble_eq_true rfl, rfl, rfl, rfl⟩
theorem fX43_1 : fd 43 1 4201 0 "PlanMemo$Said" "columns" "I" true (tyX43 1) := ⟨RX43, TX43, 4, tyX43, cd43, Nat.le_of_ble_eq_true rfl, rfl, rfl, rfl⟩
theorem fX43_2 : fd 43 2 4402 0 "PlanMemo$SaidSingle" "kind" "I" true (tyX43 2) := ⟨RX43, TX43, 4, tyX43, cd43, Nat.le_of_ble_eq_true rfl, rfl, rfl, rfl⟩
theorem fX43_3 : fd 43 3 4403 2 "PlanMemo$SaidSingle" "x" "LPlanMemo$Said;" true (tyX43 3) := ⟨RX43, TX43, 4, tyX43, cd43, Nat.le_of_ble_eq_true rfl, rfl, rfl, rfl⟩
theorem cd44 : cd 44 RX44 TX44 5 tyX44 := ⟨rfl, in_X44, tyX44_ok, nmX44, by decide +kernel, wd_dflt (by decide +kernel)⟩
theorem fX44_0 : fd 44 0 4200 0 "PlanMemo$Said" "by" "I" true (tyX44 0) := ⟨RX44, TX44, 5, tyX44, cd44, Nat.le_of_ble_eq_true rfl, rfl, rfl, rfl⟩
theorem fX44_1 : fd 44 1 4201 0 "PlanMemo$Said" "columns" "I" true (tyX44 1) := ⟨RX44, TX44, 5, tyX44, cd44, Nat.le_of_ble_eq_true rfl, rfl, rfl, rfl⟩
theorem fX44_2 : fd 44 2 4502 0 "PlanMemo$SaidPair" "kind" "I" true (tyX44 2) := ⟨RX44, TX44, 5, tyX44, cd44, Nat.le_of_ble_eq_true rfl, rfl, rfl, rfl⟩
theorem fX44_3 : fd 44 3 4503 2 "PlanMemo$SaidPair" "x" "LPlanMemo$Said;" true (tyX44 3) := ⟨RX44, TX44, 5, tyX44, cd44, Nat.le_of_ble_eq_true rfl, rfl, rfl, rfl⟩
theorem fX44_4 : fd 44 4 4504 2 "PlanMemo$SaidPair" "y" "LPlanMemo$Said;" true (tyX44 4) := ⟨RX44, TX44, 5, tyX44, cd44, Nat.le_of_ble_eq_true rfl, rfl, rfl, rfl⟩
theorem cd45 : cd 45 RX45 TX45 3 tyX45 := ⟨rfl, in_X45, tyX45_ok, nmX45, by decide +kernel, wd_dflt (by decide +kernel)⟩
theorem fX45_0 : fd 45 0 4600 2 "PlanMemo$Least" "found" "LPlanMemo$Search;" true (tyX45 0) := ⟨RX45, TX45, 3, tyX45, cd45, Nat.le_of_ble_eq_true rfl, rfl, rfl, rfl⟩
theorem fX45_1 : fd 45 1 4601 0 "PlanMemo$Least" "state" "I" true (tyX45 1) := ⟨RX45, TX45, 3, tyX45, cd45, Nat.le_of_ble_eq_true rfl, rfl, rfl, rfl⟩
theorem fX45_2 : fd 45 2 4602 1 "PlanMemo$Least" "least" "J" false (tyX45 2) := ⟨RX45, TX45, 3, tyX45, cd45, Nat.le_of_ble_eq_true rfl, rfl, rfl, rfl⟩
theorem cd46 : cd 46 RX46 TX46 4 tyX46 := ⟨rfl, in_X46, tyX46_ok, nmX46, by decide +kernel, wd_dflt (by decide +kernel)⟩
theorem fX46_0 : fd 46 0 114700 3 "PlanMemo$Plan" "nodes" "[LPlanMemo$Node;" true (tyX46 0) := ⟨RX46, TX46, 4, tyX46, cd46, Nat.le_of_ble_eq_true rfl, rfl, rfl, rfl⟩
theorem fX46_1 : fd 46 1 4701 2 "PlanMemo$Plan" "found" "LPlanMemo$Search;" true (tyX46 1) := ⟨RX46, TX46, 4, tyX46, cd46, Nat.le_of_ble_eq_true rfl, rfl, rfl, rfl⟩
theorem fX46_2 : fd 46 2 4702 2 "PlanMemo$Plan" "m" "LPlanMemo$Memo;" true (tyX46 2) := ⟨RX46, TX46, 4, tyX46, cd46, Nat.le_of_ble_eq_true rfl, rfl, rfl, rfl⟩
theorem fX46_3 : fd 46 3 4703 0 "PlanMemo$Plan" "many" "I" false (tyX46 3) := ⟨RX46, TX46, 4, tyX46, cd46, Nat.le_of_ble_eq_true rfl, rfl, rfl, rfl⟩
theorem cd47 : cd 47 RX47 TX47 13 tyX47 := ⟨rfl, in_X47, tyX47_ok, nmX47, by decide +kernel, wd_dflt (by decide +kernel)⟩
theorem fX47_0 : fd 47 0 4800 0 "PlanMemo$Node" "state" "I" true (tyX47 0) := ⟨RX47, TX47, 13, tyX47, cd47, Nat.le_of_ble_eq_true rfl, rfl, rfl, rfl⟩
theorem fX47_1 : fd 47 1 4801 1 "PlanMemo$Node" "cost" "J" true (tyX47 1) := ⟨RX47, TX47, 13, tyX47, cd47, Nat.le_of_ble_eq_true rfl, rfl, rfl, rfl⟩
theorem fX47_2 : fd 47 2 4802 2 "PlanMemo$Node" "found" "LPlanMemo$Search;" true (tyX47 2) := ⟨RX47, TX47, 13, tyX47, cd47, Nat.le_of_ble_eq_true rfl, rfl, rfl, rfl⟩
theorem fX47_3 : fd 47 3 4803 0 "PlanMemo$Node" "kind" "I" false (tyX47 3) := ⟨RX47, TX47, 13, tyX47, cd47, Nat.le_of_ble_eq_true rfl, rfl, rfl, rfl⟩
theorem fX47_4 : fd 47 4 4804 0 "PlanMemo$Node" "by" "I" false (tyX47 4) := ⟨RX47, TX47, 13, tyX47, cd47, Nat.le_of_ble_eq_true rfl, rfl, rfl, rfl⟩
theorem fX47_5 : fd 47 5 4805 0 "PlanMemo$Node" "expression" "I" false (tyX47 5) := ⟨RX47, TX47, 13, tyX47, cd47, Nat.le_of_ble_eq_true rfl, rfl, rfl, rfl⟩
theorem fX47_6 : fd 47 6 4806 0 "PlanMemo$Node" "at" "I" false (tyX47 6) := ⟨RX47, TX47, 13, tyX47, cd47, Nat.le_of_ble_eq_true rfl, rfl, rfl, rfl⟩
theorem fX47_7 : fd 47 7 4807 0 "PlanMemo$Node" "size" "I" false (tyX47 7) := ⟨RX47, TX47, 13, tyX47, cd47, Nat.le_of_ble_eq_true rfl, rfl, rfl, rfl⟩
theorem fX47_8 : fd 47 8 4808 0 "PlanMemo$Node" "first" "I" false (tyX47 8) := ⟨RX47, TX47, 13, tyX47, cd47, Nat.le_of_ble_eq_true rfl, rfl, rfl, rfl⟩
theorem fX47_9 : fd 47 9 4809 0 "PlanMemo$Node" "second" "I" false (tyX47 9) := ⟨RX47, TX47, 13, tyX47, cd47, Nat.le_of_ble_eq_true rfl, rfl, rfl, rfl⟩
theorem fX47_10 : fd 47 10 4810 2 "PlanMemo$Node" "left" "LPlanMemo$Node;" false (tyX47 10) := ⟨RX47, TX47, 13, tyX47, cd47, Nat.le_of_ble_eq_true rfl, rfl, rfl, rfl⟩
theorem fX47_11 : fd 47 11 4811 2 "PlanMemo$Node" "right" "LPlanMemo$Node;" false (tyX47 11) := ⟨RX47, TX47, 13, tyX47, cd47, Nat.le_of_ble_eq_true rfl, rfl, rfl, rfl⟩
theorem fX47_12 : fd 47 12 4812 0 "PlanMemo$Node" "half" "Z" false (tyX47 12) := ⟨RX47, TX47, 13, tyX47, cd47, Nat.le_of_ble_eq_true rfl, rfl, rfl, rfl⟩
theorem cd48 : cd 48 RX48 TX48 2 tyX48 := ⟨rfl, in_X48, tyX48_ok, nmX48, by decide +kernel, wd_dflt (by decide +kernel)⟩
theorem fX48_0 : fd 48 0 44900 3 "PlanMemo$Speller" "letters" "[C" true (tyX48 0) := ⟨RX48, TX48, 2, tyX48, cd48, Nat.le_of_ble_eq_true rfl, rfl, rfl, rfl⟩
theorem fX48_1 : fd 48 1 4901 0 "PlanMemo$Speller" "many" "I" false (tyX48 1) := ⟨RX48, TX48, 2, tyX48, cd48, Nat.le_of_ble_eq_true rfl, rfl, rfl, rfl⟩
def ok0 (σ : wS) (a : Nat) : Prop := oC σ a = 1 ∧ aN σ 60100 a = some 8 ∧ aN σ 101 a = some 8 ∧ aN σ 105 a = some 64 ∧ aN σ 106 a = some 64
theorem ok0.C {σ : wS} {a : Nat} (h : ok0 σ a) : oC σ a = 1 := h.1
theorem ok0.n60100 {σ : wS} {a : Nat} (h : ok0 σ a) : aN σ 60100 a = some 8 := h.2.1
theorem ok0.n101 {σ : wS} {a : Nat} (h : ok0 σ a) : aN σ 101 a = some 8 := h.2.2.1
theorem ok0.n105 {σ : wS} {a : Nat} (h : ok0 σ a) : aN σ 105 a = some 64 := h.2.2.2.1
theorem ok0.n106 {σ : wS} {a : Nat} (h : ok0 σ a) : aN σ 106 a = some 64 := h.2.2.2.2
theorem ok0.ext {σ τ : wS} {a : Nat} (h : ok0 σ a) (e : Ext σ τ) : ok0 τ a := by
  have hc : oC σ a ≠ 0 := by rw [h.C]; decide
  exact ⟨e.C h.C, (e.2 60100 a _ hc (by decide) h.n60100).1, (e.2 101 a _ hc (by decide) h.n101).1, (e.2 105 a _ hc (by decide) h.n105).1, (e.2 106 a _ hc (by decide) h.n106).1⟩
theorem ok0.d60100 {σ τ : wS} {a : Nat} (h : ok0 σ a) (e : Ext σ τ) : aD τ 60100 a = aD σ 60100 a := (e.2 60100 a _ (by rw [h.C]; decide) (by decide) h.n60100).2
theorem ok0.d101 {σ τ : wS} {a : Nat} (h : ok0 σ a) (e : Ext σ τ) : aD τ 101 a = aD σ 101 a := (e.2 101 a _ (by rw [h.C]; decide) (by decide) h.n101).2
theorem ok0.d105 {σ τ : wS} {a : Nat} (h : ok0 σ a) (e : Ext σ τ) : aD τ 105 a = aD σ 105 a := (e.2 105 a _ (by rw [h.C]; decide) (by decide) h.n105).2
theorem ok0.d106 {σ τ : wS} {a : Nat} (h : ok0 σ a) (e : Ext σ τ) : aD τ 106 a = aD σ 106 a := (e.2 106 a _ (by rw [h.C]; decide) (by decide) h.n106).2
def ok1 (σ : wS) (a : Nat) : Prop := oC σ a = 2 ∧ aN σ 200 a = some 20
theorem ok1.C {σ : wS} {a : Nat} (h : ok1 σ a) : oC σ a = 2 := h.1
theorem ok1.n200 {σ : wS} {a : Nat} (h : ok1 σ a) : aN σ 200 a = some 20 := h.2
theorem ok1.ext {σ τ : wS} {a : Nat} (h : ok1 σ a) (e : Ext σ τ) : ok1 τ a := by
  have hc : oC σ a ≠ 0 := by rw [h.C]; decide
  exact ⟨e.C h.C, (e.2 200 a _ hc (by decide) h.n200).1⟩
theorem ok1.d200 {σ τ : wS} {a : Nat} (h : ok1 σ a) (e : Ext σ τ) : aD τ 200 a = aD σ 200 a := (e.2 200 a _ (by rw [h.C]; decide) (by decide) h.n200).2
def ok2 (σ : wS) (a : Nat) : Prop := oC σ a = 3 ∧ aN σ 70300 a = some 7
theorem ok2.C {σ : wS} {a : Nat} (h : ok2 σ a) : oC σ a = 3 := h.1
theorem ok2.n70300 {σ : wS} {a : Nat} (h : ok2 σ a) : aN σ 70300 a = some 7 := h.2
theorem ok2.ext {σ τ : wS} {a : Nat} (h : ok2 σ a) (e : Ext σ τ) : ok2 τ a := by
  have hc : oC σ a ≠ 0 := by rw [h.C]; decide
  exact ⟨e.C h.C, (e.2 70300 a _ hc (by decide) h.n70300).1⟩
theorem ok2.d70300 {σ τ : wS} {a : Nat} (h : ok2 σ a) (e : Ext σ τ) : aD τ 70300 a = aD σ 70300 a := (e.2 70300 a _ (by rw [h.C]; decide) (by decide) h.n70300).2
def ok3 (σ : wS) (a : Nat) : Prop := oC σ a = 4
theorem ok3.C {σ : wS} {a : Nat} (h : ok3 σ a) : oC σ a = 4 := h
theorem ok3.ext {σ τ : wS} {a : Nat} (h : ok3 σ a) (e : Ext σ τ) : ok3 τ a := by
  exact e.C h
def ok4 (σ : wS) (a : Nat) : Prop := oC σ a = 5
theorem ok4.C {σ : wS} {a : Nat} (h : ok4 σ a) : oC σ a = 5 := h
theorem ok4.ext {σ τ : wS} {a : Nat} (h : ok4 σ a) (e : Ext σ τ) : ok4 τ a := by
  exact e.C h
def ok5 (σ : wS) (a : Nat) : Prop := oC σ a = 6
theorem ok5.C {σ : wS} {a : Nat} (h : ok5 σ a) : oC σ a = 6 := h
theorem ok5.ext {σ τ : wS} {a : Nat} (h : ok5 σ a) (e : Ext σ τ) : ok5 τ a := by
  exact e.C h
def ok6 (σ : wS) (a : Nat) : Prop := oC σ a = 7
theorem ok6.C {σ : wS} {a : Nat} (h : ok6 σ a) : oC σ a = 7 := h
theorem ok6.ext {σ τ : wS} {a : Nat} (h : ok6 σ a) (e : Ext σ τ) : ok6 τ a := by
  exact e.C h
def ok7 (σ : wS) (a : Nat) : Prop := oC σ a = 8
theorem ok7.C {σ : wS} {a : Nat} (h : ok7 σ a) : oC σ a = 8 := h
theorem ok7.ext {σ τ : wS} {a : Nat} (h : ok7 σ a) (e : Ext σ τ) : ok7 τ a := by
  exact e.C h
def ok8 (σ : wS) (a : Nat) : Prop := oC σ a = 9
theorem ok8.C {σ : wS} {a : Nat} (h : ok8 σ a) : oC σ a = 9 := h
theorem ok8.ext {σ τ : wS} {a : Nat} (h : ok8 σ a) (e : Ext σ τ) : ok8 τ a := by
  exact e.C h
def ok9 (σ : wS) (a : Nat) : Prop := oC σ a = 10
theorem ok9.C {σ : wS} {a : Nat} (h : ok9 σ a) : oC σ a = 10 := h
theorem ok9.ext {σ τ : wS} {a : Nat} (h : ok9 σ a) (e : Ext σ τ) : ok9 τ a := by
  exact e.C h
def ok10 (σ : wS) (a : Nat) : Prop := oC σ a = 11
theorem ok10.C {σ : wS} {a : Nat} (h : ok10 σ a) : oC σ a = 11 := h
theorem ok10.ext {σ τ : wS} {a : Nat} (h : ok10 σ a) (e : Ext σ τ) : ok10 τ a := by
  exact e.C h
def ok11 (σ : wS) (a : Nat) : Prop := oC σ a = 12 ∧ aN σ 11201 a = some 1920 ∧ aN σ 21202 a = some 1920 ∧ aN σ 21203 a = some 1920 ∧ aN σ 1204 a = some 1920 ∧ aN σ 1205 a = some 1920 ∧ aN σ 1206 a = some 1920 ∧ aN σ 1207 a = some 1920 ∧ aN σ 1208 a = some 16000 ∧ aN σ 1209 a = some 16000 ∧ aN σ 1210 a = some 16000 ∧ aN σ 1211 a = some 32000 ∧ aN σ 31212 a = some 16000 ∧ aN σ 11213 a = some 16000
theorem ok11.C {σ : wS} {a : Nat} (h : ok11 σ a) : oC σ a = 12 := h.1
theorem ok11.n11201 {σ : wS} {a : Nat} (h : ok11 σ a) : aN σ 11201 a = some 1920 := h.2.1
theorem ok11.n21202 {σ : wS} {a : Nat} (h : ok11 σ a) : aN σ 21202 a = some 1920 := h.2.2.1
theorem ok11.n21203 {σ : wS} {a : Nat} (h : ok11 σ a) : aN σ 21203 a = some 1920 := h.2.2.2.1
theorem ok11.n1204 {σ : wS} {a : Nat} (h : ok11 σ a) : aN σ 1204 a = some 1920 := h.2.2.2.2.1
theorem ok11.n1205 {σ : wS} {a : Nat} (h : ok11 σ a) : aN σ 1205 a = some 1920 := h.2.2.2.2.2.1
theorem ok11.n1206 {σ : wS} {a : Nat} (h : ok11 σ a) : aN σ 1206 a = some 1920 := h.2.2.2.2.2.2.1
theorem ok11.n1207 {σ : wS} {a : Nat} (h : ok11 σ a) : aN σ 1207 a = some 1920 := h.2.2.2.2.2.2.2.1
theorem ok11.n1208 {σ : wS} {a : Nat} (h : ok11 σ a) : aN σ 1208 a = some 16000 := h.2.2.2.2.2.2.2.2.1
theorem ok11.n1209 {σ : wS} {a : Nat} (h : ok11 σ a) : aN σ 1209 a = some 16000 := h.2.2.2.2.2.2.2.2.2.1
theorem ok11.n1210 {σ : wS} {a : Nat} (h : ok11 σ a) : aN σ 1210 a = some 16000 := h.2.2.2.2.2.2.2.2.2.2.1
theorem ok11.n1211 {σ : wS} {a : Nat} (h : ok11 σ a) : aN σ 1211 a = some 32000 := h.2.2.2.2.2.2.2.2.2.2.2.1
theorem ok11.n31212 {σ : wS} {a : Nat} (h : ok11 σ a) : aN σ 31212 a = some 16000 := h.2.2.2.2.2.2.2.2.2.2.2.2.1
theorem ok11.n11213 {σ : wS} {a : Nat} (h : ok11 σ a) : aN σ 11213 a = some 16000 := h.2.2.2.2.2.2.2.2.2.2.2.2.2
theorem ok11.ext {σ τ : wS} {a : Nat} (h : ok11 σ a) (e : Ext σ τ) : ok11 τ a := by
  have hc : oC σ a ≠ 0 := by rw [h.C]; decide
  exact ⟨e.C h.C, (e.2 11201 a _ hc (by decide) h.n11201).1, (e.2 21202 a _ hc (by decide) h.n21202).1, (e.2 21203 a _ hc (by decide) h.n21203).1, (e.2 1204 a _ hc (by decide) h.n1204).1, (e.2 1205 a _ hc (by decide) h.n1205).1, (e.2 1206 a _ hc (by decide) h.n1206).1, (e.2 1207 a _ hc (by decide) h.n1207).1, (e.2 1208 a _ hc (by decide) h.n1208).1, (e.2 1209 a _ hc (by decide) h.n1209).1, (e.2 1210 a _ hc (by decide) h.n1210).1, (e.2 1211 a _ hc (by decide) h.n1211).1, (e.2 31212 a _ hc (by decide) h.n31212).1, (e.2 11213 a _ hc (by decide) h.n11213).1⟩
theorem ok11.d11201 {σ τ : wS} {a : Nat} (h : ok11 σ a) (e : Ext σ τ) : aD τ 11201 a = aD σ 11201 a := (e.2 11201 a _ (by rw [h.C]; decide) (by decide) h.n11201).2
theorem ok11.d21202 {σ τ : wS} {a : Nat} (h : ok11 σ a) (e : Ext σ τ) : aD τ 21202 a = aD σ 21202 a := (e.2 21202 a _ (by rw [h.C]; decide) (by decide) h.n21202).2
theorem ok11.d21203 {σ τ : wS} {a : Nat} (h : ok11 σ a) (e : Ext σ τ) : aD τ 21203 a = aD σ 21203 a := (e.2 21203 a _ (by rw [h.C]; decide) (by decide) h.n21203).2
theorem ok11.d1204 {σ τ : wS} {a : Nat} (h : ok11 σ a) (e : Ext σ τ) : aD τ 1204 a = aD σ 1204 a := (e.2 1204 a _ (by rw [h.C]; decide) (by decide) h.n1204).2
theorem ok11.d1205 {σ τ : wS} {a : Nat} (h : ok11 σ a) (e : Ext σ τ) : aD τ 1205 a = aD σ 1205 a := (e.2 1205 a _ (by rw [h.C]; decide) (by decide) h.n1205).2
theorem ok11.d1206 {σ τ : wS} {a : Nat} (h : ok11 σ a) (e : Ext σ τ) : aD τ 1206 a = aD σ 1206 a := (e.2 1206 a _ (by rw [h.C]; decide) (by decide) h.n1206).2
theorem ok11.d1207 {σ τ : wS} {a : Nat} (h : ok11 σ a) (e : Ext σ τ) : aD τ 1207 a = aD σ 1207 a := (e.2 1207 a _ (by rw [h.C]; decide) (by decide) h.n1207).2
theorem ok11.d1208 {σ τ : wS} {a : Nat} (h : ok11 σ a) (e : Ext σ τ) : aD τ 1208 a = aD σ 1208 a := (e.2 1208 a _ (by rw [h.C]; decide) (by decide) h.n1208).2
theorem ok11.d1209 {σ τ : wS} {a : Nat} (h : ok11 σ a) (e : Ext σ τ) : aD τ 1209 a = aD σ 1209 a := (e.2 1209 a _ (by rw [h.C]; decide) (by decide) h.n1209).2
theorem ok11.d1210 {σ τ : wS} {a : Nat} (h : ok11 σ a) (e : Ext σ τ) : aD τ 1210 a = aD σ 1210 a := (e.2 1210 a _ (by rw [h.C]; decide) (by decide) h.n1210).2
theorem ok11.d1211 {σ τ : wS} {a : Nat} (h : ok11 σ a) (e : Ext σ τ) : aD τ 1211 a = aD σ 1211 a := (e.2 1211 a _ (by rw [h.C]; decide) (by decide) h.n1211).2
theorem ok11.d31212 {σ τ : wS} {a : Nat} (h : ok11 σ a) (e : Ext σ τ) : aD τ 31212 a = aD σ 31212 a := (e.2 31212 a _ (by rw [h.C]; decide) (by decide) h.n31212).2
theorem ok11.d11213 {σ τ : wS} {a : Nat} (h : ok11 σ a) (e : Ext σ τ) : aD τ 11213 a = aD σ 11213 a := (e.2 11213 a _ (by rw [h.C]; decide) (by decide) h.n11213).2
def ok12 (σ : wS) (a : Nat) : Prop := oC σ a = 13 ∧ aN σ 81300 a = some 12
theorem ok12.C {σ : wS} {a : Nat} (h : ok12 σ a) : oC σ a = 13 := h.1
theorem ok12.n81300 {σ : wS} {a : Nat} (h : ok12 σ a) : aN σ 81300 a = some 12 := h.2
theorem ok12.ext {σ τ : wS} {a : Nat} (h : ok12 σ a) (e : Ext σ τ) : ok12 τ a := by
  have hc : oC σ a ≠ 0 := by rw [h.C]; decide
  exact ⟨e.C h.C, (e.2 81300 a _ hc (by decide) h.n81300).1⟩
theorem ok12.d81300 {σ τ : wS} {a : Nat} (h : ok12 σ a) (e : Ext σ τ) : aD τ 81300 a = aD σ 81300 a := (e.2 81300 a _ (by rw [h.C]; decide) (by decide) h.n81300).2
def ok13 (σ : wS) (a : Nat) : Prop := oC σ a = 14
theorem ok13.C {σ : wS} {a : Nat} (h : ok13 σ a) : oC σ a = 14 := h
theorem ok13.ext {σ τ : wS} {a : Nat} (h : ok13 σ a) (e : Ext σ τ) : ok13 τ a := by
  exact e.C h
def ok14 (σ : wS) (a : Nat) : Prop := oC σ a = 15
theorem ok14.C {σ : wS} {a : Nat} (h : ok14 σ a) : oC σ a = 15 := h
theorem ok14.ext {σ τ : wS} {a : Nat} (h : ok14 σ a) (e : Ext σ τ) : ok14 τ a := by
  exact e.C h
def ok15 (σ : wS) (a : Nat) : Prop := oC σ a = 16
theorem ok15.C {σ : wS} {a : Nat} (h : ok15 σ a) : oC σ a = 16 := h
theorem ok15.ext {σ τ : wS} {a : Nat} (h : ok15 σ a) (e : Ext σ τ) : ok15 τ a := by
  exact e.C h
def ok16 (σ : wS) (a : Nat) : Prop := oC σ a = 17
theorem ok16.C {σ : wS} {a : Nat} (h : ok16 σ a) : oC σ a = 17 := h
theorem ok16.ext {σ τ : wS} {a : Nat} (h : ok16 σ a) (e : Ext σ τ) : ok16 τ a := by
  exact e.C h
def ok17 (σ : wS) (a : Nat) : Prop := oC σ a = 18
theorem ok17.C {σ : wS} {a : Nat} (h : ok17 σ a) : oC σ a = 18 := h
theorem ok17.ext {σ τ : wS} {a : Nat} (h : ok17 σ a) (e : Ext σ τ) : ok17 τ a := by
  exact e.C h
def ok18 (σ : wS) (a : Nat) : Prop := oC σ a = 19
theorem ok18.C {σ : wS} {a : Nat} (h : ok18 σ a) : oC σ a = 19 := h
theorem ok18.ext {σ τ : wS} {a : Nat} (h : ok18 σ a) (e : Ext σ τ) : ok18 τ a := by
  exact e.C h
def ok19 (σ : wS) (a : Nat) : Prop := oC σ a = 20
theorem ok19.C {σ : wS} {a : Nat} (h : ok19 σ a) : oC σ a = 20 := h
theorem ok19.ext {σ τ : wS} {a : Nat} (h : ok19 σ a) (e : Ext σ τ) : ok19 τ a := by
  exact e.C h
def ok20 (σ : wS) (a : Nat) : Prop := oC σ a = 21
theorem ok20.C {σ : wS} {a : Nat} (h : ok20 σ a) : oC σ a = 21 := h
theorem ok20.ext {σ τ : wS} {a : Nat} (h : ok20 σ a) (e : Ext σ τ) : ok20 τ a := by
  exact e.C h
def ok21 (σ : wS) (a : Nat) : Prop := oC σ a = 22
theorem ok21.C {σ : wS} {a : Nat} (h : ok21 σ a) : oC σ a = 22 := h
theorem ok21.ext {σ τ : wS} {a : Nat} (h : ok21 σ a) (e : Ext σ τ) : ok21 τ a := by
  exact e.C h
def ok22 (σ : wS) (a : Nat) : Prop := oC σ a = 23 ∧ aN σ 92306 a = some 8 ∧ aN σ 2307 a = some 4 ∧ aN σ 102308 a = some 64 ∧ aN σ 2309 a = some 64 ∧ aN σ 2310 a = some 64 ∧ aN σ 22311 a = some 64 ∧ aN σ 2312 a = some 64 ∧ aN σ 12313 a = some 448 ∧ aN σ 2314 a = some 7 ∧ aN σ 2315 a = some 64 ∧ aN σ 2316 a = some 64 ∧ aN σ 2317 a = some 64
theorem ok22.C {σ : wS} {a : Nat} (h : ok22 σ a) : oC σ a = 23 := h.1
theorem ok22.n92306 {σ : wS} {a : Nat} (h : ok22 σ a) : aN σ 92306 a = some 8 := h.2.1
theorem ok22.n2307 {σ : wS} {a : Nat} (h : ok22 σ a) : aN σ 2307 a = some 4 := h.2.2.1
theorem ok22.n102308 {σ : wS} {a : Nat} (h : ok22 σ a) : aN σ 102308 a = some 64 := h.2.2.2.1
theorem ok22.n2309 {σ : wS} {a : Nat} (h : ok22 σ a) : aN σ 2309 a = some 64 := h.2.2.2.2.1
theorem ok22.n2310 {σ : wS} {a : Nat} (h : ok22 σ a) : aN σ 2310 a = some 64 := h.2.2.2.2.2.1
theorem ok22.n22311 {σ : wS} {a : Nat} (h : ok22 σ a) : aN σ 22311 a = some 64 := h.2.2.2.2.2.2.1
theorem ok22.n2312 {σ : wS} {a : Nat} (h : ok22 σ a) : aN σ 2312 a = some 64 := h.2.2.2.2.2.2.2.1
theorem ok22.n12313 {σ : wS} {a : Nat} (h : ok22 σ a) : aN σ 12313 a = some 448 := h.2.2.2.2.2.2.2.2.1
theorem ok22.n2314 {σ : wS} {a : Nat} (h : ok22 σ a) : aN σ 2314 a = some 7 := h.2.2.2.2.2.2.2.2.2.1
theorem ok22.n2315 {σ : wS} {a : Nat} (h : ok22 σ a) : aN σ 2315 a = some 64 := h.2.2.2.2.2.2.2.2.2.2.1
theorem ok22.n2316 {σ : wS} {a : Nat} (h : ok22 σ a) : aN σ 2316 a = some 64 := h.2.2.2.2.2.2.2.2.2.2.2.1
theorem ok22.n2317 {σ : wS} {a : Nat} (h : ok22 σ a) : aN σ 2317 a = some 64 := h.2.2.2.2.2.2.2.2.2.2.2.2
theorem ok22.ext {σ τ : wS} {a : Nat} (h : ok22 σ a) (e : Ext σ τ) : ok22 τ a := by
  have hc : oC σ a ≠ 0 := by rw [h.C]; decide
  exact ⟨e.C h.C, (e.2 92306 a _ hc (by decide) h.n92306).1, (e.2 2307 a _ hc (by decide) h.n2307).1, (e.2 102308 a _ hc (by decide) h.n102308).1, (e.2 2309 a _ hc (by decide) h.n2309).1, (e.2 2310 a _ hc (by decide) h.n2310).1, (e.2 22311 a _ hc (by decide) h.n22311).1, (e.2 2312 a _ hc (by decide) h.n2312).1, (e.2 12313 a _ hc (by decide) h.n12313).1, (e.2 2314 a _ hc (by decide) h.n2314).1, (e.2 2315 a _ hc (by decide) h.n2315).1, (e.2 2316 a _ hc (by decide) h.n2316).1, (e.2 2317 a _ hc (by decide) h.n2317).1⟩
theorem ok22.d92306 {σ τ : wS} {a : Nat} (h : ok22 σ a) (e : Ext σ τ) : aD τ 92306 a = aD σ 92306 a := (e.2 92306 a _ (by rw [h.C]; decide) (by decide) h.n92306).2
theorem ok22.d2307 {σ τ : wS} {a : Nat} (h : ok22 σ a) (e : Ext σ τ) : aD τ 2307 a = aD σ 2307 a := (e.2 2307 a _ (by rw [h.C]; decide) (by decide) h.n2307).2
theorem ok22.d102308 {σ τ : wS} {a : Nat} (h : ok22 σ a) (e : Ext σ τ) : aD τ 102308 a = aD σ 102308 a := (e.2 102308 a _ (by rw [h.C]; decide) (by decide) h.n102308).2
theorem ok22.d2309 {σ τ : wS} {a : Nat} (h : ok22 σ a) (e : Ext σ τ) : aD τ 2309 a = aD σ 2309 a := (e.2 2309 a _ (by rw [h.C]; decide) (by decide) h.n2309).2
theorem ok22.d2310 {σ τ : wS} {a : Nat} (h : ok22 σ a) (e : Ext σ τ) : aD τ 2310 a = aD σ 2310 a := (e.2 2310 a _ (by rw [h.C]; decide) (by decide) h.n2310).2
theorem ok22.d22311 {σ τ : wS} {a : Nat} (h : ok22 σ a) (e : Ext σ τ) : aD τ 22311 a = aD σ 22311 a := (e.2 22311 a _ (by rw [h.C]; decide) (by decide) h.n22311).2
theorem ok22.d2312 {σ τ : wS} {a : Nat} (h : ok22 σ a) (e : Ext σ τ) : aD τ 2312 a = aD σ 2312 a := (e.2 2312 a _ (by rw [h.C]; decide) (by decide) h.n2312).2
theorem ok22.d12313 {σ τ : wS} {a : Nat} (h : ok22 σ a) (e : Ext σ τ) : aD τ 12313 a = aD σ 12313 a := (e.2 12313 a _ (by rw [h.C]; decide) (by decide) h.n12313).2
theorem ok22.d2314 {σ τ : wS} {a : Nat} (h : ok22 σ a) (e : Ext σ τ) : aD τ 2314 a = aD σ 2314 a := (e.2 2314 a _ (by rw [h.C]; decide) (by decide) h.n2314).2
theorem ok22.d2315 {σ τ : wS} {a : Nat} (h : ok22 σ a) (e : Ext σ τ) : aD τ 2315 a = aD σ 2315 a := (e.2 2315 a _ (by rw [h.C]; decide) (by decide) h.n2315).2
theorem ok22.d2316 {σ τ : wS} {a : Nat} (h : ok22 σ a) (e : Ext σ τ) : aD τ 2316 a = aD σ 2316 a := (e.2 2316 a _ (by rw [h.C]; decide) (by decide) h.n2316).2
theorem ok22.d2317 {σ τ : wS} {a : Nat} (h : ok22 σ a) (e : Ext σ τ) : aD τ 2317 a = aD σ 2317 a := (e.2 2317 a _ (by rw [h.C]; decide) (by decide) h.n2317).2
def ok23 (σ : wS) (a : Nat) : Prop := oC σ a = 24
theorem ok23.C {σ : wS} {a : Nat} (h : ok23 σ a) : oC σ a = 24 := h
theorem ok23.ext {σ τ : wS} {a : Nat} (h : ok23 σ a) (e : Ext σ τ) : ok23 τ a := by
  exact e.C h
def ok24 (σ : wS) (a : Nat) : Prop := oC σ a = 25 ∧ aN σ 2509 a = some 8 ∧ aN σ 2510 a = some 4 ∧ aN σ 2511 a = some 8 ∧ aN σ 2512 a = some 8 ∧ aN σ 2513 a = some 8 ∧ aN σ 2514 a = some 8 ∧ aN σ 2515 a = some 144 ∧ aN σ 2516 a = some 144 ∧ aN σ 2517 a = some 144 ∧ aN σ 2518 a = some 144 ∧ aN σ 2519 a = some 144 ∧ aN σ 2520 a = some 144 ∧ aN σ 22521 a = some 144 ∧ aN σ 22522 a = some 29120 ∧ aN σ 2523 a = some 7 ∧ aN σ 2524 a = some 8 ∧ aN σ 2525 a = some 8 ∧ aN σ 2526 a = some 8 ∧ aN σ 2527 a = some 8 ∧ aN σ 12528 a = some 1280 ∧ aN σ 12529 a = some 160 ∧ aN σ 2530 a = some 144 ∧ aN σ 2531 a = some 144 ∧ aN σ 2532 a = some 144 ∧ aN σ 12533 a = some 1920 ∧ aN σ 12534 a = some 2 ∧ aN σ 2536 a = some 400 ∧ aN σ 2537 a = some 400 ∧ aN σ 2538 a = some 400 ∧ aN σ 2539 a = some 400 ∧ aN σ 2540 a = some 400 ∧ aN σ 12541 a = some 400 ∧ aN σ 2542 a = some 121 ∧ aN σ 2543 a = some 121 ∧ aN σ 2544 a = some 121 ∧ aN σ 2545 a = some 121 ∧ aN σ 2546 a = some 121 ∧ aN σ 2547 a = some 121 ∧ aN σ 2548 a = some 121 ∧ aN σ 2549 a = some 121 ∧ aN σ 2550 a = some 121 ∧ aN σ 12551 a = some 121 ∧ aN σ 2553 a = some 121 ∧ aN σ 2554 a = some 121 ∧ aN σ 2555 a = some 121 ∧ aN σ 2556 a = some 121 ∧ aN σ 2557 a = some 121 ∧ aN σ 2558 a = some 121 ∧ aN σ 2559 a = some 121 ∧ aN σ 2560 a = some 121 ∧ aN σ 12561 a = some 121 ∧ aN σ 2562 a = some 20 ∧ aN σ 2563 a = some 4000 ∧ aN σ 2568 a = some 160 ∧ aN σ 2575 a = some 4 ∧ aN σ 22576 a = some 1920 ∧ aN σ 12577 a = some 144 ∧ aN σ 12578 a = some 144
theorem ok24.C {σ : wS} {a : Nat} (h : ok24 σ a) : oC σ a = 25 := h.1
theorem ok24.n2509 {σ : wS} {a : Nat} (h : ok24 σ a) : aN σ 2509 a = some 8 := h.2.1
theorem ok24.n2510 {σ : wS} {a : Nat} (h : ok24 σ a) : aN σ 2510 a = some 4 := h.2.2.1
theorem ok24.n2511 {σ : wS} {a : Nat} (h : ok24 σ a) : aN σ 2511 a = some 8 := h.2.2.2.1
theorem ok24.n2512 {σ : wS} {a : Nat} (h : ok24 σ a) : aN σ 2512 a = some 8 := h.2.2.2.2.1
theorem ok24.n2513 {σ : wS} {a : Nat} (h : ok24 σ a) : aN σ 2513 a = some 8 := h.2.2.2.2.2.1
theorem ok24.n2514 {σ : wS} {a : Nat} (h : ok24 σ a) : aN σ 2514 a = some 8 := h.2.2.2.2.2.2.1
theorem ok24.n2515 {σ : wS} {a : Nat} (h : ok24 σ a) : aN σ 2515 a = some 144 := h.2.2.2.2.2.2.2.1
theorem ok24.n2516 {σ : wS} {a : Nat} (h : ok24 σ a) : aN σ 2516 a = some 144 := h.2.2.2.2.2.2.2.2.1
theorem ok24.n2517 {σ : wS} {a : Nat} (h : ok24 σ a) : aN σ 2517 a = some 144 := h.2.2.2.2.2.2.2.2.2.1
theorem ok24.n2518 {σ : wS} {a : Nat} (h : ok24 σ a) : aN σ 2518 a = some 144 := h.2.2.2.2.2.2.2.2.2.2.1
theorem ok24.n2519 {σ : wS} {a : Nat} (h : ok24 σ a) : aN σ 2519 a = some 144 := h.2.2.2.2.2.2.2.2.2.2.2.1
theorem ok24.n2520 {σ : wS} {a : Nat} (h : ok24 σ a) : aN σ 2520 a = some 144 := h.2.2.2.2.2.2.2.2.2.2.2.2.1
theorem ok24.n22521 {σ : wS} {a : Nat} (h : ok24 σ a) : aN σ 22521 a = some 144 := h.2.2.2.2.2.2.2.2.2.2.2.2.2.1
theorem ok24.n22522 {σ : wS} {a : Nat} (h : ok24 σ a) : aN σ 22522 a = some 29120 := h.2.2.2.2.2.2.2.2.2.2.2.2.2.2.1
theorem ok24.n2523 {σ : wS} {a : Nat} (h : ok24 σ a) : aN σ 2523 a = some 7 := h.2.2.2.2.2.2.2.2.2.2.2.2.2.2.2.1
theorem ok24.n2524 {σ : wS} {a : Nat} (h : ok24 σ a) : aN σ 2524 a = some 8 := h.2.2.2.2.2.2.2.2.2.2.2.2.2.2.2.2.1
theorem ok24.n2525 {σ : wS} {a : Nat} (h : ok24 σ a) : aN σ 2525 a = some 8 := h.2.2.2.2.2.2.2.2.2.2.2.2.2.2.2.2.2.1
theorem ok24.n2526 {σ : wS} {a : Nat} (h : ok24 σ a) : aN σ 2526 a = some 8 := h.2.2.2.2.2.2.2.2.2.2.2.2.2.2.2.2.2.2.1
theorem ok24.n2527 {σ : wS} {a : Nat} (h : ok24 σ a) : aN σ 2527 a = some 8 := h.2.2.2.2.2.2.2.2.2.2.2.2.2.2.2.2.2.2.2.1
theorem ok24.n12528 {σ : wS} {a : Nat} (h : ok24 σ a) : aN σ 12528 a = some 1280 := h.2.2.2.2.2.2.2.2.2.2.2.2.2.2.2.2.2.2.2.2.1
theorem ok24.n12529 {σ : wS} {a : Nat} (h : ok24 σ a) : aN σ 12529 a = some 160 := h.2.2.2.2.2.2.2.2.2.2.2.2.2.2.2.2.2.2.2.2.2.1
theorem ok24.n2530 {σ : wS} {a : Nat} (h : ok24 σ a) : aN σ 2530 a = some 144 := h.2.2.2.2.2.2.2.2.2.2.2.2.2.2.2.2.2.2.2.2.2.2.1
theorem ok24.n2531 {σ : wS} {a : Nat} (h : ok24 σ a) : aN σ 2531 a = some 144 := h.2.2.2.2.2.2.2.2.2.2.2.2.2.2.2.2.2.2.2.2.2.2.2.1
theorem ok24.n2532 {σ : wS} {a : Nat} (h : ok24 σ a) : aN σ 2532 a = some 144 := h.2.2.2.2.2.2.2.2.2.2.2.2.2.2.2.2.2.2.2.2.2.2.2.2.1
theorem ok24.n12533 {σ : wS} {a : Nat} (h : ok24 σ a) : aN σ 12533 a = some 1920 := h.2.2.2.2.2.2.2.2.2.2.2.2.2.2.2.2.2.2.2.2.2.2.2.2.2.1
theorem ok24.n12534 {σ : wS} {a : Nat} (h : ok24 σ a) : aN σ 12534 a = some 2 := h.2.2.2.2.2.2.2.2.2.2.2.2.2.2.2.2.2.2.2.2.2.2.2.2.2.2.1
theorem ok24.n2536 {σ : wS} {a : Nat} (h : ok24 σ a) : aN σ 2536 a = some 400 := h.2.2.2.2.2.2.2.2.2.2.2.2.2.2.2.2.2.2.2.2.2.2.2.2.2.2.2.1
theorem ok24.n2537 {σ : wS} {a : Nat} (h : ok24 σ a) : aN σ 2537 a = some 400 := h.2.2.2.2.2.2.2.2.2.2.2.2.2.2.2.2.2.2.2.2.2.2.2.2.2.2.2.2.1
theorem ok24.n2538 {σ : wS} {a : Nat} (h : ok24 σ a) : aN σ 2538 a = some 400 := h.2.2.2.2.2.2.2.2.2.2.2.2.2.2.2.2.2.2.2.2.2.2.2.2.2.2.2.2.2.1
theorem ok24.n2539 {σ : wS} {a : Nat} (h : ok24 σ a) : aN σ 2539 a = some 400 := h.2.2.2.2.2.2.2.2.2.2.2.2.2.2.2.2.2.2.2.2.2.2.2.2.2.2.2.2.2.2.1
theorem ok24.n2540 {σ : wS} {a : Nat} (h : ok24 σ a) : aN σ 2540 a = some 400 := h.2.2.2.2.2.2.2.2.2.2.2.2.2.2.2.2.2.2.2.2.2.2.2.2.2.2.2.2.2.2.2.1
theorem ok24.n12541 {σ : wS} {a : Nat} (h : ok24 σ a) : aN σ 12541 a = some 400 := h.2.2.2.2.2.2.2.2.2.2.2.2.2.2.2.2.2.2.2.2.2.2.2.2.2.2.2.2.2.2.2.2.1
theorem ok24.n2542 {σ : wS} {a : Nat} (h : ok24 σ a) : aN σ 2542 a = some 121 := h.2.2.2.2.2.2.2.2.2.2.2.2.2.2.2.2.2.2.2.2.2.2.2.2.2.2.2.2.2.2.2.2.2.1
theorem ok24.n2543 {σ : wS} {a : Nat} (h : ok24 σ a) : aN σ 2543 a = some 121 := h.2.2.2.2.2.2.2.2.2.2.2.2.2.2.2.2.2.2.2.2.2.2.2.2.2.2.2.2.2.2.2.2.2.2.1
theorem ok24.n2544 {σ : wS} {a : Nat} (h : ok24 σ a) : aN σ 2544 a = some 121 := h.2.2.2.2.2.2.2.2.2.2.2.2.2.2.2.2.2.2.2.2.2.2.2.2.2.2.2.2.2.2.2.2.2.2.2.1
theorem ok24.n2545 {σ : wS} {a : Nat} (h : ok24 σ a) : aN σ 2545 a = some 121 := h.2.2.2.2.2.2.2.2.2.2.2.2.2.2.2.2.2.2.2.2.2.2.2.2.2.2.2.2.2.2.2.2.2.2.2.2.1
theorem ok24.n2546 {σ : wS} {a : Nat} (h : ok24 σ a) : aN σ 2546 a = some 121 := h.2.2.2.2.2.2.2.2.2.2.2.2.2.2.2.2.2.2.2.2.2.2.2.2.2.2.2.2.2.2.2.2.2.2.2.2.2.1
theorem ok24.n2547 {σ : wS} {a : Nat} (h : ok24 σ a) : aN σ 2547 a = some 121 := h.2.2.2.2.2.2.2.2.2.2.2.2.2.2.2.2.2.2.2.2.2.2.2.2.2.2.2.2.2.2.2.2.2.2.2.2.2.2.1
theorem ok24.n2548 {σ : wS} {a : Nat} (h : ok24 σ a) : aN σ 2548 a = some 121 := h.2.2.2.2.2.2.2.2.2.2.2.2.2.2.2.2.2.2.2.2.2.2.2.2.2.2.2.2.2.2.2.2.2.2.2.2.2.2.2.1
theorem ok24.n2549 {σ : wS} {a : Nat} (h : ok24 σ a) : aN σ 2549 a = some 121 := h.2.2.2.2.2.2.2.2.2.2.2.2.2.2.2.2.2.2.2.2.2.2.2.2.2.2.2.2.2.2.2.2.2.2.2.2.2.2.2.2.1
theorem ok24.n2550 {σ : wS} {a : Nat} (h : ok24 σ a) : aN σ 2550 a = some 121 := h.2.2.2.2.2.2.2.2.2.2.2.2.2.2.2.2.2.2.2.2.2.2.2.2.2.2.2.2.2.2.2.2.2.2.2.2.2.2.2.2.2.1
theorem ok24.n12551 {σ : wS} {a : Nat} (h : ok24 σ a) : aN σ 12551 a = some 121 := h.2.2.2.2.2.2.2.2.2.2.2.2.2.2.2.2.2.2.2.2.2.2.2.2.2.2.2.2.2.2.2.2.2.2.2.2.2.2.2.2.2.2.1
theorem ok24.n2553 {σ : wS} {a : Nat} (h : ok24 σ a) : aN σ 2553 a = some 121 := h.2.2.2.2.2.2.2.2.2.2.2.2.2.2.2.2.2.2.2.2.2.2.2.2.2.2.2.2.2.2.2.2.2.2.2.2.2.2.2.2.2.2.2.1
theorem ok24.n2554 {σ : wS} {a : Nat} (h : ok24 σ a) : aN σ 2554 a = some 121 := h.2.2.2.2.2.2.2.2.2.2.2.2.2.2.2.2.2.2.2.2.2.2.2.2.2.2.2.2.2.2.2.2.2.2.2.2.2.2.2.2.2.2.2.2.1
theorem ok24.n2555 {σ : wS} {a : Nat} (h : ok24 σ a) : aN σ 2555 a = some 121 := h.2.2.2.2.2.2.2.2.2.2.2.2.2.2.2.2.2.2.2.2.2.2.2.2.2.2.2.2.2.2.2.2.2.2.2.2.2.2.2.2.2.2.2.2.2.1
theorem ok24.n2556 {σ : wS} {a : Nat} (h : ok24 σ a) : aN σ 2556 a = some 121 := h.2.2.2.2.2.2.2.2.2.2.2.2.2.2.2.2.2.2.2.2.2.2.2.2.2.2.2.2.2.2.2.2.2.2.2.2.2.2.2.2.2.2.2.2.2.2.1
theorem ok24.n2557 {σ : wS} {a : Nat} (h : ok24 σ a) : aN σ 2557 a = some 121 := h.2.2.2.2.2.2.2.2.2.2.2.2.2.2.2.2.2.2.2.2.2.2.2.2.2.2.2.2.2.2.2.2.2.2.2.2.2.2.2.2.2.2.2.2.2.2.2.1
theorem ok24.n2558 {σ : wS} {a : Nat} (h : ok24 σ a) : aN σ 2558 a = some 121 := h.2.2.2.2.2.2.2.2.2.2.2.2.2.2.2.2.2.2.2.2.2.2.2.2.2.2.2.2.2.2.2.2.2.2.2.2.2.2.2.2.2.2.2.2.2.2.2.2.1
theorem ok24.n2559 {σ : wS} {a : Nat} (h : ok24 σ a) : aN σ 2559 a = some 121 := h.2.2.2.2.2.2.2.2.2.2.2.2.2.2.2.2.2.2.2.2.2.2.2.2.2.2.2.2.2.2.2.2.2.2.2.2.2.2.2.2.2.2.2.2.2.2.2.2.2.1
theorem ok24.n2560 {σ : wS} {a : Nat} (h : ok24 σ a) : aN σ 2560 a = some 121 := h.2.2.2.2.2.2.2.2.2.2.2.2.2.2.2.2.2.2.2.2.2.2.2.2.2.2.2.2.2.2.2.2.2.2.2.2.2.2.2.2.2.2.2.2.2.2.2.2.2.2.1
theorem ok24.n12561 {σ : wS} {a : Nat} (h : ok24 σ a) : aN σ 12561 a = some 121 := h.2.2.2.2.2.2.2.2.2.2.2.2.2.2.2.2.2.2.2.2.2.2.2.2.2.2.2.2.2.2.2.2.2.2.2.2.2.2.2.2.2.2.2.2.2.2.2.2.2.2.2.1
theorem ok24.n2562 {σ : wS} {a : Nat} (h : ok24 σ a) : aN σ 2562 a = some 20 := h.2.2.2.2.2.2.2.2.2.2.2.2.2.2.2.2.2.2.2.2.2.2.2.2.2.2.2.2.2.2.2.2.2.2.2.2.2.2.2.2.2.2.2.2.2.2.2.2.2.2.2.2.1
theorem ok24.n2563 {σ : wS} {a : Nat} (h : ok24 σ a) : aN σ 2563 a = some 4000 := h.2.2.2.2.2.2.2.2.2.2.2.2.2.2.2.2.2.2.2.2.2.2.2.2.2.2.2.2.2.2.2.2.2.2.2.2.2.2.2.2.2.2.2.2.2.2.2.2.2.2.2.2.2.1
theorem ok24.n2568 {σ : wS} {a : Nat} (h : ok24 σ a) : aN σ 2568 a = some 160 := h.2.2.2.2.2.2.2.2.2.2.2.2.2.2.2.2.2.2.2.2.2.2.2.2.2.2.2.2.2.2.2.2.2.2.2.2.2.2.2.2.2.2.2.2.2.2.2.2.2.2.2.2.2.2.1
theorem ok24.n2575 {σ : wS} {a : Nat} (h : ok24 σ a) : aN σ 2575 a = some 4 := h.2.2.2.2.2.2.2.2.2.2.2.2.2.2.2.2.2.2.2.2.2.2.2.2.2.2.2.2.2.2.2.2.2.2.2.2.2.2.2.2.2.2.2.2.2.2.2.2.2.2.2.2.2.2.2.1
theorem ok24.n22576 {σ : wS} {a : Nat} (h : ok24 σ a) : aN σ 22576 a = some 1920 := h.2.2.2.2.2.2.2.2.2.2.2.2.2.2.2.2.2.2.2.2.2.2.2.2.2.2.2.2.2.2.2.2.2.2.2.2.2.2.2.2.2.2.2.2.2.2.2.2.2.2.2.2.2.2.2.2.1
theorem ok24.n12577 {σ : wS} {a : Nat} (h : ok24 σ a) : aN σ 12577 a = some 144 := h.2.2.2.2.2.2.2.2.2.2.2.2.2.2.2.2.2.2.2.2.2.2.2.2.2.2.2.2.2.2.2.2.2.2.2.2.2.2.2.2.2.2.2.2.2.2.2.2.2.2.2.2.2.2.2.2.2.1
theorem ok24.n12578 {σ : wS} {a : Nat} (h : ok24 σ a) : aN σ 12578 a = some 144 := h.2.2.2.2.2.2.2.2.2.2.2.2.2.2.2.2.2.2.2.2.2.2.2.2.2.2.2.2.2.2.2.2.2.2.2.2.2.2.2.2.2.2.2.2.2.2.2.2.2.2.2.2.2.2.2.2.2.2
theorem ok24.ext {σ τ : wS} {a : Nat} (h : ok24 σ a) (e : Ext σ τ) : ok24 τ a := by
  have hc : oC σ a ≠ 0 := by rw [h.C]; decide
  exact ⟨e.C h.C, (e.2 2509 a _ hc (by decide) h.n2509).1, (e.2 2510 a _ hc (by decide) h.n2510).1, (e.2 2511 a _ hc (by decide) h.n2511).1, (e.2 2512 a _ hc (by decide) h.n2512).1, (e.2 2513 a _ hc (by decide) h.n2513).1, (e.2 2514 a _ hc (by decide) h.n2514).1, (e.2 2515 a _ hc (by decide) h.n2515).1, (e.2 2516 a _ hc (by decide) h.n2516).1, (e.2 2517 a _ hc (by decide) h.n2517).1, (e.2 2518 a _ hc (by decide) h.n2518).1, (e.2 2519 a _ hc (by decide) h.n2519).1, (e.2 2520 a _ hc (by decide) h.n2520).1, (e.2 22521 a _ hc (by decide) h.n22521).1, (e.2 22522 a _ hc (by decide) h.n22522).1, (e.2 2523 a _ hc (by decide) h.n2523).1, (e.2 2524 a _ hc (by decide) h.n2524).1, (e.2 2525 a _ hc (by decide) h.n2525).1, (e.2 2526 a _ hc (by decide) h.n2526).1, (e.2 2527 a _ hc (by decide) h.n2527).1, (e.2 12528 a _ hc (by decide) h.n12528).1, (e.2 12529 a _ hc (by decide) h.n12529).1, (e.2 2530 a _ hc (by decide) h.n2530).1, (e.2 2531 a _ hc (by decide) h.n2531).1, (e.2 2532 a _ hc (by decide) h.n2532).1, (e.2 12533 a _ hc (by decide) h.n12533).1, (e.2 12534 a _ hc (by decide) h.n12534).1, (e.2 2536 a _ hc (by decide) h.n2536).1, (e.2 2537 a _ hc (by decide) h.n2537).1, (e.2 2538 a _ hc (by decide) h.n2538).1, (e.2 2539 a _ hc (by decide) h.n2539).1, (e.2 2540 a _ hc (by decide) h.n2540).1, (e.2 12541 a _ hc (by decide) h.n12541).1, (e.2 2542 a _ hc (by decide) h.n2542).1, (e.2 2543 a _ hc (by decide) h.n2543).1, (e.2 2544 a _ hc (by decide) h.n2544).1, (e.2 2545 a _ hc (by decide) h.n2545).1, (e.2 2546 a _ hc (by decide) h.n2546).1, (e.2 2547 a _ hc (by decide) h.n2547).1, (e.2 2548 a _ hc (by decide) h.n2548).1, (e.2 2549 a _ hc (by decide) h.n2549).1, (e.2 2550 a _ hc (by decide) h.n2550).1, (e.2 12551 a _ hc (by decide) h.n12551).1, (e.2 2553 a _ hc (by decide) h.n2553).1, (e.2 2554 a _ hc (by decide) h.n2554).1, (e.2 2555 a _ hc (by decide) h.n2555).1, (e.2 2556 a _ hc (by decide) h.n2556).1, (e.2 2557 a _ hc (by decide) h.n2557).1, (e.2 2558 a _ hc (by decide) h.n2558).1, (e.2 2559 a _ hc (by decide) h.n2559).1, (e.2 2560 a _ hc (by decide) h.n2560).1, (e.2 12561 a _ hc (by decide) h.n12561).1, (e.2 2562 a _ hc (by decide) h.n2562).1, (e.2 2563 a _ hc (by decide) h.n2563).1, (e.2 2568 a _ hc (by decide) h.n2568).1, (e.2 2575 a _ hc (by decide) h.n2575).1, (e.2 22576 a _ hc (by decide) h.n22576).1, (e.2 12577 a _ hc (by decide) h.n12577).1, (e.2 12578 a _ hc (by decide) h.n12578).1⟩
theorem ok24.d2509 {σ τ : wS} {a : Nat} (h : ok24 σ a) (e : Ext σ τ) : aD τ 2509 a = aD σ 2509 a := (e.2 2509 a _ (by rw [h.C]; decide) (by decide) h.n2509).2
theorem ok24.d2510 {σ τ : wS} {a : Nat} (h : ok24 σ a) (e : Ext σ τ) : aD τ 2510 a = aD σ 2510 a := (e.2 2510 a _ (by rw [h.C]; decide) (by decide) h.n2510).2
theorem ok24.d2511 {σ τ : wS} {a : Nat} (h : ok24 σ a) (e : Ext σ τ) : aD τ 2511 a = aD σ 2511 a := (e.2 2511 a _ (by rw [h.C]; decide) (by decide) h.n2511).2
theorem ok24.d2512 {σ τ : wS} {a : Nat} (h : ok24 σ a) (e : Ext σ τ) : aD τ 2512 a = aD σ 2512 a := (e.2 2512 a _ (by rw [h.C]; decide) (by decide) h.n2512).2
theorem ok24.d2513 {σ τ : wS} {a : Nat} (h : ok24 σ a) (e : Ext σ τ) : aD τ 2513 a = aD σ 2513 a := (e.2 2513 a _ (by rw [h.C]; decide) (by decide) h.n2513).2
theorem ok24.d2514 {σ τ : wS} {a : Nat} (h : ok24 σ a) (e : Ext σ τ) : aD τ 2514 a = aD σ 2514 a := (e.2 2514 a _ (by rw [h.C]; decide) (by decide) h.n2514).2
theorem ok24.d2515 {σ τ : wS} {a : Nat} (h : ok24 σ a) (e : Ext σ τ) : aD τ 2515 a = aD σ 2515 a := (e.2 2515 a _ (by rw [h.C]; decide) (by decide) h.n2515).2
theorem ok24.d2516 {σ τ : wS} {a : Nat} (h : ok24 σ a) (e : Ext σ τ) : aD τ 2516 a = aD σ 2516 a := (e.2 2516 a _ (by rw [h.C]; decide) (by decide) h.n2516).2
theorem ok24.d2517 {σ τ : wS} {a : Nat} (h : ok24 σ a) (e : Ext σ τ) : aD τ 2517 a = aD σ 2517 a := (e.2 2517 a _ (by rw [h.C]; decide) (by decide) h.n2517).2
theorem ok24.d2518 {σ τ : wS} {a : Nat} (h : ok24 σ a) (e : Ext σ τ) : aD τ 2518 a = aD σ 2518 a := (e.2 2518 a _ (by rw [h.C]; decide) (by decide) h.n2518).2
theorem ok24.d2519 {σ τ : wS} {a : Nat} (h : ok24 σ a) (e : Ext σ τ) : aD τ 2519 a = aD σ 2519 a := (e.2 2519 a _ (by rw [h.C]; decide) (by decide) h.n2519).2
theorem ok24.d2520 {σ τ : wS} {a : Nat} (h : ok24 σ a) (e : Ext σ τ) : aD τ 2520 a = aD σ 2520 a := (e.2 2520 a _ (by rw [h.C]; decide) (by decide) h.n2520).2
theorem ok24.d22521 {σ τ : wS} {a : Nat} (h : ok24 σ a) (e : Ext σ τ) : aD τ 22521 a = aD σ 22521 a := (e.2 22521 a _ (by rw [h.C]; decide) (by decide) h.n22521).2
theorem ok24.d22522 {σ τ : wS} {a : Nat} (h : ok24 σ a) (e : Ext σ τ) : aD τ 22522 a = aD σ 22522 a := (e.2 22522 a _ (by rw [h.C]; decide) (by decide) h.n22522).2
theorem ok24.d2523 {σ τ : wS} {a : Nat} (h : ok24 σ a) (e : Ext σ τ) : aD τ 2523 a = aD σ 2523 a := (e.2 2523 a _ (by rw [h.C]; decide) (by decide) h.n2523).2
theorem ok24.d2524 {σ τ : wS} {a : Nat} (h : ok24 σ a) (e : Ext σ τ) : aD τ 2524 a = aD σ 2524 a := (e.2 2524 a _ (by rw [h.C]; decide) (by decide) h.n2524).2
theorem ok24.d2525 {σ τ : wS} {a : Nat} (h : ok24 σ a) (e : Ext σ τ) : aD τ 2525 a = aD σ 2525 a := (e.2 2525 a _ (by rw [h.C]; decide) (by decide) h.n2525).2
theorem ok24.d2526 {σ τ : wS} {a : Nat} (h : ok24 σ a) (e : Ext σ τ) : aD τ 2526 a = aD σ 2526 a := (e.2 2526 a _ (by rw [h.C]; decide) (by decide) h.n2526).2
theorem ok24.d2527 {σ τ : wS} {a : Nat} (h : ok24 σ a) (e : Ext σ τ) : aD τ 2527 a = aD σ 2527 a := (e.2 2527 a _ (by rw [h.C]; decide) (by decide) h.n2527).2
theorem ok24.d12528 {σ τ : wS} {a : Nat} (h : ok24 σ a) (e : Ext σ τ) : aD τ 12528 a = aD σ 12528 a := (e.2 12528 a _ (by rw [h.C]; decide) (by decide) h.n12528).2
theorem ok24.d12529 {σ τ : wS} {a : Nat} (h : ok24 σ a) (e : Ext σ τ) : aD τ 12529 a = aD σ 12529 a := (e.2 12529 a _ (by rw [h.C]; decide) (by decide) h.n12529).2
theorem ok24.d2530 {σ τ : wS} {a : Nat} (h : ok24 σ a) (e : Ext σ τ) : aD τ 2530 a = aD σ 2530 a := (e.2 2530 a _ (by rw [h.C]; decide) (by decide) h.n2530).2
theorem ok24.d2531 {σ τ : wS} {a : Nat} (h : ok24 σ a) (e : Ext σ τ) : aD τ 2531 a = aD σ 2531 a := (e.2 2531 a _ (by rw [h.C]; decide) (by decide) h.n2531).2
theorem ok24.d2532 {σ τ : wS} {a : Nat} (h : ok24 σ a) (e : Ext σ τ) : aD τ 2532 a = aD σ 2532 a := (e.2 2532 a _ (by rw [h.C]; decide) (by decide) h.n2532).2
theorem ok24.d12533 {σ τ : wS} {a : Nat} (h : ok24 σ a) (e : Ext σ τ) : aD τ 12533 a = aD σ 12533 a := (e.2 12533 a _ (by rw [h.C]; decide) (by decide) h.n12533).2
theorem ok24.d12534 {σ τ : wS} {a : Nat} (h : ok24 σ a) (e : Ext σ τ) : aD τ 12534 a = aD σ 12534 a := (e.2 12534 a _ (by rw [h.C]; decide) (by decide) h.n12534).2
theorem ok24.d2536 {σ τ : wS} {a : Nat} (h : ok24 σ a) (e : Ext σ τ) : aD τ 2536 a = aD σ 2536 a := (e.2 2536 a _ (by rw [h.C]; decide) (by decide) h.n2536).2
theorem ok24.d2537 {σ τ : wS} {a : Nat} (h : ok24 σ a) (e : Ext σ τ) : aD τ 2537 a = aD σ 2537 a := (e.2 2537 a _ (by rw [h.C]; decide) (by decide) h.n2537).2
theorem ok24.d2538 {σ τ : wS} {a : Nat} (h : ok24 σ a) (e : Ext σ τ) : aD τ 2538 a = aD σ 2538 a := (e.2 2538 a _ (by rw [h.C]; decide) (by decide) h.n2538).2
theorem ok24.d2539 {σ τ : wS} {a : Nat} (h : ok24 σ a) (e : Ext σ τ) : aD τ 2539 a = aD σ 2539 a := (e.2 2539 a _ (by rw [h.C]; decide) (by decide) h.n2539).2
theorem ok24.d2540 {σ τ : wS} {a : Nat} (h : ok24 σ a) (e : Ext σ τ) : aD τ 2540 a = aD σ 2540 a := (e.2 2540 a _ (by rw [h.C]; decide) (by decide) h.n2540).2
theorem ok24.d12541 {σ τ : wS} {a : Nat} (h : ok24 σ a) (e : Ext σ τ) : aD τ 12541 a = aD σ 12541 a := (e.2 12541 a _ (by rw [h.C]; decide) (by decide) h.n12541).2
theorem ok24.d2542 {σ τ : wS} {a : Nat} (h : ok24 σ a) (e : Ext σ τ) : aD τ 2542 a = aD σ 2542 a := (e.2 2542 a _ (by rw [h.C]; decide) (by decide) h.n2542).2
theorem ok24.d2543 {σ τ : wS} {a : Nat} (h : ok24 σ a) (e : Ext σ τ) : aD τ 2543 a = aD σ 2543 a := (e.2 2543 a _ (by rw [h.C]; decide) (by decide) h.n2543).2
theorem ok24.d2544 {σ τ : wS} {a : Nat} (h : ok24 σ a) (e : Ext σ τ) : aD τ 2544 a = aD σ 2544 a := (e.2 2544 a _ (by rw [h.C]; decide) (by decide) h.n2544).2
theorem ok24.d2545 {σ τ : wS} {a : Nat} (h : ok24 σ a) (e : Ext σ τ) : aD τ 2545 a = aD σ 2545 a := (e.2 2545 a _ (by rw [h.C]; decide) (by decide) h.n2545).2
theorem ok24.d2546 {σ τ : wS} {a : Nat} (h : ok24 σ a) (e : Ext σ τ) : aD τ 2546 a = aD σ 2546 a := (e.2 2546 a _ (by rw [h.C]; decide) (by decide) h.n2546).2
theorem ok24.d2547 {σ τ : wS} {a : Nat} (h : ok24 σ a) (e : Ext σ τ) : aD τ 2547 a = aD σ 2547 a := (e.2 2547 a _ (by rw [h.C]; decide) (by decide) h.n2547).2
theorem ok24.d2548 {σ τ : wS} {a : Nat} (h : ok24 σ a) (e : Ext σ τ) : aD τ 2548 a = aD σ 2548 a := (e.2 2548 a _ (by rw [h.C]; decide) (by decide) h.n2548).2
theorem ok24.d2549 {σ τ : wS} {a : Nat} (h : ok24 σ a) (e : Ext σ τ) : aD τ 2549 a = aD σ 2549 a := (e.2 2549 a _ (by rw [h.C]; decide) (by decide) h.n2549).2
theorem ok24.d2550 {σ τ : wS} {a : Nat} (h : ok24 σ a) (e : Ext σ τ) : aD τ 2550 a = aD σ 2550 a := (e.2 2550 a _ (by rw [h.C]; decide) (by decide) h.n2550).2
theorem ok24.d12551 {σ τ : wS} {a : Nat} (h : ok24 σ a) (e : Ext σ τ) : aD τ 12551 a = aD σ 12551 a := (e.2 12551 a _ (by rw [h.C]; decide) (by decide) h.n12551).2
theorem ok24.d2553 {σ τ : wS} {a : Nat} (h : ok24 σ a) (e : Ext σ τ) : aD τ 2553 a = aD σ 2553 a := (e.2 2553 a _ (by rw [h.C]; decide) (by decide) h.n2553).2
theorem ok24.d2554 {σ τ : wS} {a : Nat} (h : ok24 σ a) (e : Ext σ τ) : aD τ 2554 a = aD σ 2554 a := (e.2 2554 a _ (by rw [h.C]; decide) (by decide) h.n2554).2
theorem ok24.d2555 {σ τ : wS} {a : Nat} (h : ok24 σ a) (e : Ext σ τ) : aD τ 2555 a = aD σ 2555 a := (e.2 2555 a _ (by rw [h.C]; decide) (by decide) h.n2555).2
theorem ok24.d2556 {σ τ : wS} {a : Nat} (h : ok24 σ a) (e : Ext σ τ) : aD τ 2556 a = aD σ 2556 a := (e.2 2556 a _ (by rw [h.C]; decide) (by decide) h.n2556).2
theorem ok24.d2557 {σ τ : wS} {a : Nat} (h : ok24 σ a) (e : Ext σ τ) : aD τ 2557 a = aD σ 2557 a := (e.2 2557 a _ (by rw [h.C]; decide) (by decide) h.n2557).2
theorem ok24.d2558 {σ τ : wS} {a : Nat} (h : ok24 σ a) (e : Ext σ τ) : aD τ 2558 a = aD σ 2558 a := (e.2 2558 a _ (by rw [h.C]; decide) (by decide) h.n2558).2
theorem ok24.d2559 {σ τ : wS} {a : Nat} (h : ok24 σ a) (e : Ext σ τ) : aD τ 2559 a = aD σ 2559 a := (e.2 2559 a _ (by rw [h.C]; decide) (by decide) h.n2559).2
theorem ok24.d2560 {σ τ : wS} {a : Nat} (h : ok24 σ a) (e : Ext σ τ) : aD τ 2560 a = aD σ 2560 a := (e.2 2560 a _ (by rw [h.C]; decide) (by decide) h.n2560).2
theorem ok24.d12561 {σ τ : wS} {a : Nat} (h : ok24 σ a) (e : Ext σ τ) : aD τ 12561 a = aD σ 12561 a := (e.2 12561 a _ (by rw [h.C]; decide) (by decide) h.n12561).2
theorem ok24.d2562 {σ τ : wS} {a : Nat} (h : ok24 σ a) (e : Ext σ τ) : aD τ 2562 a = aD σ 2562 a := (e.2 2562 a _ (by rw [h.C]; decide) (by decide) h.n2562).2
theorem ok24.d2563 {σ τ : wS} {a : Nat} (h : ok24 σ a) (e : Ext σ τ) : aD τ 2563 a = aD σ 2563 a := (e.2 2563 a _ (by rw [h.C]; decide) (by decide) h.n2563).2
theorem ok24.d2568 {σ τ : wS} {a : Nat} (h : ok24 σ a) (e : Ext σ τ) : aD τ 2568 a = aD σ 2568 a := (e.2 2568 a _ (by rw [h.C]; decide) (by decide) h.n2568).2
theorem ok24.d2575 {σ τ : wS} {a : Nat} (h : ok24 σ a) (e : Ext σ τ) : aD τ 2575 a = aD σ 2575 a := (e.2 2575 a _ (by rw [h.C]; decide) (by decide) h.n2575).2
theorem ok24.d22576 {σ τ : wS} {a : Nat} (h : ok24 σ a) (e : Ext σ τ) : aD τ 22576 a = aD σ 22576 a := (e.2 22576 a _ (by rw [h.C]; decide) (by decide) h.n22576).2
theorem ok24.d12577 {σ τ : wS} {a : Nat} (h : ok24 σ a) (e : Ext σ τ) : aD τ 12577 a = aD σ 12577 a := (e.2 12577 a _ (by rw [h.C]; decide) (by decide) h.n12577).2
theorem ok24.d12578 {σ τ : wS} {a : Nat} (h : ok24 σ a) (e : Ext σ τ) : aD τ 12578 a = aD σ 12578 a := (e.2 12578 a _ (by rw [h.C]; decide) (by decide) h.n12578).2
def ok25 (σ : wS) (a : Nat) : Prop := oC σ a = 26
theorem ok25.C {σ : wS} {a : Nat} (h : ok25 σ a) : oC σ a = 26 := h
theorem ok25.ext {σ τ : wS} {a : Nat} (h : ok25 σ a) (e : Ext σ τ) : ok25 τ a := by
  exact e.C h
def ok27 (σ : wS) (a : Nat) : Prop := oC σ a = 28
theorem ok27.C {σ : wS} {a : Nat} (h : ok27 σ a) : oC σ a = 28 := h
theorem ok27.ext {σ τ : wS} {a : Nat} (h : ok27 σ a) (e : Ext σ τ) : ok27 τ a := by
  exact e.C h
def ok28 (σ : wS) (a : Nat) : Prop := oC σ a = 29
theorem ok28.C {σ : wS} {a : Nat} (h : ok28 σ a) : oC σ a = 29 := h
theorem ok28.ext {σ τ : wS} {a : Nat} (h : ok28 σ a) (e : Ext σ τ) : ok28 τ a := by
  exact e.C h
def ok29 (σ : wS) (a : Nat) : Prop := oC σ a = 30
theorem ok29.C {σ : wS} {a : Nat} (h : ok29 σ a) : oC σ a = 30 := h
theorem ok29.ext {σ τ : wS} {a : Nat} (h : ok29 σ a) (e : Ext σ τ) : ok29 τ a := by
  exact e.C h
def ok30 (σ : wS) (a : Nat) : Prop := oC σ a = 31
theorem ok30.C {σ : wS} {a : Nat} (h : ok30 σ a) : oC σ a = 31 := h
theorem ok30.ext {σ τ : wS} {a : Nat} (h : ok30 σ a) (e : Ext σ τ) : ok30 τ a := by
  exact e.C h
def ok31 (σ : wS) (a : Nat) : Prop := oC σ a = 32
theorem ok31.C {σ : wS} {a : Nat} (h : ok31 σ a) : oC σ a = 32 := h
theorem ok31.ext {σ τ : wS} {a : Nat} (h : ok31 σ a) (e : Ext σ τ) : ok31 τ a := by
  exact e.C h
def ok33 (σ : wS) (a : Nat) : Prop := oC σ a = 34
theorem ok33.C {σ : wS} {a : Nat} (h : ok33 σ a) : oC σ a = 34 := h
theorem ok33.ext {σ τ : wS} {a : Nat} (h : ok33 σ a) (e : Ext σ τ) : ok33 τ a := by
  exact e.C h
def ok35 (σ : wS) (a : Nat) : Prop := oC σ a = 36
theorem ok35.C {σ : wS} {a : Nat} (h : ok35 σ a) : oC σ a = 36 := h
theorem ok35.ext {σ τ : wS} {a : Nat} (h : ok35 σ a) (e : Ext σ τ) : ok35 τ a := by
  exact e.C h
def ok36 (σ : wS) (a : Nat) : Prop := oC σ a = 37
theorem ok36.C {σ : wS} {a : Nat} (h : ok36 σ a) : oC σ a = 37 := h
theorem ok36.ext {σ τ : wS} {a : Nat} (h : ok36 σ a) (e : Ext σ τ) : ok36 τ a := by
  exact e.C h
def ok37 (σ : wS) (a : Nat) : Prop := oC σ a = 38
theorem ok37.C {σ : wS} {a : Nat} (h : ok37 σ a) : oC σ a = 38 := h
theorem ok37.ext {σ τ : wS} {a : Nat} (h : ok37 σ a) (e : Ext σ τ) : ok37 τ a := by
  exact e.C h
def ok38 (σ : wS) (a : Nat) : Prop := oC σ a = 39
theorem ok38.C {σ : wS} {a : Nat} (h : ok38 σ a) : oC σ a = 39 := h
theorem ok38.ext {σ τ : wS} {a : Nat} (h : ok38 σ a) (e : Ext σ τ) : ok38 τ a := by
  exact e.C h
def ok39 (σ : wS) (a : Nat) : Prop := oC σ a = 40
theorem ok39.C {σ : wS} {a : Nat} (h : ok39 σ a) : oC σ a = 40 := h
theorem ok39.ext {σ τ : wS} {a : Nat} (h : ok39 σ a) (e : Ext σ τ) : ok39 τ a := by
  exact e.C h
def ok40 (σ : wS) (a : Nat) : Prop := oC σ a = 41
theorem ok40.C {σ : wS} {a : Nat} (h : ok40 σ a) : oC σ a = 41 := h
theorem ok40.ext {σ τ : wS} {a : Nat} (h : ok40 σ a) (e : Ext σ τ) : ok40 τ a := by
  exact e.C h
def ok42 (σ : wS) (a : Nat) : Prop := oC σ a = 43
theorem ok42.C {σ : wS} {a : Nat} (h : ok42 σ a) : oC σ a = 43 := h
theorem ok42.ext {σ τ : wS} {a : Nat} (h : ok42 σ a) (e : Ext σ τ) : ok42 τ a := by
  exact e.C h
def ok43 (σ : wS) (a : Nat) : Prop := oC σ a = 44
theorem ok43.C {σ : wS} {a : Nat} (h : ok43 σ a) : oC σ a = 44 := h
theorem ok43.ext {σ τ : wS} {a : Nat} (h : ok43 σ a) (e : Ext σ τ) : ok43 τ a := by
  exact e.C h
def ok44 (σ : wS) (a : Nat) : Prop := oC σ a = 45
theorem ok44.C {σ : wS} {a : Nat} (h : ok44 σ a) : oC σ a = 45 := h
theorem ok44.ext {σ τ : wS} {a : Nat} (h : ok44 σ a) (e : Ext σ τ) : ok44 τ a := by
  exact e.C h
def ok45 (σ : wS) (a : Nat) : Prop := oC σ a = 46
theorem ok45.C {σ : wS} {a : Nat} (h : ok45 σ a) : oC σ a = 46 := h
theorem ok45.ext {σ τ : wS} {a : Nat} (h : ok45 σ a) (e : Ext σ τ) : ok45 τ a := by
  exact e.C h
def ok46 (σ : wS) (a : Nat) : Prop := oC σ a = 47 ∧ aN σ 114700 a = some 120
theorem ok46.C {σ : wS} {a : Nat} (h : ok46 σ a) : oC σ a = 47 := h.1
theorem ok46.n114700 {σ : wS} {a : Nat} (h : ok46 σ a) : aN σ 114700 a = some 120 := h.2
theorem ok46.ext {σ τ : wS} {a : Nat} (h : ok46 σ a) (e : Ext σ τ) : ok46 τ a := by
  have hc : oC σ a ≠ 0 := by rw [h.C]; decide
  exact ⟨e.C h.C, (e.2 114700 a _ hc (by decide) h.n114700).1⟩
theorem ok46.d114700 {σ τ : wS} {a : Nat} (h : ok46 σ a) (e : Ext σ τ) : aD τ 114700 a = aD σ 114700 a := (e.2 114700 a _ (by rw [h.C]; decide) (by decide) h.n114700).2
def ok47 (σ : wS) (a : Nat) : Prop := oC σ a = 48
theorem ok47.C {σ : wS} {a : Nat} (h : ok47 σ a) : oC σ a = 48 := h
theorem ok47.ext {σ τ : wS} {a : Nat} (h : ok47 σ a) (e : Ext σ τ) : ok47 τ a := by
  exact e.C h
def ok48 (σ : wS) (a : Nat) : Prop := oC σ a = 49 ∧ aN σ 44900 a = some 1200
theorem ok48.C {σ : wS} {a : Nat} (h : ok48 σ a) : oC σ a = 49 := h.1
theorem ok48.n44900 {σ : wS} {a : Nat} (h : ok48 σ a) : aN σ 44900 a = some 1200 := h.2
theorem ok48.ext {σ τ : wS} {a : Nat} (h : ok48 σ a) (e : Ext σ τ) : ok48 τ a := by
  have hc : oC σ a ≠ 0 := by rw [h.C]; decide
  exact ⟨e.C h.C, (e.2 44900 a _ hc (by decide) h.n44900).1⟩
theorem ok48.d44900 {σ τ : wS} {a : Nat} (h : ok48 σ a) (e : Ext σ τ) : aD τ 44900 a = aD σ 44900 a := (e.2 44900 a _ (by rw [h.C]; decide) (by decide) h.n44900).2
