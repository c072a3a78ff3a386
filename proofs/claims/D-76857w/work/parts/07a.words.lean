/-! words of the tables that belong to no class of ours (starting text: claim/names/words.*) -/
set_option maxRecDepth 100000
theorem q126 : (Jvm.Cond.initialized "FreightRoadsLaw") ∈ lw_all := lw_g (lw_at lw_m1 0 rfl) rfl
theorem q198 : (Jvm.Cond.classLink "FreightRoadsLaw" (7 : Nat) "FreightRoads") ∈ lw_all := lw_g (lw_at lw_m1 72 rfl) rfl
theorem q200 : (Jvm.Cond.methodLink "FreightRoadsLaw" (9 : Nat) ({ cls := "FreightRoads", name := "<init>", desc := "()V" } : Jvm.MethodName)) ∈ lw_all := lw_g (lw_at lw_m1 74 rfl) rfl
theorem q1322 : (Jvm.Cond.methodLink "FreightRoadsLaw" (61 : Nat) ({ cls := "FreightRoads", name := "back", desc := "()I" } : Jvm.MethodName)) ∈ lw_all := lw_g (lw_at lw_m5 236 rfl) rfl
theorem q1416 : (Jvm.Cond.methodLink "FreightRoadsLaw" (13 : Nat) ({ cls := "FreightRoads", name := "towns", desc := "(I)I" } : Jvm.MethodName)) ∈ lw_all := lw_g (lw_at lw_m6 90 rfl) rfl
theorem q1484 : (Jvm.Cond.methodLink "FreightRoadsLaw" (18 : Nat) ({ cls := "FreightRoads", name := "supply", desc := "(II)I" } : Jvm.MethodName)) ∈ lw_all := lw_g (lw_at lw_m6 158 rfl) rfl
theorem q1494 : (Jvm.Cond.methodLink "FreightRoadsLaw" (25 : Nat) ({ cls := "FreightRoads", name := "road", desc := "(IIIIJ)I" } : Jvm.MethodName)) ∈ lw_all := lw_g (lw_at lw_m6 168 rfl) rfl
theorem q1511 : (Jvm.Cond.methodLink "FreightRoadsLaw" (30 : Nat) ({ cls := "FreightRoads", name := "alter", desc := "(IIIJ)I" } : Jvm.MethodName)) ∈ lw_all := lw_g (lw_at lw_m6 185 rfl) rfl
theorem q1520 : (Jvm.Cond.methodLink "FreightRoadsLaw" (35 : Nat) ({ cls := "FreightRoads", name := "close", desc := "(I)I" } : Jvm.MethodName)) ∈ lw_all := lw_g (lw_at lw_m6 194 rfl) rfl
theorem q1934 : (Jvm.Cond.methodLink "FreightRoadsLaw" (39 : Nat) ({ cls := "FreightRoads", name := "of", desc := "(II)J" } : Jvm.MethodName)) ∈ lw_all := lw_g (lw_at lw_m8 128 rfl) rfl
theorem q1944 : (Jvm.Cond.methodLink "FreightRoadsLaw" (44 : Nat) ({ cls := "FreightRoads", name := "feed", desc := "(I)I" } : Jvm.MethodName)) ∈ lw_all := lw_g (lw_at lw_m8 138 rfl) rfl
theorem q1949 : (Jvm.Cond.methodLink "FreightRoadsLaw" (48 : Nat) ({ cls := "FreightRoads", name := "clear", desc := "()I" } : Jvm.MethodName)) ∈ lw_all := lw_g (lw_at lw_m8 143 rfl) rfl
theorem q1953 : (Jvm.Cond.methodLink "FreightRoadsLaw" (171 : Nat) ({ cls := "FreightRoads", name := "paper", desc := "(I)I" } : Jvm.MethodName)) ∈ lw_all := lw_g (lw_at lw_m8 147 rfl) rfl
theorem q1981 : (Jvm.Cond.methodLink "FreightRoadsLaw" (53 : Nat) ({ cls := "FreightRoads", name := "roads", desc := "()I" } : Jvm.MethodName)) ∈ lw_all := lw_g (lw_at lw_m8 175 rfl) rfl
theorem q2042 : (Jvm.Cond.methodLink "FreightRoadsLaw" (57 : Nat) ({ cls := "FreightRoads", name := "supplies", desc := "()I" } : Jvm.MethodName)) ∈ lw_all := lw_g (lw_at lw_m8 236 rfl) rfl
theorem q2049 : (Jvm.Cond.methodLink "FreightRoadsLaw" (65 : Nat) ({ cls := "FreightRoads", name := "is", desc := "()I" } : Jvm.MethodName)) ∈ lw_all := lw_g (lw_at lw_m9 3 rfl) rfl
theorem q2262 : (Jvm.Cond.methodLink "FreightRoadsLaw" (69 : Nat) ({ cls := "FreightRoads", name := "flow", desc := "(I)I" } : Jvm.MethodName)) ∈ lw_all := lw_g (lw_at lw_m9 216 rfl) rfl
theorem q2266 : (Jvm.Cond.methodLink "FreightRoadsLaw" (73 : Nat) ({ cls := "FreightRoads", name := "total", desc := "()J" } : Jvm.MethodName)) ∈ lw_all := lw_g (lw_at lw_m9 220 rfl) rfl
theorem q2270 : (Jvm.Cond.methodLink "FreightRoadsLaw" (78 : Nat) ({ cls := "FreightRoads", name := "price", desc := "(I)J" } : Jvm.MethodName)) ∈ lw_all := lw_g (lw_at lw_m9 224 rfl) rfl
theorem q2313 : (Jvm.Cond.methodLink "FreightRoadsLaw" (83 : Nat) ({ cls := "FreightRoads", name := "reduced", desc := "(I)J" } : Jvm.MethodName)) ∈ lw_all := lw_g (lw_at lw_m10 27 rfl) rfl
theorem q2318 : (Jvm.Cond.methodLink "FreightRoadsLaw" (87 : Nat) ({ cls := "FreightRoads", name := "dear", desc := "(I)I" } : Jvm.MethodName)) ∈ lw_all := lw_g (lw_at lw_m10 32 rfl) rfl
theorem q2539 : (Jvm.Cond.methodLink "FreightRoadsLaw" (91 : Nat) ({ cls := "FreightRoads", name := "cut", desc := "()I" } : Jvm.MethodName)) ∈ lw_all := lw_g (lw_at lw_m11 13 rfl) rfl
theorem q2548 : (Jvm.Cond.methodLink "FreightRoadsLaw" (95 : Nat) ({ cls := "FreightRoads", name := "step", desc := "(II)I" } : Jvm.MethodName)) ∈ lw_all := lw_g (lw_at lw_m11 22 rfl) rfl
theorem q2556 : (Jvm.Cond.methodLink "FreightRoadsLaw" (99 : Nat) ({ cls := "FreightRoads", name := "wider", desc := "(II)J" } : Jvm.MethodName)) ∈ lw_all := lw_g (lw_at lw_m11 30 rfl) rfl
theorem q2579 : (Jvm.Cond.methodLink "FreightRoadsLaw" (103 : Nat) ({ cls := "FreightRoads", name := "without", desc := "(I)J" } : Jvm.MethodName)) ∈ lw_all := lw_g (lw_at lw_m11 53 rfl) rfl
theorem q2591 : (Jvm.Cond.methodLink "FreightRoadsLaw" (107 : Nat) ({ cls := "FreightRoads", name := "adding", desc := "(IIIJ)J" } : Jvm.MethodName)) ∈ lw_all := lw_g (lw_at lw_m11 65 rfl) rfl
theorem q2597 : (Jvm.Cond.methodLink "FreightRoadsLaw" (112 : Nat) ({ cls := "FreightRoads", name := "sent", desc := "(III)J" } : Jvm.MethodName)) ∈ lw_all := lw_g (lw_at lw_m11 71 rfl) rfl
theorem q2606 : (Jvm.Cond.methodLink "FreightRoadsLaw" (117 : Nat) ({ cls := "FreightRoads", name := "greatest", desc := "(II)I" } : Jvm.MethodName)) ∈ lw_all := lw_g (lw_at lw_m11 80 rfl) rfl
theorem q2660 : (Jvm.Cond.methodLink "FreightRoadsLaw" (121 : Nat) ({ cls := "FreightRoads", name := "stretch", desc := "(IIII)J" } : Jvm.MethodName)) ∈ lw_all := lw_g (lw_at lw_m11 134 rfl) rfl
theorem q2797 : (Jvm.Cond.methodLink "FreightRoadsLaw" (126 : Nat) ({ cls := "FreightRoads", name := "stretches", desc := "(II)I" } : Jvm.MethodName)) ∈ lw_all := lw_g (lw_at lw_m12 31 rfl) rfl
theorem q2802 : (Jvm.Cond.methodLink "FreightRoadsLaw" (130 : Nat) ({ cls := "FreightRoads", name := "dearest", desc := "()I" } : Jvm.MethodName)) ∈ lw_all := lw_g (lw_at lw_m12 36 rfl) rfl
theorem q2811 : (Jvm.Cond.methodLink "FreightRoadsLaw" (138 : Nat) ({ cls := "FreightRoads", name := "judge", desc := "(II)I" } : Jvm.MethodName)) ∈ lw_all := lw_g (lw_at lw_m12 45 rfl) rfl
theorem q2847 : (Jvm.Cond.methodLink "FreightRoadsLaw" (142 : Nat) ({ cls := "FreightRoads", name := "ring", desc := "(III)I" } : Jvm.MethodName)) ∈ lw_all := lw_g (lw_at lw_m12 81 rfl) rfl
theorem q2851 : (Jvm.Cond.methodLink "FreightRoadsLaw" (147 : Nat) ({ cls := "FreightRoads", name := "gain", desc := "(II)J" } : Jvm.MethodName)) ∈ lw_all := lw_g (lw_at lw_m12 85 rfl) rfl
theorem q2855 : (Jvm.Cond.methodLink "FreightRoadsLaw" (151 : Nat) ({ cls := "FreightRoads", name := "mend", desc := "(II)I" } : Jvm.MethodName)) ∈ lw_all := lw_g (lw_at lw_m12 89 rfl) rfl
theorem q2870 : (Jvm.Cond.methodLink "FreightRoadsLaw" (155 : Nat) ({ cls := "FreightRoads", name := "parts", desc := "()I" } : Jvm.MethodName)) ∈ lw_all := lw_g (lw_at lw_m12 104 rfl) rfl
theorem q2918 : (Jvm.Cond.methodLink "FreightRoadsLaw" (159 : Nat) ({ cls := "FreightRoads", name := "part", desc := "(II)I" } : Jvm.MethodName)) ∈ lw_all := lw_g (lw_at lw_m12 152 rfl) rfl
theorem q2924 : (Jvm.Cond.methodLink "FreightRoadsLaw" (163 : Nat) ({ cls := "FreightRoads", name := "partCost", desc := "(I)J" } : Jvm.MethodName)) ∈ lw_all := lw_g (lw_at lw_m12 158 rfl) rfl
theorem q2928 : (Jvm.Cond.methodLink "FreightRoadsLaw" (167 : Nat) ({ cls := "FreightRoads", name := "spell", desc := "()I" } : Jvm.MethodName)) ∈ lw_all := lw_g (lw_at lw_m12 162 rfl) rfl
theorem q2952 : (Jvm.Cond.methodLink "FreightRoadsLaw" (175 : Nat) ({ cls := "FreightRoads", name := "told", desc := "(I)J" } : Jvm.MethodName)) ∈ lw_all := lw_g (lw_at lw_m12 186 rfl) rfl
theorem q2975 : (Jvm.Cond.methodLink "FreightRoadsLaw" (179 : Nat) ({ cls := "FreightRoads", name := "list", desc := "(II)I" } : Jvm.MethodName)) ∈ lw_all := lw_g (lw_at lw_m12 209 rfl) rfl
theorem q2980 : (Jvm.Cond.methodLink "FreightRoadsLaw" (183 : Nat) ({ cls := "FreightRoads", name := "set", desc := "(IIJ)I" } : Jvm.MethodName)) ∈ lw_all := lw_g (lw_at lw_m12 214 rfl) rfl
theorem q3005 : (Jvm.Cond.methodLink "FreightRoadsLaw" (188 : Nat) ({ cls := "FreightRoads", name := "get", desc := "(II)J" } : Jvm.MethodName)) ∈ lw_all := lw_g (lw_at lw_m12 239 rfl) rfl
theorem q3009 : (Jvm.Cond.methodLink "FreightRoadsLaw" (134 : Nat) ({ cls := "FreightRoads", name := "lay", desc := "(II)I" } : Jvm.MethodName)) ∈ lw_all := lw_g (lw_at lw_m13 3 rfl) rfl
theorem q3013 : (Jvm.Cond.methodLink "FreightRoadsLaw" (192 : Nat) ({ cls := "FreightRoads", name := "image", desc := "()I" } : Jvm.MethodName)) ∈ lw_all := lw_g (lw_at lw_m13 7 rfl) rfl
theorem q3017 : (Jvm.Cond.methodLink "FreightRoadsLaw" (196 : Nat) ({ cls := "FreightRoads", name := "undo", desc := "()I" } : Jvm.MethodName)) ∈ lw_all := lw_g (lw_at lw_m13 11 rfl) rfl
theorem q3028 : (Jvm.Cond.classLink "FreightRoadsLaw" (10 : Nat) "FreightRoadsModel") ∈ lw_all := lw_g (lw_at lw_m13 22 rfl) rfl
theorem q3030 : (Jvm.Cond.methodLink "FreightRoadsLaw" (12 : Nat) ({ cls := "FreightRoadsModel", name := "<init>", desc := "()V" } : Jvm.MethodName)) ∈ lw_all := lw_g (lw_at lw_m13 24 rfl) rfl
theorem q3156 : (Jvm.Cond.methodLink "FreightRoadsLaw" (64 : Nat) ({ cls := "FreightRoadsModel", name := "back", desc := "()I" } : Jvm.MethodName)) ∈ lw_all := lw_g (lw_at lw_m13 150 rfl) rfl
theorem q3166 : (Jvm.Cond.methodLink "FreightRoadsLaw" (17 : Nat) ({ cls := "FreightRoadsModel", name := "towns", desc := "(I)I" } : Jvm.MethodName)) ∈ lw_all := lw_g (lw_at lw_m13 160 rfl) rfl
theorem q3179 : (Jvm.Cond.methodLink "FreightRoadsLaw" (22 : Nat) ({ cls := "FreightRoadsModel", name := "supply", desc := "(II)I" } : Jvm.MethodName)) ∈ lw_all := lw_g (lw_at lw_m13 173 rfl) rfl
theorem q3193 : (Jvm.Cond.methodLink "FreightRoadsLaw" (29 : Nat) ({ cls := "FreightRoadsModel", name := "road", desc := "(IIIIJ)I" } : Jvm.MethodName)) ∈ lw_all := lw_g (lw_at lw_m13 187 rfl) rfl
theorem q3214 : (Jvm.Cond.methodLink "FreightRoadsLaw" (34 : Nat) ({ cls := "FreightRoadsModel", name := "alter", desc := "(IIIJ)I" } : Jvm.MethodName)) ∈ lw_all := lw_g (lw_at lw_m13 208 rfl) rfl
theorem q3230 : (Jvm.Cond.methodLink "FreightRoadsLaw" (38 : Nat) ({ cls := "FreightRoadsModel", name := "close", desc := "(I)I" } : Jvm.MethodName)) ∈ lw_all := lw_g (lw_at lw_m13 224 rfl) rfl
theorem q3246 : (Jvm.Cond.methodLink "FreightRoadsLaw" (43 : Nat) ({ cls := "FreightRoadsModel", name := "of", desc := "(II)J" } : Jvm.MethodName)) ∈ lw_all := lw_g (lw_at lw_m14 0 rfl) rfl
theorem q3251 : (Jvm.Cond.methodLink "FreightRoadsLaw" (47 : Nat) ({ cls := "FreightRoadsModel", name := "feed", desc := "(I)I" } : Jvm.MethodName)) ∈ lw_all := lw_g (lw_at lw_m14 5 rfl) rfl
theorem q3256 : (Jvm.Cond.methodLink "FreightRoadsLaw" (52 : Nat) ({ cls := "FreightRoadsModel", name := "clear", desc := "()I" } : Jvm.MethodName)) ∈ lw_all := lw_g (lw_at lw_m14 10 rfl) rfl
theorem q3260 : (Jvm.Cond.methodLink "FreightRoadsLaw" (56 : Nat) ({ cls := "FreightRoadsModel", name := "roads", desc := "()I" } : Jvm.MethodName)) ∈ lw_all := lw_g (lw_at lw_m14 14 rfl) rfl
theorem q3302 : (Jvm.Cond.methodLink "FreightRoadsLaw" (60 : Nat) ({ cls := "FreightRoadsModel", name := "supplies", desc := "()I" } : Jvm.MethodName)) ∈ lw_all := lw_g (lw_at lw_m14 56 rfl) rfl
theorem q3306 : (Jvm.Cond.methodLink "FreightRoadsLaw" (68 : Nat) ({ cls := "FreightRoadsModel", name := "is", desc := "()I" } : Jvm.MethodName)) ∈ lw_all := lw_g (lw_at lw_m14 60 rfl) rfl
theorem q3374 : (Jvm.Cond.methodLink "FreightRoadsLaw" (72 : Nat) ({ cls := "FreightRoadsModel", name := "flow", desc := "(I)I" } : Jvm.MethodName)) ∈ lw_all := lw_g (lw_at lw_m14 128 rfl) rfl
theorem q3378 : (Jvm.Cond.methodLink "FreightRoadsLaw" (77 : Nat) ({ cls := "FreightRoadsModel", name := "total", desc := "()J" } : Jvm.MethodName)) ∈ lw_all := lw_g (lw_at lw_m14 132 rfl) rfl
theorem q3386 : (Jvm.Cond.methodLink "FreightRoadsLaw" (82 : Nat) ({ cls := "FreightRoadsModel", name := "price", desc := "(I)J" } : Jvm.MethodName)) ∈ lw_all := lw_g (lw_at lw_m14 140 rfl) rfl
theorem q3390 : (Jvm.Cond.methodLink "FreightRoadsLaw" (86 : Nat) ({ cls := "FreightRoadsModel", name := "reduced", desc := "(I)J" } : Jvm.MethodName)) ∈ lw_all := lw_g (lw_at lw_m14 144 rfl) rfl
theorem q3394 : (Jvm.Cond.methodLink "FreightRoadsLaw" (90 : Nat) ({ cls := "FreightRoadsModel", name := "dear", desc := "(I)I" } : Jvm.MethodName)) ∈ lw_all := lw_g (lw_at lw_m14 148 rfl) rfl
theorem q3398 : (Jvm.Cond.methodLink "FreightRoadsLaw" (94 : Nat) ({ cls := "FreightRoadsModel", name := "cut", desc := "()I" } : Jvm.MethodName)) ∈ lw_all := lw_g (lw_at lw_m14 152 rfl) rfl
theorem q3402 : (Jvm.Cond.methodLink "FreightRoadsLaw" (98 : Nat) ({ cls := "FreightRoadsModel", name := "step", desc := "(II)I" } : Jvm.MethodName)) ∈ lw_all := lw_g (lw_at lw_m14 156 rfl) rfl
theorem q3410 : (Jvm.Cond.methodLink "FreightRoadsLaw" (102 : Nat) ({ cls := "FreightRoadsModel", name := "wider", desc := "(II)J" } : Jvm.MethodName)) ∈ lw_all := lw_g (lw_at lw_m14 164 rfl) rfl
theorem q3425 : (Jvm.Cond.methodLink "FreightRoadsLaw" (106 : Nat) ({ cls := "FreightRoadsModel", name := "without", desc := "(I)J" } : Jvm.MethodName)) ∈ lw_all := lw_g (lw_at lw_m14 179 rfl) rfl
theorem q3429 : (Jvm.Cond.methodLink "FreightRoadsLaw" (111 : Nat) ({ cls := "FreightRoadsModel", name := "adding", desc := "(IIIJ)J" } : Jvm.MethodName)) ∈ lw_all := lw_g (lw_at lw_m14 183 rfl) rfl
theorem q3433 : (Jvm.Cond.methodLink "FreightRoadsLaw" (116 : Nat) ({ cls := "FreightRoadsModel", name := "sent", desc := "(III)J" } : Jvm.MethodName)) ∈ lw_all := lw_g (lw_at lw_m14 187 rfl) rfl
theorem q3441 : (Jvm.Cond.methodLink "FreightRoadsLaw" (120 : Nat) ({ cls := "FreightRoadsModel", name := "greatest", desc := "(II)I" } : Jvm.MethodName)) ∈ lw_all := lw_g (lw_at lw_m14 195 rfl) rfl
theorem q3445 : (Jvm.Cond.methodLink "FreightRoadsLaw" (125 : Nat) ({ cls := "FreightRoadsModel", name := "stretch", desc := "(IIII)J" } : Jvm.MethodName)) ∈ lw_all := lw_g (lw_at lw_m14 199 rfl) rfl
theorem q3453 : (Jvm.Cond.methodLink "FreightRoadsLaw" (129 : Nat) ({ cls := "FreightRoadsModel", name := "stretches", desc := "(II)I" } : Jvm.MethodName)) ∈ lw_all := lw_g (lw_at lw_m14 207 rfl) rfl
theorem q3457 : (Jvm.Cond.methodLink "FreightRoadsLaw" (133 : Nat) ({ cls := "FreightRoadsModel", name := "dearest", desc := "()I" } : Jvm.MethodName)) ∈ lw_all := lw_g (lw_at lw_m14 211 rfl) rfl
theorem q3461 : (Jvm.Cond.methodLink "FreightRoadsLaw" (141 : Nat) ({ cls := "FreightRoadsModel", name := "judge", desc := "(II)I" } : Jvm.MethodName)) ∈ lw_all := lw_g (lw_at lw_m14 215 rfl) rfl
theorem q3489 : (Jvm.Cond.methodLink "FreightRoadsLaw" (146 : Nat) ({ cls := "FreightRoadsModel", name := "ring", desc := "(III)I" } : Jvm.MethodName)) ∈ lw_all := lw_g (lw_at lw_m15 3 rfl) rfl
theorem q3493 : (Jvm.Cond.methodLink "FreightRoadsLaw" (150 : Nat) ({ cls := "FreightRoadsModel", name := "gain", desc := "(II)J" } : Jvm.MethodName)) ∈ lw_all := lw_g (lw_at lw_m15 7 rfl) rfl
theorem q3497 : (Jvm.Cond.methodLink "FreightRoadsLaw" (154 : Nat) ({ cls := "FreightRoadsModel", name := "mend", desc := "(II)I" } : Jvm.MethodName)) ∈ lw_all := lw_g (lw_at lw_m15 11 rfl) rfl
theorem q3505 : (Jvm.Cond.methodLink "FreightRoadsLaw" (158 : Nat) ({ cls := "FreightRoadsModel", name := "parts", desc := "()I" } : Jvm.MethodName)) ∈ lw_all := lw_g (lw_at lw_m15 19 rfl) rfl
theorem q3521 : (Jvm.Cond.methodLink "FreightRoadsLaw" (162 : Nat) ({ cls := "FreightRoadsModel", name := "part", desc := "(II)I" } : Jvm.MethodName)) ∈ lw_all := lw_g (lw_at lw_m15 35 rfl) rfl
theorem q3527 : (Jvm.Cond.methodLink "FreightRoadsLaw" (166 : Nat) ({ cls := "FreightRoadsModel", name := "partCost", desc := "(I)J" } : Jvm.MethodName)) ∈ lw_all := lw_g (lw_at lw_m15 41 rfl) rfl
theorem q3531 : (Jvm.Cond.methodLink "FreightRoadsLaw" (170 : Nat) ({ cls := "FreightRoadsModel", name := "spell", desc := "()I" } : Jvm.MethodName)) ∈ lw_all := lw_g (lw_at lw_m15 45 rfl) rfl
theorem q3539 : (Jvm.Cond.methodLink "FreightRoadsLaw" (174 : Nat) ({ cls := "FreightRoadsModel", name := "paper", desc := "(I)I" } : Jvm.MethodName)) ∈ lw_all := lw_g (lw_at lw_m15 53 rfl) rfl
theorem q3543 : (Jvm.Cond.methodLink "FreightRoadsLaw" (178 : Nat) ({ cls := "FreightRoadsModel", name := "told", desc := "(I)J" } : Jvm.MethodName)) ∈ lw_all := lw_g (lw_at lw_m15 57 rfl) rfl
theorem q3551 : (Jvm.Cond.methodLink "FreightRoadsLaw" (137 : Nat) ({ cls := "FreightRoadsModel", name := "lay", desc := "(II)I" } : Jvm.MethodName)) ∈ lw_all := lw_g (lw_at lw_m15 65 rfl) rfl
theorem q3555 : (Jvm.Cond.methodLink "FreightRoadsLaw" (182 : Nat) ({ cls := "FreightRoadsModel", name := "list", desc := "(II)I" } : Jvm.MethodName)) ∈ lw_all := lw_g (lw_at lw_m15 69 rfl) rfl
theorem q3559 : (Jvm.Cond.methodLink "FreightRoadsLaw" (187 : Nat) ({ cls := "FreightRoadsModel", name := "set", desc := "(IIJ)I" } : Jvm.MethodName)) ∈ lw_all := lw_g (lw_at lw_m15 73 rfl) rfl
theorem q3563 : (Jvm.Cond.methodLink "FreightRoadsLaw" (191 : Nat) ({ cls := "FreightRoadsModel", name := "get", desc := "(II)J" } : Jvm.MethodName)) ∈ lw_all := lw_g (lw_at lw_m15 77 rfl) rfl
theorem q3567 : (Jvm.Cond.methodLink "FreightRoadsLaw" (195 : Nat) ({ cls := "FreightRoadsModel", name := "image", desc := "()I" } : Jvm.MethodName)) ∈ lw_all := lw_g (lw_at lw_m15 81 rfl) rfl
theorem q3571 : (Jvm.Cond.methodLink "FreightRoadsLaw" (199 : Nat) ({ cls := "FreightRoadsModel", name := "undo", desc := "()I" } : Jvm.MethodName)) ∈ lw_all := lw_g (lw_at lw_m15 85 rfl) rfl
theorem q3575 : (Jvm.Cond.constantLong "FreightRoadsLaw" (23 : Nat) (4294967295 : Int64)) ∈ lw_all := lw_g (lw_at lw_m15 89 rfl) rfl
theorem q2577 : (Jvm.Cond.interfaceMethod "FreightRoads$Loss" "FreightRoads$Loss" "of" "(JJ)J") ∈ lw_tbl := lw_at lw_m11 51 rfl
theorem q2578 : (Jvm.Cond.declares ({ cls := "FreightRoads$Loss", name := "of", desc := "(JJ)J" } : Jvm.MethodName)) ∈ lw_tbl := lw_at lw_m11 52 rfl
theorem q2040 : (Jvm.Cond.interfaceMethod "FreightRoads$Part" "FreightRoads$Part" "read" "()V") ∈ lw_tbl := lw_at lw_m8 234 rfl
theorem q2041 : (Jvm.Cond.declares ({ cls := "FreightRoads$Part", name := "read", desc := "()V" } : Jvm.MethodName)) ∈ lw_tbl := lw_at lw_m8 235 rfl
theorem q2973 : (Jvm.Cond.interfaceMethod "FreightRoads$Tells" "FreightRoads$Tells" "it" "()I") ∈ lw_tbl := lw_at lw_m12 207 rfl
theorem q2974 : (Jvm.Cond.declares ({ cls := "FreightRoads$Tells", name := "it", desc := "()I" } : Jvm.MethodName)) ∈ lw_tbl := lw_at lw_m12 208 rfl
theorem q2573 : (Jvm.Cond.interfaceMethod "FreightRoads$Thought" "FreightRoads$Thought" "on" "(LFreightRoads$Net;)V") ∈ lw_tbl := lw_at lw_m11 47 rfl
theorem q2574 : (Jvm.Cond.declares ({ cls := "FreightRoads$Thought", name := "on", desc := "(LFreightRoads$Net;)V" } : Jvm.MethodName)) ∈ lw_tbl := lw_at lw_m11 48 rfl
theorem q435 : (Jvm.Cond.sameMethod "[B" "java/lang/Object" "clone" "()Ljava/lang/Object;") ∈ lw_all := lw_g (lw_at lw_m2 69 rfl) rfl
theorem q438 : (Jvm.Cond.selects "[B" ({ cls := "[B", name := "clone", desc := "()Ljava/lang/Object;" } : Jvm.MethodName) ({ cls := "java/lang/Object", name := "clone", desc := "()Ljava/lang/Object;" } : Jvm.MethodName)) ∈ lw_all := lw_g (lw_at lw_m2 72 rfl) rfl
theorem q439 : (Jvm.Cond.castable "[B" "java/lang/Cloneable") ∈ lw_tbl := lw_at lw_m2 73 rfl
theorem q3652 : (Jvm.Cond.castable "[B" "java/lang/Object") ∈ lw_tbl := lw_at lw_m15 166 rfl
theorem q3648 : (Jvm.Cond.castable "[I" "java/lang/Object") ∈ lw_tbl := lw_at lw_m15 162 rfl
theorem q2303 : (Jvm.Cond.sameMethod "[J" "java/lang/Object" "clone" "()Ljava/lang/Object;") ∈ lw_all := lw_g (lw_at lw_m10 17 rfl) rfl
theorem q2304 : (Jvm.Cond.selects "[J" ({ cls := "[J", name := "clone", desc := "()Ljava/lang/Object;" } : Jvm.MethodName) ({ cls := "java/lang/Object", name := "clone", desc := "()Ljava/lang/Object;" } : Jvm.MethodName)) ∈ lw_all := lw_g (lw_at lw_m10 18 rfl) rfl
theorem q2305 : (Jvm.Cond.castable "[J" "java/lang/Cloneable") ∈ lw_tbl := lw_at lw_m10 19 rfl
theorem q3651 : (Jvm.Cond.castable "[J" "java/lang/Object") ∈ lw_tbl := lw_at lw_m15 165 rfl
theorem q3649 : (Jvm.Cond.castable "[LFreightRoads$Place;" "java/lang/Object") ∈ lw_tbl := lw_at lw_m15 163 rfl
theorem q3654 : (Jvm.Cond.castable "[LFreightRoads$Road;" "java/lang/Object") ∈ lw_tbl := lw_at lw_m15 168 rfl
theorem q3645 : (Jvm.Cond.sameMethod "[Ljava/lang/Object;" "java/lang/Object" "getClass" "()Ljava/lang/Class;") ∈ lw_all := lw_g (lw_at lw_m15 159 rfl) rfl
theorem q3646 : (Jvm.Cond.selects "[Ljava/lang/Object;" ({ cls := "java/lang/Object", name := "getClass", desc := "()Ljava/lang/Class;" } : Jvm.MethodName) ({ cls := "java/lang/Object", name := "getClass", desc := "()Ljava/lang/Class;" } : Jvm.MethodName)) ∈ lw_all := lw_g (lw_at lw_m15 160 rfl) rfl
theorem q3650 : (Jvm.Cond.castable "[Ljava/lang/Object;" "java/lang/Object") ∈ lw_tbl := lw_at lw_m15 164 rfl
theorem q3655 : (Jvm.Cond.castable "[Z" "java/lang/Object") ∈ lw_tbl := lw_at lw_m15 169 rfl
theorem q3653 : (Jvm.Cond.castable "[[J" "java/lang/Object") ∈ lw_tbl := lw_at lw_m15 167 rfl
theorem q1650 : (Jvm.Cond.interfaceMethod "java/lang/Comparable" "java/lang/Comparable" "compareTo" "(Ljava/lang/Object;)I") ∈ lw_tbl := lw_at lw_m7 84 rfl
theorem q1651 : (Jvm.Cond.declares ({ cls := "java/lang/Comparable", name := "compareTo", desc := "(Ljava/lang/Object;)I" } : Jvm.MethodName)) ∈ lw_tbl := lw_at lw_m7 85 rfl
theorem q183 : (Jvm.Cond.initialized "java/lang/Integer$IntegerCache") ∈ lw_all := lw_g (lw_at lw_m1 57 rfl) rfl
theorem q2377 : (Jvm.Cond.laysStatic "java/lang/Integer$IntegerCache" "high" "I") ∈ lw_tbl := lw_at lw_m10 91 rfl
theorem q2379 : (Jvm.Cond.laysStatic "java/lang/Integer$IntegerCache" "cache" "[Ljava/lang/Integer;") ∈ lw_tbl := lw_at lw_m10 93 rfl
theorem q147 : (Jvm.Cond.initialized "java/lang/System") ∈ lw_all := lw_g (lw_at lw_m1 21 rfl) rfl
theorem q445 : (Jvm.Cond.static ({ cls := "java/lang/System", name := "arraycopy", desc := "(Ljava/lang/Object;ILjava/lang/Object;II)V" } : Jvm.MethodName)) ∈ lw_all := lw_g (lw_at lw_m2 79 rfl) rfl
theorem q446 : (Jvm.Cond.native ({ cls := "java/lang/System", name := "arraycopy", desc := "(Ljava/lang/Object;ILjava/lang/Object;II)V" } : Jvm.MethodName)) ∈ lw_all := lw_g (lw_at lw_m2 80 rfl) rfl
theorem q157 : (Jvm.Cond.initialized "java/util/AbstractList$ListItr") ∈ lw_all := lw_g (lw_at lw_m1 31 rfl) rfl
theorem q869 : (Jvm.Cond.castable "java/util/AbstractList$ListItr" "java/util/Iterator") ∈ lw_tbl := lw_at lw_m4 23 rfl
theorem q870 : (Jvm.Cond.selects "java/util/AbstractList$ListItr" ({ cls := "java/util/Iterator", name := "hasNext", desc := "()Z" } : Jvm.MethodName) ({ cls := "java/util/AbstractList$Itr", name := "hasNext", desc := "()Z" } : Jvm.MethodName)) ∈ lw_all := lw_g (lw_at lw_m4 24 rfl) rfl
theorem q871 : (Jvm.Cond.unhidden "java/util/AbstractList$ListItr" "hasNext" "()Z") ∈ lw_tbl := lw_at lw_m4 25 rfl
theorem q920 : (Jvm.Cond.selects "java/util/AbstractList$ListItr" ({ cls := "java/util/Iterator", name := "next", desc := "()Ljava/lang/Object;" } : Jvm.MethodName) ({ cls := "java/util/AbstractList$Itr", name := "next", desc := "()Ljava/lang/Object;" } : Jvm.MethodName)) ∈ lw_all := lw_g (lw_at lw_m4 74 rfl) rfl
theorem q921 : (Jvm.Cond.unhidden "java/util/AbstractList$ListItr" "next" "()Ljava/lang/Object;") ∈ lw_tbl := lw_at lw_m4 75 rfl
theorem q928 : (Jvm.Cond.selects "java/util/AbstractList$ListItr" ({ cls := "java/util/AbstractList$Itr", name := "checkForComodification", desc := "()V" } : Jvm.MethodName) ({ cls := "java/util/AbstractList$Itr", name := "checkForComodification", desc := "()V" } : Jvm.MethodName)) ∈ lw_all := lw_g (lw_at lw_m4 82 rfl) rfl
theorem q1001 : (Jvm.Cond.selects "java/util/AbstractList$ListItr" ({ cls := "java/lang/Object", name := "getClass", desc := "()Ljava/lang/Class;" } : Jvm.MethodName) ({ cls := "java/lang/Object", name := "getClass", desc := "()Ljava/lang/Class;" } : Jvm.MethodName)) ∈ lw_all := lw_g (lw_at lw_m4 155 rfl) rfl
theorem q1528 : (Jvm.Cond.selects "java/util/AbstractList$ListItr" ({ cls := "java/util/Iterator", name := "remove", desc := "()V" } : Jvm.MethodName) ({ cls := "java/util/AbstractList$Itr", name := "remove", desc := "()V" } : Jvm.MethodName)) ∈ lw_all := lw_g (lw_at lw_m6 202 rfl) rfl
theorem q1529 : (Jvm.Cond.unhidden "java/util/AbstractList$ListItr" "remove" "()V") ∈ lw_tbl := lw_at lw_m6 203 rfl
theorem q3615 : (Jvm.Cond.castable "java/util/AbstractList$ListItr" "java/lang/Object") ∈ lw_tbl := lw_at lw_m15 129 rfl
theorem q3656 : (Jvm.Cond.fieldLink "java/util/AbstractList$ListItr" (1 : Nat) "java/util/AbstractList$ListItr" "this$0" "Ljava/util/AbstractList;") ∈ lw_all := lw_g (lw_at lw_m15 170 rfl) rfl
theorem q3661 : (Jvm.Cond.fieldLink "java/util/AbstractList$ListItr" (13 : Nat) "java/util/AbstractList$ListItr" "cursor" "I") ∈ lw_all := lw_g (lw_at lw_m15 175 rfl) rfl
theorem q3662 : (Jvm.Cond.sameField "java/util/AbstractList$ListItr" "java/util/AbstractList$Itr" "cursor" "I") ∈ lw_all := lw_g (lw_at lw_m15 176 rfl) rfl
theorem q2680 : (Jvm.Cond.interfaceMethod "java/util/Collection" "java/util/Collection" "iterator" "()Ljava/util/Iterator;") ∈ lw_tbl := lw_at lw_m11 154 rfl
theorem q2681 : (Jvm.Cond.declares ({ cls := "java/util/Collection", name := "iterator", desc := "()Ljava/util/Iterator;" } : Jvm.MethodName)) ∈ lw_tbl := lw_at lw_m11 155 rfl
theorem q1617 : (Jvm.Cond.interfaceMethod "java/util/Comparator" "java/util/Comparator" "compare" "(Ljava/lang/Object;Ljava/lang/Object;)I") ∈ lw_tbl := lw_at lw_m7 51 rfl
theorem q1618 : (Jvm.Cond.declares ({ cls := "java/util/Comparator", name := "compare", desc := "(Ljava/lang/Object;Ljava/lang/Object;)I" } : Jvm.MethodName)) ∈ lw_tbl := lw_at lw_m7 52 rfl
theorem q867 : (Jvm.Cond.interfaceMethod "java/util/Iterator" "java/util/Iterator" "hasNext" "()Z") ∈ lw_tbl := lw_at lw_m4 21 rfl
theorem q868 : (Jvm.Cond.declares ({ cls := "java/util/Iterator", name := "hasNext", desc := "()Z" } : Jvm.MethodName)) ∈ lw_tbl := lw_at lw_m4 22 rfl
theorem q918 : (Jvm.Cond.interfaceMethod "java/util/Iterator" "java/util/Iterator" "next" "()Ljava/lang/Object;") ∈ lw_tbl := lw_at lw_m4 72 rfl
theorem q919 : (Jvm.Cond.declares ({ cls := "java/util/Iterator", name := "next", desc := "()Ljava/lang/Object;" } : Jvm.MethodName)) ∈ lw_tbl := lw_at lw_m4 73 rfl
theorem q1526 : (Jvm.Cond.interfaceMethod "java/util/Iterator" "java/util/Iterator" "remove" "()V") ∈ lw_tbl := lw_at lw_m6 200 rfl
theorem q1527 : (Jvm.Cond.declares ({ cls := "java/util/Iterator", name := "remove", desc := "()V" } : Jvm.MethodName)) ∈ lw_tbl := lw_at lw_m6 201 rfl
theorem q2185 : (Jvm.Cond.publicMethod ({ cls := "java/util/Map", name := "size", desc := "()I" } : Jvm.MethodName)) ∈ lw_tbl := lw_at lw_m9 139 rfl
theorem q2186 : (Jvm.Cond.declares ({ cls := "java/util/Map", name := "size", desc := "()I" } : Jvm.MethodName)) ∈ lw_tbl := lw_at lw_m9 140 rfl
theorem q2399 : (Jvm.Cond.publicMethod ({ cls := "java/util/Map", name := "put", desc := "(Ljava/lang/Object;Ljava/lang/Object;)Ljava/lang/Object;" } : Jvm.MethodName)) ∈ lw_tbl := lw_at lw_m10 113 rfl
theorem q2400 : (Jvm.Cond.declares ({ cls := "java/util/Map", name := "put", desc := "(Ljava/lang/Object;Ljava/lang/Object;)Ljava/lang/Object;" } : Jvm.MethodName)) ∈ lw_tbl := lw_at lw_m10 114 rfl
theorem q2471 : (Jvm.Cond.interfaceMethod "java/util/NavigableMap" "java/util/NavigableMap" "navigableKeySet" "()Ljava/util/NavigableSet;") ∈ lw_tbl := lw_at lw_m10 185 rfl
theorem q2472 : (Jvm.Cond.declares ({ cls := "java/util/NavigableMap", name := "navigableKeySet", desc := "()Ljava/util/NavigableSet;" } : Jvm.MethodName)) ∈ lw_tbl := lw_at lw_m10 186 rfl
theorem q2490 : (Jvm.Cond.interfaceMethod "java/util/NavigableSet" "java/util/NavigableSet" "iterator" "()Ljava/util/Iterator;") ∈ lw_tbl := lw_at lw_m10 204 rfl
theorem q2491 : (Jvm.Cond.declares ({ cls := "java/util/NavigableSet", name := "iterator", desc := "()Ljava/util/Iterator;" } : Jvm.MethodName)) ∈ lw_tbl := lw_at lw_m10 205 rfl
theorem q2531 : (Jvm.Cond.declares ({ cls := "java/util/TreeMap$NavigableSubMap", name := "keyIterator", desc := "()Ljava/util/Iterator;" } : Jvm.MethodName)) ∈ lw_tbl := lw_at lw_m11 5 rfl
theorem q2532 : (Jvm.Cond.selects "java/util/TreeMap$NavigableSubMap" ({ cls := "java/util/TreeMap$NavigableSubMap", name := "keyIterator", desc := "()Ljava/util/Iterator;" } : Jvm.MethodName) ({ cls := "java/util/TreeMap$NavigableSubMap", name := "keyIterator", desc := "()Ljava/util/Iterator;" } : Jvm.MethodName)) ∈ lw_all := lw_g (lw_at lw_m11 6 rfl) rfl
theorem q178 : (Jvm.Cond.initialized "jdk/internal/misc/UnsafeConstants") ∈ lw_all := lw_g (lw_at lw_m1 52 rfl) rfl
theorem q1749 : (Jvm.Cond.laysStatic "jdk/internal/misc/UnsafeConstants" "BIG_ENDIAN" "Z") ∈ lw_tbl := lw_at lw_m7 183 rfl
theorem q239 : (Jvm.Cond.arrayClass Jvm.ClassFile.FieldType.int) ∈ lw_all := lw_g (lw_at lw_m1 113 rfl) rfl
theorem q247 : (Jvm.Cond.arrayOver (Jvm.ClassFile.FieldType.object "FreightRoads$Place")) ∈ lw_tbl := lw_at lw_m1 121 rfl
theorem q261 : (Jvm.Cond.arrayOver (Jvm.ClassFile.FieldType.object "java/lang/Object")) ∈ lw_tbl := lw_at lw_m1 135 rfl
theorem q278 : (Jvm.Cond.arrayClass Jvm.ClassFile.FieldType.long) ∈ lw_all := lw_g (lw_at lw_m1 152 rfl) rfl
theorem q385 : (Jvm.Cond.arrayClass Jvm.ClassFile.FieldType.byte) ∈ lw_all := lw_g (lw_at lw_m2 19 rfl) rfl
theorem q765 : (Jvm.Cond.arrayOver (Jvm.ClassFile.FieldType.array Jvm.ClassFile.FieldType.long)) ∈ lw_tbl := lw_at lw_m3 159 rfl
theorem q1439 : (Jvm.Cond.arrayOver (Jvm.ClassFile.FieldType.object "FreightRoads$Road")) ∈ lw_tbl := lw_at lw_m6 113 rfl
theorem q3155 : (Jvm.Cond.arrayClass Jvm.ClassFile.FieldType.boolean) ∈ lw_all := lw_g (lw_at lw_m13 149 rfl) rfl
