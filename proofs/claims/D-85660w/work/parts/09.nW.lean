theorem q160 : (Jvm.Cond.initialized "PondHouseLaw") ∈ lw_all := lw_g (lw_at lw_m1 0 rfl) rfl
set_option maxRecDepth 100000
theorem q214 : (Jvm.Cond.methodLink "PondHouseLaw" (130 : Nat) ({ cls := "PondHouse", name := "back", desc := "()Z" } : Jvm.MethodName)) ∈ lw_all := lw_g (lw_at lw_m1 54 rfl) rfl
theorem q283 : (Jvm.Cond.methodLink "PondHouseLaw" (105 : Nat) ({ cls := "PondHouse", name := "begin", desc := "(III)I" } : Jvm.MethodName)) ∈ lw_all := lw_g (lw_at lw_m1 123 rfl) rfl
theorem q366 : (Jvm.Cond.methodLink "PondHouseLaw" (109 : Nat) ({ cls := "PondHouse", name := "under", desc := "(II)I" } : Jvm.MethodName)) ∈ lw_all := lw_g (lw_at lw_m1 206 rfl) rfl
theorem q374 : (Jvm.Cond.methodLink "PondHouseLaw" (113 : Nat) ({ cls := "PondHouse", name := "forbid", desc := "(IZ)Z" } : Jvm.MethodName)) ∈ lw_all := lw_g (lw_at lw_m1 214 rfl) rfl
theorem q378 : (Jvm.Cond.methodLink "PondHouseLaw" (89 : Nat) ({ cls := "PondHouse", name := "wake", desc := "(I)Z" } : Jvm.MethodName)) ∈ lw_all := lw_g (lw_at lw_m1 218 rfl) rfl
theorem q382 : (Jvm.Cond.methodLink "PondHouseLaw" (93 : Nat) ({ cls := "PondHouse", name := "beat", desc := "()I" } : Jvm.MethodName)) ∈ lw_all := lw_g (lw_at lw_m1 222 rfl) rfl
theorem q1033 : (Jvm.Cond.methodLink "PondHouseLaw" (126 : Nat) ({ cls := "PondHouse", name := "refusal", desc := "(I)I" } : Jvm.MethodName)) ∈ lw_all := lw_g (lw_at lw_m4 153 rfl) rfl
theorem q1037 : (Jvm.Cond.methodLink "PondHouseLaw" (118 : Nat) ({ cls := "PondHouse", name := "apply", desc := "(I)Z" } : Jvm.MethodName)) ∈ lw_all := lw_g (lw_at lw_m4 157 rfl) rfl
theorem q1041 : (Jvm.Cond.methodLink "PondHouseLaw" (122 : Nat) ({ cls := "PondHouse", name := "applied", desc := "(I)I" } : Jvm.MethodName)) ∈ lw_all := lw_g (lw_at lw_m4 161 rfl) rfl
theorem q1045 : (Jvm.Cond.methodLink "PondHouseLaw" (97 : Nat) ({ cls := "PondHouse", name := "outcome", desc := "(I)I" } : Jvm.MethodName)) ∈ lw_all := lw_g (lw_at lw_m4 165 rfl) rfl
theorem q1049 : (Jvm.Cond.methodLink "PondHouseLaw" (101 : Nat) ({ cls := "PondHouse", name := "ran", desc := "(II)I" } : Jvm.MethodName)) ∈ lw_all := lw_g (lw_at lw_m4 169 rfl) rfl
theorem q1053 : (Jvm.Cond.classLink "PondHouseLaw" (7 : Nat) "PondHouse") ∈ lw_all := lw_g (lw_at lw_m4 173 rfl) rfl
theorem q1054 : (Jvm.Cond.methodLink "PondHouseLaw" (9 : Nat) ({ cls := "PondHouse", name := "<init>", desc := "()V" } : Jvm.MethodName)) ∈ lw_all := lw_g (lw_at lw_m4 174 rfl) rfl
theorem q1376 : (Jvm.Cond.methodLink "PondHouseLaw" (13 : Nat) ({ cls := "PondHouse", name := "feed", desc := "(IIIII)I" } : Jvm.MethodName)) ∈ lw_all := lw_g (lw_at lw_m6 16 rfl) rfl
theorem q1384 : (Jvm.Cond.methodLink "PondHouseLaw" (18 : Nat) ({ cls := "PondHouse", name := "end", desc := "(I)Z" } : Jvm.MethodName)) ∈ lw_all := lw_g (lw_at lw_m6 24 rfl) rfl
theorem q1388 : (Jvm.Cond.methodLink "PondHouseLaw" (23 : Nat) ({ cls := "PondHouse", name := "word", desc := "()I" } : Jvm.MethodName)) ∈ lw_all := lw_g (lw_at lw_m6 28 rfl) rfl
theorem q1694 : (Jvm.Cond.methodLink "PondHouseLaw" (28 : Nat) ({ cls := "PondHouse", name := "pond", desc := "()I" } : Jvm.MethodName)) ∈ lw_all := lw_g (lw_at lw_m7 94 rfl) rfl
theorem q2059 : (Jvm.Cond.methodLink "PondHouseLaw" (32 : Nat) ({ cls := "PondHouse", name := "patch", desc := "()I" } : Jvm.MethodName)) ∈ lw_all := lw_g (lw_at lw_m8 219 rfl) rfl
theorem q2226 : (Jvm.Cond.methodLink "PondHouseLaw" (36 : Nat) ({ cls := "PondHouse", name := "fault", desc := "(I)I" } : Jvm.MethodName)) ∈ lw_all := lw_g (lw_at lw_m9 146 rfl) rfl
theorem q2230 : (Jvm.Cond.methodLink "PondHouseLaw" (41 : Nat) ({ cls := "PondHouse", name := "kinds", desc := "()I" } : Jvm.MethodName)) ∈ lw_all := lw_g (lw_at lw_m9 150 rfl) rfl
theorem q2234 : (Jvm.Cond.methodLink "PondHouseLaw" (45 : Nat) ({ cls := "PondHouse", name := "kind", desc := "(II)I" } : Jvm.MethodName)) ∈ lw_all := lw_g (lw_at lw_m9 154 rfl) rfl
theorem q2238 : (Jvm.Cond.methodLink "PondHouseLaw" (50 : Nat) ({ cls := "PondHouse", name := "create", desc := "(I)I" } : Jvm.MethodName)) ∈ lw_all := lw_g (lw_at lw_m9 158 rfl) rfl
theorem q2274 : (Jvm.Cond.methodLink "PondHouseLaw" (54 : Nat) ({ cls := "PondHouse", name := "kindOf", desc := "(I)I" } : Jvm.MethodName)) ∈ lw_all := lw_g (lw_at lw_m9 194 rfl) rfl
theorem q2278 : (Jvm.Cond.methodLink "PondHouseLaw" (58 : Nat) ({ cls := "PondHouse", name := "generation", desc := "(I)I" } : Jvm.MethodName)) ∈ lw_all := lw_g (lw_at lw_m9 198 rfl) rfl
theorem q2282 : (Jvm.Cond.methodLink "PondHouseLaw" (62 : Nat) ({ cls := "PondHouse", name := "has", desc := "(II)Z" } : Jvm.MethodName)) ∈ lw_all := lw_g (lw_at lw_m9 202 rfl) rfl
theorem q2286 : (Jvm.Cond.methodLink "PondHouseLaw" (67 : Nat) ({ cls := "PondHouse", name := "value", desc := "(II)I" } : Jvm.MethodName)) ∈ lw_all := lw_g (lw_at lw_m9 206 rfl) rfl
theorem q2290 : (Jvm.Cond.methodLink "PondHouseLaw" (71 : Nat) ({ cls := "PondHouse", name := "put", desc := "(III)Z" } : Jvm.MethodName)) ∈ lw_all := lw_g (lw_at lw_m9 210 rfl) rfl
theorem q2295 : (Jvm.Cond.methodLink "PondHouseLaw" (76 : Nat) ({ cls := "PondHouse", name := "fixed", desc := "(II)I" } : Jvm.MethodName)) ∈ lw_all := lw_g (lw_at lw_m9 215 rfl) rfl
theorem q2300 : (Jvm.Cond.methodLink "PondHouseLaw" (80 : Nat) ({ cls := "PondHouse", name := "act", desc := "(III)I" } : Jvm.MethodName)) ∈ lw_all := lw_g (lw_at lw_m9 220 rfl) rfl
theorem q2304 : (Jvm.Cond.methodLink "PondHouseLaw" (85 : Nat) ({ cls := "PondHouse", name := "told", desc := "(I)I" } : Jvm.MethodName)) ∈ lw_all := lw_g (lw_at lw_m9 224 rfl) rfl
theorem q2308 : (Jvm.Cond.methodLink "PondHouseLaw" (135 : Nat) ({ cls := "PondHouse", name := "sum", desc := "(I)J" } : Jvm.MethodName)) ∈ lw_all := lw_g (lw_at lw_m9 228 rfl) rfl
theorem q2312 : (Jvm.Cond.classLink "PondHouseLaw" (10 : Nat) "PondHouseModel") ∈ lw_all := lw_g (lw_at lw_m9 232 rfl) rfl
theorem q2314 : (Jvm.Cond.methodLink "PondHouseLaw" (12 : Nat) ({ cls := "PondHouseModel", name := "<init>", desc := "()V" } : Jvm.MethodName)) ∈ lw_all := lw_g (lw_at lw_m9 234 rfl) rfl
theorem q2606 : (Jvm.Cond.methodLink "PondHouseLaw" (31 : Nat) ({ cls := "PondHouseModel", name := "pond", desc := "()I" } : Jvm.MethodName)) ∈ lw_all := lw_g (lw_at lw_m11 46 rfl) rfl
theorem q2779 : (Jvm.Cond.methodLink "PondHouseLaw" (35 : Nat) ({ cls := "PondHouseModel", name := "patch", desc := "()I" } : Jvm.MethodName)) ∈ lw_all := lw_g (lw_at lw_m11 219 rfl) rfl
theorem q2799 : (Jvm.Cond.methodLink "PondHouseLaw" (40 : Nat) ({ cls := "PondHouseModel", name := "fault", desc := "(I)I" } : Jvm.MethodName)) ∈ lw_all := lw_g (lw_at lw_m11 239 rfl) rfl
theorem q2803 : (Jvm.Cond.methodLink "PondHouseLaw" (17 : Nat) ({ cls := "PondHouseModel", name := "feed", desc := "(IIIII)I" } : Jvm.MethodName)) ∈ lw_all := lw_g (lw_at lw_m12 3 rfl) rfl
theorem q2807 : (Jvm.Cond.methodLink "PondHouseLaw" (22 : Nat) ({ cls := "PondHouseModel", name := "end", desc := "(I)Z" } : Jvm.MethodName)) ∈ lw_all := lw_g (lw_at lw_m12 7 rfl) rfl
theorem q2811 : (Jvm.Cond.methodLink "PondHouseLaw" (27 : Nat) ({ cls := "PondHouseModel", name := "word", desc := "()I" } : Jvm.MethodName)) ∈ lw_all := lw_g (lw_at lw_m12 11 rfl) rfl
theorem q2815 : (Jvm.Cond.methodLink "PondHouseLaw" (53 : Nat) ({ cls := "PondHouseModel", name := "create", desc := "(I)I" } : Jvm.MethodName)) ∈ lw_all := lw_g (lw_at lw_m12 15 rfl) rfl
theorem q2823 : (Jvm.Cond.methodLink "PondHouseLaw" (44 : Nat) ({ cls := "PondHouseModel", name := "kinds", desc := "()I" } : Jvm.MethodName)) ∈ lw_all := lw_g (lw_at lw_m12 23 rfl) rfl
theorem q2827 : (Jvm.Cond.methodLink "PondHouseLaw" (49 : Nat) ({ cls := "PondHouseModel", name := "kind", desc := "(II)I" } : Jvm.MethodName)) ∈ lw_all := lw_g (lw_at lw_m12 27 rfl) rfl
theorem q2831 : (Jvm.Cond.methodLink "PondHouseLaw" (57 : Nat) ({ cls := "PondHouseModel", name := "kindOf", desc := "(I)I" } : Jvm.MethodName)) ∈ lw_all := lw_g (lw_at lw_m12 31 rfl) rfl
theorem q2839 : (Jvm.Cond.methodLink "PondHouseLaw" (61 : Nat) ({ cls := "PondHouseModel", name := "generation", desc := "(I)I" } : Jvm.MethodName)) ∈ lw_all := lw_g (lw_at lw_m12 39 rfl) rfl
theorem q2843 : (Jvm.Cond.methodLink "PondHouseLaw" (66 : Nat) ({ cls := "PondHouseModel", name := "has", desc := "(II)Z" } : Jvm.MethodName)) ∈ lw_all := lw_g (lw_at lw_m12 43 rfl) rfl
theorem q2850 : (Jvm.Cond.methodLink "PondHouseLaw" (70 : Nat) ({ cls := "PondHouseModel", name := "value", desc := "(II)I" } : Jvm.MethodName)) ∈ lw_all := lw_g (lw_at lw_m12 50 rfl) rfl
theorem q2855 : (Jvm.Cond.methodLink "PondHouseLaw" (75 : Nat) ({ cls := "PondHouseModel", name := "put", desc := "(III)Z" } : Jvm.MethodName)) ∈ lw_all := lw_g (lw_at lw_m12 55 rfl) rfl
theorem q2859 : (Jvm.Cond.methodLink "PondHouseLaw" (79 : Nat) ({ cls := "PondHouseModel", name := "fixed", desc := "(II)I" } : Jvm.MethodName)) ∈ lw_all := lw_g (lw_at lw_m12 59 rfl) rfl
theorem q2867 : (Jvm.Cond.methodLink "PondHouseLaw" (139 : Nat) ({ cls := "PondHouseModel", name := "sum", desc := "(I)J" } : Jvm.MethodName)) ∈ lw_all := lw_g (lw_at lw_m12 67 rfl) rfl
theorem q2871 : (Jvm.Cond.methodLink "PondHouseLaw" (84 : Nat) ({ cls := "PondHouseModel", name := "act", desc := "(III)I" } : Jvm.MethodName)) ∈ lw_all := lw_g (lw_at lw_m12 71 rfl) rfl
theorem q2946 : (Jvm.Cond.methodLink "PondHouseLaw" (88 : Nat) ({ cls := "PondHouseModel", name := "told", desc := "(I)I" } : Jvm.MethodName)) ∈ lw_all := lw_g (lw_at lw_m12 146 rfl) rfl
theorem q2950 : (Jvm.Cond.methodLink "PondHouseLaw" (92 : Nat) ({ cls := "PondHouseModel", name := "wake", desc := "(I)Z" } : Jvm.MethodName)) ∈ lw_all := lw_g (lw_at lw_m12 150 rfl) rfl
theorem q2954 : (Jvm.Cond.methodLink "PondHouseLaw" (96 : Nat) ({ cls := "PondHouseModel", name := "beat", desc := "()I" } : Jvm.MethodName)) ∈ lw_all := lw_g (lw_at lw_m12 154 rfl) rfl
theorem q3034 : (Jvm.Cond.methodLink "PondHouseLaw" (100 : Nat) ({ cls := "PondHouseModel", name := "outcome", desc := "(I)I" } : Jvm.MethodName)) ∈ lw_all := lw_g (lw_at lw_m12 234 rfl) rfl
theorem q3038 : (Jvm.Cond.methodLink "PondHouseLaw" (104 : Nat) ({ cls := "PondHouseModel", name := "ran", desc := "(II)I" } : Jvm.MethodName)) ∈ lw_all := lw_g (lw_at lw_m12 238 rfl) rfl
theorem q3042 : (Jvm.Cond.methodLink "PondHouseLaw" (108 : Nat) ({ cls := "PondHouseModel", name := "begin", desc := "(III)I" } : Jvm.MethodName)) ∈ lw_all := lw_g (lw_at lw_m13 2 rfl) rfl
theorem q3046 : (Jvm.Cond.methodLink "PondHouseLaw" (112 : Nat) ({ cls := "PondHouseModel", name := "under", desc := "(II)I" } : Jvm.MethodName)) ∈ lw_all := lw_g (lw_at lw_m13 6 rfl) rfl
theorem q3050 : (Jvm.Cond.methodLink "PondHouseLaw" (117 : Nat) ({ cls := "PondHouseModel", name := "forbid", desc := "(IZ)Z" } : Jvm.MethodName)) ∈ lw_all := lw_g (lw_at lw_m13 10 rfl) rfl
theorem q3054 : (Jvm.Cond.methodLink "PondHouseLaw" (121 : Nat) ({ cls := "PondHouseModel", name := "apply", desc := "(I)Z" } : Jvm.MethodName)) ∈ lw_all := lw_g (lw_at lw_m13 14 rfl) rfl
theorem q3058 : (Jvm.Cond.methodLink "PondHouseLaw" (125 : Nat) ({ cls := "PondHouseModel", name := "applied", desc := "(I)I" } : Jvm.MethodName)) ∈ lw_all := lw_g (lw_at lw_m13 18 rfl) rfl
theorem q3062 : (Jvm.Cond.methodLink "PondHouseLaw" (129 : Nat) ({ cls := "PondHouseModel", name := "refusal", desc := "(I)I" } : Jvm.MethodName)) ∈ lw_all := lw_g (lw_at lw_m13 22 rfl) rfl
theorem q3066 : (Jvm.Cond.methodLink "PondHouseLaw" (134 : Nat) ({ cls := "PondHouseModel", name := "back", desc := "()Z" } : Jvm.MethodName)) ∈ lw_all := lw_g (lw_at lw_m13 26 rfl) rfl

theorem q1471 : (Jvm.Cond.sameMethod "[B" "java/lang/Object" "clone" "()Ljava/lang/Object;") ∈ lw_all := lw_g (lw_at lw_m6 111 rfl) rfl
set_option maxRecDepth 100000
theorem q1472 : (Jvm.Cond.selects "[B" ({ cls := "[B", name := "clone", desc := "()Ljava/lang/Object;" } : Jvm.MethodName) ({ cls := "java/lang/Object", name := "clone", desc := "()Ljava/lang/Object;" } : Jvm.MethodName)) ∈ lw_all := lw_g (lw_at lw_m6 112 rfl) rfl
theorem q1473 : (Jvm.Cond.castable "[B" "java/lang/Cloneable") ∈ lw_tbl := lw_at lw_m6 113 rfl
theorem q3149 : (Jvm.Cond.castable "[B" "java/lang/Object") ∈ lw_tbl := lw_at lw_m13 109 rfl

theorem q1919 : (Jvm.Cond.sameMethod "[C" "java/lang/Object" "clone" "()Ljava/lang/Object;") ∈ lw_all := lw_g (lw_at lw_m8 79 rfl) rfl
set_option maxRecDepth 100000
theorem q1920 : (Jvm.Cond.selects "[C" ({ cls := "[C", name := "clone", desc := "()Ljava/lang/Object;" } : Jvm.MethodName) ({ cls := "java/lang/Object", name := "clone", desc := "()Ljava/lang/Object;" } : Jvm.MethodName)) ∈ lw_all := lw_g (lw_at lw_m8 80 rfl) rfl
theorem q1921 : (Jvm.Cond.castable "[C" "java/lang/Cloneable") ∈ lw_tbl := lw_at lw_m8 81 rfl
theorem q3156 : (Jvm.Cond.castable "[C" "java/lang/Object") ∈ lw_tbl := lw_at lw_m13 116 rfl

theorem q874 : (Jvm.Cond.sameMethod "[I" "java/lang/Object" "clone" "()Ljava/lang/Object;") ∈ lw_all := lw_g (lw_at lw_m3 234 rfl) rfl
set_option maxRecDepth 100000
theorem q877 : (Jvm.Cond.selects "[I" ({ cls := "[I", name := "clone", desc := "()Ljava/lang/Object;" } : Jvm.MethodName) ({ cls := "java/lang/Object", name := "clone", desc := "()Ljava/lang/Object;" } : Jvm.MethodName)) ∈ lw_all := lw_g (lw_at lw_m3 237 rfl) rfl
theorem q878 : (Jvm.Cond.castable "[I" "java/lang/Cloneable") ∈ lw_tbl := lw_at lw_m3 238 rfl
theorem q3140 : (Jvm.Cond.castable "[I" "java/lang/Object") ∈ lw_tbl := lw_at lw_m13 100 rfl

theorem q3157 : (Jvm.Cond.castable "[J" "java/lang/Object") ∈ lw_tbl := lw_at lw_m13 117 rfl
set_option maxRecDepth 100000

theorem q3142 : (Jvm.Cond.castable "[LPondHouse$Block;" "java/lang/Object") ∈ lw_tbl := lw_at lw_m13 102 rfl
set_option maxRecDepth 100000

theorem q3145 : (Jvm.Cond.castable "[LPondHouse$Body;" "java/lang/Object") ∈ lw_tbl := lw_at lw_m13 105 rfl
set_option maxRecDepth 100000

theorem q3147 : (Jvm.Cond.castable "[LPondHouse$Creature;" "java/lang/Object") ∈ lw_tbl := lw_at lw_m13 107 rfl
set_option maxRecDepth 100000

theorem q3139 : (Jvm.Cond.castable "[LPondHouse$Fixed;" "java/lang/Object") ∈ lw_tbl := lw_at lw_m13 99 rfl
set_option maxRecDepth 100000

theorem q3148 : (Jvm.Cond.castable "[LPondHouse$Frame;" "java/lang/Object") ∈ lw_tbl := lw_at lw_m13 108 rfl
set_option maxRecDepth 100000

theorem q3144 : (Jvm.Cond.castable "[LPondHouse$Kind;" "java/lang/Object") ∈ lw_tbl := lw_at lw_m13 104 rfl
set_option maxRecDepth 100000

theorem q3153 : (Jvm.Cond.castable "[LPondHouse$LongAct;" "java/lang/Object") ∈ lw_tbl := lw_at lw_m13 113 rfl
set_option maxRecDepth 100000

theorem q3150 : (Jvm.Cond.castable "[LPondHouse$Patch;" "java/lang/Object") ∈ lw_tbl := lw_at lw_m13 110 rfl
set_option maxRecDepth 100000

theorem q3154 : (Jvm.Cond.castable "[LPondHouse$Statement;" "java/lang/Object") ∈ lw_tbl := lw_at lw_m13 114 rfl
set_option maxRecDepth 100000

theorem q3155 : (Jvm.Cond.castable "[LPondHouse$Worth;" "java/lang/Object") ∈ lw_tbl := lw_at lw_m13 115 rfl
set_option maxRecDepth 100000

theorem q3136 : (Jvm.Cond.sameMethod "[Ljava/lang/Object;" "java/lang/Object" "getClass" "()Ljava/lang/Class;") ∈ lw_all := lw_g (lw_at lw_m13 96 rfl) rfl
set_option maxRecDepth 100000
theorem q3137 : (Jvm.Cond.selects "[Ljava/lang/Object;" ({ cls := "java/lang/Object", name := "getClass", desc := "()Ljava/lang/Class;" } : Jvm.MethodName) ({ cls := "java/lang/Object", name := "getClass", desc := "()Ljava/lang/Class;" } : Jvm.MethodName)) ∈ lw_all := lw_g (lw_at lw_m13 97 rfl) rfl
theorem q3143 : (Jvm.Cond.castable "[Ljava/lang/Object;" "java/lang/Object") ∈ lw_tbl := lw_at lw_m13 103 rfl

theorem q3146 : (Jvm.Cond.castable "[Ljava/lang/String;" "java/lang/Object") ∈ lw_tbl := lw_at lw_m13 106 rfl
set_option maxRecDepth 100000

theorem q3141 : (Jvm.Cond.castable "[Z" "java/lang/Object") ∈ lw_tbl := lw_at lw_m13 101 rfl
set_option maxRecDepth 100000

theorem q3151 : (Jvm.Cond.castable "[[I" "java/lang/Object") ∈ lw_tbl := lw_at lw_m13 111 rfl
set_option maxRecDepth 100000

theorem q3152 : (Jvm.Cond.castable "[[Z" "java/lang/Object") ∈ lw_tbl := lw_at lw_m13 112 rfl
set_option maxRecDepth 100000

theorem q177 : (Jvm.Cond.initialized "java/lang/System") ∈ lw_all := lw_g (lw_at lw_m1 17 rfl) rfl
set_option maxRecDepth 100000
theorem q622 : (Jvm.Cond.static ({ cls := "java/lang/System", name := "arraycopy", desc := "(Ljava/lang/Object;ILjava/lang/Object;II)V" } : Jvm.MethodName)) ∈ lw_all := lw_g (lw_at lw_m2 222 rfl) rfl
theorem q623 : (Jvm.Cond.native ({ cls := "java/lang/System", name := "arraycopy", desc := "(Ljava/lang/Object;ILjava/lang/Object;II)V" } : Jvm.MethodName)) ∈ lw_all := lw_g (lw_at lw_m2 223 rfl) rfl

theorem q277 : (Jvm.Cond.arrayOver (Jvm.ClassFile.FieldType.object "PondHouse$Fixed")) ∈ lw_tbl := lw_at lw_m1 117 rfl
set_option maxRecDepth 100000
theorem q281 : (Jvm.Cond.arrayClass Jvm.ClassFile.FieldType.int) ∈ lw_all := lw_g (lw_at lw_m1 121 rfl) rfl
theorem q282 : (Jvm.Cond.arrayClass Jvm.ClassFile.FieldType.boolean) ∈ lw_all := lw_g (lw_at lw_m1 122 rfl) rfl
theorem q560 : (Jvm.Cond.arrayOver (Jvm.ClassFile.FieldType.object "PondHouse$Block")) ∈ lw_tbl := lw_at lw_m2 160 rfl
theorem q701 : (Jvm.Cond.arrayOver (Jvm.ClassFile.FieldType.object "java/lang/Object")) ∈ lw_tbl := lw_at lw_m3 61 rfl
theorem q862 : (Jvm.Cond.arrayOver (Jvm.ClassFile.FieldType.object "PondHouse$Kind")) ∈ lw_tbl := lw_at lw_m3 222 rfl
theorem q881 : (Jvm.Cond.arrayOver (Jvm.ClassFile.FieldType.object "PondHouse$Body")) ∈ lw_tbl := lw_at lw_m4 1 rfl
theorem q1059 : (Jvm.Cond.arrayOver (Jvm.ClassFile.FieldType.object "java/lang/String")) ∈ lw_tbl := lw_at lw_m4 179 rfl
theorem q1083 : (Jvm.Cond.arrayOver (Jvm.ClassFile.FieldType.object "PondHouse$Creature")) ∈ lw_tbl := lw_at lw_m4 203 rfl
theorem q1084 : (Jvm.Cond.arrayOver (Jvm.ClassFile.FieldType.object "PondHouse$Frame")) ∈ lw_tbl := lw_at lw_m4 204 rfl
theorem q1151 : (Jvm.Cond.arrayClass Jvm.ClassFile.FieldType.byte) ∈ lw_all := lw_g (lw_at lw_m5 31 rfl) rfl
theorem q1229 : (Jvm.Cond.arrayOver (Jvm.ClassFile.FieldType.object "PondHouse$Patch")) ∈ lw_tbl := lw_at lw_m5 109 rfl
theorem q1231 : (Jvm.Cond.arrayOver (Jvm.ClassFile.FieldType.array Jvm.ClassFile.FieldType.int)) ∈ lw_tbl := lw_at lw_m5 111 rfl
theorem q1233 : (Jvm.Cond.arrayOver (Jvm.ClassFile.FieldType.array Jvm.ClassFile.FieldType.boolean)) ∈ lw_tbl := lw_at lw_m5 113 rfl
theorem q1235 : (Jvm.Cond.arrayOver (Jvm.ClassFile.FieldType.object "PondHouse$LongAct")) ∈ lw_tbl := lw_at lw_m5 115 rfl
theorem q1769 : (Jvm.Cond.arrayOver (Jvm.ClassFile.FieldType.object "PondHouse$Statement")) ∈ lw_tbl := lw_at lw_m7 169 rfl
theorem q1891 : (Jvm.Cond.arrayOver (Jvm.ClassFile.FieldType.object "PondHouse$Worth")) ∈ lw_tbl := lw_at lw_m8 51 rfl
theorem q1909 : (Jvm.Cond.arrayClass Jvm.ClassFile.FieldType.char) ∈ lw_all := lw_g (lw_at lw_m8 69 rfl) rfl
theorem q2605 : (Jvm.Cond.arrayClass Jvm.ClassFile.FieldType.long) ∈ lw_all := lw_g (lw_at lw_m11 45 rfl) rfl

/-! the law's own entry -/
set_option maxRecDepth 100000
abbrev cL_law : ByteArray := code
def dkwL_law_37 : List UInt8 := [132, 3, 6, 167, 252, 81, 4, 172]
abbrev dktL_law_37 : List UInt8 := dkwL_law_37 ++ []
def dkwL_law_36 : List UInt8 := [29, 4, 96, 46, 182, 0, 135, 44, 42, 29, 4, 96, 46, 182, 0, 139, 148, 153, 0, 5, 3, 172]
abbrev dktL_law_36 : List UInt8 := dkwL_law_36 ++ dktL_law_37
def dkwL_law_35 : List UInt8 := [46, 182, 0, 129, 159, 0, 42, 3, 172, 43, 182, 0, 130, 44, 182, 0, 134, 159, 0, 29, 3, 172, 43, 42]
abbrev dktL_law_35 : List UInt8 := dkwL_law_35 ++ dktL_law_36
def dkwL_law_34 : List UInt8 := [96, 46, 182, 0, 125, 159, 0, 65, 3, 172, 43, 42, 29, 4, 96, 46, 182, 0, 126, 44, 42, 29, 4, 96]
abbrev dktL_law_34 : List UInt8 := dkwL_law_34 ++ dktL_law_35
def dkwL_law_33 : List UInt8 := [4, 96, 46, 182, 0, 121, 159, 0, 88, 3, 172, 43, 42, 29, 4, 96, 46, 182, 0, 122, 44, 42, 29, 4]
abbrev dktL_law_33 : List UInt8 := dkwL_law_33 ++ dktL_law_34
def dkwL_law_32 : List UInt8 := [167, 0, 4, 3, 182, 0, 117, 159, 0, 111, 3, 172, 43, 42, 29, 4, 96, 46, 182, 0, 118, 44, 42, 29]
abbrev dktL_law_32 : List UInt8 := dkwL_law_32 ++ dktL_law_33
def dkwL_law_31 : List UInt8 := [167, 0, 4, 3, 182, 0, 113, 44, 42, 29, 4, 96, 46, 42, 29, 5, 96, 46, 153, 0, 7, 4]
abbrev dktL_law_31 : List UInt8 := dkwL_law_31 ++ dktL_law_32
def dkwL_law_30 : List UInt8 := [182, 0, 112, 159, 0, 160, 3, 172, 43, 42, 29, 4, 96, 46, 42, 29, 5, 96, 46, 153, 0, 7, 4]
abbrev dktL_law_30 : List UInt8 := dkwL_law_30 ++ dktL_law_31
def dkwL_law_29 : List UInt8 := [4, 96, 46, 42, 29, 5, 96, 46, 182, 0, 109, 44, 42, 29, 4, 96, 46, 42, 29, 5, 96, 46]
abbrev dktL_law_29 : List UInt8 := dkwL_law_29 ++ dktL_law_30
def dkwL_law_28 : List UInt8 := [4, 96, 46, 42, 29, 5, 96, 46, 42, 29, 6, 96, 46, 182, 0, 108, 159, 0, 193, 3, 172, 43, 42, 29]
abbrev dktL_law_28 : List UInt8 := dkwL_law_28 ++ dktL_law_29
def dkwL_law_27 : List UInt8 := [3, 172, 43, 42, 29, 4, 96, 46, 42, 29, 5, 96, 46, 42, 29, 6, 96, 46, 182, 0, 105, 44, 42, 29]
abbrev dktL_law_27 : List UInt8 := dkwL_law_27 ++ dktL_law_28
def dkwL_law_26 : List UInt8 := [29, 5, 96, 46, 182, 0, 101, 44, 42, 29, 4, 96, 46, 42, 29, 5, 96, 46, 182, 0, 104, 159, 0, 236]
abbrev dktL_law_26 : List UInt8 := dkwL_law_26 ++ dktL_law_27
def dkwL_law_25 : List UInt8 := [182, 0, 97, 44, 42, 29, 4, 96, 46, 182, 0, 100, 159, 1, 13, 3, 172, 43, 42, 29, 4, 96, 46, 42]
abbrev dktL_law_25 : List UInt8 := dkwL_law_25 ++ dktL_law_26
def dkwL_law_24 : List UInt8 := [159, 1, 49, 3, 172, 43, 182, 0, 93, 44, 182, 0, 96, 159, 1, 36, 3, 172, 43, 42, 29, 4, 96, 46]
abbrev dktL_law_24 : List UInt8 := dkwL_law_24 ++ dktL_law_25
def dkwL_law_23 : List UInt8 := [159, 1, 72, 3, 172, 43, 42, 29, 4, 96, 46, 182, 0, 89, 44, 42, 29, 4, 96, 46, 182, 0, 92]
abbrev dktL_law_23 : List UInt8 := dkwL_law_23 ++ dktL_law_24
def dkwL_law_22 : List UInt8 := [159, 1, 95, 3, 172, 43, 42, 29, 4, 96, 46, 182, 0, 85, 44, 42, 29, 4, 96, 46, 182, 0, 88]
abbrev dktL_law_22 : List UInt8 := dkwL_law_22 ++ dktL_law_23
def dkwL_law_21 : List UInt8 := [182, 0, 80, 44, 42, 29, 4, 96, 46, 42, 29, 5, 96, 46, 42, 29, 6, 96, 46, 182, 0, 84]
abbrev dktL_law_21 : List UInt8 := dkwL_law_21 ++ dktL_law_22
def dkwL_law_20 : List UInt8 := [182, 0, 79, 159, 1, 138, 3, 172, 43, 42, 29, 4, 96, 46, 42, 29, 5, 96, 46, 42, 29, 6, 96, 46]
abbrev dktL_law_20 : List UInt8 := dkwL_law_20 ++ dktL_law_21
def dkwL_law_19 : List UInt8 := [4, 96, 46, 42, 29, 5, 96, 46, 182, 0, 76, 44, 42, 29, 4, 96, 46, 42, 29, 5, 96, 46]
abbrev dktL_law_19 : List UInt8 := dkwL_law_19 ++ dktL_law_20
def dkwL_law_18 : List UInt8 := [4, 96, 46, 42, 29, 5, 96, 46, 42, 29, 6, 96, 46, 182, 0, 75, 159, 1, 171, 3, 172, 43, 42, 29]
abbrev dktL_law_18 : List UInt8 := dkwL_law_18 ++ dktL_law_19
def dkwL_law_17 : List UInt8 := [3, 172, 43, 42, 29, 4, 96, 46, 42, 29, 5, 96, 46, 42, 29, 6, 96, 46, 182, 0, 71, 44, 42, 29]
abbrev dktL_law_17 : List UInt8 := dkwL_law_17 ++ dktL_law_18
def dkwL_law_16 : List UInt8 := [29, 5, 96, 46, 182, 0, 67, 44, 42, 29, 4, 96, 46, 42, 29, 5, 96, 46, 182, 0, 70, 159, 1, 214]
abbrev dktL_law_16 : List UInt8 := dkwL_law_16 ++ dktL_law_17
def dkwL_law_15 : List UInt8 := [29, 4, 96, 46, 42, 29, 5, 96, 46, 182, 0, 66, 159, 1, 247, 3, 172, 43, 42, 29, 4, 96, 46, 42]
abbrev dktL_law_15 : List UInt8 := dkwL_law_15 ++ dktL_law_16
def dkwL_law_14 : List UInt8 := [182, 0, 61, 159, 2, 24, 3, 172, 43, 42, 29, 4, 96, 46, 42, 29, 5, 96, 46, 182, 0, 62, 44, 42]
abbrev dktL_law_14 : List UInt8 := dkwL_law_14 ++ dktL_law_15
def dkwL_law_13 : List UInt8 := [182, 0, 57, 159, 2, 47, 3, 172, 43, 42, 29, 4, 96, 46, 182, 0, 58, 44, 42, 29, 4, 96, 46]
abbrev dktL_law_13 : List UInt8 := dkwL_law_13 ++ dktL_law_14
def dkwL_law_12 : List UInt8 := [182, 0, 53, 159, 2, 70, 3, 172, 43, 42, 29, 4, 96, 46, 182, 0, 54, 44, 42, 29, 4, 96, 46]
abbrev dktL_law_12 : List UInt8 := dkwL_law_12 ++ dktL_law_13
def dkwL_law_11 : List UInt8 := [182, 0, 49, 159, 2, 93, 3, 172, 43, 42, 29, 4, 96, 46, 182, 0, 50, 44, 42, 29, 4, 96, 46]
abbrev dktL_law_11 : List UInt8 := dkwL_law_11 ++ dktL_law_12
def dkwL_law_10 : List UInt8 := [4, 96, 46, 42, 29, 5, 96, 46, 182, 0, 45, 44, 42, 29, 4, 96, 46, 42, 29, 5, 96, 46]
abbrev dktL_law_10 : List UInt8 := dkwL_law_10 ++ dktL_law_11
def dkwL_law_9 : List UInt8 := [182, 0, 40, 159, 2, 139, 3, 172, 43, 182, 0, 41, 44, 182, 0, 44, 159, 2, 126, 3, 172, 43, 42, 29]
abbrev dktL_law_9 : List UInt8 := dkwL_law_9 ++ dktL_law_10
def dkwL_law_8 : List UInt8 := [182, 0, 35, 159, 2, 162, 3, 172, 43, 42, 29, 4, 96, 46, 182, 0, 36, 44, 42, 29, 4, 96, 46]
abbrev dktL_law_8 : List UInt8 := dkwL_law_8 ++ dktL_law_9
def dkwL_law_7 : List UInt8 := [159, 2, 188, 3, 172, 43, 182, 0, 28, 44, 182, 0, 31, 159, 2, 175, 3, 172, 43, 182, 0, 32, 44]
abbrev dktL_law_7 : List UInt8 := dkwL_law_7 ++ dktL_law_8
def dkwL_law_6 : List UInt8 := [44, 42, 29, 4, 96, 46, 182, 0, 22, 159, 2, 201, 3, 172, 43, 182, 0, 23, 44, 182, 0, 27]
abbrev dktL_law_6 : List UInt8 := dkwL_law_6 ++ dktL_law_7
def dkwL_law_5 : List UInt8 := [96, 46, 42, 29, 8, 96, 46, 182, 0, 17, 159, 2, 224, 3, 172, 43, 42, 29, 4, 96, 46, 182, 0, 18]
abbrev dktL_law_5 : List UInt8 := dkwL_law_5 ++ dktL_law_6
def dkwL_law_4 : List UInt8 := [96, 46, 182, 0, 13, 44, 42, 29, 4, 96, 46, 42, 29, 5, 96, 46, 42, 29, 6, 96, 46, 42, 29, 7]
abbrev dktL_law_4 : List UInt8 := dkwL_law_4 ++ dktL_law_5
def dkwL_law_3 : List UInt8 := [43, 42, 29, 4, 96, 46, 42, 29, 5, 96, 46, 42, 29, 6, 96, 46, 42, 29, 7, 96, 46, 42, 29, 8]
abbrev dktL_law_3 : List UInt8 := dkwL_law_3 ++ dktL_law_4
def dkwL_law_2 : List UInt8 := [170, 0, 0, 0, 0, 3, 157, 0, 0, 0, 0, 0, 0, 0, 28, 0, 0, 0, 131, 0, 0, 0, 194, 0, 0, 0, 217, 0, 0, 0, 230, 0, 0, 0, 243, 0, 0, 1, 0, 0, 0, 1, 23, 0, 0, 1, 36, 0, 0, 1, 69, 0, 0, 1, 92, 0, 0, 1, 115, 0, 0, 1, 138, 0, 0, 1, 171, 0, 0, 1, 204, 0, 0, 1, 247, 0, 0, 2, 24, 0, 0, 2, 67, 0, 0, 2, 90, 0, 0, 2, 113, 0, 0, 2, 126, 0, 0, 2, 149, 0, 0, 2, 182, 0, 0, 2, 225, 0, 0, 3, 2, 0, 0, 3, 51, 0, 0, 3, 74, 0, 0, 3, 97, 0, 0, 3, 120, 0, 0, 3, 133]
abbrev dktL_law_2 : List UInt8 := dkwL_law_2 ++ dktL_law_3
def dkwL_law_1 : List UInt8 := [163, 3, 172, 42, 29, 46, 16, 31, 126]
abbrev dktL_law_1 : List UInt8 := dkwL_law_1 ++ dktL_law_2
def dkwL_law_0 : List UInt8 := [187, 0, 7, 89, 183, 0, 9, 76, 187, 0, 10, 89, 183, 0, 12, 77, 3, 62, 29, 42, 190, 16, 6, 100]
abbrev dktL_law_0 : List UInt8 := dkwL_law_0 ++ dktL_law_1
theorem dksL_law_0 : cL_law.data.toList.drop 0 = dktL_law_0 := by decide +kernel
theorem dksL_law_1 : cL_law.data.toList.drop 24 = dktL_law_1 := dk_seg dksL_law_0 24 rfl rfl
theorem dksL_law_2 : cL_law.data.toList.drop 33 = dktL_law_2 := dk_seg dksL_law_1 9 rfl rfl
theorem dksL_law_3 : cL_law.data.toList.drop 164 = dktL_law_3 := dk_seg dksL_law_2 131 rfl rfl
theorem dksL_law_4 : cL_law.data.toList.drop 188 = dktL_law_4 := dk_seg dksL_law_3 24 rfl rfl
theorem dksL_law_5 : cL_law.data.toList.drop 212 = dktL_law_5 := dk_seg dksL_law_4 24 rfl rfl
theorem dksL_law_6 : cL_law.data.toList.drop 236 = dktL_law_6 := dk_seg dksL_law_5 24 rfl rfl
theorem dksL_law_7 : cL_law.data.toList.drop 258 = dktL_law_7 := dk_seg dksL_law_6 22 rfl rfl
theorem dksL_law_8 : cL_law.data.toList.drop 281 = dktL_law_8 := dk_seg dksL_law_7 23 rfl rfl
theorem dksL_law_9 : cL_law.data.toList.drop 304 = dktL_law_9 := dk_seg dksL_law_8 23 rfl rfl
theorem dksL_law_10 : cL_law.data.toList.drop 328 = dktL_law_10 := dk_seg dksL_law_9 24 rfl rfl
theorem dksL_law_11 : cL_law.data.toList.drop 350 = dktL_law_11 := dk_seg dksL_law_10 22 rfl rfl
theorem dksL_law_12 : cL_law.data.toList.drop 373 = dktL_law_12 := dk_seg dksL_law_11 23 rfl rfl
theorem dksL_law_13 : cL_law.data.toList.drop 396 = dktL_law_13 := dk_seg dksL_law_12 23 rfl rfl
theorem dksL_law_14 : cL_law.data.toList.drop 419 = dktL_law_14 := dk_seg dksL_law_13 23 rfl rfl
theorem dksL_law_15 : cL_law.data.toList.drop 443 = dktL_law_15 := dk_seg dksL_law_14 24 rfl rfl
theorem dksL_law_16 : cL_law.data.toList.drop 467 = dktL_law_16 := dk_seg dksL_law_15 24 rfl rfl
theorem dksL_law_17 : cL_law.data.toList.drop 491 = dktL_law_17 := dk_seg dksL_law_16 24 rfl rfl
theorem dksL_law_18 : cL_law.data.toList.drop 515 = dktL_law_18 := dk_seg dksL_law_17 24 rfl rfl
theorem dksL_law_19 : cL_law.data.toList.drop 539 = dktL_law_19 := dk_seg dksL_law_18 24 rfl rfl
theorem dksL_law_20 : cL_law.data.toList.drop 561 = dktL_law_20 := dk_seg dksL_law_19 22 rfl rfl
theorem dksL_law_21 : cL_law.data.toList.drop 585 = dktL_law_21 := dk_seg dksL_law_20 24 rfl rfl
theorem dksL_law_22 : cL_law.data.toList.drop 607 = dktL_law_22 := dk_seg dksL_law_21 22 rfl rfl
theorem dksL_law_23 : cL_law.data.toList.drop 630 = dktL_law_23 := dk_seg dksL_law_22 23 rfl rfl
theorem dksL_law_24 : cL_law.data.toList.drop 653 = dktL_law_24 := dk_seg dksL_law_23 23 rfl rfl
theorem dksL_law_25 : cL_law.data.toList.drop 677 = dktL_law_25 := dk_seg dksL_law_24 24 rfl rfl
theorem dksL_law_26 : cL_law.data.toList.drop 701 = dktL_law_26 := dk_seg dksL_law_25 24 rfl rfl
theorem dksL_law_27 : cL_law.data.toList.drop 725 = dktL_law_27 := dk_seg dksL_law_26 24 rfl rfl
theorem dksL_law_28 : cL_law.data.toList.drop 749 = dktL_law_28 := dk_seg dksL_law_27 24 rfl rfl
theorem dksL_law_29 : cL_law.data.toList.drop 773 = dktL_law_29 := dk_seg dksL_law_28 24 rfl rfl
theorem dksL_law_30 : cL_law.data.toList.drop 795 = dktL_law_30 := dk_seg dksL_law_29 22 rfl rfl
theorem dksL_law_31 : cL_law.data.toList.drop 818 = dktL_law_31 := dk_seg dksL_law_30 23 rfl rfl
theorem dksL_law_32 : cL_law.data.toList.drop 840 = dktL_law_32 := dk_seg dksL_law_31 22 rfl rfl
theorem dksL_law_33 : cL_law.data.toList.drop 864 = dktL_law_33 := dk_seg dksL_law_32 24 rfl rfl
theorem dksL_law_34 : cL_law.data.toList.drop 888 = dktL_law_34 := dk_seg dksL_law_33 24 rfl rfl
theorem dksL_law_35 : cL_law.data.toList.drop 912 = dktL_law_35 := dk_seg dksL_law_34 24 rfl rfl
theorem dksL_law_36 : cL_law.data.toList.drop 936 = dktL_law_36 := dk_seg dksL_law_35 24 rfl rfl
theorem dksL_law_37 : cL_law.data.toList.drop 958 = dktL_law_37 := dk_seg dksL_law_36 22 rfl rfl
theorem dL_law_0 : decode cL_law 0 = .ok (.new 7, 3) := dk_187 0 7 (dk_at dksL_law_0 0 rfl rfl)
theorem dL_law_3 : decode cL_law 3 = .ok (.dup, 1) := dk_89 (dk_at dksL_law_0 3 rfl rfl)
theorem dL_law_4 : decode cL_law 4 = .ok (.invokespecial 9, 3) := dk_183 0 9 (dk_at dksL_law_0 4 rfl rfl)
theorem dL_law_7 : decode cL_law 7 = .ok (.astore_n 1, 1) := dk_76 (dk_at dksL_law_0 7 rfl rfl)
theorem dL_law_8 : decode cL_law 8 = .ok (.new 10, 3) := dk_187 0 10 (dk_at dksL_law_0 8 rfl rfl)
theorem dL_law_11 : decode cL_law 11 = .ok (.dup, 1) := dk_89 (dk_at dksL_law_0 11 rfl rfl)
theorem dL_law_12 : decode cL_law 12 = .ok (.invokespecial 12, 3) := dk_183 0 12 (dk_at dksL_law_0 12 rfl rfl)
theorem dL_law_15 : decode cL_law 15 = .ok (.astore_n 2, 1) := dk_77 (dk_at dksL_law_0 15 rfl rfl)
theorem dL_law_16 : decode cL_law 16 = .ok (.iconst 0, 1) := dk_3 (dk_at dksL_law_0 16 rfl rfl)
theorem dL_law_17 : decode cL_law 17 = .ok (.istore_n 3, 1) := dk_62 (dk_at dksL_law_0 17 rfl rfl)
theorem dL_law_18 : decode cL_law 18 = .ok (.iload_n 3, 1) := dk_29 (dk_at dksL_law_0 18 rfl rfl)
theorem dL_law_19 : decode cL_law 19 = .ok (.aload_n 0, 1) := dk_42 (dk_at dksL_law_0 19 rfl rfl)
theorem dL_law_20 : decode cL_law 20 = .ok (.arraylength, 1) := dk_190 (dk_at dksL_law_0 20 rfl rfl)
theorem dL_law_21 : decode cL_law 21 = .ok (.bipush 6, 2) := dk_16 6 (dk_at dksL_law_0 21 rfl rfl)
theorem dL_law_23 : decode cL_law 23 = .ok (.isub, 1) := dk_100 (dk_at dksL_law_0 23 rfl rfl)
theorem dL_law_24 : decode cL_law 24 = .ok (.if_icmp .gt 940, 3) := dk_163 3 172 (dk_at dksL_law_1 0 rfl rfl)
theorem dL_law_27 : decode cL_law 27 = .ok (.aload_n 0, 1) := dk_42 (dk_at dksL_law_1 3 rfl rfl)
theorem dL_law_28 : decode cL_law 28 = .ok (.iload_n 3, 1) := dk_29 (dk_at dksL_law_1 4 rfl rfl)
theorem dL_law_29 : decode cL_law 29 = .ok (.iaload, 1) := dk_46 (dk_at dksL_law_1 5 rfl rfl)
theorem dL_law_30 : decode cL_law 30 = .ok (.bipush 31, 2) := dk_16 31 (dk_at dksL_law_1 6 rfl rfl)
theorem dL_law_32 : decode cL_law 32 = .ok (.iand, 1) := dk_126 (dk_at dksL_law_1 8 rfl rfl)
theorem dL_law_33 : decode cL_law 33 = .ok (.tableswitch 925 0 28 #[131, 194, 217, 230, 243, 256, 279, 292, 325, 348, 371, 394, 427, 460, 503, 536, 579, 602, 625, 638, 661, 694, 737, 770, 819, 842, 865, 888, 901], 131) := by decide +kernel
theorem dL_law_164 : decode cL_law 164 = .ok (.aload_n 1, 1) := dk_43 (dk_at dksL_law_3 0 rfl rfl)
theorem dL_law_165 : decode cL_law 165 = .ok (.aload_n 0, 1) := dk_42 (dk_at dksL_law_3 1 rfl rfl)
theorem dL_law_166 : decode cL_law 166 = .ok (.iload_n 3, 1) := dk_29 (dk_at dksL_law_3 2 rfl rfl)
theorem dL_law_167 : decode cL_law 167 = .ok (.iconst 1, 1) := dk_4 (dk_at dksL_law_3 3 rfl rfl)
theorem dL_law_168 : decode cL_law 168 = .ok (.iadd, 1) := dk_96 (dk_at dksL_law_3 4 rfl rfl)
theorem dL_law_169 : decode cL_law 169 = .ok (.iaload, 1) := dk_46 (dk_at dksL_law_3 5 rfl rfl)
theorem dL_law_170 : decode cL_law 170 = .ok (.aload_n 0, 1) := dk_42 (dk_at dksL_law_3 6 rfl rfl)
theorem dL_law_171 : decode cL_law 171 = .ok (.iload_n 3, 1) := dk_29 (dk_at dksL_law_3 7 rfl rfl)
theorem dL_law_172 : decode cL_law 172 = .ok (.iconst 2, 1) := dk_5 (dk_at dksL_law_3 8 rfl rfl)
theorem dL_law_173 : decode cL_law 173 = .ok (.iadd, 1) := dk_96 (dk_at dksL_law_3 9 rfl rfl)
theorem dL_law_174 : decode cL_law 174 = .ok (.iaload, 1) := dk_46 (dk_at dksL_law_3 10 rfl rfl)
theorem dL_law_175 : decode cL_law 175 = .ok (.aload_n 0, 1) := dk_42 (dk_at dksL_law_3 11 rfl rfl)
theorem dL_law_176 : decode cL_law 176 = .ok (.iload_n 3, 1) := dk_29 (dk_at dksL_law_3 12 rfl rfl)
theorem dL_law_177 : decode cL_law 177 = .ok (.iconst 3, 1) := dk_6 (dk_at dksL_law_3 13 rfl rfl)
theorem dL_law_178 : decode cL_law 178 = .ok (.iadd, 1) := dk_96 (dk_at dksL_law_3 14 rfl rfl)
theorem dL_law_179 : decode cL_law 179 = .ok (.iaload, 1) := dk_46 (dk_at dksL_law_3 15 rfl rfl)
theorem dL_law_180 : decode cL_law 180 = .ok (.aload_n 0, 1) := dk_42 (dk_at dksL_law_3 16 rfl rfl)
theorem dL_law_181 : decode cL_law 181 = .ok (.iload_n 3, 1) := dk_29 (dk_at dksL_law_3 17 rfl rfl)
theorem dL_law_182 : decode cL_law 182 = .ok (.iconst 4, 1) := dk_7 (dk_at dksL_law_3 18 rfl rfl)
theorem dL_law_183 : decode cL_law 183 = .ok (.iadd, 1) := dk_96 (dk_at dksL_law_3 19 rfl rfl)
theorem dL_law_184 : decode cL_law 184 = .ok (.iaload, 1) := dk_46 (dk_at dksL_law_3 20 rfl rfl)
theorem dL_law_185 : decode cL_law 185 = .ok (.aload_n 0, 1) := dk_42 (dk_at dksL_law_3 21 rfl rfl)
theorem dL_law_186 : decode cL_law 186 = .ok (.iload_n 3, 1) := dk_29 (dk_at dksL_law_3 22 rfl rfl)
theorem dL_law_187 : decode cL_law 187 = .ok (.iconst 5, 1) := dk_8 (dk_at dksL_law_3 23 rfl rfl)
theorem dL_law_188 : decode cL_law 188 = .ok (.iadd, 1) := dk_96 (dk_at dksL_law_4 0 rfl rfl)
theorem dL_law_189 : decode cL_law 189 = .ok (.iaload, 1) := dk_46 (dk_at dksL_law_4 1 rfl rfl)
theorem dL_law_190 : decode cL_law 190 = .ok (.invokevirtual 13, 3) := dk_182 0 13 (dk_at dksL_law_4 2 rfl rfl)
theorem dL_law_193 : decode cL_law 193 = .ok (.aload_n 2, 1) := dk_44 (dk_at dksL_law_4 5 rfl rfl)
theorem dL_law_194 : decode cL_law 194 = .ok (.aload_n 0, 1) := dk_42 (dk_at dksL_law_4 6 rfl rfl)
theorem dL_law_195 : decode cL_law 195 = .ok (.iload_n 3, 1) := dk_29 (dk_at dksL_law_4 7 rfl rfl)
theorem dL_law_196 : decode cL_law 196 = .ok (.iconst 1, 1) := dk_4 (dk_at dksL_law_4 8 rfl rfl)
theorem dL_law_197 : decode cL_law 197 = .ok (.iadd, 1) := dk_96 (dk_at dksL_law_4 9 rfl rfl)
theorem dL_law_198 : decode cL_law 198 = .ok (.iaload, 1) := dk_46 (dk_at dksL_law_4 10 rfl rfl)
theorem dL_law_199 : decode cL_law 199 = .ok (.aload_n 0, 1) := dk_42 (dk_at dksL_law_4 11 rfl rfl)
theorem dL_law_200 : decode cL_law 200 = .ok (.iload_n 3, 1) := dk_29 (dk_at dksL_law_4 12 rfl rfl)
theorem dL_law_201 : decode cL_law 201 = .ok (.iconst 2, 1) := dk_5 (dk_at dksL_law_4 13 rfl rfl)
theorem dL_law_202 : decode cL_law 202 = .ok (.iadd, 1) := dk_96 (dk_at dksL_law_4 14 rfl rfl)
theorem dL_law_203 : decode cL_law 203 = .ok (.iaload, 1) := dk_46 (dk_at dksL_law_4 15 rfl rfl)
theorem dL_law_204 : decode cL_law 204 = .ok (.aload_n 0, 1) := dk_42 (dk_at dksL_law_4 16 rfl rfl)
theorem dL_law_205 : decode cL_law 205 = .ok (.iload_n 3, 1) := dk_29 (dk_at dksL_law_4 17 rfl rfl)
theorem dL_law_206 : decode cL_law 206 = .ok (.iconst 3, 1) := dk_6 (dk_at dksL_law_4 18 rfl rfl)
theorem dL_law_207 : decode cL_law 207 = .ok (.iadd, 1) := dk_96 (dk_at dksL_law_4 19 rfl rfl)
theorem dL_law_208 : decode cL_law 208 = .ok (.iaload, 1) := dk_46 (dk_at dksL_law_4 20 rfl rfl)
theorem dL_law_209 : decode cL_law 209 = .ok (.aload_n 0, 1) := dk_42 (dk_at dksL_law_4 21 rfl rfl)
theorem dL_law_210 : decode cL_law 210 = .ok (.iload_n 3, 1) := dk_29 (dk_at dksL_law_4 22 rfl rfl)
theorem dL_law_211 : decode cL_law 211 = .ok (.iconst 4, 1) := dk_7 (dk_at dksL_law_4 23 rfl rfl)
theorem dL_law_212 : decode cL_law 212 = .ok (.iadd, 1) := dk_96 (dk_at dksL_law_5 0 rfl rfl)
theorem dL_law_213 : decode cL_law 213 = .ok (.iaload, 1) := dk_46 (dk_at dksL_law_5 1 rfl rfl)
theorem dL_law_214 : decode cL_law 214 = .ok (.aload_n 0, 1) := dk_42 (dk_at dksL_law_5 2 rfl rfl)
theorem dL_law_215 : decode cL_law 215 = .ok (.iload_n 3, 1) := dk_29 (dk_at dksL_law_5 3 rfl rfl)
theorem dL_law_216 : decode cL_law 216 = .ok (.iconst 5, 1) := dk_8 (dk_at dksL_law_5 4 rfl rfl)
theorem dL_law_217 : decode cL_law 217 = .ok (.iadd, 1) := dk_96 (dk_at dksL_law_5 5 rfl rfl)
theorem dL_law_218 : decode cL_law 218 = .ok (.iaload, 1) := dk_46 (dk_at dksL_law_5 6 rfl rfl)
theorem dL_law_219 : decode cL_law 219 = .ok (.invokevirtual 17, 3) := dk_182 0 17 (dk_at dksL_law_5 7 rfl rfl)
theorem dL_law_222 : decode cL_law 222 = .ok (.if_icmp .eq 736, 3) := dk_159 2 224 (dk_at dksL_law_5 10 rfl rfl)
theorem dL_law_225 : decode cL_law 225 = .ok (.iconst 0, 1) := dk_3 (dk_at dksL_law_5 13 rfl rfl)
theorem dL_law_226 : decode cL_law 226 = .ok (.ireturn, 1) := dk_172 (dk_at dksL_law_5 14 rfl rfl)
theorem dL_law_227 : decode cL_law 227 = .ok (.aload_n 1, 1) := dk_43 (dk_at dksL_law_5 15 rfl rfl)
theorem dL_law_228 : decode cL_law 228 = .ok (.aload_n 0, 1) := dk_42 (dk_at dksL_law_5 16 rfl rfl)
theorem dL_law_229 : decode cL_law 229 = .ok (.iload_n 3, 1) := dk_29 (dk_at dksL_law_5 17 rfl rfl)
theorem dL_law_230 : decode cL_law 230 = .ok (.iconst 1, 1) := dk_4 (dk_at dksL_law_5 18 rfl rfl)
theorem dL_law_231 : decode cL_law 231 = .ok (.iadd, 1) := dk_96 (dk_at dksL_law_5 19 rfl rfl)
theorem dL_law_232 : decode cL_law 232 = .ok (.iaload, 1) := dk_46 (dk_at dksL_law_5 20 rfl rfl)
theorem dL_law_233 : decode cL_law 233 = .ok (.invokevirtual 18, 3) := dk_182 0 18 (dk_at dksL_law_5 21 rfl rfl)
theorem dL_law_236 : decode cL_law 236 = .ok (.aload_n 2, 1) := dk_44 (dk_at dksL_law_6 0 rfl rfl)
theorem dL_law_237 : decode cL_law 237 = .ok (.aload_n 0, 1) := dk_42 (dk_at dksL_law_6 1 rfl rfl)
theorem dL_law_238 : decode cL_law 238 = .ok (.iload_n 3, 1) := dk_29 (dk_at dksL_law_6 2 rfl rfl)
theorem dL_law_239 : decode cL_law 239 = .ok (.iconst 1, 1) := dk_4 (dk_at dksL_law_6 3 rfl rfl)
theorem dL_law_240 : decode cL_law 240 = .ok (.iadd, 1) := dk_96 (dk_at dksL_law_6 4 rfl rfl)
theorem dL_law_241 : decode cL_law 241 = .ok (.iaload, 1) := dk_46 (dk_at dksL_law_6 5 rfl rfl)
theorem dL_law_242 : decode cL_law 242 = .ok (.invokevirtual 22, 3) := dk_182 0 22 (dk_at dksL_law_6 6 rfl rfl)
theorem dL_law_245 : decode cL_law 245 = .ok (.if_icmp .eq 713, 3) := dk_159 2 201 (dk_at dksL_law_6 9 rfl rfl)
theorem dL_law_248 : decode cL_law 248 = .ok (.iconst 0, 1) := dk_3 (dk_at dksL_law_6 12 rfl rfl)
theorem dL_law_249 : decode cL_law 249 = .ok (.ireturn, 1) := dk_172 (dk_at dksL_law_6 13 rfl rfl)
theorem dL_law_250 : decode cL_law 250 = .ok (.aload_n 1, 1) := dk_43 (dk_at dksL_law_6 14 rfl rfl)
theorem dL_law_251 : decode cL_law 251 = .ok (.invokevirtual 23, 3) := dk_182 0 23 (dk_at dksL_law_6 15 rfl rfl)
theorem dL_law_254 : decode cL_law 254 = .ok (.aload_n 2, 1) := dk_44 (dk_at dksL_law_6 18 rfl rfl)
theorem dL_law_255 : decode cL_law 255 = .ok (.invokevirtual 27, 3) := dk_182 0 27 (dk_at dksL_law_6 19 rfl rfl)
theorem dL_law_258 : decode cL_law 258 = .ok (.if_icmp .eq 700, 3) := dk_159 2 188 (dk_at dksL_law_7 0 rfl rfl)
theorem dL_law_261 : decode cL_law 261 = .ok (.iconst 0, 1) := dk_3 (dk_at dksL_law_7 3 rfl rfl)
theorem dL_law_262 : decode cL_law 262 = .ok (.ireturn, 1) := dk_172 (dk_at dksL_law_7 4 rfl rfl)
theorem dL_law_263 : decode cL_law 263 = .ok (.aload_n 1, 1) := dk_43 (dk_at dksL_law_7 5 rfl rfl)
theorem dL_law_264 : decode cL_law 264 = .ok (.invokevirtual 28, 3) := dk_182 0 28 (dk_at dksL_law_7 6 rfl rfl)
theorem dL_law_267 : decode cL_law 267 = .ok (.aload_n 2, 1) := dk_44 (dk_at dksL_law_7 9 rfl rfl)
theorem dL_law_268 : decode cL_law 268 = .ok (.invokevirtual 31, 3) := dk_182 0 31 (dk_at dksL_law_7 10 rfl rfl)
theorem dL_law_271 : decode cL_law 271 = .ok (.if_icmp .eq 687, 3) := dk_159 2 175 (dk_at dksL_law_7 13 rfl rfl)
theorem dL_law_274 : decode cL_law 274 = .ok (.iconst 0, 1) := dk_3 (dk_at dksL_law_7 16 rfl rfl)
theorem dL_law_275 : decode cL_law 275 = .ok (.ireturn, 1) := dk_172 (dk_at dksL_law_7 17 rfl rfl)
theorem dL_law_276 : decode cL_law 276 = .ok (.aload_n 1, 1) := dk_43 (dk_at dksL_law_7 18 rfl rfl)
theorem dL_law_277 : decode cL_law 277 = .ok (.invokevirtual 32, 3) := dk_182 0 32 (dk_at dksL_law_7 19 rfl rfl)
theorem dL_law_280 : decode cL_law 280 = .ok (.aload_n 2, 1) := dk_44 (dk_at dksL_law_7 22 rfl rfl)
theorem dL_law_281 : decode cL_law 281 = .ok (.invokevirtual 35, 3) := dk_182 0 35 (dk_at dksL_law_8 0 rfl rfl)
theorem dL_law_284 : decode cL_law 284 = .ok (.if_icmp .eq 674, 3) := dk_159 2 162 (dk_at dksL_law_8 3 rfl rfl)
theorem dL_law_287 : decode cL_law 287 = .ok (.iconst 0, 1) := dk_3 (dk_at dksL_law_8 6 rfl rfl)
theorem dL_law_288 : decode cL_law 288 = .ok (.ireturn, 1) := dk_172 (dk_at dksL_law_8 7 rfl rfl)
theorem dL_law_289 : decode cL_law 289 = .ok (.aload_n 1, 1) := dk_43 (dk_at dksL_law_8 8 rfl rfl)
theorem dL_law_290 : decode cL_law 290 = .ok (.aload_n 0, 1) := dk_42 (dk_at dksL_law_8 9 rfl rfl)
theorem dL_law_291 : decode cL_law 291 = .ok (.iload_n 3, 1) := dk_29 (dk_at dksL_law_8 10 rfl rfl)
theorem dL_law_292 : decode cL_law 292 = .ok (.iconst 1, 1) := dk_4 (dk_at dksL_law_8 11 rfl rfl)
theorem dL_law_293 : decode cL_law 293 = .ok (.iadd, 1) := dk_96 (dk_at dksL_law_8 12 rfl rfl)
theorem dL_law_294 : decode cL_law 294 = .ok (.iaload, 1) := dk_46 (dk_at dksL_law_8 13 rfl rfl)
theorem dL_law_295 : decode cL_law 295 = .ok (.invokevirtual 36, 3) := dk_182 0 36 (dk_at dksL_law_8 14 rfl rfl)
theorem dL_law_298 : decode cL_law 298 = .ok (.aload_n 2, 1) := dk_44 (dk_at dksL_law_8 17 rfl rfl)
theorem dL_law_299 : decode cL_law 299 = .ok (.aload_n 0, 1) := dk_42 (dk_at dksL_law_8 18 rfl rfl)
theorem dL_law_300 : decode cL_law 300 = .ok (.iload_n 3, 1) := dk_29 (dk_at dksL_law_8 19 rfl rfl)
theorem dL_law_301 : decode cL_law 301 = .ok (.iconst 1, 1) := dk_4 (dk_at dksL_law_8 20 rfl rfl)
theorem dL_law_302 : decode cL_law 302 = .ok (.iadd, 1) := dk_96 (dk_at dksL_law_8 21 rfl rfl)
theorem dL_law_303 : decode cL_law 303 = .ok (.iaload, 1) := dk_46 (dk_at dksL_law_8 22 rfl rfl)
theorem dL_law_304 : decode cL_law 304 = .ok (.invokevirtual 40, 3) := dk_182 0 40 (dk_at dksL_law_9 0 rfl rfl)
theorem dL_law_307 : decode cL_law 307 = .ok (.if_icmp .eq 651, 3) := dk_159 2 139 (dk_at dksL_law_9 3 rfl rfl)
theorem dL_law_310 : decode cL_law 310 = .ok (.iconst 0, 1) := dk_3 (dk_at dksL_law_9 6 rfl rfl)
theorem dL_law_311 : decode cL_law 311 = .ok (.ireturn, 1) := dk_172 (dk_at dksL_law_9 7 rfl rfl)
theorem dL_law_312 : decode cL_law 312 = .ok (.aload_n 1, 1) := dk_43 (dk_at dksL_law_9 8 rfl rfl)
theorem dL_law_313 : decode cL_law 313 = .ok (.invokevirtual 41, 3) := dk_182 0 41 (dk_at dksL_law_9 9 rfl rfl)
theorem dL_law_316 : decode cL_law 316 = .ok (.aload_n 2, 1) := dk_44 (dk_at dksL_law_9 12 rfl rfl)
theorem dL_law_317 : decode cL_law 317 = .ok (.invokevirtual 44, 3) := dk_182 0 44 (dk_at dksL_law_9 13 rfl rfl)
theorem dL_law_320 : decode cL_law 320 = .ok (.if_icmp .eq 638, 3) := dk_159 2 126 (dk_at dksL_law_9 16 rfl rfl)
theorem dL_law_323 : decode cL_law 323 = .ok (.iconst 0, 1) := dk_3 (dk_at dksL_law_9 19 rfl rfl)
theorem dL_law_324 : decode cL_law 324 = .ok (.ireturn, 1) := dk_172 (dk_at dksL_law_9 20 rfl rfl)
theorem dL_law_325 : decode cL_law 325 = .ok (.aload_n 1, 1) := dk_43 (dk_at dksL_law_9 21 rfl rfl)
theorem dL_law_326 : decode cL_law 326 = .ok (.aload_n 0, 1) := dk_42 (dk_at dksL_law_9 22 rfl rfl)
theorem dL_law_327 : decode cL_law 327 = .ok (.iload_n 3, 1) := dk_29 (dk_at dksL_law_9 23 rfl rfl)
theorem dL_law_328 : decode cL_law 328 = .ok (.iconst 1, 1) := dk_4 (dk_at dksL_law_10 0 rfl rfl)
theorem dL_law_329 : decode cL_law 329 = .ok (.iadd, 1) := dk_96 (dk_at dksL_law_10 1 rfl rfl)
theorem dL_law_330 : decode cL_law 330 = .ok (.iaload, 1) := dk_46 (dk_at dksL_law_10 2 rfl rfl)
theorem dL_law_331 : decode cL_law 331 = .ok (.aload_n 0, 1) := dk_42 (dk_at dksL_law_10 3 rfl rfl)
theorem dL_law_332 : decode cL_law 332 = .ok (.iload_n 3, 1) := dk_29 (dk_at dksL_law_10 4 rfl rfl)
theorem dL_law_333 : decode cL_law 333 = .ok (.iconst 2, 1) := dk_5 (dk_at dksL_law_10 5 rfl rfl)
theorem dL_law_334 : decode cL_law 334 = .ok (.iadd, 1) := dk_96 (dk_at dksL_law_10 6 rfl rfl)
theorem dL_law_335 : decode cL_law 335 = .ok (.iaload, 1) := dk_46 (dk_at dksL_law_10 7 rfl rfl)
theorem dL_law_336 : decode cL_law 336 = .ok (.invokevirtual 45, 3) := dk_182 0 45 (dk_at dksL_law_10 8 rfl rfl)
theorem dL_law_339 : decode cL_law 339 = .ok (.aload_n 2, 1) := dk_44 (dk_at dksL_law_10 11 rfl rfl)
theorem dL_law_340 : decode cL_law 340 = .ok (.aload_n 0, 1) := dk_42 (dk_at dksL_law_10 12 rfl rfl)
theorem dL_law_341 : decode cL_law 341 = .ok (.iload_n 3, 1) := dk_29 (dk_at dksL_law_10 13 rfl rfl)
theorem dL_law_342 : decode cL_law 342 = .ok (.iconst 1, 1) := dk_4 (dk_at dksL_law_10 14 rfl rfl)
theorem dL_law_343 : decode cL_law 343 = .ok (.iadd, 1) := dk_96 (dk_at dksL_law_10 15 rfl rfl)
theorem dL_law_344 : decode cL_law 344 = .ok (.iaload, 1) := dk_46 (dk_at dksL_law_10 16 rfl rfl)
theorem dL_law_345 : decode cL_law 345 = .ok (.aload_n 0, 1) := dk_42 (dk_at dksL_law_10 17 rfl rfl)
theorem dL_law_346 : decode cL_law 346 = .ok (.iload_n 3, 1) := dk_29 (dk_at dksL_law_10 18 rfl rfl)
theorem dL_law_347 : decode cL_law 347 = .ok (.iconst 2, 1) := dk_5 (dk_at dksL_law_10 19 rfl rfl)
theorem dL_law_348 : decode cL_law 348 = .ok (.iadd, 1) := dk_96 (dk_at dksL_law_10 20 rfl rfl)
theorem dL_law_349 : decode cL_law 349 = .ok (.iaload, 1) := dk_46 (dk_at dksL_law_10 21 rfl rfl)
theorem dL_law_350 : decode cL_law 350 = .ok (.invokevirtual 49, 3) := dk_182 0 49 (dk_at dksL_law_11 0 rfl rfl)
theorem dL_law_353 : decode cL_law 353 = .ok (.if_icmp .eq 605, 3) := dk_159 2 93 (dk_at dksL_law_11 3 rfl rfl)
theorem dL_law_356 : decode cL_law 356 = .ok (.iconst 0, 1) := dk_3 (dk_at dksL_law_11 6 rfl rfl)
theorem dL_law_357 : decode cL_law 357 = .ok (.ireturn, 1) := dk_172 (dk_at dksL_law_11 7 rfl rfl)
theorem dL_law_358 : decode cL_law 358 = .ok (.aload_n 1, 1) := dk_43 (dk_at dksL_law_11 8 rfl rfl)
theorem dL_law_359 : decode cL_law 359 = .ok (.aload_n 0, 1) := dk_42 (dk_at dksL_law_11 9 rfl rfl)
theorem dL_law_360 : decode cL_law 360 = .ok (.iload_n 3, 1) := dk_29 (dk_at dksL_law_11 10 rfl rfl)
theorem dL_law_361 : decode cL_law 361 = .ok (.iconst 1, 1) := dk_4 (dk_at dksL_law_11 11 rfl rfl)
theorem dL_law_362 : decode cL_law 362 = .ok (.iadd, 1) := dk_96 (dk_at dksL_law_11 12 rfl rfl)
theorem dL_law_363 : decode cL_law 363 = .ok (.iaload, 1) := dk_46 (dk_at dksL_law_11 13 rfl rfl)
theorem dL_law_364 : decode cL_law 364 = .ok (.invokevirtual 50, 3) := dk_182 0 50 (dk_at dksL_law_11 14 rfl rfl)
theorem dL_law_367 : decode cL_law 367 = .ok (.aload_n 2, 1) := dk_44 (dk_at dksL_law_11 17 rfl rfl)
theorem dL_law_368 : decode cL_law 368 = .ok (.aload_n 0, 1) := dk_42 (dk_at dksL_law_11 18 rfl rfl)
theorem dL_law_369 : decode cL_law 369 = .ok (.iload_n 3, 1) := dk_29 (dk_at dksL_law_11 19 rfl rfl)
theorem dL_law_370 : decode cL_law 370 = .ok (.iconst 1, 1) := dk_4 (dk_at dksL_law_11 20 rfl rfl)
theorem dL_law_371 : decode cL_law 371 = .ok (.iadd, 1) := dk_96 (dk_at dksL_law_11 21 rfl rfl)
theorem dL_law_372 : decode cL_law 372 = .ok (.iaload, 1) := dk_46 (dk_at dksL_law_11 22 rfl rfl)
theorem dL_law_373 : decode cL_law 373 = .ok (.invokevirtual 53, 3) := dk_182 0 53 (dk_at dksL_law_12 0 rfl rfl)
theorem dL_law_376 : decode cL_law 376 = .ok (.if_icmp .eq 582, 3) := dk_159 2 70 (dk_at dksL_law_12 3 rfl rfl)
theorem dL_law_379 : decode cL_law 379 = .ok (.iconst 0, 1) := dk_3 (dk_at dksL_law_12 6 rfl rfl)
theorem dL_law_380 : decode cL_law 380 = .ok (.ireturn, 1) := dk_172 (dk_at dksL_law_12 7 rfl rfl)
theorem dL_law_381 : decode cL_law 381 = .ok (.aload_n 1, 1) := dk_43 (dk_at dksL_law_12 8 rfl rfl)
theorem dL_law_382 : decode cL_law 382 = .ok (.aload_n 0, 1) := dk_42 (dk_at dksL_law_12 9 rfl rfl)
theorem dL_law_383 : decode cL_law 383 = .ok (.iload_n 3, 1) := dk_29 (dk_at dksL_law_12 10 rfl rfl)
theorem dL_law_384 : decode cL_law 384 = .ok (.iconst 1, 1) := dk_4 (dk_at dksL_law_12 11 rfl rfl)
theorem dL_law_385 : decode cL_law 385 = .ok (.iadd, 1) := dk_96 (dk_at dksL_law_12 12 rfl rfl)
theorem dL_law_386 : decode cL_law 386 = .ok (.iaload, 1) := dk_46 (dk_at dksL_law_12 13 rfl rfl)
theorem dL_law_387 : decode cL_law 387 = .ok (.invokevirtual 54, 3) := dk_182 0 54 (dk_at dksL_law_12 14 rfl rfl)
theorem dL_law_390 : decode cL_law 390 = .ok (.aload_n 2, 1) := dk_44 (dk_at dksL_law_12 17 rfl rfl)
theorem dL_law_391 : decode cL_law 391 = .ok (.aload_n 0, 1) := dk_42 (dk_at dksL_law_12 18 rfl rfl)
theorem dL_law_392 : decode cL_law 392 = .ok (.iload_n 3, 1) := dk_29 (dk_at dksL_law_12 19 rfl rfl)
theorem dL_law_393 : decode cL_law 393 = .ok (.iconst 1, 1) := dk_4 (dk_at dksL_law_12 20 rfl rfl)
theorem dL_law_394 : decode cL_law 394 = .ok (.iadd, 1) := dk_96 (dk_at dksL_law_12 21 rfl rfl)
theorem dL_law_395 : decode cL_law 395 = .ok (.iaload, 1) := dk_46 (dk_at dksL_law_12 22 rfl rfl)
theorem dL_law_396 : decode cL_law 396 = .ok (.invokevirtual 57, 3) := dk_182 0 57 (dk_at dksL_law_13 0 rfl rfl)
theorem dL_law_399 : decode cL_law 399 = .ok (.if_icmp .eq 559, 3) := dk_159 2 47 (dk_at dksL_law_13 3 rfl rfl)
theorem dL_law_402 : decode cL_law 402 = .ok (.iconst 0, 1) := dk_3 (dk_at dksL_law_13 6 rfl rfl)
theorem dL_law_403 : decode cL_law 403 = .ok (.ireturn, 1) := dk_172 (dk_at dksL_law_13 7 rfl rfl)
theorem dL_law_404 : decode cL_law 404 = .ok (.aload_n 1, 1) := dk_43 (dk_at dksL_law_13 8 rfl rfl)
theorem dL_law_405 : decode cL_law 405 = .ok (.aload_n 0, 1) := dk_42 (dk_at dksL_law_13 9 rfl rfl)
theorem dL_law_406 : decode cL_law 406 = .ok (.iload_n 3, 1) := dk_29 (dk_at dksL_law_13 10 rfl rfl)
theorem dL_law_407 : decode cL_law 407 = .ok (.iconst 1, 1) := dk_4 (dk_at dksL_law_13 11 rfl rfl)
theorem dL_law_408 : decode cL_law 408 = .ok (.iadd, 1) := dk_96 (dk_at dksL_law_13 12 rfl rfl)
theorem dL_law_409 : decode cL_law 409 = .ok (.iaload, 1) := dk_46 (dk_at dksL_law_13 13 rfl rfl)
theorem dL_law_410 : decode cL_law 410 = .ok (.invokevirtual 58, 3) := dk_182 0 58 (dk_at dksL_law_13 14 rfl rfl)
theorem dL_law_413 : decode cL_law 413 = .ok (.aload_n 2, 1) := dk_44 (dk_at dksL_law_13 17 rfl rfl)
theorem dL_law_414 : decode cL_law 414 = .ok (.aload_n 0, 1) := dk_42 (dk_at dksL_law_13 18 rfl rfl)
theorem dL_law_415 : decode cL_law 415 = .ok (.iload_n 3, 1) := dk_29 (dk_at dksL_law_13 19 rfl rfl)
theorem dL_law_416 : decode cL_law 416 = .ok (.iconst 1, 1) := dk_4 (dk_at dksL_law_13 20 rfl rfl)
theorem dL_law_417 : decode cL_law 417 = .ok (.iadd, 1) := dk_96 (dk_at dksL_law_13 21 rfl rfl)
theorem dL_law_418 : decode cL_law 418 = .ok (.iaload, 1) := dk_46 (dk_at dksL_law_13 22 rfl rfl)
theorem dL_law_419 : decode cL_law 419 = .ok (.invokevirtual 61, 3) := dk_182 0 61 (dk_at dksL_law_14 0 rfl rfl)
theorem dL_law_422 : decode cL_law 422 = .ok (.if_icmp .eq 536, 3) := dk_159 2 24 (dk_at dksL_law_14 3 rfl rfl)
theorem dL_law_425 : decode cL_law 425 = .ok (.iconst 0, 1) := dk_3 (dk_at dksL_law_14 6 rfl rfl)
theorem dL_law_426 : decode cL_law 426 = .ok (.ireturn, 1) := dk_172 (dk_at dksL_law_14 7 rfl rfl)
theorem dL_law_427 : decode cL_law 427 = .ok (.aload_n 1, 1) := dk_43 (dk_at dksL_law_14 8 rfl rfl)
theorem dL_law_428 : decode cL_law 428 = .ok (.aload_n 0, 1) := dk_42 (dk_at dksL_law_14 9 rfl rfl)
theorem dL_law_429 : decode cL_law 429 = .ok (.iload_n 3, 1) := dk_29 (dk_at dksL_law_14 10 rfl rfl)
theorem dL_law_430 : decode cL_law 430 = .ok (.iconst 1, 1) := dk_4 (dk_at dksL_law_14 11 rfl rfl)
theorem dL_law_431 : decode cL_law 431 = .ok (.iadd, 1) := dk_96 (dk_at dksL_law_14 12 rfl rfl)
theorem dL_law_432 : decode cL_law 432 = .ok (.iaload, 1) := dk_46 (dk_at dksL_law_14 13 rfl rfl)
theorem dL_law_433 : decode cL_law 433 = .ok (.aload_n 0, 1) := dk_42 (dk_at dksL_law_14 14 rfl rfl)
theorem dL_law_434 : decode cL_law 434 = .ok (.iload_n 3, 1) := dk_29 (dk_at dksL_law_14 15 rfl rfl)
theorem dL_law_435 : decode cL_law 435 = .ok (.iconst 2, 1) := dk_5 (dk_at dksL_law_14 16 rfl rfl)
theorem dL_law_436 : decode cL_law 436 = .ok (.iadd, 1) := dk_96 (dk_at dksL_law_14 17 rfl rfl)
theorem dL_law_437 : decode cL_law 437 = .ok (.iaload, 1) := dk_46 (dk_at dksL_law_14 18 rfl rfl)
theorem dL_law_438 : decode cL_law 438 = .ok (.invokevirtual 62, 3) := dk_182 0 62 (dk_at dksL_law_14 19 rfl rfl)
theorem dL_law_441 : decode cL_law 441 = .ok (.aload_n 2, 1) := dk_44 (dk_at dksL_law_14 22 rfl rfl)
theorem dL_law_442 : decode cL_law 442 = .ok (.aload_n 0, 1) := dk_42 (dk_at dksL_law_14 23 rfl rfl)
theorem dL_law_443 : decode cL_law 443 = .ok (.iload_n 3, 1) := dk_29 (dk_at dksL_law_15 0 rfl rfl)
theorem dL_law_444 : decode cL_law 444 = .ok (.iconst 1, 1) := dk_4 (dk_at dksL_law_15 1 rfl rfl)
theorem dL_law_445 : decode cL_law 445 = .ok (.iadd, 1) := dk_96 (dk_at dksL_law_15 2 rfl rfl)
theorem dL_law_446 : decode cL_law 446 = .ok (.iaload, 1) := dk_46 (dk_at dksL_law_15 3 rfl rfl)
theorem dL_law_447 : decode cL_law 447 = .ok (.aload_n 0, 1) := dk_42 (dk_at dksL_law_15 4 rfl rfl)
theorem dL_law_448 : decode cL_law 448 = .ok (.iload_n 3, 1) := dk_29 (dk_at dksL_law_15 5 rfl rfl)
theorem dL_law_449 : decode cL_law 449 = .ok (.iconst 2, 1) := dk_5 (dk_at dksL_law_15 6 rfl rfl)
theorem dL_law_450 : decode cL_law 450 = .ok (.iadd, 1) := dk_96 (dk_at dksL_law_15 7 rfl rfl)
theorem dL_law_451 : decode cL_law 451 = .ok (.iaload, 1) := dk_46 (dk_at dksL_law_15 8 rfl rfl)
theorem dL_law_452 : decode cL_law 452 = .ok (.invokevirtual 66, 3) := dk_182 0 66 (dk_at dksL_law_15 9 rfl rfl)
theorem dL_law_455 : decode cL_law 455 = .ok (.if_icmp .eq 503, 3) := dk_159 1 247 (dk_at dksL_law_15 12 rfl rfl)
theorem dL_law_458 : decode cL_law 458 = .ok (.iconst 0, 1) := dk_3 (dk_at dksL_law_15 15 rfl rfl)
theorem dL_law_459 : decode cL_law 459 = .ok (.ireturn, 1) := dk_172 (dk_at dksL_law_15 16 rfl rfl)
theorem dL_law_460 : decode cL_law 460 = .ok (.aload_n 1, 1) := dk_43 (dk_at dksL_law_15 17 rfl rfl)
theorem dL_law_461 : decode cL_law 461 = .ok (.aload_n 0, 1) := dk_42 (dk_at dksL_law_15 18 rfl rfl)
theorem dL_law_462 : decode cL_law 462 = .ok (.iload_n 3, 1) := dk_29 (dk_at dksL_law_15 19 rfl rfl)
theorem dL_law_463 : decode cL_law 463 = .ok (.iconst 1, 1) := dk_4 (dk_at dksL_law_15 20 rfl rfl)
theorem dL_law_464 : decode cL_law 464 = .ok (.iadd, 1) := dk_96 (dk_at dksL_law_15 21 rfl rfl)
theorem dL_law_465 : decode cL_law 465 = .ok (.iaload, 1) := dk_46 (dk_at dksL_law_15 22 rfl rfl)
theorem dL_law_466 : decode cL_law 466 = .ok (.aload_n 0, 1) := dk_42 (dk_at dksL_law_15 23 rfl rfl)
theorem dL_law_467 : decode cL_law 467 = .ok (.iload_n 3, 1) := dk_29 (dk_at dksL_law_16 0 rfl rfl)
theorem dL_law_468 : decode cL_law 468 = .ok (.iconst 2, 1) := dk_5 (dk_at dksL_law_16 1 rfl rfl)
theorem dL_law_469 : decode cL_law 469 = .ok (.iadd, 1) := dk_96 (dk_at dksL_law_16 2 rfl rfl)
theorem dL_law_470 : decode cL_law 470 = .ok (.iaload, 1) := dk_46 (dk_at dksL_law_16 3 rfl rfl)
theorem dL_law_471 : decode cL_law 471 = .ok (.invokevirtual 67, 3) := dk_182 0 67 (dk_at dksL_law_16 4 rfl rfl)
theorem dL_law_474 : decode cL_law 474 = .ok (.aload_n 2, 1) := dk_44 (dk_at dksL_law_16 7 rfl rfl)
theorem dL_law_475 : decode cL_law 475 = .ok (.aload_n 0, 1) := dk_42 (dk_at dksL_law_16 8 rfl rfl)
theorem dL_law_476 : decode cL_law 476 = .ok (.iload_n 3, 1) := dk_29 (dk_at dksL_law_16 9 rfl rfl)
theorem dL_law_477 : decode cL_law 477 = .ok (.iconst 1, 1) := dk_4 (dk_at dksL_law_16 10 rfl rfl)
theorem dL_law_478 : decode cL_law 478 = .ok (.iadd, 1) := dk_96 (dk_at dksL_law_16 11 rfl rfl)
theorem dL_law_479 : decode cL_law 479 = .ok (.iaload, 1) := dk_46 (dk_at dksL_law_16 12 rfl rfl)
theorem dL_law_480 : decode cL_law 480 = .ok (.aload_n 0, 1) := dk_42 (dk_at dksL_law_16 13 rfl rfl)
theorem dL_law_481 : decode cL_law 481 = .ok (.iload_n 3, 1) := dk_29 (dk_at dksL_law_16 14 rfl rfl)
theorem dL_law_482 : decode cL_law 482 = .ok (.iconst 2, 1) := dk_5 (dk_at dksL_law_16 15 rfl rfl)
theorem dL_law_483 : decode cL_law 483 = .ok (.iadd, 1) := dk_96 (dk_at dksL_law_16 16 rfl rfl)
theorem dL_law_484 : decode cL_law 484 = .ok (.iaload, 1) := dk_46 (dk_at dksL_law_16 17 rfl rfl)
theorem dL_law_485 : decode cL_law 485 = .ok (.invokevirtual 70, 3) := dk_182 0 70 (dk_at dksL_law_16 18 rfl rfl)
theorem dL_law_488 : decode cL_law 488 = .ok (.if_icmp .eq 470, 3) := dk_159 1 214 (dk_at dksL_law_16 21 rfl rfl)
theorem dL_law_491 : decode cL_law 491 = .ok (.iconst 0, 1) := dk_3 (dk_at dksL_law_17 0 rfl rfl)
theorem dL_law_492 : decode cL_law 492 = .ok (.ireturn, 1) := dk_172 (dk_at dksL_law_17 1 rfl rfl)
theorem dL_law_493 : decode cL_law 493 = .ok (.aload_n 1, 1) := dk_43 (dk_at dksL_law_17 2 rfl rfl)
theorem dL_law_494 : decode cL_law 494 = .ok (.aload_n 0, 1) := dk_42 (dk_at dksL_law_17 3 rfl rfl)
theorem dL_law_495 : decode cL_law 495 = .ok (.iload_n 3, 1) := dk_29 (dk_at dksL_law_17 4 rfl rfl)
theorem dL_law_496 : decode cL_law 496 = .ok (.iconst 1, 1) := dk_4 (dk_at dksL_law_17 5 rfl rfl)
theorem dL_law_497 : decode cL_law 497 = .ok (.iadd, 1) := dk_96 (dk_at dksL_law_17 6 rfl rfl)
theorem dL_law_498 : decode cL_law 498 = .ok (.iaload, 1) := dk_46 (dk_at dksL_law_17 7 rfl rfl)
theorem dL_law_499 : decode cL_law 499 = .ok (.aload_n 0, 1) := dk_42 (dk_at dksL_law_17 8 rfl rfl)
theorem dL_law_500 : decode cL_law 500 = .ok (.iload_n 3, 1) := dk_29 (dk_at dksL_law_17 9 rfl rfl)
theorem dL_law_501 : decode cL_law 501 = .ok (.iconst 2, 1) := dk_5 (dk_at dksL_law_17 10 rfl rfl)
theorem dL_law_502 : decode cL_law 502 = .ok (.iadd, 1) := dk_96 (dk_at dksL_law_17 11 rfl rfl)
theorem dL_law_503 : decode cL_law 503 = .ok (.iaload, 1) := dk_46 (dk_at dksL_law_17 12 rfl rfl)
theorem dL_law_504 : decode cL_law 504 = .ok (.aload_n 0, 1) := dk_42 (dk_at dksL_law_17 13 rfl rfl)
theorem dL_law_505 : decode cL_law 505 = .ok (.iload_n 3, 1) := dk_29 (dk_at dksL_law_17 14 rfl rfl)
theorem dL_law_506 : decode cL_law 506 = .ok (.iconst 3, 1) := dk_6 (dk_at dksL_law_17 15 rfl rfl)
theorem dL_law_507 : decode cL_law 507 = .ok (.iadd, 1) := dk_96 (dk_at dksL_law_17 16 rfl rfl)
theorem dL_law_508 : decode cL_law 508 = .ok (.iaload, 1) := dk_46 (dk_at dksL_law_17 17 rfl rfl)
theorem dL_law_509 : decode cL_law 509 = .ok (.invokevirtual 71, 3) := dk_182 0 71 (dk_at dksL_law_17 18 rfl rfl)
theorem dL_law_512 : decode cL_law 512 = .ok (.aload_n 2, 1) := dk_44 (dk_at dksL_law_17 21 rfl rfl)
theorem dL_law_513 : decode cL_law 513 = .ok (.aload_n 0, 1) := dk_42 (dk_at dksL_law_17 22 rfl rfl)
theorem dL_law_514 : decode cL_law 514 = .ok (.iload_n 3, 1) := dk_29 (dk_at dksL_law_17 23 rfl rfl)
theorem dL_law_515 : decode cL_law 515 = .ok (.iconst 1, 1) := dk_4 (dk_at dksL_law_18 0 rfl rfl)
theorem dL_law_516 : decode cL_law 516 = .ok (.iadd, 1) := dk_96 (dk_at dksL_law_18 1 rfl rfl)
theorem dL_law_517 : decode cL_law 517 = .ok (.iaload, 1) := dk_46 (dk_at dksL_law_18 2 rfl rfl)
theorem dL_law_518 : decode cL_law 518 = .ok (.aload_n 0, 1) := dk_42 (dk_at dksL_law_18 3 rfl rfl)
theorem dL_law_519 : decode cL_law 519 = .ok (.iload_n 3, 1) := dk_29 (dk_at dksL_law_18 4 rfl rfl)
theorem dL_law_520 : decode cL_law 520 = .ok (.iconst 2, 1) := dk_5 (dk_at dksL_law_18 5 rfl rfl)
theorem dL_law_521 : decode cL_law 521 = .ok (.iadd, 1) := dk_96 (dk_at dksL_law_18 6 rfl rfl)
theorem dL_law_522 : decode cL_law 522 = .ok (.iaload, 1) := dk_46 (dk_at dksL_law_18 7 rfl rfl)
theorem dL_law_523 : decode cL_law 523 = .ok (.aload_n 0, 1) := dk_42 (dk_at dksL_law_18 8 rfl rfl)
theorem dL_law_524 : decode cL_law 524 = .ok (.iload_n 3, 1) := dk_29 (dk_at dksL_law_18 9 rfl rfl)
theorem dL_law_525 : decode cL_law 525 = .ok (.iconst 3, 1) := dk_6 (dk_at dksL_law_18 10 rfl rfl)
theorem dL_law_526 : decode cL_law 526 = .ok (.iadd, 1) := dk_96 (dk_at dksL_law_18 11 rfl rfl)
theorem dL_law_527 : decode cL_law 527 = .ok (.iaload, 1) := dk_46 (dk_at dksL_law_18 12 rfl rfl)
theorem dL_law_528 : decode cL_law 528 = .ok (.invokevirtual 75, 3) := dk_182 0 75 (dk_at dksL_law_18 13 rfl rfl)
theorem dL_law_531 : decode cL_law 531 = .ok (.if_icmp .eq 427, 3) := dk_159 1 171 (dk_at dksL_law_18 16 rfl rfl)
theorem dL_law_534 : decode cL_law 534 = .ok (.iconst 0, 1) := dk_3 (dk_at dksL_law_18 19 rfl rfl)
theorem dL_law_535 : decode cL_law 535 = .ok (.ireturn, 1) := dk_172 (dk_at dksL_law_18 20 rfl rfl)
theorem dL_law_536 : decode cL_law 536 = .ok (.aload_n 1, 1) := dk_43 (dk_at dksL_law_18 21 rfl rfl)
theorem dL_law_537 : decode cL_law 537 = .ok (.aload_n 0, 1) := dk_42 (dk_at dksL_law_18 22 rfl rfl)
theorem dL_law_538 : decode cL_law 538 = .ok (.iload_n 3, 1) := dk_29 (dk_at dksL_law_18 23 rfl rfl)
theorem dL_law_539 : decode cL_law 539 = .ok (.iconst 1, 1) := dk_4 (dk_at dksL_law_19 0 rfl rfl)
theorem dL_law_540 : decode cL_law 540 = .ok (.iadd, 1) := dk_96 (dk_at dksL_law_19 1 rfl rfl)
theorem dL_law_541 : decode cL_law 541 = .ok (.iaload, 1) := dk_46 (dk_at dksL_law_19 2 rfl rfl)
theorem dL_law_542 : decode cL_law 542 = .ok (.aload_n 0, 1) := dk_42 (dk_at dksL_law_19 3 rfl rfl)
theorem dL_law_543 : decode cL_law 543 = .ok (.iload_n 3, 1) := dk_29 (dk_at dksL_law_19 4 rfl rfl)
theorem dL_law_544 : decode cL_law 544 = .ok (.iconst 2, 1) := dk_5 (dk_at dksL_law_19 5 rfl rfl)
theorem dL_law_545 : decode cL_law 545 = .ok (.iadd, 1) := dk_96 (dk_at dksL_law_19 6 rfl rfl)
theorem dL_law_546 : decode cL_law 546 = .ok (.iaload, 1) := dk_46 (dk_at dksL_law_19 7 rfl rfl)
theorem dL_law_547 : decode cL_law 547 = .ok (.invokevirtual 76, 3) := dk_182 0 76 (dk_at dksL_law_19 8 rfl rfl)
theorem dL_law_550 : decode cL_law 550 = .ok (.aload_n 2, 1) := dk_44 (dk_at dksL_law_19 11 rfl rfl)
theorem dL_law_551 : decode cL_law 551 = .ok (.aload_n 0, 1) := dk_42 (dk_at dksL_law_19 12 rfl rfl)
theorem dL_law_552 : decode cL_law 552 = .ok (.iload_n 3, 1) := dk_29 (dk_at dksL_law_19 13 rfl rfl)
theorem dL_law_553 : decode cL_law 553 = .ok (.iconst 1, 1) := dk_4 (dk_at dksL_law_19 14 rfl rfl)
theorem dL_law_554 : decode cL_law 554 = .ok (.iadd, 1) := dk_96 (dk_at dksL_law_19 15 rfl rfl)
theorem dL_law_555 : decode cL_law 555 = .ok (.iaload, 1) := dk_46 (dk_at dksL_law_19 16 rfl rfl)
theorem dL_law_556 : decode cL_law 556 = .ok (.aload_n 0, 1) := dk_42 (dk_at dksL_law_19 17 rfl rfl)
theorem dL_law_557 : decode cL_law 557 = .ok (.iload_n 3, 1) := dk_29 (dk_at dksL_law_19 18 rfl rfl)
theorem dL_law_558 : decode cL_law 558 = .ok (.iconst 2, 1) := dk_5 (dk_at dksL_law_19 19 rfl rfl)
theorem dL_law_559 : decode cL_law 559 = .ok (.iadd, 1) := dk_96 (dk_at dksL_law_19 20 rfl rfl)
theorem dL_law_560 : decode cL_law 560 = .ok (.iaload, 1) := dk_46 (dk_at dksL_law_19 21 rfl rfl)
theorem dL_law_561 : decode cL_law 561 = .ok (.invokevirtual 79, 3) := dk_182 0 79 (dk_at dksL_law_20 0 rfl rfl)
theorem dL_law_564 : decode cL_law 564 = .ok (.if_icmp .eq 394, 3) := dk_159 1 138 (dk_at dksL_law_20 3 rfl rfl)
theorem dL_law_567 : decode cL_law 567 = .ok (.iconst 0, 1) := dk_3 (dk_at dksL_law_20 6 rfl rfl)
theorem dL_law_568 : decode cL_law 568 = .ok (.ireturn, 1) := dk_172 (dk_at dksL_law_20 7 rfl rfl)
theorem dL_law_569 : decode cL_law 569 = .ok (.aload_n 1, 1) := dk_43 (dk_at dksL_law_20 8 rfl rfl)
theorem dL_law_570 : decode cL_law 570 = .ok (.aload_n 0, 1) := dk_42 (dk_at dksL_law_20 9 rfl rfl)
theorem dL_law_571 : decode cL_law 571 = .ok (.iload_n 3, 1) := dk_29 (dk_at dksL_law_20 10 rfl rfl)
theorem dL_law_572 : decode cL_law 572 = .ok (.iconst 1, 1) := dk_4 (dk_at dksL_law_20 11 rfl rfl)
theorem dL_law_573 : decode cL_law 573 = .ok (.iadd, 1) := dk_96 (dk_at dksL_law_20 12 rfl rfl)
theorem dL_law_574 : decode cL_law 574 = .ok (.iaload, 1) := dk_46 (dk_at dksL_law_20 13 rfl rfl)
theorem dL_law_575 : decode cL_law 575 = .ok (.aload_n 0, 1) := dk_42 (dk_at dksL_law_20 14 rfl rfl)
theorem dL_law_576 : decode cL_law 576 = .ok (.iload_n 3, 1) := dk_29 (dk_at dksL_law_20 15 rfl rfl)
theorem dL_law_577 : decode cL_law 577 = .ok (.iconst 2, 1) := dk_5 (dk_at dksL_law_20 16 rfl rfl)
theorem dL_law_578 : decode cL_law 578 = .ok (.iadd, 1) := dk_96 (dk_at dksL_law_20 17 rfl rfl)
theorem dL_law_579 : decode cL_law 579 = .ok (.iaload, 1) := dk_46 (dk_at dksL_law_20 18 rfl rfl)
theorem dL_law_580 : decode cL_law 580 = .ok (.aload_n 0, 1) := dk_42 (dk_at dksL_law_20 19 rfl rfl)
theorem dL_law_581 : decode cL_law 581 = .ok (.iload_n 3, 1) := dk_29 (dk_at dksL_law_20 20 rfl rfl)
theorem dL_law_582 : decode cL_law 582 = .ok (.iconst 3, 1) := dk_6 (dk_at dksL_law_20 21 rfl rfl)
theorem dL_law_583 : decode cL_law 583 = .ok (.iadd, 1) := dk_96 (dk_at dksL_law_20 22 rfl rfl)
theorem dL_law_584 : decode cL_law 584 = .ok (.iaload, 1) := dk_46 (dk_at dksL_law_20 23 rfl rfl)
theorem dL_law_585 : decode cL_law 585 = .ok (.invokevirtual 80, 3) := dk_182 0 80 (dk_at dksL_law_21 0 rfl rfl)
theorem dL_law_588 : decode cL_law 588 = .ok (.aload_n 2, 1) := dk_44 (dk_at dksL_law_21 3 rfl rfl)
theorem dL_law_589 : decode cL_law 589 = .ok (.aload_n 0, 1) := dk_42 (dk_at dksL_law_21 4 rfl rfl)
theorem dL_law_590 : decode cL_law 590 = .ok (.iload_n 3, 1) := dk_29 (dk_at dksL_law_21 5 rfl rfl)
theorem dL_law_591 : decode cL_law 591 = .ok (.iconst 1, 1) := dk_4 (dk_at dksL_law_21 6 rfl rfl)
theorem dL_law_592 : decode cL_law 592 = .ok (.iadd, 1) := dk_96 (dk_at dksL_law_21 7 rfl rfl)
theorem dL_law_593 : decode cL_law 593 = .ok (.iaload, 1) := dk_46 (dk_at dksL_law_21 8 rfl rfl)
theorem dL_law_594 : decode cL_law 594 = .ok (.aload_n 0, 1) := dk_42 (dk_at dksL_law_21 9 rfl rfl)
theorem dL_law_595 : decode cL_law 595 = .ok (.iload_n 3, 1) := dk_29 (dk_at dksL_law_21 10 rfl rfl)
theorem dL_law_596 : decode cL_law 596 = .ok (.iconst 2, 1) := dk_5 (dk_at dksL_law_21 11 rfl rfl)
theorem dL_law_597 : decode cL_law 597 = .ok (.iadd, 1) := dk_96 (dk_at dksL_law_21 12 rfl rfl)
theorem dL_law_598 : decode cL_law 598 = .ok (.iaload, 1) := dk_46 (dk_at dksL_law_21 13 rfl rfl)
theorem dL_law_599 : decode cL_law 599 = .ok (.aload_n 0, 1) := dk_42 (dk_at dksL_law_21 14 rfl rfl)
theorem dL_law_600 : decode cL_law 600 = .ok (.iload_n 3, 1) := dk_29 (dk_at dksL_law_21 15 rfl rfl)
theorem dL_law_601 : decode cL_law 601 = .ok (.iconst 3, 1) := dk_6 (dk_at dksL_law_21 16 rfl rfl)
theorem dL_law_602 : decode cL_law 602 = .ok (.iadd, 1) := dk_96 (dk_at dksL_law_21 17 rfl rfl)
theorem dL_law_603 : decode cL_law 603 = .ok (.iaload, 1) := dk_46 (dk_at dksL_law_21 18 rfl rfl)
theorem dL_law_604 : decode cL_law 604 = .ok (.invokevirtual 84, 3) := dk_182 0 84 (dk_at dksL_law_21 19 rfl rfl)
theorem dL_law_607 : decode cL_law 607 = .ok (.if_icmp .eq 351, 3) := dk_159 1 95 (dk_at dksL_law_22 0 rfl rfl)
theorem dL_law_610 : decode cL_law 610 = .ok (.iconst 0, 1) := dk_3 (dk_at dksL_law_22 3 rfl rfl)
theorem dL_law_611 : decode cL_law 611 = .ok (.ireturn, 1) := dk_172 (dk_at dksL_law_22 4 rfl rfl)
theorem dL_law_612 : decode cL_law 612 = .ok (.aload_n 1, 1) := dk_43 (dk_at dksL_law_22 5 rfl rfl)
theorem dL_law_613 : decode cL_law 613 = .ok (.aload_n 0, 1) := dk_42 (dk_at dksL_law_22 6 rfl rfl)
theorem dL_law_614 : decode cL_law 614 = .ok (.iload_n 3, 1) := dk_29 (dk_at dksL_law_22 7 rfl rfl)
theorem dL_law_615 : decode cL_law 615 = .ok (.iconst 1, 1) := dk_4 (dk_at dksL_law_22 8 rfl rfl)
theorem dL_law_616 : decode cL_law 616 = .ok (.iadd, 1) := dk_96 (dk_at dksL_law_22 9 rfl rfl)
theorem dL_law_617 : decode cL_law 617 = .ok (.iaload, 1) := dk_46 (dk_at dksL_law_22 10 rfl rfl)
theorem dL_law_618 : decode cL_law 618 = .ok (.invokevirtual 85, 3) := dk_182 0 85 (dk_at dksL_law_22 11 rfl rfl)
theorem dL_law_621 : decode cL_law 621 = .ok (.aload_n 2, 1) := dk_44 (dk_at dksL_law_22 14 rfl rfl)
theorem dL_law_622 : decode cL_law 622 = .ok (.aload_n 0, 1) := dk_42 (dk_at dksL_law_22 15 rfl rfl)
theorem dL_law_623 : decode cL_law 623 = .ok (.iload_n 3, 1) := dk_29 (dk_at dksL_law_22 16 rfl rfl)
theorem dL_law_624 : decode cL_law 624 = .ok (.iconst 1, 1) := dk_4 (dk_at dksL_law_22 17 rfl rfl)
theorem dL_law_625 : decode cL_law 625 = .ok (.iadd, 1) := dk_96 (dk_at dksL_law_22 18 rfl rfl)
theorem dL_law_626 : decode cL_law 626 = .ok (.iaload, 1) := dk_46 (dk_at dksL_law_22 19 rfl rfl)
theorem dL_law_627 : decode cL_law 627 = .ok (.invokevirtual 88, 3) := dk_182 0 88 (dk_at dksL_law_22 20 rfl rfl)
theorem dL_law_630 : decode cL_law 630 = .ok (.if_icmp .eq 328, 3) := dk_159 1 72 (dk_at dksL_law_23 0 rfl rfl)
theorem dL_law_633 : decode cL_law 633 = .ok (.iconst 0, 1) := dk_3 (dk_at dksL_law_23 3 rfl rfl)
theorem dL_law_634 : decode cL_law 634 = .ok (.ireturn, 1) := dk_172 (dk_at dksL_law_23 4 rfl rfl)
theorem dL_law_635 : decode cL_law 635 = .ok (.aload_n 1, 1) := dk_43 (dk_at dksL_law_23 5 rfl rfl)
theorem dL_law_636 : decode cL_law 636 = .ok (.aload_n 0, 1) := dk_42 (dk_at dksL_law_23 6 rfl rfl)
theorem dL_law_637 : decode cL_law 637 = .ok (.iload_n 3, 1) := dk_29 (dk_at dksL_law_23 7 rfl rfl)
theorem dL_law_638 : decode cL_law 638 = .ok (.iconst 1, 1) := dk_4 (dk_at dksL_law_23 8 rfl rfl)
theorem dL_law_639 : decode cL_law 639 = .ok (.iadd, 1) := dk_96 (dk_at dksL_law_23 9 rfl rfl)
theorem dL_law_640 : decode cL_law 640 = .ok (.iaload, 1) := dk_46 (dk_at dksL_law_23 10 rfl rfl)
theorem dL_law_641 : decode cL_law 641 = .ok (.invokevirtual 89, 3) := dk_182 0 89 (dk_at dksL_law_23 11 rfl rfl)
theorem dL_law_644 : decode cL_law 644 = .ok (.aload_n 2, 1) := dk_44 (dk_at dksL_law_23 14 rfl rfl)
theorem dL_law_645 : decode cL_law 645 = .ok (.aload_n 0, 1) := dk_42 (dk_at dksL_law_23 15 rfl rfl)
theorem dL_law_646 : decode cL_law 646 = .ok (.iload_n 3, 1) := dk_29 (dk_at dksL_law_23 16 rfl rfl)
theorem dL_law_647 : decode cL_law 647 = .ok (.iconst 1, 1) := dk_4 (dk_at dksL_law_23 17 rfl rfl)
theorem dL_law_648 : decode cL_law 648 = .ok (.iadd, 1) := dk_96 (dk_at dksL_law_23 18 rfl rfl)
theorem dL_law_649 : decode cL_law 649 = .ok (.iaload, 1) := dk_46 (dk_at dksL_law_23 19 rfl rfl)
theorem dL_law_650 : decode cL_law 650 = .ok (.invokevirtual 92, 3) := dk_182 0 92 (dk_at dksL_law_23 20 rfl rfl)
theorem dL_law_653 : decode cL_law 653 = .ok (.if_icmp .eq 305, 3) := dk_159 1 49 (dk_at dksL_law_24 0 rfl rfl)
theorem dL_law_656 : decode cL_law 656 = .ok (.iconst 0, 1) := dk_3 (dk_at dksL_law_24 3 rfl rfl)
theorem dL_law_657 : decode cL_law 657 = .ok (.ireturn, 1) := dk_172 (dk_at dksL_law_24 4 rfl rfl)
theorem dL_law_658 : decode cL_law 658 = .ok (.aload_n 1, 1) := dk_43 (dk_at dksL_law_24 5 rfl rfl)
theorem dL_law_659 : decode cL_law 659 = .ok (.invokevirtual 93, 3) := dk_182 0 93 (dk_at dksL_law_24 6 rfl rfl)
theorem dL_law_662 : decode cL_law 662 = .ok (.aload_n 2, 1) := dk_44 (dk_at dksL_law_24 9 rfl rfl)
theorem dL_law_663 : decode cL_law 663 = .ok (.invokevirtual 96, 3) := dk_182 0 96 (dk_at dksL_law_24 10 rfl rfl)
theorem dL_law_666 : decode cL_law 666 = .ok (.if_icmp .eq 292, 3) := dk_159 1 36 (dk_at dksL_law_24 13 rfl rfl)
theorem dL_law_669 : decode cL_law 669 = .ok (.iconst 0, 1) := dk_3 (dk_at dksL_law_24 16 rfl rfl)
theorem dL_law_670 : decode cL_law 670 = .ok (.ireturn, 1) := dk_172 (dk_at dksL_law_24 17 rfl rfl)
theorem dL_law_671 : decode cL_law 671 = .ok (.aload_n 1, 1) := dk_43 (dk_at dksL_law_24 18 rfl rfl)
theorem dL_law_672 : decode cL_law 672 = .ok (.aload_n 0, 1) := dk_42 (dk_at dksL_law_24 19 rfl rfl)
theorem dL_law_673 : decode cL_law 673 = .ok (.iload_n 3, 1) := dk_29 (dk_at dksL_law_24 20 rfl rfl)
theorem dL_law_674 : decode cL_law 674 = .ok (.iconst 1, 1) := dk_4 (dk_at dksL_law_24 21 rfl rfl)
theorem dL_law_675 : decode cL_law 675 = .ok (.iadd, 1) := dk_96 (dk_at dksL_law_24 22 rfl rfl)
theorem dL_law_676 : decode cL_law 676 = .ok (.iaload, 1) := dk_46 (dk_at dksL_law_24 23 rfl rfl)
theorem dL_law_677 : decode cL_law 677 = .ok (.invokevirtual 97, 3) := dk_182 0 97 (dk_at dksL_law_25 0 rfl rfl)
theorem dL_law_680 : decode cL_law 680 = .ok (.aload_n 2, 1) := dk_44 (dk_at dksL_law_25 3 rfl rfl)
theorem dL_law_681 : decode cL_law 681 = .ok (.aload_n 0, 1) := dk_42 (dk_at dksL_law_25 4 rfl rfl)
theorem dL_law_682 : decode cL_law 682 = .ok (.iload_n 3, 1) := dk_29 (dk_at dksL_law_25 5 rfl rfl)
theorem dL_law_683 : decode cL_law 683 = .ok (.iconst 1, 1) := dk_4 (dk_at dksL_law_25 6 rfl rfl)
theorem dL_law_684 : decode cL_law 684 = .ok (.iadd, 1) := dk_96 (dk_at dksL_law_25 7 rfl rfl)
theorem dL_law_685 : decode cL_law 685 = .ok (.iaload, 1) := dk_46 (dk_at dksL_law_25 8 rfl rfl)
theorem dL_law_686 : decode cL_law 686 = .ok (.invokevirtual 100, 3) := dk_182 0 100 (dk_at dksL_law_25 9 rfl rfl)
theorem dL_law_689 : decode cL_law 689 = .ok (.if_icmp .eq 269, 3) := dk_159 1 13 (dk_at dksL_law_25 12 rfl rfl)
theorem dL_law_692 : decode cL_law 692 = .ok (.iconst 0, 1) := dk_3 (dk_at dksL_law_25 15 rfl rfl)
theorem dL_law_693 : decode cL_law 693 = .ok (.ireturn, 1) := dk_172 (dk_at dksL_law_25 16 rfl rfl)
theorem dL_law_694 : decode cL_law 694 = .ok (.aload_n 1, 1) := dk_43 (dk_at dksL_law_25 17 rfl rfl)
theorem dL_law_695 : decode cL_law 695 = .ok (.aload_n 0, 1) := dk_42 (dk_at dksL_law_25 18 rfl rfl)
theorem dL_law_696 : decode cL_law 696 = .ok (.iload_n 3, 1) := dk_29 (dk_at dksL_law_25 19 rfl rfl)
theorem dL_law_697 : decode cL_law 697 = .ok (.iconst 1, 1) := dk_4 (dk_at dksL_law_25 20 rfl rfl)
theorem dL_law_698 : decode cL_law 698 = .ok (.iadd, 1) := dk_96 (dk_at dksL_law_25 21 rfl rfl)
theorem dL_law_699 : decode cL_law 699 = .ok (.iaload, 1) := dk_46 (dk_at dksL_law_25 22 rfl rfl)
theorem dL_law_700 : decode cL_law 700 = .ok (.aload_n 0, 1) := dk_42 (dk_at dksL_law_25 23 rfl rfl)
theorem dL_law_701 : decode cL_law 701 = .ok (.iload_n 3, 1) := dk_29 (dk_at dksL_law_26 0 rfl rfl)
theorem dL_law_702 : decode cL_law 702 = .ok (.iconst 2, 1) := dk_5 (dk_at dksL_law_26 1 rfl rfl)
theorem dL_law_703 : decode cL_law 703 = .ok (.iadd, 1) := dk_96 (dk_at dksL_law_26 2 rfl rfl)
theorem dL_law_704 : decode cL_law 704 = .ok (.iaload, 1) := dk_46 (dk_at dksL_law_26 3 rfl rfl)
theorem dL_law_705 : decode cL_law 705 = .ok (.invokevirtual 101, 3) := dk_182 0 101 (dk_at dksL_law_26 4 rfl rfl)
theorem dL_law_708 : decode cL_law 708 = .ok (.aload_n 2, 1) := dk_44 (dk_at dksL_law_26 7 rfl rfl)
theorem dL_law_709 : decode cL_law 709 = .ok (.aload_n 0, 1) := dk_42 (dk_at dksL_law_26 8 rfl rfl)
theorem dL_law_710 : decode cL_law 710 = .ok (.iload_n 3, 1) := dk_29 (dk_at dksL_law_26 9 rfl rfl)
theorem dL_law_711 : decode cL_law 711 = .ok (.iconst 1, 1) := dk_4 (dk_at dksL_law_26 10 rfl rfl)
theorem dL_law_712 : decode cL_law 712 = .ok (.iadd, 1) := dk_96 (dk_at dksL_law_26 11 rfl rfl)
theorem dL_law_713 : decode cL_law 713 = .ok (.iaload, 1) := dk_46 (dk_at dksL_law_26 12 rfl rfl)
theorem dL_law_714 : decode cL_law 714 = .ok (.aload_n 0, 1) := dk_42 (dk_at dksL_law_26 13 rfl rfl)
theorem dL_law_715 : decode cL_law 715 = .ok (.iload_n 3, 1) := dk_29 (dk_at dksL_law_26 14 rfl rfl)
theorem dL_law_716 : decode cL_law 716 = .ok (.iconst 2, 1) := dk_5 (dk_at dksL_law_26 15 rfl rfl)
theorem dL_law_717 : decode cL_law 717 = .ok (.iadd, 1) := dk_96 (dk_at dksL_law_26 16 rfl rfl)
theorem dL_law_718 : decode cL_law 718 = .ok (.iaload, 1) := dk_46 (dk_at dksL_law_26 17 rfl rfl)
theorem dL_law_719 : decode cL_law 719 = .ok (.invokevirtual 104, 3) := dk_182 0 104 (dk_at dksL_law_26 18 rfl rfl)
theorem dL_law_722 : decode cL_law 722 = .ok (.if_icmp .eq 236, 3) := dk_159 0 236 (dk_at dksL_law_26 21 rfl rfl)
theorem dL_law_725 : decode cL_law 725 = .ok (.iconst 0, 1) := dk_3 (dk_at dksL_law_27 0 rfl rfl)
theorem dL_law_726 : decode cL_law 726 = .ok (.ireturn, 1) := dk_172 (dk_at dksL_law_27 1 rfl rfl)
theorem dL_law_727 : decode cL_law 727 = .ok (.aload_n 1, 1) := dk_43 (dk_at dksL_law_27 2 rfl rfl)
theorem dL_law_728 : decode cL_law 728 = .ok (.aload_n 0, 1) := dk_42 (dk_at dksL_law_27 3 rfl rfl)
theorem dL_law_729 : decode cL_law 729 = .ok (.iload_n 3, 1) := dk_29 (dk_at dksL_law_27 4 rfl rfl)
theorem dL_law_730 : decode cL_law 730 = .ok (.iconst 1, 1) := dk_4 (dk_at dksL_law_27 5 rfl rfl)
theorem dL_law_731 : decode cL_law 731 = .ok (.iadd, 1) := dk_96 (dk_at dksL_law_27 6 rfl rfl)
theorem dL_law_732 : decode cL_law 732 = .ok (.iaload, 1) := dk_46 (dk_at dksL_law_27 7 rfl rfl)
theorem dL_law_733 : decode cL_law 733 = .ok (.aload_n 0, 1) := dk_42 (dk_at dksL_law_27 8 rfl rfl)
theorem dL_law_734 : decode cL_law 734 = .ok (.iload_n 3, 1) := dk_29 (dk_at dksL_law_27 9 rfl rfl)
theorem dL_law_735 : decode cL_law 735 = .ok (.iconst 2, 1) := dk_5 (dk_at dksL_law_27 10 rfl rfl)
theorem dL_law_736 : decode cL_law 736 = .ok (.iadd, 1) := dk_96 (dk_at dksL_law_27 11 rfl rfl)
theorem dL_law_737 : decode cL_law 737 = .ok (.iaload, 1) := dk_46 (dk_at dksL_law_27 12 rfl rfl)
theorem dL_law_738 : decode cL_law 738 = .ok (.aload_n 0, 1) := dk_42 (dk_at dksL_law_27 13 rfl rfl)
theorem dL_law_739 : decode cL_law 739 = .ok (.iload_n 3, 1) := dk_29 (dk_at dksL_law_27 14 rfl rfl)
theorem dL_law_740 : decode cL_law 740 = .ok (.iconst 3, 1) := dk_6 (dk_at dksL_law_27 15 rfl rfl)
theorem dL_law_741 : decode cL_law 741 = .ok (.iadd, 1) := dk_96 (dk_at dksL_law_27 16 rfl rfl)
theorem dL_law_742 : decode cL_law 742 = .ok (.iaload, 1) := dk_46 (dk_at dksL_law_27 17 rfl rfl)
theorem dL_law_743 : decode cL_law 743 = .ok (.invokevirtual 105, 3) := dk_182 0 105 (dk_at dksL_law_27 18 rfl rfl)
theorem dL_law_746 : decode cL_law 746 = .ok (.aload_n 2, 1) := dk_44 (dk_at dksL_law_27 21 rfl rfl)
theorem dL_law_747 : decode cL_law 747 = .ok (.aload_n 0, 1) := dk_42 (dk_at dksL_law_27 22 rfl rfl)
theorem dL_law_748 : decode cL_law 748 = .ok (.iload_n 3, 1) := dk_29 (dk_at dksL_law_27 23 rfl rfl)
theorem dL_law_749 : decode cL_law 749 = .ok (.iconst 1, 1) := dk_4 (dk_at dksL_law_28 0 rfl rfl)
theorem dL_law_750 : decode cL_law 750 = .ok (.iadd, 1) := dk_96 (dk_at dksL_law_28 1 rfl rfl)
theorem dL_law_751 : decode cL_law 751 = .ok (.iaload, 1) := dk_46 (dk_at dksL_law_28 2 rfl rfl)
theorem dL_law_752 : decode cL_law 752 = .ok (.aload_n 0, 1) := dk_42 (dk_at dksL_law_28 3 rfl rfl)
theorem dL_law_753 : decode cL_law 753 = .ok (.iload_n 3, 1) := dk_29 (dk_at dksL_law_28 4 rfl rfl)
theorem dL_law_754 : decode cL_law 754 = .ok (.iconst 2, 1) := dk_5 (dk_at dksL_law_28 5 rfl rfl)
theorem dL_law_755 : decode cL_law 755 = .ok (.iadd, 1) := dk_96 (dk_at dksL_law_28 6 rfl rfl)
theorem dL_law_756 : decode cL_law 756 = .ok (.iaload, 1) := dk_46 (dk_at dksL_law_28 7 rfl rfl)
theorem dL_law_757 : decode cL_law 757 = .ok (.aload_n 0, 1) := dk_42 (dk_at dksL_law_28 8 rfl rfl)
theorem dL_law_758 : decode cL_law 758 = .ok (.iload_n 3, 1) := dk_29 (dk_at dksL_law_28 9 rfl rfl)
theorem dL_law_759 : decode cL_law 759 = .ok (.iconst 3, 1) := dk_6 (dk_at dksL_law_28 10 rfl rfl)
theorem dL_law_760 : decode cL_law 760 = .ok (.iadd, 1) := dk_96 (dk_at dksL_law_28 11 rfl rfl)
theorem dL_law_761 : decode cL_law 761 = .ok (.iaload, 1) := dk_46 (dk_at dksL_law_28 12 rfl rfl)
theorem dL_law_762 : decode cL_law 762 = .ok (.invokevirtual 108, 3) := dk_182 0 108 (dk_at dksL_law_28 13 rfl rfl)
theorem dL_law_765 : decode cL_law 765 = .ok (.if_icmp .eq 193, 3) := dk_159 0 193 (dk_at dksL_law_28 16 rfl rfl)
theorem dL_law_768 : decode cL_law 768 = .ok (.iconst 0, 1) := dk_3 (dk_at dksL_law_28 19 rfl rfl)
theorem dL_law_769 : decode cL_law 769 = .ok (.ireturn, 1) := dk_172 (dk_at dksL_law_28 20 rfl rfl)
theorem dL_law_770 : decode cL_law 770 = .ok (.aload_n 1, 1) := dk_43 (dk_at dksL_law_28 21 rfl rfl)
theorem dL_law_771 : decode cL_law 771 = .ok (.aload_n 0, 1) := dk_42 (dk_at dksL_law_28 22 rfl rfl)
theorem dL_law_772 : decode cL_law 772 = .ok (.iload_n 3, 1) := dk_29 (dk_at dksL_law_28 23 rfl rfl)
theorem dL_law_773 : decode cL_law 773 = .ok (.iconst 1, 1) := dk_4 (dk_at dksL_law_29 0 rfl rfl)
theorem dL_law_774 : decode cL_law 774 = .ok (.iadd, 1) := dk_96 (dk_at dksL_law_29 1 rfl rfl)
theorem dL_law_775 : decode cL_law 775 = .ok (.iaload, 1) := dk_46 (dk_at dksL_law_29 2 rfl rfl)
theorem dL_law_776 : decode cL_law 776 = .ok (.aload_n 0, 1) := dk_42 (dk_at dksL_law_29 3 rfl rfl)
theorem dL_law_777 : decode cL_law 777 = .ok (.iload_n 3, 1) := dk_29 (dk_at dksL_law_29 4 rfl rfl)
theorem dL_law_778 : decode cL_law 778 = .ok (.iconst 2, 1) := dk_5 (dk_at dksL_law_29 5 rfl rfl)
theorem dL_law_779 : decode cL_law 779 = .ok (.iadd, 1) := dk_96 (dk_at dksL_law_29 6 rfl rfl)
theorem dL_law_780 : decode cL_law 780 = .ok (.iaload, 1) := dk_46 (dk_at dksL_law_29 7 rfl rfl)
theorem dL_law_781 : decode cL_law 781 = .ok (.invokevirtual 109, 3) := dk_182 0 109 (dk_at dksL_law_29 8 rfl rfl)
theorem dL_law_784 : decode cL_law 784 = .ok (.aload_n 2, 1) := dk_44 (dk_at dksL_law_29 11 rfl rfl)
theorem dL_law_785 : decode cL_law 785 = .ok (.aload_n 0, 1) := dk_42 (dk_at dksL_law_29 12 rfl rfl)
theorem dL_law_786 : decode cL_law 786 = .ok (.iload_n 3, 1) := dk_29 (dk_at dksL_law_29 13 rfl rfl)
theorem dL_law_787 : decode cL_law 787 = .ok (.iconst 1, 1) := dk_4 (dk_at dksL_law_29 14 rfl rfl)
theorem dL_law_788 : decode cL_law 788 = .ok (.iadd, 1) := dk_96 (dk_at dksL_law_29 15 rfl rfl)
theorem dL_law_789 : decode cL_law 789 = .ok (.iaload, 1) := dk_46 (dk_at dksL_law_29 16 rfl rfl)
theorem dL_law_790 : decode cL_law 790 = .ok (.aload_n 0, 1) := dk_42 (dk_at dksL_law_29 17 rfl rfl)
theorem dL_law_791 : decode cL_law 791 = .ok (.iload_n 3, 1) := dk_29 (dk_at dksL_law_29 18 rfl rfl)
theorem dL_law_792 : decode cL_law 792 = .ok (.iconst 2, 1) := dk_5 (dk_at dksL_law_29 19 rfl rfl)
theorem dL_law_793 : decode cL_law 793 = .ok (.iadd, 1) := dk_96 (dk_at dksL_law_29 20 rfl rfl)
theorem dL_law_794 : decode cL_law 794 = .ok (.iaload, 1) := dk_46 (dk_at dksL_law_29 21 rfl rfl)
theorem dL_law_795 : decode cL_law 795 = .ok (.invokevirtual 112, 3) := dk_182 0 112 (dk_at dksL_law_30 0 rfl rfl)
theorem dL_law_798 : decode cL_law 798 = .ok (.if_icmp .eq 160, 3) := dk_159 0 160 (dk_at dksL_law_30 3 rfl rfl)
theorem dL_law_801 : decode cL_law 801 = .ok (.iconst 0, 1) := dk_3 (dk_at dksL_law_30 6 rfl rfl)
theorem dL_law_802 : decode cL_law 802 = .ok (.ireturn, 1) := dk_172 (dk_at dksL_law_30 7 rfl rfl)
theorem dL_law_803 : decode cL_law 803 = .ok (.aload_n 1, 1) := dk_43 (dk_at dksL_law_30 8 rfl rfl)
theorem dL_law_804 : decode cL_law 804 = .ok (.aload_n 0, 1) := dk_42 (dk_at dksL_law_30 9 rfl rfl)
theorem dL_law_805 : decode cL_law 805 = .ok (.iload_n 3, 1) := dk_29 (dk_at dksL_law_30 10 rfl rfl)
theorem dL_law_806 : decode cL_law 806 = .ok (.iconst 1, 1) := dk_4 (dk_at dksL_law_30 11 rfl rfl)
theorem dL_law_807 : decode cL_law 807 = .ok (.iadd, 1) := dk_96 (dk_at dksL_law_30 12 rfl rfl)
theorem dL_law_808 : decode cL_law 808 = .ok (.iaload, 1) := dk_46 (dk_at dksL_law_30 13 rfl rfl)
theorem dL_law_809 : decode cL_law 809 = .ok (.aload_n 0, 1) := dk_42 (dk_at dksL_law_30 14 rfl rfl)
theorem dL_law_810 : decode cL_law 810 = .ok (.iload_n 3, 1) := dk_29 (dk_at dksL_law_30 15 rfl rfl)
theorem dL_law_811 : decode cL_law 811 = .ok (.iconst 2, 1) := dk_5 (dk_at dksL_law_30 16 rfl rfl)
theorem dL_law_812 : decode cL_law 812 = .ok (.iadd, 1) := dk_96 (dk_at dksL_law_30 17 rfl rfl)
theorem dL_law_813 : decode cL_law 813 = .ok (.iaload, 1) := dk_46 (dk_at dksL_law_30 18 rfl rfl)
theorem dL_law_814 : decode cL_law 814 = .ok (.ifCond .eq 7, 3) := dk_153 0 7 (dk_at dksL_law_30 19 rfl rfl)
theorem dL_law_817 : decode cL_law 817 = .ok (.iconst 1, 1) := dk_4 (dk_at dksL_law_30 22 rfl rfl)
theorem dL_law_818 : decode cL_law 818 = .ok (.goto 4, 3) := dk_167 0 4 (dk_at dksL_law_31 0 rfl rfl)
theorem dL_law_821 : decode cL_law 821 = .ok (.iconst 0, 1) := dk_3 (dk_at dksL_law_31 3 rfl rfl)
theorem dL_law_822 : decode cL_law 822 = .ok (.invokevirtual 113, 3) := dk_182 0 113 (dk_at dksL_law_31 4 rfl rfl)
theorem dL_law_825 : decode cL_law 825 = .ok (.aload_n 2, 1) := dk_44 (dk_at dksL_law_31 7 rfl rfl)
theorem dL_law_826 : decode cL_law 826 = .ok (.aload_n 0, 1) := dk_42 (dk_at dksL_law_31 8 rfl rfl)
theorem dL_law_827 : decode cL_law 827 = .ok (.iload_n 3, 1) := dk_29 (dk_at dksL_law_31 9 rfl rfl)
theorem dL_law_828 : decode cL_law 828 = .ok (.iconst 1, 1) := dk_4 (dk_at dksL_law_31 10 rfl rfl)
theorem dL_law_829 : decode cL_law 829 = .ok (.iadd, 1) := dk_96 (dk_at dksL_law_31 11 rfl rfl)
theorem dL_law_830 : decode cL_law 830 = .ok (.iaload, 1) := dk_46 (dk_at dksL_law_31 12 rfl rfl)
theorem dL_law_831 : decode cL_law 831 = .ok (.aload_n 0, 1) := dk_42 (dk_at dksL_law_31 13 rfl rfl)
theorem dL_law_832 : decode cL_law 832 = .ok (.iload_n 3, 1) := dk_29 (dk_at dksL_law_31 14 rfl rfl)
theorem dL_law_833 : decode cL_law 833 = .ok (.iconst 2, 1) := dk_5 (dk_at dksL_law_31 15 rfl rfl)
theorem dL_law_834 : decode cL_law 834 = .ok (.iadd, 1) := dk_96 (dk_at dksL_law_31 16 rfl rfl)
theorem dL_law_835 : decode cL_law 835 = .ok (.iaload, 1) := dk_46 (dk_at dksL_law_31 17 rfl rfl)
theorem dL_law_836 : decode cL_law 836 = .ok (.ifCond .eq 7, 3) := dk_153 0 7 (dk_at dksL_law_31 18 rfl rfl)
theorem dL_law_839 : decode cL_law 839 = .ok (.iconst 1, 1) := dk_4 (dk_at dksL_law_31 21 rfl rfl)
theorem dL_law_840 : decode cL_law 840 = .ok (.goto 4, 3) := dk_167 0 4 (dk_at dksL_law_32 0 rfl rfl)
theorem dL_law_843 : decode cL_law 843 = .ok (.iconst 0, 1) := dk_3 (dk_at dksL_law_32 3 rfl rfl)
theorem dL_law_844 : decode cL_law 844 = .ok (.invokevirtual 117, 3) := dk_182 0 117 (dk_at dksL_law_32 4 rfl rfl)
theorem dL_law_847 : decode cL_law 847 = .ok (.if_icmp .eq 111, 3) := dk_159 0 111 (dk_at dksL_law_32 7 rfl rfl)
theorem dL_law_850 : decode cL_law 850 = .ok (.iconst 0, 1) := dk_3 (dk_at dksL_law_32 10 rfl rfl)
theorem dL_law_851 : decode cL_law 851 = .ok (.ireturn, 1) := dk_172 (dk_at dksL_law_32 11 rfl rfl)
theorem dL_law_852 : decode cL_law 852 = .ok (.aload_n 1, 1) := dk_43 (dk_at dksL_law_32 12 rfl rfl)
theorem dL_law_853 : decode cL_law 853 = .ok (.aload_n 0, 1) := dk_42 (dk_at dksL_law_32 13 rfl rfl)
theorem dL_law_854 : decode cL_law 854 = .ok (.iload_n 3, 1) := dk_29 (dk_at dksL_law_32 14 rfl rfl)
theorem dL_law_855 : decode cL_law 855 = .ok (.iconst 1, 1) := dk_4 (dk_at dksL_law_32 15 rfl rfl)
theorem dL_law_856 : decode cL_law 856 = .ok (.iadd, 1) := dk_96 (dk_at dksL_law_32 16 rfl rfl)
theorem dL_law_857 : decode cL_law 857 = .ok (.iaload, 1) := dk_46 (dk_at dksL_law_32 17 rfl rfl)
theorem dL_law_858 : decode cL_law 858 = .ok (.invokevirtual 118, 3) := dk_182 0 118 (dk_at dksL_law_32 18 rfl rfl)
theorem dL_law_861 : decode cL_law 861 = .ok (.aload_n 2, 1) := dk_44 (dk_at dksL_law_32 21 rfl rfl)
theorem dL_law_862 : decode cL_law 862 = .ok (.aload_n 0, 1) := dk_42 (dk_at dksL_law_32 22 rfl rfl)
theorem dL_law_863 : decode cL_law 863 = .ok (.iload_n 3, 1) := dk_29 (dk_at dksL_law_32 23 rfl rfl)
theorem dL_law_864 : decode cL_law 864 = .ok (.iconst 1, 1) := dk_4 (dk_at dksL_law_33 0 rfl rfl)
theorem dL_law_865 : decode cL_law 865 = .ok (.iadd, 1) := dk_96 (dk_at dksL_law_33 1 rfl rfl)
theorem dL_law_866 : decode cL_law 866 = .ok (.iaload, 1) := dk_46 (dk_at dksL_law_33 2 rfl rfl)
theorem dL_law_867 : decode cL_law 867 = .ok (.invokevirtual 121, 3) := dk_182 0 121 (dk_at dksL_law_33 3 rfl rfl)
theorem dL_law_870 : decode cL_law 870 = .ok (.if_icmp .eq 88, 3) := dk_159 0 88 (dk_at dksL_law_33 6 rfl rfl)
theorem dL_law_873 : decode cL_law 873 = .ok (.iconst 0, 1) := dk_3 (dk_at dksL_law_33 9 rfl rfl)
theorem dL_law_874 : decode cL_law 874 = .ok (.ireturn, 1) := dk_172 (dk_at dksL_law_33 10 rfl rfl)
theorem dL_law_875 : decode cL_law 875 = .ok (.aload_n 1, 1) := dk_43 (dk_at dksL_law_33 11 rfl rfl)
theorem dL_law_876 : decode cL_law 876 = .ok (.aload_n 0, 1) := dk_42 (dk_at dksL_law_33 12 rfl rfl)
theorem dL_law_877 : decode cL_law 877 = .ok (.iload_n 3, 1) := dk_29 (dk_at dksL_law_33 13 rfl rfl)
theorem dL_law_878 : decode cL_law 878 = .ok (.iconst 1, 1) := dk_4 (dk_at dksL_law_33 14 rfl rfl)
theorem dL_law_879 : decode cL_law 879 = .ok (.iadd, 1) := dk_96 (dk_at dksL_law_33 15 rfl rfl)
theorem dL_law_880 : decode cL_law 880 = .ok (.iaload, 1) := dk_46 (dk_at dksL_law_33 16 rfl rfl)
theorem dL_law_881 : decode cL_law 881 = .ok (.invokevirtual 122, 3) := dk_182 0 122 (dk_at dksL_law_33 17 rfl rfl)
theorem dL_law_884 : decode cL_law 884 = .ok (.aload_n 2, 1) := dk_44 (dk_at dksL_law_33 20 rfl rfl)
theorem dL_law_885 : decode cL_law 885 = .ok (.aload_n 0, 1) := dk_42 (dk_at dksL_law_33 21 rfl rfl)
theorem dL_law_886 : decode cL_law 886 = .ok (.iload_n 3, 1) := dk_29 (dk_at dksL_law_33 22 rfl rfl)
theorem dL_law_887 : decode cL_law 887 = .ok (.iconst 1, 1) := dk_4 (dk_at dksL_law_33 23 rfl rfl)
theorem dL_law_888 : decode cL_law 888 = .ok (.iadd, 1) := dk_96 (dk_at dksL_law_34 0 rfl rfl)
theorem dL_law_889 : decode cL_law 889 = .ok (.iaload, 1) := dk_46 (dk_at dksL_law_34 1 rfl rfl)
theorem dL_law_890 : decode cL_law 890 = .ok (.invokevirtual 125, 3) := dk_182 0 125 (dk_at dksL_law_34 2 rfl rfl)
theorem dL_law_893 : decode cL_law 893 = .ok (.if_icmp .eq 65, 3) := dk_159 0 65 (dk_at dksL_law_34 5 rfl rfl)
theorem dL_law_896 : decode cL_law 896 = .ok (.iconst 0, 1) := dk_3 (dk_at dksL_law_34 8 rfl rfl)
theorem dL_law_897 : decode cL_law 897 = .ok (.ireturn, 1) := dk_172 (dk_at dksL_law_34 9 rfl rfl)
theorem dL_law_898 : decode cL_law 898 = .ok (.aload_n 1, 1) := dk_43 (dk_at dksL_law_34 10 rfl rfl)
theorem dL_law_899 : decode cL_law 899 = .ok (.aload_n 0, 1) := dk_42 (dk_at dksL_law_34 11 rfl rfl)
theorem dL_law_900 : decode cL_law 900 = .ok (.iload_n 3, 1) := dk_29 (dk_at dksL_law_34 12 rfl rfl)
theorem dL_law_901 : decode cL_law 901 = .ok (.iconst 1, 1) := dk_4 (dk_at dksL_law_34 13 rfl rfl)
theorem dL_law_902 : decode cL_law 902 = .ok (.iadd, 1) := dk_96 (dk_at dksL_law_34 14 rfl rfl)
theorem dL_law_903 : decode cL_law 903 = .ok (.iaload, 1) := dk_46 (dk_at dksL_law_34 15 rfl rfl)
theorem dL_law_904 : decode cL_law 904 = .ok (.invokevirtual 126, 3) := dk_182 0 126 (dk_at dksL_law_34 16 rfl rfl)
theorem dL_law_907 : decode cL_law 907 = .ok (.aload_n 2, 1) := dk_44 (dk_at dksL_law_34 19 rfl rfl)
theorem dL_law_908 : decode cL_law 908 = .ok (.aload_n 0, 1) := dk_42 (dk_at dksL_law_34 20 rfl rfl)
theorem dL_law_909 : decode cL_law 909 = .ok (.iload_n 3, 1) := dk_29 (dk_at dksL_law_34 21 rfl rfl)
theorem dL_law_910 : decode cL_law 910 = .ok (.iconst 1, 1) := dk_4 (dk_at dksL_law_34 22 rfl rfl)
theorem dL_law_911 : decode cL_law 911 = .ok (.iadd, 1) := dk_96 (dk_at dksL_law_34 23 rfl rfl)
theorem dL_law_912 : decode cL_law 912 = .ok (.iaload, 1) := dk_46 (dk_at dksL_law_35 0 rfl rfl)
theorem dL_law_913 : decode cL_law 913 = .ok (.invokevirtual 129, 3) := dk_182 0 129 (dk_at dksL_law_35 1 rfl rfl)
theorem dL_law_916 : decode cL_law 916 = .ok (.if_icmp .eq 42, 3) := dk_159 0 42 (dk_at dksL_law_35 4 rfl rfl)
theorem dL_law_919 : decode cL_law 919 = .ok (.iconst 0, 1) := dk_3 (dk_at dksL_law_35 7 rfl rfl)
theorem dL_law_920 : decode cL_law 920 = .ok (.ireturn, 1) := dk_172 (dk_at dksL_law_35 8 rfl rfl)
theorem dL_law_921 : decode cL_law 921 = .ok (.aload_n 1, 1) := dk_43 (dk_at dksL_law_35 9 rfl rfl)
theorem dL_law_922 : decode cL_law 922 = .ok (.invokevirtual 130, 3) := dk_182 0 130 (dk_at dksL_law_35 10 rfl rfl)
theorem dL_law_925 : decode cL_law 925 = .ok (.aload_n 2, 1) := dk_44 (dk_at dksL_law_35 13 rfl rfl)
theorem dL_law_926 : decode cL_law 926 = .ok (.invokevirtual 134, 3) := dk_182 0 134 (dk_at dksL_law_35 14 rfl rfl)
theorem dL_law_929 : decode cL_law 929 = .ok (.if_icmp .eq 29, 3) := dk_159 0 29 (dk_at dksL_law_35 17 rfl rfl)
theorem dL_law_932 : decode cL_law 932 = .ok (.iconst 0, 1) := dk_3 (dk_at dksL_law_35 20 rfl rfl)
theorem dL_law_933 : decode cL_law 933 = .ok (.ireturn, 1) := dk_172 (dk_at dksL_law_35 21 rfl rfl)
theorem dL_law_934 : decode cL_law 934 = .ok (.aload_n 1, 1) := dk_43 (dk_at dksL_law_35 22 rfl rfl)
theorem dL_law_935 : decode cL_law 935 = .ok (.aload_n 0, 1) := dk_42 (dk_at dksL_law_35 23 rfl rfl)
theorem dL_law_936 : decode cL_law 936 = .ok (.iload_n 3, 1) := dk_29 (dk_at dksL_law_36 0 rfl rfl)
theorem dL_law_937 : decode cL_law 937 = .ok (.iconst 1, 1) := dk_4 (dk_at dksL_law_36 1 rfl rfl)
theorem dL_law_938 : decode cL_law 938 = .ok (.iadd, 1) := dk_96 (dk_at dksL_law_36 2 rfl rfl)
theorem dL_law_939 : decode cL_law 939 = .ok (.iaload, 1) := dk_46 (dk_at dksL_law_36 3 rfl rfl)
theorem dL_law_940 : decode cL_law 940 = .ok (.invokevirtual 135, 3) := dk_182 0 135 (dk_at dksL_law_36 4 rfl rfl)
theorem dL_law_943 : decode cL_law 943 = .ok (.aload_n 2, 1) := dk_44 (dk_at dksL_law_36 7 rfl rfl)
theorem dL_law_944 : decode cL_law 944 = .ok (.aload_n 0, 1) := dk_42 (dk_at dksL_law_36 8 rfl rfl)
theorem dL_law_945 : decode cL_law 945 = .ok (.iload_n 3, 1) := dk_29 (dk_at dksL_law_36 9 rfl rfl)
theorem dL_law_946 : decode cL_law 946 = .ok (.iconst 1, 1) := dk_4 (dk_at dksL_law_36 10 rfl rfl)
theorem dL_law_947 : decode cL_law 947 = .ok (.iadd, 1) := dk_96 (dk_at dksL_law_36 11 rfl rfl)
theorem dL_law_948 : decode cL_law 948 = .ok (.iaload, 1) := dk_46 (dk_at dksL_law_36 12 rfl rfl)
theorem dL_law_949 : decode cL_law 949 = .ok (.invokevirtual 139, 3) := dk_182 0 139 (dk_at dksL_law_36 13 rfl rfl)
theorem dL_law_952 : decode cL_law 952 = .ok (.lcmp, 1) := dk_148 (dk_at dksL_law_36 16 rfl rfl)
theorem dL_law_953 : decode cL_law 953 = .ok (.ifCond .eq 5, 3) := dk_153 0 5 (dk_at dksL_law_36 17 rfl rfl)
theorem dL_law_956 : decode cL_law 956 = .ok (.iconst 0, 1) := dk_3 (dk_at dksL_law_36 20 rfl rfl)
theorem dL_law_957 : decode cL_law 957 = .ok (.ireturn, 1) := dk_172 (dk_at dksL_law_36 21 rfl rfl)
theorem dL_law_958 : decode cL_law 958 = .ok (.iinc 3 6, 3) := dk_132 3 6 (dk_at dksL_law_37 0 rfl rfl)
theorem dL_law_961 : decode cL_law 961 = .ok (.goto (-943), 3) := dk_167 252 81 (dk_at dksL_law_37 3 rfl rfl)
theorem dL_law_964 : decode cL_law 964 = .ok (.iconst 1, 1) := dk_4 (dk_at dksL_law_37 6 rfl rfl)
theorem dL_law_965 : decode cL_law 965 = .ok (.ireturn, 1) := dk_172 (dk_at dksL_law_37 7 rfl rfl)
