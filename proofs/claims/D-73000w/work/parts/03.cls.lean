/-! CLASS TABLES AND WORDS (claim/names, re-sorted) -/
set_option maxRecDepth 100000
def RX0 : String := "ThirdWitnessLaw"
theorem q128 : (Jvm.Cond.initialized "ThirdWitnessLaw") ∈ lw_all := lw_g (lw_at lw_m1 0 rfl) rfl
theorem q161 : (Jvm.Cond.classLink "ThirdWitnessLaw" (8 : Nat) "ThirdWitness") ∈ lw_all := lw_g (lw_at lw_m1 33 rfl) rfl
theorem q163 : (Jvm.Cond.methodLink "ThirdWitnessLaw" (15 : Nat) ({ cls := "ThirdWitness", name := "<init>", desc := "()V" } : Jvm.MethodName)) ∈ lw_all := lw_g (lw_at lw_m1 35 rfl) rfl
theorem q274 : (Jvm.Cond.methodLink "ThirdWitnessLaw" (19 : Nat) ({ cls := "ThirdWitness", name := "feed", desc := "(IIIII)I" } : Jvm.MethodName)) ∈ lw_all := lw_g (lw_at lw_m1 146 rfl) rfl
theorem q278 : (Jvm.Cond.methodLink "ThirdWitnessLaw" (24 : Nat) ({ cls := "ThirdWitness", name := "town", desc := "(I)I" } : Jvm.MethodName)) ∈ lw_all := lw_g (lw_at lw_m1 150 rfl) rfl
theorem q1103 : (Jvm.Cond.methodLink "ThirdWitnessLaw" (28 : Nat) ({ cls := "ThirdWitness", name := "fault", desc := "()I" } : Jvm.MethodName)) ∈ lw_all := lw_g (lw_at lw_m5 15 rfl) rfl
theorem q1107 : (Jvm.Cond.methodLink "ThirdWitnessLaw" (33 : Nat) ({ cls := "ThirdWitness", name := "where", desc := "()I" } : Jvm.MethodName)) ∈ lw_all := lw_g (lw_at lw_m5 19 rfl) rfl
theorem q1111 : (Jvm.Cond.methodLink "ThirdWitnessLaw" (37 : Nat) ({ cls := "ThirdWitness", name := "person", desc := "(II)I" } : Jvm.MethodName)) ∈ lw_all := lw_g (lw_at lw_m5 23 rfl) rfl
theorem q1160 : (Jvm.Cond.methodLink "ThirdWitnessLaw" (42 : Nat) ({ cls := "ThirdWitness", name := "sight", desc := "(II)I" } : Jvm.MethodName)) ∈ lw_all := lw_g (lw_at lw_m5 72 rfl) rfl
theorem q1177 : (Jvm.Cond.methodLink "ThirdWitnessLaw" (46 : Nat) ({ cls := "ThirdWitness", name := "quarrel", desc := "(II)I" } : Jvm.MethodName)) ∈ lw_all := lw_g (lw_at lw_m5 89 rfl) rfl
theorem q1185 : (Jvm.Cond.methodLink "ThirdWitnessLaw" (50 : Nat) ({ cls := "ThirdWitness", name := "at", desc := "(II)I" } : Jvm.MethodName)) ∈ lw_all := lw_g (lw_at lw_m5 97 rfl) rfl
theorem q1206 : (Jvm.Cond.methodLink "ThirdWitnessLaw" (54 : Nat) ({ cls := "ThirdWitness", name := "into", desc := "(I)I" } : Jvm.MethodName)) ∈ lw_all := lw_g (lw_at lw_m5 118 rfl) rfl
theorem q1222 : (Jvm.Cond.methodLink "ThirdWitnessLaw" (58 : Nat) ({ cls := "ThirdWitness", name := "watchers", desc := "(II)I" } : Jvm.MethodName)) ∈ lw_all := lw_g (lw_at lw_m5 134 rfl) rfl
theorem q1235 : (Jvm.Cond.methodLink "ThirdWitnessLaw" (62 : Nat) ({ cls := "ThirdWitness", name := "eyes", desc := "(II)I" } : Jvm.MethodName)) ∈ lw_all := lw_g (lw_at lw_m5 147 rfl) rfl
theorem q1247 : (Jvm.Cond.methodLink "ThirdWitnessLaw" (66 : Nat) ({ cls := "ThirdWitness", name := "hidden", desc := "(I)I" } : Jvm.MethodName)) ∈ lw_all := lw_g (lw_at lw_m5 159 rfl) rfl
theorem q1251 : (Jvm.Cond.methodLink "ThirdWitnessLaw" (70 : Nat) ({ cls := "ThirdWitness", name := "square", desc := "()I" } : Jvm.MethodName)) ∈ lw_all := lw_g (lw_at lw_m5 163 rfl) rfl
theorem q1255 : (Jvm.Cond.methodLink "ThirdWitnessLaw" (74 : Nat) ({ cls := "ThirdWitness", name := "ends", desc := "(I)I" } : Jvm.MethodName)) ∈ lw_all := lw_g (lw_at lw_m5 167 rfl) rfl
theorem q1284 : (Jvm.Cond.methodLink "ThirdWitnessLaw" (78 : Nat) ({ cls := "ThirdWitness", name := "endsAt", desc := "(I)I" } : Jvm.MethodName)) ∈ lw_all := lw_g (lw_at lw_m5 196 rfl) rfl
theorem q1288 : (Jvm.Cond.methodLink "ThirdWitnessLaw" (82 : Nat) ({ cls := "ThirdWitness", name := "lead", desc := "(I)I" } : Jvm.MethodName)) ∈ lw_all := lw_g (lw_at lw_m5 200 rfl) rfl
theorem q1292 : (Jvm.Cond.methodLink "ThirdWitnessLaw" (86 : Nat) ({ cls := "ThirdWitness", name := "seen", desc := "(I)I" } : Jvm.MethodName)) ∈ lw_all := lw_g (lw_at lw_m5 204 rfl) rfl
theorem q1296 : (Jvm.Cond.methodLink "ThirdWitnessLaw" (90 : Nat) ({ cls := "ThirdWitness", name := "third", desc := "(I)I" } : Jvm.MethodName)) ∈ lw_all := lw_g (lw_at lw_m5 208 rfl) rfl
theorem q1300 : (Jvm.Cond.methodLink "ThirdWitnessLaw" (94 : Nat) ({ cls := "ThirdWitness", name := "won", desc := "()I" } : Jvm.MethodName)) ∈ lw_all := lw_g (lw_at lw_m5 212 rfl) rfl
theorem q1304 : (Jvm.Cond.methodLink "ThirdWitnessLaw" (98 : Nat) ({ cls := "ThirdWitness", name := "nurse", desc := "()I" } : Jvm.MethodName)) ∈ lw_all := lw_g (lw_at lw_m5 216 rfl) rfl
theorem q1315 : (Jvm.Cond.methodLink "ThirdWitnessLaw" (102 : Nat) ({ cls := "ThirdWitness", name := "endsIf", desc := "(III)I" } : Jvm.MethodName)) ∈ lw_all := lw_g (lw_at lw_m5 227 rfl) rfl
theorem q1319 : (Jvm.Cond.methodLink "ThirdWitnessLaw" (107 : Nat) ({ cls := "ThirdWitness", name := "cellars", desc := "(I)I" } : Jvm.MethodName)) ∈ lw_all := lw_g (lw_at lw_m5 231 rfl) rfl
theorem q1326 : (Jvm.Cond.methodLink "ThirdWitnessLaw" (111 : Nat) ({ cls := "ThirdWitness", name := "hou\x72", desc := "(I)I" } : Jvm.MethodName)) ∈ lw_all := lw_g (lw_at lw_m5 238 rfl) rfl
theorem q1330 : (Jvm.Cond.methodLink "ThirdWitnessLaw" (115 : Nat) ({ cls := "ThirdWitness", name := "longest", desc := "(I)I" } : Jvm.MethodName)) ∈ lw_all := lw_g (lw_at lw_m6 2 rfl) rfl
theorem q1334 : (Jvm.Cond.methodLink "ThirdWitnessLaw" (119 : Nat) ({ cls := "ThirdWitness", name := "moo\x72", desc := "(I)I" } : Jvm.MethodName)) ∈ lw_all := lw_g (lw_at lw_m6 6 rfl) rfl
theorem q1338 : (Jvm.Cond.methodLink "ThirdWitnessLaw" (123 : Nat) ({ cls := "ThirdWitness", name := "bricks", desc := "(I)I" } : Jvm.MethodName)) ∈ lw_all := lw_g (lw_at lw_m6 10 rfl) rfl
theorem q1347 : (Jvm.Cond.methodLink "ThirdWitnessLaw" (127 : Nat) ({ cls := "ThirdWitness", name := "stoppers", desc := "(I)I" } : Jvm.MethodName)) ∈ lw_all := lw_g (lw_at lw_m6 19 rfl) rfl
theorem q1363 : (Jvm.Cond.methodLink "ThirdWitnessLaw" (131 : Nat) ({ cls := "ThirdWitness", name := "price", desc := "(I)I" } : Jvm.MethodName)) ∈ lw_all := lw_g (lw_at lw_m6 35 rfl) rfl
theorem q1367 : (Jvm.Cond.methodLink "ThirdWitnessLaw" (135 : Nat) ({ cls := "ThirdWitness", name := "stoppedIf", desc := "(II)I" } : Jvm.MethodName)) ∈ lw_all := lw_g (lw_at lw_m6 39 rfl) rfl
theorem q1375 : (Jvm.Cond.methodLink "ThirdWitnessLaw" (139 : Nat) ({ cls := "ThirdWitness", name := "bestHire", desc := "()I" } : Jvm.MethodName)) ∈ lw_all := lw_g (lw_at lw_m6 47 rfl) rfl
theorem q1379 : (Jvm.Cond.methodLink "ThirdWitnessLaw" (143 : Nat) ({ cls := "ThirdWitness", name := "fits", desc := "()I" } : Jvm.MethodName)) ∈ lw_all := lw_g (lw_at lw_m6 51 rfl) rfl
theorem q1391 : (Jvm.Cond.methodLink "ThirdWitnessLaw" (147 : Nat) ({ cls := "ThirdWitness", name := "fitAt", desc := "(I)I" } : Jvm.MethodName)) ∈ lw_all := lw_g (lw_at lw_m6 63 rfl) rfl
theorem q1395 : (Jvm.Cond.methodLink "ThirdWitnessLaw" (151 : Nat) ({ cls := "ThirdWitness", name := "could", desc := "()I" } : Jvm.MethodName)) ∈ lw_all := lw_g (lw_at lw_m6 67 rfl) rfl
theorem q1399 : (Jvm.Cond.methodLink "ThirdWitnessLaw" (155 : Nat) ({ cls := "ThirdWitness", name := "surely", desc := "()I" } : Jvm.MethodName)) ∈ lw_all := lw_g (lw_at lw_m6 71 rfl) rfl
theorem q1403 : (Jvm.Cond.methodLink "ThirdWitnessLaw" (159 : Nat) ({ cls := "ThirdWitness", name := "ask", desc := "()I" } : Jvm.MethodName)) ∈ lw_all := lw_g (lw_at lw_m6 75 rfl) rfl
theorem q1412 : (Jvm.Cond.methodLink "ThirdWitnessLaw" (163 : Nat) ({ cls := "ThirdWitness", name := "askLeaves", desc := "()I" } : Jvm.MethodName)) ∈ lw_all := lw_g (lw_at lw_m6 84 rfl) rfl
theorem q1416 : (Jvm.Cond.methodLink "ThirdWitnessLaw" (167 : Nat) ({ cls := "ThirdWitness", name := "judge", desc := "()I" } : Jvm.MethodName)) ∈ lw_all := lw_g (lw_at lw_m6 88 rfl) rfl
theorem q1420 : (Jvm.Cond.methodLink "ThirdWitnessLaw" (171 : Nat) ({ cls := "ThirdWitness", name := "swings", desc := "(IIIZ)J" } : Jvm.MethodName)) ∈ lw_all := lw_g (lw_at lw_m6 92 rfl) rfl
theorem q1435 : (Jvm.Cond.methodLink "ThirdWitnessLaw" (176 : Nat) ({ cls := "ThirdWitness", name := "three", desc := "(II)I" } : Jvm.MethodName)) ∈ lw_all := lw_g (lw_at lw_m6 107 rfl) rfl
theorem q1439 : (Jvm.Cond.methodLink "ThirdWitnessLaw" (180 : Nat) ({ cls := "ThirdWitness", name := "says", desc := "(IZZZ)I" } : Jvm.MethodName)) ∈ lw_all := lw_g (lw_at lw_m6 111 rfl) rfl
theorem q1454 : (Jvm.Cond.methodLink "ThirdWitnessLaw" (185 : Nat) ({ cls := "ThirdWitness", name := "rests", desc := "(I)I" } : Jvm.MethodName)) ∈ lw_all := lw_g (lw_at lw_m6 126 rfl) rfl
theorem q1461 : (Jvm.Cond.methodLink "ThirdWitnessLaw" (189 : Nat) ({ cls := "ThirdWitness", name := "rest", desc := "(I)I" } : Jvm.MethodName)) ∈ lw_all := lw_g (lw_at lw_m6 133 rfl) rfl
theorem q1465 : (Jvm.Cond.methodLink "ThirdWitnessLaw" (193 : Nat) ({ cls := "ThirdWitness", name := "lasts", desc := "(IIZ)J" } : Jvm.MethodName)) ∈ lw_all := lw_g (lw_at lw_m6 137 rfl) rfl
theorem q1470 : (Jvm.Cond.methodLink "ThirdWitnessLaw" (198 : Nat) ({ cls := "ThirdWitness", name := "endsBy", desc := "(II)I" } : Jvm.MethodName)) ∈ lw_all := lw_g (lw_at lw_m6 142 rfl) rfl
theorem q1483 : (Jvm.Cond.methodLink "ThirdWitnessLaw" (202 : Nat) ({ cls := "ThirdWitness", name := "endsByAt", desc := "(II)I" } : Jvm.MethodName)) ∈ lw_all := lw_g (lw_at lw_m6 155 rfl) rfl
theorem q1487 : (Jvm.Cond.methodLink "ThirdWitnessLaw" (206 : Nat) ({ cls := "ThirdWitness", name := "wins", desc := "(III)I" } : Jvm.MethodName)) ∈ lw_all := lw_g (lw_at lw_m6 159 rfl) rfl
theorem q1491 : (Jvm.Cond.methodLink "ThirdWitnessLaw" (210 : Nat) ({ cls := "ThirdWitness", name := "brick", desc := "(I)Z" } : Jvm.MethodName)) ∈ lw_all := lw_g (lw_at lw_m6 163 rfl) rfl
theorem q1521 : (Jvm.Cond.methodLink "ThirdWitnessLaw" (215 : Nat) ({ cls := "ThirdWitness", name := "open", desc := "(I)Z" } : Jvm.MethodName)) ∈ lw_all := lw_g (lw_at lw_m6 193 rfl) rfl
theorem q1525 : (Jvm.Cond.methodLink "ThirdWitnessLaw" (219 : Nat) ({ cls := "ThirdWitness", name := "hire", desc := "(II)I" } : Jvm.MethodName)) ∈ lw_all := lw_g (lw_at lw_m6 197 rfl) rfl
theorem q1529 : (Jvm.Cond.methodLink "ThirdWitnessLaw" (223 : Nat) ({ cls := "ThirdWitness", name := "dismiss", desc := "(I)Z" } : Jvm.MethodName)) ∈ lw_all := lw_g (lw_at lw_m6 201 rfl) rfl
theorem q1533 : (Jvm.Cond.methodLink "ThirdWitnessLaw" (227 : Nat) ({ cls := "ThirdWitness", name := "spent", desc := "()I" } : Jvm.MethodName)) ∈ lw_all := lw_g (lw_at lw_m6 205 rfl) rfl
theorem q1537 : (Jvm.Cond.methodLink "ThirdWitnessLaw" (231 : Nat) ({ cls := "ThirdWitness", name := "undo", desc := "()Z" } : Jvm.MethodName)) ∈ lw_all := lw_g (lw_at lw_m6 209 rfl) rfl
theorem q1542 : (Jvm.Cond.methodLink "ThirdWitnessLaw" (236 : Nat) ({ cls := "ThirdWitness", name := "image", desc := "()I" } : Jvm.MethodName)) ∈ lw_all := lw_g (lw_at lw_m6 214 rfl) rfl
theorem q1546 : (Jvm.Cond.methodLink "ThirdWitnessLaw" (240 : Nat) ({ cls := "ThirdWitness", name := "back", desc := "(I)Z" } : Jvm.MethodName)) ∈ lw_all := lw_g (lw_at lw_m6 218 rfl) rfl
theorem q1550 : (Jvm.Cond.methodLink "ThirdWitnessLaw" (253 : Nat) ({ cls := "ThirdWitness", name := "size", desc := "(I)I" } : Jvm.MethodName)) ∈ lw_all := lw_g (lw_at lw_m6 222 rfl) rfl
theorem q1554 : (Jvm.Cond.methodLink "ThirdWitnessLaw" (257 : Nat) ({ cls := "ThirdWitness", name := "trouble", desc := "()I" } : Jvm.MethodName)) ∈ lw_all := lw_g (lw_at lw_m6 226 rfl) rfl
theorem q1558 : (Jvm.Cond.methodLink "ThirdWitnessLaw" (244 : Nat) ({ cls := "ThirdWitnessLaw", name := "led", desc := "(LThirdWitness;I[J)I" } : Jvm.MethodName)) ∈ lw_all := lw_g (lw_at lw_m6 230 rfl) rfl
theorem q1559 : (Jvm.Cond.static ({ cls := "ThirdWitnessLaw", name := "led", desc := "(LThirdWitness;I[J)I" } : Jvm.MethodName)) ∈ lw_all := lw_g (lw_at lw_m6 231 rfl) rfl
theorem q1560 : (Jvm.Cond.codeWith ({ cls := "ThirdWitnessLaw", name := "led", desc := "(LThirdWitness;I[J)I" } : Jvm.MethodName) method_3_code (4 : Nat) (Option.some Jvm.ClassFile.FieldType.int) [((0 : Nat), (9 : Nat), (12 : Nat), (13 : Nat))]) ∈ lw_all := lw_g (lw_at lw_m6 232 rfl) rfl
theorem q1561 : (Jvm.Cond.classLink "ThirdWitnessLaw" (13 : Nat) "java/util/NoSuchElementException") ∈ lw_all := lw_g (lw_at lw_m6 233 rfl) rfl
theorem q1562 : (Jvm.Cond.methodLink "ThirdWitnessLaw" (7 : Nat) ({ cls := "ThirdWitness", name := "led", desc := "(I)I" } : Jvm.MethodName)) ∈ lw_all := lw_g (lw_at lw_m6 234 rfl) rfl
theorem q1627 : (Jvm.Cond.classLink "ThirdWitnessLaw" (16 : Nat) "ThirdWitnessModel") ∈ lw_all := lw_g (lw_at lw_m7 59 rfl) rfl
theorem q1629 : (Jvm.Cond.methodLink "ThirdWitnessLaw" (18 : Nat) ({ cls := "ThirdWitnessModel", name := "<init>", desc := "()V" } : Jvm.MethodName)) ∈ lw_all := lw_g (lw_at lw_m7 61 rfl) rfl
theorem q1745 : (Jvm.Cond.methodLink "ThirdWitnessLaw" (250 : Nat) ({ cls := "ThirdWitnessModel", name := "thrown", desc := "()I" } : Jvm.MethodName)) ∈ lw_all := lw_g (lw_at lw_m7 177 rfl) rfl
theorem q1749 : (Jvm.Cond.methodLink "ThirdWitnessLaw" (23 : Nat) ({ cls := "ThirdWitnessModel", name := "feed", desc := "(IIIII)I" } : Jvm.MethodName)) ∈ lw_all := lw_g (lw_at lw_m7 181 rfl) rfl
theorem q1753 : (Jvm.Cond.methodLink "ThirdWitnessLaw" (27 : Nat) ({ cls := "ThirdWitnessModel", name := "town", desc := "(I)I" } : Jvm.MethodName)) ∈ lw_all := lw_g (lw_at lw_m7 185 rfl) rfl
theorem q1927 : (Jvm.Cond.methodLink "ThirdWitnessLaw" (32 : Nat) ({ cls := "ThirdWitnessModel", name := "fault", desc := "()I" } : Jvm.MethodName)) ∈ lw_all := lw_g (lw_at lw_m8 119 rfl) rfl
theorem q1931 : (Jvm.Cond.methodLink "ThirdWitnessLaw" (36 : Nat) ({ cls := "ThirdWitnessModel", name := "where", desc := "()I" } : Jvm.MethodName)) ∈ lw_all := lw_g (lw_at lw_m8 123 rfl) rfl
theorem q1935 : (Jvm.Cond.methodLink "ThirdWitnessLaw" (41 : Nat) ({ cls := "ThirdWitnessModel", name := "person", desc := "(II)I" } : Jvm.MethodName)) ∈ lw_all := lw_g (lw_at lw_m8 127 rfl) rfl
theorem q1950 : (Jvm.Cond.methodLink "ThirdWitnessLaw" (45 : Nat) ({ cls := "ThirdWitnessModel", name := "sight", desc := "(II)I" } : Jvm.MethodName)) ∈ lw_all := lw_g (lw_at lw_m8 142 rfl) rfl
theorem q1958 : (Jvm.Cond.methodLink "ThirdWitnessLaw" (49 : Nat) ({ cls := "ThirdWitnessModel", name := "quarrel", desc := "(II)I" } : Jvm.MethodName)) ∈ lw_all := lw_g (lw_at lw_m8 150 rfl) rfl
theorem q1966 : (Jvm.Cond.methodLink "ThirdWitnessLaw" (53 : Nat) ({ cls := "ThirdWitnessModel", name := "at", desc := "(II)I" } : Jvm.MethodName)) ∈ lw_all := lw_g (lw_at lw_m8 158 rfl) rfl
theorem q1986 : (Jvm.Cond.methodLink "ThirdWitnessLaw" (57 : Nat) ({ cls := "ThirdWitnessModel", name := "into", desc := "(I)I" } : Jvm.MethodName)) ∈ lw_all := lw_g (lw_at lw_m8 178 rfl) rfl
theorem q2001 : (Jvm.Cond.methodLink "ThirdWitnessLaw" (61 : Nat) ({ cls := "ThirdWitnessModel", name := "watchers", desc := "(II)I" } : Jvm.MethodName)) ∈ lw_all := lw_g (lw_at lw_m8 193 rfl) rfl
theorem q2009 : (Jvm.Cond.methodLink "ThirdWitnessLaw" (65 : Nat) ({ cls := "ThirdWitnessModel", name := "eyes", desc := "(II)I" } : Jvm.MethodName)) ∈ lw_all := lw_g (lw_at lw_m8 201 rfl) rfl
theorem q2017 : (Jvm.Cond.methodLink "ThirdWitnessLaw" (69 : Nat) ({ cls := "ThirdWitnessModel", name := "hidden", desc := "(I)I" } : Jvm.MethodName)) ∈ lw_all := lw_g (lw_at lw_m8 209 rfl) rfl
theorem q2021 : (Jvm.Cond.methodLink "ThirdWitnessLaw" (73 : Nat) ({ cls := "ThirdWitnessModel", name := "square", desc := "()I" } : Jvm.MethodName)) ∈ lw_all := lw_g (lw_at lw_m8 213 rfl) rfl
theorem q2029 : (Jvm.Cond.methodLink "ThirdWitnessLaw" (77 : Nat) ({ cls := "ThirdWitnessModel", name := "ends", desc := "(I)I" } : Jvm.MethodName)) ∈ lw_all := lw_g (lw_at lw_m8 221 rfl) rfl
theorem q2050 : (Jvm.Cond.methodLink "ThirdWitnessLaw" (81 : Nat) ({ cls := "ThirdWitnessModel", name := "endsAt", desc := "(I)I" } : Jvm.MethodName)) ∈ lw_all := lw_g (lw_at lw_m9 2 rfl) rfl
theorem q2054 : (Jvm.Cond.methodLink "ThirdWitnessLaw" (85 : Nat) ({ cls := "ThirdWitnessModel", name := "lead", desc := "(I)I" } : Jvm.MethodName)) ∈ lw_all := lw_g (lw_at lw_m9 6 rfl) rfl
theorem q2058 : (Jvm.Cond.methodLink "ThirdWitnessLaw" (89 : Nat) ({ cls := "ThirdWitnessModel", name := "seen", desc := "(I)I" } : Jvm.MethodName)) ∈ lw_all := lw_g (lw_at lw_m9 10 rfl) rfl
theorem q2062 : (Jvm.Cond.methodLink "ThirdWitnessLaw" (93 : Nat) ({ cls := "ThirdWitnessModel", name := "third", desc := "(I)I" } : Jvm.MethodName)) ∈ lw_all := lw_g (lw_at lw_m9 14 rfl) rfl
theorem q2066 : (Jvm.Cond.methodLink "ThirdWitnessLaw" (97 : Nat) ({ cls := "ThirdWitnessModel", name := "won", desc := "()I" } : Jvm.MethodName)) ∈ lw_all := lw_g (lw_at lw_m9 18 rfl) rfl
theorem q2070 : (Jvm.Cond.methodLink "ThirdWitnessLaw" (101 : Nat) ({ cls := "ThirdWitnessModel", name := "nurse", desc := "()I" } : Jvm.MethodName)) ∈ lw_all := lw_g (lw_at lw_m9 22 rfl) rfl
theorem q2081 : (Jvm.Cond.methodLink "ThirdWitnessLaw" (106 : Nat) ({ cls := "ThirdWitnessModel", name := "endsIf", desc := "(III)I" } : Jvm.MethodName)) ∈ lw_all := lw_g (lw_at lw_m9 33 rfl) rfl
theorem q2085 : (Jvm.Cond.methodLink "ThirdWitnessLaw" (110 : Nat) ({ cls := "ThirdWitnessModel", name := "cellars", desc := "(I)I" } : Jvm.MethodName)) ∈ lw_all := lw_g (lw_at lw_m9 37 rfl) rfl
theorem q2089 : (Jvm.Cond.methodLink "ThirdWitnessLaw" (114 : Nat) ({ cls := "ThirdWitnessModel", name := "hou\x72", desc := "(I)I" } : Jvm.MethodName)) ∈ lw_all := lw_g (lw_at lw_m9 41 rfl) rfl
theorem q2093 : (Jvm.Cond.methodLink "ThirdWitnessLaw" (118 : Nat) ({ cls := "ThirdWitnessModel", name := "longest", desc := "(I)I" } : Jvm.MethodName)) ∈ lw_all := lw_g (lw_at lw_m9 45 rfl) rfl
theorem q2097 : (Jvm.Cond.methodLink "ThirdWitnessLaw" (122 : Nat) ({ cls := "ThirdWitnessModel", name := "moo\x72", desc := "(I)I" } : Jvm.MethodName)) ∈ lw_all := lw_g (lw_at lw_m9 49 rfl) rfl
theorem q2101 : (Jvm.Cond.methodLink "ThirdWitnessLaw" (126 : Nat) ({ cls := "ThirdWitnessModel", name := "bricks", desc := "(I)I" } : Jvm.MethodName)) ∈ lw_all := lw_g (lw_at lw_m9 53 rfl) rfl
theorem q2105 : (Jvm.Cond.methodLink "ThirdWitnessLaw" (130 : Nat) ({ cls := "ThirdWitnessModel", name := "stoppers", desc := "(I)I" } : Jvm.MethodName)) ∈ lw_all := lw_g (lw_at lw_m9 57 rfl) rfl
theorem q2121 : (Jvm.Cond.methodLink "ThirdWitnessLaw" (134 : Nat) ({ cls := "ThirdWitnessModel", name := "price", desc := "(I)I" } : Jvm.MethodName)) ∈ lw_all := lw_g (lw_at lw_m9 73 rfl) rfl
theorem q2125 : (Jvm.Cond.methodLink "ThirdWitnessLaw" (138 : Nat) ({ cls := "ThirdWitnessModel", name := "stoppedIf", desc := "(II)I" } : Jvm.MethodName)) ∈ lw_all := lw_g (lw_at lw_m9 77 rfl) rfl
theorem q2133 : (Jvm.Cond.methodLink "ThirdWitnessLaw" (142 : Nat) ({ cls := "ThirdWitnessModel", name := "bestHire", desc := "()I" } : Jvm.MethodName)) ∈ lw_all := lw_g (lw_at lw_m9 85 rfl) rfl
theorem q2137 : (Jvm.Cond.methodLink "ThirdWitnessLaw" (146 : Nat) ({ cls := "ThirdWitnessModel", name := "fits", desc := "()I" } : Jvm.MethodName)) ∈ lw_all := lw_g (lw_at lw_m9 89 rfl) rfl
theorem q2149 : (Jvm.Cond.methodLink "ThirdWitnessLaw" (150 : Nat) ({ cls := "ThirdWitnessModel", name := "fitAt", desc := "(I)I" } : Jvm.MethodName)) ∈ lw_all := lw_g (lw_at lw_m9 101 rfl) rfl
theorem q2153 : (Jvm.Cond.methodLink "ThirdWitnessLaw" (154 : Nat) ({ cls := "ThirdWitnessModel", name := "could", desc := "()I" } : Jvm.MethodName)) ∈ lw_all := lw_g (lw_at lw_m9 105 rfl) rfl
theorem q2157 : (Jvm.Cond.methodLink "ThirdWitnessLaw" (158 : Nat) ({ cls := "ThirdWitnessModel", name := "surely", desc := "()I" } : Jvm.MethodName)) ∈ lw_all := lw_g (lw_at lw_m9 109 rfl) rfl
theorem q2161 : (Jvm.Cond.methodLink "ThirdWitnessLaw" (162 : Nat) ({ cls := "ThirdWitnessModel", name := "ask", desc := "()I" } : Jvm.MethodName)) ∈ lw_all := lw_g (lw_at lw_m9 113 rfl) rfl
theorem q2173 : (Jvm.Cond.methodLink "ThirdWitnessLaw" (166 : Nat) ({ cls := "ThirdWitnessModel", name := "askLeaves", desc := "()I" } : Jvm.MethodName)) ∈ lw_all := lw_g (lw_at lw_m9 125 rfl) rfl
theorem q2177 : (Jvm.Cond.methodLink "ThirdWitnessLaw" (170 : Nat) ({ cls := "ThirdWitnessModel", name := "judge", desc := "()I" } : Jvm.MethodName)) ∈ lw_all := lw_g (lw_at lw_m9 129 rfl) rfl
theorem q2181 : (Jvm.Cond.methodLink "ThirdWitnessLaw" (175 : Nat) ({ cls := "ThirdWitnessModel", name := "swings", desc := "(IIIZ)J" } : Jvm.MethodName)) ∈ lw_all := lw_g (lw_at lw_m9 133 rfl) rfl
theorem q2188 : (Jvm.Cond.methodLink "ThirdWitnessLaw" (179 : Nat) ({ cls := "ThirdWitnessModel", name := "three", desc := "(II)I" } : Jvm.MethodName)) ∈ lw_all := lw_g (lw_at lw_m9 140 rfl) rfl
theorem q2192 : (Jvm.Cond.methodLink "ThirdWitnessLaw" (184 : Nat) ({ cls := "ThirdWitnessModel", name := "says", desc := "(IZZZ)I" } : Jvm.MethodName)) ∈ lw_all := lw_g (lw_at lw_m9 144 rfl) rfl
theorem q2199 : (Jvm.Cond.methodLink "ThirdWitnessLaw" (188 : Nat) ({ cls := "ThirdWitnessModel", name := "rests", desc := "(I)I" } : Jvm.MethodName)) ∈ lw_all := lw_g (lw_at lw_m9 151 rfl) rfl
theorem q2207 : (Jvm.Cond.methodLink "ThirdWitnessLaw" (192 : Nat) ({ cls := "ThirdWitnessModel", name := "rest", desc := "(I)I" } : Jvm.MethodName)) ∈ lw_all := lw_g (lw_at lw_m9 159 rfl) rfl
theorem q2211 : (Jvm.Cond.methodLink "ThirdWitnessLaw" (197 : Nat) ({ cls := "ThirdWitnessModel", name := "lasts", desc := "(IIZ)J" } : Jvm.MethodName)) ∈ lw_all := lw_g (lw_at lw_m9 163 rfl) rfl
theorem q2219 : (Jvm.Cond.methodLink "ThirdWitnessLaw" (201 : Nat) ({ cls := "ThirdWitnessModel", name := "endsBy", desc := "(II)I" } : Jvm.MethodName)) ∈ lw_all := lw_g (lw_at lw_m9 171 rfl) rfl
theorem q2228 : (Jvm.Cond.methodLink "ThirdWitnessLaw" (205 : Nat) ({ cls := "ThirdWitnessModel", name := "endsByAt", desc := "(II)I" } : Jvm.MethodName)) ∈ lw_all := lw_g (lw_at lw_m9 180 rfl) rfl
theorem q2232 : (Jvm.Cond.methodLink "ThirdWitnessLaw" (209 : Nat) ({ cls := "ThirdWitnessModel", name := "wins", desc := "(III)I" } : Jvm.MethodName)) ∈ lw_all := lw_g (lw_at lw_m9 184 rfl) rfl
theorem q2236 : (Jvm.Cond.methodLink "ThirdWitnessLaw" (214 : Nat) ({ cls := "ThirdWitnessModel", name := "brick", desc := "(I)Z" } : Jvm.MethodName)) ∈ lw_all := lw_g (lw_at lw_m9 188 rfl) rfl
theorem q2252 : (Jvm.Cond.methodLink "ThirdWitnessLaw" (218 : Nat) ({ cls := "ThirdWitnessModel", name := "open", desc := "(I)Z" } : Jvm.MethodName)) ∈ lw_all := lw_g (lw_at lw_m9 204 rfl) rfl
theorem q2256 : (Jvm.Cond.methodLink "ThirdWitnessLaw" (222 : Nat) ({ cls := "ThirdWitnessModel", name := "hire", desc := "(II)I" } : Jvm.MethodName)) ∈ lw_all := lw_g (lw_at lw_m9 208 rfl) rfl
theorem q2260 : (Jvm.Cond.methodLink "ThirdWitnessLaw" (226 : Nat) ({ cls := "ThirdWitnessModel", name := "dismiss", desc := "(I)Z" } : Jvm.MethodName)) ∈ lw_all := lw_g (lw_at lw_m9 212 rfl) rfl
theorem q2264 : (Jvm.Cond.methodLink "ThirdWitnessLaw" (230 : Nat) ({ cls := "ThirdWitnessModel", name := "spent", desc := "()I" } : Jvm.MethodName)) ∈ lw_all := lw_g (lw_at lw_m9 216 rfl) rfl
theorem q2268 : (Jvm.Cond.methodLink "ThirdWitnessLaw" (235 : Nat) ({ cls := "ThirdWitnessModel", name := "undo", desc := "()Z" } : Jvm.MethodName)) ∈ lw_all := lw_g (lw_at lw_m9 220 rfl) rfl
theorem q2272 : (Jvm.Cond.methodLink "ThirdWitnessLaw" (239 : Nat) ({ cls := "ThirdWitnessModel", name := "image", desc := "()I" } : Jvm.MethodName)) ∈ lw_all := lw_g (lw_at lw_m9 224 rfl) rfl
theorem q2276 : (Jvm.Cond.methodLink "ThirdWitnessLaw" (243 : Nat) ({ cls := "ThirdWitnessModel", name := "back", desc := "(I)Z" } : Jvm.MethodName)) ∈ lw_all := lw_g (lw_at lw_m9 228 rfl) rfl
theorem q2280 : (Jvm.Cond.methodLink "ThirdWitnessLaw" (249 : Nat) ({ cls := "ThirdWitnessModel", name := "led", desc := "(I)I" } : Jvm.MethodName)) ∈ lw_all := lw_g (lw_at lw_m9 232 rfl) rfl
theorem q2284 : (Jvm.Cond.methodLink "ThirdWitnessLaw" (256 : Nat) ({ cls := "ThirdWitnessModel", name := "size", desc := "(I)I" } : Jvm.MethodName)) ∈ lw_all := lw_g (lw_at lw_m9 236 rfl) rfl
theorem q2288 : (Jvm.Cond.methodLink "ThirdWitnessLaw" (260 : Nat) ({ cls := "ThirdWitnessModel", name := "trouble", desc := "()I" } : Jvm.MethodName)) ∈ lw_all := lw_g (lw_at lw_m10 0 rfl) rfl
def RX1 : String := "ThirdWitness"
def TX1 : u_T := fun k => match k with
  | 0 => ("ThirdWitness", "tape", "[B", true)
  | 1 => ("ThirdWitness", "taped", "I", false)
  | 2 => ("ThirdWitness", "fault", "I", false)
  | 3 => ("ThirdWitness", "where", "I", false)
  | 4 => ("ThirdWitness", "trouble", "I", false)
  | 5 => ("ThirdWitness", "town", "LThirdWitness$Town;", false)
  | 6 => ("ThirdWitness", "scene", "LThirdWitness$Scene;", false)
  | 7 => ("ThirdWitness", "tried", "LThirdWitness$Scene;", false)
  | 8 => ("ThirdWitness", "past", "Ljava/util/ArrayList;", true)
  | 9 => ("ThirdWitness", "images", "Ljava/util/ArrayList;", true)
  | 10 => ("ThirdWitness", "plain", "I", false)
  | 11 => ("ThirdWitness", "others", "I", false)
  | 12 => ("ThirdWitness", "boys", "I", false)
  | 13 => ("ThirdWitness", "endedAt", "I", false)
  | 14 => ("ThirdWitness", "leadNow", "I", false)
  | 15 => ("ThirdWitness", "seenNow", "I", false)
  | 16 => ("ThirdWitness", "thirdNow", "I", false)
  | 17 => ("ThirdWitness", "seedThen", "I", false)
  | 18 => ("ThirdWitness", "withBoys", "Z", false)
  | 19 => ("ThirdWitness", "fitsNow", "I", false)
  | 20 => ("ThirdWitness", "someNow", "I", false)
  | 21 => ("ThirdWitness", "everyNow", "I", false)
  | 22 => ("ThirdWitness", "otherIn", "[I", true)
  | 23 => ("ThirdWitness", "askLeft", "I", false)
  | _ => ("ThirdWitness", "come", "[J", true)
def tyX1 : Nat → FieldType := fun k => match k with
  | 0 => .array .byte
  | 1 => .int
  | 2 => .int
  | 3 => .int
  | 4 => .int
  | 5 => .object "ThirdWitness$Town"
  | 6 => .object "ThirdWitness$Scene"
  | 7 => .object "ThirdWitness$Scene"
  | 8 => .object "java/util/ArrayList"
  | 9 => .object "java/util/ArrayList"
  | 10 => .int
  | 11 => .int
  | 12 => .int
  | 13 => .int
  | 14 => .int
  | 15 => .int
  | 16 => .int
  | 17 => .int
  | 18 => .boolean
  | 19 => .int
  | 20 => .int
  | 21 => .int
  | 22 => .array .int
  | 23 => .int
  | _ => .array .long
abbrev wsX10 : List Cond := u_ws RX1 TX1 25
theorem nmX1 : ∀ a, a < 25 → ∀ b, b < 25 → a ≠ b → (TX1 a).2.1 ≠ (TX1 b).2.1 := by decide +kernel
theorem tyX1_ok : ∀ k, k < 25 → parseFieldDescriptor (TX1 k).2.2.1 = some (tyX1 k) := by decide +kernel
theorem q129 : (Jvm.Cond.initialized "ThirdWitness") ∈ lw_all := lw_g (lw_at lw_m1 1 rfl) rfl
theorem q162 : (Jvm.Cond.instantiable "ThirdWitness" (25 : Nat)) ∈ lw_all := lw_g (lw_at lw_m1 34 rfl) rfl
theorem q164 : (Jvm.Cond.instanceMethod ({ cls := "ThirdWitness", name := "<init>", desc := "()V" } : Jvm.MethodName)) ∈ lw_all := lw_g (lw_at lw_m1 36 rfl) rfl
theorem q165 : (Jvm.Cond.code ({ cls := "ThirdWitness", name := "<init>", desc := "()V" } : Jvm.MethodName) prog_1_method_1_code (1 : Nat) (Option.none : Option Jvm.ClassFile.FieldType)) ∈ lw_all := lw_g (lw_at lw_m1 37 rfl) rfl
theorem q166 : (Jvm.Cond.methodLink "ThirdWitness" (1 : Nat) ({ cls := "java/lang/Object", name := "<init>", desc := "()V" } : Jvm.MethodName)) ∈ lw_all := lw_g (lw_at lw_m1 38 rfl) rfl
theorem q169 : (Jvm.Cond.classLink "ThirdWitness" (17 : Nat) "java/util/ArrayList") ∈ lw_all := lw_g (lw_at lw_m1 41 rfl) rfl
theorem q171 : (Jvm.Cond.methodLink "ThirdWitness" (19 : Nat) ({ cls := "java/util/ArrayList", name := "<init>", desc := "()V" } : Jvm.MethodName)) ∈ lw_all := lw_g (lw_at lw_m1 43 rfl) rfl
theorem q196 : (Jvm.Cond.fieldLink "ThirdWitness" (9 : Nat) "ThirdWitness" "tape" "[B") ∈ lw_all := lw_g (lw_at lw_m1 68 rfl) rfl
theorem q197 : (Jvm.Cond.fieldLink "ThirdWitness" (58 : Nat) "ThirdWitness" "taped" "I") ∈ lw_all := lw_g (lw_at lw_m1 69 rfl) rfl
theorem q198 : (Jvm.Cond.fieldLink "ThirdWitness" (82 : Nat) "ThirdWitness" "fault" "I") ∈ lw_all := lw_g (lw_at lw_m1 70 rfl) rfl
theorem q199 : (Jvm.Cond.fieldLink "ThirdWitness" (13 : Nat) "ThirdWitness" "where" "I") ∈ lw_all := lw_g (lw_at lw_m1 71 rfl) rfl
theorem q200 : (Jvm.Cond.fieldLink "ThirdWitness" (44 : Nat) "ThirdWitness" "trouble" "I") ∈ lw_all := lw_g (lw_at lw_m1 72 rfl) rfl
theorem q201 : (Jvm.Cond.fieldLink "ThirdWitness" (86 : Nat) "ThirdWitness" "town" "LThirdWitness$Town;") ∈ lw_all := lw_g (lw_at lw_m1 73 rfl) rfl
theorem q202 : (Jvm.Cond.fieldLink "ThirdWitness" (95 : Nat) "ThirdWitness" "scene" "LThirdWitness$Scene;") ∈ lw_all := lw_g (lw_at lw_m1 74 rfl) rfl
theorem q203 : (Jvm.Cond.fieldLink "ThirdWitness" (106 : Nat) "ThirdWitness" "tried" "LThirdWitness$Scene;") ∈ lw_all := lw_g (lw_at lw_m1 75 rfl) rfl
theorem q204 : (Jvm.Cond.fieldLink "ThirdWitness" (20 : Nat) "ThirdWitness" "past" "Ljava/util/ArrayList;") ∈ lw_all := lw_g (lw_at lw_m1 76 rfl) rfl
theorem q205 : (Jvm.Cond.fieldLink "ThirdWitness" (24 : Nat) "ThirdWitness" "images" "Ljava/util/ArrayList;") ∈ lw_all := lw_g (lw_at lw_m1 77 rfl) rfl
theorem q206 : (Jvm.Cond.fieldLink "ThirdWitness" (27 : Nat) "ThirdWitness" "plain" "I") ∈ lw_all := lw_g (lw_at lw_m1 78 rfl) rfl
theorem q207 : (Jvm.Cond.fieldLink "ThirdWitness" (164 : Nat) "ThirdWitness" "others" "I") ∈ lw_all := lw_g (lw_at lw_m1 79 rfl) rfl
theorem q208 : (Jvm.Cond.fieldLink "ThirdWitness" (197 : Nat) "ThirdWitness" "boys" "I") ∈ lw_all := lw_g (lw_at lw_m1 80 rfl) rfl
theorem q209 : (Jvm.Cond.fieldLink "ThirdWitness" (215 : Nat) "ThirdWitness" "endedAt" "I") ∈ lw_all := lw_g (lw_at lw_m1 81 rfl) rfl
theorem q210 : (Jvm.Cond.fieldLink "ThirdWitness" (191 : Nat) "ThirdWitness" "leadNow" "I") ∈ lw_all := lw_g (lw_at lw_m1 82 rfl) rfl
theorem q211 : (Jvm.Cond.fieldLink "ThirdWitness" (188 : Nat) "ThirdWitness" "seenNow" "I") ∈ lw_all := lw_g (lw_at lw_m1 83 rfl) rfl
theorem q212 : (Jvm.Cond.fieldLink "ThirdWitness" (194 : Nat) "ThirdWitness" "thirdNow" "I") ∈ lw_all := lw_g (lw_at lw_m1 84 rfl) rfl
theorem q213 : (Jvm.Cond.fieldLink "ThirdWitness" (208 : Nat) "ThirdWitness" "seedThen" "I") ∈ lw_all := lw_g (lw_at lw_m1 85 rfl) rfl
theorem q214 : (Jvm.Cond.fieldLink "ThirdWitness" (204 : Nat) "ThirdWitness" "withBoys" "Z") ∈ lw_all := lw_g (lw_at lw_m1 86 rfl) rfl
theorem q215 : (Jvm.Cond.fieldLink "ThirdWitness" (319 : Nat) "ThirdWitness" "fitsNow" "I") ∈ lw_all := lw_g (lw_at lw_m1 87 rfl) rfl
theorem q216 : (Jvm.Cond.fieldLink "ThirdWitness" (322 : Nat) "ThirdWitness" "someNow" "I") ∈ lw_all := lw_g (lw_at lw_m1 88 rfl) rfl
theorem q217 : (Jvm.Cond.fieldLink "ThirdWitness" (325 : Nat) "ThirdWitness" "everyNow" "I") ∈ lw_all := lw_g (lw_at lw_m1 89 rfl) rfl
theorem q218 : (Jvm.Cond.fieldLink "ThirdWitness" (30 : Nat) "ThirdWitness" "otherIn" "[I") ∈ lw_all := lw_g (lw_at lw_m1 90 rfl) rfl
theorem q219 : (Jvm.Cond.fieldLink "ThirdWitness" (334 : Nat) "ThirdWitness" "askLeft" "I") ∈ lw_all := lw_g (lw_at lw_m1 91 rfl) rfl
theorem q220 : (Jvm.Cond.fieldLink "ThirdWitness" (34 : Nat) "ThirdWitness" "come" "[J") ∈ lw_all := lw_g (lw_at lw_m1 92 rfl) rfl
theorem q221 : (Jvm.Cond.laysFinal "ThirdWitness" "ThirdWitness" "tape" "[B") ∈ lw_all := lw_g (lw_at lw_m1 93 rfl) rfl
theorem q222 : (Jvm.Cond.soleField "ThirdWitness" "tape") ∈ lw_all := lw_g (lw_at lw_m1 94 rfl) rfl
theorem q223 : (Jvm.Cond.lays "ThirdWitness" "ThirdWitness" "taped" "I") ∈ lw_all := lw_g (lw_at lw_m1 95 rfl) rfl
theorem q224 : (Jvm.Cond.soleField "ThirdWitness" "taped") ∈ lw_all := lw_g (lw_at lw_m1 96 rfl) rfl
theorem q225 : (Jvm.Cond.lays "ThirdWitness" "ThirdWitness" "fault" "I") ∈ lw_all := lw_g (lw_at lw_m1 97 rfl) rfl
theorem q226 : (Jvm.Cond.soleField "ThirdWitness" "fault") ∈ lw_all := lw_g (lw_at lw_m1 98 rfl) rfl
theorem q227 : (Jvm.Cond.lays "ThirdWitness" "ThirdWitness" "where" "I") ∈ lw_all := lw_g (lw_at lw_m1 99 rfl) rfl
theorem q228 : (Jvm.Cond.soleField "ThirdWitness" "where") ∈ lw_all := lw_g (lw_at lw_m1 100 rfl) rfl
theorem q229 : (Jvm.Cond.lays "ThirdWitness" "ThirdWitness" "trouble" "I") ∈ lw_all := lw_g (lw_at lw_m1 101 rfl) rfl
theorem q230 : (Jvm.Cond.soleField "ThirdWitness" "trouble") ∈ lw_all := lw_g (lw_at lw_m1 102 rfl) rfl
theorem q231 : (Jvm.Cond.lays "ThirdWitness" "ThirdWitness" "town" "LThirdWitness$Town;") ∈ lw_all := lw_g (lw_at lw_m1 103 rfl) rfl
theorem q232 : (Jvm.Cond.soleField "ThirdWitness" "town") ∈ lw_all := lw_g (lw_at lw_m1 104 rfl) rfl
theorem q233 : (Jvm.Cond.lays "ThirdWitness" "ThirdWitness" "scene" "LThirdWitness$Scene;") ∈ lw_all := lw_g (lw_at lw_m1 105 rfl) rfl
theorem q234 : (Jvm.Cond.soleField "ThirdWitness" "scene") ∈ lw_all := lw_g (lw_at lw_m1 106 rfl) rfl
theorem q235 : (Jvm.Cond.lays "ThirdWitness" "ThirdWitness" "tried" "LThirdWitness$Scene;") ∈ lw_all := lw_g (lw_at lw_m1 107 rfl) rfl
theorem q236 : (Jvm.Cond.soleField "ThirdWitness" "tried") ∈ lw_all := lw_g (lw_at lw_m1 108 rfl) rfl
theorem q237 : (Jvm.Cond.laysFinal "ThirdWitness" "ThirdWitness" "past" "Ljava/util/ArrayList;") ∈ lw_all := lw_g (lw_at lw_m1 109 rfl) rfl
theorem q238 : (Jvm.Cond.soleField "ThirdWitness" "past") ∈ lw_all := lw_g (lw_at lw_m1 110 rfl) rfl
theorem q239 : (Jvm.Cond.laysFinal "ThirdWitness" "ThirdWitness" "images" "Ljava/util/ArrayList;") ∈ lw_all := lw_g (lw_at lw_m1 111 rfl) rfl
theorem q240 : (Jvm.Cond.soleField "ThirdWitness" "images") ∈ lw_all := lw_g (lw_at lw_m1 112 rfl) rfl
theorem q241 : (Jvm.Cond.lays "ThirdWitness" "ThirdWitness" "plain" "I") ∈ lw_all := lw_g (lw_at lw_m1 113 rfl) rfl
theorem q242 : (Jvm.Cond.soleField "ThirdWitness" "plain") ∈ lw_all := lw_g (lw_at lw_m1 114 rfl) rfl
theorem q243 : (Jvm.Cond.lays "ThirdWitness" "ThirdWitness" "others" "I") ∈ lw_all := lw_g (lw_at lw_m1 115 rfl) rfl
theorem q244 : (Jvm.Cond.soleField "ThirdWitness" "others") ∈ lw_all := lw_g (lw_at lw_m1 116 rfl) rfl
theorem q245 : (Jvm.Cond.lays "ThirdWitness" "ThirdWitness" "boys" "I") ∈ lw_all := lw_g (lw_at lw_m1 117 rfl) rfl
theorem q246 : (Jvm.Cond.soleField "ThirdWitness" "boys") ∈ lw_all := lw_g (lw_at lw_m1 118 rfl) rfl
theorem q247 : (Jvm.Cond.lays "ThirdWitness" "ThirdWitness" "endedAt" "I") ∈ lw_all := lw_g (lw_at lw_m1 119 rfl) rfl
theorem q248 : (Jvm.Cond.soleField "ThirdWitness" "endedAt") ∈ lw_all := lw_g (lw_at lw_m1 120 rfl) rfl
theorem q249 : (Jvm.Cond.lays "ThirdWitness" "ThirdWitness" "leadNow" "I") ∈ lw_all := lw_g (lw_at lw_m1 121 rfl) rfl
theorem q250 : (Jvm.Cond.soleField "ThirdWitness" "leadNow") ∈ lw_all := lw_g (lw_at lw_m1 122 rfl) rfl
theorem q251 : (Jvm.Cond.lays "ThirdWitness" "ThirdWitness" "seenNow" "I") ∈ lw_all := lw_g (lw_at lw_m1 123 rfl) rfl
theorem q252 : (Jvm.Cond.soleField "ThirdWitness" "seenNow") ∈ lw_all := lw_g (lw_at lw_m1 124 rfl) rfl
theorem q253 : (Jvm.Cond.lays "ThirdWitness" "ThirdWitness" "thirdNow" "I") ∈ lw_all := lw_g (lw_at lw_m1 125 rfl) rfl
theorem q254 : (Jvm.Cond.soleField "ThirdWitness" "thirdNow") ∈ lw_all := lw_g (lw_at lw_m1 126 rfl) rfl
theorem q255 : (Jvm.Cond.lays "ThirdWitness" "ThirdWitness" "seedThen" "I") ∈ lw_all := lw_g (lw_at lw_m1 127 rfl) rfl
theorem q256 : (Jvm.Cond.soleField "ThirdWitness" "seedThen") ∈ lw_all := lw_g (lw_at lw_m1 128 rfl) rfl
theorem q257 : (Jvm.Cond.lays "ThirdWitness" "ThirdWitness" "withBoys" "Z") ∈ lw_all := lw_g (lw_at lw_m1 129 rfl) rfl
theorem q258 : (Jvm.Cond.soleField "ThirdWitness" "withBoys") ∈ lw_all := lw_g (lw_at lw_m1 130 rfl) rfl
theorem q259 : (Jvm.Cond.lays "ThirdWitness" "ThirdWitness" "fitsNow" "I") ∈ lw_all := lw_g (lw_at lw_m1 131 rfl) rfl
theorem q260 : (Jvm.Cond.soleField "ThirdWitness" "fitsNow") ∈ lw_all := lw_g (lw_at lw_m1 132 rfl) rfl
theorem q261 : (Jvm.Cond.lays "ThirdWitness" "ThirdWitness" "someNow" "I") ∈ lw_all := lw_g (lw_at lw_m1 133 rfl) rfl
theorem q262 : (Jvm.Cond.soleField "ThirdWitness" "someNow") ∈ lw_all := lw_g (lw_at lw_m1 134 rfl) rfl
theorem q263 : (Jvm.Cond.lays "ThirdWitness" "ThirdWitness" "everyNow" "I") ∈ lw_all := lw_g (lw_at lw_m1 135 rfl) rfl
theorem q264 : (Jvm.Cond.soleField "ThirdWitness" "everyNow") ∈ lw_all := lw_g (lw_at lw_m1 136 rfl) rfl
theorem q265 : (Jvm.Cond.laysFinal "ThirdWitness" "ThirdWitness" "otherIn" "[I") ∈ lw_all := lw_g (lw_at lw_m1 137 rfl) rfl
theorem q266 : (Jvm.Cond.soleField "ThirdWitness" "otherIn") ∈ lw_all := lw_g (lw_at lw_m1 138 rfl) rfl
theorem q267 : (Jvm.Cond.lays "ThirdWitness" "ThirdWitness" "askLeft" "I") ∈ lw_all := lw_g (lw_at lw_m1 139 rfl) rfl
theorem q268 : (Jvm.Cond.soleField "ThirdWitness" "askLeft") ∈ lw_all := lw_g (lw_at lw_m1 140 rfl) rfl
theorem q269 : (Jvm.Cond.laysFinal "ThirdWitness" "ThirdWitness" "come" "[J") ∈ lw_all := lw_g (lw_at lw_m1 141 rfl) rfl
theorem q270 : (Jvm.Cond.soleField "ThirdWitness" "come") ∈ lw_all := lw_g (lw_at lw_m1 142 rfl) rfl
theorem q271 : (Jvm.Cond.superclass "ThirdWitness" "java/lang/Object") ∈ lw_all := lw_g (lw_at lw_m1 143 rfl) rfl
theorem q275 : (Jvm.Cond.instanceMethod ({ cls := "ThirdWitness", name := "feed", desc := "(IIIII)I" } : Jvm.MethodName)) ∈ lw_all := lw_g (lw_at lw_m1 147 rfl) rfl
theorem q276 : (Jvm.Cond.selects "ThirdWitness" ({ cls := "ThirdWitness", name := "feed", desc := "(IIIII)I" } : Jvm.MethodName) ({ cls := "ThirdWitness", name := "feed", desc := "(IIIII)I" } : Jvm.MethodName)) ∈ lw_all := lw_g (lw_at lw_m1 148 rfl) rfl
theorem q277 : (Jvm.Cond.code ({ cls := "ThirdWitness", name := "feed", desc := "(IIIII)I" } : Jvm.MethodName) prog_1_method_13_code (8 : Nat) (Option.some Jvm.ClassFile.FieldType.int)) ∈ lw_all := lw_g (lw_at lw_m1 149 rfl) rfl
theorem q279 : (Jvm.Cond.instanceMethod ({ cls := "ThirdWitness", name := "town", desc := "(I)I" } : Jvm.MethodName)) ∈ lw_all := lw_g (lw_at lw_m1 151 rfl) rfl
theorem q280 : (Jvm.Cond.selects "ThirdWitness" ({ cls := "ThirdWitness", name := "town", desc := "(I)I" } : Jvm.MethodName) ({ cls := "ThirdWitness", name := "town", desc := "(I)I" } : Jvm.MethodName)) ∈ lw_all := lw_g (lw_at lw_m1 152 rfl) rfl
theorem q281 : (Jvm.Cond.code ({ cls := "ThirdWitness", name := "town", desc := "(I)I" } : Jvm.MethodName) prog_1_method_14_code (4 : Nat) (Option.some Jvm.ClassFile.FieldType.int)) ∈ lw_all := lw_g (lw_at lw_m1 153 rfl) rfl
theorem q282 : (Jvm.Cond.methodLink "ThirdWitness" (61 : Nat) ({ cls := "ThirdWitness", name := "in", desc := "(III)Z" } : Jvm.MethodName)) ∈ lw_all := lw_g (lw_at lw_m1 154 rfl) rfl
theorem q283 : (Jvm.Cond.static ({ cls := "ThirdWitness", name := "in", desc := "(III)Z" } : Jvm.MethodName)) ∈ lw_all := lw_g (lw_at lw_m1 155 rfl) rfl
theorem q284 : (Jvm.Cond.code ({ cls := "ThirdWitness", name := "in", desc := "(III)Z" } : Jvm.MethodName) prog_1_method_2_code (3 : Nat) (Option.some Jvm.ClassFile.FieldType.boolean)) ∈ lw_all := lw_g (lw_at lw_m1 156 rfl) rfl
theorem q285 : (Jvm.Cond.methodLink "ThirdWitness" (47 : Nat) ({ cls := "ThirdWitness", name := "refused", desc := "(I)I" } : Jvm.MethodName)) ∈ lw_all := lw_g (lw_at lw_m1 157 rfl) rfl
theorem q286 : (Jvm.Cond.privateMethod ({ cls := "ThirdWitness", name := "refused", desc := "(I)I" } : Jvm.MethodName)) ∈ lw_tbl := lw_at lw_m1 158 rfl
theorem q287 : (Jvm.Cond.instanceMethod ({ cls := "ThirdWitness", name := "refused", desc := "(I)I" } : Jvm.MethodName)) ∈ lw_all := lw_g (lw_at lw_m1 159 rfl) rfl
theorem q288 : (Jvm.Cond.code ({ cls := "ThirdWitness", name := "refused", desc := "(I)I" } : Jvm.MethodName) prog_1_method_7_code (2 : Nat) (Option.some Jvm.ClassFile.FieldType.int)) ∈ lw_all := lw_g (lw_at lw_m1 160 rfl) rfl
theorem q289 : (Jvm.Cond.classLink "ThirdWitness" (65 : Nat) "ThirdWitness$Reade\x72") ∈ lw_all := lw_g (lw_at lw_m1 161 rfl) rfl
theorem q291 : (Jvm.Cond.classLink "ThirdWitness" (67 : Nat) "ThirdWitness$Tokens") ∈ lw_all := lw_g (lw_at lw_m1 163 rfl) rfl
theorem q293 : (Jvm.Cond.methodLink "ThirdWitness" (69 : Nat) ({ cls := "ThirdWitness$Tokens", name := "<init>", desc := "([BI)V" } : Jvm.MethodName)) ∈ lw_all := lw_g (lw_at lw_m1 165 rfl) rfl
theorem q307 : (Jvm.Cond.methodLink "ThirdWitness" (72 : Nat) ({ cls := "ThirdWitness$Reade\x72", name := "<init>", desc := "(LThirdWitness$Tokens;)V" } : Jvm.MethodName)) ∈ lw_all := lw_g (lw_at lw_m1 179 rfl) rfl
theorem q321 : (Jvm.Cond.fieldLink "ThirdWitness" (214 : Nat) "ThirdWitness$Town" "boys" "I") ∈ lw_all := lw_g (lw_at lw_m1 193 rfl) rfl
theorem q323 : (Jvm.Cond.fieldLink "ThirdWitness" (403 : Nat) "ThirdWitness$Town" "goings" "I") ∈ lw_all := lw_g (lw_at lw_m1 195 rfl) rfl
theorem q325 : (Jvm.Cond.fieldLink "ThirdWitness" (406 : Nat) "ThirdWitness$Town" "hires" "I") ∈ lw_all := lw_g (lw_at lw_m1 197 rfl) rfl
theorem q327 : (Jvm.Cond.fieldLink "ThirdWitness" (158 : Nat) "ThirdWitness$Town" "unsures" "I") ∈ lw_all := lw_g (lw_at lw_m1 199 rfl) rfl
theorem q329 : (Jvm.Cond.fieldLink "ThirdWitness" (409 : Nat) "ThirdWitness$Town" "endings" "I") ∈ lw_all := lw_g (lw_at lw_m1 201 rfl) rfl
theorem q332 : (Jvm.Cond.fieldLink "ThirdWitness" (116 : Nat) "ThirdWitness$Town" "places" "Ljava/util/ArrayList;") ∈ lw_all := lw_g (lw_at lw_m1 204 rfl) rfl
theorem q335 : (Jvm.Cond.fieldLink "ThirdWitness" (123 : Nat) "ThirdWitness$Town" "people" "Ljava/util/ArrayList;") ∈ lw_all := lw_g (lw_at lw_m1 207 rfl) rfl
theorem q338 : (Jvm.Cond.fieldLink "ThirdWitness" (129 : Nat) "ThirdWitness$Town" "quarrels" "Ljava/util/ArrayList;") ∈ lw_all := lw_g (lw_at lw_m1 210 rfl) rfl
theorem q343 : (Jvm.Cond.fieldLink "ThirdWitness" (126 : Nat) "ThirdWitness$Town" "sights" "Ljava/util/ArrayList;") ∈ lw_all := lw_g (lw_at lw_m1 215 rfl) rfl
theorem q346 : (Jvm.Cond.fieldLink "ThirdWitness" (161 : Nat) "ThirdWitness$Town" "unsure" "[I") ∈ lw_all := lw_g (lw_at lw_m1 218 rfl) rfl
theorem q594 : (Jvm.Cond.fieldLinkNest "ThirdWitness" (79 : Nat) "ThirdWitness$Reade\x72" "fault" "I" "ThirdWitness") ∈ lw_tbl := lw_at lw_m2 226 rfl
theorem q596 : (Jvm.Cond.fieldLinkNest "ThirdWitness" (83 : Nat) "ThirdWitness$Reade\x72" "place" "I" "ThirdWitness") ∈ lw_tbl := lw_at lw_m2 228 rfl
theorem q608 : (Jvm.Cond.methodLink "ThirdWitness" (75 : Nat) ({ cls := "ThirdWitness$Reade\x72", name := "read", desc := "()LThirdWitness$Town;" } : Jvm.MethodName)) ∈ lw_all := lw_g (lw_at lw_m3 0 rfl) rfl
theorem q812 : (Jvm.Cond.selects "ThirdWitness" ({ cls := "java/lang/Object", name := "getClass", desc := "()Ljava/lang/Class;" } : Jvm.MethodName) ({ cls := "java/lang/Object", name := "getClass", desc := "()Ljava/lang/Class;" } : Jvm.MethodName)) ∈ lw_all := lw_g (lw_at lw_m3 204 rfl) rfl
theorem q867 : (Jvm.Cond.fieldLink "ThirdWitness" (266 : Nat) "ThirdWitness$Sight" "from" "I") ∈ lw_all := lw_g (lw_at lw_m4 19 rfl) rfl
theorem q871 : (Jvm.Cond.fieldLink "ThirdWitness" (267 : Nat) "ThirdWitness$Sight" "into" "I") ∈ lw_all := lw_g (lw_at lw_m4 23 rfl) rfl
theorem q902 : (Jvm.Cond.fieldLink "ThirdWitness" (170 : Nat) "ThirdWitness$Person" "wit" "I") ∈ lw_all := lw_g (lw_at lw_m4 54 rfl) rfl
theorem q904 : (Jvm.Cond.fieldLink "ThirdWitness" (167 : Nat) "ThirdWitness$Person" "othe\x72" "I") ∈ lw_all := lw_g (lw_at lw_m4 56 rfl) rfl
theorem q909 : (Jvm.Cond.fieldLink "ThirdWitness" (248 : Nat) "ThirdWitness$Person" "price" "I") ∈ lw_all := lw_g (lw_at lw_m4 61 rfl) rfl
theorem q999 : (Jvm.Cond.fieldLink "ThirdWitness" (177 : Nat) "ThirdWitness$Quarrel" "one" "I") ∈ lw_all := lw_g (lw_at lw_m4 151 rfl) rfl
theorem q1001 : (Jvm.Cond.fieldLink "ThirdWitness" (185 : Nat) "ThirdWitness$Quarrel" "two" "I") ∈ lw_all := lw_g (lw_at lw_m4 153 rfl) rfl
theorem q1003 : (Jvm.Cond.fieldLink "ThirdWitness" (229 : Nat) "ThirdWitness$Quarrel" "place" "I") ∈ lw_all := lw_g (lw_at lw_m4 155 rfl) rfl
theorem q1005 : (Jvm.Cond.fieldLink "ThirdWitness" (230 : Nat) "ThirdWitness$Quarrel" "from" "I") ∈ lw_all := lw_g (lw_at lw_m4 157 rfl) rfl
theorem q1007 : (Jvm.Cond.fieldLink "ThirdWitness" (226 : Nat) "ThirdWitness$Quarrel" "needs" "I") ∈ lw_all := lw_g (lw_at lw_m4 159 rfl) rfl
theorem q1010 : (Jvm.Cond.fieldLink "ThirdWitness" (316 : Nat) "ThirdWitness$Quarrel" "ended" "I") ∈ lw_all := lw_g (lw_at lw_m4 162 rfl) rfl
theorem q1053 : (Jvm.Cond.classLink "ThirdWitness" (90 : Nat) "ThirdWitness$Scene") ∈ lw_all := lw_g (lw_at lw_m4 205 rfl) rfl
theorem q1055 : (Jvm.Cond.methodLink "ThirdWitness" (92 : Nat) ({ cls := "ThirdWitness$Scene", name := "<init>", desc := "(LThirdWitness$Town;)V" } : Jvm.MethodName)) ∈ lw_all := lw_g (lw_at lw_m4 207 rfl) rfl
theorem q1061 : (Jvm.Cond.fieldLink "ThirdWitness" (251 : Nat) "ThirdWitness$Scene" "sent" "[B") ∈ lw_all := lw_g (lw_at lw_m4 213 rfl) rfl
theorem q1063 : (Jvm.Cond.fieldLink "ThirdWitness" (270 : Nat) "ThirdWitness$Scene" "bricked" "I") ∈ lw_all := lw_g (lw_at lw_m4 215 rfl) rfl
theorem q1065 : (Jvm.Cond.fieldLink "ThirdWitness" (394 : Nat) "ThirdWitness$Scene" "spent" "I") ∈ lw_all := lw_g (lw_at lw_m4 217 rfl) rfl
theorem q1075 : (Jvm.Cond.methodLink "ThirdWitness" (99 : Nat) ({ cls := "ThirdWitness$Scene", name := "begins", desc := "()V" } : Jvm.MethodName)) ∈ lw_all := lw_g (lw_at lw_m4 227 rfl) rfl
theorem q1079 : (Jvm.Cond.methodLink "ThirdWitness" (102 : Nat) ({ cls := "ThirdWitness$Scene", name := "copy", desc := "()LThirdWitness$Scene;" } : Jvm.MethodName)) ∈ lw_all := lw_g (lw_at lw_m4 231 rfl) rfl
theorem q1090 : (Jvm.Cond.methodLink "ThirdWitness" (109 : Nat) ({ cls := "java/util/ArrayList", name := "clea\x72", desc := "()V" } : Jvm.MethodName)) ∈ lw_all := lw_g (lw_at lw_m5 2 rfl) rfl
theorem q1094 : (Jvm.Cond.methodLink "ThirdWitness" (112 : Nat) ({ cls := "ThirdWitness", name := "places", desc := "()I" } : Jvm.MethodName)) ∈ lw_all := lw_g (lw_at lw_m5 6 rfl) rfl
theorem q1095 : (Jvm.Cond.privateMethod ({ cls := "ThirdWitness", name := "places", desc := "()I" } : Jvm.MethodName)) ∈ lw_tbl := lw_at lw_m5 7 rfl
theorem q1096 : (Jvm.Cond.instanceMethod ({ cls := "ThirdWitness", name := "places", desc := "()I" } : Jvm.MethodName)) ∈ lw_all := lw_g (lw_at lw_m5 8 rfl) rfl
theorem q1097 : (Jvm.Cond.code ({ cls := "ThirdWitness", name := "places", desc := "()I" } : Jvm.MethodName) prog_1_method_17_code (1 : Nat) (Option.some Jvm.ClassFile.FieldType.int)) ∈ lw_all := lw_g (lw_at lw_m5 9 rfl) rfl
theorem q1098 : (Jvm.Cond.methodLink "ThirdWitness" (120 : Nat) ({ cls := "java/util/ArrayList", name := "size", desc := "()I" } : Jvm.MethodName)) ∈ lw_all := lw_g (lw_at lw_m5 10 rfl) rfl
theorem q1099 : (Jvm.Cond.methodLink "ThirdWitness" (51 : Nat) ({ cls := "ThirdWitness", name := "well", desc := "(I)I" } : Jvm.MethodName)) ∈ lw_all := lw_g (lw_at lw_m5 11 rfl) rfl
theorem q1100 : (Jvm.Cond.privateMethod ({ cls := "ThirdWitness", name := "well", desc := "(I)I" } : Jvm.MethodName)) ∈ lw_tbl := lw_at lw_m5 12 rfl
theorem q1101 : (Jvm.Cond.instanceMethod ({ cls := "ThirdWitness", name := "well", desc := "(I)I" } : Jvm.MethodName)) ∈ lw_all := lw_g (lw_at lw_m5 13 rfl) rfl
theorem q1102 : (Jvm.Cond.code ({ cls := "ThirdWitness", name := "well", desc := "(I)I" } : Jvm.MethodName) prog_1_method_10_code (2 : Nat) (Option.some Jvm.ClassFile.FieldType.int)) ∈ lw_all := lw_g (lw_at lw_m5 14 rfl) rfl
theorem q1104 : (Jvm.Cond.instanceMethod ({ cls := "ThirdWitness", name := "fault", desc := "()I" } : Jvm.MethodName)) ∈ lw_all := lw_g (lw_at lw_m5 16 rfl) rfl
theorem q1105 : (Jvm.Cond.selects "ThirdWitness" ({ cls := "ThirdWitness", name := "fault", desc := "()I" } : Jvm.MethodName) ({ cls := "ThirdWitness", name := "fault", desc := "()I" } : Jvm.MethodName)) ∈ lw_all := lw_g (lw_at lw_m5 17 rfl) rfl
theorem q1106 : (Jvm.Cond.code ({ cls := "ThirdWitness", name := "fault", desc := "()I" } : Jvm.MethodName) prog_1_method_15_code (1 : Nat) (Option.some Jvm.ClassFile.FieldType.int)) ∈ lw_all := lw_g (lw_at lw_m5 18 rfl) rfl
theorem q1108 : (Jvm.Cond.instanceMethod ({ cls := "ThirdWitness", name := "where", desc := "()I" } : Jvm.MethodName)) ∈ lw_all := lw_g (lw_at lw_m5 20 rfl) rfl
theorem q1109 : (Jvm.Cond.selects "ThirdWitness" ({ cls := "ThirdWitness", name := "where", desc := "()I" } : Jvm.MethodName) ({ cls := "ThirdWitness", name := "where", desc := "()I" } : Jvm.MethodName)) ∈ lw_all := lw_g (lw_at lw_m5 21 rfl) rfl
theorem q1110 : (Jvm.Cond.code ({ cls := "ThirdWitness", name := "where", desc := "()I" } : Jvm.MethodName) prog_1_method_16_code (1 : Nat) (Option.some Jvm.ClassFile.FieldType.int)) ∈ lw_all := lw_g (lw_at lw_m5 22 rfl) rfl
theorem q1112 : (Jvm.Cond.instanceMethod ({ cls := "ThirdWitness", name := "person", desc := "(II)I" } : Jvm.MethodName)) ∈ lw_all := lw_g (lw_at lw_m5 24 rfl) rfl
theorem q1113 : (Jvm.Cond.selects "ThirdWitness" ({ cls := "ThirdWitness", name := "person", desc := "(II)I" } : Jvm.MethodName) ({ cls := "ThirdWitness", name := "person", desc := "(II)I" } : Jvm.MethodName)) ∈ lw_all := lw_g (lw_at lw_m5 25 rfl) rfl
theorem q1114 : (Jvm.Cond.code ({ cls := "ThirdWitness", name := "person", desc := "(II)I" } : Jvm.MethodName) prog_1_method_35_code (4 : Nat) (Option.some Jvm.ClassFile.FieldType.int)) ∈ lw_all := lw_g (lw_at lw_m5 26 rfl) rfl
theorem q1115 : (Jvm.Cond.methodLink "ThirdWitness" (241 : Nat) ({ cls := "ThirdWitness", name := "isPerson", desc := "(I)Z" } : Jvm.MethodName)) ∈ lw_all := lw_g (lw_at lw_m5 27 rfl) rfl
theorem q1116 : (Jvm.Cond.privateMethod ({ cls := "ThirdWitness", name := "isPerson", desc := "(I)Z" } : Jvm.MethodName)) ∈ lw_tbl := lw_at lw_m5 28 rfl
theorem q1117 : (Jvm.Cond.instanceMethod ({ cls := "ThirdWitness", name := "isPerson", desc := "(I)Z" } : Jvm.MethodName)) ∈ lw_all := lw_g (lw_at lw_m5 29 rfl) rfl
theorem q1118 : (Jvm.Cond.code ({ cls := "ThirdWitness", name := "isPerson", desc := "(I)Z" } : Jvm.MethodName) prog_1_method_22_code (2 : Nat) (Option.some Jvm.ClassFile.FieldType.boolean)) ∈ lw_all := lw_g (lw_at lw_m5 30 rfl) rfl
theorem q1119 : (Jvm.Cond.methodLink "ThirdWitness" (132 : Nat) ({ cls := "ThirdWitness", name := "people", desc := "()I" } : Jvm.MethodName)) ∈ lw_all := lw_g (lw_at lw_m5 31 rfl) rfl
theorem q1120 : (Jvm.Cond.privateMethod ({ cls := "ThirdWitness", name := "people", desc := "()I" } : Jvm.MethodName)) ∈ lw_tbl := lw_at lw_m5 32 rfl
theorem q1121 : (Jvm.Cond.instanceMethod ({ cls := "ThirdWitness", name := "people", desc := "()I" } : Jvm.MethodName)) ∈ lw_all := lw_g (lw_at lw_m5 33 rfl) rfl
theorem q1122 : (Jvm.Cond.code ({ cls := "ThirdWitness", name := "people", desc := "()I" } : Jvm.MethodName) prog_1_method_18_code (1 : Nat) (Option.some Jvm.ClassFile.FieldType.int)) ∈ lw_all := lw_g (lw_at lw_m5 34 rfl) rfl
theorem q1123 : (Jvm.Cond.methodLink "ThirdWitness" (142 : Nat) ({ cls := "ThirdWitness$Town", name := "person", desc := "(I)LThirdWitness$Person;" } : Jvm.MethodName)) ∈ lw_all := lw_g (lw_at lw_m5 35 rfl) rfl
theorem q1124 : (Jvm.Cond.methodLink "ThirdWitness" (245 : Nat) ({ cls := "ThirdWitness$Person", name := "kind", desc := "()I" } : Jvm.MethodName)) ∈ lw_all := lw_g (lw_at lw_m5 36 rfl) rfl
theorem q1138 : (Jvm.Cond.methodLink "ThirdWitness" (146 : Nat) ({ cls := "ThirdWitness$Person", name := "eyes", desc := "()I" } : Jvm.MethodName)) ∈ lw_all := lw_g (lw_at lw_m5 50 rfl) rfl
theorem q1151 : (Jvm.Cond.methodLink "ThirdWitness" (254 : Nat) ({ cls := "ThirdWitness", name := "quarrelsOf", desc := "(I)I" } : Jvm.MethodName)) ∈ lw_all := lw_g (lw_at lw_m5 63 rfl) rfl
theorem q1152 : (Jvm.Cond.privateMethod ({ cls := "ThirdWitness", name := "quarrelsOf", desc := "(I)I" } : Jvm.MethodName)) ∈ lw_tbl := lw_at lw_m5 64 rfl
theorem q1153 : (Jvm.Cond.instanceMethod ({ cls := "ThirdWitness", name := "quarrelsOf", desc := "(I)I" } : Jvm.MethodName)) ∈ lw_all := lw_g (lw_at lw_m5 65 rfl) rfl
theorem q1154 : (Jvm.Cond.code ({ cls := "ThirdWitness", name := "quarrelsOf", desc := "(I)I" } : Jvm.MethodName) prog_1_method_34_code (4 : Nat) (Option.some Jvm.ClassFile.FieldType.int)) ∈ lw_all := lw_g (lw_at lw_m5 66 rfl) rfl
theorem q1155 : (Jvm.Cond.methodLink "ThirdWitness" (136 : Nat) ({ cls := "ThirdWitness", name := "quarrels", desc := "()I" } : Jvm.MethodName)) ∈ lw_all := lw_g (lw_at lw_m5 67 rfl) rfl
theorem q1156 : (Jvm.Cond.privateMethod ({ cls := "ThirdWitness", name := "quarrels", desc := "()I" } : Jvm.MethodName)) ∈ lw_tbl := lw_at lw_m5 68 rfl
theorem q1157 : (Jvm.Cond.instanceMethod ({ cls := "ThirdWitness", name := "quarrels", desc := "()I" } : Jvm.MethodName)) ∈ lw_all := lw_g (lw_at lw_m5 69 rfl) rfl
theorem q1158 : (Jvm.Cond.code ({ cls := "ThirdWitness", name := "quarrels", desc := "()I" } : Jvm.MethodName) prog_1_method_20_code (1 : Nat) (Option.some Jvm.ClassFile.FieldType.int)) ∈ lw_all := lw_g (lw_at lw_m5 70 rfl) rfl
theorem q1159 : (Jvm.Cond.methodLink "ThirdWitness" (173 : Nat) ({ cls := "ThirdWitness$Town", name := "quarrel", desc := "(I)LThirdWitness$Quarrel;" } : Jvm.MethodName)) ∈ lw_all := lw_g (lw_at lw_m5 71 rfl) rfl
theorem q1161 : (Jvm.Cond.instanceMethod ({ cls := "ThirdWitness", name := "sight", desc := "(II)I" } : Jvm.MethodName)) ∈ lw_all := lw_g (lw_at lw_m5 73 rfl) rfl
theorem q1162 : (Jvm.Cond.selects "ThirdWitness" ({ cls := "ThirdWitness", name := "sight", desc := "(II)I" } : Jvm.MethodName) ({ cls := "ThirdWitness", name := "sight", desc := "(II)I" } : Jvm.MethodName)) ∈ lw_all := lw_g (lw_at lw_m5 74 rfl) rfl
theorem q1163 : (Jvm.Cond.code ({ cls := "ThirdWitness", name := "sight", desc := "(II)I" } : Jvm.MethodName) prog_1_method_36_code (4 : Nat) (Option.some Jvm.ClassFile.FieldType.int)) ∈ lw_all := lw_g (lw_at lw_m5 75 rfl) rfl
theorem q1164 : (Jvm.Cond.methodLink "ThirdWitness" (257 : Nat) ({ cls := "ThirdWitness", name := "isSight", desc := "(I)Z" } : Jvm.MethodName)) ∈ lw_all := lw_g (lw_at lw_m5 76 rfl) rfl
theorem q1165 : (Jvm.Cond.privateMethod ({ cls := "ThirdWitness", name := "isSight", desc := "(I)Z" } : Jvm.MethodName)) ∈ lw_tbl := lw_at lw_m5 77 rfl
theorem q1166 : (Jvm.Cond.instanceMethod ({ cls := "ThirdWitness", name := "isSight", desc := "(I)Z" } : Jvm.MethodName)) ∈ lw_all := lw_g (lw_at lw_m5 78 rfl) rfl
theorem q1167 : (Jvm.Cond.code ({ cls := "ThirdWitness", name := "isSight", desc := "(I)Z" } : Jvm.MethodName) prog_1_method_23_code (2 : Nat) (Option.some Jvm.ClassFile.FieldType.boolean)) ∈ lw_all := lw_g (lw_at lw_m5 79 rfl) rfl
theorem q1168 : (Jvm.Cond.methodLink "ThirdWitness" (134 : Nat) ({ cls := "ThirdWitness", name := "sights", desc := "()I" } : Jvm.MethodName)) ∈ lw_all := lw_g (lw_at lw_m5 80 rfl) rfl
theorem q1169 : (Jvm.Cond.privateMethod ({ cls := "ThirdWitness", name := "sights", desc := "()I" } : Jvm.MethodName)) ∈ lw_tbl := lw_at lw_m5 81 rfl
theorem q1170 : (Jvm.Cond.instanceMethod ({ cls := "ThirdWitness", name := "sights", desc := "()I" } : Jvm.MethodName)) ∈ lw_all := lw_g (lw_at lw_m5 82 rfl) rfl
theorem q1171 : (Jvm.Cond.code ({ cls := "ThirdWitness", name := "sights", desc := "()I" } : Jvm.MethodName) prog_1_method_19_code (1 : Nat) (Option.some Jvm.ClassFile.FieldType.int)) ∈ lw_all := lw_g (lw_at lw_m5 83 rfl) rfl
theorem q1172 : (Jvm.Cond.methodLink "ThirdWitness" (260 : Nat) ({ cls := "java/util/ArrayList", name := "get", desc := "(I)Ljava/lang/Object;" } : Jvm.MethodName)) ∈ lw_all := lw_g (lw_at lw_m5 84 rfl) rfl
theorem q1173 : (Jvm.Cond.classLink "ThirdWitness" (264 : Nat) "ThirdWitness$Sight") ∈ lw_all := lw_g (lw_at lw_m5 85 rfl) rfl
theorem q1174 : (Jvm.Cond.methodLink "ThirdWitness" (151 : Nat) ({ cls := "ThirdWitness", name := "has", desc := "(II)Z" } : Jvm.MethodName)) ∈ lw_all := lw_g (lw_at lw_m5 86 rfl) rfl
theorem q1175 : (Jvm.Cond.static ({ cls := "ThirdWitness", name := "has", desc := "(II)Z" } : Jvm.MethodName)) ∈ lw_all := lw_g (lw_at lw_m5 87 rfl) rfl
theorem q1176 : (Jvm.Cond.code ({ cls := "ThirdWitness", name := "has", desc := "(II)Z" } : Jvm.MethodName) prog_1_method_3_code (2 : Nat) (Option.some Jvm.ClassFile.FieldType.boolean)) ∈ lw_all := lw_g (lw_at lw_m5 88 rfl) rfl
theorem q1178 : (Jvm.Cond.instanceMethod ({ cls := "ThirdWitness", name := "quarrel", desc := "(II)I" } : Jvm.MethodName)) ∈ lw_all := lw_g (lw_at lw_m5 90 rfl) rfl
theorem q1179 : (Jvm.Cond.selects "ThirdWitness" ({ cls := "ThirdWitness", name := "quarrel", desc := "(II)I" } : Jvm.MethodName) ({ cls := "ThirdWitness", name := "quarrel", desc := "(II)I" } : Jvm.MethodName)) ∈ lw_all := lw_g (lw_at lw_m5 91 rfl) rfl
theorem q1180 : (Jvm.Cond.code ({ cls := "ThirdWitness", name := "quarrel", desc := "(II)I" } : Jvm.MethodName) prog_1_method_37_code (4 : Nat) (Option.some Jvm.ClassFile.FieldType.int)) ∈ lw_all := lw_g (lw_at lw_m5 92 rfl) rfl
theorem q1181 : (Jvm.Cond.methodLink "ThirdWitness" (273 : Nat) ({ cls := "ThirdWitness", name := "isQuarrel", desc := "(I)Z" } : Jvm.MethodName)) ∈ lw_all := lw_g (lw_at lw_m5 93 rfl) rfl
theorem q1182 : (Jvm.Cond.privateMethod ({ cls := "ThirdWitness", name := "isQuarrel", desc := "(I)Z" } : Jvm.MethodName)) ∈ lw_tbl := lw_at lw_m5 94 rfl
theorem q1183 : (Jvm.Cond.instanceMethod ({ cls := "ThirdWitness", name := "isQuarrel", desc := "(I)Z" } : Jvm.MethodName)) ∈ lw_all := lw_g (lw_at lw_m5 95 rfl) rfl
theorem q1184 : (Jvm.Cond.code ({ cls := "ThirdWitness", name := "isQuarrel", desc := "(I)Z" } : Jvm.MethodName) prog_1_method_24_code (2 : Nat) (Option.some Jvm.ClassFile.FieldType.boolean)) ∈ lw_all := lw_g (lw_at lw_m5 96 rfl) rfl
theorem q1186 : (Jvm.Cond.instanceMethod ({ cls := "ThirdWitness", name := "at", desc := "(II)I" } : Jvm.MethodName)) ∈ lw_all := lw_g (lw_at lw_m5 98 rfl) rfl
theorem q1187 : (Jvm.Cond.selects "ThirdWitness" ({ cls := "ThirdWitness", name := "at", desc := "(II)I" } : Jvm.MethodName) ({ cls := "ThirdWitness", name := "at", desc := "(II)I" } : Jvm.MethodName)) ∈ lw_all := lw_g (lw_at lw_m5 99 rfl) rfl
theorem q1188 : (Jvm.Cond.code ({ cls := "ThirdWitness", name := "at", desc := "(II)I" } : Jvm.MethodName) prog_1_method_38_code (4 : Nat) (Option.some Jvm.ClassFile.FieldType.int)) ∈ lw_all := lw_g (lw_at lw_m5 100 rfl) rfl
theorem q1189 : (Jvm.Cond.methodLink "ThirdWitness" (276 : Nat) ({ cls := "ThirdWitness", name := "why", desc := "(ZIII)I" } : Jvm.MethodName)) ∈ lw_all := lw_g (lw_at lw_m5 101 rfl) rfl
theorem q1190 : (Jvm.Cond.privateMethod ({ cls := "ThirdWitness", name := "why", desc := "(ZIII)I" } : Jvm.MethodName)) ∈ lw_tbl := lw_at lw_m5 102 rfl
theorem q1191 : (Jvm.Cond.instanceMethod ({ cls := "ThirdWitness", name := "why", desc := "(ZIII)I" } : Jvm.MethodName)) ∈ lw_all := lw_g (lw_at lw_m5 103 rfl) rfl
theorem q1192 : (Jvm.Cond.code ({ cls := "ThirdWitness", name := "why", desc := "(ZIII)I" } : Jvm.MethodName) prog_1_method_25_code (5 : Nat) (Option.some Jvm.ClassFile.FieldType.int)) ∈ lw_all := lw_g (lw_at lw_m5 104 rfl) rfl
theorem q1193 : (Jvm.Cond.methodLink "ThirdWitness" (280 : Nat) ({ cls := "ThirdWitness$Scene", name := "at", desc := "(II)I" } : Jvm.MethodName)) ∈ lw_all := lw_g (lw_at lw_m5 105 rfl) rfl
theorem q1207 : (Jvm.Cond.instanceMethod ({ cls := "ThirdWitness", name := "into", desc := "(I)I" } : Jvm.MethodName)) ∈ lw_all := lw_g (lw_at lw_m5 119 rfl) rfl
theorem q1208 : (Jvm.Cond.selects "ThirdWitness" ({ cls := "ThirdWitness", name := "into", desc := "(I)I" } : Jvm.MethodName) ({ cls := "ThirdWitness", name := "into", desc := "(I)I" } : Jvm.MethodName)) ∈ lw_all := lw_g (lw_at lw_m5 120 rfl) rfl
theorem q1209 : (Jvm.Cond.code ({ cls := "ThirdWitness", name := "into", desc := "(I)I" } : Jvm.MethodName) prog_1_method_39_code (2 : Nat) (Option.some Jvm.ClassFile.FieldType.int)) ∈ lw_all := lw_g (lw_at lw_m5 121 rfl) rfl
theorem q1210 : (Jvm.Cond.methodLink "ThirdWitness" (283 : Nat) ({ cls := "ThirdWitness", name := "isPlace", desc := "(I)Z" } : Jvm.MethodName)) ∈ lw_all := lw_g (lw_at lw_m5 122 rfl) rfl
theorem q1211 : (Jvm.Cond.privateMethod ({ cls := "ThirdWitness", name := "isPlace", desc := "(I)Z" } : Jvm.MethodName)) ∈ lw_tbl := lw_at lw_m5 123 rfl
theorem q1212 : (Jvm.Cond.instanceMethod ({ cls := "ThirdWitness", name := "isPlace", desc := "(I)Z" } : Jvm.MethodName)) ∈ lw_all := lw_g (lw_at lw_m5 124 rfl) rfl
theorem q1213 : (Jvm.Cond.code ({ cls := "ThirdWitness", name := "isPlace", desc := "(I)Z" } : Jvm.MethodName) prog_1_method_21_code (2 : Nat) (Option.some Jvm.ClassFile.FieldType.boolean)) ∈ lw_all := lw_g (lw_at lw_m5 125 rfl) rfl
theorem q1214 : (Jvm.Cond.methodLink "ThirdWitness" (286 : Nat) ({ cls := "ThirdWitness$Scene", name := "into", desc := "(I)I" } : Jvm.MethodName)) ∈ lw_all := lw_g (lw_at lw_m5 126 rfl) rfl
theorem q1223 : (Jvm.Cond.instanceMethod ({ cls := "ThirdWitness", name := "watchers", desc := "(II)I" } : Jvm.MethodName)) ∈ lw_all := lw_g (lw_at lw_m5 135 rfl) rfl
theorem q1224 : (Jvm.Cond.selects "ThirdWitness" ({ cls := "ThirdWitness", name := "watchers", desc := "(II)I" } : Jvm.MethodName) ({ cls := "ThirdWitness", name := "watchers", desc := "(II)I" } : Jvm.MethodName)) ∈ lw_all := lw_g (lw_at lw_m5 136 rfl) rfl
theorem q1225 : (Jvm.Cond.code ({ cls := "ThirdWitness", name := "watchers", desc := "(II)I" } : Jvm.MethodName) prog_1_method_40_code (4 : Nat) (Option.some Jvm.ClassFile.FieldType.int)) ∈ lw_all := lw_g (lw_at lw_m5 137 rfl) rfl
theorem q1226 : (Jvm.Cond.methodLink "ThirdWitness" (200 : Nat) ({ cls := "ThirdWitness$Scene", name := "watchers", desc := "(II)I" } : Jvm.MethodName)) ∈ lw_all := lw_g (lw_at lw_m5 138 rfl) rfl
theorem q1236 : (Jvm.Cond.instanceMethod ({ cls := "ThirdWitness", name := "eyes", desc := "(II)I" } : Jvm.MethodName)) ∈ lw_all := lw_g (lw_at lw_m5 148 rfl) rfl
theorem q1237 : (Jvm.Cond.selects "ThirdWitness" ({ cls := "ThirdWitness", name := "eyes", desc := "(II)I" } : Jvm.MethodName) ({ cls := "ThirdWitness", name := "eyes", desc := "(II)I" } : Jvm.MethodName)) ∈ lw_all := lw_g (lw_at lw_m5 149 rfl) rfl
theorem q1238 : (Jvm.Cond.code ({ cls := "ThirdWitness", name := "eyes", desc := "(II)I" } : Jvm.MethodName) prog_1_method_41_code (4 : Nat) (Option.some Jvm.ClassFile.FieldType.int)) ∈ lw_all := lw_g (lw_at lw_m5 150 rfl) rfl
theorem q1239 : (Jvm.Cond.methodLink "ThirdWitness" (218 : Nat) ({ cls := "ThirdWitness", name := "eyesOfAll", desc := "(I)I" } : Jvm.MethodName)) ∈ lw_all := lw_g (lw_at lw_m5 151 rfl) rfl
theorem q1240 : (Jvm.Cond.privateMethod ({ cls := "ThirdWitness", name := "eyesOfAll", desc := "(I)I" } : Jvm.MethodName)) ∈ lw_tbl := lw_at lw_m5 152 rfl
theorem q1241 : (Jvm.Cond.instanceMethod ({ cls := "ThirdWitness", name := "eyesOfAll", desc := "(I)I" } : Jvm.MethodName)) ∈ lw_all := lw_g (lw_at lw_m5 153 rfl) rfl
theorem q1242 : (Jvm.Cond.code ({ cls := "ThirdWitness", name := "eyesOfAll", desc := "(I)I" } : Jvm.MethodName) prog_1_method_28_code (4 : Nat) (Option.some Jvm.ClassFile.FieldType.int)) ∈ lw_all := lw_g (lw_at lw_m5 154 rfl) rfl
theorem q1243 : (Jvm.Cond.methodLink "ThirdWitness" (155 : Nat) ({ cls := "ThirdWitness", name := "eyesOf", desc := "(I)I" } : Jvm.MethodName)) ∈ lw_all := lw_g (lw_at lw_m5 155 rfl) rfl
theorem q1244 : (Jvm.Cond.privateMethod ({ cls := "ThirdWitness", name := "eyesOf", desc := "(I)I" } : Jvm.MethodName)) ∈ lw_tbl := lw_at lw_m5 156 rfl
theorem q1245 : (Jvm.Cond.instanceMethod ({ cls := "ThirdWitness", name := "eyesOf", desc := "(I)I" } : Jvm.MethodName)) ∈ lw_all := lw_g (lw_at lw_m5 157 rfl) rfl
theorem q1246 : (Jvm.Cond.code ({ cls := "ThirdWitness", name := "eyesOf", desc := "(I)I" } : Jvm.MethodName) prog_1_method_27_code (2 : Nat) (Option.some Jvm.ClassFile.FieldType.int)) ∈ lw_all := lw_g (lw_at lw_m5 158 rfl) rfl
theorem q1248 : (Jvm.Cond.instanceMethod ({ cls := "ThirdWitness", name := "hidden", desc := "(I)I" } : Jvm.MethodName)) ∈ lw_all := lw_g (lw_at lw_m5 160 rfl) rfl
theorem q1249 : (Jvm.Cond.selects "ThirdWitness" ({ cls := "ThirdWitness", name := "hidden", desc := "(I)I" } : Jvm.MethodName) ({ cls := "ThirdWitness", name := "hidden", desc := "(I)I" } : Jvm.MethodName)) ∈ lw_all := lw_g (lw_at lw_m5 161 rfl) rfl
theorem q1250 : (Jvm.Cond.code ({ cls := "ThirdWitness", name := "hidden", desc := "(I)I" } : Jvm.MethodName) prog_1_method_42_code (5 : Nat) (Option.some Jvm.ClassFile.FieldType.int)) ∈ lw_all := lw_g (lw_at lw_m5 162 rfl) rfl
theorem q1252 : (Jvm.Cond.instanceMethod ({ cls := "ThirdWitness", name := "square", desc := "()I" } : Jvm.MethodName)) ∈ lw_all := lw_g (lw_at lw_m5 164 rfl) rfl
theorem q1253 : (Jvm.Cond.selects "ThirdWitness" ({ cls := "ThirdWitness", name := "square", desc := "()I" } : Jvm.MethodName) ({ cls := "ThirdWitness", name := "square", desc := "()I" } : Jvm.MethodName)) ∈ lw_all := lw_g (lw_at lw_m5 165 rfl) rfl
theorem q1254 : (Jvm.Cond.code ({ cls := "ThirdWitness", name := "square", desc := "()I" } : Jvm.MethodName) prog_1_method_43_code (6 : Nat) (Option.some Jvm.ClassFile.FieldType.int)) ∈ lw_all := lw_g (lw_at lw_m5 166 rfl) rfl
theorem q1256 : (Jvm.Cond.instanceMethod ({ cls := "ThirdWitness", name := "ends", desc := "(I)I" } : Jvm.MethodName)) ∈ lw_all := lw_g (lw_at lw_m5 168 rfl) rfl
theorem q1257 : (Jvm.Cond.selects "ThirdWitness" ({ cls := "ThirdWitness", name := "ends", desc := "(I)I" } : Jvm.MethodName) ({ cls := "ThirdWitness", name := "ends", desc := "(I)I" } : Jvm.MethodName)) ∈ lw_all := lw_g (lw_at lw_m5 169 rfl) rfl
theorem q1258 : (Jvm.Cond.code ({ cls := "ThirdWitness", name := "ends", desc := "(I)I" } : Jvm.MethodName) prog_1_method_44_code (2 : Nat) (Option.some Jvm.ClassFile.FieldType.int)) ∈ lw_all := lw_g (lw_at lw_m5 170 rfl) rfl
theorem q1259 : (Jvm.Cond.methodLink "ThirdWitness" (288 : Nat) ({ cls := "ThirdWitness", name := "brawlsNow", desc := "(I)I" } : Jvm.MethodName)) ∈ lw_all := lw_g (lw_at lw_m5 171 rfl) rfl
theorem q1260 : (Jvm.Cond.privateMethod ({ cls := "ThirdWitness", name := "brawlsNow", desc := "(I)I" } : Jvm.MethodName)) ∈ lw_tbl := lw_at lw_m5 172 rfl
theorem q1261 : (Jvm.Cond.instanceMethod ({ cls := "ThirdWitness", name := "brawlsNow", desc := "(I)I" } : Jvm.MethodName)) ∈ lw_all := lw_g (lw_at lw_m5 173 rfl) rfl
theorem q1262 : (Jvm.Cond.code ({ cls := "ThirdWitness", name := "brawlsNow", desc := "(I)I" } : Jvm.MethodName) prog_1_method_32_code (2 : Nat) (Option.some Jvm.ClassFile.FieldType.int)) ∈ lw_all := lw_g (lw_at lw_m5 174 rfl) rfl
theorem q1263 : (Jvm.Cond.methodLink "ThirdWitness" (237 : Nat) ({ cls := "ThirdWitness", name := "brawlsOn", desc := "(LThirdWitness$Scene;I)I" } : Jvm.MethodName)) ∈ lw_all := lw_g (lw_at lw_m5 175 rfl) rfl
theorem q1264 : (Jvm.Cond.privateMethod ({ cls := "ThirdWitness", name := "brawlsOn", desc := "(LThirdWitness$Scene;I)I" } : Jvm.MethodName)) ∈ lw_tbl := lw_at lw_m5 176 rfl
theorem q1265 : (Jvm.Cond.instanceMethod ({ cls := "ThirdWitness", name := "brawlsOn", desc := "(LThirdWitness$Scene;I)I" } : Jvm.MethodName)) ∈ lw_all := lw_g (lw_at lw_m5 177 rfl) rfl
theorem q1266 : (Jvm.Cond.code ({ cls := "ThirdWitness", name := "brawlsOn", desc := "(LThirdWitness$Scene;I)I" } : Jvm.MethodName) prog_1_method_31_code (3 : Nat) (Option.some Jvm.ClassFile.FieldType.int)) ∈ lw_all := lw_g (lw_at lw_m5 178 rfl) rfl
theorem q1267 : (Jvm.Cond.methodLink "ThirdWitness" (233 : Nat) ({ cls := "ThirdWitness", name := "brawls", desc := "(LThirdWitness$Scene;III)I" } : Jvm.MethodName)) ∈ lw_all := lw_g (lw_at lw_m5 179 rfl) rfl
theorem q1268 : (Jvm.Cond.privateMethod ({ cls := "ThirdWitness", name := "brawls", desc := "(LThirdWitness$Scene;III)I" } : Jvm.MethodName)) ∈ lw_tbl := lw_at lw_m5 180 rfl
theorem q1269 : (Jvm.Cond.instanceMethod ({ cls := "ThirdWitness", name := "brawls", desc := "(LThirdWitness$Scene;III)I" } : Jvm.MethodName)) ∈ lw_all := lw_g (lw_at lw_m5 181 rfl) rfl
theorem q1270 : (Jvm.Cond.code ({ cls := "ThirdWitness", name := "brawls", desc := "(LThirdWitness$Scene;III)I" } : Jvm.MethodName) prog_1_method_30_code (10 : Nat) (Option.some Jvm.ClassFile.FieldType.int)) ∈ lw_all := lw_g (lw_at lw_m5 182 rfl) rfl
theorem q1271 : (Jvm.Cond.methodLink "ThirdWitness" (182 : Nat) ({ cls := "ThirdWitness", name := "witOf", desc := "(I)I" } : Jvm.MethodName)) ∈ lw_all := lw_g (lw_at lw_m5 183 rfl) rfl
theorem q1272 : (Jvm.Cond.privateMethod ({ cls := "ThirdWitness", name := "witOf", desc := "(I)I" } : Jvm.MethodName)) ∈ lw_tbl := lw_at lw_m5 184 rfl
theorem q1273 : (Jvm.Cond.instanceMethod ({ cls := "ThirdWitness", name := "witOf", desc := "(I)I" } : Jvm.MethodName)) ∈ lw_all := lw_g (lw_at lw_m5 185 rfl) rfl
theorem q1274 : (Jvm.Cond.code ({ cls := "ThirdWitness", name := "witOf", desc := "(I)I" } : Jvm.MethodName) prog_1_method_29_code (3 : Nat) (Option.some Jvm.ClassFile.FieldType.int)) ∈ lw_all := lw_g (lw_at lw_m5 186 rfl) rfl
theorem q1275 : (Jvm.Cond.methodLink "ThirdWitness" (211 : Nat) ({ cls := "ThirdWitness", name := "drawOf", desc := "(I)I" } : Jvm.MethodName)) ∈ lw_all := lw_g (lw_at lw_m5 187 rfl) rfl
theorem q1276 : (Jvm.Cond.static ({ cls := "ThirdWitness", name := "drawOf", desc := "(I)I" } : Jvm.MethodName)) ∈ lw_all := lw_g (lw_at lw_m5 188 rfl) rfl
theorem q1277 : (Jvm.Cond.code ({ cls := "ThirdWitness", name := "drawOf", desc := "(I)I" } : Jvm.MethodName) prog_1_method_6_code (1 : Nat) (Option.some Jvm.ClassFile.FieldType.int)) ∈ lw_all := lw_g (lw_at lw_m5 189 rfl) rfl
theorem q1278 : (Jvm.Cond.constantLong "ThirdWitness" (38 : Nat) (75 : Int64)) ∈ lw_all := lw_g (lw_at lw_m5 190 rfl) rfl
theorem q1279 : (Jvm.Cond.constantLong "ThirdWitness" (40 : Nat) (74 : Int64)) ∈ lw_all := lw_g (lw_at lw_m5 191 rfl) rfl
theorem q1280 : (Jvm.Cond.constantLong "ThirdWitness" (42 : Nat) (65537 : Int64)) ∈ lw_all := lw_g (lw_at lw_m5 192 rfl) rfl
theorem q1281 : (Jvm.Cond.methodLink "ThirdWitness" (221 : Nat) ({ cls := "java/lang/Math", name := "abs", desc := "(I)I" } : Jvm.MethodName)) ∈ lw_all := lw_g (lw_at lw_m5 193 rfl) rfl
theorem q1285 : (Jvm.Cond.instanceMethod ({ cls := "ThirdWitness", name := "endsAt", desc := "(I)I" } : Jvm.MethodName)) ∈ lw_all := lw_g (lw_at lw_m5 197 rfl) rfl
theorem q1286 : (Jvm.Cond.selects "ThirdWitness" ({ cls := "ThirdWitness", name := "endsAt", desc := "(I)I" } : Jvm.MethodName) ({ cls := "ThirdWitness", name := "endsAt", desc := "(I)I" } : Jvm.MethodName)) ∈ lw_all := lw_g (lw_at lw_m5 198 rfl) rfl
theorem q1287 : (Jvm.Cond.code ({ cls := "ThirdWitness", name := "endsAt", desc := "(I)I" } : Jvm.MethodName) prog_1_method_45_code (2 : Nat) (Option.some Jvm.ClassFile.FieldType.int)) ∈ lw_all := lw_g (lw_at lw_m5 199 rfl) rfl
theorem q1289 : (Jvm.Cond.instanceMethod ({ cls := "ThirdWitness", name := "lead", desc := "(I)I" } : Jvm.MethodName)) ∈ lw_all := lw_g (lw_at lw_m5 201 rfl) rfl
theorem q1290 : (Jvm.Cond.selects "ThirdWitness" ({ cls := "ThirdWitness", name := "lead", desc := "(I)I" } : Jvm.MethodName) ({ cls := "ThirdWitness", name := "lead", desc := "(I)I" } : Jvm.MethodName)) ∈ lw_all := lw_g (lw_at lw_m5 202 rfl) rfl
theorem q1291 : (Jvm.Cond.code ({ cls := "ThirdWitness", name := "lead", desc := "(I)I" } : Jvm.MethodName) prog_1_method_46_code (2 : Nat) (Option.some Jvm.ClassFile.FieldType.int)) ∈ lw_all := lw_g (lw_at lw_m5 203 rfl) rfl
theorem q1293 : (Jvm.Cond.instanceMethod ({ cls := "ThirdWitness", name := "seen", desc := "(I)I" } : Jvm.MethodName)) ∈ lw_all := lw_g (lw_at lw_m5 205 rfl) rfl
theorem q1294 : (Jvm.Cond.selects "ThirdWitness" ({ cls := "ThirdWitness", name := "seen", desc := "(I)I" } : Jvm.MethodName) ({ cls := "ThirdWitness", name := "seen", desc := "(I)I" } : Jvm.MethodName)) ∈ lw_all := lw_g (lw_at lw_m5 206 rfl) rfl
theorem q1295 : (Jvm.Cond.code ({ cls := "ThirdWitness", name := "seen", desc := "(I)I" } : Jvm.MethodName) prog_1_method_47_code (2 : Nat) (Option.some Jvm.ClassFile.FieldType.int)) ∈ lw_all := lw_g (lw_at lw_m5 207 rfl) rfl
theorem q1297 : (Jvm.Cond.instanceMethod ({ cls := "ThirdWitness", name := "third", desc := "(I)I" } : Jvm.MethodName)) ∈ lw_all := lw_g (lw_at lw_m5 209 rfl) rfl
theorem q1298 : (Jvm.Cond.selects "ThirdWitness" ({ cls := "ThirdWitness", name := "third", desc := "(I)I" } : Jvm.MethodName) ({ cls := "ThirdWitness", name := "third", desc := "(I)I" } : Jvm.MethodName)) ∈ lw_all := lw_g (lw_at lw_m5 210 rfl) rfl
theorem q1299 : (Jvm.Cond.code ({ cls := "ThirdWitness", name := "third", desc := "(I)I" } : Jvm.MethodName) prog_1_method_48_code (2 : Nat) (Option.some Jvm.ClassFile.FieldType.int)) ∈ lw_all := lw_g (lw_at lw_m5 211 rfl) rfl
theorem q1301 : (Jvm.Cond.instanceMethod ({ cls := "ThirdWitness", name := "won", desc := "()I" } : Jvm.MethodName)) ∈ lw_all := lw_g (lw_at lw_m5 213 rfl) rfl
theorem q1302 : (Jvm.Cond.selects "ThirdWitness" ({ cls := "ThirdWitness", name := "won", desc := "()I" } : Jvm.MethodName) ({ cls := "ThirdWitness", name := "won", desc := "()I" } : Jvm.MethodName)) ∈ lw_all := lw_g (lw_at lw_m5 214 rfl) rfl
theorem q1303 : (Jvm.Cond.code ({ cls := "ThirdWitness", name := "won", desc := "()I" } : Jvm.MethodName) prog_1_method_49_code (3 : Nat) (Option.some Jvm.ClassFile.FieldType.int)) ∈ lw_all := lw_g (lw_at lw_m5 215 rfl) rfl
theorem q1305 : (Jvm.Cond.instanceMethod ({ cls := "ThirdWitness", name := "nurse", desc := "()I" } : Jvm.MethodName)) ∈ lw_all := lw_g (lw_at lw_m5 217 rfl) rfl
theorem q1306 : (Jvm.Cond.selects "ThirdWitness" ({ cls := "ThirdWitness", name := "nurse", desc := "()I" } : Jvm.MethodName) ({ cls := "ThirdWitness", name := "nurse", desc := "()I" } : Jvm.MethodName)) ∈ lw_all := lw_g (lw_at lw_m5 218 rfl) rfl
theorem q1307 : (Jvm.Cond.code ({ cls := "ThirdWitness", name := "nurse", desc := "()I" } : Jvm.MethodName) prog_1_method_50_code (5 : Nat) (Option.some Jvm.ClassFile.FieldType.int)) ∈ lw_all := lw_g (lw_at lw_m5 219 rfl) rfl
theorem q1308 : (Jvm.Cond.methodLink "ThirdWitness" (291 : Nat) ({ cls := "ThirdWitness", name := "stoppedOn", desc := "(LThirdWitness$Scene;)I" } : Jvm.MethodName)) ∈ lw_all := lw_g (lw_at lw_m5 220 rfl) rfl
theorem q1309 : (Jvm.Cond.privateMethod ({ cls := "ThirdWitness", name := "stoppedOn", desc := "(LThirdWitness$Scene;)I" } : Jvm.MethodName)) ∈ lw_tbl := lw_at lw_m5 221 rfl
theorem q1310 : (Jvm.Cond.instanceMethod ({ cls := "ThirdWitness", name := "stoppedOn", desc := "(LThirdWitness$Scene;)I" } : Jvm.MethodName)) ∈ lw_all := lw_g (lw_at lw_m5 222 rfl) rfl
theorem q1311 : (Jvm.Cond.code ({ cls := "ThirdWitness", name := "stoppedOn", desc := "(LThirdWitness$Scene;)I" } : Jvm.MethodName) prog_1_method_33_code (4 : Nat) (Option.some Jvm.ClassFile.FieldType.int)) ∈ lw_all := lw_g (lw_at lw_m5 223 rfl) rfl
theorem q1312 : (Jvm.Cond.methodLink "ThirdWitness" (295 : Nat) ({ cls := "ThirdWitness", name := "bits", desc := "(I)I" } : Jvm.MethodName)) ∈ lw_all := lw_g (lw_at lw_m5 224 rfl) rfl
theorem q1313 : (Jvm.Cond.static ({ cls := "ThirdWitness", name := "bits", desc := "(I)I" } : Jvm.MethodName)) ∈ lw_all := lw_g (lw_at lw_m5 225 rfl) rfl
theorem q1314 : (Jvm.Cond.code ({ cls := "ThirdWitness", name := "bits", desc := "(I)I" } : Jvm.MethodName) prog_1_method_4_code (3 : Nat) (Option.some Jvm.ClassFile.FieldType.int)) ∈ lw_all := lw_g (lw_at lw_m5 226 rfl) rfl
theorem q1316 : (Jvm.Cond.instanceMethod ({ cls := "ThirdWitness", name := "endsIf", desc := "(III)I" } : Jvm.MethodName)) ∈ lw_all := lw_g (lw_at lw_m5 228 rfl) rfl
theorem q1317 : (Jvm.Cond.selects "ThirdWitness" ({ cls := "ThirdWitness", name := "endsIf", desc := "(III)I" } : Jvm.MethodName) ({ cls := "ThirdWitness", name := "endsIf", desc := "(III)I" } : Jvm.MethodName)) ∈ lw_all := lw_g (lw_at lw_m5 229 rfl) rfl
theorem q1318 : (Jvm.Cond.code ({ cls := "ThirdWitness", name := "endsIf", desc := "(III)I" } : Jvm.MethodName) prog_1_method_52_code (5 : Nat) (Option.some Jvm.ClassFile.FieldType.int)) ∈ lw_all := lw_g (lw_at lw_m5 230 rfl) rfl
theorem q1320 : (Jvm.Cond.instanceMethod ({ cls := "ThirdWitness", name := "cellars", desc := "(I)I" } : Jvm.MethodName)) ∈ lw_all := lw_g (lw_at lw_m5 232 rfl) rfl
theorem q1321 : (Jvm.Cond.selects "ThirdWitness" ({ cls := "ThirdWitness", name := "cellars", desc := "(I)I" } : Jvm.MethodName) ({ cls := "ThirdWitness", name := "cellars", desc := "(I)I" } : Jvm.MethodName)) ∈ lw_all := lw_g (lw_at lw_m5 233 rfl) rfl
theorem q1322 : (Jvm.Cond.code ({ cls := "ThirdWitness", name := "cellars", desc := "(I)I" } : Jvm.MethodName) prog_1_method_53_code (4 : Nat) (Option.some Jvm.ClassFile.FieldType.int)) ∈ lw_all := lw_g (lw_at lw_m5 234 rfl) rfl
theorem q1323 : (Jvm.Cond.methodLink "ThirdWitness" (298 : Nat) ({ cls := "ThirdWitness", name := "isWon", desc := "(I)Z" } : Jvm.MethodName)) ∈ lw_all := lw_g (lw_at lw_m5 235 rfl) rfl
theorem q1324 : (Jvm.Cond.static ({ cls := "ThirdWitness", name := "isWon", desc := "(I)Z" } : Jvm.MethodName)) ∈ lw_all := lw_g (lw_at lw_m5 236 rfl) rfl
theorem q1325 : (Jvm.Cond.code ({ cls := "ThirdWitness", name := "isWon", desc := "(I)Z" } : Jvm.MethodName) prog_1_method_51_code (1 : Nat) (Option.some Jvm.ClassFile.FieldType.boolean)) ∈ lw_all := lw_g (lw_at lw_m5 237 rfl) rfl
theorem q1327 : (Jvm.Cond.instanceMethod ({ cls := "ThirdWitness", name := "hou\x72", desc := "(I)I" } : Jvm.MethodName)) ∈ lw_all := lw_g (lw_at lw_m5 239 rfl) rfl
theorem q1328 : (Jvm.Cond.selects "ThirdWitness" ({ cls := "ThirdWitness", name := "hou\x72", desc := "(I)I" } : Jvm.MethodName) ({ cls := "ThirdWitness", name := "hou\x72", desc := "(I)I" } : Jvm.MethodName)) ∈ lw_all := lw_g (lw_at lw_m6 0 rfl) rfl
theorem q1329 : (Jvm.Cond.code ({ cls := "ThirdWitness", name := "hou\x72", desc := "(I)I" } : Jvm.MethodName) prog_1_method_54_code (3 : Nat) (Option.some Jvm.ClassFile.FieldType.int)) ∈ lw_all := lw_g (lw_at lw_m6 1 rfl) rfl
theorem q1331 : (Jvm.Cond.instanceMethod ({ cls := "ThirdWitness", name := "longest", desc := "(I)I" } : Jvm.MethodName)) ∈ lw_all := lw_g (lw_at lw_m6 3 rfl) rfl
theorem q1332 : (Jvm.Cond.selects "ThirdWitness" ({ cls := "ThirdWitness", name := "longest", desc := "(I)I" } : Jvm.MethodName) ({ cls := "ThirdWitness", name := "longest", desc := "(I)I" } : Jvm.MethodName)) ∈ lw_all := lw_g (lw_at lw_m6 4 rfl) rfl
theorem q1333 : (Jvm.Cond.code ({ cls := "ThirdWitness", name := "longest", desc := "(I)I" } : Jvm.MethodName) prog_1_method_55_code (6 : Nat) (Option.some Jvm.ClassFile.FieldType.int)) ∈ lw_all := lw_g (lw_at lw_m6 5 rfl) rfl
theorem q1335 : (Jvm.Cond.instanceMethod ({ cls := "ThirdWitness", name := "moo\x72", desc := "(I)I" } : Jvm.MethodName)) ∈ lw_all := lw_g (lw_at lw_m6 7 rfl) rfl
theorem q1336 : (Jvm.Cond.selects "ThirdWitness" ({ cls := "ThirdWitness", name := "moo\x72", desc := "(I)I" } : Jvm.MethodName) ({ cls := "ThirdWitness", name := "moo\x72", desc := "(I)I" } : Jvm.MethodName)) ∈ lw_all := lw_g (lw_at lw_m6 8 rfl) rfl
theorem q1337 : (Jvm.Cond.code ({ cls := "ThirdWitness", name := "moo\x72", desc := "(I)I" } : Jvm.MethodName) prog_1_method_56_code (4 : Nat) (Option.some Jvm.ClassFile.FieldType.int)) ∈ lw_all := lw_g (lw_at lw_m6 9 rfl) rfl
theorem q1339 : (Jvm.Cond.instanceMethod ({ cls := "ThirdWitness", name := "bricks", desc := "(I)I" } : Jvm.MethodName)) ∈ lw_all := lw_g (lw_at lw_m6 11 rfl) rfl
theorem q1340 : (Jvm.Cond.selects "ThirdWitness" ({ cls := "ThirdWitness", name := "bricks", desc := "(I)I" } : Jvm.MethodName) ({ cls := "ThirdWitness", name := "bricks", desc := "(I)I" } : Jvm.MethodName)) ∈ lw_all := lw_g (lw_at lw_m6 12 rfl) rfl
theorem q1341 : (Jvm.Cond.code ({ cls := "ThirdWitness", name := "bricks", desc := "(I)I" } : Jvm.MethodName) prog_1_method_57_code (4 : Nat) (Option.some Jvm.ClassFile.FieldType.int)) ∈ lw_all := lw_g (lw_at lw_m6 13 rfl) rfl
theorem q1342 : (Jvm.Cond.methodLink "ThirdWitness" (301 : Nat) ({ cls := "ThirdWitness", name := "tries", desc := "()LThirdWitness$Scene;" } : Jvm.MethodName)) ∈ lw_all := lw_g (lw_at lw_m6 14 rfl) rfl
theorem q1343 : (Jvm.Cond.privateMethod ({ cls := "ThirdWitness", name := "tries", desc := "()LThirdWitness$Scene;" } : Jvm.MethodName)) ∈ lw_tbl := lw_at lw_m6 15 rfl
theorem q1344 : (Jvm.Cond.instanceMethod ({ cls := "ThirdWitness", name := "tries", desc := "()LThirdWitness$Scene;" } : Jvm.MethodName)) ∈ lw_all := lw_g (lw_at lw_m6 16 rfl) rfl
theorem q1345 : (Jvm.Cond.code ({ cls := "ThirdWitness", name := "tries", desc := "()LThirdWitness$Scene;" } : Jvm.MethodName) prog_1_method_26_code (1 : Nat) (Option.some (Jvm.ClassFile.FieldType.object "ThirdWitness$Scene"))) ∈ lw_all := lw_g (lw_at lw_m6 17 rfl) rfl
theorem q1346 : (Jvm.Cond.methodLink "ThirdWitness" (138 : Nat) ({ cls := "ThirdWitness$Scene", name := "takes", desc := "(LThirdWitness$Scene;)V" } : Jvm.MethodName)) ∈ lw_all := lw_g (lw_at lw_m6 18 rfl) rfl
theorem q1348 : (Jvm.Cond.instanceMethod ({ cls := "ThirdWitness", name := "stoppers", desc := "(I)I" } : Jvm.MethodName)) ∈ lw_all := lw_g (lw_at lw_m6 20 rfl) rfl
theorem q1349 : (Jvm.Cond.selects "ThirdWitness" ({ cls := "ThirdWitness", name := "stoppers", desc := "(I)I" } : Jvm.MethodName) ({ cls := "ThirdWitness", name := "stoppers", desc := "(I)I" } : Jvm.MethodName)) ∈ lw_all := lw_g (lw_at lw_m6 21 rfl) rfl
theorem q1350 : (Jvm.Cond.code ({ cls := "ThirdWitness", name := "stoppers", desc := "(I)I" } : Jvm.MethodName) prog_1_method_61_code (2 : Nat) (Option.some Jvm.ClassFile.FieldType.int)) ∈ lw_all := lw_g (lw_at lw_m6 22 rfl) rfl
theorem q1351 : (Jvm.Cond.methodLink "ThirdWitness" (310 : Nat) ({ cls := "ThirdWitness", name := "stopsBy", desc := "(I)I" } : Jvm.MethodName)) ∈ lw_all := lw_g (lw_at lw_m6 23 rfl) rfl
theorem q1352 : (Jvm.Cond.privateMethod ({ cls := "ThirdWitness", name := "stopsBy", desc := "(I)I" } : Jvm.MethodName)) ∈ lw_tbl := lw_at lw_m6 24 rfl
theorem q1353 : (Jvm.Cond.instanceMethod ({ cls := "ThirdWitness", name := "stopsBy", desc := "(I)I" } : Jvm.MethodName)) ∈ lw_all := lw_g (lw_at lw_m6 25 rfl) rfl
theorem q1354 : (Jvm.Cond.code ({ cls := "ThirdWitness", name := "stopsBy", desc := "(I)I" } : Jvm.MethodName) prog_1_method_60_code (6 : Nat) (Option.some Jvm.ClassFile.FieldType.int)) ∈ lw_all := lw_g (lw_at lw_m6 26 rfl) rfl
theorem q1355 : (Jvm.Cond.methodLink "ThirdWitness" (304 : Nat) ({ cls := "ThirdWitness", name := "free", desc := "(I)I" } : Jvm.MethodName)) ∈ lw_all := lw_g (lw_at lw_m6 27 rfl) rfl
theorem q1356 : (Jvm.Cond.privateMethod ({ cls := "ThirdWitness", name := "free", desc := "(I)I" } : Jvm.MethodName)) ∈ lw_tbl := lw_at lw_m6 28 rfl
theorem q1357 : (Jvm.Cond.instanceMethod ({ cls := "ThirdWitness", name := "free", desc := "(I)I" } : Jvm.MethodName)) ∈ lw_all := lw_g (lw_at lw_m6 29 rfl) rfl
theorem q1358 : (Jvm.Cond.code ({ cls := "ThirdWitness", name := "free", desc := "(I)I" } : Jvm.MethodName) prog_1_method_59_code (4 : Nat) (Option.some Jvm.ClassFile.FieldType.int)) ∈ lw_all := lw_g (lw_at lw_m6 30 rfl) rfl
theorem q1359 : (Jvm.Cond.methodLink "ThirdWitness" (307 : Nat) ({ cls := "ThirdWitness", name := "priceOf", desc := "(I)I" } : Jvm.MethodName)) ∈ lw_all := lw_g (lw_at lw_m6 31 rfl) rfl
theorem q1360 : (Jvm.Cond.privateMethod ({ cls := "ThirdWitness", name := "priceOf", desc := "(I)I" } : Jvm.MethodName)) ∈ lw_tbl := lw_at lw_m6 32 rfl
theorem q1361 : (Jvm.Cond.instanceMethod ({ cls := "ThirdWitness", name := "priceOf", desc := "(I)I" } : Jvm.MethodName)) ∈ lw_all := lw_g (lw_at lw_m6 33 rfl) rfl
theorem q1362 : (Jvm.Cond.code ({ cls := "ThirdWitness", name := "priceOf", desc := "(I)I" } : Jvm.MethodName) prog_1_method_58_code (4 : Nat) (Option.some Jvm.ClassFile.FieldType.int)) ∈ lw_all := lw_g (lw_at lw_m6 34 rfl) rfl
theorem q1364 : (Jvm.Cond.instanceMethod ({ cls := "ThirdWitness", name := "price", desc := "(I)I" } : Jvm.MethodName)) ∈ lw_all := lw_g (lw_at lw_m6 36 rfl) rfl
theorem q1365 : (Jvm.Cond.selects "ThirdWitness" ({ cls := "ThirdWitness", name := "price", desc := "(I)I" } : Jvm.MethodName) ({ cls := "ThirdWitness", name := "price", desc := "(I)I" } : Jvm.MethodName)) ∈ lw_all := lw_g (lw_at lw_m6 37 rfl) rfl
theorem q1366 : (Jvm.Cond.code ({ cls := "ThirdWitness", name := "price", desc := "(I)I" } : Jvm.MethodName) prog_1_method_62_code (3 : Nat) (Option.some Jvm.ClassFile.FieldType.int)) ∈ lw_all := lw_g (lw_at lw_m6 38 rfl) rfl
theorem q1368 : (Jvm.Cond.instanceMethod ({ cls := "ThirdWitness", name := "stoppedIf", desc := "(II)I" } : Jvm.MethodName)) ∈ lw_all := lw_g (lw_at lw_m6 40 rfl) rfl
theorem q1369 : (Jvm.Cond.selects "ThirdWitness" ({ cls := "ThirdWitness", name := "stoppedIf", desc := "(II)I" } : Jvm.MethodName) ({ cls := "ThirdWitness", name := "stoppedIf", desc := "(II)I" } : Jvm.MethodName)) ∈ lw_all := lw_g (lw_at lw_m6 41 rfl) rfl
theorem q1370 : (Jvm.Cond.code ({ cls := "ThirdWitness", name := "stoppedIf", desc := "(II)I" } : Jvm.MethodName) prog_1_method_64_code (3 : Nat) (Option.some Jvm.ClassFile.FieldType.int)) ∈ lw_all := lw_g (lw_at lw_m6 42 rfl) rfl
theorem q1371 : (Jvm.Cond.methodLink "ThirdWitness" (313 : Nat) ({ cls := "ThirdWitness", name := "stoppedWith", desc := "(II)I" } : Jvm.MethodName)) ∈ lw_all := lw_g (lw_at lw_m6 43 rfl) rfl
theorem q1372 : (Jvm.Cond.privateMethod ({ cls := "ThirdWitness", name := "stoppedWith", desc := "(II)I" } : Jvm.MethodName)) ∈ lw_tbl := lw_at lw_m6 44 rfl
theorem q1373 : (Jvm.Cond.instanceMethod ({ cls := "ThirdWitness", name := "stoppedWith", desc := "(II)I" } : Jvm.MethodName)) ∈ lw_all := lw_g (lw_at lw_m6 45 rfl) rfl
theorem q1374 : (Jvm.Cond.code ({ cls := "ThirdWitness", name := "stoppedWith", desc := "(II)I" } : Jvm.MethodName) prog_1_method_63_code (3 : Nat) (Option.some Jvm.ClassFile.FieldType.int)) ∈ lw_all := lw_g (lw_at lw_m6 46 rfl) rfl
theorem q1376 : (Jvm.Cond.instanceMethod ({ cls := "ThirdWitness", name := "bestHire", desc := "()I" } : Jvm.MethodName)) ∈ lw_all := lw_g (lw_at lw_m6 48 rfl) rfl
theorem q1377 : (Jvm.Cond.selects "ThirdWitness" ({ cls := "ThirdWitness", name := "bestHire", desc := "()I" } : Jvm.MethodName) ({ cls := "ThirdWitness", name := "bestHire", desc := "()I" } : Jvm.MethodName)) ∈ lw_all := lw_g (lw_at lw_m6 49 rfl) rfl
theorem q1378 : (Jvm.Cond.code ({ cls := "ThirdWitness", name := "bestHire", desc := "()I" } : Jvm.MethodName) prog_1_method_65_code (6 : Nat) (Option.some Jvm.ClassFile.FieldType.int)) ∈ lw_all := lw_g (lw_at lw_m6 50 rfl) rfl
theorem q1380 : (Jvm.Cond.instanceMethod ({ cls := "ThirdWitness", name := "fits", desc := "()I" } : Jvm.MethodName)) ∈ lw_all := lw_g (lw_at lw_m6 52 rfl) rfl
theorem q1381 : (Jvm.Cond.selects "ThirdWitness" ({ cls := "ThirdWitness", name := "fits", desc := "()I" } : Jvm.MethodName) ({ cls := "ThirdWitness", name := "fits", desc := "()I" } : Jvm.MethodName)) ∈ lw_all := lw_g (lw_at lw_m6 53 rfl) rfl
theorem q1382 : (Jvm.Cond.code ({ cls := "ThirdWitness", name := "fits", desc := "()I" } : Jvm.MethodName) prog_1_method_68_code (1 : Nat) (Option.some Jvm.ClassFile.FieldType.int)) ∈ lw_all := lw_g (lw_at lw_m6 54 rfl) rfl
theorem q1383 : (Jvm.Cond.methodLink "ThirdWitness" (331 : Nat) ({ cls := "ThirdWitness", name := "fitting", desc := "(I)I" } : Jvm.MethodName)) ∈ lw_all := lw_g (lw_at lw_m6 55 rfl) rfl
theorem q1384 : (Jvm.Cond.privateMethod ({ cls := "ThirdWitness", name := "fitting", desc := "(I)I" } : Jvm.MethodName)) ∈ lw_tbl := lw_at lw_m6 56 rfl
theorem q1385 : (Jvm.Cond.instanceMethod ({ cls := "ThirdWitness", name := "fitting", desc := "(I)I" } : Jvm.MethodName)) ∈ lw_all := lw_g (lw_at lw_m6 57 rfl) rfl
theorem q1386 : (Jvm.Cond.code ({ cls := "ThirdWitness", name := "fitting", desc := "(I)I" } : Jvm.MethodName) prog_1_method_67_code (5 : Nat) (Option.some Jvm.ClassFile.FieldType.int)) ∈ lw_all := lw_g (lw_at lw_m6 58 rfl) rfl
theorem q1387 : (Jvm.Cond.methodLink "ThirdWitness" (328 : Nat) ({ cls := "ThirdWitness", name := "wrongEnd", desc := "(I)I" } : Jvm.MethodName)) ∈ lw_all := lw_g (lw_at lw_m6 59 rfl) rfl
theorem q1388 : (Jvm.Cond.privateMethod ({ cls := "ThirdWitness", name := "wrongEnd", desc := "(I)I" } : Jvm.MethodName)) ∈ lw_tbl := lw_at lw_m6 60 rfl
theorem q1389 : (Jvm.Cond.instanceMethod ({ cls := "ThirdWitness", name := "wrongEnd", desc := "(I)I" } : Jvm.MethodName)) ∈ lw_all := lw_g (lw_at lw_m6 61 rfl) rfl
theorem q1390 : (Jvm.Cond.code ({ cls := "ThirdWitness", name := "wrongEnd", desc := "(I)I" } : Jvm.MethodName) prog_1_method_66_code (4 : Nat) (Option.some Jvm.ClassFile.FieldType.int)) ∈ lw_all := lw_g (lw_at lw_m6 62 rfl) rfl
theorem q1392 : (Jvm.Cond.instanceMethod ({ cls := "ThirdWitness", name := "fitAt", desc := "(I)I" } : Jvm.MethodName)) ∈ lw_all := lw_g (lw_at lw_m6 64 rfl) rfl
theorem q1393 : (Jvm.Cond.selects "ThirdWitness" ({ cls := "ThirdWitness", name := "fitAt", desc := "(I)I" } : Jvm.MethodName) ({ cls := "ThirdWitness", name := "fitAt", desc := "(I)I" } : Jvm.MethodName)) ∈ lw_all := lw_g (lw_at lw_m6 65 rfl) rfl
theorem q1394 : (Jvm.Cond.code ({ cls := "ThirdWitness", name := "fitAt", desc := "(I)I" } : Jvm.MethodName) prog_1_method_69_code (3 : Nat) (Option.some Jvm.ClassFile.FieldType.int)) ∈ lw_all := lw_g (lw_at lw_m6 66 rfl) rfl
theorem q1396 : (Jvm.Cond.instanceMethod ({ cls := "ThirdWitness", name := "could", desc := "()I" } : Jvm.MethodName)) ∈ lw_all := lw_g (lw_at lw_m6 68 rfl) rfl
theorem q1397 : (Jvm.Cond.selects "ThirdWitness" ({ cls := "ThirdWitness", name := "could", desc := "()I" } : Jvm.MethodName) ({ cls := "ThirdWitness", name := "could", desc := "()I" } : Jvm.MethodName)) ∈ lw_all := lw_g (lw_at lw_m6 69 rfl) rfl
theorem q1398 : (Jvm.Cond.code ({ cls := "ThirdWitness", name := "could", desc := "()I" } : Jvm.MethodName) prog_1_method_70_code (1 : Nat) (Option.some Jvm.ClassFile.FieldType.int)) ∈ lw_all := lw_g (lw_at lw_m6 70 rfl) rfl
theorem q1400 : (Jvm.Cond.instanceMethod ({ cls := "ThirdWitness", name := "surely", desc := "()I" } : Jvm.MethodName)) ∈ lw_all := lw_g (lw_at lw_m6 72 rfl) rfl
theorem q1401 : (Jvm.Cond.selects "ThirdWitness" ({ cls := "ThirdWitness", name := "surely", desc := "()I" } : Jvm.MethodName) ({ cls := "ThirdWitness", name := "surely", desc := "()I" } : Jvm.MethodName)) ∈ lw_all := lw_g (lw_at lw_m6 73 rfl) rfl
theorem q1402 : (Jvm.Cond.code ({ cls := "ThirdWitness", name := "surely", desc := "()I" } : Jvm.MethodName) prog_1_method_71_code (1 : Nat) (Option.some Jvm.ClassFile.FieldType.int)) ∈ lw_all := lw_g (lw_at lw_m6 74 rfl) rfl
theorem q1404 : (Jvm.Cond.instanceMethod ({ cls := "ThirdWitness", name := "ask", desc := "()I" } : Jvm.MethodName)) ∈ lw_all := lw_g (lw_at lw_m6 76 rfl) rfl
theorem q1405 : (Jvm.Cond.selects "ThirdWitness" ({ cls := "ThirdWitness", name := "ask", desc := "()I" } : Jvm.MethodName) ({ cls := "ThirdWitness", name := "ask", desc := "()I" } : Jvm.MethodName)) ∈ lw_all := lw_g (lw_at lw_m6 77 rfl) rfl
theorem q1406 : (Jvm.Cond.code ({ cls := "ThirdWitness", name := "ask", desc := "()I" } : Jvm.MethodName) prog_1_method_73_code (1 : Nat) (Option.some Jvm.ClassFile.FieldType.int)) ∈ lw_all := lw_g (lw_at lw_m6 78 rfl) rfl
theorem q1407 : (Jvm.Cond.methodLink "ThirdWitness" (340 : Nat) ({ cls := "ThirdWitness", name := "asks", desc := "()I" } : Jvm.MethodName)) ∈ lw_all := lw_g (lw_at lw_m6 79 rfl) rfl
theorem q1408 : (Jvm.Cond.privateMethod ({ cls := "ThirdWitness", name := "asks", desc := "()I" } : Jvm.MethodName)) ∈ lw_tbl := lw_at lw_m6 80 rfl
theorem q1409 : (Jvm.Cond.instanceMethod ({ cls := "ThirdWitness", name := "asks", desc := "()I" } : Jvm.MethodName)) ∈ lw_all := lw_g (lw_at lw_m6 81 rfl) rfl
theorem q1410 : (Jvm.Cond.code ({ cls := "ThirdWitness", name := "asks", desc := "()I" } : Jvm.MethodName) prog_1_method_72_code (4 : Nat) (Option.some Jvm.ClassFile.FieldType.int)) ∈ lw_all := lw_g (lw_at lw_m6 82 rfl) rfl
theorem q1411 : (Jvm.Cond.methodLink "ThirdWitness" (337 : Nat) ({ cls := "java/lang/Math", name := "max", desc := "(II)I" } : Jvm.MethodName)) ∈ lw_all := lw_g (lw_at lw_m6 83 rfl) rfl
theorem q1413 : (Jvm.Cond.instanceMethod ({ cls := "ThirdWitness", name := "askLeaves", desc := "()I" } : Jvm.MethodName)) ∈ lw_all := lw_g (lw_at lw_m6 85 rfl) rfl
theorem q1414 : (Jvm.Cond.selects "ThirdWitness" ({ cls := "ThirdWitness", name := "askLeaves", desc := "()I" } : Jvm.MethodName) ({ cls := "ThirdWitness", name := "askLeaves", desc := "()I" } : Jvm.MethodName)) ∈ lw_all := lw_g (lw_at lw_m6 86 rfl) rfl
theorem q1415 : (Jvm.Cond.code ({ cls := "ThirdWitness", name := "askLeaves", desc := "()I" } : Jvm.MethodName) prog_1_method_74_code (1 : Nat) (Option.some Jvm.ClassFile.FieldType.int)) ∈ lw_all := lw_g (lw_at lw_m6 87 rfl) rfl
theorem q1417 : (Jvm.Cond.instanceMethod ({ cls := "ThirdWitness", name := "judge", desc := "()I" } : Jvm.MethodName)) ∈ lw_all := lw_g (lw_at lw_m6 89 rfl) rfl
theorem q1418 : (Jvm.Cond.selects "ThirdWitness" ({ cls := "ThirdWitness", name := "judge", desc := "()I" } : Jvm.MethodName) ({ cls := "ThirdWitness", name := "judge", desc := "()I" } : Jvm.MethodName)) ∈ lw_all := lw_g (lw_at lw_m6 90 rfl) rfl
theorem q1419 : (Jvm.Cond.code ({ cls := "ThirdWitness", name := "judge", desc := "()I" } : Jvm.MethodName) prog_1_method_75_code (1 : Nat) (Option.some Jvm.ClassFile.FieldType.int)) ∈ lw_all := lw_g (lw_at lw_m6 91 rfl) rfl
theorem q1421 : (Jvm.Cond.instanceMethod ({ cls := "ThirdWitness", name := "swings", desc := "(IIIZ)J" } : Jvm.MethodName)) ∈ lw_all := lw_g (lw_at lw_m6 93 rfl) rfl
theorem q1422 : (Jvm.Cond.selects "ThirdWitness" ({ cls := "ThirdWitness", name := "swings", desc := "(IIIZ)J" } : Jvm.MethodName) ({ cls := "ThirdWitness", name := "swings", desc := "(IIIZ)J" } : Jvm.MethodName)) ∈ lw_all := lw_g (lw_at lw_m6 94 rfl) rfl
theorem q1423 : (Jvm.Cond.code ({ cls := "ThirdWitness", name := "swings", desc := "(IIIZ)J" } : Jvm.MethodName) prog_1_method_77_code (10 : Nat) (Option.some Jvm.ClassFile.FieldType.long)) ∈ lw_all := lw_g (lw_at lw_m6 95 rfl) rfl
theorem q1424 : (Jvm.Cond.methodLink "ThirdWitness" (343 : Nat) ({ cls := "ThirdWitness", name := "whyMinute", desc := "(ZI)I" } : Jvm.MethodName)) ∈ lw_all := lw_g (lw_at lw_m6 96 rfl) rfl
theorem q1425 : (Jvm.Cond.privateMethod ({ cls := "ThirdWitness", name := "whyMinute", desc := "(ZI)I" } : Jvm.MethodName)) ∈ lw_tbl := lw_at lw_m6 97 rfl
theorem q1426 : (Jvm.Cond.instanceMethod ({ cls := "ThirdWitness", name := "whyMinute", desc := "(ZI)I" } : Jvm.MethodName)) ∈ lw_all := lw_g (lw_at lw_m6 98 rfl) rfl
theorem q1427 : (Jvm.Cond.code ({ cls := "ThirdWitness", name := "whyMinute", desc := "(ZI)I" } : Jvm.MethodName) prog_1_method_76_code (3 : Nat) (Option.some Jvm.ClassFile.FieldType.int)) ∈ lw_all := lw_g (lw_at lw_m6 99 rfl) rfl
theorem q1428 : (Jvm.Cond.methodLink "ThirdWitness" (347 : Nat) ({ cls := "ThirdWitness", name := "fraction", desc := "(JJZ)J" } : Jvm.MethodName)) ∈ lw_all := lw_g (lw_at lw_m6 100 rfl) rfl
theorem q1429 : (Jvm.Cond.privateMethod ({ cls := "ThirdWitness", name := "fraction", desc := "(JJZ)J" } : Jvm.MethodName)) ∈ lw_tbl := lw_at lw_m6 101 rfl
theorem q1430 : (Jvm.Cond.instanceMethod ({ cls := "ThirdWitness", name := "fraction", desc := "(JJZ)J" } : Jvm.MethodName)) ∈ lw_all := lw_g (lw_at lw_m6 102 rfl) rfl
theorem q1431 : (Jvm.Cond.code ({ cls := "ThirdWitness", name := "fraction", desc := "(JJZ)J" } : Jvm.MethodName) prog_1_method_12_code (6 : Nat) (Option.some Jvm.ClassFile.FieldType.long)) ∈ lw_all := lw_g (lw_at lw_m6 103 rfl) rfl
theorem q1432 : (Jvm.Cond.methodLink "ThirdWitness" (54 : Nat) ({ cls := "ThirdWitness", name := "common", desc := "(JJ)J" } : Jvm.MethodName)) ∈ lw_all := lw_g (lw_at lw_m6 104 rfl) rfl
theorem q1433 : (Jvm.Cond.static ({ cls := "ThirdWitness", name := "common", desc := "(JJ)J" } : Jvm.MethodName)) ∈ lw_all := lw_g (lw_at lw_m6 105 rfl) rfl
theorem q1434 : (Jvm.Cond.code ({ cls := "ThirdWitness", name := "common", desc := "(JJ)J" } : Jvm.MethodName) prog_1_method_5_code (10 : Nat) (Option.some Jvm.ClassFile.FieldType.long)) ∈ lw_all := lw_g (lw_at lw_m6 106 rfl) rfl
theorem q1436 : (Jvm.Cond.instanceMethod ({ cls := "ThirdWitness", name := "three", desc := "(II)I" } : Jvm.MethodName)) ∈ lw_all := lw_g (lw_at lw_m6 108 rfl) rfl
theorem q1437 : (Jvm.Cond.selects "ThirdWitness" ({ cls := "ThirdWitness", name := "three", desc := "(II)I" } : Jvm.MethodName) ({ cls := "ThirdWitness", name := "three", desc := "(II)I" } : Jvm.MethodName)) ∈ lw_all := lw_g (lw_at lw_m6 109 rfl) rfl
theorem q1438 : (Jvm.Cond.code ({ cls := "ThirdWitness", name := "three", desc := "(II)I" } : Jvm.MethodName) prog_1_method_78_code (7 : Nat) (Option.some Jvm.ClassFile.FieldType.int)) ∈ lw_all := lw_g (lw_at lw_m6 110 rfl) rfl
theorem q1440 : (Jvm.Cond.instanceMethod ({ cls := "ThirdWitness", name := "says", desc := "(IZZZ)I" } : Jvm.MethodName)) ∈ lw_all := lw_g (lw_at lw_m6 112 rfl) rfl
theorem q1441 : (Jvm.Cond.selects "ThirdWitness" ({ cls := "ThirdWitness", name := "says", desc := "(IZZZ)I" } : Jvm.MethodName) ({ cls := "ThirdWitness", name := "says", desc := "(IZZZ)I" } : Jvm.MethodName)) ∈ lw_all := lw_g (lw_at lw_m6 113 rfl) rfl
theorem q1442 : (Jvm.Cond.code ({ cls := "ThirdWitness", name := "says", desc := "(IZZZ)I" } : Jvm.MethodName) prog_1_method_81_code (6 : Nat) (Option.some Jvm.ClassFile.FieldType.int)) ∈ lw_all := lw_g (lw_at lw_m6 114 rfl) rfl
theorem q1443 : (Jvm.Cond.methodLink "ThirdWitness" (351 : Nat) ({ cls := "ThirdWitness", name := "whyHeat", desc := "(I)I" } : Jvm.MethodName)) ∈ lw_all := lw_g (lw_at lw_m6 115 rfl) rfl
theorem q1444 : (Jvm.Cond.privateMethod ({ cls := "ThirdWitness", name := "whyHeat", desc := "(I)I" } : Jvm.MethodName)) ∈ lw_tbl := lw_at lw_m6 116 rfl
theorem q1445 : (Jvm.Cond.instanceMethod ({ cls := "ThirdWitness", name := "whyHeat", desc := "(I)I" } : Jvm.MethodName)) ∈ lw_all := lw_g (lw_at lw_m6 117 rfl) rfl
theorem q1446 : (Jvm.Cond.code ({ cls := "ThirdWitness", name := "whyHeat", desc := "(I)I" } : Jvm.MethodName) prog_1_method_80_code (2 : Nat) (Option.some Jvm.ClassFile.FieldType.int)) ∈ lw_all := lw_g (lw_at lw_m6 118 rfl) rfl
theorem q1447 : (Jvm.Cond.methodLink "ThirdWitness" (354 : Nat) ({ cls := "ThirdWitness", name := "refusedBy", desc := "(II)I" } : Jvm.MethodName)) ∈ lw_all := lw_g (lw_at lw_m6 119 rfl) rfl
theorem q1448 : (Jvm.Cond.privateMethod ({ cls := "ThirdWitness", name := "refusedBy", desc := "(II)I" } : Jvm.MethodName)) ∈ lw_tbl := lw_at lw_m6 120 rfl
theorem q1449 : (Jvm.Cond.instanceMethod ({ cls := "ThirdWitness", name := "refusedBy", desc := "(II)I" } : Jvm.MethodName)) ∈ lw_all := lw_g (lw_at lw_m6 121 rfl) rfl
theorem q1450 : (Jvm.Cond.code ({ cls := "ThirdWitness", name := "refusedBy", desc := "(II)I" } : Jvm.MethodName) prog_1_method_8_code (3 : Nat) (Option.some Jvm.ClassFile.FieldType.int)) ∈ lw_all := lw_g (lw_at lw_m6 122 rfl) rfl
theorem q1451 : (Jvm.Cond.methodLink "ThirdWitness" (357 : Nat) ({ cls := "ThirdWitness", name := "gets", desc := "(IZZ)I" } : Jvm.MethodName)) ∈ lw_all := lw_g (lw_at lw_m6 123 rfl) rfl
theorem q1452 : (Jvm.Cond.static ({ cls := "ThirdWitness", name := "gets", desc := "(IZZ)I" } : Jvm.MethodName)) ∈ lw_all := lw_g (lw_at lw_m6 124 rfl) rfl
theorem q1453 : (Jvm.Cond.code ({ cls := "ThirdWitness", name := "gets", desc := "(IZZ)I" } : Jvm.MethodName) prog_1_method_79_code (3 : Nat) (Option.some Jvm.ClassFile.FieldType.int)) ∈ lw_all := lw_g (lw_at lw_m6 125 rfl) rfl
theorem q1455 : (Jvm.Cond.instanceMethod ({ cls := "ThirdWitness", name := "rests", desc := "(I)I" } : Jvm.MethodName)) ∈ lw_all := lw_g (lw_at lw_m6 127 rfl) rfl
theorem q1456 : (Jvm.Cond.selects "ThirdWitness" ({ cls := "ThirdWitness", name := "rests", desc := "(I)I" } : Jvm.MethodName) ({ cls := "ThirdWitness", name := "rests", desc := "(I)I" } : Jvm.MethodName)) ∈ lw_all := lw_g (lw_at lw_m6 128 rfl) rfl
theorem q1457 : (Jvm.Cond.code ({ cls := "ThirdWitness", name := "rests", desc := "(I)I" } : Jvm.MethodName) prog_1_method_83_code (5 : Nat) (Option.some Jvm.ClassFile.FieldType.int)) ∈ lw_all := lw_g (lw_at lw_m6 129 rfl) rfl
theorem q1458 : (Jvm.Cond.methodLink "ThirdWitness" (361 : Nat) ({ cls := "ThirdWitness", name := "isRest", desc := "(II)Z" } : Jvm.MethodName)) ∈ lw_all := lw_g (lw_at lw_m6 130 rfl) rfl
theorem q1459 : (Jvm.Cond.static ({ cls := "ThirdWitness", name := "isRest", desc := "(II)Z" } : Jvm.MethodName)) ∈ lw_all := lw_g (lw_at lw_m6 131 rfl) rfl
theorem q1460 : (Jvm.Cond.code ({ cls := "ThirdWitness", name := "isRest", desc := "(II)Z" } : Jvm.MethodName) prog_1_method_82_code (4 : Nat) (Option.some Jvm.ClassFile.FieldType.boolean)) ∈ lw_all := lw_g (lw_at lw_m6 132 rfl) rfl
theorem q1462 : (Jvm.Cond.instanceMethod ({ cls := "ThirdWitness", name := "rest", desc := "(I)I" } : Jvm.MethodName)) ∈ lw_all := lw_g (lw_at lw_m6 134 rfl) rfl
theorem q1463 : (Jvm.Cond.selects "ThirdWitness" ({ cls := "ThirdWitness", name := "rest", desc := "(I)I" } : Jvm.MethodName) ({ cls := "ThirdWitness", name := "rest", desc := "(I)I" } : Jvm.MethodName)) ∈ lw_all := lw_g (lw_at lw_m6 135 rfl) rfl
theorem q1464 : (Jvm.Cond.code ({ cls := "ThirdWitness", name := "rest", desc := "(I)I" } : Jvm.MethodName) prog_1_method_84_code (4 : Nat) (Option.some Jvm.ClassFile.FieldType.int)) ∈ lw_all := lw_g (lw_at lw_m6 136 rfl) rfl
theorem q1466 : (Jvm.Cond.instanceMethod ({ cls := "ThirdWitness", name := "lasts", desc := "(IIZ)J" } : Jvm.MethodName)) ∈ lw_all := lw_g (lw_at lw_m6 138 rfl) rfl
theorem q1467 : (Jvm.Cond.selects "ThirdWitness" ({ cls := "ThirdWitness", name := "lasts", desc := "(IIZ)J" } : Jvm.MethodName) ({ cls := "ThirdWitness", name := "lasts", desc := "(IIZ)J" } : Jvm.MethodName)) ∈ lw_all := lw_g (lw_at lw_m6 139 rfl) rfl
theorem q1468 : (Jvm.Cond.code ({ cls := "ThirdWitness", name := "lasts", desc := "(IIZ)J" } : Jvm.MethodName) prog_1_method_85_code (14 : Nat) (Option.some Jvm.ClassFile.FieldType.long)) ∈ lw_all := lw_g (lw_at lw_m6 140 rfl) rfl
theorem q1469 : (Jvm.Cond.constantLong "ThirdWitness" (364 : Nat) (100 : Int64)) ∈ lw_all := lw_g (lw_at lw_m6 141 rfl) rfl
theorem q1471 : (Jvm.Cond.instanceMethod ({ cls := "ThirdWitness", name := "endsBy", desc := "(II)I" } : Jvm.MethodName)) ∈ lw_all := lw_g (lw_at lw_m6 143 rfl) rfl
theorem q1472 : (Jvm.Cond.selects "ThirdWitness" ({ cls := "ThirdWitness", name := "endsBy", desc := "(II)I" } : Jvm.MethodName) ({ cls := "ThirdWitness", name := "endsBy", desc := "(II)I" } : Jvm.MethodName)) ∈ lw_all := lw_g (lw_at lw_m6 144 rfl) rfl
theorem q1473 : (Jvm.Cond.code ({ cls := "ThirdWitness", name := "endsBy", desc := "(II)I" } : Jvm.MethodName) prog_1_method_88_code (4 : Nat) (Option.some Jvm.ClassFile.FieldType.int)) ∈ lw_all := lw_g (lw_at lw_m6 145 rfl) rfl
theorem q1474 : (Jvm.Cond.methodLink "ThirdWitness" (367 : Nat) ({ cls := "ThirdWitness", name := "whySeed", desc := "(II)I" } : Jvm.MethodName)) ∈ lw_all := lw_g (lw_at lw_m6 146 rfl) rfl
theorem q1475 : (Jvm.Cond.privateMethod ({ cls := "ThirdWitness", name := "whySeed", desc := "(II)I" } : Jvm.MethodName)) ∈ lw_tbl := lw_at lw_m6 147 rfl
theorem q1476 : (Jvm.Cond.instanceMethod ({ cls := "ThirdWitness", name := "whySeed", desc := "(II)I" } : Jvm.MethodName)) ∈ lw_all := lw_g (lw_at lw_m6 148 rfl) rfl
theorem q1477 : (Jvm.Cond.code ({ cls := "ThirdWitness", name := "whySeed", desc := "(II)I" } : Jvm.MethodName) prog_1_method_87_code (3 : Nat) (Option.some Jvm.ClassFile.FieldType.int)) ∈ lw_all := lw_g (lw_at lw_m6 149 rfl) rfl
theorem q1478 : (Jvm.Cond.constant "ThirdWitness" (366 : Nat) (65536 : Int32)) ∈ lw_all := lw_g (lw_at lw_m6 150 rfl) rfl
theorem q1479 : (Jvm.Cond.methodLink "ThirdWitness" (370 : Nat) ({ cls := "ThirdWitness", name := "brawlsBy", desc := "(I)I" } : Jvm.MethodName)) ∈ lw_all := lw_g (lw_at lw_m6 151 rfl) rfl
theorem q1480 : (Jvm.Cond.privateMethod ({ cls := "ThirdWitness", name := "brawlsBy", desc := "(I)I" } : Jvm.MethodName)) ∈ lw_tbl := lw_at lw_m6 152 rfl
theorem q1481 : (Jvm.Cond.instanceMethod ({ cls := "ThirdWitness", name := "brawlsBy", desc := "(I)I" } : Jvm.MethodName)) ∈ lw_all := lw_g (lw_at lw_m6 153 rfl) rfl
theorem q1482 : (Jvm.Cond.code ({ cls := "ThirdWitness", name := "brawlsBy", desc := "(I)I" } : Jvm.MethodName) prog_1_method_86_code (3 : Nat) (Option.some Jvm.ClassFile.FieldType.int)) ∈ lw_all := lw_g (lw_at lw_m6 154 rfl) rfl
theorem q1484 : (Jvm.Cond.instanceMethod ({ cls := "ThirdWitness", name := "endsByAt", desc := "(II)I" } : Jvm.MethodName)) ∈ lw_all := lw_g (lw_at lw_m6 156 rfl) rfl
theorem q1485 : (Jvm.Cond.selects "ThirdWitness" ({ cls := "ThirdWitness", name := "endsByAt", desc := "(II)I" } : Jvm.MethodName) ({ cls := "ThirdWitness", name := "endsByAt", desc := "(II)I" } : Jvm.MethodName)) ∈ lw_all := lw_g (lw_at lw_m6 157 rfl) rfl
theorem q1486 : (Jvm.Cond.code ({ cls := "ThirdWitness", name := "endsByAt", desc := "(II)I" } : Jvm.MethodName) prog_1_method_89_code (4 : Nat) (Option.some Jvm.ClassFile.FieldType.int)) ∈ lw_all := lw_g (lw_at lw_m6 158 rfl) rfl
theorem q1488 : (Jvm.Cond.instanceMethod ({ cls := "ThirdWitness", name := "wins", desc := "(III)I" } : Jvm.MethodName)) ∈ lw_all := lw_g (lw_at lw_m6 160 rfl) rfl
theorem q1489 : (Jvm.Cond.selects "ThirdWitness" ({ cls := "ThirdWitness", name := "wins", desc := "(III)I" } : Jvm.MethodName) ({ cls := "ThirdWitness", name := "wins", desc := "(III)I" } : Jvm.MethodName)) ∈ lw_all := lw_g (lw_at lw_m6 161 rfl) rfl
theorem q1490 : (Jvm.Cond.code ({ cls := "ThirdWitness", name := "wins", desc := "(III)I" } : Jvm.MethodName) prog_1_method_90_code (7 : Nat) (Option.some Jvm.ClassFile.FieldType.int)) ∈ lw_all := lw_g (lw_at lw_m6 162 rfl) rfl
theorem q1492 : (Jvm.Cond.instanceMethod ({ cls := "ThirdWitness", name := "brick", desc := "(I)Z" } : Jvm.MethodName)) ∈ lw_all := lw_g (lw_at lw_m6 164 rfl) rfl
theorem q1493 : (Jvm.Cond.selects "ThirdWitness" ({ cls := "ThirdWitness", name := "brick", desc := "(I)Z" } : Jvm.MethodName) ({ cls := "ThirdWitness", name := "brick", desc := "(I)Z" } : Jvm.MethodName)) ∈ lw_all := lw_g (lw_at lw_m6 165 rfl) rfl
theorem q1494 : (Jvm.Cond.code ({ cls := "ThirdWitness", name := "brick", desc := "(I)Z" } : Jvm.MethodName) prog_1_method_93_code (2 : Nat) (Option.some Jvm.ClassFile.FieldType.boolean)) ∈ lw_all := lw_g (lw_at lw_m6 166 rfl) rfl
theorem q1495 : (Jvm.Cond.methodLink "ThirdWitness" (390 : Nat) ({ cls := "ThirdWitness", name := "bricksUp", desc := "(IZ)Z" } : Jvm.MethodName)) ∈ lw_all := lw_g (lw_at lw_m6 167 rfl) rfl
theorem q1496 : (Jvm.Cond.privateMethod ({ cls := "ThirdWitness", name := "bricksUp", desc := "(IZ)Z" } : Jvm.MethodName)) ∈ lw_tbl := lw_at lw_m6 168 rfl
theorem q1497 : (Jvm.Cond.instanceMethod ({ cls := "ThirdWitness", name := "bricksUp", desc := "(IZ)Z" } : Jvm.MethodName)) ∈ lw_all := lw_g (lw_at lw_m6 169 rfl) rfl
theorem q1498 : (Jvm.Cond.code ({ cls := "ThirdWitness", name := "bricksUp", desc := "(IZ)Z" } : Jvm.MethodName) prog_1_method_92_code (3 : Nat) (Option.some Jvm.ClassFile.FieldType.boolean)) ∈ lw_all := lw_g (lw_at lw_m6 170 rfl) rfl
theorem q1499 : (Jvm.Cond.methodLink "ThirdWitness" (380 : Nat) ({ cls := "ThirdWitness", name := "denied", desc := "(I)Z" } : Jvm.MethodName)) ∈ lw_all := lw_g (lw_at lw_m6 171 rfl) rfl
theorem q1500 : (Jvm.Cond.privateMethod ({ cls := "ThirdWitness", name := "denied", desc := "(I)Z" } : Jvm.MethodName)) ∈ lw_tbl := lw_at lw_m6 172 rfl
theorem q1501 : (Jvm.Cond.instanceMethod ({ cls := "ThirdWitness", name := "denied", desc := "(I)Z" } : Jvm.MethodName)) ∈ lw_all := lw_g (lw_at lw_m6 173 rfl) rfl
theorem q1502 : (Jvm.Cond.code ({ cls := "ThirdWitness", name := "denied", desc := "(I)Z" } : Jvm.MethodName) prog_1_method_9_code (2 : Nat) (Option.some Jvm.ClassFile.FieldType.boolean)) ∈ lw_all := lw_g (lw_at lw_m6 174 rfl) rfl
theorem q1503 : (Jvm.Cond.methodLink "ThirdWitness" (383 : Nat) ({ cls := "ThirdWitness", name := "remembers", desc := "()V" } : Jvm.MethodName)) ∈ lw_all := lw_g (lw_at lw_m6 175 rfl) rfl
theorem q1504 : (Jvm.Cond.privateMethod ({ cls := "ThirdWitness", name := "remembers", desc := "()V" } : Jvm.MethodName)) ∈ lw_tbl := lw_at lw_m6 176 rfl
theorem q1505 : (Jvm.Cond.instanceMethod ({ cls := "ThirdWitness", name := "remembers", desc := "()V" } : Jvm.MethodName)) ∈ lw_all := lw_g (lw_at lw_m6 177 rfl) rfl
theorem q1506 : (Jvm.Cond.code ({ cls := "ThirdWitness", name := "remembers", desc := "()V" } : Jvm.MethodName) prog_1_method_91_code (1 : Nat) (Option.none : Option Jvm.ClassFile.FieldType)) ∈ lw_all := lw_g (lw_at lw_m6 178 rfl) rfl
theorem q1507 : (Jvm.Cond.methodLink "ThirdWitness" (373 : Nat) ({ cls := "java/util/ArrayList", name := "remove", desc := "(I)Ljava/lang/Object;" } : Jvm.MethodName)) ∈ lw_all := lw_g (lw_at lw_m6 179 rfl) rfl
theorem q1516 : (Jvm.Cond.methodLink "ThirdWitness" (376 : Nat) ({ cls := "java/util/ArrayList", name := "add", desc := "(Ljava/lang/Object;)Z" } : Jvm.MethodName)) ∈ lw_all := lw_g (lw_at lw_m6 188 rfl) rfl
theorem q1517 : (Jvm.Cond.methodLink "ThirdWitness" (386 : Nat) ({ cls := "ThirdWitness", name := "granted", desc := "()Z" } : Jvm.MethodName)) ∈ lw_all := lw_g (lw_at lw_m6 189 rfl) rfl
theorem q1518 : (Jvm.Cond.privateMethod ({ cls := "ThirdWitness", name := "granted", desc := "()Z" } : Jvm.MethodName)) ∈ lw_tbl := lw_at lw_m6 190 rfl
theorem q1519 : (Jvm.Cond.instanceMethod ({ cls := "ThirdWitness", name := "granted", desc := "()Z" } : Jvm.MethodName)) ∈ lw_all := lw_g (lw_at lw_m6 191 rfl) rfl
theorem q1520 : (Jvm.Cond.code ({ cls := "ThirdWitness", name := "granted", desc := "()Z" } : Jvm.MethodName) prog_1_method_11_code (1 : Nat) (Option.some Jvm.ClassFile.FieldType.boolean)) ∈ lw_all := lw_g (lw_at lw_m6 192 rfl) rfl
theorem q1522 : (Jvm.Cond.instanceMethod ({ cls := "ThirdWitness", name := "open", desc := "(I)Z" } : Jvm.MethodName)) ∈ lw_all := lw_g (lw_at lw_m6 194 rfl) rfl
theorem q1523 : (Jvm.Cond.selects "ThirdWitness" ({ cls := "ThirdWitness", name := "open", desc := "(I)Z" } : Jvm.MethodName) ({ cls := "ThirdWitness", name := "open", desc := "(I)Z" } : Jvm.MethodName)) ∈ lw_all := lw_g (lw_at lw_m6 195 rfl) rfl
theorem q1524 : (Jvm.Cond.code ({ cls := "ThirdWitness", name := "open", desc := "(I)Z" } : Jvm.MethodName) prog_1_method_94_code (2 : Nat) (Option.some Jvm.ClassFile.FieldType.boolean)) ∈ lw_all := lw_g (lw_at lw_m6 196 rfl) rfl
theorem q1526 : (Jvm.Cond.instanceMethod ({ cls := "ThirdWitness", name := "hire", desc := "(II)I" } : Jvm.MethodName)) ∈ lw_all := lw_g (lw_at lw_m6 198 rfl) rfl
theorem q1527 : (Jvm.Cond.selects "ThirdWitness" ({ cls := "ThirdWitness", name := "hire", desc := "(II)I" } : Jvm.MethodName) ({ cls := "ThirdWitness", name := "hire", desc := "(II)I" } : Jvm.MethodName)) ∈ lw_all := lw_g (lw_at lw_m6 199 rfl) rfl
theorem q1528 : (Jvm.Cond.code ({ cls := "ThirdWitness", name := "hire", desc := "(II)I" } : Jvm.MethodName) prog_1_method_95_code (4 : Nat) (Option.some Jvm.ClassFile.FieldType.int)) ∈ lw_all := lw_g (lw_at lw_m6 200 rfl) rfl
theorem q1530 : (Jvm.Cond.instanceMethod ({ cls := "ThirdWitness", name := "dismiss", desc := "(I)Z" } : Jvm.MethodName)) ∈ lw_all := lw_g (lw_at lw_m6 202 rfl) rfl
theorem q1531 : (Jvm.Cond.selects "ThirdWitness" ({ cls := "ThirdWitness", name := "dismiss", desc := "(I)Z" } : Jvm.MethodName) ({ cls := "ThirdWitness", name := "dismiss", desc := "(I)Z" } : Jvm.MethodName)) ∈ lw_all := lw_g (lw_at lw_m6 203 rfl) rfl
theorem q1532 : (Jvm.Cond.code ({ cls := "ThirdWitness", name := "dismiss", desc := "(I)Z" } : Jvm.MethodName) prog_1_method_96_code (2 : Nat) (Option.some Jvm.ClassFile.FieldType.boolean)) ∈ lw_all := lw_g (lw_at lw_m6 204 rfl) rfl
theorem q1534 : (Jvm.Cond.instanceMethod ({ cls := "ThirdWitness", name := "spent", desc := "()I" } : Jvm.MethodName)) ∈ lw_all := lw_g (lw_at lw_m6 206 rfl) rfl
theorem q1535 : (Jvm.Cond.selects "ThirdWitness" ({ cls := "ThirdWitness", name := "spent", desc := "()I" } : Jvm.MethodName) ({ cls := "ThirdWitness", name := "spent", desc := "()I" } : Jvm.MethodName)) ∈ lw_all := lw_g (lw_at lw_m6 207 rfl) rfl
theorem q1536 : (Jvm.Cond.code ({ cls := "ThirdWitness", name := "spent", desc := "()I" } : Jvm.MethodName) prog_1_method_97_code (1 : Nat) (Option.some Jvm.ClassFile.FieldType.int)) ∈ lw_all := lw_g (lw_at lw_m6 208 rfl) rfl
theorem q1538 : (Jvm.Cond.instanceMethod ({ cls := "ThirdWitness", name := "undo", desc := "()Z" } : Jvm.MethodName)) ∈ lw_all := lw_g (lw_at lw_m6 210 rfl) rfl
theorem q1539 : (Jvm.Cond.selects "ThirdWitness" ({ cls := "ThirdWitness", name := "undo", desc := "()Z" } : Jvm.MethodName) ({ cls := "ThirdWitness", name := "undo", desc := "()Z" } : Jvm.MethodName)) ∈ lw_all := lw_g (lw_at lw_m6 211 rfl) rfl
theorem q1540 : (Jvm.Cond.code ({ cls := "ThirdWitness", name := "undo", desc := "()Z" } : Jvm.MethodName) prog_1_method_98_code (1 : Nat) (Option.some Jvm.ClassFile.FieldType.boolean)) ∈ lw_all := lw_g (lw_at lw_m6 212 rfl) rfl
theorem q1541 : (Jvm.Cond.methodLink "ThirdWitness" (397 : Nat) ({ cls := "java/util/ArrayList", name := "isEmpty", desc := "()Z" } : Jvm.MethodName)) ∈ lw_all := lw_g (lw_at lw_m6 213 rfl) rfl
theorem q1543 : (Jvm.Cond.instanceMethod ({ cls := "ThirdWitness", name := "image", desc := "()I" } : Jvm.MethodName)) ∈ lw_all := lw_g (lw_at lw_m6 215 rfl) rfl
theorem q1544 : (Jvm.Cond.selects "ThirdWitness" ({ cls := "ThirdWitness", name := "image", desc := "()I" } : Jvm.MethodName) ({ cls := "ThirdWitness", name := "image", desc := "()I" } : Jvm.MethodName)) ∈ lw_all := lw_g (lw_at lw_m6 216 rfl) rfl
theorem q1545 : (Jvm.Cond.code ({ cls := "ThirdWitness", name := "image", desc := "()I" } : Jvm.MethodName) prog_1_method_99_code (1 : Nat) (Option.some Jvm.ClassFile.FieldType.int)) ∈ lw_all := lw_g (lw_at lw_m6 217 rfl) rfl
theorem q1547 : (Jvm.Cond.instanceMethod ({ cls := "ThirdWitness", name := "back", desc := "(I)Z" } : Jvm.MethodName)) ∈ lw_all := lw_g (lw_at lw_m6 219 rfl) rfl
theorem q1548 : (Jvm.Cond.selects "ThirdWitness" ({ cls := "ThirdWitness", name := "back", desc := "(I)Z" } : Jvm.MethodName) ({ cls := "ThirdWitness", name := "back", desc := "(I)Z" } : Jvm.MethodName)) ∈ lw_all := lw_g (lw_at lw_m6 220 rfl) rfl
theorem q1549 : (Jvm.Cond.code ({ cls := "ThirdWitness", name := "back", desc := "(I)Z" } : Jvm.MethodName) prog_1_method_100_code (2 : Nat) (Option.some Jvm.ClassFile.FieldType.boolean)) ∈ lw_all := lw_g (lw_at lw_m6 221 rfl) rfl
theorem q1551 : (Jvm.Cond.instanceMethod ({ cls := "ThirdWitness", name := "size", desc := "(I)I" } : Jvm.MethodName)) ∈ lw_all := lw_g (lw_at lw_m6 223 rfl) rfl
theorem q1552 : (Jvm.Cond.selects "ThirdWitness" ({ cls := "ThirdWitness", name := "size", desc := "(I)I" } : Jvm.MethodName) ({ cls := "ThirdWitness", name := "size", desc := "(I)I" } : Jvm.MethodName)) ∈ lw_all := lw_g (lw_at lw_m6 224 rfl) rfl
theorem q1553 : (Jvm.Cond.code ({ cls := "ThirdWitness", name := "size", desc := "(I)I" } : Jvm.MethodName) prog_1_method_102_code (2 : Nat) (Option.some Jvm.ClassFile.FieldType.int)) ∈ lw_all := lw_g (lw_at lw_m6 225 rfl) rfl
theorem q1555 : (Jvm.Cond.instanceMethod ({ cls := "ThirdWitness", name := "trouble", desc := "()I" } : Jvm.MethodName)) ∈ lw_all := lw_g (lw_at lw_m6 227 rfl) rfl
theorem q1556 : (Jvm.Cond.selects "ThirdWitness" ({ cls := "ThirdWitness", name := "trouble", desc := "()I" } : Jvm.MethodName) ({ cls := "ThirdWitness", name := "trouble", desc := "()I" } : Jvm.MethodName)) ∈ lw_all := lw_g (lw_at lw_m6 228 rfl) rfl
theorem q1557 : (Jvm.Cond.code ({ cls := "ThirdWitness", name := "trouble", desc := "()I" } : Jvm.MethodName) prog_1_method_103_code (1 : Nat) (Option.some Jvm.ClassFile.FieldType.int)) ∈ lw_all := lw_g (lw_at lw_m6 229 rfl) rfl
theorem q1563 : (Jvm.Cond.instanceMethod ({ cls := "ThirdWitness", name := "led", desc := "(I)I" } : Jvm.MethodName)) ∈ lw_all := lw_g (lw_at lw_m6 235 rfl) rfl
theorem q1564 : (Jvm.Cond.selects "ThirdWitness" ({ cls := "ThirdWitness", name := "led", desc := "(I)I" } : Jvm.MethodName) ({ cls := "ThirdWitness", name := "led", desc := "(I)I" } : Jvm.MethodName)) ∈ lw_all := lw_g (lw_at lw_m6 236 rfl) rfl
theorem q1565 : (Jvm.Cond.code ({ cls := "ThirdWitness", name := "led", desc := "(I)I" } : Jvm.MethodName) prog_1_method_101_code (4 : Nat) (Option.some Jvm.ClassFile.FieldType.int)) ∈ lw_all := lw_g (lw_at lw_m6 237 rfl) rfl
theorem q1566 : (Jvm.Cond.classLink "ThirdWitness" (400 : Nat) "java/util/NoSuchElementException") ∈ lw_all := lw_g (lw_at lw_m6 238 rfl) rfl
theorem q1605 : (Jvm.Cond.methodLink "ThirdWitness" (402 : Nat) ({ cls := "java/util/NoSuchElementException", name := "<init>", desc := "()V" } : Jvm.MethodName)) ∈ lw_all := lw_g (lw_at lw_m7 37 rfl) rfl
theorem q2306 : (Jvm.Cond.castable "ThirdWitness" "java/lang/Object") ∈ lw_tbl := lw_at lw_m10 18 rfl
theorem in_X1 : ∀ w ∈ wsX10, w ∈ lw_all := lw_in wsX10 [221, 223, 225, 227, 229, 231, 233, 235, 237, 239, 241, 243, 245, 247, 249, 251, 253, 255, 257, 259, 261, 263, 265, 267, 269] (by decide +kernel) (by decide +kernel)
def RX2 : String := "ThirdWitnessModel"
def TX2 : u_T := fun k => match k with
  | 0 => ("ThirdWitnessModel", "thrown", "I", false)
  | 1 => ("ThirdWitnessModel", "tape", "[I", true)
  | 2 => ("ThirdWitnessModel", "taped", "I", false)
  | 3 => ("ThirdWitnessModel", "size", "I", false)
  | 4 => ("ThirdWitnessModel", "at", "I", false)
  | 5 => ("ThirdWitnessModel", "end", "I", false)
  | 6 => ("ThirdWitnessModel", "token", "I", false)
  | 7 => ("ThirdWitnessModel", "whole", "I", false)
  | 8 => ("ThirdWitnessModel", "nameSize", "I", false)
  | 9 => ("ThirdWitnessModel", "fault", "I", false)
  | 10 => ("ThirdWitnessModel", "place", "I", false)
  | 11 => ("ThirdWitnessModel", "trouble", "I", false)
  | 12 => ("ThirdWitnessModel", "letters", "[I", true)
  | 13 => ("ThirdWitnessModel", "failed", "Z", false)
  | 14 => ("ThirdWitnessModel", "hasTown", "Z", false)
  | 15 => ("ThirdWitnessModel", "\x72", "[I", true)
  | 16 => ("ThirdWitnessModel", "fresh", "[I", true)
  | 17 => ("ThirdWitnessModel", "st", "[I", true)
  | 18 => ("ThirdWitnessModel", "undone", "[I", true)
  | 19 => ("ThirdWitnessModel", "kept", "[I", true)
  | 20 => ("ThirdWitnessModel", "undos", "I", false)
  | 21 => ("ThirdWitnessModel", "images", "I", false)
  | 22 => ("ThirdWitnessModel", "trial", "[I", true)
  | 23 => ("ThirdWitnessModel", "wits", "[I", true)
  | 24 => ("ThirdWitnessModel", "eyesNow", "[I", true)
  | 25 => ("ThirdWitnessModel", "ended", "I", false)
  | 26 => ("ThirdWitnessModel", "endedAt", "I", false)
  | 27 => ("ThirdWitnessModel", "lead", "I", false)
  | 28 => ("ThirdWitnessModel", "seenThen", "I", false)
  | 29 => ("ThirdWitnessModel", "seenAhead", "I", false)
  | 30 => ("ThirdWitnessModel", "boysBy", "I", false)
  | 31 => ("ThirdWitnessModel", "drawn", "I", false)
  | 32 => ("ThirdWitnessModel", "often", "[I", true)
  | 33 => ("ThirdWitnessModel", "setMany", "I", false)
  | 34 => ("ThirdWitnessModel", "someOf", "I", false)
  | 35 => ("ThirdWitnessModel", "allOf", "I", false)
  | _ => ("ThirdWitnessModel", "firstRest", "I", false)
def tyX2 : Nat → FieldType := fun k => match k with
  | 0 => .int
  | 1 => .array .int
  | 2 => .int
  | 3 => .int
  | 4 => .int
  | 5 => .int
  | 6 => .int
  | 7 => .int
  | 8 => .int
  | 9 => .int
  | 10 => .int
  | 11 => .int
  | 12 => .array .int
  | 13 => .boolean
  | 14 => .boolean
  | 15 => .array .int
  | 16 => .array .int
  | 17 => .array .int
  | 18 => .array .int
  | 19 => .array .int
  | 20 => .int
  | 21 => .int
  | 22 => .array .int
  | 23 => .array .int
  | 24 => .array .int
  | 25 => .int
  | 26 => .int
  | 27 => .int
  | 28 => .int
  | 29 => .int
  | 30 => .int
  | 31 => .int
  | 32 => .array .int
  | 33 => .int
  | 34 => .int
  | 35 => .int
  | _ => .int
abbrev wsX20 : List Cond := u_ws RX2 TX2 37
theorem nmX2 : ∀ a, a < 37 → ∀ b, b < 37 → a ≠ b → (TX2 a).2.1 ≠ (TX2 b).2.1 := by decide +kernel
theorem tyX2_ok : ∀ k, k < 37 → parseFieldDescriptor (TX2 k).2.2.1 = some (tyX2 k) := by decide +kernel
theorem q133 : (Jvm.Cond.initialized "ThirdWitnessModel") ∈ lw_all := lw_g (lw_at lw_m1 5 rfl) rfl
theorem q825 : (Jvm.Cond.selects "ThirdWitnessModel" ({ cls := "java/lang/Object", name := "getClass", desc := "()Ljava/lang/Class;" } : Jvm.MethodName) ({ cls := "java/lang/Object", name := "getClass", desc := "()Ljava/lang/Class;" } : Jvm.MethodName)) ∈ lw_all := lw_g (lw_at lw_m3 217 rfl) rfl
theorem q1628 : (Jvm.Cond.instantiable "ThirdWitnessModel" (37 : Nat)) ∈ lw_all := lw_g (lw_at lw_m7 60 rfl) rfl
theorem q1630 : (Jvm.Cond.instanceMethod ({ cls := "ThirdWitnessModel", name := "<init>", desc := "()V" } : Jvm.MethodName)) ∈ lw_all := lw_g (lw_at lw_m7 62 rfl) rfl
theorem q1631 : (Jvm.Cond.code ({ cls := "ThirdWitnessModel", name := "<init>", desc := "()V" } : Jvm.MethodName) prog_15_method_1_code (1 : Nat) (Option.none : Option Jvm.ClassFile.FieldType)) ∈ lw_all := lw_g (lw_at lw_m7 63 rfl) rfl
theorem q1632 : (Jvm.Cond.methodLink "ThirdWitnessModel" (1 : Nat) ({ cls := "java/lang/Object", name := "<init>", desc := "()V" } : Jvm.MethodName)) ∈ lw_all := lw_g (lw_at lw_m7 64 rfl) rfl
theorem q1633 : (Jvm.Cond.fieldLink "ThirdWitnessModel" (47 : Nat) "ThirdWitnessModel" "thrown" "I") ∈ lw_all := lw_g (lw_at lw_m7 65 rfl) rfl
theorem q1634 : (Jvm.Cond.fieldLink "ThirdWitnessModel" (7 : Nat) "ThirdWitnessModel" "tape" "[I") ∈ lw_all := lw_g (lw_at lw_m7 66 rfl) rfl
theorem q1635 : (Jvm.Cond.fieldLink "ThirdWitnessModel" (53 : Nat) "ThirdWitnessModel" "taped" "I") ∈ lw_all := lw_g (lw_at lw_m7 67 rfl) rfl
theorem q1636 : (Jvm.Cond.fieldLink "ThirdWitnessModel" (56 : Nat) "ThirdWitnessModel" "size" "I") ∈ lw_all := lw_g (lw_at lw_m7 68 rfl) rfl
theorem q1637 : (Jvm.Cond.fieldLink "ThirdWitnessModel" (66 : Nat) "ThirdWitnessModel" "at" "I") ∈ lw_all := lw_g (lw_at lw_m7 69 rfl) rfl
theorem q1638 : (Jvm.Cond.fieldLink "ThirdWitnessModel" (59 : Nat) "ThirdWitnessModel" "end" "I") ∈ lw_all := lw_g (lw_at lw_m7 70 rfl) rfl
theorem q1639 : (Jvm.Cond.fieldLink "ThirdWitnessModel" (75 : Nat) "ThirdWitnessModel" "token" "I") ∈ lw_all := lw_g (lw_at lw_m7 71 rfl) rfl
theorem q1640 : (Jvm.Cond.fieldLink "ThirdWitnessModel" (72 : Nat) "ThirdWitnessModel" "whole" "I") ∈ lw_all := lw_g (lw_at lw_m7 72 rfl) rfl
theorem q1641 : (Jvm.Cond.fieldLink "ThirdWitnessModel" (69 : Nat) "ThirdWitnessModel" "nameSize" "I") ∈ lw_all := lw_g (lw_at lw_m7 73 rfl) rfl
theorem q1642 : (Jvm.Cond.fieldLink "ThirdWitnessModel" (89 : Nat) "ThirdWitnessModel" "fault" "I") ∈ lw_all := lw_g (lw_at lw_m7 74 rfl) rfl
theorem q1643 : (Jvm.Cond.fieldLink "ThirdWitnessModel" (13 : Nat) "ThirdWitnessModel" "place" "I") ∈ lw_all := lw_g (lw_at lw_m7 75 rfl) rfl
theorem q1644 : (Jvm.Cond.fieldLink "ThirdWitnessModel" (50 : Nat) "ThirdWitnessModel" "trouble" "I") ∈ lw_all := lw_g (lw_at lw_m7 76 rfl) rfl
theorem q1645 : (Jvm.Cond.fieldLink "ThirdWitnessModel" (17 : Nat) "ThirdWitnessModel" "letters" "[I") ∈ lw_all := lw_g (lw_at lw_m7 77 rfl) rfl
theorem q1646 : (Jvm.Cond.fieldLink "ThirdWitnessModel" (85 : Nat) "ThirdWitnessModel" "failed" "Z") ∈ lw_all := lw_g (lw_at lw_m7 78 rfl) rfl
theorem q1647 : (Jvm.Cond.fieldLink "ThirdWitnessModel" (176 : Nat) "ThirdWitnessModel" "hasTown" "Z") ∈ lw_all := lw_g (lw_at lw_m7 79 rfl) rfl
theorem q1648 : (Jvm.Cond.fieldLink "ThirdWitnessModel" (20 : Nat) "ThirdWitnessModel" "\x72" "[I") ∈ lw_all := lw_g (lw_at lw_m7 80 rfl) rfl
theorem q1649 : (Jvm.Cond.fieldLink "ThirdWitnessModel" (23 : Nat) "ThirdWitnessModel" "fresh" "[I") ∈ lw_all := lw_g (lw_at lw_m7 81 rfl) rfl
theorem q1650 : (Jvm.Cond.fieldLink "ThirdWitnessModel" (26 : Nat) "ThirdWitnessModel" "st" "[I") ∈ lw_all := lw_g (lw_at lw_m7 82 rfl) rfl
theorem q1651 : (Jvm.Cond.fieldLink "ThirdWitnessModel" (29 : Nat) "ThirdWitnessModel" "undone" "[I") ∈ lw_all := lw_g (lw_at lw_m7 83 rfl) rfl
theorem q1652 : (Jvm.Cond.fieldLink "ThirdWitnessModel" (32 : Nat) "ThirdWitnessModel" "kept" "[I") ∈ lw_all := lw_g (lw_at lw_m7 84 rfl) rfl
theorem q1653 : (Jvm.Cond.fieldLink "ThirdWitnessModel" (179 : Nat) "ThirdWitnessModel" "undos" "I") ∈ lw_all := lw_g (lw_at lw_m7 85 rfl) rfl
theorem q1654 : (Jvm.Cond.fieldLink "ThirdWitnessModel" (182 : Nat) "ThirdWitnessModel" "images" "I") ∈ lw_all := lw_g (lw_at lw_m7 86 rfl) rfl
theorem q1655 : (Jvm.Cond.fieldLink "ThirdWitnessModel" (35 : Nat) "ThirdWitnessModel" "trial" "[I") ∈ lw_all := lw_g (lw_at lw_m7 87 rfl) rfl
theorem q1656 : (Jvm.Cond.fieldLink "ThirdWitnessModel" (38 : Nat) "ThirdWitnessModel" "wits" "[I") ∈ lw_all := lw_g (lw_at lw_m7 88 rfl) rfl
theorem q1657 : (Jvm.Cond.fieldLink "ThirdWitnessModel" (41 : Nat) "ThirdWitnessModel" "eyesNow" "[I") ∈ lw_all := lw_g (lw_at lw_m7 89 rfl) rfl
theorem q1658 : (Jvm.Cond.fieldLink "ThirdWitnessModel" (269 : Nat) "ThirdWitnessModel" "ended" "I") ∈ lw_all := lw_g (lw_at lw_m7 90 rfl) rfl
theorem q1659 : (Jvm.Cond.fieldLink "ThirdWitnessModel" (271 : Nat) "ThirdWitnessModel" "endedAt" "I") ∈ lw_all := lw_g (lw_at lw_m7 91 rfl) rfl
theorem q1660 : (Jvm.Cond.fieldLink "ThirdWitnessModel" (274 : Nat) "ThirdWitnessModel" "lead" "I") ∈ lw_all := lw_g (lw_at lw_m7 92 rfl) rfl
theorem q1661 : (Jvm.Cond.fieldLink "ThirdWitnessModel" (277 : Nat) "ThirdWitnessModel" "seenThen" "I") ∈ lw_all := lw_g (lw_at lw_m7 93 rfl) rfl
theorem q1662 : (Jvm.Cond.fieldLink "ThirdWitnessModel" (280 : Nat) "ThirdWitnessModel" "seenAhead" "I") ∈ lw_all := lw_g (lw_at lw_m7 94 rfl) rfl
theorem q1663 : (Jvm.Cond.fieldLink "ThirdWitnessModel" (262 : Nat) "ThirdWitnessModel" "boysBy" "I") ∈ lw_all := lw_g (lw_at lw_m7 95 rfl) rfl
theorem q1664 : (Jvm.Cond.fieldLink "ThirdWitnessModel" (265 : Nat) "ThirdWitnessModel" "drawn" "I") ∈ lw_all := lw_g (lw_at lw_m7 96 rfl) rfl
theorem q1665 : (Jvm.Cond.fieldLink "ThirdWitnessModel" (44 : Nat) "ThirdWitnessModel" "often" "[I") ∈ lw_all := lw_g (lw_at lw_m7 97 rfl) rfl
theorem q1666 : (Jvm.Cond.fieldLink "ThirdWitnessModel" (348 : Nat) "ThirdWitnessModel" "setMany" "I") ∈ lw_all := lw_g (lw_at lw_m7 98 rfl) rfl
theorem q1667 : (Jvm.Cond.fieldLink "ThirdWitnessModel" (351 : Nat) "ThirdWitnessModel" "someOf" "I") ∈ lw_all := lw_g (lw_at lw_m7 99 rfl) rfl
theorem q1668 : (Jvm.Cond.fieldLink "ThirdWitnessModel" (354 : Nat) "ThirdWitnessModel" "allOf" "I") ∈ lw_all := lw_g (lw_at lw_m7 100 rfl) rfl
theorem q1669 : (Jvm.Cond.fieldLink "ThirdWitnessModel" (377 : Nat) "ThirdWitnessModel" "firstRest" "I") ∈ lw_all := lw_g (lw_at lw_m7 101 rfl) rfl
theorem q1670 : (Jvm.Cond.lays "ThirdWitnessModel" "ThirdWitnessModel" "thrown" "I") ∈ lw_all := lw_g (lw_at lw_m7 102 rfl) rfl
theorem q1671 : (Jvm.Cond.soleField "ThirdWitnessModel" "thrown") ∈ lw_all := lw_g (lw_at lw_m7 103 rfl) rfl
theorem q1672 : (Jvm.Cond.laysFinal "ThirdWitnessModel" "ThirdWitnessModel" "tape" "[I") ∈ lw_all := lw_g (lw_at lw_m7 104 rfl) rfl
theorem q1673 : (Jvm.Cond.soleField "ThirdWitnessModel" "tape") ∈ lw_all := lw_g (lw_at lw_m7 105 rfl) rfl
theorem q1674 : (Jvm.Cond.lays "ThirdWitnessModel" "ThirdWitnessModel" "taped" "I") ∈ lw_all := lw_g (lw_at lw_m7 106 rfl) rfl
theorem q1675 : (Jvm.Cond.soleField "ThirdWitnessModel" "taped") ∈ lw_all := lw_g (lw_at lw_m7 107 rfl) rfl
theorem q1676 : (Jvm.Cond.lays "ThirdWitnessModel" "ThirdWitnessModel" "size" "I") ∈ lw_all := lw_g (lw_at lw_m7 108 rfl) rfl
theorem q1677 : (Jvm.Cond.soleField "ThirdWitnessModel" "size") ∈ lw_all := lw_g (lw_at lw_m7 109 rfl) rfl
theorem q1678 : (Jvm.Cond.lays "ThirdWitnessModel" "ThirdWitnessModel" "at" "I") ∈ lw_all := lw_g (lw_at lw_m7 110 rfl) rfl
theorem q1679 : (Jvm.Cond.soleField "ThirdWitnessModel" "at") ∈ lw_all := lw_g (lw_at lw_m7 111 rfl) rfl
theorem q1680 : (Jvm.Cond.lays "ThirdWitnessModel" "ThirdWitnessModel" "end" "I") ∈ lw_all := lw_g (lw_at lw_m7 112 rfl) rfl
theorem q1681 : (Jvm.Cond.soleField "ThirdWitnessModel" "end") ∈ lw_all := lw_g (lw_at lw_m7 113 rfl) rfl
theorem q1682 : (Jvm.Cond.lays "ThirdWitnessModel" "ThirdWitnessModel" "token" "I") ∈ lw_all := lw_g (lw_at lw_m7 114 rfl) rfl
theorem q1683 : (Jvm.Cond.soleField "ThirdWitnessModel" "token") ∈ lw_all := lw_g (lw_at lw_m7 115 rfl) rfl
theorem q1684 : (Jvm.Cond.lays "ThirdWitnessModel" "ThirdWitnessModel" "whole" "I") ∈ lw_all := lw_g (lw_at lw_m7 116 rfl) rfl
theorem q1685 : (Jvm.Cond.soleField "ThirdWitnessModel" "whole") ∈ lw_all := lw_g (lw_at lw_m7 117 rfl) rfl
theorem q1686 : (Jvm.Cond.lays "ThirdWitnessModel" "ThirdWitnessModel" "nameSize" "I") ∈ lw_all := lw_g (lw_at lw_m7 118 rfl) rfl
theorem q1687 : (Jvm.Cond.soleField "ThirdWitnessModel" "nameSize") ∈ lw_all := lw_g (lw_at lw_m7 119 rfl) rfl
theorem q1688 : (Jvm.Cond.lays "ThirdWitnessModel" "ThirdWitnessModel" "fault" "I") ∈ lw_all := lw_g (lw_at lw_m7 120 rfl) rfl
theorem q1689 : (Jvm.Cond.soleField "ThirdWitnessModel" "fault") ∈ lw_all := lw_g (lw_at lw_m7 121 rfl) rfl
theorem q1690 : (Jvm.Cond.lays "ThirdWitnessModel" "ThirdWitnessModel" "place" "I") ∈ lw_all := lw_g (lw_at lw_m7 122 rfl) rfl
theorem q1691 : (Jvm.Cond.soleField "ThirdWitnessModel" "place") ∈ lw_all := lw_g (lw_at lw_m7 123 rfl) rfl
theorem q1692 : (Jvm.Cond.lays "ThirdWitnessModel" "ThirdWitnessModel" "trouble" "I") ∈ lw_all := lw_g (lw_at lw_m7 124 rfl) rfl
theorem q1693 : (Jvm.Cond.soleField "ThirdWitnessModel" "trouble") ∈ lw_all := lw_g (lw_at lw_m7 125 rfl) rfl
theorem q1694 : (Jvm.Cond.laysFinal "ThirdWitnessModel" "ThirdWitnessModel" "letters" "[I") ∈ lw_all := lw_g (lw_at lw_m7 126 rfl) rfl
theorem q1695 : (Jvm.Cond.soleField "ThirdWitnessModel" "letters") ∈ lw_all := lw_g (lw_at lw_m7 127 rfl) rfl
theorem q1696 : (Jvm.Cond.lays "ThirdWitnessModel" "ThirdWitnessModel" "failed" "Z") ∈ lw_all := lw_g (lw_at lw_m7 128 rfl) rfl
theorem q1697 : (Jvm.Cond.soleField "ThirdWitnessModel" "failed") ∈ lw_all := lw_g (lw_at lw_m7 129 rfl) rfl
theorem q1698 : (Jvm.Cond.lays "ThirdWitnessModel" "ThirdWitnessModel" "hasTown" "Z") ∈ lw_all := lw_g (lw_at lw_m7 130 rfl) rfl
theorem q1699 : (Jvm.Cond.soleField "ThirdWitnessModel" "hasTown") ∈ lw_all := lw_g (lw_at lw_m7 131 rfl) rfl
theorem q1700 : (Jvm.Cond.laysFinal "ThirdWitnessModel" "ThirdWitnessModel" "\x72" "[I") ∈ lw_all := lw_g (lw_at lw_m7 132 rfl) rfl
theorem q1701 : (Jvm.Cond.soleField "ThirdWitnessModel" "\x72") ∈ lw_all := lw_g (lw_at lw_m7 133 rfl) rfl
theorem q1702 : (Jvm.Cond.laysFinal "ThirdWitnessModel" "ThirdWitnessModel" "fresh" "[I") ∈ lw_all := lw_g (lw_at lw_m7 134 rfl) rfl
theorem q1703 : (Jvm.Cond.soleField "ThirdWitnessModel" "fresh") ∈ lw_all := lw_g (lw_at lw_m7 135 rfl) rfl
theorem q1704 : (Jvm.Cond.laysFinal "ThirdWitnessModel" "ThirdWitnessModel" "st" "[I") ∈ lw_all := lw_g (lw_at lw_m7 136 rfl) rfl
theorem q1705 : (Jvm.Cond.soleField "ThirdWitnessModel" "st") ∈ lw_all := lw_g (lw_at lw_m7 137 rfl) rfl
theorem q1706 : (Jvm.Cond.laysFinal "ThirdWitnessModel" "ThirdWitnessModel" "undone" "[I") ∈ lw_all := lw_g (lw_at lw_m7 138 rfl) rfl
theorem q1707 : (Jvm.Cond.soleField "ThirdWitnessModel" "undone") ∈ lw_all := lw_g (lw_at lw_m7 139 rfl) rfl
theorem q1708 : (Jvm.Cond.laysFinal "ThirdWitnessModel" "ThirdWitnessModel" "kept" "[I") ∈ lw_all := lw_g (lw_at lw_m7 140 rfl) rfl
theorem q1709 : (Jvm.Cond.soleField "ThirdWitnessModel" "kept") ∈ lw_all := lw_g (lw_at lw_m7 141 rfl) rfl
theorem q1710 : (Jvm.Cond.lays "ThirdWitnessModel" "ThirdWitnessModel" "undos" "I") ∈ lw_all := lw_g (lw_at lw_m7 142 rfl) rfl
theorem q1711 : (Jvm.Cond.soleField "ThirdWitnessModel" "undos") ∈ lw_all := lw_g (lw_at lw_m7 143 rfl) rfl
theorem q1712 : (Jvm.Cond.lays "ThirdWitnessModel" "ThirdWitnessModel" "images" "I") ∈ lw_all := lw_g (lw_at lw_m7 144 rfl) rfl
theorem q1713 : (Jvm.Cond.soleField "ThirdWitnessModel" "images") ∈ lw_all := lw_g (lw_at lw_m7 145 rfl) rfl
theorem q1714 : (Jvm.Cond.laysFinal "ThirdWitnessModel" "ThirdWitnessModel" "trial" "[I") ∈ lw_all := lw_g (lw_at lw_m7 146 rfl) rfl
theorem q1715 : (Jvm.Cond.soleField "ThirdWitnessModel" "trial") ∈ lw_all := lw_g (lw_at lw_m7 147 rfl) rfl
theorem q1716 : (Jvm.Cond.laysFinal "ThirdWitnessModel" "ThirdWitnessModel" "wits" "[I") ∈ lw_all := lw_g (lw_at lw_m7 148 rfl) rfl
theorem q1717 : (Jvm.Cond.soleField "ThirdWitnessModel" "wits") ∈ lw_all := lw_g (lw_at lw_m7 149 rfl) rfl
theorem q1718 : (Jvm.Cond.laysFinal "ThirdWitnessModel" "ThirdWitnessModel" "eyesNow" "[I") ∈ lw_all := lw_g (lw_at lw_m7 150 rfl) rfl
theorem q1719 : (Jvm.Cond.soleField "ThirdWitnessModel" "eyesNow") ∈ lw_all := lw_g (lw_at lw_m7 151 rfl) rfl
theorem q1720 : (Jvm.Cond.lays "ThirdWitnessModel" "ThirdWitnessModel" "ended" "I") ∈ lw_all := lw_g (lw_at lw_m7 152 rfl) rfl
theorem q1721 : (Jvm.Cond.soleField "ThirdWitnessModel" "ended") ∈ lw_all := lw_g (lw_at lw_m7 153 rfl) rfl
theorem q1722 : (Jvm.Cond.lays "ThirdWitnessModel" "ThirdWitnessModel" "endedAt" "I") ∈ lw_all := lw_g (lw_at lw_m7 154 rfl) rfl
theorem q1723 : (Jvm.Cond.soleField "ThirdWitnessModel" "endedAt") ∈ lw_all := lw_g (lw_at lw_m7 155 rfl) rfl
theorem q1724 : (Jvm.Cond.lays "ThirdWitnessModel" "ThirdWitnessModel" "lead" "I") ∈ lw_all := lw_g (lw_at lw_m7 156 rfl) rfl
theorem q1725 : (Jvm.Cond.soleField "ThirdWitnessModel" "lead") ∈ lw_all := lw_g (lw_at lw_m7 157 rfl) rfl
theorem q1726 : (Jvm.Cond.lays "ThirdWitnessModel" "ThirdWitnessModel" "seenThen" "I") ∈ lw_all := lw_g (lw_at lw_m7 158 rfl) rfl
theorem q1727 : (Jvm.Cond.soleField "ThirdWitnessModel" "seenThen") ∈ lw_all := lw_g (lw_at lw_m7 159 rfl) rfl
theorem q1728 : (Jvm.Cond.lays "ThirdWitnessModel" "ThirdWitnessModel" "seenAhead" "I") ∈ lw_all := lw_g (lw_at lw_m7 160 rfl) rfl
theorem q1729 : (Jvm.Cond.soleField "ThirdWitnessModel" "seenAhead") ∈ lw_all := lw_g (lw_at lw_m7 161 rfl) rfl
theorem q1730 : (Jvm.Cond.lays "ThirdWitnessModel" "ThirdWitnessModel" "boysBy" "I") ∈ lw_all := lw_g (lw_at lw_m7 162 rfl) rfl
theorem q1731 : (Jvm.Cond.soleField "ThirdWitnessModel" "boysBy") ∈ lw_all := lw_g (lw_at lw_m7 163 rfl) rfl
theorem q1732 : (Jvm.Cond.lays "ThirdWitnessModel" "ThirdWitnessModel" "drawn" "I") ∈ lw_all := lw_g (lw_at lw_m7 164 rfl) rfl
theorem q1733 : (Jvm.Cond.soleField "ThirdWitnessModel" "drawn") ∈ lw_all := lw_g (lw_at lw_m7 165 rfl) rfl
theorem q1734 : (Jvm.Cond.laysFinal "ThirdWitnessModel" "ThirdWitnessModel" "often" "[I") ∈ lw_all := lw_g (lw_at lw_m7 166 rfl) rfl
theorem q1735 : (Jvm.Cond.soleField "ThirdWitnessModel" "often") ∈ lw_all := lw_g (lw_at lw_m7 167 rfl) rfl
theorem q1736 : (Jvm.Cond.lays "ThirdWitnessModel" "ThirdWitnessModel" "setMany" "I") ∈ lw_all := lw_g (lw_at lw_m7 168 rfl) rfl
theorem q1737 : (Jvm.Cond.soleField "ThirdWitnessModel" "setMany") ∈ lw_all := lw_g (lw_at lw_m7 169 rfl) rfl
theorem q1738 : (Jvm.Cond.lays "ThirdWitnessModel" "ThirdWitnessModel" "someOf" "I") ∈ lw_all := lw_g (lw_at lw_m7 170 rfl) rfl
theorem q1739 : (Jvm.Cond.soleField "ThirdWitnessModel" "someOf") ∈ lw_all := lw_g (lw_at lw_m7 171 rfl) rfl
theorem q1740 : (Jvm.Cond.lays "ThirdWitnessModel" "ThirdWitnessModel" "allOf" "I") ∈ lw_all := lw_g (lw_at lw_m7 172 rfl) rfl
theorem q1741 : (Jvm.Cond.soleField "ThirdWitnessModel" "allOf") ∈ lw_all := lw_g (lw_at lw_m7 173 rfl) rfl
theorem q1742 : (Jvm.Cond.lays "ThirdWitnessModel" "ThirdWitnessModel" "firstRest" "I") ∈ lw_all := lw_g (lw_at lw_m7 174 rfl) rfl
theorem q1743 : (Jvm.Cond.soleField "ThirdWitnessModel" "firstRest") ∈ lw_all := lw_g (lw_at lw_m7 175 rfl) rfl
theorem q1744 : (Jvm.Cond.superclass "ThirdWitnessModel" "java/lang/Object") ∈ lw_all := lw_g (lw_at lw_m7 176 rfl) rfl
theorem q1746 : (Jvm.Cond.instanceMethod ({ cls := "ThirdWitnessModel", name := "thrown", desc := "()I" } : Jvm.MethodName)) ∈ lw_all := lw_g (lw_at lw_m7 178 rfl) rfl
theorem q1747 : (Jvm.Cond.selects "ThirdWitnessModel" ({ cls := "ThirdWitnessModel", name := "thrown", desc := "()I" } : Jvm.MethodName) ({ cls := "ThirdWitnessModel", name := "thrown", desc := "()I" } : Jvm.MethodName)) ∈ lw_all := lw_g (lw_at lw_m7 179 rfl) rfl
theorem q1748 : (Jvm.Cond.code ({ cls := "ThirdWitnessModel", name := "thrown", desc := "()I" } : Jvm.MethodName) prog_15_method_2_code (1 : Nat) (Option.some Jvm.ClassFile.FieldType.int)) ∈ lw_all := lw_g (lw_at lw_m7 180 rfl) rfl
theorem q1750 : (Jvm.Cond.instanceMethod ({ cls := "ThirdWitnessModel", name := "feed", desc := "(IIIII)I" } : Jvm.MethodName)) ∈ lw_all := lw_g (lw_at lw_m7 182 rfl) rfl
theorem q1751 : (Jvm.Cond.selects "ThirdWitnessModel" ({ cls := "ThirdWitnessModel", name := "feed", desc := "(IIIII)I" } : Jvm.MethodName) ({ cls := "ThirdWitnessModel", name := "feed", desc := "(IIIII)I" } : Jvm.MethodName)) ∈ lw_all := lw_g (lw_at lw_m7 183 rfl) rfl
theorem q1752 : (Jvm.Cond.code ({ cls := "ThirdWitnessModel", name := "feed", desc := "(IIIII)I" } : Jvm.MethodName) prog_15_method_11_code (8 : Nat) (Option.some Jvm.ClassFile.FieldType.int)) ∈ lw_all := lw_g (lw_at lw_m7 184 rfl) rfl
theorem q1754 : (Jvm.Cond.instanceMethod ({ cls := "ThirdWitnessModel", name := "town", desc := "(I)I" } : Jvm.MethodName)) ∈ lw_all := lw_g (lw_at lw_m7 186 rfl) rfl
theorem q1755 : (Jvm.Cond.selects "ThirdWitnessModel" ({ cls := "ThirdWitnessModel", name := "town", desc := "(I)I" } : Jvm.MethodName) ({ cls := "ThirdWitnessModel", name := "town", desc := "(I)I" } : Jvm.MethodName)) ∈ lw_all := lw_g (lw_at lw_m7 187 rfl) rfl
theorem q1756 : (Jvm.Cond.code ({ cls := "ThirdWitnessModel", name := "town", desc := "(I)I" } : Jvm.MethodName) prog_15_method_31_code (3 : Nat) (Option.some Jvm.ClassFile.FieldType.int)) ∈ lw_all := lw_g (lw_at lw_m7 188 rfl) rfl
theorem q1757 : (Jvm.Cond.methodLink "ThirdWitnessModel" (163 : Nat) ({ cls := "ThirdWitnessModel", name := "good", desc := "()V" } : Jvm.MethodName)) ∈ lw_all := lw_g (lw_at lw_m7 189 rfl) rfl
theorem q1758 : (Jvm.Cond.privateMethod ({ cls := "ThirdWitnessModel", name := "good", desc := "()V" } : Jvm.MethodName)) ∈ lw_tbl := lw_at lw_m7 190 rfl
theorem q1759 : (Jvm.Cond.instanceMethod ({ cls := "ThirdWitnessModel", name := "good", desc := "()V" } : Jvm.MethodName)) ∈ lw_all := lw_g (lw_at lw_m7 191 rfl) rfl
theorem q1760 : (Jvm.Cond.code ({ cls := "ThirdWitnessModel", name := "good", desc := "()V" } : Jvm.MethodName) prog_15_method_3_code (1 : Nat) (Option.none : Option Jvm.ClassFile.FieldType)) ∈ lw_all := lw_g (lw_at lw_m7 192 rfl) rfl
theorem q1761 : (Jvm.Cond.methodLink "ThirdWitnessModel" (139 : Nat) ({ cls := "ThirdWitnessModel", name := "in", desc := "(III)Z" } : Jvm.MethodName)) ∈ lw_all := lw_g (lw_at lw_m7 193 rfl) rfl
theorem q1762 : (Jvm.Cond.static ({ cls := "ThirdWitnessModel", name := "in", desc := "(III)Z" } : Jvm.MethodName)) ∈ lw_all := lw_g (lw_at lw_m7 194 rfl) rfl
theorem q1763 : (Jvm.Cond.code ({ cls := "ThirdWitnessModel", name := "in", desc := "(III)Z" } : Jvm.MethodName) prog_15_method_6_code (3 : Nat) (Option.some Jvm.ClassFile.FieldType.boolean)) ∈ lw_all := lw_g (lw_at lw_m7 195 rfl) rfl
theorem q1764 : (Jvm.Cond.methodLink "ThirdWitnessModel" (166 : Nat) ({ cls := "ThirdWitnessModel", name := "no", desc := "(I)I" } : Jvm.MethodName)) ∈ lw_all := lw_g (lw_at lw_m7 196 rfl) rfl
theorem q1765 : (Jvm.Cond.privateMethod ({ cls := "ThirdWitnessModel", name := "no", desc := "(I)I" } : Jvm.MethodName)) ∈ lw_tbl := lw_at lw_m7 197 rfl
theorem q1766 : (Jvm.Cond.instanceMethod ({ cls := "ThirdWitnessModel", name := "no", desc := "(I)I" } : Jvm.MethodName)) ∈ lw_all := lw_g (lw_at lw_m7 198 rfl) rfl
theorem q1767 : (Jvm.Cond.code ({ cls := "ThirdWitnessModel", name := "no", desc := "(I)I" } : Jvm.MethodName) prog_15_method_4_code (2 : Nat) (Option.some Jvm.ClassFile.FieldType.int)) ∈ lw_all := lw_g (lw_at lw_m7 199 rfl) rfl
theorem q1768 : (Jvm.Cond.methodLink "ThirdWitnessModel" (106 : Nat) ({ cls := "ThirdWitnessModel", name := "next", desc := "()V" } : Jvm.MethodName)) ∈ lw_all := lw_g (lw_at lw_m7 200 rfl) rfl
theorem q1769 : (Jvm.Cond.privateMethod ({ cls := "ThirdWitnessModel", name := "next", desc := "()V" } : Jvm.MethodName)) ∈ lw_tbl := lw_at lw_m7 201 rfl
theorem q1770 : (Jvm.Cond.instanceMethod ({ cls := "ThirdWitnessModel", name := "next", desc := "()V" } : Jvm.MethodName)) ∈ lw_all := lw_g (lw_at lw_m7 202 rfl) rfl
theorem q1771 : (Jvm.Cond.code ({ cls := "ThirdWitnessModel", name := "next", desc := "()V" } : Jvm.MethodName) prog_15_method_15_code (4 : Nat) (Option.none : Option Jvm.ClassFile.FieldType)) ∈ lw_all := lw_g (lw_at lw_m7 203 rfl) rfl
theorem q1772 : (Jvm.Cond.methodLink "ThirdWitnessModel" (62 : Nat) ({ cls := "ThirdWitnessModel", name := "see", desc := "(I)I" } : Jvm.MethodName)) ∈ lw_all := lw_g (lw_at lw_m7 204 rfl) rfl
theorem q1773 : (Jvm.Cond.privateMethod ({ cls := "ThirdWitnessModel", name := "see", desc := "(I)I" } : Jvm.MethodName)) ∈ lw_tbl := lw_at lw_m7 205 rfl
theorem q1774 : (Jvm.Cond.instanceMethod ({ cls := "ThirdWitnessModel", name := "see", desc := "(I)I" } : Jvm.MethodName)) ∈ lw_all := lw_g (lw_at lw_m7 206 rfl) rfl
theorem q1775 : (Jvm.Cond.code ({ cls := "ThirdWitnessModel", name := "see", desc := "(I)I" } : Jvm.MethodName) prog_15_method_12_code (2 : Nat) (Option.some Jvm.ClassFile.FieldType.int)) ∈ lw_all := lw_g (lw_at lw_m7 207 rfl) rfl
theorem q1776 : (Jvm.Cond.methodLink "ThirdWitnessModel" (78 : Nat) ({ cls := "ThirdWitnessModel", name := "isSmall", desc := "(I)Z" } : Jvm.MethodName)) ∈ lw_all := lw_g (lw_at lw_m7 208 rfl) rfl
theorem q1777 : (Jvm.Cond.static ({ cls := "ThirdWitnessModel", name := "isSmall", desc := "(I)Z" } : Jvm.MethodName)) ∈ lw_all := lw_g (lw_at lw_m7 209 rfl) rfl
theorem q1778 : (Jvm.Cond.code ({ cls := "ThirdWitnessModel", name := "isSmall", desc := "(I)Z" } : Jvm.MethodName) prog_15_method_13_code (1 : Nat) (Option.some Jvm.ClassFile.FieldType.boolean)) ∈ lw_all := lw_g (lw_at lw_m7 210 rfl) rfl
theorem q1779 : (Jvm.Cond.methodLink "ThirdWitnessModel" (82 : Nat) ({ cls := "ThirdWitnessModel", name := "isDigit", desc := "(I)Z" } : Jvm.MethodName)) ∈ lw_all := lw_g (lw_at lw_m7 211 rfl) rfl
theorem q1780 : (Jvm.Cond.static ({ cls := "ThirdWitnessModel", name := "isDigit", desc := "(I)Z" } : Jvm.MethodName)) ∈ lw_all := lw_g (lw_at lw_m7 212 rfl) rfl
theorem q1781 : (Jvm.Cond.code ({ cls := "ThirdWitnessModel", name := "isDigit", desc := "(I)Z" } : Jvm.MethodName) prog_15_method_14_code (1 : Nat) (Option.some Jvm.ClassFile.FieldType.boolean)) ∈ lw_all := lw_g (lw_at lw_m7 213 rfl) rfl
theorem q1782 : (Jvm.Cond.methodLink "ThirdWitnessModel" (169 : Nat) ({ cls := "ThirdWitnessModel", name := "readLine", desc := "()V" } : Jvm.MethodName)) ∈ lw_all := lw_g (lw_at lw_m7 214 rfl) rfl
theorem q1783 : (Jvm.Cond.privateMethod ({ cls := "ThirdWitnessModel", name := "readLine", desc := "()V" } : Jvm.MethodName)) ∈ lw_tbl := lw_at lw_m7 215 rfl
theorem q1784 : (Jvm.Cond.instanceMethod ({ cls := "ThirdWitnessModel", name := "readLine", desc := "()V" } : Jvm.MethodName)) ∈ lw_all := lw_g (lw_at lw_m7 216 rfl) rfl
theorem q1785 : (Jvm.Cond.code ({ cls := "ThirdWitnessModel", name := "readLine", desc := "()V" } : Jvm.MethodName) prog_15_method_33_code (1 : Nat) (Option.none : Option Jvm.ClassFile.FieldType)) ∈ lw_all := lw_g (lw_at lw_m7 217 rfl) rfl
theorem q1786 : (Jvm.Cond.stringRef "ThirdWitnessModel" (116 : Nat) "town") ∈ lw_tbl := lw_at lw_m7 218 rfl
theorem q1787 : (Jvm.Cond.methodLink "ThirdWitnessModel" (102 : Nat) ({ cls := "ThirdWitnessModel", name := "isWord", desc := "(Ljava/lang/String;)Z" } : Jvm.MethodName)) ∈ lw_all := lw_g (lw_at lw_m7 219 rfl) rfl
theorem q1788 : (Jvm.Cond.privateMethod ({ cls := "ThirdWitnessModel", name := "isWord", desc := "(Ljava/lang/String;)Z" } : Jvm.MethodName)) ∈ lw_tbl := lw_at lw_m7 220 rfl
theorem q1789 : (Jvm.Cond.instanceMethod ({ cls := "ThirdWitnessModel", name := "isWord", desc := "(Ljava/lang/String;)Z" } : Jvm.MethodName)) ∈ lw_all := lw_g (lw_at lw_m7 221 rfl) rfl
theorem q1790 : (Jvm.Cond.code ({ cls := "ThirdWitnessModel", name := "isWord", desc := "(Ljava/lang/String;)Z" } : Jvm.MethodName) prog_15_method_17_code (4 : Nat) (Option.some Jvm.ClassFile.FieldType.boolean)) ∈ lw_all := lw_g (lw_at lw_m7 222 rfl) rfl
theorem q1791 : (Jvm.Cond.methodLink "ThirdWitnessModel" (92 : Nat) ({ cls := "java/lang/String", name := "length", desc := "()I" } : Jvm.MethodName)) ∈ lw_all := lw_g (lw_at lw_m7 223 rfl) rfl
theorem q1799 : (Jvm.Cond.methodLink "ThirdWitnessModel" (98 : Nat) ({ cls := "java/lang/String", name := "charAt", desc := "(I)C" } : Jvm.MethodName)) ∈ lw_all := lw_g (lw_at lw_m7 231 rfl) rfl
theorem q1810 : (Jvm.Cond.methodLink "ThirdWitnessModel" (185 : Nat) ({ cls := "ThirdWitnessModel", name := "townLine", desc := "()V" } : Jvm.MethodName)) ∈ lw_all := lw_g (lw_at lw_m8 2 rfl) rfl
theorem q1811 : (Jvm.Cond.privateMethod ({ cls := "ThirdWitnessModel", name := "townLine", desc := "()V" } : Jvm.MethodName)) ∈ lw_tbl := lw_at lw_m8 3 rfl
theorem q1812 : (Jvm.Cond.instanceMethod ({ cls := "ThirdWitnessModel", name := "townLine", desc := "()V" } : Jvm.MethodName)) ∈ lw_all := lw_g (lw_at lw_m8 4 rfl) rfl
theorem q1813 : (Jvm.Cond.code ({ cls := "ThirdWitnessModel", name := "townLine", desc := "()V" } : Jvm.MethodName) prog_15_method_34_code (1 : Nat) (Option.none : Option Jvm.ClassFile.FieldType)) ∈ lw_all := lw_g (lw_at lw_m8 5 rfl) rfl
theorem q1814 : (Jvm.Cond.methodLink "ThirdWitnessModel" (112 : Nat) ({ cls := "ThirdWitnessModel", name := "wrong", desc := "(II)V" } : Jvm.MethodName)) ∈ lw_all := lw_g (lw_at lw_m8 6 rfl) rfl
theorem q1815 : (Jvm.Cond.privateMethod ({ cls := "ThirdWitnessModel", name := "wrong", desc := "(II)V" } : Jvm.MethodName)) ∈ lw_tbl := lw_at lw_m8 7 rfl
theorem q1816 : (Jvm.Cond.instanceMethod ({ cls := "ThirdWitnessModel", name := "wrong", desc := "(II)V" } : Jvm.MethodName)) ∈ lw_all := lw_g (lw_at lw_m8 8 rfl) rfl
theorem q1817 : (Jvm.Cond.code ({ cls := "ThirdWitnessModel", name := "wrong", desc := "(II)V" } : Jvm.MethodName) prog_15_method_16_code (3 : Nat) (Option.none : Option Jvm.ClassFile.FieldType)) ∈ lw_all := lw_g (lw_at lw_m8 9 rfl) rfl
theorem q1818 : (Jvm.Cond.stringRef "ThirdWitnessModel" (216 : Nat) "boys") ∈ lw_tbl := lw_at lw_m8 10 rfl
theorem q1819 : (Jvm.Cond.methodLink "ThirdWitnessModel" (218 : Nat) ({ cls := "ThirdWitnessModel", name := "afte\x72", desc := "(Ljava/lang/String;II)I" } : Jvm.MethodName)) ∈ lw_all := lw_g (lw_at lw_m8 11 rfl) rfl
theorem q1820 : (Jvm.Cond.privateMethod ({ cls := "ThirdWitnessModel", name := "afte\x72", desc := "(Ljava/lang/String;II)I" } : Jvm.MethodName)) ∈ lw_tbl := lw_at lw_m8 12 rfl
theorem q1821 : (Jvm.Cond.instanceMethod ({ cls := "ThirdWitnessModel", name := "afte\x72", desc := "(Ljava/lang/String;II)I" } : Jvm.MethodName)) ∈ lw_all := lw_g (lw_at lw_m8 13 rfl) rfl
theorem q1822 : (Jvm.Cond.code ({ cls := "ThirdWitnessModel", name := "afte\x72", desc := "(Ljava/lang/String;II)I" } : Jvm.MethodName) prog_15_method_30_code (4 : Nat) (Option.some Jvm.ClassFile.FieldType.int)) ∈ lw_all := lw_g (lw_at lw_m8 14 rfl) rfl
theorem q1823 : (Jvm.Cond.methodLink "ThirdWitnessModel" (156 : Nat) ({ cls := "ThirdWitnessModel", name := "must", desc := "(Ljava/lang/String;)V" } : Jvm.MethodName)) ∈ lw_all := lw_g (lw_at lw_m8 15 rfl) rfl
theorem q1824 : (Jvm.Cond.privateMethod ({ cls := "ThirdWitnessModel", name := "must", desc := "(Ljava/lang/String;)V" } : Jvm.MethodName)) ∈ lw_tbl := lw_at lw_m8 16 rfl
theorem q1825 : (Jvm.Cond.instanceMethod ({ cls := "ThirdWitnessModel", name := "must", desc := "(Ljava/lang/String;)V" } : Jvm.MethodName)) ∈ lw_all := lw_g (lw_at lw_m8 17 rfl) rfl
theorem q1826 : (Jvm.Cond.code ({ cls := "ThirdWitnessModel", name := "must", desc := "(Ljava/lang/String;)V" } : Jvm.MethodName) prog_15_method_19_code (2 : Nat) (Option.none : Option Jvm.ClassFile.FieldType)) ∈ lw_all := lw_g (lw_at lw_m8 18 rfl) rfl
theorem q1827 : (Jvm.Cond.methodLink "ThirdWitnessModel" (109 : Nat) ({ cls := "ThirdWitnessModel", name := "takesWord", desc := "(Ljava/lang/String;)Z" } : Jvm.MethodName)) ∈ lw_all := lw_g (lw_at lw_m8 19 rfl) rfl
theorem q1828 : (Jvm.Cond.privateMethod ({ cls := "ThirdWitnessModel", name := "takesWord", desc := "(Ljava/lang/String;)Z" } : Jvm.MethodName)) ∈ lw_tbl := lw_at lw_m8 20 rfl
theorem q1829 : (Jvm.Cond.instanceMethod ({ cls := "ThirdWitnessModel", name := "takesWord", desc := "(Ljava/lang/String;)Z" } : Jvm.MethodName)) ∈ lw_all := lw_g (lw_at lw_m8 21 rfl) rfl
theorem q1830 : (Jvm.Cond.code ({ cls := "ThirdWitnessModel", name := "takesWord", desc := "(Ljava/lang/String;)Z" } : Jvm.MethodName) prog_15_method_18_code (2 : Nat) (Option.some Jvm.ClassFile.FieldType.boolean)) ∈ lw_all := lw_g (lw_at lw_m8 22 rfl) rfl
theorem q1831 : (Jvm.Cond.methodLink "ThirdWitnessModel" (160 : Nat) ({ cls := "ThirdWitnessModel", name := "numbe\x72", desc := "(II)I" } : Jvm.MethodName)) ∈ lw_all := lw_g (lw_at lw_m8 23 rfl) rfl
theorem q1832 : (Jvm.Cond.privateMethod ({ cls := "ThirdWitnessModel", name := "numbe\x72", desc := "(II)I" } : Jvm.MethodName)) ∈ lw_tbl := lw_at lw_m8 24 rfl
theorem q1833 : (Jvm.Cond.instanceMethod ({ cls := "ThirdWitnessModel", name := "numbe\x72", desc := "(II)I" } : Jvm.MethodName)) ∈ lw_all := lw_g (lw_at lw_m8 25 rfl) rfl
theorem q1834 : (Jvm.Cond.code ({ cls := "ThirdWitnessModel", name := "numbe\x72", desc := "(II)I" } : Jvm.MethodName) prog_15_method_29_code (4 : Nat) (Option.some Jvm.ClassFile.FieldType.int)) ∈ lw_all := lw_g (lw_at lw_m8 26 rfl) rfl
theorem q1835 : (Jvm.Cond.methodLink "ThirdWitnessModel" (153 : Nat) ({ cls := "ThirdWitnessModel", name := "numberHere", desc := "(II)I" } : Jvm.MethodName)) ∈ lw_all := lw_g (lw_at lw_m8 27 rfl) rfl
theorem q1836 : (Jvm.Cond.privateMethod ({ cls := "ThirdWitnessModel", name := "numberHere", desc := "(II)I" } : Jvm.MethodName)) ∈ lw_tbl := lw_at lw_m8 28 rfl
theorem q1837 : (Jvm.Cond.instanceMethod ({ cls := "ThirdWitnessModel", name := "numberHere", desc := "(II)I" } : Jvm.MethodName)) ∈ lw_all := lw_g (lw_at lw_m8 29 rfl) rfl
theorem q1838 : (Jvm.Cond.code ({ cls := "ThirdWitnessModel", name := "numberHere", desc := "(II)I" } : Jvm.MethodName) prog_15_method_28_code (3 : Nat) (Option.some Jvm.ClassFile.FieldType.int)) ∈ lw_all := lw_g (lw_at lw_m8 30 rfl) rfl
theorem q1839 : (Jvm.Cond.methodLink "ThirdWitnessModel" (150 : Nat) ({ cls := "ThirdWitnessModel", name := "pass", desc := "()V" } : Jvm.MethodName)) ∈ lw_all := lw_g (lw_at lw_m8 31 rfl) rfl
theorem q1840 : (Jvm.Cond.privateMethod ({ cls := "ThirdWitnessModel", name := "pass", desc := "()V" } : Jvm.MethodName)) ∈ lw_tbl := lw_at lw_m8 32 rfl
theorem q1841 : (Jvm.Cond.instanceMethod ({ cls := "ThirdWitnessModel", name := "pass", desc := "()V" } : Jvm.MethodName)) ∈ lw_all := lw_g (lw_at lw_m8 33 rfl) rfl
theorem q1842 : (Jvm.Cond.code ({ cls := "ThirdWitnessModel", name := "pass", desc := "()V" } : Jvm.MethodName) prog_15_method_26_code (1 : Nat) (Option.none : Option Jvm.ClassFile.FieldType)) ∈ lw_all := lw_g (lw_at lw_m8 34 rfl) rfl
theorem q1843 : (Jvm.Cond.stringRef "ThirdWitnessModel" (118 : Nat) "place") ∈ lw_tbl := lw_at lw_m8 35 rfl
theorem q1844 : (Jvm.Cond.methodLink "ThirdWitnessModel" (188 : Nat) ({ cls := "ThirdWitnessModel", name := "begins", desc := "(Ljava/lang/String;Z)Z" } : Jvm.MethodName)) ∈ lw_all := lw_g (lw_at lw_m8 36 rfl) rfl
theorem q1845 : (Jvm.Cond.privateMethod ({ cls := "ThirdWitnessModel", name := "begins", desc := "(Ljava/lang/String;Z)Z" } : Jvm.MethodName)) ∈ lw_tbl := lw_at lw_m8 37 rfl
theorem q1846 : (Jvm.Cond.instanceMethod ({ cls := "ThirdWitnessModel", name := "begins", desc := "(Ljava/lang/String;Z)Z" } : Jvm.MethodName)) ∈ lw_all := lw_g (lw_at lw_m8 38 rfl) rfl
theorem q1847 : (Jvm.Cond.code ({ cls := "ThirdWitnessModel", name := "begins", desc := "(Ljava/lang/String;Z)Z" } : Jvm.MethodName) prog_15_method_32_code (3 : Nat) (Option.some Jvm.ClassFile.FieldType.boolean)) ∈ lw_all := lw_g (lw_at lw_m8 39 rfl) rfl
theorem q1848 : (Jvm.Cond.methodLink "ThirdWitnessModel" (192 : Nat) ({ cls := "ThirdWitnessModel", name := "placeLine", desc := "()V" } : Jvm.MethodName)) ∈ lw_all := lw_g (lw_at lw_m8 40 rfl) rfl
theorem q1849 : (Jvm.Cond.privateMethod ({ cls := "ThirdWitnessModel", name := "placeLine", desc := "()V" } : Jvm.MethodName)) ∈ lw_tbl := lw_at lw_m8 41 rfl
theorem q1850 : (Jvm.Cond.instanceMethod ({ cls := "ThirdWitnessModel", name := "placeLine", desc := "()V" } : Jvm.MethodName)) ∈ lw_all := lw_g (lw_at lw_m8 42 rfl) rfl
theorem q1851 : (Jvm.Cond.code ({ cls := "ThirdWitnessModel", name := "placeLine", desc := "()V" } : Jvm.MethodName) prog_15_method_35_code (1 : Nat) (Option.none : Option Jvm.ClassFile.FieldType)) ∈ lw_all := lw_g (lw_at lw_m8 43 rfl) rfl
theorem q1852 : (Jvm.Cond.methodLink "ThirdWitnessModel" (222 : Nat) ({ cls := "ThirdWitnessModel", name := "newName", desc := "(I)V" } : Jvm.MethodName)) ∈ lw_all := lw_g (lw_at lw_m8 44 rfl) rfl
theorem q1853 : (Jvm.Cond.privateMethod ({ cls := "ThirdWitnessModel", name := "newName", desc := "(I)V" } : Jvm.MethodName)) ∈ lw_tbl := lw_at lw_m8 45 rfl
theorem q1854 : (Jvm.Cond.instanceMethod ({ cls := "ThirdWitnessModel", name := "newName", desc := "(I)V" } : Jvm.MethodName)) ∈ lw_all := lw_g (lw_at lw_m8 46 rfl) rfl
theorem q1855 : (Jvm.Cond.code ({ cls := "ThirdWitnessModel", name := "newName", desc := "(I)V" } : Jvm.MethodName) prog_15_method_22_code (3 : Nat) (Option.none : Option Jvm.ClassFile.FieldType)) ∈ lw_all := lw_g (lw_at lw_m8 47 rfl) rfl
theorem q1856 : (Jvm.Cond.methodLink "ThirdWitnessModel" (133 : Nat) ({ cls := "ThirdWitnessModel", name := "mustName", desc := "()V" } : Jvm.MethodName)) ∈ lw_all := lw_g (lw_at lw_m8 48 rfl) rfl
theorem q1857 : (Jvm.Cond.privateMethod ({ cls := "ThirdWitnessModel", name := "mustName", desc := "()V" } : Jvm.MethodName)) ∈ lw_tbl := lw_at lw_m8 49 rfl
theorem q1858 : (Jvm.Cond.instanceMethod ({ cls := "ThirdWitnessModel", name := "mustName", desc := "()V" } : Jvm.MethodName)) ∈ lw_all := lw_g (lw_at lw_m8 50 rfl) rfl
theorem q1859 : (Jvm.Cond.code ({ cls := "ThirdWitnessModel", name := "mustName", desc := "()V" } : Jvm.MethodName) prog_15_method_20_code (1 : Nat) (Option.none : Option Jvm.ClassFile.FieldType)) ∈ lw_all := lw_g (lw_at lw_m8 51 rfl) rfl
theorem q1860 : (Jvm.Cond.stringRef "ThirdWitnessModel" (119 : Nat) "sees") ∈ lw_tbl := lw_at lw_m8 52 rfl
theorem q1861 : (Jvm.Cond.stringRef "ThirdWitnessModel" (121 : Nat) "person") ∈ lw_tbl := lw_at lw_m8 53 rfl
theorem q1862 : (Jvm.Cond.stringRef "ThirdWitnessModel" (123 : Nat) "goes") ∈ lw_tbl := lw_at lw_m8 54 rfl
theorem q1863 : (Jvm.Cond.stringRef "ThirdWitnessModel" (125 : Nat) "quarrel") ∈ lw_tbl := lw_at lw_m8 55 rfl
theorem q1864 : (Jvm.Cond.stringRef "ThirdWitnessModel" (127 : Nat) "hire") ∈ lw_tbl := lw_at lw_m8 56 rfl
theorem q1865 : (Jvm.Cond.stringRef "ThirdWitnessModel" (129 : Nat) "unsure") ∈ lw_tbl := lw_at lw_m8 57 rfl
theorem q1866 : (Jvm.Cond.stringRef "ThirdWitnessModel" (131 : Nat) "ended") ∈ lw_tbl := lw_at lw_m8 58 rfl
theorem q1867 : (Jvm.Cond.methodLink "ThirdWitnessModel" (136 : Nat) ({ cls := "ThirdWitnessModel", name := "find", desc := "()I" } : Jvm.MethodName)) ∈ lw_all := lw_g (lw_at lw_m8 59 rfl) rfl
theorem q1868 : (Jvm.Cond.privateMethod ({ cls := "ThirdWitnessModel", name := "find", desc := "()I" } : Jvm.MethodName)) ∈ lw_tbl := lw_at lw_m8 60 rfl
theorem q1869 : (Jvm.Cond.instanceMethod ({ cls := "ThirdWitnessModel", name := "find", desc := "()I" } : Jvm.MethodName)) ∈ lw_all := lw_g (lw_at lw_m8 61 rfl) rfl
theorem q1870 : (Jvm.Cond.code ({ cls := "ThirdWitnessModel", name := "find", desc := "()I" } : Jvm.MethodName) prog_15_method_21_code (4 : Nat) (Option.some Jvm.ClassFile.FieldType.int)) ∈ lw_all := lw_g (lw_at lw_m8 62 rfl) rfl
theorem q1871 : (Jvm.Cond.methodLink "ThirdWitnessModel" (195 : Nat) ({ cls := "ThirdWitnessModel", name := "seesLine", desc := "()V" } : Jvm.MethodName)) ∈ lw_all := lw_g (lw_at lw_m8 63 rfl) rfl
theorem q1872 : (Jvm.Cond.privateMethod ({ cls := "ThirdWitnessModel", name := "seesLine", desc := "()V" } : Jvm.MethodName)) ∈ lw_tbl := lw_at lw_m8 64 rfl
theorem q1873 : (Jvm.Cond.instanceMethod ({ cls := "ThirdWitnessModel", name := "seesLine", desc := "()V" } : Jvm.MethodName)) ∈ lw_all := lw_g (lw_at lw_m8 65 rfl) rfl
theorem q1874 : (Jvm.Cond.code ({ cls := "ThirdWitnessModel", name := "seesLine", desc := "()V" } : Jvm.MethodName) prog_15_method_36_code (6 : Nat) (Option.none : Option Jvm.ClassFile.FieldType)) ∈ lw_all := lw_g (lw_at lw_m8 66 rfl) rfl
theorem q1875 : (Jvm.Cond.methodLink "ThirdWitnessModel" (226 : Nat) ({ cls := "ThirdWitnessModel", name := "placePassed", desc := "()I" } : Jvm.MethodName)) ∈ lw_all := lw_g (lw_at lw_m8 67 rfl) rfl
theorem q1876 : (Jvm.Cond.privateMethod ({ cls := "ThirdWitnessModel", name := "placePassed", desc := "()I" } : Jvm.MethodName)) ∈ lw_tbl := lw_at lw_m8 68 rfl
theorem q1877 : (Jvm.Cond.instanceMethod ({ cls := "ThirdWitnessModel", name := "placePassed", desc := "()I" } : Jvm.MethodName)) ∈ lw_all := lw_g (lw_at lw_m8 69 rfl) rfl
theorem q1878 : (Jvm.Cond.code ({ cls := "ThirdWitnessModel", name := "placePassed", desc := "()I" } : Jvm.MethodName) prog_15_method_27_code (2 : Nat) (Option.some Jvm.ClassFile.FieldType.int)) ∈ lw_all := lw_g (lw_at lw_m8 70 rfl) rfl
theorem q1879 : (Jvm.Cond.methodLink "ThirdWitnessModel" (147 : Nat) ({ cls := "ThirdWitnessModel", name := "placeHere", desc := "()I" } : Jvm.MethodName)) ∈ lw_all := lw_g (lw_at lw_m8 71 rfl) rfl
theorem q1880 : (Jvm.Cond.privateMethod ({ cls := "ThirdWitnessModel", name := "placeHere", desc := "()I" } : Jvm.MethodName)) ∈ lw_tbl := lw_at lw_m8 72 rfl
theorem q1881 : (Jvm.Cond.instanceMethod ({ cls := "ThirdWitnessModel", name := "placeHere", desc := "()I" } : Jvm.MethodName)) ∈ lw_all := lw_g (lw_at lw_m8 73 rfl) rfl
theorem q1882 : (Jvm.Cond.code ({ cls := "ThirdWitnessModel", name := "placeHere", desc := "()I" } : Jvm.MethodName) prog_15_method_24_code (1 : Nat) (Option.some Jvm.ClassFile.FieldType.int)) ∈ lw_all := lw_g (lw_at lw_m8 74 rfl) rfl
theorem q1883 : (Jvm.Cond.methodLink "ThirdWitnessModel" (143 : Nat) ({ cls := "ThirdWitnessModel", name := "named", desc := "(II)I" } : Jvm.MethodName)) ∈ lw_all := lw_g (lw_at lw_m8 75 rfl) rfl
theorem q1884 : (Jvm.Cond.privateMethod ({ cls := "ThirdWitnessModel", name := "named", desc := "(II)I" } : Jvm.MethodName)) ∈ lw_tbl := lw_at lw_m8 76 rfl
theorem q1885 : (Jvm.Cond.instanceMethod ({ cls := "ThirdWitnessModel", name := "named", desc := "(II)I" } : Jvm.MethodName)) ∈ lw_all := lw_g (lw_at lw_m8 77 rfl) rfl
theorem q1886 : (Jvm.Cond.code ({ cls := "ThirdWitnessModel", name := "named", desc := "(II)I" } : Jvm.MethodName) prog_15_method_23_code (4 : Nat) (Option.some Jvm.ClassFile.FieldType.int)) ∈ lw_all := lw_g (lw_at lw_m8 78 rfl) rfl
theorem q1887 : (Jvm.Cond.methodLink "ThirdWitnessModel" (198 : Nat) ({ cls := "ThirdWitnessModel", name := "personLine", desc := "()V" } : Jvm.MethodName)) ∈ lw_all := lw_g (lw_at lw_m8 79 rfl) rfl
theorem q1888 : (Jvm.Cond.privateMethod ({ cls := "ThirdWitnessModel", name := "personLine", desc := "()V" } : Jvm.MethodName)) ∈ lw_tbl := lw_at lw_m8 80 rfl
theorem q1889 : (Jvm.Cond.instanceMethod ({ cls := "ThirdWitnessModel", name := "personLine", desc := "()V" } : Jvm.MethodName)) ∈ lw_all := lw_g (lw_at lw_m8 81 rfl) rfl
theorem q1890 : (Jvm.Cond.code ({ cls := "ThirdWitnessModel", name := "personLine", desc := "()V" } : Jvm.MethodName) prog_15_method_37_code (5 : Nat) (Option.none : Option Jvm.ClassFile.FieldType)) ∈ lw_all := lw_g (lw_at lw_m8 82 rfl) rfl
theorem q1891 : (Jvm.Cond.stringRef "ThirdWitnessModel" (229 : Nat) "plain") ∈ lw_tbl := lw_at lw_m8 83 rfl
theorem q1892 : (Jvm.Cond.stringRef "ThirdWitnessModel" (231 : Nat) "deaf") ∈ lw_tbl := lw_at lw_m8 84 rfl
theorem q1893 : (Jvm.Cond.stringRef "ThirdWitnessModel" (233 : Nat) "blind") ∈ lw_tbl := lw_at lw_m8 85 rfl
theorem q1894 : (Jvm.Cond.stringRef "ThirdWitnessModel" (235 : Nat) "babe") ∈ lw_tbl := lw_at lw_m8 86 rfl
theorem q1895 : (Jvm.Cond.stringRef "ThirdWitnessModel" (237 : Nat) "at") ∈ lw_tbl := lw_at lw_m8 87 rfl
theorem q1896 : (Jvm.Cond.stringRef "ThirdWitnessModel" (238 : Nat) "wit") ∈ lw_tbl := lw_at lw_m8 88 rfl
theorem q1897 : (Jvm.Cond.methodLink "ThirdWitnessModel" (201 : Nat) ({ cls := "ThirdWitnessModel", name := "goesLine", desc := "()V" } : Jvm.MethodName)) ∈ lw_all := lw_g (lw_at lw_m8 89 rfl) rfl
theorem q1898 : (Jvm.Cond.privateMethod ({ cls := "ThirdWitnessModel", name := "goesLine", desc := "()V" } : Jvm.MethodName)) ∈ lw_tbl := lw_at lw_m8 90 rfl
theorem q1899 : (Jvm.Cond.instanceMethod ({ cls := "ThirdWitnessModel", name := "goesLine", desc := "()V" } : Jvm.MethodName)) ∈ lw_all := lw_g (lw_at lw_m8 91 rfl) rfl
theorem q1900 : (Jvm.Cond.code ({ cls := "ThirdWitnessModel", name := "goesLine", desc := "()V" } : Jvm.MethodName) prog_15_method_38_code (6 : Nat) (Option.none : Option Jvm.ClassFile.FieldType)) ∈ lw_all := lw_g (lw_at lw_m8 92 rfl) rfl
theorem q1901 : (Jvm.Cond.methodLink "ThirdWitnessModel" (240 : Nat) ({ cls := "ThirdWitnessModel", name := "personHere", desc := "()I" } : Jvm.MethodName)) ∈ lw_all := lw_g (lw_at lw_m8 93 rfl) rfl
theorem q1902 : (Jvm.Cond.privateMethod ({ cls := "ThirdWitnessModel", name := "personHere", desc := "()I" } : Jvm.MethodName)) ∈ lw_tbl := lw_at lw_m8 94 rfl
theorem q1903 : (Jvm.Cond.instanceMethod ({ cls := "ThirdWitnessModel", name := "personHere", desc := "()I" } : Jvm.MethodName)) ∈ lw_all := lw_g (lw_at lw_m8 95 rfl) rfl
theorem q1904 : (Jvm.Cond.code ({ cls := "ThirdWitnessModel", name := "personHere", desc := "()I" } : Jvm.MethodName) prog_15_method_25_code (1 : Nat) (Option.some Jvm.ClassFile.FieldType.int)) ∈ lw_all := lw_g (lw_at lw_m8 96 rfl) rfl
theorem q1905 : (Jvm.Cond.methodLink "ThirdWitnessModel" (204 : Nat) ({ cls := "ThirdWitnessModel", name := "quarrelLine", desc := "()V" } : Jvm.MethodName)) ∈ lw_all := lw_g (lw_at lw_m8 97 rfl) rfl
theorem q1906 : (Jvm.Cond.privateMethod ({ cls := "ThirdWitnessModel", name := "quarrelLine", desc := "()V" } : Jvm.MethodName)) ∈ lw_tbl := lw_at lw_m8 98 rfl
theorem q1907 : (Jvm.Cond.instanceMethod ({ cls := "ThirdWitnessModel", name := "quarrelLine", desc := "()V" } : Jvm.MethodName)) ∈ lw_all := lw_g (lw_at lw_m8 99 rfl) rfl
theorem q1908 : (Jvm.Cond.code ({ cls := "ThirdWitnessModel", name := "quarrelLine", desc := "()V" } : Jvm.MethodName) prog_15_method_39_code (7 : Nat) (Option.none : Option Jvm.ClassFile.FieldType)) ∈ lw_all := lw_g (lw_at lw_m8 100 rfl) rfl
theorem q1909 : (Jvm.Cond.stringRef "ThirdWitnessModel" (243 : Nat) "from") ∈ lw_tbl := lw_at lw_m8 101 rfl
theorem q1910 : (Jvm.Cond.stringRef "ThirdWitnessModel" (245 : Nat) "needs") ∈ lw_tbl := lw_at lw_m8 102 rfl
theorem q1911 : (Jvm.Cond.methodLink "ThirdWitnessModel" (207 : Nat) ({ cls := "ThirdWitnessModel", name := "hireLine", desc := "()V" } : Jvm.MethodName)) ∈ lw_all := lw_g (lw_at lw_m8 103 rfl) rfl
theorem q1912 : (Jvm.Cond.privateMethod ({ cls := "ThirdWitnessModel", name := "hireLine", desc := "()V" } : Jvm.MethodName)) ∈ lw_tbl := lw_at lw_m8 104 rfl
theorem q1913 : (Jvm.Cond.instanceMethod ({ cls := "ThirdWitnessModel", name := "hireLine", desc := "()V" } : Jvm.MethodName)) ∈ lw_all := lw_g (lw_at lw_m8 105 rfl) rfl
theorem q1914 : (Jvm.Cond.code ({ cls := "ThirdWitnessModel", name := "hireLine", desc := "()V" } : Jvm.MethodName) prog_15_method_40_code (3 : Nat) (Option.none : Option Jvm.ClassFile.FieldType)) ∈ lw_all := lw_g (lw_at lw_m8 106 rfl) rfl
theorem q1915 : (Jvm.Cond.stringRef "ThirdWitnessModel" (247 : Nat) "fo\x72") ∈ lw_tbl := lw_at lw_m8 107 rfl
theorem q1916 : (Jvm.Cond.methodLink "ThirdWitnessModel" (210 : Nat) ({ cls := "ThirdWitnessModel", name := "unsureLine", desc := "()V" } : Jvm.MethodName)) ∈ lw_all := lw_g (lw_at lw_m8 108 rfl) rfl
theorem q1917 : (Jvm.Cond.privateMethod ({ cls := "ThirdWitnessModel", name := "unsureLine", desc := "()V" } : Jvm.MethodName)) ∈ lw_tbl := lw_at lw_m8 109 rfl
theorem q1918 : (Jvm.Cond.instanceMethod ({ cls := "ThirdWitnessModel", name := "unsureLine", desc := "()V" } : Jvm.MethodName)) ∈ lw_all := lw_g (lw_at lw_m8 110 rfl) rfl
theorem q1919 : (Jvm.Cond.code ({ cls := "ThirdWitnessModel", name := "unsureLine", desc := "()V" } : Jvm.MethodName) prog_15_method_41_code (4 : Nat) (Option.none : Option Jvm.ClassFile.FieldType)) ∈ lw_all := lw_g (lw_at lw_m8 111 rfl) rfl
theorem q1920 : (Jvm.Cond.methodLink "ThirdWitnessModel" (213 : Nat) ({ cls := "ThirdWitnessModel", name := "endedLine", desc := "()V" } : Jvm.MethodName)) ∈ lw_all := lw_g (lw_at lw_m8 112 rfl) rfl
theorem q1921 : (Jvm.Cond.privateMethod ({ cls := "ThirdWitnessModel", name := "endedLine", desc := "()V" } : Jvm.MethodName)) ∈ lw_tbl := lw_at lw_m8 113 rfl
theorem q1922 : (Jvm.Cond.instanceMethod ({ cls := "ThirdWitnessModel", name := "endedLine", desc := "()V" } : Jvm.MethodName)) ∈ lw_all := lw_g (lw_at lw_m8 114 rfl) rfl
theorem q1923 : (Jvm.Cond.code ({ cls := "ThirdWitnessModel", name := "endedLine", desc := "()V" } : Jvm.MethodName) prog_15_method_42_code (3 : Nat) (Option.none : Option Jvm.ClassFile.FieldType)) ∈ lw_all := lw_g (lw_at lw_m8 115 rfl) rfl
theorem q1924 : (Jvm.Cond.methodLink "ThirdWitnessModel" (172 : Nat) ({ cls := "ThirdWitnessModel", name := "copy", desc := "([II[III)V" } : Jvm.MethodName)) ∈ lw_all := lw_g (lw_at lw_m8 116 rfl) rfl
theorem q1925 : (Jvm.Cond.static ({ cls := "ThirdWitnessModel", name := "copy", desc := "([II[III)V" } : Jvm.MethodName)) ∈ lw_all := lw_g (lw_at lw_m8 117 rfl) rfl
theorem q1926 : (Jvm.Cond.code ({ cls := "ThirdWitnessModel", name := "copy", desc := "([II[III)V" } : Jvm.MethodName) prog_15_method_9_code (6 : Nat) (Option.none : Option Jvm.ClassFile.FieldType)) ∈ lw_all := lw_g (lw_at lw_m8 118 rfl) rfl
theorem q1928 : (Jvm.Cond.instanceMethod ({ cls := "ThirdWitnessModel", name := "fault", desc := "()I" } : Jvm.MethodName)) ∈ lw_all := lw_g (lw_at lw_m8 120 rfl) rfl
theorem q1929 : (Jvm.Cond.selects "ThirdWitnessModel" ({ cls := "ThirdWitnessModel", name := "fault", desc := "()I" } : Jvm.MethodName) ({ cls := "ThirdWitnessModel", name := "fault", desc := "()I" } : Jvm.MethodName)) ∈ lw_all := lw_g (lw_at lw_m8 121 rfl) rfl
theorem q1930 : (Jvm.Cond.code ({ cls := "ThirdWitnessModel", name := "fault", desc := "()I" } : Jvm.MethodName) prog_15_method_43_code (1 : Nat) (Option.some Jvm.ClassFile.FieldType.int)) ∈ lw_all := lw_g (lw_at lw_m8 122 rfl) rfl
theorem q1932 : (Jvm.Cond.instanceMethod ({ cls := "ThirdWitnessModel", name := "where", desc := "()I" } : Jvm.MethodName)) ∈ lw_all := lw_g (lw_at lw_m8 124 rfl) rfl
theorem q1933 : (Jvm.Cond.selects "ThirdWitnessModel" ({ cls := "ThirdWitnessModel", name := "where", desc := "()I" } : Jvm.MethodName) ({ cls := "ThirdWitnessModel", name := "where", desc := "()I" } : Jvm.MethodName)) ∈ lw_all := lw_g (lw_at lw_m8 125 rfl) rfl
theorem q1934 : (Jvm.Cond.code ({ cls := "ThirdWitnessModel", name := "where", desc := "()I" } : Jvm.MethodName) prog_15_method_44_code (1 : Nat) (Option.some Jvm.ClassFile.FieldType.int)) ∈ lw_all := lw_g (lw_at lw_m8 126 rfl) rfl
theorem q1936 : (Jvm.Cond.instanceMethod ({ cls := "ThirdWitnessModel", name := "person", desc := "(II)I" } : Jvm.MethodName)) ∈ lw_all := lw_g (lw_at lw_m8 128 rfl) rfl
theorem q1937 : (Jvm.Cond.selects "ThirdWitnessModel" ({ cls := "ThirdWitnessModel", name := "person", desc := "(II)I" } : Jvm.MethodName) ({ cls := "ThirdWitnessModel", name := "person", desc := "(II)I" } : Jvm.MethodName)) ∈ lw_all := lw_g (lw_at lw_m8 129 rfl) rfl
theorem q1938 : (Jvm.Cond.code ({ cls := "ThirdWitnessModel", name := "person", desc := "(II)I" } : Jvm.MethodName) prog_15_method_61_code (4 : Nat) (Option.some Jvm.ClassFile.FieldType.int)) ∈ lw_all := lw_g (lw_at lw_m8 130 rfl) rfl
theorem q1939 : (Jvm.Cond.methodLink "ThirdWitnessModel" (296 : Nat) ({ cls := "ThirdWitnessModel", name := "isPerson", desc := "(I)Z" } : Jvm.MethodName)) ∈ lw_all := lw_g (lw_at lw_m8 131 rfl) rfl
theorem q1940 : (Jvm.Cond.privateMethod ({ cls := "ThirdWitnessModel", name := "isPerson", desc := "(I)Z" } : Jvm.MethodName)) ∈ lw_tbl := lw_at lw_m8 132 rfl
theorem q1941 : (Jvm.Cond.instanceMethod ({ cls := "ThirdWitnessModel", name := "isPerson", desc := "(I)Z" } : Jvm.MethodName)) ∈ lw_all := lw_g (lw_at lw_m8 133 rfl) rfl
theorem q1942 : (Jvm.Cond.code ({ cls := "ThirdWitnessModel", name := "isPerson", desc := "(I)Z" } : Jvm.MethodName) prog_15_method_46_code (2 : Nat) (Option.some Jvm.ClassFile.FieldType.boolean)) ∈ lw_all := lw_g (lw_at lw_m8 134 rfl) rfl
theorem q1943 : (Jvm.Cond.methodLink "ThirdWitnessModel" (249 : Nat) ({ cls := "ThirdWitnessModel", name := "eyesOfKind", desc := "(I)I" } : Jvm.MethodName)) ∈ lw_all := lw_g (lw_at lw_m8 135 rfl) rfl
theorem q1944 : (Jvm.Cond.static ({ cls := "ThirdWitnessModel", name := "eyesOfKind", desc := "(I)I" } : Jvm.MethodName)) ∈ lw_all := lw_g (lw_at lw_m8 136 rfl) rfl
theorem q1945 : (Jvm.Cond.code ({ cls := "ThirdWitnessModel", name := "eyesOfKind", desc := "(I)I" } : Jvm.MethodName) prog_15_method_49_code (1 : Nat) (Option.some Jvm.ClassFile.FieldType.int)) ∈ lw_all := lw_g (lw_at lw_m8 137 rfl) rfl
theorem q1946 : (Jvm.Cond.methodLink "ThirdWitnessModel" (299 : Nat) ({ cls := "ThirdWitnessModel", name := "quarrelsOf", desc := "(I)I" } : Jvm.MethodName)) ∈ lw_all := lw_g (lw_at lw_m8 138 rfl) rfl
theorem q1947 : (Jvm.Cond.privateMethod ({ cls := "ThirdWitnessModel", name := "quarrelsOf", desc := "(I)I" } : Jvm.MethodName)) ∈ lw_tbl := lw_at lw_m8 139 rfl
theorem q1948 : (Jvm.Cond.instanceMethod ({ cls := "ThirdWitnessModel", name := "quarrelsOf", desc := "(I)I" } : Jvm.MethodName)) ∈ lw_all := lw_g (lw_at lw_m8 140 rfl) rfl
theorem q1949 : (Jvm.Cond.code ({ cls := "ThirdWitnessModel", name := "quarrelsOf", desc := "(I)I" } : Jvm.MethodName) prog_15_method_60_code (4 : Nat) (Option.some Jvm.ClassFile.FieldType.int)) ∈ lw_all := lw_g (lw_at lw_m8 141 rfl) rfl
theorem q1951 : (Jvm.Cond.instanceMethod ({ cls := "ThirdWitnessModel", name := "sight", desc := "(II)I" } : Jvm.MethodName)) ∈ lw_all := lw_g (lw_at lw_m8 143 rfl) rfl
theorem q1952 : (Jvm.Cond.selects "ThirdWitnessModel" ({ cls := "ThirdWitnessModel", name := "sight", desc := "(II)I" } : Jvm.MethodName) ({ cls := "ThirdWitnessModel", name := "sight", desc := "(II)I" } : Jvm.MethodName)) ∈ lw_all := lw_g (lw_at lw_m8 144 rfl) rfl
theorem q1953 : (Jvm.Cond.code ({ cls := "ThirdWitnessModel", name := "sight", desc := "(II)I" } : Jvm.MethodName) prog_15_method_62_code (3 : Nat) (Option.some Jvm.ClassFile.FieldType.int)) ∈ lw_all := lw_g (lw_at lw_m8 145 rfl) rfl
theorem q1954 : (Jvm.Cond.methodLink "ThirdWitnessModel" (302 : Nat) ({ cls := "ThirdWitnessModel", name := "isSight", desc := "(I)Z" } : Jvm.MethodName)) ∈ lw_all := lw_g (lw_at lw_m8 146 rfl) rfl
theorem q1955 : (Jvm.Cond.privateMethod ({ cls := "ThirdWitnessModel", name := "isSight", desc := "(I)Z" } : Jvm.MethodName)) ∈ lw_tbl := lw_at lw_m8 147 rfl
theorem q1956 : (Jvm.Cond.instanceMethod ({ cls := "ThirdWitnessModel", name := "isSight", desc := "(I)Z" } : Jvm.MethodName)) ∈ lw_all := lw_g (lw_at lw_m8 148 rfl) rfl
theorem q1957 : (Jvm.Cond.code ({ cls := "ThirdWitnessModel", name := "isSight", desc := "(I)Z" } : Jvm.MethodName) prog_15_method_48_code (2 : Nat) (Option.some Jvm.ClassFile.FieldType.boolean)) ∈ lw_all := lw_g (lw_at lw_m8 149 rfl) rfl
theorem q1959 : (Jvm.Cond.instanceMethod ({ cls := "ThirdWitnessModel", name := "quarrel", desc := "(II)I" } : Jvm.MethodName)) ∈ lw_all := lw_g (lw_at lw_m8 151 rfl) rfl
theorem q1960 : (Jvm.Cond.selects "ThirdWitnessModel" ({ cls := "ThirdWitnessModel", name := "quarrel", desc := "(II)I" } : Jvm.MethodName) ({ cls := "ThirdWitnessModel", name := "quarrel", desc := "(II)I" } : Jvm.MethodName)) ∈ lw_all := lw_g (lw_at lw_m8 152 rfl) rfl
theorem q1961 : (Jvm.Cond.code ({ cls := "ThirdWitnessModel", name := "quarrel", desc := "(II)I" } : Jvm.MethodName) prog_15_method_63_code (3 : Nat) (Option.some Jvm.ClassFile.FieldType.int)) ∈ lw_all := lw_g (lw_at lw_m8 153 rfl) rfl
theorem q1962 : (Jvm.Cond.methodLink "ThirdWitnessModel" (305 : Nat) ({ cls := "ThirdWitnessModel", name := "isQuarrel", desc := "(I)Z" } : Jvm.MethodName)) ∈ lw_all := lw_g (lw_at lw_m8 154 rfl) rfl
theorem q1963 : (Jvm.Cond.privateMethod ({ cls := "ThirdWitnessModel", name := "isQuarrel", desc := "(I)Z" } : Jvm.MethodName)) ∈ lw_tbl := lw_at lw_m8 155 rfl
theorem q1964 : (Jvm.Cond.instanceMethod ({ cls := "ThirdWitnessModel", name := "isQuarrel", desc := "(I)Z" } : Jvm.MethodName)) ∈ lw_all := lw_g (lw_at lw_m8 156 rfl) rfl
theorem q1965 : (Jvm.Cond.code ({ cls := "ThirdWitnessModel", name := "isQuarrel", desc := "(I)Z" } : Jvm.MethodName) prog_15_method_47_code (2 : Nat) (Option.some Jvm.ClassFile.FieldType.boolean)) ∈ lw_all := lw_g (lw_at lw_m8 157 rfl) rfl
theorem q1967 : (Jvm.Cond.instanceMethod ({ cls := "ThirdWitnessModel", name := "at", desc := "(II)I" } : Jvm.MethodName)) ∈ lw_all := lw_g (lw_at lw_m8 159 rfl) rfl
theorem q1968 : (Jvm.Cond.selects "ThirdWitnessModel" ({ cls := "ThirdWitnessModel", name := "at", desc := "(II)I" } : Jvm.MethodName) ({ cls := "ThirdWitnessModel", name := "at", desc := "(II)I" } : Jvm.MethodName)) ∈ lw_all := lw_g (lw_at lw_m8 160 rfl) rfl
theorem q1969 : (Jvm.Cond.code ({ cls := "ThirdWitnessModel", name := "at", desc := "(II)I" } : Jvm.MethodName) prog_15_method_64_code (4 : Nat) (Option.some Jvm.ClassFile.FieldType.int)) ∈ lw_all := lw_g (lw_at lw_m8 161 rfl) rfl
theorem q1970 : (Jvm.Cond.methodLink "ThirdWitnessModel" (308 : Nat) ({ cls := "ThirdWitnessModel", name := "isMinute", desc := "(I)Z" } : Jvm.MethodName)) ∈ lw_all := lw_g (lw_at lw_m8 162 rfl) rfl
theorem q1971 : (Jvm.Cond.privateMethod ({ cls := "ThirdWitnessModel", name := "isMinute", desc := "(I)Z" } : Jvm.MethodName)) ∈ lw_tbl := lw_at lw_m8 163 rfl
theorem q1972 : (Jvm.Cond.instanceMethod ({ cls := "ThirdWitnessModel", name := "isMinute", desc := "(I)Z" } : Jvm.MethodName)) ∈ lw_all := lw_g (lw_at lw_m8 164 rfl) rfl
theorem q1973 : (Jvm.Cond.code ({ cls := "ThirdWitnessModel", name := "isMinute", desc := "(I)Z" } : Jvm.MethodName) prog_15_method_59_code (2 : Nat) (Option.some Jvm.ClassFile.FieldType.boolean)) ∈ lw_all := lw_g (lw_at lw_m8 165 rfl) rfl
theorem q1974 : (Jvm.Cond.methodLink "ThirdWitnessModel" (311 : Nat) ({ cls := "ThirdWitnessModel", name := "why", desc := "(ZZ)I" } : Jvm.MethodName)) ∈ lw_all := lw_g (lw_at lw_m8 166 rfl) rfl
theorem q1975 : (Jvm.Cond.privateMethod ({ cls := "ThirdWitnessModel", name := "why", desc := "(ZZ)I" } : Jvm.MethodName)) ∈ lw_tbl := lw_at lw_m8 167 rfl
theorem q1976 : (Jvm.Cond.instanceMethod ({ cls := "ThirdWitnessModel", name := "why", desc := "(ZZ)I" } : Jvm.MethodName)) ∈ lw_all := lw_g (lw_at lw_m8 168 rfl) rfl
theorem q1977 : (Jvm.Cond.code ({ cls := "ThirdWitnessModel", name := "why", desc := "(ZZ)I" } : Jvm.MethodName) prog_15_method_58_code (3 : Nat) (Option.some Jvm.ClassFile.FieldType.int)) ∈ lw_all := lw_g (lw_at lw_m8 169 rfl) rfl
theorem q1978 : (Jvm.Cond.methodLink "ThirdWitnessModel" (315 : Nat) ({ cls := "ThirdWitnessModel", name := "asNow", desc := "()V" } : Jvm.MethodName)) ∈ lw_all := lw_g (lw_at lw_m8 170 rfl) rfl
theorem q1979 : (Jvm.Cond.privateMethod ({ cls := "ThirdWitnessModel", name := "asNow", desc := "()V" } : Jvm.MethodName)) ∈ lw_tbl := lw_at lw_m8 171 rfl
theorem q1980 : (Jvm.Cond.instanceMethod ({ cls := "ThirdWitnessModel", name := "asNow", desc := "()V" } : Jvm.MethodName)) ∈ lw_all := lw_g (lw_at lw_m8 172 rfl) rfl
theorem q1981 : (Jvm.Cond.code ({ cls := "ThirdWitnessModel", name := "asNow", desc := "()V" } : Jvm.MethodName) prog_15_method_50_code (2 : Nat) (Option.none : Option Jvm.ClassFile.FieldType)) ∈ lw_all := lw_g (lw_at lw_m8 173 rfl) rfl
theorem q1982 : (Jvm.Cond.methodLink "ThirdWitnessModel" (256 : Nat) ({ cls := "ThirdWitnessModel", name := "placeOf", desc := "(II)I" } : Jvm.MethodName)) ∈ lw_all := lw_g (lw_at lw_m8 174 rfl) rfl
theorem q1983 : (Jvm.Cond.privateMethod ({ cls := "ThirdWitnessModel", name := "placeOf", desc := "(II)I" } : Jvm.MethodName)) ∈ lw_tbl := lw_at lw_m8 175 rfl
theorem q1984 : (Jvm.Cond.instanceMethod ({ cls := "ThirdWitnessModel", name := "placeOf", desc := "(II)I" } : Jvm.MethodName)) ∈ lw_all := lw_g (lw_at lw_m8 176 rfl) rfl
theorem q1985 : (Jvm.Cond.code ({ cls := "ThirdWitnessModel", name := "placeOf", desc := "(II)I" } : Jvm.MethodName) prog_15_method_51_code (5 : Nat) (Option.some Jvm.ClassFile.FieldType.int)) ∈ lw_all := lw_g (lw_at lw_m8 177 rfl) rfl
theorem q1987 : (Jvm.Cond.instanceMethod ({ cls := "ThirdWitnessModel", name := "into", desc := "(I)I" } : Jvm.MethodName)) ∈ lw_all := lw_g (lw_at lw_m8 179 rfl) rfl
theorem q1988 : (Jvm.Cond.selects "ThirdWitnessModel" ({ cls := "ThirdWitnessModel", name := "into", desc := "(I)I" } : Jvm.MethodName) ({ cls := "ThirdWitnessModel", name := "into", desc := "(I)I" } : Jvm.MethodName)) ∈ lw_all := lw_g (lw_at lw_m8 180 rfl) rfl
theorem q1989 : (Jvm.Cond.code ({ cls := "ThirdWitnessModel", name := "into", desc := "(I)I" } : Jvm.MethodName) prog_15_method_65_code (2 : Nat) (Option.some Jvm.ClassFile.FieldType.int)) ∈ lw_all := lw_g (lw_at lw_m8 181 rfl) rfl
theorem q1990 : (Jvm.Cond.methodLink "ThirdWitnessModel" (318 : Nat) ({ cls := "ThirdWitnessModel", name := "isPlace", desc := "(I)Z" } : Jvm.MethodName)) ∈ lw_all := lw_g (lw_at lw_m8 182 rfl) rfl
theorem q1991 : (Jvm.Cond.privateMethod ({ cls := "ThirdWitnessModel", name := "isPlace", desc := "(I)Z" } : Jvm.MethodName)) ∈ lw_tbl := lw_at lw_m8 183 rfl
theorem q1992 : (Jvm.Cond.instanceMethod ({ cls := "ThirdWitnessModel", name := "isPlace", desc := "(I)Z" } : Jvm.MethodName)) ∈ lw_all := lw_g (lw_at lw_m8 184 rfl) rfl
theorem q1993 : (Jvm.Cond.code ({ cls := "ThirdWitnessModel", name := "isPlace", desc := "(I)Z" } : Jvm.MethodName) prog_15_method_45_code (2 : Nat) (Option.some Jvm.ClassFile.FieldType.boolean)) ∈ lw_all := lw_g (lw_at lw_m8 185 rfl) rfl
theorem q1994 : (Jvm.Cond.methodLink "ThirdWitnessModel" (259 : Nat) ({ cls := "ThirdWitnessModel", name := "intoOf", desc := "(I)I" } : Jvm.MethodName)) ∈ lw_all := lw_g (lw_at lw_m8 186 rfl) rfl
theorem q1995 : (Jvm.Cond.privateMethod ({ cls := "ThirdWitnessModel", name := "intoOf", desc := "(I)I" } : Jvm.MethodName)) ∈ lw_tbl := lw_at lw_m8 187 rfl
theorem q1996 : (Jvm.Cond.instanceMethod ({ cls := "ThirdWitnessModel", name := "intoOf", desc := "(I)I" } : Jvm.MethodName)) ∈ lw_all := lw_g (lw_at lw_m8 188 rfl) rfl
theorem q1997 : (Jvm.Cond.code ({ cls := "ThirdWitnessModel", name := "intoOf", desc := "(I)I" } : Jvm.MethodName) prog_15_method_52_code (4 : Nat) (Option.some Jvm.ClassFile.FieldType.int)) ∈ lw_all := lw_g (lw_at lw_m8 189 rfl) rfl
theorem q1998 : (Jvm.Cond.methodLink "ThirdWitnessModel" (252 : Nat) ({ cls := "ThirdWitnessModel", name := "hasBit", desc := "(II)Z" } : Jvm.MethodName)) ∈ lw_all := lw_g (lw_at lw_m8 190 rfl) rfl
theorem q1999 : (Jvm.Cond.static ({ cls := "ThirdWitnessModel", name := "hasBit", desc := "(II)Z" } : Jvm.MethodName)) ∈ lw_all := lw_g (lw_at lw_m8 191 rfl) rfl
theorem q2000 : (Jvm.Cond.code ({ cls := "ThirdWitnessModel", name := "hasBit", desc := "(II)Z" } : Jvm.MethodName) prog_15_method_7_code (2 : Nat) (Option.some Jvm.ClassFile.FieldType.boolean)) ∈ lw_all := lw_g (lw_at lw_m8 192 rfl) rfl
theorem q2002 : (Jvm.Cond.instanceMethod ({ cls := "ThirdWitnessModel", name := "watchers", desc := "(II)I" } : Jvm.MethodName)) ∈ lw_all := lw_g (lw_at lw_m8 194 rfl) rfl
theorem q2003 : (Jvm.Cond.selects "ThirdWitnessModel" ({ cls := "ThirdWitnessModel", name := "watchers", desc := "(II)I" } : Jvm.MethodName) ({ cls := "ThirdWitnessModel", name := "watchers", desc := "(II)I" } : Jvm.MethodName)) ∈ lw_all := lw_g (lw_at lw_m8 195 rfl) rfl
theorem q2004 : (Jvm.Cond.code ({ cls := "ThirdWitnessModel", name := "watchers", desc := "(II)I" } : Jvm.MethodName) prog_15_method_66_code (4 : Nat) (Option.some Jvm.ClassFile.FieldType.int)) ∈ lw_all := lw_g (lw_at lw_m8 196 rfl) rfl
theorem q2005 : (Jvm.Cond.methodLink "ThirdWitnessModel" (283 : Nat) ({ cls := "ThirdWitnessModel", name := "watchersOf", desc := "(II)I" } : Jvm.MethodName)) ∈ lw_all := lw_g (lw_at lw_m8 197 rfl) rfl
theorem q2006 : (Jvm.Cond.privateMethod ({ cls := "ThirdWitnessModel", name := "watchersOf", desc := "(II)I" } : Jvm.MethodName)) ∈ lw_tbl := lw_at lw_m8 198 rfl
theorem q2007 : (Jvm.Cond.instanceMethod ({ cls := "ThirdWitnessModel", name := "watchersOf", desc := "(II)I" } : Jvm.MethodName)) ∈ lw_all := lw_g (lw_at lw_m8 199 rfl) rfl
theorem q2008 : (Jvm.Cond.code ({ cls := "ThirdWitnessModel", name := "watchersOf", desc := "(II)I" } : Jvm.MethodName) prog_15_method_53_code (5 : Nat) (Option.some Jvm.ClassFile.FieldType.int)) ∈ lw_all := lw_g (lw_at lw_m8 200 rfl) rfl
theorem q2010 : (Jvm.Cond.instanceMethod ({ cls := "ThirdWitnessModel", name := "eyes", desc := "(II)I" } : Jvm.MethodName)) ∈ lw_all := lw_g (lw_at lw_m8 202 rfl) rfl
theorem q2011 : (Jvm.Cond.selects "ThirdWitnessModel" ({ cls := "ThirdWitnessModel", name := "eyes", desc := "(II)I" } : Jvm.MethodName) ({ cls := "ThirdWitnessModel", name := "eyes", desc := "(II)I" } : Jvm.MethodName)) ∈ lw_all := lw_g (lw_at lw_m8 203 rfl) rfl
theorem q2012 : (Jvm.Cond.code ({ cls := "ThirdWitnessModel", name := "eyes", desc := "(II)I" } : Jvm.MethodName) prog_15_method_67_code (4 : Nat) (Option.some Jvm.ClassFile.FieldType.int)) ∈ lw_all := lw_g (lw_at lw_m8 204 rfl) rfl
theorem q2013 : (Jvm.Cond.methodLink "ThirdWitnessModel" (289 : Nat) ({ cls := "ThirdWitnessModel", name := "eyesOf", desc := "(I)I" } : Jvm.MethodName)) ∈ lw_all := lw_g (lw_at lw_m8 205 rfl) rfl
theorem q2014 : (Jvm.Cond.privateMethod ({ cls := "ThirdWitnessModel", name := "eyesOf", desc := "(I)I" } : Jvm.MethodName)) ∈ lw_tbl := lw_at lw_m8 206 rfl
theorem q2015 : (Jvm.Cond.instanceMethod ({ cls := "ThirdWitnessModel", name := "eyesOf", desc := "(I)I" } : Jvm.MethodName)) ∈ lw_all := lw_g (lw_at lw_m8 207 rfl) rfl
theorem q2016 : (Jvm.Cond.code ({ cls := "ThirdWitnessModel", name := "eyesOf", desc := "(I)I" } : Jvm.MethodName) prog_15_method_54_code (4 : Nat) (Option.some Jvm.ClassFile.FieldType.int)) ∈ lw_all := lw_g (lw_at lw_m8 208 rfl) rfl
theorem q2018 : (Jvm.Cond.instanceMethod ({ cls := "ThirdWitnessModel", name := "hidden", desc := "(I)I" } : Jvm.MethodName)) ∈ lw_all := lw_g (lw_at lw_m8 210 rfl) rfl
theorem q2019 : (Jvm.Cond.selects "ThirdWitnessModel" ({ cls := "ThirdWitnessModel", name := "hidden", desc := "(I)I" } : Jvm.MethodName) ({ cls := "ThirdWitnessModel", name := "hidden", desc := "(I)I" } : Jvm.MethodName)) ∈ lw_all := lw_g (lw_at lw_m8 211 rfl) rfl
theorem q2020 : (Jvm.Cond.code ({ cls := "ThirdWitnessModel", name := "hidden", desc := "(I)I" } : Jvm.MethodName) prog_15_method_68_code (5 : Nat) (Option.some Jvm.ClassFile.FieldType.int)) ∈ lw_all := lw_g (lw_at lw_m8 212 rfl) rfl
theorem q2022 : (Jvm.Cond.instanceMethod ({ cls := "ThirdWitnessModel", name := "square", desc := "()I" } : Jvm.MethodName)) ∈ lw_all := lw_g (lw_at lw_m8 214 rfl) rfl
theorem q2023 : (Jvm.Cond.selects "ThirdWitnessModel" ({ cls := "ThirdWitnessModel", name := "square", desc := "()I" } : Jvm.MethodName) ({ cls := "ThirdWitnessModel", name := "square", desc := "()I" } : Jvm.MethodName)) ∈ lw_all := lw_g (lw_at lw_m8 215 rfl) rfl
theorem q2024 : (Jvm.Cond.code ({ cls := "ThirdWitnessModel", name := "square", desc := "()I" } : Jvm.MethodName) prog_15_method_70_code (5 : Nat) (Option.some Jvm.ClassFile.FieldType.int)) ∈ lw_all := lw_g (lw_at lw_m8 216 rfl) rfl
theorem q2025 : (Jvm.Cond.methodLink "ThirdWitnessModel" (321 : Nat) ({ cls := "ThirdWitnessModel", name := "allEyes", desc := "(I)I" } : Jvm.MethodName)) ∈ lw_all := lw_g (lw_at lw_m8 217 rfl) rfl
theorem q2026 : (Jvm.Cond.privateMethod ({ cls := "ThirdWitnessModel", name := "allEyes", desc := "(I)I" } : Jvm.MethodName)) ∈ lw_tbl := lw_at lw_m8 218 rfl
theorem q2027 : (Jvm.Cond.instanceMethod ({ cls := "ThirdWitnessModel", name := "allEyes", desc := "(I)I" } : Jvm.MethodName)) ∈ lw_all := lw_g (lw_at lw_m8 219 rfl) rfl
theorem q2028 : (Jvm.Cond.code ({ cls := "ThirdWitnessModel", name := "allEyes", desc := "(I)I" } : Jvm.MethodName) prog_15_method_69_code (4 : Nat) (Option.some Jvm.ClassFile.FieldType.int)) ∈ lw_all := lw_g (lw_at lw_m8 220 rfl) rfl
theorem q2030 : (Jvm.Cond.instanceMethod ({ cls := "ThirdWitnessModel", name := "ends", desc := "(I)I" } : Jvm.MethodName)) ∈ lw_all := lw_g (lw_at lw_m8 222 rfl) rfl
theorem q2031 : (Jvm.Cond.selects "ThirdWitnessModel" ({ cls := "ThirdWitnessModel", name := "ends", desc := "(I)I" } : Jvm.MethodName) ({ cls := "ThirdWitnessModel", name := "ends", desc := "(I)I" } : Jvm.MethodName)) ∈ lw_all := lw_g (lw_at lw_m8 223 rfl) rfl
theorem q2032 : (Jvm.Cond.code ({ cls := "ThirdWitnessModel", name := "ends", desc := "(I)I" } : Jvm.MethodName) prog_15_method_72_code (2 : Nat) (Option.some Jvm.ClassFile.FieldType.int)) ∈ lw_all := lw_g (lw_at lw_m8 224 rfl) rfl
theorem q2033 : (Jvm.Cond.methodLink "ThirdWitnessModel" (327 : Nat) ({ cls := "ThirdWitnessModel", name := "goOve\x72", desc := "(I)Z" } : Jvm.MethodName)) ∈ lw_all := lw_g (lw_at lw_m8 225 rfl) rfl
theorem q2034 : (Jvm.Cond.privateMethod ({ cls := "ThirdWitnessModel", name := "goOve\x72", desc := "(I)Z" } : Jvm.MethodName)) ∈ lw_tbl := lw_at lw_m8 226 rfl
theorem q2035 : (Jvm.Cond.instanceMethod ({ cls := "ThirdWitnessModel", name := "goOve\x72", desc := "(I)Z" } : Jvm.MethodName)) ∈ lw_all := lw_g (lw_at lw_m8 227 rfl) rfl
theorem q2036 : (Jvm.Cond.code ({ cls := "ThirdWitnessModel", name := "goOve\x72", desc := "(I)Z" } : Jvm.MethodName) prog_15_method_71_code (2 : Nat) (Option.some Jvm.ClassFile.FieldType.boolean)) ∈ lw_all := lw_g (lw_at lw_m8 228 rfl) rfl
theorem q2037 : (Jvm.Cond.methodLink "ThirdWitnessModel" (324 : Nat) ({ cls := "ThirdWitnessModel", name := "runTold", desc := "(I)V" } : Jvm.MethodName)) ∈ lw_all := lw_g (lw_at lw_m8 229 rfl) rfl
theorem q2038 : (Jvm.Cond.privateMethod ({ cls := "ThirdWitnessModel", name := "runTold", desc := "(I)V" } : Jvm.MethodName)) ∈ lw_tbl := lw_at lw_m8 230 rfl
theorem q2039 : (Jvm.Cond.instanceMethod ({ cls := "ThirdWitnessModel", name := "runTold", desc := "(I)V" } : Jvm.MethodName)) ∈ lw_all := lw_g (lw_at lw_m8 231 rfl) rfl
theorem q2040 : (Jvm.Cond.code ({ cls := "ThirdWitnessModel", name := "runTold", desc := "(I)V" } : Jvm.MethodName) prog_15_method_57_code (2 : Nat) (Option.none : Option Jvm.ClassFile.FieldType)) ∈ lw_all := lw_g (lw_at lw_m8 232 rfl) rfl
theorem q2041 : (Jvm.Cond.methodLink "ThirdWitnessModel" (292 : Nat) ({ cls := "ThirdWitnessModel", name := "run", desc := "(IIIZ)V" } : Jvm.MethodName)) ∈ lw_all := lw_g (lw_at lw_m8 233 rfl) rfl
theorem q2042 : (Jvm.Cond.privateMethod ({ cls := "ThirdWitnessModel", name := "run", desc := "(IIIZ)V" } : Jvm.MethodName)) ∈ lw_tbl := lw_at lw_m8 234 rfl
theorem q2043 : (Jvm.Cond.instanceMethod ({ cls := "ThirdWitnessModel", name := "run", desc := "(IIIZ)V" } : Jvm.MethodName)) ∈ lw_all := lw_g (lw_at lw_m8 235 rfl) rfl
theorem q2044 : (Jvm.Cond.code ({ cls := "ThirdWitnessModel", name := "run", desc := "(IIIZ)V" } : Jvm.MethodName) prog_15_method_56_code (9 : Nat) (Option.none : Option Jvm.ClassFile.FieldType)) ∈ lw_all := lw_g (lw_at lw_m8 236 rfl) rfl
theorem q2045 : (Jvm.Cond.methodLink "ThirdWitnessModel" (286 : Nat) ({ cls := "ThirdWitnessModel", name := "comesBoy", desc := "(I)Z" } : Jvm.MethodName)) ∈ lw_all := lw_g (lw_at lw_m8 237 rfl) rfl
theorem q2046 : (Jvm.Cond.privateMethod ({ cls := "ThirdWitnessModel", name := "comesBoy", desc := "(I)Z" } : Jvm.MethodName)) ∈ lw_tbl := lw_at lw_m8 238 rfl
theorem q2047 : (Jvm.Cond.instanceMethod ({ cls := "ThirdWitnessModel", name := "comesBoy", desc := "(I)Z" } : Jvm.MethodName)) ∈ lw_all := lw_g (lw_at lw_m8 239 rfl) rfl
theorem q2048 : (Jvm.Cond.code ({ cls := "ThirdWitnessModel", name := "comesBoy", desc := "(I)Z" } : Jvm.MethodName) prog_15_method_55_code (2 : Nat) (Option.some Jvm.ClassFile.FieldType.boolean)) ∈ lw_all := lw_g (lw_at lw_m9 0 rfl) rfl
theorem q2049 : (Jvm.Cond.constant "ThirdWitnessModel" (268 : Nat) (65537 : Int32)) ∈ lw_all := lw_g (lw_at lw_m9 1 rfl) rfl
theorem q2051 : (Jvm.Cond.instanceMethod ({ cls := "ThirdWitnessModel", name := "endsAt", desc := "(I)I" } : Jvm.MethodName)) ∈ lw_all := lw_g (lw_at lw_m9 3 rfl) rfl
theorem q2052 : (Jvm.Cond.selects "ThirdWitnessModel" ({ cls := "ThirdWitnessModel", name := "endsAt", desc := "(I)I" } : Jvm.MethodName) ({ cls := "ThirdWitnessModel", name := "endsAt", desc := "(I)I" } : Jvm.MethodName)) ∈ lw_all := lw_g (lw_at lw_m9 4 rfl) rfl
theorem q2053 : (Jvm.Cond.code ({ cls := "ThirdWitnessModel", name := "endsAt", desc := "(I)I" } : Jvm.MethodName) prog_15_method_73_code (2 : Nat) (Option.some Jvm.ClassFile.FieldType.int)) ∈ lw_all := lw_g (lw_at lw_m9 5 rfl) rfl
theorem q2055 : (Jvm.Cond.instanceMethod ({ cls := "ThirdWitnessModel", name := "lead", desc := "(I)I" } : Jvm.MethodName)) ∈ lw_all := lw_g (lw_at lw_m9 7 rfl) rfl
theorem q2056 : (Jvm.Cond.selects "ThirdWitnessModel" ({ cls := "ThirdWitnessModel", name := "lead", desc := "(I)I" } : Jvm.MethodName) ({ cls := "ThirdWitnessModel", name := "lead", desc := "(I)I" } : Jvm.MethodName)) ∈ lw_all := lw_g (lw_at lw_m9 8 rfl) rfl
theorem q2057 : (Jvm.Cond.code ({ cls := "ThirdWitnessModel", name := "lead", desc := "(I)I" } : Jvm.MethodName) prog_15_method_74_code (2 : Nat) (Option.some Jvm.ClassFile.FieldType.int)) ∈ lw_all := lw_g (lw_at lw_m9 9 rfl) rfl
theorem q2059 : (Jvm.Cond.instanceMethod ({ cls := "ThirdWitnessModel", name := "seen", desc := "(I)I" } : Jvm.MethodName)) ∈ lw_all := lw_g (lw_at lw_m9 11 rfl) rfl
theorem q2060 : (Jvm.Cond.selects "ThirdWitnessModel" ({ cls := "ThirdWitnessModel", name := "seen", desc := "(I)I" } : Jvm.MethodName) ({ cls := "ThirdWitnessModel", name := "seen", desc := "(I)I" } : Jvm.MethodName)) ∈ lw_all := lw_g (lw_at lw_m9 12 rfl) rfl
theorem q2061 : (Jvm.Cond.code ({ cls := "ThirdWitnessModel", name := "seen", desc := "(I)I" } : Jvm.MethodName) prog_15_method_75_code (2 : Nat) (Option.some Jvm.ClassFile.FieldType.int)) ∈ lw_all := lw_g (lw_at lw_m9 13 rfl) rfl
theorem q2063 : (Jvm.Cond.instanceMethod ({ cls := "ThirdWitnessModel", name := "third", desc := "(I)I" } : Jvm.MethodName)) ∈ lw_all := lw_g (lw_at lw_m9 15 rfl) rfl
theorem q2064 : (Jvm.Cond.selects "ThirdWitnessModel" ({ cls := "ThirdWitnessModel", name := "third", desc := "(I)I" } : Jvm.MethodName) ({ cls := "ThirdWitnessModel", name := "third", desc := "(I)I" } : Jvm.MethodName)) ∈ lw_all := lw_g (lw_at lw_m9 16 rfl) rfl
theorem q2065 : (Jvm.Cond.code ({ cls := "ThirdWitnessModel", name := "third", desc := "(I)I" } : Jvm.MethodName) prog_15_method_76_code (3 : Nat) (Option.some Jvm.ClassFile.FieldType.int)) ∈ lw_all := lw_g (lw_at lw_m9 17 rfl) rfl
theorem q2067 : (Jvm.Cond.instanceMethod ({ cls := "ThirdWitnessModel", name := "won", desc := "()I" } : Jvm.MethodName)) ∈ lw_all := lw_g (lw_at lw_m9 19 rfl) rfl
theorem q2068 : (Jvm.Cond.selects "ThirdWitnessModel" ({ cls := "ThirdWitnessModel", name := "won", desc := "()I" } : Jvm.MethodName) ({ cls := "ThirdWitnessModel", name := "won", desc := "()I" } : Jvm.MethodName)) ∈ lw_all := lw_g (lw_at lw_m9 20 rfl) rfl
theorem q2069 : (Jvm.Cond.code ({ cls := "ThirdWitnessModel", name := "won", desc := "()I" } : Jvm.MethodName) prog_15_method_77_code (3 : Nat) (Option.some Jvm.ClassFile.FieldType.int)) ∈ lw_all := lw_g (lw_at lw_m9 21 rfl) rfl
theorem q2071 : (Jvm.Cond.instanceMethod ({ cls := "ThirdWitnessModel", name := "nurse", desc := "()I" } : Jvm.MethodName)) ∈ lw_all := lw_g (lw_at lw_m9 23 rfl) rfl
theorem q2072 : (Jvm.Cond.selects "ThirdWitnessModel" ({ cls := "ThirdWitnessModel", name := "nurse", desc := "()I" } : Jvm.MethodName) ({ cls := "ThirdWitnessModel", name := "nurse", desc := "()I" } : Jvm.MethodName)) ∈ lw_all := lw_g (lw_at lw_m9 24 rfl) rfl
theorem q2073 : (Jvm.Cond.code ({ cls := "ThirdWitnessModel", name := "nurse", desc := "()I" } : Jvm.MethodName) prog_15_method_79_code (5 : Nat) (Option.some Jvm.ClassFile.FieldType.int)) ∈ lw_all := lw_g (lw_at lw_m9 25 rfl) rfl
theorem q2074 : (Jvm.Cond.methodLink "ThirdWitnessModel" (330 : Nat) ({ cls := "ThirdWitnessModel", name := "stopped", desc := "()I" } : Jvm.MethodName)) ∈ lw_all := lw_g (lw_at lw_m9 26 rfl) rfl
theorem q2075 : (Jvm.Cond.privateMethod ({ cls := "ThirdWitnessModel", name := "stopped", desc := "()I" } : Jvm.MethodName)) ∈ lw_tbl := lw_at lw_m9 27 rfl
theorem q2076 : (Jvm.Cond.instanceMethod ({ cls := "ThirdWitnessModel", name := "stopped", desc := "()I" } : Jvm.MethodName)) ∈ lw_all := lw_g (lw_at lw_m9 28 rfl) rfl
theorem q2077 : (Jvm.Cond.code ({ cls := "ThirdWitnessModel", name := "stopped", desc := "()I" } : Jvm.MethodName) prog_15_method_78_code (3 : Nat) (Option.some Jvm.ClassFile.FieldType.int)) ∈ lw_all := lw_g (lw_at lw_m9 29 rfl) rfl
theorem q2078 : (Jvm.Cond.methodLink "ThirdWitnessModel" (333 : Nat) ({ cls := "ThirdWitnessModel", name := "ones", desc := "(I)I" } : Jvm.MethodName)) ∈ lw_all := lw_g (lw_at lw_m9 30 rfl) rfl
theorem q2079 : (Jvm.Cond.static ({ cls := "ThirdWitnessModel", name := "ones", desc := "(I)I" } : Jvm.MethodName)) ∈ lw_all := lw_g (lw_at lw_m9 31 rfl) rfl
theorem q2080 : (Jvm.Cond.code ({ cls := "ThirdWitnessModel", name := "ones", desc := "(I)I" } : Jvm.MethodName) prog_15_method_8_code (3 : Nat) (Option.some Jvm.ClassFile.FieldType.int)) ∈ lw_all := lw_g (lw_at lw_m9 32 rfl) rfl
theorem q2082 : (Jvm.Cond.instanceMethod ({ cls := "ThirdWitnessModel", name := "endsIf", desc := "(III)I" } : Jvm.MethodName)) ∈ lw_all := lw_g (lw_at lw_m9 34 rfl) rfl
theorem q2083 : (Jvm.Cond.selects "ThirdWitnessModel" ({ cls := "ThirdWitnessModel", name := "endsIf", desc := "(III)I" } : Jvm.MethodName) ({ cls := "ThirdWitnessModel", name := "endsIf", desc := "(III)I" } : Jvm.MethodName)) ∈ lw_all := lw_g (lw_at lw_m9 35 rfl) rfl
theorem q2084 : (Jvm.Cond.code ({ cls := "ThirdWitnessModel", name := "endsIf", desc := "(III)I" } : Jvm.MethodName) prog_15_method_80_code (5 : Nat) (Option.some Jvm.ClassFile.FieldType.int)) ∈ lw_all := lw_g (lw_at lw_m9 36 rfl) rfl
theorem q2086 : (Jvm.Cond.instanceMethod ({ cls := "ThirdWitnessModel", name := "cellars", desc := "(I)I" } : Jvm.MethodName)) ∈ lw_all := lw_g (lw_at lw_m9 38 rfl) rfl
theorem q2087 : (Jvm.Cond.selects "ThirdWitnessModel" ({ cls := "ThirdWitnessModel", name := "cellars", desc := "(I)I" } : Jvm.MethodName) ({ cls := "ThirdWitnessModel", name := "cellars", desc := "(I)I" } : Jvm.MethodName)) ∈ lw_all := lw_g (lw_at lw_m9 39 rfl) rfl
theorem q2088 : (Jvm.Cond.code ({ cls := "ThirdWitnessModel", name := "cellars", desc := "(I)I" } : Jvm.MethodName) prog_15_method_81_code (4 : Nat) (Option.some Jvm.ClassFile.FieldType.int)) ∈ lw_all := lw_g (lw_at lw_m9 40 rfl) rfl
theorem q2090 : (Jvm.Cond.instanceMethod ({ cls := "ThirdWitnessModel", name := "hou\x72", desc := "(I)I" } : Jvm.MethodName)) ∈ lw_all := lw_g (lw_at lw_m9 42 rfl) rfl
theorem q2091 : (Jvm.Cond.selects "ThirdWitnessModel" ({ cls := "ThirdWitnessModel", name := "hou\x72", desc := "(I)I" } : Jvm.MethodName) ({ cls := "ThirdWitnessModel", name := "hou\x72", desc := "(I)I" } : Jvm.MethodName)) ∈ lw_all := lw_g (lw_at lw_m9 43 rfl) rfl
theorem q2092 : (Jvm.Cond.code ({ cls := "ThirdWitnessModel", name := "hou\x72", desc := "(I)I" } : Jvm.MethodName) prog_15_method_82_code (3 : Nat) (Option.some Jvm.ClassFile.FieldType.int)) ∈ lw_all := lw_g (lw_at lw_m9 44 rfl) rfl
theorem q2094 : (Jvm.Cond.instanceMethod ({ cls := "ThirdWitnessModel", name := "longest", desc := "(I)I" } : Jvm.MethodName)) ∈ lw_all := lw_g (lw_at lw_m9 46 rfl) rfl
theorem q2095 : (Jvm.Cond.selects "ThirdWitnessModel" ({ cls := "ThirdWitnessModel", name := "longest", desc := "(I)I" } : Jvm.MethodName) ({ cls := "ThirdWitnessModel", name := "longest", desc := "(I)I" } : Jvm.MethodName)) ∈ lw_all := lw_g (lw_at lw_m9 47 rfl) rfl
theorem q2096 : (Jvm.Cond.code ({ cls := "ThirdWitnessModel", name := "longest", desc := "(I)I" } : Jvm.MethodName) prog_15_method_83_code (6 : Nat) (Option.some Jvm.ClassFile.FieldType.int)) ∈ lw_all := lw_g (lw_at lw_m9 48 rfl) rfl
theorem q2098 : (Jvm.Cond.instanceMethod ({ cls := "ThirdWitnessModel", name := "moo\x72", desc := "(I)I" } : Jvm.MethodName)) ∈ lw_all := lw_g (lw_at lw_m9 50 rfl) rfl
theorem q2099 : (Jvm.Cond.selects "ThirdWitnessModel" ({ cls := "ThirdWitnessModel", name := "moo\x72", desc := "(I)I" } : Jvm.MethodName) ({ cls := "ThirdWitnessModel", name := "moo\x72", desc := "(I)I" } : Jvm.MethodName)) ∈ lw_all := lw_g (lw_at lw_m9 51 rfl) rfl
theorem q2100 : (Jvm.Cond.code ({ cls := "ThirdWitnessModel", name := "moo\x72", desc := "(I)I" } : Jvm.MethodName) prog_15_method_84_code (4 : Nat) (Option.some Jvm.ClassFile.FieldType.int)) ∈ lw_all := lw_g (lw_at lw_m9 52 rfl) rfl
theorem q2102 : (Jvm.Cond.instanceMethod ({ cls := "ThirdWitnessModel", name := "bricks", desc := "(I)I" } : Jvm.MethodName)) ∈ lw_all := lw_g (lw_at lw_m9 54 rfl) rfl
theorem q2103 : (Jvm.Cond.selects "ThirdWitnessModel" ({ cls := "ThirdWitnessModel", name := "bricks", desc := "(I)I" } : Jvm.MethodName) ({ cls := "ThirdWitnessModel", name := "bricks", desc := "(I)I" } : Jvm.MethodName)) ∈ lw_all := lw_g (lw_at lw_m9 55 rfl) rfl
theorem q2104 : (Jvm.Cond.code ({ cls := "ThirdWitnessModel", name := "bricks", desc := "(I)I" } : Jvm.MethodName) prog_15_method_85_code (4 : Nat) (Option.some Jvm.ClassFile.FieldType.int)) ∈ lw_all := lw_g (lw_at lw_m9 56 rfl) rfl
theorem q2106 : (Jvm.Cond.instanceMethod ({ cls := "ThirdWitnessModel", name := "stoppers", desc := "(I)I" } : Jvm.MethodName)) ∈ lw_all := lw_g (lw_at lw_m9 58 rfl) rfl
theorem q2107 : (Jvm.Cond.selects "ThirdWitnessModel" ({ cls := "ThirdWitnessModel", name := "stoppers", desc := "(I)I" } : Jvm.MethodName) ({ cls := "ThirdWitnessModel", name := "stoppers", desc := "(I)I" } : Jvm.MethodName)) ∈ lw_all := lw_g (lw_at lw_m9 59 rfl) rfl
theorem q2108 : (Jvm.Cond.code ({ cls := "ThirdWitnessModel", name := "stoppers", desc := "(I)I" } : Jvm.MethodName) prog_15_method_89_code (2 : Nat) (Option.some Jvm.ClassFile.FieldType.int)) ∈ lw_all := lw_g (lw_at lw_m9 60 rfl) rfl
theorem q2109 : (Jvm.Cond.methodLink "ThirdWitnessModel" (342 : Nat) ({ cls := "ThirdWitnessModel", name := "stoppersOf", desc := "(I)I" } : Jvm.MethodName)) ∈ lw_all := lw_g (lw_at lw_m9 61 rfl) rfl
theorem q2110 : (Jvm.Cond.privateMethod ({ cls := "ThirdWitnessModel", name := "stoppersOf", desc := "(I)I" } : Jvm.MethodName)) ∈ lw_tbl := lw_at lw_m9 62 rfl
theorem q2111 : (Jvm.Cond.instanceMethod ({ cls := "ThirdWitnessModel", name := "stoppersOf", desc := "(I)I" } : Jvm.MethodName)) ∈ lw_all := lw_g (lw_at lw_m9 63 rfl) rfl
theorem q2112 : (Jvm.Cond.code ({ cls := "ThirdWitnessModel", name := "stoppersOf", desc := "(I)I" } : Jvm.MethodName) prog_15_method_88_code (7 : Nat) (Option.some Jvm.ClassFile.FieldType.int)) ∈ lw_all := lw_g (lw_at lw_m9 64 rfl) rfl
theorem q2113 : (Jvm.Cond.methodLink "ThirdWitnessModel" (336 : Nat) ({ cls := "ThirdWitnessModel", name := "canHire", desc := "(I)Z" } : Jvm.MethodName)) ∈ lw_all := lw_g (lw_at lw_m9 65 rfl) rfl
theorem q2114 : (Jvm.Cond.privateMethod ({ cls := "ThirdWitnessModel", name := "canHire", desc := "(I)Z" } : Jvm.MethodName)) ∈ lw_tbl := lw_at lw_m9 66 rfl
theorem q2115 : (Jvm.Cond.instanceMethod ({ cls := "ThirdWitnessModel", name := "canHire", desc := "(I)Z" } : Jvm.MethodName)) ∈ lw_all := lw_g (lw_at lw_m9 67 rfl) rfl
theorem q2116 : (Jvm.Cond.code ({ cls := "ThirdWitnessModel", name := "canHire", desc := "(I)Z" } : Jvm.MethodName) prog_15_method_86_code (2 : Nat) (Option.some Jvm.ClassFile.FieldType.boolean)) ∈ lw_all := lw_g (lw_at lw_m9 68 rfl) rfl
theorem q2117 : (Jvm.Cond.methodLink "ThirdWitnessModel" (339 : Nat) ({ cls := "ThirdWitnessModel", name := "priceOf", desc := "(I)I" } : Jvm.MethodName)) ∈ lw_all := lw_g (lw_at lw_m9 69 rfl) rfl
theorem q2118 : (Jvm.Cond.privateMethod ({ cls := "ThirdWitnessModel", name := "priceOf", desc := "(I)I" } : Jvm.MethodName)) ∈ lw_tbl := lw_at lw_m9 70 rfl
theorem q2119 : (Jvm.Cond.instanceMethod ({ cls := "ThirdWitnessModel", name := "priceOf", desc := "(I)I" } : Jvm.MethodName)) ∈ lw_all := lw_g (lw_at lw_m9 71 rfl) rfl
theorem q2120 : (Jvm.Cond.code ({ cls := "ThirdWitnessModel", name := "priceOf", desc := "(I)I" } : Jvm.MethodName) prog_15_method_87_code (4 : Nat) (Option.some Jvm.ClassFile.FieldType.int)) ∈ lw_all := lw_g (lw_at lw_m9 72 rfl) rfl
theorem q2122 : (Jvm.Cond.instanceMethod ({ cls := "ThirdWitnessModel", name := "price", desc := "(I)I" } : Jvm.MethodName)) ∈ lw_all := lw_g (lw_at lw_m9 74 rfl) rfl
theorem q2123 : (Jvm.Cond.selects "ThirdWitnessModel" ({ cls := "ThirdWitnessModel", name := "price", desc := "(I)I" } : Jvm.MethodName) ({ cls := "ThirdWitnessModel", name := "price", desc := "(I)I" } : Jvm.MethodName)) ∈ lw_all := lw_g (lw_at lw_m9 75 rfl) rfl
theorem q2124 : (Jvm.Cond.code ({ cls := "ThirdWitnessModel", name := "price", desc := "(I)I" } : Jvm.MethodName) prog_15_method_90_code (3 : Nat) (Option.some Jvm.ClassFile.FieldType.int)) ∈ lw_all := lw_g (lw_at lw_m9 76 rfl) rfl
theorem q2126 : (Jvm.Cond.instanceMethod ({ cls := "ThirdWitnessModel", name := "stoppedIf", desc := "(II)I" } : Jvm.MethodName)) ∈ lw_all := lw_g (lw_at lw_m9 78 rfl) rfl
theorem q2127 : (Jvm.Cond.selects "ThirdWitnessModel" ({ cls := "ThirdWitnessModel", name := "stoppedIf", desc := "(II)I" } : Jvm.MethodName) ({ cls := "ThirdWitnessModel", name := "stoppedIf", desc := "(II)I" } : Jvm.MethodName)) ∈ lw_all := lw_g (lw_at lw_m9 79 rfl) rfl
theorem q2128 : (Jvm.Cond.code ({ cls := "ThirdWitnessModel", name := "stoppedIf", desc := "(II)I" } : Jvm.MethodName) prog_15_method_92_code (3 : Nat) (Option.some Jvm.ClassFile.FieldType.int)) ∈ lw_all := lw_g (lw_at lw_m9 80 rfl) rfl
theorem q2129 : (Jvm.Cond.methodLink "ThirdWitnessModel" (345 : Nat) ({ cls := "ThirdWitnessModel", name := "stoppedWith", desc := "(II)I" } : Jvm.MethodName)) ∈ lw_all := lw_g (lw_at lw_m9 81 rfl) rfl
theorem q2130 : (Jvm.Cond.privateMethod ({ cls := "ThirdWitnessModel", name := "stoppedWith", desc := "(II)I" } : Jvm.MethodName)) ∈ lw_tbl := lw_at lw_m9 82 rfl
theorem q2131 : (Jvm.Cond.instanceMethod ({ cls := "ThirdWitnessModel", name := "stoppedWith", desc := "(II)I" } : Jvm.MethodName)) ∈ lw_all := lw_g (lw_at lw_m9 83 rfl) rfl
theorem q2132 : (Jvm.Cond.code ({ cls := "ThirdWitnessModel", name := "stoppedWith", desc := "(II)I" } : Jvm.MethodName) prog_15_method_91_code (3 : Nat) (Option.some Jvm.ClassFile.FieldType.int)) ∈ lw_all := lw_g (lw_at lw_m9 84 rfl) rfl
theorem q2134 : (Jvm.Cond.instanceMethod ({ cls := "ThirdWitnessModel", name := "bestHire", desc := "()I" } : Jvm.MethodName)) ∈ lw_all := lw_g (lw_at lw_m9 86 rfl) rfl
theorem q2135 : (Jvm.Cond.selects "ThirdWitnessModel" ({ cls := "ThirdWitnessModel", name := "bestHire", desc := "()I" } : Jvm.MethodName) ({ cls := "ThirdWitnessModel", name := "bestHire", desc := "()I" } : Jvm.MethodName)) ∈ lw_all := lw_g (lw_at lw_m9 87 rfl) rfl
theorem q2136 : (Jvm.Cond.code ({ cls := "ThirdWitnessModel", name := "bestHire", desc := "()I" } : Jvm.MethodName) prog_15_method_93_code (6 : Nat) (Option.some Jvm.ClassFile.FieldType.int)) ∈ lw_all := lw_g (lw_at lw_m9 88 rfl) rfl
theorem q2138 : (Jvm.Cond.instanceMethod ({ cls := "ThirdWitnessModel", name := "fits", desc := "()I" } : Jvm.MethodName)) ∈ lw_all := lw_g (lw_at lw_m9 90 rfl) rfl
theorem q2139 : (Jvm.Cond.selects "ThirdWitnessModel" ({ cls := "ThirdWitnessModel", name := "fits", desc := "()I" } : Jvm.MethodName) ({ cls := "ThirdWitnessModel", name := "fits", desc := "()I" } : Jvm.MethodName)) ∈ lw_all := lw_g (lw_at lw_m9 91 rfl) rfl
theorem q2140 : (Jvm.Cond.code ({ cls := "ThirdWitnessModel", name := "fits", desc := "()I" } : Jvm.MethodName) prog_15_method_96_code (1 : Nat) (Option.some Jvm.ClassFile.FieldType.int)) ∈ lw_all := lw_g (lw_at lw_m9 92 rfl) rfl
theorem q2141 : (Jvm.Cond.methodLink "ThirdWitnessModel" (360 : Nat) ({ cls := "ThirdWitnessModel", name := "seekSets", desc := "(I)I" } : Jvm.MethodName)) ∈ lw_all := lw_g (lw_at lw_m9 93 rfl) rfl
theorem q2142 : (Jvm.Cond.privateMethod ({ cls := "ThirdWitnessModel", name := "seekSets", desc := "(I)I" } : Jvm.MethodName)) ∈ lw_tbl := lw_at lw_m9 94 rfl
theorem q2143 : (Jvm.Cond.instanceMethod ({ cls := "ThirdWitnessModel", name := "seekSets", desc := "(I)I" } : Jvm.MethodName)) ∈ lw_all := lw_g (lw_at lw_m9 95 rfl) rfl
theorem q2144 : (Jvm.Cond.code ({ cls := "ThirdWitnessModel", name := "seekSets", desc := "(I)I" } : Jvm.MethodName) prog_15_method_95_code (5 : Nat) (Option.some Jvm.ClassFile.FieldType.int)) ∈ lw_all := lw_g (lw_at lw_m9 96 rfl) rfl
theorem q2145 : (Jvm.Cond.methodLink "ThirdWitnessModel" (357 : Nat) ({ cls := "ThirdWitnessModel", name := "wrongBy", desc := "(I)I" } : Jvm.MethodName)) ∈ lw_all := lw_g (lw_at lw_m9 97 rfl) rfl
theorem q2146 : (Jvm.Cond.privateMethod ({ cls := "ThirdWitnessModel", name := "wrongBy", desc := "(I)I" } : Jvm.MethodName)) ∈ lw_tbl := lw_at lw_m9 98 rfl
theorem q2147 : (Jvm.Cond.instanceMethod ({ cls := "ThirdWitnessModel", name := "wrongBy", desc := "(I)I" } : Jvm.MethodName)) ∈ lw_all := lw_g (lw_at lw_m9 99 rfl) rfl
theorem q2148 : (Jvm.Cond.code ({ cls := "ThirdWitnessModel", name := "wrongBy", desc := "(I)I" } : Jvm.MethodName) prog_15_method_94_code (3 : Nat) (Option.some Jvm.ClassFile.FieldType.int)) ∈ lw_all := lw_g (lw_at lw_m9 100 rfl) rfl
theorem q2150 : (Jvm.Cond.instanceMethod ({ cls := "ThirdWitnessModel", name := "fitAt", desc := "(I)I" } : Jvm.MethodName)) ∈ lw_all := lw_g (lw_at lw_m9 102 rfl) rfl
theorem q2151 : (Jvm.Cond.selects "ThirdWitnessModel" ({ cls := "ThirdWitnessModel", name := "fitAt", desc := "(I)I" } : Jvm.MethodName) ({ cls := "ThirdWitnessModel", name := "fitAt", desc := "(I)I" } : Jvm.MethodName)) ∈ lw_all := lw_g (lw_at lw_m9 103 rfl) rfl
theorem q2152 : (Jvm.Cond.code ({ cls := "ThirdWitnessModel", name := "fitAt", desc := "(I)I" } : Jvm.MethodName) prog_15_method_97_code (3 : Nat) (Option.some Jvm.ClassFile.FieldType.int)) ∈ lw_all := lw_g (lw_at lw_m9 104 rfl) rfl
theorem q2154 : (Jvm.Cond.instanceMethod ({ cls := "ThirdWitnessModel", name := "could", desc := "()I" } : Jvm.MethodName)) ∈ lw_all := lw_g (lw_at lw_m9 106 rfl) rfl
theorem q2155 : (Jvm.Cond.selects "ThirdWitnessModel" ({ cls := "ThirdWitnessModel", name := "could", desc := "()I" } : Jvm.MethodName) ({ cls := "ThirdWitnessModel", name := "could", desc := "()I" } : Jvm.MethodName)) ∈ lw_all := lw_g (lw_at lw_m9 107 rfl) rfl
theorem q2156 : (Jvm.Cond.code ({ cls := "ThirdWitnessModel", name := "could", desc := "()I" } : Jvm.MethodName) prog_15_method_98_code (1 : Nat) (Option.some Jvm.ClassFile.FieldType.int)) ∈ lw_all := lw_g (lw_at lw_m9 108 rfl) rfl
theorem q2158 : (Jvm.Cond.instanceMethod ({ cls := "ThirdWitnessModel", name := "surely", desc := "()I" } : Jvm.MethodName)) ∈ lw_all := lw_g (lw_at lw_m9 110 rfl) rfl
theorem q2159 : (Jvm.Cond.selects "ThirdWitnessModel" ({ cls := "ThirdWitnessModel", name := "surely", desc := "()I" } : Jvm.MethodName) ({ cls := "ThirdWitnessModel", name := "surely", desc := "()I" } : Jvm.MethodName)) ∈ lw_all := lw_g (lw_at lw_m9 111 rfl) rfl
theorem q2160 : (Jvm.Cond.code ({ cls := "ThirdWitnessModel", name := "surely", desc := "()I" } : Jvm.MethodName) prog_15_method_99_code (1 : Nat) (Option.some Jvm.ClassFile.FieldType.int)) ∈ lw_all := lw_g (lw_at lw_m9 112 rfl) rfl
theorem q2162 : (Jvm.Cond.instanceMethod ({ cls := "ThirdWitnessModel", name := "ask", desc := "()I" } : Jvm.MethodName)) ∈ lw_all := lw_g (lw_at lw_m9 114 rfl) rfl
theorem q2163 : (Jvm.Cond.selects "ThirdWitnessModel" ({ cls := "ThirdWitnessModel", name := "ask", desc := "()I" } : Jvm.MethodName) ({ cls := "ThirdWitnessModel", name := "ask", desc := "()I" } : Jvm.MethodName)) ∈ lw_all := lw_g (lw_at lw_m9 115 rfl) rfl
theorem q2164 : (Jvm.Cond.code ({ cls := "ThirdWitnessModel", name := "ask", desc := "()I" } : Jvm.MethodName) prog_15_method_102_code (1 : Nat) (Option.some Jvm.ClassFile.FieldType.int)) ∈ lw_all := lw_g (lw_at lw_m9 116 rfl) rfl
theorem q2165 : (Jvm.Cond.methodLink "ThirdWitnessModel" (366 : Nat) ({ cls := "ThirdWitnessModel", name := "askOf", desc := "()I" } : Jvm.MethodName)) ∈ lw_all := lw_g (lw_at lw_m9 117 rfl) rfl
theorem q2166 : (Jvm.Cond.privateMethod ({ cls := "ThirdWitnessModel", name := "askOf", desc := "()I" } : Jvm.MethodName)) ∈ lw_tbl := lw_at lw_m9 118 rfl
theorem q2167 : (Jvm.Cond.instanceMethod ({ cls := "ThirdWitnessModel", name := "askOf", desc := "()I" } : Jvm.MethodName)) ∈ lw_all := lw_g (lw_at lw_m9 119 rfl) rfl
theorem q2168 : (Jvm.Cond.code ({ cls := "ThirdWitnessModel", name := "askOf", desc := "()I" } : Jvm.MethodName) prog_15_method_101_code (3 : Nat) (Option.some Jvm.ClassFile.FieldType.int)) ∈ lw_all := lw_g (lw_at lw_m9 120 rfl) rfl
theorem q2169 : (Jvm.Cond.methodLink "ThirdWitnessModel" (363 : Nat) ({ cls := "ThirdWitnessModel", name := "leavesOf", desc := "(I)I" } : Jvm.MethodName)) ∈ lw_all := lw_g (lw_at lw_m9 121 rfl) rfl
theorem q2170 : (Jvm.Cond.privateMethod ({ cls := "ThirdWitnessModel", name := "leavesOf", desc := "(I)I" } : Jvm.MethodName)) ∈ lw_tbl := lw_at lw_m9 122 rfl
theorem q2171 : (Jvm.Cond.instanceMethod ({ cls := "ThirdWitnessModel", name := "leavesOf", desc := "(I)I" } : Jvm.MethodName)) ∈ lw_all := lw_g (lw_at lw_m9 123 rfl) rfl
theorem q2172 : (Jvm.Cond.code ({ cls := "ThirdWitnessModel", name := "leavesOf", desc := "(I)I" } : Jvm.MethodName) prog_15_method_100_code (2 : Nat) (Option.some Jvm.ClassFile.FieldType.int)) ∈ lw_all := lw_g (lw_at lw_m9 124 rfl) rfl
theorem q2174 : (Jvm.Cond.instanceMethod ({ cls := "ThirdWitnessModel", name := "askLeaves", desc := "()I" } : Jvm.MethodName)) ∈ lw_all := lw_g (lw_at lw_m9 126 rfl) rfl
theorem q2175 : (Jvm.Cond.selects "ThirdWitnessModel" ({ cls := "ThirdWitnessModel", name := "askLeaves", desc := "()I" } : Jvm.MethodName) ({ cls := "ThirdWitnessModel", name := "askLeaves", desc := "()I" } : Jvm.MethodName)) ∈ lw_all := lw_g (lw_at lw_m9 127 rfl) rfl
theorem q2176 : (Jvm.Cond.code ({ cls := "ThirdWitnessModel", name := "askLeaves", desc := "()I" } : Jvm.MethodName) prog_15_method_103_code (2 : Nat) (Option.some Jvm.ClassFile.FieldType.int)) ∈ lw_all := lw_g (lw_at lw_m9 128 rfl) rfl
theorem q2178 : (Jvm.Cond.instanceMethod ({ cls := "ThirdWitnessModel", name := "judge", desc := "()I" } : Jvm.MethodName)) ∈ lw_all := lw_g (lw_at lw_m9 130 rfl) rfl
theorem q2179 : (Jvm.Cond.selects "ThirdWitnessModel" ({ cls := "ThirdWitnessModel", name := "judge", desc := "()I" } : Jvm.MethodName) ({ cls := "ThirdWitnessModel", name := "judge", desc := "()I" } : Jvm.MethodName)) ∈ lw_all := lw_g (lw_at lw_m9 131 rfl) rfl
theorem q2180 : (Jvm.Cond.code ({ cls := "ThirdWitnessModel", name := "judge", desc := "()I" } : Jvm.MethodName) prog_15_method_104_code (1 : Nat) (Option.some Jvm.ClassFile.FieldType.int)) ∈ lw_all := lw_g (lw_at lw_m9 132 rfl) rfl
theorem q2182 : (Jvm.Cond.instanceMethod ({ cls := "ThirdWitnessModel", name := "swings", desc := "(IIIZ)J" } : Jvm.MethodName)) ∈ lw_all := lw_g (lw_at lw_m9 134 rfl) rfl
theorem q2183 : (Jvm.Cond.selects "ThirdWitnessModel" ({ cls := "ThirdWitnessModel", name := "swings", desc := "(IIIZ)J" } : Jvm.MethodName) ({ cls := "ThirdWitnessModel", name := "swings", desc := "(IIIZ)J" } : Jvm.MethodName)) ∈ lw_all := lw_g (lw_at lw_m9 135 rfl) rfl
theorem q2184 : (Jvm.Cond.code ({ cls := "ThirdWitnessModel", name := "swings", desc := "(IIIZ)J" } : Jvm.MethodName) prog_15_method_105_code (11 : Nat) (Option.some Jvm.ClassFile.FieldType.long)) ∈ lw_all := lw_g (lw_at lw_m9 136 rfl) rfl
theorem q2185 : (Jvm.Cond.methodLink "ThirdWitnessModel" (369 : Nat) ({ cls := "ThirdWitnessModel", name := "lowest", desc := "(JJZ)J" } : Jvm.MethodName)) ∈ lw_all := lw_g (lw_at lw_m9 137 rfl) rfl
theorem q2186 : (Jvm.Cond.static ({ cls := "ThirdWitnessModel", name := "lowest", desc := "(JJZ)J" } : Jvm.MethodName)) ∈ lw_all := lw_g (lw_at lw_m9 138 rfl) rfl
theorem q2187 : (Jvm.Cond.code ({ cls := "ThirdWitnessModel", name := "lowest", desc := "(JJZ)J" } : Jvm.MethodName) prog_15_method_10_code (11 : Nat) (Option.some Jvm.ClassFile.FieldType.long)) ∈ lw_all := lw_g (lw_at lw_m9 139 rfl) rfl
theorem q2189 : (Jvm.Cond.instanceMethod ({ cls := "ThirdWitnessModel", name := "three", desc := "(II)I" } : Jvm.MethodName)) ∈ lw_all := lw_g (lw_at lw_m9 141 rfl) rfl
theorem q2190 : (Jvm.Cond.selects "ThirdWitnessModel" ({ cls := "ThirdWitnessModel", name := "three", desc := "(II)I" } : Jvm.MethodName) ({ cls := "ThirdWitnessModel", name := "three", desc := "(II)I" } : Jvm.MethodName)) ∈ lw_all := lw_g (lw_at lw_m9 142 rfl) rfl
theorem q2191 : (Jvm.Cond.code ({ cls := "ThirdWitnessModel", name := "three", desc := "(II)I" } : Jvm.MethodName) prog_15_method_106_code (7 : Nat) (Option.some Jvm.ClassFile.FieldType.int)) ∈ lw_all := lw_g (lw_at lw_m9 143 rfl) rfl
theorem q2193 : (Jvm.Cond.instanceMethod ({ cls := "ThirdWitnessModel", name := "says", desc := "(IZZZ)I" } : Jvm.MethodName)) ∈ lw_all := lw_g (lw_at lw_m9 145 rfl) rfl
theorem q2194 : (Jvm.Cond.selects "ThirdWitnessModel" ({ cls := "ThirdWitnessModel", name := "says", desc := "(IZZZ)I" } : Jvm.MethodName) ({ cls := "ThirdWitnessModel", name := "says", desc := "(IZZZ)I" } : Jvm.MethodName)) ∈ lw_all := lw_g (lw_at lw_m9 146 rfl) rfl
theorem q2195 : (Jvm.Cond.code ({ cls := "ThirdWitnessModel", name := "says", desc := "(IZZZ)I" } : Jvm.MethodName) prog_15_method_108_code (6 : Nat) (Option.some Jvm.ClassFile.FieldType.int)) ∈ lw_all := lw_g (lw_at lw_m9 147 rfl) rfl
theorem q2196 : (Jvm.Cond.methodLink "ThirdWitnessModel" (373 : Nat) ({ cls := "ThirdWitnessModel", name := "saysOf", desc := "(IZZ)I" } : Jvm.MethodName)) ∈ lw_all := lw_g (lw_at lw_m9 148 rfl) rfl
theorem q2197 : (Jvm.Cond.static ({ cls := "ThirdWitnessModel", name := "saysOf", desc := "(IZZ)I" } : Jvm.MethodName)) ∈ lw_all := lw_g (lw_at lw_m9 149 rfl) rfl
theorem q2198 : (Jvm.Cond.code ({ cls := "ThirdWitnessModel", name := "saysOf", desc := "(IZZ)I" } : Jvm.MethodName) prog_15_method_107_code (3 : Nat) (Option.some Jvm.ClassFile.FieldType.int)) ∈ lw_all := lw_g (lw_at lw_m9 150 rfl) rfl
theorem q2200 : (Jvm.Cond.instanceMethod ({ cls := "ThirdWitnessModel", name := "rests", desc := "(I)I" } : Jvm.MethodName)) ∈ lw_all := lw_g (lw_at lw_m9 152 rfl) rfl
theorem q2201 : (Jvm.Cond.selects "ThirdWitnessModel" ({ cls := "ThirdWitnessModel", name := "rests", desc := "(I)I" } : Jvm.MethodName) ({ cls := "ThirdWitnessModel", name := "rests", desc := "(I)I" } : Jvm.MethodName)) ∈ lw_all := lw_g (lw_at lw_m9 153 rfl) rfl
theorem q2202 : (Jvm.Cond.code ({ cls := "ThirdWitnessModel", name := "rests", desc := "(I)I" } : Jvm.MethodName) prog_15_method_110_code (3 : Nat) (Option.some Jvm.ClassFile.FieldType.int)) ∈ lw_all := lw_g (lw_at lw_m9 154 rfl) rfl
theorem q2203 : (Jvm.Cond.methodLink "ThirdWitnessModel" (380 : Nat) ({ cls := "ThirdWitnessModel", name := "seekRests", desc := "(I)I" } : Jvm.MethodName)) ∈ lw_all := lw_g (lw_at lw_m9 155 rfl) rfl
theorem q2204 : (Jvm.Cond.privateMethod ({ cls := "ThirdWitnessModel", name := "seekRests", desc := "(I)I" } : Jvm.MethodName)) ∈ lw_tbl := lw_at lw_m9 156 rfl
theorem q2205 : (Jvm.Cond.instanceMethod ({ cls := "ThirdWitnessModel", name := "seekRests", desc := "(I)I" } : Jvm.MethodName)) ∈ lw_all := lw_g (lw_at lw_m9 157 rfl) rfl
theorem q2206 : (Jvm.Cond.code ({ cls := "ThirdWitnessModel", name := "seekRests", desc := "(I)I" } : Jvm.MethodName) prog_15_method_109_code (6 : Nat) (Option.some Jvm.ClassFile.FieldType.int)) ∈ lw_all := lw_g (lw_at lw_m9 158 rfl) rfl
theorem q2208 : (Jvm.Cond.instanceMethod ({ cls := "ThirdWitnessModel", name := "rest", desc := "(I)I" } : Jvm.MethodName)) ∈ lw_all := lw_g (lw_at lw_m9 160 rfl) rfl
theorem q2209 : (Jvm.Cond.selects "ThirdWitnessModel" ({ cls := "ThirdWitnessModel", name := "rest", desc := "(I)I" } : Jvm.MethodName) ({ cls := "ThirdWitnessModel", name := "rest", desc := "(I)I" } : Jvm.MethodName)) ∈ lw_all := lw_g (lw_at lw_m9 161 rfl) rfl
theorem q2210 : (Jvm.Cond.code ({ cls := "ThirdWitnessModel", name := "rest", desc := "(I)I" } : Jvm.MethodName) prog_15_method_111_code (3 : Nat) (Option.some Jvm.ClassFile.FieldType.int)) ∈ lw_all := lw_g (lw_at lw_m9 162 rfl) rfl
theorem q2212 : (Jvm.Cond.instanceMethod ({ cls := "ThirdWitnessModel", name := "lasts", desc := "(IIZ)J" } : Jvm.MethodName)) ∈ lw_all := lw_g (lw_at lw_m9 164 rfl) rfl
theorem q2213 : (Jvm.Cond.selects "ThirdWitnessModel" ({ cls := "ThirdWitnessModel", name := "lasts", desc := "(IIZ)J" } : Jvm.MethodName) ({ cls := "ThirdWitnessModel", name := "lasts", desc := "(IIZ)J" } : Jvm.MethodName)) ∈ lw_all := lw_g (lw_at lw_m9 165 rfl) rfl
theorem q2214 : (Jvm.Cond.code ({ cls := "ThirdWitnessModel", name := "lasts", desc := "(IIZ)J" } : Jvm.MethodName) prog_15_method_113_code (13 : Nat) (Option.some Jvm.ClassFile.FieldType.long)) ∈ lw_all := lw_g (lw_at lw_m9 166 rfl) rfl
theorem q2215 : (Jvm.Cond.methodLink "ThirdWitnessModel" (383 : Nat) ({ cls := "ThirdWitnessModel", name := "runWithBoys", desc := "(I)V" } : Jvm.MethodName)) ∈ lw_all := lw_g (lw_at lw_m9 167 rfl) rfl
theorem q2216 : (Jvm.Cond.privateMethod ({ cls := "ThirdWitnessModel", name := "runWithBoys", desc := "(I)V" } : Jvm.MethodName)) ∈ lw_tbl := lw_at lw_m9 168 rfl
theorem q2217 : (Jvm.Cond.instanceMethod ({ cls := "ThirdWitnessModel", name := "runWithBoys", desc := "(I)V" } : Jvm.MethodName)) ∈ lw_all := lw_g (lw_at lw_m9 169 rfl) rfl
theorem q2218 : (Jvm.Cond.code ({ cls := "ThirdWitnessModel", name := "runWithBoys", desc := "(I)V" } : Jvm.MethodName) prog_15_method_112_code (2 : Nat) (Option.none : Option Jvm.ClassFile.FieldType)) ∈ lw_all := lw_g (lw_at lw_m9 170 rfl) rfl
theorem q2220 : (Jvm.Cond.instanceMethod ({ cls := "ThirdWitnessModel", name := "endsBy", desc := "(II)I" } : Jvm.MethodName)) ∈ lw_all := lw_g (lw_at lw_m9 172 rfl) rfl
theorem q2221 : (Jvm.Cond.selects "ThirdWitnessModel" ({ cls := "ThirdWitnessModel", name := "endsBy", desc := "(II)I" } : Jvm.MethodName) ({ cls := "ThirdWitnessModel", name := "endsBy", desc := "(II)I" } : Jvm.MethodName)) ∈ lw_all := lw_g (lw_at lw_m9 173 rfl) rfl
theorem q2222 : (Jvm.Cond.code ({ cls := "ThirdWitnessModel", name := "endsBy", desc := "(II)I" } : Jvm.MethodName) prog_15_method_115_code (4 : Nat) (Option.some Jvm.ClassFile.FieldType.int)) ∈ lw_all := lw_g (lw_at lw_m9 174 rfl) rfl
theorem q2223 : (Jvm.Cond.methodLink "ThirdWitnessModel" (387 : Nat) ({ cls := "ThirdWitnessModel", name := "drawWhy", desc := "(IIZ)I" } : Jvm.MethodName)) ∈ lw_all := lw_g (lw_at lw_m9 175 rfl) rfl
theorem q2224 : (Jvm.Cond.privateMethod ({ cls := "ThirdWitnessModel", name := "drawWhy", desc := "(IIZ)I" } : Jvm.MethodName)) ∈ lw_tbl := lw_at lw_m9 176 rfl
theorem q2225 : (Jvm.Cond.instanceMethod ({ cls := "ThirdWitnessModel", name := "drawWhy", desc := "(IIZ)I" } : Jvm.MethodName)) ∈ lw_all := lw_g (lw_at lw_m9 177 rfl) rfl
theorem q2226 : (Jvm.Cond.code ({ cls := "ThirdWitnessModel", name := "drawWhy", desc := "(IIZ)I" } : Jvm.MethodName) prog_15_method_114_code (5 : Nat) (Option.some Jvm.ClassFile.FieldType.int)) ∈ lw_all := lw_g (lw_at lw_m9 178 rfl) rfl
theorem q2227 : (Jvm.Cond.constant "ThirdWitnessModel" (386 : Nat) (65536 : Int32)) ∈ lw_all := lw_g (lw_at lw_m9 179 rfl) rfl
theorem q2229 : (Jvm.Cond.instanceMethod ({ cls := "ThirdWitnessModel", name := "endsByAt", desc := "(II)I" } : Jvm.MethodName)) ∈ lw_all := lw_g (lw_at lw_m9 181 rfl) rfl
theorem q2230 : (Jvm.Cond.selects "ThirdWitnessModel" ({ cls := "ThirdWitnessModel", name := "endsByAt", desc := "(II)I" } : Jvm.MethodName) ({ cls := "ThirdWitnessModel", name := "endsByAt", desc := "(II)I" } : Jvm.MethodName)) ∈ lw_all := lw_g (lw_at lw_m9 182 rfl) rfl
theorem q2231 : (Jvm.Cond.code ({ cls := "ThirdWitnessModel", name := "endsByAt", desc := "(II)I" } : Jvm.MethodName) prog_15_method_116_code (4 : Nat) (Option.some Jvm.ClassFile.FieldType.int)) ∈ lw_all := lw_g (lw_at lw_m9 183 rfl) rfl
theorem q2233 : (Jvm.Cond.instanceMethod ({ cls := "ThirdWitnessModel", name := "wins", desc := "(III)I" } : Jvm.MethodName)) ∈ lw_all := lw_g (lw_at lw_m9 185 rfl) rfl
theorem q2234 : (Jvm.Cond.selects "ThirdWitnessModel" ({ cls := "ThirdWitnessModel", name := "wins", desc := "(III)I" } : Jvm.MethodName) ({ cls := "ThirdWitnessModel", name := "wins", desc := "(III)I" } : Jvm.MethodName)) ∈ lw_all := lw_g (lw_at lw_m9 186 rfl) rfl
theorem q2235 : (Jvm.Cond.code ({ cls := "ThirdWitnessModel", name := "wins", desc := "(III)I" } : Jvm.MethodName) prog_15_method_117_code (7 : Nat) (Option.some Jvm.ClassFile.FieldType.int)) ∈ lw_all := lw_g (lw_at lw_m9 187 rfl) rfl
theorem q2237 : (Jvm.Cond.instanceMethod ({ cls := "ThirdWitnessModel", name := "brick", desc := "(I)Z" } : Jvm.MethodName)) ∈ lw_all := lw_g (lw_at lw_m9 189 rfl) rfl
theorem q2238 : (Jvm.Cond.selects "ThirdWitnessModel" ({ cls := "ThirdWitnessModel", name := "brick", desc := "(I)Z" } : Jvm.MethodName) ({ cls := "ThirdWitnessModel", name := "brick", desc := "(I)Z" } : Jvm.MethodName)) ∈ lw_all := lw_g (lw_at lw_m9 190 rfl) rfl
theorem q2239 : (Jvm.Cond.code ({ cls := "ThirdWitnessModel", name := "brick", desc := "(I)Z" } : Jvm.MethodName) prog_15_method_120_code (2 : Nat) (Option.some Jvm.ClassFile.FieldType.boolean)) ∈ lw_all := lw_g (lw_at lw_m9 191 rfl) rfl
theorem q2240 : (Jvm.Cond.methodLink "ThirdWitnessModel" (397 : Nat) ({ cls := "ThirdWitnessModel", name := "becomes", desc := "(IZ)Z" } : Jvm.MethodName)) ∈ lw_all := lw_g (lw_at lw_m9 192 rfl) rfl
theorem q2241 : (Jvm.Cond.privateMethod ({ cls := "ThirdWitnessModel", name := "becomes", desc := "(IZ)Z" } : Jvm.MethodName)) ∈ lw_tbl := lw_at lw_m9 193 rfl
theorem q2242 : (Jvm.Cond.instanceMethod ({ cls := "ThirdWitnessModel", name := "becomes", desc := "(IZ)Z" } : Jvm.MethodName)) ∈ lw_all := lw_g (lw_at lw_m9 194 rfl) rfl
theorem q2243 : (Jvm.Cond.code ({ cls := "ThirdWitnessModel", name := "becomes", desc := "(IZ)Z" } : Jvm.MethodName) prog_15_method_119_code (3 : Nat) (Option.some Jvm.ClassFile.FieldType.boolean)) ∈ lw_all := lw_g (lw_at lw_m9 195 rfl) rfl
theorem q2244 : (Jvm.Cond.methodLink "ThirdWitnessModel" (391 : Nat) ({ cls := "ThirdWitnessModel", name := "isNot", desc := "(I)Z" } : Jvm.MethodName)) ∈ lw_all := lw_g (lw_at lw_m9 196 rfl) rfl
theorem q2245 : (Jvm.Cond.privateMethod ({ cls := "ThirdWitnessModel", name := "isNot", desc := "(I)Z" } : Jvm.MethodName)) ∈ lw_tbl := lw_at lw_m9 197 rfl
theorem q2246 : (Jvm.Cond.instanceMethod ({ cls := "ThirdWitnessModel", name := "isNot", desc := "(I)Z" } : Jvm.MethodName)) ∈ lw_all := lw_g (lw_at lw_m9 198 rfl) rfl
theorem q2247 : (Jvm.Cond.code ({ cls := "ThirdWitnessModel", name := "isNot", desc := "(I)Z" } : Jvm.MethodName) prog_15_method_5_code (2 : Nat) (Option.some Jvm.ClassFile.FieldType.boolean)) ∈ lw_all := lw_g (lw_at lw_m9 199 rfl) rfl
theorem q2248 : (Jvm.Cond.methodLink "ThirdWitnessModel" (394 : Nat) ({ cls := "ThirdWitnessModel", name := "note", desc := "()V" } : Jvm.MethodName)) ∈ lw_all := lw_g (lw_at lw_m9 200 rfl) rfl
theorem q2249 : (Jvm.Cond.privateMethod ({ cls := "ThirdWitnessModel", name := "note", desc := "()V" } : Jvm.MethodName)) ∈ lw_tbl := lw_at lw_m9 201 rfl
theorem q2250 : (Jvm.Cond.instanceMethod ({ cls := "ThirdWitnessModel", name := "note", desc := "()V" } : Jvm.MethodName)) ∈ lw_all := lw_g (lw_at lw_m9 202 rfl) rfl
theorem q2251 : (Jvm.Cond.code ({ cls := "ThirdWitnessModel", name := "note", desc := "()V" } : Jvm.MethodName) prog_15_method_118_code (2 : Nat) (Option.none : Option Jvm.ClassFile.FieldType)) ∈ lw_all := lw_g (lw_at lw_m9 203 rfl) rfl
theorem q2253 : (Jvm.Cond.instanceMethod ({ cls := "ThirdWitnessModel", name := "open", desc := "(I)Z" } : Jvm.MethodName)) ∈ lw_all := lw_g (lw_at lw_m9 205 rfl) rfl
theorem q2254 : (Jvm.Cond.selects "ThirdWitnessModel" ({ cls := "ThirdWitnessModel", name := "open", desc := "(I)Z" } : Jvm.MethodName) ({ cls := "ThirdWitnessModel", name := "open", desc := "(I)Z" } : Jvm.MethodName)) ∈ lw_all := lw_g (lw_at lw_m9 206 rfl) rfl
theorem q2255 : (Jvm.Cond.code ({ cls := "ThirdWitnessModel", name := "open", desc := "(I)Z" } : Jvm.MethodName) prog_15_method_121_code (2 : Nat) (Option.some Jvm.ClassFile.FieldType.boolean)) ∈ lw_all := lw_g (lw_at lw_m9 207 rfl) rfl
theorem q2257 : (Jvm.Cond.instanceMethod ({ cls := "ThirdWitnessModel", name := "hire", desc := "(II)I" } : Jvm.MethodName)) ∈ lw_all := lw_g (lw_at lw_m9 209 rfl) rfl
theorem q2258 : (Jvm.Cond.selects "ThirdWitnessModel" ({ cls := "ThirdWitnessModel", name := "hire", desc := "(II)I" } : Jvm.MethodName) ({ cls := "ThirdWitnessModel", name := "hire", desc := "(II)I" } : Jvm.MethodName)) ∈ lw_all := lw_g (lw_at lw_m9 210 rfl) rfl
theorem q2259 : (Jvm.Cond.code ({ cls := "ThirdWitnessModel", name := "hire", desc := "(II)I" } : Jvm.MethodName) prog_15_method_122_code (3 : Nat) (Option.some Jvm.ClassFile.FieldType.int)) ∈ lw_all := lw_g (lw_at lw_m9 211 rfl) rfl
theorem q2261 : (Jvm.Cond.instanceMethod ({ cls := "ThirdWitnessModel", name := "dismiss", desc := "(I)Z" } : Jvm.MethodName)) ∈ lw_all := lw_g (lw_at lw_m9 213 rfl) rfl
theorem q2262 : (Jvm.Cond.selects "ThirdWitnessModel" ({ cls := "ThirdWitnessModel", name := "dismiss", desc := "(I)Z" } : Jvm.MethodName) ({ cls := "ThirdWitnessModel", name := "dismiss", desc := "(I)Z" } : Jvm.MethodName)) ∈ lw_all := lw_g (lw_at lw_m9 214 rfl) rfl
theorem q2263 : (Jvm.Cond.code ({ cls := "ThirdWitnessModel", name := "dismiss", desc := "(I)Z" } : Jvm.MethodName) prog_15_method_123_code (2 : Nat) (Option.some Jvm.ClassFile.FieldType.boolean)) ∈ lw_all := lw_g (lw_at lw_m9 215 rfl) rfl
theorem q2265 : (Jvm.Cond.instanceMethod ({ cls := "ThirdWitnessModel", name := "spent", desc := "()I" } : Jvm.MethodName)) ∈ lw_all := lw_g (lw_at lw_m9 217 rfl) rfl
theorem q2266 : (Jvm.Cond.selects "ThirdWitnessModel" ({ cls := "ThirdWitnessModel", name := "spent", desc := "()I" } : Jvm.MethodName) ({ cls := "ThirdWitnessModel", name := "spent", desc := "()I" } : Jvm.MethodName)) ∈ lw_all := lw_g (lw_at lw_m9 218 rfl) rfl
theorem q2267 : (Jvm.Cond.code ({ cls := "ThirdWitnessModel", name := "spent", desc := "()I" } : Jvm.MethodName) prog_15_method_124_code (1 : Nat) (Option.some Jvm.ClassFile.FieldType.int)) ∈ lw_all := lw_g (lw_at lw_m9 219 rfl) rfl
theorem q2269 : (Jvm.Cond.instanceMethod ({ cls := "ThirdWitnessModel", name := "undo", desc := "()Z" } : Jvm.MethodName)) ∈ lw_all := lw_g (lw_at lw_m9 221 rfl) rfl
theorem q2270 : (Jvm.Cond.selects "ThirdWitnessModel" ({ cls := "ThirdWitnessModel", name := "undo", desc := "()Z" } : Jvm.MethodName) ({ cls := "ThirdWitnessModel", name := "undo", desc := "()Z" } : Jvm.MethodName)) ∈ lw_all := lw_g (lw_at lw_m9 222 rfl) rfl
theorem q2271 : (Jvm.Cond.code ({ cls := "ThirdWitnessModel", name := "undo", desc := "()Z" } : Jvm.MethodName) prog_15_method_125_code (1 : Nat) (Option.some Jvm.ClassFile.FieldType.boolean)) ∈ lw_all := lw_g (lw_at lw_m9 223 rfl) rfl
theorem q2273 : (Jvm.Cond.instanceMethod ({ cls := "ThirdWitnessModel", name := "image", desc := "()I" } : Jvm.MethodName)) ∈ lw_all := lw_g (lw_at lw_m9 225 rfl) rfl
theorem q2274 : (Jvm.Cond.selects "ThirdWitnessModel" ({ cls := "ThirdWitnessModel", name := "image", desc := "()I" } : Jvm.MethodName) ({ cls := "ThirdWitnessModel", name := "image", desc := "()I" } : Jvm.MethodName)) ∈ lw_all := lw_g (lw_at lw_m9 226 rfl) rfl
theorem q2275 : (Jvm.Cond.code ({ cls := "ThirdWitnessModel", name := "image", desc := "()I" } : Jvm.MethodName) prog_15_method_126_code (1 : Nat) (Option.some Jvm.ClassFile.FieldType.int)) ∈ lw_all := lw_g (lw_at lw_m9 227 rfl) rfl
theorem q2277 : (Jvm.Cond.instanceMethod ({ cls := "ThirdWitnessModel", name := "back", desc := "(I)Z" } : Jvm.MethodName)) ∈ lw_all := lw_g (lw_at lw_m9 229 rfl) rfl
theorem q2278 : (Jvm.Cond.selects "ThirdWitnessModel" ({ cls := "ThirdWitnessModel", name := "back", desc := "(I)Z" } : Jvm.MethodName) ({ cls := "ThirdWitnessModel", name := "back", desc := "(I)Z" } : Jvm.MethodName)) ∈ lw_all := lw_g (lw_at lw_m9 230 rfl) rfl
theorem q2279 : (Jvm.Cond.code ({ cls := "ThirdWitnessModel", name := "back", desc := "(I)Z" } : Jvm.MethodName) prog_15_method_127_code (2 : Nat) (Option.some Jvm.ClassFile.FieldType.boolean)) ∈ lw_all := lw_g (lw_at lw_m9 231 rfl) rfl
theorem q2281 : (Jvm.Cond.instanceMethod ({ cls := "ThirdWitnessModel", name := "led", desc := "(I)I" } : Jvm.MethodName)) ∈ lw_all := lw_g (lw_at lw_m9 233 rfl) rfl
theorem q2282 : (Jvm.Cond.selects "ThirdWitnessModel" ({ cls := "ThirdWitnessModel", name := "led", desc := "(I)I" } : Jvm.MethodName) ({ cls := "ThirdWitnessModel", name := "led", desc := "(I)I" } : Jvm.MethodName)) ∈ lw_all := lw_g (lw_at lw_m9 234 rfl) rfl
theorem q2283 : (Jvm.Cond.code ({ cls := "ThirdWitnessModel", name := "led", desc := "(I)I" } : Jvm.MethodName) prog_15_method_128_code (4 : Nat) (Option.some Jvm.ClassFile.FieldType.int)) ∈ lw_all := lw_g (lw_at lw_m9 235 rfl) rfl
theorem q2285 : (Jvm.Cond.instanceMethod ({ cls := "ThirdWitnessModel", name := "size", desc := "(I)I" } : Jvm.MethodName)) ∈ lw_all := lw_g (lw_at lw_m9 237 rfl) rfl
theorem q2286 : (Jvm.Cond.selects "ThirdWitnessModel" ({ cls := "ThirdWitnessModel", name := "size", desc := "(I)I" } : Jvm.MethodName) ({ cls := "ThirdWitnessModel", name := "size", desc := "(I)I" } : Jvm.MethodName)) ∈ lw_all := lw_g (lw_at lw_m9 238 rfl) rfl
theorem q2287 : (Jvm.Cond.code ({ cls := "ThirdWitnessModel", name := "size", desc := "(I)I" } : Jvm.MethodName) prog_15_method_129_code (2 : Nat) (Option.some Jvm.ClassFile.FieldType.int)) ∈ lw_all := lw_g (lw_at lw_m9 239 rfl) rfl
theorem q2289 : (Jvm.Cond.instanceMethod ({ cls := "ThirdWitnessModel", name := "trouble", desc := "()I" } : Jvm.MethodName)) ∈ lw_all := lw_g (lw_at lw_m10 1 rfl) rfl
theorem q2290 : (Jvm.Cond.selects "ThirdWitnessModel" ({ cls := "ThirdWitnessModel", name := "trouble", desc := "()I" } : Jvm.MethodName) ({ cls := "ThirdWitnessModel", name := "trouble", desc := "()I" } : Jvm.MethodName)) ∈ lw_all := lw_g (lw_at lw_m10 2 rfl) rfl
theorem q2291 : (Jvm.Cond.code ({ cls := "ThirdWitnessModel", name := "trouble", desc := "()I" } : Jvm.MethodName) prog_15_method_130_code (1 : Nat) (Option.some Jvm.ClassFile.FieldType.int)) ∈ lw_all := lw_g (lw_at lw_m10 3 rfl) rfl
theorem q2308 : (Jvm.Cond.castable "ThirdWitnessModel" "java/lang/Object") ∈ lw_tbl := lw_at lw_m10 20 rfl
theorem in_X2 : ∀ w ∈ wsX20, w ∈ lw_all := lw_in wsX20 [1670, 1672, 1674, 1676, 1678, 1680, 1682, 1684, 1686, 1688, 1690, 1692, 1694, 1696, 1698, 1700, 1702, 1704, 1706, 1708, 1710, 1712, 1714, 1716, 1718, 1720, 1722, 1724, 1726, 1728, 1730, 1732, 1734, 1736, 1738, 1740, 1742] (by decide +kernel) (by decide +kernel)
def RX3 : String := "ThirdWitness$Reade\x72"
def TX3 : u_T := fun k => match k with
  | 0 => ("ThirdWitness$Reade\x72", "tokens", "LThirdWitness$Tokens;", true)
  | 1 => ("ThirdWitness$Reade\x72", "town", "LThirdWitness$Town;", true)
  | 2 => ("ThirdWitness$Reade\x72", "now", "LThirdWitness$Token;", false)
  | 3 => ("ThirdWitness$Reade\x72", "fault", "I", false)
  | _ => ("ThirdWitness$Reade\x72", "place", "I", false)
def tyX3 : Nat → FieldType := fun k => match k with
  | 0 => .object "ThirdWitness$Tokens"
  | 1 => .object "ThirdWitness$Town"
  | 2 => .object "ThirdWitness$Token"
  | 3 => .int
  | _ => .int
abbrev wsX30 : List Cond := u_ws RX3 TX3 5
theorem nmX3 : ∀ a, a < 5 → ∀ b, b < 5 → a ≠ b → (TX3 a).2.1 ≠ (TX3 b).2.1 := by decide +kernel
theorem tyX3_ok : ∀ k, k < 5 → parseFieldDescriptor (TX3 k).2.2.1 = some (tyX3 k) := by decide +kernel
theorem q134 : (Jvm.Cond.initialized "ThirdWitness$Reade\x72") ∈ lw_all := lw_g (lw_at lw_m1 6 rfl) rfl
theorem q290 : (Jvm.Cond.instantiable "ThirdWitness$Reade\x72" (5 : Nat)) ∈ lw_all := lw_g (lw_at lw_m1 162 rfl) rfl
theorem q308 : (Jvm.Cond.instanceMethod ({ cls := "ThirdWitness$Reade\x72", name := "<init>", desc := "(LThirdWitness$Tokens;)V" } : Jvm.MethodName)) ∈ lw_all := lw_g (lw_at lw_m1 180 rfl) rfl
theorem q309 : (Jvm.Cond.code ({ cls := "ThirdWitness$Reade\x72", name := "<init>", desc := "(LThirdWitness$Tokens;)V" } : Jvm.MethodName) prog_8_method_1_code (2 : Nat) (Option.none : Option Jvm.ClassFile.FieldType)) ∈ lw_all := lw_g (lw_at lw_m1 181 rfl) rfl
theorem q310 : (Jvm.Cond.methodLink "ThirdWitness$Reade\x72" (3 : Nat) ({ cls := "java/lang/Object", name := "<init>", desc := "()V" } : Jvm.MethodName)) ∈ lw_all := lw_g (lw_at lw_m1 182 rfl) rfl
theorem q311 : (Jvm.Cond.classLink "ThirdWitness$Reade\x72" (9 : Nat) "ThirdWitness$Town") ∈ lw_all := lw_g (lw_at lw_m1 183 rfl) rfl
theorem q313 : (Jvm.Cond.methodLinkNest "ThirdWitness$Reade\x72" (11 : Nat) ({ cls := "ThirdWitness$Town", name := "<init>", desc := "()V" } : Jvm.MethodName) "ThirdWitness") ∈ lw_tbl := lw_at lw_m1 185 rfl
theorem q320 : (Jvm.Cond.fieldLink "ThirdWitness$Reade\x72" (101 : Nat) "ThirdWitness$Town" "boys" "I") ∈ lw_all := lw_g (lw_at lw_m1 192 rfl) rfl
theorem q322 : (Jvm.Cond.fieldLink "ThirdWitness$Reade\x72" (233 : Nat) "ThirdWitness$Town" "goings" "I") ∈ lw_all := lw_g (lw_at lw_m1 194 rfl) rfl
theorem q324 : (Jvm.Cond.fieldLink "ThirdWitness$Reade\x72" (271 : Nat) "ThirdWitness$Town" "hires" "I") ∈ lw_all := lw_g (lw_at lw_m1 196 rfl) rfl
theorem q326 : (Jvm.Cond.fieldLink "ThirdWitness$Reade\x72" (274 : Nat) "ThirdWitness$Town" "unsures" "I") ∈ lw_all := lw_g (lw_at lw_m1 198 rfl) rfl
theorem q328 : (Jvm.Cond.fieldLink "ThirdWitness$Reade\x72" (290 : Nat) "ThirdWitness$Town" "endings" "I") ∈ lw_all := lw_g (lw_at lw_m1 200 rfl) rfl
theorem q331 : (Jvm.Cond.fieldLink "ThirdWitness$Reade\x72" (104 : Nat) "ThirdWitness$Town" "places" "Ljava/util/ArrayList;") ∈ lw_all := lw_g (lw_at lw_m1 203 rfl) rfl
theorem q336 : (Jvm.Cond.fieldLink "ThirdWitness$Reade\x72" (217 : Nat) "ThirdWitness$Town" "people" "Ljava/util/ArrayList;") ∈ lw_all := lw_g (lw_at lw_m1 208 rfl) rfl
theorem q339 : (Jvm.Cond.fieldLink "ThirdWitness$Reade\x72" (246 : Nat) "ThirdWitness$Town" "quarrels" "Ljava/util/ArrayList;") ∈ lw_all := lw_g (lw_at lw_m1 211 rfl) rfl
theorem q342 : (Jvm.Cond.fieldLink "ThirdWitness$Reade\x72" (183 : Nat) "ThirdWitness$Town" "sights" "Ljava/util/ArrayList;") ∈ lw_all := lw_g (lw_at lw_m1 214 rfl) rfl
theorem q345 : (Jvm.Cond.fieldLink "ThirdWitness$Reade\x72" (283 : Nat) "ThirdWitness$Town" "unsure" "[I") ∈ lw_all := lw_g (lw_at lw_m1 217 rfl) rfl
theorem q368 : (Jvm.Cond.methodLink "ThirdWitness$Reade\x72" (22 : Nat) ({ cls := "ThirdWitness$Tokens", name := "next", desc := "()LThirdWitness$Token;" } : Jvm.MethodName)) ∈ lw_all := lw_g (lw_at lw_m2 0 rfl) rfl
theorem q384 : (Jvm.Cond.fieldLink "ThirdWitness$Reade\x72" (46 : Nat) "ThirdWitness$Token" "sort" "I") ∈ lw_all := lw_g (lw_at lw_m2 16 rfl) rfl
theorem q386 : (Jvm.Cond.fieldLink "ThirdWitness$Reade\x72" (40 : Nat) "ThirdWitness$Token" "place" "I") ∈ lw_all := lw_g (lw_at lw_m2 18 rfl) rfl
theorem q388 : (Jvm.Cond.fieldLink "ThirdWitness$Reade\x72" (60 : Nat) "ThirdWitness$Token" "numbe\x72" "I") ∈ lw_all := lw_g (lw_at lw_m2 20 rfl) rfl
theorem q390 : (Jvm.Cond.fieldLink "ThirdWitness$Reade\x72" (81 : Nat) "ThirdWitness$Token" "word" "Ljava/lang/String;") ∈ lw_all := lw_g (lw_at lw_m2 22 rfl) rfl
theorem q590 : (Jvm.Cond.fieldLink "ThirdWitness$Reade\x72" (18 : Nat) "ThirdWitness$Reade\x72" "tokens" "LThirdWitness$Tokens;") ∈ lw_all := lw_g (lw_at lw_m2 222 rfl) rfl
theorem q591 : (Jvm.Cond.fieldLink "ThirdWitness$Reade\x72" (12 : Nat) "ThirdWitness$Reade\x72" "town" "LThirdWitness$Town;") ∈ lw_all := lw_g (lw_at lw_m2 223 rfl) rfl
theorem q592 : (Jvm.Cond.fieldLink "ThirdWitness$Reade\x72" (28 : Nat) "ThirdWitness$Reade\x72" "now" "LThirdWitness$Token;") ∈ lw_all := lw_g (lw_at lw_m2 224 rfl) rfl
theorem q593 : (Jvm.Cond.fieldLink "ThirdWitness$Reade\x72" (32 : Nat) "ThirdWitness$Reade\x72" "fault" "I") ∈ lw_all := lw_g (lw_at lw_m2 225 rfl) rfl
theorem q595 : (Jvm.Cond.fieldLink "ThirdWitness$Reade\x72" (45 : Nat) "ThirdWitness$Reade\x72" "place" "I") ∈ lw_all := lw_g (lw_at lw_m2 227 rfl) rfl
theorem q597 : (Jvm.Cond.laysFinal "ThirdWitness$Reade\x72" "ThirdWitness$Reade\x72" "tokens" "LThirdWitness$Tokens;") ∈ lw_all := lw_g (lw_at lw_m2 229 rfl) rfl
theorem q598 : (Jvm.Cond.soleField "ThirdWitness$Reade\x72" "tokens") ∈ lw_all := lw_g (lw_at lw_m2 230 rfl) rfl
theorem q599 : (Jvm.Cond.laysFinal "ThirdWitness$Reade\x72" "ThirdWitness$Reade\x72" "town" "LThirdWitness$Town;") ∈ lw_all := lw_g (lw_at lw_m2 231 rfl) rfl
theorem q600 : (Jvm.Cond.soleField "ThirdWitness$Reade\x72" "town") ∈ lw_all := lw_g (lw_at lw_m2 232 rfl) rfl
theorem q601 : (Jvm.Cond.lays "ThirdWitness$Reade\x72" "ThirdWitness$Reade\x72" "now" "LThirdWitness$Token;") ∈ lw_all := lw_g (lw_at lw_m2 233 rfl) rfl
theorem q602 : (Jvm.Cond.soleField "ThirdWitness$Reade\x72" "now") ∈ lw_all := lw_g (lw_at lw_m2 234 rfl) rfl
theorem q603 : (Jvm.Cond.lays "ThirdWitness$Reade\x72" "ThirdWitness$Reade\x72" "fault" "I") ∈ lw_all := lw_g (lw_at lw_m2 235 rfl) rfl
theorem q604 : (Jvm.Cond.soleField "ThirdWitness$Reade\x72" "fault") ∈ lw_all := lw_g (lw_at lw_m2 236 rfl) rfl
theorem q605 : (Jvm.Cond.lays "ThirdWitness$Reade\x72" "ThirdWitness$Reade\x72" "place" "I") ∈ lw_all := lw_g (lw_at lw_m2 237 rfl) rfl
theorem q606 : (Jvm.Cond.soleField "ThirdWitness$Reade\x72" "place") ∈ lw_all := lw_g (lw_at lw_m2 238 rfl) rfl
theorem q607 : (Jvm.Cond.superclass "ThirdWitness$Reade\x72" "java/lang/Object") ∈ lw_all := lw_g (lw_at lw_m2 239 rfl) rfl
theorem q609 : (Jvm.Cond.instanceMethod ({ cls := "ThirdWitness$Reade\x72", name := "read", desc := "()LThirdWitness$Town;" } : Jvm.MethodName)) ∈ lw_all := lw_g (lw_at lw_m3 1 rfl) rfl
theorem q610 : (Jvm.Cond.selects "ThirdWitness$Reade\x72" ({ cls := "ThirdWitness$Reade\x72", name := "read", desc := "()LThirdWitness$Town;" } : Jvm.MethodName) ({ cls := "ThirdWitness$Reade\x72", name := "read", desc := "()LThirdWitness$Town;" } : Jvm.MethodName)) ∈ lw_all := lw_g (lw_at lw_m3 2 rfl) rfl
theorem q611 : (Jvm.Cond.code ({ cls := "ThirdWitness$Reade\x72", name := "read", desc := "()LThirdWitness$Town;" } : Jvm.MethodName) prog_8_method_13_code (1 : Nat) (Option.some (Jvm.ClassFile.FieldType.object "ThirdWitness$Town"))) ∈ lw_all := lw_g (lw_at lw_m3 3 rfl) rfl
theorem q612 : (Jvm.Cond.methodLink "ThirdWitness$Reade\x72" (95 : Nat) ({ cls := "ThirdWitness$Reade\x72", name := "line", desc := "()V" } : Jvm.MethodName)) ∈ lw_all := lw_g (lw_at lw_m3 4 rfl) rfl
theorem q613 : (Jvm.Cond.privateMethod ({ cls := "ThirdWitness$Reade\x72", name := "line", desc := "()V" } : Jvm.MethodName)) ∈ lw_tbl := lw_at lw_m3 5 rfl
theorem q614 : (Jvm.Cond.instanceMethod ({ cls := "ThirdWitness$Reade\x72", name := "line", desc := "()V" } : Jvm.MethodName)) ∈ lw_all := lw_g (lw_at lw_m3 6 rfl) rfl
theorem q615 : (Jvm.Cond.code ({ cls := "ThirdWitness$Reade\x72", name := "line", desc := "()V" } : Jvm.MethodName) prog_8_method_14_code (3 : Nat) (Option.none : Option Jvm.ClassFile.FieldType)) ∈ lw_all := lw_g (lw_at lw_m3 7 rfl) rfl
theorem q616 : (Jvm.Cond.stringRef "ThirdWitness$Reade\x72" (113 : Nat) "") ∈ lw_tbl := lw_at lw_m3 8 rfl
theorem q617 : (Jvm.Cond.methodLink "ThirdWitness$Reade\x72" (115 : Nat) ({ cls := "java/lang/String", name := "hashCode", desc := "()I" } : Jvm.MethodName)) ∈ lw_all := lw_g (lw_at lw_m3 9 rfl) rfl
theorem q670 : (Jvm.Cond.stringRef "ThirdWitness$Reade\x72" (121 : Nat) "town") ∈ lw_tbl := lw_at lw_m3 62 rfl
theorem q671 : (Jvm.Cond.methodLink "ThirdWitness$Reade\x72" (122 : Nat) ({ cls := "java/lang/String", name := "equals", desc := "(Ljava/lang/Object;)Z" } : Jvm.MethodName)) ∈ lw_all := lw_g (lw_at lw_m3 63 rfl) rfl
theorem q679 : (Jvm.Cond.stringRef "ThirdWitness$Reade\x72" (126 : Nat) "place") ∈ lw_tbl := lw_at lw_m3 71 rfl
theorem q680 : (Jvm.Cond.stringRef "ThirdWitness$Reade\x72" (127 : Nat) "sees") ∈ lw_tbl := lw_at lw_m3 72 rfl
theorem q681 : (Jvm.Cond.stringRef "ThirdWitness$Reade\x72" (129 : Nat) "person") ∈ lw_tbl := lw_at lw_m3 73 rfl
theorem q682 : (Jvm.Cond.stringRef "ThirdWitness$Reade\x72" (131 : Nat) "goes") ∈ lw_tbl := lw_at lw_m3 74 rfl
theorem q683 : (Jvm.Cond.stringRef "ThirdWitness$Reade\x72" (133 : Nat) "quarrel") ∈ lw_tbl := lw_at lw_m3 75 rfl
theorem q684 : (Jvm.Cond.stringRef "ThirdWitness$Reade\x72" (135 : Nat) "hire") ∈ lw_tbl := lw_at lw_m3 76 rfl
theorem q685 : (Jvm.Cond.stringRef "ThirdWitness$Reade\x72" (137 : Nat) "unsure") ∈ lw_tbl := lw_at lw_m3 77 rfl
theorem q686 : (Jvm.Cond.stringRef "ThirdWitness$Reade\x72" (139 : Nat) "ended") ∈ lw_tbl := lw_at lw_m3 78 rfl
theorem q687 : (Jvm.Cond.methodLink "ThirdWitness$Reade\x72" (141 : Nat) ({ cls := "ThirdWitness$Reade\x72", name := "townLine", desc := "()V" } : Jvm.MethodName)) ∈ lw_all := lw_g (lw_at lw_m3 79 rfl) rfl
theorem q688 : (Jvm.Cond.privateMethod ({ cls := "ThirdWitness$Reade\x72", name := "townLine", desc := "()V" } : Jvm.MethodName)) ∈ lw_tbl := lw_at lw_m3 80 rfl
theorem q689 : (Jvm.Cond.instanceMethod ({ cls := "ThirdWitness$Reade\x72", name := "townLine", desc := "()V" } : Jvm.MethodName)) ∈ lw_all := lw_g (lw_at lw_m3 81 rfl) rfl
theorem q690 : (Jvm.Cond.code ({ cls := "ThirdWitness$Reade\x72", name := "townLine", desc := "()V" } : Jvm.MethodName) prog_8_method_16_code (2 : Nat) (Option.none : Option Jvm.ClassFile.FieldType)) ∈ lw_all := lw_g (lw_at lw_m3 82 rfl) rfl
theorem q691 : (Jvm.Cond.methodLink "ThirdWitness$Reade\x72" (56 : Nat) ({ cls := "ThirdWitness$Reade\x72", name := "wrong", desc := "(I)V" } : Jvm.MethodName)) ∈ lw_all := lw_g (lw_at lw_m3 83 rfl) rfl
theorem q692 : (Jvm.Cond.privateMethod ({ cls := "ThirdWitness$Reade\x72", name := "wrong", desc := "(I)V" } : Jvm.MethodName)) ∈ lw_tbl := lw_at lw_m3 84 rfl
theorem q693 : (Jvm.Cond.instanceMethod ({ cls := "ThirdWitness$Reade\x72", name := "wrong", desc := "(I)V" } : Jvm.MethodName)) ∈ lw_all := lw_g (lw_at lw_m3 85 rfl) rfl
theorem q694 : (Jvm.Cond.code ({ cls := "ThirdWitness$Reade\x72", name := "wrong", desc := "(I)V" } : Jvm.MethodName) prog_8_method_3_code (2 : Nat) (Option.none : Option Jvm.ClassFile.FieldType)) ∈ lw_all := lw_g (lw_at lw_m3 86 rfl) rfl
theorem q695 : (Jvm.Cond.methodLink "ThirdWitness$Reade\x72" (36 : Nat) ({ cls := "ThirdWitness$Reade\x72", name := "isOve\x72", desc := "()Z" } : Jvm.MethodName)) ∈ lw_all := lw_g (lw_at lw_m3 87 rfl) rfl
theorem q696 : (Jvm.Cond.privateMethod ({ cls := "ThirdWitness$Reade\x72", name := "isOve\x72", desc := "()Z" } : Jvm.MethodName)) ∈ lw_tbl := lw_at lw_m3 88 rfl
theorem q697 : (Jvm.Cond.instanceMethod ({ cls := "ThirdWitness$Reade\x72", name := "isOve\x72", desc := "()Z" } : Jvm.MethodName)) ∈ lw_all := lw_g (lw_at lw_m3 89 rfl) rfl
theorem q698 : (Jvm.Cond.code ({ cls := "ThirdWitness$Reade\x72", name := "isOve\x72", desc := "()Z" } : Jvm.MethodName) prog_8_method_2_code (1 : Nat) (Option.some Jvm.ClassFile.FieldType.boolean)) ∈ lw_all := lw_g (lw_at lw_m3 90 rfl) rfl
theorem q699 : (Jvm.Cond.methodLink "ThirdWitness$Reade\x72" (49 : Nat) ({ cls := "ThirdWitness$Reade\x72", name := "on", desc := "()V" } : Jvm.MethodName)) ∈ lw_all := lw_g (lw_at lw_m3 91 rfl) rfl
theorem q700 : (Jvm.Cond.privateMethod ({ cls := "ThirdWitness$Reade\x72", name := "on", desc := "()V" } : Jvm.MethodName)) ∈ lw_tbl := lw_at lw_m3 92 rfl
theorem q701 : (Jvm.Cond.instanceMethod ({ cls := "ThirdWitness$Reade\x72", name := "on", desc := "()V" } : Jvm.MethodName)) ∈ lw_all := lw_g (lw_at lw_m3 93 rfl) rfl
theorem q702 : (Jvm.Cond.code ({ cls := "ThirdWitness$Reade\x72", name := "on", desc := "()V" } : Jvm.MethodName) prog_8_method_4_code (1 : Nat) (Option.none : Option Jvm.ClassFile.FieldType)) ∈ lw_all := lw_g (lw_at lw_m3 94 rfl) rfl
theorem q703 : (Jvm.Cond.stringRef "ThirdWitness$Reade\x72" (160 : Nat) "boys") ∈ lw_tbl := lw_at lw_m3 95 rfl
theorem q704 : (Jvm.Cond.methodLink "ThirdWitness$Reade\x72" (161 : Nat) ({ cls := "ThirdWitness$Reade\x72", name := "part", desc := "(Ljava/lang/String;II)I" } : Jvm.MethodName)) ∈ lw_all := lw_g (lw_at lw_m3 96 rfl) rfl
theorem q705 : (Jvm.Cond.privateMethod ({ cls := "ThirdWitness$Reade\x72", name := "part", desc := "(Ljava/lang/String;II)I" } : Jvm.MethodName)) ∈ lw_tbl := lw_at lw_m3 97 rfl
theorem q706 : (Jvm.Cond.instanceMethod ({ cls := "ThirdWitness$Reade\x72", name := "part", desc := "(Ljava/lang/String;II)I" } : Jvm.MethodName)) ∈ lw_all := lw_g (lw_at lw_m3 98 rfl) rfl
theorem q707 : (Jvm.Cond.code ({ cls := "ThirdWitness$Reade\x72", name := "part", desc := "(Ljava/lang/String;II)I" } : Jvm.MethodName) prog_8_method_9_code (4 : Nat) (Option.some Jvm.ClassFile.FieldType.int)) ∈ lw_all := lw_g (lw_at lw_m3 99 rfl) rfl
theorem q708 : (Jvm.Cond.methodLink "ThirdWitness$Reade\x72" (71 : Nat) ({ cls := "ThirdWitness$Reade\x72", name := "needs", desc := "(Ljava/lang/String;)V" } : Jvm.MethodName)) ∈ lw_all := lw_g (lw_at lw_m3 100 rfl) rfl
theorem q709 : (Jvm.Cond.privateMethod ({ cls := "ThirdWitness$Reade\x72", name := "needs", desc := "(Ljava/lang/String;)V" } : Jvm.MethodName)) ∈ lw_tbl := lw_at lw_m3 101 rfl
theorem q710 : (Jvm.Cond.instanceMethod ({ cls := "ThirdWitness$Reade\x72", name := "needs", desc := "(Ljava/lang/String;)V" } : Jvm.MethodName)) ∈ lw_all := lw_g (lw_at lw_m3 102 rfl) rfl
theorem q711 : (Jvm.Cond.code ({ cls := "ThirdWitness$Reade\x72", name := "needs", desc := "(Ljava/lang/String;)V" } : Jvm.MethodName) prog_8_method_6_code (2 : Nat) (Option.none : Option Jvm.ClassFile.FieldType)) ∈ lw_all := lw_g (lw_at lw_m3 103 rfl) rfl
theorem q712 : (Jvm.Cond.methodLink "ThirdWitness$Reade\x72" (52 : Nat) ({ cls := "ThirdWitness$Token", name := "is", desc := "(Ljava/lang/String;)Z" } : Jvm.MethodName)) ∈ lw_all := lw_g (lw_at lw_m3 104 rfl) rfl
theorem q717 : (Jvm.Cond.methodLink "ThirdWitness$Reade\x72" (75 : Nat) ({ cls := "ThirdWitness$Reade\x72", name := "whole", desc := "(II)I" } : Jvm.MethodName)) ∈ lw_all := lw_g (lw_at lw_m3 109 rfl) rfl
theorem q718 : (Jvm.Cond.privateMethod ({ cls := "ThirdWitness$Reade\x72", name := "whole", desc := "(II)I" } : Jvm.MethodName)) ∈ lw_tbl := lw_at lw_m3 110 rfl
theorem q719 : (Jvm.Cond.instanceMethod ({ cls := "ThirdWitness$Reade\x72", name := "whole", desc := "(II)I" } : Jvm.MethodName)) ∈ lw_all := lw_g (lw_at lw_m3 111 rfl) rfl
theorem q720 : (Jvm.Cond.code ({ cls := "ThirdWitness$Reade\x72", name := "whole", desc := "(II)I" } : Jvm.MethodName) prog_8_method_8_code (4 : Nat) (Option.some Jvm.ClassFile.FieldType.int)) ∈ lw_all := lw_g (lw_at lw_m3 112 rfl) rfl
theorem q721 : (Jvm.Cond.methodLink "ThirdWitness$Reade\x72" (67 : Nat) ({ cls := "ThirdWitness$Reade\x72", name := "wholeAt", desc := "(II)I" } : Jvm.MethodName)) ∈ lw_all := lw_g (lw_at lw_m3 113 rfl) rfl
theorem q722 : (Jvm.Cond.privateMethod ({ cls := "ThirdWitness$Reade\x72", name := "wholeAt", desc := "(II)I" } : Jvm.MethodName)) ∈ lw_tbl := lw_at lw_m3 114 rfl
theorem q723 : (Jvm.Cond.instanceMethod ({ cls := "ThirdWitness$Reade\x72", name := "wholeAt", desc := "(II)I" } : Jvm.MethodName)) ∈ lw_all := lw_g (lw_at lw_m3 115 rfl) rfl
theorem q724 : (Jvm.Cond.code ({ cls := "ThirdWitness$Reade\x72", name := "wholeAt", desc := "(II)I" } : Jvm.MethodName) prog_8_method_7_code (3 : Nat) (Option.some Jvm.ClassFile.FieldType.int)) ∈ lw_all := lw_g (lw_at lw_m3 116 rfl) rfl
theorem q725 : (Jvm.Cond.methodLinkNest "ThirdWitness$Reade\x72" (63 : Nat) ({ cls := "ThirdWitness", name := "in", desc := "(III)Z" } : Jvm.MethodName) "ThirdWitness") ∈ lw_tbl := lw_at lw_m3 117 rfl
theorem q726 : (Jvm.Cond.methodLink "ThirdWitness$Reade\x72" (144 : Nat) ({ cls := "ThirdWitness$Reade\x72", name := "place", desc := "()V" } : Jvm.MethodName)) ∈ lw_all := lw_g (lw_at lw_m3 118 rfl) rfl
theorem q727 : (Jvm.Cond.privateMethod ({ cls := "ThirdWitness$Reade\x72", name := "place", desc := "()V" } : Jvm.MethodName)) ∈ lw_tbl := lw_at lw_m3 119 rfl
theorem q728 : (Jvm.Cond.instanceMethod ({ cls := "ThirdWitness$Reade\x72", name := "place", desc := "()V" } : Jvm.MethodName)) ∈ lw_all := lw_g (lw_at lw_m3 120 rfl) rfl
theorem q729 : (Jvm.Cond.code ({ cls := "ThirdWitness$Reade\x72", name := "place", desc := "()V" } : Jvm.MethodName) prog_8_method_17_code (2 : Nat) (Option.none : Option Jvm.ClassFile.FieldType)) ∈ lw_all := lw_g (lw_at lw_m3 121 rfl) rfl
theorem q730 : (Jvm.Cond.methodLink "ThirdWitness$Reade\x72" (165 : Nat) ({ cls := "java/util/ArrayList", name := "size", desc := "()I" } : Jvm.MethodName)) ∈ lw_all := lw_g (lw_at lw_m3 122 rfl) rfl
theorem q734 : (Jvm.Cond.methodLink "ThirdWitness$Reade\x72" (168 : Nat) ({ cls := "ThirdWitness$Reade\x72", name := "begins", desc := "(II)V" } : Jvm.MethodName)) ∈ lw_all := lw_g (lw_at lw_m3 126 rfl) rfl
theorem q735 : (Jvm.Cond.privateMethod ({ cls := "ThirdWitness$Reade\x72", name := "begins", desc := "(II)V" } : Jvm.MethodName)) ∈ lw_tbl := lw_at lw_m3 127 rfl
theorem q736 : (Jvm.Cond.instanceMethod ({ cls := "ThirdWitness$Reade\x72", name := "begins", desc := "(II)V" } : Jvm.MethodName)) ∈ lw_all := lw_g (lw_at lw_m3 128 rfl) rfl
theorem q737 : (Jvm.Cond.code ({ cls := "ThirdWitness$Reade\x72", name := "begins", desc := "(II)V" } : Jvm.MethodName) prog_8_method_15_code (3 : Nat) (Option.none : Option Jvm.ClassFile.FieldType)) ∈ lw_all := lw_g (lw_at lw_m3 129 rfl) rfl
theorem q738 : (Jvm.Cond.classLink "ThirdWitness$Reade\x72" (172 : Nat) "ThirdWitness$Named") ∈ lw_all := lw_g (lw_at lw_m3 130 rfl) rfl
theorem q740 : (Jvm.Cond.methodLink "ThirdWitness$Reade\x72" (174 : Nat) ({ cls := "ThirdWitness$Reade\x72", name := "fresh", desc := "()Ljava/lang/String;" } : Jvm.MethodName)) ∈ lw_all := lw_g (lw_at lw_m3 132 rfl) rfl
theorem q741 : (Jvm.Cond.privateMethod ({ cls := "ThirdWitness$Reade\x72", name := "fresh", desc := "()Ljava/lang/String;" } : Jvm.MethodName)) ∈ lw_tbl := lw_at lw_m3 133 rfl
theorem q742 : (Jvm.Cond.instanceMethod ({ cls := "ThirdWitness$Reade\x72", name := "fresh", desc := "()Ljava/lang/String;" } : Jvm.MethodName)) ∈ lw_all := lw_g (lw_at lw_m3 134 rfl) rfl
theorem q743 : (Jvm.Cond.code ({ cls := "ThirdWitness$Reade\x72", name := "fresh", desc := "()Ljava/lang/String;" } : Jvm.MethodName) prog_8_method_10_code (2 : Nat) (Option.some (Jvm.ClassFile.FieldType.object "java/lang/String"))) ∈ lw_all := lw_g (lw_at lw_m3 135 rfl) rfl
theorem q744 : (Jvm.Cond.methodLink "ThirdWitness$Reade\x72" (78 : Nat) ({ cls := "ThirdWitness$Token", name := "isName", desc := "()Z" } : Jvm.MethodName)) ∈ lw_all := lw_g (lw_at lw_m3 136 rfl) rfl
theorem q758 : (Jvm.Cond.methodLink "ThirdWitness$Reade\x72" (85 : Nat) ({ cls := "ThirdWitness$Town", name := "isName", desc := "(Ljava/lang/String;)Z" } : Jvm.MethodName)) ∈ lw_all := lw_g (lw_at lw_m3 150 rfl) rfl
theorem q780 : (Jvm.Cond.methodLink "ThirdWitness$Reade\x72" (178 : Nat) ({ cls := "ThirdWitness$Named", name := "<init>", desc := "(Ljava/lang/String;)V" } : Jvm.MethodName)) ∈ lw_all := lw_g (lw_at lw_m3 172 rfl) rfl
theorem q789 : (Jvm.Cond.methodLink "ThirdWitness$Reade\x72" (180 : Nat) ({ cls := "java/util/ArrayList", name := "add", desc := "(Ljava/lang/Object;)Z" } : Jvm.MethodName)) ∈ lw_all := lw_g (lw_at lw_m3 181 rfl) rfl
theorem q819 : (Jvm.Cond.selects "ThirdWitness$Reade\x72" ({ cls := "java/lang/Object", name := "getClass", desc := "()Ljava/lang/Class;" } : Jvm.MethodName) ({ cls := "java/lang/Object", name := "getClass", desc := "()Ljava/lang/Class;" } : Jvm.MethodName)) ∈ lw_all := lw_g (lw_at lw_m3 211 rfl) rfl
theorem q840 : (Jvm.Cond.methodLink "ThirdWitness$Reade\x72" (146 : Nat) ({ cls := "ThirdWitness$Reade\x72", name := "sees", desc := "()V" } : Jvm.MethodName)) ∈ lw_all := lw_g (lw_at lw_m3 232 rfl) rfl
theorem q841 : (Jvm.Cond.privateMethod ({ cls := "ThirdWitness$Reade\x72", name := "sees", desc := "()V" } : Jvm.MethodName)) ∈ lw_tbl := lw_at lw_m3 233 rfl
theorem q842 : (Jvm.Cond.instanceMethod ({ cls := "ThirdWitness$Reade\x72", name := "sees", desc := "()V" } : Jvm.MethodName)) ∈ lw_all := lw_g (lw_at lw_m3 234 rfl) rfl
theorem q843 : (Jvm.Cond.code ({ cls := "ThirdWitness$Reade\x72", name := "sees", desc := "()V" } : Jvm.MethodName) prog_8_method_18_code (3 : Nat) (Option.none : Option Jvm.ClassFile.FieldType)) ∈ lw_all := lw_g (lw_at lw_m3 235 rfl) rfl
theorem q844 : (Jvm.Cond.methodLink "ThirdWitness$Reade\x72" (186 : Nat) ({ cls := "ThirdWitness$Reade\x72", name := "told", desc := "(Ljava/util/ArrayList;)I" } : Jvm.MethodName)) ∈ lw_all := lw_g (lw_at lw_m3 236 rfl) rfl
theorem q845 : (Jvm.Cond.privateMethod ({ cls := "ThirdWitness$Reade\x72", name := "told", desc := "(Ljava/util/ArrayList;)I" } : Jvm.MethodName)) ∈ lw_tbl := lw_at lw_m3 237 rfl
theorem q846 : (Jvm.Cond.instanceMethod ({ cls := "ThirdWitness$Reade\x72", name := "told", desc := "(Ljava/util/ArrayList;)I" } : Jvm.MethodName)) ∈ lw_all := lw_g (lw_at lw_m3 238 rfl) rfl
theorem q847 : (Jvm.Cond.code ({ cls := "ThirdWitness$Reade\x72", name := "told", desc := "(Ljava/util/ArrayList;)I" } : Jvm.MethodName) prog_8_method_12_code (3 : Nat) (Option.some Jvm.ClassFile.FieldType.int)) ∈ lw_all := lw_g (lw_at lw_m3 239 rfl) rfl
theorem q848 : (Jvm.Cond.methodLink "ThirdWitness$Reade\x72" (91 : Nat) ({ cls := "ThirdWitness$Reade\x72", name := "known", desc := "(Ljava/util/ArrayList;)I" } : Jvm.MethodName)) ∈ lw_all := lw_g (lw_at lw_m4 0 rfl) rfl
theorem q849 : (Jvm.Cond.privateMethod ({ cls := "ThirdWitness$Reade\x72", name := "known", desc := "(Ljava/util/ArrayList;)I" } : Jvm.MethodName)) ∈ lw_tbl := lw_at lw_m4 1 rfl
theorem q850 : (Jvm.Cond.instanceMethod ({ cls := "ThirdWitness$Reade\x72", name := "known", desc := "(Ljava/util/ArrayList;)I" } : Jvm.MethodName)) ∈ lw_all := lw_g (lw_at lw_m4 2 rfl) rfl
theorem q851 : (Jvm.Cond.code ({ cls := "ThirdWitness$Reade\x72", name := "known", desc := "(Ljava/util/ArrayList;)I" } : Jvm.MethodName) prog_8_method_11_code (3 : Nat) (Option.some Jvm.ClassFile.FieldType.int)) ∈ lw_all := lw_g (lw_at lw_m4 3 rfl) rfl
theorem q852 : (Jvm.Cond.methodLink "ThirdWitness$Reade\x72" (87 : Nat) ({ cls := "ThirdWitness$Town", name := "find", desc := "(Ljava/util/ArrayList;Ljava/lang/String;)I" } : Jvm.MethodName)) ∈ lw_all := lw_g (lw_at lw_m4 4 rfl) rfl
theorem q853 : (Jvm.Cond.methodLink "ThirdWitness$Reade\x72" (189 : Nat) ({ cls := "ThirdWitness$Town", name := "isSight", desc := "(II)Z" } : Jvm.MethodName)) ∈ lw_all := lw_g (lw_at lw_m4 5 rfl) rfl
theorem q858 : (Jvm.Cond.classLink "ThirdWitness$Reade\x72" (193 : Nat) "ThirdWitness$Sight") ∈ lw_all := lw_g (lw_at lw_m4 10 rfl) rfl
theorem q860 : (Jvm.Cond.methodLink "ThirdWitness$Reade\x72" (195 : Nat) ({ cls := "ThirdWitness$Sight", name := "<init>", desc := "(II)V" } : Jvm.MethodName)) ∈ lw_all := lw_g (lw_at lw_m4 12 rfl) rfl
theorem q877 : (Jvm.Cond.methodLink "ThirdWitness$Reade\x72" (148 : Nat) ({ cls := "ThirdWitness$Reade\x72", name := "person", desc := "()V" } : Jvm.MethodName)) ∈ lw_all := lw_g (lw_at lw_m4 29 rfl) rfl
theorem q878 : (Jvm.Cond.privateMethod ({ cls := "ThirdWitness$Reade\x72", name := "person", desc := "()V" } : Jvm.MethodName)) ∈ lw_tbl := lw_at lw_m4 30 rfl
theorem q879 : (Jvm.Cond.instanceMethod ({ cls := "ThirdWitness$Reade\x72", name := "person", desc := "()V" } : Jvm.MethodName)) ∈ lw_all := lw_g (lw_at lw_m4 31 rfl) rfl
theorem q880 : (Jvm.Cond.code ({ cls := "ThirdWitness$Reade\x72", name := "person", desc := "()V" } : Jvm.MethodName) prog_8_method_20_code (2 : Nat) (Option.none : Option Jvm.ClassFile.FieldType)) ∈ lw_all := lw_g (lw_at lw_m4 32 rfl) rfl
theorem q881 : (Jvm.Cond.methodLink "ThirdWitness$Reade\x72" (220 : Nat) ({ cls := "ThirdWitness$Reade\x72", name := "kind", desc := "(Ljava/lang/String;)LThirdWitness$Person;" } : Jvm.MethodName)) ∈ lw_all := lw_g (lw_at lw_m4 33 rfl) rfl
theorem q882 : (Jvm.Cond.privateMethod ({ cls := "ThirdWitness$Reade\x72", name := "kind", desc := "(Ljava/lang/String;)LThirdWitness$Person;" } : Jvm.MethodName)) ∈ lw_tbl := lw_at lw_m4 34 rfl
theorem q883 : (Jvm.Cond.instanceMethod ({ cls := "ThirdWitness$Reade\x72", name := "kind", desc := "(Ljava/lang/String;)LThirdWitness$Person;" } : Jvm.MethodName)) ∈ lw_all := lw_g (lw_at lw_m4 35 rfl) rfl
theorem q884 : (Jvm.Cond.code ({ cls := "ThirdWitness$Reade\x72", name := "kind", desc := "(Ljava/lang/String;)LThirdWitness$Person;" } : Jvm.MethodName) prog_8_method_19_code (4 : Nat) (Option.some (Jvm.ClassFile.FieldType.object "ThirdWitness$Person"))) ∈ lw_all := lw_g (lw_at lw_m4 36 rfl) rfl
theorem q885 : (Jvm.Cond.stringRef "ThirdWitness$Reade\x72" (197 : Nat) "plain") ∈ lw_tbl := lw_at lw_m4 37 rfl
theorem q886 : (Jvm.Cond.stringRef "ThirdWitness$Reade\x72" (199 : Nat) "deaf") ∈ lw_tbl := lw_at lw_m4 38 rfl
theorem q887 : (Jvm.Cond.stringRef "ThirdWitness$Reade\x72" (201 : Nat) "blind") ∈ lw_tbl := lw_at lw_m4 39 rfl
theorem q888 : (Jvm.Cond.stringRef "ThirdWitness$Reade\x72" (203 : Nat) "babe") ∈ lw_tbl := lw_at lw_m4 40 rfl
theorem q889 : (Jvm.Cond.classLink "ThirdWitness$Reade\x72" (205 : Nat) "ThirdWitness$Person") ∈ lw_all := lw_g (lw_at lw_m4 41 rfl) rfl
theorem q891 : (Jvm.Cond.methodLink "ThirdWitness$Reade\x72" (207 : Nat) ({ cls := "ThirdWitness$Person", name := "<init>", desc := "(Ljava/lang/String;)V" } : Jvm.MethodName)) ∈ lw_all := lw_g (lw_at lw_m4 43 rfl) rfl
theorem q896 : (Jvm.Cond.fieldLink "ThirdWitness$Reade\x72" (240 : Nat) "ThirdWitness$Person" "minute" "[I") ∈ lw_all := lw_g (lw_at lw_m4 48 rfl) rfl
theorem q898 : (Jvm.Cond.fieldLink "ThirdWitness$Reade\x72" (244 : Nat) "ThirdWitness$Person" "place" "[I") ∈ lw_all := lw_g (lw_at lw_m4 50 rfl) rfl
theorem q900 : (Jvm.Cond.fieldLink "ThirdWitness$Reade\x72" (226 : Nat) "ThirdWitness$Person" "first" "I") ∈ lw_all := lw_g (lw_at lw_m4 52 rfl) rfl
theorem q901 : (Jvm.Cond.fieldLink "ThirdWitness$Reade\x72" (231 : Nat) "ThirdWitness$Person" "wit" "I") ∈ lw_all := lw_g (lw_at lw_m4 53 rfl) rfl
theorem q903 : (Jvm.Cond.fieldLink "ThirdWitness$Reade\x72" (280 : Nat) "ThirdWitness$Person" "othe\x72" "I") ∈ lw_all := lw_g (lw_at lw_m4 55 rfl) rfl
theorem q906 : (Jvm.Cond.fieldLink "ThirdWitness$Reade\x72" (239 : Nat) "ThirdWitness$Person" "goings" "I") ∈ lw_all := lw_g (lw_at lw_m4 58 rfl) rfl
theorem q908 : (Jvm.Cond.fieldLink "ThirdWitness$Reade\x72" (266 : Nat) "ThirdWitness$Person" "price" "I") ∈ lw_all := lw_g (lw_at lw_m4 60 rfl) rfl
theorem q910 : (Jvm.Cond.fieldLink "ThirdWitness$Reade\x72" (277 : Nat) "ThirdWitness$Person" "unsure" "Z") ∈ lw_all := lw_g (lw_at lw_m4 62 rfl) rfl
theorem q929 : (Jvm.Cond.classLink "ThirdWitness$Reade\x72" (208 : Nat) "ThirdWitness$Deaf") ∈ lw_all := lw_g (lw_at lw_m4 81 rfl) rfl
theorem q931 : (Jvm.Cond.methodLink "ThirdWitness$Reade\x72" (210 : Nat) ({ cls := "ThirdWitness$Deaf", name := "<init>", desc := "(Ljava/lang/String;)V" } : Jvm.MethodName)) ∈ lw_all := lw_g (lw_at lw_m4 83 rfl) rfl
theorem q945 : (Jvm.Cond.classLink "ThirdWitness$Reade\x72" (211 : Nat) "ThirdWitness$Blind") ∈ lw_all := lw_g (lw_at lw_m4 97 rfl) rfl
theorem q947 : (Jvm.Cond.methodLink "ThirdWitness$Reade\x72" (213 : Nat) ({ cls := "ThirdWitness$Blind", name := "<init>", desc := "(Ljava/lang/String;)V" } : Jvm.MethodName)) ∈ lw_all := lw_g (lw_at lw_m4 99 rfl) rfl
theorem q961 : (Jvm.Cond.classLink "ThirdWitness$Reade\x72" (214 : Nat) "ThirdWitness$Babe") ∈ lw_all := lw_g (lw_at lw_m4 113 rfl) rfl
theorem q963 : (Jvm.Cond.methodLink "ThirdWitness$Reade\x72" (216 : Nat) ({ cls := "ThirdWitness$Babe", name := "<init>", desc := "(Ljava/lang/String;)V" } : Jvm.MethodName)) ∈ lw_all := lw_g (lw_at lw_m4 115 rfl) rfl
theorem q977 : (Jvm.Cond.stringRef "ThirdWitness$Reade\x72" (224 : Nat) "at") ∈ lw_tbl := lw_at lw_m4 129 rfl
theorem q978 : (Jvm.Cond.stringRef "ThirdWitness$Reade\x72" (229 : Nat) "wit") ∈ lw_tbl := lw_at lw_m4 130 rfl
theorem q979 : (Jvm.Cond.methodLink "ThirdWitness$Reade\x72" (150 : Nat) ({ cls := "ThirdWitness$Reade\x72", name := "goes", desc := "()V" } : Jvm.MethodName)) ∈ lw_all := lw_g (lw_at lw_m4 131 rfl) rfl
theorem q980 : (Jvm.Cond.privateMethod ({ cls := "ThirdWitness$Reade\x72", name := "goes", desc := "()V" } : Jvm.MethodName)) ∈ lw_tbl := lw_at lw_m4 132 rfl
theorem q981 : (Jvm.Cond.instanceMethod ({ cls := "ThirdWitness$Reade\x72", name := "goes", desc := "()V" } : Jvm.MethodName)) ∈ lw_all := lw_g (lw_at lw_m4 133 rfl) rfl
theorem q982 : (Jvm.Cond.code ({ cls := "ThirdWitness$Reade\x72", name := "goes", desc := "()V" } : Jvm.MethodName) prog_8_method_21_code (5 : Nat) (Option.none : Option Jvm.ClassFile.FieldType)) ∈ lw_all := lw_g (lw_at lw_m4 134 rfl) rfl
theorem q983 : (Jvm.Cond.methodLink "ThirdWitness$Reade\x72" (236 : Nat) ({ cls := "ThirdWitness$Town", name := "person", desc := "(I)LThirdWitness$Person;" } : Jvm.MethodName)) ∈ lw_all := lw_g (lw_at lw_m4 135 rfl) rfl
theorem q988 : (Jvm.Cond.methodLink "ThirdWitness$Reade\x72" (152 : Nat) ({ cls := "ThirdWitness$Reade\x72", name := "quarrel", desc := "()V" } : Jvm.MethodName)) ∈ lw_all := lw_g (lw_at lw_m4 140 rfl) rfl
theorem q989 : (Jvm.Cond.privateMethod ({ cls := "ThirdWitness$Reade\x72", name := "quarrel", desc := "()V" } : Jvm.MethodName)) ∈ lw_tbl := lw_at lw_m4 141 rfl
theorem q990 : (Jvm.Cond.instanceMethod ({ cls := "ThirdWitness$Reade\x72", name := "quarrel", desc := "()V" } : Jvm.MethodName)) ∈ lw_all := lw_g (lw_at lw_m4 142 rfl) rfl
theorem q991 : (Jvm.Cond.code ({ cls := "ThirdWitness$Reade\x72", name := "quarrel", desc := "()V" } : Jvm.MethodName) prog_8_method_22_code (2 : Nat) (Option.none : Option Jvm.ClassFile.FieldType)) ∈ lw_all := lw_g (lw_at lw_m4 143 rfl) rfl
theorem q992 : (Jvm.Cond.classLink "ThirdWitness$Reade\x72" (249 : Nat) "ThirdWitness$Quarrel") ∈ lw_all := lw_g (lw_at lw_m4 144 rfl) rfl
theorem q994 : (Jvm.Cond.methodLink "ThirdWitness$Reade\x72" (251 : Nat) ({ cls := "ThirdWitness$Quarrel", name := "<init>", desc := "(Ljava/lang/String;)V" } : Jvm.MethodName)) ∈ lw_all := lw_g (lw_at lw_m4 146 rfl) rfl
theorem q998 : (Jvm.Cond.fieldLink "ThirdWitness$Reade\x72" (252 : Nat) "ThirdWitness$Quarrel" "one" "I") ∈ lw_all := lw_g (lw_at lw_m4 150 rfl) rfl
theorem q1000 : (Jvm.Cond.fieldLink "ThirdWitness$Reade\x72" (255 : Nat) "ThirdWitness$Quarrel" "two" "I") ∈ lw_all := lw_g (lw_at lw_m4 152 rfl) rfl
theorem q1002 : (Jvm.Cond.fieldLink "ThirdWitness$Reade\x72" (258 : Nat) "ThirdWitness$Quarrel" "place" "I") ∈ lw_all := lw_g (lw_at lw_m4 154 rfl) rfl
theorem q1004 : (Jvm.Cond.fieldLink "ThirdWitness$Reade\x72" (261 : Nat) "ThirdWitness$Quarrel" "from" "I") ∈ lw_all := lw_g (lw_at lw_m4 156 rfl) rfl
theorem q1006 : (Jvm.Cond.fieldLink "ThirdWitness$Reade\x72" (264 : Nat) "ThirdWitness$Quarrel" "needs" "I") ∈ lw_all := lw_g (lw_at lw_m4 158 rfl) rfl
theorem q1009 : (Jvm.Cond.fieldLink "ThirdWitness$Reade\x72" (288 : Nat) "ThirdWitness$Quarrel" "ended" "I") ∈ lw_all := lw_g (lw_at lw_m4 161 rfl) rfl
theorem q1025 : (Jvm.Cond.stringRef "ThirdWitness$Reade\x72" (259 : Nat) "from") ∈ lw_tbl := lw_at lw_m4 177 rfl
theorem q1026 : (Jvm.Cond.stringRef "ThirdWitness$Reade\x72" (263 : Nat) "needs") ∈ lw_tbl := lw_at lw_m4 178 rfl
theorem q1027 : (Jvm.Cond.methodLink "ThirdWitness$Reade\x72" (154 : Nat) ({ cls := "ThirdWitness$Reade\x72", name := "hire", desc := "()V" } : Jvm.MethodName)) ∈ lw_all := lw_g (lw_at lw_m4 179 rfl) rfl
theorem q1028 : (Jvm.Cond.privateMethod ({ cls := "ThirdWitness$Reade\x72", name := "hire", desc := "()V" } : Jvm.MethodName)) ∈ lw_tbl := lw_at lw_m4 180 rfl
theorem q1029 : (Jvm.Cond.instanceMethod ({ cls := "ThirdWitness$Reade\x72", name := "hire", desc := "()V" } : Jvm.MethodName)) ∈ lw_all := lw_g (lw_at lw_m4 181 rfl) rfl
theorem q1030 : (Jvm.Cond.code ({ cls := "ThirdWitness$Reade\x72", name := "hire", desc := "()V" } : Jvm.MethodName) prog_8_method_23_code (3 : Nat) (Option.none : Option Jvm.ClassFile.FieldType)) ∈ lw_all := lw_g (lw_at lw_m4 182 rfl) rfl
theorem q1031 : (Jvm.Cond.stringRef "ThirdWitness$Reade\x72" (269 : Nat) "fo\x72") ∈ lw_tbl := lw_at lw_m4 183 rfl
theorem q1032 : (Jvm.Cond.methodLink "ThirdWitness$Reade\x72" (156 : Nat) ({ cls := "ThirdWitness$Reade\x72", name := "unsure", desc := "()V" } : Jvm.MethodName)) ∈ lw_all := lw_g (lw_at lw_m4 184 rfl) rfl
theorem q1033 : (Jvm.Cond.privateMethod ({ cls := "ThirdWitness$Reade\x72", name := "unsure", desc := "()V" } : Jvm.MethodName)) ∈ lw_tbl := lw_at lw_m4 185 rfl
theorem q1034 : (Jvm.Cond.instanceMethod ({ cls := "ThirdWitness$Reade\x72", name := "unsure", desc := "()V" } : Jvm.MethodName)) ∈ lw_all := lw_g (lw_at lw_m4 186 rfl) rfl
theorem q1035 : (Jvm.Cond.code ({ cls := "ThirdWitness$Reade\x72", name := "unsure", desc := "()V" } : Jvm.MethodName) prog_8_method_24_code (3 : Nat) (Option.none : Option Jvm.ClassFile.FieldType)) ∈ lw_all := lw_g (lw_at lw_m4 187 rfl) rfl
theorem q1036 : (Jvm.Cond.methodLink "ThirdWitness$Reade\x72" (158 : Nat) ({ cls := "ThirdWitness$Reade\x72", name := "ended", desc := "()V" } : Jvm.MethodName)) ∈ lw_all := lw_g (lw_at lw_m4 188 rfl) rfl
theorem q1037 : (Jvm.Cond.privateMethod ({ cls := "ThirdWitness$Reade\x72", name := "ended", desc := "()V" } : Jvm.MethodName)) ∈ lw_tbl := lw_at lw_m4 189 rfl
theorem q1038 : (Jvm.Cond.instanceMethod ({ cls := "ThirdWitness$Reade\x72", name := "ended", desc := "()V" } : Jvm.MethodName)) ∈ lw_all := lw_g (lw_at lw_m4 190 rfl) rfl
theorem q1039 : (Jvm.Cond.code ({ cls := "ThirdWitness$Reade\x72", name := "ended", desc := "()V" } : Jvm.MethodName) prog_8_method_25_code (3 : Nat) (Option.none : Option Jvm.ClassFile.FieldType)) ∈ lw_all := lw_g (lw_at lw_m4 191 rfl) rfl
theorem q1040 : (Jvm.Cond.methodLink "ThirdWitness$Reade\x72" (285 : Nat) ({ cls := "ThirdWitness$Town", name := "quarrel", desc := "(I)LThirdWitness$Quarrel;" } : Jvm.MethodName)) ∈ lw_all := lw_g (lw_at lw_m4 192 rfl) rfl
theorem q1045 : (Jvm.Cond.methodLink "ThirdWitness$Reade\x72" (98 : Nat) ({ cls := "ThirdWitness$Reade\x72", name := "eatsSemicolon", desc := "()Z" } : Jvm.MethodName)) ∈ lw_all := lw_g (lw_at lw_m4 197 rfl) rfl
theorem q1046 : (Jvm.Cond.privateMethod ({ cls := "ThirdWitness$Reade\x72", name := "eatsSemicolon", desc := "()Z" } : Jvm.MethodName)) ∈ lw_tbl := lw_at lw_m4 198 rfl
theorem q1047 : (Jvm.Cond.instanceMethod ({ cls := "ThirdWitness$Reade\x72", name := "eatsSemicolon", desc := "()Z" } : Jvm.MethodName)) ∈ lw_all := lw_g (lw_at lw_m4 199 rfl) rfl
theorem q1048 : (Jvm.Cond.code ({ cls := "ThirdWitness$Reade\x72", name := "eatsSemicolon", desc := "()Z" } : Jvm.MethodName) prog_8_method_5_code (1 : Nat) (Option.some Jvm.ClassFile.FieldType.boolean)) ∈ lw_all := lw_g (lw_at lw_m4 200 rfl) rfl
theorem q1049 : (Jvm.Cond.methodLink "ThirdWitness$Reade\x72" (108 : Nat) ({ cls := "java/util/ArrayList", name := "isEmpty", desc := "()Z" } : Jvm.MethodName)) ∈ lw_all := lw_g (lw_at lw_m4 201 rfl) rfl
theorem q2309 : (Jvm.Cond.castable "ThirdWitness$Reade\x72" "java/lang/Object") ∈ lw_tbl := lw_at lw_m10 21 rfl
theorem in_X3 : ∀ w ∈ wsX30, w ∈ lw_all := lw_in wsX30 [597, 599, 601, 603, 605] (by decide +kernel) (by decide +kernel)
def RX4 : String := "ThirdWitness$Tokens"
def TX4 : u_T := fun k => match k with
  | 0 => ("ThirdWitness$Tokens", "text", "[B", true)
  | 1 => ("ThirdWitness$Tokens", "size", "I", true)
  | _ => ("ThirdWitness$Tokens", "at", "I", false)
def tyX4 : Nat → FieldType := fun k => match k with
  | 0 => .array .byte
  | 1 => .int
  | _ => .int
abbrev wsX40 : List Cond := u_ws RX4 TX4 3
theorem nmX4 : ∀ a, a < 3 → ∀ b, b < 3 → a ≠ b → (TX4 a).2.1 ≠ (TX4 b).2.1 := by decide +kernel
theorem tyX4_ok : ∀ k, k < 3 → parseFieldDescriptor (TX4 k).2.2.1 = some (tyX4 k) := by decide +kernel
theorem q135 : (Jvm.Cond.initialized "ThirdWitness$Tokens") ∈ lw_all := lw_g (lw_at lw_m1 7 rfl) rfl
theorem q292 : (Jvm.Cond.instantiable "ThirdWitness$Tokens" (3 : Nat)) ∈ lw_all := lw_g (lw_at lw_m1 164 rfl) rfl
theorem q294 : (Jvm.Cond.instanceMethod ({ cls := "ThirdWitness$Tokens", name := "<init>", desc := "([BI)V" } : Jvm.MethodName)) ∈ lw_all := lw_g (lw_at lw_m1 166 rfl) rfl
theorem q295 : (Jvm.Cond.code ({ cls := "ThirdWitness$Tokens", name := "<init>", desc := "([BI)V" } : Jvm.MethodName) prog_12_method_1_code (3 : Nat) (Option.none : Option Jvm.ClassFile.FieldType)) ∈ lw_all := lw_g (lw_at lw_m1 167 rfl) rfl
theorem q296 : (Jvm.Cond.methodLink "ThirdWitness$Tokens" (3 : Nat) ({ cls := "java/lang/Object", name := "<init>", desc := "()V" } : Jvm.MethodName)) ∈ lw_all := lw_g (lw_at lw_m1 168 rfl) rfl
theorem q297 : (Jvm.Cond.fieldLink "ThirdWitness$Tokens" (9 : Nat) "ThirdWitness$Tokens" "text" "[B") ∈ lw_all := lw_g (lw_at lw_m1 169 rfl) rfl
theorem q298 : (Jvm.Cond.fieldLink "ThirdWitness$Tokens" (15 : Nat) "ThirdWitness$Tokens" "size" "I") ∈ lw_all := lw_g (lw_at lw_m1 170 rfl) rfl
theorem q299 : (Jvm.Cond.fieldLink "ThirdWitness$Tokens" (19 : Nat) "ThirdWitness$Tokens" "at" "I") ∈ lw_all := lw_g (lw_at lw_m1 171 rfl) rfl
theorem q300 : (Jvm.Cond.laysFinal "ThirdWitness$Tokens" "ThirdWitness$Tokens" "text" "[B") ∈ lw_all := lw_g (lw_at lw_m1 172 rfl) rfl
theorem q301 : (Jvm.Cond.soleField "ThirdWitness$Tokens" "text") ∈ lw_all := lw_g (lw_at lw_m1 173 rfl) rfl
theorem q302 : (Jvm.Cond.laysFinal "ThirdWitness$Tokens" "ThirdWitness$Tokens" "size" "I") ∈ lw_all := lw_g (lw_at lw_m1 174 rfl) rfl
theorem q303 : (Jvm.Cond.soleField "ThirdWitness$Tokens" "size") ∈ lw_all := lw_g (lw_at lw_m1 175 rfl) rfl
theorem q304 : (Jvm.Cond.lays "ThirdWitness$Tokens" "ThirdWitness$Tokens" "at" "I") ∈ lw_all := lw_g (lw_at lw_m1 176 rfl) rfl
theorem q305 : (Jvm.Cond.soleField "ThirdWitness$Tokens" "at") ∈ lw_all := lw_g (lw_at lw_m1 177 rfl) rfl
theorem q306 : (Jvm.Cond.superclass "ThirdWitness$Tokens" "java/lang/Object") ∈ lw_all := lw_g (lw_at lw_m1 178 rfl) rfl
theorem q369 : (Jvm.Cond.instanceMethod ({ cls := "ThirdWitness$Tokens", name := "next", desc := "()LThirdWitness$Token;" } : Jvm.MethodName)) ∈ lw_all := lw_g (lw_at lw_m2 1 rfl) rfl
theorem q370 : (Jvm.Cond.selects "ThirdWitness$Tokens" ({ cls := "ThirdWitness$Tokens", name := "next", desc := "()LThirdWitness$Token;" } : Jvm.MethodName) ({ cls := "ThirdWitness$Tokens", name := "next", desc := "()LThirdWitness$Token;" } : Jvm.MethodName)) ∈ lw_all := lw_g (lw_at lw_m2 2 rfl) rfl
theorem q371 : (Jvm.Cond.code ({ cls := "ThirdWitness$Tokens", name := "next", desc := "()LThirdWitness$Token;" } : Jvm.MethodName) prog_12_method_3_code (3 : Nat) (Option.some (Jvm.ClassFile.FieldType.object "ThirdWitness$Token"))) ∈ lw_all := lw_g (lw_at lw_m2 3 rfl) rfl
theorem q372 : (Jvm.Cond.methodLink "ThirdWitness$Tokens" (22 : Nat) ({ cls := "ThirdWitness$Tokens", name := "look", desc := "()I" } : Jvm.MethodName)) ∈ lw_all := lw_g (lw_at lw_m2 4 rfl) rfl
theorem q373 : (Jvm.Cond.privateMethod ({ cls := "ThirdWitness$Tokens", name := "look", desc := "()I" } : Jvm.MethodName)) ∈ lw_tbl := lw_at lw_m2 5 rfl
theorem q374 : (Jvm.Cond.instanceMethod ({ cls := "ThirdWitness$Tokens", name := "look", desc := "()I" } : Jvm.MethodName)) ∈ lw_all := lw_g (lw_at lw_m2 6 rfl) rfl
theorem q375 : (Jvm.Cond.code ({ cls := "ThirdWitness$Tokens", name := "look", desc := "()I" } : Jvm.MethodName) prog_12_method_2_code (1 : Nat) (Option.some Jvm.ClassFile.FieldType.int)) ∈ lw_all := lw_g (lw_at lw_m2 7 rfl) rfl
theorem q376 : (Jvm.Cond.classLink "ThirdWitness$Tokens" (26 : Nat) "ThirdWitness$Token") ∈ lw_all := lw_g (lw_at lw_m2 8 rfl) rfl
theorem q378 : (Jvm.Cond.stringRef "ThirdWitness$Tokens" (28 : Nat) "") ∈ lw_tbl := lw_at lw_m2 10 rfl
theorem q379 : (Jvm.Cond.methodLink "ThirdWitness$Tokens" (30 : Nat) ({ cls := "ThirdWitness$Token", name := "<init>", desc := "(IIILjava/lang/String;)V" } : Jvm.MethodName)) ∈ lw_all := lw_g (lw_at lw_m2 11 rfl) rfl
theorem q400 : (Jvm.Cond.methodLinkNest "ThirdWitness$Tokens" (33 : Nat) ({ cls := "ThirdWitness", name := "in", desc := "(III)Z" } : Jvm.MethodName) "ThirdWitness") ∈ lw_tbl := lw_at lw_m2 32 rfl
theorem q401 : (Jvm.Cond.classLink "ThirdWitness$Tokens" (37 : Nat) "java/lang/StringBuilde\x72") ∈ lw_all := lw_g (lw_at lw_m2 33 rfl) rfl
theorem q403 : (Jvm.Cond.methodLink "ThirdWitness$Tokens" (39 : Nat) ({ cls := "java/lang/StringBuilde\x72", name := "<init>", desc := "()V" } : Jvm.MethodName)) ∈ lw_all := lw_g (lw_at lw_m2 35 rfl) rfl
theorem q432 : (Jvm.Cond.methodLink "ThirdWitness$Tokens" (40 : Nat) ({ cls := "java/lang/StringBuilde\x72", name := "append", desc := "(C)Ljava/lang/StringBuilder;" } : Jvm.MethodName)) ∈ lw_all := lw_g (lw_at lw_m2 64 rfl) rfl
theorem q527 : (Jvm.Cond.methodLink "ThirdWitness$Tokens" (44 : Nat) ({ cls := "java/lang/StringBuilde\x72", name := "toString", desc := "()Ljava/lang/String;" } : Jvm.MethodName)) ∈ lw_all := lw_g (lw_at lw_m2 159 rfl) rfl
theorem q823 : (Jvm.Cond.selects "ThirdWitness$Tokens" ({ cls := "java/lang/Object", name := "getClass", desc := "()Ljava/lang/Class;" } : Jvm.MethodName) ({ cls := "java/lang/Object", name := "getClass", desc := "()Ljava/lang/Class;" } : Jvm.MethodName)) ∈ lw_all := lw_g (lw_at lw_m3 215 rfl) rfl
theorem q2310 : (Jvm.Cond.castable "ThirdWitness$Tokens" "java/lang/Object") ∈ lw_tbl := lw_at lw_m10 22 rfl
theorem in_X4 : ∀ w ∈ wsX40, w ∈ lw_all := lw_in wsX40 [300, 302, 304] (by decide +kernel) (by decide +kernel)
def RX5 : String := "ThirdWitness$Town"
def TX5 : u_T := fun k => match k with
  | 0 => ("ThirdWitness$Town", "boys", "I", false)
  | 1 => ("ThirdWitness$Town", "goings", "I", false)
  | 2 => ("ThirdWitness$Town", "hires", "I", false)
  | 3 => ("ThirdWitness$Town", "unsures", "I", false)
  | 4 => ("ThirdWitness$Town", "endings", "I", false)
  | 5 => ("ThirdWitness$Town", "places", "Ljava/util/ArrayList;", true)
  | 6 => ("ThirdWitness$Town", "people", "Ljava/util/ArrayList;", true)
  | 7 => ("ThirdWitness$Town", "quarrels", "Ljava/util/ArrayList;", true)
  | 8 => ("ThirdWitness$Town", "sights", "Ljava/util/ArrayList;", true)
  | _ => ("ThirdWitness$Town", "unsure", "[I", true)
def tyX5 : Nat → FieldType := fun k => match k with
  | 0 => .int
  | 1 => .int
  | 2 => .int
  | 3 => .int
  | 4 => .int
  | 5 => .object "java/util/ArrayList"
  | 6 => .object "java/util/ArrayList"
  | 7 => .object "java/util/ArrayList"
  | 8 => .object "java/util/ArrayList"
  | _ => .array .int
abbrev wsX50 : List Cond := u_ws RX5 TX5 10
theorem nmX5 : ∀ a, a < 10 → ∀ b, b < 10 → a ≠ b → (TX5 a).2.1 ≠ (TX5 b).2.1 := by decide +kernel
theorem tyX5_ok : ∀ k, k < 10 → parseFieldDescriptor (TX5 k).2.2.1 = some (tyX5 k) := by decide +kernel
theorem q136 : (Jvm.Cond.initialized "ThirdWitness$Town") ∈ lw_all := lw_g (lw_at lw_m1 8 rfl) rfl
theorem q312 : (Jvm.Cond.instantiable "ThirdWitness$Town" (10 : Nat)) ∈ lw_all := lw_g (lw_at lw_m1 184 rfl) rfl
theorem q314 : (Jvm.Cond.instanceMethod ({ cls := "ThirdWitness$Town", name := "<init>", desc := "()V" } : Jvm.MethodName)) ∈ lw_all := lw_g (lw_at lw_m1 186 rfl) rfl
theorem q315 : (Jvm.Cond.code ({ cls := "ThirdWitness$Town", name := "<init>", desc := "()V" } : Jvm.MethodName) prog_13_method_1_code (1 : Nat) (Option.none : Option Jvm.ClassFile.FieldType)) ∈ lw_all := lw_g (lw_at lw_m1 187 rfl) rfl
theorem q316 : (Jvm.Cond.methodLink "ThirdWitness$Town" (3 : Nat) ({ cls := "java/lang/Object", name := "<init>", desc := "()V" } : Jvm.MethodName)) ∈ lw_all := lw_g (lw_at lw_m1 188 rfl) rfl
theorem q317 : (Jvm.Cond.classLink "ThirdWitness$Town" (15 : Nat) "java/util/ArrayList") ∈ lw_all := lw_g (lw_at lw_m1 189 rfl) rfl
theorem q318 : (Jvm.Cond.methodLink "ThirdWitness$Town" (17 : Nat) ({ cls := "java/util/ArrayList", name := "<init>", desc := "()V" } : Jvm.MethodName)) ∈ lw_all := lw_g (lw_at lw_m1 190 rfl) rfl
theorem q319 : (Jvm.Cond.fieldLink "ThirdWitness$Town" (9 : Nat) "ThirdWitness$Town" "boys" "I") ∈ lw_all := lw_g (lw_at lw_m1 191 rfl) rfl
theorem q330 : (Jvm.Cond.fieldLink "ThirdWitness$Town" (18 : Nat) "ThirdWitness$Town" "places" "Ljava/util/ArrayList;") ∈ lw_all := lw_g (lw_at lw_m1 202 rfl) rfl
theorem q333 : (Jvm.Cond.fieldLink "ThirdWitness$Town" (22 : Nat) "ThirdWitness$Town" "people" "Ljava/util/ArrayList;") ∈ lw_all := lw_g (lw_at lw_m1 205 rfl) rfl
theorem q337 : (Jvm.Cond.fieldLink "ThirdWitness$Town" (25 : Nat) "ThirdWitness$Town" "quarrels" "Ljava/util/ArrayList;") ∈ lw_all := lw_g (lw_at lw_m1 209 rfl) rfl
theorem q340 : (Jvm.Cond.fieldLink "ThirdWitness$Town" (28 : Nat) "ThirdWitness$Town" "sights" "Ljava/util/ArrayList;") ∈ lw_all := lw_g (lw_at lw_m1 212 rfl) rfl
theorem q344 : (Jvm.Cond.fieldLink "ThirdWitness$Town" (31 : Nat) "ThirdWitness$Town" "unsure" "[I") ∈ lw_all := lw_g (lw_at lw_m1 216 rfl) rfl
theorem q347 : (Jvm.Cond.lays "ThirdWitness$Town" "ThirdWitness$Town" "boys" "I") ∈ lw_all := lw_g (lw_at lw_m1 219 rfl) rfl
theorem q348 : (Jvm.Cond.soleField "ThirdWitness$Town" "boys") ∈ lw_all := lw_g (lw_at lw_m1 220 rfl) rfl
theorem q349 : (Jvm.Cond.lays "ThirdWitness$Town" "ThirdWitness$Town" "goings" "I") ∈ lw_all := lw_g (lw_at lw_m1 221 rfl) rfl
theorem q350 : (Jvm.Cond.soleField "ThirdWitness$Town" "goings") ∈ lw_all := lw_g (lw_at lw_m1 222 rfl) rfl
theorem q351 : (Jvm.Cond.lays "ThirdWitness$Town" "ThirdWitness$Town" "hires" "I") ∈ lw_all := lw_g (lw_at lw_m1 223 rfl) rfl
theorem q352 : (Jvm.Cond.soleField "ThirdWitness$Town" "hires") ∈ lw_all := lw_g (lw_at lw_m1 224 rfl) rfl
theorem q353 : (Jvm.Cond.lays "ThirdWitness$Town" "ThirdWitness$Town" "unsures" "I") ∈ lw_all := lw_g (lw_at lw_m1 225 rfl) rfl
theorem q354 : (Jvm.Cond.soleField "ThirdWitness$Town" "unsures") ∈ lw_all := lw_g (lw_at lw_m1 226 rfl) rfl
theorem q355 : (Jvm.Cond.lays "ThirdWitness$Town" "ThirdWitness$Town" "endings" "I") ∈ lw_all := lw_g (lw_at lw_m1 227 rfl) rfl
theorem q356 : (Jvm.Cond.soleField "ThirdWitness$Town" "endings") ∈ lw_all := lw_g (lw_at lw_m1 228 rfl) rfl
theorem q357 : (Jvm.Cond.laysFinal "ThirdWitness$Town" "ThirdWitness$Town" "places" "Ljava/util/ArrayList;") ∈ lw_all := lw_g (lw_at lw_m1 229 rfl) rfl
theorem q358 : (Jvm.Cond.soleField "ThirdWitness$Town" "places") ∈ lw_all := lw_g (lw_at lw_m1 230 rfl) rfl
theorem q359 : (Jvm.Cond.laysFinal "ThirdWitness$Town" "ThirdWitness$Town" "people" "Ljava/util/ArrayList;") ∈ lw_all := lw_g (lw_at lw_m1 231 rfl) rfl
theorem q360 : (Jvm.Cond.soleField "ThirdWitness$Town" "people") ∈ lw_all := lw_g (lw_at lw_m1 232 rfl) rfl
theorem q361 : (Jvm.Cond.laysFinal "ThirdWitness$Town" "ThirdWitness$Town" "quarrels" "Ljava/util/ArrayList;") ∈ lw_all := lw_g (lw_at lw_m1 233 rfl) rfl
theorem q362 : (Jvm.Cond.soleField "ThirdWitness$Town" "quarrels") ∈ lw_all := lw_g (lw_at lw_m1 234 rfl) rfl
theorem q363 : (Jvm.Cond.laysFinal "ThirdWitness$Town" "ThirdWitness$Town" "sights" "Ljava/util/ArrayList;") ∈ lw_all := lw_g (lw_at lw_m1 235 rfl) rfl
theorem q364 : (Jvm.Cond.soleField "ThirdWitness$Town" "sights") ∈ lw_all := lw_g (lw_at lw_m1 236 rfl) rfl
theorem q365 : (Jvm.Cond.laysFinal "ThirdWitness$Town" "ThirdWitness$Town" "unsure" "[I") ∈ lw_all := lw_g (lw_at lw_m1 237 rfl) rfl
theorem q366 : (Jvm.Cond.soleField "ThirdWitness$Town" "unsure") ∈ lw_all := lw_g (lw_at lw_m1 238 rfl) rfl
theorem q367 : (Jvm.Cond.superclass "ThirdWitness$Town" "java/lang/Object") ∈ lw_all := lw_g (lw_at lw_m1 239 rfl) rfl
theorem q759 : (Jvm.Cond.instanceMethod ({ cls := "ThirdWitness$Town", name := "isName", desc := "(Ljava/lang/String;)Z" } : Jvm.MethodName)) ∈ lw_all := lw_g (lw_at lw_m3 151 rfl) rfl
theorem q760 : (Jvm.Cond.selects "ThirdWitness$Town" ({ cls := "ThirdWitness$Town", name := "isName", desc := "(Ljava/lang/String;)Z" } : Jvm.MethodName) ({ cls := "ThirdWitness$Town", name := "isName", desc := "(Ljava/lang/String;)Z" } : Jvm.MethodName)) ∈ lw_all := lw_g (lw_at lw_m3 152 rfl) rfl
theorem q761 : (Jvm.Cond.code ({ cls := "ThirdWitness$Town", name := "isName", desc := "(Ljava/lang/String;)Z" } : Jvm.MethodName) prog_13_method_5_code (2 : Nat) (Option.some Jvm.ClassFile.FieldType.boolean)) ∈ lw_all := lw_g (lw_at lw_m3 153 rfl) rfl
theorem q762 : (Jvm.Cond.methodLink "ThirdWitness$Town" (59 : Nat) ({ cls := "ThirdWitness$Town", name := "find", desc := "(Ljava/util/ArrayList;Ljava/lang/String;)I" } : Jvm.MethodName)) ∈ lw_all := lw_g (lw_at lw_m3 154 rfl) rfl
theorem q763 : (Jvm.Cond.static ({ cls := "ThirdWitness$Town", name := "find", desc := "(Ljava/util/ArrayList;Ljava/lang/String;)I" } : Jvm.MethodName)) ∈ lw_all := lw_g (lw_at lw_m3 155 rfl) rfl
theorem q764 : (Jvm.Cond.code ({ cls := "ThirdWitness$Town", name := "find", desc := "(Ljava/util/ArrayList;Ljava/lang/String;)I" } : Jvm.MethodName) prog_13_method_4_code (3 : Nat) (Option.some Jvm.ClassFile.FieldType.int)) ∈ lw_all := lw_g (lw_at lw_m3 156 rfl) rfl
theorem q765 : (Jvm.Cond.methodLink "ThirdWitness$Town" (43 : Nat) ({ cls := "java/util/ArrayList", name := "size", desc := "()I" } : Jvm.MethodName)) ∈ lw_all := lw_g (lw_at lw_m3 157 rfl) rfl
theorem q766 : (Jvm.Cond.methodLink "ThirdWitness$Town" (35 : Nat) ({ cls := "java/util/ArrayList", name := "get", desc := "(I)Ljava/lang/Object;" } : Jvm.MethodName)) ∈ lw_all := lw_g (lw_at lw_m3 158 rfl) rfl
theorem q778 : (Jvm.Cond.classLink "ThirdWitness$Town" (47 : Nat) "ThirdWitness$Named") ∈ lw_all := lw_g (lw_at lw_m3 170 rfl) rfl
theorem q779 : (Jvm.Cond.methodLink "ThirdWitness$Town" (53 : Nat) ({ cls := "java/lang/String", name := "equals", desc := "(Ljava/lang/Object;)Z" } : Jvm.MethodName)) ∈ lw_all := lw_g (lw_at lw_m3 171 rfl) rfl
theorem q785 : (Jvm.Cond.fieldLink "ThirdWitness$Town" (49 : Nat) "ThirdWitness$Named" "name" "Ljava/lang/String;") ∈ lw_all := lw_g (lw_at lw_m3 177 rfl) rfl
theorem q824 : (Jvm.Cond.selects "ThirdWitness$Town" ({ cls := "java/lang/Object", name := "getClass", desc := "()Ljava/lang/Class;" } : Jvm.MethodName) ({ cls := "java/lang/Object", name := "getClass", desc := "()Ljava/lang/Class;" } : Jvm.MethodName)) ∈ lw_all := lw_g (lw_at lw_m3 216 rfl) rfl
theorem q854 : (Jvm.Cond.instanceMethod ({ cls := "ThirdWitness$Town", name := "isSight", desc := "(II)Z" } : Jvm.MethodName)) ∈ lw_all := lw_g (lw_at lw_m4 6 rfl) rfl
theorem q855 : (Jvm.Cond.selects "ThirdWitness$Town" ({ cls := "ThirdWitness$Town", name := "isSight", desc := "(II)Z" } : Jvm.MethodName) ({ cls := "ThirdWitness$Town", name := "isSight", desc := "(II)Z" } : Jvm.MethodName)) ∈ lw_all := lw_g (lw_at lw_m4 7 rfl) rfl
theorem q856 : (Jvm.Cond.code ({ cls := "ThirdWitness$Town", name := "isSight", desc := "(II)Z" } : Jvm.MethodName) prog_13_method_6_code (4 : Nat) (Option.some Jvm.ClassFile.FieldType.boolean)) ∈ lw_all := lw_g (lw_at lw_m4 8 rfl) rfl
theorem q857 : (Jvm.Cond.classLink "ThirdWitness$Town" (63 : Nat) "ThirdWitness$Sight") ∈ lw_all := lw_g (lw_at lw_m4 9 rfl) rfl
theorem q865 : (Jvm.Cond.fieldLink "ThirdWitness$Town" (65 : Nat) "ThirdWitness$Sight" "from" "I") ∈ lw_all := lw_g (lw_at lw_m4 17 rfl) rfl
theorem q869 : (Jvm.Cond.fieldLink "ThirdWitness$Town" (68 : Nat) "ThirdWitness$Sight" "into" "I") ∈ lw_all := lw_g (lw_at lw_m4 21 rfl) rfl
theorem q984 : (Jvm.Cond.instanceMethod ({ cls := "ThirdWitness$Town", name := "person", desc := "(I)LThirdWitness$Person;" } : Jvm.MethodName)) ∈ lw_all := lw_g (lw_at lw_m4 136 rfl) rfl
theorem q985 : (Jvm.Cond.selects "ThirdWitness$Town" ({ cls := "ThirdWitness$Town", name := "person", desc := "(I)LThirdWitness$Person;" } : Jvm.MethodName) ({ cls := "ThirdWitness$Town", name := "person", desc := "(I)LThirdWitness$Person;" } : Jvm.MethodName)) ∈ lw_all := lw_g (lw_at lw_m4 137 rfl) rfl
theorem q986 : (Jvm.Cond.code ({ cls := "ThirdWitness$Town", name := "person", desc := "(I)LThirdWitness$Person;" } : Jvm.MethodName) prog_13_method_2_code (2 : Nat) (Option.some (Jvm.ClassFile.FieldType.object "ThirdWitness$Person"))) ∈ lw_all := lw_g (lw_at lw_m4 138 rfl) rfl
theorem q987 : (Jvm.Cond.classLink "ThirdWitness$Town" (39 : Nat) "ThirdWitness$Person") ∈ lw_all := lw_g (lw_at lw_m4 139 rfl) rfl
theorem q1041 : (Jvm.Cond.instanceMethod ({ cls := "ThirdWitness$Town", name := "quarrel", desc := "(I)LThirdWitness$Quarrel;" } : Jvm.MethodName)) ∈ lw_all := lw_g (lw_at lw_m4 193 rfl) rfl
theorem q1042 : (Jvm.Cond.selects "ThirdWitness$Town" ({ cls := "ThirdWitness$Town", name := "quarrel", desc := "(I)LThirdWitness$Quarrel;" } : Jvm.MethodName) ({ cls := "ThirdWitness$Town", name := "quarrel", desc := "(I)LThirdWitness$Quarrel;" } : Jvm.MethodName)) ∈ lw_all := lw_g (lw_at lw_m4 194 rfl) rfl
theorem q1043 : (Jvm.Cond.code ({ cls := "ThirdWitness$Town", name := "quarrel", desc := "(I)LThirdWitness$Quarrel;" } : Jvm.MethodName) prog_13_method_3_code (2 : Nat) (Option.some (Jvm.ClassFile.FieldType.object "ThirdWitness$Quarrel"))) ∈ lw_all := lw_g (lw_at lw_m4 195 rfl) rfl
theorem q1044 : (Jvm.Cond.classLink "ThirdWitness$Town" (41 : Nat) "ThirdWitness$Quarrel") ∈ lw_all := lw_g (lw_at lw_m4 196 rfl) rfl
theorem q2311 : (Jvm.Cond.castable "ThirdWitness$Town" "java/lang/Object") ∈ lw_tbl := lw_at lw_m10 23 rfl
theorem in_X5 : ∀ w ∈ wsX50, w ∈ lw_all := lw_in wsX50 [347, 349, 351, 353, 355, 357, 359, 361, 363, 365] (by decide +kernel) (by decide +kernel)
def RX6 : String := "ThirdWitness$Token"
def TX6 : u_T := fun k => match k with
  | 0 => ("ThirdWitness$Token", "sort", "I", true)
  | 1 => ("ThirdWitness$Token", "place", "I", true)
  | 2 => ("ThirdWitness$Token", "numbe\x72", "I", true)
  | _ => ("ThirdWitness$Token", "word", "Ljava/lang/String;", true)
def tyX6 : Nat → FieldType := fun k => match k with
  | 0 => .int
  | 1 => .int
  | 2 => .int
  | _ => .object "java/lang/String"
abbrev wsX60 : List Cond := u_ws RX6 TX6 4
theorem nmX6 : ∀ a, a < 4 → ∀ b, b < 4 → a ≠ b → (TX6 a).2.1 ≠ (TX6 b).2.1 := by decide +kernel
theorem tyX6_ok : ∀ k, k < 4 → parseFieldDescriptor (TX6 k).2.2.1 = some (tyX6 k) := by decide +kernel
theorem q137 : (Jvm.Cond.initialized "ThirdWitness$Token") ∈ lw_all := lw_g (lw_at lw_m1 9 rfl) rfl
theorem q377 : (Jvm.Cond.instantiable "ThirdWitness$Token" (4 : Nat)) ∈ lw_all := lw_g (lw_at lw_m2 9 rfl) rfl
theorem q380 : (Jvm.Cond.instanceMethod ({ cls := "ThirdWitness$Token", name := "<init>", desc := "(IIILjava/lang/String;)V" } : Jvm.MethodName)) ∈ lw_all := lw_g (lw_at lw_m2 12 rfl) rfl
theorem q381 : (Jvm.Cond.code ({ cls := "ThirdWitness$Token", name := "<init>", desc := "(IIILjava/lang/String;)V" } : Jvm.MethodName) prog_11_method_1_code (5 : Nat) (Option.none : Option Jvm.ClassFile.FieldType)) ∈ lw_all := lw_g (lw_at lw_m2 13 rfl) rfl
theorem q382 : (Jvm.Cond.methodLink "ThirdWitness$Token" (1 : Nat) ({ cls := "java/lang/Object", name := "<init>", desc := "()V" } : Jvm.MethodName)) ∈ lw_all := lw_g (lw_at lw_m2 14 rfl) rfl
theorem q383 : (Jvm.Cond.fieldLink "ThirdWitness$Token" (7 : Nat) "ThirdWitness$Token" "sort" "I") ∈ lw_all := lw_g (lw_at lw_m2 15 rfl) rfl
theorem q385 : (Jvm.Cond.fieldLink "ThirdWitness$Token" (13 : Nat) "ThirdWitness$Token" "place" "I") ∈ lw_all := lw_g (lw_at lw_m2 17 rfl) rfl
theorem q387 : (Jvm.Cond.fieldLink "ThirdWitness$Token" (16 : Nat) "ThirdWitness$Token" "numbe\x72" "I") ∈ lw_all := lw_g (lw_at lw_m2 19 rfl) rfl
theorem q389 : (Jvm.Cond.fieldLink "ThirdWitness$Token" (19 : Nat) "ThirdWitness$Token" "word" "Ljava/lang/String;") ∈ lw_all := lw_g (lw_at lw_m2 21 rfl) rfl
theorem q391 : (Jvm.Cond.laysFinal "ThirdWitness$Token" "ThirdWitness$Token" "sort" "I") ∈ lw_all := lw_g (lw_at lw_m2 23 rfl) rfl
theorem q392 : (Jvm.Cond.soleField "ThirdWitness$Token" "sort") ∈ lw_all := lw_g (lw_at lw_m2 24 rfl) rfl
theorem q393 : (Jvm.Cond.laysFinal "ThirdWitness$Token" "ThirdWitness$Token" "place" "I") ∈ lw_all := lw_g (lw_at lw_m2 25 rfl) rfl
theorem q394 : (Jvm.Cond.soleField "ThirdWitness$Token" "place") ∈ lw_all := lw_g (lw_at lw_m2 26 rfl) rfl
theorem q395 : (Jvm.Cond.laysFinal "ThirdWitness$Token" "ThirdWitness$Token" "numbe\x72" "I") ∈ lw_all := lw_g (lw_at lw_m2 27 rfl) rfl
theorem q396 : (Jvm.Cond.soleField "ThirdWitness$Token" "numbe\x72") ∈ lw_all := lw_g (lw_at lw_m2 28 rfl) rfl
theorem q397 : (Jvm.Cond.laysFinal "ThirdWitness$Token" "ThirdWitness$Token" "word" "Ljava/lang/String;") ∈ lw_all := lw_g (lw_at lw_m2 29 rfl) rfl
theorem q398 : (Jvm.Cond.soleField "ThirdWitness$Token" "word") ∈ lw_all := lw_g (lw_at lw_m2 30 rfl) rfl
theorem q399 : (Jvm.Cond.superclass "ThirdWitness$Token" "java/lang/Object") ∈ lw_all := lw_g (lw_at lw_m2 31 rfl) rfl
theorem q713 : (Jvm.Cond.instanceMethod ({ cls := "ThirdWitness$Token", name := "is", desc := "(Ljava/lang/String;)Z" } : Jvm.MethodName)) ∈ lw_all := lw_g (lw_at lw_m3 105 rfl) rfl
theorem q714 : (Jvm.Cond.selects "ThirdWitness$Token" ({ cls := "ThirdWitness$Token", name := "is", desc := "(Ljava/lang/String;)Z" } : Jvm.MethodName) ({ cls := "ThirdWitness$Token", name := "is", desc := "(Ljava/lang/String;)Z" } : Jvm.MethodName)) ∈ lw_all := lw_g (lw_at lw_m3 106 rfl) rfl
theorem q715 : (Jvm.Cond.code ({ cls := "ThirdWitness$Token", name := "is", desc := "(Ljava/lang/String;)Z" } : Jvm.MethodName) prog_11_method_2_code (2 : Nat) (Option.some Jvm.ClassFile.FieldType.boolean)) ∈ lw_all := lw_g (lw_at lw_m3 107 rfl) rfl
theorem q716 : (Jvm.Cond.methodLink "ThirdWitness$Token" (23 : Nat) ({ cls := "java/lang/String", name := "equals", desc := "(Ljava/lang/Object;)Z" } : Jvm.MethodName)) ∈ lw_all := lw_g (lw_at lw_m3 108 rfl) rfl
theorem q745 : (Jvm.Cond.instanceMethod ({ cls := "ThirdWitness$Token", name := "isName", desc := "()Z" } : Jvm.MethodName)) ∈ lw_all := lw_g (lw_at lw_m3 137 rfl) rfl
theorem q746 : (Jvm.Cond.selects "ThirdWitness$Token" ({ cls := "ThirdWitness$Token", name := "isName", desc := "()Z" } : Jvm.MethodName) ({ cls := "ThirdWitness$Token", name := "isName", desc := "()Z" } : Jvm.MethodName)) ∈ lw_all := lw_g (lw_at lw_m3 138 rfl) rfl
theorem q747 : (Jvm.Cond.code ({ cls := "ThirdWitness$Token", name := "isName", desc := "()Z" } : Jvm.MethodName) prog_11_method_3_code (3 : Nat) (Option.some Jvm.ClassFile.FieldType.boolean)) ∈ lw_all := lw_g (lw_at lw_m3 139 rfl) rfl
theorem q748 : (Jvm.Cond.methodLink "ThirdWitness$Token" (29 : Nat) ({ cls := "java/lang/String", name := "hashCode", desc := "()I" } : Jvm.MethodName)) ∈ lw_all := lw_g (lw_at lw_m3 140 rfl) rfl
theorem q749 : (Jvm.Cond.stringRef "ThirdWitness$Token" (33 : Nat) "town") ∈ lw_tbl := lw_at lw_m3 141 rfl
theorem q750 : (Jvm.Cond.stringRef "ThirdWitness$Token" (35 : Nat) "place") ∈ lw_tbl := lw_at lw_m3 142 rfl
theorem q751 : (Jvm.Cond.stringRef "ThirdWitness$Token" (36 : Nat) "sees") ∈ lw_tbl := lw_at lw_m3 143 rfl
theorem q752 : (Jvm.Cond.stringRef "ThirdWitness$Token" (38 : Nat) "person") ∈ lw_tbl := lw_at lw_m3 144 rfl
theorem q753 : (Jvm.Cond.stringRef "ThirdWitness$Token" (40 : Nat) "goes") ∈ lw_tbl := lw_at lw_m3 145 rfl
theorem q754 : (Jvm.Cond.stringRef "ThirdWitness$Token" (42 : Nat) "quarrel") ∈ lw_tbl := lw_at lw_m3 146 rfl
theorem q755 : (Jvm.Cond.stringRef "ThirdWitness$Token" (44 : Nat) "hire") ∈ lw_tbl := lw_at lw_m3 147 rfl
theorem q756 : (Jvm.Cond.stringRef "ThirdWitness$Token" (46 : Nat) "unsure") ∈ lw_tbl := lw_at lw_m3 148 rfl
theorem q757 : (Jvm.Cond.stringRef "ThirdWitness$Token" (48 : Nat) "ended") ∈ lw_tbl := lw_at lw_m3 149 rfl
theorem q822 : (Jvm.Cond.selects "ThirdWitness$Token" ({ cls := "java/lang/Object", name := "getClass", desc := "()Ljava/lang/Class;" } : Jvm.MethodName) ({ cls := "java/lang/Object", name := "getClass", desc := "()Ljava/lang/Class;" } : Jvm.MethodName)) ∈ lw_all := lw_g (lw_at lw_m3 214 rfl) rfl
theorem q2312 : (Jvm.Cond.castable "ThirdWitness$Token" "java/lang/Object") ∈ lw_tbl := lw_at lw_m10 24 rfl
theorem in_X6 : ∀ w ∈ wsX60, w ∈ lw_all := lw_in wsX60 [391, 393, 395, 397] (by decide +kernel) (by decide +kernel)
def RX7 : String := "ThirdWitness$Named"
def TX7 : u_T := fun k => match k with
  | _ => ("ThirdWitness$Named", "name", "Ljava/lang/String;", true)
def tyX7 : Nat → FieldType := fun k => match k with
  | _ => .object "java/lang/String"
abbrev wsX70 : List Cond := u_ws RX7 TX7 1
theorem nmX7 : ∀ a, a < 1 → ∀ b, b < 1 → a ≠ b → (TX7 a).2.1 ≠ (TX7 b).2.1 := by decide +kernel
theorem tyX7_ok : ∀ k, k < 1 → parseFieldDescriptor (TX7 k).2.2.1 = some (tyX7 k) := by decide +kernel
theorem q148 : (Jvm.Cond.initialized "ThirdWitness$Named") ∈ lw_all := lw_g (lw_at lw_m1 20 rfl) rfl
theorem q739 : (Jvm.Cond.instantiable "ThirdWitness$Named" (1 : Nat)) ∈ lw_all := lw_g (lw_at lw_m3 131 rfl) rfl
theorem q781 : (Jvm.Cond.instanceMethod ({ cls := "ThirdWitness$Named", name := "<init>", desc := "(Ljava/lang/String;)V" } : Jvm.MethodName)) ∈ lw_all := lw_g (lw_at lw_m3 173 rfl) rfl
theorem q782 : (Jvm.Cond.code ({ cls := "ThirdWitness$Named", name := "<init>", desc := "(Ljava/lang/String;)V" } : Jvm.MethodName) prog_5_method_1_code (2 : Nat) (Option.none : Option Jvm.ClassFile.FieldType)) ∈ lw_all := lw_g (lw_at lw_m3 174 rfl) rfl
theorem q783 : (Jvm.Cond.methodLink "ThirdWitness$Named" (1 : Nat) ({ cls := "java/lang/Object", name := "<init>", desc := "()V" } : Jvm.MethodName)) ∈ lw_all := lw_g (lw_at lw_m3 175 rfl) rfl
theorem q784 : (Jvm.Cond.fieldLink "ThirdWitness$Named" (7 : Nat) "ThirdWitness$Named" "name" "Ljava/lang/String;") ∈ lw_all := lw_g (lw_at lw_m3 176 rfl) rfl
theorem q786 : (Jvm.Cond.laysFinal "ThirdWitness$Named" "ThirdWitness$Named" "name" "Ljava/lang/String;") ∈ lw_all := lw_g (lw_at lw_m3 178 rfl) rfl
theorem q787 : (Jvm.Cond.soleField "ThirdWitness$Named" "name") ∈ lw_all := lw_g (lw_at lw_m3 179 rfl) rfl
theorem q788 : (Jvm.Cond.superclass "ThirdWitness$Named" "java/lang/Object") ∈ lw_all := lw_g (lw_at lw_m3 180 rfl) rfl
theorem q816 : (Jvm.Cond.selects "ThirdWitness$Named" ({ cls := "java/lang/Object", name := "getClass", desc := "()Ljava/lang/Class;" } : Jvm.MethodName) ({ cls := "java/lang/Object", name := "getClass", desc := "()Ljava/lang/Class;" } : Jvm.MethodName)) ∈ lw_all := lw_g (lw_at lw_m3 208 rfl) rfl
theorem q2316 : (Jvm.Cond.castable "ThirdWitness$Named" "java/lang/Object") ∈ lw_tbl := lw_at lw_m10 28 rfl
theorem in_X7 : ∀ w ∈ wsX70, w ∈ lw_all := lw_in wsX70 [786] (by decide +kernel) (by decide +kernel)
def RX8 : String := "ThirdWitness$Sight"
def TX8 : u_T := fun k => match k with
  | 0 => ("ThirdWitness$Sight", "from", "I", true)
  | _ => ("ThirdWitness$Sight", "into", "I", true)
def tyX8 : Nat → FieldType := fun k => match k with
  | 0 => .int
  | _ => .int
abbrev wsX80 : List Cond := u_ws RX8 TX8 2
theorem nmX8 : ∀ a, a < 2 → ∀ b, b < 2 → a ≠ b → (TX8 a).2.1 ≠ (TX8 b).2.1 := by decide +kernel
theorem tyX8_ok : ∀ k, k < 2 → parseFieldDescriptor (TX8 k).2.2.1 = some (tyX8 k) := by decide +kernel
theorem q150 : (Jvm.Cond.initialized "ThirdWitness$Sight") ∈ lw_all := lw_g (lw_at lw_m1 22 rfl) rfl
theorem q821 : (Jvm.Cond.selects "ThirdWitness$Sight" ({ cls := "java/lang/Object", name := "getClass", desc := "()Ljava/lang/Class;" } : Jvm.MethodName) ({ cls := "java/lang/Object", name := "getClass", desc := "()Ljava/lang/Class;" } : Jvm.MethodName)) ∈ lw_all := lw_g (lw_at lw_m3 213 rfl) rfl
theorem q859 : (Jvm.Cond.instantiable "ThirdWitness$Sight" (2 : Nat)) ∈ lw_all := lw_g (lw_at lw_m4 11 rfl) rfl
theorem q861 : (Jvm.Cond.instanceMethod ({ cls := "ThirdWitness$Sight", name := "<init>", desc := "(II)V" } : Jvm.MethodName)) ∈ lw_all := lw_g (lw_at lw_m4 13 rfl) rfl
theorem q862 : (Jvm.Cond.code ({ cls := "ThirdWitness$Sight", name := "<init>", desc := "(II)V" } : Jvm.MethodName) prog_10_method_1_code (3 : Nat) (Option.none : Option Jvm.ClassFile.FieldType)) ∈ lw_all := lw_g (lw_at lw_m4 14 rfl) rfl
theorem q863 : (Jvm.Cond.methodLink "ThirdWitness$Sight" (1 : Nat) ({ cls := "java/lang/Object", name := "<init>", desc := "()V" } : Jvm.MethodName)) ∈ lw_all := lw_g (lw_at lw_m4 15 rfl) rfl
theorem q864 : (Jvm.Cond.fieldLink "ThirdWitness$Sight" (7 : Nat) "ThirdWitness$Sight" "from" "I") ∈ lw_all := lw_g (lw_at lw_m4 16 rfl) rfl
theorem q868 : (Jvm.Cond.fieldLink "ThirdWitness$Sight" (13 : Nat) "ThirdWitness$Sight" "into" "I") ∈ lw_all := lw_g (lw_at lw_m4 20 rfl) rfl
theorem q872 : (Jvm.Cond.laysFinal "ThirdWitness$Sight" "ThirdWitness$Sight" "from" "I") ∈ lw_all := lw_g (lw_at lw_m4 24 rfl) rfl
theorem q873 : (Jvm.Cond.soleField "ThirdWitness$Sight" "from") ∈ lw_all := lw_g (lw_at lw_m4 25 rfl) rfl
theorem q874 : (Jvm.Cond.laysFinal "ThirdWitness$Sight" "ThirdWitness$Sight" "into" "I") ∈ lw_all := lw_g (lw_at lw_m4 26 rfl) rfl
theorem q875 : (Jvm.Cond.soleField "ThirdWitness$Sight" "into") ∈ lw_all := lw_g (lw_at lw_m4 27 rfl) rfl
theorem q876 : (Jvm.Cond.superclass "ThirdWitness$Sight" "java/lang/Object") ∈ lw_all := lw_g (lw_at lw_m4 28 rfl) rfl
theorem q2317 : (Jvm.Cond.castable "ThirdWitness$Sight" "java/lang/Object") ∈ lw_tbl := lw_at lw_m10 29 rfl
theorem in_X8 : ∀ w ∈ wsX80, w ∈ lw_all := lw_in wsX80 [872, 874] (by decide +kernel) (by decide +kernel)
def RX9 : String := "ThirdWitness$Person"
def TX9 : u_T := fun k => match k with
  | 0 => ("ThirdWitness$Named", "name", "Ljava/lang/String;", true)
  | 1 => ("ThirdWitness$Person", "minute", "[I", true)
  | 2 => ("ThirdWitness$Person", "place", "[I", true)
  | 3 => ("ThirdWitness$Person", "first", "I", false)
  | 4 => ("ThirdWitness$Person", "wit", "I", false)
  | 5 => ("ThirdWitness$Person", "othe\x72", "I", false)
  | 6 => ("ThirdWitness$Person", "goings", "I", false)
  | 7 => ("ThirdWitness$Person", "price", "I", false)
  | _ => ("ThirdWitness$Person", "unsure", "Z", false)
def tyX9 : Nat → FieldType := fun k => match k with
  | 0 => .object "java/lang/String"
  | 1 => .array .int
  | 2 => .array .int
  | 3 => .int
  | 4 => .int
  | 5 => .int
  | 6 => .int
  | 7 => .int
  | _ => .boolean
abbrev wsX90 : List Cond := u_ws RX9 TX9 9
theorem nmX9 : ∀ a, a < 9 → ∀ b, b < 9 → a ≠ b → (TX9 a).2.1 ≠ (TX9 b).2.1 := by decide +kernel
theorem tyX9_ok : ∀ k, k < 9 → parseFieldDescriptor (TX9 k).2.2.1 = some (tyX9 k) := by decide +kernel
theorem q151 : (Jvm.Cond.initialized "ThirdWitness$Person") ∈ lw_all := lw_g (lw_at lw_m1 23 rfl) rfl
theorem q817 : (Jvm.Cond.selects "ThirdWitness$Person" ({ cls := "java/lang/Object", name := "getClass", desc := "()Ljava/lang/Class;" } : Jvm.MethodName) ({ cls := "java/lang/Object", name := "getClass", desc := "()Ljava/lang/Class;" } : Jvm.MethodName)) ∈ lw_all := lw_g (lw_at lw_m3 209 rfl) rfl
theorem q890 : (Jvm.Cond.instantiable "ThirdWitness$Person" (9 : Nat)) ∈ lw_all := lw_g (lw_at lw_m4 42 rfl) rfl
theorem q892 : (Jvm.Cond.instanceMethod ({ cls := "ThirdWitness$Person", name := "<init>", desc := "(Ljava/lang/String;)V" } : Jvm.MethodName)) ∈ lw_all := lw_g (lw_at lw_m4 44 rfl) rfl
theorem q893 : (Jvm.Cond.code ({ cls := "ThirdWitness$Person", name := "<init>", desc := "(Ljava/lang/String;)V" } : Jvm.MethodName) prog_6_method_1_code (2 : Nat) (Option.none : Option Jvm.ClassFile.FieldType)) ∈ lw_all := lw_g (lw_at lw_m4 45 rfl) rfl
theorem q894 : (Jvm.Cond.methodLink "ThirdWitness$Person" (3 : Nat) ({ cls := "ThirdWitness$Named", name := "<init>", desc := "(Ljava/lang/String;)V" } : Jvm.MethodName)) ∈ lw_all := lw_g (lw_at lw_m4 46 rfl) rfl
theorem q895 : (Jvm.Cond.fieldLink "ThirdWitness$Person" (9 : Nat) "ThirdWitness$Person" "minute" "[I") ∈ lw_all := lw_g (lw_at lw_m4 47 rfl) rfl
theorem q897 : (Jvm.Cond.fieldLink "ThirdWitness$Person" (15 : Nat) "ThirdWitness$Person" "place" "[I") ∈ lw_all := lw_g (lw_at lw_m4 49 rfl) rfl
theorem q899 : (Jvm.Cond.fieldLink "ThirdWitness$Person" (22 : Nat) "ThirdWitness$Person" "first" "I") ∈ lw_all := lw_g (lw_at lw_m4 51 rfl) rfl
theorem q905 : (Jvm.Cond.fieldLink "ThirdWitness$Person" (25 : Nat) "ThirdWitness$Person" "goings" "I") ∈ lw_all := lw_g (lw_at lw_m4 57 rfl) rfl
theorem q907 : (Jvm.Cond.fieldLink "ThirdWitness$Person" (18 : Nat) "ThirdWitness$Person" "price" "I") ∈ lw_all := lw_g (lw_at lw_m4 59 rfl) rfl
theorem q911 : (Jvm.Cond.laysFinal "ThirdWitness$Person" "ThirdWitness$Person" "minute" "[I") ∈ lw_all := lw_g (lw_at lw_m4 63 rfl) rfl
theorem q912 : (Jvm.Cond.soleField "ThirdWitness$Person" "minute") ∈ lw_all := lw_g (lw_at lw_m4 64 rfl) rfl
theorem q913 : (Jvm.Cond.laysFinal "ThirdWitness$Person" "ThirdWitness$Person" "place" "[I") ∈ lw_all := lw_g (lw_at lw_m4 65 rfl) rfl
theorem q914 : (Jvm.Cond.soleField "ThirdWitness$Person" "place") ∈ lw_all := lw_g (lw_at lw_m4 66 rfl) rfl
theorem q915 : (Jvm.Cond.lays "ThirdWitness$Person" "ThirdWitness$Person" "first" "I") ∈ lw_all := lw_g (lw_at lw_m4 67 rfl) rfl
theorem q916 : (Jvm.Cond.soleField "ThirdWitness$Person" "first") ∈ lw_all := lw_g (lw_at lw_m4 68 rfl) rfl
theorem q917 : (Jvm.Cond.lays "ThirdWitness$Person" "ThirdWitness$Person" "wit" "I") ∈ lw_all := lw_g (lw_at lw_m4 69 rfl) rfl
theorem q918 : (Jvm.Cond.soleField "ThirdWitness$Person" "wit") ∈ lw_all := lw_g (lw_at lw_m4 70 rfl) rfl
theorem q919 : (Jvm.Cond.lays "ThirdWitness$Person" "ThirdWitness$Person" "othe\x72" "I") ∈ lw_all := lw_g (lw_at lw_m4 71 rfl) rfl
theorem q920 : (Jvm.Cond.soleField "ThirdWitness$Person" "othe\x72") ∈ lw_all := lw_g (lw_at lw_m4 72 rfl) rfl
theorem q921 : (Jvm.Cond.lays "ThirdWitness$Person" "ThirdWitness$Person" "goings" "I") ∈ lw_all := lw_g (lw_at lw_m4 73 rfl) rfl
theorem q922 : (Jvm.Cond.soleField "ThirdWitness$Person" "goings") ∈ lw_all := lw_g (lw_at lw_m4 74 rfl) rfl
theorem q923 : (Jvm.Cond.lays "ThirdWitness$Person" "ThirdWitness$Person" "price" "I") ∈ lw_all := lw_g (lw_at lw_m4 75 rfl) rfl
theorem q924 : (Jvm.Cond.soleField "ThirdWitness$Person" "price") ∈ lw_all := lw_g (lw_at lw_m4 76 rfl) rfl
theorem q925 : (Jvm.Cond.lays "ThirdWitness$Person" "ThirdWitness$Person" "unsure" "Z") ∈ lw_all := lw_g (lw_at lw_m4 77 rfl) rfl
theorem q926 : (Jvm.Cond.soleField "ThirdWitness$Person" "unsure") ∈ lw_all := lw_g (lw_at lw_m4 78 rfl) rfl
theorem q927 : (Jvm.Cond.laysFinal "ThirdWitness$Person" "ThirdWitness$Named" "name" "Ljava/lang/String;") ∈ lw_all := lw_g (lw_at lw_m4 79 rfl) rfl
theorem q928 : (Jvm.Cond.superclass "ThirdWitness$Person" "ThirdWitness$Named") ∈ lw_all := lw_g (lw_at lw_m4 80 rfl) rfl
theorem q1125 : (Jvm.Cond.instanceMethod ({ cls := "ThirdWitness$Person", name := "kind", desc := "()I" } : Jvm.MethodName)) ∈ lw_all := lw_g (lw_at lw_m5 37 rfl) rfl
theorem q1126 : (Jvm.Cond.selects "ThirdWitness$Person" ({ cls := "ThirdWitness$Person", name := "kind", desc := "()I" } : Jvm.MethodName) ({ cls := "ThirdWitness$Person", name := "kind", desc := "()I" } : Jvm.MethodName)) ∈ lw_all := lw_g (lw_at lw_m5 38 rfl) rfl
theorem q1127 : (Jvm.Cond.sameMethod "ThirdWitness$Person" "ThirdWitness$Person" "kind" "()I") ∈ lw_all := lw_g (lw_at lw_m5 39 rfl) rfl
theorem q1137 : (Jvm.Cond.code ({ cls := "ThirdWitness$Person", name := "kind", desc := "()I" } : Jvm.MethodName) prog_6_method_2_code (1 : Nat) (Option.some Jvm.ClassFile.FieldType.int)) ∈ lw_all := lw_g (lw_at lw_m5 49 rfl) rfl
theorem q1139 : (Jvm.Cond.instanceMethod ({ cls := "ThirdWitness$Person", name := "eyes", desc := "()I" } : Jvm.MethodName)) ∈ lw_all := lw_g (lw_at lw_m5 51 rfl) rfl
theorem q1140 : (Jvm.Cond.selects "ThirdWitness$Person" ({ cls := "ThirdWitness$Person", name := "eyes", desc := "()I" } : Jvm.MethodName) ({ cls := "ThirdWitness$Person", name := "eyes", desc := "()I" } : Jvm.MethodName)) ∈ lw_all := lw_g (lw_at lw_m5 52 rfl) rfl
theorem q1141 : (Jvm.Cond.sameMethod "ThirdWitness$Person" "ThirdWitness$Person" "eyes" "()I") ∈ lw_all := lw_g (lw_at lw_m5 53 rfl) rfl
theorem q1146 : (Jvm.Cond.code ({ cls := "ThirdWitness$Person", name := "eyes", desc := "()I" } : Jvm.MethodName) prog_6_method_3_code (1 : Nat) (Option.some Jvm.ClassFile.FieldType.int)) ∈ lw_all := lw_g (lw_at lw_m5 58 rfl) rfl
theorem q1199 : (Jvm.Cond.instanceMethod ({ cls := "ThirdWitness$Person", name := "at", desc := "(I)I" } : Jvm.MethodName)) ∈ lw_all := lw_g (lw_at lw_m5 111 rfl) rfl
theorem q1200 : (Jvm.Cond.selects "ThirdWitness$Person" ({ cls := "ThirdWitness$Person", name := "at", desc := "(I)I" } : Jvm.MethodName) ({ cls := "ThirdWitness$Person", name := "at", desc := "(I)I" } : Jvm.MethodName)) ∈ lw_all := lw_g (lw_at lw_m5 112 rfl) rfl
theorem q1201 : (Jvm.Cond.sameMethod "ThirdWitness$Person" "ThirdWitness$Person" "at" "(I)I") ∈ lw_all := lw_g (lw_at lw_m5 113 rfl) rfl
theorem q1205 : (Jvm.Cond.code ({ cls := "ThirdWitness$Person", name := "at", desc := "(I)I" } : Jvm.MethodName) prog_6_method_4_code (4 : Nat) (Option.some Jvm.ClassFile.FieldType.int)) ∈ lw_all := lw_g (lw_at lw_m5 117 rfl) rfl
theorem q2301 : (Jvm.Cond.castable "ThirdWitness$Person" "ThirdWitness$Named") ∈ lw_tbl := lw_at lw_m10 13 rfl
theorem q2318 : (Jvm.Cond.castable "ThirdWitness$Person" "java/lang/Object") ∈ lw_tbl := lw_at lw_m10 30 rfl
theorem in_X9 : ∀ w ∈ wsX90, w ∈ lw_all := lw_in wsX90 [927, 911, 913, 915, 917, 919, 921, 923, 925] (by decide +kernel) (by decide +kernel)
def RX10 : String := "ThirdWitness$Deaf"
def TX10 : u_T := fun k => match k with
  | 0 => ("ThirdWitness$Named", "name", "Ljava/lang/String;", true)
  | 1 => ("ThirdWitness$Person", "minute", "[I", true)
  | 2 => ("ThirdWitness$Person", "place", "[I", true)
  | 3 => ("ThirdWitness$Person", "first", "I", false)
  | 4 => ("ThirdWitness$Person", "wit", "I", false)
  | 5 => ("ThirdWitness$Person", "othe\x72", "I", false)
  | 6 => ("ThirdWitness$Person", "goings", "I", false)
  | 7 => ("ThirdWitness$Person", "price", "I", false)
  | _ => ("ThirdWitness$Person", "unsure", "Z", false)
def tyX10 : Nat → FieldType := fun k => match k with
  | 0 => .object "java/lang/String"
  | 1 => .array .int
  | 2 => .array .int
  | 3 => .int
  | 4 => .int
  | 5 => .int
  | 6 => .int
  | 7 => .int
  | _ => .boolean
abbrev wsX100 : List Cond := u_ws RX10 TX10 9
theorem nmX10 : ∀ a, a < 9 → ∀ b, b < 9 → a ≠ b → (TX10 a).2.1 ≠ (TX10 b).2.1 := by decide +kernel
theorem tyX10_ok : ∀ k, k < 9 → parseFieldDescriptor (TX10 k).2.2.1 = some (tyX10 k) := by decide +kernel
theorem q152 : (Jvm.Cond.initialized "ThirdWitness$Deaf") ∈ lw_all := lw_g (lw_at lw_m1 24 rfl) rfl
theorem q815 : (Jvm.Cond.selects "ThirdWitness$Deaf" ({ cls := "java/lang/Object", name := "getClass", desc := "()Ljava/lang/Class;" } : Jvm.MethodName) ({ cls := "java/lang/Object", name := "getClass", desc := "()Ljava/lang/Class;" } : Jvm.MethodName)) ∈ lw_all := lw_g (lw_at lw_m3 207 rfl) rfl
theorem q930 : (Jvm.Cond.instantiable "ThirdWitness$Deaf" (9 : Nat)) ∈ lw_all := lw_g (lw_at lw_m4 82 rfl) rfl
theorem q932 : (Jvm.Cond.instanceMethod ({ cls := "ThirdWitness$Deaf", name := "<init>", desc := "(Ljava/lang/String;)V" } : Jvm.MethodName)) ∈ lw_all := lw_g (lw_at lw_m4 84 rfl) rfl
theorem q933 : (Jvm.Cond.code ({ cls := "ThirdWitness$Deaf", name := "<init>", desc := "(Ljava/lang/String;)V" } : Jvm.MethodName) prog_4_method_1_code (2 : Nat) (Option.none : Option Jvm.ClassFile.FieldType)) ∈ lw_all := lw_g (lw_at lw_m4 85 rfl) rfl
theorem q934 : (Jvm.Cond.methodLink "ThirdWitness$Deaf" (1 : Nat) ({ cls := "ThirdWitness$Person", name := "<init>", desc := "(Ljava/lang/String;)V" } : Jvm.MethodName)) ∈ lw_all := lw_g (lw_at lw_m4 86 rfl) rfl
theorem q935 : (Jvm.Cond.laysFinal "ThirdWitness$Deaf" "ThirdWitness$Person" "minute" "[I") ∈ lw_all := lw_g (lw_at lw_m4 87 rfl) rfl
theorem q936 : (Jvm.Cond.laysFinal "ThirdWitness$Deaf" "ThirdWitness$Person" "place" "[I") ∈ lw_all := lw_g (lw_at lw_m4 88 rfl) rfl
theorem q937 : (Jvm.Cond.lays "ThirdWitness$Deaf" "ThirdWitness$Person" "first" "I") ∈ lw_all := lw_g (lw_at lw_m4 89 rfl) rfl
theorem q938 : (Jvm.Cond.lays "ThirdWitness$Deaf" "ThirdWitness$Person" "wit" "I") ∈ lw_all := lw_g (lw_at lw_m4 90 rfl) rfl
theorem q939 : (Jvm.Cond.lays "ThirdWitness$Deaf" "ThirdWitness$Person" "othe\x72" "I") ∈ lw_all := lw_g (lw_at lw_m4 91 rfl) rfl
theorem q940 : (Jvm.Cond.lays "ThirdWitness$Deaf" "ThirdWitness$Person" "goings" "I") ∈ lw_all := lw_g (lw_at lw_m4 92 rfl) rfl
theorem q941 : (Jvm.Cond.lays "ThirdWitness$Deaf" "ThirdWitness$Person" "price" "I") ∈ lw_all := lw_g (lw_at lw_m4 93 rfl) rfl
theorem q942 : (Jvm.Cond.lays "ThirdWitness$Deaf" "ThirdWitness$Person" "unsure" "Z") ∈ lw_all := lw_g (lw_at lw_m4 94 rfl) rfl
theorem q943 : (Jvm.Cond.laysFinal "ThirdWitness$Deaf" "ThirdWitness$Named" "name" "Ljava/lang/String;") ∈ lw_all := lw_g (lw_at lw_m4 95 rfl) rfl
theorem q944 : (Jvm.Cond.superclass "ThirdWitness$Deaf" "ThirdWitness$Person") ∈ lw_all := lw_g (lw_at lw_m4 96 rfl) rfl
theorem q1134 : (Jvm.Cond.selects "ThirdWitness$Deaf" ({ cls := "ThirdWitness$Person", name := "kind", desc := "()I" } : Jvm.MethodName) ({ cls := "ThirdWitness$Deaf", name := "kind", desc := "()I" } : Jvm.MethodName)) ∈ lw_all := lw_g (lw_at lw_m5 46 rfl) rfl
theorem q1135 : (Jvm.Cond.instanceMethod ({ cls := "ThirdWitness$Deaf", name := "kind", desc := "()I" } : Jvm.MethodName)) ∈ lw_all := lw_g (lw_at lw_m5 47 rfl) rfl
theorem q1136 : (Jvm.Cond.code ({ cls := "ThirdWitness$Deaf", name := "kind", desc := "()I" } : Jvm.MethodName) prog_4_method_2_code (1 : Nat) (Option.some Jvm.ClassFile.FieldType.int)) ∈ lw_all := lw_g (lw_at lw_m5 48 rfl) rfl
theorem q1150 : (Jvm.Cond.selects "ThirdWitness$Deaf" ({ cls := "ThirdWitness$Person", name := "eyes", desc := "()I" } : Jvm.MethodName) ({ cls := "ThirdWitness$Person", name := "eyes", desc := "()I" } : Jvm.MethodName)) ∈ lw_all := lw_g (lw_at lw_m5 62 rfl) rfl
theorem q1204 : (Jvm.Cond.selects "ThirdWitness$Deaf" ({ cls := "ThirdWitness$Person", name := "at", desc := "(I)I" } : Jvm.MethodName) ({ cls := "ThirdWitness$Person", name := "at", desc := "(I)I" } : Jvm.MethodName)) ∈ lw_all := lw_g (lw_at lw_m5 116 rfl) rfl
theorem q2300 : (Jvm.Cond.castable "ThirdWitness$Deaf" "ThirdWitness$Named") ∈ lw_tbl := lw_at lw_m10 12 rfl
theorem q2305 : (Jvm.Cond.castable "ThirdWitness$Deaf" "ThirdWitness$Person") ∈ lw_tbl := lw_at lw_m10 17 rfl
theorem q2319 : (Jvm.Cond.castable "ThirdWitness$Deaf" "java/lang/Object") ∈ lw_tbl := lw_at lw_m10 31 rfl
theorem in_X10 : ∀ w ∈ wsX100, w ∈ lw_all := lw_in wsX100 [943, 935, 936, 937, 938, 939, 940, 941, 942] (by decide +kernel) (by decide +kernel)
def RX11 : String := "ThirdWitness$Blind"
def TX11 : u_T := fun k => match k with
  | 0 => ("ThirdWitness$Named", "name", "Ljava/lang/String;", true)
  | 1 => ("ThirdWitness$Person", "minute", "[I", true)
  | 2 => ("ThirdWitness$Person", "place", "[I", true)
  | 3 => ("ThirdWitness$Person", "first", "I", false)
  | 4 => ("ThirdWitness$Person", "wit", "I", false)
  | 5 => ("ThirdWitness$Person", "othe\x72", "I", false)
  | 6 => ("ThirdWitness$Person", "goings", "I", false)
  | 7 => ("ThirdWitness$Person", "price", "I", false)
  | _ => ("ThirdWitness$Person", "unsure", "Z", false)
def tyX11 : Nat → FieldType := fun k => match k with
  | 0 => .object "java/lang/String"
  | 1 => .array .int
  | 2 => .array .int
  | 3 => .int
  | 4 => .int
  | 5 => .int
  | 6 => .int
  | 7 => .int
  | _ => .boolean
abbrev wsX110 : List Cond := u_ws RX11 TX11 9
theorem nmX11 : ∀ a, a < 9 → ∀ b, b < 9 → a ≠ b → (TX11 a).2.1 ≠ (TX11 b).2.1 := by decide +kernel
theorem tyX11_ok : ∀ k, k < 9 → parseFieldDescriptor (TX11 k).2.2.1 = some (tyX11 k) := by decide +kernel
theorem q153 : (Jvm.Cond.initialized "ThirdWitness$Blind") ∈ lw_all := lw_g (lw_at lw_m1 25 rfl) rfl
theorem q814 : (Jvm.Cond.selects "ThirdWitness$Blind" ({ cls := "java/lang/Object", name := "getClass", desc := "()Ljava/lang/Class;" } : Jvm.MethodName) ({ cls := "java/lang/Object", name := "getClass", desc := "()Ljava/lang/Class;" } : Jvm.MethodName)) ∈ lw_all := lw_g (lw_at lw_m3 206 rfl) rfl
theorem q946 : (Jvm.Cond.instantiable "ThirdWitness$Blind" (9 : Nat)) ∈ lw_all := lw_g (lw_at lw_m4 98 rfl) rfl
theorem q948 : (Jvm.Cond.instanceMethod ({ cls := "ThirdWitness$Blind", name := "<init>", desc := "(Ljava/lang/String;)V" } : Jvm.MethodName)) ∈ lw_all := lw_g (lw_at lw_m4 100 rfl) rfl
theorem q949 : (Jvm.Cond.code ({ cls := "ThirdWitness$Blind", name := "<init>", desc := "(Ljava/lang/String;)V" } : Jvm.MethodName) prog_3_method_1_code (2 : Nat) (Option.none : Option Jvm.ClassFile.FieldType)) ∈ lw_all := lw_g (lw_at lw_m4 101 rfl) rfl
theorem q950 : (Jvm.Cond.methodLink "ThirdWitness$Blind" (1 : Nat) ({ cls := "ThirdWitness$Person", name := "<init>", desc := "(Ljava/lang/String;)V" } : Jvm.MethodName)) ∈ lw_all := lw_g (lw_at lw_m4 102 rfl) rfl
theorem q951 : (Jvm.Cond.laysFinal "ThirdWitness$Blind" "ThirdWitness$Person" "minute" "[I") ∈ lw_all := lw_g (lw_at lw_m4 103 rfl) rfl
theorem q952 : (Jvm.Cond.laysFinal "ThirdWitness$Blind" "ThirdWitness$Person" "place" "[I") ∈ lw_all := lw_g (lw_at lw_m4 104 rfl) rfl
theorem q953 : (Jvm.Cond.lays "ThirdWitness$Blind" "ThirdWitness$Person" "first" "I") ∈ lw_all := lw_g (lw_at lw_m4 105 rfl) rfl
theorem q954 : (Jvm.Cond.lays "ThirdWitness$Blind" "ThirdWitness$Person" "wit" "I") ∈ lw_all := lw_g (lw_at lw_m4 106 rfl) rfl
theorem q955 : (Jvm.Cond.lays "ThirdWitness$Blind" "ThirdWitness$Person" "othe\x72" "I") ∈ lw_all := lw_g (lw_at lw_m4 107 rfl) rfl
theorem q956 : (Jvm.Cond.lays "ThirdWitness$Blind" "ThirdWitness$Person" "goings" "I") ∈ lw_all := lw_g (lw_at lw_m4 108 rfl) rfl
theorem q957 : (Jvm.Cond.lays "ThirdWitness$Blind" "ThirdWitness$Person" "price" "I") ∈ lw_all := lw_g (lw_at lw_m4 109 rfl) rfl
theorem q958 : (Jvm.Cond.lays "ThirdWitness$Blind" "ThirdWitness$Person" "unsure" "Z") ∈ lw_all := lw_g (lw_at lw_m4 110 rfl) rfl
theorem q959 : (Jvm.Cond.laysFinal "ThirdWitness$Blind" "ThirdWitness$Named" "name" "Ljava/lang/String;") ∈ lw_all := lw_g (lw_at lw_m4 111 rfl) rfl
theorem q960 : (Jvm.Cond.superclass "ThirdWitness$Blind" "ThirdWitness$Person") ∈ lw_all := lw_g (lw_at lw_m4 112 rfl) rfl
theorem q1131 : (Jvm.Cond.selects "ThirdWitness$Blind" ({ cls := "ThirdWitness$Person", name := "kind", desc := "()I" } : Jvm.MethodName) ({ cls := "ThirdWitness$Blind", name := "kind", desc := "()I" } : Jvm.MethodName)) ∈ lw_all := lw_g (lw_at lw_m5 43 rfl) rfl
theorem q1132 : (Jvm.Cond.instanceMethod ({ cls := "ThirdWitness$Blind", name := "kind", desc := "()I" } : Jvm.MethodName)) ∈ lw_all := lw_g (lw_at lw_m5 44 rfl) rfl
theorem q1133 : (Jvm.Cond.code ({ cls := "ThirdWitness$Blind", name := "kind", desc := "()I" } : Jvm.MethodName) prog_3_method_2_code (1 : Nat) (Option.some Jvm.ClassFile.FieldType.int)) ∈ lw_all := lw_g (lw_at lw_m5 45 rfl) rfl
theorem q1147 : (Jvm.Cond.selects "ThirdWitness$Blind" ({ cls := "ThirdWitness$Person", name := "eyes", desc := "()I" } : Jvm.MethodName) ({ cls := "ThirdWitness$Blind", name := "eyes", desc := "()I" } : Jvm.MethodName)) ∈ lw_all := lw_g (lw_at lw_m5 59 rfl) rfl
theorem q1148 : (Jvm.Cond.instanceMethod ({ cls := "ThirdWitness$Blind", name := "eyes", desc := "()I" } : Jvm.MethodName)) ∈ lw_all := lw_g (lw_at lw_m5 60 rfl) rfl
theorem q1149 : (Jvm.Cond.code ({ cls := "ThirdWitness$Blind", name := "eyes", desc := "()I" } : Jvm.MethodName) prog_3_method_3_code (1 : Nat) (Option.some Jvm.ClassFile.FieldType.int)) ∈ lw_all := lw_g (lw_at lw_m5 61 rfl) rfl
theorem q1203 : (Jvm.Cond.selects "ThirdWitness$Blind" ({ cls := "ThirdWitness$Person", name := "at", desc := "(I)I" } : Jvm.MethodName) ({ cls := "ThirdWitness$Person", name := "at", desc := "(I)I" } : Jvm.MethodName)) ∈ lw_all := lw_g (lw_at lw_m5 115 rfl) rfl
theorem q2299 : (Jvm.Cond.castable "ThirdWitness$Blind" "ThirdWitness$Named") ∈ lw_tbl := lw_at lw_m10 11 rfl
theorem q2304 : (Jvm.Cond.castable "ThirdWitness$Blind" "ThirdWitness$Person") ∈ lw_tbl := lw_at lw_m10 16 rfl
theorem q2320 : (Jvm.Cond.castable "ThirdWitness$Blind" "java/lang/Object") ∈ lw_tbl := lw_at lw_m10 32 rfl
theorem in_X11 : ∀ w ∈ wsX110, w ∈ lw_all := lw_in wsX110 [959, 951, 952, 953, 954, 955, 956, 957, 958] (by decide +kernel) (by decide +kernel)
def RX12 : String := "ThirdWitness$Babe"
def TX12 : u_T := fun k => match k with
  | 0 => ("ThirdWitness$Named", "name", "Ljava/lang/String;", true)
  | 1 => ("ThirdWitness$Person", "minute", "[I", true)
  | 2 => ("ThirdWitness$Person", "place", "[I", true)
  | 3 => ("ThirdWitness$Person", "first", "I", false)
  | 4 => ("ThirdWitness$Person", "wit", "I", false)
  | 5 => ("ThirdWitness$Person", "othe\x72", "I", false)
  | 6 => ("ThirdWitness$Person", "goings", "I", false)
  | 7 => ("ThirdWitness$Person", "price", "I", false)
  | _ => ("ThirdWitness$Person", "unsure", "Z", false)
def tyX12 : Nat → FieldType := fun k => match k with
  | 0 => .object "java/lang/String"
  | 1 => .array .int
  | 2 => .array .int
  | 3 => .int
  | 4 => .int
  | 5 => .int
  | 6 => .int
  | 7 => .int
  | _ => .boolean
abbrev wsX120 : List Cond := u_ws RX12 TX12 9
theorem nmX12 : ∀ a, a < 9 → ∀ b, b < 9 → a ≠ b → (TX12 a).2.1 ≠ (TX12 b).2.1 := by decide +kernel
theorem tyX12_ok : ∀ k, k < 9 → parseFieldDescriptor (TX12 k).2.2.1 = some (tyX12 k) := by decide +kernel
theorem q154 : (Jvm.Cond.initialized "ThirdWitness$Babe") ∈ lw_all := lw_g (lw_at lw_m1 26 rfl) rfl
theorem q813 : (Jvm.Cond.selects "ThirdWitness$Babe" ({ cls := "java/lang/Object", name := "getClass", desc := "()Ljava/lang/Class;" } : Jvm.MethodName) ({ cls := "java/lang/Object", name := "getClass", desc := "()Ljava/lang/Class;" } : Jvm.MethodName)) ∈ lw_all := lw_g (lw_at lw_m3 205 rfl) rfl
theorem q962 : (Jvm.Cond.instantiable "ThirdWitness$Babe" (9 : Nat)) ∈ lw_all := lw_g (lw_at lw_m4 114 rfl) rfl
theorem q964 : (Jvm.Cond.instanceMethod ({ cls := "ThirdWitness$Babe", name := "<init>", desc := "(Ljava/lang/String;)V" } : Jvm.MethodName)) ∈ lw_all := lw_g (lw_at lw_m4 116 rfl) rfl
theorem q965 : (Jvm.Cond.code ({ cls := "ThirdWitness$Babe", name := "<init>", desc := "(Ljava/lang/String;)V" } : Jvm.MethodName) prog_2_method_1_code (2 : Nat) (Option.none : Option Jvm.ClassFile.FieldType)) ∈ lw_all := lw_g (lw_at lw_m4 117 rfl) rfl
theorem q966 : (Jvm.Cond.methodLink "ThirdWitness$Babe" (1 : Nat) ({ cls := "ThirdWitness$Person", name := "<init>", desc := "(Ljava/lang/String;)V" } : Jvm.MethodName)) ∈ lw_all := lw_g (lw_at lw_m4 118 rfl) rfl
theorem q967 : (Jvm.Cond.laysFinal "ThirdWitness$Babe" "ThirdWitness$Person" "minute" "[I") ∈ lw_all := lw_g (lw_at lw_m4 119 rfl) rfl
theorem q968 : (Jvm.Cond.laysFinal "ThirdWitness$Babe" "ThirdWitness$Person" "place" "[I") ∈ lw_all := lw_g (lw_at lw_m4 120 rfl) rfl
theorem q969 : (Jvm.Cond.lays "ThirdWitness$Babe" "ThirdWitness$Person" "first" "I") ∈ lw_all := lw_g (lw_at lw_m4 121 rfl) rfl
theorem q970 : (Jvm.Cond.lays "ThirdWitness$Babe" "ThirdWitness$Person" "wit" "I") ∈ lw_all := lw_g (lw_at lw_m4 122 rfl) rfl
theorem q971 : (Jvm.Cond.lays "ThirdWitness$Babe" "ThirdWitness$Person" "othe\x72" "I") ∈ lw_all := lw_g (lw_at lw_m4 123 rfl) rfl
theorem q972 : (Jvm.Cond.lays "ThirdWitness$Babe" "ThirdWitness$Person" "goings" "I") ∈ lw_all := lw_g (lw_at lw_m4 124 rfl) rfl
theorem q973 : (Jvm.Cond.lays "ThirdWitness$Babe" "ThirdWitness$Person" "price" "I") ∈ lw_all := lw_g (lw_at lw_m4 125 rfl) rfl
theorem q974 : (Jvm.Cond.lays "ThirdWitness$Babe" "ThirdWitness$Person" "unsure" "Z") ∈ lw_all := lw_g (lw_at lw_m4 126 rfl) rfl
theorem q975 : (Jvm.Cond.laysFinal "ThirdWitness$Babe" "ThirdWitness$Named" "name" "Ljava/lang/String;") ∈ lw_all := lw_g (lw_at lw_m4 127 rfl) rfl
theorem q976 : (Jvm.Cond.superclass "ThirdWitness$Babe" "ThirdWitness$Person") ∈ lw_all := lw_g (lw_at lw_m4 128 rfl) rfl
theorem q1128 : (Jvm.Cond.selects "ThirdWitness$Babe" ({ cls := "ThirdWitness$Person", name := "kind", desc := "()I" } : Jvm.MethodName) ({ cls := "ThirdWitness$Babe", name := "kind", desc := "()I" } : Jvm.MethodName)) ∈ lw_all := lw_g (lw_at lw_m5 40 rfl) rfl
theorem q1129 : (Jvm.Cond.instanceMethod ({ cls := "ThirdWitness$Babe", name := "kind", desc := "()I" } : Jvm.MethodName)) ∈ lw_all := lw_g (lw_at lw_m5 41 rfl) rfl
theorem q1130 : (Jvm.Cond.code ({ cls := "ThirdWitness$Babe", name := "kind", desc := "()I" } : Jvm.MethodName) prog_2_method_2_code (1 : Nat) (Option.some Jvm.ClassFile.FieldType.int)) ∈ lw_all := lw_g (lw_at lw_m5 42 rfl) rfl
theorem q1142 : (Jvm.Cond.selects "ThirdWitness$Babe" ({ cls := "ThirdWitness$Person", name := "eyes", desc := "()I" } : Jvm.MethodName) ({ cls := "ThirdWitness$Babe", name := "eyes", desc := "()I" } : Jvm.MethodName)) ∈ lw_all := lw_g (lw_at lw_m5 54 rfl) rfl
theorem q1143 : (Jvm.Cond.instanceMethod ({ cls := "ThirdWitness$Babe", name := "eyes", desc := "()I" } : Jvm.MethodName)) ∈ lw_all := lw_g (lw_at lw_m5 55 rfl) rfl
theorem q1144 : (Jvm.Cond.code ({ cls := "ThirdWitness$Babe", name := "eyes", desc := "()I" } : Jvm.MethodName) prog_2_method_3_code (1 : Nat) (Option.some Jvm.ClassFile.FieldType.int)) ∈ lw_all := lw_g (lw_at lw_m5 56 rfl) rfl
theorem q1145 : (Jvm.Cond.methodLink "ThirdWitness$Babe" (7 : Nat) ({ cls := "ThirdWitness$Person", name := "eyes", desc := "()I" } : Jvm.MethodName)) ∈ lw_all := lw_g (lw_at lw_m5 57 rfl) rfl
theorem q1202 : (Jvm.Cond.selects "ThirdWitness$Babe" ({ cls := "ThirdWitness$Person", name := "at", desc := "(I)I" } : Jvm.MethodName) ({ cls := "ThirdWitness$Person", name := "at", desc := "(I)I" } : Jvm.MethodName)) ∈ lw_all := lw_g (lw_at lw_m5 114 rfl) rfl
theorem q2298 : (Jvm.Cond.castable "ThirdWitness$Babe" "ThirdWitness$Named") ∈ lw_tbl := lw_at lw_m10 10 rfl
theorem q2303 : (Jvm.Cond.castable "ThirdWitness$Babe" "ThirdWitness$Person") ∈ lw_tbl := lw_at lw_m10 15 rfl
theorem q2321 : (Jvm.Cond.castable "ThirdWitness$Babe" "java/lang/Object") ∈ lw_tbl := lw_at lw_m10 33 rfl
theorem in_X12 : ∀ w ∈ wsX120, w ∈ lw_all := lw_in wsX120 [975, 967, 968, 969, 970, 971, 972, 973, 974] (by decide +kernel) (by decide +kernel)
def RX13 : String := "ThirdWitness$Quarrel"
def TX13 : u_T := fun k => match k with
  | 0 => ("ThirdWitness$Named", "name", "Ljava/lang/String;", true)
  | 1 => ("ThirdWitness$Quarrel", "one", "I", false)
  | 2 => ("ThirdWitness$Quarrel", "two", "I", false)
  | 3 => ("ThirdWitness$Quarrel", "place", "I", false)
  | 4 => ("ThirdWitness$Quarrel", "from", "I", false)
  | 5 => ("ThirdWitness$Quarrel", "needs", "I", false)
  | _ => ("ThirdWitness$Quarrel", "ended", "I", false)
def tyX13 : Nat → FieldType := fun k => match k with
  | 0 => .object "java/lang/String"
  | 1 => .int
  | 2 => .int
  | 3 => .int
  | 4 => .int
  | 5 => .int
  | _ => .int
abbrev wsX130 : List Cond := u_ws RX13 TX13 7
theorem nmX13 : ∀ a, a < 7 → ∀ b, b < 7 → a ≠ b → (TX13 a).2.1 ≠ (TX13 b).2.1 := by decide +kernel
theorem tyX13_ok : ∀ k, k < 7 → parseFieldDescriptor (TX13 k).2.2.1 = some (tyX13 k) := by decide +kernel
theorem q155 : (Jvm.Cond.initialized "ThirdWitness$Quarrel") ∈ lw_all := lw_g (lw_at lw_m1 27 rfl) rfl
theorem q818 : (Jvm.Cond.selects "ThirdWitness$Quarrel" ({ cls := "java/lang/Object", name := "getClass", desc := "()Ljava/lang/Class;" } : Jvm.MethodName) ({ cls := "java/lang/Object", name := "getClass", desc := "()Ljava/lang/Class;" } : Jvm.MethodName)) ∈ lw_all := lw_g (lw_at lw_m3 210 rfl) rfl
theorem q993 : (Jvm.Cond.instantiable "ThirdWitness$Quarrel" (7 : Nat)) ∈ lw_all := lw_g (lw_at lw_m4 145 rfl) rfl
theorem q995 : (Jvm.Cond.instanceMethod ({ cls := "ThirdWitness$Quarrel", name := "<init>", desc := "(Ljava/lang/String;)V" } : Jvm.MethodName)) ∈ lw_all := lw_g (lw_at lw_m4 147 rfl) rfl
theorem q996 : (Jvm.Cond.code ({ cls := "ThirdWitness$Quarrel", name := "<init>", desc := "(Ljava/lang/String;)V" } : Jvm.MethodName) prog_7_method_1_code (2 : Nat) (Option.none : Option Jvm.ClassFile.FieldType)) ∈ lw_all := lw_g (lw_at lw_m4 148 rfl) rfl
theorem q997 : (Jvm.Cond.methodLink "ThirdWitness$Quarrel" (3 : Nat) ({ cls := "ThirdWitness$Named", name := "<init>", desc := "(Ljava/lang/String;)V" } : Jvm.MethodName)) ∈ lw_all := lw_g (lw_at lw_m4 149 rfl) rfl
theorem q1008 : (Jvm.Cond.fieldLink "ThirdWitness$Quarrel" (9 : Nat) "ThirdWitness$Quarrel" "ended" "I") ∈ lw_all := lw_g (lw_at lw_m4 160 rfl) rfl
theorem q1011 : (Jvm.Cond.lays "ThirdWitness$Quarrel" "ThirdWitness$Quarrel" "one" "I") ∈ lw_all := lw_g (lw_at lw_m4 163 rfl) rfl
theorem q1012 : (Jvm.Cond.soleField "ThirdWitness$Quarrel" "one") ∈ lw_all := lw_g (lw_at lw_m4 164 rfl) rfl
theorem q1013 : (Jvm.Cond.lays "ThirdWitness$Quarrel" "ThirdWitness$Quarrel" "two" "I") ∈ lw_all := lw_g (lw_at lw_m4 165 rfl) rfl
theorem q1014 : (Jvm.Cond.soleField "ThirdWitness$Quarrel" "two") ∈ lw_all := lw_g (lw_at lw_m4 166 rfl) rfl
theorem q1015 : (Jvm.Cond.lays "ThirdWitness$Quarrel" "ThirdWitness$Quarrel" "place" "I") ∈ lw_all := lw_g (lw_at lw_m4 167 rfl) rfl
theorem q1016 : (Jvm.Cond.soleField "ThirdWitness$Quarrel" "place") ∈ lw_all := lw_g (lw_at lw_m4 168 rfl) rfl
theorem q1017 : (Jvm.Cond.lays "ThirdWitness$Quarrel" "ThirdWitness$Quarrel" "from" "I") ∈ lw_all := lw_g (lw_at lw_m4 169 rfl) rfl
theorem q1018 : (Jvm.Cond.soleField "ThirdWitness$Quarrel" "from") ∈ lw_all := lw_g (lw_at lw_m4 170 rfl) rfl
theorem q1019 : (Jvm.Cond.lays "ThirdWitness$Quarrel" "ThirdWitness$Quarrel" "needs" "I") ∈ lw_all := lw_g (lw_at lw_m4 171 rfl) rfl
theorem q1020 : (Jvm.Cond.soleField "ThirdWitness$Quarrel" "needs") ∈ lw_all := lw_g (lw_at lw_m4 172 rfl) rfl
theorem q1021 : (Jvm.Cond.lays "ThirdWitness$Quarrel" "ThirdWitness$Quarrel" "ended" "I") ∈ lw_all := lw_g (lw_at lw_m4 173 rfl) rfl
theorem q1022 : (Jvm.Cond.soleField "ThirdWitness$Quarrel" "ended") ∈ lw_all := lw_g (lw_at lw_m4 174 rfl) rfl
theorem q1023 : (Jvm.Cond.laysFinal "ThirdWitness$Quarrel" "ThirdWitness$Named" "name" "Ljava/lang/String;") ∈ lw_all := lw_g (lw_at lw_m4 175 rfl) rfl
theorem q1024 : (Jvm.Cond.superclass "ThirdWitness$Quarrel" "ThirdWitness$Named") ∈ lw_all := lw_g (lw_at lw_m4 176 rfl) rfl
theorem q2302 : (Jvm.Cond.castable "ThirdWitness$Quarrel" "ThirdWitness$Named") ∈ lw_tbl := lw_at lw_m10 14 rfl
theorem q2322 : (Jvm.Cond.castable "ThirdWitness$Quarrel" "java/lang/Object") ∈ lw_tbl := lw_at lw_m10 34 rfl
theorem in_X13 : ∀ w ∈ wsX130, w ∈ lw_all := lw_in wsX130 [1023, 1011, 1013, 1015, 1017, 1019, 1021] (by decide +kernel) (by decide +kernel)
def RX14 : String := "ThirdWitness$Scene"
def TX14 : u_T := fun k => match k with
  | 0 => ("ThirdWitness$Scene", "town", "LThirdWitness$Town;", true)
  | 1 => ("ThirdWitness$Scene", "sent", "[B", true)
  | 2 => ("ThirdWitness$Scene", "bricked", "I", false)
  | _ => ("ThirdWitness$Scene", "spent", "I", false)
def tyX14 : Nat → FieldType := fun k => match k with
  | 0 => .object "ThirdWitness$Town"
  | 1 => .array .byte
  | 2 => .int
  | _ => .int
abbrev wsX140 : List Cond := u_ws RX14 TX14 4
theorem nmX14 : ∀ a, a < 4 → ∀ b, b < 4 → a ≠ b → (TX14 a).2.1 ≠ (TX14 b).2.1 := by decide +kernel
theorem tyX14_ok : ∀ k, k < 4 → parseFieldDescriptor (TX14 k).2.2.1 = some (tyX14 k) := by decide +kernel
theorem q156 : (Jvm.Cond.initialized "ThirdWitness$Scene") ∈ lw_all := lw_g (lw_at lw_m1 28 rfl) rfl
theorem q334 : (Jvm.Cond.fieldLink "ThirdWitness$Scene" (80 : Nat) "ThirdWitness$Town" "people" "Ljava/util/ArrayList;") ∈ lw_all := lw_g (lw_at lw_m1 206 rfl) rfl
theorem q341 : (Jvm.Cond.fieldLink "ThirdWitness$Scene" (51 : Nat) "ThirdWitness$Town" "sights" "Ljava/util/ArrayList;") ∈ lw_all := lw_g (lw_at lw_m1 213 rfl) rfl
theorem q820 : (Jvm.Cond.selects "ThirdWitness$Scene" ({ cls := "java/lang/Object", name := "getClass", desc := "()Ljava/lang/Class;" } : Jvm.MethodName) ({ cls := "java/lang/Object", name := "getClass", desc := "()Ljava/lang/Class;" } : Jvm.MethodName)) ∈ lw_all := lw_g (lw_at lw_m3 212 rfl) rfl
theorem q866 : (Jvm.Cond.fieldLink "ThirdWitness$Scene" (74 : Nat) "ThirdWitness$Sight" "from" "I") ∈ lw_all := lw_g (lw_at lw_m4 18 rfl) rfl
theorem q870 : (Jvm.Cond.fieldLink "ThirdWitness$Scene" (71 : Nat) "ThirdWitness$Sight" "into" "I") ∈ lw_all := lw_g (lw_at lw_m4 22 rfl) rfl
theorem q1054 : (Jvm.Cond.instantiable "ThirdWitness$Scene" (4 : Nat)) ∈ lw_all := lw_g (lw_at lw_m4 206 rfl) rfl
theorem q1056 : (Jvm.Cond.instanceMethod ({ cls := "ThirdWitness$Scene", name := "<init>", desc := "(LThirdWitness$Town;)V" } : Jvm.MethodName)) ∈ lw_all := lw_g (lw_at lw_m4 208 rfl) rfl
theorem q1057 : (Jvm.Cond.code ({ cls := "ThirdWitness$Scene", name := "<init>", desc := "(LThirdWitness$Town;)V" } : Jvm.MethodName) prog_9_method_1_code (2 : Nat) (Option.none : Option Jvm.ClassFile.FieldType)) ∈ lw_all := lw_g (lw_at lw_m4 209 rfl) rfl
theorem q1058 : (Jvm.Cond.methodLink "ThirdWitness$Scene" (3 : Nat) ({ cls := "java/lang/Object", name := "<init>", desc := "()V" } : Jvm.MethodName)) ∈ lw_all := lw_g (lw_at lw_m4 210 rfl) rfl
theorem q1059 : (Jvm.Cond.fieldLink "ThirdWitness$Scene" (15 : Nat) "ThirdWitness$Scene" "town" "LThirdWitness$Town;") ∈ lw_all := lw_g (lw_at lw_m4 211 rfl) rfl
theorem q1060 : (Jvm.Cond.fieldLink "ThirdWitness$Scene" (9 : Nat) "ThirdWitness$Scene" "sent" "[B") ∈ lw_all := lw_g (lw_at lw_m4 212 rfl) rfl
theorem q1062 : (Jvm.Cond.fieldLink "ThirdWitness$Scene" (19 : Nat) "ThirdWitness$Scene" "bricked" "I") ∈ lw_all := lw_g (lw_at lw_m4 214 rfl) rfl
theorem q1064 : (Jvm.Cond.fieldLink "ThirdWitness$Scene" (23 : Nat) "ThirdWitness$Scene" "spent" "I") ∈ lw_all := lw_g (lw_at lw_m4 216 rfl) rfl
theorem q1066 : (Jvm.Cond.laysFinal "ThirdWitness$Scene" "ThirdWitness$Scene" "town" "LThirdWitness$Town;") ∈ lw_all := lw_g (lw_at lw_m4 218 rfl) rfl
theorem q1067 : (Jvm.Cond.soleField "ThirdWitness$Scene" "town") ∈ lw_all := lw_g (lw_at lw_m4 219 rfl) rfl
theorem q1068 : (Jvm.Cond.laysFinal "ThirdWitness$Scene" "ThirdWitness$Scene" "sent" "[B") ∈ lw_all := lw_g (lw_at lw_m4 220 rfl) rfl
theorem q1069 : (Jvm.Cond.soleField "ThirdWitness$Scene" "sent") ∈ lw_all := lw_g (lw_at lw_m4 221 rfl) rfl
theorem q1070 : (Jvm.Cond.lays "ThirdWitness$Scene" "ThirdWitness$Scene" "bricked" "I") ∈ lw_all := lw_g (lw_at lw_m4 222 rfl) rfl
theorem q1071 : (Jvm.Cond.soleField "ThirdWitness$Scene" "bricked") ∈ lw_all := lw_g (lw_at lw_m4 223 rfl) rfl
theorem q1072 : (Jvm.Cond.lays "ThirdWitness$Scene" "ThirdWitness$Scene" "spent" "I") ∈ lw_all := lw_g (lw_at lw_m4 224 rfl) rfl
theorem q1073 : (Jvm.Cond.soleField "ThirdWitness$Scene" "spent") ∈ lw_all := lw_g (lw_at lw_m4 225 rfl) rfl
theorem q1074 : (Jvm.Cond.superclass "ThirdWitness$Scene" "java/lang/Object") ∈ lw_all := lw_g (lw_at lw_m4 226 rfl) rfl
theorem q1076 : (Jvm.Cond.instanceMethod ({ cls := "ThirdWitness$Scene", name := "begins", desc := "()V" } : Jvm.MethodName)) ∈ lw_all := lw_g (lw_at lw_m4 228 rfl) rfl
theorem q1077 : (Jvm.Cond.selects "ThirdWitness$Scene" ({ cls := "ThirdWitness$Scene", name := "begins", desc := "()V" } : Jvm.MethodName) ({ cls := "ThirdWitness$Scene", name := "begins", desc := "()V" } : Jvm.MethodName)) ∈ lw_all := lw_g (lw_at lw_m4 229 rfl) rfl
theorem q1078 : (Jvm.Cond.code ({ cls := "ThirdWitness$Scene", name := "begins", desc := "()V" } : Jvm.MethodName) prog_9_method_2_code (2 : Nat) (Option.none : Option Jvm.ClassFile.FieldType)) ∈ lw_all := lw_g (lw_at lw_m4 230 rfl) rfl
theorem q1080 : (Jvm.Cond.instanceMethod ({ cls := "ThirdWitness$Scene", name := "copy", desc := "()LThirdWitness$Scene;" } : Jvm.MethodName)) ∈ lw_all := lw_g (lw_at lw_m4 232 rfl) rfl
theorem q1081 : (Jvm.Cond.selects "ThirdWitness$Scene" ({ cls := "ThirdWitness$Scene", name := "copy", desc := "()LThirdWitness$Scene;" } : Jvm.MethodName) ({ cls := "ThirdWitness$Scene", name := "copy", desc := "()LThirdWitness$Scene;" } : Jvm.MethodName)) ∈ lw_all := lw_g (lw_at lw_m4 233 rfl) rfl
theorem q1082 : (Jvm.Cond.code ({ cls := "ThirdWitness$Scene", name := "copy", desc := "()LThirdWitness$Scene;" } : Jvm.MethodName) prog_9_method_4_code (2 : Nat) (Option.some (Jvm.ClassFile.FieldType.object "ThirdWitness$Scene"))) ∈ lw_all := lw_g (lw_at lw_m4 234 rfl) rfl
theorem q1083 : (Jvm.Cond.classLink "ThirdWitness$Scene" (10 : Nat) "ThirdWitness$Scene") ∈ lw_all := lw_g (lw_at lw_m4 235 rfl) rfl
theorem q1084 : (Jvm.Cond.methodLink "ThirdWitness$Scene" (32 : Nat) ({ cls := "ThirdWitness$Scene", name := "<init>", desc := "(LThirdWitness$Town;)V" } : Jvm.MethodName)) ∈ lw_all := lw_g (lw_at lw_m4 236 rfl) rfl
theorem q1085 : (Jvm.Cond.methodLink "ThirdWitness$Scene" (35 : Nat) ({ cls := "ThirdWitness$Scene", name := "takes", desc := "(LThirdWitness$Scene;)V" } : Jvm.MethodName)) ∈ lw_all := lw_g (lw_at lw_m4 237 rfl) rfl
theorem q1086 : (Jvm.Cond.instanceMethod ({ cls := "ThirdWitness$Scene", name := "takes", desc := "(LThirdWitness$Scene;)V" } : Jvm.MethodName)) ∈ lw_all := lw_g (lw_at lw_m4 238 rfl) rfl
theorem q1087 : (Jvm.Cond.selects "ThirdWitness$Scene" ({ cls := "ThirdWitness$Scene", name := "takes", desc := "(LThirdWitness$Scene;)V" } : Jvm.MethodName) ({ cls := "ThirdWitness$Scene", name := "takes", desc := "(LThirdWitness$Scene;)V" } : Jvm.MethodName)) ∈ lw_all := lw_g (lw_at lw_m4 239 rfl) rfl
theorem q1088 : (Jvm.Cond.code ({ cls := "ThirdWitness$Scene", name := "takes", desc := "(LThirdWitness$Scene;)V" } : Jvm.MethodName) prog_9_method_3_code (2 : Nat) (Option.none : Option Jvm.ClassFile.FieldType)) ∈ lw_all := lw_g (lw_at lw_m5 0 rfl) rfl
theorem q1089 : (Jvm.Cond.methodLink "ThirdWitness$Scene" (26 : Nat) ({ cls := "java/lang/System", name := "arraycopy", desc := "(Ljava/lang/Object;ILjava/lang/Object;II)V" } : Jvm.MethodName)) ∈ lw_all := lw_g (lw_at lw_m5 1 rfl) rfl
theorem q1194 : (Jvm.Cond.instanceMethod ({ cls := "ThirdWitness$Scene", name := "at", desc := "(II)I" } : Jvm.MethodName)) ∈ lw_all := lw_g (lw_at lw_m5 106 rfl) rfl
theorem q1195 : (Jvm.Cond.selects "ThirdWitness$Scene" ({ cls := "ThirdWitness$Scene", name := "at", desc := "(II)I" } : Jvm.MethodName) ({ cls := "ThirdWitness$Scene", name := "at", desc := "(II)I" } : Jvm.MethodName)) ∈ lw_all := lw_g (lw_at lw_m5 107 rfl) rfl
theorem q1196 : (Jvm.Cond.code ({ cls := "ThirdWitness$Scene", name := "at", desc := "(II)I" } : Jvm.MethodName) prog_9_method_5_code (3 : Nat) (Option.some Jvm.ClassFile.FieldType.int)) ∈ lw_all := lw_g (lw_at lw_m5 108 rfl) rfl
theorem q1197 : (Jvm.Cond.methodLink "ThirdWitness$Scene" (39 : Nat) ({ cls := "ThirdWitness$Town", name := "person", desc := "(I)LThirdWitness$Person;" } : Jvm.MethodName)) ∈ lw_all := lw_g (lw_at lw_m5 109 rfl) rfl
theorem q1198 : (Jvm.Cond.methodLink "ThirdWitness$Scene" (45 : Nat) ({ cls := "ThirdWitness$Person", name := "at", desc := "(I)I" } : Jvm.MethodName)) ∈ lw_all := lw_g (lw_at lw_m5 110 rfl) rfl
theorem q1215 : (Jvm.Cond.instanceMethod ({ cls := "ThirdWitness$Scene", name := "into", desc := "(I)I" } : Jvm.MethodName)) ∈ lw_all := lw_g (lw_at lw_m5 127 rfl) rfl
theorem q1216 : (Jvm.Cond.selects "ThirdWitness$Scene" ({ cls := "ThirdWitness$Scene", name := "into", desc := "(I)I" } : Jvm.MethodName) ({ cls := "ThirdWitness$Scene", name := "into", desc := "(I)I" } : Jvm.MethodName)) ∈ lw_all := lw_g (lw_at lw_m5 128 rfl) rfl
theorem q1217 : (Jvm.Cond.code ({ cls := "ThirdWitness$Scene", name := "into", desc := "(I)I" } : Jvm.MethodName) prog_9_method_7_code (4 : Nat) (Option.some Jvm.ClassFile.FieldType.int)) ∈ lw_all := lw_g (lw_at lw_m5 129 rfl) rfl
theorem q1218 : (Jvm.Cond.methodLink "ThirdWitness$Scene" (55 : Nat) ({ cls := "java/util/ArrayList", name := "size", desc := "()I" } : Jvm.MethodName)) ∈ lw_all := lw_g (lw_at lw_m5 130 rfl) rfl
theorem q1219 : (Jvm.Cond.methodLinkNest "ThirdWitness$Scene" (61 : Nat) ({ cls := "ThirdWitness", name := "has", desc := "(II)Z" } : Jvm.MethodName) "ThirdWitness") ∈ lw_tbl := lw_at lw_m5 131 rfl
theorem q1220 : (Jvm.Cond.methodLink "ThirdWitness$Scene" (65 : Nat) ({ cls := "java/util/ArrayList", name := "get", desc := "(I)Ljava/lang/Object;" } : Jvm.MethodName)) ∈ lw_all := lw_g (lw_at lw_m5 132 rfl) rfl
theorem q1221 : (Jvm.Cond.classLink "ThirdWitness$Scene" (69 : Nat) "ThirdWitness$Sight") ∈ lw_all := lw_g (lw_at lw_m5 133 rfl) rfl
theorem q1227 : (Jvm.Cond.instanceMethod ({ cls := "ThirdWitness$Scene", name := "watchers", desc := "(II)I" } : Jvm.MethodName)) ∈ lw_all := lw_g (lw_at lw_m5 139 rfl) rfl
theorem q1228 : (Jvm.Cond.selects "ThirdWitness$Scene" ({ cls := "ThirdWitness$Scene", name := "watchers", desc := "(II)I" } : Jvm.MethodName) ({ cls := "ThirdWitness$Scene", name := "watchers", desc := "(II)I" } : Jvm.MethodName)) ∈ lw_all := lw_g (lw_at lw_m5 140 rfl) rfl
theorem q1229 : (Jvm.Cond.code ({ cls := "ThirdWitness$Scene", name := "watchers", desc := "(II)I" } : Jvm.MethodName) prog_9_method_8_code (6 : Nat) (Option.some Jvm.ClassFile.FieldType.int)) ∈ lw_all := lw_g (lw_at lw_m5 141 rfl) rfl
theorem q1230 : (Jvm.Cond.methodLink "ThirdWitness$Scene" (77 : Nat) ({ cls := "ThirdWitness$Scene", name := "onto", desc := "(I)I" } : Jvm.MethodName)) ∈ lw_all := lw_g (lw_at lw_m5 142 rfl) rfl
theorem q1231 : (Jvm.Cond.instanceMethod ({ cls := "ThirdWitness$Scene", name := "onto", desc := "(I)I" } : Jvm.MethodName)) ∈ lw_all := lw_g (lw_at lw_m5 143 rfl) rfl
theorem q1232 : (Jvm.Cond.selects "ThirdWitness$Scene" ({ cls := "ThirdWitness$Scene", name := "onto", desc := "(I)I" } : Jvm.MethodName) ({ cls := "ThirdWitness$Scene", name := "onto", desc := "(I)I" } : Jvm.MethodName)) ∈ lw_all := lw_g (lw_at lw_m5 144 rfl) rfl
theorem q1233 : (Jvm.Cond.code ({ cls := "ThirdWitness$Scene", name := "onto", desc := "(I)I" } : Jvm.MethodName) prog_9_method_6_code (4 : Nat) (Option.some Jvm.ClassFile.FieldType.int)) ∈ lw_all := lw_g (lw_at lw_m5 145 rfl) rfl
theorem q1234 : (Jvm.Cond.methodLink "ThirdWitness$Scene" (83 : Nat) ({ cls := "ThirdWitness$Scene", name := "at", desc := "(II)I" } : Jvm.MethodName)) ∈ lw_all := lw_g (lw_at lw_m5 146 rfl) rfl
theorem q2323 : (Jvm.Cond.castable "ThirdWitness$Scene" "java/lang/Object") ∈ lw_tbl := lw_at lw_m10 35 rfl
theorem in_X14 : ∀ w ∈ wsX140, w ∈ lw_all := lw_in wsX140 [1066, 1068, 1070, 1072] (by decide +kernel) (by decide +kernel)
def RJ0 : String := "java/util/AbstractCollection"
theorem q130 : (Jvm.Cond.initialized "java/util/AbstractCollection") ∈ lw_all := lw_g (lw_at lw_m1 2 rfl) rfl
theorem q178 : (Jvm.Cond.instanceMethod ({ cls := "java/util/AbstractCollection", name := "<init>", desc := "()V" } : Jvm.MethodName)) ∈ lw_all := lw_g (lw_at lw_m1 50 rfl) rfl
theorem q179 : (Jvm.Cond.code ({ cls := "java/util/AbstractCollection", name := "<init>", desc := "()V" } : Jvm.MethodName) prog_35_method_1_code (1 : Nat) (Option.none : Option Jvm.ClassFile.FieldType)) ∈ lw_all := lw_g (lw_at lw_m1 51 rfl) rfl
theorem q180 : (Jvm.Cond.methodLink "java/util/AbstractCollection" (1 : Nat) ({ cls := "java/lang/Object", name := "<init>", desc := "()V" } : Jvm.MethodName)) ∈ lw_all := lw_g (lw_at lw_m1 52 rfl) rfl
def RJ1 : String := "java/util/AbstractList"
theorem q131 : (Jvm.Cond.initialized "java/util/AbstractList") ∈ lw_all := lw_g (lw_at lw_m1 3 rfl) rfl
theorem q175 : (Jvm.Cond.instanceMethod ({ cls := "java/util/AbstractList", name := "<init>", desc := "()V" } : Jvm.MethodName)) ∈ lw_all := lw_g (lw_at lw_m1 47 rfl) rfl
theorem q176 : (Jvm.Cond.code ({ cls := "java/util/AbstractList", name := "<init>", desc := "()V" } : Jvm.MethodName) prog_36_method_1_code (1 : Nat) (Option.none : Option Jvm.ClassFile.FieldType)) ∈ lw_all := lw_g (lw_at lw_m1 48 rfl) rfl
theorem q177 : (Jvm.Cond.methodLink "java/util/AbstractList" (1 : Nat) ({ cls := "java/util/AbstractCollection", name := "<init>", desc := "()V" } : Jvm.MethodName)) ∈ lw_all := lw_g (lw_at lw_m1 49 rfl) rfl
theorem q185 : (Jvm.Cond.fieldLink "java/util/AbstractList" (7 : Nat) "java/util/AbstractList" "modCount" "I") ∈ lw_all := lw_g (lw_at lw_m1 57 rfl) rfl
theorem q193 : (Jvm.Cond.soleField "java/util/AbstractList" "modCount") ∈ lw_all := lw_g (lw_at lw_m1 65 rfl) rfl
def RJ2 : String := "java/util/ArrayList"
def TJ2 : u_T := fun k => match k with
  | 0 => ("java/util/AbstractList", "modCount", "I", false)
  | 1 => ("java/util/ArrayList", "elementData", "[Ljava/lang/Object;", false)
  | _ => ("java/util/ArrayList", "size", "I", false)
def tyJ2 : Nat → FieldType := fun k => match k with
  | 0 => .int
  | 1 => .array (.object "java/lang/Object")
  | _ => .int
abbrev wsJ20 : List Cond := u_ws RJ2 TJ2 3
theorem nmJ2 : ∀ a, a < 3 → ∀ b, b < 3 → a ≠ b → (TJ2 a).2.1 ≠ (TJ2 b).2.1 := by decide +kernel
theorem tyJ2_ok : ∀ k, k < 3 → parseFieldDescriptor (TJ2 k).2.2.1 = some (tyJ2 k) := by decide +kernel
theorem q132 : (Jvm.Cond.initialized "java/util/ArrayList") ∈ lw_all := lw_g (lw_at lw_m1 4 rfl) rfl
theorem q170 : (Jvm.Cond.instantiable "java/util/ArrayList" (3 : Nat)) ∈ lw_all := lw_g (lw_at lw_m1 42 rfl) rfl
theorem q172 : (Jvm.Cond.instanceMethod ({ cls := "java/util/ArrayList", name := "<init>", desc := "()V" } : Jvm.MethodName)) ∈ lw_all := lw_g (lw_at lw_m1 44 rfl) rfl
theorem q173 : (Jvm.Cond.code ({ cls := "java/util/ArrayList", name := "<init>", desc := "()V" } : Jvm.MethodName) prog_37_method_2_code (1 : Nat) (Option.none : Option Jvm.ClassFile.FieldType)) ∈ lw_all := lw_g (lw_at lw_m1 45 rfl) rfl
theorem q174 : (Jvm.Cond.methodLink "java/util/ArrayList" (1 : Nat) ({ cls := "java/util/AbstractList", name := "<init>", desc := "()V" } : Jvm.MethodName)) ∈ lw_all := lw_g (lw_at lw_m1 46 rfl) rfl
theorem q181 : (Jvm.Cond.fieldLink "java/util/ArrayList" (39 : Nat) "java/util/ArrayList" "DEFAULTCAPACITY_EMPTY_ELEMENTDATA" "[Ljava/lang/Object;") ∈ lw_all := lw_g (lw_at lw_m1 53 rfl) rfl
theorem q182 : (Jvm.Cond.laysStatic "java/util/ArrayList" "DEFAULTCAPACITY_EMPTY_ELEMENTDATA" "[Ljava/lang/Object;") ∈ lw_tbl := lw_at lw_m1 54 rfl
theorem q183 : (Jvm.Cond.fieldLink "java/util/ArrayList" (9 : Nat) "java/util/ArrayList" "elementData" "[Ljava/lang/Object;") ∈ lw_all := lw_g (lw_at lw_m1 55 rfl) rfl
theorem q184 : (Jvm.Cond.fieldLink "java/util/ArrayList" (48 : Nat) "java/util/ArrayList" "size" "I") ∈ lw_all := lw_g (lw_at lw_m1 56 rfl) rfl
theorem q186 : (Jvm.Cond.fieldLink "java/util/ArrayList" (63 : Nat) "java/util/ArrayList" "modCount" "I") ∈ lw_all := lw_g (lw_at lw_m1 58 rfl) rfl
theorem q187 : (Jvm.Cond.sameField "java/util/ArrayList" "java/util/AbstractList" "modCount" "I") ∈ lw_all := lw_g (lw_at lw_m1 59 rfl) rfl
theorem q188 : (Jvm.Cond.lays "java/util/ArrayList" "java/util/ArrayList" "elementData" "[Ljava/lang/Object;") ∈ lw_all := lw_g (lw_at lw_m1 60 rfl) rfl
theorem q189 : (Jvm.Cond.soleField "java/util/ArrayList" "elementData") ∈ lw_all := lw_g (lw_at lw_m1 61 rfl) rfl
theorem q190 : (Jvm.Cond.lays "java/util/ArrayList" "java/util/ArrayList" "size" "I") ∈ lw_all := lw_g (lw_at lw_m1 62 rfl) rfl
theorem q191 : (Jvm.Cond.soleField "java/util/ArrayList" "size") ∈ lw_all := lw_g (lw_at lw_m1 63 rfl) rfl
theorem q192 : (Jvm.Cond.lays "java/util/ArrayList" "java/util/AbstractList" "modCount" "I") ∈ lw_all := lw_g (lw_at lw_m1 64 rfl) rfl
theorem q194 : (Jvm.Cond.superclass "java/util/ArrayList" "java/util/AbstractList") ∈ lw_all := lw_g (lw_at lw_m1 66 rfl) rfl
theorem q731 : (Jvm.Cond.instanceMethod ({ cls := "java/util/ArrayList", name := "size", desc := "()I" } : Jvm.MethodName)) ∈ lw_all := lw_g (lw_at lw_m3 123 rfl) rfl
theorem q732 : (Jvm.Cond.selects "java/util/ArrayList" ({ cls := "java/util/ArrayList", name := "size", desc := "()I" } : Jvm.MethodName) ({ cls := "java/util/ArrayList", name := "size", desc := "()I" } : Jvm.MethodName)) ∈ lw_all := lw_g (lw_at lw_m3 124 rfl) rfl
theorem q733 : (Jvm.Cond.code ({ cls := "java/util/ArrayList", name := "size", desc := "()I" } : Jvm.MethodName) prog_37_method_8_code (1 : Nat) (Option.some Jvm.ClassFile.FieldType.int)) ∈ lw_all := lw_g (lw_at lw_m3 125 rfl) rfl
theorem q767 : (Jvm.Cond.instanceMethod ({ cls := "java/util/ArrayList", name := "get", desc := "(I)Ljava/lang/Object;" } : Jvm.MethodName)) ∈ lw_all := lw_g (lw_at lw_m3 159 rfl) rfl
theorem q768 : (Jvm.Cond.selects "java/util/ArrayList" ({ cls := "java/util/ArrayList", name := "get", desc := "(I)Ljava/lang/Object;" } : Jvm.MethodName) ({ cls := "java/util/ArrayList", name := "get", desc := "(I)Ljava/lang/Object;" } : Jvm.MethodName)) ∈ lw_all := lw_g (lw_at lw_m3 160 rfl) rfl
theorem q769 : (Jvm.Cond.code ({ cls := "java/util/ArrayList", name := "get", desc := "(I)Ljava/lang/Object;" } : Jvm.MethodName) prog_37_method_20_code (2 : Nat) (Option.some (Jvm.ClassFile.FieldType.object "java/lang/Object"))) ∈ lw_all := lw_g (lw_at lw_m3 161 rfl) rfl
theorem q770 : (Jvm.Cond.methodLink "java/util/ArrayList" (118 : Nat) ({ cls := "java/util/Objects", name := "checkIndex", desc := "(II)I" } : Jvm.MethodName)) ∈ lw_all := lw_g (lw_at lw_m3 162 rfl) rfl
theorem q774 : (Jvm.Cond.methodLink "java/util/ArrayList" (123 : Nat) ({ cls := "java/util/ArrayList", name := "elementData", desc := "(I)Ljava/lang/Object;" } : Jvm.MethodName)) ∈ lw_all := lw_g (lw_at lw_m3 166 rfl) rfl
theorem q775 : (Jvm.Cond.instanceMethod ({ cls := "java/util/ArrayList", name := "elementData", desc := "(I)Ljava/lang/Object;" } : Jvm.MethodName)) ∈ lw_all := lw_g (lw_at lw_m3 167 rfl) rfl
theorem q776 : (Jvm.Cond.selects "java/util/ArrayList" ({ cls := "java/util/ArrayList", name := "elementData", desc := "(I)Ljava/lang/Object;" } : Jvm.MethodName) ({ cls := "java/util/ArrayList", name := "elementData", desc := "(I)Ljava/lang/Object;" } : Jvm.MethodName)) ∈ lw_all := lw_g (lw_at lw_m3 168 rfl) rfl
theorem q777 : (Jvm.Cond.code ({ cls := "java/util/ArrayList", name := "elementData", desc := "(I)Ljava/lang/Object;" } : Jvm.MethodName) prog_37_method_18_code (2 : Nat) (Option.some (Jvm.ClassFile.FieldType.object "java/lang/Object"))) ∈ lw_all := lw_g (lw_at lw_m3 169 rfl) rfl
theorem q790 : (Jvm.Cond.instanceMethod ({ cls := "java/util/ArrayList", name := "add", desc := "(Ljava/lang/Object;)Z" } : Jvm.MethodName)) ∈ lw_all := lw_g (lw_at lw_m3 182 rfl) rfl
theorem q791 : (Jvm.Cond.selects "java/util/ArrayList" ({ cls := "java/util/ArrayList", name := "add", desc := "(Ljava/lang/Object;)Z" } : Jvm.MethodName) ({ cls := "java/util/ArrayList", name := "add", desc := "(Ljava/lang/Object;)Z" } : Jvm.MethodName)) ∈ lw_all := lw_g (lw_at lw_m3 183 rfl) rfl
theorem q792 : (Jvm.Cond.code ({ cls := "java/util/ArrayList", name := "add", desc := "(Ljava/lang/Object;)Z" } : Jvm.MethodName) prog_37_method_25_code (2 : Nat) (Option.some Jvm.ClassFile.FieldType.boolean)) ∈ lw_all := lw_g (lw_at lw_m3 184 rfl) rfl
theorem q793 : (Jvm.Cond.methodLink "java/util/ArrayList" (131 : Nat) ({ cls := "java/util/ArrayList", name := "add", desc := "(Ljava/lang/Object;[Ljava/lang/Object;I)V" } : Jvm.MethodName)) ∈ lw_all := lw_g (lw_at lw_m3 185 rfl) rfl
theorem q794 : (Jvm.Cond.privateMethod ({ cls := "java/util/ArrayList", name := "add", desc := "(Ljava/lang/Object;[Ljava/lang/Object;I)V" } : Jvm.MethodName)) ∈ lw_tbl := lw_at lw_m3 186 rfl
theorem q795 : (Jvm.Cond.instanceMethod ({ cls := "java/util/ArrayList", name := "add", desc := "(Ljava/lang/Object;[Ljava/lang/Object;I)V" } : Jvm.MethodName)) ∈ lw_all := lw_g (lw_at lw_m3 187 rfl) rfl
theorem q796 : (Jvm.Cond.code ({ cls := "java/util/ArrayList", name := "add", desc := "(Ljava/lang/Object;[Ljava/lang/Object;I)V" } : Jvm.MethodName) prog_37_method_24_code (4 : Nat) (Option.none : Option Jvm.ClassFile.FieldType)) ∈ lw_all := lw_g (lw_at lw_m3 188 rfl) rfl
theorem q797 : (Jvm.Cond.methodLink "java/util/ArrayList" (129 : Nat) ({ cls := "java/util/ArrayList", name := "grow", desc := "()[Ljava/lang/Object;" } : Jvm.MethodName)) ∈ lw_all := lw_g (lw_at lw_m3 189 rfl) rfl
theorem q798 : (Jvm.Cond.privateMethod ({ cls := "java/util/ArrayList", name := "grow", desc := "()[Ljava/lang/Object;" } : Jvm.MethodName)) ∈ lw_tbl := lw_at lw_m3 190 rfl
theorem q799 : (Jvm.Cond.instanceMethod ({ cls := "java/util/ArrayList", name := "grow", desc := "()[Ljava/lang/Object;" } : Jvm.MethodName)) ∈ lw_all := lw_g (lw_at lw_m3 191 rfl) rfl
theorem q800 : (Jvm.Cond.code ({ cls := "java/util/ArrayList", name := "grow", desc := "()[Ljava/lang/Object;" } : Jvm.MethodName) prog_37_method_7_code (1 : Nat) (Option.some (Jvm.ClassFile.FieldType.array (Jvm.ClassFile.FieldType.object "java/lang/Object")))) ∈ lw_all := lw_g (lw_at lw_m3 192 rfl) rfl
theorem q801 : (Jvm.Cond.methodLink "java/util/ArrayList" (69 : Nat) ({ cls := "java/util/ArrayList", name := "grow", desc := "(I)[Ljava/lang/Object;" } : Jvm.MethodName)) ∈ lw_all := lw_g (lw_at lw_m3 193 rfl) rfl
theorem q802 : (Jvm.Cond.privateMethod ({ cls := "java/util/ArrayList", name := "grow", desc := "(I)[Ljava/lang/Object;" } : Jvm.MethodName)) ∈ lw_tbl := lw_at lw_m3 194 rfl
theorem q803 : (Jvm.Cond.instanceMethod ({ cls := "java/util/ArrayList", name := "grow", desc := "(I)[Ljava/lang/Object;" } : Jvm.MethodName)) ∈ lw_all := lw_g (lw_at lw_m3 195 rfl) rfl
theorem q804 : (Jvm.Cond.code ({ cls := "java/util/ArrayList", name := "grow", desc := "(I)[Ljava/lang/Object;" } : Jvm.MethodName) prog_37_method_6_code (4 : Nat) (Option.some (Jvm.ClassFile.FieldType.array (Jvm.ClassFile.FieldType.object "java/lang/Object")))) ∈ lw_all := lw_g (lw_at lw_m3 196 rfl) rfl
theorem q805 : (Jvm.Cond.methodLink "java/util/ArrayList" (73 : Nat) ({ cls := "jdk/internal/util/ArraysSupport", name := "newLength", desc := "(III)I" } : Jvm.MethodName)) ∈ lw_all := lw_g (lw_at lw_m3 197 rfl) rfl
theorem q806 : (Jvm.Cond.methodLink "java/util/ArrayList" (66 : Nat) ({ cls := "java/util/Arrays", name := "copyOf", desc := "([Ljava/lang/Object;I)[Ljava/lang/Object;" } : Jvm.MethodName)) ∈ lw_all := lw_g (lw_at lw_m3 198 rfl) rfl
theorem q829 : (Jvm.Cond.selects "java/util/ArrayList" ({ cls := "java/lang/Object", name := "getClass", desc := "()Ljava/lang/Class;" } : Jvm.MethodName) ({ cls := "java/lang/Object", name := "getClass", desc := "()Ljava/lang/Class;" } : Jvm.MethodName)) ∈ lw_all := lw_g (lw_at lw_m3 221 rfl) rfl
theorem q838 : (Jvm.Cond.methodLink "java/util/ArrayList" (79 : Nat) ({ cls := "java/lang/Math", name := "max", desc := "(II)I" } : Jvm.MethodName)) ∈ lw_all := lw_g (lw_at lw_m3 230 rfl) rfl
theorem q839 : (Jvm.Cond.classLink "java/util/ArrayList" (7 : Nat) "java/lang/Object") ∈ lw_all := lw_g (lw_at lw_m3 231 rfl) rfl
theorem q1050 : (Jvm.Cond.instanceMethod ({ cls := "java/util/ArrayList", name := "isEmpty", desc := "()Z" } : Jvm.MethodName)) ∈ lw_all := lw_g (lw_at lw_m4 202 rfl) rfl
theorem q1051 : (Jvm.Cond.selects "java/util/ArrayList" ({ cls := "java/util/ArrayList", name := "isEmpty", desc := "()Z" } : Jvm.MethodName) ({ cls := "java/util/ArrayList", name := "isEmpty", desc := "()Z" } : Jvm.MethodName)) ∈ lw_all := lw_g (lw_at lw_m4 203 rfl) rfl
theorem q1052 : (Jvm.Cond.code ({ cls := "java/util/ArrayList", name := "isEmpty", desc := "()Z" } : Jvm.MethodName) prog_37_method_9_code (1 : Nat) (Option.some Jvm.ClassFile.FieldType.boolean)) ∈ lw_all := lw_g (lw_at lw_m4 204 rfl) rfl
theorem q1091 : (Jvm.Cond.instanceMethod ({ cls := "java/util/ArrayList", name := "clea\x72", desc := "()V" } : Jvm.MethodName)) ∈ lw_all := lw_g (lw_at lw_m5 3 rfl) rfl
theorem q1092 : (Jvm.Cond.selects "java/util/ArrayList" ({ cls := "java/util/ArrayList", name := "clea\x72", desc := "()V" } : Jvm.MethodName) ({ cls := "java/util/ArrayList", name := "clea\x72", desc := "()V" } : Jvm.MethodName)) ∈ lw_all := lw_g (lw_at lw_m5 4 rfl) rfl
theorem q1093 : (Jvm.Cond.code ({ cls := "java/util/ArrayList", name := "clea\x72", desc := "()V" } : Jvm.MethodName) prog_37_method_40_code (4 : Nat) (Option.none : Option Jvm.ClassFile.FieldType)) ∈ lw_all := lw_g (lw_at lw_m5 5 rfl) rfl
theorem q1508 : (Jvm.Cond.instanceMethod ({ cls := "java/util/ArrayList", name := "remove", desc := "(I)Ljava/lang/Object;" } : Jvm.MethodName)) ∈ lw_all := lw_g (lw_at lw_m6 180 rfl) rfl
theorem q1509 : (Jvm.Cond.selects "java/util/ArrayList" ({ cls := "java/util/ArrayList", name := "remove", desc := "(I)Ljava/lang/Object;" } : Jvm.MethodName) ({ cls := "java/util/ArrayList", name := "remove", desc := "(I)Ljava/lang/Object;" } : Jvm.MethodName)) ∈ lw_all := lw_g (lw_at lw_m6 181 rfl) rfl
theorem q1510 : (Jvm.Cond.code ({ cls := "java/util/ArrayList", name := "remove", desc := "(I)Ljava/lang/Object;" } : Jvm.MethodName) prog_37_method_29_code (4 : Nat) (Option.some (Jvm.ClassFile.FieldType.object "java/lang/Object"))) ∈ lw_all := lw_g (lw_at lw_m6 182 rfl) rfl
theorem q1511 : (Jvm.Cond.methodLink "java/util/ArrayList" (144 : Nat) ({ cls := "java/util/ArrayList", name := "fastRemove", desc := "([Ljava/lang/Object;I)V" } : Jvm.MethodName)) ∈ lw_all := lw_g (lw_at lw_m6 183 rfl) rfl
theorem q1512 : (Jvm.Cond.privateMethod ({ cls := "java/util/ArrayList", name := "fastRemove", desc := "([Ljava/lang/Object;I)V" } : Jvm.MethodName)) ∈ lw_tbl := lw_at lw_m6 184 rfl
theorem q1513 : (Jvm.Cond.instanceMethod ({ cls := "java/util/ArrayList", name := "fastRemove", desc := "([Ljava/lang/Object;I)V" } : Jvm.MethodName)) ∈ lw_all := lw_g (lw_at lw_m6 185 rfl) rfl
theorem q1514 : (Jvm.Cond.code ({ cls := "java/util/ArrayList", name := "fastRemove", desc := "([Ljava/lang/Object;I)V" } : Jvm.MethodName) prog_37_method_39_code (4 : Nat) (Option.none : Option Jvm.ClassFile.FieldType)) ∈ lw_all := lw_g (lw_at lw_m6 186 rfl) rfl
theorem q1515 : (Jvm.Cond.methodLink "java/util/ArrayList" (112 : Nat) ({ cls := "java/lang/System", name := "arraycopy", desc := "(Ljava/lang/Object;ILjava/lang/Object;II)V" } : Jvm.MethodName)) ∈ lw_all := lw_g (lw_at lw_m6 187 rfl) rfl
theorem q2307 : (Jvm.Cond.castable "java/util/ArrayList" "java/lang/Object") ∈ lw_tbl := lw_at lw_m10 19 rfl
theorem in_J2 : ∀ w ∈ wsJ20, w ∈ lw_all := lw_in wsJ20 [192, 188, 190] (by decide +kernel) (by decide +kernel)
def RJ3 : String := "java/lang/AbstractStringBuilde\x72"
theorem q138 : (Jvm.Cond.initialized "java/lang/AbstractStringBuilde\x72") ∈ lw_all := lw_g (lw_at lw_m1 10 rfl) rfl
theorem q407 : (Jvm.Cond.instanceMethod ({ cls := "java/lang/AbstractStringBuilde\x72", name := "<init>", desc := "(I)V" } : Jvm.MethodName)) ∈ lw_all := lw_g (lw_at lw_m2 39 rfl) rfl
theorem q408 : (Jvm.Cond.code ({ cls := "java/lang/AbstractStringBuilde\x72", name := "<init>", desc := "(I)V" } : Jvm.MethodName) prog_17_method_2_code (2 : Nat) (Option.none : Option Jvm.ClassFile.FieldType)) ∈ lw_all := lw_g (lw_at lw_m2 40 rfl) rfl
theorem q409 : (Jvm.Cond.methodLink "java/lang/AbstractStringBuilde\x72" (3 : Nat) ({ cls := "java/lang/Object", name := "<init>", desc := "()V" } : Jvm.MethodName)) ∈ lw_all := lw_g (lw_at lw_m2 41 rfl) rfl
theorem q410 : (Jvm.Cond.fieldLink "java/lang/AbstractStringBuilde\x72" (18 : Nat) "java/lang/String" "COMPACT_STRINGS" "Z") ∈ lw_all := lw_g (lw_at lw_m2 42 rfl) rfl
theorem q412 : (Jvm.Cond.methodLink "java/lang/AbstractStringBuilde\x72" (26 : Nat) ({ cls := "java/lang/StringUTF16", name := "newBytesFo\x72", desc := "(I)[B" } : Jvm.MethodName)) ∈ lw_all := lw_g (lw_at lw_m2 44 rfl) rfl
theorem q419 : (Jvm.Cond.fieldLink "java/lang/AbstractStringBuilde\x72" (15 : Nat) "java/lang/AbstractStringBuilde\x72" "value" "[B") ∈ lw_all := lw_g (lw_at lw_m2 51 rfl) rfl
theorem q420 : (Jvm.Cond.fieldLink "java/lang/AbstractStringBuilde\x72" (22 : Nat) "java/lang/AbstractStringBuilde\x72" "code\x72" "B") ∈ lw_all := lw_g (lw_at lw_m2 52 rfl) rfl
theorem q422 : (Jvm.Cond.fieldLink "java/lang/AbstractStringBuilde\x72" (79 : Nat) "java/lang/AbstractStringBuilde\x72" "count" "I") ∈ lw_all := lw_g (lw_at lw_m2 54 rfl) rfl
theorem q424 : (Jvm.Cond.soleField "java/lang/AbstractStringBuilde\x72" "value") ∈ lw_all := lw_g (lw_at lw_m2 56 rfl) rfl
theorem q426 : (Jvm.Cond.soleField "java/lang/AbstractStringBuilde\x72" "code\x72") ∈ lw_all := lw_g (lw_at lw_m2 58 rfl) rfl
theorem q428 : (Jvm.Cond.soleField "java/lang/AbstractStringBuilde\x72" "maybeLatin1") ∈ lw_all := lw_g (lw_at lw_m2 60 rfl) rfl
theorem q430 : (Jvm.Cond.soleField "java/lang/AbstractStringBuilde\x72" "count") ∈ lw_all := lw_g (lw_at lw_m2 62 rfl) rfl
theorem q437 : (Jvm.Cond.instanceMethod ({ cls := "java/lang/AbstractStringBuilde\x72", name := "append", desc := "(C)Ljava/lang/AbstractStringBuilder;" } : Jvm.MethodName)) ∈ lw_all := lw_g (lw_at lw_m2 69 rfl) rfl
theorem q438 : (Jvm.Cond.code ({ cls := "java/lang/AbstractStringBuilde\x72", name := "append", desc := "(C)Ljava/lang/AbstractStringBuilder;" } : Jvm.MethodName) prog_17_method_31_code (2 : Nat) (Option.some (Jvm.ClassFile.FieldType.object "java/lang/AbstractStringBuilde\x72"))) ∈ lw_all := lw_g (lw_at lw_m2 70 rfl) rfl
theorem q439 : (Jvm.Cond.methodLink "java/lang/AbstractStringBuilde\x72" (100 : Nat) ({ cls := "java/lang/AbstractStringBuilde\x72", name := "ensureCapacityInternal", desc := "(I)V" } : Jvm.MethodName)) ∈ lw_all := lw_g (lw_at lw_m2 71 rfl) rfl
theorem q440 : (Jvm.Cond.privateMethod ({ cls := "java/lang/AbstractStringBuilde\x72", name := "ensureCapacityInternal", desc := "(I)V" } : Jvm.MethodName)) ∈ lw_tbl := lw_at lw_m2 72 rfl
theorem q441 : (Jvm.Cond.instanceMethod ({ cls := "java/lang/AbstractStringBuilde\x72", name := "ensureCapacityInternal", desc := "(I)V" } : Jvm.MethodName)) ∈ lw_all := lw_g (lw_at lw_m2 73 rfl) rfl
theorem q442 : (Jvm.Cond.code ({ cls := "java/lang/AbstractStringBuilde\x72", name := "ensureCapacityInternal", desc := "(I)V" } : Jvm.MethodName) prog_17_method_9_code (3 : Nat) (Option.none : Option Jvm.ClassFile.FieldType)) ∈ lw_all := lw_g (lw_at lw_m2 74 rfl) rfl
theorem q443 : (Jvm.Cond.methodLink "java/lang/AbstractStringBuilde\x72" (104 : Nat) ({ cls := "java/lang/AbstractStringBuilde\x72", name := "newCapacity", desc := "(I)I" } : Jvm.MethodName)) ∈ lw_all := lw_g (lw_at lw_m2 75 rfl) rfl
theorem q444 : (Jvm.Cond.privateMethod ({ cls := "java/lang/AbstractStringBuilde\x72", name := "newCapacity", desc := "(I)I" } : Jvm.MethodName)) ∈ lw_tbl := lw_at lw_m2 76 rfl
theorem q445 : (Jvm.Cond.instanceMethod ({ cls := "java/lang/AbstractStringBuilde\x72", name := "newCapacity", desc := "(I)I" } : Jvm.MethodName)) ∈ lw_all := lw_g (lw_at lw_m2 77 rfl) rfl
theorem q446 : (Jvm.Cond.code ({ cls := "java/lang/AbstractStringBuilde\x72", name := "newCapacity", desc := "(I)I" } : Jvm.MethodName) prog_17_method_10_code (6 : Nat) (Option.some Jvm.ClassFile.FieldType.int)) ∈ lw_all := lw_g (lw_at lw_m2 78 rfl) rfl
theorem q447 : (Jvm.Cond.methodLink "java/lang/AbstractStringBuilde\x72" (114 : Nat) ({ cls := "jdk/internal/util/ArraysSupport", name := "newLength", desc := "(III)I" } : Jvm.MethodName)) ∈ lw_all := lw_g (lw_at lw_m2 79 rfl) rfl
theorem q457 : (Jvm.Cond.constant "java/lang/AbstractStringBuilde\x72" (39 : Nat) (2147483647 : Int32)) ∈ lw_all := lw_g (lw_at lw_m2 89 rfl) rfl
theorem q458 : (Jvm.Cond.methodLink "java/lang/AbstractStringBuilde\x72" (108 : Nat) ({ cls := "java/util/Arrays", name := "copyOf", desc := "([BI)[B" } : Jvm.MethodName)) ∈ lw_all := lw_g (lw_at lw_m2 90 rfl) rfl
theorem q474 : (Jvm.Cond.methodLink "java/lang/AbstractStringBuilde\x72" (83 : Nat) ({ cls := "java/lang/AbstractStringBuilde\x72", name := "isLatin1", desc := "()Z" } : Jvm.MethodName)) ∈ lw_all := lw_g (lw_at lw_m2 106 rfl) rfl
theorem q475 : (Jvm.Cond.instanceMethod ({ cls := "java/lang/AbstractStringBuilde\x72", name := "isLatin1", desc := "()Z" } : Jvm.MethodName)) ∈ lw_all := lw_g (lw_at lw_m2 107 rfl) rfl
theorem q476 : (Jvm.Cond.sameMethod "java/lang/AbstractStringBuilde\x72" "java/lang/AbstractStringBuilde\x72" "isLatin1" "()Z") ∈ lw_all := lw_g (lw_at lw_m2 108 rfl) rfl
theorem q478 : (Jvm.Cond.code ({ cls := "java/lang/AbstractStringBuilde\x72", name := "isLatin1", desc := "()Z" } : Jvm.MethodName) prog_17_method_68_code (1 : Nat) (Option.some Jvm.ClassFile.FieldType.boolean)) ∈ lw_all := lw_g (lw_at lw_m2 110 rfl) rfl
theorem q479 : (Jvm.Cond.methodLink "java/lang/AbstractStringBuilde\x72" (191 : Nat) ({ cls := "java/lang/StringLatin1", name := "canEncode", desc := "(C)Z" } : Jvm.MethodName)) ∈ lw_all := lw_g (lw_at lw_m2 111 rfl) rfl
theorem q482 : (Jvm.Cond.methodLink "java/lang/AbstractStringBuilde\x72" (195 : Nat) ({ cls := "java/lang/AbstractStringBuilde\x72", name := "inflate", desc := "()V" } : Jvm.MethodName)) ∈ lw_all := lw_g (lw_at lw_m2 114 rfl) rfl
theorem q483 : (Jvm.Cond.privateMethod ({ cls := "java/lang/AbstractStringBuilde\x72", name := "inflate", desc := "()V" } : Jvm.MethodName)) ∈ lw_tbl := lw_at lw_m2 115 rfl
theorem q484 : (Jvm.Cond.instanceMethod ({ cls := "java/lang/AbstractStringBuilde\x72", name := "inflate", desc := "()V" } : Jvm.MethodName)) ∈ lw_all := lw_g (lw_at lw_m2 116 rfl) rfl
theorem q485 : (Jvm.Cond.code ({ cls := "java/lang/AbstractStringBuilde\x72", name := "inflate", desc := "()V" } : Jvm.MethodName) prog_17_method_11_code (2 : Nat) (Option.none : Option Jvm.ClassFile.FieldType)) ∈ lw_all := lw_g (lw_at lw_m2 117 rfl) rfl
theorem q486 : (Jvm.Cond.methodLink "java/lang/AbstractStringBuilde\x72" (125 : Nat) ({ cls := "java/lang/StringLatin1", name := "inflate", desc := "([BI[BII)V" } : Jvm.MethodName)) ∈ lw_all := lw_g (lw_at lw_m2 118 rfl) rfl
theorem q515 : (Jvm.Cond.methodLink "java/lang/AbstractStringBuilde\x72" (197 : Nat) ({ cls := "java/lang/StringUTF16", name := "putCharSB", desc := "([BII)V" } : Jvm.MethodName)) ∈ lw_all := lw_g (lw_at lw_m2 147 rfl) rfl
theorem q541 : (Jvm.Cond.instanceMethod ({ cls := "java/lang/AbstractStringBuilde\x72", name := "getValue", desc := "()[B" } : Jvm.MethodName)) ∈ lw_all := lw_g (lw_at lw_m2 173 rfl) rfl
theorem q542 : (Jvm.Cond.sameMethod "java/lang/AbstractStringBuilde\x72" "java/lang/AbstractStringBuilde\x72" "getValue" "()[B") ∈ lw_all := lw_g (lw_at lw_m2 174 rfl) rfl
theorem q544 : (Jvm.Cond.code ({ cls := "java/lang/AbstractStringBuilde\x72", name := "getValue", desc := "()[B" } : Jvm.MethodName) prog_17_method_64_code (1 : Nat) (Option.some (Jvm.ClassFile.FieldType.array Jvm.ClassFile.FieldType.byte))) ∈ lw_all := lw_g (lw_at lw_m2 176 rfl) rfl
theorem q546 : (Jvm.Cond.instanceMethod ({ cls := "java/lang/AbstractStringBuilde\x72", name := "length", desc := "()I" } : Jvm.MethodName)) ∈ lw_all := lw_g (lw_at lw_m2 178 rfl) rfl
theorem q547 : (Jvm.Cond.sameMethod "java/lang/AbstractStringBuilde\x72" "java/lang/AbstractStringBuilde\x72" "length" "()I") ∈ lw_all := lw_g (lw_at lw_m2 179 rfl) rfl
theorem q552 : (Jvm.Cond.code ({ cls := "java/lang/AbstractStringBuilde\x72", name := "length", desc := "()I" } : Jvm.MethodName) prog_17_method_6_code (1 : Nat) (Option.some Jvm.ClassFile.FieldType.int)) ∈ lw_all := lw_g (lw_at lw_m2 184 rfl) rfl
theorem q2292 : (Jvm.Cond.sameMethod "java/lang/AbstractStringBuilde\x72" "java/lang/AbstractStringBuilde\x72" "append" "(C)Ljava/lang/AbstractStringBuilder;") ∈ lw_all := lw_g (lw_at lw_m10 4 rfl) rfl
theorem q2293 : (Jvm.Cond.sameMethod "java/lang/AbstractStringBuilde\x72" "java/lang/AbstractStringBuilde\x72" "ensureCapacityInternal" "(I)V") ∈ lw_all := lw_g (lw_at lw_m10 5 rfl) rfl
theorem q2294 : (Jvm.Cond.sameMethod "java/lang/AbstractStringBuilde\x72" "java/lang/AbstractStringBuilde\x72" "newCapacity" "(I)I") ∈ lw_all := lw_g (lw_at lw_m10 6 rfl) rfl
theorem q2295 : (Jvm.Cond.sameMethod "java/lang/AbstractStringBuilde\x72" "java/lang/AbstractStringBuilde\x72" "inflate" "()V") ∈ lw_all := lw_g (lw_at lw_m10 7 rfl) rfl
def RJ4 : String := "java/lang/StringBuilde\x72"
def TJ4 : u_T := fun k => match k with
  | 0 => ("java/lang/AbstractStringBuilde\x72", "value", "[B", false)
  | 1 => ("java/lang/AbstractStringBuilde\x72", "code\x72", "B", false)
  | 2 => ("java/lang/AbstractStringBuilde\x72", "maybeLatin1", "Z", false)
  | _ => ("java/lang/AbstractStringBuilde\x72", "count", "I", false)
def tyJ4 : Nat → FieldType := fun k => match k with
  | 0 => .array .byte
  | 1 => .byte
  | 2 => .boolean
  | _ => .int
abbrev wsJ40 : List Cond := u_ws RJ4 TJ4 4
theorem nmJ4 : ∀ a, a < 4 → ∀ b, b < 4 → a ≠ b → (TJ4 a).2.1 ≠ (TJ4 b).2.1 := by decide +kernel
theorem tyJ4_ok : ∀ k, k < 4 → parseFieldDescriptor (TJ4 k).2.2.1 = some (tyJ4 k) := by decide +kernel
theorem q139 : (Jvm.Cond.initialized "java/lang/StringBuilde\x72") ∈ lw_all := lw_g (lw_at lw_m1 11 rfl) rfl
theorem q402 : (Jvm.Cond.instantiable "java/lang/StringBuilde\x72" (4 : Nat)) ∈ lw_all := lw_g (lw_at lw_m2 34 rfl) rfl
theorem q404 : (Jvm.Cond.instanceMethod ({ cls := "java/lang/StringBuilde\x72", name := "<init>", desc := "()V" } : Jvm.MethodName)) ∈ lw_all := lw_g (lw_at lw_m2 36 rfl) rfl
theorem q405 : (Jvm.Cond.code ({ cls := "java/lang/StringBuilde\x72", name := "<init>", desc := "()V" } : Jvm.MethodName) prog_27_method_1_code (1 : Nat) (Option.none : Option Jvm.ClassFile.FieldType)) ∈ lw_all := lw_g (lw_at lw_m2 37 rfl) rfl
theorem q406 : (Jvm.Cond.methodLink "java/lang/StringBuilde\x72" (1 : Nat) ({ cls := "java/lang/AbstractStringBuilde\x72", name := "<init>", desc := "(I)V" } : Jvm.MethodName)) ∈ lw_all := lw_g (lw_at lw_m2 38 rfl) rfl
theorem q423 : (Jvm.Cond.lays "java/lang/StringBuilde\x72" "java/lang/AbstractStringBuilde\x72" "value" "[B") ∈ lw_all := lw_g (lw_at lw_m2 55 rfl) rfl
theorem q425 : (Jvm.Cond.lays "java/lang/StringBuilde\x72" "java/lang/AbstractStringBuilde\x72" "code\x72" "B") ∈ lw_all := lw_g (lw_at lw_m2 57 rfl) rfl
theorem q427 : (Jvm.Cond.lays "java/lang/StringBuilde\x72" "java/lang/AbstractStringBuilde\x72" "maybeLatin1" "Z") ∈ lw_all := lw_g (lw_at lw_m2 59 rfl) rfl
theorem q429 : (Jvm.Cond.lays "java/lang/StringBuilde\x72" "java/lang/AbstractStringBuilde\x72" "count" "I") ∈ lw_all := lw_g (lw_at lw_m2 61 rfl) rfl
theorem q431 : (Jvm.Cond.superclass "java/lang/StringBuilde\x72" "java/lang/AbstractStringBuilde\x72") ∈ lw_all := lw_g (lw_at lw_m2 63 rfl) rfl
theorem q433 : (Jvm.Cond.instanceMethod ({ cls := "java/lang/StringBuilde\x72", name := "append", desc := "(C)Ljava/lang/StringBuilder;" } : Jvm.MethodName)) ∈ lw_all := lw_g (lw_at lw_m2 65 rfl) rfl
theorem q434 : (Jvm.Cond.selects "java/lang/StringBuilde\x72" ({ cls := "java/lang/StringBuilde\x72", name := "append", desc := "(C)Ljava/lang/StringBuilder;" } : Jvm.MethodName) ({ cls := "java/lang/StringBuilde\x72", name := "append", desc := "(C)Ljava/lang/StringBuilder;" } : Jvm.MethodName)) ∈ lw_all := lw_g (lw_at lw_m2 66 rfl) rfl
theorem q435 : (Jvm.Cond.code ({ cls := "java/lang/StringBuilde\x72", name := "append", desc := "(C)Ljava/lang/StringBuilder;" } : Jvm.MethodName) prog_27_method_14_code (2 : Nat) (Option.some (Jvm.ClassFile.FieldType.object "java/lang/StringBuilde\x72"))) ∈ lw_all := lw_g (lw_at lw_m2 67 rfl) rfl
theorem q436 : (Jvm.Cond.methodLink "java/lang/StringBuilde\x72" (50 : Nat) ({ cls := "java/lang/AbstractStringBuilde\x72", name := "append", desc := "(C)Ljava/lang/AbstractStringBuilder;" } : Jvm.MethodName)) ∈ lw_all := lw_g (lw_at lw_m2 68 rfl) rfl
theorem q477 : (Jvm.Cond.selects "java/lang/StringBuilde\x72" ({ cls := "java/lang/AbstractStringBuilde\x72", name := "isLatin1", desc := "()Z" } : Jvm.MethodName) ({ cls := "java/lang/AbstractStringBuilde\x72", name := "isLatin1", desc := "()Z" } : Jvm.MethodName)) ∈ lw_all := lw_g (lw_at lw_m2 109 rfl) rfl
theorem q528 : (Jvm.Cond.instanceMethod ({ cls := "java/lang/StringBuilde\x72", name := "toString", desc := "()Ljava/lang/String;" } : Jvm.MethodName)) ∈ lw_all := lw_g (lw_at lw_m2 160 rfl) rfl
theorem q529 : (Jvm.Cond.selects "java/lang/StringBuilde\x72" ({ cls := "java/lang/StringBuilde\x72", name := "toString", desc := "()Ljava/lang/String;" } : Jvm.MethodName) ({ cls := "java/lang/StringBuilde\x72", name := "toString", desc := "()Ljava/lang/String;" } : Jvm.MethodName)) ∈ lw_all := lw_g (lw_at lw_m2 161 rfl) rfl
theorem q530 : (Jvm.Cond.code ({ cls := "java/lang/StringBuilde\x72", name := "toString", desc := "()Ljava/lang/String;" } : Jvm.MethodName) prog_27_method_42_code (1 : Nat) (Option.some (Jvm.ClassFile.FieldType.object "java/lang/String"))) ∈ lw_all := lw_g (lw_at lw_m2 162 rfl) rfl
theorem q531 : (Jvm.Cond.classLink "java/lang/StringBuilde\x72" (18 : Nat) "java/lang/String") ∈ lw_all := lw_g (lw_at lw_m2 163 rfl) rfl
theorem q533 : (Jvm.Cond.methodLink "java/lang/StringBuilde\x72" (137 : Nat) ({ cls := "java/lang/String", name := "<init>", desc := "(Ljava/lang/StringBuilder;)V" } : Jvm.MethodName)) ∈ lw_all := lw_g (lw_at lw_m2 165 rfl) rfl
theorem q543 : (Jvm.Cond.selects "java/lang/StringBuilde\x72" ({ cls := "java/lang/AbstractStringBuilde\x72", name := "getValue", desc := "()[B" } : Jvm.MethodName) ({ cls := "java/lang/AbstractStringBuilde\x72", name := "getValue", desc := "()[B" } : Jvm.MethodName)) ∈ lw_all := lw_g (lw_at lw_m2 175 rfl) rfl
theorem q548 : (Jvm.Cond.selects "java/lang/StringBuilde\x72" ({ cls := "java/lang/AbstractStringBuilde\x72", name := "length", desc := "()I" } : Jvm.MethodName) ({ cls := "java/lang/StringBuilde\x72", name := "length", desc := "()I" } : Jvm.MethodName)) ∈ lw_all := lw_g (lw_at lw_m2 180 rfl) rfl
theorem q549 : (Jvm.Cond.instanceMethod ({ cls := "java/lang/StringBuilde\x72", name := "length", desc := "()I" } : Jvm.MethodName)) ∈ lw_all := lw_g (lw_at lw_m2 181 rfl) rfl
theorem q550 : (Jvm.Cond.code ({ cls := "java/lang/StringBuilde\x72", name := "length", desc := "()I" } : Jvm.MethodName) prog_27_method_93_code (1 : Nat) (Option.some Jvm.ClassFile.FieldType.int)) ∈ lw_all := lw_g (lw_at lw_m2 182 rfl) rfl
theorem q551 : (Jvm.Cond.methodLink "java/lang/StringBuilde\x72" (343 : Nat) ({ cls := "java/lang/AbstractStringBuilde\x72", name := "length", desc := "()I" } : Jvm.MethodName)) ∈ lw_all := lw_g (lw_at lw_m2 183 rfl) rfl
theorem q827 : (Jvm.Cond.selects "java/lang/StringBuilde\x72" ({ cls := "java/lang/Object", name := "getClass", desc := "()Ljava/lang/Class;" } : Jvm.MethodName) ({ cls := "java/lang/Object", name := "getClass", desc := "()Ljava/lang/Class;" } : Jvm.MethodName)) ∈ lw_all := lw_g (lw_at lw_m3 219 rfl) rfl
theorem q2313 : (Jvm.Cond.castable "java/lang/StringBuilde\x72" "java/lang/Object") ∈ lw_tbl := lw_at lw_m10 25 rfl
theorem in_J4 : ∀ w ∈ wsJ40, w ∈ lw_all := lw_in wsJ40 [423, 425, 427, 429] (by decide +kernel) (by decide +kernel)
def RJ5 : String := "java/lang/String"
def TJ5 : u_T := fun k => match k with
  | 0 => ("java/lang/String", "value", "[B", true)
  | 1 => ("java/lang/String", "code\x72", "B", true)
  | 2 => ("java/lang/String", "hash", "I", false)
  | _ => ("java/lang/String", "hashIsZero", "Z", false)
def tyJ5 : Nat → FieldType := fun k => match k with
  | 0 => .array .byte
  | 1 => .byte
  | 2 => .int
  | _ => .boolean
abbrev wsJ50 : List Cond := u_ws RJ5 TJ5 4
theorem nmJ5 : ∀ a, a < 4 → ∀ b, b < 4 → a ≠ b → (TJ5 a).2.1 ≠ (TJ5 b).2.1 := by decide +kernel
theorem tyJ5_ok : ∀ k, k < 4 → parseFieldDescriptor (TJ5 k).2.2.1 = some (tyJ5 k) := by decide +kernel
theorem q140 : (Jvm.Cond.initialized "java/lang/String") ∈ lw_all := lw_g (lw_at lw_m1 12 rfl) rfl
theorem q411 : (Jvm.Cond.laysStatic "java/lang/String" "COMPACT_STRINGS" "Z") ∈ lw_tbl := lw_at lw_m2 43 rfl
theorem q421 : (Jvm.Cond.fieldLink "java/lang/String" (1048 : Nat) "java/lang/AbstractStringBuilde\x72" "maybeLatin1" "Z") ∈ lw_all := lw_g (lw_at lw_m2 53 rfl) rfl
theorem q499 : (Jvm.Cond.static ({ cls := "java/lang/String", name := "checkBoundsOffCount", desc := "(III)I" } : Jvm.MethodName)) ∈ lw_all := lw_g (lw_at lw_m2 131 rfl) rfl
theorem q500 : (Jvm.Cond.code ({ cls := "java/lang/String", name := "checkBoundsOffCount", desc := "(III)I" } : Jvm.MethodName) prog_26_method_157_code (3 : Nat) (Option.some Jvm.ClassFile.FieldType.int)) ∈ lw_all := lw_g (lw_at lw_m2 132 rfl) rfl
theorem q501 : (Jvm.Cond.fieldLink "java/lang/String" (1053 : Nat) "jdk/internal/util/Preconditions" "SIOOBE_FORMATTER" "Ljava/util/function/BiFunction;") ∈ lw_all := lw_g (lw_at lw_m2 133 rfl) rfl
theorem q503 : (Jvm.Cond.methodLink "java/lang/String" (1065 : Nat) ({ cls := "jdk/internal/util/Preconditions", name := "checkFromIndexSize", desc := "(IIILjava/util/function/BiFunction;)I" } : Jvm.MethodName)) ∈ lw_all := lw_g (lw_at lw_m2 135 rfl) rfl
theorem q522 : (Jvm.Cond.static ({ cls := "java/lang/String", name := "checkIndex", desc := "(II)V" } : Jvm.MethodName)) ∈ lw_all := lw_g (lw_at lw_m2 154 rfl) rfl
theorem q523 : (Jvm.Cond.code ({ cls := "java/lang/String", name := "checkIndex", desc := "(II)V" } : Jvm.MethodName) prog_26_method_155_code (2 : Nat) (Option.none : Option Jvm.ClassFile.FieldType)) ∈ lw_all := lw_g (lw_at lw_m2 155 rfl) rfl
theorem q524 : (Jvm.Cond.methodLink "java/lang/String" (1059 : Nat) ({ cls := "jdk/internal/util/Preconditions", name := "checkIndex", desc := "(IILjava/util/function/BiFunction;)I" } : Jvm.MethodName)) ∈ lw_all := lw_g (lw_at lw_m2 156 rfl) rfl
theorem q532 : (Jvm.Cond.instantiable "java/lang/String" (4 : Nat)) ∈ lw_all := lw_g (lw_at lw_m2 164 rfl) rfl
theorem q534 : (Jvm.Cond.instanceMethod ({ cls := "java/lang/String", name := "<init>", desc := "(Ljava/lang/StringBuilder;)V" } : Jvm.MethodName)) ∈ lw_all := lw_g (lw_at lw_m2 166 rfl) rfl
theorem q535 : (Jvm.Cond.code ({ cls := "java/lang/String", name := "<init>", desc := "(Ljava/lang/StringBuilder;)V" } : Jvm.MethodName) prog_26_method_53_code (2 : Nat) (Option.none : Option Jvm.ClassFile.FieldType)) ∈ lw_all := lw_g (lw_at lw_m2 167 rfl) rfl
theorem q536 : (Jvm.Cond.methodLink "java/lang/String" (489 : Nat) ({ cls := "java/lang/String", name := "<init>", desc := "(Ljava/lang/AbstractStringBuilder;Ljava/lang/Void;)V" } : Jvm.MethodName)) ∈ lw_all := lw_g (lw_at lw_m2 168 rfl) rfl
theorem q537 : (Jvm.Cond.instanceMethod ({ cls := "java/lang/String", name := "<init>", desc := "(Ljava/lang/AbstractStringBuilder;Ljava/lang/Void;)V" } : Jvm.MethodName)) ∈ lw_all := lw_g (lw_at lw_m2 169 rfl) rfl
theorem q538 : (Jvm.Cond.code ({ cls := "java/lang/String", name := "<init>", desc := "(Ljava/lang/AbstractStringBuilder;Ljava/lang/Void;)V" } : Jvm.MethodName) prog_26_method_150_code (5 : Nat) (Option.none : Option Jvm.ClassFile.FieldType)) ∈ lw_all := lw_g (lw_at lw_m2 170 rfl) rfl
theorem q539 : (Jvm.Cond.methodLink "java/lang/String" (1 : Nat) ({ cls := "java/lang/Object", name := "<init>", desc := "()V" } : Jvm.MethodName)) ∈ lw_all := lw_g (lw_at lw_m2 171 rfl) rfl
theorem q540 : (Jvm.Cond.methodLink "java/lang/String" (552 : Nat) ({ cls := "java/lang/AbstractStringBuilde\x72", name := "getValue", desc := "()[B" } : Jvm.MethodName)) ∈ lw_all := lw_g (lw_at lw_m2 172 rfl) rfl
theorem q545 : (Jvm.Cond.methodLink "java/lang/String" (549 : Nat) ({ cls := "java/lang/AbstractStringBuilde\x72", name := "length", desc := "()I" } : Jvm.MethodName)) ∈ lw_all := lw_g (lw_at lw_m2 177 rfl) rfl
theorem q553 : (Jvm.Cond.methodLink "java/lang/String" (1047 : Nat) ({ cls := "java/lang/AbstractStringBuilde\x72", name := "isLatin1", desc := "()Z" } : Jvm.MethodName)) ∈ lw_all := lw_g (lw_at lw_m2 185 rfl) rfl
theorem q554 : (Jvm.Cond.methodLink "java/lang/String" (54 : Nat) ({ cls := "java/util/Arrays", name := "copyOfRange", desc := "([BII)[B" } : Jvm.MethodName)) ∈ lw_all := lw_g (lw_at lw_m2 186 rfl) rfl
theorem q563 : (Jvm.Cond.fieldLink "java/lang/String" (38 : Nat) "java/lang/String" "COMPACT_STRINGS" "Z") ∈ lw_all := lw_g (lw_at lw_m2 195 rfl) rfl
theorem q564 : (Jvm.Cond.methodLink "java/lang/String" (1051 : Nat) ({ cls := "java/lang/StringUTF16", name := "compress", desc := "([BII)[B" } : Jvm.MethodName)) ∈ lw_all := lw_g (lw_at lw_m2 196 rfl) rfl
theorem q574 : (Jvm.Cond.methodLink "java/lang/String" (47 : Nat) ({ cls := "java/lang/StringUTF16", name := "coderFromArrayLen", desc := "([BI)B" } : Jvm.MethodName)) ∈ lw_all := lw_g (lw_at lw_m2 206 rfl) rfl
theorem q577 : (Jvm.Cond.fieldLink "java/lang/String" (9 : Nat) "java/lang/String" "value" "[B") ∈ lw_all := lw_g (lw_at lw_m2 209 rfl) rfl
theorem q578 : (Jvm.Cond.fieldLink "java/lang/String" (15 : Nat) "java/lang/String" "code\x72" "B") ∈ lw_all := lw_g (lw_at lw_m2 210 rfl) rfl
theorem q579 : (Jvm.Cond.fieldLink "java/lang/String" (19 : Nat) "java/lang/String" "hash" "I") ∈ lw_all := lw_g (lw_at lw_m2 211 rfl) rfl
theorem q580 : (Jvm.Cond.fieldLink "java/lang/String" (23 : Nat) "java/lang/String" "hashIsZero" "Z") ∈ lw_all := lw_g (lw_at lw_m2 212 rfl) rfl
theorem q581 : (Jvm.Cond.laysFinal "java/lang/String" "java/lang/String" "value" "[B") ∈ lw_all := lw_g (lw_at lw_m2 213 rfl) rfl
theorem q582 : (Jvm.Cond.soleField "java/lang/String" "value") ∈ lw_all := lw_g (lw_at lw_m2 214 rfl) rfl
theorem q583 : (Jvm.Cond.laysFinal "java/lang/String" "java/lang/String" "code\x72" "B") ∈ lw_all := lw_g (lw_at lw_m2 215 rfl) rfl
theorem q584 : (Jvm.Cond.soleField "java/lang/String" "code\x72") ∈ lw_all := lw_g (lw_at lw_m2 216 rfl) rfl
theorem q585 : (Jvm.Cond.lays "java/lang/String" "java/lang/String" "hash" "I") ∈ lw_all := lw_g (lw_at lw_m2 217 rfl) rfl
theorem q586 : (Jvm.Cond.soleField "java/lang/String" "hash") ∈ lw_all := lw_g (lw_at lw_m2 218 rfl) rfl
theorem q587 : (Jvm.Cond.lays "java/lang/String" "java/lang/String" "hashIsZero" "Z") ∈ lw_all := lw_g (lw_at lw_m2 219 rfl) rfl
theorem q588 : (Jvm.Cond.soleField "java/lang/String" "hashIsZero") ∈ lw_all := lw_g (lw_at lw_m2 220 rfl) rfl
theorem q589 : (Jvm.Cond.superclass "java/lang/String" "java/lang/Object") ∈ lw_all := lw_g (lw_at lw_m2 221 rfl) rfl
theorem q618 : (Jvm.Cond.instanceMethod ({ cls := "java/lang/String", name := "hashCode", desc := "()I" } : Jvm.MethodName)) ∈ lw_all := lw_g (lw_at lw_m3 10 rfl) rfl
theorem q619 : (Jvm.Cond.selects "java/lang/String" ({ cls := "java/lang/String", name := "hashCode", desc := "()I" } : Jvm.MethodName) ({ cls := "java/lang/String", name := "hashCode", desc := "()I" } : Jvm.MethodName)) ∈ lw_all := lw_g (lw_at lw_m3 11 rfl) rfl
theorem q620 : (Jvm.Cond.code ({ cls := "java/lang/String", name := "hashCode", desc := "()I" } : Jvm.MethodName) prog_26_method_78_code (2 : Nat) (Option.some Jvm.ClassFile.FieldType.int)) ∈ lw_all := lw_g (lw_at lw_m3 12 rfl) rfl
theorem q621 : (Jvm.Cond.methodLink "java/lang/String" (492 : Nat) ({ cls := "java/lang/String", name := "isLatin1", desc := "()Z" } : Jvm.MethodName)) ∈ lw_all := lw_g (lw_at lw_m3 13 rfl) rfl
theorem q622 : (Jvm.Cond.instanceMethod ({ cls := "java/lang/String", name := "isLatin1", desc := "()Z" } : Jvm.MethodName)) ∈ lw_all := lw_g (lw_at lw_m3 14 rfl) rfl
theorem q623 : (Jvm.Cond.selects "java/lang/String" ({ cls := "java/lang/String", name := "isLatin1", desc := "()Z" } : Jvm.MethodName) ({ cls := "java/lang/String", name := "isLatin1", desc := "()Z" } : Jvm.MethodName)) ∈ lw_all := lw_g (lw_at lw_m3 15 rfl) rfl
theorem q624 : (Jvm.Cond.code ({ cls := "java/lang/String", name := "isLatin1", desc := "()Z" } : Jvm.MethodName) prog_26_method_154_code (1 : Nat) (Option.some Jvm.ClassFile.FieldType.boolean)) ∈ lw_all := lw_g (lw_at lw_m3 16 rfl) rfl
theorem q625 : (Jvm.Cond.methodLink "java/lang/String" (628 : Nat) ({ cls := "java/lang/StringLatin1", name := "hashCode", desc := "([B)I" } : Jvm.MethodName)) ∈ lw_all := lw_g (lw_at lw_m3 17 rfl) rfl
theorem q666 : (Jvm.Cond.methodLink "java/lang/String" (632 : Nat) ({ cls := "java/lang/StringUTF16", name := "hashCode", desc := "([B)I" } : Jvm.MethodName)) ∈ lw_all := lw_g (lw_at lw_m3 58 rfl) rfl
theorem q672 : (Jvm.Cond.instanceMethod ({ cls := "java/lang/String", name := "equals", desc := "(Ljava/lang/Object;)Z" } : Jvm.MethodName)) ∈ lw_all := lw_g (lw_at lw_m3 64 rfl) rfl
theorem q673 : (Jvm.Cond.selects "java/lang/String" ({ cls := "java/lang/String", name := "equals", desc := "(Ljava/lang/Object;)Z" } : Jvm.MethodName) ({ cls := "java/lang/String", name := "equals", desc := "(Ljava/lang/Object;)Z" } : Jvm.MethodName)) ∈ lw_all := lw_g (lw_at lw_m3 65 rfl) rfl
theorem q674 : (Jvm.Cond.code ({ cls := "java/lang/String", name := "equals", desc := "(Ljava/lang/Object;)Z" } : Jvm.MethodName) prog_26_method_66_code (3 : Nat) (Option.some Jvm.ClassFile.FieldType.boolean)) ∈ lw_all := lw_g (lw_at lw_m3 66 rfl) rfl
theorem q675 : (Jvm.Cond.classLink "java/lang/String" (10 : Nat) "java/lang/String") ∈ lw_all := lw_g (lw_at lw_m3 67 rfl) rfl
theorem q676 : (Jvm.Cond.methodLink "java/lang/String" (541 : Nat) ({ cls := "java/lang/StringLatin1", name := "equals", desc := "([B[B)Z" } : Jvm.MethodName)) ∈ lw_all := lw_g (lw_at lw_m3 68 rfl) rfl
theorem q826 : (Jvm.Cond.selects "java/lang/String" ({ cls := "java/lang/Object", name := "getClass", desc := "()Ljava/lang/Class;" } : Jvm.MethodName) ({ cls := "java/lang/Object", name := "getClass", desc := "()Ljava/lang/Class;" } : Jvm.MethodName)) ∈ lw_all := lw_g (lw_at lw_m3 218 rfl) rfl
theorem q1792 : (Jvm.Cond.instanceMethod ({ cls := "java/lang/String", name := "length", desc := "()I" } : Jvm.MethodName)) ∈ lw_all := lw_g (lw_at lw_m7 224 rfl) rfl
theorem q1793 : (Jvm.Cond.selects "java/lang/String" ({ cls := "java/lang/String", name := "length", desc := "()I" } : Jvm.MethodName) ({ cls := "java/lang/String", name := "length", desc := "()I" } : Jvm.MethodName)) ∈ lw_all := lw_g (lw_at lw_m7 225 rfl) rfl
theorem q1794 : (Jvm.Cond.code ({ cls := "java/lang/String", name := "length", desc := "()I" } : Jvm.MethodName) prog_26_method_54_code (1 : Nat) (Option.some Jvm.ClassFile.FieldType.int)) ∈ lw_all := lw_g (lw_at lw_m7 226 rfl) rfl
theorem q1795 : (Jvm.Cond.methodLink "java/lang/String" (335 : Nat) ({ cls := "java/lang/String", name := "code\x72", desc := "()B" } : Jvm.MethodName)) ∈ lw_all := lw_g (lw_at lw_m7 227 rfl) rfl
theorem q1796 : (Jvm.Cond.instanceMethod ({ cls := "java/lang/String", name := "code\x72", desc := "()B" } : Jvm.MethodName)) ∈ lw_all := lw_g (lw_at lw_m7 228 rfl) rfl
theorem q1797 : (Jvm.Cond.selects "java/lang/String" ({ cls := "java/lang/String", name := "code\x72", desc := "()B" } : Jvm.MethodName) ({ cls := "java/lang/String", name := "code\x72", desc := "()B" } : Jvm.MethodName)) ∈ lw_all := lw_g (lw_at lw_m7 229 rfl) rfl
theorem q1798 : (Jvm.Cond.code ({ cls := "java/lang/String", name := "code\x72", desc := "()B" } : Jvm.MethodName) prog_26_method_152_code (1 : Nat) (Option.some Jvm.ClassFile.FieldType.byte)) ∈ lw_all := lw_g (lw_at lw_m7 230 rfl) rfl
theorem q1800 : (Jvm.Cond.instanceMethod ({ cls := "java/lang/String", name := "charAt", desc := "(I)C" } : Jvm.MethodName)) ∈ lw_all := lw_g (lw_at lw_m7 232 rfl) rfl
theorem q1801 : (Jvm.Cond.selects "java/lang/String" ({ cls := "java/lang/String", name := "charAt", desc := "(I)C" } : Jvm.MethodName) ({ cls := "java/lang/String", name := "charAt", desc := "(I)C" } : Jvm.MethodName)) ∈ lw_all := lw_g (lw_at lw_m7 233 rfl) rfl
theorem q1802 : (Jvm.Cond.code ({ cls := "java/lang/String", name := "charAt", desc := "(I)C" } : Jvm.MethodName) prog_26_method_56_code (2 : Nat) (Option.some Jvm.ClassFile.FieldType.char)) ∈ lw_all := lw_g (lw_at lw_m7 234 rfl) rfl
theorem q1803 : (Jvm.Cond.methodLink "java/lang/String" (495 : Nat) ({ cls := "java/lang/StringLatin1", name := "charAt", desc := "([BI)C" } : Jvm.MethodName)) ∈ lw_all := lw_g (lw_at lw_m7 235 rfl) rfl
theorem q1807 : (Jvm.Cond.methodLink "java/lang/String" (498 : Nat) ({ cls := "java/lang/StringUTF16", name := "charAt", desc := "([BI)C" } : Jvm.MethodName)) ∈ lw_all := lw_g (lw_at lw_m7 239 rfl) rfl
theorem q2314 : (Jvm.Cond.castable "java/lang/String" "java/lang/Object") ∈ lw_tbl := lw_at lw_m10 26 rfl
theorem in_J5 : ∀ w ∈ wsJ50, w ∈ lw_all := lw_in wsJ50 [581, 583, 585, 587] (by decide +kernel) (by decide +kernel)
def RJ6 : String := "java/lang/StringUTF16"
theorem q141 : (Jvm.Cond.initialized "java/lang/StringUTF16") ∈ lw_all := lw_g (lw_at lw_m1 13 rfl) rfl
theorem q413 : (Jvm.Cond.static ({ cls := "java/lang/StringUTF16", name := "newBytesFo\x72", desc := "(I)[B" } : Jvm.MethodName)) ∈ lw_all := lw_g (lw_at lw_m2 45 rfl) rfl
theorem q414 : (Jvm.Cond.code ({ cls := "java/lang/StringUTF16", name := "newBytesFo\x72", desc := "(I)[B" } : Jvm.MethodName) prog_29_method_2_code (1 : Nat) (Option.some (Jvm.ClassFile.FieldType.array Jvm.ClassFile.FieldType.byte))) ∈ lw_all := lw_g (lw_at lw_m2 46 rfl) rfl
theorem q415 : (Jvm.Cond.methodLink "java/lang/StringUTF16" (11 : Nat) ({ cls := "java/lang/StringUTF16", name := "newBytesLength", desc := "(I)I" } : Jvm.MethodName)) ∈ lw_all := lw_g (lw_at lw_m2 47 rfl) rfl
theorem q416 : (Jvm.Cond.static ({ cls := "java/lang/StringUTF16", name := "newBytesLength", desc := "(I)I" } : Jvm.MethodName)) ∈ lw_all := lw_g (lw_at lw_m2 48 rfl) rfl
theorem q417 : (Jvm.Cond.code ({ cls := "java/lang/StringUTF16", name := "newBytesLength", desc := "(I)I" } : Jvm.MethodName) prog_29_method_3_code (1 : Nat) (Option.some Jvm.ClassFile.FieldType.int)) ∈ lw_all := lw_g (lw_at lw_m2 49 rfl) rfl
theorem q418 : (Jvm.Cond.constant "java/lang/StringUTF16" (20 : Nat) (1073741823 : Int32)) ∈ lw_all := lw_g (lw_at lw_m2 50 rfl) rfl
theorem q490 : (Jvm.Cond.static ({ cls := "java/lang/StringUTF16", name := "inflate", desc := "([BI[BII)V" } : Jvm.MethodName)) ∈ lw_all := lw_g (lw_at lw_m2 122 rfl) rfl
theorem q491 : (Jvm.Cond.code ({ cls := "java/lang/StringUTF16", name := "inflate", desc := "([BI[BII)V" } : Jvm.MethodName) prog_29_method_86_code (6 : Nat) (Option.none : Option Jvm.ClassFile.FieldType)) ∈ lw_all := lw_g (lw_at lw_m2 123 rfl) rfl
theorem q492 : (Jvm.Cond.methodLink "java/lang/StringUTF16" (173 : Nat) ({ cls := "java/lang/StringUTF16", name := "checkBoundsOffCount", desc := "(II[B)V" } : Jvm.MethodName)) ∈ lw_all := lw_g (lw_at lw_m2 124 rfl) rfl
theorem q493 : (Jvm.Cond.static ({ cls := "java/lang/StringUTF16", name := "checkBoundsOffCount", desc := "(II[B)V" } : Jvm.MethodName)) ∈ lw_all := lw_g (lw_at lw_m2 125 rfl) rfl
theorem q494 : (Jvm.Cond.code ({ cls := "java/lang/StringUTF16", name := "checkBoundsOffCount", desc := "(II[B)V" } : Jvm.MethodName) prog_29_method_94_code (3 : Nat) (Option.none : Option Jvm.ClassFile.FieldType)) ∈ lw_all := lw_g (lw_at lw_m2 126 rfl) rfl
theorem q495 : (Jvm.Cond.methodLink "java/lang/StringUTF16" (48 : Nat) ({ cls := "java/lang/StringUTF16", name := "length", desc := "([B)I" } : Jvm.MethodName)) ∈ lw_all := lw_g (lw_at lw_m2 127 rfl) rfl
theorem q496 : (Jvm.Cond.static ({ cls := "java/lang/StringUTF16", name := "length", desc := "([B)I" } : Jvm.MethodName)) ∈ lw_all := lw_g (lw_at lw_m2 128 rfl) rfl
theorem q497 : (Jvm.Cond.code ({ cls := "java/lang/StringUTF16", name := "length", desc := "([B)I" } : Jvm.MethodName) prog_29_method_6_code (1 : Nat) (Option.some Jvm.ClassFile.FieldType.int)) ∈ lw_all := lw_g (lw_at lw_m2 129 rfl) rfl
theorem q498 : (Jvm.Cond.methodLink "java/lang/StringUTF16" (419 : Nat) ({ cls := "java/lang/String", name := "checkBoundsOffCount", desc := "(III)I" } : Jvm.MethodName)) ∈ lw_all := lw_g (lw_at lw_m2 130 rfl) rfl
theorem q506 : (Jvm.Cond.methodLink "java/lang/StringUTF16" (111 : Nat) ({ cls := "java/lang/StringUTF16", name := "putCha\x72", desc := "([BII)V" } : Jvm.MethodName)) ∈ lw_all := lw_g (lw_at lw_m2 138 rfl) rfl
theorem q507 : (Jvm.Cond.static ({ cls := "java/lang/StringUTF16", name := "putCha\x72", desc := "([BII)V" } : Jvm.MethodName)) ∈ lw_all := lw_g (lw_at lw_m2 139 rfl) rfl
theorem q508 : (Jvm.Cond.code ({ cls := "java/lang/StringUTF16", name := "putCha\x72", desc := "([BII)V" } : Jvm.MethodName) prog_29_method_4_code (3 : Nat) (Option.none : Option Jvm.ClassFile.FieldType)) ∈ lw_all := lw_g (lw_at lw_m2 140 rfl) rfl
theorem q509 : (Jvm.Cond.fieldLink "java/lang/StringUTF16" (44 : Nat) "java/lang/StringUTF16" "$assertionsDisabled" "Z") ∈ lw_all := lw_g (lw_at lw_m2 141 rfl) rfl
theorem q510 : (Jvm.Cond.laysStatic "java/lang/StringUTF16" "$assertionsDisabled" "Z") ∈ lw_tbl := lw_at lw_m2 142 rfl
theorem q511 : (Jvm.Cond.fieldLink "java/lang/StringUTF16" (59 : Nat) "java/lang/StringUTF16" "HI_BYTE_SHIFT" "I") ∈ lw_all := lw_g (lw_at lw_m2 143 rfl) rfl
theorem q512 : (Jvm.Cond.laysStatic "java/lang/StringUTF16" "HI_BYTE_SHIFT" "I") ∈ lw_tbl := lw_at lw_m2 144 rfl
theorem q513 : (Jvm.Cond.fieldLink "java/lang/StringUTF16" (63 : Nat) "java/lang/StringUTF16" "LO_BYTE_SHIFT" "I") ∈ lw_all := lw_g (lw_at lw_m2 145 rfl) rfl
theorem q514 : (Jvm.Cond.laysStatic "java/lang/StringUTF16" "LO_BYTE_SHIFT" "I") ∈ lw_tbl := lw_at lw_m2 146 rfl
theorem q516 : (Jvm.Cond.static ({ cls := "java/lang/StringUTF16", name := "putCharSB", desc := "([BII)V" } : Jvm.MethodName)) ∈ lw_all := lw_g (lw_at lw_m2 148 rfl) rfl
theorem q517 : (Jvm.Cond.code ({ cls := "java/lang/StringUTF16", name := "putCharSB", desc := "([BII)V" } : Jvm.MethodName) prog_29_method_71_code (3 : Nat) (Option.none : Option Jvm.ClassFile.FieldType)) ∈ lw_all := lw_g (lw_at lw_m2 149 rfl) rfl
theorem q518 : (Jvm.Cond.methodLink "java/lang/StringUTF16" (67 : Nat) ({ cls := "java/lang/StringUTF16", name := "checkIndex", desc := "(I[B)V" } : Jvm.MethodName)) ∈ lw_all := lw_g (lw_at lw_m2 150 rfl) rfl
theorem q519 : (Jvm.Cond.static ({ cls := "java/lang/StringUTF16", name := "checkIndex", desc := "(I[B)V" } : Jvm.MethodName)) ∈ lw_all := lw_g (lw_at lw_m2 151 rfl) rfl
theorem q520 : (Jvm.Cond.code ({ cls := "java/lang/StringUTF16", name := "checkIndex", desc := "(I[B)V" } : Jvm.MethodName) prog_29_method_91_code (2 : Nat) (Option.none : Option Jvm.ClassFile.FieldType)) ∈ lw_all := lw_g (lw_at lw_m2 152 rfl) rfl
theorem q521 : (Jvm.Cond.methodLink "java/lang/StringUTF16" (414 : Nat) ({ cls := "java/lang/String", name := "checkIndex", desc := "(II)V" } : Jvm.MethodName)) ∈ lw_all := lw_g (lw_at lw_m2 153 rfl) rfl
theorem q565 : (Jvm.Cond.static ({ cls := "java/lang/StringUTF16", name := "compress", desc := "([BII)[B" } : Jvm.MethodName)) ∈ lw_all := lw_g (lw_at lw_m2 197 rfl) rfl
theorem q566 : (Jvm.Cond.code ({ cls := "java/lang/StringUTF16", name := "compress", desc := "([BII)[B" } : Jvm.MethodName) prog_29_method_17_code (6 : Nat) (Option.some (Jvm.ClassFile.FieldType.array Jvm.ClassFile.FieldType.byte))) ∈ lw_all := lw_g (lw_at lw_m2 198 rfl) rfl
theorem q567 : (Jvm.Cond.methodLink "java/lang/StringUTF16" (123 : Nat) ({ cls := "java/lang/StringUTF16", name := "compress", desc := "([BI[BII)I" } : Jvm.MethodName)) ∈ lw_all := lw_g (lw_at lw_m2 199 rfl) rfl
theorem q568 : (Jvm.Cond.static ({ cls := "java/lang/StringUTF16", name := "compress", desc := "([BI[BII)I" } : Jvm.MethodName)) ∈ lw_all := lw_g (lw_at lw_m2 200 rfl) rfl
theorem q569 : (Jvm.Cond.code ({ cls := "java/lang/StringUTF16", name := "compress", desc := "([BI[BII)I" } : Jvm.MethodName) prog_29_method_22_code (7 : Nat) (Option.some Jvm.ClassFile.FieldType.int)) ∈ lw_all := lw_g (lw_at lw_m2 201 rfl) rfl
theorem q570 : (Jvm.Cond.methodLink "java/lang/StringUTF16" (71 : Nat) ({ cls := "java/lang/StringUTF16", name := "getCha\x72", desc := "([BI)C" } : Jvm.MethodName)) ∈ lw_all := lw_g (lw_at lw_m2 202 rfl) rfl
theorem q571 : (Jvm.Cond.static ({ cls := "java/lang/StringUTF16", name := "getCha\x72", desc := "([BI)C" } : Jvm.MethodName)) ∈ lw_all := lw_g (lw_at lw_m2 203 rfl) rfl
theorem q572 : (Jvm.Cond.code ({ cls := "java/lang/StringUTF16", name := "getCha\x72", desc := "([BI)C" } : Jvm.MethodName) prog_29_method_5_code (2 : Nat) (Option.some Jvm.ClassFile.FieldType.char)) ∈ lw_all := lw_g (lw_at lw_m2 204 rfl) rfl
theorem q573 : (Jvm.Cond.methodLink "java/lang/StringUTF16" (126 : Nat) ({ cls := "java/util/Arrays", name := "copyOfRange", desc := "([BII)[B" } : Jvm.MethodName)) ∈ lw_all := lw_g (lw_at lw_m2 205 rfl) rfl
theorem q575 : (Jvm.Cond.static ({ cls := "java/lang/StringUTF16", name := "coderFromArrayLen", desc := "([BI)B" } : Jvm.MethodName)) ∈ lw_all := lw_g (lw_at lw_m2 207 rfl) rfl
theorem q576 : (Jvm.Cond.code ({ cls := "java/lang/StringUTF16", name := "coderFromArrayLen", desc := "([BI)B" } : Jvm.MethodName) prog_29_method_15_code (2 : Nat) (Option.some Jvm.ClassFile.FieldType.byte)) ∈ lw_all := lw_g (lw_at lw_m2 208 rfl) rfl
theorem q667 : (Jvm.Cond.static ({ cls := "java/lang/StringUTF16", name := "hashCode", desc := "([B)I" } : Jvm.MethodName)) ∈ lw_all := lw_g (lw_at lw_m3 59 rfl) rfl
theorem q668 : (Jvm.Cond.code ({ cls := "java/lang/StringUTF16", name := "hashCode", desc := "([B)I" } : Jvm.MethodName) prog_29_method_39_code (1 : Nat) (Option.some Jvm.ClassFile.FieldType.int)) ∈ lw_all := lw_g (lw_at lw_m3 60 rfl) rfl
theorem q669 : (Jvm.Cond.methodLink "java/lang/StringUTF16" (220 : Nat) ({ cls := "jdk/internal/util/ArraysSupport", name := "vectorizedHashCode", desc := "(Ljava/lang/Object;IIII)I" } : Jvm.MethodName)) ∈ lw_all := lw_g (lw_at lw_m3 61 rfl) rfl
theorem q1808 : (Jvm.Cond.static ({ cls := "java/lang/StringUTF16", name := "charAt", desc := "([BI)C" } : Jvm.MethodName)) ∈ lw_all := lw_g (lw_at lw_m8 0 rfl) rfl
theorem q1809 : (Jvm.Cond.code ({ cls := "java/lang/StringUTF16", name := "charAt", desc := "([BI)C" } : Jvm.MethodName) prog_29_method_83_code (2 : Nat) (Option.some Jvm.ClassFile.FieldType.char)) ∈ lw_all := lw_g (lw_at lw_m8 1 rfl) rfl
def RJ7 : String := "jdk/internal/util/ArraysSupport"
theorem q142 : (Jvm.Cond.initialized "jdk/internal/util/ArraysSupport") ∈ lw_all := lw_g (lw_at lw_m1 14 rfl) rfl
theorem q448 : (Jvm.Cond.static ({ cls := "jdk/internal/util/ArraysSupport", name := "newLength", desc := "(III)I" } : Jvm.MethodName)) ∈ lw_all := lw_g (lw_at lw_m2 80 rfl) rfl
theorem q449 : (Jvm.Cond.code ({ cls := "jdk/internal/util/ArraysSupport", name := "newLength", desc := "(III)I" } : Jvm.MethodName) prog_46_method_27_code (4 : Nat) (Option.some Jvm.ClassFile.FieldType.int)) ∈ lw_all := lw_g (lw_at lw_m2 81 rfl) rfl
theorem q450 : (Jvm.Cond.methodLink "jdk/internal/util/ArraysSupport" (194 : Nat) ({ cls := "java/lang/Math", name := "max", desc := "(II)I" } : Jvm.MethodName)) ∈ lw_all := lw_g (lw_at lw_m2 82 rfl) rfl
theorem q453 : (Jvm.Cond.constant "jdk/internal/util/ArraysSupport" (200 : Nat) (2147483639 : Int32)) ∈ lw_all := lw_g (lw_at lw_m2 85 rfl) rfl
theorem q454 : (Jvm.Cond.methodLink "jdk/internal/util/ArraysSupport" (201 : Nat) ({ cls := "jdk/internal/util/ArraysSupport", name := "hugeLength", desc := "(II)I" } : Jvm.MethodName)) ∈ lw_all := lw_g (lw_at lw_m2 86 rfl) rfl
theorem q455 : (Jvm.Cond.static ({ cls := "jdk/internal/util/ArraysSupport", name := "hugeLength", desc := "(II)I" } : Jvm.MethodName)) ∈ lw_all := lw_g (lw_at lw_m2 87 rfl) rfl
theorem q456 : (Jvm.Cond.code ({ cls := "jdk/internal/util/ArraysSupport", name := "hugeLength", desc := "(II)I" } : Jvm.MethodName) prog_46_method_28_code (3 : Nat) (Option.some Jvm.ClassFile.FieldType.int)) ∈ lw_all := lw_g (lw_at lw_m2 88 rfl) rfl
theorem q629 : (Jvm.Cond.static ({ cls := "jdk/internal/util/ArraysSupport", name := "vectorizedHashCode", desc := "(Ljava/lang/Object;IIII)I" } : Jvm.MethodName)) ∈ lw_all := lw_g (lw_at lw_m3 21 rfl) rfl
theorem q630 : (Jvm.Cond.code ({ cls := "jdk/internal/util/ArraysSupport", name := "vectorizedHashCode", desc := "(Ljava/lang/Object;IIII)I" } : Jvm.MethodName) prog_46_method_4_code (5 : Nat) (Option.some Jvm.ClassFile.FieldType.int)) ∈ lw_all := lw_g (lw_at lw_m3 22 rfl) rfl
theorem q631 : (Jvm.Cond.classLink "jdk/internal/util/ArraysSupport" (60 : Nat) "[B") ∈ lw_all := lw_g (lw_at lw_m3 23 rfl) rfl
theorem q632 : (Jvm.Cond.methodLink "jdk/internal/util/ArraysSupport" (62 : Nat) ({ cls := "jdk/internal/util/ArraysSupport", name := "signedHashCode", desc := "(I[BII)I" } : Jvm.MethodName)) ∈ lw_all := lw_g (lw_at lw_m3 24 rfl) rfl
theorem q633 : (Jvm.Cond.static ({ cls := "jdk/internal/util/ArraysSupport", name := "signedHashCode", desc := "(I[BII)I" } : Jvm.MethodName)) ∈ lw_all := lw_g (lw_at lw_m3 25 rfl) rfl
theorem q634 : (Jvm.Cond.code ({ cls := "jdk/internal/util/ArraysSupport", name := "signedHashCode", desc := "(I[BII)I" } : Jvm.MethodName) prog_46_method_5_code (6 : Nat) (Option.some Jvm.ClassFile.FieldType.int)) ∈ lw_all := lw_g (lw_at lw_m3 26 rfl) rfl
theorem q635 : (Jvm.Cond.methodLink "jdk/internal/util/ArraysSupport" (66 : Nat) ({ cls := "jdk/internal/util/ArraysSupport", name := "utf16hashCode", desc := "(I[BII)I" } : Jvm.MethodName)) ∈ lw_all := lw_g (lw_at lw_m3 27 rfl) rfl
theorem q636 : (Jvm.Cond.static ({ cls := "jdk/internal/util/ArraysSupport", name := "utf16hashCode", desc := "(I[BII)I" } : Jvm.MethodName)) ∈ lw_all := lw_g (lw_at lw_m3 28 rfl) rfl
theorem q637 : (Jvm.Cond.code ({ cls := "jdk/internal/util/ArraysSupport", name := "utf16hashCode", desc := "(I[BII)I" } : Jvm.MethodName) prog_46_method_10_code (6 : Nat) (Option.some Jvm.ClassFile.FieldType.int)) ∈ lw_all := lw_g (lw_at lw_m3 29 rfl) rfl
theorem q638 : (Jvm.Cond.fieldLink "jdk/internal/util/ArraysSupport" (106 : Nat) "jdk/internal/util/ArraysSupport" "JLA" "Ljdk/internal/access/JavaLangAccess;") ∈ lw_all := lw_g (lw_at lw_m3 30 rfl) rfl
theorem q639 : (Jvm.Cond.laysStatic "jdk/internal/util/ArraysSupport" "JLA" "Ljdk/internal/access/JavaLangAccess;") ∈ lw_tbl := lw_at lw_m3 31 rfl
theorem q640 : (Jvm.Cond.interfaceEntry "jdk/internal/util/ArraysSupport" (110 : Nat)) ∈ lw_tbl := lw_at lw_m3 32 rfl
theorem q641 : (Jvm.Cond.methodLink "jdk/internal/util/ArraysSupport" (110 : Nat) ({ cls := "jdk/internal/access/JavaLangAccess", name := "getUTF16Cha\x72", desc := "([BI)C" } : Jvm.MethodName)) ∈ lw_all := lw_g (lw_at lw_m3 33 rfl) rfl
theorem q651 : (Jvm.Cond.classLink "jdk/internal/util/ArraysSupport" (69 : Nat) "[C") ∈ lw_all := lw_g (lw_at lw_m3 43 rfl) rfl
theorem q652 : (Jvm.Cond.methodLink "jdk/internal/util/ArraysSupport" (71 : Nat) ({ cls := "jdk/internal/util/ArraysSupport", name := "hashCode", desc := "(I[CII)I" } : Jvm.MethodName)) ∈ lw_all := lw_g (lw_at lw_m3 44 rfl) rfl
theorem q653 : (Jvm.Cond.static ({ cls := "jdk/internal/util/ArraysSupport", name := "hashCode", desc := "(I[CII)I" } : Jvm.MethodName)) ∈ lw_all := lw_g (lw_at lw_m3 45 rfl) rfl
theorem q654 : (Jvm.Cond.code ({ cls := "jdk/internal/util/ArraysSupport", name := "hashCode", desc := "(I[CII)I" } : Jvm.MethodName) prog_46_method_7_code (6 : Nat) (Option.some Jvm.ClassFile.FieldType.int)) ∈ lw_all := lw_g (lw_at lw_m3 46 rfl) rfl
theorem q655 : (Jvm.Cond.methodLink "jdk/internal/util/ArraysSupport" (75 : Nat) ({ cls := "jdk/internal/util/ArraysSupport", name := "hashCode", desc := "(I[BII)I" } : Jvm.MethodName)) ∈ lw_all := lw_g (lw_at lw_m3 47 rfl) rfl
theorem q656 : (Jvm.Cond.static ({ cls := "jdk/internal/util/ArraysSupport", name := "hashCode", desc := "(I[BII)I" } : Jvm.MethodName)) ∈ lw_all := lw_g (lw_at lw_m3 48 rfl) rfl
theorem q657 : (Jvm.Cond.code ({ cls := "jdk/internal/util/ArraysSupport", name := "hashCode", desc := "(I[BII)I" } : Jvm.MethodName) prog_46_method_6_code (6 : Nat) (Option.some Jvm.ClassFile.FieldType.int)) ∈ lw_all := lw_g (lw_at lw_m3 49 rfl) rfl
theorem q658 : (Jvm.Cond.classLink "jdk/internal/util/ArraysSupport" (77 : Nat) "[S") ∈ lw_all := lw_g (lw_at lw_m3 50 rfl) rfl
theorem q659 : (Jvm.Cond.methodLink "jdk/internal/util/ArraysSupport" (79 : Nat) ({ cls := "jdk/internal/util/ArraysSupport", name := "hashCode", desc := "(I[SII)I" } : Jvm.MethodName)) ∈ lw_all := lw_g (lw_at lw_m3 51 rfl) rfl
theorem q660 : (Jvm.Cond.static ({ cls := "jdk/internal/util/ArraysSupport", name := "hashCode", desc := "(I[SII)I" } : Jvm.MethodName)) ∈ lw_all := lw_g (lw_at lw_m3 52 rfl) rfl
theorem q661 : (Jvm.Cond.code ({ cls := "jdk/internal/util/ArraysSupport", name := "hashCode", desc := "(I[SII)I" } : Jvm.MethodName) prog_46_method_8_code (6 : Nat) (Option.some Jvm.ClassFile.FieldType.int)) ∈ lw_all := lw_g (lw_at lw_m3 53 rfl) rfl
theorem q662 : (Jvm.Cond.classLink "jdk/internal/util/ArraysSupport" (82 : Nat) "[I") ∈ lw_all := lw_g (lw_at lw_m3 54 rfl) rfl
theorem q663 : (Jvm.Cond.methodLink "jdk/internal/util/ArraysSupport" (84 : Nat) ({ cls := "jdk/internal/util/ArraysSupport", name := "hashCode", desc := "(I[III)I" } : Jvm.MethodName)) ∈ lw_all := lw_g (lw_at lw_m3 55 rfl) rfl
theorem q664 : (Jvm.Cond.static ({ cls := "jdk/internal/util/ArraysSupport", name := "hashCode", desc := "(I[III)I" } : Jvm.MethodName)) ∈ lw_all := lw_g (lw_at lw_m3 56 rfl) rfl
theorem q665 : (Jvm.Cond.code ({ cls := "jdk/internal/util/ArraysSupport", name := "hashCode", desc := "(I[III)I" } : Jvm.MethodName) prog_46_method_9_code (6 : Nat) (Option.some Jvm.ClassFile.FieldType.int)) ∈ lw_all := lw_g (lw_at lw_m3 57 rfl) rfl
def RJ8 : String := "java/lang/Math"
theorem q143 : (Jvm.Cond.initialized "java/lang/Math") ∈ lw_all := lw_g (lw_at lw_m1 15 rfl) rfl
theorem q451 : (Jvm.Cond.static ({ cls := "java/lang/Math", name := "max", desc := "(II)I" } : Jvm.MethodName)) ∈ lw_all := lw_g (lw_at lw_m2 83 rfl) rfl
theorem q452 : (Jvm.Cond.code ({ cls := "java/lang/Math", name := "max", desc := "(II)I" } : Jvm.MethodName) prog_24_method_65_code (2 : Nat) (Option.some Jvm.ClassFile.FieldType.int)) ∈ lw_all := lw_g (lw_at lw_m2 84 rfl) rfl
theorem q469 : (Jvm.Cond.static ({ cls := "java/lang/Math", name := "min", desc := "(II)I" } : Jvm.MethodName)) ∈ lw_all := lw_g (lw_at lw_m2 101 rfl) rfl
theorem q470 : (Jvm.Cond.code ({ cls := "java/lang/Math", name := "min", desc := "(II)I" } : Jvm.MethodName) prog_24_method_69_code (2 : Nat) (Option.some Jvm.ClassFile.FieldType.int)) ∈ lw_all := lw_g (lw_at lw_m2 102 rfl) rfl
theorem q1282 : (Jvm.Cond.static ({ cls := "java/lang/Math", name := "abs", desc := "(I)I" } : Jvm.MethodName)) ∈ lw_all := lw_g (lw_at lw_m5 194 rfl) rfl
theorem q1283 : (Jvm.Cond.code ({ cls := "java/lang/Math", name := "abs", desc := "(I)I" } : Jvm.MethodName) prog_24_method_59_code (1 : Nat) (Option.some Jvm.ClassFile.FieldType.int)) ∈ lw_all := lw_g (lw_at lw_m5 195 rfl) rfl
def RJ9 : String := "java/util/Arrays"
theorem q144 : (Jvm.Cond.initialized "java/util/Arrays") ∈ lw_all := lw_g (lw_at lw_m1 16 rfl) rfl
theorem q459 : (Jvm.Cond.static ({ cls := "java/util/Arrays", name := "copyOf", desc := "([BI)[B" } : Jvm.MethodName)) ∈ lw_all := lw_g (lw_at lw_m2 91 rfl) rfl
theorem q460 : (Jvm.Cond.code ({ cls := "java/util/Arrays", name := "copyOf", desc := "([BI)[B" } : Jvm.MethodName) prog_38_method_121_code (3 : Nat) (Option.some (Jvm.ClassFile.FieldType.array Jvm.ClassFile.FieldType.byte))) ∈ lw_all := lw_g (lw_at lw_m2 92 rfl) rfl
theorem q461 : (Jvm.Cond.methodLink "java/util/Arrays" (310 : Nat) ({ cls := "[B", name := "clone", desc := "()Ljava/lang/Object;" } : Jvm.MethodName)) ∈ lw_all := lw_g (lw_at lw_m2 93 rfl) rfl
theorem q467 : (Jvm.Cond.classLink "java/util/Arrays" (311 : Nat) "[B") ∈ lw_all := lw_g (lw_at lw_m2 99 rfl) rfl
theorem q468 : (Jvm.Cond.methodLink "java/util/Arrays" (304 : Nat) ({ cls := "java/lang/Math", name := "min", desc := "(II)I" } : Jvm.MethodName)) ∈ lw_all := lw_g (lw_at lw_m2 100 rfl) rfl
theorem q471 : (Jvm.Cond.methodLink "java/util/Arrays" (150 : Nat) ({ cls := "java/lang/System", name := "arraycopy", desc := "(Ljava/lang/Object;ILjava/lang/Object;II)V" } : Jvm.MethodName)) ∈ lw_all := lw_g (lw_at lw_m2 103 rfl) rfl
theorem q555 : (Jvm.Cond.static ({ cls := "java/util/Arrays", name := "copyOfRange", desc := "([BII)[B" } : Jvm.MethodName)) ∈ lw_all := lw_g (lw_at lw_m2 187 rfl) rfl
theorem q556 : (Jvm.Cond.code ({ cls := "java/util/Arrays", name := "copyOfRange", desc := "([BII)[B" } : Jvm.MethodName) prog_38_method_132_code (3 : Nat) (Option.some (Jvm.ClassFile.FieldType.array Jvm.ClassFile.FieldType.byte))) ∈ lw_all := lw_g (lw_at lw_m2 188 rfl) rfl
theorem q557 : (Jvm.Cond.methodLink "java/util/Arrays" (339 : Nat) ({ cls := "java/util/Arrays", name := "copyOfRangeByte", desc := "([BII)[B" } : Jvm.MethodName)) ∈ lw_all := lw_g (lw_at lw_m2 189 rfl) rfl
theorem q558 : (Jvm.Cond.static ({ cls := "java/util/Arrays", name := "copyOfRangeByte", desc := "([BII)[B" } : Jvm.MethodName)) ∈ lw_all := lw_g (lw_at lw_m2 190 rfl) rfl
theorem q559 : (Jvm.Cond.code ({ cls := "java/util/Arrays", name := "copyOfRangeByte", desc := "([BII)[B" } : Jvm.MethodName) prog_38_method_133_code (5 : Nat) (Option.some (Jvm.ClassFile.FieldType.array Jvm.ClassFile.FieldType.byte))) ∈ lw_all := lw_g (lw_at lw_m2 191 rfl) rfl
theorem q560 : (Jvm.Cond.methodLink "java/util/Arrays" (343 : Nat) ({ cls := "java/util/Arrays", name := "checkLength", desc := "(II)V" } : Jvm.MethodName)) ∈ lw_all := lw_g (lw_at lw_m2 192 rfl) rfl
theorem q561 : (Jvm.Cond.static ({ cls := "java/util/Arrays", name := "checkLength", desc := "(II)V" } : Jvm.MethodName)) ∈ lw_all := lw_g (lw_at lw_m2 193 rfl) rfl
theorem q562 : (Jvm.Cond.code ({ cls := "java/util/Arrays", name := "checkLength", desc := "(II)V" } : Jvm.MethodName) prog_38_method_131_code (2 : Nat) (Option.none : Option Jvm.ClassFile.FieldType)) ∈ lw_all := lw_g (lw_at lw_m2 194 rfl) rfl
theorem q807 : (Jvm.Cond.static ({ cls := "java/util/Arrays", name := "copyOf", desc := "([Ljava/lang/Object;I)[Ljava/lang/Object;" } : Jvm.MethodName)) ∈ lw_all := lw_g (lw_at lw_m3 199 rfl) rfl
theorem q808 : (Jvm.Cond.code ({ cls := "java/util/Arrays", name := "copyOf", desc := "([Ljava/lang/Object;I)[Ljava/lang/Object;" } : Jvm.MethodName) prog_38_method_119_code (2 : Nat) (Option.some (Jvm.ClassFile.FieldType.array (Jvm.ClassFile.FieldType.object "java/lang/Object")))) ∈ lw_all := lw_g (lw_at lw_m3 200 rfl) rfl
theorem q809 : (Jvm.Cond.methodLink "java/util/Arrays" (86 : Nat) ({ cls := "java/lang/Object", name := "getClass", desc := "()Ljava/lang/Class;" } : Jvm.MethodName)) ∈ lw_all := lw_g (lw_at lw_m3 201 rfl) rfl
theorem q832 : (Jvm.Cond.methodLink "java/util/Arrays" (300 : Nat) ({ cls := "java/util/Arrays", name := "copyOf", desc := "([Ljava/lang/Object;ILjava/lang/Class;)[Ljava/lang/Object;" } : Jvm.MethodName)) ∈ lw_all := lw_g (lw_at lw_m3 224 rfl) rfl
theorem q833 : (Jvm.Cond.static ({ cls := "java/util/Arrays", name := "copyOf", desc := "([Ljava/lang/Object;ILjava/lang/Class;)[Ljava/lang/Object;" } : Jvm.MethodName)) ∈ lw_all := lw_g (lw_at lw_m3 225 rfl) rfl
theorem q834 : (Jvm.Cond.code ({ cls := "java/util/Arrays", name := "copyOf", desc := "([Ljava/lang/Object;ILjava/lang/Class;)[Ljava/lang/Object;" } : Jvm.MethodName) prog_38_method_120_code (4 : Nat) (Option.some (Jvm.ClassFile.FieldType.array (Jvm.ClassFile.FieldType.object "java/lang/Object")))) ∈ lw_all := lw_g (lw_at lw_m3 226 rfl) rfl
theorem q835 : (Jvm.Cond.classLink "java/util/Arrays" (110 : Nat) "[Ljava/lang/Object;") ∈ lw_all := lw_g (lw_at lw_m3 227 rfl) rfl
theorem q837 : (Jvm.Cond.classLink "java/util/Arrays" (2 : Nat) "java/lang/Object") ∈ lw_all := lw_g (lw_at lw_m3 229 rfl) rfl
def RJ10 : String := "java/lang/StringLatin1"
theorem q146 : (Jvm.Cond.initialized "java/lang/StringLatin1") ∈ lw_all := lw_g (lw_at lw_m1 18 rfl) rfl
theorem q480 : (Jvm.Cond.static ({ cls := "java/lang/StringLatin1", name := "canEncode", desc := "(C)Z" } : Jvm.MethodName)) ∈ lw_all := lw_g (lw_at lw_m2 112 rfl) rfl
theorem q481 : (Jvm.Cond.code ({ cls := "java/lang/StringLatin1", name := "canEncode", desc := "(C)Z" } : Jvm.MethodName) prog_28_method_3_code (1 : Nat) (Option.some Jvm.ClassFile.FieldType.boolean)) ∈ lw_all := lw_g (lw_at lw_m2 113 rfl) rfl
theorem q487 : (Jvm.Cond.static ({ cls := "java/lang/StringLatin1", name := "inflate", desc := "([BI[BII)V" } : Jvm.MethodName)) ∈ lw_all := lw_g (lw_at lw_m2 119 rfl) rfl
theorem q488 : (Jvm.Cond.code ({ cls := "java/lang/StringLatin1", name := "inflate", desc := "([BI[BII)V" } : Jvm.MethodName) prog_28_method_50_code (5 : Nat) (Option.none : Option Jvm.ClassFile.FieldType)) ∈ lw_all := lw_g (lw_at lw_m2 120 rfl) rfl
theorem q489 : (Jvm.Cond.methodLink "java/lang/StringLatin1" (240 : Nat) ({ cls := "java/lang/StringUTF16", name := "inflate", desc := "([BI[BII)V" } : Jvm.MethodName)) ∈ lw_all := lw_g (lw_at lw_m2 121 rfl) rfl
theorem q626 : (Jvm.Cond.static ({ cls := "java/lang/StringLatin1", name := "hashCode", desc := "([B)I" } : Jvm.MethodName)) ∈ lw_all := lw_g (lw_at lw_m3 18 rfl) rfl
theorem q627 : (Jvm.Cond.code ({ cls := "java/lang/StringLatin1", name := "hashCode", desc := "([B)I" } : Jvm.MethodName) prog_28_method_21_code (1 : Nat) (Option.some Jvm.ClassFile.FieldType.int)) ∈ lw_all := lw_g (lw_at lw_m3 19 rfl) rfl
theorem q628 : (Jvm.Cond.methodLink "java/lang/StringLatin1" (84 : Nat) ({ cls := "jdk/internal/util/ArraysSupport", name := "vectorizedHashCode", desc := "(Ljava/lang/Object;IIII)I" } : Jvm.MethodName)) ∈ lw_all := lw_g (lw_at lw_m3 20 rfl) rfl
theorem q677 : (Jvm.Cond.static ({ cls := "java/lang/StringLatin1", name := "equals", desc := "([B[B)Z" } : Jvm.MethodName)) ∈ lw_all := lw_g (lw_at lw_m3 69 rfl) rfl
theorem q678 : (Jvm.Cond.code ({ cls := "java/lang/StringLatin1", name := "equals", desc := "([B[B)Z" } : Jvm.MethodName) prog_28_method_13_code (3 : Nat) (Option.some Jvm.ClassFile.FieldType.boolean)) ∈ lw_all := lw_g (lw_at lw_m3 70 rfl) rfl
theorem q1804 : (Jvm.Cond.static ({ cls := "java/lang/StringLatin1", name := "charAt", desc := "([BI)C" } : Jvm.MethodName)) ∈ lw_all := lw_g (lw_at lw_m7 236 rfl) rfl
theorem q1805 : (Jvm.Cond.code ({ cls := "java/lang/StringLatin1", name := "charAt", desc := "([BI)C" } : Jvm.MethodName) prog_28_method_2_code (2 : Nat) (Option.some Jvm.ClassFile.FieldType.char)) ∈ lw_all := lw_g (lw_at lw_m7 237 rfl) rfl
theorem q1806 : (Jvm.Cond.methodLink "java/lang/StringLatin1" (9 : Nat) ({ cls := "java/lang/String", name := "checkIndex", desc := "(II)V" } : Jvm.MethodName)) ∈ lw_all := lw_g (lw_at lw_m7 238 rfl) rfl
def RJ11 : String := "jdk/internal/util/Preconditions"
theorem q147 : (Jvm.Cond.initialized "jdk/internal/util/Preconditions") ∈ lw_all := lw_g (lw_at lw_m1 19 rfl) rfl
theorem q502 : (Jvm.Cond.laysStatic "jdk/internal/util/Preconditions" "SIOOBE_FORMATTER" "Ljava/util/function/BiFunction;") ∈ lw_tbl := lw_at lw_m2 134 rfl
theorem q504 : (Jvm.Cond.static ({ cls := "jdk/internal/util/Preconditions", name := "checkFromIndexSize", desc := "(IIILjava/util/function/BiFunction;)I" } : Jvm.MethodName)) ∈ lw_all := lw_g (lw_at lw_m2 136 rfl) rfl
theorem q505 : (Jvm.Cond.code ({ cls := "jdk/internal/util/Preconditions", name := "checkFromIndexSize", desc := "(IIILjava/util/function/BiFunction;)I" } : Jvm.MethodName) prog_47_method_13_code (4 : Nat) (Option.some Jvm.ClassFile.FieldType.int)) ∈ lw_all := lw_g (lw_at lw_m2 137 rfl) rfl
theorem q525 : (Jvm.Cond.static ({ cls := "jdk/internal/util/Preconditions", name := "checkIndex", desc := "(IILjava/util/function/BiFunction;)I" } : Jvm.MethodName)) ∈ lw_all := lw_g (lw_at lw_m2 157 rfl) rfl
theorem q526 : (Jvm.Cond.code ({ cls := "jdk/internal/util/Preconditions", name := "checkIndex", desc := "(IILjava/util/function/BiFunction;)I" } : Jvm.MethodName) prog_47_method_11_code (3 : Nat) (Option.some Jvm.ClassFile.FieldType.int)) ∈ lw_all := lw_g (lw_at lw_m2 158 rfl) rfl
def RJ12 : String := "java/util/Objects"
theorem q149 : (Jvm.Cond.initialized "java/util/Objects") ∈ lw_all := lw_g (lw_at lw_m1 21 rfl) rfl
theorem q771 : (Jvm.Cond.static ({ cls := "java/util/Objects", name := "checkIndex", desc := "(II)I" } : Jvm.MethodName)) ∈ lw_all := lw_g (lw_at lw_m3 163 rfl) rfl
theorem q772 : (Jvm.Cond.code ({ cls := "java/util/Objects", name := "checkIndex", desc := "(II)I" } : Jvm.MethodName) prog_42_method_17_code (2 : Nat) (Option.some Jvm.ClassFile.FieldType.int)) ∈ lw_all := lw_g (lw_at lw_m3 164 rfl) rfl
theorem q773 : (Jvm.Cond.methodLink "java/util/Objects" (105 : Nat) ({ cls := "jdk/internal/util/Preconditions", name := "checkIndex", desc := "(IILjava/util/function/BiFunction;)I" } : Jvm.MethodName)) ∈ lw_all := lw_g (lw_at lw_m3 165 rfl) rfl
def RJ13 : String := "java/lang/Throwable"
def TJ13 : u_T := fun k => match k with
  | 0 => ("java/lang/Throwable", "cause", "Ljava/lang/Throwable;", false)
  | 1 => ("java/lang/Throwable", "stackTrace", "[Ljava/lang/StackTraceElement;", false)
  | 2 => ("java/lang/Throwable", "suppressedExceptions", "Ljava/util/List;", false)
  | 3 => ("java/lang/Throwable", "detailMessage", "Ljava/lang/String;", false)
  | _ => ("java/lang/Throwable", "backtrace", "Ljava/lang/Object;", false)
def tyJ13 : Nat → FieldType := fun k => match k with
  | 0 => .object "java/lang/Throwable"
  | 1 => .array (.object "java/lang/StackTraceElement")
  | 2 => .object "java/util/List"
  | 3 => .object "java/lang/String"
  | _ => .object "java/lang/Object"
abbrev wsJ130 : List Cond := u_ws RJ13 TJ13 5
theorem nmJ13 : ∀ a, a < 5 → ∀ b, b < 5 → a ≠ b → (TJ13 a).2.1 ≠ (TJ13 b).2.1 := by decide +kernel
theorem tyJ13_ok : ∀ k, k < 5 → parseFieldDescriptor (TJ13 k).2.2.1 = some (tyJ13 k) := by decide +kernel
theorem q157 : (Jvm.Cond.initialized "java/lang/Throwable") ∈ lw_all := lw_g (lw_at lw_m1 29 rfl) rfl
theorem q1573 : (Jvm.Cond.declares ({ cls := "java/lang/Throwable", name := "<init>", desc := "()V" } : Jvm.MethodName)) ∈ lw_tbl := lw_at lw_m7 5 rfl
theorem q1574 : (Jvm.Cond.declares ({ cls := "java/lang/Throwable", name := "<init>", desc := "(Ljava/lang/String;)V" } : Jvm.MethodName)) ∈ lw_tbl := lw_at lw_m7 6 rfl
theorem q1578 : (Jvm.Cond.lays "java/lang/Throwable" "java/lang/Throwable" "cause" "Ljava/lang/Throwable;") ∈ lw_all := lw_g (lw_at lw_m7 10 rfl) rfl
theorem q1580 : (Jvm.Cond.lays "java/lang/Throwable" "java/lang/Throwable" "stackTrace" "[Ljava/lang/StackTraceElement;") ∈ lw_all := lw_g (lw_at lw_m7 12 rfl) rfl
theorem q1582 : (Jvm.Cond.lays "java/lang/Throwable" "java/lang/Throwable" "suppressedExceptions" "Ljava/util/List;") ∈ lw_all := lw_g (lw_at lw_m7 14 rfl) rfl
theorem q1584 : (Jvm.Cond.lays "java/lang/Throwable" "java/lang/Throwable" "detailMessage" "Ljava/lang/String;") ∈ lw_all := lw_g (lw_at lw_m7 16 rfl) rfl
theorem q1586 : (Jvm.Cond.lays "java/lang/Throwable" "java/lang/Throwable" "backtrace" "Ljava/lang/Object;") ∈ lw_all := lw_g (lw_at lw_m7 18 rfl) rfl
theorem q1587 : (Jvm.Cond.fieldLink "java/lang/Throwable" (198 : Nat) "java/lang/Throwable" "backtrace" "Ljava/lang/Object;") ∈ lw_all := lw_g (lw_at lw_m7 19 rfl) rfl
theorem q1588 : (Jvm.Cond.superclass "java/lang/Throwable" "java/lang/Object") ∈ lw_all := lw_g (lw_at lw_m7 20 rfl) rfl
theorem q1589 : (Jvm.Cond.instanceMethod ({ cls := "java/lang/Throwable", name := "<init>", desc := "()V" } : Jvm.MethodName)) ∈ lw_all := lw_g (lw_at lw_m7 21 rfl) rfl
theorem q1590 : (Jvm.Cond.code ({ cls := "java/lang/Throwable", name := "<init>", desc := "()V" } : Jvm.MethodName) prog_32_method_1_code (1 : Nat) (Option.none : Option Jvm.ClassFile.FieldType)) ∈ lw_all := lw_g (lw_at lw_m7 22 rfl) rfl
theorem q1591 : (Jvm.Cond.methodLink "java/lang/Throwable" (1 : Nat) ({ cls := "java/lang/Object", name := "<init>", desc := "()V" } : Jvm.MethodName)) ∈ lw_all := lw_g (lw_at lw_m7 23 rfl) rfl
theorem q1592 : (Jvm.Cond.fieldLink "java/lang/Throwable" (13 : Nat) "java/lang/Throwable" "UNASSIGNED_STACK" "[Ljava/lang/StackTraceElement;") ∈ lw_all := lw_g (lw_at lw_m7 24 rfl) rfl
theorem q1593 : (Jvm.Cond.laysStatic "java/lang/Throwable" "UNASSIGNED_STACK" "[Ljava/lang/StackTraceElement;") ∈ lw_tbl := lw_at lw_m7 25 rfl
theorem q1594 : (Jvm.Cond.fieldLink "java/lang/Throwable" (20 : Nat) "java/lang/Throwable" "SUPPRESSED_SENTINEL" "Ljava/util/List;") ∈ lw_all := lw_g (lw_at lw_m7 26 rfl) rfl
theorem q1595 : (Jvm.Cond.laysStatic "java/lang/Throwable" "SUPPRESSED_SENTINEL" "Ljava/util/List;") ∈ lw_tbl := lw_at lw_m7 27 rfl
theorem q1596 : (Jvm.Cond.methodLink "java/lang/Throwable" (27 : Nat) ({ cls := "java/lang/Throwable", name := "fillInStackTrace", desc := "()Ljava/lang/Throwable;" } : Jvm.MethodName)) ∈ lw_all := lw_g (lw_at lw_m7 28 rfl) rfl
theorem q1597 : (Jvm.Cond.instanceMethod ({ cls := "java/lang/Throwable", name := "fillInStackTrace", desc := "()Ljava/lang/Throwable;" } : Jvm.MethodName)) ∈ lw_all := lw_g (lw_at lw_m7 29 rfl) rfl
theorem q1598 : (Jvm.Cond.sameMethod "java/lang/Throwable" "java/lang/Throwable" "fillInStackTrace" "()Ljava/lang/Throwable;") ∈ lw_all := lw_g (lw_at lw_m7 30 rfl) rfl
theorem q1599 : (Jvm.Cond.codeSync ({ cls := "java/lang/Throwable", name := "fillInStackTrace", desc := "()Ljava/lang/Throwable;" } : Jvm.MethodName) prog_32_method_18_code (1 : Nat) (Option.some (Jvm.ClassFile.FieldType.object "java/lang/Throwable"))) ∈ lw_all := lw_g (lw_at lw_m7 31 rfl) rfl
theorem q1600 : (Jvm.Cond.methodLink "java/lang/Throwable" (202 : Nat) ({ cls := "java/lang/Throwable", name := "fillInStackTrace", desc := "(I)Ljava/lang/Throwable;" } : Jvm.MethodName)) ∈ lw_all := lw_g (lw_at lw_m7 32 rfl) rfl
theorem q1601 : (Jvm.Cond.privateMethod ({ cls := "java/lang/Throwable", name := "fillInStackTrace", desc := "(I)Ljava/lang/Throwable;" } : Jvm.MethodName)) ∈ lw_tbl := lw_at lw_m7 33 rfl
theorem q1602 : (Jvm.Cond.instanceMethod ({ cls := "java/lang/Throwable", name := "fillInStackTrace", desc := "(I)Ljava/lang/Throwable;" } : Jvm.MethodName)) ∈ lw_all := lw_g (lw_at lw_m7 34 rfl) rfl
theorem q1603 : (Jvm.Cond.instantiable "java/lang/Throwable" (6 : Nat)) ∈ lw_all := lw_g (lw_at lw_m7 35 rfl) rfl
theorem q1604 : (Jvm.Cond.native ({ cls := "java/lang/Throwable", name := "fillInStackTrace", desc := "(I)Ljava/lang/Throwable;" } : Jvm.MethodName)) ∈ lw_all := lw_g (lw_at lw_m7 36 rfl) rfl
theorem q1615 : (Jvm.Cond.fieldLink "java/lang/Throwable" (198 : Nat) "java/lang/Throwable" "backtrace" "Ljava/lang/Object;") ∈ lw_all := lw_g (lw_at lw_m7 47 rfl) rfl
theorem q1616 : (Jvm.Cond.fieldLink "java/lang/Throwable" (7 : Nat) "java/lang/Throwable" "cause" "Ljava/lang/Throwable;") ∈ lw_all := lw_g (lw_at lw_m7 48 rfl) rfl
theorem q1617 : (Jvm.Cond.fieldLink "java/lang/Throwable" (17 : Nat) "java/lang/Throwable" "stackTrace" "[Ljava/lang/StackTraceElement;") ∈ lw_all := lw_g (lw_at lw_m7 49 rfl) rfl
theorem q1618 : (Jvm.Cond.fieldLink "java/lang/Throwable" (24 : Nat) "java/lang/Throwable" "suppressedExceptions" "Ljava/util/List;") ∈ lw_all := lw_g (lw_at lw_m7 50 rfl) rfl
theorem q1619 : (Jvm.Cond.soleField "java/lang/Throwable" "backtrace") ∈ lw_all := lw_g (lw_at lw_m7 51 rfl) rfl
theorem q1620 : (Jvm.Cond.soleField "java/lang/Throwable" "detailMessage") ∈ lw_all := lw_g (lw_at lw_m7 52 rfl) rfl
theorem q1621 : (Jvm.Cond.soleField "java/lang/Throwable" "cause") ∈ lw_all := lw_g (lw_at lw_m7 53 rfl) rfl
theorem q1622 : (Jvm.Cond.soleField "java/lang/Throwable" "stackTrace") ∈ lw_all := lw_g (lw_at lw_m7 54 rfl) rfl
theorem q1624 : (Jvm.Cond.soleField "java/lang/Throwable" "depth") ∈ lw_all := lw_g (lw_at lw_m7 56 rfl) rfl
theorem q1625 : (Jvm.Cond.soleField "java/lang/Throwable" "suppressedExceptions") ∈ lw_all := lw_g (lw_at lw_m7 57 rfl) rfl
theorem q2296 : (Jvm.Cond.sameMethod "java/lang/Throwable" "java/lang/Throwable" "fillInStackTrace" "(I)Ljava/lang/Throwable;") ∈ lw_all := lw_g (lw_at lw_m10 8 rfl) rfl
theorem q2325 : (Jvm.Cond.castable "java/lang/Throwable" "java/lang/Object") ∈ lw_tbl := lw_at lw_m10 37 rfl
theorem in_J13 : ∀ w ∈ wsJ130, w ∈ lw_all := lw_in wsJ130 [1578, 1580, 1582, 1584, 1586] (by decide +kernel) (by decide +kernel)
def RJ14 : String := "java/lang/Exception"
theorem q158 : (Jvm.Cond.initialized "java/lang/Exception") ∈ lw_all := lw_g (lw_at lw_m1 30 rfl) rfl
theorem q1571 : (Jvm.Cond.declares ({ cls := "java/lang/Exception", name := "<init>", desc := "()V" } : Jvm.MethodName)) ∈ lw_tbl := lw_at lw_m7 3 rfl
theorem q1572 : (Jvm.Cond.declares ({ cls := "java/lang/Exception", name := "<init>", desc := "(Ljava/lang/String;)V" } : Jvm.MethodName)) ∈ lw_tbl := lw_at lw_m7 4 rfl
theorem q1612 : (Jvm.Cond.instanceMethod ({ cls := "java/lang/Exception", name := "<init>", desc := "()V" } : Jvm.MethodName)) ∈ lw_all := lw_g (lw_at lw_m7 44 rfl) rfl
theorem q1613 : (Jvm.Cond.code ({ cls := "java/lang/Exception", name := "<init>", desc := "()V" } : Jvm.MethodName) prog_22_method_1_code (1 : Nat) (Option.none : Option Jvm.ClassFile.FieldType)) ∈ lw_all := lw_g (lw_at lw_m7 45 rfl) rfl
theorem q1614 : (Jvm.Cond.methodLink "java/lang/Exception" (1 : Nat) ({ cls := "java/lang/Throwable", name := "<init>", desc := "()V" } : Jvm.MethodName)) ∈ lw_all := lw_g (lw_at lw_m7 46 rfl) rfl
def RJ15 : String := "java/lang/RuntimeException"
theorem q159 : (Jvm.Cond.initialized "java/lang/RuntimeException") ∈ lw_all := lw_g (lw_at lw_m1 31 rfl) rfl
theorem q1569 : (Jvm.Cond.declares ({ cls := "java/lang/RuntimeException", name := "<init>", desc := "()V" } : Jvm.MethodName)) ∈ lw_tbl := lw_at lw_m7 1 rfl
theorem q1570 : (Jvm.Cond.declares ({ cls := "java/lang/RuntimeException", name := "<init>", desc := "(Ljava/lang/String;)V" } : Jvm.MethodName)) ∈ lw_tbl := lw_at lw_m7 2 rfl
theorem q1609 : (Jvm.Cond.instanceMethod ({ cls := "java/lang/RuntimeException", name := "<init>", desc := "()V" } : Jvm.MethodName)) ∈ lw_all := lw_g (lw_at lw_m7 41 rfl) rfl
theorem q1610 : (Jvm.Cond.code ({ cls := "java/lang/RuntimeException", name := "<init>", desc := "()V" } : Jvm.MethodName) prog_25_method_1_code (1 : Nat) (Option.none : Option Jvm.ClassFile.FieldType)) ∈ lw_all := lw_g (lw_at lw_m7 42 rfl) rfl
theorem q1611 : (Jvm.Cond.methodLink "java/lang/RuntimeException" (1 : Nat) ({ cls := "java/lang/Exception", name := "<init>", desc := "()V" } : Jvm.MethodName)) ∈ lw_all := lw_g (lw_at lw_m7 43 rfl) rfl
def RJ16 : String := "java/util/NoSuchElementException"
def TJ16 : u_T := fun k => match k with
  | 0 => ("java/lang/Throwable", "cause", "Ljava/lang/Throwable;", false)
  | 1 => ("java/lang/Throwable", "stackTrace", "[Ljava/lang/StackTraceElement;", false)
  | 2 => ("java/lang/Throwable", "suppressedExceptions", "Ljava/util/List;", false)
  | 3 => ("java/lang/Throwable", "detailMessage", "Ljava/lang/String;", false)
  | 4 => ("java/lang/Throwable", "backtrace", "Ljava/lang/Object;", false)
  | _ => ("java/lang/Throwable", "depth", "I", false)
def tyJ16 : Nat → FieldType := fun k => match k with
  | 0 => .object "java/lang/Throwable"
  | 1 => .array (.object "java/lang/StackTraceElement")
  | 2 => .object "java/util/List"
  | 3 => .object "java/lang/String"
  | 4 => .object "java/lang/Object"
  | _ => .int
abbrev wsJ160 : List Cond := u_ws RJ16 TJ16 6
theorem nmJ16 : ∀ a, a < 6 → ∀ b, b < 6 → a ≠ b → (TJ16 a).2.1 ≠ (TJ16 b).2.1 := by decide +kernel
theorem tyJ16_ok : ∀ k, k < 6 → parseFieldDescriptor (TJ16 k).2.2.1 = some (tyJ16 k) := by decide +kernel
theorem q160 : (Jvm.Cond.initialized "java/util/NoSuchElementException") ∈ lw_all := lw_g (lw_at lw_m1 32 rfl) rfl
theorem q830 : (Jvm.Cond.selects "java/util/NoSuchElementException" ({ cls := "java/lang/Object", name := "getClass", desc := "()Ljava/lang/Class;" } : Jvm.MethodName) ({ cls := "java/lang/Object", name := "getClass", desc := "()Ljava/lang/Class;" } : Jvm.MethodName)) ∈ lw_all := lw_g (lw_at lw_m3 222 rfl) rfl
theorem q1567 : (Jvm.Cond.instantiable "java/util/NoSuchElementException" (6 : Nat)) ∈ lw_all := lw_g (lw_at lw_m6 239 rfl) rfl
theorem q1568 : (Jvm.Cond.castable "java/util/NoSuchElementException" "java/util/NoSuchElementException") ∈ lw_tbl := lw_at lw_m7 0 rfl
theorem q1575 : (Jvm.Cond.selects "java/util/NoSuchElementException" ({ cls := "java/lang/Throwable", name := "fillInStackTrace", desc := "(I)Ljava/lang/Throwable;" } : Jvm.MethodName) ({ cls := "java/lang/Throwable", name := "fillInStackTrace", desc := "(I)Ljava/lang/Throwable;" } : Jvm.MethodName)) ∈ lw_all := lw_g (lw_at lw_m7 7 rfl) rfl
theorem q1576 : (Jvm.Cond.selects "java/util/NoSuchElementException" ({ cls := "java/lang/Throwable", name := "fillInStackTrace", desc := "()Ljava/lang/Throwable;" } : Jvm.MethodName) ({ cls := "java/lang/Throwable", name := "fillInStackTrace", desc := "()Ljava/lang/Throwable;" } : Jvm.MethodName)) ∈ lw_all := lw_g (lw_at lw_m7 8 rfl) rfl
theorem q1577 : (Jvm.Cond.lays "java/util/NoSuchElementException" "java/lang/Throwable" "cause" "Ljava/lang/Throwable;") ∈ lw_all := lw_g (lw_at lw_m7 9 rfl) rfl
theorem q1579 : (Jvm.Cond.lays "java/util/NoSuchElementException" "java/lang/Throwable" "stackTrace" "[Ljava/lang/StackTraceElement;") ∈ lw_all := lw_g (lw_at lw_m7 11 rfl) rfl
theorem q1581 : (Jvm.Cond.lays "java/util/NoSuchElementException" "java/lang/Throwable" "suppressedExceptions" "Ljava/util/List;") ∈ lw_all := lw_g (lw_at lw_m7 13 rfl) rfl
theorem q1583 : (Jvm.Cond.lays "java/util/NoSuchElementException" "java/lang/Throwable" "detailMessage" "Ljava/lang/String;") ∈ lw_all := lw_g (lw_at lw_m7 15 rfl) rfl
theorem q1585 : (Jvm.Cond.lays "java/util/NoSuchElementException" "java/lang/Throwable" "backtrace" "Ljava/lang/Object;") ∈ lw_all := lw_g (lw_at lw_m7 17 rfl) rfl
theorem q1606 : (Jvm.Cond.instanceMethod ({ cls := "java/util/NoSuchElementException", name := "<init>", desc := "()V" } : Jvm.MethodName)) ∈ lw_all := lw_g (lw_at lw_m7 38 rfl) rfl
theorem q1607 : (Jvm.Cond.code ({ cls := "java/util/NoSuchElementException", name := "<init>", desc := "()V" } : Jvm.MethodName) prog_41_method_1_code (1 : Nat) (Option.none : Option Jvm.ClassFile.FieldType)) ∈ lw_all := lw_g (lw_at lw_m7 39 rfl) rfl
theorem q1608 : (Jvm.Cond.methodLink "java/util/NoSuchElementException" (1 : Nat) ({ cls := "java/lang/RuntimeException", name := "<init>", desc := "()V" } : Jvm.MethodName)) ∈ lw_all := lw_g (lw_at lw_m7 40 rfl) rfl
theorem q1623 : (Jvm.Cond.lays "java/util/NoSuchElementException" "java/lang/Throwable" "depth" "I") ∈ lw_all := lw_g (lw_at lw_m7 55 rfl) rfl
theorem q1626 : (Jvm.Cond.superclass "java/util/NoSuchElementException" "java/lang/RuntimeException") ∈ lw_all := lw_g (lw_at lw_m7 58 rfl) rfl
theorem q2324 : (Jvm.Cond.castable "java/util/NoSuchElementException" "java/lang/Object") ∈ lw_tbl := lw_at lw_m10 36 rfl
theorem in_J16 : ∀ w ∈ wsJ160, w ∈ lw_all := lw_in wsJ160 [1577, 1579, 1581, 1583, 1585, 1623] (by decide +kernel) (by decide +kernel)
def RJ17 : String := "java/lang/Object"
theorem q167 : (Jvm.Cond.instanceMethod ({ cls := "java/lang/Object", name := "<init>", desc := "()V" } : Jvm.MethodName)) ∈ lw_all := lw_g (lw_at lw_m1 39 rfl) rfl
theorem q168 : (Jvm.Cond.code ({ cls := "java/lang/Object", name := "<init>", desc := "()V" } : Jvm.MethodName) object_method_1_code (1 : Nat) (Option.none : Option Jvm.ClassFile.FieldType)) ∈ lw_all := lw_g (lw_at lw_m1 40 rfl) rfl
theorem q463 : (Jvm.Cond.native ({ cls := "java/lang/Object", name := "clone", desc := "()Ljava/lang/Object;" } : Jvm.MethodName)) ∈ lw_all := lw_g (lw_at lw_m2 95 rfl) rfl
theorem q464 : (Jvm.Cond.instanceMethod ({ cls := "java/lang/Object", name := "clone", desc := "()Ljava/lang/Object;" } : Jvm.MethodName)) ∈ lw_all := lw_g (lw_at lw_m2 96 rfl) rfl
theorem q810 : (Jvm.Cond.instanceMethod ({ cls := "java/lang/Object", name := "getClass", desc := "()Ljava/lang/Class;" } : Jvm.MethodName)) ∈ lw_all := lw_g (lw_at lw_m3 202 rfl) rfl
theorem q811 : (Jvm.Cond.sameMethod "java/lang/Object" "java/lang/Object" "getClass" "()Ljava/lang/Class;") ∈ lw_all := lw_g (lw_at lw_m3 203 rfl) rfl
theorem q831 : (Jvm.Cond.native ({ cls := "java/lang/Object", name := "getClass", desc := "()Ljava/lang/Class;" } : Jvm.MethodName)) ∈ lw_all := lw_g (lw_at lw_m3 223 rfl) rfl
theorem q2297 : (Jvm.Cond.initialized "java/lang/Object") ∈ lw_all := lw_g (lw_at lw_m10 9 rfl) rfl
theorem q2328 : (Jvm.Cond.declares ({ cls := "java/lang/Object", name := "getClass", desc := "()Ljava/lang/Class;" } : Jvm.MethodName)) ∈ lw_tbl := lw_at lw_m10 40 rfl
def RJ18 : String := "java/lang/System$2"
theorem q644 : (Jvm.Cond.castable "java/lang/System$2" "jdk/internal/access/JavaLangAccess") ∈ lw_tbl := lw_at lw_m3 36 rfl
theorem q645 : (Jvm.Cond.selects "java/lang/System$2" ({ cls := "jdk/internal/access/JavaLangAccess", name := "getUTF16Cha\x72", desc := "([BI)C" } : Jvm.MethodName) ({ cls := "java/lang/System$2", name := "getUTF16Cha\x72", desc := "([BI)C" } : Jvm.MethodName)) ∈ lw_all := lw_g (lw_at lw_m3 37 rfl) rfl
theorem q646 : (Jvm.Cond.unhidden "java/lang/System$2" "getUTF16Cha\x72" "([BI)C") ∈ lw_tbl := lw_at lw_m3 38 rfl
theorem q647 : (Jvm.Cond.instanceMethod ({ cls := "java/lang/System$2", name := "getUTF16Cha\x72", desc := "([BI)C" } : Jvm.MethodName)) ∈ lw_all := lw_g (lw_at lw_m3 39 rfl) rfl
theorem q648 : (Jvm.Cond.publicMethod ({ cls := "java/lang/System$2", name := "getUTF16Cha\x72", desc := "([BI)C" } : Jvm.MethodName)) ∈ lw_tbl := lw_at lw_m3 40 rfl
theorem q649 : (Jvm.Cond.code ({ cls := "java/lang/System$2", name := "getUTF16Cha\x72", desc := "([BI)C" } : Jvm.MethodName) prog_31_method_45_code (3 : Nat) (Option.some Jvm.ClassFile.FieldType.char)) ∈ lw_all := lw_g (lw_at lw_m3 41 rfl) rfl
theorem q650 : (Jvm.Cond.methodLink "java/lang/System$2" (185 : Nat) ({ cls := "java/lang/StringUTF16", name := "getCha\x72", desc := "([BI)C" } : Jvm.MethodName)) ∈ lw_all := lw_g (lw_at lw_m3 42 rfl) rfl
theorem q828 : (Jvm.Cond.selects "java/lang/System$2" ({ cls := "java/lang/Object", name := "getClass", desc := "()Ljava/lang/Class;" } : Jvm.MethodName) ({ cls := "java/lang/Object", name := "getClass", desc := "()Ljava/lang/Class;" } : Jvm.MethodName)) ∈ lw_all := lw_g (lw_at lw_m3 220 rfl) rfl
theorem q2315 : (Jvm.Cond.castable "java/lang/System$2" "java/lang/Object") ∈ lw_tbl := lw_at lw_m10 27 rfl
theorem q462 : (Jvm.Cond.sameMethod "[B" "java/lang/Object" "clone" "()Ljava/lang/Object;") ∈ lw_all := lw_g (lw_at lw_m2 94 rfl) rfl
theorem q465 : (Jvm.Cond.selects "[B" ({ cls := "[B", name := "clone", desc := "()Ljava/lang/Object;" } : Jvm.MethodName) ({ cls := "java/lang/Object", name := "clone", desc := "()Ljava/lang/Object;" } : Jvm.MethodName)) ∈ lw_all := lw_g (lw_at lw_m2 97 rfl) rfl
theorem q466 : (Jvm.Cond.castable "[B" "java/lang/Cloneable") ∈ lw_tbl := lw_at lw_m2 98 rfl
theorem q2329 : (Jvm.Cond.castable "[B" "java/lang/Object") ∈ lw_tbl := lw_at lw_m10 41 rfl
theorem q2330 : (Jvm.Cond.castable "[I" "java/lang/Object") ∈ lw_tbl := lw_at lw_m10 42 rfl
theorem q2331 : (Jvm.Cond.castable "[J" "java/lang/Object") ∈ lw_tbl := lw_at lw_m10 43 rfl
theorem q2326 : (Jvm.Cond.sameMethod "[Ljava/lang/Object;" "java/lang/Object" "getClass" "()Ljava/lang/Class;") ∈ lw_all := lw_g (lw_at lw_m10 38 rfl) rfl
theorem q2327 : (Jvm.Cond.selects "[Ljava/lang/Object;" ({ cls := "java/lang/Object", name := "getClass", desc := "()Ljava/lang/Class;" } : Jvm.MethodName) ({ cls := "java/lang/Object", name := "getClass", desc := "()Ljava/lang/Class;" } : Jvm.MethodName)) ∈ lw_all := lw_g (lw_at lw_m10 39 rfl) rfl
theorem q2332 : (Jvm.Cond.castable "[Ljava/lang/Object;" "java/lang/Object") ∈ lw_tbl := lw_at lw_m10 44 rfl
theorem q145 : (Jvm.Cond.initialized "java/lang/System") ∈ lw_all := lw_g (lw_at lw_m1 17 rfl) rfl
theorem q472 : (Jvm.Cond.static ({ cls := "java/lang/System", name := "arraycopy", desc := "(Ljava/lang/Object;ILjava/lang/Object;II)V" } : Jvm.MethodName)) ∈ lw_all := lw_g (lw_at lw_m2 104 rfl) rfl
theorem q473 : (Jvm.Cond.native ({ cls := "java/lang/System", name := "arraycopy", desc := "(Ljava/lang/Object;ILjava/lang/Object;II)V" } : Jvm.MethodName)) ∈ lw_all := lw_g (lw_at lw_m2 105 rfl) rfl
theorem q642 : (Jvm.Cond.interfaceMethod "jdk/internal/access/JavaLangAccess" "jdk/internal/access/JavaLangAccess" "getUTF16Cha\x72" "([BI)C") ∈ lw_tbl := lw_at lw_m3 34 rfl
theorem q643 : (Jvm.Cond.declares ({ cls := "jdk/internal/access/JavaLangAccess", name := "getUTF16Cha\x72", desc := "([BI)C" } : Jvm.MethodName)) ∈ lw_tbl := lw_at lw_m3 35 rfl
theorem q195 : (Jvm.Cond.arrayClass Jvm.ClassFile.FieldType.byte) ∈ lw_all := lw_g (lw_at lw_m1 67 rfl) rfl
theorem q272 : (Jvm.Cond.arrayClass Jvm.ClassFile.FieldType.int) ∈ lw_all := lw_g (lw_at lw_m1 144 rfl) rfl
theorem q273 : (Jvm.Cond.arrayClass Jvm.ClassFile.FieldType.long) ∈ lw_all := lw_g (lw_at lw_m1 145 rfl) rfl
theorem q836 : (Jvm.Cond.arrayOver (Jvm.ClassFile.FieldType.object "java/lang/Object")) ∈ lw_tbl := lw_at lw_m3 228 rfl
theorem q2333 : (Jvm.Cond.arrayClass Jvm.ClassFile.FieldType.char) ∈ lw_all := lw_g (lw_at lw_m10 45 rfl) rfl
theorem q2334 : (Jvm.Cond.arrayClass Jvm.ClassFile.FieldType.short) ∈ lw_all := lw_g (lw_at lw_m10 46 rfl) rfl
