theorem q56 : (Jvm.Cond.initialized "FlyWheelsLaw") ∈ lw_all := lw_g (lw_at lw_m1 0 rfl) rfl
set_option maxRecDepth 100000
theorem q83 : (Jvm.Cond.classLink "FlyWheelsLaw" (7 : Nat) "FlyWheels") ∈ lw_all := lw_g (lw_at lw_m1 27 rfl) rfl
theorem q85 : (Jvm.Cond.methodLink "FlyWheelsLaw" (9 : Nat) ({ cls := "FlyWheels", name := "<init>", desc := "()V" } : Jvm.MethodName)) ∈ lw_all := lw_g (lw_at lw_m1 29 rfl) rfl
theorem q289 : (Jvm.Cond.methodLink "FlyWheelsLaw" (13 : Nat) ({ cls := "FlyWheels", name := "feed", desc := "(I)I" } : Jvm.MethodName)) ∈ lw_all := lw_g (lw_at lw_m1 233 rfl) rfl
theorem q297 : (Jvm.Cond.methodLink "FlyWheelsLaw" (18 : Nat) ({ cls := "FlyWheels", name := "end", desc := "(I)I" } : Jvm.MethodName)) ∈ lw_all := lw_g (lw_at lw_m2 1 rfl) rfl
theorem q301 : (Jvm.Cond.methodLink "FlyWheelsLaw" (22 : Nat) ({ cls := "FlyWheels", name := "text", desc := "()I" } : Jvm.MethodName)) ∈ lw_all := lw_g (lw_at lw_m2 5 rfl) rfl
theorem q532 : (Jvm.Cond.methodLink "FlyWheelsLaw" (27 : Nat) ({ cls := "FlyWheels", name := "fault", desc := "()I" } : Jvm.MethodName)) ∈ lw_all := lw_g (lw_at lw_m2 236 rfl) rfl
theorem q536 : (Jvm.Cond.methodLink "FlyWheelsLaw" (31 : Nat) ({ cls := "FlyWheels", name := "rule", desc := "(I)I" } : Jvm.MethodName)) ∈ lw_all := lw_g (lw_at lw_m3 0 rfl) rfl
theorem q548 : (Jvm.Cond.methodLink "FlyWheelsLaw" (35 : Nat) ({ cls := "FlyWheels", name := "wheel", desc := "(II)I" } : Jvm.MethodName)) ∈ lw_all := lw_g (lw_at lw_m3 12 rfl) rfl
theorem q587 : (Jvm.Cond.methodLink "FlyWheelsLaw" (40 : Nat) ({ cls := "FlyWheels", name := "act", desc := "(I)I" } : Jvm.MethodName)) ∈ lw_all := lw_g (lw_at lw_m3 51 rfl) rfl
theorem q595 : (Jvm.Cond.methodLink "FlyWheelsLaw" (44 : Nat) ({ cls := "FlyWheels", name := "alter", desc := "(III)I" } : Jvm.MethodName)) ∈ lw_all := lw_g (lw_at lw_m3 59 rfl) rfl
theorem q607 : (Jvm.Cond.methodLink "FlyWheelsLaw" (49 : Nat) ({ cls := "FlyWheels", name := "shaft", desc := "(I)I" } : Jvm.MethodName)) ∈ lw_all := lw_g (lw_at lw_m3 71 rfl) rfl
theorem q611 : (Jvm.Cond.methodLink "FlyWheelsLaw" (53 : Nat) ({ cls := "FlyWheels", name := "put", desc := "(III)I" } : Jvm.MethodName)) ∈ lw_all := lw_g (lw_at lw_m3 75 rfl) rfl
theorem q616 : (Jvm.Cond.methodLink "FlyWheelsLaw" (57 : Nat) ({ cls := "FlyWheels", name := "cut", desc := "(I)I" } : Jvm.MethodName)) ∈ lw_all := lw_g (lw_at lw_m3 80 rfl) rfl
theorem q620 : (Jvm.Cond.methodLink "FlyWheelsLaw" (61 : Nat) ({ cls := "FlyWheels", name := "set", desc := "(II)I" } : Jvm.MethodName)) ∈ lw_all := lw_g (lw_at lw_m3 84 rfl) rfl
theorem q628 : (Jvm.Cond.methodLink "FlyWheelsLaw" (65 : Nat) ({ cls := "FlyWheels", name := "add", desc := "(I)I" } : Jvm.MethodName)) ∈ lw_all := lw_g (lw_at lw_m3 92 rfl) rfl
theorem q632 : (Jvm.Cond.methodLink "FlyWheelsLaw" (69 : Nat) ({ cls := "FlyWheels", name := "drop", desc := "(I)I" } : Jvm.MethodName)) ∈ lw_all := lw_g (lw_at lw_m3 96 rfl) rfl
theorem q636 : (Jvm.Cond.methodLink "FlyWheelsLaw" (73 : Nat) ({ cls := "FlyWheels", name := "turn", desc := "(I)I" } : Jvm.MethodName)) ∈ lw_all := lw_g (lw_at lw_m3 100 rfl) rfl
theorem q653 : (Jvm.Cond.methodLink "FlyWheelsLaw" (77 : Nat) ({ cls := "FlyWheels", name := "ticks", desc := "(I)I" } : Jvm.MethodName)) ∈ lw_all := lw_g (lw_at lw_m3 117 rfl) rfl
theorem q675 : (Jvm.Cond.methodLink "FlyWheelsLaw" (81 : Nat) ({ cls := "FlyWheels", name := "runs", desc := "(II)I" } : Jvm.MethodName)) ∈ lw_all := lw_g (lw_at lw_m3 139 rfl) rfl
theorem q688 : (Jvm.Cond.methodLink "FlyWheelsLaw" (85 : Nat) ({ cls := "FlyWheels", name := "ahead", desc := "(II)I" } : Jvm.MethodName)) ∈ lw_all := lw_g (lw_at lw_m3 152 rfl) rfl
theorem q692 : (Jvm.Cond.methodLink "FlyWheelsLaw" (89 : Nat) ({ cls := "FlyWheels", name := "when", desc := "(I)I" } : Jvm.MethodName)) ∈ lw_all := lw_g (lw_at lw_m3 156 rfl) rfl
theorem q696 : (Jvm.Cond.methodLink "FlyWheelsLaw" (93 : Nat) ({ cls := "FlyWheels", name := "again", desc := "()I" } : Jvm.MethodName)) ∈ lw_all := lw_g (lw_at lw_m3 160 rfl) rfl
theorem q705 : (Jvm.Cond.methodLink "FlyWheelsLaw" (97 : Nat) ({ cls := "FlyWheels", name := "mass", desc := "(III)I" } : Jvm.MethodName)) ∈ lw_all := lw_g (lw_at lw_m3 169 rfl) rfl
theorem q728 : (Jvm.Cond.methodLink "FlyWheelsLaw" (101 : Nat) ({ cls := "FlyWheels", name := "kind", desc := "(III)I" } : Jvm.MethodName)) ∈ lw_all := lw_g (lw_at lw_m3 192 rfl) rfl
theorem q732 : (Jvm.Cond.methodLink "FlyWheelsLaw" (105 : Nat) ({ cls := "FlyWheels", name := "bears", desc := "(II)I" } : Jvm.MethodName)) ∈ lw_all := lw_g (lw_at lw_m3 196 rfl) rfl
theorem q736 : (Jvm.Cond.methodLink "FlyWheelsLaw" (109 : Nat) ({ cls := "FlyWheels", name := "swap", desc := "(II)I" } : Jvm.MethodName)) ∈ lw_all := lw_g (lw_at lw_m3 200 rfl) rfl
theorem q744 : (Jvm.Cond.methodLink "FlyWheelsLaw" (113 : Nat) ({ cls := "FlyWheels", name := "omit", desc := "(II)I" } : Jvm.MethodName)) ∈ lw_all := lw_g (lw_at lw_m3 208 rfl) rfl
theorem q748 : (Jvm.Cond.methodLink "FlyWheelsLaw" (117 : Nat) ({ cls := "FlyWheels", name := "off", desc := "(II)I" } : Jvm.MethodName)) ∈ lw_all := lw_g (lw_at lw_m3 212 rfl) rfl
theorem q752 : (Jvm.Cond.methodLink "FlyWheelsLaw" (121 : Nat) ({ cls := "FlyWheels", name := "luck", desc := "(III)J" } : Jvm.MethodName)) ∈ lw_all := lw_g (lw_at lw_m3 216 rfl) rfl
theorem q769 : (Jvm.Cond.methodLink "FlyWheelsLaw" (126 : Nat) ({ cls := "FlyWheels", name := "mean", desc := "(III)J" } : Jvm.MethodName)) ∈ lw_all := lw_g (lw_at lw_m3 233 rfl) rfl
theorem q773 : (Jvm.Cond.methodLink "FlyWheelsLaw" (130 : Nat) ({ cls := "FlyWheels", name := "see", desc := "(III)I" } : Jvm.MethodName)) ∈ lw_all := lw_g (lw_at lw_m3 237 rfl) rfl
theorem q779 : (Jvm.Cond.methodLink "FlyWheelsLaw" (134 : Nat) ({ cls := "FlyWheels", name := "forget", desc := "(I)I" } : Jvm.MethodName)) ∈ lw_all := lw_g (lw_at lw_m4 3 rfl) rfl
theorem q783 : (Jvm.Cond.methodLink "FlyWheelsLaw" (138 : Nat) ({ cls := "FlyWheels", name := "kinds", desc := "(I)I" } : Jvm.MethodName)) ∈ lw_all := lw_g (lw_at lw_m4 7 rfl) rfl
theorem q791 : (Jvm.Cond.methodLink "FlyWheelsLaw" (142 : Nat) ({ cls := "FlyWheels", name := "losses", desc := "(I)I" } : Jvm.MethodName)) ∈ lw_all := lw_g (lw_at lw_m4 15 rfl) rfl
theorem q799 : (Jvm.Cond.methodLink "FlyWheelsLaw" (146 : Nat) ({ cls := "FlyWheels", name := "ask", desc := "(II)I" } : Jvm.MethodName)) ∈ lw_all := lw_g (lw_at lw_m4 23 rfl) rfl
theorem q811 : (Jvm.Cond.methodLink "FlyWheelsLaw" (150 : Nat) ({ cls := "FlyWheels", name := "drift", desc := "(III)I" } : Jvm.MethodName)) ∈ lw_all := lw_g (lw_at lw_m4 35 rfl) rfl
theorem q816 : (Jvm.Cond.methodLink "FlyWheelsLaw" (154 : Nat) ({ cls := "FlyWheels", name := "keep", desc := "(I)I" } : Jvm.MethodName)) ∈ lw_all := lw_g (lw_at lw_m4 40 rfl) rfl
theorem q820 : (Jvm.Cond.methodLink "FlyWheelsLaw" (158 : Nat) ({ cls := "FlyWheels", name := "back", desc := "(I)I" } : Jvm.MethodName)) ∈ lw_all := lw_g (lw_at lw_m4 44 rfl) rfl
theorem q824 : (Jvm.Cond.methodLink "FlyWheelsLaw" (162 : Nat) ({ cls := "FlyWheels", name := "sheet", desc := "(III)I" } : Jvm.MethodName)) ∈ lw_all := lw_g (lw_at lw_m4 48 rfl) rfl
theorem q861 : (Jvm.Cond.methodLink "FlyWheelsLaw" (166 : Nat) ({ cls := "FlyWheels", name := "lay", desc := "(III)I" } : Jvm.MethodName)) ∈ lw_all := lw_g (lw_at lw_m4 85 rfl) rfl
theorem q912 : (Jvm.Cond.methodLink "FlyWheelsLaw" (170 : Nat) ({ cls := "FlyWheels", name := "read", desc := "(IIII)I" } : Jvm.MethodName)) ∈ lw_all := lw_g (lw_at lw_m4 136 rfl) rfl
theorem q935 : (Jvm.Cond.methodLink "FlyWheelsLaw" (175 : Nat) ({ cls := "FlyWheels", name := "torn", desc := "()I" } : Jvm.MethodName)) ∈ lw_all := lw_g (lw_at lw_m4 159 rfl) rfl
theorem q939 : (Jvm.Cond.methodLink "FlyWheelsLaw" (179 : Nat) ({ cls := "FlyWheels", name := "count", desc := "(I)I" } : Jvm.MethodName)) ∈ lw_all := lw_g (lw_at lw_m4 163 rfl) rfl
theorem q949 : (Jvm.Cond.classLink "FlyWheelsLaw" (10 : Nat) "FlyWheelsModel") ∈ lw_all := lw_g (lw_at lw_m4 173 rfl) rfl
theorem q951 : (Jvm.Cond.methodLink "FlyWheelsLaw" (12 : Nat) ({ cls := "FlyWheelsModel", name := "<init>", desc := "()V" } : Jvm.MethodName)) ∈ lw_all := lw_g (lw_at lw_m4 175 rfl) rfl
theorem q1035 : (Jvm.Cond.methodLink "FlyWheelsLaw" (17 : Nat) ({ cls := "FlyWheelsModel", name := "feed", desc := "(I)I" } : Jvm.MethodName)) ∈ lw_all := lw_g (lw_at lw_m5 19 rfl) rfl
theorem q1043 : (Jvm.Cond.methodLink "FlyWheelsLaw" (21 : Nat) ({ cls := "FlyWheelsModel", name := "end", desc := "(I)I" } : Jvm.MethodName)) ∈ lw_all := lw_g (lw_at lw_m5 27 rfl) rfl
theorem q1047 : (Jvm.Cond.methodLink "FlyWheelsLaw" (26 : Nat) ({ cls := "FlyWheelsModel", name := "text", desc := "()I" } : Jvm.MethodName)) ∈ lw_all := lw_g (lw_at lw_m5 31 rfl) rfl
theorem q1084 : (Jvm.Cond.methodLink "FlyWheelsLaw" (30 : Nat) ({ cls := "FlyWheelsModel", name := "fault", desc := "()I" } : Jvm.MethodName)) ∈ lw_all := lw_g (lw_at lw_m5 68 rfl) rfl
theorem q1088 : (Jvm.Cond.methodLink "FlyWheelsLaw" (34 : Nat) ({ cls := "FlyWheelsModel", name := "rule", desc := "(I)I" } : Jvm.MethodName)) ∈ lw_all := lw_g (lw_at lw_m5 72 rfl) rfl
theorem q1096 : (Jvm.Cond.methodLink "FlyWheelsLaw" (39 : Nat) ({ cls := "FlyWheelsModel", name := "wheel", desc := "(II)I" } : Jvm.MethodName)) ∈ lw_all := lw_g (lw_at lw_m5 80 rfl) rfl
theorem q1109 : (Jvm.Cond.methodLink "FlyWheelsLaw" (43 : Nat) ({ cls := "FlyWheelsModel", name := "act", desc := "(I)I" } : Jvm.MethodName)) ∈ lw_all := lw_g (lw_at lw_m5 93 rfl) rfl
theorem q1117 : (Jvm.Cond.methodLink "FlyWheelsLaw" (48 : Nat) ({ cls := "FlyWheelsModel", name := "alter", desc := "(III)I" } : Jvm.MethodName)) ∈ lw_all := lw_g (lw_at lw_m5 101 rfl) rfl
theorem q1129 : (Jvm.Cond.methodLink "FlyWheelsLaw" (52 : Nat) ({ cls := "FlyWheelsModel", name := "shaft", desc := "(I)I" } : Jvm.MethodName)) ∈ lw_all := lw_g (lw_at lw_m5 113 rfl) rfl
theorem q1133 : (Jvm.Cond.methodLink "FlyWheelsLaw" (56 : Nat) ({ cls := "FlyWheelsModel", name := "put", desc := "(III)I" } : Jvm.MethodName)) ∈ lw_all := lw_g (lw_at lw_m5 117 rfl) rfl
theorem q1137 : (Jvm.Cond.methodLink "FlyWheelsLaw" (60 : Nat) ({ cls := "FlyWheelsModel", name := "cut", desc := "(I)I" } : Jvm.MethodName)) ∈ lw_all := lw_g (lw_at lw_m5 121 rfl) rfl
theorem q1141 : (Jvm.Cond.methodLink "FlyWheelsLaw" (64 : Nat) ({ cls := "FlyWheelsModel", name := "set", desc := "(II)I" } : Jvm.MethodName)) ∈ lw_all := lw_g (lw_at lw_m5 125 rfl) rfl
theorem q1146 : (Jvm.Cond.methodLink "FlyWheelsLaw" (68 : Nat) ({ cls := "FlyWheelsModel", name := "add", desc := "(I)I" } : Jvm.MethodName)) ∈ lw_all := lw_g (lw_at lw_m5 130 rfl) rfl
theorem q1154 : (Jvm.Cond.methodLink "FlyWheelsLaw" (72 : Nat) ({ cls := "FlyWheelsModel", name := "drop", desc := "(I)I" } : Jvm.MethodName)) ∈ lw_all := lw_g (lw_at lw_m5 138 rfl) rfl
theorem q1158 : (Jvm.Cond.methodLink "FlyWheelsLaw" (76 : Nat) ({ cls := "FlyWheelsModel", name := "turn", desc := "(I)I" } : Jvm.MethodName)) ∈ lw_all := lw_g (lw_at lw_m5 142 rfl) rfl
theorem q1166 : (Jvm.Cond.methodLink "FlyWheelsLaw" (80 : Nat) ({ cls := "FlyWheelsModel", name := "ticks", desc := "(I)I" } : Jvm.MethodName)) ∈ lw_all := lw_g (lw_at lw_m5 150 rfl) rfl
theorem q1179 : (Jvm.Cond.methodLink "FlyWheelsLaw" (84 : Nat) ({ cls := "FlyWheelsModel", name := "runs", desc := "(II)I" } : Jvm.MethodName)) ∈ lw_all := lw_g (lw_at lw_m5 163 rfl) rfl
theorem q1204 : (Jvm.Cond.methodLink "FlyWheelsLaw" (88 : Nat) ({ cls := "FlyWheelsModel", name := "ahead", desc := "(II)I" } : Jvm.MethodName)) ∈ lw_all := lw_g (lw_at lw_m5 188 rfl) rfl
theorem q1208 : (Jvm.Cond.methodLink "FlyWheelsLaw" (92 : Nat) ({ cls := "FlyWheelsModel", name := "when", desc := "(I)I" } : Jvm.MethodName)) ∈ lw_all := lw_g (lw_at lw_m5 192 rfl) rfl
theorem q1212 : (Jvm.Cond.methodLink "FlyWheelsLaw" (96 : Nat) ({ cls := "FlyWheelsModel", name := "again", desc := "()I" } : Jvm.MethodName)) ∈ lw_all := lw_g (lw_at lw_m5 196 rfl) rfl
theorem q1216 : (Jvm.Cond.methodLink "FlyWheelsLaw" (100 : Nat) ({ cls := "FlyWheelsModel", name := "mass", desc := "(III)I" } : Jvm.MethodName)) ∈ lw_all := lw_g (lw_at lw_m5 200 rfl) rfl
theorem q1224 : (Jvm.Cond.methodLink "FlyWheelsLaw" (104 : Nat) ({ cls := "FlyWheelsModel", name := "kind", desc := "(III)I" } : Jvm.MethodName)) ∈ lw_all := lw_g (lw_at lw_m5 208 rfl) rfl
theorem q1228 : (Jvm.Cond.methodLink "FlyWheelsLaw" (108 : Nat) ({ cls := "FlyWheelsModel", name := "bears", desc := "(II)I" } : Jvm.MethodName)) ∈ lw_all := lw_g (lw_at lw_m5 212 rfl) rfl
theorem q1232 : (Jvm.Cond.methodLink "FlyWheelsLaw" (112 : Nat) ({ cls := "FlyWheelsModel", name := "swap", desc := "(II)I" } : Jvm.MethodName)) ∈ lw_all := lw_g (lw_at lw_m5 216 rfl) rfl
theorem q1236 : (Jvm.Cond.methodLink "FlyWheelsLaw" (116 : Nat) ({ cls := "FlyWheelsModel", name := "omit", desc := "(II)I" } : Jvm.MethodName)) ∈ lw_all := lw_g (lw_at lw_m5 220 rfl) rfl
theorem q1240 : (Jvm.Cond.methodLink "FlyWheelsLaw" (120 : Nat) ({ cls := "FlyWheelsModel", name := "off", desc := "(II)I" } : Jvm.MethodName)) ∈ lw_all := lw_g (lw_at lw_m5 224 rfl) rfl
theorem q1244 : (Jvm.Cond.methodLink "FlyWheelsLaw" (125 : Nat) ({ cls := "FlyWheelsModel", name := "luck", desc := "(III)J" } : Jvm.MethodName)) ∈ lw_all := lw_g (lw_at lw_m5 228 rfl) rfl
theorem q1258 : (Jvm.Cond.methodLink "FlyWheelsLaw" (129 : Nat) ({ cls := "FlyWheelsModel", name := "mean", desc := "(III)J" } : Jvm.MethodName)) ∈ lw_all := lw_g (lw_at lw_m6 2 rfl) rfl
theorem q1262 : (Jvm.Cond.methodLink "FlyWheelsLaw" (133 : Nat) ({ cls := "FlyWheelsModel", name := "see", desc := "(III)I" } : Jvm.MethodName)) ∈ lw_all := lw_g (lw_at lw_m6 6 rfl) rfl
theorem q1268 : (Jvm.Cond.methodLink "FlyWheelsLaw" (137 : Nat) ({ cls := "FlyWheelsModel", name := "forget", desc := "(I)I" } : Jvm.MethodName)) ∈ lw_all := lw_g (lw_at lw_m6 12 rfl) rfl
theorem q1272 : (Jvm.Cond.methodLink "FlyWheelsLaw" (141 : Nat) ({ cls := "FlyWheelsModel", name := "kinds", desc := "(I)I" } : Jvm.MethodName)) ∈ lw_all := lw_g (lw_at lw_m6 16 rfl) rfl
theorem q1284 : (Jvm.Cond.methodLink "FlyWheelsLaw" (145 : Nat) ({ cls := "FlyWheelsModel", name := "losses", desc := "(I)I" } : Jvm.MethodName)) ∈ lw_all := lw_g (lw_at lw_m6 28 rfl) rfl
theorem q1288 : (Jvm.Cond.methodLink "FlyWheelsLaw" (149 : Nat) ({ cls := "FlyWheelsModel", name := "ask", desc := "(II)I" } : Jvm.MethodName)) ∈ lw_all := lw_g (lw_at lw_m6 32 rfl) rfl
theorem q1296 : (Jvm.Cond.methodLink "FlyWheelsLaw" (153 : Nat) ({ cls := "FlyWheelsModel", name := "drift", desc := "(III)I" } : Jvm.MethodName)) ∈ lw_all := lw_g (lw_at lw_m6 40 rfl) rfl
theorem q1301 : (Jvm.Cond.methodLink "FlyWheelsLaw" (157 : Nat) ({ cls := "FlyWheelsModel", name := "keep", desc := "(I)I" } : Jvm.MethodName)) ∈ lw_all := lw_g (lw_at lw_m6 45 rfl) rfl
theorem q1305 : (Jvm.Cond.methodLink "FlyWheelsLaw" (161 : Nat) ({ cls := "FlyWheelsModel", name := "back", desc := "(I)I" } : Jvm.MethodName)) ∈ lw_all := lw_g (lw_at lw_m6 49 rfl) rfl
theorem q1309 : (Jvm.Cond.methodLink "FlyWheelsLaw" (165 : Nat) ({ cls := "FlyWheelsModel", name := "sheet", desc := "(III)I" } : Jvm.MethodName)) ∈ lw_all := lw_g (lw_at lw_m6 53 rfl) rfl
theorem q1314 : (Jvm.Cond.methodLink "FlyWheelsLaw" (169 : Nat) ({ cls := "FlyWheelsModel", name := "lay", desc := "(III)I" } : Jvm.MethodName)) ∈ lw_all := lw_g (lw_at lw_m6 58 rfl) rfl
theorem q1318 : (Jvm.Cond.methodLink "FlyWheelsLaw" (174 : Nat) ({ cls := "FlyWheelsModel", name := "read", desc := "(IIII)I" } : Jvm.MethodName)) ∈ lw_all := lw_g (lw_at lw_m6 62 rfl) rfl
theorem q1322 : (Jvm.Cond.methodLink "FlyWheelsLaw" (178 : Nat) ({ cls := "FlyWheelsModel", name := "torn", desc := "()I" } : Jvm.MethodName)) ∈ lw_all := lw_g (lw_at lw_m6 66 rfl) rfl
theorem q1326 : (Jvm.Cond.methodLink "FlyWheelsLaw" (182 : Nat) ({ cls := "FlyWheelsModel", name := "count", desc := "(I)I" } : Jvm.MethodName)) ∈ lw_all := lw_g (lw_at lw_m6 70 rfl) rfl
theorem q74 : (Jvm.Cond.initialized "java/lang/System") ∈ lw_all := lw_g (lw_at lw_m1 18 rfl) rfl
set_option maxRecDepth 100000
theorem q530 : (Jvm.Cond.static ({ cls := "java/lang/System", name := "arraycopy", desc := "(Ljava/lang/Object;ILjava/lang/Object;II)V" } : Jvm.MethodName)) ∈ lw_all := lw_g (lw_at lw_m2 234 rfl) rfl
theorem q531 : (Jvm.Cond.native ({ cls := "java/lang/System", name := "arraycopy", desc := "(Ljava/lang/Object;ILjava/lang/Object;II)V" } : Jvm.MethodName)) ∈ lw_all := lw_g (lw_at lw_m2 235 rfl) rfl
theorem q92 : (Jvm.Cond.arrayOver (Jvm.ClassFile.FieldType.object "FlyWheels$Plain")) ∈ lw_tbl := lw_at lw_m1 36 rfl
set_option maxRecDepth 100000
theorem q127 : (Jvm.Cond.arrayOver (Jvm.ClassFile.FieldType.object "FlyWheels$Wheel")) ∈ lw_tbl := lw_at lw_m1 71 rfl
theorem q203 : (Jvm.Cond.arrayClass Jvm.ClassFile.FieldType.short) ∈ lw_all := lw_g (lw_at lw_m1 147 rfl) rfl
theorem q204 : (Jvm.Cond.arrayOver (Jvm.ClassFile.FieldType.object "FlyWheels$Shaft")) ∈ lw_tbl := lw_at lw_m1 148 rfl
theorem q206 : (Jvm.Cond.arrayOver (Jvm.ClassFile.FieldType.object "FlyWheels$Sheet")) ∈ lw_tbl := lw_at lw_m1 150 rfl
theorem q216 : (Jvm.Cond.arrayClass Jvm.ClassFile.FieldType.int) ∈ lw_all := lw_g (lw_at lw_m1 160 rfl) rfl
theorem q217 : (Jvm.Cond.arrayClass Jvm.ClassFile.FieldType.byte) ∈ lw_all := lw_g (lw_at lw_m1 161 rfl) rfl
theorem q1034 : (Jvm.Cond.arrayClass Jvm.ClassFile.FieldType.boolean) ∈ lw_all := lw_g (lw_at lw_m5 18 rfl) rfl
/-! FlyWheels$Reader -/
set_option maxRecDepth 100000
def RX9 : String := "FlyWheels$Reader"
def TX9 : u_T := fun k => match k with
  | 0 => ("FlyWheels$Reader", "size", "I", true)
  | 1 => ("FlyWheels$Reader", "made", "LFlyWheels$Shaft;", true)
  | 2 => ("FlyWheels$Reader", "hasShaft", "Z", false)
  | 3 => ("FlyWheels$Reader", "at", "I", false)
  | 4 => ("FlyWheels$Reader", "from", "I", false)
  | 5 => ("FlyWheels$Reader", "sort", "I", false)
  | 6 => ("FlyWheels$Reader", "value", "I", false)
  | _ => ("FlyWheels$Reader", "this$0", "LFlyWheels;", true)
def tyX9 : Nat → FieldType := fun k => match k with
  | 0 => .int
  | 1 => .object "FlyWheels$Shaft"
  | 2 => .boolean
  | 3 => .int
  | 4 => .int
  | 5 => .int
  | 6 => .int
  | _ => .object "FlyWheels"
abbrev wsX90 : List Cond := u_ws RX9 TX9 8
theorem nmX9 : ∀ a, a < 8 → ∀ b, b < 8 → a ≠ b → (TX9 a).2.1 ≠ (TX9 b).2.1 := by decide +kernel
theorem tyX9_ok : ∀ k, k < 8 → parseFieldDescriptor (TX9 k).2.2.1 = some (tyX9 k) := by decide +kernel
abbrev cX9_init : ByteArray := prog_4_method_1_code
def yX9_init : MethodName := ⟨RX9, "<init>", "(LFlyWheels;I)V"⟩
def dkwX9_init_1 : List UInt8 := [181, 0, 22, 42, 182, 0, 26, 177]
abbrev dktX9_init_1 : List UInt8 := dkwX9_init_1 ++ []
def dkwX9_init_0 : List UInt8 := [42, 43, 181, 0, 3, 42, 183, 0, 9, 42, 187, 0, 15, 89, 183, 0, 17, 181, 0, 18, 42, 28]
abbrev dktX9_init_0 : List UInt8 := dkwX9_init_0 ++ dktX9_init_1
theorem dksX9_init_0 : cX9_init.data.toList.drop 0 = dktX9_init_0 := by decide +kernel
theorem dksX9_init_1 : cX9_init.data.toList.drop 22 = dktX9_init_1 := dk_seg dksX9_init_0 22 rfl rfl
theorem dX9_init_0 : decode cX9_init 0 = .ok (.aload_n 0, 1) := dk_42 (dk_at dksX9_init_0 0 rfl rfl)
theorem dX9_init_1 : decode cX9_init 1 = .ok (.aload_n 1, 1) := dk_43 (dk_at dksX9_init_0 1 rfl rfl)
theorem dX9_init_2 : decode cX9_init 2 = .ok (.putfield 3, 3) := dk_181 0 3 (dk_at dksX9_init_0 2 rfl rfl)
theorem dX9_init_5 : decode cX9_init 5 = .ok (.aload_n 0, 1) := dk_42 (dk_at dksX9_init_0 5 rfl rfl)
theorem dX9_init_6 : decode cX9_init 6 = .ok (.invokespecial 9, 3) := dk_183 0 9 (dk_at dksX9_init_0 6 rfl rfl)
theorem dX9_init_9 : decode cX9_init 9 = .ok (.aload_n 0, 1) := dk_42 (dk_at dksX9_init_0 9 rfl rfl)
theorem dX9_init_10 : decode cX9_init 10 = .ok (.new 15, 3) := dk_187 0 15 (dk_at dksX9_init_0 10 rfl rfl)
theorem dX9_init_13 : decode cX9_init 13 = .ok (.dup, 1) := dk_89 (dk_at dksX9_init_0 13 rfl rfl)
theorem dX9_init_14 : decode cX9_init 14 = .ok (.invokespecial 17, 3) := dk_183 0 17 (dk_at dksX9_init_0 14 rfl rfl)
theorem dX9_init_17 : decode cX9_init 17 = .ok (.putfield 18, 3) := dk_181 0 18 (dk_at dksX9_init_0 17 rfl rfl)
theorem dX9_init_20 : decode cX9_init 20 = .ok (.aload_n 0, 1) := dk_42 (dk_at dksX9_init_0 20 rfl rfl)
theorem dX9_init_21 : decode cX9_init 21 = .ok (.iload_n 2, 1) := dk_28 (dk_at dksX9_init_0 21 rfl rfl)
theorem dX9_init_22 : decode cX9_init 22 = .ok (.putfield 22, 3) := dk_181 0 22 (dk_at dksX9_init_1 0 rfl rfl)
theorem dX9_init_25 : decode cX9_init 25 = .ok (.aload_n 0, 1) := dk_42 (dk_at dksX9_init_1 3 rfl rfl)
theorem dX9_init_26 : decode cX9_init 26 = .ok (.invokevirtual 26, 3) := dk_182 0 26 (dk_at dksX9_init_1 4 rfl rfl)
theorem dX9_init_29 : decode cX9_init 29 = .ok (.return_, 1) := dk_177 (dk_at dksX9_init_1 7 rfl rfl)
abbrev cX9_next : ByteArray := prog_4_method_6_code
def yX9_next : MethodName := ⟨RX9, "next", "()V"⟩
def dkwX9_next_10 : List UInt8 := [181, 0, 29, 177]
abbrev dktX9_next_10 : List UInt8 := dkwX9_next_10 ++ []
def dkwX9_next_9 : List UInt8 := [181, 0, 64, 42, 42, 16, 59, 16, 59, 182, 0, 77, 4, 182, 0, 84, 42, 89, 180, 0, 29, 4, 96]
abbrev dktX9_next_9 : List UInt8 := dkwX9_next_9 ++ dktX9_next_10
def dkwX9_next_8 : List UInt8 := [180, 0, 38, 100, 6, 162, 0, 7, 4, 167, 0, 4, 3, 4, 182, 0, 84, 167, 0, 31, 42, 6]
abbrev dktX9_next_8 : List UInt8 := dkwX9_next_8 ++ dktX9_next_9
def dkwX9_next_7 : List UInt8 := [181, 0, 81, 42, 89, 180, 0, 29, 4, 96, 181, 0, 29, 167, 255, 188, 42, 42, 180, 0, 29, 42]
abbrev dktX9_next_7 : List UInt8 := dkwX9_next_7 ++ dktX9_next_8
def dkwX9_next_6 : List UInt8 := [42, 180, 0, 3, 180, 0, 32, 42, 180, 0, 29, 51, 96, 16, 48, 100, 167, 0, 7, 42, 180, 0, 81]
abbrev dktX9_next_6 : List UInt8 := dkwX9_next_6 ++ dktX9_next_7
def dkwX9_next_5 : List UInt8 := [153, 0, 63, 42, 42, 180, 0, 29, 42, 180, 0, 38, 100, 5, 162, 0, 29, 16, 10, 42, 180, 0, 81, 104]
abbrev dktX9_next_5 : List UInt8 := dkwX9_next_5 ++ dktX9_next_6
def dkwX9_next_4 : List UInt8 := [182, 0, 77, 153, 0, 110, 42, 5, 181, 0, 64, 42, 3, 181, 0, 81, 42, 16, 48, 16, 57, 182, 0, 77]
abbrev dktX9_next_4 : List UInt8 := dkwX9_next_4 ++ dktX9_next_5
def dkwX9_next_3 : List UInt8 := [182, 0, 77, 153, 0, 162, 42, 89, 180, 0, 29, 4, 96, 181, 0, 29, 167, 255, 235, 42, 16, 48, 16, 57]
abbrev dktX9_next_3 : List UInt8 := dkwX9_next_3 ++ dktX9_next_4
def dkwX9_next_2 : List UInt8 := [167, 0, 189, 42, 16, 97, 16, 122, 182, 0, 77, 153, 0, 32, 42, 4, 181, 0, 64, 42, 16, 97, 16, 122]
abbrev dktX9_next_2 : List UInt8 := dkwX9_next_2 ++ dktX9_next_3
def dkwX9_next_1 : List UInt8 := [42, 42, 180, 0, 29, 181, 0, 38, 42, 180, 0, 29, 42, 180, 0, 22, 160, 0, 11, 42, 3, 181, 0, 64]
abbrev dktX9_next_1 : List UInt8 := dkwX9_next_1 ++ dktX9_next_2
def dkwX9_next_0 : List UInt8 := [42, 16, 32, 16, 32, 182, 0, 77, 153, 0, 16, 42, 89, 180, 0, 29, 4, 96, 181, 0, 29, 167, 255, 235]
abbrev dktX9_next_0 : List UInt8 := dkwX9_next_0 ++ dktX9_next_1
theorem dksX9_next_0 : cX9_next.data.toList.drop 0 = dktX9_next_0 := by decide +kernel
theorem dksX9_next_1 : cX9_next.data.toList.drop 24 = dktX9_next_1 := dk_seg dksX9_next_0 24 rfl rfl
theorem dksX9_next_2 : cX9_next.data.toList.drop 48 = dktX9_next_2 := dk_seg dksX9_next_1 24 rfl rfl
theorem dksX9_next_3 : cX9_next.data.toList.drop 72 = dktX9_next_3 := dk_seg dksX9_next_2 24 rfl rfl
theorem dksX9_next_4 : cX9_next.data.toList.drop 96 = dktX9_next_4 := dk_seg dksX9_next_3 24 rfl rfl
theorem dksX9_next_5 : cX9_next.data.toList.drop 120 = dktX9_next_5 := dk_seg dksX9_next_4 24 rfl rfl
theorem dksX9_next_6 : cX9_next.data.toList.drop 144 = dktX9_next_6 := dk_seg dksX9_next_5 24 rfl rfl
theorem dksX9_next_7 : cX9_next.data.toList.drop 167 = dktX9_next_7 := dk_seg dksX9_next_6 23 rfl rfl
theorem dksX9_next_8 : cX9_next.data.toList.drop 189 = dktX9_next_8 := dk_seg dksX9_next_7 22 rfl rfl
theorem dksX9_next_9 : cX9_next.data.toList.drop 211 = dktX9_next_9 := dk_seg dksX9_next_8 22 rfl rfl
theorem dksX9_next_10 : cX9_next.data.toList.drop 234 = dktX9_next_10 := dk_seg dksX9_next_9 23 rfl rfl
theorem dX9_next_0 : decode cX9_next 0 = .ok (.aload_n 0, 1) := dk_42 (dk_at dksX9_next_0 0 rfl rfl)
theorem dX9_next_1 : decode cX9_next 1 = .ok (.bipush 32, 2) := dk_16 32 (dk_at dksX9_next_0 1 rfl rfl)
theorem dX9_next_3 : decode cX9_next 3 = .ok (.bipush 32, 2) := dk_16 32 (dk_at dksX9_next_0 3 rfl rfl)
theorem dX9_next_5 : decode cX9_next 5 = .ok (.invokevirtual 77, 3) := dk_182 0 77 (dk_at dksX9_next_0 5 rfl rfl)
theorem dX9_next_8 : decode cX9_next 8 = .ok (.ifCond .eq 16, 3) := dk_153 0 16 (dk_at dksX9_next_0 8 rfl rfl)
theorem dX9_next_11 : decode cX9_next 11 = .ok (.aload_n 0, 1) := dk_42 (dk_at dksX9_next_0 11 rfl rfl)
theorem dX9_next_12 : decode cX9_next 12 = .ok (.dup, 1) := dk_89 (dk_at dksX9_next_0 12 rfl rfl)
theorem dX9_next_13 : decode cX9_next 13 = .ok (.getfield 29, 3) := dk_180 0 29 (dk_at dksX9_next_0 13 rfl rfl)
theorem dX9_next_16 : decode cX9_next 16 = .ok (.iconst 1, 1) := dk_4 (dk_at dksX9_next_0 16 rfl rfl)
theorem dX9_next_17 : decode cX9_next 17 = .ok (.iadd, 1) := dk_96 (dk_at dksX9_next_0 17 rfl rfl)
theorem dX9_next_18 : decode cX9_next 18 = .ok (.putfield 29, 3) := dk_181 0 29 (dk_at dksX9_next_0 18 rfl rfl)
theorem dX9_next_21 : decode cX9_next 21 = .ok (.goto (-21), 3) := dk_167 255 235 (dk_at dksX9_next_0 21 rfl rfl)
theorem dX9_next_24 : decode cX9_next 24 = .ok (.aload_n 0, 1) := dk_42 (dk_at dksX9_next_1 0 rfl rfl)
theorem dX9_next_25 : decode cX9_next 25 = .ok (.aload_n 0, 1) := dk_42 (dk_at dksX9_next_1 1 rfl rfl)
theorem dX9_next_26 : decode cX9_next 26 = .ok (.getfield 29, 3) := dk_180 0 29 (dk_at dksX9_next_1 2 rfl rfl)
theorem dX9_next_29 : decode cX9_next 29 = .ok (.putfield 38, 3) := dk_181 0 38 (dk_at dksX9_next_1 5 rfl rfl)
theorem dX9_next_32 : decode cX9_next 32 = .ok (.aload_n 0, 1) := dk_42 (dk_at dksX9_next_1 8 rfl rfl)
theorem dX9_next_33 : decode cX9_next 33 = .ok (.getfield 29, 3) := dk_180 0 29 (dk_at dksX9_next_1 9 rfl rfl)
theorem dX9_next_36 : decode cX9_next 36 = .ok (.aload_n 0, 1) := dk_42 (dk_at dksX9_next_1 12 rfl rfl)
theorem dX9_next_37 : decode cX9_next 37 = .ok (.getfield 22, 3) := dk_180 0 22 (dk_at dksX9_next_1 13 rfl rfl)
theorem dX9_next_40 : decode cX9_next 40 = .ok (.if_icmp .ne 11, 3) := dk_160 0 11 (dk_at dksX9_next_1 16 rfl rfl)
theorem dX9_next_43 : decode cX9_next 43 = .ok (.aload_n 0, 1) := dk_42 (dk_at dksX9_next_1 19 rfl rfl)
theorem dX9_next_44 : decode cX9_next 44 = .ok (.iconst 0, 1) := dk_3 (dk_at dksX9_next_1 20 rfl rfl)
theorem dX9_next_45 : decode cX9_next 45 = .ok (.putfield 64, 3) := dk_181 0 64 (dk_at dksX9_next_1 21 rfl rfl)
theorem dX9_next_48 : decode cX9_next 48 = .ok (.goto 189, 3) := dk_167 0 189 (dk_at dksX9_next_2 0 rfl rfl)
theorem dX9_next_51 : decode cX9_next 51 = .ok (.aload_n 0, 1) := dk_42 (dk_at dksX9_next_2 3 rfl rfl)
theorem dX9_next_52 : decode cX9_next 52 = .ok (.bipush 97, 2) := dk_16 97 (dk_at dksX9_next_2 4 rfl rfl)
theorem dX9_next_54 : decode cX9_next 54 = .ok (.bipush 122, 2) := dk_16 122 (dk_at dksX9_next_2 6 rfl rfl)
theorem dX9_next_56 : decode cX9_next 56 = .ok (.invokevirtual 77, 3) := dk_182 0 77 (dk_at dksX9_next_2 8 rfl rfl)
theorem dX9_next_59 : decode cX9_next 59 = .ok (.ifCond .eq 32, 3) := dk_153 0 32 (dk_at dksX9_next_2 11 rfl rfl)
theorem dX9_next_62 : decode cX9_next 62 = .ok (.aload_n 0, 1) := dk_42 (dk_at dksX9_next_2 14 rfl rfl)
theorem dX9_next_63 : decode cX9_next 63 = .ok (.iconst 1, 1) := dk_4 (dk_at dksX9_next_2 15 rfl rfl)
theorem dX9_next_64 : decode cX9_next 64 = .ok (.putfield 64, 3) := dk_181 0 64 (dk_at dksX9_next_2 16 rfl rfl)
theorem dX9_next_67 : decode cX9_next 67 = .ok (.aload_n 0, 1) := dk_42 (dk_at dksX9_next_2 19 rfl rfl)
theorem dX9_next_68 : decode cX9_next 68 = .ok (.bipush 97, 2) := dk_16 97 (dk_at dksX9_next_2 20 rfl rfl)
theorem dX9_next_70 : decode cX9_next 70 = .ok (.bipush 122, 2) := dk_16 122 (dk_at dksX9_next_2 22 rfl rfl)
theorem dX9_next_72 : decode cX9_next 72 = .ok (.invokevirtual 77, 3) := dk_182 0 77 (dk_at dksX9_next_3 0 rfl rfl)
theorem dX9_next_75 : decode cX9_next 75 = .ok (.ifCond .eq 162, 3) := dk_153 0 162 (dk_at dksX9_next_3 3 rfl rfl)
theorem dX9_next_78 : decode cX9_next 78 = .ok (.aload_n 0, 1) := dk_42 (dk_at dksX9_next_3 6 rfl rfl)
theorem dX9_next_79 : decode cX9_next 79 = .ok (.dup, 1) := dk_89 (dk_at dksX9_next_3 7 rfl rfl)
theorem dX9_next_80 : decode cX9_next 80 = .ok (.getfield 29, 3) := dk_180 0 29 (dk_at dksX9_next_3 8 rfl rfl)
theorem dX9_next_83 : decode cX9_next 83 = .ok (.iconst 1, 1) := dk_4 (dk_at dksX9_next_3 11 rfl rfl)
theorem dX9_next_84 : decode cX9_next 84 = .ok (.iadd, 1) := dk_96 (dk_at dksX9_next_3 12 rfl rfl)
theorem dX9_next_85 : decode cX9_next 85 = .ok (.putfield 29, 3) := dk_181 0 29 (dk_at dksX9_next_3 13 rfl rfl)
theorem dX9_next_88 : decode cX9_next 88 = .ok (.goto (-21), 3) := dk_167 255 235 (dk_at dksX9_next_3 16 rfl rfl)
theorem dX9_next_91 : decode cX9_next 91 = .ok (.aload_n 0, 1) := dk_42 (dk_at dksX9_next_3 19 rfl rfl)
theorem dX9_next_92 : decode cX9_next 92 = .ok (.bipush 48, 2) := dk_16 48 (dk_at dksX9_next_3 20 rfl rfl)
theorem dX9_next_94 : decode cX9_next 94 = .ok (.bipush 57, 2) := dk_16 57 (dk_at dksX9_next_3 22 rfl rfl)
theorem dX9_next_96 : decode cX9_next 96 = .ok (.invokevirtual 77, 3) := dk_182 0 77 (dk_at dksX9_next_4 0 rfl rfl)
theorem dX9_next_99 : decode cX9_next 99 = .ok (.ifCond .eq 110, 3) := dk_153 0 110 (dk_at dksX9_next_4 3 rfl rfl)
theorem dX9_next_102 : decode cX9_next 102 = .ok (.aload_n 0, 1) := dk_42 (dk_at dksX9_next_4 6 rfl rfl)
theorem dX9_next_103 : decode cX9_next 103 = .ok (.iconst 2, 1) := dk_5 (dk_at dksX9_next_4 7 rfl rfl)
theorem dX9_next_104 : decode cX9_next 104 = .ok (.putfield 64, 3) := dk_181 0 64 (dk_at dksX9_next_4 8 rfl rfl)
theorem dX9_next_107 : decode cX9_next 107 = .ok (.aload_n 0, 1) := dk_42 (dk_at dksX9_next_4 11 rfl rfl)
theorem dX9_next_108 : decode cX9_next 108 = .ok (.iconst 0, 1) := dk_3 (dk_at dksX9_next_4 12 rfl rfl)
theorem dX9_next_109 : decode cX9_next 109 = .ok (.putfield 81, 3) := dk_181 0 81 (dk_at dksX9_next_4 13 rfl rfl)
theorem dX9_next_112 : decode cX9_next 112 = .ok (.aload_n 0, 1) := dk_42 (dk_at dksX9_next_4 16 rfl rfl)
theorem dX9_next_113 : decode cX9_next 113 = .ok (.bipush 48, 2) := dk_16 48 (dk_at dksX9_next_4 17 rfl rfl)
theorem dX9_next_115 : decode cX9_next 115 = .ok (.bipush 57, 2) := dk_16 57 (dk_at dksX9_next_4 19 rfl rfl)
theorem dX9_next_117 : decode cX9_next 117 = .ok (.invokevirtual 77, 3) := dk_182 0 77 (dk_at dksX9_next_4 21 rfl rfl)
theorem dX9_next_120 : decode cX9_next 120 = .ok (.ifCond .eq 63, 3) := dk_153 0 63 (dk_at dksX9_next_5 0 rfl rfl)
theorem dX9_next_123 : decode cX9_next 123 = .ok (.aload_n 0, 1) := dk_42 (dk_at dksX9_next_5 3 rfl rfl)
theorem dX9_next_124 : decode cX9_next 124 = .ok (.aload_n 0, 1) := dk_42 (dk_at dksX9_next_5 4 rfl rfl)
theorem dX9_next_125 : decode cX9_next 125 = .ok (.getfield 29, 3) := dk_180 0 29 (dk_at dksX9_next_5 5 rfl rfl)
theorem dX9_next_128 : decode cX9_next 128 = .ok (.aload_n 0, 1) := dk_42 (dk_at dksX9_next_5 8 rfl rfl)
theorem dX9_next_129 : decode cX9_next 129 = .ok (.getfield 38, 3) := dk_180 0 38 (dk_at dksX9_next_5 9 rfl rfl)
theorem dX9_next_132 : decode cX9_next 132 = .ok (.isub, 1) := dk_100 (dk_at dksX9_next_5 12 rfl rfl)
theorem dX9_next_133 : decode cX9_next 133 = .ok (.iconst 2, 1) := dk_5 (dk_at dksX9_next_5 13 rfl rfl)
theorem dX9_next_134 : decode cX9_next 134 = .ok (.if_icmp .ge 29, 3) := dk_162 0 29 (dk_at dksX9_next_5 14 rfl rfl)
theorem dX9_next_137 : decode cX9_next 137 = .ok (.bipush 10, 2) := dk_16 10 (dk_at dksX9_next_5 17 rfl rfl)
theorem dX9_next_139 : decode cX9_next 139 = .ok (.aload_n 0, 1) := dk_42 (dk_at dksX9_next_5 19 rfl rfl)
theorem dX9_next_140 : decode cX9_next 140 = .ok (.getfield 81, 3) := dk_180 0 81 (dk_at dksX9_next_5 20 rfl rfl)
theorem dX9_next_143 : decode cX9_next 143 = .ok (.imul, 1) := dk_104 (dk_at dksX9_next_5 23 rfl rfl)
theorem dX9_next_144 : decode cX9_next 144 = .ok (.aload_n 0, 1) := dk_42 (dk_at dksX9_next_6 0 rfl rfl)
theorem dX9_next_145 : decode cX9_next 145 = .ok (.getfield 3, 3) := dk_180 0 3 (dk_at dksX9_next_6 1 rfl rfl)
theorem dX9_next_148 : decode cX9_next 148 = .ok (.getfield 32, 3) := dk_180 0 32 (dk_at dksX9_next_6 4 rfl rfl)
theorem dX9_next_151 : decode cX9_next 151 = .ok (.aload_n 0, 1) := dk_42 (dk_at dksX9_next_6 7 rfl rfl)
theorem dX9_next_152 : decode cX9_next 152 = .ok (.getfield 29, 3) := dk_180 0 29 (dk_at dksX9_next_6 8 rfl rfl)
theorem dX9_next_155 : decode cX9_next 155 = .ok (.baload, 1) := dk_51 (dk_at dksX9_next_6 11 rfl rfl)
theorem dX9_next_156 : decode cX9_next 156 = .ok (.iadd, 1) := dk_96 (dk_at dksX9_next_6 12 rfl rfl)
theorem dX9_next_157 : decode cX9_next 157 = .ok (.bipush 48, 2) := dk_16 48 (dk_at dksX9_next_6 13 rfl rfl)
theorem dX9_next_159 : decode cX9_next 159 = .ok (.isub, 1) := dk_100 (dk_at dksX9_next_6 15 rfl rfl)
theorem dX9_next_160 : decode cX9_next 160 = .ok (.goto 7, 3) := dk_167 0 7 (dk_at dksX9_next_6 16 rfl rfl)
theorem dX9_next_163 : decode cX9_next 163 = .ok (.aload_n 0, 1) := dk_42 (dk_at dksX9_next_6 19 rfl rfl)
theorem dX9_next_164 : decode cX9_next 164 = .ok (.getfield 81, 3) := dk_180 0 81 (dk_at dksX9_next_6 20 rfl rfl)
theorem dX9_next_167 : decode cX9_next 167 = .ok (.putfield 81, 3) := dk_181 0 81 (dk_at dksX9_next_7 0 rfl rfl)
theorem dX9_next_170 : decode cX9_next 170 = .ok (.aload_n 0, 1) := dk_42 (dk_at dksX9_next_7 3 rfl rfl)
theorem dX9_next_171 : decode cX9_next 171 = .ok (.dup, 1) := dk_89 (dk_at dksX9_next_7 4 rfl rfl)
theorem dX9_next_172 : decode cX9_next 172 = .ok (.getfield 29, 3) := dk_180 0 29 (dk_at dksX9_next_7 5 rfl rfl)
theorem dX9_next_175 : decode cX9_next 175 = .ok (.iconst 1, 1) := dk_4 (dk_at dksX9_next_7 8 rfl rfl)
theorem dX9_next_176 : decode cX9_next 176 = .ok (.iadd, 1) := dk_96 (dk_at dksX9_next_7 9 rfl rfl)
theorem dX9_next_177 : decode cX9_next 177 = .ok (.putfield 29, 3) := dk_181 0 29 (dk_at dksX9_next_7 10 rfl rfl)
theorem dX9_next_180 : decode cX9_next 180 = .ok (.goto (-68), 3) := dk_167 255 188 (dk_at dksX9_next_7 13 rfl rfl)
theorem dX9_next_183 : decode cX9_next 183 = .ok (.aload_n 0, 1) := dk_42 (dk_at dksX9_next_7 16 rfl rfl)
theorem dX9_next_184 : decode cX9_next 184 = .ok (.aload_n 0, 1) := dk_42 (dk_at dksX9_next_7 17 rfl rfl)
theorem dX9_next_185 : decode cX9_next 185 = .ok (.getfield 29, 3) := dk_180 0 29 (dk_at dksX9_next_7 18 rfl rfl)
theorem dX9_next_188 : decode cX9_next 188 = .ok (.aload_n 0, 1) := dk_42 (dk_at dksX9_next_7 21 rfl rfl)
theorem dX9_next_189 : decode cX9_next 189 = .ok (.getfield 38, 3) := dk_180 0 38 (dk_at dksX9_next_8 0 rfl rfl)
theorem dX9_next_192 : decode cX9_next 192 = .ok (.isub, 1) := dk_100 (dk_at dksX9_next_8 3 rfl rfl)
theorem dX9_next_193 : decode cX9_next 193 = .ok (.iconst 3, 1) := dk_6 (dk_at dksX9_next_8 4 rfl rfl)
theorem dX9_next_194 : decode cX9_next 194 = .ok (.if_icmp .ge 7, 3) := dk_162 0 7 (dk_at dksX9_next_8 5 rfl rfl)
theorem dX9_next_197 : decode cX9_next 197 = .ok (.iconst 1, 1) := dk_4 (dk_at dksX9_next_8 8 rfl rfl)
theorem dX9_next_198 : decode cX9_next 198 = .ok (.goto 4, 3) := dk_167 0 4 (dk_at dksX9_next_8 9 rfl rfl)
theorem dX9_next_201 : decode cX9_next 201 = .ok (.iconst 0, 1) := dk_3 (dk_at dksX9_next_8 12 rfl rfl)
theorem dX9_next_202 : decode cX9_next 202 = .ok (.iconst 1, 1) := dk_4 (dk_at dksX9_next_8 13 rfl rfl)
theorem dX9_next_203 : decode cX9_next 203 = .ok (.invokevirtual 84, 3) := dk_182 0 84 (dk_at dksX9_next_8 14 rfl rfl)
theorem dX9_next_206 : decode cX9_next 206 = .ok (.goto 31, 3) := dk_167 0 31 (dk_at dksX9_next_8 17 rfl rfl)
theorem dX9_next_209 : decode cX9_next 209 = .ok (.aload_n 0, 1) := dk_42 (dk_at dksX9_next_8 20 rfl rfl)
theorem dX9_next_210 : decode cX9_next 210 = .ok (.iconst 3, 1) := dk_6 (dk_at dksX9_next_8 21 rfl rfl)
theorem dX9_next_211 : decode cX9_next 211 = .ok (.putfield 64, 3) := dk_181 0 64 (dk_at dksX9_next_9 0 rfl rfl)
theorem dX9_next_214 : decode cX9_next 214 = .ok (.aload_n 0, 1) := dk_42 (dk_at dksX9_next_9 3 rfl rfl)
theorem dX9_next_215 : decode cX9_next 215 = .ok (.aload_n 0, 1) := dk_42 (dk_at dksX9_next_9 4 rfl rfl)
theorem dX9_next_216 : decode cX9_next 216 = .ok (.bipush 59, 2) := dk_16 59 (dk_at dksX9_next_9 5 rfl rfl)
theorem dX9_next_218 : decode cX9_next 218 = .ok (.bipush 59, 2) := dk_16 59 (dk_at dksX9_next_9 7 rfl rfl)
theorem dX9_next_220 : decode cX9_next 220 = .ok (.invokevirtual 77, 3) := dk_182 0 77 (dk_at dksX9_next_9 9 rfl rfl)
theorem dX9_next_223 : decode cX9_next 223 = .ok (.iconst 1, 1) := dk_4 (dk_at dksX9_next_9 12 rfl rfl)
theorem dX9_next_224 : decode cX9_next 224 = .ok (.invokevirtual 84, 3) := dk_182 0 84 (dk_at dksX9_next_9 13 rfl rfl)
theorem dX9_next_227 : decode cX9_next 227 = .ok (.aload_n 0, 1) := dk_42 (dk_at dksX9_next_9 16 rfl rfl)
theorem dX9_next_228 : decode cX9_next 228 = .ok (.dup, 1) := dk_89 (dk_at dksX9_next_9 17 rfl rfl)
theorem dX9_next_229 : decode cX9_next 229 = .ok (.getfield 29, 3) := dk_180 0 29 (dk_at dksX9_next_9 18 rfl rfl)
theorem dX9_next_232 : decode cX9_next 232 = .ok (.iconst 1, 1) := dk_4 (dk_at dksX9_next_9 21 rfl rfl)
theorem dX9_next_233 : decode cX9_next 233 = .ok (.iadd, 1) := dk_96 (dk_at dksX9_next_9 22 rfl rfl)
theorem dX9_next_234 : decode cX9_next 234 = .ok (.putfield 29, 3) := dk_181 0 29 (dk_at dksX9_next_10 0 rfl rfl)
theorem dX9_next_237 : decode cX9_next 237 = .ok (.return_, 1) := dk_177 (dk_at dksX9_next_10 3 rfl rfl)
abbrev cX9_isIn : ByteArray := prog_4_method_2_code
def yX9_isIn : MethodName := ⟨RX9, "isIn", "(CC)Z"⟩
def dkwX9_isIn_2 : List UInt8 := [172]
abbrev dktX9_isIn_2 : List UInt8 := dkwX9_isIn_2 ++ []
def dkwX9_isIn_1 : List UInt8 := [161, 0, 23, 42, 180, 0, 3, 180, 0, 32, 42, 180, 0, 29, 51, 28, 163, 0, 7, 4, 167, 0, 4, 3]
abbrev dktX9_isIn_1 : List UInt8 := dkwX9_isIn_1 ++ dktX9_isIn_2
def dkwX9_isIn_0 : List UInt8 := [42, 180, 0, 29, 42, 180, 0, 22, 162, 0, 39, 42, 180, 0, 3, 180, 0, 32, 42, 180, 0, 29, 51, 27]
abbrev dktX9_isIn_0 : List UInt8 := dkwX9_isIn_0 ++ dktX9_isIn_1
theorem dksX9_isIn_0 : cX9_isIn.data.toList.drop 0 = dktX9_isIn_0 := by decide +kernel
theorem dksX9_isIn_1 : cX9_isIn.data.toList.drop 24 = dktX9_isIn_1 := dk_seg dksX9_isIn_0 24 rfl rfl
theorem dksX9_isIn_2 : cX9_isIn.data.toList.drop 48 = dktX9_isIn_2 := dk_seg dksX9_isIn_1 24 rfl rfl
theorem dX9_isIn_0 : decode cX9_isIn 0 = .ok (.aload_n 0, 1) := dk_42 (dk_at dksX9_isIn_0 0 rfl rfl)
theorem dX9_isIn_1 : decode cX9_isIn 1 = .ok (.getfield 29, 3) := dk_180 0 29 (dk_at dksX9_isIn_0 1 rfl rfl)
theorem dX9_isIn_4 : decode cX9_isIn 4 = .ok (.aload_n 0, 1) := dk_42 (dk_at dksX9_isIn_0 4 rfl rfl)
theorem dX9_isIn_5 : decode cX9_isIn 5 = .ok (.getfield 22, 3) := dk_180 0 22 (dk_at dksX9_isIn_0 5 rfl rfl)
theorem dX9_isIn_8 : decode cX9_isIn 8 = .ok (.if_icmp .ge 39, 3) := dk_162 0 39 (dk_at dksX9_isIn_0 8 rfl rfl)
theorem dX9_isIn_11 : decode cX9_isIn 11 = .ok (.aload_n 0, 1) := dk_42 (dk_at dksX9_isIn_0 11 rfl rfl)
theorem dX9_isIn_12 : decode cX9_isIn 12 = .ok (.getfield 3, 3) := dk_180 0 3 (dk_at dksX9_isIn_0 12 rfl rfl)
theorem dX9_isIn_15 : decode cX9_isIn 15 = .ok (.getfield 32, 3) := dk_180 0 32 (dk_at dksX9_isIn_0 15 rfl rfl)
theorem dX9_isIn_18 : decode cX9_isIn 18 = .ok (.aload_n 0, 1) := dk_42 (dk_at dksX9_isIn_0 18 rfl rfl)
theorem dX9_isIn_19 : decode cX9_isIn 19 = .ok (.getfield 29, 3) := dk_180 0 29 (dk_at dksX9_isIn_0 19 rfl rfl)
theorem dX9_isIn_22 : decode cX9_isIn 22 = .ok (.baload, 1) := dk_51 (dk_at dksX9_isIn_0 22 rfl rfl)
theorem dX9_isIn_23 : decode cX9_isIn 23 = .ok (.iload_n 1, 1) := dk_27 (dk_at dksX9_isIn_0 23 rfl rfl)
theorem dX9_isIn_24 : decode cX9_isIn 24 = .ok (.if_icmp .lt 23, 3) := dk_161 0 23 (dk_at dksX9_isIn_1 0 rfl rfl)
theorem dX9_isIn_27 : decode cX9_isIn 27 = .ok (.aload_n 0, 1) := dk_42 (dk_at dksX9_isIn_1 3 rfl rfl)
theorem dX9_isIn_28 : decode cX9_isIn 28 = .ok (.getfield 3, 3) := dk_180 0 3 (dk_at dksX9_isIn_1 4 rfl rfl)
theorem dX9_isIn_31 : decode cX9_isIn 31 = .ok (.getfield 32, 3) := dk_180 0 32 (dk_at dksX9_isIn_1 7 rfl rfl)
theorem dX9_isIn_34 : decode cX9_isIn 34 = .ok (.aload_n 0, 1) := dk_42 (dk_at dksX9_isIn_1 10 rfl rfl)
theorem dX9_isIn_35 : decode cX9_isIn 35 = .ok (.getfield 29, 3) := dk_180 0 29 (dk_at dksX9_isIn_1 11 rfl rfl)
theorem dX9_isIn_38 : decode cX9_isIn 38 = .ok (.baload, 1) := dk_51 (dk_at dksX9_isIn_1 14 rfl rfl)
theorem dX9_isIn_39 : decode cX9_isIn 39 = .ok (.iload_n 2, 1) := dk_28 (dk_at dksX9_isIn_1 15 rfl rfl)
theorem dX9_isIn_40 : decode cX9_isIn 40 = .ok (.if_icmp .gt 7, 3) := dk_163 0 7 (dk_at dksX9_isIn_1 16 rfl rfl)
theorem dX9_isIn_43 : decode cX9_isIn 43 = .ok (.iconst 1, 1) := dk_4 (dk_at dksX9_isIn_1 19 rfl rfl)
theorem dX9_isIn_44 : decode cX9_isIn 44 = .ok (.goto 4, 3) := dk_167 0 4 (dk_at dksX9_isIn_1 20 rfl rfl)
theorem dX9_isIn_47 : decode cX9_isIn 47 = .ok (.iconst 0, 1) := dk_3 (dk_at dksX9_isIn_1 23 rfl rfl)
theorem dX9_isIn_48 : decode cX9_isIn 48 = .ok (.ireturn, 1) := dk_172 (dk_at dksX9_isIn_2 0 rfl rfl)
abbrev cX9_need : ByteArray := prog_4_method_3_code
def yX9_need : MethodName := ⟨RX9, "need", "(ZI)V"⟩
def dkwX9_need_0 : List UInt8 := [27, 154, 0, 16, 187, 0, 36, 89, 28, 42, 180, 0, 38, 183, 0, 41, 191, 177]
abbrev dktX9_need_0 : List UInt8 := dkwX9_need_0 ++ []
theorem dksX9_need_0 : cX9_need.data.toList.drop 0 = dktX9_need_0 := by decide +kernel
theorem dX9_need_0 : decode cX9_need 0 = .ok (.iload_n 1, 1) := dk_27 (dk_at dksX9_need_0 0 rfl rfl)
theorem dX9_need_1 : decode cX9_need 1 = .ok (.ifCond .ne 16, 3) := dk_154 0 16 (dk_at dksX9_need_0 1 rfl rfl)
theorem dX9_need_4 : decode cX9_need 4 = .ok (.new 36, 3) := dk_187 0 36 (dk_at dksX9_need_0 4 rfl rfl)
theorem dX9_need_7 : decode cX9_need 7 = .ok (.dup, 1) := dk_89 (dk_at dksX9_need_0 7 rfl rfl)
theorem dX9_need_8 : decode cX9_need 8 = .ok (.iload_n 2, 1) := dk_28 (dk_at dksX9_need_0 8 rfl rfl)
theorem dX9_need_9 : decode cX9_need 9 = .ok (.aload_n 0, 1) := dk_42 (dk_at dksX9_need_0 9 rfl rfl)
theorem dX9_need_10 : decode cX9_need 10 = .ok (.getfield 38, 3) := dk_180 0 38 (dk_at dksX9_need_0 10 rfl rfl)
theorem dX9_need_13 : decode cX9_need 13 = .ok (.invokespecial 41, 3) := dk_183 0 41 (dk_at dksX9_need_0 13 rfl rfl)
theorem dX9_need_16 : decode cX9_need 16 = .ok (.athrow, 1) := dk_191 (dk_at dksX9_need_0 16 rfl rfl)
theorem dX9_need_17 : decode cX9_need 17 = .ok (.return_, 1) := dk_177 (dk_at dksX9_need_0 17 rfl rfl)
abbrev cX9_lines : ByteArray := prog_4_method_10_code
def yX9_lines : MethodName := ⟨RX9, "lines", "()I"⟩
def dkwX9_lines_0 : List UInt8 := [3, 60, 42, 180, 0, 64, 153, 0, 13, 42, 182, 0, 125, 132, 1, 1, 167, 255, 242, 27, 172]
abbrev dktX9_lines_0 : List UInt8 := dkwX9_lines_0 ++ []
theorem dksX9_lines_0 : cX9_lines.data.toList.drop 0 = dktX9_lines_0 := by decide +kernel
theorem dX9_lines_0 : decode cX9_lines 0 = .ok (.iconst 0, 1) := dk_3 (dk_at dksX9_lines_0 0 rfl rfl)
theorem dX9_lines_1 : decode cX9_lines 1 = .ok (.istore_n 1, 1) := dk_60 (dk_at dksX9_lines_0 1 rfl rfl)
theorem dX9_lines_2 : decode cX9_lines 2 = .ok (.aload_n 0, 1) := dk_42 (dk_at dksX9_lines_0 2 rfl rfl)
theorem dX9_lines_3 : decode cX9_lines 3 = .ok (.getfield 64, 3) := dk_180 0 64 (dk_at dksX9_lines_0 3 rfl rfl)
theorem dX9_lines_6 : decode cX9_lines 6 = .ok (.ifCond .eq 13, 3) := dk_153 0 13 (dk_at dksX9_lines_0 6 rfl rfl)
theorem dX9_lines_9 : decode cX9_lines 9 = .ok (.aload_n 0, 1) := dk_42 (dk_at dksX9_lines_0 9 rfl rfl)
theorem dX9_lines_10 : decode cX9_lines 10 = .ok (.invokevirtual 125, 3) := dk_182 0 125 (dk_at dksX9_lines_0 10 rfl rfl)
theorem dX9_lines_13 : decode cX9_lines 13 = .ok (.iinc 1 1, 3) := dk_132 1 1 (dk_at dksX9_lines_0 13 rfl rfl)
theorem dX9_lines_16 : decode cX9_lines 16 = .ok (.goto (-14), 3) := dk_167 255 242 (dk_at dksX9_lines_0 16 rfl rfl)
theorem dX9_lines_19 : decode cX9_lines 19 = .ok (.iload_n 1, 1) := dk_27 (dk_at dksX9_lines_0 19 rfl rfl)
theorem dX9_lines_20 : decode cX9_lines 20 = .ok (.ireturn, 1) := dk_172 (dk_at dksX9_lines_0 20 rfl rfl)
abbrev cX9_line : ByteArray := prog_4_method_9_code
def yX9_line : MethodName := ⟨RX9, "line", "()V"⟩
def dkwX9_line_6 : List UInt8 := [42, 180, 0, 64, 6, 160, 0, 7, 4, 167, 0, 4, 3, 5, 182, 0, 84, 42, 182, 0, 26, 177]
abbrev dktX9_line_6 : List UInt8 := dkwX9_line_6 ++ []
def dkwX9_line_5 : List UInt8 := [27, 7, 160, 0, 7, 4, 167, 0, 4, 3, 128, 181, 0, 117, 42, 182, 0, 26, 42, 27, 182, 0, 121, 42]
abbrev dktX9_line_5 : List UInt8 := dkwX9_line_5 ++ dktX9_line_6
def dkwX9_line_4 : List UInt8 := [160, 0, 10, 42, 180, 0, 117, 154, 0, 7, 4, 167, 0, 4, 3, 7, 182, 0, 84, 42, 89, 180, 0, 117]
abbrev dktX9_line_4 : List UInt8 := dkwX9_line_4 ++ dktX9_line_5
def dkwX9_line_3 : List UInt8 := [180, 0, 18, 180, 0, 107, 16, 16, 162, 0, 7, 4, 167, 0, 4, 3, 8, 182, 0, 84, 42, 27, 7]
abbrev dktX9_line_3 : List UInt8 := dkwX9_line_3 ++ dktX9_line_4
def dkwX9_line_2 : List UInt8 := [180, 0, 114, 7, 162, 0, 7, 4, 167, 0, 4, 3, 8, 182, 0, 84, 42, 27, 8, 161, 0, 15, 42]
abbrev dktX9_line_2 : List UInt8 := dkwX9_line_2 ++ dktX9_line_3
def dkwX9_line_1 : List UInt8 := [16, 7, 163, 0, 7, 4, 167, 0, 4, 3, 5, 182, 0, 84, 42, 27, 7, 162, 0, 14, 42, 180, 0, 18]
abbrev dktX9_line_1 : List UInt8 := dkwX9_line_1 ++ dktX9_line_2
def dkwX9_line_0 : List UInt8 := [3, 60, 27, 16, 7, 163, 0, 17, 42, 27, 182, 0, 110, 154, 0, 9, 132, 1, 1, 167, 255, 239, 42, 27]
abbrev dktX9_line_0 : List UInt8 := dkwX9_line_0 ++ dktX9_line_1
theorem dksX9_line_0 : cX9_line.data.toList.drop 0 = dktX9_line_0 := by decide +kernel
theorem dksX9_line_1 : cX9_line.data.toList.drop 24 = dktX9_line_1 := dk_seg dksX9_line_0 24 rfl rfl
theorem dksX9_line_2 : cX9_line.data.toList.drop 48 = dktX9_line_2 := dk_seg dksX9_line_1 24 rfl rfl
theorem dksX9_line_3 : cX9_line.data.toList.drop 71 = dktX9_line_3 := dk_seg dksX9_line_2 23 rfl rfl
theorem dksX9_line_4 : cX9_line.data.toList.drop 94 = dktX9_line_4 := dk_seg dksX9_line_3 23 rfl rfl
theorem dksX9_line_5 : cX9_line.data.toList.drop 118 = dktX9_line_5 := dk_seg dksX9_line_4 24 rfl rfl
theorem dksX9_line_6 : cX9_line.data.toList.drop 142 = dktX9_line_6 := dk_seg dksX9_line_5 24 rfl rfl
theorem dX9_line_0 : decode cX9_line 0 = .ok (.iconst 0, 1) := dk_3 (dk_at dksX9_line_0 0 rfl rfl)
theorem dX9_line_1 : decode cX9_line 1 = .ok (.istore_n 1, 1) := dk_60 (dk_at dksX9_line_0 1 rfl rfl)
theorem dX9_line_2 : decode cX9_line 2 = .ok (.iload_n 1, 1) := dk_27 (dk_at dksX9_line_0 2 rfl rfl)
theorem dX9_line_3 : decode cX9_line 3 = .ok (.bipush 7, 2) := dk_16 7 (dk_at dksX9_line_0 3 rfl rfl)
theorem dX9_line_5 : decode cX9_line 5 = .ok (.if_icmp .gt 17, 3) := dk_163 0 17 (dk_at dksX9_line_0 5 rfl rfl)
theorem dX9_line_8 : decode cX9_line 8 = .ok (.aload_n 0, 1) := dk_42 (dk_at dksX9_line_0 8 rfl rfl)
theorem dX9_line_9 : decode cX9_line 9 = .ok (.iload_n 1, 1) := dk_27 (dk_at dksX9_line_0 9 rfl rfl)
theorem dX9_line_10 : decode cX9_line 10 = .ok (.invokevirtual 110, 3) := dk_182 0 110 (dk_at dksX9_line_0 10 rfl rfl)
theorem dX9_line_13 : decode cX9_line 13 = .ok (.ifCond .ne 9, 3) := dk_154 0 9 (dk_at dksX9_line_0 13 rfl rfl)
theorem dX9_line_16 : decode cX9_line 16 = .ok (.iinc 1 1, 3) := dk_132 1 1 (dk_at dksX9_line_0 16 rfl rfl)
theorem dX9_line_19 : decode cX9_line 19 = .ok (.goto (-17), 3) := dk_167 255 239 (dk_at dksX9_line_0 19 rfl rfl)
theorem dX9_line_22 : decode cX9_line 22 = .ok (.aload_n 0, 1) := dk_42 (dk_at dksX9_line_0 22 rfl rfl)
theorem dX9_line_23 : decode cX9_line 23 = .ok (.iload_n 1, 1) := dk_27 (dk_at dksX9_line_0 23 rfl rfl)
theorem dX9_line_24 : decode cX9_line 24 = .ok (.bipush 7, 2) := dk_16 7 (dk_at dksX9_line_1 0 rfl rfl)
theorem dX9_line_26 : decode cX9_line 26 = .ok (.if_icmp .gt 7, 3) := dk_163 0 7 (dk_at dksX9_line_1 2 rfl rfl)
theorem dX9_line_29 : decode cX9_line 29 = .ok (.iconst 1, 1) := dk_4 (dk_at dksX9_line_1 5 rfl rfl)
theorem dX9_line_30 : decode cX9_line 30 = .ok (.goto 4, 3) := dk_167 0 4 (dk_at dksX9_line_1 6 rfl rfl)
theorem dX9_line_33 : decode cX9_line 33 = .ok (.iconst 0, 1) := dk_3 (dk_at dksX9_line_1 9 rfl rfl)
theorem dX9_line_34 : decode cX9_line 34 = .ok (.iconst 2, 1) := dk_5 (dk_at dksX9_line_1 10 rfl rfl)
theorem dX9_line_35 : decode cX9_line 35 = .ok (.invokevirtual 84, 3) := dk_182 0 84 (dk_at dksX9_line_1 11 rfl rfl)
theorem dX9_line_38 : decode cX9_line 38 = .ok (.aload_n 0, 1) := dk_42 (dk_at dksX9_line_1 14 rfl rfl)
theorem dX9_line_39 : decode cX9_line 39 = .ok (.iload_n 1, 1) := dk_27 (dk_at dksX9_line_1 15 rfl rfl)
theorem dX9_line_40 : decode cX9_line 40 = .ok (.iconst 4, 1) := dk_7 (dk_at dksX9_line_1 16 rfl rfl)
theorem dX9_line_41 : decode cX9_line 41 = .ok (.if_icmp .ge 14, 3) := dk_162 0 14 (dk_at dksX9_line_1 17 rfl rfl)
theorem dX9_line_44 : decode cX9_line 44 = .ok (.aload_n 0, 1) := dk_42 (dk_at dksX9_line_1 20 rfl rfl)
theorem dX9_line_45 : decode cX9_line 45 = .ok (.getfield 18, 3) := dk_180 0 18 (dk_at dksX9_line_1 21 rfl rfl)
theorem dX9_line_48 : decode cX9_line 48 = .ok (.getfield 114, 3) := dk_180 0 114 (dk_at dksX9_line_2 0 rfl rfl)
theorem dX9_line_51 : decode cX9_line 51 = .ok (.iconst 4, 1) := dk_7 (dk_at dksX9_line_2 3 rfl rfl)
theorem dX9_line_52 : decode cX9_line 52 = .ok (.if_icmp .ge 7, 3) := dk_162 0 7 (dk_at dksX9_line_2 4 rfl rfl)
theorem dX9_line_55 : decode cX9_line 55 = .ok (.iconst 1, 1) := dk_4 (dk_at dksX9_line_2 7 rfl rfl)
theorem dX9_line_56 : decode cX9_line 56 = .ok (.goto 4, 3) := dk_167 0 4 (dk_at dksX9_line_2 8 rfl rfl)
theorem dX9_line_59 : decode cX9_line 59 = .ok (.iconst 0, 1) := dk_3 (dk_at dksX9_line_2 11 rfl rfl)
theorem dX9_line_60 : decode cX9_line 60 = .ok (.iconst 5, 1) := dk_8 (dk_at dksX9_line_2 12 rfl rfl)
theorem dX9_line_61 : decode cX9_line 61 = .ok (.invokevirtual 84, 3) := dk_182 0 84 (dk_at dksX9_line_2 13 rfl rfl)
theorem dX9_line_64 : decode cX9_line 64 = .ok (.aload_n 0, 1) := dk_42 (dk_at dksX9_line_2 16 rfl rfl)
theorem dX9_line_65 : decode cX9_line 65 = .ok (.iload_n 1, 1) := dk_27 (dk_at dksX9_line_2 17 rfl rfl)
theorem dX9_line_66 : decode cX9_line 66 = .ok (.iconst 5, 1) := dk_8 (dk_at dksX9_line_2 18 rfl rfl)
theorem dX9_line_67 : decode cX9_line 67 = .ok (.if_icmp .lt 15, 3) := dk_161 0 15 (dk_at dksX9_line_2 19 rfl rfl)
theorem dX9_line_70 : decode cX9_line 70 = .ok (.aload_n 0, 1) := dk_42 (dk_at dksX9_line_2 22 rfl rfl)
theorem dX9_line_71 : decode cX9_line 71 = .ok (.getfield 18, 3) := dk_180 0 18 (dk_at dksX9_line_3 0 rfl rfl)
theorem dX9_line_74 : decode cX9_line 74 = .ok (.getfield 107, 3) := dk_180 0 107 (dk_at dksX9_line_3 3 rfl rfl)
theorem dX9_line_77 : decode cX9_line 77 = .ok (.bipush 16, 2) := dk_16 16 (dk_at dksX9_line_3 6 rfl rfl)
theorem dX9_line_79 : decode cX9_line 79 = .ok (.if_icmp .ge 7, 3) := dk_162 0 7 (dk_at dksX9_line_3 8 rfl rfl)
theorem dX9_line_82 : decode cX9_line 82 = .ok (.iconst 1, 1) := dk_4 (dk_at dksX9_line_3 11 rfl rfl)
theorem dX9_line_83 : decode cX9_line 83 = .ok (.goto 4, 3) := dk_167 0 4 (dk_at dksX9_line_3 12 rfl rfl)
theorem dX9_line_86 : decode cX9_line 86 = .ok (.iconst 0, 1) := dk_3 (dk_at dksX9_line_3 15 rfl rfl)
theorem dX9_line_87 : decode cX9_line 87 = .ok (.iconst 5, 1) := dk_8 (dk_at dksX9_line_3 16 rfl rfl)
theorem dX9_line_88 : decode cX9_line 88 = .ok (.invokevirtual 84, 3) := dk_182 0 84 (dk_at dksX9_line_3 17 rfl rfl)
theorem dX9_line_91 : decode cX9_line 91 = .ok (.aload_n 0, 1) := dk_42 (dk_at dksX9_line_3 20 rfl rfl)
theorem dX9_line_92 : decode cX9_line 92 = .ok (.iload_n 1, 1) := dk_27 (dk_at dksX9_line_3 21 rfl rfl)
theorem dX9_line_93 : decode cX9_line 93 = .ok (.iconst 4, 1) := dk_7 (dk_at dksX9_line_3 22 rfl rfl)
theorem dX9_line_94 : decode cX9_line 94 = .ok (.if_icmp .ne 10, 3) := dk_160 0 10 (dk_at dksX9_line_4 0 rfl rfl)
theorem dX9_line_97 : decode cX9_line 97 = .ok (.aload_n 0, 1) := dk_42 (dk_at dksX9_line_4 3 rfl rfl)
theorem dX9_line_98 : decode cX9_line 98 = .ok (.getfield 117, 3) := dk_180 0 117 (dk_at dksX9_line_4 4 rfl rfl)
theorem dX9_line_101 : decode cX9_line 101 = .ok (.ifCond .ne 7, 3) := dk_154 0 7 (dk_at dksX9_line_4 7 rfl rfl)
theorem dX9_line_104 : decode cX9_line 104 = .ok (.iconst 1, 1) := dk_4 (dk_at dksX9_line_4 10 rfl rfl)
theorem dX9_line_105 : decode cX9_line 105 = .ok (.goto 4, 3) := dk_167 0 4 (dk_at dksX9_line_4 11 rfl rfl)
theorem dX9_line_108 : decode cX9_line 108 = .ok (.iconst 0, 1) := dk_3 (dk_at dksX9_line_4 14 rfl rfl)
theorem dX9_line_109 : decode cX9_line 109 = .ok (.iconst 4, 1) := dk_7 (dk_at dksX9_line_4 15 rfl rfl)
theorem dX9_line_110 : decode cX9_line 110 = .ok (.invokevirtual 84, 3) := dk_182 0 84 (dk_at dksX9_line_4 16 rfl rfl)
theorem dX9_line_113 : decode cX9_line 113 = .ok (.aload_n 0, 1) := dk_42 (dk_at dksX9_line_4 19 rfl rfl)
theorem dX9_line_114 : decode cX9_line 114 = .ok (.dup, 1) := dk_89 (dk_at dksX9_line_4 20 rfl rfl)
theorem dX9_line_115 : decode cX9_line 115 = .ok (.getfield 117, 3) := dk_180 0 117 (dk_at dksX9_line_4 21 rfl rfl)
theorem dX9_line_118 : decode cX9_line 118 = .ok (.iload_n 1, 1) := dk_27 (dk_at dksX9_line_5 0 rfl rfl)
theorem dX9_line_119 : decode cX9_line 119 = .ok (.iconst 4, 1) := dk_7 (dk_at dksX9_line_5 1 rfl rfl)
theorem dX9_line_120 : decode cX9_line 120 = .ok (.if_icmp .ne 7, 3) := dk_160 0 7 (dk_at dksX9_line_5 2 rfl rfl)
theorem dX9_line_123 : decode cX9_line 123 = .ok (.iconst 1, 1) := dk_4 (dk_at dksX9_line_5 5 rfl rfl)
theorem dX9_line_124 : decode cX9_line 124 = .ok (.goto 4, 3) := dk_167 0 4 (dk_at dksX9_line_5 6 rfl rfl)
theorem dX9_line_127 : decode cX9_line 127 = .ok (.iconst 0, 1) := dk_3 (dk_at dksX9_line_5 9 rfl rfl)
theorem dX9_line_128 : decode cX9_line 128 = .ok (.ior, 1) := dk_128 (dk_at dksX9_line_5 10 rfl rfl)
theorem dX9_line_129 : decode cX9_line 129 = .ok (.putfield 117, 3) := dk_181 0 117 (dk_at dksX9_line_5 11 rfl rfl)
theorem dX9_line_132 : decode cX9_line 132 = .ok (.aload_n 0, 1) := dk_42 (dk_at dksX9_line_5 14 rfl rfl)
theorem dX9_line_133 : decode cX9_line 133 = .ok (.invokevirtual 26, 3) := dk_182 0 26 (dk_at dksX9_line_5 15 rfl rfl)
theorem dX9_line_136 : decode cX9_line 136 = .ok (.aload_n 0, 1) := dk_42 (dk_at dksX9_line_5 18 rfl rfl)
theorem dX9_line_137 : decode cX9_line 137 = .ok (.iload_n 1, 1) := dk_27 (dk_at dksX9_line_5 19 rfl rfl)
theorem dX9_line_138 : decode cX9_line 138 = .ok (.invokevirtual 121, 3) := dk_182 0 121 (dk_at dksX9_line_5 20 rfl rfl)
theorem dX9_line_141 : decode cX9_line 141 = .ok (.aload_n 0, 1) := dk_42 (dk_at dksX9_line_5 23 rfl rfl)
theorem dX9_line_142 : decode cX9_line 142 = .ok (.aload_n 0, 1) := dk_42 (dk_at dksX9_line_6 0 rfl rfl)
theorem dX9_line_143 : decode cX9_line 143 = .ok (.getfield 64, 3) := dk_180 0 64 (dk_at dksX9_line_6 1 rfl rfl)
theorem dX9_line_146 : decode cX9_line 146 = .ok (.iconst 3, 1) := dk_6 (dk_at dksX9_line_6 4 rfl rfl)
theorem dX9_line_147 : decode cX9_line 147 = .ok (.if_icmp .ne 7, 3) := dk_160 0 7 (dk_at dksX9_line_6 5 rfl rfl)
theorem dX9_line_150 : decode cX9_line 150 = .ok (.iconst 1, 1) := dk_4 (dk_at dksX9_line_6 8 rfl rfl)
theorem dX9_line_151 : decode cX9_line 151 = .ok (.goto 4, 3) := dk_167 0 4 (dk_at dksX9_line_6 9 rfl rfl)
theorem dX9_line_154 : decode cX9_line 154 = .ok (.iconst 0, 1) := dk_3 (dk_at dksX9_line_6 12 rfl rfl)
theorem dX9_line_155 : decode cX9_line 155 = .ok (.iconst 2, 1) := dk_5 (dk_at dksX9_line_6 13 rfl rfl)
theorem dX9_line_156 : decode cX9_line 156 = .ok (.invokevirtual 84, 3) := dk_182 0 84 (dk_at dksX9_line_6 14 rfl rfl)
theorem dX9_line_159 : decode cX9_line 159 = .ok (.aload_n 0, 1) := dk_42 (dk_at dksX9_line_6 17 rfl rfl)
theorem dX9_line_160 : decode cX9_line 160 = .ok (.invokevirtual 26, 3) := dk_182 0 26 (dk_at dksX9_line_6 18 rfl rfl)
theorem dX9_line_163 : decode cX9_line 163 = .ok (.return_, 1) := dk_177 (dk_at dksX9_line_6 21 rfl rfl)
abbrev cX9_is : ByteArray := prog_4_method_5_code
def yX9_is : MethodName := ⟨RX9, "is", "(I)Z"⟩
def dkwX9_is_3 : List UInt8 := [182, 0, 73, 160, 0, 7, 4, 167, 0, 4, 3, 62, 132, 4, 1, 167, 255, 210, 29, 172]
abbrev dktX9_is_3 : List UInt8 := dkwX9_is_3 ++ []
def dkwX9_is_2 : List UInt8 := [182, 0, 67, 162, 0, 39, 42, 180, 0, 3, 180, 0, 32, 42, 180, 0, 38, 21, 4, 96, 51, 44, 21, 4]
abbrev dktX9_is_2 : List UInt8 := dkwX9_is_2 ++ dktX9_is_3
def dkwX9_is_1 : List UInt8 := [182, 0, 67, 160, 0, 7, 4, 167, 0, 4, 3, 62, 3, 54, 4, 29, 153, 0, 48, 21, 4, 44]
abbrev dktX9_is_1 : List UInt8 := dkwX9_is_1 ++ dktX9_is_2
def dkwX9_is_0 : List UInt8 := [42, 27, 182, 0, 60, 77, 42, 180, 0, 64, 4, 160, 0, 23, 42, 180, 0, 29, 42, 180, 0, 38, 100, 44]
abbrev dktX9_is_0 : List UInt8 := dkwX9_is_0 ++ dktX9_is_1
theorem dksX9_is_0 : cX9_is.data.toList.drop 0 = dktX9_is_0 := by decide +kernel
theorem dksX9_is_1 : cX9_is.data.toList.drop 24 = dktX9_is_1 := dk_seg dksX9_is_0 24 rfl rfl
theorem dksX9_is_2 : cX9_is.data.toList.drop 46 = dktX9_is_2 := dk_seg dksX9_is_1 22 rfl rfl
theorem dksX9_is_3 : cX9_is.data.toList.drop 70 = dktX9_is_3 := dk_seg dksX9_is_2 24 rfl rfl
theorem dX9_is_0 : decode cX9_is 0 = .ok (.aload_n 0, 1) := dk_42 (dk_at dksX9_is_0 0 rfl rfl)
theorem dX9_is_1 : decode cX9_is 1 = .ok (.iload_n 1, 1) := dk_27 (dk_at dksX9_is_0 1 rfl rfl)
theorem dX9_is_2 : decode cX9_is 2 = .ok (.invokevirtual 60, 3) := dk_182 0 60 (dk_at dksX9_is_0 2 rfl rfl)
theorem dX9_is_5 : decode cX9_is 5 = .ok (.astore_n 2, 1) := dk_77 (dk_at dksX9_is_0 5 rfl rfl)
theorem dX9_is_6 : decode cX9_is 6 = .ok (.aload_n 0, 1) := dk_42 (dk_at dksX9_is_0 6 rfl rfl)
theorem dX9_is_7 : decode cX9_is 7 = .ok (.getfield 64, 3) := dk_180 0 64 (dk_at dksX9_is_0 7 rfl rfl)
theorem dX9_is_10 : decode cX9_is 10 = .ok (.iconst 1, 1) := dk_4 (dk_at dksX9_is_0 10 rfl rfl)
theorem dX9_is_11 : decode cX9_is 11 = .ok (.if_icmp .ne 23, 3) := dk_160 0 23 (dk_at dksX9_is_0 11 rfl rfl)
theorem dX9_is_14 : decode cX9_is 14 = .ok (.aload_n 0, 1) := dk_42 (dk_at dksX9_is_0 14 rfl rfl)
theorem dX9_is_15 : decode cX9_is 15 = .ok (.getfield 29, 3) := dk_180 0 29 (dk_at dksX9_is_0 15 rfl rfl)
theorem dX9_is_18 : decode cX9_is 18 = .ok (.aload_n 0, 1) := dk_42 (dk_at dksX9_is_0 18 rfl rfl)
theorem dX9_is_19 : decode cX9_is 19 = .ok (.getfield 38, 3) := dk_180 0 38 (dk_at dksX9_is_0 19 rfl rfl)
theorem dX9_is_22 : decode cX9_is 22 = .ok (.isub, 1) := dk_100 (dk_at dksX9_is_0 22 rfl rfl)
theorem dX9_is_23 : decode cX9_is 23 = .ok (.aload_n 2, 1) := dk_44 (dk_at dksX9_is_0 23 rfl rfl)
theorem dX9_is_24 : decode cX9_is 24 = .ok (.invokevirtual 67, 3) := dk_182 0 67 (dk_at dksX9_is_1 0 rfl rfl)
theorem dX9_is_27 : decode cX9_is 27 = .ok (.if_icmp .ne 7, 3) := dk_160 0 7 (dk_at dksX9_is_1 3 rfl rfl)
theorem dX9_is_30 : decode cX9_is 30 = .ok (.iconst 1, 1) := dk_4 (dk_at dksX9_is_1 6 rfl rfl)
theorem dX9_is_31 : decode cX9_is 31 = .ok (.goto 4, 3) := dk_167 0 4 (dk_at dksX9_is_1 7 rfl rfl)
theorem dX9_is_34 : decode cX9_is 34 = .ok (.iconst 0, 1) := dk_3 (dk_at dksX9_is_1 10 rfl rfl)
theorem dX9_is_35 : decode cX9_is 35 = .ok (.istore_n 3, 1) := dk_62 (dk_at dksX9_is_1 11 rfl rfl)
theorem dX9_is_36 : decode cX9_is 36 = .ok (.iconst 0, 1) := dk_3 (dk_at dksX9_is_1 12 rfl rfl)
theorem dX9_is_37 : decode cX9_is 37 = .ok (.istore 4, 2) := dk_54 4 (dk_at dksX9_is_1 13 rfl rfl)
theorem dX9_is_39 : decode cX9_is 39 = .ok (.iload_n 3, 1) := dk_29 (dk_at dksX9_is_1 15 rfl rfl)
theorem dX9_is_40 : decode cX9_is 40 = .ok (.ifCond .eq 48, 3) := dk_153 0 48 (dk_at dksX9_is_1 16 rfl rfl)
theorem dX9_is_43 : decode cX9_is 43 = .ok (.iload 4, 2) := dk_21 4 (dk_at dksX9_is_1 19 rfl rfl)
theorem dX9_is_45 : decode cX9_is 45 = .ok (.aload_n 2, 1) := dk_44 (dk_at dksX9_is_1 21 rfl rfl)
theorem dX9_is_46 : decode cX9_is 46 = .ok (.invokevirtual 67, 3) := dk_182 0 67 (dk_at dksX9_is_2 0 rfl rfl)
theorem dX9_is_49 : decode cX9_is 49 = .ok (.if_icmp .ge 39, 3) := dk_162 0 39 (dk_at dksX9_is_2 3 rfl rfl)
theorem dX9_is_52 : decode cX9_is 52 = .ok (.aload_n 0, 1) := dk_42 (dk_at dksX9_is_2 6 rfl rfl)
theorem dX9_is_53 : decode cX9_is 53 = .ok (.getfield 3, 3) := dk_180 0 3 (dk_at dksX9_is_2 7 rfl rfl)
theorem dX9_is_56 : decode cX9_is 56 = .ok (.getfield 32, 3) := dk_180 0 32 (dk_at dksX9_is_2 10 rfl rfl)
theorem dX9_is_59 : decode cX9_is 59 = .ok (.aload_n 0, 1) := dk_42 (dk_at dksX9_is_2 13 rfl rfl)
theorem dX9_is_60 : decode cX9_is 60 = .ok (.getfield 38, 3) := dk_180 0 38 (dk_at dksX9_is_2 14 rfl rfl)
theorem dX9_is_63 : decode cX9_is 63 = .ok (.iload 4, 2) := dk_21 4 (dk_at dksX9_is_2 17 rfl rfl)
theorem dX9_is_65 : decode cX9_is 65 = .ok (.iadd, 1) := dk_96 (dk_at dksX9_is_2 19 rfl rfl)
theorem dX9_is_66 : decode cX9_is 66 = .ok (.baload, 1) := dk_51 (dk_at dksX9_is_2 20 rfl rfl)
theorem dX9_is_67 : decode cX9_is 67 = .ok (.aload_n 2, 1) := dk_44 (dk_at dksX9_is_2 21 rfl rfl)
theorem dX9_is_68 : decode cX9_is 68 = .ok (.iload 4, 2) := dk_21 4 (dk_at dksX9_is_2 22 rfl rfl)
theorem dX9_is_70 : decode cX9_is 70 = .ok (.invokevirtual 73, 3) := dk_182 0 73 (dk_at dksX9_is_3 0 rfl rfl)
theorem dX9_is_73 : decode cX9_is 73 = .ok (.if_icmp .ne 7, 3) := dk_160 0 7 (dk_at dksX9_is_3 3 rfl rfl)
theorem dX9_is_76 : decode cX9_is 76 = .ok (.iconst 1, 1) := dk_4 (dk_at dksX9_is_3 6 rfl rfl)
theorem dX9_is_77 : decode cX9_is 77 = .ok (.goto 4, 3) := dk_167 0 4 (dk_at dksX9_is_3 7 rfl rfl)
theorem dX9_is_80 : decode cX9_is 80 = .ok (.iconst 0, 1) := dk_3 (dk_at dksX9_is_3 10 rfl rfl)
theorem dX9_is_81 : decode cX9_is 81 = .ok (.istore_n 3, 1) := dk_62 (dk_at dksX9_is_3 11 rfl rfl)
theorem dX9_is_82 : decode cX9_is 82 = .ok (.iinc 4 1, 3) := dk_132 4 1 (dk_at dksX9_is_3 12 rfl rfl)
theorem dX9_is_85 : decode cX9_is 85 = .ok (.goto (-46), 3) := dk_167 255 210 (dk_at dksX9_is_3 15 rfl rfl)
theorem dX9_is_88 : decode cX9_is 88 = .ok (.iload_n 3, 1) := dk_29 (dk_at dksX9_is_3 18 rfl rfl)
theorem dX9_is_89 : decode cX9_is 89 = .ok (.ireturn, 1) := dk_172 (dk_at dksX9_is_3 19 rfl rfl)
abbrev cX9_name : ByteArray := prog_4_method_4_code
def yX9_name : MethodName := ⟨RX9, "name", "(I)Ljava/lang/String;"⟩
def dkwX9_name_2 : List UInt8 := [18, 44, 176, 18, 46, 176, 18, 48, 176, 18, 50, 176, 18, 52, 176, 18, 54, 176, 18, 56, 176, 18, 58, 176]
abbrev dktX9_name_2 : List UInt8 := dkwX9_name_2 ++ []
def dkwX9_name_1 : List UInt8 := [170, 0, 0, 0, 0, 0, 68, 0, 0, 0, 0, 0, 0, 0, 7, 0, 0, 0, 47, 0, 0, 0, 50, 0, 0, 0, 53, 0, 0, 0, 56, 0, 0, 0, 59, 0, 0, 0, 62, 0, 0, 0, 68, 0, 0, 0, 65]
abbrev dktX9_name_1 : List UInt8 := dkwX9_name_1 ++ dktX9_name_2
def dkwX9_name_0 : List UInt8 := [27]
abbrev dktX9_name_0 : List UInt8 := dkwX9_name_0 ++ dktX9_name_1
theorem dksX9_name_0 : cX9_name.data.toList.drop 0 = dktX9_name_0 := by decide +kernel
theorem dksX9_name_1 : cX9_name.data.toList.drop 1 = dktX9_name_1 := dk_seg dksX9_name_0 1 rfl rfl
theorem dksX9_name_2 : cX9_name.data.toList.drop 48 = dktX9_name_2 := dk_seg dksX9_name_1 47 rfl rfl
theorem dX9_name_0 : decode cX9_name 0 = .ok (.iload_n 1, 1) := dk_27 (dk_at dksX9_name_0 0 rfl rfl)
theorem dX9_name_1 : decode cX9_name 1 = .ok (.tableswitch 68 0 7 #[47, 50, 53, 56, 59, 62, 68, 65], 47) := by decide +kernel
theorem dX9_name_48 : decode cX9_name 48 = .ok (.ldc 44, 2) := dk_18 44 (dk_at dksX9_name_2 0 rfl rfl)
theorem dX9_name_50 : decode cX9_name 50 = .ok (.areturn, 1) := dk_176 (dk_at dksX9_name_2 2 rfl rfl)
theorem dX9_name_51 : decode cX9_name 51 = .ok (.ldc 46, 2) := dk_18 46 (dk_at dksX9_name_2 3 rfl rfl)
theorem dX9_name_53 : decode cX9_name 53 = .ok (.areturn, 1) := dk_176 (dk_at dksX9_name_2 5 rfl rfl)
theorem dX9_name_54 : decode cX9_name 54 = .ok (.ldc 48, 2) := dk_18 48 (dk_at dksX9_name_2 6 rfl rfl)
theorem dX9_name_56 : decode cX9_name 56 = .ok (.areturn, 1) := dk_176 (dk_at dksX9_name_2 8 rfl rfl)
theorem dX9_name_57 : decode cX9_name 57 = .ok (.ldc 50, 2) := dk_18 50 (dk_at dksX9_name_2 9 rfl rfl)
theorem dX9_name_59 : decode cX9_name 59 = .ok (.areturn, 1) := dk_176 (dk_at dksX9_name_2 11 rfl rfl)
theorem dX9_name_60 : decode cX9_name 60 = .ok (.ldc 52, 2) := dk_18 52 (dk_at dksX9_name_2 12 rfl rfl)
theorem dX9_name_62 : decode cX9_name 62 = .ok (.areturn, 1) := dk_176 (dk_at dksX9_name_2 14 rfl rfl)
theorem dX9_name_63 : decode cX9_name 63 = .ok (.ldc 54, 2) := dk_18 54 (dk_at dksX9_name_2 15 rfl rfl)
theorem dX9_name_65 : decode cX9_name 65 = .ok (.areturn, 1) := dk_176 (dk_at dksX9_name_2 17 rfl rfl)
theorem dX9_name_66 : decode cX9_name 66 = .ok (.ldc 56, 2) := dk_18 56 (dk_at dksX9_name_2 18 rfl rfl)
theorem dX9_name_68 : decode cX9_name 68 = .ok (.areturn, 1) := dk_176 (dk_at dksX9_name_2 20 rfl rfl)
theorem dX9_name_69 : decode cX9_name 69 = .ok (.ldc 58, 2) := dk_18 58 (dk_at dksX9_name_2 21 rfl rfl)
theorem dX9_name_71 : decode cX9_name 71 = .ok (.areturn, 1) := dk_176 (dk_at dksX9_name_2 23 rfl rfl)
abbrev cX9_told : ByteArray := prog_4_method_8_code
def yX9_told : MethodName := ⟨RX9, "told", "(I)V"⟩
def dkwX9_told_4 : List UInt8 := [180, 0, 18, 89, 180, 0, 107, 4, 96, 181, 0, 107, 177]
abbrev dktX9_told_4 : List UInt8 := dkwX9_told_4 ++ []
def dkwX9_told_3 : List UInt8 := [100, 104, 42, 3, 27, 16, 7, 160, 0, 7, 6, 167, 0, 5, 16, 99, 182, 0, 92, 96, 147, 86, 42]
abbrev dktX9_told_3 : List UInt8 := dkwX9_told_3 ++ dktX9_told_4
def dkwX9_told_2 : List UInt8 := [182, 0, 99, 167, 0, 56, 42, 180, 0, 18, 180, 0, 103, 42, 180, 0, 18, 180, 0, 107, 16, 100, 27, 8]
abbrev dktX9_told_2 : List UInt8 := dkwX9_told_2 ++ dktX9_told_3
def dkwX9_told_1 : List UInt8 := [162, 0, 30, 42, 4, 16, 20, 182, 0, 92, 61, 42, 180, 0, 18, 27, 28, 42, 3, 16, 9, 182, 0, 92]
abbrev dktX9_told_1 : List UInt8 := dkwX9_told_1 ++ dktX9_told_2
def dkwX9_told_0 : List UInt8 := [27, 7, 160, 0, 20, 42, 180, 0, 18, 42, 4, 16, 20, 182, 0, 92, 181, 0, 96, 167, 0, 88, 27, 7]
abbrev dktX9_told_0 : List UInt8 := dkwX9_told_0 ++ dktX9_told_1
theorem dksX9_told_0 : cX9_told.data.toList.drop 0 = dktX9_told_0 := by decide +kernel
theorem dksX9_told_1 : cX9_told.data.toList.drop 24 = dktX9_told_1 := dk_seg dksX9_told_0 24 rfl rfl
theorem dksX9_told_2 : cX9_told.data.toList.drop 48 = dktX9_told_2 := dk_seg dksX9_told_1 24 rfl rfl
theorem dksX9_told_3 : cX9_told.data.toList.drop 72 = dktX9_told_3 := dk_seg dksX9_told_2 24 rfl rfl
theorem dksX9_told_4 : cX9_told.data.toList.drop 95 = dktX9_told_4 := dk_seg dksX9_told_3 23 rfl rfl
theorem dX9_told_0 : decode cX9_told 0 = .ok (.iload_n 1, 1) := dk_27 (dk_at dksX9_told_0 0 rfl rfl)
theorem dX9_told_1 : decode cX9_told 1 = .ok (.iconst 4, 1) := dk_7 (dk_at dksX9_told_0 1 rfl rfl)
theorem dX9_told_2 : decode cX9_told 2 = .ok (.if_icmp .ne 20, 3) := dk_160 0 20 (dk_at dksX9_told_0 2 rfl rfl)
theorem dX9_told_5 : decode cX9_told 5 = .ok (.aload_n 0, 1) := dk_42 (dk_at dksX9_told_0 5 rfl rfl)
theorem dX9_told_6 : decode cX9_told 6 = .ok (.getfield 18, 3) := dk_180 0 18 (dk_at dksX9_told_0 6 rfl rfl)
theorem dX9_told_9 : decode cX9_told 9 = .ok (.aload_n 0, 1) := dk_42 (dk_at dksX9_told_0 9 rfl rfl)
theorem dX9_told_10 : decode cX9_told 10 = .ok (.iconst 1, 1) := dk_4 (dk_at dksX9_told_0 10 rfl rfl)
theorem dX9_told_11 : decode cX9_told 11 = .ok (.bipush 20, 2) := dk_16 20 (dk_at dksX9_told_0 11 rfl rfl)
theorem dX9_told_13 : decode cX9_told 13 = .ok (.invokevirtual 92, 3) := dk_182 0 92 (dk_at dksX9_told_0 13 rfl rfl)
theorem dX9_told_16 : decode cX9_told 16 = .ok (.putfield 96, 3) := dk_181 0 96 (dk_at dksX9_told_0 16 rfl rfl)
theorem dX9_told_19 : decode cX9_told 19 = .ok (.goto 88, 3) := dk_167 0 88 (dk_at dksX9_told_0 19 rfl rfl)
theorem dX9_told_22 : decode cX9_told 22 = .ok (.iload_n 1, 1) := dk_27 (dk_at dksX9_told_0 22 rfl rfl)
theorem dX9_told_23 : decode cX9_told 23 = .ok (.iconst 4, 1) := dk_7 (dk_at dksX9_told_0 23 rfl rfl)
theorem dX9_told_24 : decode cX9_told 24 = .ok (.if_icmp .ge 30, 3) := dk_162 0 30 (dk_at dksX9_told_1 0 rfl rfl)
theorem dX9_told_27 : decode cX9_told 27 = .ok (.aload_n 0, 1) := dk_42 (dk_at dksX9_told_1 3 rfl rfl)
theorem dX9_told_28 : decode cX9_told 28 = .ok (.iconst 1, 1) := dk_4 (dk_at dksX9_told_1 4 rfl rfl)
theorem dX9_told_29 : decode cX9_told 29 = .ok (.bipush 20, 2) := dk_16 20 (dk_at dksX9_told_1 5 rfl rfl)
theorem dX9_told_31 : decode cX9_told 31 = .ok (.invokevirtual 92, 3) := dk_182 0 92 (dk_at dksX9_told_1 7 rfl rfl)
theorem dX9_told_34 : decode cX9_told 34 = .ok (.istore_n 2, 1) := dk_61 (dk_at dksX9_told_1 10 rfl rfl)
theorem dX9_told_35 : decode cX9_told 35 = .ok (.aload_n 0, 1) := dk_42 (dk_at dksX9_told_1 11 rfl rfl)
theorem dX9_told_36 : decode cX9_told 36 = .ok (.getfield 18, 3) := dk_180 0 18 (dk_at dksX9_told_1 12 rfl rfl)
theorem dX9_told_39 : decode cX9_told 39 = .ok (.iload_n 1, 1) := dk_27 (dk_at dksX9_told_1 15 rfl rfl)
theorem dX9_told_40 : decode cX9_told 40 = .ok (.iload_n 2, 1) := dk_28 (dk_at dksX9_told_1 16 rfl rfl)
theorem dX9_told_41 : decode cX9_told 41 = .ok (.aload_n 0, 1) := dk_42 (dk_at dksX9_told_1 17 rfl rfl)
theorem dX9_told_42 : decode cX9_told 42 = .ok (.iconst 0, 1) := dk_3 (dk_at dksX9_told_1 18 rfl rfl)
theorem dX9_told_43 : decode cX9_told 43 = .ok (.bipush 9, 2) := dk_16 9 (dk_at dksX9_told_1 19 rfl rfl)
theorem dX9_told_45 : decode cX9_told 45 = .ok (.invokevirtual 92, 3) := dk_182 0 92 (dk_at dksX9_told_1 21 rfl rfl)
theorem dX9_told_48 : decode cX9_told 48 = .ok (.invokevirtual 99, 3) := dk_182 0 99 (dk_at dksX9_told_2 0 rfl rfl)
theorem dX9_told_51 : decode cX9_told 51 = .ok (.goto 56, 3) := dk_167 0 56 (dk_at dksX9_told_2 3 rfl rfl)
theorem dX9_told_54 : decode cX9_told 54 = .ok (.aload_n 0, 1) := dk_42 (dk_at dksX9_told_2 6 rfl rfl)
theorem dX9_told_55 : decode cX9_told 55 = .ok (.getfield 18, 3) := dk_180 0 18 (dk_at dksX9_told_2 7 rfl rfl)
theorem dX9_told_58 : decode cX9_told 58 = .ok (.getfield 103, 3) := dk_180 0 103 (dk_at dksX9_told_2 10 rfl rfl)
theorem dX9_told_61 : decode cX9_told 61 = .ok (.aload_n 0, 1) := dk_42 (dk_at dksX9_told_2 13 rfl rfl)
theorem dX9_told_62 : decode cX9_told 62 = .ok (.getfield 18, 3) := dk_180 0 18 (dk_at dksX9_told_2 14 rfl rfl)
theorem dX9_told_65 : decode cX9_told 65 = .ok (.getfield 107, 3) := dk_180 0 107 (dk_at dksX9_told_2 17 rfl rfl)
theorem dX9_told_68 : decode cX9_told 68 = .ok (.bipush 100, 2) := dk_16 100 (dk_at dksX9_told_2 20 rfl rfl)
theorem dX9_told_70 : decode cX9_told 70 = .ok (.iload_n 1, 1) := dk_27 (dk_at dksX9_told_2 22 rfl rfl)
theorem dX9_told_71 : decode cX9_told 71 = .ok (.iconst 5, 1) := dk_8 (dk_at dksX9_told_2 23 rfl rfl)
theorem dX9_told_72 : decode cX9_told 72 = .ok (.isub, 1) := dk_100 (dk_at dksX9_told_3 0 rfl rfl)
theorem dX9_told_73 : decode cX9_told 73 = .ok (.imul, 1) := dk_104 (dk_at dksX9_told_3 1 rfl rfl)
theorem dX9_told_74 : decode cX9_told 74 = .ok (.aload_n 0, 1) := dk_42 (dk_at dksX9_told_3 2 rfl rfl)
theorem dX9_told_75 : decode cX9_told 75 = .ok (.iconst 0, 1) := dk_3 (dk_at dksX9_told_3 3 rfl rfl)
theorem dX9_told_76 : decode cX9_told 76 = .ok (.iload_n 1, 1) := dk_27 (dk_at dksX9_told_3 4 rfl rfl)
theorem dX9_told_77 : decode cX9_told 77 = .ok (.bipush 7, 2) := dk_16 7 (dk_at dksX9_told_3 5 rfl rfl)
theorem dX9_told_79 : decode cX9_told 79 = .ok (.if_icmp .ne 7, 3) := dk_160 0 7 (dk_at dksX9_told_3 7 rfl rfl)
theorem dX9_told_82 : decode cX9_told 82 = .ok (.iconst 3, 1) := dk_6 (dk_at dksX9_told_3 10 rfl rfl)
theorem dX9_told_83 : decode cX9_told 83 = .ok (.goto 5, 3) := dk_167 0 5 (dk_at dksX9_told_3 11 rfl rfl)
theorem dX9_told_86 : decode cX9_told 86 = .ok (.bipush 99, 2) := dk_16 99 (dk_at dksX9_told_3 14 rfl rfl)
theorem dX9_told_88 : decode cX9_told 88 = .ok (.invokevirtual 92, 3) := dk_182 0 92 (dk_at dksX9_told_3 16 rfl rfl)
theorem dX9_told_91 : decode cX9_told 91 = .ok (.iadd, 1) := dk_96 (dk_at dksX9_told_3 19 rfl rfl)
theorem dX9_told_92 : decode cX9_told 92 = .ok (.i2s, 1) := dk_147 (dk_at dksX9_told_3 20 rfl rfl)
theorem dX9_told_93 : decode cX9_told 93 = .ok (.sastore, 1) := dk_86 (dk_at dksX9_told_3 21 rfl rfl)
theorem dX9_told_94 : decode cX9_told 94 = .ok (.aload_n 0, 1) := dk_42 (dk_at dksX9_told_3 22 rfl rfl)
theorem dX9_told_95 : decode cX9_told 95 = .ok (.getfield 18, 3) := dk_180 0 18 (dk_at dksX9_told_4 0 rfl rfl)
theorem dX9_told_98 : decode cX9_told 98 = .ok (.dup, 1) := dk_89 (dk_at dksX9_told_4 3 rfl rfl)
theorem dX9_told_99 : decode cX9_told 99 = .ok (.getfield 107, 3) := dk_180 0 107 (dk_at dksX9_told_4 4 rfl rfl)
theorem dX9_told_102 : decode cX9_told 102 = .ok (.iconst 1, 1) := dk_4 (dk_at dksX9_told_4 7 rfl rfl)
theorem dX9_told_103 : decode cX9_told 103 = .ok (.iadd, 1) := dk_96 (dk_at dksX9_told_4 8 rfl rfl)
theorem dX9_told_104 : decode cX9_told 104 = .ok (.putfield 107, 3) := dk_181 0 107 (dk_at dksX9_told_4 9 rfl rfl)
theorem dX9_told_107 : decode cX9_told 107 = .ok (.return_, 1) := dk_177 (dk_at dksX9_told_4 12 rfl rfl)
abbrev cX9_taken : ByteArray := prog_4_method_7_code
def yX9_taken : MethodName := ⟨RX9, "taken", "(II)I"⟩
def dkwX9_taken_1 : List UInt8 := [27, 133, 28, 133, 184, 0, 88, 6, 182, 0, 84, 42, 180, 0, 81, 62, 42, 182, 0, 26, 29, 172]
abbrev dktX9_taken_1 : List UInt8 := dkwX9_taken_1 ++ []
def dkwX9_taken_0 : List UInt8 := [42, 42, 180, 0, 64, 5, 160, 0, 7, 4, 167, 0, 4, 3, 5, 182, 0, 84, 42, 42, 180, 0, 81, 133]
abbrev dktX9_taken_0 : List UInt8 := dkwX9_taken_0 ++ dktX9_taken_1
theorem dksX9_taken_0 : cX9_taken.data.toList.drop 0 = dktX9_taken_0 := by decide +kernel
theorem dksX9_taken_1 : cX9_taken.data.toList.drop 24 = dktX9_taken_1 := dk_seg dksX9_taken_0 24 rfl rfl
theorem dX9_taken_0 : decode cX9_taken 0 = .ok (.aload_n 0, 1) := dk_42 (dk_at dksX9_taken_0 0 rfl rfl)
theorem dX9_taken_1 : decode cX9_taken 1 = .ok (.aload_n 0, 1) := dk_42 (dk_at dksX9_taken_0 1 rfl rfl)
theorem dX9_taken_2 : decode cX9_taken 2 = .ok (.getfield 64, 3) := dk_180 0 64 (dk_at dksX9_taken_0 2 rfl rfl)
theorem dX9_taken_5 : decode cX9_taken 5 = .ok (.iconst 2, 1) := dk_5 (dk_at dksX9_taken_0 5 rfl rfl)
theorem dX9_taken_6 : decode cX9_taken 6 = .ok (.if_icmp .ne 7, 3) := dk_160 0 7 (dk_at dksX9_taken_0 6 rfl rfl)
theorem dX9_taken_9 : decode cX9_taken 9 = .ok (.iconst 1, 1) := dk_4 (dk_at dksX9_taken_0 9 rfl rfl)
theorem dX9_taken_10 : decode cX9_taken 10 = .ok (.goto 4, 3) := dk_167 0 4 (dk_at dksX9_taken_0 10 rfl rfl)
theorem dX9_taken_13 : decode cX9_taken 13 = .ok (.iconst 0, 1) := dk_3 (dk_at dksX9_taken_0 13 rfl rfl)
theorem dX9_taken_14 : decode cX9_taken 14 = .ok (.iconst 2, 1) := dk_5 (dk_at dksX9_taken_0 14 rfl rfl)
theorem dX9_taken_15 : decode cX9_taken 15 = .ok (.invokevirtual 84, 3) := dk_182 0 84 (dk_at dksX9_taken_0 15 rfl rfl)
theorem dX9_taken_18 : decode cX9_taken 18 = .ok (.aload_n 0, 1) := dk_42 (dk_at dksX9_taken_0 18 rfl rfl)
theorem dX9_taken_19 : decode cX9_taken 19 = .ok (.aload_n 0, 1) := dk_42 (dk_at dksX9_taken_0 19 rfl rfl)
theorem dX9_taken_20 : decode cX9_taken 20 = .ok (.getfield 81, 3) := dk_180 0 81 (dk_at dksX9_taken_0 20 rfl rfl)
theorem dX9_taken_23 : decode cX9_taken 23 = .ok (.i2l, 1) := dk_133 (dk_at dksX9_taken_0 23 rfl rfl)
theorem dX9_taken_24 : decode cX9_taken 24 = .ok (.iload_n 1, 1) := dk_27 (dk_at dksX9_taken_1 0 rfl rfl)
theorem dX9_taken_25 : decode cX9_taken 25 = .ok (.i2l, 1) := dk_133 (dk_at dksX9_taken_1 1 rfl rfl)
theorem dX9_taken_26 : decode cX9_taken 26 = .ok (.iload_n 2, 1) := dk_28 (dk_at dksX9_taken_1 2 rfl rfl)
theorem dX9_taken_27 : decode cX9_taken 27 = .ok (.i2l, 1) := dk_133 (dk_at dksX9_taken_1 3 rfl rfl)
theorem dX9_taken_28 : decode cX9_taken 28 = .ok (.invokestatic 88, 3) := dk_184 0 88 (dk_at dksX9_taken_1 4 rfl rfl)
theorem dX9_taken_31 : decode cX9_taken 31 = .ok (.iconst 3, 1) := dk_6 (dk_at dksX9_taken_1 7 rfl rfl)
theorem dX9_taken_32 : decode cX9_taken 32 = .ok (.invokevirtual 84, 3) := dk_182 0 84 (dk_at dksX9_taken_1 8 rfl rfl)
theorem dX9_taken_35 : decode cX9_taken 35 = .ok (.aload_n 0, 1) := dk_42 (dk_at dksX9_taken_1 11 rfl rfl)
theorem dX9_taken_36 : decode cX9_taken 36 = .ok (.getfield 81, 3) := dk_180 0 81 (dk_at dksX9_taken_1 12 rfl rfl)
theorem dX9_taken_39 : decode cX9_taken 39 = .ok (.istore_n 3, 1) := dk_62 (dk_at dksX9_taken_1 15 rfl rfl)
theorem dX9_taken_40 : decode cX9_taken 40 = .ok (.aload_n 0, 1) := dk_42 (dk_at dksX9_taken_1 16 rfl rfl)
theorem dX9_taken_41 : decode cX9_taken 41 = .ok (.invokevirtual 26, 3) := dk_182 0 26 (dk_at dksX9_taken_1 17 rfl rfl)
theorem dX9_taken_44 : decode cX9_taken 44 = .ok (.iload_n 3, 1) := dk_29 (dk_at dksX9_taken_1 20 rfl rfl)
theorem dX9_taken_45 : decode cX9_taken 45 = .ok (.ireturn, 1) := dk_172 (dk_at dksX9_taken_1 21 rfl rfl)
theorem q66 : (Jvm.Cond.initialized "FlyWheels$Reader") ∈ lw_all := lw_g (lw_at lw_m1 10 rfl) rfl
theorem q155 : (Jvm.Cond.fieldLinkNest "FlyWheels$Reader" (96 : Nat) "FlyWheels$Shaft" "mass" "I" "FlyWheels") ∈ lw_tbl := lw_at lw_m1 99 rfl
theorem q161 : (Jvm.Cond.fieldLinkNest "FlyWheels$Reader" (114 : Nat) "FlyWheels$Shaft" "wheels" "I" "FlyWheels") ∈ lw_tbl := lw_at lw_m1 105 rfl
theorem q165 : (Jvm.Cond.fieldLinkNest "FlyWheels$Reader" (107 : Nat) "FlyWheels$Shaft" "acts" "I" "FlyWheels") ∈ lw_tbl := lw_at lw_m1 109 rfl
theorem q168 : (Jvm.Cond.fieldLinkNest "FlyWheels$Reader" (103 : Nat) "FlyWheels$Shaft" "act" "[S" "FlyWheels") ∈ lw_tbl := lw_at lw_m1 112 rfl
theorem q229 : (Jvm.Cond.fieldLinkNest "FlyWheels$Reader" (32 : Nat) "FlyWheels" "tape" "[B" "FlyWheels") ∈ lw_tbl := lw_at lw_m1 173 rfl
theorem q307 : (Jvm.Cond.instantiable "FlyWheels$Reader" (8 : Nat)) ∈ lw_all := lw_g (lw_at lw_m2 11 rfl) rfl
theorem q309 : (Jvm.Cond.instanceMethod ({ cls := "FlyWheels$Reader", name := "<init>", desc := "(LFlyWheels;I)V" } : Jvm.MethodName)) ∈ lw_all := lw_g (lw_at lw_m2 13 rfl) rfl
theorem q310 : (Jvm.Cond.code ({ cls := "FlyWheels$Reader", name := "<init>", desc := "(LFlyWheels;I)V" } : Jvm.MethodName) prog_4_method_1_code (3 : Nat) (Option.none : Option Jvm.ClassFile.FieldType)) ∈ lw_all := lw_g (lw_at lw_m2 14 rfl) rfl
theorem q311 : (Jvm.Cond.methodLink "FlyWheels$Reader" (9 : Nat) ({ cls := "java/lang/Object", name := "<init>", desc := "()V" } : Jvm.MethodName)) ∈ lw_all := lw_g (lw_at lw_m2 15 rfl) rfl
theorem q312 : (Jvm.Cond.classLink "FlyWheels$Reader" (15 : Nat) "FlyWheels$Shaft") ∈ lw_all := lw_g (lw_at lw_m2 16 rfl) rfl
theorem q313 : (Jvm.Cond.methodLinkNest "FlyWheels$Reader" (17 : Nat) ({ cls := "FlyWheels$Shaft", name := "<init>", desc := "()V" } : Jvm.MethodName) "FlyWheels") ∈ lw_tbl := lw_at lw_m2 17 rfl
theorem q314 : (Jvm.Cond.methodLink "FlyWheels$Reader" (26 : Nat) ({ cls := "FlyWheels$Reader", name := "next", desc := "()V" } : Jvm.MethodName)) ∈ lw_all := lw_g (lw_at lw_m2 18 rfl) rfl
theorem q315 : (Jvm.Cond.privateMethod ({ cls := "FlyWheels$Reader", name := "next", desc := "()V" } : Jvm.MethodName)) ∈ lw_tbl := lw_at lw_m2 19 rfl
theorem q316 : (Jvm.Cond.instanceMethod ({ cls := "FlyWheels$Reader", name := "next", desc := "()V" } : Jvm.MethodName)) ∈ lw_all := lw_g (lw_at lw_m2 20 rfl) rfl
theorem q317 : (Jvm.Cond.code ({ cls := "FlyWheels$Reader", name := "next", desc := "()V" } : Jvm.MethodName) prog_4_method_6_code (1 : Nat) (Option.none : Option Jvm.ClassFile.FieldType)) ∈ lw_all := lw_g (lw_at lw_m2 21 rfl) rfl
theorem q318 : (Jvm.Cond.methodLink "FlyWheels$Reader" (77 : Nat) ({ cls := "FlyWheels$Reader", name := "isIn", desc := "(CC)Z" } : Jvm.MethodName)) ∈ lw_all := lw_g (lw_at lw_m2 22 rfl) rfl
theorem q319 : (Jvm.Cond.privateMethod ({ cls := "FlyWheels$Reader", name := "isIn", desc := "(CC)Z" } : Jvm.MethodName)) ∈ lw_tbl := lw_at lw_m2 23 rfl
theorem q320 : (Jvm.Cond.instanceMethod ({ cls := "FlyWheels$Reader", name := "isIn", desc := "(CC)Z" } : Jvm.MethodName)) ∈ lw_all := lw_g (lw_at lw_m2 24 rfl) rfl
theorem q321 : (Jvm.Cond.code ({ cls := "FlyWheels$Reader", name := "isIn", desc := "(CC)Z" } : Jvm.MethodName) prog_4_method_2_code (3 : Nat) (Option.some Jvm.ClassFile.FieldType.boolean)) ∈ lw_all := lw_g (lw_at lw_m2 25 rfl) rfl
theorem q322 : (Jvm.Cond.methodLink "FlyWheels$Reader" (84 : Nat) ({ cls := "FlyWheels$Reader", name := "need", desc := "(ZI)V" } : Jvm.MethodName)) ∈ lw_all := lw_g (lw_at lw_m2 26 rfl) rfl
theorem q323 : (Jvm.Cond.privateMethod ({ cls := "FlyWheels$Reader", name := "need", desc := "(ZI)V" } : Jvm.MethodName)) ∈ lw_tbl := lw_at lw_m2 27 rfl
theorem q324 : (Jvm.Cond.instanceMethod ({ cls := "FlyWheels$Reader", name := "need", desc := "(ZI)V" } : Jvm.MethodName)) ∈ lw_all := lw_g (lw_at lw_m2 28 rfl) rfl
theorem q325 : (Jvm.Cond.code ({ cls := "FlyWheels$Reader", name := "need", desc := "(ZI)V" } : Jvm.MethodName) prog_4_method_3_code (3 : Nat) (Option.none : Option Jvm.ClassFile.FieldType)) ∈ lw_all := lw_g (lw_at lw_m2 29 rfl) rfl
theorem q326 : (Jvm.Cond.classLink "FlyWheels$Reader" (36 : Nat) "FlyWheels$Fault") ∈ lw_all := lw_g (lw_at lw_m2 30 rfl) rfl
theorem q380 : (Jvm.Cond.methodLink "FlyWheels$Reader" (41 : Nat) ({ cls := "FlyWheels$Fault", name := "<init>", desc := "(II)V" } : Jvm.MethodName)) ∈ lw_all := lw_g (lw_at lw_m2 84 rfl) rfl
theorem q410 : (Jvm.Cond.fieldLink "FlyWheels$Reader" (22 : Nat) "FlyWheels$Reader" "size" "I") ∈ lw_all := lw_g (lw_at lw_m2 114 rfl) rfl
theorem q411 : (Jvm.Cond.fieldLink "FlyWheels$Reader" (18 : Nat) "FlyWheels$Reader" "made" "LFlyWheels$Shaft;") ∈ lw_all := lw_g (lw_at lw_m2 115 rfl) rfl
theorem q413 : (Jvm.Cond.fieldLink "FlyWheels$Reader" (117 : Nat) "FlyWheels$Reader" "hasShaft" "Z") ∈ lw_all := lw_g (lw_at lw_m2 117 rfl) rfl
theorem q414 : (Jvm.Cond.fieldLink "FlyWheels$Reader" (29 : Nat) "FlyWheels$Reader" "at" "I") ∈ lw_all := lw_g (lw_at lw_m2 118 rfl) rfl
theorem q415 : (Jvm.Cond.fieldLink "FlyWheels$Reader" (38 : Nat) "FlyWheels$Reader" "from" "I") ∈ lw_all := lw_g (lw_at lw_m2 119 rfl) rfl
theorem q416 : (Jvm.Cond.fieldLink "FlyWheels$Reader" (64 : Nat) "FlyWheels$Reader" "sort" "I") ∈ lw_all := lw_g (lw_at lw_m2 120 rfl) rfl
theorem q417 : (Jvm.Cond.fieldLink "FlyWheels$Reader" (81 : Nat) "FlyWheels$Reader" "value" "I") ∈ lw_all := lw_g (lw_at lw_m2 121 rfl) rfl
theorem q418 : (Jvm.Cond.fieldLink "FlyWheels$Reader" (3 : Nat) "FlyWheels$Reader" "this$0" "LFlyWheels;") ∈ lw_all := lw_g (lw_at lw_m2 122 rfl) rfl
theorem q419 : (Jvm.Cond.laysFinal "FlyWheels$Reader" "FlyWheels$Reader" "size" "I") ∈ lw_all := lw_g (lw_at lw_m2 123 rfl) rfl
theorem q420 : (Jvm.Cond.soleField "FlyWheels$Reader" "size") ∈ lw_all := lw_g (lw_at lw_m2 124 rfl) rfl
theorem q421 : (Jvm.Cond.laysFinal "FlyWheels$Reader" "FlyWheels$Reader" "made" "LFlyWheels$Shaft;") ∈ lw_all := lw_g (lw_at lw_m2 125 rfl) rfl
theorem q422 : (Jvm.Cond.soleField "FlyWheels$Reader" "made") ∈ lw_all := lw_g (lw_at lw_m2 126 rfl) rfl
theorem q423 : (Jvm.Cond.lays "FlyWheels$Reader" "FlyWheels$Reader" "hasShaft" "Z") ∈ lw_all := lw_g (lw_at lw_m2 127 rfl) rfl
theorem q424 : (Jvm.Cond.soleField "FlyWheels$Reader" "hasShaft") ∈ lw_all := lw_g (lw_at lw_m2 128 rfl) rfl
theorem q425 : (Jvm.Cond.lays "FlyWheels$Reader" "FlyWheels$Reader" "at" "I") ∈ lw_all := lw_g (lw_at lw_m2 129 rfl) rfl
theorem q426 : (Jvm.Cond.soleField "FlyWheels$Reader" "at") ∈ lw_all := lw_g (lw_at lw_m2 130 rfl) rfl
theorem q427 : (Jvm.Cond.lays "FlyWheels$Reader" "FlyWheels$Reader" "from" "I") ∈ lw_all := lw_g (lw_at lw_m2 131 rfl) rfl
theorem q428 : (Jvm.Cond.soleField "FlyWheels$Reader" "from") ∈ lw_all := lw_g (lw_at lw_m2 132 rfl) rfl
theorem q429 : (Jvm.Cond.lays "FlyWheels$Reader" "FlyWheels$Reader" "sort" "I") ∈ lw_all := lw_g (lw_at lw_m2 133 rfl) rfl
theorem q430 : (Jvm.Cond.soleField "FlyWheels$Reader" "sort") ∈ lw_all := lw_g (lw_at lw_m2 134 rfl) rfl
theorem q431 : (Jvm.Cond.lays "FlyWheels$Reader" "FlyWheels$Reader" "value" "I") ∈ lw_all := lw_g (lw_at lw_m2 135 rfl) rfl
theorem q432 : (Jvm.Cond.soleField "FlyWheels$Reader" "value") ∈ lw_all := lw_g (lw_at lw_m2 136 rfl) rfl
theorem q433 : (Jvm.Cond.laysFinal "FlyWheels$Reader" "FlyWheels$Reader" "this$0" "LFlyWheels;") ∈ lw_all := lw_g (lw_at lw_m2 137 rfl) rfl
theorem q434 : (Jvm.Cond.soleField "FlyWheels$Reader" "this$0") ∈ lw_all := lw_g (lw_at lw_m2 138 rfl) rfl
theorem q435 : (Jvm.Cond.superclass "FlyWheels$Reader" "java/lang/Object") ∈ lw_all := lw_g (lw_at lw_m2 139 rfl) rfl
theorem q437 : (Jvm.Cond.instanceMethod ({ cls := "FlyWheels$Reader", name := "lines", desc := "()I" } : Jvm.MethodName)) ∈ lw_all := lw_g (lw_at lw_m2 141 rfl) rfl
theorem q438 : (Jvm.Cond.selects "FlyWheels$Reader" ({ cls := "FlyWheels$Reader", name := "lines", desc := "()I" } : Jvm.MethodName) ({ cls := "FlyWheels$Reader", name := "lines", desc := "()I" } : Jvm.MethodName)) ∈ lw_all := lw_g (lw_at lw_m2 142 rfl) rfl
theorem q439 : (Jvm.Cond.code ({ cls := "FlyWheels$Reader", name := "lines", desc := "()I" } : Jvm.MethodName) prog_4_method_10_code (2 : Nat) (Option.some Jvm.ClassFile.FieldType.int)) ∈ lw_all := lw_g (lw_at lw_m2 143 rfl) rfl
theorem q440 : (Jvm.Cond.methodLink "FlyWheels$Reader" (125 : Nat) ({ cls := "FlyWheels$Reader", name := "line", desc := "()V" } : Jvm.MethodName)) ∈ lw_all := lw_g (lw_at lw_m2 144 rfl) rfl
theorem q441 : (Jvm.Cond.privateMethod ({ cls := "FlyWheels$Reader", name := "line", desc := "()V" } : Jvm.MethodName)) ∈ lw_tbl := lw_at lw_m2 145 rfl
theorem q442 : (Jvm.Cond.instanceMethod ({ cls := "FlyWheels$Reader", name := "line", desc := "()V" } : Jvm.MethodName)) ∈ lw_all := lw_g (lw_at lw_m2 146 rfl) rfl
theorem q443 : (Jvm.Cond.code ({ cls := "FlyWheels$Reader", name := "line", desc := "()V" } : Jvm.MethodName) prog_4_method_9_code (2 : Nat) (Option.none : Option Jvm.ClassFile.FieldType)) ∈ lw_all := lw_g (lw_at lw_m2 147 rfl) rfl
theorem q444 : (Jvm.Cond.methodLink "FlyWheels$Reader" (110 : Nat) ({ cls := "FlyWheels$Reader", name := "is", desc := "(I)Z" } : Jvm.MethodName)) ∈ lw_all := lw_g (lw_at lw_m2 148 rfl) rfl
theorem q445 : (Jvm.Cond.privateMethod ({ cls := "FlyWheels$Reader", name := "is", desc := "(I)Z" } : Jvm.MethodName)) ∈ lw_tbl := lw_at lw_m2 149 rfl
theorem q446 : (Jvm.Cond.instanceMethod ({ cls := "FlyWheels$Reader", name := "is", desc := "(I)Z" } : Jvm.MethodName)) ∈ lw_all := lw_g (lw_at lw_m2 150 rfl) rfl
theorem q447 : (Jvm.Cond.code ({ cls := "FlyWheels$Reader", name := "is", desc := "(I)Z" } : Jvm.MethodName) prog_4_method_5_code (5 : Nat) (Option.some Jvm.ClassFile.FieldType.boolean)) ∈ lw_all := lw_g (lw_at lw_m2 151 rfl) rfl
theorem q448 : (Jvm.Cond.methodLink "FlyWheels$Reader" (60 : Nat) ({ cls := "FlyWheels$Reader", name := "name", desc := "(I)Ljava/lang/String;" } : Jvm.MethodName)) ∈ lw_all := lw_g (lw_at lw_m2 152 rfl) rfl
theorem q449 : (Jvm.Cond.privateMethod ({ cls := "FlyWheels$Reader", name := "name", desc := "(I)Ljava/lang/String;" } : Jvm.MethodName)) ∈ lw_tbl := lw_at lw_m2 153 rfl
theorem q450 : (Jvm.Cond.instanceMethod ({ cls := "FlyWheels$Reader", name := "name", desc := "(I)Ljava/lang/String;" } : Jvm.MethodName)) ∈ lw_all := lw_g (lw_at lw_m2 154 rfl) rfl
theorem q451 : (Jvm.Cond.code ({ cls := "FlyWheels$Reader", name := "name", desc := "(I)Ljava/lang/String;" } : Jvm.MethodName) prog_4_method_4_code (2 : Nat) (Option.some (Jvm.ClassFile.FieldType.object "java/lang/String"))) ∈ lw_all := lw_g (lw_at lw_m2 155 rfl) rfl
theorem q452 : (Jvm.Cond.stringRef "FlyWheels$Reader" (44 : Nat) "plain") ∈ lw_tbl := lw_at lw_m2 156 rfl
theorem q453 : (Jvm.Cond.stringRef "FlyWheels$Reader" (46 : Nat) "slip") ∈ lw_tbl := lw_at lw_m2 157 rfl
theorem q454 : (Jvm.Cond.stringRef "FlyWheels$Reader" (48 : Nat) "take") ∈ lw_tbl := lw_at lw_m2 158 rfl
theorem q455 : (Jvm.Cond.stringRef "FlyWheels$Reader" (50 : Nat) "soft") ∈ lw_tbl := lw_at lw_m2 159 rfl
theorem q456 : (Jvm.Cond.stringRef "FlyWheels$Reader" (52 : Nat) "shaft") ∈ lw_tbl := lw_at lw_m2 160 rfl
theorem q457 : (Jvm.Cond.stringRef "FlyWheels$Reader" (54 : Nat) "drive") ∈ lw_tbl := lw_at lw_m2 161 rfl
theorem q458 : (Jvm.Cond.stringRef "FlyWheels$Reader" (56 : Nat) "join") ∈ lw_tbl := lw_at lw_m2 162 rfl
theorem q459 : (Jvm.Cond.stringRef "FlyWheels$Reader" (58 : Nat) "load") ∈ lw_tbl := lw_at lw_m2 163 rfl
theorem q460 : (Jvm.Cond.methodLink "FlyWheels$Reader" (67 : Nat) ({ cls := "java/lang/String", name := "length", desc := "()I" } : Jvm.MethodName)) ∈ lw_all := lw_g (lw_at lw_m2 164 rfl) rfl
theorem q470 : (Jvm.Cond.methodLink "FlyWheels$Reader" (73 : Nat) ({ cls := "java/lang/String", name := "charAt", desc := "(I)C" } : Jvm.MethodName)) ∈ lw_all := lw_g (lw_at lw_m2 174 rfl) rfl
theorem q508 : (Jvm.Cond.methodLink "FlyWheels$Reader" (121 : Nat) ({ cls := "FlyWheels$Reader", name := "told", desc := "(I)V" } : Jvm.MethodName)) ∈ lw_all := lw_g (lw_at lw_m2 212 rfl) rfl
theorem q509 : (Jvm.Cond.privateMethod ({ cls := "FlyWheels$Reader", name := "told", desc := "(I)V" } : Jvm.MethodName)) ∈ lw_tbl := lw_at lw_m2 213 rfl
theorem q510 : (Jvm.Cond.instanceMethod ({ cls := "FlyWheels$Reader", name := "told", desc := "(I)V" } : Jvm.MethodName)) ∈ lw_all := lw_g (lw_at lw_m2 214 rfl) rfl
theorem q511 : (Jvm.Cond.code ({ cls := "FlyWheels$Reader", name := "told", desc := "(I)V" } : Jvm.MethodName) prog_4_method_8_code (3 : Nat) (Option.none : Option Jvm.ClassFile.FieldType)) ∈ lw_all := lw_g (lw_at lw_m2 215 rfl) rfl
theorem q512 : (Jvm.Cond.methodLink "FlyWheels$Reader" (92 : Nat) ({ cls := "FlyWheels$Reader", name := "taken", desc := "(II)I" } : Jvm.MethodName)) ∈ lw_all := lw_g (lw_at lw_m2 216 rfl) rfl
theorem q513 : (Jvm.Cond.privateMethod ({ cls := "FlyWheels$Reader", name := "taken", desc := "(II)I" } : Jvm.MethodName)) ∈ lw_tbl := lw_at lw_m2 217 rfl
theorem q514 : (Jvm.Cond.instanceMethod ({ cls := "FlyWheels$Reader", name := "taken", desc := "(II)I" } : Jvm.MethodName)) ∈ lw_all := lw_g (lw_at lw_m2 218 rfl) rfl
theorem q515 : (Jvm.Cond.code ({ cls := "FlyWheels$Reader", name := "taken", desc := "(II)I" } : Jvm.MethodName) prog_4_method_7_code (4 : Nat) (Option.some Jvm.ClassFile.FieldType.int)) ∈ lw_all := lw_g (lw_at lw_m2 219 rfl) rfl
theorem q516 : (Jvm.Cond.methodLinkNest "FlyWheels$Reader" (88 : Nat) ({ cls := "FlyWheels", name := "in", desc := "(JJJ)Z" } : Jvm.MethodName) "FlyWheels") ∈ lw_tbl := lw_at lw_m2 220 rfl
theorem q517 : (Jvm.Cond.methodLink "FlyWheels$Reader" (99 : Nat) ({ cls := "FlyWheels$Shaft", name := "puts", desc := "(III)V" } : Jvm.MethodName)) ∈ lw_all := lw_g (lw_at lw_m2 221 rfl) rfl
theorem in_X9 : ∀ w ∈ wsX90, w ∈ lw_all := lw_in wsX90 [419, 421, 423, 425, 427, 429, 431, 433] (by decide +kernel) (by decide +kernel)
/-! FlyWheels$Fault -/
set_option maxRecDepth 100000
def RX10 : String := "FlyWheels$Fault"
def TX10 : u_T := fun k => match k with
  | 0 => ("java/lang/Throwable", "cause", "Ljava/lang/Throwable;", false)
  | 1 => ("java/lang/Throwable", "stackTrace", "[Ljava/lang/StackTraceElement;", false)
  | 2 => ("java/lang/Throwable", "suppressedExceptions", "Ljava/util/List;", false)
  | 3 => ("java/lang/Throwable", "detailMessage", "Ljava/lang/String;", false)
  | 4 => ("java/lang/Throwable", "backtrace", "Ljava/lang/Object;", false)
  | 5 => ("java/lang/Throwable", "depth", "I", false)
  | 6 => ("FlyWheels$Fault", "code", "I", true)
  | _ => ("FlyWheels$Fault", "place", "I", true)
def tyX10 : Nat → FieldType := fun k => match k with
  | 0 => .object "java/lang/Throwable"
  | 1 => .array (.object "java/lang/StackTraceElement")
  | 2 => .object "java/util/List"
  | 3 => .object "java/lang/String"
  | 4 => .object "java/lang/Object"
  | 5 => .int
  | 6 => .int
  | _ => .int
abbrev wsX100 : List Cond := u_ws RX10 TX10 8
theorem nmX10 : ∀ a, a < 8 → ∀ b, b < 8 → a ≠ b → (TX10 a).2.1 ≠ (TX10 b).2.1 := by decide +kernel
theorem tyX10_ok : ∀ k, k < 8 → parseFieldDescriptor (TX10 k).2.2.1 = some (tyX10 k) := by decide +kernel
abbrev cX10_init : ByteArray := prog_2_method_1_code
def yX10_init : MethodName := ⟨RX10, "<init>", "(II)V"⟩
def dkwX10_init_0 : List UInt8 := [42, 1, 1, 3, 3, 183, 0, 1, 42, 27, 181, 0, 7, 42, 28, 181, 0, 13, 177]
abbrev dktX10_init_0 : List UInt8 := dkwX10_init_0 ++ []
theorem dksX10_init_0 : cX10_init.data.toList.drop 0 = dktX10_init_0 := by decide +kernel
theorem dX10_init_0 : decode cX10_init 0 = .ok (.aload_n 0, 1) := dk_42 (dk_at dksX10_init_0 0 rfl rfl)
theorem dX10_init_1 : decode cX10_init 1 = .ok (.aconst_null, 1) := dk_1 (dk_at dksX10_init_0 1 rfl rfl)
theorem dX10_init_2 : decode cX10_init 2 = .ok (.aconst_null, 1) := dk_1 (dk_at dksX10_init_0 2 rfl rfl)
theorem dX10_init_3 : decode cX10_init 3 = .ok (.iconst 0, 1) := dk_3 (dk_at dksX10_init_0 3 rfl rfl)
theorem dX10_init_4 : decode cX10_init 4 = .ok (.iconst 0, 1) := dk_3 (dk_at dksX10_init_0 4 rfl rfl)
theorem dX10_init_5 : decode cX10_init 5 = .ok (.invokespecial 1, 3) := dk_183 0 1 (dk_at dksX10_init_0 5 rfl rfl)
theorem dX10_init_8 : decode cX10_init 8 = .ok (.aload_n 0, 1) := dk_42 (dk_at dksX10_init_0 8 rfl rfl)
theorem dX10_init_9 : decode cX10_init 9 = .ok (.iload_n 1, 1) := dk_27 (dk_at dksX10_init_0 9 rfl rfl)
theorem dX10_init_10 : decode cX10_init 10 = .ok (.putfield 7, 3) := dk_181 0 7 (dk_at dksX10_init_0 10 rfl rfl)
theorem dX10_init_13 : decode cX10_init 13 = .ok (.aload_n 0, 1) := dk_42 (dk_at dksX10_init_0 13 rfl rfl)
theorem dX10_init_14 : decode cX10_init 14 = .ok (.iload_n 2, 1) := dk_28 (dk_at dksX10_init_0 14 rfl rfl)
theorem dX10_init_15 : decode cX10_init 15 = .ok (.putfield 13, 3) := dk_181 0 13 (dk_at dksX10_init_0 15 rfl rfl)
theorem dX10_init_18 : decode cX10_init 18 = .ok (.return_, 1) := dk_177 (dk_at dksX10_init_0 18 rfl rfl)
theorem q69 : (Jvm.Cond.initialized "FlyWheels$Fault") ∈ lw_all := lw_g (lw_at lw_m1 13 rfl) rfl
theorem q327 : (Jvm.Cond.instantiable "FlyWheels$Fault" (8 : Nat)) ∈ lw_all := lw_g (lw_at lw_m2 31 rfl) rfl
theorem q328 : (Jvm.Cond.castable "FlyWheels$Fault" "FlyWheels$Fault") ∈ lw_tbl := lw_at lw_m2 32 rfl
theorem q333 : (Jvm.Cond.selects "FlyWheels$Fault" ({ cls := "java/lang/Throwable", name := "fillInStackTrace", desc := "(I)Ljava/lang/Throwable;" } : Jvm.MethodName) ({ cls := "java/lang/Throwable", name := "fillInStackTrace", desc := "(I)Ljava/lang/Throwable;" } : Jvm.MethodName)) ∈ lw_all := lw_g (lw_at lw_m2 37 rfl) rfl
theorem q334 : (Jvm.Cond.selects "FlyWheels$Fault" ({ cls := "java/lang/Throwable", name := "fillInStackTrace", desc := "()Ljava/lang/Throwable;" } : Jvm.MethodName) ({ cls := "java/lang/Throwable", name := "fillInStackTrace", desc := "()Ljava/lang/Throwable;" } : Jvm.MethodName)) ∈ lw_all := lw_g (lw_at lw_m2 38 rfl) rfl
theorem q335 : (Jvm.Cond.lays "FlyWheels$Fault" "java/lang/Throwable" "cause" "Ljava/lang/Throwable;") ∈ lw_all := lw_g (lw_at lw_m2 39 rfl) rfl
theorem q337 : (Jvm.Cond.lays "FlyWheels$Fault" "java/lang/Throwable" "stackTrace" "[Ljava/lang/StackTraceElement;") ∈ lw_all := lw_g (lw_at lw_m2 41 rfl) rfl
theorem q339 : (Jvm.Cond.lays "FlyWheels$Fault" "java/lang/Throwable" "suppressedExceptions" "Ljava/util/List;") ∈ lw_all := lw_g (lw_at lw_m2 43 rfl) rfl
theorem q341 : (Jvm.Cond.lays "FlyWheels$Fault" "java/lang/Throwable" "detailMessage" "Ljava/lang/String;") ∈ lw_all := lw_g (lw_at lw_m2 45 rfl) rfl
theorem q343 : (Jvm.Cond.lays "FlyWheels$Fault" "java/lang/Throwable" "backtrace" "Ljava/lang/Object;") ∈ lw_all := lw_g (lw_at lw_m2 47 rfl) rfl
theorem q381 : (Jvm.Cond.instanceMethod ({ cls := "FlyWheels$Fault", name := "<init>", desc := "(II)V" } : Jvm.MethodName)) ∈ lw_all := lw_g (lw_at lw_m2 85 rfl) rfl
theorem q382 : (Jvm.Cond.code ({ cls := "FlyWheels$Fault", name := "<init>", desc := "(II)V" } : Jvm.MethodName) prog_2_method_1_code (3 : Nat) (Option.none : Option Jvm.ClassFile.FieldType)) ∈ lw_all := lw_g (lw_at lw_m2 86 rfl) rfl
theorem q383 : (Jvm.Cond.methodLink "FlyWheels$Fault" (1 : Nat) ({ cls := "java/lang/Exception", name := "<init>", desc := "(Ljava/lang/String;Ljava/lang/Throwable;ZZ)V" } : Jvm.MethodName)) ∈ lw_all := lw_g (lw_at lw_m2 87 rfl) rfl
theorem q389 : (Jvm.Cond.fieldLink "FlyWheels$Fault" (7 : Nat) "FlyWheels$Fault" "code" "I") ∈ lw_all := lw_g (lw_at lw_m2 93 rfl) rfl
theorem q391 : (Jvm.Cond.fieldLink "FlyWheels$Fault" (13 : Nat) "FlyWheels$Fault" "place" "I") ∈ lw_all := lw_g (lw_at lw_m2 95 rfl) rfl
theorem q398 : (Jvm.Cond.laysFinal "FlyWheels$Fault" "FlyWheels$Fault" "code" "I") ∈ lw_all := lw_g (lw_at lw_m2 102 rfl) rfl
theorem q399 : (Jvm.Cond.soleField "FlyWheels$Fault" "code") ∈ lw_all := lw_g (lw_at lw_m2 103 rfl) rfl
theorem q400 : (Jvm.Cond.laysFinal "FlyWheels$Fault" "FlyWheels$Fault" "place" "I") ∈ lw_all := lw_g (lw_at lw_m2 104 rfl) rfl
theorem q401 : (Jvm.Cond.soleField "FlyWheels$Fault" "place") ∈ lw_all := lw_g (lw_at lw_m2 105 rfl) rfl
theorem q406 : (Jvm.Cond.lays "FlyWheels$Fault" "java/lang/Throwable" "depth" "I") ∈ lw_all := lw_g (lw_at lw_m2 110 rfl) rfl
theorem q409 : (Jvm.Cond.superclass "FlyWheels$Fault" "java/lang/Exception") ∈ lw_all := lw_g (lw_at lw_m2 113 rfl) rfl
theorem in_X10 : ∀ w ∈ wsX100, w ∈ lw_all := lw_in wsX100 [335, 337, 339, 341, 343, 406, 398, 400] (by decide +kernel) (by decide +kernel)
